/-! THE PLAIN LAW: the twin drops a rule -/
set_option maxRecDepth 100000
/-- a set of rules without rule r -/
def wo (m r : Nat) : Nat := (m &&& (2 ^ r - 1)) ||| ((m >>> (r + 1)) <<< r)
theorem wo_bit {m r i : Nat} : (wo m r).testBit i = if i < r then m.testBit i else m.testBit (i + 1) := by
  unfold wo
  rw [Nat.testBit_or, Nat.testBit_and, Nat.testBit_two_pow_sub_one, Nat.testBit_shiftLeft, Nat.testBit_shiftRight]
  by_cases c : i < r
  · rw [if_pos c]
    simp [c, Nat.not_le.mpr c]
  · rw [if_neg c]
    simp [c, Nat.not_lt.mp c, show r + 1 + (i - r) = i + 1 by omega]
theorem wo_lt {m r n : Nat} (h : m < 2 ^ (n + 1)) (hr : r ≤ n) : wo m r < 2 ^ n := by
  apply Nat.lt_pow_two_of_testBit
  intro i hi
  rw [wo_bit, if_neg (by omega)]
  exact Nat.testBit_lt_two_pow (Nat.lt_of_lt_of_le h (Nat.pow_le_pow_right (by decide) (by omega)))
theorem J_shlG {a k : Nat} (hk : k < 32) : Int32.ofNat a <<< (Int32.ofNat k &&& 31) = Int32.ofNat (a <<< k) := by
  rw [J_m31 hk]
  apply Int32.toBitVec_inj.mp
  rw [Int32.toBitVec_shiftLeft, J_bv, J_bv, J_bv]
  apply BitVec.eq_of_toNat_eq
  have e : (BitVec.ofNat 32 k).smod 32 = BitVec.ofNat 32 k := by
    have : ∀ k, k < 32 → (BitVec.ofNat 32 k).smod 32 = BitVec.ofNat 32 k := by decide +kernel
    exact this k hk
  rw [e]
  rw [BitVec.shiftLeft_eq', BitVec.toNat_shiftLeft, BitVec.toNat_ofNat, BitVec.toNat_ofNat, BitVec.toNat_ofNat, Nat.mod_eq_of_lt (show k < 2 ^ 32 by omega), Nat.shiftLeft_eq, Nat.shiftLeft_eq, Nat.mod_mul_mod]
theorem tw_without {m r : Nat} {σ : twS} (hm : m < 2147483648) (hr : r < 30) : mT_without (Int32.ofNat m) (Int32.ofNat r) σ = some (Int32.ofNat (wo m r), σ) := by
  unfold mT_without
  have h1 : 1 ≤ 2 ^ r := Nat.two_pow_pos r
  rw [J_shl r (by omega), J_subL (show OfNat.ofNat 1 ≤ 2 ^ r from h1), J_and, J_addL, show r + OfNat.ofNat 1 = r + 1 from rfl, J_shr hm (by omega), J_shlG (by omega), J_or]
  rfl
def shD (d : Nat → Nat) (r : Nat) : Nat → Nat := fun i => if i < 18 + 34 * r then d i else if i + 34 < 358 then d (i + 34) else 0
def woK (e : Nat → Nat) (r k : Nat) : Nat → Nat := fun i => if 18 ≤ i ∧ (i - 18) % 34 = 33 ∧ (i - 18) / 34 < k then wo (e i) r else e i
/-- a will without rule r -/
def drD (d : Nat → Nat) (r : Nat) : Nat → Nat := woK (upN (shD d r) 17 (d 17 - 1)) r (d 17 - 1)
def drT (t : Nat → Term) (r : Nat) : Nat → Term := fun k => if k < r then t k else t (k + 1)
theorem woK_0 {e : Nat → Nat} {r : Nat} : woK e r 0 = e := by
  funext i
  unfold woK
  rw [if_neg (by omega)]
theorem woK_s {e : Nat → Nat} {r k : Nat} : upN (woK e r k) (51 + 34 * k) (wo (e (51 + 34 * k)) r) = woK e r (k + 1) := by
  funext i
  unfold upN woK
  by_cases c : i = 51 + 34 * k
  · rw [if_pos c, if_pos (by omega), c]
  · rw [if_neg c]
    by_cases h : 18 ≤ i ∧ (i - 18) % 34 = 33 ∧ (i - 18) / 34 < k
    · rw [if_pos h, if_pos (by omega)]
    · rw [if_neg h, if_neg (by omega)]
theorem drD_lo {d : Nat → Nat} {r i : Nat} (hi : i < 17) : drD d r i = d i := by
  unfold drD woK upN shD
  rw [if_neg (by omega), if_neg (by omega), if_pos (by omega)]
theorem drD_17 {d : Nat → Nat} {r : Nat} : drD d r 17 = d 17 - 1 := by
  unfold drD woK upN
  rw [if_neg (by omega), if_pos rfl]
theorem drD_f {d : Nat → Nat} {r k f : Nat} (h17 : d 17 ≤ 10) (hk : k < d 17 - 1) (hf : f < 33) : drD d r (18 + 34 * k + f) = d (18 + 34 * (if k < r then k else k + 1) + f) := by
  unfold drD woK upN shD
  rw [if_neg (by omega), if_neg (by omega)]
  by_cases c : k < r
  · rw [if_pos (by omega), if_pos c]
  · rw [if_neg (by omega), if_neg c, if_pos (by omega)]
    congr 1
    omega
theorem drD_o {d : Nat → Nat} {r k : Nat} (h17 : d 17 ≤ 10) (hk : k < d 17 - 1) : drD d r (51 + 34 * k) = wo (d (51 + 34 * (if k < r then k else k + 1))) r := by
  unfold drD woK upN shD
  rw [if_pos (by omega), if_neg (by omega)]
  by_cases c : k < r
  · rw [if_pos (by omega), if_pos c]
  · rw [if_neg (by omega), if_neg c, if_pos (by omega), show 51 + 34 * k + 34 = 51 + 34 * (k + 1) by omega]
theorem WO.drop {W : Wl} (hW : WO W) {r : Nat} (hr : r < W.1 17) : WO (drD W.1 r, drT W.2 r) := by
  have h4 := hW.1.1.1
  have h17 := hW.1.r
  have hc : ∀ j, j < 5 → drD W.1 r j = W.1 j := fun j hj => drD_lo (by omega)
  have src : ∀ k, k < W.1 17 - 1 → (if k < r then k else k + 1) < W.1 17 := fun k hk => by split <;> omega
  refine ⟨⟨FOk_cg hc hW.1.1, ?_, ?_, ?_, ?_, ?_, ?_, ?_⟩, ?_⟩
  · dsimp only; rw [drD_lo (by decide)]; exact hW.1.h
  · dsimp only; rw [drD_lo (by decide), drD_lo (by decide)]; exact hW.1.rest
  · dsimp only; rw [drD_lo (by decide)]; exact hW.1.e
  · dsimp only; rw [drD_lo (by decide), casesN_cg hc h4.2]; exact hW.1.2.2.2.2.1
  · intro k hk
    dsimp only
    rw [drD_lo (by omega), drD_lo (by omega)]
    exact hW.1.fr hk
  · dsimp only; rw [drD_17]; omega
  · intro k hk
    dsimp only at hk ⊢
    rw [drD_17] at hk
    have hs := src k hk
    obtain ⟨⟨g1, g2, g3⟩, q1, q2, q3⟩ := hW.1.2.2.2.2.2.2.2 _ hs
    have et : drT W.2 r k = W.2 (if k < r then k else k + 1) := by unfold drT; split <;> rfl
    have hlen := gFl_len _ g1.1
    have hlv := g1.2
    unfold GT SOk
    rw [et]
    refine ⟨⟨⟨gOk_cg hc h4.2 _ g1.1, g1.2⟩, ?_, ?_⟩, ?_, ?_, ?_⟩
    · rw [← g2, show 18 + 34 * k = 18 + 34 * k + 0 from rfl, drD_f h17 hk (by decide)]
      rfl
    · intro i hi
      rw [show 19 + 34 * k + i = 18 + 34 * k + (1 + i) by omega, drD_f h17 hk (by omega), ← g3 i hi]
      generalize (if k < r then k else k + 1) = s
      rw [show 18 + 34 * s + (1 + i) = 19 + 34 * s + i by omega]
    · intro h hh
      rw [show 47 + 34 * k + h = 18 + 34 * k + (29 + h) by omega, drD_f h17 hk (by omega)]
      have := q1 h hh
      rw [show 18 + 34 * (if k < r then k else k + 1) + (29 + h) = 47 + 34 * (if k < r then k else k + 1) + h by omega]
      exact this
    · rw [show 47 + 34 * k = 18 + 34 * k + 29 by omega, show 48 + 34 * k = 18 + 34 * k + 30 by omega, show 49 + 34 * k = 18 + 34 * k + 31 by omega, show 50 + 34 * k = 18 + 34 * k + 32 by omega, drD_f h17 hk (by decide), drD_f h17 hk (by decide), drD_f h17 hk (by decide), drD_f h17 hk (by decide)]
      generalize (if k < r then k else k + 1) = s at q2 ⊢
      rw [show 18 + 34 * s + 29 = 47 + 34 * s by omega, show 18 + 34 * s + 30 = 48 + 34 * s by omega, show 18 + 34 * s + 31 = 49 + 34 * s by omega, show 18 + 34 * s + 32 = 50 + 34 * s by omega]
      exact q2
    · rw [drD_o h17 hk, drD_17]
      have e : W.1 17 = W.1 17 - 1 + 1 := by omega
      rw [e] at q3
      exact wo_lt q3 (by omega)
  · intro k hk h h1 h2
    dsimp only at hk h1 ⊢
    rw [drD_17] at hk
    rw [drD_lo (by decide)] at h1
    rw [show 47 + 34 * k + h = 18 + 34 * k + (29 + h) by omega, drD_f h17 hk (by omega)]
    rw [show 18 + 34 * (if k < r then k else k + 1) + (29 + h) = 47 + 34 * (if k < r then k else k + 1) + h by omega]
    exact hW.2 _ (src k hk) h h1 h2
/-- arrays but w, and the numbers, are as they were -/
def frW (a b : twS) : Prop := (∀ q, q ≠ 0 → b.1 q = a.1 q) ∧ b.2 = a.2
theorem frW.st {a b : twS} {i : Nat} {x : Int32} (h : frW a b) : frW a (twA b 0 i x) := ⟨fun q hq => by rw [← h.1 q hq]; simp [twA, hq], h.2⟩
theorem tw_drop86 {d e : Nat → Nat} {σ1 : twS} {r : Nat} (hr : r < 10) (h9 : d 17 - 1 ≤ 9) (he17 : e 17 = d 17 - 1) (hov : ∀ k, k < d 17 - 1 → e (51 + 34 * k) < 1024) : ∀ j k f σ, k + j = d 17 - 1 → j < f → frW σ1 σ → TW (woK e r k) σ → ∃ σ2, frW σ1 σ2 ∧ TW (woK e r (d 17 - 1)) σ2 ∧ bT_dropRule_86 f (Int32.ofNat r) (Int32.ofNat k) σ = bd (mT_remember σ2) fun _ σ_3 => ald σ_3 0 358 17 fun v_4 => some (v_4, σ_3) := by
  have e17 : ∀ k, woK e r k 17 = d 17 - 1 := fun k => by unfold woK; rw [if_neg (by omega), he17]
  intro j
  induction j with
  | zero =>
    intro k f σ hk hf fr hT
    obtain ⟨f, rfl⟩ : ∃ f', f = f' + 1 := ⟨f - 1, by omega⟩
    rw [show k = d 17 - 1 by omega] at hT ⊢
    refine ⟨σ, fr, hT, ?_⟩
    have h := e17 (d 17 - 1)
    rw [bT_dropRule_86, tw_aldL hT (by decide), show woK e r (d 17 - 1) (OfNat.ofNat 17) = d 17 - 1 from h, if_pos (Int32.le_refl _)]
  | succ j ih =>
    intro k f σ hk hf fr hT
    obtain ⟨f, rfl⟩ : ∃ f', f = f' + 1 := ⟨f - 1, by omega⟩
    have h := e17 k
    have ho : woK e r k (51 + 34 * k) = e (51 + 34 * k) := by unfold woK; rw [if_neg (by omega)]
    have hl := hov k (by omega)
    obtain ⟨σ2, f2, t2, e2⟩ := ih (k + 1) f (twA σ 0 (51 + 34 * k) (Int32.ofNat (wo (e (51 + 34 * k)) r))) (by omega) (by omega) fr.st (by rw [← woK_s]; exact hT.st)
    refine ⟨σ2, f2, t2, ?_⟩
    rw [bT_dropRule_86, tw_aldL hT (by decide), show woK e r k (OfNat.ofNat 17) = d 17 - 1 from h, iJ_le (by omega) (by omega), if_neg (by omega), tw_rule0, bd_J, show (33 : Int32) = Int32.ofNat 33 from rfl, tw_of hT (by omega), bd_J, show 18 + 34 * k + 33 = 51 + 34 * k by omega, ho, tw_without (by omega) (by omega), bd_J, J_add, show 18 + 34 * k + 33 = 51 + 34 * k by omega, ast_J (by omega) (by decide), lt_J, J_addL]
    exact e2
theorem tw_drop31 {d : Nat → Nat} {σ1 : twS} {r : Nat} (hr : r < 10) (h17 : 1 ≤ d 17 ∧ d 17 ≤ 10) (hT1 : TW d σ1) : ∃ σ2, frW σ1 σ2 ∧ TW (shD d r) σ2 ∧ bT_dropRule_31 FU (Int32.ofNat r) (Int32.ofNat (18 + 34 * r)) σ1 = bT_dropRule_86 FU (Int32.ofNat r) 0 (twA σ2 0 17 (Int32.ofNat (d 17 - 1))) := by
  refine ⟨cpO σ1 0 (18 + 34 * r) (340 - 34 * r) (fun j => Int32.ofNat (shD d r (18 + 34 * r + j))), ⟨fun q hq => cpO_ne hq, rfl⟩, fun i hi => ?_, ?_⟩
  · by_cases c : i < 18 + 34 * r
    · rw [cpO_out (Or.inl c), hT1 i hi]
      unfold shD
      rw [if_pos c]
    · obtain ⟨j, rfl⟩ : ∃ j, i = 18 + 34 * r + j := ⟨i - (18 + 34 * r), by omega⟩
      rw [cpO_in (by omega)]
  · have h0 : bT_dropRule_31 FU (Int32.ofNat r) (Int32.ofNat (18 + 34 * r + 0)) (cpO σ1 0 (18 + 34 * r) 0 (fun j => Int32.ofNat (shD d r (18 + 34 * r + j)))) = bT_dropRule_86 FU (Int32.ofNat r) 0 (twA (cpO σ1 0 (18 + 34 * r) (340 - 34 * r) (fun j => Int32.ofNat (shD d r (18 + 34 * r + j)))) 0 17 (Int32.ofNat (d 17 - 1))) := by
      refine loop_FU (fun g k => bT_dropRule_31 g (Int32.ofNat r) (Int32.ofNat (18 + 34 * r + k)) (cpO σ1 0 (18 + 34 * r) k (fun j => Int32.ofNat (shD d r (18 + 34 * r + j))))) (fun _ => bT_dropRule_86 FU (Int32.ofNat r) 0 (twA (cpO σ1 0 (18 + 34 * r) (340 - 34 * r) (fun j => Int32.ofNat (shD d r (18 + 34 * r + j)))) 0 17 (Int32.ofNat (d 17 - 1)))) (340 - 34 * r) (by omega) (fun g k hk ih => ?_) (fun g => ?_)
      · show bT_dropRule_31 (g + 1) _ _ _ = _
        have last : ∀ x : Int32, x = Int32.ofNat (shD d r (18 + 34 * r + k)) → bT_dropRule_66 (bT_dropRule_31 g) (Int32.ofNat r) (Int32.ofNat (18 + 34 * r + k)) (Int32.ofNat (18 + 34 * r + k)) x (cpO σ1 0 (18 + 34 * r) k (fun j => Int32.ofNat (shD d r (18 + 34 * r + j)))) = bT_dropRule_86 FU (Int32.ofNat r) 0 (twA (cpO σ1 0 (18 + 34 * r) (340 - 34 * r) (fun j => Int32.ofNat (shD d r (18 + 34 * r + j)))) 0 17 (Int32.ofNat (d 17 - 1))) := by
          intro x hx
          unfold bT_dropRule_66
          rw [ast_J (by omega) (by decide), cpO_s (g := fun j => Int32.ofNat (shD d r (18 + 34 * r + j))) hx, lt_J, J_addL]
          exact ih
        rw [bT_dropRule_31, iJ_leR (by decide) (by omega), if_neg (by show ¬ 358 ≤ 18 + 34 * r + k; omega), J_addL, iJ_leR (by decide) (by show 18 + 34 * r + k + 34 < _; omega)]
        by_cases c : 358 ≤ 18 + 34 * r + k + 34
        · rw [if_pos (show OfNat.ofNat 358 ≤ 18 + 34 * r + k + OfNat.ofNat 34 from c)]
          exact last 0 (by unfold shD; rw [if_neg (by omega), if_neg (by omega)]; rfl)
        · rw [if_neg (show ¬ OfNat.ofNat 358 ≤ 18 + 34 * r + k + OfNat.ofNat 34 from c), show 18 + 34 * r + k + OfNat.ofNat 34 = 18 + 34 * r + (k + 34) from rfl, ald_J (by omega) (by decide)]
          refine last _ ?_
          have e1 : (cpO σ1 0 (18 + 34 * r) k (fun j => Int32.ofNat (shD d r (18 + 34 * r + j)))).1 0 (18 + 34 * r + (k + 34)) = σ1.1 0 (18 + 34 * r + (k + 34)) := cpO_out (Or.inr (by omega))
          rw [e1, hT1 _ (by omega)]
          unfold shD
          rw [if_neg (by omega), if_pos (by omega)]
          rfl
      · show bT_dropRule_31 (g + 1) _ _ _ = _
        have e1 : (cpO σ1 0 (18 + 34 * r) (340 - 34 * r) (fun j => Int32.ofNat (shD d r (18 + 34 * r + j)))).1 0 17 = Int32.ofNat (d 17) := by rw [cpO_out (Or.inl (by omega)), hT1 17 (by decide)]
        rw [bT_dropRule_31, iJ_leR (by decide) (by omega), if_pos (by show 358 ≤ 18 + 34 * r + (340 - 34 * r); omega), show (17 : Int32) = Int32.ofNat 17 from rfl, ald_J (by decide) (by decide), e1, J_subL (show OfNat.ofNat 1 ≤ d 17 from h17.1), ast_J (by decide) (by decide)]
    rw [cpO_0] at h0
    exact h0
def sp_dropRule (x1 : Int32) (S : SS) : Nat × Int32 × SS := if inB x1 (S.1.1 17) then (0, Int32.ofNat (S.1.1 17 - 1), chS S (drD S.1.1 x1.toNatClampNeg) (drT S.1.2 x1.toNatClampNeg)) else (1, 0, S)
theorem pt_dropRule {σ : twS} {S : SS} (hI : TInv σ S) (x1 : Int32) : TRs (mT_dropRule x1 σ) (sp_dropRule x1 S) := by
  have hT := hI.1.1
  have hW := hI.1.2.1
  have h17 := hW.r
  unfold mT_dropRule sp_dropRule
  rw [tw_isRule hT (by omega), bd_J, ite_pq (b32_0 _)]
  cases hb : inB x1 (S.1.1 17) with
  | false =>
    rw [if_pos rfl, if_neg (by decide)]
    unfold bT_dropRule_14
    rw [show mT_throwsOne 1 σ = some (1, twI σ 13 1) from rfl, bd_J, if_neg (by decide)]
    exact TRs.t hI (k := 1) rfl
  | true =>
    rw [if_neg (by decide), if_pos rfl]
    obtain ⟨r, hr, rfl⟩ := inB_of hb
    unfold bT_dropRule_14
    rw [show mT_throwsOne 0 σ = some (0, twI σ 13 0) from rfl, bd_J, if_pos rfl, J_cl (by omega)]
    have hI0 := hI.q (frP0 (x := 0))
    have hT0 : TW S.1.1 (twI σ 13 0) := twI_tw hT
    generalize hσ : twI σ 13 0 = σ0 at hI0 hT0 ⊢
    have hz : σ0.2 13 = Int32.ofNat 0 := by rw [← hσ]; rfl
    have hT1 : TW S.1.1 (cpO σ0 1 0 358 (fun i => Int32.ofNat (S.1.1 i))) := TW.fr hT0 (cpO_ne (by decide))
    obtain ⟨σ2, f2, t2, e2⟩ := tw_drop31 (r := r) (by omega) ⟨by omega, h17⟩ hT1
    have hov : ∀ k, k < S.1.1 17 - 1 → upN (shD S.1.1 r) 17 (S.1.1 17 - 1) (51 + 34 * k) < 1024 := by
      intro k hk
      rw [upN_ne (by omega)]
      unfold shD
      split
      · exact hW.ov (by omega)
      · rw [if_pos (by omega), show 51 + 34 * k + 34 = 51 + 34 * (k + 1) by omega]
        exact hW.ov (by omega)
    obtain ⟨σ3, f3, t3, e3⟩ := tw_drop86 (d := S.1.1) (e := upN (shD S.1.1 r) 17 (S.1.1 17 - 1)) (σ1 := cpO σ0 1 0 358 (fun i => Int32.ofNat (S.1.1 i))) (r := r) (by omega) (by omega) upN_at hov (S.1.1 17 - 1) 0 FU (twA σ2 0 17 (Int32.ofNat (S.1.1 17 - 1))) (by omega) (by show S.1.1 17 - 1 < 4096; omega) f2.st (by rw [woK_0]; exact t2.st)
    obtain ⟨p1, p2⟩ := hI0.past (b := σ3) f3.1 f3.2
    obtain ⟨σ', f, p, e⟩ := tw_remember p1 p2 hI.1.2
    have hW3 := hI.1.2.drop hr
    have hI3 := hI0.chg (W := (drD S.1.1 r, drT S.1.2 r)) f3.1 f3.2 t3 hW3 f p
    refine ⟨σ', hI3, (f.2 13 (by decide)).trans (by rw [f3.2]; exact hz), ?_⟩
    have e5 : σ'.1 0 17 = Int32.ofNat (S.1.1 17 - 1) := by
      rw [hI3.1.1 17 (by decide)]
      show Int32.ofNat (drD S.1.1 r 17) = _
      rw [drD_17]
    rw [tw_begins hT0, bd_J, tw_rule0, bd_J, e2]
    have e3' : bT_dropRule_86 FU (Int32.ofNat r) 0 (twA σ2 0 17 (Int32.ofNat (S.1.1 17 - 1))) = bd (mT_remember σ3) fun _ σ_3 => ald σ_3 0 358 17 fun v_4 => some (v_4, σ_3) := e3
    rw [e3', e, bd_J, show (17 : Int32) = Int32.ofNat 17 from rfl, ald_J (by decide) (by decide), e5]
