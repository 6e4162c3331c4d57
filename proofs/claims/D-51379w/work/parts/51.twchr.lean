/-! THE PLAIN LAW: the twin's changes of rules -/
set_option maxRecDepth 100000
theorem tw_rule0 {r : Nat} {σ : twS} : mT_rule0 (Int32.ofNat r) σ = some (Int32.ofNat (18 + 34 * r), σ) := by
  unfold mT_rule0
  rw [J_mulR, J_addR]
/-- begins, one place set, remembered -/
theorem tw_chg1 {σ : twS} {S : SS} (hI : TInv σ S) {i v : Nat} (hW : WO (upN S.1.1 i v, S.1.2)) : ∃ σ1 σ', TW S.1.1 σ1 ∧ mT_begins σ = some (0, σ1) ∧ TInv σ' (chS S (upN S.1.1 i v) S.1.2) ∧ σ'.2 13 = σ.2 13 ∧ mT_remember (twA σ1 0 i (Int32.ofNat v)) = some (0, σ') := by
  have hT := hI.1.1
  have hT1 : TW S.1.1 (cpO σ 1 0 358 (fun i => Int32.ofNat (S.1.1 i))) := TW.fr hT (cpO_ne (by decide))
  have hb : ∀ q, q ≠ 0 → (twA (cpO σ 1 0 358 (fun i => Int32.ofNat (S.1.1 i))) 0 i (Int32.ofNat v)).1 q = (cpO σ 1 0 358 (fun i => Int32.ofNat (S.1.1 i))).1 q := fun q hq => by simp [twA, hq]
  obtain ⟨p1, p2⟩ := hI.past (b := twA (cpO σ 1 0 358 (fun i => Int32.ofNat (S.1.1 i))) 0 i (Int32.ofNat v)) hb rfl
  obtain ⟨σ', f, p, e⟩ := tw_remember p1 p2 hI.1.2
  exact ⟨_, σ', hT1, tw_begins hT, hI.chg (W := (upN S.1.1 i v, S.1.2)) hb rfl hT1.st hW f p, (f.2 13 (by decide)), e⟩
def ovrV (d : Nat → Nat) (r o : Nat) (b : Bool) : Nat := if b then andn (d (51 + 34 * r)) (2 ^ o) ||| 2 ^ o else andn (d (51 + 34 * r)) (2 ^ o)
theorem WO.over {W : Wl} (hW : WO W) {r v : Nat} (hr : r < W.1 17) (hv : v < 2 ^ W.1 17) : WO (upN W.1 (51 + 34 * r) v, W.2) := by
  refine ⟨hW.1.over hr hv, fun q hq h h1 h2 => ?_⟩
  dsimp only at hq h1 ⊢
  rw [upN_ne (by omega)] at hq h1
  rw [upN_ne (by omega)]
  exact hW.2 q hq h h1 h2
def sp_setOver (x1 x2 : Int32) (b : Bool) (S : SS) : Nat × Int32 × SS := if inB x1 (S.1.1 17) && inB x2 (S.1.1 17) then (if x1.toNatClampNeg = x2.toNatClampNeg then (0, -1, S) else (0, Int32.ofNat (bitsN (ovrV S.1.1 x1.toNatClampNeg x2.toNatClampNeg b)), chS S (upN S.1.1 (51 + 34 * x1.toNatClampNeg) (ovrV S.1.1 x1.toNatClampNeg x2.toNatClampNeg b)) S.1.2)) else (1, 0, S)
theorem ovrV_lt {W : Wl} (hW : WO W) {r o : Nat} (hr : r < W.1 17) (ho : o < W.1 17) (b : Bool) : ovrV W.1 r o b < 2 ^ W.1 17 := by
  have h1 : W.1 (51 + 34 * r) < 2 ^ W.1 17 := (hW.1.2.2.2.2.2.2.2 r hr).2.2.2
  have h2 : andn (W.1 (51 + 34 * r)) (2 ^ o) < 2 ^ W.1 17 := Nat.lt_of_le_of_lt (andn_le _ _) h1
  unfold ovrV
  split
  · exact Nat.or_lt_two_pow h2 (Nat.pow_lt_pow_right (by decide) ho)
  · exact h2
theorem pt_setOver {σ : twS} {S : SS} (hI : TInv σ S) (x1 x2 : Int32) (b : Bool) : TRs (mT_setOver x1 x2 (b32 b) σ) (sp_setOver x1 x2 b S) := by
  have hT := hI.1.1
  have hW := hI.1.2.1
  have h17 := hW.r
  unfold mT_setOver sp_setOver
  rw [tw_isRule hT (by omega), bd_J, ite_pq (b32_0 _)]
  cases hb : inB x1 (S.1.1 17) with
  | false =>
    rw [if_pos rfl, Bool.false_and, if_neg (by decide)]
    unfold bT_setOver_22
    rw [show mT_throwsOne 1 σ = some (1, twI σ 13 1) from rfl, bd_J, if_neg (by decide)]
    exact TRs.t hI (k := 1) rfl
  | true =>
    rw [if_neg (by decide), tw_isRule hT (by omega), bd_J, ite_pq (b32_0 _), Bool.true_and]
    cases hb2 : inB x2 (S.1.1 17) with
    | false =>
      rw [if_pos rfl, if_neg (by decide)]
      unfold bT_setOver_22
      rw [show mT_throwsOne 1 σ = some (1, twI σ 13 1) from rfl, bd_J, if_neg (by decide)]
      exact TRs.t hI (k := 1) rfl
    | true =>
      rw [if_neg (by decide), if_pos rfl]
      obtain ⟨r, hr, rfl⟩ := inB_of hb
      obtain ⟨o, ho, rfl⟩ := inB_of hb2
      unfold bT_setOver_22
      rw [show mT_throwsOne 0 σ = some (0, twI σ 13 0) from rfl, bd_J, if_pos rfl, J_cl (by omega), J_cl (by omega), iJ_eq (by omega) (by omega)]
      by_cases c : r = o
      · rw [if_pos c, if_pos c]
        exact TRs.q hI fr15.rf rfl
      · rw [if_neg c, if_neg c]
        have hI0 := hI.q (frP0 (x := 0))
        have hlt := ovrV_lt hI.1.2 hr ho b
        have hl2 : ovrV S.1.1 r o b < 1024 := Nat.lt_of_lt_of_le hlt (pow10 h17)
        have hov := hW.ov hr
        obtain ⟨σ1, σ2, hT1, eb, hI2, z, er⟩ := tw_chg1 hI0 (hI.1.2.over hr hlt)
        refine ⟨σ2, hI2, z, ?_⟩
        have hT2 := hI2.1.1
        have last : bT_setOver_82 (Int32.ofNat r) (Int32.ofNat (51 + 34 * r)) (Int32.ofNat (ovrV S.1.1 r o b)) σ1 = some (Int32.ofNat (bitsN (ovrV S.1.1 r o b)), σ2) := by
          unfold bT_setOver_82
          have e6 : (chS S (upN S.1.1 (51 + 34 * r) (ovrV S.1.1 r o b)) S.1.2).1.1 (18 + 34 * r + 33) = ovrV S.1.1 r o b := by
            show upN S.1.1 (51 + 34 * r) (ovrV S.1.1 r o b) (18 + 34 * r + 33) = _
            rw [show 18 + 34 * r + 33 = 51 + 34 * r by omega, upN_at]
          rw [ast_J (by omega) (by decide), er, bd_J, show (33 : Int32) = Int32.ofNat 33 from rfl, tw_of hT2 (by omega), bd_J, e6, tw_bitsO (by omega), bd_J]
        rw [eb, bd_J, show (33 : Int32) = Int32.ofNat 33 from rfl, tw_of hT1 (by omega), bd_J, lt_J, tw_rule0, bd_J, show 18 + 34 * r + 33 = 51 + 34 * r by omega, J_shl o (by omega), J_andn (by omega), J_add, show 18 + 34 * r + 33 = 51 + 34 * r by omega, ite_pq (b32_0 _)]
        unfold ovrV at last
        cases b with
        | false =>
          rw [if_pos rfl]
          exact last
        | true =>
          rw [if_neg (by decide), J_or]
          exact last
theorem tw_sharesOf {d : Nat → Nat} {σ : twS} (hT : TW d σ) {r : Nat} (hr : r < 10) : mT_sharesOf (Int32.ofNat r) σ = some (Int32.ofNat (d (47 + 34 * r) + d (48 + 34 * r) + d (49 + 34 * r) + d (50 + 34 * r)), σ) := by
  have hk : ∀ k, k < 4 → ∀ f a, bT_sharesOf_4 (f + 1) (Int32.ofNat r) (Int32.ofNat a) (Int32.ofNat k) σ = bT_sharesOf_4 f (Int32.ofNat r) (Int32.ofNat (a + d (47 + 34 * r + k))) (Int32.ofNat (k + 1)) σ := by
    intro k hk f a
    rw [bT_sharesOf_4, iJ_leR (by decide) (by omega), if_neg (by show ¬ 4 ≤ k; omega), J_addR, show OfNat.ofNat 29 + k = 29 + k from rfl, tw_of hT (by omega), bd_J, lt_J, lt_J, J_add, J_addL, show 18 + 34 * r + (29 + k) = 47 + 34 * r + k by omega]
  show bT_sharesOf_4 (4091 + 1 + 1 + 1 + 1 + 1) (Int32.ofNat r) (Int32.ofNat 0) (Int32.ofNat 0) σ = _
  rw [hk 0 (by decide), hk 1 (by decide), hk 2 (by decide), hk 3 (by decide), bT_sharesOf_4, if_pos (by decide), show 47 + 34 * r + 0 = 47 + 34 * r from rfl, show 47 + 34 * r + 1 = 48 + 34 * r by omega, show 47 + 34 * r + 2 = 49 + 34 * r by omega, show 47 + 34 * r + 3 = 50 + 34 * r by omega, Nat.zero_add]
theorem WO.share {W : Wl} (hW : WO W) {r h v : Nat} (hr : r < W.1 17) (hh : h < W.1 5) (hv : W.1 (47 + 34 * r) + W.1 (48 + 34 * r) + W.1 (49 + 34 * r) + W.1 (50 + 34 * r) - W.1 (47 + 34 * r + h) + v ≤ 27720) : WO (upN W.1 (47 + 34 * r + h) v, W.2) := by
  have h4 := hW.1.1.1
  have h5 := hW.1.h
  have h17 := hW.1.r
  have hc : ∀ j, j < 5 → upN W.1 (47 + 34 * r + h) v j = W.1 j := fun j hj => upN_ne (by omega)
  have hs : ∀ j, j < 18 → upN W.1 (47 + 34 * r + h) v j = W.1 j := fun j hj => upN_ne (by omega)
  obtain ⟨-, s1, s2, s3⟩ := hW.1.2.2.2.2.2.2.2 r hr
  have hsum : W.1 (47 + 34 * r + h) ≤ W.1 (47 + 34 * r) + W.1 (48 + 34 * r) + W.1 (49 + 34 * r) + W.1 (50 + 34 * r) := by
    obtain rfl | rfl | rfl | rfl : h = 0 ∨ h = 1 ∨ h = 2 ∨ h = 3 := by omega
    · rw [Nat.add_zero]; omega
    · rw [show 47 + 34 * r + 1 = 48 + 34 * r by omega]; omega
    · rw [show 47 + 34 * r + 2 = 49 + 34 * r by omega]; omega
    · rw [show 47 + 34 * r + 3 = 50 + 34 * r by omega]; omega
  refine ⟨⟨FOk_cg hc hW.1.1, ?_, ?_, ?_, ?_, ?_, ?_, ?_⟩, ?_⟩
  · dsimp only; rw [hs 5 (by decide)]; exact h5
  · dsimp only; rw [hs 5 (by decide), hs 6 (by decide)]; exact hW.1.rest
  · dsimp only; rw [hs 7 (by decide)]; exact hW.1.e
  · dsimp only; rw [hs 8 (by decide), casesN_cg hc h4.2]; exact hW.1.2.2.2.2.1
  · intro k hk
    dsimp only
    rw [hs _ (by omega), hs _ (by omega)]
    exact hW.1.fr hk
  · dsimp only; rw [hs 17 (by decide)]; exact h17
  · intro q hq
    dsimp only at hq ⊢
    rw [hs 17 (by decide)] at hq
    obtain ⟨⟨g1, g2, g3⟩, q1, q2, q3⟩ := hW.1.2.2.2.2.2.2.2 q hq
    have hlen : (gFl (W.2 q)).length ≤ 28 := by
      have := gFl_len _ g1.1
      have := g1.2
      omega
    refine ⟨⟨⟨gOk_cg hc h4.2 _ g1.1, g1.2⟩, ?_, ?_⟩, ?_, ?_, ?_⟩
    · rw [upN_ne (by omega)]; exact g2
    · intro k hk
      rw [upN_ne (by omega)]; exact g3 k hk
    · intro k hk
      unfold upN
      split
      · omega
      · exact q1 k hk
    · by_cases c : q = r
      · subst c
        unfold upN
        obtain rfl | rfl | rfl | rfl : h = 0 ∨ h = 1 ∨ h = 2 ∨ h = 3 := by omega
        · rw [if_pos (by omega), if_neg (by omega), if_neg (by omega), if_neg (by omega)]
          rw [show 47 + 34 * q + 0 = 47 + 34 * q from rfl] at hv
          omega
        · rw [if_neg (by omega), if_pos (by omega), if_neg (by omega), if_neg (by omega)]
          rw [show 47 + 34 * q + 1 = 48 + 34 * q by omega] at hv
          omega
        · rw [if_neg (by omega), if_neg (by omega), if_pos (by omega), if_neg (by omega)]
          rw [show 47 + 34 * q + 2 = 49 + 34 * q by omega] at hv
          omega
        · rw [if_neg (by omega), if_neg (by omega), if_neg (by omega), if_pos (by omega)]
          rw [show 47 + 34 * q + 3 = 50 + 34 * q by omega] at hv
          omega
      · rw [upN_ne (by omega), upN_ne (by omega), upN_ne (by omega), upN_ne (by omega)]
        exact q2
    · rw [upN_ne (by omega), upN_ne (by omega)]; exact q3
  · intro q hq k h1 h2
    dsimp only at hq h1 ⊢
    rw [hs 17 (by decide)] at hq
    rw [hs 5 (by decide)] at h1
    rw [upN_ne (by omega)]
    exact hW.2 q hq k h1 h2
/-- how many heirs get something by a rule -/
def posN (d : Nat → Nat) (r : Nat) : Nat → Nat := cntN fun h => decide (0 < d (47 + 34 * r + h))
def sumS (d : Nat → Nat) (r : Nat) : Nat := d (47 + 34 * r) + d (48 + 34 * r) + d (49 + 34 * r) + d (50 + 34 * r)
def untN (a b : Nat) : Nat := a * 27720 / b
def in1B (x : Int32) : Bool := decide (1 ≤ x.toInt ∧ x.toInt < 13)
def shrB (x3 x4 : Int32) : Bool := inB x3 13 && in1B x4
def sp_setShare (x1 x2 x3 x4 : Int32) (S : SS) : Nat × Int32 × SS := if inB x1 (S.1.1 17) && inB x2 (S.1.1 5) then (if shrB x3 x4 then (if sumS S.1.1 x1.toNatClampNeg - S.1.1 (47 + 34 * x1.toNatClampNeg + x2.toNatClampNeg) + untN x3.toNatClampNeg x4.toNatClampNeg ≤ 27720 then (0, Int32.ofNat (posN (upN S.1.1 (47 + 34 * x1.toNatClampNeg + x2.toNatClampNeg) (untN x3.toNatClampNeg x4.toNatClampNeg)) x1.toNatClampNeg 4), chS S (upN S.1.1 (47 + 34 * x1.toNatClampNeg + x2.toNatClampNeg) (untN x3.toNatClampNeg x4.toNatClampNeg)) S.1.2) else (0, -1, S)) else (2, 0, S)) else (1, 0, S)
theorem in1_of {x : Int32} (h : in1B x = true) : ∃ k, 1 ≤ k ∧ k < 13 ∧ x = Int32.ofNat k := by
  have h1 := of_decide_eq_true h
  refine ⟨x.toInt.toNat, by omega, by omega, ?_⟩
  apply Int32.toInt_inj.mp
  rw [J_int (by omega)]
  omega
theorem tw_in1 {x : Int32} {σ : twS} : mT_in x 1 12 σ = some (b32 (in1B x), σ) := by
  unfold mT_in in1B
  have h1 : (1 : Int32).toInt = 1 := by decide
  have h2 : (12 : Int32).toInt = 12 := by decide
  by_cases c1 : x < 1
  · rw [if_pos c1]
    have := Int32.lt_iff_toInt_lt.mp c1
    rw [decide_eq_false (by omega)]
    rfl
  · rw [if_neg c1]
    have c1' : ¬ x.toInt < (1 : Int32).toInt := fun q => c1 (Int32.lt_iff_toInt_lt.mpr q)
    by_cases c2 : 12 < x
    · rw [if_pos c2]
      have := Int32.lt_iff_toInt_lt.mp c2
      rw [decide_eq_false (by omega)]
      rfl
    · rw [if_neg c2]
      have : ¬ (12 : Int32).toInt < x.toInt := fun q => c2 (Int32.lt_iff_toInt_lt.mpr q)
      rw [decide_eq_true (by omega)]
      rfl
theorem tw_pos {d : Nat → Nat} {σ : twS} (hT : TW d σ) {r : Nat} (hr : r < 10) (hs : ∀ h, h < 4 → d (47 + 34 * r + h) < 2147483648) : bT_setShare_122 FU (Int32.ofNat r) 0 0 σ = some (Int32.ofNat (posN d r 4), σ) := by
  refine loop_FU (fun g k => bT_setShare_122 g (Int32.ofNat r) (Int32.ofNat (posN d r k)) (Int32.ofNat k) σ) (fun _ => some (Int32.ofNat (posN d r 4), σ)) 4 (by omega) (fun g k hk ih => ?_) (fun g => ?_)
  · show bT_setShare_122 (g + 1) _ _ _ _ = _
    have h1 := hs k hk
    have e : posN d r (k + 1) = posN d r k + (if decide (0 < d (47 + 34 * r + k)) then 1 else 0) := rfl
    rw [e] at ih
    rw [bT_setShare_122, iJ_leR (by decide) (by omega), if_neg (by show ¬ 4 ≤ k; omega), J_addR, show OfNat.ofNat 29 + k = 29 + k from rfl, tw_of hT (by omega), bd_J, show 18 + 34 * r + (29 + k) = 47 + 34 * r + k by omega, iJ_leL (by omega) (by decide)]
    by_cases c : 0 < d (47 + 34 * r + k)
    · rw [decide_eq_true c] at ih
      rw [if_neg (by show ¬ d (47 + 34 * r + k) ≤ 0; omega), lt_J, lt_J, J_addL, J_addL]
      exact ih
    · rw [decide_eq_false c] at ih
      rw [if_pos (by show d (47 + 34 * r + k) ≤ 0; omega), lt_J, lt_J, J_addL, J_addL]
      exact ih
  · show bT_setShare_122 (g + 1) _ _ _ _ = _
    rw [bT_setShare_122, if_pos (by decide)]
theorem untN_le {a b : Nat} (ha : a < 13) (hb : 1 ≤ b) : untN a b ≤ 12 * 27720 := by
  unfold untN
  exact Nat.le_trans (Nat.div_le_self _ _) (Nat.mul_le_mul_right _ (by omega))
theorem pt_setShare {σ : twS} {S : SS} (hI : TInv σ S) (x1 x2 x3 x4 : Int32) : TRs (mT_setShare x1 x2 x3 x4 σ) (sp_setShare x1 x2 x3 x4 S) := by
  have hT := hI.1.1
  have hW := hI.1.2.1
  have h17 := hW.r
  have h5 := hW.h
  -- behind the checks of rule and heir
  have k22 : ∀ s1 : Bool, bT_setShare_22 x1 x2 x3 x4 (b32 s1) σ = bT_setShare_48 x1 x2 x3 x4 (b32 s1) (b32 (!shrB x3 x4)) σ := by
    intro s1
    unfold bT_setShare_22 shrB
    rw [tw_inI (n := 13) (by decide), bd_J, ite_pq (b32_0 _)]
    cases inB x3 13
    · rw [if_pos rfl, Bool.false_and]; rfl
    · rw [if_neg (by decide), Bool.true_and, tw_in1, bd_J, ite_pq (b32_0 _)]
      cases in1B x4
      · rw [if_pos rfl]; rfl
      · rw [if_neg (by decide)]; rfl
  have k48 : ∀ s2 : Bool, TRs (bT_setShare_48 x1 x2 x3 x4 (b32 true) (b32 s2) σ) (1, 0, S) := by
    intro s2
    unfold bT_setShare_48
    rw [tw_th2, bd_J, if_neg (by cases s2 <;> decide)]
    exact TRs.t hI (by cases s2 <;> rfl)
  unfold mT_setShare sp_setShare
  rw [tw_isRule hT (by omega), bd_J, ite_pq (b32_0 _)]
  cases hb : inB x1 (S.1.1 17) with
  | false =>
    rw [if_pos rfl, Bool.false_and, if_neg (by decide), show (1 : Int32) = b32 true from rfl, k22]
    exact k48 _
  | true =>
    rw [if_neg (by decide), tw_isHeir hT (by omega), bd_J, ite_pq (b32_0 _), Bool.true_and]
    cases hb2 : inB x2 (S.1.1 5) with
    | false =>
      rw [if_pos rfl, if_neg (by decide), show (1 : Int32) = b32 true from rfl, k22]
      exact k48 _
    | true =>
      rw [if_neg (by decide), if_pos rfl, show bT_setShare_22 x1 x2 x3 x4 0 σ = bT_setShare_22 x1 x2 x3 x4 (b32 false) σ from rfl, k22]
      unfold bT_setShare_48
      rw [tw_th2, bd_J]
      cases hb3 : shrB x3 x4 with
      | false =>
        rw [if_neg (by decide), if_neg (by decide)]
        exact TRs.t hI (k := 2) rfl
      | true =>
        rw [if_pos (by decide), if_pos rfl]
        obtain ⟨h3, h4⟩ := (Bool.and_eq_true _ _).mp hb3
        obtain ⟨r, hr, rfl⟩ := inB_of hb
        obtain ⟨h, hh, rfl⟩ := inB_of hb2
        obtain ⟨a, ha, rfl⟩ := inB_of h3
        obtain ⟨b, hb1, hb13, rfl⟩ := in1_of h4
        have hI0 := hI.q (frP0 (x := Int32.ofNat (th2 false (!true))))
        have hT0 : TW S.1.1 (twI σ 13 (Int32.ofNat (th2 false (!true)))) := twI_tw hT
        have hu := untN_le ha hb1
        have hsh := hW.sh hr (show h < 4 by omega)
        have hz : (twI σ 13 (Int32.ofNat (th2 false (!true)))).2 13 = Int32.ofNat 0 := rfl
        obtain ⟨-, s1, s2, s3⟩ := hW.2.2.2.2.2.2.2 r hr
        have hsum : S.1.1 (47 + 34 * r + h) ≤ sumS S.1.1 r := by
          unfold sumS
          obtain rfl | rfl | rfl | rfl : h = 0 ∨ h = 1 ∨ h = 2 ∨ h = 3 := by omega
          · rw [Nat.add_zero]; omega
          · rw [show 47 + 34 * r + 1 = 48 + 34 * r by omega]; omega
          · rw [show 47 + 34 * r + 2 = 49 + 34 * r by omega]; omega
          · rw [show 47 + 34 * r + 3 = 50 + 34 * r by omega]; omega
        have hsle : sumS S.1.1 r ≤ 27720 := s2
        rw [nz_J (by omega) (by omega), lt_J, J_mulL, show (OfNat.ofNat 27720 : Nat) = 27720 from rfl, J_div (by omega) (by omega), show a * 27720 / b = untN a b from rfl, tw_sharesOf hT0 (by omega), bd_J, show S.1.1 (47 + 34 * r) + S.1.1 (48 + 34 * r) + S.1.1 (49 + 34 * r) + S.1.1 (50 + 34 * r) = sumS S.1.1 r from rfl, J_addR, show OfNat.ofNat 29 + h = 29 + h from rfl, tw_of hT0 (by omega), bd_J, show 18 + 34 * r + (29 + h) = 47 + 34 * r + h by omega, J_sub hsum, J_add, iJ_leL (by omega) (by decide), J_cl (by omega), J_cl (by omega), J_cl (by omega), J_cl (by omega)]
        by_cases c : sumS S.1.1 r - S.1.1 (47 + 34 * r + h) + untN a b ≤ 27720
        · rw [if_pos (show sumS S.1.1 r - S.1.1 (47 + 34 * r + h) + untN a b ≤ OfNat.ofNat 27720 from c), if_pos c]
          have hW2 := hI.1.2.share hr hh c
          obtain ⟨σ1, σ2, hT1, eb, hI2, z, er⟩ := tw_chg1 hI0 hW2
          refine ⟨σ2, hI2, z.trans hz, ?_⟩
          have hT2 := hI2.1.1
          have hp := tw_pos hT2 (r := r) (by omega) (fun k hk => Nat.lt_of_le_of_lt (hW2.1.sh (r := r) (k := k) (by show r < upN S.1.1 (47 + 34 * r + h) (untN a b) 17; rw [upN_ne (by omega)]; exact hr) hk) (by decide))
          rw [eb, bd_J, tw_rule0, bd_J, J_addL, J_add, show 18 + 34 * r + OfNat.ofNat 29 + h = 47 + 34 * r + h by show 18 + 34 * r + 29 + h = _; omega, ast_J (by omega) (by decide), er, bd_J]
          exact hp
        · rw [if_neg (show ¬ sumS S.1.1 r - S.1.1 (47 + 34 * r + h) + untN a b ≤ OfNat.ofNat 27720 from c), if_neg c]
          exact ⟨_, hI0, hz, rfl⟩
