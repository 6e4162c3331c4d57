/-! THE PLAIN LAW: parse, load, addRule, as the twin does them -/
set_option maxRecDepth 100000
theorem twA_q {σ : twS} {k j q : Nat} {x : Int32} (h : q ≠ k) : (twA σ k j x).1 q = σ.1 q := by simp [twA, h]
theorem TInv.x {a b : twS} {S : SS} (h : TInv a S) (f : frX a b) (hT : TW S.1.1 b) : TInv b S := by
  obtain ⟨⟨h1, h2⟩, h3, h4, h5, h6, h7⟩ := h
  exact ⟨⟨hT, h2⟩, h3.fr (f.1 3 (by decide)) (f.2 5 (by decide)), h4.fr (f.1 4 (by decide)) (f.2 6 (by decide)), h5.fr (f.1 7 (by decide)) (f.2 9 (by decide)), h6.fr (f.1 11 (by decide)) (f.2 12 (by decide)), h7⟩
/-- w is kept in 'before', and set to 0 -/
theorem tw_all2 {d : Nat → Nat} : ∀ j k f (σ : twS), k + j = 358 → j < f → (∀ i, i < 358 → σ.1 0 i = if i < k then 0 else Int32.ofNat (d i)) → (∀ i, i < k → σ.1 1 i = Int32.ofNat (d i)) → ∃ σ', (∀ q, q ≠ 0 → q ≠ 1 → σ'.1 q = σ.1 q) ∧ σ'.2 = σ.2 ∧ (∀ i, i < 358 → σ'.1 0 i = 0) ∧ (∀ i, i < 358 → σ'.1 1 i = Int32.ofNat (d i)) ∧ bT_parseAll_2 f (Int32.ofNat k) σ = bT_parseAll_2 1 (Int32.ofNat 358) σ' := by
  intro j
  induction j with
  | zero =>
    intro k f σ hk hf h0 h1
    obtain ⟨f, rfl⟩ : ∃ f', f = f' + 1 := ⟨f - 1, by omega⟩
    have hk2 : k = 358 := by omega
    subst hk2
    refine ⟨σ, fun _ _ _ => rfl, rfl, fun i hi => by rw [h0 i hi, if_pos hi], h1, ?_⟩
    rw [bT_parseAll_2, bT_parseAll_2, if_pos (by decide), if_pos (by decide)]
  | succ j ih =>
    intro k f σ hk hf h0 h1
    obtain ⟨f, rfl⟩ : ∃ f', f = f' + 1 := ⟨f - 1, by omega⟩
    obtain ⟨σ', g1, g2, g3, g4, g5⟩ := ih (k + 1) f (twA (twA σ 1 k (Int32.ofNat (d k))) 0 k 0) (by omega) (by omega) (fun i hi => by
      rw [twA_at]
      by_cases c : i = k
      · rw [if_pos c, if_pos (by omega)]
      · rw [if_neg c]
        show (twA σ 1 k (Int32.ofNat (d k))).1 0 i = _
        have e : (twA σ 1 k (Int32.ofNat (d k))).1 0 = σ.1 0 := by simp [twA]
        rw [e, h0 i hi]
        by_cases c2 : i < k
        · rw [if_pos c2, if_pos (by omega)]
        · rw [if_neg c2, if_neg (by omega)]) (fun i hi => by
      have e : (twA (twA σ 1 k (Int32.ofNat (d k))) 0 k 0).1 1 = (twA σ 1 k (Int32.ofNat (d k))).1 1 := by simp [twA]
      rw [e, twA_at]
      by_cases c : i = k
      · rw [if_pos c, c]
      · rw [if_neg c]; exact h1 i (by omega))
    refine ⟨σ', fun q q0 q1 => by rw [g1 q q0 q1]; simp [twA, q0, q1], g2, g3, g4, ?_⟩
    have e0 : σ.1 0 k = Int32.ofNat (d k) := by rw [h0 k (by omega), if_neg (by omega)]
    rw [bT_parseAll_2, iJ_leR (by decide) (by omega), if_neg (by show ¬ 358 ≤ k; omega), ald_J (by omega) (by decide), e0, ast_J (by omega) (by decide), ast_J (by omega) (by decide), lt_J, J_addL]
    exact g5
/-- rates of 10 percent -/
theorem tw_all46 : ∀ j k f (σ : twS), k + j = 4 → j < f → (∀ i, i < 358 → σ.1 0 i = Int32.ofNat (if i = 7 then 1000 else if i % 2 = 0 ∧ 10 ≤ i ∧ i < 10 + 2 * k then 10 else 0)) → ∃ σ', (∀ q, q ≠ 0 → σ'.1 q = σ.1 q) ∧ σ'.2 = σ.2 ∧ TW d0N σ' ∧ bT_parseAll_46 f (Int32.ofNat k) σ = bT_parseAll_46 1 (Int32.ofNat 4) σ' := by
  intro j
  induction j with
  | zero =>
    intro k f σ hk hf h0
    obtain ⟨f, rfl⟩ : ∃ f', f = f' + 1 := ⟨f - 1, by omega⟩
    have hk2 : k = 4 := by omega
    subst hk2
    refine ⟨σ, fun _ _ => rfl, rfl, fun i hi => ?_, ?_⟩
    · rw [h0 i hi]
      unfold d0N
      congr 1
      by_cases c : i = 7
      · rw [if_pos c, if_pos c]
      · rw [if_neg c, if_neg c]
        by_cases c2 : i = 10 ∨ i = 12 ∨ i = 14 ∨ i = 16
        · rw [if_pos c2, if_pos (by omega)]
        · rw [if_neg c2, if_neg (by omega)]
    · rw [bT_parseAll_46, bT_parseAll_46, if_pos (by decide), if_pos (by decide)]
  | succ j ih =>
    intro k f σ hk hf h0
    obtain ⟨f, rfl⟩ : ∃ f', f = f' + 1 := ⟨f - 1, by omega⟩
    obtain ⟨σ', g1, g2, g3, g4⟩ := ih (k + 1) f (twA σ 0 (10 + 2 * k) (Int32.ofNat 10)) (by omega) (by omega) (fun i hi => by
      rw [twA_at]
      by_cases c : i = 10 + 2 * k
      · rw [if_pos c, if_neg (by omega), if_pos (by omega)]
      · rw [if_neg c, h0 i hi]
        congr 1
        by_cases c2 : i = 7
        · rw [if_pos c2, if_pos c2]
        · rw [if_neg c2, if_neg c2]
          by_cases c3 : i % 2 = 0 ∧ 10 ≤ i ∧ i < 10 + 2 * k
          · rw [if_pos c3, if_pos (by omega)]
          · rw [if_neg c3, if_neg (by omega)])
    refine ⟨σ', fun q q0 => by rw [g1 q q0]; simp [twA, q0], g2, g3, ?_⟩
    rw [bT_parseAll_46, iJ_leR (by decide) (by omega), if_neg (by show ¬ 4 ≤ k; omega), J_mulR, J_addR, J_addL, show OfNat.ofNat 9 + OfNat.ofNat 2 * k + OfNat.ofNat 1 = 10 + 2 * k by show 9 + 2 * k + 1 = _; omega, show (10 : Int32) = Int32.ofNat 10 from rfl, ast_J (by omega) (by decide), lt_J, J_addL]
    exact g4
theorem tw_back {d : Nat → Nat} {σ : twS} (h : TWat 1 0 d σ) : ∃ σ', (∀ q, q ≠ 0 → σ'.1 q = σ.1 q) ∧ σ'.2 = σ.2 ∧ TW d σ' ∧ bT_parseAll_95 FU 0 σ = some (0, σ') ∧ bT_addRule_86 FU 0 σ = some (-2 - σ.2 20, σ') := by
  have hg : ∀ k, k < 358 → σ.1 1 k = Int32.ofNat (d k) := fun k hk => by have := h k hk; rwa [Nat.zero_add] at this
  refine ⟨cpO σ 0 0 358 (fun i => Int32.ofNat (d i)), fun q hq => cpO_ne hq, rfl, fun i hi => ?_, ?_, ?_⟩
  · have := cpO_in (σ := σ) (q := 0) (off := 0) (n := 358) (i := i) (g := fun i => Int32.ofNat (d i)) hi
    rwa [Nat.zero_add] at this
  · have h0 : bT_parseAll_95 FU 0 (cpO σ 0 0 0 (fun i => Int32.ofNat (d i))) = some (0, cpO σ 0 0 358 (fun i => Int32.ofNat (d i))) := by
      refine loop_FU (fun g k => bT_parseAll_95 g (Int32.ofNat k) (cpO σ 0 0 k (fun i => Int32.ofNat (d i)))) (fun _ => some (0, cpO σ 0 0 358 (fun i => Int32.ofNat (d i)))) 358 (by decide) (fun g k hk ih => ?_) (fun g => ?_)
      · show bT_parseAll_95 (g + 1) _ _ = _
        have e := cpO_s (σ := σ) (q := 0) (off := 0) (n := k) (g := fun i => Int32.ofNat (d i)) rfl
        rw [Nat.zero_add] at e
        have e1 : (cpO σ 0 0 k (fun i => Int32.ofNat (d i))).1 1 k = Int32.ofNat (d k) := by rw [cpO_ne (by decide), hg k hk]
        rw [bT_parseAll_95, iJ_leR (by decide) (by omega), if_neg (by show ¬ 358 ≤ k; omega), ald_J (by omega) (by decide), e1, ast_J hk (by decide), e, lt_J, J_addL]
        exact ih
      · show bT_parseAll_95 (g + 1) _ _ = _
        rw [bT_parseAll_95, if_pos (by decide), rz0]
    rw [cpO_0] at h0
    exact h0
  · have h0 : bT_addRule_86 FU 0 (cpO σ 0 0 0 (fun i => Int32.ofNat (d i))) = some (-2 - σ.2 20, cpO σ 0 0 358 (fun i => Int32.ofNat (d i))) := by
      refine loop_FU (fun g k => bT_addRule_86 g (Int32.ofNat k) (cpO σ 0 0 k (fun i => Int32.ofNat (d i)))) (fun _ => some (-2 - σ.2 20, cpO σ 0 0 358 (fun i => Int32.ofNat (d i)))) 358 (by decide) (fun g k hk ih => ?_) (fun g => ?_)
      · show bT_addRule_86 (g + 1) _ _ = _
        have e := cpO_s (σ := σ) (q := 0) (off := 0) (n := k) (g := fun i => Int32.ofNat (d i)) rfl
        rw [Nat.zero_add] at e
        have e1 : (cpO σ 0 0 k (fun i => Int32.ofNat (d i))).1 1 k = Int32.ofNat (d k) := by rw [cpO_ne (by decide), hg k hk]
        rw [bT_addRule_86, iJ_leR (by decide) (by omega), if_neg (by show ¬ 358 ≤ k; omega), ald_J (by omega) (by decide), e1, ast_J hk (by decide), e, lt_J, J_addL]
        exact ih
      · show bT_addRule_86 (g + 1) _ _ = _
        rw [bT_addRule_86, if_pos (by decide)]
        rfl
    rw [cpO_0] at h0
    exact h0
def kNone : Nat → Option Wl := fun _ => none
theorem TK_none {σ : twS} (h : σ.2 6 = 0) : TK kNone σ := ⟨h, fun j W _ hj => by cases hj⟩
theorem tw_parseAll {σ : twS} {S : SS} {L : List Nat} (hI : TInv σ S) (hX : TXt L σ) : match rAll L with
    | .inl e => ∃ σ', TInv σ' S ∧ (σ'.2 20 = Int32.ofNat e ∧ 0 < e ∧ e < 10000) ∧ σ'.2 13 = σ.2 13 ∧ mT_parseAll σ = some (0, σ')
    | .inr W => ∃ σ', TInv σ' (W, [], kNone, S.2.2.2) ∧ σ'.2 13 = σ.2 13 ∧ mT_parseAll σ = some (1, σ') := by
  have hl := hX.1
  obtain ⟨σ1, a1, a2, a3, a4, a5⟩ := tw_all2 (d := S.1.1) 358 0 FU σ (by omega) (by decide) (fun i hi => by rw [if_neg (by omega)]; exact hI.1.1 i hi) (fun i hi => by omega)
  obtain ⟨σ2, b1, b2, b3, b4⟩ := tw_all46 4 0 FU (twA σ1 0 7 (Int32.ofNat 1000)) (by omega) (by decide) (fun i hi => by
    rw [twA_at]
    by_cases c : i = 7
    · rw [if_pos c, if_pos c]
    · rw [if_neg c, if_neg c, a3 i hi, if_neg (by omega)]
      rfl)
  have c1 : ∀ q, q ≠ 0 → q ≠ 1 → σ2.1 q = σ.1 q := fun q q0 q1 => by rw [b1 q q0, ← a1 q q0 q1]; simp [twA, q0]
  have c2 : σ2.2 = σ.2 := by rw [b2]; exact a2
  have c3 : TWat 1 0 S.1.1 σ2 := fun i hi => by
    rw [b1 1 (by decide), Nat.zero_add]
    have e : (twA σ1 0 7 (Int32.ofNat 1000)).1 1 = σ1.1 1 := by simp [twA]
    rw [e]
    exact a4 i hi
  have e1 : mT_parseAll σ = bd (mT_next (twI (twI σ2 20 0) 18 0)) fun _ σ_4 => bd (mT_reads σ_4) fun v_5 σ_6 => if v_5 = 0 then bT_parseAll_95 FU 0 σ_6 else lt_ (twI σ_6 5 0) fun σ_8 => lt_ (twI σ_8 6 0) fun σ_9 => rz 1 σ_9 := by
    show bT_parseAll_2 FU (Int32.ofNat 0) σ = _
    rw [a5, bT_parseAll_2, if_pos (by decide), show (7 : Int32) = Int32.ofNat 7 from rfl, ast_J (by decide) (by decide)]
    show bT_parseAll_46 FU (Int32.ofNat 0) (twA σ1 0 7 (Int32.ofNat 1000)) = _
    rw [b4, bT_parseAll_46, if_pos (by decide), lt_J, lt_J]
  rw [e1]
  generalize hσ3 : twI (twI σ2 20 0) 18 0 = σ3
  have d1 : σ3.1 = σ2.1 := by rw [← hσ3]; rfl
  have d2 : ∀ k, (k < 16 ∨ 26 < k) → σ3.2 k = σ.2 k := fun k hk => by rw [← hσ3, twI_n (by omega), twI_n (by omega), c2]
  have d18 : σ3.2 18 = Int32.ofNat 0 := by rw [← hσ3]; exact twI_k
  have d20 : σ3.2 20 = 0 := by rw [← hσ3, twI_n (by decide)]; exact twI_k
  obtain ⟨σ4, f4, p4, e4⟩ := tw_next (L := L) (p := 0) (hX.fr (by rw [d1, c1 8 (by decide) (by decide)]) (d2 10 (by decide))) (by omega) d18 d20
  have w4 : RL d0N L 0 σ4 := ⟨p4, b3.fr (by rw [f4.1, d1])⟩
  rw [e4, bd_J]
  have hr := tw_reads w4
  -- from σ to σ4: arrays but 0 and 1
  have g1 : ∀ q, q ≠ 0 → q ≠ 1 → σ4.1 q = σ.1 q := fun q q0 q1 => by rw [f4.1, d1, c1 q q0 q1]
  have g2 : ∀ k, (k < 16 ∨ 26 < k) → σ4.2 k = σ.2 k := fun k hk => by rw [f4.2 k (by omega), d2 k hk]
  obtain ⟨⟨hT, hW⟩, hP, hK, hB, hR, h8⟩ := hI
  cases hx : rAll L with
  | inl e =>
    rw [hx] at hr
    obtain ⟨σ5, f5, h20, e5⟩ := hr
    dsimp only
    rw [e5, bd_J, if_pos rfl]
    have t5 : TWat 1 0 S.1.1 σ5 := fun i hi => by rw [f5.1 1 (by decide), f4.1, d1]; exact c3 i hi
    obtain ⟨σ6, k1, k2, k3, k4, -⟩ := tw_back t5
    have m1 : ∀ q, q ≠ 0 → q ≠ 1 → σ6.1 q = σ.1 q := fun q q0 q1 => by rw [k1 q q0, f5.1 q q0, g1 q q0 q1]
    have m2 : ∀ k, (k < 16 ∨ 26 < k) → σ6.2 k = σ.2 k := fun k hk => by rw [k2, f5.2 k hk, g2 k hk]
    exact ⟨σ6, ⟨⟨k3, hW⟩, hP.fr (m1 3 (by decide) (by decide)) (m2 5 (by decide)), hK.fr (m1 4 (by decide) (by decide)) (m2 6 (by decide)), hB.fr (m1 7 (by decide) (by decide)) (m2 9 (by decide)), hR.fr (m1 11 (by decide) (by decide)) (m2 12 (by decide)), h8⟩, by rw [k2]; exact h20, m2 13 (by decide), k4⟩
  | inr W =>
    rw [hx] at hr
    obtain ⟨σ5, f5, t5, e5⟩ := hr
    dsimp only
    rw [e5, bd_J, if_neg (by decide), lt_J, lt_J]
    have m1 : ∀ q, q ≠ 0 → q ≠ 1 → σ5.1 q = σ.1 q := fun q q0 q1 => by rw [f5.1 q q0, g1 q q0 q1]
    have m2 : ∀ k, (k < 16 ∨ 26 < k) → k ≠ 5 → k ≠ 6 → (twI (twI σ5 5 0) 6 0).2 k = σ.2 k := fun k hk q5 q6 => by rw [twI_n q6, twI_n q5, f5.2 k hk, g2 k hk]
    exact ⟨twI (twI σ5 5 0) 6 0, ⟨⟨twI_tw (twI_tw t5), rAll_ok hx⟩, TP_nil ((twI_n (by decide)).trans twI_k), TK_none twI_k, hB.fr (m1 7 (by decide) (by decide)) (m2 9 (by decide) (by decide) (by decide)), hR.fr (m1 11 (by decide) (by decide)) (m2 12 (by decide) (by decide) (by decide)), h8⟩, m2 13 (by decide) (by decide) (by decide), rz1⟩
def sp_parse (x1 : Int32) (S : SS) : Nat × Int32 × SS := if inB x1 (S.2.2.2.1.length + 1) then (match rAll (S.2.2.2.1.take x1.toNatClampNeg) with
  | .inl e => (0, -2 - Int32.ofNat e, (S.1, S.2.1, S.2.2.1, [], S.2.2.2.2))
  | .inr W => (0, Int32.ofNat (W.1 17), (W, [], kNone, [], S.2.2.2.2))) else (1, 0, S)
theorem pt_parse {σ : twS} {S : SS} (hI : TInv σ S) (x1 : Int32) : TRs (mT_parse x1 σ) (sp_parse x1 S) := by
  have hB := hI.2.2.2.1
  have hl := hB.1
  unfold mT_parse sp_parse
  rw [tw_inI (n := S.2.2.2.1.length + 1) (by rw [hB.2.2.1, J_int (by omega)]; omega), bd_J, ite_pq (b32_0 _)]
  cases hb : inB x1 (S.2.2.2.1.length + 1) with
  | false =>
    rw [if_pos rfl, if_neg (show ¬ (false = true) from by decide)]
    unfold bT_parse_18
    rw [show mT_throwsOne 1 σ = some (1, twI σ 13 1) from rfl, bd_J, if_neg (by decide)]
    exact TRs.t hI (k := 1) rfl
  | true =>
    rw [if_neg (by decide), if_pos rfl]
    obtain ⟨n, hn, rfl⟩ := inB_of hb
    unfold bT_parse_18
    rw [show mT_throwsOne 0 σ = some (0, twI σ 13 0) from rfl, bd_J, if_pos rfl, J_cl (by omega)]
    obtain ⟨σ1, i1, x1, z1, e1⟩ := tw_takes (hI.q (frP0 (x := 0))) (n := n) (by omega)
    rw [e1, bd_J]
    have hp := tw_parseAll i1 x1
    cases hx : rAll (S.2.2.2.1.take n) with
    | inl e =>
      rw [hx] at hp
      obtain ⟨σ2, i2, h20, z2, e2⟩ := hp
      rw [e2, bd_J, if_pos rfl, h20.1]
      exact ⟨σ2, i2, z2.trans z1, rfl⟩
    | inr W =>
      rw [hx] at hp
      obtain ⟨σ2, i2, z2, e2⟩ := hp
      rw [e2, bd_J, if_neg (by decide), tw_aldL i2.1.1 (by decide)]
      exact ⟨σ2, i2, z2.trans z1, rfl⟩
/-- a rule is added to a will -/
def sp_addRule (x1 : Int32) (S : SS) : Nat × Int32 × SS := if inB x1 (S.2.2.2.1.length + 1) then (if S.1.1 17 = 10 then (0, -6, (S.1, S.2.1, S.2.2.1, [], S.2.2.2.2)) else match rRule S.1.1 (S.2.2.2.1.take x1.toNatClampNeg) 0 with
  | .inl e => (0, -2 - Int32.ofNat e, (S.1, S.2.1, S.2.2.1, [], S.2.2.2.2))
  | .inr a => if tkK (S.2.2.2.1.take x1.toNatClampNeg) a.2.2.2 = 0 then (0, Int32.ofNat (S.1.1 17), ((adD S.1.1 a.1 a.2.1 a.2.2.1, adT S.1.2 (S.1.1 17) a.1), keepS S.2.1 S.1, S.2.2.1, [], S.2.2.2.2)) else (0, -2 - Int32.ofNat (flt (S.2.2.2.1.take x1.toNatClampNeg) a.2.2.2 1), (S.1, S.2.1, S.2.2.1, [], S.2.2.2.2))) else (1, 0, S)
theorem pt_addRule {σ : twS} {S : SS} (hI : TInv σ S) (x1 : Int32) : TRs (mT_addRule x1 σ) (sp_addRule x1 S) := by
  have hB := hI.2.2.2.1
  have hl := hB.1
  have h17 := hI.1.2.1.r
  unfold mT_addRule sp_addRule
  rw [tw_inI (n := S.2.2.2.1.length + 1) (by rw [hB.2.2.1, J_int (by omega)]; omega), bd_J, ite_pq (b32_0 _)]
  cases hb : inB x1 (S.2.2.2.1.length + 1) with
  | false =>
    rw [if_pos rfl, if_neg (show ¬ (false = true) from by decide)]
    unfold bT_addRule_18
    rw [show mT_throwsOne 1 σ = some (1, twI σ 13 1) from rfl, bd_J, if_neg (by decide)]
    exact TRs.t hI (k := 1) rfl
  | true =>
    rw [if_neg (by decide), if_pos rfl]
    obtain ⟨n, hn, rfl⟩ := inB_of hb
    unfold bT_addRule_18
    rw [show mT_throwsOne 0 σ = some (0, twI σ 13 0) from rfl, bd_J, if_pos rfl, J_cl (by omega)]
    obtain ⟨σ1, i1, x1, z1, e1⟩ := tw_takes (hI.q (frP0 (x := 0))) (n := n) (by omega)
    have z1' : σ1.2 13 = Int32.ofNat 0 := z1
    rw [e1, bd_J, tw_aldL i1.1.1 (by decide), iJ_eqL (by show S.1.1 17 < _; omega) (by decide)]
    by_cases c : S.1.1 17 = 10
    · rw [if_pos (show S.1.1 (OfNat.ofNat 17) = OfNat.ofNat 10 from c), if_pos c]
      exact ⟨σ1, i1, z1', rfl⟩
    · rw [if_neg (show ¬ S.1.1 (OfNat.ofNat 17) = OfNat.ofNat 10 from c), if_neg c, tw_begins i1.1.1, bd_J, lt_J, lt_J]
      generalize hL : S.2.2.2.1.take n = L at x1 ⊢
      generalize hσ2 : cpO σ1 1 0 358 (fun i => Int32.ofNat (((S.1, S.2.1, S.2.2.1, ([] : List Nat), S.2.2.2.2) : SS).1.1 i)) = σ2
      have a1 : ∀ q, q ≠ 1 → σ2.1 q = σ1.1 q := fun q hq => by rw [← hσ2]; exact cpO_ne hq
      have a2 : σ2.2 = σ1.2 := by rw [← hσ2]; rfl
      have a3 : TWat 1 0 S.1.1 σ2 := fun i hi => by rw [← hσ2]; exact cpO_in hi
      generalize hσ3 : twI (twI σ2 20 0) 18 0 = σ3
      have d1 : σ3.1 = σ2.1 := by rw [← hσ3]; rfl
      have d2 : ∀ k, (k < 16 ∨ 26 < k) → σ3.2 k = σ1.2 k := fun k hk => by rw [← hσ3, twI_n (by omega), twI_n (by omega), a2]
      have d18 : σ3.2 18 = Int32.ofNat 0 := by rw [← hσ3]; exact twI_k
      have d20 : σ3.2 20 = 0 := by rw [← hσ3, twI_n (by decide)]; exact twI_k
      obtain ⟨σ4, f4, p4, e4⟩ := tw_next (L := L) (p := 0) (x1.fr (by rw [d1, a1 8 (by decide)]) (d2 10 (by decide))) (by omega) d18 d20
      rw [e4, bd_J]
      have t4 : TW S.1.1 σ4 := i1.1.1.fr (by rw [f4.1, d1, a1 0 (by decide)])
      have hr := tw_readsRule i1.1.2.1.1 i1.1.2.1.h (show S.1.1 17 < 10 by omega) p4 t4
      have g1 : ∀ q, q ≠ 1 → σ4.1 q = σ1.1 q := fun q q1 => by rw [f4.1, d1, a1 q q1]
      have g2 : ∀ k, (k < 16 ∨ 26 < k) → σ4.2 k = σ1.2 k := fun k hk => by rw [f4.2 k (by omega), d2 k hk]
      have g3 : TWat 1 0 S.1.1 σ4 := fun i hi => by rw [f4.1, d1]; exact a3 i hi
      -- what fails is taken back
      have bad : ∀ (σ5 : twS) (e : Nat), frX σ4 σ5 → σ5.2 20 = Int32.ofNat e → ∃ σ6, TInv σ6 (S.1, S.2.1, S.2.2.1, [], S.2.2.2.2) ∧ σ6.2 13 = Int32.ofNat 0 ∧ bT_addRule_86 FU 0 σ5 = some (-2 - Int32.ofNat e, σ6) := by
        intro σ5 e f5 h20
        obtain ⟨σ6, k1, k2, k3, -, k4⟩ := tw_back (d := S.1.1) (σ := σ5) (fun i hi => by rw [f5.1 1 (by decide)]; exact g3 i hi)
        have m1 : ∀ q, q ≠ 0 → q ≠ 1 → σ6.1 q = σ1.1 q := fun q q0 q1 => by rw [k1 q q0, f5.1 q q0, g1 q q1]
        have m2 : ∀ k, (k < 16 ∨ 26 < k) → σ6.2 k = σ1.2 k := fun k hk => by rw [k2, f5.2 k hk, g2 k hk]
        obtain ⟨⟨hT, hW⟩, hP, hK, hB, hR, h8⟩ := i1
        exact ⟨σ6, ⟨⟨k3, hW⟩, hP.fr (m1 3 (by decide) (by decide)) (m2 5 (by decide)), hK.fr (m1 4 (by decide) (by decide)) (m2 6 (by decide)), hB.fr (m1 7 (by decide) (by decide)) (m2 9 (by decide)), hR.fr (m1 11 (by decide) (by decide)) (m2 12 (by decide)), h8⟩, (m2 13 (by decide)).trans z1', by rw [k4, h20]⟩
      cases hx : rRule S.1.1 L 0 with
      | inl e =>
        rw [hx] at hr
        obtain ⟨σ5, f5, h20, e5⟩ := hr
        rw [e5, bd_J, if_pos rfl]
        obtain ⟨h20, he1, he2⟩ := h20
        have he : e ≠ 0 ∧ e < 2147483648 := by omega
        have efail : mT_fail 1 σ5 = some (0, σ5) := by
          unfold mT_fail
          rw [h20, iJ_eqL he.2 (by decide), if_neg he.1, rz0]
        obtain ⟨σ6, i6, z6, e6⟩ := bad σ5 e f5 h20
        unfold bT_addRule_78
        rw [efail, bd_J]
        exact ⟨σ6, i6, z6, e6⟩
      | inr a =>
        rw [hx] at hr
        obtain ⟨σ5, f5, w5, e5⟩ := hr
        obtain ⟨r1, r2, ⟨had, r3⟩, r4⟩ := rRule_ok i1.1.2.1.1 i1.1.2.1.h (by omega) hx
        have hk := tkK_lt L a.2.2.2
        rw [e5, bd_J, if_neg (by decide), w5.1.2.2.1, iJ_eqL (by omega) (by decide)]
        dsimp only
        by_cases c0 : tkK L a.2.2.2 = 0
        · rw [if_pos (show tkK L a.2.2.2 = OfNat.ofNat 0 from c0), if_pos c0, tw_aldL w5.2.1 (by decide), show ruD (zrD S.1.1) (gFl a.1) a.2.1 a.2.2.1 (OfNat.ofNat 17) = S.1.1 17 from ruD_lo (by decide), J_addL, show (17 : Int32) = Int32.ofNat 17 from rfl, ast_J (by decide) (by decide)]
          have t6 : TW (adD S.1.1 a.1 a.2.1 a.2.2.1) (twA σ5 0 17 (Int32.ofNat (S.1.1 17 + 1))) := w5.2.1.st
          have hW6 := i1.1.2.add (show S.1.1 17 < 10 by omega) r2 r3 r4
          have hP6 : TP S.2.1 (twA σ5 0 17 (Int32.ofNat (S.1.1 17 + 1))) := i1.2.1.fr (by rw [twA_q (by decide), f5.1 3 (by decide), g1 3 (by decide)]) (by show σ5.2 5 = _; rw [f5.2 5 (by decide), g2 5 (by decide)])
          have hB6 : TWat 1 0 S.1.1 (twA σ5 0 17 (Int32.ofNat (S.1.1 17 + 1))) := fun i hi => by rw [twA_q (by decide), f5.1 1 (by decide)]; exact g3 i hi
          obtain ⟨σ7, f7, p7, e7⟩ := tw_remember hP6 hB6 hI.1.2
          have e7' : mT_remember (twA σ5 0 17 (Int32.ofNat (S.1.1 17 + OfNat.ofNat 1))) = some (0, σ7) := e7
          have t7 : TW (adD S.1.1 a.1 a.2.1 a.2.2.1) σ7 := t6.fr (f7.1 0 (by decide) (by decide))
          have m1 : ∀ q, q ≠ 0 → q ≠ 1 → q ≠ 3 → σ7.1 q = σ1.1 q := fun q q0 q1 q3 => by
            rw [f7.1 q q1 q3, twA_q q0, f5.1 q q0, g1 q q1]
          have m2 : ∀ k, (k < 16 ∨ 26 < k) → k ≠ 5 → σ7.2 k = σ1.2 k := fun k hk q5 => by
            rw [f7.2 k q5]
            show σ5.2 k = _
            rw [f5.2 k hk, g2 k hk]
          obtain ⟨⟨hT, hW⟩, hP, hK, hB, hR, h8⟩ := i1
          refine ⟨σ7, ⟨⟨t7, hW6⟩, p7, hK.fr (m1 4 (by decide) (by decide) (by decide)) (m2 6 (by decide) (by decide)), hB.fr (m1 7 (by decide) (by decide) (by decide)) (m2 9 (by decide) (by decide)), hR.fr (m1 11 (by decide) (by decide) (by decide)) (m2 12 (by decide) (by decide)), h8⟩, (m2 13 (by decide) (by decide)).trans z1', ?_⟩
          rw [e7', bd_J, tw_ald t7 (by decide), adD_17, J_subL (show OfNat.ofNat 1 ≤ S.1.1 17 + 1 from Nat.le_add_left 1 _)]
          rfl
        · rw [if_neg (show ¬ tkK L a.2.2.2 = OfNat.ofNat 0 from c0), if_neg c0]
          obtain ⟨σ6, f6, h20, e6⟩ := tw_fail (c := 1) w5.1
          obtain ⟨σ7, i7, z7, e7⟩ := bad σ6 _ (f5.trans f6.x) h20
          unfold bT_addRule_78
          rw [show (1 : Int32) = Int32.ofNat 1 from rfl, e6, bd_J]
          exact ⟨σ7, i7, z7, e7⟩
