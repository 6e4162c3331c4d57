/-! THE PLAIN LAW: the built-in texts -/
set_option maxRecDepth 1000000
def bi0 : List Nat := [102, 97, 99, 116, 115, 32, 50, 32, 51, 59, 32, 104, 101, 105, 114, 115, 32, 51, 32, 114, 101, 115, 116, 32, 50, 59, 32, 114, 117, 108, 101, 32, 97, 32, 61, 32, 49, 32, 103, 105, 118, 101, 115, 32, 48, 32, 49, 47, 50, 44, 32, 49, 32, 49, 47, 52, 59, 32, 114, 117, 108, 101, 32, 98, 32, 62, 32, 48, 32, 97, 110, 100, 32, 110, 111, 116, 32, 97, 32, 61, 32, 49, 32, 103, 105, 118, 101, 115, 32, 49, 32, 49, 47, 51, 59, 32, 114, 117, 108, 101, 32, 97, 32, 61, 32, 49, 32, 97, 110, 100, 32, 98, 32, 61, 32, 50, 32, 103, 105, 118, 101, 115, 32, 48, 32, 50, 47, 51, 32, 111, 118, 101, 114, 32, 48, 59]
def bi1a : List Nat := [102, 97, 99, 116, 115, 32, 50, 32, 50, 32, 50, 32, 50, 59, 32, 104, 101, 105, 114, 115, 32, 52, 32, 114, 101, 115, 116, 32, 48, 59, 32, 101, 115, 116, 97, 116, 101, 32, 57, 48, 48, 48, 59, 32, 104, 101, 105, 114, 32, 49, 32, 102, 114, 101, 101, 32, 53, 48, 48, 32, 114, 97, 116, 101, 32, 50, 48, 59, 32, 114, 117, 108, 101, 32, 97, 32, 61, 32, 49, 32, 111, 114, 32, 98, 32, 61, 32, 49, 32, 97, 110, 100, 32, 99, 32, 61, 32, 49, 32, 103, 105, 118, 101, 115, 32, 49, 32, 49, 47, 52, 44, 32, 50, 32, 49, 47, 52, 44, 32, 51, 32, 49, 47, 52, 59, 32]
def bi1b : List Nat := [114, 117, 108, 101, 32, 40, 97, 32, 61, 32, 49, 32, 111, 114, 32, 98, 32, 61, 32, 49, 41, 32, 97, 110, 100, 32, 99, 32, 61, 32, 49, 32, 103, 105, 118, 101, 115, 32, 51, 32, 49, 47, 49, 50, 32, 111, 118, 101, 114, 32, 48, 59, 32, 114, 117, 108, 101, 32, 110, 111, 116, 32, 40, 97, 32, 61, 32, 49, 32, 111, 114, 32, 100, 32, 61, 32, 49, 41, 32, 103, 105, 118, 101, 115, 32, 110, 111, 116, 104, 105, 110, 103, 59, 32, 114, 117, 108, 101, 32, 100, 32, 61, 32, 49, 32, 103, 105, 118, 101, 115, 32, 50, 32, 49, 47, 49, 50, 44, 32, 51, 32, 53, 47, 49, 50, 32, 111, 118, 101, 114, 32, 49, 59]
def bi2 : List Nat := [102, 97, 99, 116, 115, 32, 52, 59, 32, 104, 101, 105, 114, 115, 32, 49, 32, 114, 101, 115, 116, 32, 48, 59, 32, 101, 115, 116, 97, 116, 101, 32, 48, 59, 32, 114, 117, 108, 101, 32, 97, 32, 60, 32, 49, 32, 103, 105, 118, 101, 115, 32, 48, 32, 49, 47, 49, 59, 32, 114, 117, 108, 101, 32, 97, 32, 62, 32, 50, 32, 103, 105, 118, 101, 115, 32, 110, 111, 116, 104, 105, 110, 103, 32, 111, 118, 101, 114, 32, 48, 59, 32, 114, 117, 108, 101, 32, 97, 108, 119, 97, 121, 115, 32, 103, 105, 118, 101, 115, 32, 110, 111, 116, 104, 105, 110, 103, 59]
def biN (k : Nat) : List Nat := if k = 0 then bi0 else if k = 1 then bi1a ++ bi1b else bi2
def okP {α : Type} : PR α → Bool
  | .inl _ => false
  | .inr _ => true
theorem bi2_ok : okP (rAll bi2) = true := by decide +kernel
theorem bi0_ok : okP (rAll bi0) = true := by decide +kernel
theorem bi1_ok : okP (rAll (bi1a ++ bi1b)) = true := by decide +kernel
theorem bi_ok {k : Nat} (hk : k < 3) : ∃ W, rAll (biN k) = .inr W := by
  have h : okP (rAll (biN k)) = true := by
    obtain rfl | rfl | rfl : k = 0 ∨ k = 1 ∨ k = 2 := by omega
    · exact bi0_ok
    · exact bi1_ok
    · exact bi2_ok
  cases hx : rAll (biN k) with
  | inl e => rw [hx] at h; cases h
  | inr W => exact ⟨W, rfl⟩
theorem tw_parseOk {d : Nat → Nat} {σ : twS} {B R L : List Nat} {W : Wl} (hT : TW d σ) (hX : TXt L σ) (hx : rAll L = .inr W) (hB : TB B σ) (hR : RP σ R) (h8 : ∀ x, x ∈ R → x < 256) : ∃ σ', TInv σ' (W, [], kNone, B, R) ∧ σ'.2 13 = σ.2 13 ∧ mT_parseAll σ = some (1, σ') := by
  have hl := hX.1
  obtain ⟨σ1, a1, a2, a3, a4, a5⟩ := tw_all2 (d := d) 358 0 FU σ (by omega) (by decide) (fun i hi => by rw [if_neg (by omega)]; exact hT i hi) (fun i hi => by omega)
  obtain ⟨σ2, b1, b2, b3, b4⟩ := tw_all46 4 0 FU (twA σ1 0 7 (Int32.ofNat 1000)) (by omega) (by decide) (fun i hi => by
    rw [twA_at]
    by_cases c : i = 7
    · rw [if_pos c, if_pos c]
    · rw [if_neg c, if_neg c, a3 i hi, if_neg (by omega)]
      rfl)
  have c1 : ∀ q, q ≠ 0 → q ≠ 1 → σ2.1 q = σ.1 q := fun q q0 q1 => by rw [b1 q q0, ← a1 q q0 q1]; simp [twA, q0]
  have c2 : σ2.2 = σ.2 := by rw [b2]; exact a2
  have e1 : mT_parseAll σ = bd (mT_next (twI (twI σ2 20 0) 18 0)) fun _ σ_4 => bd (mT_reads σ_4) fun v_5 σ_6 => if v_5 = 0 then bT_parseAll_95 FU 0 σ_6 else lt_ (twI σ_6 5 0) fun σ_8 => lt_ (twI σ_8 6 0) fun σ_9 => rz 1 σ_9 := by
    show bT_parseAll_2 FU (Int32.ofNat 0) σ = _
    rw [a5, bT_parseAll_2, if_pos (by decide), show (7 : Int32) = Int32.ofNat 7 from rfl, ast_J (by decide) (by decide)]
    show bT_parseAll_46 FU (Int32.ofNat 0) (twA σ1 0 7 (Int32.ofNat 1000)) = _
    rw [b4, bT_parseAll_46, if_pos (by decide), lt_J, lt_J]
  rw [e1]
  generalize hσ3 : twI (twI σ2 20 0) 18 0 = σ3
  have d1 : σ3.1 = σ2.1 := by rw [← hσ3]; rfl
  have d2 : ∀ k, (k < 16 ∨ 26 < k) → σ3.2 k = σ.2 k := fun k hk => by rw [← hσ3, twI_n (by omega), twI_n (by omega), c2]
  have d18 : σ3.2 18 = Int32.ofNat 0 := by rw [← hσ3]; exact twI_k
  have d20 : σ3.2 20 = 0 := by rw [← hσ3, twI_n (by decide)]; exact twI_k
  obtain ⟨σ4, f4, p4, e4⟩ := tw_next (L := L) (p := 0) (hX.fr (by rw [d1, c1 8 (by decide) (by decide)]) (d2 10 (by decide))) (by omega) d18 d20
  have w4 : RL d0N L 0 σ4 := ⟨p4, b3.fr (by rw [f4.1, d1])⟩
  rw [e4, bd_J]
  have hr := tw_reads w4
  have g1 : ∀ q, q ≠ 0 → q ≠ 1 → σ4.1 q = σ.1 q := fun q q0 q1 => by rw [f4.1, d1, c1 q q0 q1]
  have g2 : ∀ k, (k < 16 ∨ 26 < k) → σ4.2 k = σ.2 k := fun k hk => by rw [f4.2 k (by omega), d2 k hk]
  rw [hx] at hr
  obtain ⟨σ5, f5, t5, e5⟩ := hr
  rw [e5, bd_J, if_neg (by decide), lt_J, lt_J]
  have m1 : ∀ q, q ≠ 0 → q ≠ 1 → σ5.1 q = σ.1 q := fun q q0 q1 => by rw [f5.1 q q0, g1 q q0 q1]
  have m2 : ∀ k, (k < 16 ∨ 26 < k) → k ≠ 5 → k ≠ 6 → (twI (twI σ5 5 0) 6 0).2 k = σ.2 k := fun k hk q5 q6 => by rw [twI_n q6, twI_n q5, f5.2 k hk, g2 k hk]
  exact ⟨twI (twI σ5 5 0) 6 0, ⟨⟨twI_tw (twI_tw t5), rAll_ok hx⟩, TP_nil ((twI_n (by decide)).trans twI_k), TK_none twI_k, hB.fr (m1 7 (by decide) (by decide)) (m2 9 (by decide) (by decide) (by decide)), hR.fr (m1 11 (by decide) (by decide)) (m2 12 (by decide) (by decide) (by decide)), h8⟩, m2 13 (by decide) (by decide) (by decide), rz1⟩
/-- what telling leaves -/
def frL (a b : twS) : Prop := (∀ q, q ≠ 8 → b.1 q = a.1 q) ∧ ∀ k, k ≠ 10 → b.2 k = a.2 k
theorem frL.rf {a : twS} : frL a a := ⟨fun _ _ => rfl, fun _ _ => rfl⟩
theorem frL.trans {a b c : twS} (h : frL a b) (h' : frL b c) : frL a c := ⟨fun q h1 => (h'.1 q h1).trans (h.1 q h1), fun k hk => (h'.2 k hk).trans (h.2 k hk)⟩
theorem tw_tell {t1 : List Int32} {s : List Nat} (ht : t1 = s.map Int32.ofNat) (hs : ∀ x, x ∈ s → x < 256) : ∀ v u f (σ : twS) (L : List Nat), s = u ++ v → v.length < f → (L ++ s).length ≤ 700 → TXt (L ++ u) σ → ∃ σ', frL σ σ' ∧ TXt (L ++ s) σ' ∧ bT_tell_2 t1 f (Int32.ofNat u.length) σ = some (0, σ') := by
  intro v
  induction v with
  | nil =>
    intro u f σ L e hf hL h
    obtain ⟨f, rfl⟩ : ∃ f', f = f' + 1 := ⟨f - 1, by simp at hf; omega⟩
    have e2 : t1.length = u.length := by rw [ht, e]; simp
    refine ⟨σ, frL.rf, by rw [show s = u by simpa using e]; exact h, ?_⟩
    rw [bT_tell_2, e2]
    show (if Int32.ofNat u.length ≤ Int32.ofNat u.length then _ else _) = _
    rw [if_pos (Int32.le_refl _)]
  | cons c v ih =>
    intro u f σ L e hf hL h
    obtain ⟨f, rfl⟩ : ∃ f', f = f' + 1 := ⟨f - 1, by simp at hf; omega⟩
    have e2 : t1.length = u.length + (v.length + 1) := by rw [ht, e]; simp
    have e3 : s.length = u.length + (v.length + 1) := by rw [e]; simp
    have hc : c < 256 := hs c (by rw [e]; simp)
    have hl : L.length + s.length ≤ 700 := by rw [List.length_append] at hL; exact hL
    have e4 : t1.getD u.length 0 = Int32.ofNat c := by
      rw [ht, e, List.getD_eq_getElem?_getD, List.map_append, List.getElem?_append_right (by simp)]
      simp
    have e5 : t1.getD u.length 0 &&& 255 = Int32.ofNat c := by
      rw [e4]
      show Int32.ofNat c &&& Int32.ofNat 255 = _
      rw [J_and, show c &&& 255 = c from by
        rw [show (255 : Nat) = 2 ^ 8 - 1 from rfl, Nat.and_two_pow_sub_one_eq_mod]
        exact Nat.mod_eq_of_lt hc]
    have e6 : (L ++ u).length = L.length + u.length := List.length_append
    have hX : TXt (L ++ (u ++ [c])) (twI (twA σ 8 (L ++ u).length (Int32.ofNat c)) 10 (Int32.ofNat ((L ++ u).length + 1))) := by
      refine ⟨by simp; omega, fun x hx => ?_, by rw [twI_k]; exact congrArg Int32.ofNat (by simp [Nat.add_assoc]), fun i hi => ?_⟩
      · rw [← List.append_assoc, List.mem_append] at hx
        rcases hx with hx | hx
        · exact h.2.1 x hx
        · have : x = c := by simpa using hx
          omega
      · have hi2 : i < (L ++ u).length + 1 := by simp at hi ⊢; omega
        rw [twI_1, twA_at, ← List.append_assoc]
        by_cases q : i = (L ++ u).length
        · rw [if_pos q, q, show (L ++ u).length = (L ++ u).length + 0 from rfl, getD_r]
          rfl
        · rw [if_neg q, getD_l (by omega)]
          exact h.2.2.2 i (by omega)
    obtain ⟨σ', f1, x1, r1⟩ := ih (u ++ [c]) f _ L (by rw [e]; simp) (by simp at hf; omega) hL hX
    refine ⟨σ', frL.trans ⟨fun q hq => by rw [twI_1, twA_q hq], fun k hk => by rw [twI_n hk]; rfl⟩ f1, x1, ?_⟩
    rw [bT_tell_2, e2]
    show (if Int32.ofNat (u.length + (v.length + 1)) ≤ Int32.ofNat u.length then _ else _) = _
    rw [iJ_le (by omega) (by omega), if_neg (by omega)]
    unfold chA
    rw [if_neg (by
      rintro (q | q)
      · rw [J_nn (by omega)] at q; exact q
      · rw [J_cl (by omega), e2] at q; omega), J_cl (by omega), e5]
    dsimp only
    rw [h.2.2.1, ast_J (by omega) (by decide), lt_J]
    have e9 : (twA σ 8 (L ++ u).length (Int32.ofNat c)).2 10 = Int32.ofNat (L ++ u).length := h.2.2.1
    rw [e9, J_addL, lt_J, J_addL]
    rw [List.length_append] at r1
    exact r1
theorem tw_tell1 {t1 : List Int32} {s : List Nat} (ht : t1 = s.map Int32.ofNat) (hs : ∀ x, x ∈ s → x < 256) {σ : twS} {L : List Nat} (hL : (L ++ s).length ≤ 700) (h : TXt L σ) : ∃ σ', frL σ σ' ∧ TXt (L ++ s) σ' ∧ mT_tell t1 σ = some (0, σ') := tw_tell ht hs s [] FU σ L rfl (by rw [List.length_append] at hL; show _ < 4096; omega) hL (by rw [List.append_nil]; exact h)
theorem TXt_nil {σ : twS} : TXt [] (twI σ 10 0) := ⟨by decide, (fun x hx => by cases hx), twI_k, fun i hi => by simp at hi⟩
theorem tw_lay {d : Nat → Nat} {σ : twS} {B R : List Nat} {k : Nat} {W : Wl} (hk : k < 3) (hT : TW d σ) (hx : rAll (biN k) = .inr W) (hB : TB B σ) (hR : RP σ R) (h8 : ∀ x, x ∈ R → x < 256) : ∃ σ', TInv σ' (W, [], kNone, B, R) ∧ σ'.2 13 = σ.2 13 ∧ mT_lay (Int32.ofNat k) σ = some (0, σ') := by
  unfold mT_lay
  rw [lt_J]
  have f0 : frL σ (twI σ 10 0) := ⟨fun _ _ => rfl, fun k hk => twI_n hk⟩
  have x0 := TXt_nil (σ := σ)
  generalize twI σ 10 0 = σ0 at f0 x0 ⊢
  have last : ∀ σ1, frL σ0 σ1 → TXt (biN k) σ1 → ∃ σ', TInv σ' (W, [], kNone, B, R) ∧ σ'.2 13 = σ.2 13 ∧ bT_lay_62 σ1 = some (0, σ') := by
    intro σ1 f1 x1
    have f := f0.trans f1
    obtain ⟨σ2, i2, z2, e2⟩ := tw_parseOk (hT.fr (f.1 0 (by decide))) x1 hx (hB.fr (f.1 7 (by decide)) (f.2 9 (by decide))) (hR.fr (f.1 11 (by decide)) (f.2 12 (by decide))) h8
    refine ⟨σ2, i2, z2.trans (f.2 13 (by decide)), ?_⟩
    unfold bT_lay_62
    rw [e2, bd_J]
  obtain rfl | rfl | rfl : k = 0 ∨ k = 1 ∨ k = 2 := by omega
  · rw [if_pos (by decide)]
    obtain ⟨σ1, f1, x1, e1⟩ := tw_tell1 (t1 := tS_122) (s := bi0) (L := []) (by rfl) (by decide) (by decide) x0
    rw [e1, bd_J]
    exact last σ1 f1 x1
  · rw [if_neg (by decide), if_pos (by decide)]
    obtain ⟨σ1, f1, x1, e1⟩ := tw_tell1 (t1 := tS_128) (s := bi1a) (L := []) (by rfl) (by decide) (by decide) x0
    rw [List.nil_append] at x1
    obtain ⟨σ2, f2, x2, e2⟩ := tw_tell1 (t1 := tS_130) (s := bi1b) (L := bi1a) (by rfl) (by decide) (by decide) x1
    rw [e1, bd_J, e2, bd_J]
    exact last σ2 (f1.trans f2) x2
  · rw [if_neg (by decide), if_neg (by decide)]
    obtain ⟨σ1, f1, x1, e1⟩ := tw_tell1 (t1 := tS_132) (s := bi2) (L := []) (by rfl) (by decide) (by decide) x0
    rw [e1, bd_J]
    exact last σ1 f1 x1
def sp_load (x1 : Int32) (S : SS) : Nat × Int32 × SS := if inB x1 3 then (match rAll (biN x1.toNatClampNeg) with
  | .inl _ => (0, 0, S)
  | .inr W => (0, Int32.ofNat (W.1 17), (W, [], kNone, S.2.2.2))) else (1, 0, S)
theorem pt_load {σ : twS} {S : SS} (hI : TInv σ S) (x1 : Int32) : TRs (mT_load x1 σ) (sp_load x1 S) := by
  unfold mT_load sp_load
  rw [tw_inI (n := 3) (by decide), bd_J, ite_pq (b32_0 _)]
  cases hb : inB x1 3 with
  | false =>
    rw [if_pos rfl, if_neg (show ¬ (false = true) from by decide)]
    unfold bT_load_15
    rw [show mT_throwsOne 1 σ = some (1, twI σ 13 1) from rfl, bd_J, if_neg (by decide)]
    exact TRs.t hI (k := 1) rfl
  | true =>
    rw [if_neg (by decide), if_pos rfl]
    obtain ⟨k, hk, rfl⟩ := inB_of hb
    unfold bT_load_15
    rw [show mT_throwsOne 0 σ = some (0, twI σ 13 0) from rfl, bd_J, if_pos rfl, J_cl (by omega)]
    obtain ⟨W, hW⟩ := bi_ok hk
    have hI0 := hI.q (frP0 (x := 0))
    obtain ⟨σ1, i1, z1, e1⟩ := tw_lay hk hI0.1.1 hW hI0.2.2.2.1 hI0.2.2.2.2.1 hI0.2.2.2.2.2
    rw [e1, bd_J, hW, tw_aldL i1.1.1 (by decide)]
    exact ⟨σ1, i1, z1, rfl⟩
