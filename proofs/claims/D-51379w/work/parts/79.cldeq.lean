/-! THE PLAIN LAW, the class' side: the past; what is found is forgotten -/
set_option maxRecDepth 100000
theorem cU_id {σ : cS} {p : Nat} {e : cE} (h : σ.1 p = some e) : cU σ p e = σ := by
  unfold cU
  refine Prod.ext (funext fun q => ?_) rfl
  dsimp only
  by_cases c : q = p
  · rw [if_pos c, c, h]
  · rw [if_neg c]
theorem cl_forget {o : oW} {σ : cS} {a c : Nat} {L d : Nat → Nat} {t : Nat → Term} {f : Nat → Option Nat} (hS : SI o σ) (hC : WillC o σ a L d t) (h5 : σ.1 (L 5) = some (.inl (4, c, vR f))) (hc : c ≤ 256) : m_X4_forget a σ = some (0, cU σ (L 5) (.inl (4, c, vR (fun i => if i < c then none else f i)))) := by
  have hne : a ≠ L 5 := ne_role hC.ow.1 hC.o5 (by decide)
  have hw := hS.w hC.o5
  have h0 : b_X4_forget_2 a FU 0 (cU σ (L 5) (.inl (4, c, vR (fun i => if i < 0 then none else f i)))) = some (0, cU σ (L 5) (.inl (4, c, vR (fun i => if i < c then none else f i)))) := by
    refine loop_FU (fun g k => b_X4_forget_2 a g (Int32.ofNat k) (cU σ (L 5) (.inl (4, c, vR (fun i => if i < k then none else f i))))) (fun _ => some (0, cU σ (L 5) (.inl (4, c, vR (fun i => if i < c then none else f i))))) c (by omega) (fun g k hk ih => ?_) (fun g => ?_)
    · show b_X4_forget_2 a (g + 1) _ _ = _
      have wc : (cU σ (L 5) (.inl (4, c, vR (fun i => if i < k then none else f i)))).1 a = some (.inr (1, wF L d)) := by rw [cU_n hne]; exact hC.w
      have fc : (cU σ (L 5) (.inl (4, c, vR (fun i => if i < k then none else f i)))).1 (L 5) = some (.inl (4, c, vR (fun i => if i < k then none else f i))) := cU_s
      have e : va_up (fun i => if i < k then none else f i) k none = fun i => if i < k + 1 then none else f i := by
        funext i
        unfold va_up
        by_cases c1 : i = k
        · rw [if_pos c1, if_pos (by omega)]
        · rw [if_neg c1]
          show (if i < k then none else f i) = if i < k + 1 then none else f i
          by_cases c2 : i < k
          · rw [if_pos c2, if_pos (by omega)]
          · rw [if_neg c2, if_neg (by omega)]
      rw [b_X4_forget_2, gR_J wc rfl, aL_J fc (by show 4 < 6; decide)]
      dsimp only
      rw [iJ_le (by omega) (by omega), if_neg (by omega), gR_J wc rfl, sR_J fc rfl (by decide) hk (by omega) hw, cU_cU, e, lt_J, J_addL]
      exact ih
    · show b_X4_forget_2 a (g + 1) _ _ = _
      have wc : (cU σ (L 5) (.inl (4, c, vR (fun i => if i < c then none else f i)))).1 a = some (.inr (1, wF L d)) := by rw [cU_n hne]; exact hC.w
      have fc : (cU σ (L 5) (.inl (4, c, vR (fun i => if i < c then none else f i)))).1 (L 5) = some (.inl (4, c, vR (fun i => if i < c then none else f i))) := cU_s
      rw [b_X4_forget_2, gR_J wc rfl, aL_J fc (by show 4 < 6; decide)]
      dsimp only
      rw [iJ_le (by omega) (by omega), if_pos (Nat.le_refl _)]
  have e0 : (fun i => if i < 0 then none else f i) = f := by
    funext i
    rw [if_neg (Nat.not_lt_zero _)]
  rw [e0, cU_id h5] at h0
  exact h0
section DEQ
variable {o : oW} {σ : cS} {x dq : Nat} {PA : List Nat}
/-- what the deque's methods may touch -/
def DqM (o : oW) (x : Nat) : Nat → Prop := fun q => o q = (x + 1, 1) ∨ o q = (x + 1, 2)
theorem dq_add (hS : SI o σ) (h : DQc o σ x dq PA) (hl : PA.length ≤ 8) {w : Nat} (hw : okV σ 2 (some w) = true) : ∃ σ', m_J1_addLast dq (some w) σ = some (0, σ') ∧ DQc o σ' x dq (PA ++ [w]) ∧ Ch (DqM o x) σ σ' ∧ σ'.2 = σ.2 := by
  obtain ⟨h1, da, hd, f, h2, h3, h4, ⟨h5, h6⟩, h7⟩ := h
  have hne : dq ≠ da := ne_role h1 h2 (by decide)
  have w1 := hS.w h1
  have w2 := hS.w h2
  unfold m_J1_addLast
  have ht : (hd + PA.length) % 17 < 17 := Nat.mod_lt _ (by decide)
  rw [if_neg (fun w => by cases w), gR_J h3 rfl, gI_J h3 rfl, sR_J h4 hw (by decide) ht (by decide) w2]
  have c1 : (cU σ da (.inl (2, 17, vR (va_up f ((hd + PA.length) % 17) (some w))))).1 dq = some (.inr (10, [.ref da, .int (Int32.ofNat hd), .int (Int32.ofNat ((hd + PA.length) % 17))])) := by rw [cU_n hne]; exact h3
  have c2 : (cU σ da (.inl (2, 17, vR (va_up f ((hd + PA.length) % 17) (some w))))).1 da = some (.inl (2, 17, vR (va_up f ((hd + PA.length) % 17) (some w)))) := cU_s
  have C1 : Ch (DqM o x) σ (cU σ da (.inl (2, 17, vR (va_up f ((hd + PA.length) % 17) (some w))))) := Ch.rf.cU h4 (Or.inr (Or.inr h2))
  generalize hs1 : cU σ da (.inl (2, 17, vR (va_up f ((hd + PA.length) % 17) (some w)))) = σ1 at c1 c2 C1 ⊢
  have hinc : m_J1_inc (Int32.ofNat ((hd + PA.length) % 17)) (Int32.ofNat 17) σ1 = some (Int32.ofNat ((hd + (PA.length + 1)) % 17), σ1) := by
    unfold m_J1_inc
    rw [lt_J, J_addL, iJ_lt (by show _ + 1 < _; omega) (by decide)]
    by_cases c : (hd + PA.length) % 17 + 1 < 17
    · rw [if_pos (show _ + OfNat.ofNat 1 < 17 from c), show (hd + (PA.length + 1)) % 17 = (hd + PA.length) % 17 + OfNat.ofNat 1 by show _ = _ + 1; omega]
    · rw [if_neg (show ¬ _ + OfNat.ofNat 1 < 17 from c), show (hd + (PA.length + 1)) % 17 = 0 by omega]
      rfl
  rw [gI_J c1 rfl, gI_J c1 rfl, aL_J c2 (by show 2 < 6; decide)]
  dsimp only
  have k1 : σ1.2 = σ.2 := by rw [← hs1]; rfl
  rw [hinc, bd_J, pO_J c1 (by show 2 < 3; decide) (by rw [k1]; exact w1), iJ_eq (by omega) (by omega), if_neg (by omega)]
  refine ⟨_, rfl, ⟨h1, da, hd, va_up f ((hd + PA.length) % 17) (some w), h2, ?_, ?_, ⟨h5, ?_⟩, fun j p hj => ?_⟩, C1.cU c1 (Or.inr (Or.inl h1)), k1⟩
  · rw [cU_s, List.length_append]; rfl
  · rw [cU_n (Ne.symm hne)]; exact c2
  · rw [List.length_append]; show PA.length + 1 ≤ 9; omega
  · by_cases c : j < PA.length
    · rw [List.getElem?_append_left c] at hj
      rw [va_up_ne _ _ (by omega)]
      exact h7 j p hj
    · have hlt : j < (PA ++ [w]).length := (List.getElem?_eq_some_iff.mp hj).1
      rw [List.length_append] at hlt
      have hj0 : j = PA.length := by have : ([w] : List Nat).length = 1 := rfl; omega
      rw [hj0, List.getElem?_append_right (Nat.le_refl _), Nat.sub_self] at hj
      cases hj
      rw [hj0, va_up_self]
theorem dq_cell (h : DQc o σ x dq PA) : ∃ fs, σ.1 dq = some (.inr (10, fs)) := by
  obtain ⟨-, da, hd, f, -, h3, -⟩ := h
  exact ⟨_, h3⟩
/-- the first is taken out -/
theorem dq_first (hS : SI o σ) (h : DQc o σ x dq PA) {p : Nat} (hp : PA[0]? = some p) : ∃ σ', m_J1_removeFirst dq σ = some (some p, σ') ∧ DQc o σ' x dq PA.tail ∧ Ch (DqM o x) σ σ' ∧ σ'.2 = σ.2 := by
  obtain ⟨h1, da, hd, f, h2, h3, h4, ⟨h5, h6⟩, h7⟩ := h
  have hne : dq ≠ da := ne_role h1 h2 (by decide)
  have w1 := hS.w h1
  have w2 := hS.w h2
  have h0 : 0 < PA.length := (List.getElem?_eq_some_iff.mp hp).1
  have hf : f hd = some p := by have := h7 0 p hp; rwa [Nat.add_zero, Nat.mod_eq_of_lt h5] at this
  unfold m_J1_removeFirst m_J1_pollFirst m_J1_elementAt
  rw [nn_J h3, gR_J h3 rfl, gI_J h3 rfl, aR_J h4 (by decide) h5 (by decide), bd_J, hf, if_neg (fun w => by cases w), sR_J h4 (x := none) rfl (by decide) h5 (by decide) w2]
  have c1 : (cU σ da (.inl (2, 17, vR (va_up f hd none)))).1 dq = some (.inr (10, [.ref da, .int (Int32.ofNat hd), .int (Int32.ofNat ((hd + PA.length) % 17))])) := by rw [cU_n hne]; exact h3
  have c2 : (cU σ da (.inl (2, 17, vR (va_up f hd none)))).1 da = some (.inl (2, 17, vR (va_up f hd none))) := cU_s
  have C1 : Ch (DqM o x) σ (cU σ da (.inl (2, 17, vR (va_up f hd none)))) := Ch.rf.cU h4 (Or.inr (Or.inr h2))
  generalize hs1 : cU σ da (.inl (2, 17, vR (va_up f hd none))) = σ1 at c1 c2 C1 ⊢
  have k1 : σ1.2 = σ.2 := by rw [← hs1]; rfl
  have hinc : m_J1_inc (Int32.ofNat hd) (Int32.ofNat 17) σ1 = some (Int32.ofNat ((hd + 1) % 17), σ1) := by
    unfold m_J1_inc
    rw [lt_J, J_addL, iJ_lt (by show _ + 1 < _; omega) (by decide)]
    by_cases c : hd + 1 < 17
    · rw [if_pos (show _ + OfNat.ofNat 1 < 17 from c), Nat.mod_eq_of_lt c]
    · rw [if_neg (show ¬ _ + OfNat.ofNat 1 < 17 from c), show (hd + 1) % 17 = 0 by omega]
      rfl
  rw [aL_J c2 (by show 2 < 6; decide)]
  dsimp only
  rw [hinc, bd_J, pO_J c1 (by show 1 < 3; decide) (by rw [k1]; exact w1), bd_J, if_neg (fun w => by cases w)]
  refine ⟨_, rfl, ⟨h1, da, (hd + 1) % 17, va_up f hd none, h2, ?_, ?_, ⟨Nat.mod_lt _ (by decide), ?_⟩, fun j q hj => ?_⟩, C1.cU c1 (Or.inr (Or.inl h1)), k1⟩
  · rw [cU_s, List.length_tail, show ((hd + 1) % 17 + (PA.length - 1)) % 17 = (hd + PA.length) % 17 by omega]; rfl
  · rw [cU_n (Ne.symm hne)]; exact c2
  · rw [List.length_tail]; omega
  · rw [List.getElem?_tail] at hj
    have hlt : j + 1 < PA.length := (List.getElem?_eq_some_iff.mp hj).1
    rw [va_up_ne _ _ (by omega), show ((hd + 1) % 17 + j) % 17 = (hd + (j + 1)) % 17 by omega]
    exact h7 (j + 1) q hj
/-- the last is taken out -/
theorem dq_last (hS : SI o σ) {P0 : List Nat} {p : Nat} (h : DQc o σ x dq (P0 ++ [p])) : ∃ σ', m_J1_removeLast dq σ = some (some p, σ') ∧ DQc o σ' x dq P0 ∧ Ch (DqM o x) σ σ' ∧ σ'.2 = σ.2 := by
  obtain ⟨h1, da, hd, f, h2, h3, h4, ⟨h5, h6⟩, h7⟩ := h
  have hl : (P0 ++ [p]).length = P0.length + 1 := by simp
  rw [hl] at h3 h6
  have hne : dq ≠ da := ne_role h1 h2 (by decide)
  have w1 := hS.w h1
  have w2 := hS.w h2
  have ht : (hd + P0.length) % 17 < 17 := Nat.mod_lt _ (by decide)
  have hf : f ((hd + P0.length) % 17) = some p := h7 P0.length p (by rw [List.getElem?_append_right (Nat.le_refl _), Nat.sub_self]; rfl)
  have hdec : ∀ τ, m_J1_dec (Int32.ofNat ((hd + (P0.length + 1)) % 17)) (Int32.ofNat 17) τ = some (Int32.ofNat ((hd + P0.length) % 17), τ) := by
    intro τ
    unfold m_J1_dec
    by_cases c : (hd + (P0.length + 1)) % 17 = 0
    · rw [c, show (hd + P0.length) % 17 = 16 by omega]
      rfl
    · have e : Int32.ofNat ((hd + (P0.length + 1)) % 17) + (-1) = Int32.ofNat ((hd + P0.length) % 17) := by
        rw [← Int32.sub_eq_add_neg]
        rw [J_subL (show 1 ≤ _ by omega)]
        congr 1
        show _ - 1 = _
        omega
      rw [lt_J, e, iJ_leR (by decide) (by omega), if_pos (Nat.zero_le _)]
  unfold m_J1_removeLast m_J1_pollLast m_J1_elementAt
  rw [nn_J h3, gR_J h3 rfl, gI_J h3 rfl, aL_J h4 (by show 2 < 6; decide)]
  dsimp only
  rw [hdec, bd_J, aR_J h4 (by decide) ht (by decide), bd_J, hf, if_neg (fun w => by cases w), pO_J h3 (by show 2 < 3; decide) w1]
  have c2 : (cU σ dq (.inr (10, List.set [Value.ref da, .int (Int32.ofNat hd), .int (Int32.ofNat ((hd + (P0.length + 1)) % 17))] 2 (.int (Int32.ofNat ((hd + P0.length) % 17)))))).1 da = some (.inl (2, 17, vR f)) := by rw [cU_n (Ne.symm hne)]; exact h4
  rw [sR_J c2 (x := none) rfl (by decide) ht (by decide) w2, bd_J, if_neg (fun w => by cases w)]
  refine ⟨_, rfl, ⟨h1, da, hd, va_up f ((hd + P0.length) % 17) none, h2, ?_, cU_s, ⟨h5, by omega⟩, fun j q hj => ?_⟩, ?_, rfl⟩
  · rw [cU_n hne, cU_s]; rfl
  · have hlt : j < P0.length := (List.getElem?_eq_some_iff.mp hj).1
    rw [va_up_ne _ _ (by omega)]
    exact h7 j q (by rw [List.getElem?_append_left hlt]; exact hj)
  · exact (Ch.rf.cU h3 (Or.inr (Or.inl h1))).cU c2 (Or.inr (Or.inr h2))
theorem clr1 {da e : Nat} (he : e ≤ 17) : ∀ j k f (σ : cS) (g : Nat → Option Nat), k + j = e → j < f → σ.1 da = some (.inl (2, 17, vR g)) → σ.2 2 ≤ da → ∃ σ' g', b_J1_circularClear_12 f (some da) (Int32.ofNat k) (Int32.ofNat e) (Int32.ofNat e) σ = some (0, σ') ∧ σ'.1 da = some (.inl (2, 17, vR g')) ∧ Ch (fun q => q = da) σ σ' ∧ σ'.2 = σ.2 := by
  intro j
  induction j with
  | zero =>
    intro k f σ g hk hf h1 hw
    obtain ⟨f, rfl⟩ : ∃ f', f = f' + 1 := ⟨f - 1, by omega⟩
    rw [b_J1_circularClear_12, iJ_le (by omega) (by omega), if_pos (by omega), if_pos rfl]
    exact ⟨σ, g, rfl, h1, Ch.rf, rfl⟩
  | succ j ih =>
    intro k f σ g hk hf h1 hw
    obtain ⟨f, rfl⟩ : ∃ f', f = f' + 1 := ⟨f - 1, by omega⟩
    rw [b_J1_circularClear_12, iJ_le (by omega) (by omega), if_neg (by omega), sR_J h1 (x := none) rfl (by decide) (by omega) (by decide) hw, lt_J, J_addL]
    obtain ⟨σ', g', e1, e2, e3, e4⟩ := ih (k + 1) f _ _ (by omega) (by omega) (cU_s (σ := σ) (a := da) (e := .inl (2, 17, vR (va_up g k none)))) hw
    exact ⟨σ', g', e1, e2, ((Ch.rf (L := fun q => q = da)).cU h1 (Or.inr rfl)).trans e3, e4⟩
theorem clr2 {da e : Nat} (he : e < 17) : ∀ j k f (σ : cS) (g : Nat → Option Nat), k + j = 17 → j + 20 < f → σ.1 da = some (.inl (2, 17, vR g)) → σ.2 2 ≤ da → ∃ σ' g', b_J1_circularClear_12 f (some da) (Int32.ofNat k) (Int32.ofNat e) (Int32.ofNat 17) σ = some (0, σ') ∧ σ'.1 da = some (.inl (2, 17, vR g')) ∧ Ch (fun q => q = da) σ σ' ∧ σ'.2 = σ.2 := by
  intro j
  induction j with
  | zero =>
    intro k f σ g hk hf h1 hw
    have hk' : k = 17 := hk
    have hf' : 0 + 20 < f := hf
    obtain ⟨f, rfl⟩ : ∃ f', f = f' + 1 := ⟨f - 1, by omega⟩
    rw [b_J1_circularClear_12, iJ_le (by omega) (by omega), if_pos (by omega), iJ_eq (by omega) (by omega), if_neg (by omega)]
    exact clr1 (by omega) e 0 f σ g (by omega) (by omega) h1 hw
  | succ j ih =>
    intro k f σ g hk hf h1 hw
    obtain ⟨f, rfl⟩ : ∃ f', f = f' + 1 := ⟨f - 1, by omega⟩
    rw [b_J1_circularClear_12, iJ_le (by omega) (by omega), if_neg (by omega), sR_J h1 (x := none) rfl (by decide) (by omega) (by decide) hw, lt_J, J_addL]
    obtain ⟨σ', g', e1, e2, e3, e4⟩ := ih (k + 1) f _ _ (by omega) (by omega) (cU_s (σ := σ) (a := da) (e := .inl (2, 17, vR (va_up g k none)))) hw
    exact ⟨σ', g', e1, e2, ((Ch.rf (L := fun q => q = da)).cU h1 (Or.inr rfl)).trans e3, e4⟩
theorem dq_clear (hS : SI o σ) (h : DQc o σ x dq PA) : ∃ σ', m_J1_clear dq σ = some (0, σ') ∧ DQc o σ' x dq [] ∧ Ch (DqM o x) σ σ' ∧ σ'.2 = σ.2 := by
  obtain ⟨h1, da, hd, f, h2, h3, h4, ⟨h5, h6⟩, h7⟩ := h
  have hne : dq ≠ da := ne_role h1 h2 (by decide)
  have w1 := hS.w h1
  have w2 := hS.w h2
  have ht : (hd + PA.length) % 17 < 17 := Nat.mod_lt _ (by decide)
  have key : ∃ σ' g', m_J1_circularClear (some da) (Int32.ofNat hd) (Int32.ofNat ((hd + PA.length) % 17)) σ = some (0, σ') ∧ σ'.1 da = some (.inl (2, 17, vR g')) ∧ Ch (fun q => q = da) σ σ' ∧ σ'.2 = σ.2 := by
    unfold m_J1_circularClear
    rw [iJ_lt (by omega) (by omega)]
    by_cases c : (hd + PA.length) % 17 < hd
    · rw [if_pos c, aL_J h4 (by show 2 < 6; decide)]
      exact clr2 ht (17 - hd) hd FU σ f (by omega) (by show _ < 4096; omega) h4 w2
    · rw [if_neg c]
      exact clr1 (by omega) ((hd + PA.length) % 17 - hd) hd FU σ f (by omega) (by show _ < 4096; omega) h4 w2
  obtain ⟨σ', g', e1, e2, C1, k1⟩ := key
  have h3' : σ'.1 dq = some (.inr (10, [.ref da, .int (Int32.ofNat hd), .int (Int32.ofNat ((hd + PA.length) % 17))])) := C1.c hS.1 h3 hne
  unfold m_J1_clear
  rw [gR_J h3 rfl, gI_J h3 rfl, gI_J h3 rfl, e1, bd_J, pO_J h3' (by show 2 < 3; decide) (by rw [k1]; exact w1), pO_J cU_s (by show 1 < 3; decide) (by rw [cU_2, k1]; exact w1), cU_cU]
  refine ⟨_, rfl, ⟨h1, da, 0, g', h2, cU_s, ?_, ⟨by decide, by decide⟩, fun j p hj => by simp at hj⟩, ?_, k1⟩
  · rw [cU_n (Ne.symm hne)]; exact e2
  · exact (C1.mono (fun q _ w => by rw [w]; exact Or.inr h2)).cU h3' (Or.inr (Or.inl h1))
def keepL (PA : List Nat) (w : Nat) : List Nat := if PA.length = 8 then PA.tail ++ [w] else PA ++ [w]
theorem cl_keep {wa sl bu re : Nat} (hS : SI o σ) (hx : o x = (x + 1, 0)) (xc : σ.1 x = some (.inr (0, mF wa dq sl bu re))) (h : DQc o σ x dq PA) (hl : PA.length ≤ 8) {w : Nat} (hw : okV σ 2 (some w) = true) : ∃ σ', m_X1_keep x (some w) σ = some (0, σ') ∧ DQc o σ' x dq (keepL PA w) ∧ Ch (DqM o x) σ σ' ∧ σ'.2 = σ.2 := by
  obtain ⟨σ1, e1, D1, C1, k1⟩ := dq_add hS h hl hw
  have hxM : ∀ {τ : cS}, ¬ DqM o x x := fun w => by
    rcases w with w | w
    · rw [hx] at w; exact absurd (rn w) (by decide)
    · rw [hx] at w; exact absurd (rn w) (by decide)
  have x1 : σ1.1 x = some (.inr (0, mF wa dq sl bu re)) := C1.c hS.1 xc (hxM (τ := σ))
  have S1 := hS.ch C1
  have hlen : (PA ++ [w]).length = PA.length + 1 := by simp
  unfold m_X1_keep
  rw [gR_J xc rfl, dq_nn h, e1, bd_J, gR_J x1 rfl, dq_nn D1, dq_size D1, bd_J, hlen, iJ_leL (by omega) (by decide)]
  unfold keepL
  by_cases c : PA.length = 8
  · rw [if_neg (show ¬ PA.length + 1 ≤ OfNat.ofNat 8 by show ¬ _ ≤ 8; omega), if_pos c, gR_J x1 rfl, dq_nn D1]
    obtain ⟨p, hp⟩ : ∃ p, (PA ++ [w])[0]? = some p := ⟨_, List.getElem?_eq_getElem (by omega)⟩
    obtain ⟨σ2, e2, D2, C2, k2⟩ := dq_first S1 D1 hp
    rw [e2, bd_J]
    have et : (PA ++ [w]).tail = PA.tail ++ [w] := by
      cases PA with
      | nil => cases c
      | cons a l => rfl
    rw [et] at D2
    exact ⟨σ2, rfl, D2, C1.trans C2, k2.trans k1⟩
  · rw [if_pos (show PA.length + 1 ≤ OfNat.ofNat 8 by show _ ≤ 8; omega), if_neg c]
    exact ⟨σ1, rfl, D1, C1, k1⟩
end DEQ
