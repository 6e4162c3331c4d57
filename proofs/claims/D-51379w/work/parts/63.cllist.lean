/-! THE PLAIN LAW, the class' side: lists that grow and shrink -/
set_option maxRecDepth 100000
theorem okV_U {σ : cS} {a c q : Nat} {fs : List Value} (h : okV σ 2 (some q) = true) (hc : c < 14) : okV (cU σ a (.inr (c, fs))) 2 (some q) = true := by
  by_cases e : q = a
  · rw [e]; exact okV_J cU_s (decide_eq_true hc)
  · unfold okV at h ⊢
    dsimp only at h ⊢
    rw [cU_n e]
    exact h
theorem okV_to {σ σ' : cS} {q kd : Nat} (h : okV σ kd (some q) = true) (e : σ'.1 q = σ.1 q) : okV σ' kd (some q) = true := by
  unfold okV at h ⊢
  dsimp only at h ⊢
  rw [e]
  exact h
theorem okV_n {σ : cS} {q kd : Nat} (h : okV σ kd (some q) = true) : ∃ o, σ.1 q = some (.inr o) := by
  unfold okV at h
  dsimp only at h
  split at h
  · next o ho => exact ⟨o, ho⟩
  · cases h
theorem okV_c {L : Nat → Prop} {σ σ' : cS} {q kd : Nat} (h : okV σ kd (some q) = true) (hC : Ch L σ σ') (hW : Wf σ) (hL : ¬ L q) : okV σ' kd (some q) = true := by
  obtain ⟨o, ho⟩ := okV_n h
  exact okV_to h (hC.1 q (hW.lt ho) hL)
theorem AL.grow {σ : cS} {li ar n a b : Nat} {mc : Int32} {r : Nat → Nat} {f : Nat → Option Nat} (h1 : σ.1 li = some (.inr (9, [.int mc, .ref ar, .int (Int32.ofNat n)]))) (g1 : σ.1 ar = some (.inl (2, n, vR f))) (g3 : ∀ i, i < n → f i = some (r i)) (g4 : n = 0 ∧ ar = σ.2 15 ∨ n = 10) (hW : Wf σ) (h2 : σ.2 2 ≤ σ.2 0) (hl : σ.2 2 ≤ li) (hv : ∀ i, i < n → okV σ 2 (some (r i)) = true) (hR : Rm σ (a + 1) (b + 15)) : ∃ σ' cap' f', m_J18_grow li σ = some (some (σ.2 0), σ') ∧ σ'.1 li = some (.inr (9, [.int mc, .ref (σ.2 0), .int (Int32.ofNat n)])) ∧ σ'.1 (σ.2 0) = some (.inl (2, cap', vR f')) ∧ n < cap' ∧ (cap' = 10 ∨ cap' = 15) ∧ (∀ i, i < n → f' i = some (r i)) ∧ Ch (fun q => q = li) σ σ' ∧ Rm σ' a b := by
  have hl0 := hW.lt h1
  have ha0 := hW.lt g1
  unfold m_J18_grow
  rw [gI_J h1 rfl, nn_J h1]
  unfold m_J18_grow_2
  rw [gR_J h1 rfl, aL_J g1 (by show 2 < 6; decide)]
  dsimp only
  rcases g4 with ⟨rfl, g4⟩ | rfl
  · rw [if_neg (by decide), gR_J h1 rfl, if_pos (by rw [g4]), lt_J, if_neg (by decide), show (10 : Int32) = Int32.ofNat 10 from rfl, nA_J (by decide) hR.a (Rm.b (m := b + 5) hR)]
    have c1 : (cN σ (.inl (2, 10, vR (fun _ => none))) 10).1 li = some (.inr (9, [.int mc, .ref ar, .int (Int32.ofNat 0)])) := by rw [cN_n (by omega)]; exact h1
    rw [pO_J c1 (by show 1 < 3; decide) (by rw [cN_k (by decide)]; exact hl), bd_J]
    refine ⟨_, 10, fun _ => none, rfl, cU_s, ?_, by decide, Or.inl rfl, fun i hi => absurd hi (Nat.not_lt_zero _), ?_, ?_⟩
    · rw [cU_n (by omega), cN_s]
    · exact (Ch.cN Ch.rf).cU c1 (Or.inr rfl)
    · exact Rm.cU (Rm.cN (hR.le (by omega) (by omega)))
  · rw [if_pos (by decide)]
    unfold b_J18_grow_2_20
    have e : m_J15_newLength (Int32.ofNat 10) (Int32.ofNat 10 + 1 - Int32.ofNat 10) (Int32.ofNat 10 >>> (1 &&& 31)) σ = some (Int32.ofNat 15, σ) := by rfl
    rw [e, bd_J, gR_J h1 rfl]
    unfold m_J9_copyOf_2 gcl ckd
    dsimp only
    rw [g1]
    dsimp only
    rw [if_pos (by decide)]
    unfold m_J9_copyOf_3
    rw [if_pos rfl, nA_J (by decide) hR.a hR.b]
    unfold b_J9_copyOf_3_24
    have c1 : (cN σ (.inl (2, 15, vR (fun _ => none))) 15).1 ar = some (.inl (2, 10, vR f)) := by rw [cN_n (by omega)]; exact g1
    have c2 : (cN σ (.inl (2, 15, vR (fun _ => none))) 15).1 li = some (.inr (9, [.int mc, .ref ar, .int (Int32.ofNat 10)])) := by rw [cN_n (by omega)]; exact h1
    have c0 : σ.2 2 ≤ σ.2 0 := h2
    rw [aL_J c1 (by show 2 < 6; decide), lt_J]
    dsimp only
    rw [if_neg (by decide), show (0 : Int32) = Int32.ofNat 0 from rfl, cpR_J c1 cN_s (by decide) (by decide) (by decide) (by decide) (by rw [cN_k (by decide)]; exact c0) (fun q hq => by
      rw [Nat.zero_add, g3 q hq]
      refine okV_to (hv q hq) (cN_n ?_)
      obtain ⟨w, hw⟩ := okV_n (hv q hq)
      have := hW.lt hw
      omega), bd_J, bd_J]
    have c3 : (cU (cN σ (.inl (2, 15, vR (fun _ => none))) 15) (σ.2 0) (.inl (2, 15, vR (va_cpy f (fun _ => none) 0 0 10)))).1 li = some (.inr (9, [.int mc, .ref ar, .int (Int32.ofNat 10)])) := by rw [cU_n (by omega)]; exact c2
    rw [pO_J c3 (by show 1 < 3; decide) (by rw [cU_2, cN_k (by decide)]; exact hl), bd_J]
    refine ⟨_, 15, va_cpy f (fun _ => none) 0 0 10, rfl, cU_s, ?_, by decide, Or.inr rfl, fun i hi => ?_, ?_, ?_⟩
    · rw [cU_n (by omega), cU_s]
    · rw [pk_cpy_in (by omega) (by omega), Nat.zero_add, Nat.sub_zero]; exact g3 i hi
    · exact (((Ch.cN Ch.rf).cU cN_s (Or.inl (Nat.le_refl _))).cU c3 (Or.inr rfl))
    · exact Rm.cU (Rm.cU (Rm.cN hR))
theorem AL.add {σ : cS} {li ar n x a b : Nat} {r : Nat → Nat} (h : AL σ li ar n r) (hW : Wf σ) (h2 : σ.2 2 ≤ σ.2 0) (hl : σ.2 2 ≤ li) (ha : ar ≠ σ.2 15 → σ.2 2 ≤ ar) (h15 : ∃ f0, σ.1 (σ.2 15) = some (.inl (2, 0, vR f0))) (hx : okV σ 2 (some x) = true) (hv : ∀ i, i < n → okV σ 2 (some (r i)) = true) (hn : n < 15) (hR : Rm σ (a + 1) (b + 15)) : ∃ σ' ar', m_J18_add li (some x) σ = some (1, σ') ∧ AL σ' li ar' (n + 1) (fun i => if i = n then x else r i) ∧ (ar' = ar ∧ ar ≠ σ.2 15 ∨ ar' = σ.2 0) ∧ Ch (fun q => q = li ∨ q = ar ∧ ar ≠ σ.2 15) σ σ' ∧ Rm σ' a b := by
  obtain ⟨⟨mc, h1⟩, cap, f, g1, g2, g3, g4⟩ := h
  have hla : li ≠ ar := fun w => by rw [w, g1] at h1; cases h1
  have hl0 := hW.lt h1
  have ha0 := hW.lt g1
  unfold m_J18_add
  rw [gI_J h1 rfl, pO_J h1 (by show 0 < 3; decide) hl]
  generalize hs : cU σ li (.inr (9, List.set [Value.int mc, .ref ar, .int (Int32.ofNat n)] 0 (.int (mc + 1)))) = σ1
  have c1 : σ1.1 li = some (.inr (9, [.int (mc + 1), .ref ar, .int (Int32.ofNat n)])) := by rw [← hs]; exact cU_s
  have c2 : σ1.1 ar = some (.inl (2, cap, vR f)) := by rw [← hs, cU_n (Ne.symm hla)]; exact g1
  have C1 : Ch (fun q => q = li ∨ q = ar ∧ ar ≠ σ.2 15) σ σ1 := by rw [← hs]; exact Ch.rf.cU h1 (Or.inr (Or.inl rfl))
  have v1 : ∀ q, okV σ 2 (some q) = true → okV σ1 2 (some q) = true := fun q hq => by rw [← hs]; exact okV_U hq (by decide)
  have R1 : Rm σ1 (a + 1) (b + 15) := by rw [← hs]; exact hR
  have W1 : Wf σ1 := C1.2.2.2.2 hW
  have n1 : σ1.2 0 = σ.2 0 := by rw [← hs]; rfl
  have k1 : ∀ k, σ1.2 k = σ.2 k := fun k => by rw [← hs]; rfl
  clear hs
  rw [gR_J c1 rfl, gI_J c1 rfl, nn_J c1]
  unfold m_J18_add_2
  rw [aL_J c2 (by show 2 < 6; decide)]
  dsimp only
  rw [iJ_eq (by omega) (by omega)]
  by_cases hc : n = cap
  · rw [if_pos hc, nn_J c1]
    subst hc
    obtain ⟨σ2, cap', f', e2, d1, d2, d3, d4, d5, C2, R2⟩ := AL.grow (r := r) c1 c2 g3 (by rw [k1]; omega) W1 (by rw [k1, k1]; exact h2) (by rw [k1]; exact hl) (fun i hi => v1 _ (hv i hi)) R1
    rw [e2, bd_J]
    unfold b_J18_add_2_11
    have hln : li ≠ σ1.2 0 := by omega
    have W2 := C2.2.2.2.2 W1
    have C2' : Ch (fun q => q = li ∨ q = ar ∧ ar ≠ σ.2 15) σ σ2 := C1.trans (C2.mono fun q _ hq => Or.inl hq)
    have hxo : okV σ2 2 (some x) = true := by
      by_cases e : x = li
      · rw [e]; exact okV_J d1 (by decide)
      · exact okV_c (v1 x hx) C2 W1 e
    rw [sR_J d2 hxo (by decide) d3 (by omega) (by rw [C2.k (by decide), k1, k1]; exact h2)]
    have d6 : (cU σ2 (σ1.2 0) (.inl (2, cap', vR (va_up f' n (some x))))).1 li = some (.inr (9, [.int (mc + 1), .ref (σ1.2 0), .int (Int32.ofNat n)])) := by rw [cU_n hln]; exact d1
    rw [pO_J d6 (by show 2 < 3; decide) (by rw [cU_2, C2.k (by decide), k1]; exact hl), bd_J]
    refine ⟨_, σ1.2 0, rfl, ⟨⟨mc + 1, ?_⟩, cap', va_up f' n (some x), ?_, d3, fun i hi => ?_, Or.inr d4⟩, Or.inr (k1 0), ?_, R2⟩
    · rw [cU_s, J_addL]; rfl
    · rw [cU_n (Ne.symm hln), cU_s]
    · show _ = some (if i = n then x else r i)
      by_cases e : i = n
      · rw [e, va_up_self, if_pos rfl]
      · rw [va_up_ne _ _ e, if_neg e]; exact d5 i (by omega)
    · exact (C2'.cU d2 (Or.inl (by omega))).cU d6 (Or.inr (Or.inl rfl))
  · rw [if_neg hc]
    unfold b_J18_add_2_11
    have hne : ar ≠ σ.2 15 := fun w => by
      obtain ⟨f0, h15⟩ := h15
      rw [w, h15] at g1
      cases g1
      omega
    rw [sR_J c2 (v1 x hx) (by decide) (show n < cap by omega) (by omega) (by rw [k1]; exact ha hne)]
    have d6 : (cU σ1 ar (.inl (2, cap, vR (va_up f n (some x))))).1 li = some (.inr (9, [.int (mc + 1), .ref ar, .int (Int32.ofNat n)])) := by rw [cU_n hla]; exact c1
    rw [pO_J d6 (by show 2 < 3; decide) (by rw [cU_2, k1]; exact hl), bd_J]
    refine ⟨_, ar, rfl, ⟨⟨mc + 1, ?_⟩, cap, va_up f n (some x), ?_, by omega, fun i hi => ?_, ?_⟩, Or.inl ⟨rfl, hne⟩, ?_, R1.le (by omega) (by omega)⟩
    · rw [cU_s, J_addL]; rfl
    · rw [cU_n (Ne.symm hla), cU_s]
    · show _ = some (if i = n then x else r i)
      by_cases e : i = n
      · rw [e, va_up_self, if_pos rfl]
      · rw [va_up_ne _ _ e, if_neg e]; exact g3 i (by omega)
    · right; omega
    · exact (C1.cU c2 (Or.inr (Or.inr ⟨rfl, hne⟩))).cU d6 (Or.inr (Or.inl rfl))
/-- an element is taken out -/
theorem AL.remove {σ : cS} {li ar n x : Nat} {r : Nat → Nat} (h : AL σ li ar n r) (hW : Wf σ) (hl : σ.2 2 ≤ li) (ha : σ.2 2 ≤ ar) (hx : x < n) (hv : ∀ i, i < n → okV σ 2 (some (r i)) = true) : ∃ σ', m_J18_remove li (Int32.ofNat x) σ = some (some (r x), σ') ∧ AL σ' li ar (n - 1) (fun i => if i < x then r i else r (i + 1)) ∧ Ch (fun q => q = li ∨ q = ar) σ σ' ∧ σ'.2 = σ.2 := by
  have hn := h.n
  obtain ⟨⟨mc, h1⟩, cap, f, g1, g2, g3, g4⟩ := h
  have hla : li ≠ ar := fun w => by rw [w, g1] at h1; cases h1
  unfold m_J18_remove
  rw [gI_J h1 rfl, j23 hx (by omega), bd_J, gR_J h1 rfl, aR_J g1 (by decide) (show x < cap by omega) (by omega), g3 x hx, nn_J h1]
  unfold m_J18_fastRemove
  rw [gI_J h1 rfl, pO_J h1 (by show 0 < 3; decide) hl]
  generalize hs : cU σ li (.inr (9, List.set [Value.int mc, .ref ar, .int (Int32.ofNat n)] 0 (.int (mc + 1)))) = σ1
  have c1 : σ1.1 li = some (.inr (9, [.int (mc + 1), .ref ar, .int (Int32.ofNat n)])) := by rw [← hs]; exact cU_s
  have c2 : σ1.1 ar = some (.inl (2, cap, vR f)) := by rw [← hs, cU_n (Ne.symm hla)]; exact g1
  have C1 : Ch (fun q => q = li ∨ q = ar) σ σ1 := by rw [← hs]; exact Ch.rf.cU h1 (Or.inr (Or.inl rfl))
  have v1 : ∀ q, okV σ 2 (some q) = true → okV σ1 2 (some q) = true := fun q hq => by rw [← hs]; exact okV_U hq (by decide)
  have k1 : σ1.2 = σ.2 := by rw [← hs]; rfl
  clear hs
  rw [gI_J c1 rfl, lt_J, J_subL (show 1 ≤ n by omega), show n - OfNat.ofNat 1 = n - 1 from rfl, iJ_le (by omega) (by omega)]
  have fin : ∀ (σ2 : cS) (f2 : Nat → Option Nat), σ2.1 li = some (.inr (9, [.int (mc + 1), .ref ar, .int (Int32.ofNat n)])) → σ2.1 ar = some (.inl (2, cap, vR f2)) → Ch (fun q => q = li ∨ q = ar) σ σ2 → σ2.2 = σ.2 → (∀ i, i < n - 1 → f2 i = some (if i < x then r i else r (i + 1))) → ∃ σ', (bd (b_J18_fastRemove_34 li (some ar) (Int32.ofNat (n - 1)) σ2) fun _ σ_6 => some (some (r x), σ_6)) = some (some (r x), σ') ∧ AL σ' li ar (n - 1) (fun i => if i < x then r i else r (i + 1)) ∧ Ch (fun q => q = li ∨ q = ar) σ σ' ∧ σ'.2 = σ.2 := by
    intro σ2 f2 d1 d2 C2 k2 d3
    unfold b_J18_fastRemove_34
    rw [pO_J d1 (by show 2 < 3; decide) (by rw [k2]; exact hl)]
    have d4 : (cU σ2 li (.inr (9, List.set [Value.int (mc + 1), .ref ar, .int (Int32.ofNat n)] 2 (.int (Int32.ofNat (n - 1)))))).1 ar = some (.inl (2, cap, vR f2)) := by rw [cU_n (Ne.symm hla)]; exact d2
    rw [sR_J d4 (x := none) rfl (by decide) (show n - 1 < cap by omega) (by omega) (by rw [cU_2, k2]; exact ha), bd_J]
    refine ⟨_, rfl, ⟨⟨mc + 1, ?_⟩, cap, va_up f2 (n - 1) none, cU_s, by omega, fun i hi => ?_, ?_⟩, ?_, k2⟩
    · rw [cU_n hla, cU_s]; rfl
    · rw [va_up_ne _ _ (by omega)]; exact d3 i hi
    · right; omega
    · exact (C2.cU d1 (Or.inr (Or.inl rfl))).cU d4 (Or.inr (Or.inr rfl))
  by_cases hc : n - 1 ≤ x
  · rw [if_pos hc]
    exact fin σ1 f c1 c2 C1 k1 (fun i hi => by rw [if_pos (by omega)]; exact g3 i (by omega))
  · rw [if_neg hc, J_addL, J_sub (show x ≤ n - 1 by omega), cpR_J c2 c2 (by decide) (show x + OfNat.ofNat 1 + (n - 1 - x) ≤ cap by show x + 1 + (n - 1 - x) ≤ cap; omega) (by omega) (by omega) (by rw [k1]; exact ha) (fun q hq => by
      have e : x + OfNat.ofNat 1 + q < n := by show x + 1 + q < n; omega
      rw [g3 _ e]
      exact v1 _ (hv _ e))]
    refine fin _ (va_cpy f f (x + OfNat.ofNat 1) x (n - 1 - x)) ?_ cU_s (C1.cU c2 (Or.inr (Or.inr rfl))) k1 (fun i hi => ?_)
    · rw [cU_n hla]; exact c1
    · by_cases e : i < x
      · rw [pk_cpy_out (Or.inl e), if_pos e]; exact g3 i (by omega)
      · rw [pk_cpy_in (by omega) (by omega), if_neg e, show x + OfNat.ofNat 1 + (i - x) = i + 1 by show x + 1 + (i - x) = i + 1; omega]
        exact g3 _ (by omega)
