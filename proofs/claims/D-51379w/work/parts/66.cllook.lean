/-! THE PLAIN LAW, the class' side: what is found in a case -/
set_option maxRecDepth 100000
/-- a rule's objects -/
def RuleC (o : oW) (σ : cS) (a : Nat) (d : Nat → Nat) (q s p k : Nat) (tm : Term) : Prop := (o q = (a + 1, 6) ∧ o s = (a + 1, 7)) ∧ σ.1 q = some (.inr (2, [.ref p, .int (Int32.ofNat (gLv tm)), .ref s, .int (Int32.ofNat (d (51 + 34 * k)))])) ∧ IA σ s 4 (fun h => d (47 + 34 * k + h)) ∧ GuardC o σ d 20 p tm
def wF (L d : Nat → Nat) : List Value := [.ref (L 0), .int (Int32.ofNat (d 5)), .ref (L 1), .ref (L 2), .ref (L 3), .ref (L 5), .int (Int32.ofNat (d 6)), .int (Int32.ofNat (d 7)), .int (Int32.ofNat (d 8))]
/-- a will's objects; what is found is apart -/
def WillC (o : oW) (σ : cS) (a : Nat) (L d : Nat → Nat) (t : Nat → Term) : Prop := ((o a = (a + 1, 0) ∧ σ.1 a = some (.inr (1, wF L d))) ∧ ((o (L 0)).1 = 0 ∧ IA σ (L 0) (d 0) (fun i => d (1 + i)))) ∧ ((o (L 1) = (a + 1, 1) ∧ IA σ (L 1) 4 (fun h => d (9 + 2 * h))) ∧ (o (L 2) = (a + 1, 2) ∧ IA σ (L 2) 4 (fun h => d (10 + 2 * h)))) ∧ (o (L 3) = (a + 1, 3) ∧ ((o (L 4)).1 = 0 ∧ L 4 = σ.2 15 ∨ o (L 4) = (a + 1, 4)) ∧ AL σ (L 3) (L 4) (d 17) (fun i => L (10 + i))) ∧ o (L 5) = (a + 1, 5) ∧ (∀ i, i < d 17 → RuleC o σ a d (L (10 + i)) (L (30 + i)) (L (50 + i)) i (t i)) ∧ ∀ i j, i < d 17 → j < d 17 → i ≠ j → L (10 + i) ≠ L (10 + j) ∧ L (30 + i) ≠ L (30 + j)
theorem WillC.w {o : oW} {σ : cS} {a : Nat} {L d : Nat → Nat} {t : Nat → Term} (h : WillC o σ a L d t) : σ.1 a = some (.inr (1, wF L d)) := h.1.1.2
theorem WillC.v {o : oW} {σ : cS} {a : Nat} {L d : Nat → Nat} {t : Nat → Term} (h : WillC o σ a L d t) : IA σ (L 0) (d 0) (fun i => d (1 + i)) := h.1.2.2
theorem WillC.f {o : oW} {σ : cS} {a : Nat} {L d : Nat → Nat} {t : Nat → Term} (h : WillC o σ a L d t) : IA σ (L 1) 4 (fun h => d (9 + 2 * h)) := h.2.1.1.2
theorem WillC.ra {o : oW} {σ : cS} {a : Nat} {L d : Nat → Nat} {t : Nat → Term} (h : WillC o σ a L d t) : IA σ (L 2) 4 (fun h => d (10 + 2 * h)) := h.2.1.2.2
theorem WillC.l {o : oW} {σ : cS} {a : Nat} {L d : Nat → Nat} {t : Nat → Term} (h : WillC o σ a L d t) : AL σ (L 3) (L 4) (d 17) (fun i => L (10 + i)) := h.2.2.1.2.2
theorem WillC.o5 {o : oW} {σ : cS} {a : Nat} {L d : Nat → Nat} {t : Nat → Term} (h : WillC o σ a L d t) : o (L 5) = (a + 1, 5) := h.2.2.2.1
theorem WillC.r {o : oW} {σ : cS} {a : Nat} {L d : Nat → Nat} {t : Nat → Term} (h : WillC o σ a L d t) {i : Nat} (hi : i < d 17) : RuleC o σ a d (L (10 + i)) (L (30 + i)) (L (50 + i)) i (t i) := h.2.2.2.2.1 i hi
/-- what a change must leave of a will: all but what is found -/
theorem WillC.c {o o' : oW} {M : Nat → Prop} {σ σ' : cS} {a : Nat} {L d : Nat → Nat} {t : Nat → Term} (h : WillC o σ a L d t) (hC : Ch M σ σ') (hW : Wf σ) (hF : FOk d) (hM : ∀ q, q < σ.2 0 → M q → (o q).1 ≠ 0 ∧ ((o q).1 = a + 1 → (o q).2 = 5)) (ho : ∀ q, q < σ.2 0 → o' q = o q) (hl : L 5 < σ.2 0) : WillC o' σ' a L d t := by
  have h4 := hF.1
  obtain ⟨⟨⟨w1, w2⟩, w3, w4⟩, ⟨⟨f1, f2⟩, r1, r2⟩, ⟨l1, l2, l3⟩, o5, ru, inj⟩ := h
  have n0 : ∀ {q : Nat}, q < σ.2 0 → (o q).1 = 0 → ¬ M q := fun hq h0 w => (hM _ hq w).1 h0
  have nk : ∀ {q k : Nat}, q < σ.2 0 → o q = (a + 1, k) → k ≠ 5 → ¬ M q := fun hq h0 h5 w => by
    have := (hM _ hq w).2 (by rw [h0])
    rw [h0] at this
    exact h5 this
  have wl := hW.lt w2
  have vl := w4.lt hW
  have fl := f2.lt hW
  have rl := r2.lt hW
  obtain ⟨⟨mc, g1⟩, cap, f, g2, -⟩ := id l3
  have ll := hW.lt g1
  have al := hW.lt g2
  have na : ¬ M (L 4) := by
    rcases l2 with ⟨q, -⟩ | q
    · exact n0 al q
    · exact nk al q (by decide)
  refine ⟨⟨⟨by rw [ho a wl]; exact w1, hC.c hW w2 (nk wl w1 (by decide))⟩, by rw [ho _ vl]; exact w3, w4.c hC hW (n0 vl w3)⟩, ⟨⟨by rw [ho _ fl]; exact f1, f2.c hC hW (nk fl f1 (by decide))⟩, by rw [ho _ rl]; exact r1, r2.c hC hW (nk rl r1 (by decide))⟩, ⟨by rw [ho _ ll]; exact l1, by rw [ho _ al, hC.k (by decide)]; exact l2, l3.c hC hW (nk ll l1 (by decide)) na⟩, by rw [ho _ hl]; exact o5, fun i hi => ?_, inj⟩
  obtain ⟨⟨q1, q2⟩, q3, q4, q5⟩ := ru i hi
  have ql := hW.lt q3
  have sl := q4.lt hW
  exact ⟨⟨by rw [ho _ ql]; exact q1, by rw [ho _ sl]; exact q2⟩, hC.c hW q3 (nk ql q1 (by decide)), q4.c hC hW (nk sl q2 (by decide)), GuardC.c hC hW (fun q hq w => (hM q hq w).1) (fun q hq w => by rw [ho q hq]; exact w) (fun _ _ => rfl) h4.2 _ _ _ q5⟩
/-- what stands from the start -/
def KL (o : oW) (σ : cS) : Prop := (∀ k, k < 3 → (o (σ.2 (6 + k))).1 = 0 ∧ ∃ fs, σ.1 (σ.2 (6 + k)) = some (.inr (60 + k, fs))) ∧ (o (σ.2 15)).1 = 0 ∧ ∃ f, σ.1 (σ.2 15) = some (.inl (2, 0, vR f))
theorem KL.c {o o' : oW} {M : Nat → Prop} {σ σ' : cS} (h : KL o σ) (hC : Ch M σ σ') (hW : Wf σ) (hM : ∀ q, q < σ.2 0 → M q → (o q).1 ≠ 0) (ho : ∀ q, q < σ.2 0 → o' q = o q) : KL o' σ' := by
  obtain ⟨h1, h2, f, h3⟩ := h
  refine ⟨fun k hk => ?_, ?_, f, ?_⟩
  · obtain ⟨g1, fs, g2⟩ := h1 k hk
    rw [hC.k (by omega)]
    exact ⟨by rw [ho _ (hW.lt g2)]; exact g1, fs, hC.c hW g2 (fun w => hM _ (hW.lt g2) w g1)⟩
  · rw [hC.k (by decide), ho _ (hW.lt h3)]; exact h2
  · rw [hC.k (by decide)]; exact hC.c hW h3 (fun w => hM _ (hW.lt h3) w h2)
theorem KL.l {o : oW} {σ : cS} (h : KL o σ) : ∀ k, k < 3 → ∃ fs, σ.1 (σ.2 (6 + k)) = some (.inr (60 + k, fs)) := fun k hk => (h.1 k hk).2
theorem SI.nw {o : oW} {σ : cS} {q : Nat} (h : SI o σ) (hq : σ.2 0 ≤ q) : (o q).1 = 0 := by
  cases e : (o q).1 with
  | zero => rfl
  | succ n =>
    have := h.1 q (h.2.2 q (by rw [e]; exact Nat.succ_ne_zero _)).2.1
    omega
/-- a finding's objects -/
def FindC (o : oW) (σ : cS) (q : Nat) (d : Nat → Nat) (t : Nat → Term) (n : Nat) : Prop := (o q).1 = 0 ∧ ∃ row, (o row).1 = 0 ∧ σ.1 q = some (.inr (3, [.ref row, .int (Int32.ofNat (setN d t n)), .int (Int32.ofNat (unbN d (setN d t n))), .int (Int32.ofNat (verdN d (setN d t n))), .int (o32 (setlN d (setN d t n)))])) ∧ IA σ row (d 0) (fun f => valueN d n f)
theorem FindC.c {o o' : oW} {M : Nat → Prop} {σ σ' : cS} {q n : Nat} {d : Nat → Nat} {t : Nat → Term} (h : FindC o σ q d t n) (hC : Ch M σ σ') (hW : Wf σ) (hM : ∀ q, q < σ.2 0 → M q → (o q).1 ≠ 0) (ho : ∀ q, q < σ.2 0 → o' q = o q) : FindC o' σ' q d t n := by
  obtain ⟨h1, row, h2, h3, h4⟩ := h
  exact ⟨by rw [ho _ (hW.lt h3)]; exact h1, row, by rw [ho _ (h4.lt hW)]; exact h2, hC.c hW h3 (fun w => hM _ (hW.lt h3) w h1), h4.c hC hW (fun w => hM _ (h4.lt hW) w h2)⟩
theorem cl_likes {o : oW} {σ : cS} {a q s p q' s' p' k r : Nat} {d : Nat → Nat} {tm tm' : Term} (h : RuleC o σ a d q s p k tm) (h' : RuleC o σ a d q' s' p' r tm') (hs : ∀ h, h < 4 → d (47 + 34 * k + h) ≤ 27720) (hs' : ∀ h, h < 4 → d (47 + 34 * r + h) ≤ 27720) : m_X9_givesLike q (some q') σ = some (b32 (sameB d k r), σ) := by
  obtain ⟨-, h1, h2, -⟩ := h
  obtain ⟨-, h3, h4, -⟩ := h'
  unfold m_X9_givesLike
  refine loop_FU (fun g j => b_X9_givesLike_4 q g (some q') (b32 (sameF d k r j)) (Int32.ofNat j) σ) (fun _ => some (b32 (sameB d k r), σ)) 4 (by decide) (fun g j hj ih => ?_) (fun g => ?_)
  · show b_X9_givesLike_4 q (g + 1) _ _ _ _ = _
    have e1 := hs j hj
    have e2 := hs' j hj
    rw [b_X9_givesLike_4, iJ_leR (by decide) (by omega), if_neg (by show ¬ 4 ≤ j; omega), gR_J h1 rfl, h2.ld hj (by decide), gR_J h3 rfl, h4.ld hj (by decide), iJ_eq (by omega) (by omega)]
    have e : sameF d k r (j + 1) = (sameF d k r j && decide (d (47 + 34 * k + j) = d (47 + 34 * r + j))) := rfl
    rw [e] at ih
    by_cases c : d (47 + 34 * k + j) = d (47 + 34 * r + j)
    · rw [if_pos c, lt_J, lt_J, J_addL]
      rw [decide_eq_true c, Bool.and_true] at ih
      refine Eq.trans ?_ ih
      cases sameF d k r j <;> rfl
    · rw [if_neg c, lt_J, lt_J, J_addL]
      rw [decide_eq_false c, Bool.and_false] at ih
      refine Eq.trans ?_ ih
      cases sameF d k r j <;> rfl
  · show b_X9_givesLike_4 q (g + 1) _ _ _ _ = _
    rw [b_X9_givesLike_4, iJ_leR (by decide) (by decide), if_pos (by decide), rzJ]
    rfl
theorem cl_unlike {o : oW} {σ : cS} {a : Nat} {L d : Nat → Nat} {t : Nat → Term} (hW : WOk d t) (h : WillC o σ a L d t) {m r : Nat} (hm : m < 2147483648) (hr : r < d 17) : m_X4_unlike a (Int32.ofNat m) (Int32.ofNat r) σ = some (o32 (otherN d m r), σ) := by
  have h17 := hW.r
  unfold m_X4_unlike
  refine loop_FU (fun g k => b_X4_unlike_2 a g (Int32.ofNat m) (Int32.ofNat r) (Int32.ofNat k) σ) (fun k => some (o32 (firstF (fun k => m.testBit k && !sameB d k r) (d 17 - k) k), σ)) (d 17) (by omega) (fun g k hk ih => ?_) (fun g => ?_)
  · show b_X4_unlike_2 a (g + 1) _ _ _ _ = _
    rw [b_X4_unlike_2, gR_J h.w rfl, h.l.nn, h.l.size, bd_J, iJ_le (by omega) (by omega), if_neg (by omega), ite_pq (J_bit hm (by omega))]
    rw [show d 17 - k = (d 17 - (k + 1)) + 1 by omega]
    unfold firstF
    by_cases c : m.testBit k = true
    · rw [if_pos c, gR_J h.w rfl, h.l.nn, h.l.get hk, bd_J, cst_J (h.r hk).2.1 (by decide) rfl, gR_J h.w rfl, h.l.nn, h.l.get hr, bd_J, cst_J (h.r hr).2.1 (by decide) rfl, nn_J (h.r hk).2.1, cl_likes (h.r hk) (h.r hr) (fun j hj => hW.sh hk hj) (fun j hj => hW.sh hr hj), bd_J, ite_pq (b32_0 _), c, Bool.true_and]
      cases c2 : sameB d k r with
      | false => rw [if_pos rfl, if_pos (by decide)]; rfl
      | true =>
        rw [if_neg (by decide), if_neg (by decide), lt_J, J_addL]
        exact ih
    · rw [if_neg c, lt_J, J_addL, Bool.eq_false_iff.mpr c, Bool.false_and, if_neg (by decide)]
      exact ih
  · show b_X4_unlike_2 a (g + 1) _ _ _ _ = _
    rw [b_X4_unlike_2, gR_J h.w rfl, h.l.nn, h.l.size, bd_J, iJ_le (by omega) (by omega), if_pos (Nat.le_refl _), Nat.sub_self]
    rfl
theorem cl_values_loop {a q n : Nat} {L d : Nat → Nat} (hF : FOk d) (hn : n < 2147483648) (h3 : q ≠ a) (h4 : q ≠ L 0) : ∀ j k f (σ : cS) (g : Nat → Nat), k + j = d 0 → j < f → σ.1 a = some (.inr (1, wF L d)) → IA σ (L 0) (d 0) (fun i => d (1 + i)) → σ.2 2 ≤ q → IA σ q (d 0) g → (∀ i, i < k → g i = valueN d n i) → ∃ σ', b_X4_valuesOf_13 a f (some q) (Int32.ofNat (divN d n k)) (Int32.ofNat k) σ = some (some q, σ') ∧ IA σ' q (d 0) (fun f => valueN d n f) ∧ Ch (fun p => p = q) σ σ' ∧ σ'.2 = σ.2 := by
  have h0 := hF.1
  intro j
  induction j with
  | zero =>
    intro k f σ g hk hf h1 h2 hw hI hg
    obtain ⟨f, rfl⟩ : ∃ f', f = f' + 1 := ⟨f - 1, by omega⟩
    rw [b_X4_valuesOf_13, gR_J h1 rfl, h2.len, iJ_le (by omega) (by omega), if_pos (by omega)]
    exact ⟨σ, rfl, hI.g (fun i hi => hg i (by omega)), Ch.rf, rfl⟩
  | succ j ih =>
    intro k f σ g hk hf h1 h2 hw hI hg
    obtain ⟨f, rfl⟩ : ∃ f', f = f' + 1 := ⟨f - 1, by omega⟩
    have hk2 : k < d 0 := by omega
    have hb := hF.2 k hk2
    have hd := divN_le (d := d) n k
    have hv : valueN d n k = divN d n k % d (1 + k) := rfl
    obtain ⟨e, e1, e2⟩ := hI.st (x := valueN d n k) hk2 (by omega) hw
    obtain ⟨f0, e0, -⟩ := hI
    have c1 : (cU σ q e).1 a = some (.inr (1, wF L d)) := by rw [cU_n (Ne.symm h3)]; exact h1
    have c2 : IA (cU σ q e) (L 0) (d 0) (fun i => d (1 + i)) := h2.to (cU_n (Ne.symm h4))
    rw [b_X4_valuesOf_13, gR_J h1 rfl, h2.len, iJ_le (by omega) (by omega), if_neg (by omega), gR_J h1 rfl, h2.ld hk2 (by omega), nz_J (by omega) (by omega), J_rem (by omega) (by omega), ← hv, e1, gR_J c1 rfl, c2.ld hk2 (by omega), nz_J (by omega) (by omega), J_div (by omega) (by omega), lt_J, lt_J, J_addL]
    obtain ⟨σ', r1, r2, r3, r4⟩ := ih (k + 1) f (cU σ q e) _ (by omega) (by omega) c1 c2 hw e2 (fun i hi => by
      by_cases c : i = k
      · rw [if_pos c, c]
      · rw [if_neg c]; exact hg i (by omega))
    exact ⟨σ', r1, r2, ((Ch.rf (L := fun p => p = q)).cU e0 (Or.inr rfl)).trans r3, r4⟩
theorem cl_valuesOf {σ : cS} {a n x y : Nat} {L d : Nat → Nat} (hF : FOk d) (hn : n < 2147483648) (h1 : σ.1 a = some (.inr (1, wF L d))) (h2 : IA σ (L 0) (d 0) (fun i => d (1 + i))) (hW : Wf σ) (hw : σ.2 2 ≤ σ.2 0) (hR : Rm σ (x + 1) (y + 4)) : ∃ σ', m_X4_valuesOf a (Int32.ofNat n) σ = some (some (σ.2 0), σ') ∧ IA σ' (σ.2 0) (d 0) (fun f => valueN d n f) ∧ Ch (fun _ => False) σ σ' ∧ Rm σ' x y := by
  have h0 := hF.1
  have l1 := hW.lt h1
  have l2 := h2.lt hW
  unfold m_X4_valuesOf
  have hR2 : Rm σ (x + 1) (y + d 0) := hR.le (Nat.le_refl _) (by omega)
  rw [gR_J h1 rfl, h2.len, nA_J (by omega) hR2.a hR2.b]
  have c1 : (cN σ (.inl (0, d 0, .inl (fun _ => 0))) (d 0)).1 a = some (.inr (1, wF L d)) := by rw [cN_n (by omega)]; exact h1
  obtain ⟨σ', r1, r2, r3, r4⟩ := cl_values_loop (q := σ.2 0) hF hn (by omega) (by omega) (d 0) 0 FU (cN σ (.inl (0, d 0, .inl (fun _ => 0))) (d 0)) (fun _ => 0) (by omega) (by show d 0 < 4096; omega) c1 (h2.to (cN_n (by omega))) (by rw [cN_k (by decide)]; exact hw) IA.nw (fun i hi => absurd hi (Nat.not_lt_zero _))
  refine ⟨σ', r1, r2, ?_, ?_⟩
  · have C1 : Ch (fun p => p = σ.2 0) σ σ' := (Ch.cN Ch.rf).trans r3
    exact C1.mono (fun q hq w => by omega)
  · have := Rm.cN (e := .inl (0, d 0, .inl (fun _ => 0))) hR2
    unfold Rm at this ⊢
    rw [r4]
    exact this
/-- what the finding's object holds as it is filled -/
def fC (row m u : Nat) (v s : Int32) : cE := .inr (3, [.ref row, .int (Int32.ofNat m), .int (Int32.ofNat u), .int v, .int s])
theorem andn_or {m b c : Nat} (hm : m < 1024) : andn (andn m b) c = andn m (b ||| c) := by
  apply Nat.eq_of_testBit_eq
  intro i
  by_cases h : i < 31
  · rw [andn_bit h, andn_bit h, andn_bit h, Nat.testBit_or]
    cases m.testBit i <;> cases b.testBit i <;> cases c.testBit i <;> rfl
  · have e : ∀ x, x < 1024 → x.testBit i = false := fun x hx => Nat.testBit_lt_two_pow (Nat.lt_of_lt_of_le hx (Nat.le_trans (show 1024 ≤ 2 ^ 31 by decide) (Nat.pow_le_pow_right (by decide) (by omega))))
    have := andn_le m b
    have := andn_le (andn m b) c
    have := andn_le m (b ||| c)
    rw [e _ (by omega), e _ (by omega)]
theorem andn_0 {m : Nat} (hm : m < 1024) : andn m 0 = m := by
  apply Nat.eq_of_testBit_eq
  intro i
  by_cases h : i < 31
  · rw [andn_bit h, Nat.zero_testBit]
    cases m.testBit i <;> rfl
  · have e : ∀ x, x < 1024 → x.testBit i = false := fun x hx => Nat.testBit_lt_two_pow (Nat.lt_of_lt_of_le hx (Nat.le_trans (show 1024 ≤ 2 ^ 31 by decide) (Nat.pow_le_pow_right (by decide) (by omega))))
    have := andn_le m 0
    rw [e _ (by omega), e _ hm]
theorem cl_find {o : oW} {σ : cS} {a n x y : Nat} {L d : Nat → Nat} {t : Nat → Term} (hW : WOk d t) (hS : SI o σ) (hK : KL o σ) (h : WillC o σ a L d t) (hn : n < casesN d) (hR : Rm σ (x + 2) (y + 9)) : ∃ σ', m_X4_find a (Int32.ofNat n) σ = some (some (σ.2 0), σ') ∧ FindC o σ' (σ.2 0) d t n ∧ Ch (fun _ => False) σ σ' ∧ Rm σ' x y := by
  have hF := hW.1
  have h4 := hF.1
  have h17 := hW.r
  have hp := pow10 h17
  have hc := casesN_le hF
  have hm := setN_lt (d := d) (t := t) (n := n)
  have hn5 : L 5 < σ.2 0 := hS.l h.o5
  have hal := hS.1.lt h.w
  have hvl := h.v.lt hS.1
  unfold m_X4_find
  rw [nO_J (hR.le (by omega) (by omega) : Rm σ (x + 1 + 1) (y + 9)).a (hR.le (by omega) (by omega) : Rm σ (x + 2) (y + 4 + 5)).b]
  generalize hs1 : cN σ (.inr (3, [.null, .int 0, .int 0, .int 0, .int 0])) 5 = σ1
  have C1 : Ch (fun _ => False) σ σ1 := by rw [← hs1]; exact Ch.cN Ch.rf
  have q1 : σ1.1 (σ.2 0) = some (.inr (3, [.null, .int 0, .int 0, .int 0, .int 0])) := by rw [← hs1]; exact cN_s
  have n1 : σ1.2 0 = σ.2 0 + 1 := by rw [← hs1]; rfl
  have R1 : Rm σ1 (x + 1) (y + 4) := by rw [← hs1]; exact Rm.cN hR
  have S1 := hS.ch C1
  have W1 : WillC o σ1 a L d t := h.c C1 hS.1 hF (fun _ _ w => w.elim) (fun _ _ => rfl) hn5
  clear hs1
  rw [nn_J W1.w]
  obtain ⟨σ2, e2, I2, C2, R2⟩ := cl_valuesOf (n := n) hF (by omega) W1.w W1.v S1.1 S1.2.1 R1
  rw [e2, bd_J]
  generalize hq : σ.2 0 = q at q1 n1 ⊢
  generalize hrow : σ1.2 0 = row at I2 ⊢
  have q2 : σ2.1 q = some (.inr (3, [.null, .int 0, .int 0, .int 0, .int 0])) := C2.c S1.1 q1 id
  have k2 : σ2.2 2 = σ.2 2 := by rw [C2.k (by decide), C1.k (by decide)]
  have w2 : σ2.2 2 ≤ q := by rw [k2, ← hq]; exact hS.2.1
  unfold m_X11_init
  rw [pO_J q2 (by show 4 < 5; decide) w2, pO_J cU_s (by show 0 < 5; decide) w2, bd_J, cU_cU]
  show ∃ σ', b_X4_find_15 a FU (some q) 0 (cU σ2 q (fC row 0 0 0 (-1))) = _ ∧ _
  have C3 : ∀ e, Ch (fun _ => False) σ (cU σ2 q e) := fun e => (C1.trans C2).cU q2 (Or.inl (by omega))
  have S3 : ∀ e, SI o (cU σ2 q e) := fun e => hS.ch (C3 e)
  have W3 : ∀ e, WillC o (cU σ2 q e) a L d t := fun e => h.c (C3 e) hS.1 hF (fun _ _ w => w.elim) (fun _ _ => rfl) hn5
  have K3 : ∀ e, KL o (cU σ2 q e) := fun e => hK.c (C3 e) hS.1 (fun _ _ w => w.elim) (fun _ _ => rfl)
  have I3 : ∀ e, IA (cU σ2 q e) row (d 0) (fun f => valueN d n f) := fun e => I2.to (cU_n (by omega))
  have R3 : ∀ e, Rm (cU σ2 q e) x y := fun e => R2
  have w3 : ∀ e, (cU σ2 q e).2 2 ≤ q := fun e => w2
  have orow : (o row).1 = 0 := hS.nw (by omega)
  have oq : (o q).1 = 0 := hS.nw (by omega)
  have A : b_X4_find_15 a FU (some q) 0 (cU σ2 q (fC row 0 0 0 (-1))) = b_X4_find_84 a FU (some q) 0 (cU σ2 q (fC row (setN d t n) (setN d t n) 0 (-1))) := by
    refine loop_FU (fun g k => b_X4_find_15 a g (some q) (Int32.ofNat k) (cU σ2 q (fC row (setF d t n k) 0 0 (-1)))) (fun _ => b_X4_find_84 a FU (some q) 0 (cU σ2 q (fC row (setN d t n) (setN d t n) 0 (-1)))) (d 17) (by omega) (fun g k hk ih => ?_) (fun g => ?_)
    · show b_X4_find_15 a (g + 1) _ _ _ = _
      have w := W3 (fC row (setF d t n k) 0 0 (-1))
      have qc : (cU σ2 q (fC row (setF d t n k) 0 0 (-1))).1 q = some (fC row (setF d t n k) 0 0 (-1)) := cU_s
      have rc := w.r hk
      have e : setF d t n (k + 1) = setF d t n k ||| (if holdsB d t k n then 2 ^ k else 0) := rfl
      rw [b_X4_find_15, gR_J w.w rfl, w.l.nn, w.l.size, bd_J, iJ_le (by omega) (by omega), if_neg (by omega), gI_J qc rfl, gR_J w.w rfl, w.l.nn, w.l.get hk, bd_J, cst_J rc.2.1 (by decide) rfl, gR_J rc.2.1 rfl, gR_J qc rfl, icl_J, cl_holds hF (K3 _).l (I3 _) 20 DPC _ _ rc.2.2.2 (by decide), bd_J, ite_pq (b32_0 _)]
      rw [e] at ih
      unfold holdsB at ih
      unfold b_X4_find_64
      by_cases c : decide (gV d n (t k) = 1) = false
      · rw [if_pos c, pO_J qc (by show 1 < 5; decide) (w3 _), cU_cU, lt_J, J_addL, J_orL]
        rw [c] at ih
        exact ih
      · rw [if_neg c, J_shl k (by omega), J_or, pO_J qc (by show 1 < 5; decide) (w3 _), cU_cU, lt_J, J_addL]
        rw [if_pos (by simpa using c)] at ih
        exact ih
    · show b_X4_find_15 a (g + 1) _ _ _ = _
      have w := W3 (fC row (setF d t n (d 17)) 0 0 (-1))
      have qc : (cU σ2 q (fC row (setF d t n (d 17)) 0 0 (-1))).1 q = some (fC row (setF d t n (d 17)) 0 0 (-1)) := cU_s
      rw [b_X4_find_15, gR_J w.w rfl, w.l.nn, w.l.size, bd_J, iJ_le (by omega) (by omega), if_pos (Nat.le_refl _), gI_J qc rfl, pO_J qc (by show 2 < 5; decide) (w3 _), cU_cU]
      rfl
  rw [A]
  clear A
  generalize hm0 : setN d t n = m at hm
  have hm1 : m < 1024 := by omega
  have B : b_X4_find_84 a FU (some q) 0 (cU σ2 q (fC row m m 0 (-1))) = bd (m_X4_judge a (some q) (cU σ2 q (fC row m (unbN d m) 0 (-1)))) fun _ σ_6 => some (some q, σ_6) := by
    have := loop_FU (fun g k => b_X4_find_84 a g (some q) (Int32.ofNat k) (cU σ2 q (fC row m (andn m (beatN d m k)) 0 (-1)))) (fun _ => bd (m_X4_judge a (some q) (cU σ2 q (fC row m (unbN d m) 0 (-1)))) fun _ σ_6 => some (some q, σ_6)) (d 17) (by omega) (fun g k hk ih => ?_) (fun g => ?_)
    · rw [show beatN d m 0 = 0 from rfl, andn_0 hm1] at this
      exact this
    · show b_X4_find_84 a (g + 1) _ _ _ = _
      have w := W3 (fC row m (andn m (beatN d m k)) 0 (-1))
      have qc : (cU σ2 q (fC row m (andn m (beatN d m k)) 0 (-1))).1 q = some (fC row m (andn m (beatN d m k)) 0 (-1)) := cU_s
      have rc := w.r hk
      have hle := andn_le m (beatN d m k)
      have e : beatN d m (k + 1) = beatN d m k ||| (if m.testBit k then d (51 + 34 * k) else 0) := rfl
      rw [e] at ih
      rw [b_X4_find_84, gR_J w.w rfl, w.l.nn, w.l.size, bd_J, iJ_le (by omega) (by omega), if_neg (by omega), gI_J qc rfl, ite_pq (J_bit (by omega) (by omega))]
      by_cases c : m.testBit k = true
      · rw [if_pos c, gI_J qc rfl, gR_J w.w rfl, w.l.nn, w.l.get hk, bd_J, cst_J rc.2.1 (by decide) rfl, gI_J rc.2.1 rfl, J_andn (by omega), pO_J qc (by show 2 < 5; decide) (w3 _), cU_cU, lt_J, J_addL]
        rw [if_pos c, ← andn_or hm1] at ih
        exact ih
      · rw [if_neg c, lt_J, J_addL]
        rw [if_neg c, Nat.or_zero] at ih
        exact ih
    · show b_X4_find_84 a (g + 1) _ _ _ = _
      have w := W3 (fC row m (andn m (beatN d m (d 17))) 0 (-1))
      rw [b_X4_find_84, gR_J w.w rfl, w.l.nn, w.l.size, bd_J, iJ_le (by omega) (by omega), if_pos (Nat.le_refl _), nn_J w.w]
      rfl
  rw [B]
  clear B
  have w := W3 (fC row m (unbN d m) 0 (-1))
  have qc : (cU σ2 q (fC row m (unbN d m) 0 (-1))).1 q = some (fC row m (unbN d m) 0 (-1)) := cU_s
  have hu : unbN d m ≤ m := andn_le _ _
  have fin : ∀ v s, v = verdN d m → s = o32 (setlN d m) → ∃ σ', (bd (some ((0 : Int32), cU σ2 q (fC row m (unbN d m) (Int32.ofNat v) s))) fun _ σ_6 => some (some q, σ_6)) = some (some q, σ') ∧ FindC o σ' q d t n ∧ Ch (fun _ => False) σ σ' ∧ Rm σ' x y := by
    intro v s hv hs
    refine ⟨_, rfl, ⟨oq, row, orow, ?_, I3 _⟩, C3 _, R3 _⟩
    rw [cU_s, hm0, ← hv, ← hs]
    rfl
  unfold m_X4_judge
  rw [gI_J qc rfl, cl_ntz (by omega), bd_J, gI_J qc rfl, iJ_eqL (by omega) (by decide)]
  by_cases c0 : m = 0
  · rw [if_pos (show m = OfNat.ofNat 0 from c0), pO_J qc (by show 3 < 5; decide) (w3 _), cU_cU]
    have hv : verdN d m = 1 := by unfold verdN; rw [if_pos c0]
    exact fin 1 (-1) hv.symm (by unfold setlN; rw [hv]; rfl)
  · rw [if_neg (show ¬ m = OfNat.ofNat 0 from c0), gI_J qc rfl, iJ_eqL (by omega) (by decide)]
    by_cases c1 : unbN d m = 0
    · rw [if_pos (show unbN d m = OfNat.ofNat 0 from c1), pO_J qc (by show 3 < 5; decide) (w3 _), cU_cU]
      have hv : verdN d m = 2 := by unfold verdN; rw [if_neg c0, if_pos c1]
      exact fin 2 (-1) hv.symm (by unfold setlN; rw [hv]; rfl)
    · obtain ⟨r, hr1, hr2, hr3⟩ := least_bit (Nat.lt_of_le_of_lt hu hm) (by omega) c1
      rw [if_neg (show ¬ unbN d m = OfNat.ofNat 0 from c1), gI_J qc rfl, nn_J w.w, hr1, show o32t (some r) = Int32.ofNat r from rfl, cl_unlike hW w (by omega) hr2, bd_J, iJ_m1 (fun k hk => by
        have := (firstF_some hk).2.1
        omega)]
      by_cases c2 : otherN d (unbN d m) r = none
      · have hv : verdN d m = 0 := by unfold verdN; rw [if_neg c0, if_neg c1, hr1]; dsimp only; rw [if_pos c2]
        rw [if_pos c2, pO_J qc (by show 3 < 5; decide) (w3 _), cU_cU, pO_J cU_s (by show 4 < 5; decide) (w3 _), cU_cU]
        exact fin 0 (Int32.ofNat r) hv.symm (by unfold setlN; rw [if_pos hv, hr1]; rfl)
      · have hv : verdN d m = 3 := by unfold verdN; rw [if_neg c0, if_neg c1, hr1]; dsimp only; rw [if_neg c2]
        rw [if_neg c2, pO_J qc (by show 3 < 5; decide) (w3 _), cU_cU]
        exact fin 3 (-1) hv.symm (by unfold setlN; rw [hv]; rfl)
/-- what is found so far; at most u cases are still to be looked at -/
def FoundC (o : oW) (σ : cS) (p : Nat) (d : Nat → Nat) (t : Nat → Term) (u : Nat) : Prop := ∃ f : Nat → Option Nat, σ.1 p = some (.inl (4, casesN d, vR f)) ∧ (∀ n, n < casesN d → f n = none ∨ ∃ q, f n = some q ∧ FindC o σ q d t n) ∧ cntN (fun n => (f n).isNone) (casesN d) ≤ u
theorem FoundC.c {o o' : oW} {M : Nat → Prop} {σ σ' : cS} {p u : Nat} {d : Nat → Nat} {t : Nat → Term} (h : FoundC o σ p d t u) (hC : Ch M σ σ') (hW : Wf σ) (hM : ∀ q, q < σ.2 0 → M q → (o q).1 ≠ 0) (hp : ¬ M p) (ho : ∀ q, q < σ.2 0 → o' q = o q) : FoundC o' σ' p d t u := by
  obtain ⟨f, h1, h2, h3⟩ := h
  refine ⟨f, hC.c hW h1 hp, fun n hn => ?_, h3⟩
  rcases h2 n hn with e | ⟨q, e, e2⟩
  · exact Or.inl e
  · exact Or.inr ⟨q, e, e2.c hC hW hM ho⟩
theorem cnt_up {f : Nat → Option Nat} {n q : Nat} (h0 : f n = none) : ∀ c, cntN (fun m => (va_up f n (some q) m).isNone) c + (if n < c then 1 else 0) = cntN (fun m => (f m).isNone) c := by
  intro c
  induction c with
  | zero => rfl
  | succ c ih =>
    show cntN _ c + (if (va_up f n (some q) c).isNone = true then 1 else 0) + (if n < c + 1 then 1 else 0) = cntN _ c + (if (f c).isNone = true then 1 else 0)
    rw [← ih]
    by_cases e : c = n
    · subst e
      rw [va_up_self, h0, if_neg (show ¬ c < c from Nat.lt_irrefl _), if_pos (show c < c + 1 from Nat.lt_succ_self _)]
      simp
    · rw [va_up_ne _ _ e]
      by_cases w : n < c
      · rw [if_pos w, if_pos (show n < c + 1 by omega)]; omega
      · rw [if_neg w, if_neg (show ¬ n < c + 1 by omega)]; omega
/-- a question's way: from σ0 on only what is found has changed; room for what is still to be found, x cells and y slots -/
def RD (o : oW) (σ0 : cS) (a : Nat) (L d : Nat → Nat) (t : Nat → Term) (x y : Nat) (σ : cS) : Prop := (SI o σ ∧ KL o σ) ∧ Ch (fun q => o q = (a + 1, 5)) σ0 σ ∧ WillC o σ a L d t ∧ ∃ u, FoundC o σ (L 5) d t u ∧ Rm σ (2 * u + x) (9 * u + y)
theorem RD.S {o : oW} {σ0 σ : cS} {a x y : Nat} {L d : Nat → Nat} {t : Nat → Term} (h : RD o σ0 a L d t x y σ) : SI o σ := h.1.1
theorem RD.W {o : oW} {σ0 σ : cS} {a x y : Nat} {L d : Nat → Nat} {t : Nat → Term} (h : RD o σ0 a L d t x y σ) : WillC o σ a L d t := h.2.2.1
theorem RD.le {o : oW} {σ0 σ : cS} {a x y x' y' : Nat} {L d : Nat → Nat} {t : Nat → Term} (h : RD o σ0 a L d t x y σ) (h1 : x' ≤ x) (h2 : y' ≤ y) : RD o σ0 a L d t x' y' σ := by
  obtain ⟨g1, g2, g3, u, g4, g5⟩ := h
  exact ⟨g1, g2, g3, u, g4, g5.le (by omega) (by omega)⟩
/-- a new object that nobody owns -/
theorem RD.new {o : oW} {σ0 σ : cS} {a x y k : Nat} {L d : Nat → Nat} {t : Nat → Term} {e : cE} (h : RD o σ0 a L d t (x + 1) (y + k) σ) (hF : FOk d) : RD o σ0 a L d t x y (cN σ e k) := by
  obtain ⟨⟨g1, g0⟩, g2, g3, u, g4, g5⟩ := h
  have C : Ch (fun _ => False) σ (cN σ e k) := Ch.cN Ch.rf
  exact ⟨⟨g1.ch C, g0.c C g1.1 (fun _ _ w => w.elim) (fun _ _ => rfl)⟩, g2.cN, g3.c C g1.1 hF (fun _ _ w => w.elim) (fun _ _ => rfl) (g1.l g3.o5), u, g4.c C g1.1 (fun _ _ w => w.elim) id (fun _ _ => rfl), Rm.cN (g5.le (by omega) (by omega))⟩
theorem RD.room {o : oW} {σ0 σ : cS} {a x y k : Nat} {L d : Nat → Nat} {t : Nat → Term} (h : RD o σ0 a L d t (x + 1) (y + k) σ) : σ.2 0 + 1 ≤ σ.2 3 ∧ σ.2 1 + k ≤ σ.2 4 := by
  obtain ⟨-, -, -, u, -, g5⟩ := h
  exact ⟨by have := g5.1; omega, by have := g5.2; omega⟩
theorem cl_look {o : oW} {σ0 σ : cS} {a n x y : Nat} {L d : Nat → Nat} {t : Nat → Term} (hW : WOk d t) (h : RD o σ0 a L d t x y σ) (hn : n < casesN d) : ∃ q σ', m_X4_look a (Int32.ofNat n) σ = some (some q, σ') ∧ RD o σ0 a L d t x y σ' ∧ FindC o σ' q d t n ∧ Ch (fun p => o p = (a + 1, 5)) σ σ' := by
  have hc := casesN_le hW.1
  obtain ⟨⟨hS, hK⟩, hC, h3, u, ⟨f, f1, f2, f3⟩, hR⟩ := h
  unfold m_X4_look
  rw [gR_J h3.w rfl, aR_J f1 (by decide) hn (by omega)]
  rcases f2 n hn with e | ⟨q, e, e2⟩
  · have hu : 1 ≤ u := by
      have := cnt_up (q := 0) e (casesN d)
      rw [if_pos hn] at this
      omega
    obtain ⟨σ1, r1, r2, C1, R1⟩ := cl_find (x := 2 * (u - 1) + x) (y := 9 * (u - 1) + y) hW hS hK h3 hn (hR.le (by omega) (by omega))
    rw [e, if_pos rfl, gR_J h3.w rfl, nn_J h3.w, r1, bd_J]
    have S1 := hS.ch C1
    have W1 : WillC o σ1 a L d t := h3.c C1 hS.1 hW.1 (fun _ _ w => w.elim) (fun _ _ => rfl) (hS.l h3.o5)
    have g1 : σ1.1 (L 5) = some (.inl (4, casesN d, vR f)) := C1.c hS.1 f1 id
    have hL5 := S1.w W1.o5
    have r2' := r2
    obtain ⟨-, row, -, r3, -⟩ := r2'
    rw [sR_J g1 (okV_J r3 rfl) (by decide) hn (by omega) hL5]
    generalize hs2 : cU σ1 (L 5) (.inl (4, casesN d, vR (va_up f n (some (σ.2 0))))) = σ2
    have C2 : Ch (fun p => o p = (a + 1, 5)) σ1 σ2 := by rw [← hs2]; exact Ch.rf.cU g1 (Or.inr h3.o5)
    have C12 : Ch (fun p => o p = (a + 1, 5)) σ σ2 := (C1.mono (fun _ _ w => w.elim)).trans C2
    have hM : ∀ (τ : cS) q, q < τ.2 0 → o q = (a + 1, 5) → (o q).1 ≠ 0 := fun τ q _ w => by rw [w]; exact Nat.succ_ne_zero _
    have S2 := S1.ch C2
    have W2 : WillC o σ2 a L d t := W1.c C2 S1.1 hW.1 (fun q hq w => ⟨hM σ1 q hq w, fun _ => by rw [w]⟩) (fun _ _ => rfl) (S1.l W1.o5)
    have F2 : FindC o σ2 (σ.2 0) d t n := r2.c C2 S1.1 (hM σ1) (fun _ _ => rfl)
    have g2 : σ2.1 (L 5) = some (.inl (4, casesN d, vR (va_up f n (some (σ.2 0))))) := by rw [← hs2]; exact cU_s
    have R2 : Rm σ2 (2 * (u - 1) + x) (9 * (u - 1) + y) := by rw [← hs2]; exact R1
    unfold b_X4_look_20
    rw [gR_J W2.w rfl, aR_J g2 (by decide) hn (by omega), va_up_self]
    refine ⟨σ.2 0, σ2, rfl, ⟨⟨S2, hK.c C12 hS.1 (hM σ) (fun _ _ => rfl)⟩, hC.trans C12, W2, u - 1, ⟨_, g2, fun j hj => ?_, ?_⟩, R2⟩, F2, C12⟩
    · by_cases c : j = n
      · exact Or.inr ⟨_, by rw [c, va_up_self], by rw [c]; exact F2⟩
      · rw [va_up_ne _ _ c]
        rcases f2 j hj with w | ⟨q, w, w2⟩
        · exact Or.inl w
        · exact Or.inr ⟨q, w, w2.c C12 hS.1 (hM σ) (fun _ _ => rfl)⟩
    · have := cnt_up (q := σ.2 0) e (casesN d)
      rw [if_pos hn] at this
      omega
  · rw [e, if_neg (fun w => by cases w)]
    unfold b_X4_look_20
    rw [gR_J h3.w rfl, aR_J f1 (by decide) hn (by omega), e]
    exact ⟨q, σ, rfl, ⟨⟨hS, hK⟩, hC, h3, u, ⟨f, f1, f2, f3⟩, hR⟩, e2, Ch.rf⟩
