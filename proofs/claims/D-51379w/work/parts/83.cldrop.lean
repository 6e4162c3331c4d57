/-! THE PLAIN LAW, the class' side: a rule is dropped -/
set_option maxRecDepth 100000
theorem shr_wo {m r : Nat} (hm : m < 1024) (hr : r < 10) : (m &&& (2 ^ r - 1)) ||| andn (m >>> 1) (2 ^ r - 1) = wo m r := by
  apply Nat.eq_of_testBit_eq
  intro i
  rw [wo_bit, Nat.testBit_or, Nat.testBit_and, Nat.testBit_two_pow_sub_one]
  by_cases h : i < 31
  · rw [andn_bit h, Nat.testBit_shiftRight, Nat.testBit_two_pow_sub_one]
    by_cases c : i < r
    · rw [if_pos c, decide_eq_true c]; simp
    · rw [if_neg c, decide_eq_false c, Nat.add_comm 1 i]; simp
  · have e : ∀ z, z < 1024 → ∀ k, 31 ≤ k → z.testBit k = false := fun z hz k hk => Nat.testBit_lt_two_pow (Nat.lt_of_lt_of_le hz (Nat.le_trans (show 1024 ≤ 2 ^ 31 by decide) (Nat.pow_le_pow_right (by decide) hk)))
    have h1 := andn_le (m >>> 1) (2 ^ r - 1)
    have h2 : m >>> 1 ≤ m := Nat.shiftRight_le _ _
    rw [e m hm i (by omega), e _ (by omega) i (by omega), if_neg (by omega), e m hm (i + 1) (by omega)]
    rfl
theorem J_wo {m r : Nat} (hm : m < 1024) (hr : r < 10) : (Int32.ofNat m &&& (Int32.ofNat (2 ^ r - 1))) ||| ((Int32.ofNat m >>> (1 &&& 31)) &&& (Int32.ofNat (2 ^ r - 1) ^^^ (-1))) = Int32.ofNat (wo m r) := by
  have h2 : m >>> 1 ≤ m := Nat.shiftRight_le _ _
  rw [show (1 : Int32) &&& 31 = Int32.ofNat 1 &&& 31 from rfl, J_shr (by omega) (by decide), J_and, J_andn (by omega), J_or, shr_wo hm hr]
/-- the places after a rule is gone -/
def LDrop (L : Nat → Nat) (r : Nat) : Nat → Nat := fun k => if 10 ≤ k ∧ k < 30 then (if k - 10 < r then L k else L (k + 1)) else if 30 ≤ k ∧ k < 50 then (if k - 30 < r then L k else L (k + 1)) else if 50 ≤ k ∧ k < 70 then (if k - 50 < r then L k else L (k + 1)) else L k
def shE (d : Nat → Nat) (r : Nat) : Nat → Nat := upN (shD d r) 17 (d 17 - 1)
theorem shE_lo {d : Nat → Nat} {r i : Nat} (hi : i < 17) : shE d r i = d i := by
  unfold shE
  rw [upN_ne (by omega)]
  unfold shD
  rw [if_pos (by omega)]
theorem shE_f {d : Nat → Nat} {r k f : Nat} (h17 : d 17 ≤ 10) (hk : k < d 17 - 1) (hf : f < 34) : shE d r (18 + 34 * k + f) = d (18 + 34 * (if k < r then k else k + 1) + f) := by
  unfold shE
  rw [upN_ne (by omega)]
  unfold shD
  by_cases c : k < r
  · rw [if_pos c, if_pos (by omega)]
  · rw [if_neg c, if_neg (by omega), if_pos (by omega)]
    congr 1
    omega
theorem woK_f {e : Nat → Nat} {r i k h : Nat} (hh : h < 4) : woK e r i (47 + 34 * k + h) = e (47 + 34 * k + h) := by
  unfold woK
  rw [if_neg]
  rintro ⟨-, w, -⟩
  omega
theorem woK_lo {e : Nat → Nat} {r i j : Nat} (hj : j < 18) : woK e r i j = e j := by
  unfold woK
  rw [if_neg]
  rintro ⟨w, -⟩
  omega
theorem WillC.drop {o : oW} {σ σ' : cS} {a r : Nat} {L d : Nat → Nat} {t : Nat → Term} (hF : FOk d) (h17 : d 17 ≤ 10) (hr : r < d 17) (hS : SI o σ) (h : WillC o σ a L d t) (hC : Ch (fun q => q = L 3 ∨ q = L 4) σ σ') (h4 : o (L 4) = (a + 1, 4)) (hA : AL σ' (L 3) (L 4) (d 17 - 1) (fun i => if i < r then L (10 + i) else L (10 + (i + 1)))) : WillC o σ' a (LDrop L r) (shE d r) (drT t r) := by
  have hf4 := hF.1
  obtain ⟨o0, o1, o2, o3, o4, o5, oR⟩ := h.ow
  have hW := hS.1
  have nM : ∀ {q k : Nat}, o q = (a + 1, k) → k ≠ 3 → k ≠ 4 → ¬ (q = L 3 ∨ q = L 4) := fun hq h3 h4' w => by
    rcases w with w | w
    · exact ne_role hq o3 h3 w
    · exact ne_role hq h4 h4' w
  have n0 : ∀ {q : Nat}, (o q).1 = 0 → ¬ (q = L 3 ∨ q = L 4) := fun hq w => by
    rcases w with w | w
    · exact ne_0 o3 hq w.symm
    · exact ne_0 h4 hq w.symm
  obtain ⟨⟨⟨w1, w2⟩, w3, w4⟩, ⟨⟨f1, f2⟩, r1, r2⟩, ⟨l1, l2, l3⟩, -, ru, inj⟩ := id h
  have el : ∀ k, k < 10 → LDrop L r k = L k := fun k hk => by
    unfold LDrop
    rw [if_neg (by omega), if_neg (by omega), if_neg (by omega)]
  have e10 : ∀ i, i < 10 → LDrop L r (10 + i) = L (10 + (if i < r then i else i + 1)) := fun i hi => by
    unfold LDrop
    rw [if_pos (by omega)]
    by_cases c : i < r
    · rw [if_pos (by omega), if_pos c]
    · rw [if_neg (by omega), if_neg c]; rfl
  have e30 : ∀ i, i < 10 → LDrop L r (30 + i) = L (30 + (if i < r then i else i + 1)) := fun i hi => by
    unfold LDrop
    rw [if_neg (by omega), if_pos (by omega)]
    by_cases c : i < r
    · rw [if_pos (by omega), if_pos c]
    · rw [if_neg (by omega), if_neg c]; rfl
  have e50 : ∀ i, i < 10 → LDrop L r (50 + i) = L (50 + (if i < r then i else i + 1)) := fun i hi => by
    unfold LDrop
    rw [if_neg (by omega), if_neg (by omega), if_pos (by omega)]
    by_cases c : i < r
    · rw [if_pos (by omega), if_pos c]
    · rw [if_neg (by omega), if_neg c]; rfl
  have e17 : shE d r 17 = d 17 - 1 := upN_at
  have hw : wF (LDrop L r) (shE d r) = wF L d := by
    unfold wF
    rw [el 0 (by decide), el 1 (by decide), el 2 (by decide), el 3 (by decide), el 5 (by decide), shE_lo (by decide), shE_lo (by decide), shE_lo (by decide), shE_lo (by decide)]
  have e15 : σ'.2 15 = σ.2 15 := hC.k (by decide)
  refine ⟨⟨⟨w1, by rw [hw]; exact hC.c hW w2 (nM w1 (by decide) (by decide))⟩, by rw [el 0 (by decide)]; exact w3, ?_⟩, ⟨⟨by rw [el 1 (by decide)]; exact f1, ?_⟩, by rw [el 2 (by decide)]; exact r1, ?_⟩, ⟨by rw [el 3 (by decide)]; exact l1, Or.inr (by rw [el 4 (by decide)]; exact h4), ?_⟩, by rw [el 5 (by decide)]; exact o5, fun i hi => ?_, fun i j hi hj hij => ?_⟩
  · rw [el 0 (by decide), shE_lo (by decide)]
    exact (w4.c hC hW (n0 w3)).g (fun i hi => (shE_lo (by omega)).symm)
  · rw [el 1 (by decide)]
    exact (f2.c hC hW (nM f1 (by decide) (by decide))).g (fun i hi => (shE_lo (by omega)).symm)
  · rw [el 2 (by decide)]
    exact (r2.c hC hW (nM r1 (by decide) (by decide))).g (fun i hi => (shE_lo (by omega)).symm)
  · rw [el 3 (by decide), el 4 (by decide), e17]
    exact hA.r (fun i hi => by
      rw [e10 i (by omega)]
      by_cases c : i < r
      · rw [if_pos c, if_pos c]
      · rw [if_neg c, if_neg c])
  · rw [e17] at hi
    have hj : (if i < r then i else i + 1) < d 17 := by split <;> omega
    obtain ⟨⟨g1, g2⟩, g3, g4, g5⟩ := ru _ hj
    rw [e10 i (by omega), e30 i (by omega), e50 i (by omega)]
    have et : drT t r i = t (if i < r then i else i + 1) := by
      unfold drT
      by_cases c : i < r
      · rw [if_pos c, if_pos c]
      · rw [if_neg c, if_neg c]
    have eo : shE d r (51 + 34 * i) = d (51 + 34 * (if i < r then i else i + 1)) := by
      have := shE_f (r := r) (f := 33) h17 hi (by decide)
      rw [show 18 + 34 * i + 33 = 51 + 34 * i by omega, show 18 + 34 * (if i < r then i else i + 1) + 33 = 51 + 34 * (if i < r then i else i + 1) by omega] at this
      exact this
    have es : ∀ h, h < 4 → d (47 + 34 * (if i < r then i else i + 1) + h) = shE d r (47 + 34 * i + h) := fun h hh => by
      have := shE_f (r := r) (f := 29 + h) h17 hi (by omega)
      rw [show 18 + 34 * i + (29 + h) = 47 + 34 * i + h by omega, show 18 + 34 * (if i < r then i else i + 1) + (29 + h) = 47 + 34 * (if i < r then i else i + 1) + h by omega] at this
      exact this.symm
    refine ⟨⟨g1, g2⟩, ?_, (g4.c hC hW (nM g2 (by decide) (by decide))).g es, ?_⟩
    · rw [et, eo]; exact hC.c hW g3 (nM g1 (by decide) (by decide))
    · rw [et]
      exact GuardC.c (o := o) (d := d) hC hW (fun q _ w => by
        rcases w with w | w
        · rw [w, o3]; exact Nat.succ_ne_zero _
        · rw [w, h4]; exact Nat.succ_ne_zero _) (fun _ _ w => w) (fun k hk => shE_lo (d := d) (by omega)) hf4.2 _ _ _ g5
  · rw [e17] at hi hj
    rw [e10 i (by omega), e10 j (by omega), e30 i (by omega), e30 j (by omega)]
    refine inj _ _ ?_ ?_ ?_
    · split <;> omega
    · split <;> omega
    · split <;> split <;> omega
theorem FOk.shE {d : Nat → Nat} {r : Nat} (hF : FOk d) : FOk (shE d r) := FOk_cg (fun i hi => shE_lo (by omega)) hF
theorem cl_drop {o : oW} {σ : cS} {a r : Nat} {L d : Nat → Nat} {t : Nat → Term} {f : Nat → Option Nat} (hW : WOk d t) (hS : SI o σ) (hK : KL o σ) (h : WillC o σ a L d t) (h5 : σ.1 (L 5) = some (.inl (4, casesN d, vR f))) (hr : r < d 17) : ∃ σ' L', m_X4_drop a (Int32.ofNat r) σ = some (0, σ') ∧ WillC o σ' a L' (drD d r) (drT t r) ∧ FoundC o σ' (L' 5) (drD d r) (drT t r) (casesN d) ∧ Ch (fun q => (o q).1 = a + 1) σ σ' ∧ σ'.2 = σ.2 := by
  have hF := hW.1
  have h4 := hF.1
  have h17 := hW.r
  have hc := casesN_le hF
  have hp := pow10 h17
  have h1p : 1 ≤ 2 ^ r := Nat.two_pow_pos r
  obtain ⟨o0, o1, o2, o3, o4, o5, oR⟩ := h.ow
  have fg := cl_forget hS h h5 hc.2
  unfold m_X4_drop
  rw [nn_J h.w, fg, bd_J]
  have C1 : Ch (fun q => q = L 5) σ (cU σ (L 5) (.inl (4, casesN d, vR (fun i => if i < casesN d then none else f i)))) := Ch.rf.cU h5 (Or.inr rfl)
  have c1 : (cU σ (L 5) (.inl (4, casesN d, vR (fun i => if i < casesN d then none else f i)))).1 (L 5) = some (.inl (4, casesN d, vR (fun i => if i < casesN d then none else f i))) := cU_s
  have W1 := h.c (o' := o) C1 hS.1 hF (fun q _ w => by rw [w, o5]; exact ⟨Nat.succ_ne_zero _, fun _ => rfl⟩) (fun _ _ => rfl) (hS.l o5)
  generalize hs1 : cU σ (L 5) (.inl (4, casesN d, vR (fun i => if i < casesN d then none else f i))) = σ1 at C1 c1 W1 ⊢
  have k1 : σ1.2 = σ.2 := by rw [← hs1]; rfl
  have S1 := hS.ch C1
  have K1 := hK.c (o' := o) C1 hS.1 (fun q _ w => by rw [w, o5]; exact Nat.succ_ne_zero _) (fun _ _ => rfl)
  have h44 : o (L 4) = (a + 1, 4) := by
    rcases W1.2.2.1.2.1 with ⟨-, q⟩ | q
    · exfalso
      obtain ⟨-, cap, g, g1, g2, -⟩ := W1.l
      obtain ⟨-, -, f0, g3⟩ := K1
      rw [q, g3] at g1
      cases g1
      omega
    · exact q
  obtain ⟨σ2, e2, A2, C2, k2⟩ := W1.l.remove S1.1 (S1.w o3) (S1.w h44) hr (fun i hi => okV_J (W1.r hi).2.1 rfl)
  have W2 := WillC.drop hF h17 hr S1 W1 C2 h44 A2
  have S2 := S1.ch C2
  have n5 : L 5 ≠ L 3 ∧ L 5 ≠ L 4 := ⟨ne_role o5 o3 (by decide), ne_role o5 h44 (by decide)⟩
  have c2 : σ2.1 (L 5) = some (.inl (4, casesN d, vR (fun i => if i < casesN d then none else f i))) := C2.c S1.1 c1 (fun w => by rcases w with w | w; exact n5.1 w; exact n5.2 w)
  rw [gR_J W1.w rfl, W1.l.nn, e2, bd_J, J_shl r (by omega), J_subL h1p, lt_J]
  show ∃ σ' L', b_X4_drop_21 a FU (Int32.ofNat (2 ^ r - 1)) 0 σ2 = _ ∧ _
  have e17 : shE d r 17 = d 17 - 1 := upN_at
  have CA : Ch (fun q => (o q).1 = a + 1) σ σ2 := (C1.mono (fun q _ w => by rw [w, o5])).trans (C2.mono (fun q _ w => by rcases w with w | w; rw [w, o3]; rw [w, h44]))
  have hk2 : σ2.2 = σ.2 := k2.trans k1
  have el5 : LDrop L r 5 = L 5 := rfl
  have loop : ∀ j i f τ, i + j = d 17 - 1 → j < f → WillC o τ a (LDrop L r) (woK (shE d r) r i) (drT t r) → SI o τ → Ch (fun q => (o q).1 = a + 1) σ τ → τ.2 = σ.2 → ∃ σ', b_X4_drop_21 a f (Int32.ofNat (2 ^ r - 1)) (Int32.ofNat i) τ = some (0, σ') ∧ WillC o σ' a (LDrop L r) (drD d r) (drT t r) ∧ Ch (fun q => (o q).1 = a + 1) σ σ' ∧ σ'.2 = σ.2 ∧ σ'.1 (L 5) = τ.1 (L 5) := by
    intro j
    induction j with
    | zero =>
      intro i f τ hi hf W S C k
      obtain ⟨f, rfl⟩ : ∃ f', f = f' + 1 := ⟨f - 1, by omega⟩
      have wl := W.l
      rw [woK_lo (by decide), e17] at wl
      rw [b_X4_drop_21, gR_J W.w rfl, wl.nn, wl.size, bd_J, iJ_le (by omega) (by omega), if_pos (by omega)]
      refine ⟨τ, rfl, ?_, C, k, rfl⟩
      have : i = d 17 - 1 := by omega
      rw [this] at W
      exact W
    | succ j ih =>
      intro i f τ hi hf W S C k
      obtain ⟨f, rfl⟩ : ∃ f', f = f' + 1 := ⟨f - 1, by omega⟩
      have wl := W.l
      have hi2 : i < woK (shE d r) r i 17 := by rw [woK_lo (by decide), e17]; omega
      have rc := W.r hi2
      have hov : woK (shE d r) r i (51 + 34 * i) = d (51 + 34 * (if i < r then i else i + 1)) := by
        unfold woK
        rw [if_neg (by rintro ⟨-, -, w⟩; omega)]
        have := shE_f (d := d) (r := r) (k := i) (f := 33) h17 (by omega) (by decide)
        rw [show 18 + 34 * i + 33 = 51 + 34 * i by omega, show 18 + 34 * (if i < r then i else i + 1) + 33 = 51 + 34 * (if i < r then i else i + 1) by omega] at this
        exact this
      have hlt : woK (shE d r) r i (51 + 34 * i) < 1024 := by
        rw [hov]
        exact hW.ov (by split <;> omega)
      have hes : woK (shE d r) r i (51 + 34 * i) = shE d r (51 + 34 * i) := by
        unfold woK
        rw [if_neg (by rintro ⟨-, -, w⟩; omega)]
      have wg := wl.get hi2
      rw [woK_lo (by decide), e17] at wl
      rw [b_X4_drop_21, gR_J W.w rfl, wl.nn, wl.size, bd_J, iJ_le (by omega) (by omega), if_neg (by omega), gR_J W.w rfl, wl.nn, wg, bd_J, cst_J rc.2.1 (by decide) rfl, gI_J rc.2.1 rfl, gI_J rc.2.1 rfl, J_wo hlt (by omega), pO_J rc.2.1 (by show 3 < 4; decide) (S.w rc.1.1), lt_J, J_addL]
      have Fw : FOk (woK (shE d r) r i) := FOk_cg (fun k hk => woK_lo (by omega)) hF.shE
      have W3 := W.sO (r := i) (z := wo (woK (shE d r) r i (51 + 34 * i)) r) Fw S hi2 (by rw [woK_lo (by decide), e17]; omega)
      rw [hes, woK_s] at W3
      have C3 : Ch (fun q => (o q).1 = a + 1) τ (cU τ (LDrop L r (10 + i)) (.inr (2, [.ref (LDrop L r (50 + i)), .int (Int32.ofNat (gLv (drT t r i))), .ref (LDrop L r (30 + i)), .int (Int32.ofNat (wo (shE d r (51 + 34 * i)) r))]))) := Ch.rf.cU rc.2.1 (Or.inr (by rw [rc.1.1]))
      have n10 : L 5 ≠ LDrop L r (10 + i) := ne_role o5 rc.1.1 (by decide)
      rw [hes]
      obtain ⟨σ', q1, q2, q3, q4, q5⟩ := ih (i + 1) f _ (by omega) (by omega) W3 (S.ch C3) (C.trans C3) k
      exact ⟨σ', q1, q2, q3, q4, by rw [q5, cU_n n10]⟩
  have W2' : WillC o σ2 a (LDrop L r) (woK (shE d r) r 0) (drT t r) := by rw [woK_0]; exact W2
  obtain ⟨σ3, e3, W3, C3, k3, c3⟩ := loop (d 17 - 1) 0 FU σ2 (by omega) (by show _ < 4096; omega) W2' S2 CA hk2
  rw [c2] at c3
  have ec : casesN (drD d r) = casesN d := casesN_cg (fun i hi => drD_lo (by omega)) h4.2
  refine ⟨σ3, LDrop L r, e3, W3, ⟨_, by rw [ec]; exact c3, fun n hn => Or.inl ?_, Nat.le_trans (cntN_le _ _) (by rw [ec]; exact Nat.le_refl _)⟩, C3, k3⟩
  rw [ec] at hn
  rw [if_pos hn]
