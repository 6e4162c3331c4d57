/-! THE PLAIN LAW, the class' side: the simple changes -/
set_option maxRecDepth 100000
theorem beatN_cg {d d' : Nat → Nat} {m : Nat} (h : ∀ i, 18 ≤ i → d' i = d i) : ∀ k, beatN d' m k = beatN d m k := by
  intro k
  induction k with
  | zero => rfl
  | succ k ih =>
    show beatN d' m k ||| (if m.testBit k then d' (51 + 34 * k) else 0) = _
    rw [ih, h (51 + 34 * k) (by omega)]
    rfl
theorem sameB_cg {d d' : Nat → Nat} {r s : Nat} (h : ∀ i, 18 ≤ i → d' i = d i) : sameB d' r s = sameB d r s := by
  have : ∀ k, sameF d' r s k = sameF d r s k := by
    intro k
    induction k with
    | zero => rfl
    | succ k ih =>
      show (sameF d' r s k && decide (d' (47 + 34 * r + k) = d' (47 + 34 * s + k))) = _
      rw [ih, h (47 + 34 * r + k) (by omega), h (47 + 34 * s + k) (by omega)]
      rfl
  exact this 4
theorem unbN_cg {d d' : Nat → Nat} {m : Nat} (h : ∀ i, 17 ≤ i → d' i = d i) : unbN d' m = unbN d m := by
  unfold unbN
  rw [beatN_cg (fun i hi => h i (by omega)), h 17 (by decide)]
theorem otherN_cg {d d' : Nat → Nat} {m r : Nat} (h : ∀ i, 17 ≤ i → d' i = d i) : otherN d' m r = otherN d m r := by
  unfold otherN
  rw [h 17 (by decide), show (fun k => m.testBit k && !sameB d' k r) = fun k => m.testBit k && !sameB d k r from funext fun k => by rw [sameB_cg (fun i hi => h i (by omega))]]
theorem verdN_cg {d d' : Nat → Nat} {m : Nat} (h : ∀ i, 17 ≤ i → d' i = d i) : verdN d' m = verdN d m := by
  unfold verdN
  rw [unbN_cg h]
  split
  · rfl
  · split
    · rfl
    · split
      · rfl
      · rw [otherN_cg h]
theorem setlN_cg {d d' : Nat → Nat} {m : Nat} (h : ∀ i, 17 ≤ i → d' i = d i) : setlN d' m = setlN d m := by
  unfold setlN
  rw [verdN_cg h, unbN_cg h]
/-- what is found does not ask for the estate, the rest and the heirs' own sums -/
theorem FoundC.dd {o : oW} {σ : cS} {p u : Nat} {d d' : Nat → Nat} {t : Nat → Term} (h : FoundC o σ p d t u) (hW : WOk d t) (h5 : ∀ i, i < 5 → d' i = d i) (h17 : ∀ i, 17 ≤ i → d' i = d i) : FoundC o σ p d' t u := by
  have h4 := hW.1.1.2
  obtain ⟨f, h1, h2, h3⟩ := h
  have ec := casesN_cg h5 h4
  refine ⟨f, by rw [ec]; exact h1, fun n hn => ?_, by rw [ec]; exact h3⟩
  rw [ec] at hn
  rcases h2 n hn with e | ⟨q, e, g1, row, g2, g3, g4⟩
  · exact Or.inl e
  · refine Or.inr ⟨q, e, g1, row, g2, ?_, ?_⟩
    · rw [setN_cg h5 (h17 17 (by decide)) hW, unbN_cg h17, verdN_cg h17, setlN_cg h17]; exact g3
    · rw [h5 0 (by decide)]
      exact g4.g (fun i hi => (valueN_cg (by omega) h5).symm)
theorem keep_get {PA : List Nat} {P : List Wl} {b j p : Nat} {W V : Wl} (hl : PA.length = P.length) (h1 : (keepL PA b)[j]? = some p) (h2 : (keepS P W)[j]? = some V) : (∃ i : Nat, PA[i]? = some p ∧ P[i]? = some V) ∨ (p = b ∧ V = W) := by
  have app : ∀ (A : List Nat) (B : List Wl) (j : Nat), A.length = B.length → (A ++ [b])[j]? = some p → (B ++ [W])[j]? = some V → (A[j]? = some p ∧ B[j]? = some V) ∨ (p = b ∧ V = W) := by
    intro A B j hl h1 h2
    by_cases c : j < A.length
    · rw [List.getElem?_append_left c] at h1
      rw [List.getElem?_append_left (by omega)] at h2
      exact Or.inl ⟨h1, h2⟩
    · have hlt := (List.getElem?_eq_some_iff.mp h1).1
      rw [List.length_append] at hlt
      have hj : j = A.length := by have : ([b] : List Nat).length = 1 := rfl; omega
      rw [hj, List.getElem?_append_right (Nat.le_refl _), Nat.sub_self] at h1
      rw [hj, hl, List.getElem?_append_right (Nat.le_refl _), Nat.sub_self] at h2
      cases h1
      cases h2
      exact Or.inr ⟨rfl, rfl⟩
  unfold keepL at h1
  unfold keepS at h2
  rw [hl] at h1
  by_cases c : P.length = 8
  · rw [if_pos c] at h1 h2
    rcases app PA.tail P.tail j (by rw [List.length_tail, List.length_tail, hl]) h1 h2 with ⟨q1, q2⟩ | q
    · rw [List.getElem?_tail] at q1 q2
      exact Or.inl ⟨j + 1, q1, q2⟩
    · exact Or.inr q
  · rw [if_neg c] at h1 h2
    rcases app PA P j hl h1 h2 with ⟨q1, q2⟩ | q
    · exact Or.inl ⟨j, q1, q2⟩
    · exact Or.inr q
theorem keepL_mem {PA : List Nat} {b p : Nat} (h : p ∈ keepL PA b) : p ∈ PA ∨ p = b := by
  unfold keepL at h
  split at h
  · rcases List.mem_append.mp h with q | q
    · exact Or.inl (List.mem_of_mem_tail q)
    · exact Or.inr (by simpa using q)
  · rcases List.mem_append.mp h with q | q
    · exact Or.inl q
    · exact Or.inr (by simpa using q)
theorem keepL_len {PA : List Nat} {P : List Wl} {b : Nat} {W : Wl} (hl : PA.length = P.length) : (keepL PA b).length = (keepS P W).length := by
  unfold keepL keepS
  rw [hl]
  split
  · simp [hl]
  · simp [hl]
theorem keepL_nodup {PA : List Nat} {b : Nat} (h : PA.Nodup) (hb : b ∉ PA) : (keepL PA b).Nodup := by
  unfold keepL
  split
  · refine List.nodup_append.mpr ⟨h.sublist (List.tail_sublist _), by simp, fun x hx y hy => ?_⟩
    have : y = b := by simpa using hy
    rw [this]
    intro e
    rw [e] at hx
    exact hb (List.mem_of_mem_tail hx)
  · refine List.nodup_append.mpr ⟨h, by simp, fun x hx y hy => ?_⟩
    have : y = b := by simpa using hy
    rw [this]
    intro e
    rw [e] at hx
    exact hb hx
theorem keepS_ok {P : List Wl} {W : Wl} (h8 : P.length ≤ 8) : (keepS P W).length ≤ 8 ∧ ∀ V, V ∈ keepS P W → V ∈ P ∨ V = W := by
  unfold keepS
  split
  · next c =>
    refine ⟨by simp [c], fun V hV => ?_⟩
    rcases List.mem_append.mp hV with q | q
    · exact Or.inl (List.mem_of_mem_tail q)
    · exact Or.inr (by simpa using q)
  · refine ⟨by simp; omega, fun V hV => ?_⟩
    rcases List.mem_append.mp hV with q | q
    · exact Or.inl q
    · exact Or.inr (by simpa using q)
theorem SSok.keep {S : SS} (h : SSok S) : SSok (S.1, keepS S.2.1 S.1, S.2.2) := by
  obtain ⟨h1, h2, h3, h4⟩ := h
  obtain ⟨g1, g2⟩ := keepS_ok (W := S.1) h2
  refine ⟨h1, g1, fun V hV => ?_, h4⟩
  rcases g2 V hV with q | q
  · exact h3 V q
  · rw [q]; exact h1
/-- the parts without the current will -/
def CIo (o : oW) (σ : cS) (x : Nat) (S : SS) (wa dq sl bu re : Nat) (PA : List Nat) (ka : Nat → Nat) : Prop := (o x = (x + 1, 0) ∧ σ.1 x = some (.inr (0, mF wa dq sl bu re))) ∧ DQc o σ x dq PA ∧ SLc o σ x sl S.2.2.1 ka ∧ SBc o σ x 4 bu S.2.2.2.1 ∧ SBc o σ x 6 re S.2.2.2.2
theorem CIx.ne {o : oW} {σ : cS} {x wa dq sl bu re : Nat} {S : SS} {PA : List Nat} {ka : Nat → Nat} (h : CIx o σ x S wa dq sl bu re PA ka) {p : Nat} {W : Wl} (hp : WX o σ p W) : x ≠ p := fun e => by
  obtain ⟨fs, wc⟩ := hp.cl
  have := h.1.2
  rw [e, wc] at this
  cases this
/-- new cells alone -/
theorem CIx.al {o o' : oW} {σ σ' : cS} {x wa dq sl bu re : Nat} {S : SS} {PA : List Nat} {ka : Nat → Nat} (h : CIx o σ x S wa dq sl bu re PA ka) (hO : SFk S) (hS : SI o σ) (C : Ch (fun _ => False) σ σ') (oo : ∀ q, q < σ.2 0 → o' q = o q) : CIx o' σ' x S wa dq sl bu re PA ka := h.w (W := S.1) hO C hS (fun _ _ w => w.elim) oo (h.2.2.2.2.2.1.c hO.1 C hS (fun _ _ w => w.elim) oo)
theorem past_keep {o : oW} {σ : cS} {PA : List Nat} {P : List Wl} {b : Nat} {W : Wl} (hl : PA.length = P.length) (h : ∀ (j p : Nat) (V : Wl), PA[j]? = some p → P[j]? = some V → WX o σ p V) (hb : WX o σ b W) : (keepL PA b).length = (keepS P W).length ∧ ∀ (j p : Nat) (V : Wl), (keepL PA b)[j]? = some p → (keepS P W)[j]? = some V → WX o σ p V := by
  refine ⟨keepL_len hl, fun j p V hp hV => ?_⟩
  rcases keep_get hl hp hV with ⟨i, q1, q2⟩ | ⟨q1, q2⟩
  · exact h i p V q1 q2
  · rw [q1, q2]; exact hb
/-- a will is kept: what stays -/
theorem cl_keepP {o : oW} {σ : cS} {x wa dq sl bu re b : Nat} {S : SS} {PA : List Nat} {ka : Nat → Nat} {W : Wl} (hS : SI o σ) (hK : KA o σ) (hX : CIx o σ x S wa dq sl bu re PA ka) (hl : PA.length ≤ 8) (hb : WX o σ b W) : ∃ σ', m_X1_keep x (some b) σ = some (0, σ') ∧ (SI o σ' ∧ KA o σ') ∧ σ'.1 x = some (.inr (0, mF wa dq sl bu re)) ∧ DQc o σ' x dq (keepL PA b) ∧ SLc o σ' x sl S.2.2.1 ka ∧ (SBc o σ' x 4 bu S.2.2.2.1 ∧ SBc o σ' x 6 re S.2.2.2.2) ∧ (∀ p V, FOk V.1 → WX o σ p V → WX o σ' p V) ∧ Ch (DqM o x) σ σ' ∧ σ'.2 = σ.2 := by
  obtain ⟨⟨x1, x2⟩, d1, s1, b1, r1, w1, ⟨p0, p1⟩, k1, n1, n2⟩ := id hX
  obtain ⟨fsb, bc⟩ := hb.cl
  obtain ⟨σ2, e2, D2, C2, k2⟩ := cl_keep (wa := wa) (sl := sl) (bu := bu) (re := re) hS x1 x2 d1 hl (okV_J bc rfl)
  have hM0 : ∀ q, q < σ.2 0 → DqM o x q → (o q).1 = x + 1 := fun q _ w => by rcases w with w | w <;> rw [w]
  have nd : ∀ {q k : Nat}, o q = (x + 1, k) → k ≠ 1 → k ≠ 2 → ¬ DqM o x q := fun {q k} hq h1 h2 w => by
    rcases w with w | w
    · rw [hq] at w; exact h1 (congrArg Prod.snd w)
    · rw [hq] at w; exact h2 (congrArg Prod.snd w)
  have sb : ∀ {k p : Nat} {B : List Nat}, 3 ≤ k → SBc o σ x k p B → SBc o σ2 x k p B := fun {k p B} h3 hB => by
    obtain ⟨g1, by_, cap, f, ml, g2, g3, g4, g5⟩ := hB
    exact ⟨g1, by_, cap, f, ml, g2, C2.c hS.1 g3 (nd g1 (by omega) (by omega)), C2.c hS.1 g4 (nd g2 (by omega) (by omega)), g5⟩
  refine ⟨σ2, e2, ⟨hS.ch C2, hK.c C2 hS.1 (fun q hq w => by rw [hM0 q hq w]; exact Nat.succ_ne_zero _) (fun _ _ => rfl)⟩, C2.c hS.1 x2 (nd x1 (by decide) (by decide)), D2, ?_, ⟨sb (by decide) b1, sb (by decide) r1⟩, fun p V hV hp => hp.c hV C2 hS (fun q hq w => by rw [hM0 q hq w]; have := hX.ne hp; omega) (fun _ _ => rfl), C2, k2⟩
  obtain ⟨g1, g, g2, g3⟩ := s1
  exact ⟨g1, g, C2.c hS.1 g2 (nd g1 (by decide) (by decide)), g3⟩
theorem CIx.lt {o : oW} {σ : cS} {p : Nat} {V : Wl} (hS : SI o σ) (hp : WX o σ p V) : p < σ.2 0 := by
  obtain ⟨fs, c⟩ := hp.cl
  exact hS.lt c
/-- a copy that was made since σ0 goes into the past -/
theorem cl_keepX {o : oW} {σ : cS} {x wa dq sl bu re b : Nat} {S : SS} {PA : List Nat} {ka : Nat → Nat} {W : Wl} (hS : SI o σ) (hK : KA o σ) (hX : CIx o σ x S wa dq sl bu re PA ka) (hO : SFk S) (hb : WX o σ b W) (hW : FOk W.1) (hn : b ∉ wa :: PA) (hk : ∀ j V, j < 2 → S.2.2.1 j = some V → ka j ≠ b) : ∃ σ', m_X1_keep x (some b) σ = some (0, σ') ∧ (SI o σ' ∧ KA o σ') ∧ CIx o σ' x (S.1, keepS S.2.1 W, S.2.2) wa dq sl bu re (keepL PA b) ka ∧ Ch (DqM o x) σ σ' ∧ σ'.2 = σ.2 := by
  obtain ⟨⟨x1, x2⟩, d1, s1, b1, r1, w1, ⟨p0, p1⟩, k1, n1, n2⟩ := id hX
  obtain ⟨σ2, e2, SK2, xc2, D2, SL2, ⟨B2, R2⟩, tr, C2, k2⟩ := cl_keepP hS hK hX (by rw [p0]; exact hO.2.1) hb
  refine ⟨σ2, e2, SK2, ⟨⟨x1, xc2⟩, D2, SL2, B2, R2, tr wa _ hO.1 w1, past_keep p0 (fun j p V hp hV => tr p V (hO.2.2.1 V (List.mem_of_getElem? hV)) (p1 j p V hp hV)) (tr b _ hW hb), fun j V hj hV => tr _ V (hO.2.2.2 j V hj hV) (k1 j V hj hV), ?_, fun j V hj hV => ?_⟩, C2, k2⟩
  · have hnd := List.nodup_cons.mp n1
    refine List.nodup_cons.mpr ⟨fun w => ?_, keepL_nodup hnd.2 (fun w => hn (List.mem_cons.mpr (Or.inr w)))⟩
    rcases keepL_mem w with q | q
    · exact hnd.1 q
    · exact hn (by rw [q]; exact List.mem_cons_self)
  · have h0 := n2 j V hj hV
    intro w
    rcases List.mem_cons.mp w with q | q
    · exact h0 (List.mem_cons.mpr (Or.inl q))
    · rcases keepL_mem q with q2 | q2
      · exact h0 (List.mem_cons.mpr (Or.inr q2))
      · exact hk j V hj hV q2
/-- addresses that are there already are not the next one -/
theorem CIx.fresh {o : oW} {σ : cS} {x wa dq sl bu re : Nat} {S : SS} {PA : List Nat} {ka : Nat → Nat} (h : CIx o σ x S wa dq sl bu re PA ka) (hS : SI o σ) : σ.2 0 ∉ wa :: PA ∧ ∀ j V, j < 2 → S.2.2.1 j = some V → ka j ≠ σ.2 0 := by
  obtain ⟨-, -, -, -, -, w1, ⟨p0, p1⟩, k1, -⟩ := h
  refine ⟨fun w => ?_, fun j V hj hV e => ?_⟩
  · rcases List.mem_cons.mp w with q | q
    · have := CIx.lt hS w1
      omega
    · obtain ⟨i, hi⟩ := List.getElem?_of_mem q
      have hl := (List.getElem?_eq_some_iff.mp hi).1
      have := CIx.lt hS (p1 i _ _ hi (List.getElem?_eq_getElem (by rw [p0] at hl; exact hl)))
      omega
  · have := CIx.lt hS (k1 j V hj hV)
    omega
/-- the will is copied into the past -/
theorem cl_rem {o : oW} {σ : cS} {x wa dq sl bu re u n m : Nat} {S : SS} {PA : List Nat} {ka : Nat → Nat} {L : Nat → Nat} (hS : SI o σ) (hK : KA o σ) (hX : CIx o σ x S wa dq sl bu re PA ka) (hO : SSok S) (hC : WillC o σ wa L S.1.1 S.1.2) (hF : FoundC o σ (L 5) S.1.1 S.1.2 u) (hR : Rm σ (n + 35) (m + 506)) : ∃ σ' o' PA', m_X1_remember x σ = some (0, σ') ∧ (SI o' σ' ∧ KA o' σ') ∧ CIx o' σ' x (S.1, keepS S.2.1 S.1, S.2.2) wa dq sl bu re PA' ka ∧ WillC o' σ' wa L S.1.1 S.1.2 ∧ FoundC o' σ' (L 5) S.1.1 S.1.2 u ∧ Rm σ' n m := by
  have hW := hO.1.1
  obtain ⟨σ1, o1, L1, e1, N1, F1, ⟨S1, -⟩, C1, oo, R1⟩ := cl_dup (x := n) (y := m) hW hS hK.1 hC hR
  have K1 : KA o1 σ1 := hK.c C1 hS.1 (fun _ _ w => w.elim) oo
  have X1 := hX.al hO.f hS C1 oo
  obtain ⟨f1, f2⟩ := hX.fresh hS
  obtain ⟨σ2, e2, SK2, X2, C2, k2⟩ := cl_keepX S1 K1 X1 hO.f ⟨L1, _, N1, FoundC.of F1⟩ hW.1 f1 f2
  have hC1 := hC.c C1 hS.1 hW.1 (fun _ _ w => w.elim) oo (hS.l hC.o5)
  have hF1 := hF.c C1 hS.1 (fun _ _ w => w.elim) id oo
  have hMp : ∀ q, q < σ1.2 0 → DqM o1 x q → (o1 q).1 ≠ 0 ∧ (o1 q).1 ≠ wa + 1 := fun q _ w => by
    have := X1.ne X1.2.2.2.2.2.1
    rcases w with w | w <;> · rw [w]; show x + 1 ≠ 0 ∧ x + 1 ≠ wa + 1; omega
  refine ⟨σ2, o1, _, ?_, SK2, X2, hC1.c C2 S1.1 hW.1 (fun q hq w => ⟨(hMp q hq w).1, fun e => absurd e (hMp q hq w).2⟩) (fun _ _ => rfl) (S1.l hC1.o5), hF1.c C2 S1.1 (fun q hq w => (hMp q hq w).1) (fun w => (hMp _ (S1.l hC1.o5) w).2 (by rw [hC1.o5])) (fun _ _ => rfl), ?_⟩
  · unfold m_X1_remember
    rw [gR_J hX.1.2 rfl, nn_J hC.w, e1, bd_J, nn_J X1.1.2, e2, bd_J]
  · unfold Rm at R1 ⊢
    rw [k2]
    exact R1
/-- the current will is another now -/
theorem CIx.cur {o : oW} {M : Nat → Prop} {σ σ' : cS} {x wa dq sl bu re : Nat} {S : SS} {PA : List Nat} {ka : Nat → Nat} {W : Wl} (h : CIx o σ x S wa dq sl bu re PA ka) (hO : SFk S) (hS : SI o σ) (hK : KA o σ) (hC : Ch M σ σ') (hM : ∀ q, q < σ.2 0 → M q → (o q).1 = wa + 1) (hw : WX o σ' wa W) : CInv o σ' x (W, S.2) := ⟨⟨hS.ch hC, hK.c hC hS.1 (fun q hq w => by rw [hM q hq w]; exact Nat.succ_ne_zero _) (fun _ _ => rfl)⟩, wa, dq, sl, bu, re, PA, ka, h.w hO hC hS hM (fun _ _ => rfl) hw⟩
/-- the start of a change: the parts, with the current will's -/
theorem CInv.parts {o : oW} {σ : cS} {x : Nat} {S : SS} (h : CInv o σ x S) : (SI o σ ∧ KA o σ) ∧ ∃ wa dq sl bu re PA ka L u, CIx o σ x S wa dq sl bu re PA ka ∧ WillC o σ wa L S.1.1 S.1.2 ∧ FoundC o σ (L 5) S.1.1 S.1.2 u := by
  obtain ⟨h1, wa, dq, sl, bu, re, PA, ka, hX⟩ := h
  obtain ⟨L, u, w1, w2⟩ := hX.2.2.2.2.2.1
  exact ⟨h1, wa, dq, sl, bu, re, PA, ka, L, u, hX, w1, w2⟩
