/-! THE PLAIN LAW, the class' side: the object while its report, or its buffer, is written -/
set_option maxRecDepth 1000000
theorem SI.fr {o : oW} {σ : cS} {q : Nat} (h : SI o σ) (hq : σ.2 0 ≤ q) : (o q).1 = 0 := Classical.byContradiction fun w => by
  have := h.1 q (h.2.2 q w).2.1
  omega
section FINE
variable {o o' : oW} {M : Nat → Prop} {σ σ' : cS} {x p : Nat}
theorem SBc.c2 {k : Nat} {B : List Nat} (h : SBc o σ x k p B) (hC : Ch M σ σ') (hW : Wf σ) (hM : ∀ q, q < σ.2 0 → M q → o q ≠ (x + 1, k) ∧ o q ≠ (x + 1, k + 1)) (ho : ∀ q, q < σ.2 0 → o' q = o q) : SBc o' σ' x k p B := by
  obtain ⟨h1, b, cap, f, ml, h2, h3, h4, h5, h6⟩ := h
  exact ⟨by rw [ho _ (hW.lt h3)]; exact h1, b, cap, f, ml, by rw [ho _ (hW.lt h4)]; exact h2, hC.c hW h3 (fun w => (hM _ (hW.lt h3) w).1 h1), hC.c hW h4 (fun w => (hM _ (hW.lt h4) w).2 h2), h5, h6⟩
theorem DQc.c2 {PA : List Nat} (h : DQc o σ x p PA) (hC : Ch M σ σ') (hW : Wf σ) (hM : ∀ q, q < σ.2 0 → M q → o q ≠ (x + 1, 1) ∧ o q ≠ (x + 1, 2)) (ho : ∀ q, q < σ.2 0 → o' q = o q) : DQc o' σ' x p PA := by
  obtain ⟨h1, da, hd, f, h2, h3, h4, h5⟩ := h
  exact ⟨by rw [ho _ (hW.lt h3)]; exact h1, da, hd, f, by rw [ho _ (hW.lt h4)]; exact h2, hC.c hW h3 (fun w => (hM _ (hW.lt h3) w).1 h1), hC.c hW h4 (fun w => (hM _ (hW.lt h4) w).2 h2), h5⟩
theorem SLc.c2 {K : Nat → Option Wl} {ka : Nat → Nat} (h : SLc o σ x p K ka) (hC : Ch M σ σ') (hW : Wf σ) (hM : ∀ q, q < σ.2 0 → M q → o q ≠ (x + 1, 3)) (ho : ∀ q, q < σ.2 0 → o' q = o q) : SLc o' σ' x p K ka := by
  obtain ⟨h1, g, h2, h3⟩ := h
  exact ⟨by rw [ho _ (hW.lt h2)]; exact h1, g, hC.c hW h2 (fun w => hM _ (hW.lt h2) w h1), h3⟩
end FINE
def rpS (S : SS) (B : List Nat) : SS := (S.1, S.2.1, S.2.2.1, S.2.2.2.1, B)
def bfS (S : SS) (B : List Nat) : SS := (S.1, S.2.1, S.2.2.1, B, S.2.2.2.2)
section PXR
variable {o o' : oW} {M : Nat → Prop} {σ σ' : cS} {x wa dq sl bu re re' u : Nat} {S : SS} {PA : List Nat} {ka L : Nat → Nat} {B : List Nat}
theorem PX.rep (h : PX o σ x S wa dq sl bu re PA ka L u) (hO : SFk S) (C : Ch M σ σ') (hM : ∀ q, q < σ.2 0 → M q → o q = (x + 1, 0) ∨ o q = (x + 1, 6) ∨ o q = (x + 1, 7)) (oo : ∀ q, q < σ.2 0 → o' q = o q) (hS' : SI o' σ') (hr : SBc o' σ' x 6 re' B) (hx : σ'.1 x = some (.inr (0, mF wa dq sl bu re'))) : PX o' σ' x (rpS S B) wa dq sl bu re' PA ka L u := by
  obtain ⟨⟨hS, hK⟩, hX, hC, hF⟩ := h
  obtain ⟨⟨x1, x2⟩, d1, s1, b1, r1, w1, ⟨p0, p1⟩, k1, n1, n2⟩ := id hX
  have hM1 : ∀ q, q < σ.2 0 → M q → (o q).1 = x + 1 := fun q hq w => by rcases hM q hq w with e | e | e <;> rw [e]
  have hM0 : ∀ q, q < σ.2 0 → M q → (o q).1 ≠ 0 := fun q hq w => by rw [hM1 q hq w]; exact Nat.succ_ne_zero _
  have mo : ∀ p V, FOk V.1 → WX o σ p V → WX o' σ' p V := fun p V hV hp => hp.c hV C hS (fun q hq w => by rw [hM1 q hq w]; have := hX.ne hp; omega) oo
  have mr : ∀ j : Nat, 1 ≤ j → j ≤ 5 → ∀ q, q < σ.2 0 → M q → o q ≠ (x + 1, j) := fun j hj h5 q hq w e => by
    rcases hM q hq w with e' | e' | e' <;> rw [e'] at e <;> (have := (Prod.mk.inj e).2) <;> omega
  have hxa := hX.ne w1
  refine ⟨⟨hS', hK.c C hS.1 hM0 oo⟩, ⟨⟨by rw [oo _ (hS.lt x2)]; exact x1, hx⟩, d1.c2 C hS.1 (fun q hq w => ⟨mr 1 (by decide) (by decide) q hq w, mr 2 (by decide) (by decide) q hq w⟩) oo, s1.c2 C hS.1 (mr 3 (by decide) (by decide)) oo, b1.c2 C hS.1 (fun q hq w => ⟨mr 4 (by decide) (by decide) q hq w, mr 5 (by decide) (by decide) q hq w⟩) oo, hr, mo _ _ hO.1 w1, ⟨p0, fun j p V hp hV => mo _ _ (hO.2.2.1 V (List.mem_of_getElem? hV)) (p1 j p V hp hV)⟩, fun j V hj hV => mo _ _ (hO.2.2.2 j V hj hV) (k1 j V hj hV), n1, n2⟩, hC.c C hS.1 hO.1 (fun q hq w => ⟨hM0 q hq w, fun e => ?_⟩) oo (hS.l hC.o5), hF.c C hS.1 hM0 (fun w => ?_) oo⟩
  · rw [hM1 q hq w] at e
    omega
  · have := hM1 _ (hS.l hC.o5) w
    rw [hC.o5] at this
    exact hxa (Nat.succ.inj this).symm
theorem PX.buf (h : PX o σ x S wa dq sl bu re PA ka L u) (hO : SFk S) (C : Ch M σ σ') (hM : ∀ q, q < σ.2 0 → M q → o q = (x + 1, 4) ∨ o q = (x + 1, 5)) (oo : ∀ q, q < σ.2 0 → o' q = o q) (hS' : SI o' σ') (hr : SBc o' σ' x 4 bu B) : PX o' σ' x (bfS S B) wa dq sl bu re PA ka L u := by
  obtain ⟨⟨hS, hK⟩, hX, hC, hF⟩ := h
  obtain ⟨⟨x1, x2⟩, d1, s1, b1, r1, w1, ⟨p0, p1⟩, k1, n1, n2⟩ := id hX
  have hM1 : ∀ q, q < σ.2 0 → M q → (o q).1 = x + 1 := fun q hq w => by rcases hM q hq w with e | e <;> rw [e]
  have hM0 : ∀ q, q < σ.2 0 → M q → (o q).1 ≠ 0 := fun q hq w => by rw [hM1 q hq w]; exact Nat.succ_ne_zero _
  have mo : ∀ p V, FOk V.1 → WX o σ p V → WX o' σ' p V := fun p V hV hp => hp.c hV C hS (fun q hq w => by rw [hM1 q hq w]; have := hX.ne hp; omega) oo
  have mr : ∀ j : Nat, j ≠ 4 → j ≠ 5 → ∀ q, q < σ.2 0 → M q → o q ≠ (x + 1, j) := fun j hj h5 q hq w e => by
    rcases hM q hq w with e' | e' <;> rw [e'] at e <;> (have := (Prod.mk.inj e).2) <;> omega
  have hxa := hX.ne w1
  refine ⟨⟨hS', hK.c C hS.1 hM0 oo⟩, ⟨⟨by rw [oo _ (hS.lt x2)]; exact x1, C.c hS.1 x2 (fun w => mr 0 (by decide) (by decide) _ (hS.lt x2) w x1)⟩, d1.c2 C hS.1 (fun q hq w => ⟨mr 1 (by decide) (by decide) q hq w, mr 2 (by decide) (by decide) q hq w⟩) oo, s1.c2 C hS.1 (mr 3 (by decide) (by decide)) oo, hr, r1.c2 C hS.1 (fun q hq w => ⟨mr 6 (by decide) (by decide) q hq w, mr 7 (by decide) (by decide) q hq w⟩) oo, mo _ _ hO.1 w1, ⟨p0, fun j p V hp hV => mo _ _ (hO.2.2.1 V (List.mem_of_getElem? hV)) (p1 j p V hp hV)⟩, fun j V hj hV => mo _ _ (hO.2.2.2 j V hj hV) (k1 j V hj hV), n1, n2⟩, hC.c C hS.1 hO.1 (fun q hq w => ⟨hM0 q hq w, fun e => ?_⟩) oo (hS.l hC.o5), hF.c C hS.1 hM0 (fun w => ?_) oo⟩
  · rw [hM1 q hq w] at e
    omega
  · have := hM1 _ (hS.l hC.o5) w
    rw [hC.o5] at this
    exact hxa (Nat.succ.inj this).symm
end PXR
section PBS
variable {o : oW} {σ : cS} {x wa dq sl bu re n m : Nat} {S : SS} {PA : List Nat} {ka L : Nat → Nat} {B : List Nat}
/-- the object whose report is B so far, with room -/
def PB (o : oW) (σ : cS) (x : Nat) (S : SS) (wa dq sl bu re : Nat) (PA : List Nat) (ka L : Nat → Nat) (n m : Nat) (B : List Nat) : Prop := ∃ u cap, PX o σ x (rpS S B) wa dq sl bu re PA ka L u ∧ SBx o σ x 6 re B cap ∧ Rm σ (2 * u + n + (2000 - cap)) (9 * u + m + 2 * (2000 - cap))
/-- guards stay -/
def KG (S : SS) (o : oW) (σ : cS) (o' : oW) (σ' : cS) : Prop := (∀ D p tm, GuardC o σ S.1.1 D p tm → GuardC o' σ' S.1.1 D p tm) ∧ (∀ q e, (o q).1 = 0 → σ.1 q = some e → (o' q).1 = 0 ∧ σ'.1 q = some e) ∧ σ'.2 15 = σ.2 15
theorem KG.trans {o1 o2 o3 : oW} {σ1 σ2 σ3 : cS} (h : KG S o1 σ1 o2 σ2) (h' : KG S o2 σ2 o3 σ3) : KG S o1 σ1 o3 σ3 := ⟨fun D p tm g => h'.1 D p tm (h.1 D p tm g), fun q e h1 h2 => h'.2.1 q e (h.2.1 q e h1 h2).1 (h.2.1 q e h1 h2).2, h'.2.2.trans h.2.2⟩
theorem KG.rf {o1 : oW} {σ1 : cS} : KG S o1 σ1 o1 σ1 := ⟨fun _ _ _ g => g, fun _ _ h1 h2 => ⟨h1, h2⟩, rfl⟩
theorem KG.of {M : Nat → Prop} {o' : oW} {σ' : cS} (hF : FOk S.1.1) (hS : SI o σ) (C : Ch M σ σ') (hM : ∀ q, q < σ.2 0 → M q → (o q).1 ≠ 0) (oo : ∀ q, q < σ.2 0 → o' q = o q) : KG S o σ o' σ' := ⟨fun D p tm g => GuardC.c C hS.1 hM (fun q hq w => by rw [oo q hq]; exact w) (fun _ _ => rfl) hF.1.2 D p tm g, fun q e h1 h2 => ⟨by rw [oo q (hS.lt h2)]; exact h1, C.c hS.1 h2 (fun w => hM q (hS.lt h2) w h1)⟩, C.k (by decide)⟩
theorem PB.nn {β : Type} {K : Nat → Option β} (h : PB o σ x S wa dq sl bu re PA ka L n m B) : nn σ (some re) 11 K = K re := by
  obtain ⟨u, cap, h1, h2, h3⟩ := h
  exact h2.nn
theorem PB.xc (h : PB o σ x S wa dq sl bu re PA ka L n m B) : σ.1 x = some (.inr (0, mF wa dq sl bu re)) := by
  obtain ⟨u, cap, h1, h2, h3⟩ := h
  exact h1.2.1.1.2
theorem PB.W (h : PB o σ x S wa dq sl bu re PA ka L n m B) : WillC o σ wa L S.1.1 S.1.2 := by
  obtain ⟨u, cap, h1, h2, h3⟩ := h
  exact h1.2.2.1
theorem PB.SK (h : PB o σ x S wa dq sl bu re PA ka L n m B) : SI o σ ∧ KA o σ := by
  obtain ⟨u, cap, h1, h2, h3⟩ := h
  exact h1.1
theorem PB.C (h : PB o σ x S wa dq sl bu re PA ka L n m B) : CInv o σ x (rpS S B) := by
  obtain ⟨u, cap, h1, h2, h3⟩ := h
  exact h1.C
theorem PB.len (h : PB o σ x S wa dq sl bu re PA ka L n m B) : m_J3_length re σ = some (Int32.ofNat B.length, σ) := by
  obtain ⟨u, cap, h1, h2, h3⟩ := h
  obtain ⟨-, b, f, ml, -, g1, -⟩ := id h2
  unfold m_J3_length m_J2_length
  rw [h2.nn, gI_J g1 rfl, bd_J]
theorem PB.step {o' : oW} {σ' : cS} {u cap cap' : Nat} {B' : List Nat} (h1 : PX o σ x (rpS S B) wa dq sl bu re PA ka L u) (hO : SFk S) (C : Ch (SbM o x 6) σ σ') (oo : ∀ q, q < σ.2 0 → o' q = o q) (S' : SI o' σ') (hr : SBx o' σ' x 6 re B' cap') (hR : RB σ' cap' (2 * u + n) (9 * u + m)) : PB o' σ' x S wa dq sl bu re PA ka L n m B' ∧ KG S o σ o' σ' := by
  have x2 := h1.2.1.1
  refine ⟨⟨u, cap', PX.rep (S := rpS S B) h1 hO C (fun q _ w => Or.inr w) oo S' hr.c (C.c h1.1.1.1 x2.2 (fun w => ?_)), hr, hR⟩, KG.of hO.1 h1.1.1 C (fun q _ w => ?_) oo⟩
  · rcases w with w | w <;> rw [x2.1] at w <;> (have := (Prod.mk.inj w).2) <;> omega
  · rw [w.ow]; exact Nat.succ_ne_zero _
theorem PB.int (h : PB o σ x S wa dq sl bu re PA ka L n m B) (hO : SFk S) {z : Nat} (hz : z < 100000) (hl : B.length ≤ 890) : ∃ σ' o', m_J3_append re (Int32.ofNat z) σ = some (some re, σ') ∧ PB o' σ' x S wa dq sl bu re PA ka L n m (B ++ decN z) ∧ KG S o σ o' σ' := by
  obtain ⟨u, cap, h1, h2, h3⟩ := h
  obtain ⟨σ', o', cap', e, X, S', C, oo, R⟩ := sb_int (u := 2 * u + n) (v := 9 * u + m) h1.1.1 h1.1.2 h2 hz hl h3
  exact ⟨σ', o', e, PB.step (cap := cap) h1 hO C oo S' X R⟩
theorem PB.str (h : PB o σ x S wa dq sl bu re PA ka L n m B) (hO : SFk S) {q : Nat} {s : List Nat} (hs : SC o σ q s) (h10 : s.length ≤ 10) (hl : B.length + s.length ≤ 900) : ∃ σ' o', m_J3_append_2 re (some q) σ = some (some re, σ') ∧ PB o' σ' x S wa dq sl bu re PA ka L n m (B ++ s) ∧ KG S o σ o' σ' := by
  obtain ⟨u, cap, h1, h2, h3⟩ := h
  obtain ⟨σ', o', cap', e, X, S', C, oo, R⟩ := sb_str (u := 2 * u + n) (v := 9 * u + m) h1.1.1 h2 hs h10 hl h3
  exact ⟨σ', o', e, PB.step (cap := cap) h1 hO C oo S' X R⟩
theorem PB.chr (h : PB o σ x S wa dq sl bu re PA ka L n m B) (hO : SFk S) {c : Nat} (hc : c < 256) (hl : B.length + 1 ≤ 900) : ∃ σ' o', m_J3_append_3 re (Int32.ofNat c) σ = some (some re, σ') ∧ PB o' σ' x S wa dq sl bu re PA ka L n m (B ++ [c]) ∧ KG S o σ o' σ' := by
  obtain ⟨u, cap, h1, h2, h3⟩ := h
  obtain ⟨σ', o', cap', e, X, S', C, oo, R⟩ := sb_chr (u := 2 * u + n) (v := 9 * u + m) h1.1.1 h2 hc hl h3
  exact ⟨σ', o', e, PB.step (cap := cap) h1 hO C oo S' X R⟩
theorem SBx.cc {o' : oW} {M : Nat → Prop} {σ' : cS} {k p cap : Nat} (h : SBx o σ x k p B cap) (hC : Ch M σ σ') (hW : Wf σ) (hM : ∀ q, q < σ.2 0 → M q → (o q).1 ≠ x + 1) (ho : ∀ q, q < σ.2 0 → o' q = o q) : SBx o' σ' x k p B cap := by
  obtain ⟨h1, b, f, ml, h2, h3, h4, h5⟩ := h
  exact ⟨by rw [ho _ (hW.lt h3)]; exact h1, b, f, ml, by rw [ho _ (hW.lt h4)]; exact h2, hC.c hW h3 (fun w => hM _ (hW.lt h3) w (by rw [h1])), hC.c hW h4 (fun w => hM _ (hW.lt h4) w (by rw [h2])), h5⟩
/-- something new is made -/
theorem PB.al {σ' : cS} {n' m' : Nat} (h : PB o σ x S wa dq sl bu re PA ka L n m B) (hO : SFk S) (C : Ch (fun _ => False) σ σ') (S' : SI o σ') (hR : ∀ a b, Rm σ (a + n) (b + m) → Rm σ' (a + n') (b + m')) : PB o σ' x S wa dq sl bu re PA ka L n' m' B := by
  obtain ⟨u, cap, h1, h2, h3⟩ := h
  have hR' := hR (2 * u + (2000 - cap)) (9 * u + 2 * (2000 - cap)) (h3.le (by omega) (by omega))
  obtain ⟨⟨hS, hK⟩, hX, hC, hF⟩ := h1
  exact ⟨u, cap, ⟨⟨S', hK.c C hS.1 (fun _ _ w => w.elim) (fun _ _ => rfl)⟩, CIx.al (S := rpS S B) hX hO hS C (fun _ _ => rfl), hC.c C hS.1 hO.1 (fun _ _ w => w.elim) (fun _ _ => rfl) (hS.l hC.o5), hF.c C hS.1 (fun _ _ w => w.elim) id (fun _ _ => rfl)⟩, h2.cc C hS.1 (fun _ _ w => w.elim) (fun _ _ => rfl), hR'.le (by omega) (by omega)⟩
theorem PB.look (h : PB o σ x S wa dq sl bu re PA ka L n m B) (hO : SFk S) (hW : WOk S.1.1 S.1.2) {k : Nat} (hk : k < casesN S.1.1) : ∃ q σ', m_X4_look wa (Int32.ofNat k) σ = some (some q, σ') ∧ PB o σ' x S wa dq sl bu re PA ka L n m B ∧ FindC o σ' q S.1.1 S.1.2 k := by
  obtain ⟨u, cap, ⟨⟨hS, hK⟩, hX, hC, hF⟩, h2, h3⟩ := h
  obtain ⟨q, σ', e, ⟨⟨S', K'⟩, -, C', u', F', R'⟩, f, C⟩ := cl_look (σ0 := σ) (x := n + (2000 - cap)) (y := m + 2 * (2000 - cap)) hW ⟨⟨hS, hK.1⟩, Ch.rf, hC, u, hF, h3.le (by omega) (by omega)⟩ hk
  have hM : ∀ q, q < σ.2 0 → o q = (wa + 1, 5) → (o q).1 ≠ 0 := fun q _ w => by rw [w]; exact Nat.succ_ne_zero _
  have hx := hX.ne hX.2.2.2.2.2.1
  exact ⟨q, σ', e, ⟨u', cap, ⟨⟨S', hK.c C hS.1 hM (fun _ _ => rfl)⟩, CIx.w (W := S.1) hX hO C hS (fun q _ w => by rw [w]) (fun _ _ => rfl) ⟨L, u', C', F'⟩, C', F'⟩, h2.cc C hS.1 (fun q _ w => by rw [w]; omega) (fun _ _ => rfl), R'.le (by omega) (by omega)⟩, f⟩
end PBS
