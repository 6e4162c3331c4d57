/-! THE PLAIN LAW, the class' side: the object and all it has -/
set_option maxRecDepth 100000
def txL : List (List Nat) := [bi0, bi1a ++ bi1b, bi2, [97, 32, 98, 117, 105, 108, 116, 45, 105, 110, 32, 116, 101, 120, 116, 32, 105, 115, 32, 119, 114, 111, 110, 103], [32], [44, 32], [32, 110, 111, 116, 104, 105, 110, 103], [], [32, 103, 105, 118, 101, 115], [32, 111, 118, 101, 114], [33], [63], [102, 97, 99, 116, 115], [104, 101, 105, 114, 115], [114, 101, 115, 116], [59, 44, 47, 40, 41, 61, 60, 62], [101, 115, 116, 97, 116, 101], [104, 101, 105, 114], [114, 117, 108, 101], [102, 114, 101, 101], [114, 97, 116, 101], [103, 105, 118, 101, 115], [110, 111, 116, 104, 105, 110, 103], [111, 118, 101, 114], [111, 114], [97, 110, 100], [110, 111, 116], [97, 108, 119, 97, 121, 115], [61, 60, 62], [97, 98, 99, 100], [32, 97, 110, 100, 32], [32, 111, 114, 32], [110, 111, 116, 32], [40, 32], [32, 41]]
def SSok (S : SS) : Prop := WO S.1 ∧ S.2.1.length ≤ 8 ∧ (∀ W, W ∈ S.2.1 → WO W) ∧ (∀ j W, j < 2 → S.2.2.1 j = some W → WO W) ∧ (S.2.2.2.1.length ≤ 700 ∧ ∀ x, x ∈ S.2.2.2.1 → x < 256) ∧ S.2.2.2.2.length ≤ 600 ∧ ∀ x, x ∈ S.2.2.2.2 → x < 256
/-- all its wills' facts are in range -/
def SFk (S : SS) : Prop := FOk S.1.1 ∧ S.2.1.length ≤ 8 ∧ (∀ W, W ∈ S.2.1 → FOk W.1) ∧ ∀ j W, j < 2 → S.2.2.1 j = some W → FOk W.1
theorem SSok.f {S : SS} (h : SSok S) : SFk S := ⟨h.1.1.1, h.2.1, fun W hW => (h.2.2.1 W hW).1.1, fun j W hj hW => (h.2.2.2.1 j W hj hW).1.1⟩
theorem TInv.ok {σ : twS} {S : SS} (h : TInv σ S) : SSok S := by
  obtain ⟨⟨h1, h2⟩, h3, h4, h5, h6, h7⟩ := h
  refine ⟨h2, h3.1, fun W hW => ?_, fun j W hj hW => (h4.2 j W hj hW).1, ⟨h5.1, h5.2.1⟩, h6.1, h7⟩
  obtain ⟨j, hj⟩ := List.getElem?_of_mem hW
  exact (h3.2.2 j W hj).1
theorem SC.c {o o' : oW} {M : Nat → Prop} {σ σ' : cS} {p : Nat} {s : List Nat} (h : SC o σ p s) (hC : Ch M σ σ') (hW : Wf σ) (hM : ∀ q, q < σ.2 0 → M q → (o q).1 ≠ 0) (ho : ∀ q, q < σ.2 0 → o' q = o q) : SC o' σ' p s := by
  obtain ⟨b, x, z, f, h1, h2, h3, h4, h5⟩ := h
  exact ⟨b, x, z, f, by rw [ho _ (hW.lt h3)]; exact h1, by rw [ho _ (hW.lt h4)]; exact h2, hC.c hW h3 (fun w => hM _ (hW.lt h3) w h1), hC.c hW h4 (fun w => hM _ (hW.lt h4) w h2), h5⟩
/-- the digits' tables -/
def DG (o : oW) (σ : cS) : Prop := ((o (σ.2 17)).1 = 0 ∧ ∃ f : Nat → Int32, σ.1 (σ.2 17) = some (.inl (1, 100, .inl f)) ∧ ∀ i, i < 100 → f i = Int32.ofNat (48 + i / 10)) ∧ (o (σ.2 18)).1 = 0 ∧ ∃ f : Nat → Int32, σ.1 (σ.2 18) = some (.inl (1, 100, .inl f)) ∧ ∀ i, i < 100 → f i = Int32.ofNat (48 + i % 10)
/-- all that stands from the start -/
def KA (o : oW) (σ : cS) : Prop := KL o σ ∧ (∀ k, k < 35 → SC o σ (σ.2 (20 + k)) (txL.getD k [])) ∧ (∀ i j, i < 5 → j < 5 → σ.2 (10 + i) = σ.2 (10 + j) → i = j) ∧ DG o σ
theorem KA.c {o o' : oW} {M : Nat → Prop} {σ σ' : cS} (h : KA o σ) (hC : Ch M σ σ') (hW : Wf σ) (hM : ∀ q, q < σ.2 0 → M q → (o q).1 ≠ 0) (ho : ∀ q, q < σ.2 0 → o' q = o q) : KA o' σ' := by
  obtain ⟨h1, h2, h3, ⟨h4, f, h5, h6⟩, h7, g, h8, h9⟩ := h
  refine ⟨h1.c hC hW hM ho, fun k hk => ?_, fun i j hi hj => ?_, ⟨?_, f, ?_, h6⟩, ?_, g, ?_, h9⟩
  · rw [hC.k (by omega)]; exact (h2 k hk).c hC hW hM ho
  · rw [hC.k (by omega), hC.k (by omega)]; exact h3 i j hi hj
  · rw [hC.k (by decide), ho _ (hW.lt h5)]; exact h4
  · rw [hC.k (by decide)]; exact hC.c hW h5 (fun w => hM _ (hW.lt h5) w h4)
  · rw [hC.k (by decide), ho _ (hW.lt h8)]; exact h7
  · rw [hC.k (by decide)]; exact hC.c hW h8 (fun w => hM _ (hW.lt h8) w h7)
/-- a text that is written -/
def SBc (o : oW) (σ : cS) (x k p : Nat) (B : List Nat) : Prop := o p = (x + 1, k) ∧ ∃ (by_ cap : Nat) (f : Nat → Int32) (ml : Int32), o by_ = (x + 1, k + 1) ∧ σ.1 p = some (.inr (11, [.ref by_, .int 0, .int ml, .int (Int32.ofNat B.length)])) ∧ σ.1 by_ = some (.inl (1, cap, .inl f)) ∧ (B.length ≤ cap ∧ (cap = 16 ∨ cap = 34 ∨ cap = 70 ∨ cap = 142 ∨ cap = 286 ∨ cap = 574 ∨ cap = 1150)) ∧ (∀ i, i < B.length → f i = (Int32.ofNat (B.getD i 0)).toInt8.toInt32) ∧ ∀ i, i < cap → (f i).toInt8.toInt32 = f i
theorem SBc.c {o o' : oW} {M : Nat → Prop} {σ σ' : cS} {x k p : Nat} {B : List Nat} (h : SBc o σ x k p B) (hC : Ch M σ σ') (hW : Wf σ) (hM : ∀ q, q < σ.2 0 → M q → (o q).1 ≠ x + 1) (ho : ∀ q, q < σ.2 0 → o' q = o q) : SBc o' σ' x k p B := by
  obtain ⟨h1, b, cap, f, ml, h2, h3, h4, h5, h6⟩ := h
  exact ⟨by rw [ho _ (hW.lt h3)]; exact h1, b, cap, f, ml, by rw [ho _ (hW.lt h4)]; exact h2, hC.c hW h3 (fun w => hM _ (hW.lt h3) w (by rw [h1])), hC.c hW h4 (fun w => hM _ (hW.lt h4) w (by rw [h2])), h5, h6⟩
/-- the past -/
def DQc (o : oW) (σ : cS) (x dq : Nat) (PA : List Nat) : Prop := o dq = (x + 1, 1) ∧ ∃ (da hd : Nat) (f : Nat → Option Nat), o da = (x + 1, 2) ∧ σ.1 dq = some (.inr (10, [.ref da, .int (Int32.ofNat hd), .int (Int32.ofNat ((hd + PA.length) % 17))])) ∧ σ.1 da = some (.inl (2, 17, vR f)) ∧ (hd < 17 ∧ PA.length ≤ 9) ∧ ∀ j p, PA[j]? = some p → f ((hd + j) % 17) = some p
theorem DQc.c {o o' : oW} {M : Nat → Prop} {σ σ' : cS} {x dq : Nat} {PA : List Nat} (h : DQc o σ x dq PA) (hC : Ch M σ σ') (hW : Wf σ) (hM : ∀ q, q < σ.2 0 → M q → (o q).1 ≠ x + 1) (ho : ∀ q, q < σ.2 0 → o' q = o q) : DQc o' σ' x dq PA := by
  obtain ⟨h1, da, hd, f, h2, h3, h4, h5⟩ := h
  exact ⟨by rw [ho _ (hW.lt h3)]; exact h1, da, hd, f, by rw [ho _ (hW.lt h4)]; exact h2, hC.c hW h3 (fun w => hM _ (hW.lt h3) w (by rw [h1])), hC.c hW h4 (fun w => hM _ (hW.lt h4) w (by rw [h2])), h5⟩
/-- the two snapshots -/
def SLc (o : oW) (σ : cS) (x sl : Nat) (K : Nat → Option Wl) (ka : Nat → Nat) : Prop := o sl = (x + 1, 3) ∧ ∃ g : Nat → Option Nat, σ.1 sl = some (.inl (3, 2, vR g)) ∧ ∀ j, j < 2 → g j = (K j).map fun _ => ka j
theorem SLc.c {o o' : oW} {M : Nat → Prop} {σ σ' : cS} {x sl : Nat} {K : Nat → Option Wl} {ka : Nat → Nat} (h : SLc o σ x sl K ka) (hC : Ch M σ σ') (hW : Wf σ) (hM : ∀ q, q < σ.2 0 → M q → (o q).1 ≠ x + 1) (ho : ∀ q, q < σ.2 0 → o' q = o q) : SLc o' σ' x sl K ka := by
  obtain ⟨h1, g, h2, h3⟩ := h
  exact ⟨by rw [ho _ (hW.lt h2)]; exact h1, g, hC.c hW h2 (fun w => hM _ (hW.lt h2) w (by rw [h1])), h3⟩
/-- a will with what is found in it -/
def WX (o : oW) (σ : cS) (a : Nat) (W : Wl) : Prop := ∃ L u, WillC o σ a L W.1 W.2 ∧ FoundC o σ (L 5) W.1 W.2 u
theorem WX.c {o o' : oW} {M : Nat → Prop} {σ σ' : cS} {a : Nat} {W : Wl} (h : WX o σ a W) (hF : FOk W.1) (hC : Ch M σ σ') (hS : SI o σ) (hM : ∀ q, q < σ.2 0 → M q → (o q).1 ≠ 0 ∧ (o q).1 ≠ a + 1) (ho : ∀ q, q < σ.2 0 → o' q = o q) : WX o' σ' a W := by
  obtain ⟨L, u, h1, h2⟩ := h
  have h5 := hS.l h1.o5
  exact ⟨L, u, h1.c hC hS.1 hF (fun q hq w => ⟨(hM q hq w).1, fun e => absurd e (hM q hq w).2⟩) ho h5, h2.c hC hS.1 (fun q hq w => (hM q hq w).1) (fun w => (hM _ h5 w).2 (by rw [h1.o5])) ho⟩
theorem WX.o {o : oW} {σ : cS} {a : Nat} {W : Wl} (h : WX o σ a W) : o a = (a + 1, 0) := by
  obtain ⟨L, u, h1, -⟩ := h
  exact h1.1.1.1
theorem WX.cl {o : oW} {σ : cS} {a : Nat} {W : Wl} (h : WX o σ a W) : ∃ fs, σ.1 a = some (.inr (1, fs)) := by
  obtain ⟨L, u, h1, -⟩ := h
  exact ⟨_, h1.w⟩
def mF (wa dq sl bu re : Nat) : List Value := [.ref wa, .ref dq, .ref sl, .ref bu, .ref re]
/-- the object's parts -/
def CIx (o : oW) (σ : cS) (x : Nat) (S : SS) (wa dq sl bu re : Nat) (PA : List Nat) (ka : Nat → Nat) : Prop := (o x = (x + 1, 0) ∧ σ.1 x = some (.inr (0, mF wa dq sl bu re))) ∧ DQc o σ x dq PA ∧ SLc o σ x sl S.2.2.1 ka ∧ SBc o σ x 4 bu S.2.2.2.1 ∧ SBc o σ x 6 re S.2.2.2.2 ∧ WX o σ wa S.1 ∧ (PA.length = S.2.1.length ∧ ∀ (j p : Nat) (W : Wl), PA[j]? = some p → S.2.1[j]? = some W → WX o σ p W) ∧ (∀ j W, j < 2 → S.2.2.1 j = some W → WX o σ (ka j) W) ∧ (wa :: PA).Nodup ∧ ∀ j W, j < 2 → S.2.2.1 j = some W → ka j ∉ wa :: PA
/-- the object as the state tells -/
def CInv (o : oW) (σ : cS) (x : Nat) (S : SS) : Prop := (SI o σ ∧ KA o σ) ∧ ∃ wa dq sl bu re PA ka, CIx o σ x S wa dq sl bu re PA ka
/-- all but the current will stays if nothing else is touched -/
theorem CIx.w {o o' : oW} {M : Nat → Prop} {σ σ' : cS} {x wa dq sl bu re : Nat} {S : SS} {PA : List Nat} {ka : Nat → Nat} {W : Wl} (h : CIx o σ x S wa dq sl bu re PA ka) (hO : SFk S) (hC : Ch M σ σ') (hS : SI o σ) (hM : ∀ q, q < σ.2 0 → M q → (o q).1 = wa + 1) (ho : ∀ q, q < σ.2 0 → o' q = o q) (hw : WX o' σ' wa W) : CIx o' σ' x (W, S.2) wa dq sl bu re PA ka := by
  obtain ⟨⟨x1, x2⟩, d1, s1, b1, r1, w1, ⟨p0, p1⟩, k1, n1, n2⟩ := h
  obtain ⟨fs, wc⟩ := w1.cl
  have hx : x ≠ wa := fun e => by rw [e, wc] at x2; cases x2
  have hMx : ∀ q, q < σ.2 0 → M q → (o q).1 ≠ x + 1 := fun q hq w => by rw [hM q hq w]; omega
  have hMp : ∀ p, p ≠ wa → ∀ q, q < σ.2 0 → M q → (o q).1 ≠ 0 ∧ (o q).1 ≠ p + 1 := fun p hp q hq w => by rw [hM q hq w]; omega
  refine ⟨⟨by rw [ho _ (hS.lt x2)]; exact x1, hC.c hS.1 x2 (fun w => hMx _ (hS.lt x2) w (by rw [x1]))⟩, d1.c hC hS.1 hMx ho, s1.c hC hS.1 hMx ho, b1.c hC hS.1 hMx ho, r1.c hC hS.1 hMx ho, hw, ⟨p0, fun j p V hp hV => ?_⟩, fun j V hj hV => ?_, n1, n2⟩
  · refine (p1 j p V hp hV).c (hO.2.2.1 V (List.mem_of_getElem? hV)) hC hS (hMp p (fun e => ?_)) ho
    have := (List.nodup_cons.mp n1).1
    rw [← e] at this
    exact this (List.mem_of_getElem? hp)
  · refine (k1 j V hj hV).c (hO.2.2.2 j V hj hV) hC hS (hMp _ (fun e => ?_)) ho
    have := n2 j V hj hV
    rw [e] at this
    exact this List.mem_cons_self
/-- a question's start -/
def QS (o : oW) (σ : cS) (x wa dq sl bu re : Nat) : Prop := SI o σ ∧ o x = (x + 1, 0) ∧ x ≠ wa ∧ σ.1 x = some (.inr (0, mF wa dq sl bu re))
theorem QS.c {o : oW} {σ : cS} {x wa dq sl bu re : Nat} (h : QS o σ x wa dq sl bu re) : σ.1 x = some (.inr (0, mF wa dq sl bu re)) := h.2.2.2
theorem RD.g {o : oW} {σ0 σ : cS} {a u v q : Nat} {L d : Nat → Nat} {t : Nat → Term} {e : cE} (D : RD o σ0 a L d t u v σ) (hS : SI o σ0) (hq : σ0.1 q = some e) (hn : o q ≠ (a + 1, 5)) : σ.1 q = some e := D.2.1.c hS.1 hq hn
theorem QS.g {o : oW} {σ0 σ : cS} {x wa dq sl bu re u v : Nat} {L d : Nat → Nat} {t : Nat → Term} (h : QS o σ0 x wa dq sl bu re) (D : RD o σ0 wa L d t u v σ) : σ.1 x = some (.inr (0, mF wa dq sl bu re)) := D.g h.1 h.c (by rw [h.2.1]; intro w; cases w)
theorem QS.to {o : oW} {σ0 σ : cS} {x wa dq sl bu re u v : Nat} {L d : Nat → Nat} {t : Nat → Term} (h : QS o σ0 x wa dq sl bu re) (D : RD o σ0 wa L d t u v σ) : QS o σ x wa dq sl bu re := ⟨D.S, h.2.1, h.2.2.1, h.g D⟩
theorem RD.base {o : oW} {σ0 σ : cS} {a u v : Nat} {L d : Nat → Nat} {t : Nat → Term} (D : RD o σ0 a L d t u v σ) : RD o σ a L d t u v σ := ⟨D.1, Ch.rf, D.2.2⟩
theorem RD.to {o : oW} {σ0 σ1 σ : cS} {a u v u' v' : Nat} {L d : Nat → Nat} {t : Nat → Term} (D : RD o σ1 a L d t u v σ) (D1 : RD o σ0 a L d t u' v' σ1) : RD o σ0 a L d t u v σ := ⟨D.1, D1.2.1.trans D.2.1, D.2.2⟩
theorem cnt_true (p : Nat → Bool) (c : Nat) : cntN p c ≤ c := cntN_le p c
theorem CInv.ask {o : oW} {σ : cS} {x : Nat} {S : SS} (h : CInv o σ x S) (hO : SSok S) (hR : Rm σ 700 3000) : ∃ wa L dq sl bu re, QS o σ x wa dq sl bu re ∧ RD o σ wa L S.1.1 S.1.2 188 696 σ ∧ (∀ σ' u v, RD o σ wa L S.1.1 S.1.2 u v σ' → CInv o σ' x S) ∧ (∃ PA, DQc o σ x dq PA ∧ PA.length = S.2.1.length) ∧ SBc o σ x 4 bu S.2.2.2.1 ∧ SBc o σ x 6 re S.2.2.2.2 := by
  obtain ⟨⟨hS, hK⟩, wa, dq, sl, bu, re, PA, ka, hX⟩ := h
  obtain ⟨⟨x1, x2⟩, hq, -, hb, hr, w1, ⟨hp, -⟩, -⟩ := id hX
  obtain ⟨fs, wc⟩ := w1.cl
  have hx : x ≠ wa := fun e => by rw [e, wc] at x2; cases x2
  obtain ⟨L, u, g1, f, g2, g3, g4⟩ := w1
  have hc := casesN_le hO.1.1.1
  have g5 := cntN_le (fun n => (f n).isNone) (casesN S.1.1)
  refine ⟨wa, L, dq, sl, bu, re, ⟨hS, x1, hx, x2⟩, ⟨⟨hS, hK.1⟩, Ch.rf, g1, 256, ⟨f, g2, g3, by omega⟩, hR⟩, fun σ' u v D => ?_, ⟨PA, hq, hp⟩, hb, hr⟩
  obtain ⟨⟨S', -⟩, C', W', u', F', -⟩ := D
  have hM : ∀ q, q < σ.2 0 → o q = (wa + 1, 5) → (o q).1 ≠ 0 := fun q _ w => by rw [w]; exact Nat.succ_ne_zero _
  exact ⟨⟨S', hK.c C' hS.1 hM (fun _ _ => rfl)⟩, wa, dq, sl, bu, re, PA, ka, CIx.w (W := S.1) hX hO.f C' hS (fun q _ w => by rw [w]) (fun _ _ => rfl) ⟨L, u', W', F'⟩⟩
/-- the state after an exception is made -/
def thS (σ : cS) : cS := (σ.1, fun j => if j = 0 then σ.2 0 + 1 else if j = 1 then σ.2 1 + 6 else σ.2 j)
theorem thr_J {β : Type} {σ : cS} {k : Nat} (h : Rm σ 1 6) : (thr σ k : Option (cX β × cS)) = some (.inr (k, σ.2 0), thS σ) := if_pos h
/-- a call of the class: it throws the kind that is told, and nothing has changed; or it answers, and the object is as the new state tells -/
def CRs {α : Type} (es : List Nat) (x : Nat) (σ : cS) (r : Option (cX α × cS)) (S : SS) (k : Nat) (v : α) (S' : SS) : Prop := (k = 0 ∧ ∃ o' σ', r = some (.inl v, σ') ∧ CInv o' σ' x S') ∨ (S' = S ∧ ∃ j e, k = j + 1 ∧ es[j]? = some e ∧ r = some (.inr (e, σ.2 0), thS σ))
theorem CRs.t {α : Type} {es : List Nat} {x : Nat} {σ : cS} {S : SS} {j e : Nat} {v : α} (hR : Rm σ 700 3000) (h : es[j]? = some e) : CRs es x σ (thr σ e) S (j + 1) v S := Or.inr ⟨rfl, j, e, rfl, h, thr_J (hR.le (by decide) (by decide))⟩
theorem CRs.k {α : Type} {es : List Nat} {x : Nat} {σ σ' : cS} {o' : oW} {S S' : SS} {v : α} (h : CInv o' σ' x S') : CRs es x σ (some (.inl v, σ')) S 0 v S' := Or.inl ⟨rfl, o', σ', rfl, h⟩
/-- the same for a call that throws nothing -/
def CRp {α : Type} (x : Nat) (r : Option (α × cS)) (v : α) (S' : SS) : Prop := ∃ o' σ', r = some (v, σ') ∧ CInv o' σ' x S'
theorem bdx_t {α β : Type} {σ : cS} {k : Nat} {K : α → cS → Option (cX β × cS)} (hR : Rm σ 700 3000) : bdx (thr σ k) K = thr σ k := by
  rw [thr_J (hR.le (by decide) (by decide)), bdx_r, thr_J (hR.le (by decide) (by decide))]
theorem cz_in {x hi : Int32} {n : Nat} {σ : cS} (h : hi.toInt = (n : Int) - 1) : m_X1_check x 0 hi σ = if inB x n then some (.inl 0, σ) else thr σ 1 := by
  unfold m_X1_check b_X1_check_10 inB
  have h0 : (0 : Int32).toInt = 0 := rfl
  by_cases c1 : x < 0
  · rw [if_pos c1]
    have := Int32.lt_iff_toInt_lt.mp c1
    rw [if_neg]
    intro w
    have := of_decide_eq_true w
    omega
  · rw [if_neg c1]
    have c1' : ¬ x.toInt < (0 : Int32).toInt := fun q => c1 (Int32.lt_iff_toInt_lt.mpr q)
    by_cases c2 : x ≤ hi
    · rw [if_pos c2]
      have := Int32.le_iff_toInt_le.mp c2
      rw [if_pos (decide_eq_true (by omega))]
      rfl
    · rw [if_neg c2]
      have c2' : ¬ x.toInt ≤ hi.toInt := fun q => c2 (Int32.le_iff_toInt_le.mpr q)
      rw [if_neg]
      intro w
      have := of_decide_eq_true w
      omega
theorem cz_ix {x : Int32} {n : Nat} {σ : cS} (hn : n < 2147483648) : m_X1_checkIndex x (Int32.ofNat n) σ = if inB x n then some (.inl 0, σ) else thr σ 2 := by
  unfold m_X1_checkIndex b_X1_checkIndex_9 inB
  have h0 : (0 : Int32).toInt = 0 := rfl
  have hi := J_int hn
  by_cases c1 : x < 0
  · rw [if_pos c1]
    have := Int32.lt_iff_toInt_lt.mp c1
    rw [if_neg]
    intro w
    have := of_decide_eq_true w
    omega
  · rw [if_neg c1]
    have c1' : ¬ x.toInt < (0 : Int32).toInt := fun q => c1 (Int32.lt_iff_toInt_lt.mpr q)
    by_cases c2 : x < Int32.ofNat n
    · rw [if_pos c2]
      have := Int32.lt_iff_toInt_lt.mp c2
      rw [if_pos (decide_eq_true (by omega))]
      rfl
    · rw [if_neg c2]
      have c2' : ¬ x.toInt < (Int32.ofNat n).toInt := fun q => c2 (Int32.lt_iff_toInt_lt.mpr q)
      rw [if_neg]
      intro w
      have := of_decide_eq_true w
      omega
section CLK
variable {o : oW} {σ0 σ : cS} {x wa dq sl bu re u v : Nat} {L d : Nat → Nat} {t : Nat → Term}
theorem cz_case (hF : FOk d) (hx : σ.1 x = some (.inr (0, mF wa dq sl bu re))) (W : WillC o σ wa L d t) (x1 : Int32) : m_X1_checkCase x x1 σ = if inB x1 (casesN d) then some (.inl 0, σ) else thr σ 3 := by
  have hc := casesN_le hF
  have e := cz_ix (x := x1) (n := casesN d) (σ := σ) (by omega)
  unfold m_X1_checkCase b_X1_checkCase_15
  rw [gR_J hx rfl, nn_J W.w, cl_cases hF W, bd_J]
  unfold m_X1_checkIndex b_X1_checkIndex_9 at e
  by_cases c1 : x1 < 0
  · rw [if_pos c1]
    cases hb : inB x1 (casesN d) with
    | false => rw [if_neg (by decide)]
    | true =>
      obtain ⟨k, hk, rfl⟩ := inB_of hb
      rw [J_nn (by omega)] at c1
      exact c1.elim
  · rw [if_neg c1] at e ⊢
    by_cases c2 : x1 < Int32.ofNat (casesN d)
    · rw [if_pos c2] at e ⊢
      cases hb : inB x1 (casesN d) with
      | true => rw [if_pos rfl]; rfl
      | false =>
        exfalso
        have h1 := Int32.lt_iff_toInt_lt.mp c2
        have c1' : ¬ x1.toInt < (0 : Int32).toInt := fun q => c1 (Int32.lt_iff_toInt_lt.mpr q)
        have h0 : (0 : Int32).toInt = 0 := rfl
        have hi := J_int (a := casesN d) (by omega)
        exact of_decide_eq_false hb ⟨by omega, by omega⟩
    · rw [if_neg c2]
      cases hb : inB x1 (casesN d) with
      | false => rw [if_neg (by decide)]
      | true =>
        obtain ⟨k, hk, rfl⟩ := inB_of hb
        exact absurd (by rw [J_lt (by omega) (by omega)]; exact hk) c2
theorem cz_rule (hW : WOk d t) (hx : σ.1 x = some (.inr (0, mF wa dq sl bu re))) (W : WillC o σ wa L d t) (hR : Rm σ 1 6) (x1 : Int32) : m_X1_ruleAt x x1 σ = if inB x1 (d 17) then some (.inl (some (L (10 + x1.toNatClampNeg))), σ) else thr σ 2 := by
  have h17 := hW.r
  unfold m_X1_ruleAt
  rw [gR_J hx rfl, gR_J W.w rfl, W.l.nn, W.l.size, bd_J, cz_ix (by omega)]
  cases hb : inB x1 (d 17) with
  | false => rw [if_neg (by decide), if_neg (by decide), thr_J hR, bdx_r, thr_J hR]
  | true =>
    obtain ⟨k, hk, rfl⟩ := inB_of hb
    rw [if_pos rfl, if_pos rfl, bdx_l, gR_J hx rfl, gR_J W.w rfl, W.l.nn, W.l.get hk, bd_J, cst_J (W.r hk).2.1 (by decide) rfl, J_cl (by omega)]
    rfl
theorem cz_heir (hW : WOk d t) (hx : σ.1 x = some (.inr (0, mF wa dq sl bu re))) (W : WillC o σ wa L d t) (hR : Rm σ 1 6) (x1 : Int32) : m_X1_checkHeir x x1 σ = if inB x1 (d 5) then some (.inl 0, σ) else thr σ 2 := by
  have h5 := hW.h
  unfold m_X1_checkHeir
  rw [gR_J hx rfl, gI_J W.w rfl, cz_ix (by omega)]
  cases hb : inB x1 (d 5) with
  | false => rw [if_neg (by decide), thr_J hR, bdx_r]
  | true => rw [if_pos rfl, bdx_l]; rfl
theorem cz_fact (hW : WOk d t) (hx : σ.1 x = some (.inr (0, mF wa dq sl bu re))) (W : WillC o σ wa L d t) (hR : Rm σ 1 6) (x1 : Int32) : m_X1_checkFact x x1 σ = if inB x1 (d 0) then some (.inl 0, σ) else thr σ 2 := by
  have h0 := hW.1.1
  unfold m_X1_checkFact
  rw [gR_J hx rfl, gR_J W.w rfl, W.v.len, cz_ix (by omega)]
  cases hb : inB x1 (d 0) with
  | false => rw [if_neg (by decide), thr_J hR, bdx_r]
  | true => rw [if_pos rfl, bdx_l]; rfl
end CLK
