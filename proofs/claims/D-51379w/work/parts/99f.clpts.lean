/-! THE PLAIN LAW, the class' side: a rule's parts, and what it is over, are read -/
set_option maxRecDepth 1000000
theorem RV.al {o o' : oW} {σ σ' : cS} {rd tp p fc nt n m x y : Nat} {fr : Value} {L : List Nat} (h : RV o σ rd tp fr L p fc nt (n + x) (m + y)) (C : Ch (fun _ => False) σ σ') (oo : ∀ q, q < σ.2 0 → o' q = o q) (S' : SI o' σ') (hR : ∀ a b, Rm σ (a + x) (b + y) → Rm σ' a b) : RV o' σ' rd tp fr L p fc nt n m := by
  have hp := h.pos
  obtain ⟨⟨hS, hK⟩, h2, h3, h4, ⟨wd, vl, h5, h6, h7⟩, h8⟩ := h
  refine ⟨⟨S', hK.c C hS.1 (fun _ _ w => w.elim) oo⟩, h2.c C hS.1 (fun _ _ w => w.elim) oo, by rw [oo _ hp]; exact h3, h4, ⟨wd, vl, by rw [C.k (by omega)]; exact C.c hS.1 h5 id, fun w => ?_, h7⟩, hR _ _ (h8.le (by omega) (by omega))⟩
  obtain ⟨g1, b, y', z, f, g2, g3, g4, g5⟩ := h6 w
  exact ⟨by rw [oo _ (hS.lt g3)]; exact g1, b, y', z, f, by rw [oo _ (hS.lt g4)]; exact g2, C.c hS.1 g3 id, C.c hS.1 g4 id, g5⟩
/-- the will that is built -/
def WB (o : oW) (σ : cS) (rd w : Nat) (Lw d : Nat → Nat) (t : Nat → Term) : Prop := w ≠ rd ∧ WillC o σ w Lw d t ∧ σ.1 (Lw 5) = some (.inl (4, casesN d, vR (fun _ => none)))
/-- the rule that is built -/
def RuS (o : oW) (σ : cS) (d : Nat → Nat) (w q s g : Nat) (tm : Term) (sh : Nat → Nat) (ov : Nat) : Prop := (o q = (w + 1, 6) ∧ o s = (w + 1, 7)) ∧ σ.1 q = some (.inr (2, [.ref g, .int (Int32.ofNat (gLv tm)), .ref s, .int (Int32.ofNat ov)])) ∧ IA σ s 4 sh ∧ GuardC o σ d 20 g tm
section WBS
variable {o o' : oW} {σ σ' : cS} {rd tp w q s g ov p fc nt n m : Nat} {Lw d sh : Nat → Nat} {t : Nat → Term} {tm : Term} {fr : Value} {L : List Nat}
theorem WB.f (h : WB o σ rd w Lw d t) (hF : FOk d) (hS : SI o σ) (F : RF o σ rd o' σ') : WB o' σ' rd w Lw d t := by
  obtain ⟨h1, h2, h3⟩ := h
  have h5 := h2.o5
  exact ⟨h1, h2.c F.1 hS.1 hF (fun q hq v => by have v' : (o q).1 = rd + 1 := v; exact ⟨by omega, fun e => by omega⟩) F.2 (hS.l h5), F.1.c hS.1 h3 (fun v => by have v' : (o (Lw 5)).1 = rd + 1 := v; rw [h5] at v'; have v'' : w + 1 = rd + 1 := v'; omega)⟩
theorem WB.vw (h : WB o σ rd w Lw d t) : VW o σ rd w d := by
  obtain ⟨h1, h2, -⟩ := h
  exact ⟨h1, h2.1.1.1, Lw 0, _, h2.w, h2.1.2.1, h2.1.2.2⟩
theorem WB.fg (h : WB o σ rd w Lw d t) (hF : FOk d) (hS : SI o σ) : m_X4_forget w σ = some (0, σ) := by
  obtain ⟨h1, h2, h3⟩ := h
  have hc := casesN_le hF
  rw [cl_forget hS h2 h3 hc.2]
  have : (fun i => if i < casesN d then (none : Option Nat) else none) = fun _ => none := funext fun i => by split <;> rfl
  rw [this, cU_id h3]
theorem RuS.f (h : RuS o σ d w q s g tm sh ov) (hF : FOk d) (hS : SI o σ) (hw : w ≠ rd) (F : RF o σ rd o' σ') : RuS o' σ' d w q s g tm sh ov := by
  obtain ⟨⟨h1, h2⟩, h3, h4, h5⟩ := h
  have ne : ∀ p k, o p = (w + 1, k) → ¬ (o p).1 = rd + 1 := fun p k e v => by rw [e] at v; have v' : w + 1 = rd + 1 := v; omega
  exact ⟨⟨by rw [F.2 _ (hS.lt h3)]; exact h1, by rw [F.2 _ (h4.lt hS.1)]; exact h2⟩, F.1.c hS.1 h3 (ne _ _ h1), h4.c F.1 hS.1 (ne _ _ h2), GuardC.c F.1 hS.1 (fun q hq v => by have v' : (o q).1 = rd + 1 := v; omega) (fun q hq v => by rw [F.2 q hq]; exact v) (fun _ _ => rfl) hF.1.2 20 _ _ h5⟩
theorem J_or1 {a k : Nat} (hk : k < 31) : Int32.ofNat a ||| (1 <<< (Int32.ofNat k &&& 31)) = Int32.ofNat (a ||| 2 ^ k) := by
  rw [J_shl k hk, J_or]
theorem rPart_eq {γ : Type} {had : Nat} {X : Nat × (Nat → Nat) × Nat → PR γ} (h5 : 1 ≤ d 5) : pb (rPart d L had sh p) X = pb (pb (rIsG L p 0 (d 5)) fun v => if had.testBit v = true then .inl (flt L p 3) else .inr v) fun h => pb (pb (rIsG L (tkE L p) 0 13) fun v => .inr (v, tkE L (tkE L p))) fun a => pb (rSign L a.2 47) fun q => pb (rIsG L q 1 13) fun b => pb (if untN a.1 b + sh 0 + sh 1 + sh 2 + sh 3 ≤ 27720 then .inr (h, upN sh h (untN a.1 b), tkE L q) else .inl (flt L q 5)) X := by
  unfold rPart rNum
  rw [rIsG_s h5, show (12 : Nat) = 13 - 1 from rfl, rIsG_s (by decide)]
  cases rIsG L p 0 (d 5) with
  | inl e => rfl
  | inr v =>
    show pb (if had.testBit v = true then .inl (flt L p 3) else _) X = pb (if had.testBit v = true then .inl (flt L p 3) else .inr v) _
    split
    · rfl
    · show pb (pb (pb (rIsG L (tkE L p) 0 13) _) _) X = pb (pb (rIsG L (tkE L p) 0 13) _) _
      cases rIsG L (tkE L p) 0 13 with
      | inl e => rfl
      | inr a =>
        show pb (pb (rSign L (tkE L (tkE L p)) 47) _) X = pb (rSign L (tkE L (tkE L p)) 47) _
        cases rSign L (tkE L (tkE L p)) 47 with
        | inl e => rfl
        | inr q =>
          show pb (pb (rIs L q 1 12) _) X = pb (rIsG L q 1 13) _
          rw [show (12 : Nat) = 13 - 1 from rfl, rIsG_s (by decide)]
          cases rIsG L q 1 13 with
          | inl e => rfl
          | inr b => rfl
theorem pb_id {α : Type} {x : PR α} : pb x (fun a => .inr a) = x := by cases x <;> rfl
/-- one heir's part -/
theorem rd_part {oB : oW} {σB : cS} (hB : SI oB σB) (W : WB oB σB rd w Lw d t) (hF : FOk d) (h5 : 1 ≤ d 5 ∧ d 5 ≤ 4) (hqs : σB.2 0 ≤ q ∧ σB.2 0 ≤ s) {had : Nat} (hh : had < 1024) (hs : ShP d had sh) (F0 : RF oB σB rd o σ) (V : RV o σ rd tp (.ref w) L p fc nt n m) (R : RuS o σ d w q s g tm sh ov) {K : Int32 → cS → Option (cX Int32 × cS)} {X : Nat × (Nat → Nat) × Nat → PR ((Nat → Nat) × Nat)} {Q : (Nat → Nat) × Nat → Int32 → oW → cS → Prop} (k : ∀ (a : Nat × (Nat → Nat) × Nat) (o' : oW) (σ' : cS), rPart d L had sh p = .inr a → RF oB σB rd o' σ' → RV o' σ' rd tp (.ref w) L a.2.2 fc nt (n + 38) (m + 190) → RuS o' σ' d w q s g tm a.2.1 ov → CR (RF oB σB rd) (K (Int32.ofNat (had ||| 2 ^ a.1)) σ') (X a) Q) : CR (RF oB σB rd) (gR σ (some rd) 8 2 fun v_2 => gI σ v_2 1 1 fun v_3 => nn σ (some rd) 8 fun a_6 => bdx (m_X2_newIn a_6 (Int32.ofNat had) (v_3 - 1) σ) fun v_4 σ_5 => lt_ (Int32.ofNat had ||| (1 <<< (v_4 &&& 31))) fun x2_7 => nn σ_5 (some rd) 8 fun a_10 => bdx (m_X2_number a_10 0 12 σ_5) fun v_8 σ_9 => nn σ_9 (some rd) 8 fun a_12 => bdx (m_X2_sign a_12 47 σ_9) fun _ σ_11 => nn σ_11 (some rd) 8 fun a_15 => bdx (m_X2_look a_15 1 12 σ_11) fun v_13 σ_14 => gR σ_14 (some rd) 8 2 fun v_16 => nn σ_14 v_16 1 fun a_19 => bd (m_X4_setShare a_19 (some q) v_4 v_8 v_13 σ_14) fun v_17 σ_18 => if v_17 = 0 then nO σ_18 59 8 [] fun q_29 σ_30 => gI σ_30 (some rd) 8 4 fun v_31 => bd (m_X3_init q_29 v_31 5 σ_30) fun _ σ_32 => thF σ_32 (some q_29) else nn σ_18 (some rd) 8 fun a_22 => bd (m_X2_next a_22 σ_18) fun _ σ_21 => K x2_7 σ_21) (pb (rPart d L had sh p) X) Q := by
  have hS := V.1.1
  have Wn := W.f hF hB F0
  obtain ⟨wd, vl, hx, -⟩ := V.x
  have hwc := Wn.2.1.w
  rw [gR_J hx rfl, gI_J hwc rfl, V.nn, rPart_eq h5.1]
  have hsub := J_subI (a := d 5) (b := 1) (by omega) (by decide)
  refine ((rd_newIn (k := d 5) (had := had) V (by omega) (by omega) hsub).mono F0.k (fun _ _ _ _ F' q => (⟨F', q⟩ : RF o σ rd _ _ ∧ _))).bx (fun _ _ q => q) (fun h v1 o1 σ1 e1 F1 hq => ?_)
  obtain ⟨F01, ⟨rfl, hh5, hbit⟩, V1⟩ := hq
  rw [J_or1 (by omega), lt_J, V1.nn]
  refine ((rd_number (lo := 0) (k := 13) (hi := 12) V1 (by decide) (by decide)).mono F1.k (fun _ _ _ _ F' q => (⟨F', q⟩ : RF o1 σ1 rd _ _ ∧ _))).bx (fun _ _ q => q) (fun a v2 o2 σ2 e2 F2 hq => ?_)
  obtain ⟨F12, ⟨rfl, -, ha⟩, ea, V2⟩ := hq
  rw [V2.nn]
  rw [← ea] at V2
  show CR _ (bdx (m_X2_sign rd (Int32.ofNat 47) σ2) _) _ _
  refine ((rd_sign V2 (c := 47) (by decide)).mono F2.k (fun _ _ _ _ F' q => (⟨F', q⟩ : RF o2 σ2 rd _ _ ∧ _))).bx (fun _ _ q => q) (fun q3 v3 o3 σ3 e3 F3 hq => ?_)
  obtain ⟨F23, eq3, V3⟩ := hq
  rw [← eq3] at V3
  rw [V3.nn]
  refine ((rd_look (lo := 1) (k := 13) (hi := 12) V3 (by decide) (by decide)).mono F3.k (fun _ _ _ _ F' q => (⟨F', q⟩ : RF o3 σ3 rd _ _ ∧ _))).bx (fun _ _ q => q) (fun b v4 o4 σ4 e4 F4 hq => ?_)
  obtain ⟨-, ⟨⟨⟨rfl, -⟩, hb⟩, hk2, rfl, rfl⟩⟩ := hq
  have W4 := W.f hF hB F3
  have F04 : RF o σ rd o4 σ4 := F01.trans (F12.trans F23)
  have R4 := R.f hF hS W.1 F04
  have hS4 := V3.1.1
  obtain ⟨wd4, vl4, hx4, -⟩ := V3.x
  obtain ⟨⟨r1, r2⟩, r3, r4, r5⟩ := id R4
  have hsh0 : sh h = 0 := hs.2.2 h hbit
  obtain ⟨e, c1, c2⟩ := cl_setShare (h := h) (A := a.1) (B := b) (W4.fg hF hS4) ⟨_, W4.2.1.w⟩ r3 r4 hs.1 (by omega) ha hb (hS4.w r2)
  have hcond : (sh 0 + sh 1 + sh 2 + sh 3 - sh h + untN a.1 b ≤ 27720) = (untN a.1 b + sh 0 + sh 1 + sh 2 + sh 3 ≤ 27720) := propext ⟨fun w => by omega, fun w => by omega⟩
  rw [gR_J hx4 rfl, nn_J W4.2.1.w, c1, bd_J]
  obtain ⟨ff, hs4, -⟩ := id r4
  have C5 : Ch (fun p => p = s) σ4 (cU σ4 s e) := Ch.rf.cU hs4 (Or.inr rfl)
  have V5 : RV o4 (cU σ4 s e) rd tp (.ref w) L q3 fc nt (n + 38 + 38 + 38) (m + 190 + 190 + 190) := RV.wr (x := 0) (y := 0) V3 C5 (fun z _ v => ⟨.inl (0, 4, .inl ff), by rw [v]; exact hs4, Or.inr ⟨0, 4, _, rfl, Or.inl rfl⟩⟩) (fun a b hR => hR)
  have F5 : RF oB σB rd o4 (cU σ4 s e) := F3.w C5 (fun z hz v => by omega)
  simp only [hcond] at c2 ⊢
  by_cases c : untN a.1 b + sh 0 + sh 1 + sh 2 + sh 3 ≤ 27720
  · rw [decide_eq_true c, if_neg (show ¬ b32 true = 0 by decide), if_pos c]
    have hne : q ≠ s := ne_role r1 r2 (by decide)
    have R5 : RuS o4 (cU σ4 s e) d w q s g tm (upN sh h (untN a.1 b)) ov := ⟨⟨r1, r2⟩, by rw [cU_n hne]; exact r3, c2.g (fun j _ => by
      unfold upN
      by_cases cj : j = h
      · rw [if_pos cj, if_pos cj, if_pos c]
      · rw [if_neg cj, if_neg cj]), GuardC.c C5 hS4.1 (fun z _ v => by rw [v, r2]; exact Nat.succ_ne_zero _) (fun _ _ v => v) (fun _ _ => rfl) hF.1.2 20 _ _ r5⟩
    obtain ⟨o6, σ6, e6, V6, F6⟩ := V5.next (by omega)
    rw [V5.nn, e6, bd_J]
    refine k (h, upN sh h (untN a.1 b), tkE L q3) o6 σ6 ?_ (F5.trans F6) (V6.le (by omega) (by omega)) (R5.f hF V5.1.1 W.1 F6)
    have := rPart_eq (had := had) (p := p) (L := L) (sh := sh) (X := fun a => .inr a) h5.1
    rw [pb_id, e1] at this
    rw [this]
    show pb (pb (rIsG L (tkE L p) 0 13) _) _ = _
    rw [e2]
    show pb (rSign L a.2 47) _ = _
    rw [e3]
    show pb (rIsG L q3 1 13) _ = _
    rw [e4]
    show pb (if untN a.1 b + sh 0 + sh 1 + sh 2 + sh 3 ≤ 27720 then _ else _) _ = _
    rw [if_pos c]
    rfl
  · rw [decide_eq_false c, if_pos (show b32 false = 0 from rfl), if_neg c]
    exact (rv_flt V5 (by decide)).mono F5.k (fun _ _ _ _ _ q => q)
end WBS
