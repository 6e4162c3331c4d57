/-! THE PLAIN LAW, the class' side: a rule is read -/
set_option maxRecDepth 1000000
section WOS
variable {o o' : oW} {σ σ' : cS} {M : Nat → Prop}
theorem SC.wo {p : Nat} {s : List Nat} (h : SC o σ p s) (C : Ch M σ σ') (hW : Wf σ) (hM : ∀ q, q < σ.2 0 → M q → ∃ e, σ.1 q = some e ∧ okW e) (oo : ∀ q, q < σ.2 0 → o' q = o q) : SC o' σ' p s := by
  obtain ⟨b, x, z, f, h1, h2, h3, h4, h5⟩ := h
  exact ⟨b, x, z, f, by rw [oo _ (hW.lt h3)]; exact h1, by rw [oo _ (hW.lt h4)]; exact h2, keepC C hW hM h3 (nok_o (by decide)), keepC C hW hM h4 (nok_a (Or.inl rfl)), h5⟩
theorem TX.wo {rd tp : Nat} {L : List Nat} (h : TX o σ rd tp L) (C : Ch M σ σ') (hW : Wf σ) (hM : ∀ q, q < σ.2 0 → M q → ∃ e, σ.1 q = some e ∧ okW e) (oo : ∀ q, q < σ.2 0 → o' q = o q) : TX o' σ' rd tp L := by
  obtain ⟨h1, ⟨h2, h3⟩ | ⟨x, cap, n, B, h2, h3, h4⟩⟩ := h
  · exact ⟨h1, Or.inl ⟨h2.wo C hW hM oo, h3⟩⟩
  · obtain ⟨g1, b, f, ml, g2, g3, g4, g5⟩ := h3
    exact ⟨h1, Or.inr ⟨x, cap, n, B, h2, ⟨by rw [oo _ (hW.lt g3)]; exact g1, b, f, ml, by rw [oo _ (hW.lt g4)]; exact g2, keepC C hW hM g3 (nok_o (by decide)), keepC C hW hM g4 (nok_a (Or.inl rfl)), g5⟩, h4⟩⟩
/-- something of the will's is written, something new is owned -/
theorem RV.wo {rd tp p fc nt n m n' m' : Nat} {fr : Value} {L : List Nat} (h : RV o σ rd tp fr L p fc nt n' m') (C : Ch M σ σ') (hM : ∀ q, q < σ.2 0 → M q → (∃ e, σ.1 q = some e ∧ okW e) ∧ (o q).1 ≠ 0) (oo : ∀ q, q < σ.2 0 → o' q = o q) (S' : SI o' σ') (hR : Rm σ' (40 * (L.length - p) + 200 + n) (200 * (L.length - p) + (L.length - tkE L p) + 1000 + m)) : RV o' σ' rd tp fr L p fc nt n m := by
  have hp := h.pos
  obtain ⟨⟨hS, hK⟩, h2, h3, h4, ⟨wd, vl, h5, h6, h7⟩, h8⟩ := h
  have hM1 : ∀ q, q < σ.2 0 → M q → ∃ e, σ.1 q = some e ∧ okW e := fun q hq w => (hM q hq w).1
  refine ⟨⟨S', hK.c C hS.1 (fun q hq w => (hM q hq w).2) oo⟩, h2.wo C hS.1 hM1 oo, by rw [oo _ hp]; exact h3, h4, ⟨wd, vl, by rw [C.k (by omega)]; exact keepC C hS.1 hM1 h5 (nok_o (by decide)), fun w => ?_, h7⟩, hR⟩
  obtain ⟨g1, b, y', z, f, g2, g3, g4, g5⟩ := h6 w
  exact ⟨by rw [oo _ (hS.lt g3)]; exact g1, b, y', z, f, by rw [oo _ (hS.lt g4)]; exact g2, keepC C hS.1 hM1 g3 (nok_o (by decide)), keepC C hS.1 hM1 g4 (nok_a (Or.inl rfl)), g5⟩
end WOS
theorem WillC.cg {o : oW} {σ : cS} {a : Nat} {L d d' : Nat → Nat} {t t' : Nat → Term} (h : WillC o σ a L d t) (hW : Wf σ) (hF : FOk d) (h17 : d 17 ≤ 10) (h1 : ∀ j, j < 18 → d' j = d j) (h2 : ∀ j, 18 ≤ j → j < 18 + 34 * d 17 → d' j = d j) (ht : ∀ i, i < d 17 → t' i = t i) : WillC o σ a L d' t' := by
  obtain ⟨⟨⟨a1, a2⟩, a3, a4⟩, ⟨⟨b1, b2⟩, b3, b4⟩, ⟨c1, c2, c3⟩, e1, e2, e3⟩ := h
  have hw : wF L d' = wF L d := by
    unfold wF
    rw [h1 5 (by decide), h1 6 (by decide), h1 7 (by decide), h1 8 (by decide)]
  have d0 := hF.1
  refine ⟨⟨⟨a1, by rw [hw]; exact a2⟩, a3, by rw [h1 0 (by decide)]; exact a4.g (fun i hi => (h1 _ (by omega)).symm)⟩, ⟨⟨b1, b2.g (fun i hi => (h1 _ (by omega)).symm)⟩, b3, b4.g (fun i hi => (h1 _ (by omega)).symm)⟩, ⟨c1, c2, by rw [h1 17 (by decide)]; exact c3⟩, e1, fun i hi => ?_, fun i j hi hj => ?_⟩
  · rw [h1 17 (by decide)] at hi
    obtain ⟨g1, g2, g3, g4⟩ := e2 i hi
    refine ⟨g1, by rw [ht i hi, h2 _ (by omega) (by omega)]; exact g2, g3.g (fun k hk => (h2 _ (by omega) (by omega)).symm), ?_⟩
    rw [ht i hi]
    exact GuardC.c (M := fun _ => False) Ch.rf hW (fun _ _ w => w.elim) (fun _ _ v => v) (fun k hk => h1 k (by omega)) hF.1.2 20 _ _ g4
  · rw [h1 17 (by decide)] at hi hj
    exact e3 i j hi hj
/-- all that may change while a rule is read -/
def RG (o : oW) (σ : cS) (rd w : Nat) (o' : oW) (σ' : cS) : Prop := Ch (fun q => (o q).1 = rd + 1 ∨ (o q).1 = w + 1) σ σ' ∧ ∀ q, q < σ.2 0 → o' q = o q
theorem RF.g {o o' : oW} {σ σ' : cS} {rd : Nat} (w : Nat) (h : RF o σ rd o' σ') : RG o σ rd w o' σ' := ⟨h.1.mono (fun _ _ v => Or.inl v), h.2⟩
theorem RG.trans {o1 o2 o3 : oW} {σ1 σ2 σ3 : cS} {rd w : Nat} (h : RG o1 σ1 rd w o2 σ2) (h' : RG o2 σ2 rd w o3 σ3) : RG o1 σ1 rd w o3 σ3 := ⟨h.1.then h'.1 (fun q hq v => by rw [h.2 q hq] at v; exact v), fun q hq => (h'.2 q (Nat.lt_of_lt_of_le hq h.1.2.1)).trans (h.2 q hq)⟩
section RUL
variable {o : oW} {σ : cS} {rd tp w q s g ov p fc nt n m : Nat} {Lw d sh : Nat → Nat} {t : Nat → Term} {tm : Term} {L : List Nat}
theorem rd_pl {oB : oW} {σB : cS} (hB : SI oB σB) (W : WB oB σB rd w Lw d t) (hF : FOk d) (h5 : 1 ≤ d 5 ∧ d 5 ≤ 4) (hqs : σB.2 0 ≤ q ∧ σB.2 0 ≤ s) : ∀ f f' had sh p (o : oW) (σ : cS), L.length - p < f → L.length - p < f' → had < 16 → ShP d had sh → RF oB σB rd o σ → RV o σ rd tp (.ref w) L p fc nt n m → RuS o σ d w q s g tm sh ov → CR (RF oB σB rd) (b_X2_parts_4 rd (f + 1) (some q) (Int32.ofNat had) 1 σ) (rPl d L f' had sh p) fun a _ o' σ' => RV o' σ' rd tp (.ref w) L a.2 fc nt n m ∧ RuS o' σ' d w q s g tm a.1 ov := by
  intro f
  induction f with
  | zero => intro f' had sh p o σ h; omega
  | succ f ih =>
    intro f' had sh p o σ hf hf' hh hs F0 V R
    obtain ⟨f', rfl⟩ : ∃ f'', f' = f'' + 1 := ⟨f' - 1, by omega⟩
    rw [b_X2_parts_4, if_neg (by decide), rPl]
    refine rd_part hB W hF h5 hqs (by omega) hs F0 V R (K := fun x2_7 σ_21 => nn σ_21 (some rd) 8 fun a_25 => bd (m_X2_isSign a_25 44 σ_21) fun v_23 σ_24 => if v_23 = 0 then b_X2_parts_4 rd (f + 1) (some q) x2_7 v_23 σ_24 else nn σ_24 (some rd) 8 fun a_28 => bd (m_X2_next a_28 σ_24) fun _ σ_27 => b_X2_parts_4 rd (f + 1) (some q) x2_7 v_23 σ_27) (fun a o1 σ1 ha F1 V1 R1 => ?_)
    obtain ⟨p1, p2, p3, p4⟩ := rPart_ok h5 V.2.2.2.1 hs ha
    rw [V1.nn]
    show CR _ (bd (m_X2_isSign rd (Int32.ofNat 44) σ1) _) _ _
    rw [isSign_J V1 (by decide), bd_J]
    by_cases c : tkK L a.2.2 = 44
    · obtain ⟨o2, σ2, e2, V2, F2⟩ := V1.next (by omega)
      have hadv := tkE_adv V1.2.2.2.1 (by omega)
      rw [decide_eq_true c, if_neg (by decide), if_pos c, V1.nn, e2, bd_J]
      exact ih _ _ _ _ o2 σ2 (by omega) (by omega) (Nat.or_lt_two_pow (n := 4) hh (Nat.pow_lt_pow_right (by decide) (by omega))) p4 (F1.trans F2) (V2.le (by omega) (by omega)) (R1.f hF V1.1.1 W.1 F2)
    · rw [decide_eq_false c, if_pos (show b32 false = 0 from rfl), if_neg c, b_X2_parts_4, if_pos (show b32 false = 0 from rfl), xl_J]
      exact CR.k F1 ⟨V1.le (by omega) (by omega), R1⟩
/-- what a rule is over -/
theorem rd_ol {α β : Type} {oB : oW} {σB : cS} {Fr : oW → cS → Prop} {X : Nat × Nat → PR α} {Q : α → Int32 → oW → cS → Prop} (hB : SI oB σB) (W : WB oB σB rd w Lw d t) (hF : FOk d) (h17 : d 17 < 10) (hqs : σB.2 0 ≤ q ∧ σB.2 0 ≤ s) (hfr : ∀ o σ, RF oB σB rd o σ → Fr o σ) (k : ∀ (a : Nat × Nat) (o' : oW) (σ' : cS), RF oB σB rd o' σ' → RV o' σ' rd tp (.ref w) L a.2 fc nt n m → RuS o' σ' d w q s g tm sh a.1 → CR Fr (b_X2_rule_120 rd (some q) σ') (X a) Q) : ∀ f f' ov p (o : oW) (σ : cS), L.length - p < f → L.length - p < f' → ov < 2 ^ d 17 → RF oB σB rd o σ → RV o σ rd tp (.ref w) L p fc nt n m → RuS o σ d w q s g tm sh ov → CR Fr (b_X2_rule_86 rd (b_X2_rule_69 rd f) (some q) σ) (pb (rOl d L f' ov p) X) Q := by
  have hp10 : 2 ^ d 17 ≤ 1024 := Nat.pow_le_pow_right (by decide) (show d 17 ≤ 10 by omega)
  intro f
  induction f with
  | zero => intro f' ov p o σ h; omega
  | succ f ih =>
    intro f' ov p o σ hf hf' hov F0 V R
    obtain ⟨f', rfl⟩ : ∃ f'', f' = f'' + 1 := ⟨f' - 1, by omega⟩
    have hS := V.1.1
    have Wn := W.f hF hB F0
    obtain ⟨wd, vl, hx, -⟩ := V.x
    obtain ⟨⟨r1, r2⟩, r3, r4, r5⟩ := id R
    unfold b_X2_rule_86
    rw [gI_J r3 rfl, gI_J r3 rfl, gR_J hx rfl, gR_J Wn.2.1.w rfl, Wn.2.1.l.nn, Wn.2.1.l.size, bd_J, V.nn]
    have hsub := J_subI (a := d 17) (b := 1) (by omega) (by decide)
    have hsp : pb (rOl d L (f' + 1) ov p) X = pb (pb (rIsG L p 0 (d 17)) fun v => if ov.testBit v = true then .inl (flt L p 3) else .inr v) fun v => pb (if tkK L (tkE L p) = 2 then rOl d L f' (ov ||| 2 ^ v) (tkE L p) else .inr (ov ||| 2 ^ v, tkE L p)) X := by
      rw [rOl, rIsG_x]
      cases rIsG L p 0 (d 17) with
      | inl e => rfl
      | inr v =>
        show pb (if ov.testBit v = true then .inl (flt L p 3) else _) X = pb (if ov.testBit v = true then .inl (flt L p 3) else .inr v) _
        split <;> rfl
    rw [hsp]
    refine ((rd_newIn (k := d 17) (had := ov) V (by omega) (by omega) hsub).mono F0.k (fun _ _ _ _ F' q => (⟨F', q⟩ : RF o σ rd _ _ ∧ _))).bx hfr (fun v v1 o1 σ1 e1 F1 hq => ?_)
    obtain ⟨F01, ⟨rfl, hv17, hbit⟩, V1⟩ := hq
    obtain ⟨⟨s1, s2⟩, s3, s4, s5⟩ := R.f hF hS W.1 F01
    have hS1 := V1.1.1
    have hkp : tkK L p ≠ 0 := by
      unfold rIsG at e1
      by_cases c : tkK L p = 2
      · omega
      · rw [if_neg c] at e1
        cases e1
    have hadv := tkE_adv V.2.2.2.1 hkp
    have hE2 := (tkE_le V.2.2.2.1).2
    rw [J_or1 (by omega), pO_J s3 (by show 3 < 4; decide) (hS1.w s1)]
    have hne : q ≠ s := ne_role s1 s2 (by decide)
    have C2 : Ch (fun z => z = q) σ1 (cU σ1 q (.inr (2, [.ref g, .int (Int32.ofNat (gLv tm)), .ref s, .int (Int32.ofNat (ov ||| 2 ^ v))]))) := Ch.rf.cU s3 (Or.inr rfl)
    have V2 : RV o1 (cU σ1 q (.inr (2, [.ref g, .int (Int32.ofNat (gLv tm)), .ref s, .int (Int32.ofNat (ov ||| 2 ^ v))]))) rd tp (.ref w) L (tkE L p) fc nt n m := RV.wr (x := 0) (y := 0) (V1.le (by omega) (by omega)) C2 (fun z _ e => ⟨.inr (2, [.ref g, .int (Int32.ofNat (gLv tm)), .ref s, .int (Int32.ofNat ov)]), by rw [e]; exact s3, Or.inl ⟨2, _, rfl, by decide, by decide, by decide⟩⟩) (fun a b hR => hR)
    have F2 : RF oB σB rd o1 (cU σ1 q (.inr (2, [.ref g, .int (Int32.ofNat (gLv tm)), .ref s, .int (Int32.ofNat (ov ||| 2 ^ v))]))) := F1.w C2 (fun z hz e => by omega)
    have R2 : RuS o1 (cU σ1 q (.inr (2, [.ref g, .int (Int32.ofNat (gLv tm)), .ref s, .int (Int32.ofNat (ov ||| 2 ^ v))]))) d w q s g tm sh (ov ||| 2 ^ v) := ⟨⟨s1, s2⟩, cU_s, s4.c C2 hS1.1 (fun e => hne e.symm), GuardC.c C2 hS1.1 (fun z _ e => by rw [e, s1]; exact Nat.succ_ne_zero _) (fun _ _ v => v) (fun _ _ => rfl) hF.1.2 20 _ _ s5⟩
    show CR Fr (b_X2_rule_69 rd (f + 1) (some q) (cU σ1 q (.inr (2, [.ref g, .int (Int32.ofNat (gLv tm)), .ref s, .int (Int32.ofNat (ov ||| 2 ^ v))])))) _ _
    generalize cU σ1 q (.inr (2, [.ref g, .int (Int32.ofNat (gLv tm)), .ref s, .int (Int32.ofNat (ov ||| 2 ^ v))])) = σ2 at V2 F2 R2 ⊢
    have hov2 : ov ||| 2 ^ v < 2 ^ d 17 := Nat.or_lt_two_pow hov (Nat.pow_lt_pow_right (by decide) hv17)
    have hov0 : ov ||| 2 ^ v ≠ 0 := fun e => by
      have := congrArg (fun z => z.testBit v) e
      simp [Nat.testBit_or, Nat.testBit_two_pow_self] at this
    obtain ⟨wd2, vl2, hx2, -⟩ := V2.x
    have et := V2.tk (j := 3) (by decide)
    rw [b_X2_rule_69, gI_J R2.2.1 rfl, iJ_eqL (by omega) (by decide), if_neg (show ¬ (ov ||| 2 ^ v) = OfNat.ofNat 0 from hov0), gR_J hx2 rfl]
    show CR Fr (if some (σ2.2 (10 + tkI (tkK L (tkE L p)))) = some (σ2.2 (10 + 3)) then _ else _) _ _
    rw [ite_pq (et.trans (tk_n2 _))]
    by_cases c : tkK L (tkE L p) = 2
    · rw [if_pos c, if_pos c]
      exact ih _ _ _ o1 σ2 (by omega) (by omega) hov2 F2 V2 R2
    · rw [if_neg c, if_neg c]
      exact k (ov ||| 2 ^ v, tkE L p) o1 σ2 F2 V2 R2
end RUL
