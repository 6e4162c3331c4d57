/-! THE PLAIN LAW, the class' side: a line is read -/
set_option maxRecDepth 1000000
section LIN
variable {o : oW} {σ : cS} {rd tp w p fc nt n m : Nat} {fr : Value} {Lw d : Nat → Nat} {t : Nat → Term} {L : List Nat}
theorem RV.hash (h : RV o σ rd tp fr L p fc nt n m) (hk : tkK L p = 1) : ∃ (wd : Nat) (vl : Int32) (σ' : cS), σ.1 rd = some (.inr (8, rdF tp L.length fr (Int32.ofNat (tkE L p)) (Int32.ofNat (tkO L p)) (.ref (σ.2 (10 + tkI (tkK L p)))) (.ref wd) vl (Int32.ofNat fc) (Int32.ofNat nt))) ∧ m_J4_hashCode wd σ = some (hsh (wdN L p), σ') ∧ RV o σ' rd tp fr L p fc nt n m ∧ RF o σ rd o σ' ∧ STR σ wd (wdN L p) ∧ STR σ' wd (wdN L p) := by
  obtain ⟨wd, vl, hx, hw, hv⟩ := h.x
  have hwd := hw hk
  have hE := tkE_le h.2.2.2.1
  have h7 := h.2.1.1.1
  have hl := wdN_len h.2.2.2.1
  obtain ⟨σ', e, W', C, k2⟩ := hwd.hash h.1.1 (wdN_b h.2.1.1.2) (by omega)
  have ow := hwd.1
  have M1 : ∀ q, q < σ.2 0 → q = wd → (o q).1 = rd + 1 := fun q _ e => by rw [e, ow]
  have M0 : ∀ q, q < σ.2 0 → q = wd → (o q).1 ≠ 0 := fun q _ e => by rw [e, ow]; exact Nat.succ_ne_zero _
  have hne : rd ≠ wd := ne_role h.2.2.1 ow (by decide)
  have hR := h.2.2.2.2.2
  refine ⟨wd, vl, σ', hx, e, ⟨⟨h.1.1.ch C, h.1.2.c C h.1.1.1 M0 (fun _ _ => rfl)⟩, h.2.1.c C h.1.1.1 M1 (fun _ _ => rfl), h.2.2.1, h.2.2.2.1, ⟨wd, vl, ?_, fun _ => W', hv⟩, ?_⟩, ⟨C.mono M1, fun _ _ => rfl⟩, hwd.s, W'.s⟩
  · rw [k2]
    exact C.c h.1.1.1 hx hne
  · unfold Rm at hR ⊢
    rw [k2]
    exact hR
/-- one cell of the will's is written -/
theorem WB.put {d' : Nat → Nat} {q : Nat} {e e0 : cE} (W : WB o σ rd w Lw d t) (V : RV o σ rd tp fr L p fc nt n m) (hd : ∀ i, i < 5 → d' i = d i) (h0 : d 0 ≤ 4) (hq : σ.1 q = some e0) (ho : (o q).1 = w + 1) (hr : (o q).2 ≠ 5) (hk : okW e0) (W' : WillC o (cU σ q e) w Lw d' t) : WB o (cU σ q e) rd w Lw d' t ∧ RV o (cU σ q e) rd tp fr L p fc nt n m ∧ RG o σ rd w o (cU σ q e) := by
  have C : Ch (fun z => z = q) σ (cU σ q e) := Ch.rf.cU hq (Or.inr rfl)
  have hne : Lw 5 ≠ q := fun x => hr (by rw [← x, W.2.1.o5])
  refine ⟨⟨W.1, W', ?_⟩, V.wr (x := 0) (y := 0) C (fun z _ x => ⟨e0, by rw [x]; exact hq, hk⟩) (fun _ _ h => h), C.mono (fun z _ x => Or.inr (by rw [x]; exact ho)), fun _ _ => rfl⟩
  rw [casesN_cg hd h0]
  exact C.c V.1.1.1 W.2.2 hne
theorem WB.g {o' : oW} {σ' : cS} (h : WB o σ rd w Lw d t) (hF : FOk d) (hS : SI o σ) (F : RF o σ rd o' σ') : WB o' σ' rd w Lw d t := h.f hF hS F
/-- a line's three kinds -/
def LQ (rd tp w : Nat) (L : List Nat) (n m : Nat) (a : Wl × Nat) (_ : Int32) (o' : oW) (σ' : cS) : Prop := ∃ Lw' fc' nt', RV o' σ' rd tp (.ref w) L a.2 fc' nt' n m ∧ WB o' σ' rd w Lw' a.1.1 a.1.2
theorem rNum_G {lo hi k : Nat} (h : k = hi + 1) : rNum L p lo hi = pb (rIsG L p lo k) fun v => .inr (v, tkE L p) := by
  unfold rNum
  rw [h, show rIs L p lo hi = rIs L p lo (hi + 1 - 1) from rfl, rIsG_s (by omega)]
theorem ln_est (hF : FOk d) (V : RV o σ rd tp (.ref w) L p fc nt n m) (W : WB o σ rd w Lw d t) (hw : isW L p wEst = true) : CR (RG o σ rd w) (b_X2_line_91 rd 0 σ) (pb (rNum L (tkE L p) 0 9999) fun a => .inr ((upN d 7 a.1, t), a.2)) (LQ rd tp w L n m) := by
  have hS := V.1.1
  have hk0 : tkK L p ≠ 0 := by have := isW_k hw; omega
  obtain ⟨o1, σ1, e1, V1, F1⟩ := V.next hk0
  have W1 := W.g hF hS F1
  obtain ⟨wd, vl, hx, -⟩ := V1.x
  unfold b_X2_line_91
  rw [if_pos rfl, V.nn, e1, bd_J, gR_J hx rfl, V1.nn, rNum_G (k := 10000) rfl]
  refine ((rd_number (lo := 0) (k := 10000) (hi := 9999) V1 (by decide) (by decide)).mono (fun o' σ' F' => (F1.trans F').g w) (fun _ _ _ _ F' q => (⟨F', q⟩ : RF o1 σ1 rd _ _ ∧ _))).bx (fun _ _ q => q) (fun a v2 o2 σ2 e2 F2 hq => ?_)
  obtain ⟨F12, ⟨rfl, -, ha⟩, ea, V2⟩ := hq
  have W2 := W1.g hF V1.1.1 F12
  have hS2 := V2.1.1
  have ow := W2.2.1.ow.1
  rw [pO_J W2.2.1.w (by show 7 < 9; decide) (hS2.w ow), xl_J]
  have Wn := W2.2.1.sW (d' := upN d 7 a.1) hF hS2 (fun i h6 h7 h8 => upN_ne h7)
  have eL : List.set (wF Lw d) 7 (.int (Int32.ofNat a.1)) = wF Lw (upN d 7 a.1) := by
    unfold wF
    rw [upN_at, upN_ne (by decide), upN_ne (by decide), upN_ne (by decide)]
    rfl
  rw [eL]
  obtain ⟨W3, V3, G3⟩ := W2.put V2 (d' := upN d 7 a.1) (fun i hi => upN_ne (by omega)) hF.1.2 W2.2.1.w (by rw [ow]) (by rw [ow]; exact (by decide : (0 : Nat) ≠ 5)) (Or.inl ⟨1, _, rfl, by decide, by decide, by decide⟩) Wn
  refine CR.k (F2.trans G3) ⟨Lw, fc, nt, ?_, W3⟩
  show RV o2 _ rd tp (.ref w) L a.2 fc nt n m
  rw [ea]
  exact V3.le (by omega) (by omega)
theorem ln_heir (hF : FOk d) (h5 : 1 ≤ d 5 ∧ d 5 ≤ 4) (V : RV o σ rd tp (.ref w) L p fc nt n m) (W : WB o σ rd w Lw d t) (hw : isW L p wHei = true) : CR (RG o σ rd w) (b_X2_line_91 rd 1 σ) (pb (rNum L (tkE L p) 0 (d 5 - 1)) fun h => pb (rWord L h.2 wFre) fun q => pb (rNum L q 0 9999) fun a => pb (rWord L a.2 wRat) fun q2 => pb (rNum L q2 0 60) fun b => .inr ((upN (upN d (9 + 2 * h.1) a.1) (10 + 2 * h.1) b.1, t), b.2)) (LQ rd tp w L n m) := by
  have hS := V.1.1
  have hk0 : tkK L p ≠ 0 := by have := isW_k hw; omega
  obtain ⟨o1, σ1, e1, V1, F1⟩ := V.next hk0
  have W1 := W.g hF hS F1
  have hS1 := V1.1.1
  obtain ⟨wd, vl, hx, -⟩ := V1.x
  have hsub := J_subI (a := d 5) (b := 1) (by omega) (by decide)
  unfold b_X2_line_91
  rw [if_neg (by decide), if_pos rfl, V.nn, e1, bd_J, gR_J hx rfl, gI_J W1.2.1.w rfl, V1.nn, rNum_G (k := d 5) (by omega)]
  refine ((rd_number (lo := 0) (k := d 5) (hi := Int32.ofNat (d 5) - 1) V1 (by decide) hsub).mono (fun o' σ' F' => (F1.trans F').g w) (fun _ _ _ _ F' q => (⟨F', q⟩ : RF o1 σ1 rd _ _ ∧ _))).bx (fun _ _ q => q) (fun h v2 o2 σ2 e2 G2 hq => ?_)
  obtain ⟨F12, ⟨rfl, -, hh⟩, eh, V2⟩ := hq
  have W2 := W1.g hF hS1 F12
  rw [← eh] at V2
  have s39 : STR σ2 (σ2.2 39) wFre := (V2.1.2.2.1 19 (by decide)).s
  rw [V2.nn]
  refine ((rd_word V2 s39 (by decide) (by decide)).mono (fun o' σ' F' => G2.trans (F'.g w)) (fun _ _ _ _ F' q => (⟨F', q⟩ : RF o2 σ2 rd _ _ ∧ _))).bx (fun _ _ q => q) (fun q3 v3 o3 σ3 e3 G3 hq => ?_)
  obtain ⟨F23, rfl, V3⟩ := hq
  have W3 := W2.g hF V2.1.1 F23
  obtain ⟨wd3, vl3, hx3, -⟩ := V3.x
  rw [gR_J hx3 rfl, gR_J W3.2.1.w rfl, V3.nn, rNum_G (k := 10000) rfl]
  refine ((rd_number (lo := 0) (k := 10000) (hi := 9999) V3 (by decide) (by decide)).mono (fun o' σ' F' => G3.trans (F'.g w)) (fun _ _ _ _ F' q => (⟨F', q⟩ : RF o3 σ3 rd _ _ ∧ _))).bx (fun _ _ q => q) (fun a v4 o4 σ4 e4 G4 hq => ?_)
  obtain ⟨F34, ⟨rfl, -, ha⟩, ea, V4⟩ := hq
  rw [← ea] at V4
  have W4 := W3.g hF V3.1.1 F34
  have hS4 := V4.1.1
  have ow1 := W4.2.1.ow.2.1
  obtain ⟨x5, q5, I5⟩ := W4.2.1.f.st (x := a.1) (show h.1 < 4 by omega) (by decide) (hS4.w ow1)
  rw [q5]
  obtain ⟨f4, c4, -⟩ := W4.2.1.f
  have Wn := W4.2.1.sF (d' := upN d (9 + 2 * h.1) a.1) (k := 1) hF hS4 (Or.inl rfl) (I5.g (fun j hj => by
    show _ = upN d (9 + 2 * h.1) a.1 (8 + 1 + 2 * j)
    by_cases c : j = h.1
    · rw [if_pos c, c, upN_at]
    · rw [if_neg c, upN_ne (by omega)])) (fun i hi => upN_ne (by have := hi h.1 (by omega); omega))
  obtain ⟨W5, V5, G5⟩ := W4.put V4 (d' := upN d (9 + 2 * h.1) a.1) (fun i hi => upN_ne (by omega)) hF.1.2 c4 (by rw [ow1]) (by rw [ow1]; exact (by decide : (1 : Nat) ≠ 5)) (Or.inr ⟨0, 4, _, rfl, Or.inl rfl⟩) Wn
  have G05 := G4.trans G5
  have hF5 : FOk (upN d (9 + 2 * h.1) a.1) := FOk_cg (fun i hi => upN_ne (by omega)) hF
  generalize cU σ4 (Lw 1) x5 = σ5 at W5 V5 G05 ⊢
  have s40 : STR σ5 (σ5.2 40) wRat := (V5.1.2.2.1 20 (by decide)).s
  rw [V5.nn]
  refine ((rd_word V5 s40 (by decide) (by decide)).mono (fun o' σ' F' => G05.trans (F'.g w)) (fun _ _ _ _ F' q => (⟨F', q⟩ : RF o4 σ5 rd _ _ ∧ _))).bx (fun _ _ q => q) (fun q6 v6 o6 σ6 e6 G6 hq => ?_)
  obtain ⟨F56, rfl, V6⟩ := hq
  have W6 := W5.g hF5 V5.1.1 F56
  obtain ⟨wd6, vl6, hx6, -⟩ := V6.x
  rw [gR_J hx6 rfl, gR_J W6.2.1.w rfl, V6.nn, rNum_G (k := 61) rfl]
  refine ((rd_number (lo := 0) (k := 61) (hi := 60) V6 (by decide) (by decide)).mono (fun o' σ' F' => G6.trans (F'.g w)) (fun _ _ _ _ F' q => (⟨F', q⟩ : RF o6 σ6 rd _ _ ∧ _))).bx (fun _ _ q => q) (fun b v7 o7 σ7 e7 G7 hq => ?_)
  obtain ⟨F67, ⟨rfl, -, hb⟩, eb, V7⟩ := hq
  rw [← eb] at V7
  have W7 := W6.g hF5 V6.1.1 F67
  have hS7 := V7.1.1
  have ow2 := W7.2.1.ow.2.2.1
  obtain ⟨x8, q8, I8⟩ := W7.2.1.ra.st (x := b.1) (show h.1 < 4 by omega) (by decide) (hS7.w ow2)
  rw [q8, xl_J]
  obtain ⟨f7, c7, -⟩ := W7.2.1.ra
  have Wm := W7.2.1.sF (d' := upN (upN d (9 + 2 * h.1) a.1) (10 + 2 * h.1) b.1) (k := 2) hF5 hS7 (Or.inr rfl) (I8.g (fun j hj => by
    show _ = upN (upN d (9 + 2 * h.1) a.1) (10 + 2 * h.1) b.1 (8 + 2 + 2 * j)
    by_cases c : j = h.1
    · rw [if_pos c, c, upN_at]
    · rw [if_neg c, upN_ne (show ¬ 8 + 2 + 2 * j = 10 + 2 * h.1 by omega)])) (fun i hi => upN_ne (by have := hi h.1 (by omega); omega))
  obtain ⟨W8, V8, G8⟩ := W7.put V7 (d' := upN (upN d (9 + 2 * h.1) a.1) (10 + 2 * h.1) b.1) (fun i hi => upN_ne (by omega)) hF5.1.2 c7 (by rw [ow2]) (by rw [ow2]; exact (by decide : (2 : Nat) ≠ 5)) (Or.inr ⟨0, 4, _, rfl, Or.inl rfl⟩) Wm
  exact CR.k (G7.trans G8) ⟨Lw, fc, nt, V8.le (by omega) (by omega), W8⟩
theorem ln_rule (hF : FOk d) (h5 : 1 ≤ d 5 ∧ d 5 ≤ 4) (h17 : d 17 ≤ 10) (V : RV o σ rd tp (.ref w) L p fc nt n m) (W : WB o σ rd w Lw d t) (hw : isW L p wRul = true) : CR (RG o σ rd w) (b_X2_line_91 rd 2 σ) (if d 17 = 10 then .inl (flt L p 4) else pb (rRule d L (tkE L p)) fun a => .inr ((adD d a.1 a.2.1 a.2.2.1, adT t (d 17) a.1), a.2.2.2)) (LQ rd tp w L n m) := by
  have hS := V.1.1
  have hk0 : tkK L p ≠ 0 := by have := isW_k hw; omega
  obtain ⟨wd, vl, hx, -⟩ := V.x
  unfold b_X2_line_91
  rw [if_neg (by decide), if_neg (by decide), if_pos rfl, gR_J hx rfl, gR_J W.2.1.w rfl, W.2.1.l.nn, W.2.1.l.size, bd_J, iJ_eqL (by omega) (by decide)]
  by_cases c : d 17 = 10
  · rw [if_pos (show d 17 = OfNat.ofNat 10 from c), if_pos c]
    exact (rv_flt V (by decide)).mono (fun _ _ F => F.g w) (fun _ _ _ _ _ q => q)
  · obtain ⟨o1, σ1, e1, V1, F1⟩ := V.next hk0
    have W1 := W.g hF hS F1
    rw [if_neg (show ¬ d 17 = OfNat.ofNat 10 from c), if_neg c, V.nn, e1, bd_J, V1.nn]
    refine ((rd_rule hF h5 (by omega) V1 W1).mono (fun o' σ' F' => (F1.g w).trans F') (fun _ _ _ _ _ q => q)).bx (fun _ _ q => q) (fun a v2 o2 σ2 e2 G2 hq => ?_)
    obtain ⟨Lw', fc', nt', V2, W2⟩ := hq
    rw [xl_J]
    exact CR.k G2 ⟨Lw', fc', nt', V2.le (by omega) (by omega), W2⟩
theorem rd_line {W0 : Wl} (hW : WO W0) (V : RV o σ rd tp (.ref w) L p fc nt n m) (W : WB o σ rd w Lw W0.1 W0.2) : CR (RG o σ rd w) (m_X2_line rd σ) (rLine W0 L p) (LQ rd tp w L n m) := by
  have hF := hW.1.1
  have hS := V.1.1
  have E := rd_expect V (j := 2) (by decide)
  unfold m_X2_line rLine
  rw [V.nn]
  show CR _ (bdx (m_X2_expect rd (some (σ.2 (10 + 2))) σ) _) _ _
  by_cases c : tkK L p = 1
  · rw [if_pos ((tkI_1 _).mpr c)] at E
    obtain ⟨o', σ', v, e1, -, e2, e3⟩ := E
    obtain ⟨wd, vl, σ1, hx, hh, V1, F1, s0, s1⟩ := V.hash c
    have W1 := W.g hF hS F1
    have hE := tkE_le V.2.2.2.1
    have h7 := V.2.1.1.1
    have hl := wdN_len V.2.2.2.1
    have isd : ∀ s, isW L p s = decide (wdN L p = s) := fun s => by
      unfold isW
      by_cases c2 : wdN L p = s
      · rw [decide_eq_true ⟨c, c2⟩, decide_eq_true c2]
      · rw [decide_eq_false (fun q => c2 q.2), decide_eq_false c2]
    have eqs : ∀ k s, k < 35 → txL.getD k [] = s → (∀ z, z ∈ s → z < 256) → s.length < 2000 → m_J4_equals wd (some (σ1.2 (20 + k))) σ1 = some (b32 (decide (wdN L p = s)), σ1) := fun k s hk es h8 hl2 => by
      have := (V1.1.2.2.1 k hk).s
      rw [es] at this
      exact s1.eqs this (wdN_b V.2.1.1.2) h8 (by omega) hl2
    have hEs : hsh wEst = -1293665460 := by decide +kernel
    have hHe : hsh wHei = 3198694 := by decide +kernel
    have hRu : hsh wRul = 3512060 := by decide +kernel
    have bad : wdN L p ≠ wEst → wdN L p ≠ wHei → wdN L p ≠ wRul → CR (RG o σ rd w) (b_X2_line_91 rd (-1) σ1) (if isW L p wRul then (if W0.1 17 = 10 then .inl (flt L p 4) else pb (rRule W0.1 L (tkE L p)) fun a => .inr ((adD W0.1 a.1 a.2.1 a.2.2.1, adT W0.2 (W0.1 17) a.1), a.2.2.2)) else if isW L p wHei then pb (rNum L (tkE L p) 0 (W0.1 5 - 1)) fun h => pb (rWord L h.2 wFre) fun q => pb (rNum L q 0 9999) fun a => pb (rWord L a.2 wRat) fun q2 => pb (rNum L q2 0 60) fun b => .inr ((upN (upN W0.1 (9 + 2 * h.1) a.1) (10 + 2 * h.1) b.1, W0.2), b.2) else pb (rWord L p wEst) fun q => pb (rNum L q 0 9999) fun a => .inr ((upN W0.1 7 a.1, W0.2), a.2)) (LQ rd tp w L n m) := fun n1 n2 n3 => by
      unfold b_X2_line_91 rWord
      rw [isd, isd, isd, decide_eq_false n1, decide_eq_false n2, decide_eq_false n3, if_neg (by decide), if_neg (by decide), if_neg (by decide), if_neg (by decide), if_neg (by decide), if_neg (by decide)]
      exact (rv_flt V1 (by decide)).mono (fun _ _ F => (F1.trans F).g w) (fun _ _ _ _ _ q => q)
    rw [e1, bdx_l, e3, gR_J hx rfl]
    show CR _ (nn σ (some wd) 12 _) _ _
    rw [s0.nn, hh, bd_J]
    by_cases k1 : hsh (wdN L p) = -1293665460
    · rw [if_pos k1]
      show CR _ (nn σ1 (some wd) 12 _) _ _
      rw [s1.nn]
      show CR _ (bd (m_J4_equals wd (some (σ1.2 (20 + 16))) σ1) _) _ _
      rw [eqs 16 wEst (by decide) rfl (by decide) (by decide), bd_J]
      by_cases c2 : wdN L p = wEst
      · rw [decide_eq_true c2, if_neg (by decide)]
        have i1 : isW L p wEst = true := by rw [isd]; exact decide_eq_true c2
        have i2 : isW L p wHei = false := by rw [isd, c2]; rfl
        have i3 : isW L p wRul = false := by rw [isd, c2]; rfl
        unfold rWord
        rw [i3, if_neg (by decide), i2, if_neg (by decide), i1, if_pos rfl]
        exact (ln_est hF V1 W1 i1).mono (fun _ _ G => (F1.g w).trans G) (fun _ _ _ _ _ q => q)
      · rw [decide_eq_false c2, if_pos (show b32 false = 0 from rfl)]
        exact bad c2 (fun e => by rw [e, hHe] at k1; exact absurd k1 (by decide)) (fun e => by rw [e, hRu] at k1; exact absurd k1 (by decide))
    · rw [if_neg k1]
      by_cases k2 : hsh (wdN L p) = 3198694
      · rw [if_pos k2]
        show CR _ (nn σ1 (some wd) 12 _) _ _
        rw [s1.nn]
        show CR _ (bd (m_J4_equals wd (some (σ1.2 (20 + 17))) σ1) _) _ _
        rw [eqs 17 wHei (by decide) rfl (by decide) (by decide), bd_J]
        by_cases c2 : wdN L p = wHei
        · rw [decide_eq_true c2, if_neg (by decide)]
          have i2 : isW L p wHei = true := by rw [isd]; exact decide_eq_true c2
          have i3 : isW L p wRul = false := by rw [isd, c2]; rfl
          rw [i3, if_neg (by decide), i2, if_pos rfl]
          exact (ln_heir hF hW.1.h V1 W1 i2).mono (fun _ _ G => (F1.g w).trans G) (fun _ _ _ _ _ q => q)
        · rw [decide_eq_false c2, if_pos (show b32 false = 0 from rfl)]
          exact bad (fun e => by rw [e, hEs] at k1; exact k1 rfl) c2 (fun e => by rw [e, hRu] at k2; exact absurd k2 (by decide))
      · rw [if_neg k2]
        have ne1 : wdN L p ≠ wEst := fun e => by rw [e, hEs] at k1; exact k1 rfl
        have ne2 : wdN L p ≠ wHei := fun e => by rw [e, hHe] at k2; exact k2 rfl
        by_cases k3 : hsh (wdN L p) = 3512060
        · rw [if_pos k3]
          show CR _ (nn σ1 (some wd) 12 _) _ _
          rw [s1.nn]
          show CR _ (bd (m_J4_equals wd (some (σ1.2 (20 + 18))) σ1) _) _ _
          rw [eqs 18 wRul (by decide) rfl (by decide) (by decide), bd_J]
          by_cases c2 : wdN L p = wRul
          · rw [decide_eq_true c2, if_neg (by decide)]
            have i3 : isW L p wRul = true := by rw [isd]; exact decide_eq_true c2
            rw [i3, if_pos rfl]
            exact (ln_rule hF hW.1.h hW.1.r V1 W1 i3).mono (fun _ _ G => (F1.g w).trans G) (fun _ _ _ _ _ q => q)
          · rw [decide_eq_false c2, if_pos (show b32 false = 0 from rfl)]
            exact bad ne1 ne2 c2
        · rw [if_neg k3]
          exact bad ne1 ne2 (fun e => by rw [e, hRu] at k3; exact k3 rfl)
  · rw [if_neg (fun q => c ((tkI_1 _).mp q))] at E
    have i : ∀ s, isW L p s = false := fun s => decide_eq_false (fun q => c q.1)
    unfold rWord
    rw [i, if_neg (by decide), i, if_neg (by decide), i, if_neg (by decide)]
    obtain ⟨o', σ', q, a, c', e1, ⟨e2, e3⟩, e4⟩ := E
    exact ⟨o', σ', q, a, c', by rw [e1, bdx_r], ⟨RF.g w e2, e3⟩, e4⟩
/-- the lines of a text -/
theorem rd_ls {o0 : oW} {σ0 : cS} : ∀ f f' (W0 : Wl) Lw p fc nt (o : oW) (σ : cS), L.length - p < f → L.length - p < f' → WO W0 → RG o0 σ0 rd w o σ → RV o σ rd tp (.ref w) L p fc nt n m → WB o σ rd w Lw W0.1 W0.2 → CR (RG o0 σ0 rd w) (b_X2_read_136 rd f σ) (rLs L f' W0 p) fun W' v o' σ' => v = some w ∧ ∃ Lw' p' fc' nt', RV o' σ' rd tp (.ref w) L p' fc' nt' n m ∧ WB o' σ' rd w Lw' W'.1 W'.2 := by
  intro f
  induction f with
  | zero => intro f' W0 Lw p fc nt o σ h; omega
  | succ f ih =>
    intro f' W0 Lw p fc nt o σ hf hf' hW G0 V W
    obtain ⟨f', rfl⟩ : ∃ f'', f' = f'' + 1 := ⟨f' - 1, by omega⟩
    obtain ⟨wd, vl, hx, -⟩ := V.x
    have et := V.tk (j := 0) (by decide)
    have hk : (tkI (tkK L p) = 0) = (tkK L p = 0) := propext ⟨fun h => by
      unfold tkI at h
      split at h
      · assumption
      · split at h
        · omega
        · split at h
          · omega
          · split at h <;> omega, fun h => by rw [h]; rfl⟩
    rw [b_X2_read_136, rLs, gR_J hx rfl]
    show CR _ (if some (σ.2 (10 + tkI (tkK L p))) = some (σ.2 (10 + 0)) then _ else _) _ _
    rw [ite_pq (et.trans hk)]
    by_cases c : tkK L p = 0
    · rw [if_pos c, if_pos c, gR_J hx rfl, xl_J]
      exact CR.k G0 ⟨rfl, Lw, p, fc, nt, V, W⟩
    · rw [if_neg c, if_neg c, V.nn]
      refine ((rd_line hW V W).mono (fun o' σ' F' => G0.trans F') (fun _ _ _ _ _ q => q)).bx (fun _ _ q => q) (fun a v1 o1 σ1 e1 G1 hq => ?_)
      obtain ⟨Lw1, fc1, nt1, V1, W1⟩ := hq
      have ok := rLine_ok hW V.2.2.2.1 e1
      rw [V1.nn]
      show CR _ (bdx (m_X2_sign rd (Int32.ofNat 59) σ1) _) _ _
      refine ((rd_sign V1 (c := 59) (by decide)).mono (fun o' σ' F' => G1.trans (RF.g w F')) (fun _ _ _ _ F' q => (⟨F', q⟩ : RF o1 σ1 rd _ _ ∧ _))).bx (fun _ _ q => q) (fun p2 v2 o2 σ2 e2 G2 hq => ?_)
      obtain ⟨F12, rfl, V2⟩ := hq
      have hE := tkE_le V1.2.2.2.1
      exact ih f' a.1 Lw1 (tkE L a.2) fc1 nt1 o2 σ2 (by omega) (by omega) ok.2 G2 (V2.le (by omega) (by omega)) (W1.g ok.2.1.1 V1.1.1 F12)
end LIN
