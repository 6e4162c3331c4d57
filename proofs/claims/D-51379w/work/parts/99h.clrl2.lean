/-! THE PLAIN LAW, the class' side: a rule is read, whole -/
set_option maxRecDepth 1000000
theorem WillC.lt {o : oW} {σ : cS} {a i : Nat} {L d : Nat → Nat} {t : Nat → Term} (h : WillC o σ a L d t) (hW : Wf σ) (hi : i < d 17) : L (10 + i) < σ.2 0 ∧ L (30 + i) < σ.2 0 := by
  obtain ⟨-, h1, h2, -⟩ := h.r hi
  exact ⟨hW.lt h1, h2.lt hW⟩
section RU2
variable {o : oW} {σ : cS} {rd tp w q s g ov p fc nt n m : Nat} {Lw d sh : Nat → Nat} {t : Nat → Term} {tm : Term} {L : List Nat}
theorem rd_add {oB : oW} {σB : cS} (hB : SI oB σB) (W : WB oB σB rd w Lw d t) (hF : FOk d) (h17 : d 17 < 10) (hqs : σB.2 0 ≤ q ∧ σB.2 0 ≤ s) (F0 : RF oB σB rd o σ) (V : RV o σ rd tp (.ref w) L p fc nt (n + 1) (m + 15)) (R : RuS o σ d w q s g tm sh ov) : ∃ o' σ' Lw', b_X2_rule_120 rd (some q) σ = some (.inl 0, σ') ∧ RV o' σ' rd tp (.ref w) L p fc nt n m ∧ WB o' σ' rd w Lw' (adD d tm sh ov) (adT t (d 17) tm) ∧ RG o σ rd w o' σ' := by
  have hS := V.1.1
  have Wn := W.f hF hB F0
  obtain ⟨wd, vl, hx, -⟩ := V.x
  obtain ⟨⟨r1, r2⟩, r3, r4, r5⟩ := id R
  have hlo : ∀ j, j < 5 → adD d tm sh ov j = d j := fun j hj => adD_lo (by omega)
  have hF' : FOk (adD d tm sh ov) := by
    have d0 := hF.1
    unfold FOk
    rw [hlo 0 (by decide)]
    exact ⟨hF.1, fun f hf => by rw [hlo _ (by omega)]; exact hF.2 f hf⟩
  have Wc : WillC o σ w Lw (upN (adD d tm sh ov) 17 (d 17)) (adT t (d 17) tm) := Wn.2.1.cg hS.1 hF (by omega) (fun j hj => by
    by_cases c : j = 17
    · rw [c, upN_at]
    · rw [upN_ne c, adD_lo (by omega)]) (fun j h1 h2 => by rw [upN_ne (by omega), adD_old h1 h2]) (fun i hi => if_neg (by omega))
  have Rc : RuleC o σ w (adD d tm sh ov) q s g (d 17) (adT t (d 17) tm (d 17)) := by
    have e : adT t (d 17) tm (d 17) = tm := if_pos rfl
    rw [e]
    exact ⟨⟨r1, r2⟩, by rw [adD_ov]; exact r3, r4.g (fun h hh => (adD_sh hh).symm), GuardC.c (M := fun _ => False) Ch.rf hS.1 (fun _ _ v => v.elim) (fun _ _ v => v) (fun i hi => hlo i hi) hF.1.2 20 _ _ r5⟩
  have hR := V.2.2.2.2.2
  obtain ⟨σ', o', ar', e, A1, ⟨A2, -⟩, A3, A4, A5⟩ := WillC.add (x := 40 * (L.length - p) + 200 + n) (y := 200 * (L.length - p) + (L.length - tkE L p) + 1000 + m) hF' h17 hS V.1.2.1 Wc Rc (fun j hj => by
    have := W.2.1.lt hB.1 hj
    exact ⟨by omega, by omega⟩) (hR.le (by omega) (by omega))
  obtain ⟨⟨mc, l1⟩, cap, f, l2, l3, -, l5⟩ := id Wn.2.1.l
  have hl4 := Wn.2.1.2.2.1.2.1
  have hl3 := hS.w Wn.2.1.ow.2.2.2.1
  obtain ⟨σ2, ar2, e2, -, -, C2, -⟩ := AL.add (x := q) (a := 0) (b := 0) Wn.2.1.l hS.1 hS.2.1 hl3 (fun hne => by
    rcases hl4 with ⟨-, c⟩ | c
    · exact absurd c hne
    · exact hS.w c) V.1.2.1.2.2 (okV_J r3 rfl) (fun i hi => okV_J (Wn.2.1.r hi).2.1 rfl) (by omega) (V.rm (by omega) (by omega))
  have es : σ' = σ2 := by
    rw [e] at e2
    exact (Prod.mk.inj (Option.some.inj e2)).2
  rw [← es] at C2
  have hM : ∀ z, z < σ.2 0 → (z = Lw 3 ∨ z = Lw 4 ∧ Lw 4 ≠ σ.2 15) → (∃ e, σ.1 z = some e ∧ okW e) ∧ (o z).1 = w + 1 := fun z _ u => by
    rcases u with u | ⟨u, u2⟩
    · exact ⟨⟨_, by rw [u]; exact l1, Or.inl ⟨9, _, rfl, by decide, by decide, by decide⟩⟩, by rw [u, Wn.2.1.ow.2.2.2.1]⟩
    · refine ⟨⟨_, by rw [u]; exact l2, Or.inr ⟨2, cap, _, rfl, Or.inr (Or.inr ⟨rfl, ?_⟩)⟩⟩, ?_⟩
      · rcases l5 with ⟨-, c2⟩ | c2 | c2
        · exact absurd c2 u2
        · omega
        · omega
      · rcases hl4 with ⟨-, c⟩ | c
        · exact absurd c u2
        · rw [u, c]
  have n5 : Lw 5 ≠ Lw 3 := ne_role Wn.2.1.o5 Wn.2.1.ow.2.2.2.1 (by decide)
  have n54 := Wn.2.1.n4 Wn.2.1.o5 (by decide)
  have fd := C2.c hS.1 Wn.2.2 (fun u => by
    rcases u with u | ⟨u, -⟩
    · exact n5 u
    · exact n54 u)
  have eu : upN (adD d tm sh ov) 17 (d 17 + 1) = adD d tm sh ov := by
    funext j
    by_cases c : j = 17
    · rw [c, upN_at, adD_17]
    · exact upN_ne c
  rw [eu] at A1
  refine ⟨o', σ', _, ?_, V.wo C2 (fun z hz u => ⟨(hM z hz u).1, by rw [(hM z hz u).2]; exact Nat.succ_ne_zero _⟩) A4 A2 A5, ⟨W.1, A1, ?_⟩, C2.mono (fun z hz u => Or.inr (hM z hz u).2), A4⟩
  · unfold b_X2_rule_120
    rw [gR_J hx rfl, gR_J Wn.2.1.w rfl, Wn.2.1.l.nn, e, bd_J, xl_J]
  · rw [casesN_cg hlo hF.1.2, show LAdd Lw (d 17) ar' q s g 5 = Lw 5 by unfold LAdd; rw [if_neg (by decide), if_neg (by omega), if_neg (by omega), if_neg (by omega)]]
    exact fd
theorem rd_r56 {o0 oB : oW} {σ0 σB : cS} (hB : SI oB σB) (W : WB oB σB rd w Lw d t) (hF : FOk d) (h17 : d 17 < 10) (hqs : σB.2 0 ≤ q ∧ σB.2 0 ≤ s) (G0 : RG o0 σ0 rd w oB σB) (F0 : RF oB σB rd o σ) (V : RV o σ rd tp (.ref w) L p fc nt (n + 1) (m + 15)) (R : RuS o σ d w q s g tm sh 0) : CR (RG o0 σ0 rd w) (b_X2_rule_56 rd (some q) σ) (pb (rOver d L p) fun a => (.inr (tm, sh, a.1, a.2) : PR (Term × (Nat → Nat) × Nat × Nat))) fun a _ o' σ' => ∃ Lw' fc' nt', RV o' σ' rd tp (.ref w) L a.2.2.2 fc' nt' n m ∧ WB o' σ' rd w Lw' (adD d a.1 a.2.1 a.2.2.1) (adT t (d 17) a.1) := by
  have fin : ∀ (a : Nat × Nat) (o' : oW) (σ' : cS), RF oB σB rd o' σ' → RV o' σ' rd tp (.ref w) L a.2 fc nt (n + 1) (m + 15) → RuS o' σ' d w q s g tm sh a.1 → CR (RG o0 σ0 rd w) (b_X2_rule_120 rd (some q) σ') (.inr (tm, sh, a.1, a.2) : PR (Term × (Nat → Nat) × Nat × Nat)) fun a _ o' σ' => ∃ Lw' fc' nt', RV o' σ' rd tp (.ref w) L a.2.2.2 fc' nt' n m ∧ WB o' σ' rd w Lw' (adD d a.1 a.2.1 a.2.2.1) (adT t (d 17) a.1) := fun a o' σ' F' V' R' => by
    obtain ⟨o2, σ2, Lw', e, V2, W2, G2⟩ := rd_add hB W hF h17 hqs F' V' R'
    rw [e]
    exact CR.k (G0.trans ((F'.g w).trans G2)) ⟨Lw', fc, nt, V2, W2⟩
  have h7 := V.2.1.1.1
  unfold b_X2_rule_56 rOver
  rw [V.nn]
  show CR _ (bd (m_X2_isWord rd (some (σ.2 (20 + 23))) σ) _) _ _
  rw [V.isW (by decide) (by decide) (by decide), bd_J]
  show CR _ (if b32 (isW L p wOvr) = 0 then _ else _) _ _
  cases hw : isW L p wOvr with
  | false =>
    rw [if_pos (show b32 false = 0 from rfl), if_neg (by decide)]
    exact fin (0, p) o σ F0 V R
  | true =>
    have hk0 : tkK L p ≠ 0 := by have := isW_k hw; omega
    obtain ⟨o1, σ1, e1, V1, F1⟩ := V.next hk0
    have R1 := R.f hF V.1.1 W.1 F1
    rw [if_neg (by decide), if_pos rfl, V.nn, e1, bd_J]
    show CR _ (b_X2_rule_69 rd (4095 + 1) (some q) σ1) _ _
    rw [b_X2_rule_69, gI_J R1.2.1 rfl, if_pos rfl]
    exact rd_ol hB W hF h17 hqs (fun o' σ' F' => G0.trans (F'.g w)) fin 4095 FU 0 (tkE L p) o1 σ1 (by omega) (by show _ < 4096; omega) (Nat.two_pow_pos _) (F0.trans F1) (V1.le (by omega) (by omega)) R1
theorem rd_rule (hF : FOk d) (h5 : 1 ≤ d 5 ∧ d 5 ≤ 4) (h17 : d 17 < 10) (V : RV o σ rd tp (.ref w) L p fc nt n m) (W : WB o σ rd w Lw d t) : CR (RG o σ rd w) (m_X2_rule rd σ) (rRule d L p) fun a _ o' σ' => ∃ Lw' fc' nt', RV o' σ' rd tp (.ref w) L a.2.2.2 fc' nt' n m ∧ WB o' σ' rd w Lw' (adD d a.1 a.2.1 a.2.2.1) (adT t (d 17) a.1) := by
  have hS := V.1.1
  obtain ⟨wd, vl, hx⟩ := V.x
  have hrd := hS.w V.2.2.1
  obtain ⟨V1, F1⟩ := V.set hx 0 0
  unfold m_X2_rule
  rw [pO_J hx.1 (show 8 < 10 by decide) hrd, rdF_8, pO_J cU_s (show 9 < 10 by decide) hrd, cU_cU, rdF_9]
  rw [show (Int32.ofNat 0) = (0 : Int32) from rfl] at V1 F1
  generalize cU σ rd (.inr (8, rdF tp L.length (.ref w) (Int32.ofNat (tkE L p)) (Int32.ofNat (tkO L p)) (.ref (σ.2 (10 + tkI (tkK L p)))) (.ref wd) vl 0 0)) = σ1 at V1 F1 ⊢
  have hS1 := V1.1.1
  have W1 := W.f hF hS F1
  unfold rRule
  rw [V1.nn]
  refine ((rd_guard hF V1 W1.vw).mono (fun o' σ' F' => (F1.trans F').g w) (fun _ _ _ _ F' q => (⟨F', q⟩ : RF o σ1 rd _ _ ∧ _))).bx (fun _ _ q => q) (fun a v o2 σ2 ha F2 hq => ?_)
  obtain ⟨F12, g, rfl, V2, G2⟩ := hq
  have gp := rG_ok (rF_ok hF 12 0) p 0 0 a V1.2.2.2.1 (by decide) (by decide) ha
  have hlv := gp.2.2.2.1
  have hS2 := V2.1.1
  have W2 := W1.f hF hS1 F12
  have hs2 := hS2.2.1
  have hR := V2.rm (a := 2) (b := 8) (by omega) (by omega)
  have hR1 := hR.1
  have hR2 := hR.2
  obtain ⟨wd2, vl2, hx2, -⟩ := V2.x
  rw [nO_J (by omega) (by omega)]
  generalize hs3 : cN σ2 (.inr (2, [.null, .int 0, .null, .int 0])) 4 = σ3
  have C3 : Ch (fun _ => False) σ2 σ3 := by rw [← hs3]; exact Ch.rf.cN
  have n3 : σ3.2 0 = σ2.2 0 + 1 ∧ σ3.2 1 = σ2.2 1 + 4 ∧ ∀ k, 2 ≤ k → σ3.2 k = σ2.2 k := by rw [← hs3]; exact ⟨rfl, rfl, fun k hk => cN_k hk⟩
  have q3 : σ3.1 (σ2.2 0) = some (.inr (2, [.null, .int 0, .null, .int 0])) := by rw [← hs3]; exact cN_s
  have x3 := C3.c hS2.1 hx2 id
  rw [gI_J x3 rfl]
  unfold m_X9_init
  rw [nA_L (n := 4) (by decide) (by rw [n3.1, n3.2.2 3 (by decide)]; omega) (by rw [n3.2.1, n3.2.2 4 (by decide)]; omega), n3.1]
  generalize hs4 : cN σ3 (.inl (0, 4, .inl (fun _ => 0))) 4 = σ4
  have C4 : Ch (fun _ => False) σ2 σ4 := by rw [← hs4]; exact C3.cN
  have n4 : σ4.2 0 = σ2.2 0 + 2 ∧ σ4.2 1 = σ2.2 1 + 8 ∧ ∀ k, 2 ≤ k → σ4.2 k = σ2.2 k := by rw [← hs4]; exact ⟨by rw [cN_0]; omega, by rw [cN_1]; omega, fun k hk => by rw [cN_k hk]; exact n3.2.2 k hk⟩
  have q4 : σ4.1 (σ2.2 0) = some (.inr (2, [.null, .int 0, .null, .int 0])) := by rw [← hs4, cN_n (by omega)]; exact q3
  have s4 : σ4.1 (σ2.2 0 + 1) = some (.inl (0, 4, .inl (fun _ => 0))) := by rw [← hs4, ← n3.1]; exact cN_s
  have w4 : σ4.2 2 ≤ σ2.2 0 := by rw [n4.2.2 2 (by decide)]; exact hs2
  rw [pO_J q4 (by show 2 < 4; decide) w4, pO_J cU_s (by show 0 < 4; decide) w4, cU_cU, pO_J cU_s (by show 1 < 4; decide) w4, cU_cU, bd_J]
  generalize hs5 : cU σ4 (σ2.2 0) _ = σ5
  have C5 : Ch (fun _ => False) σ2 σ5 := by rw [← hs5]; exact C4.cU q4 (Or.inl (Nat.le_refl _))
  have q5 : σ5.1 (σ2.2 0) = some (.inr (2, [.ref g, .int (Int32.ofNat a.2.2.1), .ref (σ2.2 0 + 1), .int 0])) := by rw [← hs5]; exact cU_s
  have s5 : σ5.1 (σ2.2 0 + 1) = some (.inl (0, 4, .inl (fun _ => 0))) := by rw [← hs5, cU_n (by omega)]; exact s4
  have n5 : σ5.2 = σ4.2 := by rw [← hs5]; rfl
  have w2c := hS2.lt W2.2.1.w
  have oo : ∀ z, z < σ2.2 0 → oN (oN o2 (σ2.2 0) (w + 1, 6)) (σ2.2 0 + 1) (w + 1, 7) z = o2 z := fun z hz => by rw [oN_n (by omega), oN_n (by omega)]
  have w5 : σ5.1 w ≠ none := by rw [C5.c hS2.1 W2.2.1.w id]; exact fun e => by cases e
  have S5 : SI (oN (oN o2 (σ2.2 0) (w + 1, 6)) (σ2.2 0 + 1) (w + 1, 7)) σ5 := SI.oN (SI.oN (hS2.ch C5) ⟨by rw [n5]; exact w4, by rw [q5]; exact fun e => by cases e, w5⟩) ⟨by rw [n5]; omega, by rw [s5]; exact fun e => by cases e, w5⟩
  have o6 : oN (oN o2 (σ2.2 0) (w + 1, 6)) (σ2.2 0 + 1) (w + 1, 7) (σ2.2 0) = (w + 1, 6) := by rw [oN_n (by omega), oN_s]
  have o7 : oN (oN o2 (σ2.2 0) (w + 1, 6)) (σ2.2 0 + 1) (w + 1, 7) (σ2.2 0 + 1) = (w + 1, 7) := oN_s
  generalize oN (oN o2 (σ2.2 0) (w + 1, 6)) (σ2.2 0 + 1) (w + 1, 7) = o5 at oo S5 o6 o7
  have F5 : RF o2 σ2 rd o5 σ5 := ⟨C5.mono (fun _ _ e => e.elim), oo⟩
  have V5 : RV o5 σ5 rd tp (.ref w) L a.2.1 a.2.2.1 a.2.2.2 (n + 22) (m + 102) := RV.al (x := 2) (y := 8) (V2.le (by omega) (by omega)) C5 oo S5 (fun x y h => by
    have h1 := h.1
    have h2 := h.2
    unfold Rm
    rw [n5, n4.1, n4.2.1, n4.2.2 3 (by decide), n4.2.2 4 (by decide)]
    omega)
  have R5 : RuS o5 σ5 d w (σ2.2 0) (σ2.2 0 + 1) g a.1 (fun _ => 0) 0 := ⟨⟨o6, o7⟩, by rw [show gLv a.1 = a.2.2.1 by omega]; exact q5, ⟨_, s5, fun _ _ => rfl⟩, GuardC.c C5 hS2.1 (fun _ _ e => e.elim) (fun z hz e => by rw [oo z hz]; exact (gX_y e).2.2.2) (fun _ _ => rfl) hF.1.2 20 _ _ G2⟩
  have hs5w : STR σ5 (σ5.2 41) wGiv := (V5.1.2.2.1 21 (by decide)).s
  have G2' : RG o σ rd w o2 σ2 := (F1.trans F12).g w
  rw [V5.nn]
  refine ((rd_word V5 hs5w (by decide) (by decide)).mono (fun o' σ' F' => G2'.trans ((F5.trans F').g w)) (fun _ _ _ _ F' q => (⟨F', q⟩ : RF o5 σ5 rd _ _ ∧ _))).bx (fun _ _ q => q) (fun p6 v6 o6 σ6 e6 F6 hq => ?_)
  obtain ⟨F56, rfl, V6⟩ := hq
  have F26 := F5.trans F56
  have R6 := R5.f hF V5.1.1 W2.1 F56
  have h7 := V6.2.1.1.1
  rw [V6.nn]
  show CR _ (bd (m_X2_isWord rd (some (σ6.2 (20 + 22))) σ6) _) _ _
  rw [V6.isW (by decide) (by decide) (by decide), bd_J]
  show CR _ (if b32 (isW L (tkE L a.2.1) wNth) = 0 then _ else _) _ _
  cases hw : isW L (tkE L a.2.1) wNth with
  | false =>
    have e0 : rParts d L (tkE L a.2.1) = rPl d L FU 0 (fun _ => 0) (tkE L a.2.1) := by
      unfold rParts
      rw [hw, if_neg (by decide)]
    rw [if_pos (show b32 false = 0 from rfl), V6.nn, e0]
    have P := rd_pl hS2 W2 hF h5 ⟨Nat.le_refl _, Nat.le_succ _⟩ 4095 FU 0 (fun _ => 0) (tkE L a.2.1) o6 σ6 (by omega) (by show _ < 4096; omega) (by decide) ⟨by decide, fun _ _ => rfl, fun _ _ => rfl⟩ F26 (V6.le (n' := n + 1) (m' := m + 15) (by omega) (by omega)) R6
    refine ((show CR (RF o2 σ2 rd) (m_X2_parts rd (some (σ2.2 0)) σ6) _ _ from P).mono (fun o' σ' F' => G2'.trans (F'.g w)) (fun _ _ _ _ F' q => (⟨F', q⟩ : RF o2 σ2 rd _ _ ∧ _))).bx (fun _ _ q => q) (fun sh v7 o7 σ7 e7 F7 hq => ?_)
    obtain ⟨F27, V7, R7⟩ := hq
    exact rd_r56 hS2 W2 hF h17 ⟨Nat.le_refl _, Nat.le_succ _⟩ G2' F27 V7 R7
  | true =>
    have hk0 : tkK L (tkE L a.2.1) ≠ 0 := by have := isW_k hw; omega
    have e0 : rParts d L (tkE L a.2.1) = .inr (fun _ => 0, tkE L (tkE L a.2.1)) := by
      unfold rParts
      rw [hw, if_pos rfl]
    obtain ⟨o7, σ7, e7, V7, F7⟩ := V6.next hk0
    rw [if_neg (by decide), V6.nn, e7, bd_J, e0]
    exact rd_r56 hS2 W2 hF h17 ⟨Nat.le_refl _, Nat.le_succ _⟩ G2' (F26.trans F7) (V7.le (by omega) (by omega)) (R6.f hF V6.1.1 W2.1 F7)
end RU2
