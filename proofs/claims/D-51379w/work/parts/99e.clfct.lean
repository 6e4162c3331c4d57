/-! THE PLAIN LAW, the class' side: factors are read, and so guards -/
set_option maxRecDepth 1000000
theorem rFo_sim {R : Nat → Nat → Nat → Nat → PR G4} {d : Nat → Nat} {L : List Nat} {i p fc nt : Nat} (h1 : isW L p wNot = false) (h2 : tkK L p ≠ 40) : rFo R d L i p fc nt = rSim d L p fc nt := by
  unfold rFo rSim
  rw [h1, if_neg (by decide), if_neg h2]
theorem J_eqN {a b : Nat} {α : Type} {x y : α} (ha : a < 2147483648) (hb : b < 2147483648) : (if Int32.ofNat a = (OfNat.ofNat b : Int32) then x else y) = if a = b then x else y := iJ_eqL ha hb
section FAC
variable {rd tp w : Nat} {L : List Nat} {d : Nat → Nat}
theorem gs_factor (hF : FOk d) : ∀ n D' i, n ≤ D' → i ≤ 5 → GS rd tp w d L n i (16 - 2 * i) 30 150 (m_X2_factor D') (rF d L n i) := by
  intro n
  induction n with
  | zero => intro D' i _ _ p fc nt n m o σ h; omega
  | succ n' ih =>
    intro D' i hD hi p fc nt n m o σ hm V hV h12 h5
    obtain ⟨D', rfl⟩ : ∃ D'', D' = D'' + 1 := ⟨D' - 1, by omega⟩
    have hS := V.1.1
    have hpos := V.pos
    have hel := (tkE_le V.2.2.2.1).2
    obtain ⟨wd, vl, hx⟩ := V.x
    show CR _ (mO_X2_factor (m_X2_factor D') rd (Int32.ofNat i) σ) (rFo (rF d L n') d L i p fc nt) _
    unfold mO_X2_factor
    rw [V.nn]
    show CR _ (bd (m_X2_isSign rd (Int32.ofNat 40) σ) _) _ _
    rw [isSign_J V (by decide), bd_J]
    by_cases c40 : tkK L p = 40
    · have hnW : isW L p wNot = false := decide_eq_false (fun q => by have := q.1; omega)
      unfold rFo
      rw [decide_eq_true c40, if_neg (show ¬ b32 true = 0 by decide), hnW, if_neg (show ¬ false = true by decide), if_pos c40, iJ_eqL (by omega) (by decide)]
      by_cases ci : i = 5
      · rw [if_pos (show i = OfNat.ofNat 5 from ci), if_pos ci]
        exact rv_flt V (by decide)
      · obtain ⟨o1, σ1, e1, V1, F1⟩ := V.next (by omega)
        have hV1 := hV.f hS F1
        rw [if_neg (show ¬ i = OfNat.ofNat 5 from ci), if_neg ci, V.nn, e1, bd_J, V1.nn, J_addL]
        have g1 : GS rd tp w d L n' (i + 1) (16 - 2 * (i + 1) + 1) 27 130 (m_X2_term (m_X2_factor D')) (rT (rF d L n' (i + 1)) L) := gs_term hF (rF_ok hF n' (i + 1)) (ih D' (i + 1) (by omega) (by omega)) (by omega)
        have g2 : GS rd tp w d L n' (i + 1) (16 - 2 * (i + 1) + 1 + 1) 24 110 (m_X2_guard (m_X2_factor D')) (rG (rF d L n' (i + 1)) L) := gs_guard hF (rT_ok (rF_ok hF n' (i + 1))) g1 (by omega)
        have G := g2 (tkE L p) fc nt (n + 38) (m + 190) o1 σ1 (by omega) V1 hV1 h12 h5
        refine (G.mono F1.k (fun _ _ _ _ F' q => (⟨F', q⟩ : RF o1 σ1 rd _ _ ∧ _))).bd (fun _ _ q => q) (fun a v o2 σ2 F2 hq => ?_)
        obtain ⟨F12, g, rfl, V2, G2⟩ := hq
        rw [V2.nn]
        show CR _ (bdx (m_X2_sign rd (Int32.ofNat 41) σ2) _) _ _
        refine ((rd_sign V2 (c := 41) (by decide)).mono F2.k (fun _ _ _ _ F' q => (⟨F', q⟩ : RF o2 σ2 rd _ _ ∧ _))).bd (fun _ _ q => q) (fun p' v o3 σ3 F3 hq => ?_)
        obtain ⟨F23, rfl, V3⟩ := hq
        rw [xl_J]
        refine CR.k F3 ⟨g, rfl, V3.le (by omega) (by omega), ?_⟩
        have G3 := GX.f G2 V2.1.1.1 hF.1.2 F23
        have G4 : GuardC (gX (σ.2 0) 0 0 o3) σ3 d (16 - 2 * (i + 1) + 1 + 1 - nt) g a.1 := GX.gh G3 V3.1.1.1 hF.1.2 (fun q _ x y z => ⟨Nat.le_trans F1.1.2.1 x, y, z⟩)
        rw [show 16 - 2 * (i + 1) + 1 + 1 - nt = 16 - 2 * i - nt by omega] at G4
        exact G4
    · rw [decide_eq_false c40, if_pos (show b32 false = 0 from rfl), V.nn]
      show CR _ (bd (m_X2_isWord rd (some (σ.2 (20 + 26))) σ) _) _ _
      rw [V.isW (by decide) (by decide) (by decide), bd_J]
      show CR _ (if b32 (isW L p wNot) = 0 then _ else _) _ _
      cases hw : isW L p wNot with
      | false =>
        rw [rFo_sim hw c40, if_pos (show b32 false = 0 from rfl), V.nn]
        refine CR.a ?_ (show pb (rSim d L p fc nt) (fun a => .inr a) = rSim d L p fc nt from by cases rSim d L p fc nt <;> rfl)
        refine (rd_simple hF V hV h12).bd (fun _ _ q => q) (fun a v o1 σ1 F1 hq => ?_)
        rw [xl_J]
        exact CR.k F1 (hq.le (by omega) (by omega) (by omega))
      | true =>
        have hk0 : tkK L p ≠ 0 := by have := isW_k hw; omega
        unfold rFo
        rw [hw, if_neg (by decide), if_pos rfl, gI_J hx.1 rfl, iJ_eqL (by omega) (by decide)]
        by_cases cn : nt = 5
        · rw [if_pos (show nt = OfNat.ofNat 5 from cn), if_pos cn]
          exact rv_flt V (by decide)
        · obtain ⟨V1, F1⟩ := V.set hx fc (nt + 1)
          have hnt1 : Int32.ofNat nt + 1 = Int32.ofNat (nt + 1) := J_addL
          rw [if_neg (show ¬ nt = OfNat.ofNat 5 from cn), if_neg cn, gI_J hx.1 rfl, hnt1, pO_J hx.1 (show 9 < 10 by decide) (hS.w V.2.2.1), rdF_9]
          generalize cU σ rd (.inr (8, rdF tp L.length (.ref w) (Int32.ofNat (tkE L p)) (Int32.ofNat (tkO L p)) (.ref (σ.2 (10 + tkI (tkK L p)))) (.ref wd) vl (Int32.ofNat fc) (Int32.ofNat (nt + 1)))) = σ1 at V1 F1 ⊢
          obtain ⟨o2, σ2, e2, V2, F2⟩ := V1.next hk0
          have F12 := F1.trans F2
          have hV2 := hV.f hS F12
          rw [V1.nn, e2, bd_J, V2.nn]
          have G := ih D' i (by omega) hi (tkE L p) fc (nt + 1) (n + 38) (m + 190) o2 σ2 (by omega) V2 hV2 h12 (by omega)
          refine (G.mono F12.k (fun _ _ _ _ F' q => (⟨F', q⟩ : RF o2 σ2 rd _ _ ∧ _))).bd (fun _ _ q => q) (fun a v o3 σ3 F3 hq => ?_)
          obtain ⟨F23, g, rfl, V3, G3⟩ := hq
          have hR3 := V3.rm (a := 1) (b := 1) (by omega) (by omega)
          have hS3 := V3.1.1
          unfold m_X1_not m_X5_init
          rw [nO_J hR3.1 hR3.2, pO_J cN_s (by show 0 < 1; decide) (by rw [cN_k (by decide)]; exact hS3.2.1), cN_cU, bd_J, bd_J, xl_J]
          have C4 : Ch (fun _ => False) σ3 (cN σ3 (.inr (6, [Value.ref g])) 1) := Ch.rf.cN
          have hlo := F3.1.2.1
          refine CR.k (F3.w C4 (fun _ _ q => q)) ⟨σ3.2 0, rfl, ?_, ?_⟩
          · exact RV.wr (x := 1) (y := 1) (V3.le (by omega) (by omega)) C4 (fun _ _ q => q.elim) (fun a b hR => hR.cN)
          · have G4 : GuardC (gX (σ.2 0) 0 0 o3) (cN σ3 (.inr (6, [Value.ref g])) 1) d (16 - 2 * i - (nt + 1)) g a.1 := GX.w (GX.gh G3 hS3.1 hF.1.2 (fun q _ x y z => ⟨Nat.le_trans F12.1.2.1 x, y, z⟩)) hS3.1 hF.1.2 C4 (fun _ _ q => q.elim)
            rw [show 16 - 2 * i - nt = 16 - 2 * i - (nt + 1) + 1 by omega]
            exact ⟨gX_n hlo (by omega) (by omega) (hS3.fr (Nat.le_refl _)), Or.inr (Or.inr (Or.inl ⟨g, a.1, rfl, cN_s, G4⟩))⟩
/-- a guard from the start -/
theorem rd_guard (hF : FOk d) {p fc n m : Nat} {o : oW} {σ : cS} (V : RV o σ rd tp (.ref w) L p 0 0 n m) (hV : VW o σ rd w d) : CR (RF o σ rd) (m_X2_guard (m_X2_factor DPC) rd 0 σ) (rG (rF d L 12 0) L p 0 0) (GQ rd tp w L d (σ.2 0) 20 (n + 24) (m + 110)) := by
  have g1 : GS rd tp w d L 12 0 (16 - 2 * 0 + 1) 27 130 (m_X2_term (m_X2_factor DPC)) (rT (rF d L 12 0) L) := gs_term hF (rF_ok hF 12 0) (gs_factor hF 12 DPC 0 (by decide) (by decide)) (by decide)
  have g2 : GS rd tp w d L 12 0 (16 - 2 * 0 + 1 + 1) 24 110 (m_X2_guard (m_X2_factor DPC)) (rG (rF d L 12 0) L) := gs_guard hF (rT_ok (rF_ok hF 12 0)) g1 (by decide)
  exact (g2 p 0 0 n m o σ (by decide) V hV (by decide) (by decide)).mono (fun _ _ q => q) (fun _ _ _ _ _ q => q.le (Nat.le_refl _) (Nat.le_refl _) (by decide))
end FAC
