/-! THE PLAIN LAW, the class' side: factors, terms, guards are read -/
set_option maxRecDepth 1000000
theorem GQ.le {rd tp w s D n m n' m' D' : Nat} {L : List Nat} {d : Nat → Nat} {a : G4} {v : Option Nat} {o : oW} {σ : cS} (h : GQ rd tp w L d s D n m a v o σ) (hn : n' ≤ n) (hm : m' ≤ m) (hD : D ≤ D') : GQ rd tp w L d s D' n' m' a v o σ := by
  obtain ⟨g, e, V, G⟩ := h
  exact ⟨g, e, V.le hn hm, by
    have := G.le (D' - D)
    rw [show D + (D' - D) = D' by omega] at this
    exact this⟩
theorem GQ.s {rd tp w s s' D n m : Nat} {L : List Nat} {d : Nat → Nat} {a : G4} {v : Option Nat} {o : oW} {σ : cS} (h : GQ rd tp w L d s D n m a v o σ) (hs : s' ≤ s) (h0 : d 0 ≤ 4) : GQ rd tp w L d s' D n m a v o σ := by
  obtain ⟨g, e, V, G⟩ := h
  exact ⟨g, e, V, GX.gh G V.1.1.1 h0 (fun q _ a b c => ⟨Nat.le_trans hs a, b, c⟩)⟩
theorem rdF_8 {tp en : Nat} {fr tk wd : Value} {at_ fm vl fc nt y : Int32} : (rdF tp en fr at_ fm tk wd vl fc nt).set 8 (.int y) = rdF tp en fr at_ fm tk wd vl y nt := rfl
theorem rdF_9 {tp en : Nat} {fr tk wd : Value} {at_ fm vl fc nt y : Int32} : (rdF tp en fr at_ fm tk wd vl fc nt).set 9 (.int y) = rdF tp en fr at_ fm tk wd vl fc y := rfl
section SIS
variable {o : oW} {σ : cS} {rd tp p fc nt n m w : Nat} {L : List Nat} {d : Nat → Nat}
def rSim (d : Nat → Nat) (L : List Nat) (p fc nt : Nat) : PR G4 := if isW L p wAlw then (if fc = 12 then .inl (flt L p 4) else .inr (.null, tkE L p, fc + 1, nt)) else rCmp d L p fc nt
theorem rd_simple (hF : FOk d) (h : RV o σ rd tp (.ref w) L p fc nt n m) (hV : VW o σ rd w d) (hfc : fc ≤ 12) : CR (RF o σ rd) (m_X2_simple rd σ) (rSim d L p fc nt) (GQ rd tp w L d (σ.2 0) 1 (n + 37) (m + 190)) := by
  obtain ⟨wd, vl, hx⟩ := h.x
  have E := rd_expect h (j := 2) (by decide)
  have hrd0 := h.1.1.lt hx.1
  unfold m_X2_simple rSim
  rw [h.nn]
  show CR _ (bdx (m_X2_expect rd (some (σ.2 (10 + 2))) σ) _) _ _
  by_cases c : tkK L p = 1
  · rw [if_pos ((tkI_1 _).mpr c)] at E
    obtain ⟨o', σ', v, e1, -, e2, e3⟩ := E
    have hwd := (hx.2.1 c).s
    have hle := wdN_len h.2.2.2.1
    have hE := tkE_le h.2.2.2.1
    have h7 := h.2.1.1.1
    have h47 := (h.1.2.2.1 27 (by decide)).s
    have heq : m_J4_equals wd (some (σ.2 47)) σ = some (b32 (isW L p wAlw), σ) := by
      have := hwd.eqs h47 (wdN_b h.2.1.1.2) (by decide) (by omega) (by decide)
      rw [show σ.2 47 = σ.2 (20 + 27) from rfl, this]
      have e4 : isW L p wAlw = decide (wdN L p = txL.getD 27 []) := by
        unfold isW
        by_cases c2 : wdN L p = wAlw
        · rw [decide_eq_true ⟨c, c2⟩, decide_eq_true (show wdN L p = txL.getD 27 [] from c2)]
        · rw [decide_eq_false (fun q => c2 q.2), decide_eq_false (show ¬ wdN L p = txL.getD 27 [] from c2)]
      rw [e4]
    have hlen := hwd.len
    -- behind the check of the word
    have tail : ∀ (b : Bool) (f : Nat), (b = false → f < d 0) → CR (RF o σ rd) (b_X2_simple_80 rd (b32 b) (Int32.ofNat f) σ) (if fc = 12 then .inl (flt L p 4) else if b then .inr (.null, tkE L p, fc + 1, nt) else (if howN (tkK L (tkE L p)) = 3 then .inl (flt L (tkE L p) 1) else pb (rNum L (tkE L (tkE L p)) 0 (d (1 + f) - 1)) fun a => .inr (.arg (10 + 16 * f + 4 * howN (tkK L (tkE L p)) + a.1), a.2, fc + 1, nt)) : PR G4) (GQ rd tp w L d (σ.2 0) 1 (n + 37) (m + 190)) := by
      intro b f hbf
      unfold b_X2_simple_80
      rw [gI_J hx.1 rfl, iJ_eqL (by omega) (by decide)]
      by_cases c12 : fc = 12
      · rw [if_pos (show fc = OfNat.ofNat 12 from c12), if_pos c12]
        exact rv_flt h (by decide)
      · obtain ⟨V1, F1⟩ := h.set hx (fc + 1) nt
        have hfc1 : Int32.ofNat fc + 1 = Int32.ofNat (fc + 1) := J_addL
        rw [if_neg (show ¬ fc = OfNat.ofNat 12 from c12), if_neg c12, gI_J hx.1 rfl, hfc1, pO_J hx.1 (show 8 < 10 by decide) (h.1.1.w h.2.2.1), rdF_8]
        generalize cU σ rd (.inr (8, rdF tp L.length (.ref w) (Int32.ofNat (tkE L p)) (Int32.ofNat (tkO L p)) (.ref (σ.2 (10 + tkI (tkK L p)))) (.ref wd) vl (Int32.ofNat (fc + 1)) (Int32.ofNat nt))) = σ1 at V1 F1 ⊢
        obtain ⟨o2, σ2, e2, V2, F2⟩ := V1.next (by omega)
        have F12 := F1.trans F2
        rw [V1.nn, e2, bd_J]
        have hs0 : σ.2 0 = σ.2 0 ∧ 0 < σ.2 0 := ⟨rfl, by omega⟩
        cases b with
        | false =>
          rw [if_pos (show b32 false = 0 from rfl), if_neg (by decide)]
          exact (rd_cmp hF (hV.f h.1.1 F12) hs0 h.1.1 F12 V2 (hbf rfl)).mono (fun _ _ q => q) (fun a v o σ _ q => q.le (by omega) (by omega) (Nat.le_refl _))
        | true =>
          have hR2 := V2.rm (a := 1) (b := 0) (by omega) (by omega)
          rw [if_neg (by decide), if_pos rfl]
          unfold m_X1_always m_X6_init
          rw [nO_J hR2.1 hR2.2, bd_J, bd_J, xl_J]
          have C3 : Ch (fun _ => False) σ2 (cN σ2 (.inr (7, [])) 0) := Ch.rf.cN
          refine CR.k (F12.w C3 (fun _ _ q => q)) ⟨σ2.2 0, rfl, ?_, gX_n F12.1.2.1 (by have := F12.1.2.1; omega) (by have := F12.1.2.1; omega) (V2.1.1.fr (Nat.le_refl _)), Or.inr (Or.inl ⟨rfl, cN_s⟩)⟩
          exact RV.wr (x := 1) (y := 0) (V2.le (by omega) (by omega)) C3 (fun _ _ q => q.elim) (fun a b hR => hR.cN)
    rw [e1, bdx_l, e3, gR_J hx.1 rfl]
    show CR _ (nn σ (some wd) 12 _) _ _
    rw [hwd.nn, heq, bd_J, gR_J hx.1 rfl]
    show CR _ (nn σ (some wd) 12 _) _ _
    rw [hwd.nn, hlen, hle, bd_J, iJ_eqL (by omega) (by decide)]
    obtain ⟨vwr, vwo, vl2, rest, v1, v2, v3⟩ := id hV
    have fifty : ∀ (b : Bool) (f : Nat), f < 2147483648 → isW L p wAlw = b → (b = false → (f < d 0) = ((tkK L p = 1 ∧ tkE L p - tkO L p = 1) ∧ factN L p < d 0) ∧ (f < d 0 → f = factN L p)) → CR (RF o σ rd) (b_X2_simple_50 rd (b32 b) (Int32.ofNat f) σ) (if isW L p wAlw then (if fc = 12 then .inl (flt L p 4) else .inr (.null, tkE L p, fc + 1, nt)) else rCmp d L p fc nt) (GQ rd tp w L d (σ.2 0) 1 (n + 37) (m + 190)) := by
      intro b f hf2 hb hf
      have d4 := hF.1
      unfold b_X2_simple_50 rCmp
      rw [hb]
      cases b with
      | true =>
        have T := tail true f (fun q => by cases q)
        rw [if_neg (by decide), if_pos rfl]
        rw [if_pos rfl] at T
        exact T
      | false =>
        obtain ⟨hf, hff⟩ := hf rfl
        rw [if_pos (show b32 false = 0 from rfl), if_neg (by decide), gR_J hx.1 rfl, gR_J v1 rfl, v3.len, iJ_lt hf2 (by omega)]
        simp only [← hf]
        by_cases c3 : f < d 0
        · have T := tail false f (fun _ => c3)
          rw [if_neg (show ¬ (false = true) by decide)] at T
          rw [if_pos c3, if_pos c3]
          rw [hff c3] at T ⊢
          exact T
        · rw [if_neg c3, if_neg c3]
          exact rv_flt h (by decide)
    by_cases c1 : tkE L p - tkO L p = 1
    · have hb8 := getD_b h.2.1.1.2 (i := tkO L p) (by omega)
      have hlet : 97 ≤ L.getD (tkO L p) 0 := by
        unfold tkK at c
        rw [if_neg (by omega)] at c
        split at c
        · omega
        · exact (sort_let c).1
      rw [if_pos (show tkE L p - tkO L p = OfNat.ofNat 1 from c1), gR_J hx.1 rfl]
      show CR _ (nn σ (some wd) 12 _) _ _
      rw [hwd.nn]
      show CR _ (bd (m_J4_charAt wd (Int32.ofNat 0) σ) _) _ _
      rw [hwd.at (wdN_b h.2.1.1.2) (by omega) (by omega), wdN_at (by omega), bd_J, Nat.add_zero, show (97 : Int32) = Int32.ofNat 97 from rfl, J_sub hlet]
      refine fifty (isW L p wAlw) _ (by omega) rfl (fun _ => ⟨propext ⟨fun q => ⟨⟨c, c1⟩, q⟩, fun q => q.2⟩, fun _ => rfl⟩)
    · rw [if_neg (show ¬ tkE L p - tkO L p = OfNat.ofNat 1 from c1), gR_J hx.1 rfl, gR_J v1 rfl, v3.len]
      have d4 := hF.1
      exact fifty (isW L p wAlw) (d 0) (by omega) rfl (fun _ => ⟨propext ⟨fun q => absurd q (Nat.lt_irrefl _), fun q => absurd q.1.2 c1⟩, fun q => absurd q (Nat.lt_irrefl _)⟩)
  · rw [if_neg (fun q => c ((tkI_1 _).mp q))] at E
    obtain ⟨o', σ', q, a, c', e1, e2⟩ := E
    have hW : isW L p wAlw = false := decide_eq_false (fun q => c q.1)
    unfold rCmp
    rw [hW, if_neg (by decide), if_neg (fun q => c q.1.1)]
    exact ⟨o', σ', q, a, c', by rw [e1, bdx_r], e2⟩
end SIS
