/-! THE PLAIN LAW, the class' side: terms and guards are read -/
set_option maxRecDepth 1000000
theorem CR.bx {α α' β β' : Type} {Fr Fr' : oW → cS → Prop} {r : Option (cX β × cS)} {x : PR α} {Q : α → β → oW → cS → Prop} {K : β → cS → Option (cX β' × cS)} {f : α → PR α'} {Q' : α' → β' → oW → cS → Prop} (h : CR Fr r x Q) (hf : ∀ o σ, Fr o σ → Fr' o σ) (k : ∀ a v o1 σ1, x = .inr a → Fr o1 σ1 → Q a v o1 σ1 → CR Fr' (K v σ1) (f a) Q') : CR Fr' (bdx r K) (pb x f) Q' := by
  cases x with
  | inl e =>
    obtain ⟨o', σ', q, a, c, e1, ⟨e2, e3⟩, e4⟩ := h
    exact ⟨o', σ', q, a, c, by rw [e1, bdx_r], ⟨hf _ _ e2, e3⟩, e4⟩
  | inr a =>
    obtain ⟨o', σ', v, e1, e2, e3⟩ := h
    show CR Fr' (bdx r K) (f a) Q'
    rw [e1, bdx_l]
    exact k a v o' σ' rfl e2 e3
theorem gLv_ge {d : Nat → Nat} : ∀ t, gOk d t → 1 ≤ gLv t := by
  intro t
  induction t with
  | arg s => intro _; exact Nat.le_refl _
  | null => intro _; exact Nat.le_refl _
  | length t ih => intro h; exact ih h
  | mul a b iha ihb =>
    intro h
    have := iha h.1
    show 1 ≤ gLv a + gLv b
    omega
  | add a b iha ihb =>
    intro h
    have := iha h.1
    show 1 ≤ gLv a + gLv b
    omega
  | _ => intro h; cases h
theorem foldF_cg {b : Bool} {ts ts' : Nat → Term} : ∀ k, (∀ i, i ≤ k → ts' i = ts i) → foldF b ts' k = foldF b ts k := by
  intro k
  induction k with
  | zero => intro h; exact h 0 (Nat.le_refl _)
  | succ k ih =>
    intro h
    unfold foldF
    rw [ih (fun i hi => h i (by omega)), h (k + 1) (Nat.le_refl _)]
def GS (rd tp w : Nat) (d : Nat → Nat) (L : List Nat) (n' i D gn gm : Nat) (F : Nat → Int32 → cS → Option (cX (Option Nat) × cS)) (S : Nat → Nat → Nat → PR G4) : Prop := ∀ (p fc nt n m : Nat) (o : oW) (σ : cS), (5 - i) + (5 - nt) < n' → RV o σ rd tp (.ref w) L p fc nt n m → VW o σ rd w d → fc ≤ 12 → nt ≤ 5 → CR (RF o σ rd) (F rd (Int32.ofNat i) σ) (S p fc nt) (GQ rd tp w L d (σ.2 0) (D - nt) (n + gn) (m + gm))
theorem RV.pos {o : oW} {σ : cS} {rd tp p fc nt n m : Nat} {fr : Value} {L : List Nat} (h : RV o σ rd tp fr L p fc nt n m) : rd < σ.2 0 := by
  obtain ⟨wd, vl, hx, -⟩ := h.x
  exact h.1.1.lt hx
section TLS
variable {rd tp w n' i D gn gm : Nat} {L : List Nat} {d : Nat → Nat} {F : Nat → Int32 → cS → Option (cX (Option Nat) × cS)} {S : Nat → Nat → Nat → PR G4}
theorem term_loop (hF : FOk d) (hP : GPF d L S) (hG : GS rd tp w d L n' i D gn gm F S) {o0 : oW} {σ0 : cS} (hS0 : SI o0 σ0) (h00 : 0 < σ0.2 0) {D1 n1 m1 j li : Nat} : ∀ f (a : G4) (k : Nat) (r : Nat → Nat) (ts : Nat → Term) (o : oW) (σ : cS) (ar : Nat), (5 - i) + (5 - a.2.2.2) < n' → L.length - a.2.1 < f → RF o0 σ0 rd o σ → VW o σ rd w d → RV o σ rd tp (.ref w) L a.2.1 a.2.2.1 a.2.2.2 n1 m1 → JS o σ (σ0.2 0) d D1 true j li ar k r ts → a.1 = foldF true ts k → k + 1 ≤ a.2.2.1 → a.2.2.1 ≤ 12 → a.2.2.2 ≤ 5 → D - a.2.2.2 ≤ D1 → (1 ≤ k ∨ isW L a.2.1 wAnd = true) → CR (RF o0 σ0 rd) (b_X2_term_35 F rd f (Int32.ofNat i) (some j) σ) (rTl S L f a) (GQ rd tp w L d (σ0.2 0) (D1 + 1) n1 m1) := by
  intro f
  induction f with
  | zero => intro a k r ts o σ ar _ h; omega
  | succ f ih =>
    intro a k r ts o σ ar hm hf F0 hV V J ha hk h12 h5 hD hor
    have hS := V.1.1
    rw [b_X2_term_35, rTl, V.nn]
    show CR _ (bd (m_X2_isWord rd (some (σ.2 (20 + 25))) σ) _) _ _
    rw [V.isW (by decide) (by decide) (by decide), bd_J]
    show CR _ (if b32 (isW L a.2.1 wAnd) = 0 then _ else _) _ _
    cases hw : isW L a.2.1 wAnd with
    | false =>
      rw [if_pos (show b32 false = 0 from rfl), if_neg (by decide), xl_J]
      rcases hor with q | q
      · exact CR.k F0 ⟨j, rfl, V, by rw [ha]; exact J.end hS.1 hF.1.2 ⟨q, by omega⟩⟩
      · rw [hw] at q; cases q
    | true =>
      have hk0 : tkK L a.2.1 ≠ 0 := by have := isW_k hw; omega
      have hadv := tkE_adv V.2.2.2.1 hk0
      have hel := (tkE_le V.2.2.2.1).2
      obtain ⟨o1, σ1, e1, V1, F1⟩ := V.next hk0
      have J1 := J.f hS hF.1.2 F1
      have hV1 := hV.f hS F1
      have hS1 := V1.1.1
      have hlt := J1.2.2.2.1.1.lt hS1.1
      rw [if_neg (by decide), if_pos rfl, V.nn, e1, bd_J, gR_J J1.2.2.1 rfl, V1.nn]
      refine ((hG (tkE L a.2.1) a.2.2.1 a.2.2.2 (n1 + 38) (m1 + 190) o1 σ1 hm V1 hV1 h12 h5).mono (fun o' σ' F' => F0.trans (F1.trans F')) (fun _ _ _ _ F' q => (⟨F', q⟩ : RF o1 σ1 rd _ _ ∧ _))).bx (fun _ _ q => q) (fun b v o2 σ2 hb F2 hq => ?_)
      obtain ⟨F12, g, rfl, V2, G2⟩ := hq
      have gp := hP _ _ _ _ hel h12 h5 hb
      have hlv := gLv_ge b.1 gp.2.2.1
      have hlv2 := gp.2.2.2.1
      have hntb := gp.2.2.2.2
      have J2 := J1.f hS1 hF.1.2 F12
      have G2' : GuardC (gX (σ1.2 0) 0 0 o2) σ2 d D1 g b.1 := by
        have := G2.le (D1 - (D - a.2.2.2))
        rw [show D - a.2.2.2 + (D1 - (D - a.2.2.2)) = D1 by omega] at this
        exact this
      obtain ⟨σ3, ar', e3, J3, V3, C3⟩ := JS.add (n := n1 + 37) (m := m1 + 175) J2 (V2.le (by omega) (by omega)) hF.1.2 (by have := gp.2.1.1; omega) (t := σ1.2 0) ⟨Nat.le_trans F0.1.2.1 F1.1.2.1, hlt.1, hlt.2⟩ G2'
      have hl3 := J2.1
      have F3 : RF o0 σ0 rd o2 σ3 := F2.w C3 (fun q hq w => by rcases w with w | w <;> omega)
      have hV3 : VW o2 σ3 rd w d := by
        obtain ⟨x1, x2, vl, rest, x3, x4, x5⟩ := (hV1.f hS1 F12)
        obtain ⟨⟨mc, l1⟩, cap, f0, l2, -⟩ := J2.2.2.2.1.1
        refine ⟨x1, x2, vl, rest, C3.c V2.1.1.1 x3 (fun w => ?_), x4, x5.c C3 V2.1.1.1 (fun w => ?_)⟩
        · rcases w with w | w
          · rw [w, l1] at x3; cases x3
          · rw [w, l2] at x3; cases x3
        · obtain ⟨ff, y1, -⟩ := x5
          rcases w with w | w
          · rw [w, l1] at y1; cases y1
          · rw [w, l2] at y1; cases y1
      rw [J2.2.2.2.1.1.nn, e3, bd_J]
      refine ih (.mul a.1 b.1, b.2) (k + 1) _ _ o2 σ3 ar' ?_ ?_ F3 hV3 (V3.le (by omega) (by omega)) J3 ?_ ?_ gp.2.1.1 gp.2.1.2 ?_ (Or.inl (by omega))
      · show (5 - i) + (5 - b.2.2.2) < n'
        omega
      · have := gp.1
        show L.length - b.2.1 < f
        omega
      · show Term.mul a.1 b.1 = Term.mul (foldF true (fun q => if q = k + 1 then b.1 else ts q) k) (if k + 1 = k + 1 then b.1 else ts (k + 1))
        rw [if_pos rfl, ha, foldF_cg (ts := ts) (ts' := fun q => if q = k + 1 then b.1 else ts q) k (fun i hi => if_neg (by omega))]
      · show k + 1 + 1 ≤ b.2.2.1
        omega
      · show D - b.2.2.2 ≤ D1
        omega
theorem gs_term (hF : FOk d) (hP : GPF d L S) (hG : GS rd tp w d L n' i D (gn + 3) (gm + 20) F S) (hD : 5 ≤ D) : GS rd tp w d L n' i (D + 1) gn gm (m_X2_term F) (rT S L) := by
  intro p fc nt n m o σ hm V hV h12 h5
  have hS := V.1.1
  have hpos := V.pos
  unfold m_X2_term rT
  rw [V.nn]
  refine ((hG p fc nt n m o σ hm V hV h12 h5).mono (fun _ _ q => q) (fun _ _ _ _ F' q => (⟨F', q⟩ : RF o σ rd _ _ ∧ _))).bx (fun _ _ q => q) (fun a v o1 σ1 ha F1 hq => ?_)
  obtain ⟨-, g, rfl, V1, G1⟩ := hq
  have gp := hP _ _ _ _ V.2.2.2.1 h12 h5 ha
  have hlv := gLv_ge a.1 gp.2.2.1
  have hlv2 := gp.2.2.2.1
  have hntb := gp.2.2.2.2
  have hS1 := V1.1.1
  have hV1 := hV.f hS F1
  have h7 := V.2.1.1.1
  rw [V1.nn]
  show CR _ (bd (m_X2_isWord rd (some (σ1.2 (20 + 25))) σ1) _) _ _
  rw [V1.isW (by decide) (by decide) (by decide), bd_J]
  show CR _ (if b32 (isW L a.2.1 wAnd) = 0 then _ else _) _ _
  cases hw : isW L a.2.1 wAnd with
  | false =>
    have e0 : rTl S L FU a = .inr a := by
      show rTl S L (4095 + 1) a = .inr a
      rw [rTl, hw, if_neg (by decide)]
    rw [if_pos (show b32 false = 0 from rfl), xl_J, e0]
    exact CR.k F1 (GQ.le (show GQ rd tp w L d (σ.2 0) (D - nt) (n + (gn + 3)) (m + (gm + 20)) a (some g) o1 σ1 from ⟨g, rfl, V1, G1⟩) (by omega) (by omega) (by omega))
  | true =>
    rw [if_neg (by decide)]
    obtain ⟨σ2, ar, e2, J2, V2, C2⟩ := JS.mk (s := σ.2 0) (n := n + gn) (m := m + gm) (b := true) (V1.le (by omega) (by omega)) hF.1.2 ⟨by omega, F1.1.2.1⟩ G1
    have F2 : RF o σ rd o1 σ2 := F1.w C2 (fun _ _ q => q)
    have hV2 : VW o1 σ2 rd w d := hV1.f hS1 (RF.rf.w C2 (fun _ _ q => q))
    have e2' := e2 (cX (Option Nat) × cS) (fun q σ_13 => b_X2_term_35 F rd FU (Int32.ofNat i) (some q) σ_13)
    have res := term_loop hF hP hG hS (by omega) (n1 := n + gn) (m1 := m + gm) (D1 := D - nt) FU a 0 _ _ o1 σ2 ar (by omega) (by have := V1.2.2.2.1; show _ < 4096; omega) F2 hV2 V2 J2 rfl (by omega) gp.2.1.1 gp.2.1.2 (by omega) (Or.inr hw)
    rw [← e2', show D - nt + 1 = D + 1 - nt by omega] at res
    exact res
end TLS
section GLS
variable {rd tp w n' i D gn gm : Nat} {L : List Nat} {d : Nat → Nat} {F0 : Nat → Int32 → cS → Option (cX (Option Nat) × cS)} {S0 : Nat → Nat → Nat → PR G4}
theorem guard_loop (hF : FOk d) (hP : GPF d L (rT S0 L)) (hG : GS rd tp w d L n' i D gn gm (m_X2_term F0) (rT S0 L)) {o0 : oW} {σ0 : cS} (hS0 : SI o0 σ0) (h00 : 0 < σ0.2 0) {D1 n1 m1 j li : Nat} : ∀ f (a : G4) (k : Nat) (r : Nat → Nat) (ts : Nat → Term) (o : oW) (σ : cS) (ar : Nat), (5 - i) + (5 - a.2.2.2) < n' → L.length - a.2.1 < f → RF o0 σ0 rd o σ → VW o σ rd w d → RV o σ rd tp (.ref w) L a.2.1 a.2.2.1 a.2.2.2 n1 m1 → JS o σ (σ0.2 0) d D1 false j li ar k r ts → a.1 = foldF false ts k → k + 1 ≤ a.2.2.1 → a.2.2.1 ≤ 12 → a.2.2.2 ≤ 5 → D - a.2.2.2 ≤ D1 → (1 ≤ k ∨ isW L a.2.1 wOr = true) → CR (RF o0 σ0 rd) (b_X2_guard_35 F0 rd f (Int32.ofNat i) (some j) σ) (rGl S0 L f a) (GQ rd tp w L d (σ0.2 0) (D1 + 1) n1 m1) := by
  intro f
  induction f with
  | zero => intro a k r ts o σ ar _ h; omega
  | succ f ih =>
    intro a k r ts o σ ar hm hf F00 hV V J ha hk h12 h5 hD hor
    have hS := V.1.1
    rw [b_X2_guard_35, rGl, V.nn]
    show CR _ (bd (m_X2_isWord rd (some (σ.2 (20 + 24))) σ) _) _ _
    rw [V.isW (by decide) (by decide) (by decide), bd_J]
    show CR _ (if b32 (isW L a.2.1 wOr) = 0 then _ else _) _ _
    cases hw : isW L a.2.1 wOr with
    | false =>
      rw [if_pos (show b32 false = 0 from rfl), if_neg (by decide), xl_J]
      rcases hor with q | q
      · exact CR.k F00 ⟨j, rfl, V, by rw [ha]; exact J.end hS.1 hF.1.2 ⟨q, by omega⟩⟩
      · rw [hw] at q; cases q
    | true =>
      have hk0 : tkK L a.2.1 ≠ 0 := by have := isW_k hw; omega
      have hadv := tkE_adv V.2.2.2.1 hk0
      have hel := (tkE_le V.2.2.2.1).2
      obtain ⟨o1, σ1, e1, V1, F1⟩ := V.next hk0
      have J1 := J.f hS hF.1.2 F1
      have hV1 := hV.f hS F1
      have hS1 := V1.1.1
      have hlt := J1.2.2.2.1.1.lt hS1.1
      rw [if_neg (by decide), if_pos rfl, V.nn, e1, bd_J, gR_J J1.2.2.1 rfl, V1.nn]
      refine ((hG (tkE L a.2.1) a.2.2.1 a.2.2.2 (n1 + 38) (m1 + 190) o1 σ1 hm V1 hV1 h12 h5).mono (fun o' σ' F' => F00.trans (F1.trans F')) (fun _ _ _ _ F' q => (⟨F', q⟩ : RF o1 σ1 rd _ _ ∧ _))).bx (fun _ _ q => q) (fun b v o2 σ2 hb F2 hq => ?_)
      obtain ⟨F12, g, rfl, V2, G2⟩ := hq
      have gp := hP _ _ _ _ hel h12 h5 hb
      have hlv := gLv_ge b.1 gp.2.2.1
      have hlv2 := gp.2.2.2.1
      have hntb := gp.2.2.2.2
      have J2 := J1.f hS1 hF.1.2 F12
      have G2' : GuardC (gX (σ1.2 0) 0 0 o2) σ2 d D1 g b.1 := by
        have := G2.le (D1 - (D - a.2.2.2))
        rw [show D - a.2.2.2 + (D1 - (D - a.2.2.2)) = D1 by omega] at this
        exact this
      obtain ⟨σ3, ar', e3, J3, V3, C3⟩ := JS.add (n := n1 + 37) (m := m1 + 175) J2 (V2.le (by omega) (by omega)) hF.1.2 (by have := gp.2.1.1; omega) (t := σ1.2 0) ⟨Nat.le_trans F00.1.2.1 F1.1.2.1, hlt.1, hlt.2⟩ G2'
      have hl3 := J2.1
      have F3 : RF o0 σ0 rd o2 σ3 := F2.w C3 (fun q hq w => by rcases w with w | w <;> omega)
      have hV3 : VW o2 σ3 rd w d := by
        obtain ⟨x1, x2, vl, rest, x3, x4, x5⟩ := (hV1.f hS1 F12)
        obtain ⟨⟨mc, l1⟩, cap, f0, l2, -⟩ := J2.2.2.2.1.1
        refine ⟨x1, x2, vl, rest, C3.c V2.1.1.1 x3 (fun w => ?_), x4, x5.c C3 V2.1.1.1 (fun w => ?_)⟩
        · rcases w with w | w
          · rw [w, l1] at x3; cases x3
          · rw [w, l2] at x3; cases x3
        · obtain ⟨ff, y1, -⟩ := x5
          rcases w with w | w
          · rw [w, l1] at y1; cases y1
          · rw [w, l2] at y1; cases y1
      rw [J2.2.2.2.1.1.nn, e3, bd_J]
      refine ih (.add a.1 b.1, b.2) (k + 1) _ _ o2 σ3 ar' ?_ ?_ F3 hV3 (V3.le (by omega) (by omega)) J3 ?_ ?_ gp.2.1.1 gp.2.1.2 ?_ (Or.inl (by omega))
      · show (5 - i) + (5 - b.2.2.2) < n'
        omega
      · have := gp.1
        show L.length - b.2.1 < f
        omega
      · show Term.add a.1 b.1 = Term.add (foldF false (fun q => if q = k + 1 then b.1 else ts q) k) (if k + 1 = k + 1 then b.1 else ts (k + 1))
        rw [if_pos rfl, ha, foldF_cg (ts := ts) (ts' := fun q => if q = k + 1 then b.1 else ts q) k (fun i hi => if_neg (by omega))]
      · show k + 1 + 1 ≤ b.2.2.1
        omega
      · show D - b.2.2.2 ≤ D1
        omega
theorem gs_guard (hF : FOk d) (hP : GPF d L (rT S0 L)) (hG : GS rd tp w d L n' i D (gn + 3) (gm + 20) (m_X2_term F0) (rT S0 L)) (hD : 5 ≤ D) : GS rd tp w d L n' i (D + 1) gn gm (m_X2_guard F0) (rG S0 L) := by
  intro p fc nt n m o σ hm V hV h12 h5
  have hS := V.1.1
  have hpos := V.pos
  unfold m_X2_guard rG
  rw [V.nn]
  refine ((hG p fc nt n m o σ hm V hV h12 h5).mono (fun _ _ q => q) (fun _ _ _ _ F' q => (⟨F', q⟩ : RF o σ rd _ _ ∧ _))).bx (fun _ _ q => q) (fun a v o1 σ1 ha F1 hq => ?_)
  obtain ⟨-, g, rfl, V1, G1⟩ := hq
  have gp := hP _ _ _ _ V.2.2.2.1 h12 h5 ha
  have hlv := gLv_ge a.1 gp.2.2.1
  have hlv2 := gp.2.2.2.1
  have hntb := gp.2.2.2.2
  have hS1 := V1.1.1
  have hV1 := hV.f hS F1
  have h7 := V.2.1.1.1
  rw [V1.nn]
  show CR _ (bd (m_X2_isWord rd (some (σ1.2 (20 + 24))) σ1) _) _ _
  rw [V1.isW (by decide) (by decide) (by decide), bd_J]
  show CR _ (if b32 (isW L a.2.1 wOr) = 0 then _ else _) _ _
  cases hw : isW L a.2.1 wOr with
  | false =>
    have e0 : rGl S0 L FU a = .inr a := by
      show rGl S0 L (4095 + 1) a = .inr a
      rw [rGl, hw, if_neg (by decide)]
    rw [if_pos (show b32 false = 0 from rfl), xl_J, e0]
    exact CR.k F1 (GQ.le (show GQ rd tp w L d (σ.2 0) (D - nt) (n + (gn + 3)) (m + (gm + 20)) a (some g) o1 σ1 from ⟨g, rfl, V1, G1⟩) (by omega) (by omega) (by omega))
  | true =>
    rw [if_neg (by decide)]
    obtain ⟨σ2, ar, e2, J2, V2, C2⟩ := JS.mk (s := σ.2 0) (n := n + gn) (m := m + gm) (b := false) (V1.le (by omega) (by omega)) hF.1.2 ⟨by omega, F1.1.2.1⟩ G1
    have F2 : RF o σ rd o1 σ2 := F1.w C2 (fun _ _ q => q)
    have hV2 : VW o1 σ2 rd w d := hV1.f hS1 (RF.rf.w C2 (fun _ _ q => q))
    have e2' := e2 (cX (Option Nat) × cS) (fun q σ_13 => b_X2_guard_35 F0 rd FU (Int32.ofNat i) (some q) σ_13)
    have res := guard_loop hF hP hG hS (by omega) (n1 := n + gn) (m1 := m + gm) (D1 := D - nt) FU a 0 _ _ o1 σ2 ar (by omega) (by have := V1.2.2.2.1; show _ < 4096; omega) F2 hV2 V2 J2 rfl (by omega) gp.2.1.1 gp.2.1.2 (by omega) (Or.inr hw)
    rw [← e2', show D - nt + 1 = D + 1 - nt by omega] at res
    exact res
end GLS
