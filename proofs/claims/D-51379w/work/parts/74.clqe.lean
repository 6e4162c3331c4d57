/-! THE PLAIN LAW, the class' side: patch, and the sum over all -/
set_option maxRecDepth 100000
theorem cN_cU {σ : cS} {e e' : cE} {n : Nat} : cU (cN σ e n) (σ.2 0) e' = cN σ e' n := by
  unfold cU cN
  refine Prod.ext (funext fun q => ?_) rfl
  dsimp only
  by_cases c : q = σ.2 0
  · rw [if_pos c, if_pos c]
  · rw [if_neg c, if_neg c, if_neg c]
section CLE
variable {o : oW} {σ0 σ : cS} {x wa dq sl bu re u v q : Nat} {L d : Nat → Nat} {t : Nat → Term}
theorem cl_isGap (hW : WOk d t) (Q : QS o σ0 x wa dq sl bu re) (D : RD o σ0 wa L d t u v σ) {n : Nat} (hn : n < casesN d) : Rt (RD o σ0 wa L d t u v) (m_X1_isGap x (Int32.ofNat n) σ) (b32 (decide (verdN d (setN d t n) = 1) || decide (verdN d (setN d t n) = 2))) := by
  obtain ⟨p, σ1, e, D1, ⟨-, row, -, qc, -⟩, -⟩ := cl_look hW D hn
  have h3 := verdN_le d (setN d t n)
  unfold m_X1_isGap
  rw [gR_J (Q.g D) rfl, nn_J D.W.w, e, bd_J, gI_J qc rfl, iJ_eqL (by omega) (by decide), iJ_eqL (by omega) (by decide)]
  by_cases c1 : verdN d (setN d t n) = 1
  · rw [if_pos (show _ = OfNat.ofNat 1 from c1), decide_eq_true c1]
    exact Rt.mk D1
  · rw [if_neg (show ¬ _ = OfNat.ofNat 1 from c1), decide_eq_false c1, Bool.false_or]
    by_cases c2 : verdN d (setN d t n) = 2
    · rw [if_pos (show _ = OfNat.ofNat 2 from c2), decide_eq_true c2]
      exact Rt.mk D1
    · rw [if_neg (show ¬ _ = OfNat.ofNat 2 from c2), decide_eq_false c2]
      exact Rt.mk D1
theorem lg_patch (hW : WOk d t) (Q : QS o σ0 x wa dq sl bu re) {f k q0 : Nat} (hf : f < d 0) (hk : k < d (1 + f)) (hc : ∀ u v τ, RD o σ0 wa L d t u v τ → τ.1 q0 = some (.inr (4, [.int (Int32.ofNat f), .int 61, .int (Int32.ofNat k), .ref (τ.2 8)]))) (hq : ∀ u v τ, RD o σ0 wa L d t u v τ → τ.1 q = some (.inr (64, [.ref x, .ref q0]))) : ∀ n τ, n < casesN d → RD o σ0 wa L d t u v τ → Rt (RD o σ0 wa L d t u v) (dL_of q (Int32.ofNat n) τ) (if gwB d t f k n then 1 else 0) := by
  intro n τ hn D
  have hb := hW.1.2 f hf
  have h4 := hW.1.1
  rw [dl_64 (hq u v τ D) (Q.g D)]
  unfold m_X1_lambda_patch_10 gwB
  rw [nn_J (Q.g D)]
  refine Rt.bd (cl_isGap hW Q D hn) (fun σ1 D1 => ?_)
  rw [ite_pq (b32_0 _)]
  cases hg : (decide (verdN d (setN d t n) = 1) || decide (verdN d (setN d t n) = 2)) with
  | false => rw [if_pos rfl, Bool.false_and]; exact Rt.mk D1
  | true =>
    obtain ⟨p, σ2, e, D2, ⟨-, row, -, qc, I⟩, -⟩ := cl_look hW D1 hn
    have cc := hc u v σ2 D2
    have hv := valueN_lt hW.1 n hf
    have eL : dL_is (σ2.2 8) (Int32.ofNat (valueN d n f)) (Int32.ofNat k) σ2 = some (b32 (decide (valueN d n f = k)), σ2) := dL_isJ (k := 0) D2.1.2.l (by decide) (by omega) (by omega)
    rw [if_neg (by decide), gR_J (Q.g D1) rfl, nn_J D1.W.w, e, bd_J, gR_J qc rfl, nn_J cc]
    unfold m_X7_holds
    rw [gR_J cc rfl, gI_J cc rfl, I.ld hf (by omega), gI_J cc rfl, icl_J, eL, bd_J, rzJ, bd_J, ite_pq (b32_0 _), Bool.true_and]
    by_cases c : valueN d n f = k
    · rw [decide_eq_true c, if_neg (by decide), if_pos rfl]; exact Rt.mk D2
    · rw [decide_eq_false c, if_pos rfl, if_neg (by decide)]; exact Rt.mk D2
/-- a comparison is made -/
theorem cl_cmp {f k : Nat} (hR : Rm σ 1 4) (hw : σ.2 2 ≤ σ.2 0) : ∀ {β : Type} (K : Nat → cS → Option β), (nO σ 4 4 [.int 0, .int 0, .int 0, .null] fun q σ_7 => bd (m_X7_init q (Int32.ofNat f) 61 (Int32.ofNat k) σ_7) fun _ σ_8 => K q σ_8) = K (σ.2 0) (cN σ (.inr (4, [.int (Int32.ofNat f), .int 61, .int (Int32.ofNat k), .ref (σ.2 8)])) 4) := by
  intro β K
  have hw1 : ∀ e n, (cN σ e n).2 2 ≤ σ.2 0 := fun e n => by rw [cN_k (by decide)]; exact hw
  rw [nO_J hR.1 hR.2]
  unfold m_X7_init b_X7_init_69
  rw [pO_J cN_s (by show 0 < 4; decide) (hw1 _ _), cN_cU, gd_J (by decide), pO_J cN_s (by show 1 < 4; decide) (hw1 _ _), cN_cU, pO_J cN_s (by show 2 < 4; decide) (hw1 _ _), cN_cU, if_neg (by decide), if_neg (by decide), pO_J cN_s (by show 3 < 4; decide) (hw1 _ _), cN_cU, bd_J, cN_k (by decide)]
  rfl
end CLE
theorem patV_l4 {d : Nat → Nat} {t : Nat → Term} {f : Nat} {p : Option Nat × Nat} (hc : casesN d ≤ 256) (hp : p.2 ≤ 256 ∧ ∀ z, p.1 = some z → z ≤ 100) (hf : f < 4) : ∀ k, k ≤ 4 → (patV d t f p k).2 ≤ 256 ∧ ∀ z, (patV d t f p k).1 = some z → z ≤ 100 := by
  intro k
  induction k with
  | zero => intro _; exact hp
  | succ k ih =>
    intro hk
    have ih := ih (by omega)
    unfold patV
    split
    · refine ⟨Nat.le_trans (cntN_le _ _) hc, fun z hz => ?_⟩
      cases hz
      omega
    · exact ih
theorem patF_l4 {d : Nat → Nat} {t : Nat → Term} (hF : FOk d) : ∀ f, f ≤ d 0 → (patF d t f).2 ≤ 256 ∧ ∀ z, (patF d t f).1 = some z → z ≤ 100 := by
  intro f
  have h4 := hF.1
  induction f with
  | zero => intro _; exact ⟨Nat.zero_le _, fun z hz => by cases hz⟩
  | succ f ih =>
    intro hf
    exact patV_l4 (casesN_le hF).2 (ih (by omega)) (by omega) _ (hF.2 f (by omega)).2
theorem pc_patch {o : oW} {σ : cS} {x : Nat} {S : SS} (h : CInv o σ x S) (hO : SSok S) (hR : Rm σ 700 3000) : CRs [] x σ (m_X1_patch x σ) S (sp_patch S).1 (sp_patch S).2.1 (sp_patch S).2.2 := by
  obtain ⟨wa, L, dq, sl, bu, re, Q, D, fin, -⟩ := h.ask hO hR
  have hW := hO.1.1
  have hc := casesN_le hW.1
  have h4 := hW.1.1
  generalize hd : S.1.1 = d at *
  generalize ht : S.1.2 = t at *
  have fine : ∀ (u v : Nat) τ, RD o σ wa L d t u v τ → CInv o τ x S := fun u v τ Dτ => fin τ u v Dτ
  unfold m_X1_patch sp_patch
  have inner : ∀ f (hf : f < d 0) (u v : Nat) (p0 : Option Nat × Nat) (hp : p0.2 ≤ 256 ∧ ∀ z, p0.1 = some z → z ≤ 100) (K : Int32 → Int32 → Int32 → cS → Option ((cX Int32) × cS)) (w : Int32), (∀ τ, RD o σ wa L d t u v τ → Rt (fun τ => ∃ u v, RD o σ wa L d t u v τ) (K (o32 (patV d t f p0 (d (1 + f))).1) (Int32.ofNat (patV d t f p0 (d (1 + f))).2) (Int32.ofNat (f + 1)) τ) (.inl w)) → ∀ j k g τ, k + j = d (1 + f) → j < g → RD o σ wa L d t (u + 2 * j) (v + 7 * j) τ → Rt (fun τ => ∃ u v, RD o σ wa L d t u v τ) (b_X1_patch_21 x K g (o32 (patV d t f p0 k).1) (Int32.ofNat (patV d t f p0 k).2) (Int32.ofNat f) (Int32.ofNat k) τ) (.inl w) := by
    intro f hf u v p0 hp K w hK j
    have hb := hW.1.2 f hf
    induction j with
    | zero =>
      intro k g τ hk hg D
      obtain ⟨g, rfl⟩ : ∃ g', g = g' + 1 := ⟨g - 1, by omega⟩
      rw [b_X1_patch_21, gR_J (Q.g D) rfl, gR_J D.W.w rfl, D.W.v.ld hf (by omega), iJ_le (by omega) (by omega), if_pos (by omega), lt_J, J_addL, show k = d (1 + f) by omega]
      exact hK τ D
    | succ j ih =>
      intro k g τ hk hg D
      obtain ⟨g, rfl⟩ : ∃ g', g = g' + 1 := ⟨g - 1, by omega⟩
      have hkb : k < d (1 + f) := by omega
      have hp' := patV_l4 (t := t) (f := f) hc.2 hp (by omega) k (by omega)
      have Da : RD o σ wa L d t (u + 2 * j + 1 + 1) (v + 7 * j + 3 + 4) τ := D.le (by omega) (by omega)
      have hw : τ.2 2 ≤ τ.2 0 := D.S.2.1
      rw [b_X1_patch_21, gR_J (Q.g D) rfl, gR_J D.W.w rfl, D.W.v.ld hf (by omega), iJ_le (by omega) (by omega), if_neg (by omega), cl_cmp (Da.rm (by omega) (by omega)) hw]
      have D1 : RD o σ wa L d t (u + 2 * j + 1) (v + 7 * j + 3) (cN τ (.inr (4, [.int (Int32.ofNat f), .int 61, .int (Int32.ofNat k), .ref (τ.2 8)])) 4) := Da.new hW.1
      have oq : (o (τ.2 0)).1 = 0 := D.S.nw (Nat.le_refl _)
      generalize hσ1 : cN τ (.inr (4, [.int (Int32.ofNat f), .int 61, .int (Int32.ofNat k), .ref (τ.2 8)])) 4 = σ1 at D1 ⊢
      have q1 : σ1.1 (τ.2 0) = some (.inr (4, [.int (Int32.ofNat f), .int 61, .int (Int32.ofNat k), .ref (σ1.2 8)])) := by rw [← hσ1, cN_k (by decide)]; exact cN_s
      obtain ⟨r2, D2, Q2, g2⟩ := lam_new Q hW.1 D1 (c := 64) (k := 2) (fs := [.ref x, .ref (τ.2 0)]) (by decide)
      rw [nO_J r2.1 r2.2, nn_J Q2.c]
      have hcc : ∀ u v τ', RD o (cN σ1 (.inr (64, [.ref x, .ref (τ.2 0)])) 2) wa L d t u v τ' → τ'.1 (τ.2 0) = some (.inr (4, [.int (Int32.ofNat f), .int 61, .int (Int32.ofNat k), .ref (τ'.2 8)])) := by
        intro u v τ' Dτ
        have hn : τ.2 0 ≠ σ1.2 0 := by rw [← hσ1, cN_0]; omega
        have := Dτ.g D2.S (q := τ.2 0) (by rw [cN_n hn]; exact q1) (by intro w; rw [w] at oq; cases oq)
        rw [Dτ.2.1.k (by decide), cN_k (by decide)]
        exact this
      obtain ⟨σ3, e3, D3⟩ := cl_sum hW.1 Q2 D2.base (lg_patch hW Q2 hf hkb hcc g2)
      have D3' := D3.to D2
      have hgw : gwN d t f k ≤ 256 := Nat.le_trans (cntN_le _ _) hc.2
      have e5 : patV d t f p0 (k + 1) = if (patV d t f p0 k).2 < gwN d t f k then (some (10 * f + k), gwN d t f k) else patV d t f p0 k := rfl
      have ih := ih (k + 1) g σ3 (by omega) (by omega) D3'
      rw [e5] at ih
      rw [e3, bdx_l, smI_c, show cntN (gwB d t f k) (casesN d) = gwN d t f k from rfl, iJ_le (by omega) (by omega)]
      by_cases c : gwN d t f k ≤ (patV d t f p0 k).2
      · rw [if_pos c, lt_J, J_addL]
        rw [if_neg (by omega)] at ih
        exact ih
      · rw [if_neg c, lt_J, lt_J, J_addL, J_mulR, J_add]
        rw [if_pos (by omega)] at ih
        exact ih
  have outer : ∀ j f g τ, f + j = d 0 → j < g → RD o σ wa L d t (8 * j) (28 * j) τ → Rt (fun τ => ∃ u v, RD o σ wa L d t u v τ) (b_X1_patch_6 x g (o32 (patF d t f).1) (Int32.ofNat (patF d t f).2) (Int32.ofNat f) τ) (.inl (o32 (patF d t (d 0)).1)) := by
    intro j
    induction j with
    | zero =>
      intro f g τ hf hg D
      obtain ⟨g, rfl⟩ : ∃ g', g = g' + 1 := ⟨g - 1, by omega⟩
      rw [b_X1_patch_6, gR_J (Q.g D) rfl, gR_J D.W.w rfl, D.W.v.len, iJ_le (by omega) (by omega), if_pos (by omega), xl_J, show f = d 0 by omega]
      exact Rt.mk ⟨_, _, D⟩
    | succ j ih =>
      intro f g τ hf hg D
      obtain ⟨g, rfl⟩ : ∃ g', g = g' + 1 := ⟨g - 1, by omega⟩
      have hb := hW.1.2 f (by omega)
      rw [b_X1_patch_6, gR_J (Q.g D) rfl, gR_J D.W.w rfl, D.W.v.len, iJ_le (by omega) (by omega), if_neg (by omega)]
      exact inner f (by omega) (8 * j) (28 * j) (patF d t f) (patF_l4 hW.1 f (by omega)) (b_X1_patch_6 x g) _ (fun τ' D' => ih (f + 1) g τ' (by omega) (by omega) D') (d (1 + f)) 0 FU τ (by omega) (by show _ < 4096; omega) (D.le (by omega) (by omega))
  obtain ⟨σ1, e, u1, v1, D1⟩ := outer (d 0) 0 FU σ (by omega) (by show _ < 4096; omega) (D.le (by omega) (by omega))
  rw [show b_X1_patch_6 x FU (-1) 0 0 σ = _ from e, hd, ht]
  exact CRs.k (fine _ _ _ D1)
theorem pc_checksum {o : oW} {σ : cS} {x : Nat} {S : SS} (h : CInv o σ x S) (hO : SSok S) (hR : Rm σ 700 3000) : CRs [] x σ (m_X1_checksum x σ) S 0 (ckI S.1.1 S.1.2 S.2.1.length S.2.2.2.1.length S.2.2.2.2.length) S := by
  obtain ⟨wa, L, dq, sl, bu, re, Q, D, fin, -⟩ := h.ask hO hR
  have hW := hO.1.1
  have hc := casesN_le hW.1
  have h5 := hW.h
  have h17 := hW.r
  unfold m_X1_checksum ckI
  generalize S.2.1.length = p
  generalize S.2.2.2.1.length = b
  generalize S.2.2.2.2.length = r
  generalize hd : S.1.1 = d at *
  generalize ht : S.1.2 = t at *
  have fine : ∀ (u v : Nat) τ, RD o σ wa L d t u v τ → CInv o τ x S := fun u v τ Dτ => fin τ u v Dτ
  have ph4 : ∀ (s : Int64) τ, RD o σ wa L d t 1 6 τ → Rt (RD o σ wa L d t 1 6) (b_X1_checksum_195 x FU s (Int32.ofNat (casesN d)) 0 τ) (.inl (ckV d t s (casesN d))) := by
    intro s τ D
    refine loopD (fun _ => RD o σ wa L d t 1 6) (fun f k τ => b_X1_checksum_195 x f (ckV d t s k) (Int32.ofNat (casesN d)) (Int32.ofNat k) τ) (fun z => Rt (RD o σ wa L d t 1 6) z (.inl (ckV d t s (casesN d)))) (casesN d) (by omega) (fun f k τ hk D ih => ?_) (fun f τ D => ?_) τ D
    · show Rt _ (b_X1_checksum_195 x (f + 1) _ _ _ _) _
      rw [b_X1_checksum_195, iJ_le (by omega) (by omega), if_neg (by omega), nn_J (Q.g D)]
      refine Rt.bdx (rd_verdict hW Q D hk) (fun σ1 D1 => ?_)
      rw [lt_J, nn_J (Q.g D1)]
      refine Rt.bdx (rd_settledBy hW Q D1 hk) (fun σ2 D2 => ?_)
      rw [lt_J, lt_J, J_addL]
      exact ih σ2 D2
    · show Rt _ (b_X1_checksum_195 x (f + 1) _ _ _ _) _
      rw [b_X1_checksum_195, iJ_le (by omega) (by omega), if_pos (Nat.le_refl _), xl_J]
      exact Rt.mk D
  have ph3s : ∀ (u v : Nat) (k : Nat) (hk : k < d 17) (s : Int64) (K : Int64 → Int32 → cS → Option ((cX Int64) × cS)) (w : Int64) (hu : 1 ≤ u) (hv : 6 ≤ v), (∀ τ, RD o σ wa L d t u v τ → Rt (RD o σ wa L d t 1 6) (K (ckP d k s (d 5)) (Int32.ofNat (k + 1)) τ) (.inl w)) → ∀ τ, RD o σ wa L d t u v τ → Rt (RD o σ wa L d t 1 6) (b_X1_checksum_128 x K FU s (Int32.ofNat k) 0 τ) (.inl w) := by
    intro u v k hk s K w hu hv hK τ D
    refine loopD (fun _ => RD o σ wa L d t u v) (fun f j τ => b_X1_checksum_128 x K f (ckP d k s j) (Int32.ofNat k) (Int32.ofNat j) τ) (fun z => Rt (RD o σ wa L d t 1 6) z (.inl w)) (d 5) (by omega) (fun f j τ hj D ih => ?_) (fun f τ D => ?_) τ D
    · show Rt _ (b_X1_checksum_128 x K (f + 1) _ _ _ _) _
      rw [b_X1_checksum_128, gR_J (Q.g D) rfl, gI_J D.W.w rfl, iJ_le (by omega) (by omega), if_neg (by omega), nn_J (Q.g D)]
      refine Rt.bdx (rd_share hW Q D hu hv hk hj false) (fun σ1 D1 => ?_)
      rw [lt_J, nn_J (Q.g D1)]
      refine Rt.bdx (rd_share hW Q D1 hu hv hk hj true) (fun σ2 D2 => ?_)
      rw [lt_J, lt_J, J_addL]
      exact ih σ2 D2
    · show Rt _ (b_X1_checksum_128 x K (f + 1) _ _ _ _) _
      rw [b_X1_checksum_128, gR_J (Q.g D) rfl, gI_J D.W.w rfl, iJ_le (by omega) (by omega), if_pos (Nat.le_refl _), lt_J, J_addL]
      exact hK τ D
  have ph3r : ∀ (u v : Nat) (k : Nat) (hk : k < d 17) (s : Int64) (K : Int64 → Int32 → cS → Option ((cX Int64) × cS)) (w : Int64) (hu : 1 ≤ u) (hv : 6 ≤ v), (∀ τ, RD o σ wa L d t u v τ → Rt (RD o σ wa L d t 1 6) (K (ckP d k (ckF s (fun w => Int32.ofNat (rulI d t k w)) 6) (d 5)) (Int32.ofNat (k + 1)) τ) (.inl w)) → ∀ j i f τ, i + j = 6 → j < f → RD o σ wa L d t (u + j) (v + 3 * j) τ → Rt (RD o σ wa L d t 1 6) (b_X1_checksum_98 x K f (ckF s (fun w => Int32.ofNat (rulI d t k w)) i) (Int32.ofNat k) (Int32.ofNat i) τ) (.inl w) := by
    intro u v k hk s K w hu hv hK j
    induction j with
    | zero =>
      intro i f τ hi hf D
      obtain ⟨f, rfl⟩ : ∃ f', f = f' + 1 := ⟨f - 1, by omega⟩
      rw [b_X1_checksum_98, iJ_ltR (by decide) (by omega), if_pos (by show 5 < i; omega), show i = 6 by omega]
      exact ph3s u v k hk _ K w hu hv hK τ D
    | succ j ih =>
      intro i f τ hi hf D
      obtain ⟨f, rfl⟩ : ∃ f', f = f' + 1 := ⟨f - 1, by omega⟩
      rw [b_X1_checksum_98, iJ_ltR (by decide) (by omega), if_neg (by show ¬ 5 < i; omega), nn_J (Q.g D)]
      refine Rt.bdx (rd_rule hW Q (u := u + j) (v := v + 3 * j) (D.le (by omega) (by omega)) (by omega) hk (by omega)) (fun σ1 D1 => ?_)
      rw [lt_J, lt_J, J_addL]
      exact ih (i + 1) f σ1 (by omega) (by omega) D1
  have ph3 : ∀ (s : Int64) j k f τ, k + j = d 17 → j < f → RD o σ wa L d t (6 * j + 1) (18 * j + 6) τ → Rt (RD o σ wa L d t 1 6) (b_X1_checksum_81 x f (ckR d t s k) (Int32.ofNat k) τ) (.inl (ckV d t (ckR d t s (d 17)) (casesN d))) := by
    intro s j
    induction j with
    | zero =>
      intro k f τ hk hf D
      obtain ⟨f, rfl⟩ : ∃ f', f = f' + 1 := ⟨f - 1, by omega⟩
      rw [b_X1_checksum_81, gR_J (Q.g D) rfl, gR_J D.W.w rfl, D.W.l.nn, D.W.l.size, bd_J, iJ_le (by omega) (by omega), if_pos (by omega), gR_J (Q.g D) rfl, nn_J D.W.w, cl_cases hW.1 D.W, bd_J, show k = d 17 by omega]
      exact ph4 _ τ D
    | succ j ih =>
      intro k f τ hk hf D
      obtain ⟨f, rfl⟩ : ∃ f', f = f' + 1 := ⟨f - 1, by omega⟩
      rw [b_X1_checksum_81, gR_J (Q.g D) rfl, gR_J D.W.w rfl, D.W.l.nn, D.W.l.size, bd_J, iJ_le (by omega) (by omega), if_neg (by omega)]
      exact ph3r (6 * j + 1) (18 * j + 6) k (by omega) _ (b_X1_checksum_81 x f) _ (by omega) (by omega) (fun τ' D' => ih (k + 1) f τ' (by omega) (by omega) D') 6 0 FU τ (by omega) (by decide) (D.le (by omega) (by omega))
  have ph2h : ∀ (u v : Nat) (k : Nat) (hk : k < d 5) (s : Int64) (K : Int64 → Int32 → cS → Option ((cX Int64) × cS)) (w : Int64) (hv : 3 ≤ v), (∀ τ, RD o σ wa L d t u v τ → Rt (RD o σ wa L d t 1 6) (K (ckF s (heirI d t k) 7) (Int32.ofNat (k + 1)) τ) (.inl w)) → ∀ j i f τ, i + j = 7 → j < f → RD o σ wa L d t (u + j) (v + 3 * j) τ → Rt (RD o σ wa L d t 1 6) (b_X1_checksum_45 x K f (ckF s (heirI d t k) i) (Int32.ofNat k) (Int32.ofNat i) τ) (.inl w) := by
    intro u v k hk s K w hv hK j
    induction j with
    | zero =>
      intro i f τ hi hf D
      obtain ⟨f, rfl⟩ : ∃ f', f = f' + 1 := ⟨f - 1, by omega⟩
      rw [b_X1_checksum_45, iJ_ltR (by decide) (by omega), if_pos (by show 6 < i; omega), lt_J, J_addL, show i = 7 by omega]
      exact hK τ D
    | succ j ih =>
      intro i f τ hi hf D
      obtain ⟨f, rfl⟩ : ∃ f', f = f' + 1 := ⟨f - 1, by omega⟩
      rw [b_X1_checksum_45, iJ_ltR (by decide) (by omega), if_neg (by show ¬ 6 < i; omega), nn_J (Q.g D)]
      refine Rt.bdx (rd_heir hW Q (u := u + j) (v := v + 3 * j) (D.le (by omega) (by omega)) (by omega) hk (by omega)) (fun σ1 D1 => ?_)
      rw [lt_J, lt_J, J_addL]
      exact ih (i + 1) f σ1 (by omega) (by omega) D1
  have ph2 : ∀ (s : Int64) j k f τ, k + j = d 5 → j < f → RD o σ wa L d t (7 * j + 61) (21 * j + 186) τ → Rt (RD o σ wa L d t 1 6) (b_X1_checksum_31 x f (ckH d t s k) (Int32.ofNat k) τ) (.inl (ckV d t (ckR d t (ckH d t s (d 5)) (d 17)) (casesN d))) := by
    intro s j
    induction j with
    | zero =>
      intro k f τ hk hf D
      obtain ⟨f, rfl⟩ : ∃ f', f = f' + 1 := ⟨f - 1, by omega⟩
      rw [b_X1_checksum_31, gR_J (Q.g D) rfl, gI_J D.W.w rfl, iJ_le (by omega) (by omega), if_pos (by omega), show k = d 5 by omega]
      exact ph3 _ (d 17) 0 FU τ (by omega) (by show _ < 4096; omega) (D.le (by omega) (by omega))
    | succ j ih =>
      intro k f τ hk hf D
      obtain ⟨f, rfl⟩ : ∃ f', f = f' + 1 := ⟨f - 1, by omega⟩
      rw [b_X1_checksum_31, gR_J (Q.g D) rfl, gI_J D.W.w rfl, iJ_le (by omega) (by omega), if_neg (by omega)]
      exact ph2h (7 * j + 61) (21 * j + 186) k (by omega) _ (b_X1_checksum_31 x f) _ (by omega) (fun τ' D' => ih (k + 1) f τ' (by omega) (by omega) D') 7 0 FU τ (by omega) (by decide) (D.le (by omega) (by omega))
  have ph1 : Rt (RD o σ wa L d t 1 6) (b_X1_checksum_4 x FU 0 0 σ) (.inl (ckV d t (ckR d t (ckH d t (ckF 0 (fun w => Int32.ofNat (sizI d t p b r w)) 11) (d 5)) (d 17)) (casesN d))) := by
    refine loopD (fun _ => RD o σ wa L d t 188 696) (fun f k τ => b_X1_checksum_4 x f (ckF 0 (fun w => Int32.ofNat (sizI d t p b r w)) k) (Int32.ofNat k) τ) (fun z => Rt (RD o σ wa L d t 1 6) z (.inl (ckV d t (ckR d t (ckH d t (ckF 0 (fun w => Int32.ofNat (sizI d t p b r w)) 11) (d 5)) (d 17)) (casesN d)))) 11 (by decide) (fun f k τ hk D ih => ?_) (fun f τ D => ?_) σ D
    · show Rt _ (b_X1_checksum_4 x (f + 1) _ _ _) _
      rw [b_X1_checksum_4, iJ_ltR (by decide) (by omega), if_neg (by show ¬ 10 < k; omega), nn_J (Q.g D)]
      refine Rt.bdx (rd_size (p := p) (b := b) (r := r) hW Q D hk) (fun σ1 D1 => ?_)
      rw [lt_J, lt_J, J_addL]
      exact ih σ1 D1
    · show Rt _ (b_X1_checksum_4 x (f + 1) _ _ _) _
      rw [b_X1_checksum_4, iJ_ltR (by decide) (by decide), if_pos (by decide)]
      exact ph2 _ (d 5) 0 FU τ (by omega) (by show _ < 4096; omega) (D.le (by omega) (by omega))
  obtain ⟨σ1, e, D1⟩ := ph1
  rw [e]
  exact CRs.k (fine _ _ _ D1)
