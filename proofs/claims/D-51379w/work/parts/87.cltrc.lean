/-! THE PLAIN LAW, the class' side: gapsWithout, clashesIf, needed -/
set_option maxRecDepth 100000
/-- the parts of the object at a state on the way -/
def PX (o : oW) (σ : cS) (x : Nat) (S : SS) (wa dq sl bu re : Nat) (PA : List Nat) (ka L : Nat → Nat) (u : Nat) : Prop := (SI o σ ∧ KA o σ) ∧ CIx o σ x S wa dq sl bu re PA ka ∧ WillC o σ wa L S.1.1 S.1.2 ∧ FoundC o σ (L 5) S.1.1 S.1.2 u
section TRC
variable {o : oW} {σ : cS} {x wa dq sl bu re u : Nat} {S : SS} {PA : List Nat} {ka L : Nat → Nat}
theorem PX.al {o' : oW} {σ' : cS} (h : PX o σ x S wa dq sl bu re PA ka L u) (hO : SSok S) (C : Ch (fun _ => False) σ σ') (oo : ∀ q, q < σ.2 0 → o' q = o q) (hS : SI o' σ') : PX o' σ' x S wa dq sl bu re PA ka L u := by
  obtain ⟨⟨h1, h2⟩, h3, h4, h5⟩ := h
  exact ⟨⟨hS, h2.c C h1.1 (fun _ _ w => w.elim) oo⟩, h3.al hO.f h1 C oo, h4.c C h1.1 hO.1.1.1 (fun _ _ w => w.elim) oo (h1.l h4.o5), h5.c C h1.1 (fun _ _ w => w.elim) id oo⟩
theorem PX.C (h : PX o σ x S wa dq sl bu re PA ka L u) : CInv o σ x S := ⟨h.1, _, _, _, _, _, _, _, h.2.1⟩
/-- changes of a copy that was made since touch nothing of before -/
theorem fresh_ch {o' : oW} {σ1 σ2 : cS} {b : Nat} (hS : SI o σ) (C1 : Ch (fun _ => False) σ σ1) (oo : ∀ q, q < σ.2 0 → o' q = o q) (hb : σ.2 0 ≤ b) (C2 : Ch (fun q => (o' q).1 = b + 1) σ1 σ2) : Ch (fun _ => False) σ σ2 := C1.then C2 (fun q hq w => by
  rw [oo q hq] at w
  have := hS.own w
  omega)
/-- a trial's start: a lambda's object, a copy -/
theorem cl_trial {c k n m : Nat} {fs : List Value} (P : PX o σ x S wa dq sl bu re PA ka L u) (hO : SSok S) (hk : k ≤ 3) (hR : Rm σ (n + 36) (m + 509)) : ∃ b σ1 o1 L1, (∀ {γ : Type} (K : Option Nat → cS → Option γ) (τ : cS), dL_in (σ.2 0) (some b) σ1 = some (0, τ) → (nO σ c k fs fun q σ_5 => nn σ_5 (some x) 0 fun a_8 => bd (m_X1_after a_8 (some q) σ_5) fun v_6 σ_7 => K v_6 σ_7) = K (some b) τ) ∧ σ1.1 (σ.2 0) = some (.inr (c, fs)) ∧ WillC o1 σ1 b L1 S.1.1 S.1.2 ∧ σ1.1 (L1 5) = some (.inl (4, casesN S.1.1, vR (fun _ => none))) ∧ (SI o1 σ1 ∧ KL o1 σ1) ∧ Ch (fun _ => False) σ σ1 ∧ (∀ q, q < σ.2 0 → o1 q = o q) ∧ σ.2 0 < b ∧ Rm σ1 n m := by
  obtain ⟨⟨hS, hK⟩, hX, hC, hF⟩ := id P
  have hW := hO.1.1
  have C0 : Ch (fun _ => False) σ (cN σ (.inr (c, fs)) k) := Ch.cN Ch.rf
  have P0 := P.al hO C0 (fun _ _ => rfl) (hS.ch C0)
  have q0 : (cN σ (.inr (c, fs)) k).1 (σ.2 0) = some (.inr (c, fs)) := cN_s
  have n0 : (cN σ (.inr (c, fs)) k).2 0 = σ.2 0 + 1 := rfl
  have R0 : Rm (cN σ (.inr (c, fs)) k) (n + 35) (m + 506) := Rm.cN (hR.le (by omega) (by omega))
  have r1 : σ.2 0 + 1 ≤ σ.2 3 ∧ σ.2 1 + k ≤ σ.2 4 := by have := hR.1; have := hR.2; omega
  obtain ⟨⟨S0, K0⟩, X0, hC0, hF0⟩ := id P0
  obtain ⟨σ1, o1, L1, e1, N1, F1, SK1, C1, oo, R1⟩ := cl_dup (x := n) (y := m) hW S0 K0.1 hC0 R0
  refine ⟨(cN σ (.inr (c, fs)) k).2 0, σ1, o1, L1, fun {γ} K τ hτ => ?_, C1.c S0.1 q0 id, N1, F1, SK1, C0.trans C1, fun q hq => oo q (by omega), by omega, R1⟩
  rw [nO_J r1.1 r1.2, nn_J X0.1.2]
  unfold m_X1_after
  rw [gR_J X0.1.2 rfl, nn_J hC0.w, e1, bd_J, icl_J, hτ, bd_J, bd_J]
/-- a copy of which a rule is dropped -/
theorem dl_drop {c b r : Nat} {τ : cS} (hc : c = 63 ∨ c = 75) {q : Nat} (hq : σ.1 q = some (.inr (c, [.int (Int32.ofNat r)]))) (hb : ∃ fs, σ.1 b = some (.inr (1, fs))) (h : m_X4_drop b (Int32.ofNat r) σ = some (0, τ)) : dL_in q (some b) σ = some (0, τ) := by
  obtain ⟨fs, hb⟩ := hb
  unfold dL_in
  rw [isO_J hq, isO_J hq, isO_J hq]
  rcases hc with rfl | rfl
  · rw [if_pos (by decide), gL_J hq]
    show m_X1_lambda_needed_7 (Int32.ofNat r) (some b) σ = _
    unfold m_X1_lambda_needed_7
    rw [nn_J hb, h, bd_J]
  · rw [if_neg (by decide), if_pos (by decide), gL_J hq]
    show m_X1_lambda_gapsWithout_8 (Int32.ofNat r) (some b) σ = _
    unfold m_X1_lambda_gapsWithout_8
    rw [nn_J hb, h, bd_J]
theorem cl_trialD {c r n m : Nat} (P : PX o σ x S wa dq sl bu re PA ka L u) (hO : SSok S) (hr : r < S.1.1 17) (hc : c = 63 ∨ c = 75) (hR : Rm σ (n + 548) (m + 2813)) : ∃ b σ1 o1 L1, (∀ {γ : Type} (K : Option Nat → cS → Option γ), (nO σ c 1 [.int (Int32.ofNat r)] fun q σ_5 => nn σ_5 (some x) 0 fun a_8 => bd (m_X1_after a_8 (some q) σ_5) fun v_6 σ_7 => K v_6 σ_7) = K (some b) σ1) ∧ RD o1 σ1 b L1 (drD S.1.1 r) (drT S.1.2 r) n m σ1 ∧ Ch (fun _ => False) σ σ1 ∧ (∀ q, q < σ.2 0 → o1 q = o q) ∧ σ.2 0 ≤ b := by
  have hcc := casesN_le hO.1.1.1
  obtain ⟨b, σ1, o1, L1, hK, q1, N1, F1, ⟨S1, K1⟩, C1, oo, hb, R1⟩ := cl_trial (c := c) (k := 1) (n := n + 512) (m := m + 2304) (fs := [.int (Int32.ofNat r)]) P hO (by decide) (hR.le (by omega) (by omega))
  obtain ⟨σ2, L2, e2, N2, F2, C2, k2⟩ := cl_drop hO.1.1 S1 K1 N1 F1 hr
  refine ⟨b, σ2, o1, L2, fun {γ} K => hK K σ2 (dl_drop hc q1 ⟨_, N1.w⟩ e2), ⟨⟨S1.ch C2, K1.c C2 S1.1 (fun q _ w => by rw [w]; exact Nat.succ_ne_zero _) (fun _ _ => rfl)⟩, Ch.rf, N2, casesN S.1.1, F2, ?_⟩, fresh_ch P.1.1 C1 oo (by omega) C2, oo, by omega⟩
  unfold Rm at R1 ⊢
  rw [k2]
  omega
/-- the end of a trial -/
theorem PX.tr {o1 : oW} {σ1 σ2 : cS} {b n m : Nat} {L1 d1 : Nat → Nat} {t1 : Nat → Term} (P : PX o σ x S wa dq sl bu re PA ka L u) (hO : SSok S) (C1 : Ch (fun _ => False) σ σ1) (oo : ∀ q, q < σ.2 0 → o1 q = o q) (hb : σ.2 0 ≤ b) (D : RD o1 σ1 b L1 d1 t1 n m σ2) : PX o1 σ2 x S wa dq sl bu re PA ka L u := P.al hO (fresh_ch P.1.1 C1 oo hb (D.2.1.mono (fun q _ w => by rw [w]))) oo D.S
end TRC
theorem CInv.px {o : oW} {σ : cS} {x : Nat} {S : SS} (h : CInv o σ x S) : ∃ wa dq sl bu re PA ka L u, PX o σ x S wa dq sl bu re PA ka L u := by
  obtain ⟨h1, wa, dq, sl, bu, re, PA, ka, L, u, h2, h3, h4⟩ := h.parts
  exact ⟨wa, dq, sl, bu, re, PA, ka, L, u, h1, h2, h3, h4⟩
theorem WO.dropI {S : SS} (hO : SSok S) {r : Nat} (hr : r < S.1.1 17) : WOk (drD S.1.1 r) (drT S.1.2 r) := (WO.drop hO.1 hr).1
theorem pc_gapsWithout {o : oW} {σ : cS} {x : Nat} {S : SS} (h : CInv o σ x S) (hO : SSok S) (hR : Rm σ 700 3000) (x1 : Int32) : CRs [2] x σ (m_X1_gapsWithout x x1 σ) S (sp_gapsWithout x1 S).1 (sp_gapsWithout x1 S).2.1 (sp_gapsWithout x1 S).2.2 := by
  have hW := hO.1.1
  have h17 := hW.r
  obtain ⟨wa, dq, sl, bu, re, PA, ka, L, u, P⟩ := h.px
  obtain ⟨⟨hS, hK⟩, hX, hC, hF⟩ := id P
  have xc := hX.1.2
  unfold m_X1_gapsWithout sp_gapsWithout
  rw [nn_J xc, cz_rule hW xc hC (hR.le (by decide) (by decide))]
  cases hb : inB x1 (S.1.1 17) with
  | false => rw [if_neg (by decide), if_neg (by decide), bdx_t hR]; exact CRs.t (j := 0) hR rfl
  | true =>
    obtain ⟨r, hr, rfl⟩ := inB_of hb
    obtain ⟨b, σ1, o1, L1, hK, D, C1, oo, hb⟩ := cl_trialD (c := 75) (n := 0) (m := 0) P hO hr (Or.inr rfl) (hR.le (by decide) (by decide))
    have hW' := WO.dropI hO hr
    obtain ⟨σ2, e2, D2⟩ := cl_gaps hW' D
    rw [if_pos (by decide), if_pos (by decide), bdx_l, hK, nn_J D.W.w, e2, bd_J, xl_J, J_cl (by omega)]
    have eg : gapsN (drD S.1.1 r) (drT S.1.2 r) none = gapsN S.1.1 S.1.2 (some r) := by
      unfold gapsN
      rw [drop_many hW hW' hr, drop_many hW hW' hr]
    rw [eg]
    exact CRs.k (P.tr hO C1 oo hb D2).C
theorem pc_clashesIf {o : oW} {σ : cS} {x : Nat} {S : SS} (h : CInv o σ x S) (hO : SSok S) (hR : Rm σ 700 3000) (x1 x2 : Int32) : CRs [2] x σ (m_X1_clashesIf x x1 x2 σ) S (sp_clashesIf x1 x2 S).1 (sp_clashesIf x1 x2 S).2.1 (sp_clashesIf x1 x2 S).2.2 := by
  have hW := hO.1.1
  have h17 := hW.r
  have hcc := casesN_le hW.1
  obtain ⟨wa, dq, sl, bu, re, PA, ka, L, u, P⟩ := h.px
  obtain ⟨⟨hS, hK⟩, hX, hC, hF⟩ := id P
  have xc := hX.1.2
  unfold m_X1_clashesIf sp_clashesIf
  rw [nn_J xc, cz_rule hW xc hC (hR.le (by decide) (by decide))]
  cases hb : inB x1 (S.1.1 17) with
  | false => rw [if_neg (by decide), if_neg (by simp), bdx_t hR]; exact CRs.t (j := 0) hR rfl
  | true =>
    rw [if_pos rfl, bdx_l, nn_J xc, cz_rule hW xc hC (hR.le (by decide) (by decide))]
    cases hb2 : inB x2 (S.1.1 17) with
    | false => rw [if_neg (by decide), if_neg (by simp), bdx_t hR]; exact CRs.t (j := 0) hR rfl
    | true =>
      obtain ⟨r, hr, rfl⟩ := inB_of hb
      obtain ⟨s, hs, rfl⟩ := inB_of hb2
      rw [if_pos rfl, if_pos (by simp), bdx_l, J_cl (by omega), J_cl (by omega), iJ_eq (by omega) (by omega)]
      have ov := hW.ov hr
      have ov2 : S.1.1 (51 + 34 * r) < 2 ^ S.1.1 17 := (hW.2.2.2.2.2.2.2 r hr).2.2.2
      have go : ∀ z, z < 2 ^ S.1.1 17 → ∀ s0 : Int32, Int32.ofNat (S.1.1 (51 + 34 * r)) ^^^ s0 = Int32.ofNat z → CRs [2] x σ (b_X1_clashesIf_24 x (Int32.ofNat r) s0 σ) S 0 (Int32.ofNat (manyN (upN S.1.1 (51 + 34 * r) z) S.1.2 3 none)) S := by
        intro z hz s0 hs0
        obtain ⟨b, σ1, o1, L1, hK, q1, N1, F1, ⟨S1, K1⟩, C1, oo, hb, R1⟩ := cl_trial (c := 76) (k := 2) (n := 512) (m := 2304) (fs := [.int (Int32.ofNat r), .int s0]) P hO (by decide) (hR.le (by decide) (by decide))
        have rc := N1.r hr
        have N2 := N1.sO (r := r) (z := z) hW.1 S1 hr h17
        have Ch2 : Ch (fun q => q = L1 (10 + r)) σ1 (cU σ1 (L1 (10 + r)) (.inr (2, [.ref (L1 (50 + r)), .int (Int32.ofNat (gLv (S.1.2 r))), .ref (L1 (30 + r)), .int (Int32.ofNat z)]))) := Ch.rf.cU rc.2.1 (Or.inr rfl)
        have hM : ∀ q, q < σ1.2 0 → q = L1 (10 + r) → (o1 q).1 = b + 1 := fun q _ w => by rw [w, rc.1.1]
        have hd : dL_in (σ.2 0) (some b) σ1 = some (0, cU σ1 (L1 (10 + r)) (.inr (2, [.ref (L1 (50 + r)), .int (Int32.ofNat (gLv (S.1.2 r))), .ref (L1 (30 + r)), .int (Int32.ofNat z)]))) := by
          unfold dL_in
          rw [isO_J q1, isO_J q1, isO_J q1, if_neg (by decide), if_neg (by decide), if_pos (by decide), gL_J q1]
          show m_X1_lambda_clashesIf_9 (Int32.ofNat r) s0 (some b) σ1 = _
          unfold m_X1_lambda_clashesIf_9
          rw [gR_J N1.w rfl, N1.l.nn, N1.l.get hr, bd_J, cst_J rc.2.1 (by decide) rfl, gI_J rc.2.1 rfl, hs0, pO_J rc.2.1 (by show 3 < 4; decide) (S1.w rc.1.1)]
          rfl
        have hW' := hW.over hr hz
        have n5 : L1 5 ≠ L1 (10 + r) := ne_role N1.o5 rc.1.1 (by decide)
        have ec : casesN (upN S.1.1 (51 + 34 * r) z) = casesN S.1.1 := casesN_cg (d := S.1.1) (d' := upN S.1.1 (51 + 34 * r) z) (fun i hi => upN_ne (by omega)) hW.1.1.2
        have F2 : (cU σ1 (L1 (10 + r)) (.inr (2, [.ref (L1 (50 + r)), .int (Int32.ofNat (gLv (S.1.2 r))), .ref (L1 (30 + r)), .int (Int32.ofNat z)]))).1 (L1 5) = some (.inl (4, casesN (upN S.1.1 (51 + 34 * r) z), vR (fun _ => none))) := by rw [cU_n n5, ec]; exact F1
        have R2 : Rm (cU σ1 (L1 (10 + r)) (.inr (2, [.ref (L1 (50 + r)), .int (Int32.ofNat (gLv (S.1.2 r))), .ref (L1 (30 + r)), .int (Int32.ofNat z)]))) 512 2304 := R1
        unfold b_X1_clashesIf_24
        rw [hK _ _ hd]
        generalize cU σ1 (L1 (10 + r)) (.inr (2, [.ref (L1 (50 + r)), .int (Int32.ofNat (gLv (S.1.2 r))), .ref (L1 (30 + r)), .int (Int32.ofNat z)])) = σ2 at N2 Ch2 F2 R2 ⊢
        have D : RD o1 σ2 b L1 (upN S.1.1 (51 + 34 * r) z) S.1.2 0 0 σ2 := ⟨⟨S1.ch Ch2, K1.c Ch2 S1.1 (fun q hq w => by rw [hM q hq w]; exact Nat.succ_ne_zero _) (fun _ _ => rfl)⟩, Ch.rf, N2, _, FoundC.of F2, R2.le (by rw [ec]; omega) (by rw [ec]; omega)⟩
        obtain ⟨σ3, e3, D3⟩ := cl_many hW' D (v := 3) (by decide)
        have CC := fresh_ch hS C1 oo (by omega) ((Ch2.mono hM).trans (D3.2.1.mono (fun q _ w => by rw [w])))
        rw [nn_J N2.w, show (3 : Int32) = Int32.ofNat 3 from rfl, e3, bd_J, xl_J]
        exact CRs.k (P.al hO CC oo D3.S).C
      unfold clashN
      by_cases c : r = s
      · rw [if_pos c, if_pos c]
        exact go _ ov2 0 (by rw [show (0 : Int32) = Int32.ofNat 0 from rfl, J_xor, Nat.xor_zero])
      · rw [if_neg c, if_neg c]
        refine go _ (Nat.xor_lt_two_pow ov2 (Nat.pow_lt_pow_right (by decide) hs)) _ (by rw [J_shl s (by omega), J_xor])
theorem pc_needed {o : oW} {σ : cS} {x : Nat} {S : SS} (h : CInv o σ x S) (hO : SSok S) (hR : Rm σ 7000 40000) : CRp x (m_X1_needed x σ) (sp_needed S).2.1 (sp_needed S).2.2 := by
  have hW := hO.1.1
  have h17 := hW.r
  have hcc := casesN_le hW.1
  obtain ⟨wa, dq, sl, bu, re, PA, ka, L, u, P⟩ := h.px
  obtain ⟨⟨hS, hK⟩, hX, hC, f, f1, f2, f3⟩ := id P
  have xc := hX.1.2
  have hb0 : ∀ b, unsN S.1.1 S.1.2 b ≤ 256 := fun b => by have := uns_V S.1.1 S.1.2 b; omega
  have D0 : RD o σ wa L S.1.1 S.1.2 6000 30000 σ := ⟨⟨hS, hK.1⟩, Ch.rf, hC, 256, ⟨f, f1, f2, Nat.le_trans (cntN_le _ _) hcc.2⟩, hR.le (by decide) (by decide)⟩
  obtain ⟨σ1, e1, D1⟩ := cl_unsettled hW D0
  unfold m_X1_needed sp_needed
  rw [gR_J xc rfl, nn_J hC.w, e1, bd_J]
  have K1 := hK.c D1.2.1 hS.1 (fun q _ w => by rw [w]; exact Nat.succ_ne_zero _) (fun _ _ => rfl)
  obtain ⟨-, -, W1, u1, F1, R1⟩ := id D1
  have X1 := hX.w (W := S.1) hO.f D1.2.1 hS (fun q _ w => by rw [w]) (fun _ _ => rfl) ⟨L, u1, W1, F1⟩
  have key : ∀ j i g τ o' u', i + j = S.1.1 17 → j < g → PX o' τ x S wa dq sl bu re PA ka L u' → Rm τ (548 * j) (2813 * j) → CRp x (b_X1_needed_12 x g (Int32.ofNat (setP (fun r => decide (unsN S.1.1 S.1.2 none < unsN S.1.1 S.1.2 (some r))) i)) (Int32.ofNat (unsN S.1.1 S.1.2 none)) (Int32.ofNat i) τ) (Int32.ofNat (setP (fun r => decide (unsN S.1.1 S.1.2 none < unsN S.1.1 S.1.2 (some r))) (S.1.1 17))) S := by
    intro j
    induction j with
    | zero =>
      intro i g τ o' u' hi hg P hR
      obtain ⟨g, rfl⟩ : ∃ g', g = g' + 1 := ⟨g - 1, by omega⟩
      have C := P.2.2.1
      rw [b_X1_needed_12, gR_J P.2.1.1.2 rfl, gR_J C.w rfl, C.l.nn, C.l.size, bd_J, iJ_le (by omega) (by omega), if_pos (by omega), show i = S.1.1 17 by omega]
      exact ⟨o', τ, rfl, P.C⟩
    | succ j ih =>
      intro i g τ o' u' hi hg P hR
      obtain ⟨g, rfl⟩ : ∃ g', g = g' + 1 := ⟨g - 1, by omega⟩
      have hi2 : i < S.1.1 17 := by omega
      have C := P.2.2.1
      obtain ⟨b, σ2, o2, L2, hK2, D2, C2, oo, hb⟩ := cl_trialD (c := 63) (n := 548 * j) (m := 2813 * j) P hO hi2 (Or.inl rfl) (hR.le (by omega) (by omega))
      have hW' := WO.dropI hO hi2
      obtain ⟨σ3, e3, D3⟩ := cl_unsettled hW' D2
      have P3 := P.tr hO C2 oo hb D3
      have R3 : Rm σ3 (548 * j) (2813 * j) := D3.rm (Nat.le_refl _) (Nat.le_refl _)
      have eu : unsN (drD S.1.1 i) (drT S.1.2 i) none = unsN S.1.1 S.1.2 (some i) := by
        unfold unsN gapsN
        rw [drop_many hW hW' hi2, drop_many hW hW' hi2, drop_many hW hW' hi2]
      have h1 := hb0 none
      have h2 := hb0 (some i)
      have ih := ih (i + 1) g σ3 o2 u' (by omega) (by omega) P3 R3
      have e5 : setP (fun r => decide (unsN S.1.1 S.1.2 none < unsN S.1.1 S.1.2 (some r))) (i + 1) = setP (fun r => decide (unsN S.1.1 S.1.2 none < unsN S.1.1 S.1.2 (some r))) i ||| (if decide (unsN S.1.1 S.1.2 none < unsN S.1.1 S.1.2 (some i)) = true then 2 ^ i else 0) := rfl
      rw [e5] at ih
      rw [b_X1_needed_12, gR_J P.2.1.1.2 rfl, gR_J C.w rfl, C.l.nn, C.l.size, bd_J, iJ_le (by omega) (by omega), if_neg (by omega), hK2, nn_J D2.W.w, e3, bd_J, eu, iJ_le (by omega) (by omega)]
      by_cases c : unsN S.1.1 S.1.2 (some i) ≤ unsN S.1.1 S.1.2 none
      · rw [if_pos c, J_orL, lt_J, lt_J, J_addL]
        rw [if_neg (by simpa using c)] at ih
        exact ih
      · rw [if_neg c, J_shl i (by omega), J_or, lt_J, lt_J, J_addL]
        rw [if_pos (decide_eq_true (by omega))] at ih
        exact ih
  exact key (S.1.1 17) 0 FU σ1 o u1 (by omega) (by show _ < 4096; omega) ⟨⟨D1.S, K1⟩, X1, W1, F1⟩ (R1.le (by omega) (by omega))
