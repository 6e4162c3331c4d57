/-! THE PLAIN LAW, the class' side: setShare -/
set_option maxRecDepth 100000
theorem upN_id {d : Nat → Nat} {i : Nat} : upN d i (d i) = d := by
  funext j
  unfold upN
  by_cases c : j = i
  · rw [if_pos c, c]
  · rw [if_neg c]
theorem posN_le (d : Nat → Nat) (r k : Nat) : posN d r k ≤ k := cntN_le _ _
theorem cnt_more {p : Nat → Bool} {k : Nat} : ∀ j, (∀ i, k ≤ i → i < k + j → p i = false) → cntN p (k + j) = cntN p k := by
  intro j
  induction j with
  | zero => intro _; rfl
  | succ j ih =>
    intro h
    show cntN p (k + j) + (if p (k + j) then 1 else 0) = _
    rw [ih (fun i h1 h2 => h i h1 (by omega)), h (k + j) (by omega) (by omega)]
    rfl
theorem pc_setShare {o : oW} {σ : cS} {x : Nat} {S : SS} (h : CInv o σ x S) (hO : SSok S) (hR : Rm σ 700 3000) (x1 x2 x3 x4 : Int32) : CRs [2, 1] x σ (m_X1_setShare x x1 x2 x3 x4 σ) S (sp_setShare x1 x2 x3 x4 S).1 (sp_setShare x1 x2 x3 x4 S).2.1 (sp_setShare x1 x2 x3 x4 S).2.2 := by
  have hW := hO.1.1
  have h17 := hW.r
  have h5 := hW.h
  have hF0 := hW.1
  have hcc := casesN_le hF0
  obtain ⟨⟨hS, hK⟩, wa, dq, sl, bu, re, PA, ka, L, u, hX, hC, hF⟩ := h.parts
  have xc := hX.1.2
  unfold m_X1_setShare sp_setShare
  rw [nn_J xc, cz_rule hW xc hC (hR.le (by decide) (by decide))]
  cases hb : inB x1 (S.1.1 17) with
  | false => rw [if_neg (by decide), if_neg (by simp), bdx_t hR]; exact CRs.t (j := 0) hR rfl
  | true =>
    rw [if_pos rfl, bdx_l, nn_J xc, cz_heir hW xc hC (hR.le (by decide) (by decide))]
    cases hb2 : inB x2 (S.1.1 5) with
    | false => rw [if_neg (by decide), if_neg (by simp), bdx_t hR]; exact CRs.t (j := 0) hR rfl
    | true =>
      rw [if_pos rfl, if_pos (by simp), bdx_l, cz_in (n := 13) (by decide)]
      unfold shrB
      cases hb3 : inB x3 13 with
      | false => rw [if_neg (by decide), if_neg (by simp), bdx_t hR]; exact CRs.t (j := 1) hR rfl
      | true =>
        rw [if_pos rfl, bdx_l, cz_in1]
        cases hb4 : in1B x4 with
        | false => rw [if_neg (by decide), if_neg (by simp), bdx_t hR]; exact CRs.t (j := 1) hR rfl
        | true =>
          obtain ⟨r, hr, rfl⟩ := inB_of hb
          obtain ⟨k, hk, rfl⟩ := inB_of hb2
          obtain ⟨A, hA, rfl⟩ := inB_of hb3
          obtain ⟨B, hB1, hB2, rfl⟩ := in1B_of hb4
          rw [if_pos rfl, if_pos (by simp), bdx_l, J_cl (by omega), J_cl (by omega), J_cl (by omega), J_cl (by omega)]
          obtain ⟨σ1, o1, L1, e1, N1, F1, ⟨S1, -⟩, C1, oo, R1⟩ := cl_dup (x := 0) (y := 0) hW hS hK.1 hC (hR.le (by decide) (by decide))
          have K1 : KA o1 σ1 := hK.c C1 hS.1 (fun _ _ w => w.elim) oo
          have X1 := hX.al hO.f hS C1 oo
          obtain ⟨fr1, fr2⟩ := hX.fresh hS
          have hC1 := hC.c C1 hS.1 hF0 (fun _ _ w => w.elim) oo (hS.l hC.o5)
          have hF1 := hF.c C1 hS.1 (fun _ _ w => w.elim) id oo
          have WXb : WX o1 σ1 (σ.2 0) S.1 := ⟨L1, _, N1, FoundC.of F1⟩
          generalize hb0 : σ.2 0 = b at *
          have xc1 := X1.1.2
          obtain ⟨f, c5⟩ := hF1.raw
          have fg := cl_forget S1 hC1 c5 hcc.2
          have Ch2 : Ch (fun q => q = L 5) σ1 (cU σ1 (L 5) (.inl (4, casesN S.1.1, vR (fun i => if i < casesN S.1.1 then none else f i)))) := Ch.rf.cU c5 (Or.inr rfl)
          have c52 : (cU σ1 (L 5) (.inl (4, casesN S.1.1, vR (fun i => if i < casesN S.1.1 then none else f i)))).1 (L 5) = some (.inl (4, casesN S.1.1, vR (fun i => if i < casesN S.1.1 then none else f i))) := cU_s
          have hC2 := hC1.c (o' := o1) Ch2 S1.1 hF0 (fun q _ w => by rw [w, hC1.o5]; exact ⟨Nat.succ_ne_zero _, fun _ => rfl⟩) (fun _ _ => rfl) (S1.l hC1.o5)
          have S2 := S1.ch Ch2
          generalize hs2 : cU σ1 (L 5) (.inl (4, casesN S.1.1, vR (fun i => if i < casesN S.1.1 then none else f i))) = σ2 at Ch2 c52 hC2 S2 fg
          have rc := hC2.r hr
          have hsum := (hW.2.2.2.2.2.2.2 r hr).2.2.1
          have eg : ∀ j, 47 + 34 * r + j = 47 + 34 * r + j := fun _ => rfl
          obtain ⟨e, q1, q2⟩ := cl_setShare (h := k) (A := A) (B := B) fg ⟨_, hC1.w⟩ rc.2.1 rc.2.2.1 (by
            show S.1.1 (47 + 34 * r + 0) + S.1.1 (47 + 34 * r + 1) + S.1.1 (47 + 34 * r + 2) + S.1.1 (47 + 34 * r + 3) ≤ 27720
            rw [show 47 + 34 * r + 0 = 47 + 34 * r by omega, show 47 + 34 * r + 1 = 48 + 34 * r by omega, show 47 + 34 * r + 2 = 49 + 34 * r by omega, show 47 + 34 * r + 3 = 50 + 34 * r by omega]
            exact hsum) (by omega) hA ⟨hB1, hB2⟩ (S2.w rc.1.2)
          have es : S.1.1 (47 + 34 * r + 0) + S.1.1 (47 + 34 * r + 1) + S.1.1 (47 + 34 * r + 2) + S.1.1 (47 + 34 * r + 3) = sumS S.1.1 r := by
            unfold sumS
            rw [show 47 + 34 * r + 0 = 47 + 34 * r by omega, show 47 + 34 * r + 1 = 48 + 34 * r by omega, show 47 + 34 * r + 2 = 49 + 34 * r by omega, show 47 + 34 * r + 3 = 50 + 34 * r by omega]
          rw [es] at q1 q2
          generalize hz : (if sumS S.1.1 r - S.1.1 (47 + 34 * r + k) + untN A B ≤ 27720 then untN A B else S.1.1 (47 + 34 * r + k)) = z at q2
          have hC3 := hC2.sS (r := r) (k := k) (z := z) hF0 S2 hr (by omega) q2
          obtain ⟨f0, c0, -⟩ := id rc.2.2.1
          have Ch3 : Ch (fun q => q = L (30 + r)) σ2 (cU σ2 (L (30 + r)) e) := Ch.rf.cU c0 (Or.inr rfl)
          have c53 : (cU σ2 (L (30 + r)) e).1 (L 5) = some (.inl (4, casesN S.1.1, vR (fun i => if i < casesN S.1.1 then none else f i))) := by rw [cU_n (ne_role hC2.o5 rc.1.2 (by decide))]; exact c52
          have Ch13 : Ch (fun q => (o1 q).1 = wa + 1) σ1 (cU σ2 (L (30 + r)) e) := (Ch2.mono (fun q _ w => by rw [w, hC1.o5])).trans (Ch3.mono (fun q _ w => by rw [w, rc.1.2]))
          have hk2 : (cU σ2 (L (30 + r)) e).2 = σ1.2 := by rw [cU_2, ← hs2]; rfl
          generalize cU σ2 (L (30 + r)) e = σ3 at q1 q2 hC3 Ch13 c53 hk2
          have S3 := S1.ch Ch13
          have ec : casesN (upN S.1.1 (47 + 34 * r + k) z) = casesN S.1.1 := casesN_cg (fun i hi => upN_ne (by omega)) hF0.1.2
          have WX3 : WX o1 σ3 wa (upN S.1.1 (47 + 34 * r + k) z, S.1.2) := ⟨L, casesN S.1.1, hC3, _, by rw [ec]; exact c53, fun n hn => Or.inl (by rw [ec] at hn; exact if_pos hn), by rw [ec]; exact cntN_le _ _⟩
          rw [gR_J xc rfl, nn_J hC.w, e1, bd_J, gR_J xc1 rfl, nn_J hC1.w, q1, bd_J, ite_pq (b32_0 _)]
          by_cases c : sumS S.1.1 r - S.1.1 (47 + 34 * r + k) + untN A B ≤ 27720
          · rw [decide_eq_true c, if_neg (by decide), if_pos c]
            rw [if_pos c] at hz
            have X3 : CIx o1 σ3 x ((upN S.1.1 (47 + 34 * r + k) z, S.1.2), S.2) wa dq sl bu re PA ka := X1.w hO.f Ch13 S1 (fun q _ w => w) (fun _ _ => rfl) WX3
            have K3 := K1.c Ch13 S1.1 (fun q _ w => by rw [w]; exact Nat.succ_ne_zero _) (fun _ _ => rfl)
            have hO3 : SFk ((upN S.1.1 (47 + 34 * r + k) z, S.1.2), S.2) := ⟨FOk_cg (fun i hi => upN_ne (by omega)) hF0, hO.f.2⟩
            have hbne : b ≠ wa := fun w => fr1 (by rw [w]; exact List.mem_cons_self)
            have WXb3 : WX o1 σ3 b S.1 := WXb.c hF0 Ch13 S1 (fun q _ w => by rw [w]; omega) (fun _ _ => rfl)
            obtain ⟨σ4, e4, ⟨S4, K4⟩, X4, C4, k4⟩ := cl_keepX S3 K3 X3 hO3 WXb3 hF0 fr1 fr2
            have xc3 := X3.1.2
            have hMp : ∀ q, q < σ3.2 0 → DqM o1 x q → (o1 q).1 ≠ 0 ∧ (o1 q).1 ≠ wa + 1 := fun q _ w => by
              have := X1.ne X1.2.2.2.2.2.1
              rcases w with w | w <;> · rw [w]; show x + 1 ≠ 0 ∧ x + 1 ≠ wa + 1; omega
            have hC4 := hC3.c C4 S3.1 hO3.1 (fun q hq w => ⟨(hMp q hq w).1, fun e => absurd e (hMp q hq w).2⟩) (fun _ _ => rfl) (S3.l hC3.o5)
            have rc4 := hC4.r (i := r) (by rw [upN_ne (by omega)]; exact hr)
            have xc4 := X4.1.2
            have e5 : upN S.1.1 (47 + 34 * r + k) z 5 = S.1.1 5 := upN_ne (by omega)
            have hle : ∀ j, j < 4 → upN S.1.1 (47 + 34 * r + k) z (47 + 34 * r + j) ≤ 27720 * 12 := fun j hj => by
              by_cases c2 : j = k
              · rw [c2, upN_at, ← hz]
                rw [← unt_ok A hA B hB2 (by omega)]
                exact Nat.mul_le_mul (Nat.div_le_self _ _) (by omega)
              · rw [upN_ne (by omega)]
                have := hW.sh hr hj
                omega
            have key : b_X1_setShare_66 x FU (some (L (10 + r))) 0 0 σ4 = xl (some (Int32.ofNat (posN (upN S.1.1 (47 + 34 * r + k) z) r (S.1.1 5)), σ4)) := by
              refine loop_FU (fun g j => b_X1_setShare_66 x g (some (L (10 + r))) (Int32.ofNat (posN (upN S.1.1 (47 + 34 * r + k) z) r j)) (Int32.ofNat j) σ4) (fun _ => xl (some (Int32.ofNat (posN (upN S.1.1 (47 + 34 * r + k) z) r (S.1.1 5)), σ4))) (S.1.1 5) (by omega) (fun g j hj ih => ?_) (fun g => ?_)
              · show b_X1_setShare_66 x (g + 1) _ _ _ _ = _
                have hlj := hle j (by omega)
                have e6 : posN (upN S.1.1 (47 + 34 * r + k) z) r (j + 1) = posN (upN S.1.1 (47 + 34 * r + k) z) r j + (if decide (0 < upN S.1.1 (47 + 34 * r + k) z (47 + 34 * r + j)) = true then 1 else 0) := rfl
                rw [e6] at ih
                rw [b_X1_setShare_66, gR_J xc4 rfl, gI_J hC4.w rfl, e5, iJ_le (by omega) (by omega), if_neg (by omega), gR_J rc4.2.1 rfl, rc4.2.2.1.ld (show j < 4 by omega) (by decide), iJ_leL (by omega) (by decide)]
                by_cases c2 : upN S.1.1 (47 + 34 * r + k) z (47 + 34 * r + j) ≤ 0
                · rw [if_pos (show _ ≤ OfNat.ofNat 0 from c2), lt_J, lt_J, J_addL, J_addL]
                  rw [if_neg (by simpa using c2)] at ih
                  exact ih
                · rw [if_neg (show ¬ _ ≤ OfNat.ofNat 0 from c2), lt_J, lt_J, J_addL, J_addL]
                  rw [if_pos (decide_eq_true (by omega))] at ih
                  exact ih
              · show b_X1_setShare_66 x (g + 1) _ _ _ _ = _
                rw [b_X1_setShare_66, gR_J xc4 rfl, gI_J hC4.w rfl, e5, iJ_le (by omega) (by omega), if_pos (Nat.le_refl _)]
            have e7 : posN (upN S.1.1 (47 + 34 * r + k) z) r 4 = posN (upN S.1.1 (47 + 34 * r + k) z) r (S.1.1 5) := by
              have := cnt_more (p := fun h => decide (0 < upN S.1.1 (47 + 34 * r + k) z (47 + 34 * r + h))) (k := S.1.1 5) (4 - S.1.1 5) (fun i h1 h2 => by
                apply decide_eq_false
                rw [upN_ne (by omega), hO.1.2 r hr i h1 (by omega)]
                exact Nat.lt_irrefl _)
              rw [show S.1.1 5 + (4 - S.1.1 5) = 4 by omega] at this
              exact this
            rw [nn_J xc3, e4, bd_J, key, xl_J, hz, e7]
            exact CRs.k (o' := o1) ⟨⟨S4, K4⟩, _, _, _, _, _, _, _, X4⟩
          · rw [decide_eq_false c, if_pos rfl, if_neg c, xl_J]
            rw [if_neg c] at hz
            rw [← hz, upN_id] at WX3
            exact CRs.k (X1.cur hO.f S1 K1 Ch13 (fun q _ w => w) WX3)
