/-! THE PLAIN LAW, the class' side: addRule -/
set_option maxRecDepth 1000000
section ADR
variable {o : oW} {σ : cS} {rd tp w wd : Nat} {L : List Nat} {Lw d : Nat → Nat} {t : Nat → Term}
theorem RG.fresh {o1 o2 : oW} {σ1 σ2 : cS} (hS : SI o σ) (C : Ch (fun _ => False) σ σ1) (oo : ∀ q, q < σ.2 0 → o1 q = o q) (hr : σ.2 0 ≤ rd) (hw : σ.2 0 ≤ w) (F : RG o1 σ1 rd w o2 σ2) : Ch (fun _ => False) σ σ2 ∧ ∀ q, q < σ.2 0 → o2 q = o q := ⟨C.then F.1 (fun q hq e => by
  rw [oo q hq] at e
  rcases e with e | e
  · have := hS.own e; omega
  · have := hS.own e; omega), fun q hq => (F.2 q (Nat.lt_of_lt_of_le hq C.2.1)).trans (oo q hq)⟩
/-- what a rule alone is read as -/
def rRl (d : Nat → Nat) (L : List Nat) : PR (Term × (Nat → Nat) × Nat × Nat) := pb (rRule d L 0) fun a => if tkK L a.2.2.2 = 0 then .inr a else .inl (flt L a.2.2.2 1)
theorem rd_readRule (hS : SI o σ) (hK : KA o σ) (hX : TX o σ rd tp L) (ho : o rd = (rd + 1, 0)) (hx : σ.1 rd = some (.inr (8, rdF tp L.length .null 0 0 .null (.ref wd) 0 0 0))) (W : WB o σ rd w Lw d t) (hF : FOk d) (h5 : 1 ≤ d 5 ∧ d 5 ≤ 4) (h17 : d 17 < 10) (hR : Rm σ (40 * L.length + 200 + 2) (200 * L.length + L.length + 1000 + 4)) : CR (RG o σ rd w) (m_X2_readRule rd (some w) σ) (rRl d L) fun a _ o' σ' => (SI o' σ' ∧ KA o' σ') ∧ ∃ Lw', WB o' σ' rd w Lw' (adD d a.1 a.2.1 a.2.2.1) (adT t (d 17) a.1) := by
  unfold m_X2_readRule rRl
  rw [pO_J hx (show 2 < 10 by decide) (hS.w ho), show va_rf (some w) = Value.ref w from rfl, rdF_2]
  have S1 : SI o (cU σ rd (.inr (8, rdF tp L.length (.ref w) 0 0 .null (.ref wd) 0 0 0))) := hS.cU hx
  have K1 : KA o (cU σ rd (.inr (8, rdF tp L.length (.ref w) 0 0 .null (.ref wd) 0 0 0))) := hK.cU hS ho hx
  have X1 : TX o (cU σ rd (.inr (8, rdF tp L.length (.ref w) 0 0 .null (.ref wd) 0 0 0))) rd tp L := hX.cU hS ho hx
  have g1 : (cU σ rd (.inr (8, rdF tp L.length (.ref w) 0 0 .null (.ref wd) 0 0 0))).1 rd = some (.inr (8, rdF tp L.length (.ref w) 0 0 .null (.ref wd) 0 0 0)) := cU_s
  have F1 : RF o σ rd o (cU σ rd (.inr (8, rdF tp L.length (.ref w) 0 0 .null (.ref wd) 0 0 0))) := ⟨Ch.rf.cU hx (Or.inr (by rw [ho])), fun _ _ => rfl⟩
  have R1 : Rm (cU σ rd (.inr (8, rdF tp L.length (.ref w) 0 0 .null (.ref wd) 0 0 0))) (40 * L.length + 200 + 2) (200 * L.length + L.length + 1000 + 4) := hR
  generalize cU σ rd (.inr (8, rdF tp L.length (.ref w) 0 0 .null (.ref wd) 0 0 0)) = σ1 at S1 K1 X1 g1 F1 R1 ⊢
  have W1 := W.g hF hS F1
  obtain ⟨o2, σ2, e2, V2, F2⟩ := rv_lex (p := 0) (fc := 0) (nt := 0) (n := 0) (m := 0) S1 K1 X1 ho (Nat.zero_le _) g1 (by rw [Nat.sub_zero]; exact R1)
  have W2 := W1.g hF S1 F2
  have F02 := F1.trans F2
  rw [nn_J g1, e2, bd_J, V2.nn]
  refine ((rd_rule hF h5 h17 V2 W2).mono (fun o' σ' G => (F02.g w).trans G) (fun _ _ _ _ _ q => q)).bx (fun _ _ q => q) (fun a v3 o3 σ3 e3 G3 hq => ?_)
  obtain ⟨Lw', fc', nt', V3, W3⟩ := hq
  have E := rd_expect V3 (j := 0) (by decide)
  have hk : (tkI (tkK L a.2.2.2) = 0) = (tkK L a.2.2.2 = 0) := propext ⟨fun h => by
    unfold tkI at h
    split at h
    · assumption
    · split at h
      · omega
      · split at h
        · omega
        · split at h <;> omega, fun h => by rw [h]; rfl⟩
  rw [V3.nn]
  show CR _ (bdx (m_X2_expect rd (some (σ3.2 (10 + 0))) σ3) _) _ _
  by_cases c : tkK L a.2.2.2 = 0
  · rw [if_pos (hk.mpr c)] at E
    obtain ⟨o', σ', v, e1, -, e2, e3⟩ := E
    rw [e1, bdx_l, e3, if_pos c, xl_J]
    exact CR.k G3 ⟨V3.1, Lw', W3⟩
  · rw [if_neg (fun h => c (hk.mp h))] at E
    obtain ⟨o', σ', q, a', c', e1, ⟨e2, e3⟩, e4⟩ := E
    rw [if_neg c]
    exact ⟨o', σ', q, a', c', by rw [e1, bdx_r], ⟨G3.trans (e2.g w), e3⟩, e4⟩
end ADR
theorem pc_addRule {o : oW} {σ : cS} {x : Nat} {S : SS} (h : CInv o σ x S) (hO : SSok S) (h20 : S.2.2.2.1.length % 20 = 0) (hR : Rm σ 40000 200000) (x1 : Int32) : CRs [1] x σ (m_X1_addRule x x1 σ) S (sp_addRule x1 S).1 (sp_addRule x1 S).2.1 (sp_addRule x1 S).2.2 := by
  have hW := hO.1.1
  have h17 := hW.r
  obtain ⟨wa, dq, sl, bu, re, PA, ka, L, u, P⟩ := h.px
  obtain ⟨⟨hS, hK⟩, hX, hC, hF⟩ := id P
  have xc := hX.1.2
  have hR7 : Rm σ 700 3000 := hR.le (by decide) (by decide)
  obtain ⟨cap, hb, hcap⟩ := hX.2.2.2.1.x
  have hl := hO.2.2.2.2.1
  have hbl : S.2.2.2.1.length < cap := by
    obtain ⟨-, b, f, ml, -, -, -, ⟨c1, c2⟩, -⟩ := id hb
    omega
  have hlt : ∀ p V, WX o σ p V → p < σ.2 0 := fun p V hp => by
    obtain ⟨fs, c⟩ := hp.cl
    exact hS.lt c
  unfold m_X1_addRule sp_addRule
  rw [gR_J xc rfl, hb.nn, sb_len hb.c, bd_J, cz_in (n := S.2.2.2.1.length + 1) (by rw [J_int (by omega)]; omega)]
  cases hb1 : inB x1 (S.2.2.2.1.length + 1) with
  | false => rw [if_neg (by decide), if_neg (by decide), bdx_t hR7]; exact CRs.t (j := 0) hR7 rfl
  | true =>
    obtain ⟨n, hn, rfl⟩ := inB_of hb1
    obtain ⟨σ1, o1, L1, e1, N1, F1, ⟨S1, -⟩, C1, oo, R1⟩ := cl_dup (x := 39000) (y := 190000) hW hS hK.1 hC (hR.le (by decide) (by decide))
    have K1 : KA o1 σ1 := hK.c C1 hS.1 (fun _ _ e => e.elim) oo
    have P1 := P.al hO C1 oo S1
    have hb0 : σ.2 0 < σ1.2 0 := S1.lt N1.w
    rw [if_pos rfl, if_pos rfl, bdx_l, gR_J xc rfl, nn_J hC.w, e1, bd_J, gR_J P1.2.1.1.2 rfl, gR_J P1.2.2.1.w rfl, P1.2.2.1.l.nn, P1.2.2.1.l.size, bd_J, J_cl (by omega), iJ_eqL (by omega) (by decide)]
    by_cases c10 : S.1.1 17 = 10
    · obtain ⟨σ2, e2, P2⟩ := cl_zero P1 hO.f
      obtain ⟨cap1, hb1, -⟩ := P1.2.1.2.2.2.1.x
      rw [if_pos (show S.1.1 17 = OfNat.ofNat 10 from c10), if_pos c10, gR_J P1.2.1.1.2 rfl, hb1.nn, e2, bd_J, xl_J]
      exact CRs.k (o' := o1) P2.C
    · obtain ⟨σ2', Ca, ei, hN⟩ := rd_new S1 K1 (R1.le (by decide) (by decide))
      have hlen : (S.2.2.2.1.take n).length = n := by rw [List.length_take]; omega
      obtain ⟨C2, g2, S2, K2, oo2, or2, hRm⟩ := hN bu n
      have xca := Ca.c S1.1 P1.2.1.1.2 id
      rw [if_neg (show ¬ S.1.1 17 = OfNat.ofNat 10 from c10), if_neg c10, nO_J (by have := R1.1; omega) (by have := R1.2; omega), gR_J xca rfl, ei bu n, bd_J]
      have hRm' := hRm 38900 189000 (R1.le (by decide) (by decide))
      generalize σ2' bu n = σ2 at C2 g2 S2 K2 hRm' ⊢
      clear hRm
      have hb1' := (hb.cc C1 hS.1 (fun _ _ e => e.elim) oo).cc C2 S1.1 (fun _ _ e => e.elim) oo2
      have hxr : x ≠ σ1.2 0 := by have := hS.lt xc; omega
      have hX2 : TX (oN o1 (σ1.2 0) (σ1.2 0 + 1, 0)) σ2 (σ1.2 0) bu (S.2.2.2.1.take n) := ⟨⟨by omega, fun z hz => hl.2 z (List.mem_of_mem_take hz)⟩, Or.inr ⟨x, cap, n, S.2.2.2.1, hxr, hb1', hbl, hl.2, by omega, rfl⟩⟩
      have W2 : WB (oN o1 (σ1.2 0) (σ1.2 0 + 1, 0)) σ2 (σ1.2 0) (σ.2 0) L1 S.1.1 S.1.2 := ⟨by omega, N1.c C2 S1.1 hW.1 (fun _ _ e => e.elim) oo2 (S1.l N1.o5), C2.c S1.1 F1 id⟩
      have RD := rd_readRule (L := S.2.2.2.1.take n) S2 K2 hX2 or2 (by rw [hlen]; exact g2) W2 hW.1 hW.h (by omega) (by rw [hlen]; exact hRm'.le (by omega) (by omega))
      rw [nn_J g2]
      have Ct : Ch (fun _ => False) σ σ2 := C1.trans C2
      have oot : ∀ q, q < σ.2 0 → oN o1 (σ1.2 0) (σ1.2 0 + 1, 0) q = o q := fun q hq => (oo2 q (by omega)).trans (oo q hq)
      have hro : σ.2 0 ≤ σ1.2 0 := by omega
      -- a fault
      have bad : ∀ (e : Nat) (o3 : oW) (σ3 : cS) (q a c : Nat), RG (oN o1 (σ1.2 0) (σ1.2 0 + 1, 0)) σ2 (σ1.2 0) (σ.2 0) o3 σ3 → SI o3 σ3 → σ3.1 q = some (.inr (14, [.int (Int32.ofNat a), .int (Int32.ofNat c)])) → e = 8 * a + c → CRs [1] x σ (bd (m_X1_answer (some q) σ3) fun v_37 σ_38 => gR σ_38 (some x) 0 3 fun v_39 => nn σ_38 v_39 11 fun a_41 => bd (m_J3_setLength a_41 0 σ_38) fun _ σ_40 => xl (some (v_37, σ_40))) S 0 (-2 - Int32.ofNat e) (S.1, S.2.1, S.2.2.1, [], S.2.2.2.2) := by
        intro e o3 σ3 q a c G S3 hq he
        obtain ⟨C3, oo3⟩ := RG.fresh hS Ct oot hro (Nat.le_refl _) G
        have P3 := P.al hO C3 oo3 S3
        obtain ⟨σ4, e4, P4⟩ := cl_zero P3 hO.f
        obtain ⟨cap3, hb3, -⟩ := P3.2.1.2.2.2.1.x
        unfold m_X1_answer
        rw [gI_J hq rfl, gI_J hq rfl, bd_J, gR_J P3.2.1.1.2 rfl, hb3.nn, e4, bd_J, xl_J, he, ← J_add, ← J_mul]
        exact CRs.k (o' := o3) P4.C
      unfold rRl at RD
      cases hx : rRule S.1.1 (S.2.2.2.1.take n) 0 with
      | inl e =>
        rw [hx] at RD
        obtain ⟨o3, σ3, q, a, c, e3, ⟨G, S3⟩, hq, he, -⟩ := RD
        rw [e3, bdc_r]
        exact bad e o3 σ3 q a c G S3 hq he
      | inr a =>
        rw [hx, pb_r] at RD
        dsimp only
        by_cases c0 : tkK (S.2.2.2.1.take n) a.2.2.2 = 0
        · rw [if_pos c0] at RD ⊢
          obtain ⟨o3, σ3, v, e3, G, ⟨S3, K3⟩, Lw', W3⟩ := RD
          obtain ⟨C3, oo3⟩ := RG.fresh hS Ct oot hro (Nat.le_refl _) G
          have P3 := P.al hO C3 oo3 S3
          obtain ⟨⟨x1, xc3⟩, d3, s3, b3, r3, w3, ⟨p0, p1⟩, k3, n1, n2⟩ := id P3.2.1
          have hFd : FOk (adD S.1.1 a.1 a.2.1 a.2.2.1) := FOk_cg (fun i hi => adD_lo (by omega)) hW.1
          obtain ⟨σ4, e4, ⟨S4, K4⟩, xc4, D4, SL4, ⟨B4, R4⟩, tr4, C4, k4⟩ := cl_keepP S3 K3 P3.2.1 (by rw [p0]; exact hO.2.1) w3
          have WXt : WX o3 σ3 (σ.2 0) (adD S.1.1 a.1 a.2.1 a.2.2.1, adT S.1.2 (S.1.1 17) a.1) := ⟨Lw', _, W3.2.1, FoundC.of W3.2.2⟩
          rw [e3, bdc_l, gR_J xc3 rfl, nn_J xc3, e4, bd_J, pO_J xc4 (by show 0 < 5; decide) (S4.w x1), show va_rf (some (σ.2 0)) = Value.ref (σ.2 0) from rfl, mF_0]
          have C5 : Ch (fun q => q = x) σ4 (cU σ4 x (.inr (0, mF (σ.2 0) dq sl bu re))) := Ch.rf.cU xc4 (Or.inr rfl)
          have xc5 : (cU σ4 x (.inr (0, mF (σ.2 0) dq sl bu re))).1 x = some (.inr (0, mF (σ.2 0) dq sl bu re)) := cU_s
          generalize cU σ4 x (.inr (0, mF (σ.2 0) dq sl bu re)) = σ5 at C5 xc5 ⊢
          have nx : ∀ k : Nat, k ≠ 0 → ∀ q, q < σ4.2 0 → q = x → o3 q ≠ (x + 1, k) := fun k hk q _ e e2 => by rw [e, x1] at e2; exact hk (rn e2).symm
          have tr5 : ∀ p V, FOk V.1 → WX o3 σ3 p V → WX o3 σ5 p V := fun p V hV hp => (tr4 p V hV hp).c hV C5 S4 (fun q _ e => by rw [e, x1]; have := P3.2.1.ne hp; exact ⟨Nat.succ_ne_zero _, fun e2 => by have e3 : x + 1 = p + 1 := e2; omega⟩) (fun _ _ => rfl)
          have hpl : ∀ p, p ∈ PA → p < σ.2 0 := fun p hp => by
            obtain ⟨i, hi⟩ := List.getElem?_of_mem hp
            have hil := (List.getElem?_eq_some_iff.mp hi).1
            have := hX.2.2.2.2.2.2.1
            exact hlt p _ (this.2 i p _ hi (List.getElem?_eq_getElem (by rw [this.1] at hil; exact hil)))
          have hwl := hlt wa _ hX.2.2.2.2.2.1
          have past5 := past_keep (o := o3) (σ := σ5) (b := wa) (W := S.1) p0 (fun j p V hp hV => tr5 p V (hO.2.2.1 V (List.mem_of_getElem? hV)).1.1 (p1 j p V hp hV)) (tr5 wa _ hW.1 w3)
          have X5 : CIx o3 σ5 x ((adD S.1.1 a.1 a.2.1 a.2.2.1, adT S.1.2 (S.1.1 17) a.1), keepS S.2.1 S.1, S.2.2) (σ.2 0) dq sl bu re (keepL PA wa) ka := ⟨⟨x1, xc5⟩, D4.c2 C5 S4.1 (fun q hq e => ⟨nx 1 (by decide) q hq e, nx 2 (by decide) q hq e⟩) (fun _ _ => rfl), SL4.c2 C5 S4.1 (nx 3 (by decide)) (fun _ _ => rfl), B4.c2 C5 S4.1 (fun q hq e => ⟨nx 4 (by decide) q hq e, nx 5 (by decide) q hq e⟩) (fun _ _ => rfl), R4.c2 C5 S4.1 (fun q hq e => ⟨nx 6 (by decide) q hq e, nx 7 (by decide) q hq e⟩) (fun _ _ => rfl), tr5 _ _ hFd WXt, past5, fun j V hj hV => tr5 _ V (hO.2.2.2.1 j V hj hV).1.1 (k3 j V hj hV), List.nodup_cons.mpr ⟨fun hm => by
            rcases keepL_mem hm with q | q
            · have := hpl _ q; omega
            · omega, keepL_nodup (List.nodup_cons.mp n1).2 (List.nodup_cons.mp n1).1⟩, fun j V hj hV hm => by
            have h1 := n2 j V hj hV
            have h2 := hlt _ _ (hX.2.2.2.2.2.2.2.1 j V hj hV)
            rcases List.mem_cons.mp hm with q | q
            · omega
            · rcases keepL_mem q with q | q
              · exact h1 (List.mem_cons_of_mem _ q)
              · exact h1 (by rw [q]; exact List.mem_cons_self)⟩
          have S5 := S4.ch C5
          have K5 : KA o3 σ5 := K4.c C5 S4.1 (fun q _ e => by rw [e, x1]; exact Nat.succ_ne_zero _) (fun _ _ => rfl)
          obtain ⟨L5, u5, P5⟩ := X5.px S5 K5
          have hO5 : SFk ((adD S.1.1 a.1 a.2.1 a.2.2.1, adT S.1.2 (S.1.1 17) a.1), keepS S.2.1 S.1, S.2.2) := ⟨hFd, (keepS_ok (W := S.1) hO.2.1).1, fun V hV => by
            rcases (keepS_ok (W := S.1) hO.2.1).2 V hV with q | q
            · exact (hO.2.2.1 V q).1.1
            · rw [q]; exact hW.1, hO.f.2.2.2⟩
          obtain ⟨σ6, e6, P6⟩ := cl_zero P5 hO5
          obtain ⟨cap5, hb5, -⟩ := X5.2.2.2.1.x
          have e17 : adD S.1.1 a.1 a.2.1 a.2.2.1 17 = S.1.1 17 + 1 := adD_17
          rw [gR_J xc5 rfl, gR_J P5.2.2.1.w rfl, P5.2.2.1.l.nn, P5.2.2.1.l.size, bd_J, lt_J]
          dsimp only
          rw [e17, J_subL (show 1 ≤ S.1.1 17 + 1 by omega), gR_J xc5 rfl, hb5.nn, e6, bd_J, xl_J]
          exact CRs.k (o' := o3) P6.C
        · rw [if_neg c0] at RD ⊢
          obtain ⟨o3, σ3, q, a', c, e3, ⟨G, S3⟩, hq, he, -⟩ := RD
          rw [e3, bdc_r]
          exact bad _ o3 σ3 q a' c G S3 hq he
