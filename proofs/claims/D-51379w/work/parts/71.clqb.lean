/-! THE PLAIN LAW, the class' side: the questions, going on -/
set_option maxRecDepth 100000
theorem pc_verdict {o : oW} {σ : cS} {x : Nat} {S : SS} (h : CInv o σ x S) (hO : SSok S) (hR : Rm σ 700 3000) (x1 : Int32) : CRs [3] x σ (m_X1_verdict x x1 σ) S (sp_verdict x1 S).1 (sp_verdict x1 S).2.1 (sp_verdict x1 S).2.2 := by
  obtain ⟨wa, L, dq, sl, bu, re, Q, D, fin, -⟩ := h.ask hO hR
  have hW := hO.1.1
  have hc := casesN_le hW.1
  unfold sp_verdict
  cases hb : inB x1 (casesN S.1.1) with
  | false =>
    unfold m_X1_verdict
    rw [nn_J Q.c, cz_case hW.1 Q.c D.W, hb, if_neg (by decide), if_neg (by decide), bdx_t hR]
    exact CRs.t (j := 0) hR rfl
  | true =>
    obtain ⟨n, hn, rfl⟩ := inB_of hb
    obtain ⟨σ1, e, D1⟩ := rd_verdict hW Q D hn
    rw [if_pos rfl, J_cl (by omega), e]
    exact CRs.k (fin _ _ _ D1)
theorem pc_settledBy {o : oW} {σ : cS} {x : Nat} {S : SS} (h : CInv o σ x S) (hO : SSok S) (hR : Rm σ 700 3000) (x1 : Int32) : CRs [3] x σ (m_X1_settledBy x x1 σ) S (sp_settledBy x1 S).1 (sp_settledBy x1 S).2.1 (sp_settledBy x1 S).2.2 := by
  obtain ⟨wa, L, dq, sl, bu, re, Q, D, fin, -⟩ := h.ask hO hR
  have hW := hO.1.1
  have hc := casesN_le hW.1
  unfold sp_settledBy
  cases hb : inB x1 (casesN S.1.1) with
  | false =>
    unfold m_X1_settledBy
    rw [nn_J Q.c, cz_case hW.1 Q.c D.W, hb, if_neg (by decide), if_neg (by decide), bdx_t hR]
    exact CRs.t (j := 0) hR rfl
  | true =>
    obtain ⟨n, hn, rfl⟩ := inB_of hb
    obtain ⟨σ1, e, D1⟩ := rd_settledBy hW Q D hn
    rw [if_pos rfl, J_cl (by omega), e]
    exact CRs.k (fin _ _ _ D1)
theorem pc_applying {o : oW} {σ : cS} {x : Nat} {S : SS} (h : CInv o σ x S) (hO : SSok S) (hR : Rm σ 700 3000) (x1 : Int32) : CRs [3] x σ (m_X1_applying x x1 σ) S (sp_applying x1 S).1 (sp_applying x1 S).2.1 (sp_applying x1 S).2.2 := by
  obtain ⟨wa, L, dq, sl, bu, re, Q, D, fin, -⟩ := h.ask hO hR
  have hW := hO.1.1
  have hc := casesN_le hW.1
  unfold sp_applying m_X1_applying
  rw [nn_J Q.c, cz_case hW.1 Q.c D.W]
  cases hb : inB x1 (casesN S.1.1) with
  | false =>
    rw [if_neg (by decide), if_neg (by decide), bdx_t hR]
    exact CRs.t (j := 0) hR rfl
  | true =>
    obtain ⟨n, hn, rfl⟩ := inB_of hb
    obtain ⟨q, σ1, e, D1, ⟨-, row, -, qc, -⟩, -⟩ := cl_look hW D hn
    rw [if_pos (by decide), if_pos (by decide), bdx_l, gR_J Q.c rfl, nn_J D.W.w, e, bd_J, gI_J qc rfl, xl_J, J_cl (by omega)]
    exact CRs.k (fin _ _ _ D1)
theorem pc_duties {o : oW} {σ : cS} {x : Nat} {S : SS} (h : CInv o σ x S) (hO : SSok S) (hR : Rm σ 700 3000) (x1 : Int32) : CRs [3] x σ (m_X1_duties x x1 σ) S (sp_duties x1 S).1 (sp_duties x1 S).2.1 (sp_duties x1 S).2.2 := by
  obtain ⟨wa, L, dq, sl, bu, re, Q, D, fin, -⟩ := h.ask hO hR
  have hW := hO.1.1
  have hc := casesN_le hW.1
  unfold sp_duties m_X1_duties
  rw [nn_J Q.c, cz_case hW.1 Q.c D.W]
  cases hb : inB x1 (casesN S.1.1) with
  | false =>
    rw [if_neg (by decide), if_neg (by decide), bdx_t hR]
    exact CRs.t (j := 0) hR rfl
  | true =>
    obtain ⟨n, hn, rfl⟩ := inB_of hb
    obtain ⟨σ1, e, D1⟩ := cl_duties hW D hn
    rw [if_pos (by decide), if_pos (by decide), bdx_l, gR_J Q.c rfl, nn_J D.W.w, e, bd_J, xl_J, J_cl (by omega)]
    exact CRs.k (fin _ _ _ D1)
theorem pc_gets {o : oW} {σ : cS} {x : Nat} {S : SS} (h : CInv o σ x S) (hO : SSok S) (hR : Rm σ 700 3000) (x1 x2 x3 : Int32) : CRs [3, 2, 1] x σ (m_X1_gets x x1 x2 x3 σ) S (sp_gets x1 x2 x3 S).1 (sp_gets x1 x2 x3 S).2.1 (sp_gets x1 x2 x3 S).2.2 := by
  obtain ⟨wa, L, dq, sl, bu, re, Q, D, fin, -⟩ := h.ask hO hR
  have hW := hO.1.1
  have hc := casesN_le hW.1
  have h5 := hW.h
  unfold sp_gets m_X1_gets
  rw [nn_J Q.c, cz_case hW.1 Q.c D.W]
  cases hb : inB x1 (casesN S.1.1) with
  | false =>
    rw [if_neg (by decide), if_neg (show ¬ ((false && _ && _) = true) by simp), bdx_t hR]
    exact CRs.t (j := 0) hR rfl
  | true =>
    rw [if_pos rfl, bdx_l, nn_J Q.c, cz_heir hW Q.c D.W (D.rm (by decide) (by decide))]
    cases hb2 : inB x2 (S.1.1 5) with
    | false =>
      rw [if_neg (by decide), if_neg (show ¬ ((true && false && _) = true) by simp), bdx_t hR]
      exact CRs.t (j := 1) hR rfl
    | true =>
      rw [if_pos rfl, bdx_l, cz_in (n := 2) (by decide)]
      cases hb3 : inB x3 2 with
      | false =>
        rw [if_neg (by decide), if_neg (by decide), bdx_t hR]
        exact CRs.t (j := 2) hR rfl
      | true =>
        obtain ⟨n, hn, rfl⟩ := inB_of hb
        obtain ⟨k, hk, rfl⟩ := inB_of hb2
        obtain ⟨w, hw, rfl⟩ := inB_of hb3
        rw [if_pos (by decide), if_pos (by decide), bdx_l, J_cl (by omega), J_cl (by omega), J_cl (by omega), iJ_eqL (by omega) (by decide)]
        by_cases c : w = 0
        · obtain ⟨σ1, e, D1⟩ := cl_gets hW D hn hk
          rw [if_pos (show w = OfNat.ofNat 0 from c), if_pos c, gR_J Q.c rfl, nn_J D.W.w, e, bd_J, xl_J]
          exact CRs.k (fin _ _ _ D1)
        · obtain ⟨σ1, e, D1⟩ := cl_duty hW D hn hk
          rw [if_neg (show ¬ w = OfNat.ofNat 0 from c), if_neg c, gR_J Q.c rfl, nn_J D.W.w, e, bd_J, xl_J]
          exact CRs.k (fin _ _ _ D1)
theorem pc_isClosed {o : oW} {σ : cS} {x : Nat} {S : SS} (h : CInv o σ x S) (hO : SSok S) (hR : Rm σ 700 3000) : CRp x (m_X1_isClosed x σ) (sp_isClosed S).2.1 (sp_isClosed S).2.2 := by
  obtain ⟨wa, L, dq, sl, bu, re, Q, D, fin, -⟩ := h.ask hO hR
  have hW := hO.1.1
  have hg := gapsN_le (t := S.1.2) hW.1 none
  unfold m_X1_isClosed sp_isClosed
  obtain ⟨σ1, e, D1⟩ := cl_gaps hW D
  rw [gR_J Q.c rfl, nn_J D.W.w, e, bd_J, iJ_eqL (by omega) (by decide)]
  refine ⟨o, σ1, ?_, fin _ _ _ D1⟩
  by_cases c : gapsN S.1.1 S.1.2 none = 0
  · rw [if_pos (show gapsN S.1.1 S.1.2 none = OfNat.ofNat 0 from c), decide_eq_true c]; rfl
  · rw [if_neg (show ¬ gapsN S.1.1 S.1.2 none = OfNat.ofNat 0 from c), decide_eq_false c]; rfl
theorem cnt_all (p : Nat → Bool) : ∀ c, decide (cntN p c = 0) = allN (fun n => !p n) c := by
  intro c
  induction c with
  | zero => rfl
  | succ c ih =>
    show decide (cntN p c + (if p c then 1 else 0) = 0) = (allN (fun n => !p n) c && !p c)
    rw [← ih]
    cases p c
    · simp
    · simp
theorem pc_isWider {o : oW} {σ : cS} {x : Nat} {S : SS} (h : CInv o σ x S) (hO : SSok S) (hR : Rm σ 700 3000) (x1 x2 : Int32) : CRs [2] x σ (m_X1_isWider x x1 x2 σ) S (sp_isWider x1 x2 S).1 (sp_isWider x1 x2 S).2.1 (sp_isWider x1 x2 S).2.2 := by
  obtain ⟨wa, L, dq, sl, bu, re, Q, D, fin, -⟩ := h.ask hO hR
  have hW := hO.1.1
  have hc := casesN_le hW.1
  have h17 := hW.r
  unfold sp_isWider m_X1_isWider
  rw [nn_J Q.c, cz_rule hW Q.c D.W (D.rm (by decide) (by decide))]
  cases hb : inB x1 (S.1.1 17) with
  | false =>
    rw [if_neg (by decide), if_neg (show ¬ ((false && _) = true) by simp), bdx_t hR]
    exact CRs.t (j := 0) hR rfl
  | true =>
    rw [if_pos rfl, bdx_l, nn_J Q.c, cz_rule hW Q.c D.W (D.rm (by decide) (by decide))]
    cases hb2 : inB x2 (S.1.1 17) with
    | false =>
      rw [if_neg (by decide), if_neg (by decide), bdx_t hR]
      exact CRs.t (j := 0) hR rfl
    | true =>
      obtain ⟨r, hr, rfl⟩ := inB_of hb
      obtain ⟨s, hs, rfl⟩ := inB_of hb2
      obtain ⟨r1, D1, Q1, g⟩ := lam_new (u := 187) (v := 693) Q hW.1 D (c := 73) (k := 3) (fs := [.ref x, .int (Int32.ofNat s), .int (Int32.ofNat r)]) (by decide)
      obtain ⟨σ2, e, D2⟩ := cl_sum hW.1 Q1 D1.base (lg_wider hW Q1 (by decide) (by decide) hr hs g)
      have hl := cntN_le (fun n => (setN S.1.1 S.1.2 n).testBit s && !(setN S.1.1 S.1.2 n).testBit r) (casesN S.1.1)
      rw [if_pos (by decide), if_pos (by decide), bdx_l, nO_J r1.1 r1.2, nn_J Q1.c, e, bdx_l, J_cl (by omega), J_cl (by omega), smI_c, iJ_eqL (by omega) (by decide)]
      have ea : allN (fun n => !(setN S.1.1 S.1.2 n).testBit s || (setN S.1.1 S.1.2 n).testBit r) (casesN S.1.1) = decide (cntN (fun n => (setN S.1.1 S.1.2 n).testBit s && !(setN S.1.1 S.1.2 n).testBit r) (casesN S.1.1) = 0) := by
        rw [cnt_all]
        congr 1
        funext n
        cases (setN S.1.1 S.1.2 n).testBit s <;> cases (setN S.1.1 S.1.2 n).testBit r <;> rfl
      rw [ea]
      by_cases c : cntN (fun n => (setN S.1.1 S.1.2 n).testBit s && !(setN S.1.1 S.1.2 n).testBit r) (casesN S.1.1) = 0
      · rw [if_pos (show _ = OfNat.ofNat 0 from c), decide_eq_true c]
        exact CRs.k (fin _ _ _ (D2.to D1))
      · rw [if_neg (show ¬ _ = OfNat.ofNat 0 from c), decide_eq_false c]
        exact CRs.k (fin _ _ _ (D2.to D1))
theorem pc_common {o : oW} {σ : cS} {x : Nat} {S : SS} (h : CInv o σ x S) (hO : SSok S) (hR : Rm σ 700 3000) (x1 x2 : Int32) : CRs [2] x σ (m_X1_common x x1 x2 σ) S (sp_common x1 x2 S).1 (sp_common x1 x2 S).2.1 (sp_common x1 x2 S).2.2 := by
  obtain ⟨wa, L, dq, sl, bu, re, Q, D, fin, -⟩ := h.ask hO hR
  have hW := hO.1.1
  have h17 := hW.r
  unfold sp_common m_X1_common
  rw [nn_J Q.c, cz_rule hW Q.c D.W (D.rm (by decide) (by decide))]
  cases hb : inB x1 (S.1.1 17) with
  | false =>
    rw [if_neg (by decide), if_neg (show ¬ ((false && _) = true) by simp), bdx_t hR]
    exact CRs.t (j := 0) hR rfl
  | true =>
    rw [if_pos rfl, bdx_l, nn_J Q.c, cz_rule hW Q.c D.W (D.rm (by decide) (by decide))]
    cases hb2 : inB x2 (S.1.1 17) with
    | false =>
      rw [if_neg (by decide), if_neg (by decide), bdx_t hR]
      exact CRs.t (j := 0) hR rfl
    | true =>
      obtain ⟨r, hr, rfl⟩ := inB_of hb
      obtain ⟨s, hs, rfl⟩ := inB_of hb2
      obtain ⟨r1, D1, Q1, g⟩ := lam_new (u := 187) (v := 693) Q hW.1 D (c := 74) (k := 3) (fs := [.ref x, .int (Int32.ofNat r), .int (Int32.ofNat s)]) (by decide)
      obtain ⟨σ2, e, D2⟩ := cl_sum hW.1 Q1 D1.base (lg_common hW Q1 (by decide) (by decide) hr hs g)
      rw [if_pos (by decide), if_pos (by decide), bdx_l, nO_J r1.1 r1.2, nn_J Q1.c, e, bdx_l, J_cl (by omega), J_cl (by omega), smI_c, xl_J]
      exact CRs.k (fin _ _ _ (D2.to D1))
theorem pc_gap {o : oW} {σ : cS} {x : Nat} {S : SS} (h : CInv o σ x S) (hO : SSok S) (hR : Rm σ 700 3000) : CRs [] x σ (m_X1_gap x σ) S (sp_gap S).1 (sp_gap S).2.1 (sp_gap S).2.2 := by
  obtain ⟨wa, L, dq, sl, bu, re, Q, D, fin, -⟩ := h.ask hO hR
  have hW := hO.1.1
  obtain ⟨r1, D1, Q1, g⟩ := lam_new (u := 187) (v := 693) Q hW.1 D (c := 66) (k := 1) (fs := [.ref x]) (by decide)
  obtain ⟨σ2, e, D2⟩ := cl_sum hW.1 Q1 D1.base (lg_left hW Q1 g)
  unfold m_X1_gap sp_gap
  rw [nO_J r1.1 r1.2, nn_J Q1.c, e, bdx_l, xl_J]
  have eg : ∀ c, smI (fun n => (if setlN S.1.1 (setN S.1.1 S.1.2 n) = none then 0 else Int32.ofNat (S.1.1 7)) - subI S.1.1 (setlN S.1.1 (setN S.1.1 S.1.2 n)) (S.1.1 5)) c = gapI S.1.1 S.1.2 c := by
    intro c
    induction c with
    | zero => rfl
    | succ c ih =>
      show smI _ c + _ = gapI S.1.1 S.1.2 c + _
      rw [ih]
  rw [eg]
  exact CRs.k (fin _ _ _ (D2.to D1))
theorem pc_settledShare {o : oW} {σ : cS} {x : Nat} {S : SS} (h : CInv o σ x S) (hO : SSok S) (hR : Rm σ 700 3000) : CRp x (m_X1_settledShare x σ) (shaI S.1.1 S.1.2) S := by
  obtain ⟨wa, L, dq, sl, bu, re, Q, D, fin, -⟩ := h.ask hO hR
  have hW := hO.1.1
  obtain ⟨σ1, e, D1⟩ := cl_many hW D (v := 0) (by decide)
  unfold m_X1_settledShare
  rw [gR_J Q.c rfl, nn_J D.W.w, show (0 : Int32) = Int32.ofNat 0 from rfl, e, bd_J, gR_J (Q.g D1) rfl, nn_J D1.W.w, cl_cases hW.1 D1.W, bd_J]
  have hc := casesN_le hW.1
  have hm := manyN_le (t := S.1.2) hW.1 0 none
  rw [nf32_J (by omega) (by omega)]
  exact ⟨o, σ1, rfl, fin _ _ _ D1⟩
theorem setl_m {d : Nat → Nat} {t : Nat → Term} (hW : WOk d t) : ∀ c, setlC d t c = cntN (fun n => decide (verdN d (butN (setN d t n) none) = 0)) c := by
  intro c
  induction c with
  | zero => rfl
  | succ c ih =>
    show setlC d t c + (if decide (setlN d (setN d t c) ≠ none) then 1 else 0) = cntN _ c + (if decide (verdN d (setN d t c) = 0) then 1 else 0)
    rw [ih, show decide (setlN d (setN d t c) ≠ none) = decide (verdN d (setN d t c) = 0) from decide_eq_decide.mpr (by rw [se_o hW])]
theorem smI_d {d : Nat → Nat} {t : Nat → Term} : ∀ c, smI (fun n => Int32.ofNat (dutsN d (setlN d (setN d t n)))) c = Int32.ofNat (dutA d t c) := by
  intro c
  induction c with
  | zero => rfl
  | succ c ih =>
    show smI _ c + Int32.ofNat _ = Int32.ofNat (dutA d t c + _)
    rw [ih, J_add]
theorem pc_meanDuties {o : oW} {σ : cS} {x : Nat} {S : SS} (h : CInv o σ x S) (hO : SSok S) (hR : Rm σ 700 3000) : CRs [] x σ (m_X1_meanDuties x σ) S 0 (meaI S.1.1 S.1.2) S := by
  obtain ⟨wa, L, dq, sl, bu, re, Q, D, fin, -⟩ := h.ask hO hR
  have hW := hO.1.1
  have hc := casesN_le hW.1
  obtain ⟨σ1, e1, D1⟩ := cl_many hW D (v := 0) (by decide)
  have hm := manyN_le (t := S.1.2) hW.1 0 none
  have em : setlC S.1.1 S.1.2 (casesN S.1.1) = manyN S.1.1 S.1.2 0 none := setl_m hW _
  obtain ⟨r1, D2, Q2, g⟩ := lam_new (u := 187) (v := 693) Q hW.1 D1 (c := 67) (k := 1) (fs := [.ref x]) (by decide)
  obtain ⟨σ3, e3, D3⟩ := cl_sum hW.1 Q2 D2.base (lg_duties hW Q2 (Or.inr rfl) g)
  unfold m_X1_meanDuties meaI
  rw [gR_J Q.c rfl, nn_J D.W.w, show (0 : Int32) = Int32.ofNat 0 from rfl, e1, bd_J, nO_J r1.1 r1.2, nn_J Q2.c, e3, bdx_l, smI_d, em, iJ_eq (by omega) (by decide)]
  have fin' := fin _ _ _ (D3.to D2)
  by_cases c : manyN S.1.1 S.1.2 0 none = 0
  · rw [if_pos c, if_pos c, xl_J]
    exact CRs.k fin'
  · rw [if_neg c, if_neg c, nf64_J (by omega) (by omega), xl_J]
    exact CRs.k fin'
