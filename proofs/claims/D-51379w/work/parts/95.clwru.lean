/-! THE PLAIN LAW, the class' side: writeRule -/
set_option maxRecDepth 1000000
theorem la1 (A : List Nat) (c : Nat) : (A ++ [c]).length = A.length + 1 := by rw [List.length_append]; rfl
theorem prtF_mono {d : Nat → Nat} {r k : Nat} : ∀ j, (prtF d r k).length ≤ (prtF d r (k + j)).length := by
  intro j
  induction j with
  | zero => exact Nat.le_refl _
  | succ j ih =>
    refine Nat.le_trans ih ?_
    show _ ≤ (if d (47 + 34 * r + (k + j)) = 0 then prtF d r (k + j) else prtF d r (k + j) ++ _).length
    split
    · exact Nat.le_refl _
    · rw [List.length_append]; omega
theorem ovrF_mono {m k : Nat} : ∀ j, (ovrF m k).length ≤ (ovrF m (k + j)).length := by
  intro j
  induction j with
  | zero => exact Nat.le_refl _
  | succ j ih =>
    refine Nat.le_trans ih ?_
    show _ ≤ (if m.testBit (k + j) = true then ovrF m (k + j) ++ _ else ovrF m (k + j)).length
    split
    · rw [List.length_append]; omega
    · exact Nat.le_refl _
section GWU
variable {x wa dq sl bu re n m : Nat} {S : SS} {PA : List Nat} {ka L : Nat → Nat}
theorem w_parts (hO : SSok S) {r : Nat} (hr : r < S.1.1 17) {o : oW} {σ : cS} {B : List Nat} (P : PB o σ x S wa dq sl bu re PA ka L n m B) (hl : B.length + (prtT S.1.1 r).length ≤ 880) : WrO x S wa dq sl bu re PA ka L n m o σ (B ++ prtT S.1.1 r) (m_X1_writeParts x (some (L (10 + r))) σ) := by
  have hW := hO.1.1
  have h5 := hW.h
  have h17 := hW.r
  have hpT : (prtF S.1.1 r (S.1.1 5)).length ≤ (prtT S.1.1 r).length := by
    unfold prtT
    split
    · rename_i e; rw [e]; decide
    · exact Nat.le_refl _
  have loop : ∀ j i g (o1 : oW) (σ1 : cS) (B1 : List Nat) (fl : Int32), i + j = S.1.1 5 → j < g → KG S o σ o1 σ1 → PB o1 σ1 x S wa dq sl bu re PA ka L n m B1 → B1 = B ++ prtF S.1.1 r i → fl = (if prtF S.1.1 r i = [] then 1 else 0) → WrO x S wa dq sl bu re PA ka L n m o σ (B ++ prtT S.1.1 r) (b_X1_writeParts_4 x g (some (L (10 + r))) fl (Int32.ofNat i) σ1) := by
    intro j
    induction j with
    | zero =>
      intro i g o1 σ1 B1 fl hi hg K1 P1 hB hfl
      obtain ⟨g, rfl⟩ : ∃ g', g = g' + 1 := ⟨g - 1, by omega⟩
      have ei : i = S.1.1 5 := hi
      have e : B ++ prtF S.1.1 r i = B1 := hB.symm
      rw [b_X1_writeParts_4, gR_J P1.xc rfl, gI_J P1.W.w rfl, iJ_le (by omega) (by omega), if_pos (by omega), gR_J P1.xc rfl]
      unfold b_X1_writeParts_100
      have elen := congrArg List.length hB
      rw [List.length_append, ei] at elen
      by_cases c : prtF S.1.1 r i = []
      · rw [hfl, if_pos c, if_neg (by decide), P1.nn]
        have c' : prtF S.1.1 r (S.1.1 5) = [] := by rw [← ei]; exact c
        obtain ⟨σ2, o2, r2, P2, g2⟩ := P1.con hO.f (k := 6) (by decide) (by decide) (by show _ + 8 ≤ _; omega)
        show WrO x S wa dq sl bu re PA ka L n m o σ _ (bd (m_J3_append_2 re (some (σ1.2 (20 + 6))) σ1) _)
        rw [r2, bd_J]
        refine ⟨σ2, o2, rfl, ?_, K1.trans g2⟩
        have : B1 ++ txL.getD 6 [] = B ++ prtT S.1.1 r := by
          rw [hB, c, List.append_nil]
          unfold prtT
          rw [if_pos c']
          rfl
        rw [this] at P2
        exact P2
      · rw [hfl, if_neg c, if_pos rfl, P1.nn]
        have c' : ¬ prtF S.1.1 r (S.1.1 5) = [] := by rw [← ei]; exact c
        obtain ⟨σ2, o2, r2, P2, g2⟩ := P1.con hO.f (k := 7) (by decide) (by decide) (by show _ + 0 ≤ _; omega)
        show WrO x S wa dq sl bu re PA ka L n m o σ _ (bd (m_J3_append_2 re (some (σ1.2 (20 + 7))) σ1) _)
        rw [r2, bd_J]
        refine ⟨σ2, o2, rfl, ?_, K1.trans g2⟩
        have : B1 ++ txL.getD 7 [] = B ++ prtT S.1.1 r := by
          show B1 ++ [] = _
          rw [List.append_nil, hB, ei]
          unfold prtT
          rw [if_neg c']
        rw [this] at P2
        exact P2
    | succ j ij =>
      intro i g o1 σ1 B1 fl hi hg K1 P1 hB hfl
      obtain ⟨g, rfl⟩ : ∃ g', g = g' + 1 := ⟨g - 1, by omega⟩
      obtain ⟨-, rc, ri, -⟩ := P1.W.r hr
      have hs := hW.sh hr (show i < 4 by omega)
      have e : prtF S.1.1 r (i + 1) = if S.1.1 (47 + 34 * r + i) = 0 then prtF S.1.1 r i else prtF S.1.1 r i ++ ((if prtF S.1.1 r i = [] then [32] else [44, 32]) ++ ptx S.1.1 r i) := rfl
      rw [b_X1_writeParts_4, gR_J P1.xc rfl, gI_J P1.W.w rfl, iJ_le (by omega) (by omega), if_neg (by omega), gR_J rc rfl, ri.ld (by omega) (by decide), iJ_leL (by omega) (by decide)]
      by_cases c : S.1.1 (47 + 34 * r + i) = 0
      · rw [if_pos (show S.1.1 (47 + 34 * r + i) ≤ OfNat.ofNat 0 from Nat.le_of_eq c), lt_J, J_addL]
        rw [if_pos c] at e
        exact ij (i + 1) g o1 σ1 B1 fl (by omega) (by omega) K1 P1 (by rw [e]; exact hB) (by rw [e]; exact hfl)
      · rw [if_neg (show ¬ S.1.1 (47 + 34 * r + i) ≤ OfNat.ofNat 0 from fun w => c (Nat.le_zero.mp w)), gR_J P1.xc rfl]
        rw [if_neg c] at e
        have mono := prtF_mono (d := S.1.1) (r := r) (k := i + 1) (S.1.1 5 - (i + 1))
        rw [show i + 1 + (S.1.1 5 - (i + 1)) = S.1.1 5 by omega] at mono
        have body : ∀ s, (s < 35 ∧ (txL.getD s []).length ≤ 10) → B1 ++ txL.getD s [] ++ ptx S.1.1 r i = B ++ prtF S.1.1 r (i + 1) → WrO x S wa dq sl bu re PA ka L n m o σ (B ++ prtT S.1.1 r) (b_X1_writeParts_41 x (b_X1_writeParts_4 x g) (some (L (10 + r))) (Int32.ofNat i) (some re) (some (σ1.2 (20 + s))) σ1) := by
          intro s hs2 es
          have el := congrArg List.length es
          have et : ptx S.1.1 r i = decN i ++ [32] ++ decN (shTN S.1.1 r i false) ++ [47] ++ decN (shTN S.1.1 r i true) := by
            unfold ptx
            simp
          rw [et] at el es
          simp only [List.length_append] at el
          have q1 : [32].length = 1 := rfl
          have q2 : [47].length = 1 := rfl
          have z1 := shTN_lt (b := false) hs
          have z2 := shTN_lt (b := true) hs
          obtain ⟨σ2, o2, r2, P2, g2⟩ := P1.con hO.f hs2.1 hs2.2 (by omega)
          obtain ⟨σ3, o3, r3, P3, g3⟩ := P2.int hO.f (z := i) (by omega) (by simp only [List.length_append]; omega)
          obtain ⟨σ4, o4, r4, P4, g4⟩ := P3.chr hO.f (c := 32) (by decide) (by simp only [List.length_append]; omega)
          obtain ⟨σ5, o5, r5, P5, g5⟩ := P4.int hO.f (z := shTN S.1.1 r i false) (by omega) (by simp only [List.length_append]; omega)
          obtain ⟨σ6, o6, r6, P6, g6⟩ := P5.chr hO.f (c := 47) (by decide) (by simp only [List.length_append]; omega)
          obtain ⟨σ7, o7, r7, P7, g7⟩ := P6.int hO.f (z := shTN S.1.1 r i true) (by omega) (by simp only [List.length_append]; omega)
          unfold b_X1_writeParts_41
          rw [P1.nn, r2, bd_J, P2.nn, r3, bd_J, P3.nn]
          show WrO x S wa dq sl bu re PA ka L n m o σ _ (bd (m_J3_append_3 re (Int32.ofNat 32) σ3) _)
          rw [r4, bd_J, nn_J (P4.W.r hr).2.1, cl_above hW P4.W hr (by omega), bd_J, P4.nn, r5, bd_J, P5.nn]
          show WrO x S wa dq sl bu re PA ka L n m o σ _ (bd (m_J3_append_3 re (Int32.ofNat 47) σ5) _)
          rw [r6, bd_J, nn_J (P6.W.r hr).2.1, cl_below hW P6.W hr (by omega), bd_J, P6.nn, r7, bd_J, lt_J, J_addL]
          refine ij (i + 1) g o7 σ7 _ 0 (by omega) (by omega) (K1.trans (g2.trans (g3.trans (g4.trans (g5.trans (g6.trans g7)))))) P7 ?_ ?_
          · rw [← es]
            simp only [List.append_assoc]
          · rw [if_neg]
            intro w
            rw [w] at e
            have := congrArg List.length e
            unfold ptx at this
            simp only [List.length_append, List.length_cons, List.length_nil] at this
            omega
        by_cases c2 : prtF S.1.1 r i = []
        · rw [hfl, if_pos c2, if_neg (by decide)]
          refine body 4 (by decide) ?_
          rw [hB, e, if_pos c2, c2]
          show B ++ [] ++ [32] ++ _ = B ++ ([] ++ ([32] ++ _))
          simp
        · rw [hfl, if_neg c2, if_pos rfl]
          refine body 5 (by decide) ?_
          rw [hB, e, if_neg c2]
          show B ++ _ ++ [44, 32] ++ _ = B ++ (_ ++ ([44, 32] ++ _))
          simp
  exact loop (S.1.1 5) 0 FU o σ B 1 (Nat.zero_add _) (by show _ < 4096; omega) KG.rf P (by show B = B ++ []; rw [List.append_nil]) rfl
theorem wr_over (hO : SSok S) {r : Nat} (hr : r < S.1.1 17) {M : List Nat} (hM : M ++ ovrF (S.1.1 (51 + 34 * r)) (S.1.1 17) = wrR S.1.1 S.1.2 r) : ∀ j i g (o : oW) (σ : cS) (B : List Nat), i + j = S.1.1 17 → j < g → PB o σ x S wa dq sl bu re PA ka L n m B → B = M ++ ovrF (S.1.1 (51 + 34 * r)) i → ∃ o' σ', b_X1_writeRule_72 x g (some (L (10 + r))) (Int32.ofNat i) σ = some (.inl (Int32.ofNat (wrR S.1.1 S.1.2 r).length), σ') ∧ PB o' σ' x S wa dq sl bu re PA ka L n m (wrR S.1.1 S.1.2 r) := by
  have hW := hO.1.1
  have h17 := hW.r
  have hov := hW.ov hr
  have hlen := wrR_len hW hr
  have elen := congrArg List.length hM
  rw [List.length_append] at elen
  intro j
  induction j with
  | zero =>
    intro i g o σ B hi hg P hB
    obtain ⟨g, rfl⟩ : ∃ g', g = g' + 1 := ⟨g - 1, by omega⟩
    have ei : i = S.1.1 17 := hi
    rw [b_X1_writeRule_72, gR_J P.xc rfl, gR_J P.W.w rfl, P.W.l.nn, P.W.l.size, bd_J, iJ_le (by omega) (by omega), if_pos (by omega), gR_J P.xc rfl, P.nn, P.len, bd_J, xl_J]
    rw [ei, hM] at hB
    rw [hB] at P ⊢
    exact ⟨o, σ, rfl, P⟩
  | succ j ij =>
    intro i g o σ B hi hg P hB
    obtain ⟨g, rfl⟩ : ∃ g', g = g' + 1 := ⟨g - 1, by omega⟩
    obtain ⟨-, rc, -⟩ := P.W.r hr
    have e : ovrF (S.1.1 (51 + 34 * r)) (i + 1) = if (S.1.1 (51 + 34 * r)).testBit i = true then ovrF (S.1.1 (51 + 34 * r)) i ++ 32 :: decN i else ovrF (S.1.1 (51 + 34 * r)) i := rfl
    have mono := ovrF_mono (m := S.1.1 (51 + 34 * r)) (k := i + 1) (S.1.1 17 - (i + 1))
    rw [show i + 1 + (S.1.1 17 - (i + 1)) = S.1.1 17 by omega] at mono
    rw [b_X1_writeRule_72, gR_J P.xc rfl, gR_J P.W.w rfl, P.W.l.nn, P.W.l.size, bd_J, iJ_le (by omega) (by omega), if_neg (by omega), nn_J rc]
    unfold m_X9_isOver
    rw [gI_J rc rfl, ite_pq (J_bit (by omega) (by omega))]
    cases hb : (S.1.1 (51 + 34 * r)).testBit i with
    | false =>
      rw [hb, if_neg (by decide)] at e
      rw [if_neg (by decide), show rz (0 : Int32) σ = some (0, σ) from rfl, bd_J, if_pos rfl, lt_J, J_addL]
      exact ij (i + 1) g o σ B (by omega) (by omega) P (by rw [e]; exact hB)
    | true =>
      rw [hb, if_pos rfl] at e
      rw [if_pos rfl, show rz (1 : Int32) σ = some (1, σ) from rfl, bd_J, if_neg (by decide), gR_J P.xc rfl]
      have el := congrArg List.length e
      have eB := congrArg List.length hB
      simp only [List.length_append, List.length_cons] at el eB
      obtain ⟨σ1, o1, r1, P1, -⟩ := P.chr hO.f (c := 32) (by decide) (by omega)
      obtain ⟨σ2, o2, r2, P2, -⟩ := P1.int hO.f (z := i) (by omega) (by rw [la1]; omega)
      rw [P.nn]
      show ∃ o' σ', bd (m_J3_append_3 re (Int32.ofNat 32) σ) _ = _ ∧ _
      rw [r1, bd_J, P1.nn, r2, bd_J, lt_J, J_addL]
      refine ij (i + 1) g o2 σ2 _ (by omega) (by omega) P2 ?_
      rw [hB, e]
      simp
end GWU
theorem pc_writeRule {o : oW} {σ : cS} {x : Nat} {S : SS} (h : CInv o σ x S) (hO : SSok S) (hR : Rm σ 7000 40000) (x1 : Int32) : CRs [2] x σ (m_X1_writeRule x x1 σ) S (sp_writeRule x1 S).1 (sp_writeRule x1 S).2.1 (sp_writeRule x1 S).2.2 := by
  have hR7 : Rm σ 700 3000 := hR.le (by decide) (by decide)
  obtain ⟨wa, dq, sl, bu, re, PA, ka, L, u, P⟩ := h.px
  have hW := hO.1.1
  have hc := casesN_le hW.1
  obtain ⟨⟨hS, hK⟩, hX, hC, f, f1, f2, f3⟩ := P
  have f4 := cntN_le (fun n => (f n).isNone) (casesN S.1.1)
  have P' : PX o σ x S wa dq sl bu re PA ka L 256 := ⟨⟨hS, hK⟩, hX, hC, f, f1, f2, by omega⟩
  unfold m_X1_writeRule sp_writeRule
  rw [nn_J hX.1.2, cz_rule hW hX.1.2 hC (hR.le (by decide) (by decide))]
  cases hb : inB x1 (S.1.1 17) with
  | false =>
    rw [if_neg (by decide), if_neg (by decide), bdx_t hR7]
    exact CRs.t (j := 0) hR7 rfl
  | true =>
    obtain ⟨r, hr, rfl⟩ := inB_of hb
    have h17 := hW.r
    have hlen := wrR_len hW hr
    obtain ⟨σ1, o1, p, e1, P1, -⟩ := pb_new (n := 0) (m := 0) P' hO.f (hR.le (by omega) (by omega))
    obtain ⟨-, rc, -, rg⟩ := P1.W.r hr
    have ew : wrR S.1.1 S.1.2 r = gW 9 (S.1.2 r) ++ [32, 103, 105, 118, 101, 115] ++ prtT S.1.1 r ++ ovrT S.1.1 r ++ ovrF (S.1.1 (51 + 34 * r)) (S.1.1 17) := by
      unfold wrR
      simp only [List.append_assoc]
    have el := congrArg List.length ew
    simp only [List.length_append] at el
    have q6 : [32, 103, 105, 118, 101, 115].length = 6 := rfl
    obtain ⟨σ2, o2, r2, P2, -⟩ := cl_write hO.f 20 DPC _ _ o1 σ1 [] (by decide) P1 rg (by show (gW 9 (S.1.2 r)).length ≤ 890; omega)
    obtain ⟨σ3, o3, r3, P3, -⟩ := P2.con hO.f (k := 8) (by decide) (by decide) (by show (gW 9 (S.1.2 r)).length + 6 ≤ 900; omega)
    have b3 : ([] ++ gW 9 (S.1.2 r) ++ txL.getD 8 []).length = (gW 9 (S.1.2 r)).length + 6 := by
      show (gW 9 (S.1.2 r) ++ [32, 103, 105, 118, 101, 115]).length = _
      rw [List.length_append]
      rfl
    obtain ⟨σ4, o4, r4, P4, -⟩ := w_parts hO hr P3 (by rw [b3]; omega)
    obtain ⟨-, rc4, -⟩ := P4.W.r hr
    rw [if_pos rfl, if_pos rfl, bdx_l, J_cl (by omega), e1, gR_J rc rfl, gR_J P1.xc rfl, icl_J, r2, bd_J, gR_J P2.xc rfl, P2.nn]
    show CRs [2] x σ (bd (m_J3_append_2 p (some (σ2.2 (20 + 8))) σ2) _) _ _ _ _
    rw [r3, bd_J, nn_J P3.xc, r4, bd_J, gR_J P4.xc rfl, gI_J rc4 rfl]
    have hov := hW.ov hr
    have fin : ∀ s, (s < 35 ∧ (txL.getD s []).length ≤ 10) → txL.getD s [] = ovrT S.1.1 r → CRs [2] x σ (b_X1_writeRule_66 x (some (L (10 + r))) (some p) (some (σ4.2 (20 + s))) σ4) S 0 (Int32.ofNat (wrR S.1.1 S.1.2 r).length) (rpS S (wrR S.1.1 S.1.2 r)) := by
      intro s hs es
      have b4 : ([] ++ gW 9 (S.1.2 r) ++ txL.getD 8 [] ++ prtT S.1.1 r).length = (gW 9 (S.1.2 r)).length + 6 + (prtT S.1.1 r).length := by
        rw [List.length_append, b3]
      obtain ⟨σ5, o5, r5, P5, -⟩ := P4.con hO.f hs.1 hs.2 (by rw [b4, es]; omega)
      rw [es] at P5
      obtain ⟨o6, σ6, r6, P6⟩ := wr_over (M := [] ++ gW 9 (S.1.2 r) ++ txL.getD 8 [] ++ prtT S.1.1 r ++ ovrT S.1.1 r) hO hr (by rw [ew]; rfl) (S.1.1 17) 0 FU o5 σ5 _ (Nat.zero_add _) (by show _ < 4096; omega) P5 (by show _ = _ ++ []; rw [List.append_nil])
      unfold b_X1_writeRule_66
      rw [P4.nn, r5, bd_J]
      show CRs [2] x σ (b_X1_writeRule_72 x FU (some (L (10 + r))) (Int32.ofNat 0) σ5) _ _ _ _
      rw [r6]
      exact CRs.k P6.C
    rw [iJ_eqL (by omega) (by decide)]
    by_cases c : S.1.1 (51 + 34 * r) = 0
    · rw [if_pos (show S.1.1 (51 + 34 * r) = OfNat.ofNat 0 from c)]
      exact fin 7 (by decide) (by unfold ovrT; rw [if_pos c]; rfl)
    · rw [if_neg (show ¬ S.1.1 (51 + 34 * r) = OfNat.ofNat 0 from c)]
      exact fin 9 (by decide) (by unfold ovrT; rw [if_neg c]; rfl)
