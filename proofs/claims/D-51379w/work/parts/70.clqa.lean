/-! THE PLAIN LAW, the class' side: the questions one by one -/
set_option maxRecDepth 100000
theorem setF_bit {d : Nat → Nat} {t : Nat → Term} {n : Nat} : ∀ k r, (setF d t n k).testBit r = (decide (r < k) && holdsB d t r n) := by
  intro k
  induction k with
  | zero => intro r; show (0 : Nat).testBit r = _; simp
  | succ k ih =>
    intro r
    show (setF d t n k ||| (if holdsB d t k n then 2 ^ k else 0)).testBit r = _
    rw [Nat.testBit_or, ih]
    by_cases e : r = k
    · subst e
      cases hh : holdsB d t r n with
      | false => simp
      | true => simp [Nat.testBit_two_pow]
    · have : (if holdsB d t k n then 2 ^ k else 0).testBit r = false := by
        split
        · rw [Nat.testBit_two_pow]; exact decide_eq_false (Ne.symm e)
        · simp
      rw [this, Bool.or_false]
      congr 1
      apply decide_eq_decide.mpr
      omega
theorem setN_bit {d : Nat → Nat} {t : Nat → Term} {n r : Nat} (hr : r < d 17) : (setN d t n).testBit r = holdsB d t r n := by
  unfold setN
  rw [setF_bit, decide_eq_true hr, Bool.true_and]
section CLR
variable {o : oW} {σ0 σ : cS} {x wa dq sl bu re u v : Nat} {L d : Nat → Nat} {t : Nat → Term}
theorem inB_J {a b : Nat} (h : a < b) (hb : b < 2147483648) : inB (Int32.ofNat a) b = true := decide_eq_true (by rw [J_int (by omega)]; omega)
theorem cl_beaters (hW : WOk d t) (hx : σ.1 x = some (.inr (0, mF wa dq sl bu re))) (W : WillC o σ wa L d t) {r : Nat} (hr : r < 31) : m_X1_beaters x (Int32.ofNat r) σ = some (Int32.ofNat (ovN d r), σ) := by
  have h17 := hW.r
  unfold m_X1_beaters
  refine loop_FU (fun g k => b_X1_beaters_4 x g (Int32.ofNat r) (Int32.ofNat (ovF d r k)) (Int32.ofNat k) σ) (fun _ => some (Int32.ofNat (ovN d r), σ)) (d 17) (by omega) (fun g k hk ih => ?_) (fun g => ?_)
  · show b_X1_beaters_4 x (g + 1) _ _ _ _ = _
    have rc := W.r hk
    have ho := hW.ov hk
    have e : ovF d r (k + 1) = ovF d r k ||| (if (d (51 + 34 * k)).testBit r then 2 ^ k else 0) := rfl
    rw [e] at ih
    rw [b_X1_beaters_4, gR_J hx rfl, gR_J W.w rfl, W.l.nn, W.l.size, bd_J, iJ_le (by omega) (by omega), if_neg (by omega), gR_J hx rfl, gR_J W.w rfl, W.l.nn, W.l.get hk, bd_J, cst_J rc.2.1 (by decide) rfl, nn_J rc.2.1]
    unfold m_X9_isOver
    rw [gI_J rc.2.1 rfl, ite_pq (J_bit (by omega) (by omega))]
    cases c : (d (51 + 34 * k)).testBit r with
    | true =>
      rw [c, if_pos rfl] at ih
      rw [if_pos rfl, rzc1, bd_J, if_neg (by decide), J_shl k (by omega), J_or, lt_J, lt_J, J_addL]
      exact ih
    | false =>
      rw [c, if_neg (by decide)] at ih
      rw [if_neg (by decide), rzc0, bd_J, if_pos rfl, J_orL, lt_J, lt_J, J_addL]
      exact ih
  · show b_X1_beaters_4 x (g + 1) _ _ _ _ = _
    rw [b_X1_beaters_4, gR_J hx rfl, gR_J W.w rfl, W.l.nn, W.l.size, bd_J, iJ_le (by omega) (by omega), if_pos (Nat.le_refl _)]
    rfl
theorem rd_heir (hW : WOk d t) (Q : QS o σ0 x wa dq sl bu re) (D : RD o σ0 wa L d t (u + 1) (v + 3) σ) (hv : 3 ≤ v) {h w : Nat} (hh : h < d 5) (hw : w < 7) : Rt (RD o σ0 wa L d t u v) (m_X1_heir x (Int32.ofNat h) (Int32.ofNat w) σ) (.inl (heirI d t h w)) := by
  have h5 := hW.h
  have h6 := hW.rest
  have h8 := hW.2.2.2.2.1
  have hx := Q.g D
  have hl : ∀ n, (fun n => partN d (setlN d (setN d t n)) h) n ≤ 40000 := fun n => by
    have := partN_le hW (h := h) (setl_o hW n) (by omega)
    have := hW.e
    show partN d (setlN d (setN d t n)) h ≤ 40000
    omega
  have D0 : RD o σ0 wa L d t u v σ := D.le (by omega) (by omega)
  unfold m_X1_heir
  rw [nn_J hx, cz_heir hW hx D.W (D.rm (by omega) (by omega)), inB_J hh (by omega), if_pos rfl, bdx_l, cz_in (n := 7) (by decide), inB_J hw (by decide), if_pos rfl, bdx_l]
  rw [iJ_eqL (by omega) (by decide)]
  by_cases c0 : w = 0
  · subst c0
    rw [if_pos rfl, gR_J hx rfl, gR_J D.W.w rfl, D.W.f.ld (show h < 4 by omega) (by decide), xl_J]
    exact Rt.mk D0
  rw [if_neg (show ¬ w = OfNat.ofNat 0 from c0), iJ_eqL (by omega) (by decide)]
  by_cases c1 : w = 1
  · subst c1
    rw [if_pos rfl, gR_J hx rfl, gR_J D.W.w rfl, D.W.ra.ld (show h < 4 by omega) (by decide), xl_J]
    exact Rt.mk D0
  rw [if_neg (show ¬ w = OfNat.ofNat 1 from c1), iJ_eqL (by omega) (by decide)]
  by_cases c2 : w = 2
  · subst c2
    rw [if_pos rfl, gR_J hx rfl, gI_J D.W.w rfl, iJ_eq (by omega) (by omega)]
    show Rt _ _ (Sum.inl (b32 (decide (d 6 = h))))
    by_cases c : d 6 = h
    · rw [if_pos c, decide_eq_true c, xl_J]; exact Rt.mk D0
    · rw [if_neg c, decide_eq_false c, xl_J]; exact Rt.mk D0
  rw [if_neg (show ¬ w = OfNat.ofNat 2 from c2), iJ_eqL (by omega) (by decide)]
  by_cases c3 : w = 3
  · subst c3
    rw [if_pos rfl, gR_J hx rfl, gR_J hx rfl, gI_J D.W.w rfl, nn_J D.W.w]
    refine Rt.bd (cl_gets hW D0 h8 hh) (fun σ1 D1 => ?_)
    exact Rt.mk D1
  rw [if_neg (show ¬ w = OfNat.ofNat 3 from c3), iJ_eqL (by omega) (by decide)]
  by_cases c4 : w = 4
  · subst c4
    rw [if_pos rfl, gR_J hx rfl, gR_J hx rfl, gI_J D.W.w rfl, nn_J D.W.w]
    refine Rt.bd (cl_duty hW D0 h8 hh) (fun σ1 D1 => ?_)
    exact Rt.mk D1
  rw [if_neg (show ¬ w = OfNat.ofNat 4 from c4), iJ_eqL (by omega) (by decide)]
  by_cases c5 : w = 5
  · subst c5
    obtain ⟨r, D1, Q1, g⟩ := lam_new Q hW.1 D (c := 68) (k := 2) (fs := [.ref x, .int (Int32.ofNat h)]) (by decide)
    rw [if_pos rfl, nO_J r.1 r.2, nn_J Q1.c]
    refine Rt.bdx (cl_overS hW Q1 D1.base hl false rfl (lg_gets hW Q1 hh (Or.inl rfl) g)) (fun σ2 D2 => ?_)
    show Rt _ _ (Sum.inl (o32 (extF d t h (decide (5 = 6)) (casesN d))))
    rw [xl_J, extF_G hW]
    exact Rt.mk (D2.to D1)
  · have c6 : w = 6 := by omega
    subst c6
    obtain ⟨r, D1, Q1, g⟩ := lam_new Q hW.1 D (c := 69) (k := 2) (fs := [.ref x, .int (Int32.ofNat h)]) (by decide)
    rw [if_neg (by decide), nO_J r.1 r.2, nn_J Q1.c]
    refine Rt.bdx (cl_overS hW Q1 D1.base hl true rfl (lg_gets hW Q1 hh (Or.inr rfl) g)) (fun σ2 D2 => ?_)
    show Rt _ _ (Sum.inl (o32 (extF d t h (decide (6 = 6)) (casesN d))))
    rw [xl_J, extF_G hW]
    exact Rt.mk (D2.to D1)
theorem rd_rule (hW : WOk d t) (Q : QS o σ0 x wa dq sl bu re) (D : RD o σ0 wa L d t (u + 1) (v + 3) σ) (hv : 3 ≤ v) {r w : Nat} (hr : r < d 17) (hw : w < 6) : Rt (RD o σ0 wa L d t u v) (m_X1_rule x (Int32.ofNat r) (Int32.ofNat w) σ) (.inl (Int32.ofNat (rulI d t r w))) := by
  have h17 := hW.r
  have hx := Q.g D
  have rc := D.W.r hr
  have D0 : RD o σ0 wa L d t u v σ := D.le (by omega) (by omega)
  unfold m_X1_rule
  rw [nn_J hx, cz_rule hW hx D.W (D.rm (by omega) (by omega)), inB_J hr (by omega), if_pos rfl, bdx_l, cz_in (n := 6) (by decide), inB_J hw (by decide), if_pos rfl, bdx_l, J_cl (by omega)]
  rw [iJ_eqL (by omega) (by decide)]
  by_cases c0 : w = 0
  · subst c0
    obtain ⟨r1, D1, Q1, g⟩ := lam_new Q hW.1 D (c := 70 + 0) (k := 2) (fs := [.ref x, .int (Int32.ofNat r)]) (by decide)
    rw [if_pos rfl, nO_J r1.1 r1.2, nn_J Q1.c]
    refine Rt.bdx (cl_sum hW.1 Q1 D1.base (lg_rule hW Q1 hr (by decide) g)) (fun σ2 D2 => ?_)
    rw [xl_J, smI_c]
    exact Rt.mk (D2.to D1)
  rw [if_neg (show ¬ w = OfNat.ofNat 0 from c0), iJ_eqL (by omega) (by decide)]
  by_cases c1 : w = 1
  · subst c1
    obtain ⟨r1, D1, Q1, g⟩ := lam_new Q hW.1 D (c := 70 + 1) (k := 2) (fs := [.ref x, .int (Int32.ofNat r)]) (by decide)
    rw [if_pos rfl, nO_J r1.1 r1.2, nn_J Q1.c]
    refine Rt.bdx (cl_sum hW.1 Q1 D1.base (lg_rule hW Q1 hr (by decide) g)) (fun σ2 D2 => ?_)
    rw [xl_J, smI_c]
    exact Rt.mk (D2.to D1)
  rw [if_neg (show ¬ w = OfNat.ofNat 1 from c1), iJ_eqL (by omega) (by decide)]
  by_cases c2 : w = 2
  · subst c2
    obtain ⟨r1, D1, Q1, g⟩ := lam_new Q hW.1 D (c := 70 + 2) (k := 2) (fs := [.ref x, .int (Int32.ofNat r)]) (by decide)
    rw [if_pos rfl, nO_J r1.1 r1.2, nn_J Q1.c]
    refine Rt.bdx (cl_sum hW.1 Q1 D1.base (lg_rule hW Q1 hr (by decide) g)) (fun σ2 D2 => ?_)
    rw [xl_J, smI_c]
    exact Rt.mk (D2.to D1)
  rw [if_neg (show ¬ w = OfNat.ofNat 2 from c2), iJ_eqL (by omega) (by decide)]
  by_cases c3 : w = 3
  · subst c3
    rw [if_pos rfl, gI_J rc.2.1 rfl, xl_J]
    exact Rt.mk D0
  rw [if_neg (show ¬ w = OfNat.ofNat 3 from c3), iJ_eqL (by omega) (by decide)]
  by_cases c4 : w = 4
  · subst c4
    rw [if_pos rfl, gI_J rc.2.1 rfl, xl_J]
    exact Rt.mk D0
  · have c5 : w = 5 := by omega
    subst c5
    rw [if_neg (by decide), nn_J hx, cl_beaters hW hx D.W (by omega), bd_J, xl_J]
    exact Rt.mk D0
theorem rd_share (hW : WOk d t) (Q : QS o σ0 x wa dq sl bu re) (D : RD o σ0 wa L d t u v σ) (hu : 1 ≤ u) (hv : 6 ≤ v) {r h : Nat} (hr : r < d 17) (hh : h < d 5) (b : Bool) : Rt (RD o σ0 wa L d t u v) (m_X1_share x (Int32.ofNat r) (Int32.ofNat h) (b32 b) σ) (.inl (Int32.ofNat (shTN d r h b))) := by
  have h17 := hW.r
  have h5 := hW.h
  have hx := Q.g D
  have rc := D.W.r hr
  unfold m_X1_share
  rw [nn_J hx, cz_rule hW hx D.W (D.rm hu hv), inB_J hr (by omega), if_pos rfl, bdx_l, nn_J hx, cz_heir hW hx D.W (D.rm hu hv), inB_J hh (by omega), if_pos rfl, bdx_l, J_cl (by omega), ite_pq (b32_0 _)]
  cases b with
  | false => rw [if_pos rfl, nn_J rc.2.1, cl_above hW D.W hr (by omega), bd_J, xl_J]; exact Rt.mk D
  | true => rw [if_neg (by decide), nn_J rc.2.1, cl_below hW D.W hr (by omega), bd_J, xl_J]; exact Rt.mk D
theorem rd_verdict (hW : WOk d t) (Q : QS o σ0 x wa dq sl bu re) (D : RD o σ0 wa L d t u v σ) {n : Nat} (hn : n < casesN d) : Rt (RD o σ0 wa L d t u v) (m_X1_verdict x (Int32.ofNat n) σ) (.inl (Int32.ofNat (verdN d (setN d t n)))) := by
  have hc := casesN_le hW.1
  have hx := Q.g D
  obtain ⟨q, σ1, e, D1, ⟨-, row, -, qc, -⟩, -⟩ := cl_look hW D hn
  unfold m_X1_verdict
  rw [nn_J hx, cz_case hW.1 hx D.W, inB_J hn (by omega), if_pos rfl, bdx_l, gR_J hx rfl, nn_J D.W.w, e, bd_J, gI_J qc rfl, xl_J]
  exact Rt.mk D1
theorem rd_settledBy (hW : WOk d t) (Q : QS o σ0 x wa dq sl bu re) (D : RD o σ0 wa L d t u v σ) {n : Nat} (hn : n < casesN d) : Rt (RD o σ0 wa L d t u v) (m_X1_settledBy x (Int32.ofNat n) σ) (.inl (o32 (setlN d (setN d t n)))) := by
  have hc := casesN_le hW.1
  have hx := Q.g D
  obtain ⟨q, σ1, e, D1, ⟨-, row, -, qc, -⟩, -⟩ := cl_look hW D hn
  unfold m_X1_settledBy
  rw [nn_J hx, cz_case hW.1 hx D.W, inB_J hn (by omega), if_pos rfl, bdx_l, gR_J hx rfl, nn_J D.W.w, e, bd_J, gI_J qc rfl, xl_J]
  exact Rt.mk D1
theorem J_algS (a b c : Int32) : a - b + c = a + c - b := by
  rw [Int32.sub_eq_add_neg, Int32.sub_eq_add_neg, Int32.add_assoc, Int32.add_comm (-b) c, ← Int32.add_assoc]
/-- how many wills lie in the past -/
theorem dq_size {PA : List Nat} (h : DQc o σ x dq PA) : m_J1_size dq σ = some (Int32.ofNat PA.length, σ) := by
  obtain ⟨-, da, hd, f, -, h1, h2, ⟨h3, h4⟩, -⟩ := h
  unfold m_J1_size m_J1_sub
  rw [gI_J h1 rfl, gI_J h1 rfl, gR_J h1 rfl, aL_J h2 (by show 2 < 6; decide), lt_J]
  dsimp only
  by_cases c : hd + PA.length < 17
  · rw [Nat.mod_eq_of_lt c, J_sub (by omega), if_pos, Nat.add_sub_cancel_left, bd_J]
    rw [show (0 : Int32) = Int32.ofNat 0 from rfl, J_le (by decide) (by omega)]
    exact Nat.zero_le _
  · have e : (hd + PA.length) % 17 = hd + PA.length - 17 := by omega
    rw [e, if_neg, lt_J, J_algS, J_add, J_sub (by omega), show hd + PA.length - 17 + 17 - hd = PA.length by omega, bd_J]
    intro w
    have w := Int32.le_iff_toInt_le.mp w
    rw [J_subI (by omega) (by omega)] at w
    have h0 : (0 : Int32).toInt = 0 := rfl
    omega
theorem sb_len {k p : Nat} {B : List Nat} (h : SBc o σ x k p B) : m_J3_length p σ = some (Int32.ofNat B.length, σ) := by
  obtain ⟨-, b, cap, f, ml, -, h1, -⟩ := h
  unfold m_J3_length m_J2_length
  rw [nn_J h1, gI_J h1 rfl, bd_J]
theorem sb_nn {β : Type} {k p : Nat} {B : List Nat} {K : Nat → Option β} (h : SBc o σ x k p B) : nn σ (some p) 11 K = K p := by
  obtain ⟨-, b, cap, f, ml, -, h1, -⟩ := h
  exact nn_J h1
theorem dq_nn {β : Type} {PA : List Nat} {K : Nat → Option β} (h : DQc o σ x dq PA) : nn σ (some dq) 10 K = K dq := by
  obtain ⟨-, da, hd, f, -, h1, -⟩ := h
  exact nn_J h1
theorem rd_size (hW : WOk d t) (Q : QS o σ0 x wa dq sl bu re) (D : RD o σ0 wa L d t u v σ) {w p b r : Nat} (hw : w < 11) : Rt (RD o σ0 wa L d t u v) (m_X1_size x (Int32.ofNat w) σ) (.inl (Int32.ofNat (sizI d t p b r w))) := by
  have hx := Q.g D
  unfold m_X1_size
  rw [cz_in (n := 14) (by decide), inB_J (show w < 14 by omega) (by decide), if_pos rfl, bdx_l]
  rw [iJ_eqL (by omega) (by decide)]
  by_cases c0 : w = 0
  · subst c0
    rw [if_pos rfl, gR_J hx rfl, gR_J D.W.w rfl, D.W.v.len, xl_J]
    exact Rt.mk D
  rw [if_neg (show ¬ w = OfNat.ofNat 0 from c0), iJ_eqL (by omega) (by decide)]
  by_cases c1 : w = 1
  · subst c1
    rw [if_pos rfl, gR_J hx rfl, gI_J D.W.w rfl, xl_J]
    exact Rt.mk D
  rw [if_neg (show ¬ w = OfNat.ofNat 1 from c1), iJ_eqL (by omega) (by decide)]
  by_cases c2 : w = 2
  · subst c2
    rw [if_pos rfl, gR_J hx rfl, gR_J D.W.w rfl, D.W.l.nn, D.W.l.size, bd_J, xl_J]
    exact Rt.mk D
  rw [if_neg (show ¬ w = OfNat.ofNat 2 from c2), iJ_eqL (by omega) (by decide)]
  by_cases c3 : w = 3
  · subst c3
    rw [if_pos rfl, gR_J hx rfl, nn_J D.W.w, cl_cases hW.1 D.W, bd_J, xl_J]
    exact Rt.mk D
  rw [if_neg (show ¬ w = OfNat.ofNat 3 from c3), iJ_eqL (by omega) (by decide)]
  by_cases c4 : w = 4
  · subst c4
    rw [if_pos rfl, gR_J hx rfl, gI_J D.W.w rfl, xl_J]
    exact Rt.mk D
  rw [if_neg (show ¬ w = OfNat.ofNat 4 from c4), iJ_eqL (by omega) (by decide)]
  by_cases c5 : w = 5
  · subst c5
    rw [if_pos rfl, gR_J hx rfl, gI_J D.W.w rfl, xl_J]
    exact Rt.mk D
  rw [if_neg (show ¬ w = OfNat.ofNat 5 from c5), iJ_eqL (by omega) (by decide)]
  by_cases c6 : w = 6
  · subst c6
    rw [if_pos rfl, gR_J hx rfl, gI_J D.W.w rfl, xl_J]
    exact Rt.mk D
  rw [if_neg (show ¬ w = OfNat.ofNat 6 from c6)]
  have hs : sizI d t p b r w = manyN d t (w - 7) none := by
    unfold sizI
    rw [if_neg c0, if_neg c1, if_neg c2, if_neg c3, if_neg c4, if_neg c5, if_neg c6, if_neg (by omega), if_neg (by omega), if_neg (by omega)]
  have key : Rt (RD o σ0 wa L d t u v) (b_X1_size_150 x (Int32.ofNat w) σ) (.inl (Int32.ofNat (sizI d t p b r w))) := by
    unfold b_X1_size_150
    rw [gR_J hx rfl, nn_J D.W.w, J_subL (show 7 ≤ w by omega), hs]
    refine Rt.bd (cl_many hW D (v := w - OfNat.ofNat 7) (by show w - 7 ≤ 3; omega)) (fun σ1 D1 => ?_)
    rw [xl_J]
    exact Rt.mk D1
  rw [iJ_eqL (by omega) (by decide)]
  by_cases c7 : w = 7
  · rw [if_pos (show w = OfNat.ofNat 7 from c7)]; exact key
  rw [if_neg (show ¬ w = OfNat.ofNat 7 from c7), iJ_eqL (by omega) (by decide)]
  by_cases c8 : w = 8
  · rw [if_pos (show w = OfNat.ofNat 8 from c8)]; exact key
  rw [if_neg (show ¬ w = OfNat.ofNat 8 from c8), iJ_eqL (by omega) (by decide)]
  by_cases c9 : w = 9
  · rw [if_pos (show w = OfNat.ofNat 9 from c9)]; exact key
  rw [if_neg (show ¬ w = OfNat.ofNat 9 from c9), iJ_eqL (by omega) (by decide), if_pos (show w = OfNat.ofNat 10 by show w = 10; omega)]
  exact key
end CLR
theorem pc_size {o : oW} {σ : cS} {x : Nat} {S : SS} (h : CInv o σ x S) (hO : SSok S) (hR : Rm σ 700 3000) (x1 : Int32) : CRs [1] x σ (m_X1_size x x1 σ) S (sp_size x1 S).1 (sp_size x1 S).2.1 (sp_size x1 S).2.2 := by
  obtain ⟨wa, L, dq, sl, bu, re, Q, D, fin, ⟨PA, hq, hp⟩, hb, hr⟩ := h.ask hO hR
  have hx := Q.c
  unfold sp_size
  cases hc : inB x1 14 with
  | false =>
    unfold m_X1_size
    rw [cz_in (n := 14) (by decide), hc, if_neg (by decide), if_neg (by decide), bdx_t hR]
    exact CRs.t (j := 0) hR rfl
  | true =>
    obtain ⟨w, hw, rfl⟩ := inB_of hc
    rw [if_pos rfl, J_cl (by omega)]
    by_cases c : w < 11
    · obtain ⟨σ1, e, D1⟩ := rd_size hO.1.1 Q D (w := w) (p := S.2.1.length) (b := S.2.2.2.1.length) (r := S.2.2.2.2.length) c
      rw [e]
      exact CRs.k (fin _ _ _ D1)
    · unfold m_X1_size
      rw [cz_in (n := 14) (by decide), hc, if_pos rfl, bdx_l]
      obtain rfl | rfl | rfl : w = 11 ∨ w = 12 ∨ w = 13 := by omega
      · rw [if_neg (by decide), if_neg (by decide), if_neg (by decide), if_neg (by decide), if_neg (by decide), if_neg (by decide), if_neg (by decide), if_neg (by decide), if_neg (by decide), if_neg (by decide), if_neg (by decide), if_pos (by decide), gR_J hx rfl, dq_nn hq, dq_size hq, bd_J, xl_J, hp]
        exact CRs.k (fin _ _ _ D)
      · rw [if_neg (by decide), if_neg (by decide), if_neg (by decide), if_neg (by decide), if_neg (by decide), if_neg (by decide), if_neg (by decide), if_neg (by decide), if_neg (by decide), if_neg (by decide), if_neg (by decide), if_neg (by decide), if_pos (by decide), gR_J hx rfl, sb_nn hb, sb_len hb, bd_J, xl_J]
        exact CRs.k (fin _ _ _ D)
      · rw [if_neg (by decide), if_neg (by decide), if_neg (by decide), if_neg (by decide), if_neg (by decide), if_neg (by decide), if_neg (by decide), if_neg (by decide), if_neg (by decide), if_neg (by decide), if_neg (by decide), if_neg (by decide), if_neg (by decide), gR_J hx rfl, sb_nn hr, sb_len hr, bd_J, xl_J]
        exact CRs.k (fin _ _ _ D)
theorem pc_values {o : oW} {σ : cS} {x : Nat} {S : SS} (h : CInv o σ x S) (hO : SSok S) (hR : Rm σ 700 3000) (x1 : Int32) : CRs [2] x σ (m_X1_values x x1 σ) S (sp_values x1 S).1 (sp_values x1 S).2.1 (sp_values x1 S).2.2 := by
  obtain ⟨wa, L, dq, sl, bu, re, Q, D, fin, -⟩ := h.ask hO hR
  have hW := hO.1.1
  have h0 := hW.1.1
  unfold m_X1_values sp_values
  rw [nn_J Q.c, cz_fact hW Q.c D.W (D.rm (by decide) (by decide))]
  cases hb : inB x1 (S.1.1 0) with
  | false => rw [if_neg (by decide), if_neg (by decide), bdx_t hR]; exact CRs.t (j := 0) hR rfl
  | true =>
    obtain ⟨k, hk, rfl⟩ := inB_of hb
    rw [if_pos (by decide), if_pos (by decide), bdx_l, gR_J Q.c rfl, gR_J D.W.w rfl, D.W.v.ld hk (by omega), J_cl (by omega), xl_J]
    exact CRs.k (fin _ _ _ D)
theorem pc_valueIn {o : oW} {σ : cS} {x : Nat} {S : SS} (h : CInv o σ x S) (hO : SSok S) (hR : Rm σ 700 3000) (x1 x2 : Int32) : CRs [3, 2] x σ (m_X1_valueIn x x1 x2 σ) S (sp_valueIn x1 x2 S).1 (sp_valueIn x1 x2 S).2.1 (sp_valueIn x1 x2 S).2.2 := by
  obtain ⟨wa, L, dq, sl, bu, re, Q, D, fin, -⟩ := h.ask hO hR
  have hW := hO.1.1
  have h0 := hW.1.1
  have hc := casesN_le hW.1
  unfold m_X1_valueIn sp_valueIn
  rw [nn_J Q.c, cz_case hW.1 Q.c D.W]
  cases hb : inB x1 (casesN S.1.1) with
  | false => rw [if_neg (by decide), if_neg (show ¬ ((false && _) = true) by simp), bdx_t hR]; exact CRs.t (j := 0) hR rfl
  | true =>
    obtain ⟨n, hn, rfl⟩ := inB_of hb
    rw [if_pos rfl, bdx_l, nn_J Q.c, cz_fact hW Q.c D.W (D.rm (by decide) (by decide))]
    cases hb2 : inB x2 (S.1.1 0) with
    | false => rw [if_neg (by decide), if_neg (by decide), bdx_t hR]; exact CRs.t (j := 1) hR rfl
    | true =>
      obtain ⟨k, hk, rfl⟩ := inB_of hb2
      obtain ⟨q, σ1, e, D1, ⟨-, row, -, qc, hI⟩, -⟩ := cl_look hW D hn
      rw [if_pos (by decide), if_pos (by decide), bdx_l, gR_J Q.c rfl, nn_J D.W.w, e, bd_J, gR_J qc rfl, hI.ld hk (by omega), J_cl (by omega), J_cl (by omega), xl_J]
      exact CRs.k (fin _ _ _ D1)
theorem pc_heir {o : oW} {σ : cS} {x : Nat} {S : SS} (h : CInv o σ x S) (hO : SSok S) (hR : Rm σ 700 3000) (x1 x2 : Int32) : CRs [2, 1] x σ (m_X1_heir x x1 x2 σ) S (sp_heir x1 x2 S).1 (sp_heir x1 x2 S).2.1 (sp_heir x1 x2 S).2.2 := by
  obtain ⟨wa, L, dq, sl, bu, re, Q, D, fin, -⟩ := h.ask hO hR
  have hW := hO.1.1
  have h5 := hW.h
  unfold sp_heir
  cases hb : inB x1 (S.1.1 5) with
  | false =>
    unfold m_X1_heir
    rw [nn_J Q.c, cz_heir hW Q.c D.W (D.rm (by decide) (by decide)), hb, if_neg (by decide), if_neg (show ¬ ((false && _) = true) by simp), bdx_t hR]
    exact CRs.t (j := 0) hR rfl
  | true =>
    cases hb2 : inB x2 7 with
    | false =>
      unfold m_X1_heir
      rw [nn_J Q.c, cz_heir hW Q.c D.W (D.rm (by decide) (by decide)), hb, if_pos rfl, bdx_l, cz_in (n := 7) (by decide), hb2, if_neg (by decide), if_neg (by decide), bdx_t hR]
      exact CRs.t (j := 1) hR rfl
    | true =>
      obtain ⟨k, hk, rfl⟩ := inB_of hb
      obtain ⟨w, hw, rfl⟩ := inB_of hb2
      obtain ⟨σ1, e, D1⟩ := rd_heir hW Q (u := 187) (v := 693) D (by decide) hk hw
      rw [if_pos (by decide), J_cl (by omega), J_cl (by omega), e]
      exact CRs.k (fin _ _ _ D1)
theorem pc_rule {o : oW} {σ : cS} {x : Nat} {S : SS} (h : CInv o σ x S) (hO : SSok S) (hR : Rm σ 700 3000) (x1 x2 : Int32) : CRs [2, 1] x σ (m_X1_rule x x1 x2 σ) S (sp_rule x1 x2 S).1 (sp_rule x1 x2 S).2.1 (sp_rule x1 x2 S).2.2 := by
  obtain ⟨wa, L, dq, sl, bu, re, Q, D, fin, -⟩ := h.ask hO hR
  have hW := hO.1.1
  have h17 := hW.r
  unfold sp_rule
  cases hb : inB x1 (S.1.1 17) with
  | false =>
    unfold m_X1_rule
    rw [nn_J Q.c, cz_rule hW Q.c D.W (D.rm (by decide) (by decide)), hb, if_neg (by decide), if_neg (show ¬ ((false && _) = true) by simp), bdx_t hR]
    exact CRs.t (j := 0) hR rfl
  | true =>
    cases hb2 : inB x2 6 with
    | false =>
      unfold m_X1_rule
      rw [nn_J Q.c, cz_rule hW Q.c D.W (D.rm (by decide) (by decide)), hb, if_pos rfl, bdx_l, cz_in (n := 6) (by decide), hb2, if_neg (by decide), if_neg (by decide), bdx_t hR]
      exact CRs.t (j := 1) hR rfl
    | true =>
      obtain ⟨k, hk, rfl⟩ := inB_of hb
      obtain ⟨w, hw, rfl⟩ := inB_of hb2
      obtain ⟨σ1, e, D1⟩ := rd_rule hW Q (u := 187) (v := 693) D (by decide) hk hw
      rw [if_pos (by decide), J_cl (by omega), J_cl (by omega), e]
      exact CRs.k (fin _ _ _ D1)
theorem pc_share {o : oW} {σ : cS} {x : Nat} {S : SS} (h : CInv o σ x S) (hO : SSok S) (hR : Rm σ 700 3000) (x1 x2 : Int32) (b : Bool) : CRs [2] x σ (m_X1_share x x1 x2 (b32 b) σ) S (sp_share x1 x2 b S).1 (sp_share x1 x2 b S).2.1 (sp_share x1 x2 b S).2.2 := by
  obtain ⟨wa, L, dq, sl, bu, re, Q, D, fin, -⟩ := h.ask hO hR
  have hW := hO.1.1
  have h17 := hW.r
  have h5 := hW.h
  unfold sp_share
  cases hb : inB x1 (S.1.1 17) with
  | false =>
    unfold m_X1_share
    rw [nn_J Q.c, cz_rule hW Q.c D.W (D.rm (by decide) (by decide)), hb, if_neg (by decide), if_neg (show ¬ ((false && _) = true) by simp), bdx_t hR]
    exact CRs.t (j := 0) hR rfl
  | true =>
    cases hb2 : inB x2 (S.1.1 5) with
    | false =>
      unfold m_X1_share
      rw [nn_J Q.c, cz_rule hW Q.c D.W (D.rm (by decide) (by decide)), hb, if_pos rfl, bdx_l, nn_J Q.c, cz_heir hW Q.c D.W (D.rm (by decide) (by decide)), hb2, if_neg (by decide), if_neg (by decide), bdx_t hR]
      exact CRs.t (j := 0) hR rfl
    | true =>
      obtain ⟨k, hk, rfl⟩ := inB_of hb
      obtain ⟨w, hw, rfl⟩ := inB_of hb2
      obtain ⟨σ1, e, D1⟩ := rd_share hW Q D (by decide) (by decide) hk hw b
      rw [if_pos (by decide), J_cl (by omega), J_cl (by omega), e]
      exact CRs.k (fin _ _ _ D1)
theorem pc_applies {o : oW} {σ : cS} {x : Nat} {S : SS} (h : CInv o σ x S) (hO : SSok S) (hR : Rm σ 700 3000) (x1 x2 : Int32) : CRs [3, 2] x σ (m_X1_applies x x1 x2 σ) S (sp_applies x1 x2 S).1 (sp_applies x1 x2 S).2.1 (sp_applies x1 x2 S).2.2 := by
  obtain ⟨wa, L, dq, sl, bu, re, Q, D, fin, -⟩ := h.ask hO hR
  have hW := hO.1.1
  have h17 := hW.r
  have hc := casesN_le hW.1
  unfold sp_applies
  cases hb : inB x1 (casesN S.1.1) with
  | false =>
    unfold m_X1_applies
    rw [nn_J Q.c, cz_case hW.1 Q.c D.W, hb, if_neg (by decide), if_neg (show ¬ ((false && _) = true) by simp), bdx_t hR]
    exact CRs.t (j := 0) hR rfl
  | true =>
    cases hb2 : inB x2 (S.1.1 17) with
    | false =>
      unfold m_X1_applies
      rw [nn_J Q.c, cz_case hW.1 Q.c D.W, hb, if_pos rfl, bdx_l, nn_J Q.c, cz_rule hW Q.c D.W (D.rm (by decide) (by decide)), hb2, if_neg (by decide), if_neg (by decide), bdx_t hR]
      exact CRs.t (j := 1) hR rfl
    | true =>
      obtain ⟨k, hk, rfl⟩ := inB_of hb
      obtain ⟨w, hw, rfl⟩ := inB_of hb2
      obtain ⟨σ1, e, D1⟩ := cl_applies hW Q D (by decide) (by decide) hk hw
      rw [if_pos (by decide), J_cl (by omega), J_cl (by omega), e, setN_bit hw]
      exact CRs.k (fin _ _ _ D1)
