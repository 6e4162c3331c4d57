/-! THE PLAIN LAW, the class' side: the last questions -/
set_option maxRecDepth 100000
theorem firstF_s {p : Nat → Bool} {j k : Nat} : firstF p (j + 1) k = if p k then some k else firstF p j (k + 1) := rfl
theorem apN_comm (d : Nat → Nat) (n m : Nat) : apN d n m = apN d m n := by
  unfold apN
  congr 1
  funext f
  congr 1
  apply decide_eq_decide.mpr
  exact ⟨fun w => w.symm, fun w => w.symm⟩
section CLD
variable {o : oW} {σ0 σ : cS} {x wa dq sl bu re u v : Nat} {L d : Nat → Nat} {t : Nat → Term}
theorem cl_distance (hW : WOk d t) (Q : QS o σ0 x wa dq sl bu re) (D : RD o σ0 wa L d t u v σ) {n m : Nat} (hn : n < casesN d) (hm : m < casesN d) : Rt (RD o σ0 wa L d t u v) (m_X1_distance x (Int32.ofNat n) (Int32.ofNat m) σ) (Int32.ofNat (apN d n m)) := by
  have h4 := hW.1.1
  obtain ⟨q, σ1, e, D1, F, -⟩ := cl_look hW D hn
  obtain ⟨q2, σ2, e2, D2, ⟨-, row2, -, qc2, I2⟩, C2⟩ := cl_look hW D1 hm
  obtain ⟨-, row, orow, qc, I⟩ := F
  have I1 : IA σ2 row (d 0) (fun f => valueN d n f) := I.c C2 D1.S.1 (fun w => by rw [w] at orow; cases orow)
  unfold m_X1_distance
  rw [gR_J (Q.g D) rfl, nn_J D.W.w, e, bd_J, gR_J qc rfl, gR_J (Q.g D1) rfl, nn_J D1.W.w, e2, bd_J, gR_J qc2 rfl]
  have : b_X1_distance_31 x FU 0 (some row) (some row2) 0 σ2 = some (Int32.ofNat (apN d n m), σ2) := by
    refine loop_FU (fun g k => b_X1_distance_31 x g (Int32.ofNat (cntN (fun f => !decide (valueN d n f = valueN d m f)) k)) (some row) (some row2) (Int32.ofNat k) σ2) (fun _ => some (Int32.ofNat (apN d n m), σ2)) (d 0) (by omega) (fun g k hk ih => ?_) (fun g => ?_)
    · show b_X1_distance_31 x (g + 1) _ _ _ _ _ = _
      have v1 := valueN_lt hW.1 n hk
      have v2 := valueN_lt hW.1 m hk
      have hb := hW.1.2 k hk
      have e5 : cntN (fun f => !decide (valueN d n f = valueN d m f)) (k + 1) = cntN (fun f => !decide (valueN d n f = valueN d m f)) k + (if (!decide (valueN d n k = valueN d m k)) = true then 1 else 0) := rfl
      rw [e5] at ih
      rw [b_X1_distance_31, I1.len, iJ_le (by omega) (by omega), if_neg (by omega), I1.ld hk (by omega), I2.ld hk (by omega), iJ_eq (by omega) (by omega)]
      by_cases c : valueN d n k = valueN d m k
      · rw [if_pos c, lt_J, lt_J, J_addL, J_addL]
        rw [decide_eq_true c, if_neg (by decide)] at ih
        exact ih
      · rw [if_neg c, lt_J, lt_J, J_addL, J_addL]
        rw [decide_eq_false c, if_pos (by decide)] at ih
        exact ih
    · show b_X1_distance_31 x (g + 1) _ _ _ _ _ = _
      rw [b_X1_distance_31, I1.len, iJ_le (by omega) (by omega), if_pos (Nat.le_refl _)]
      rfl
  rw [this]
  exact Rt.mk D2
end CLD
theorem farF_l4 {d : Nat → Nat} {t : Nat → Term} (h4 : d 0 ≤ 4) {r : Nat} : ∀ k z, farF d t r k = some z → z ≤ 4 := by
  intro k
  induction k with
  | zero => intro z h; cases h
  | succ k ih =>
    intro z h
    have ha : apN d k (d 8) ≤ 4 := Nat.le_trans (cntN_le _ _) h4
    unfold farF at h
    split at h
    · cases hf : farF d t r k with
      | none => rw [hf] at h; cases h; exact ha
      | some y =>
        rw [hf] at h
        have := ih y hf
        cases h
        split <;> omega
    · exact ih z h
theorem pc_farFrom {o : oW} {σ : cS} {x : Nat} {S : SS} (h : CInv o σ x S) (hO : SSok S) (hR : Rm σ 700 3000) (x1 : Int32) : CRs [2] x σ (m_X1_farFrom x x1 σ) S (sp_farFrom x1 S).1 (sp_farFrom x1 S).2.1 (sp_farFrom x1 S).2.2 := by
  obtain ⟨wa, L, dq, sl, bu, re, Q, D, fin, -⟩ := h.ask hO hR
  have hW := hO.1.1
  have hc := casesN_le hW.1
  have h17 := hW.r
  have h4 := hW.1.1.2
  have h8 := hW.2.2.2.2.1
  unfold sp_farFrom m_X1_farFrom
  rw [nn_J Q.c, cz_rule hW Q.c D.W (D.rm (by decide) (by decide))]
  cases hb : inB x1 (S.1.1 17) with
  | false =>
    rw [if_neg (by decide), if_neg (by decide), bdx_t hR]
    exact CRs.t (j := 0) hR rfl
  | true =>
    obtain ⟨r, hr, rfl⟩ := inB_of hb
    rw [if_pos (by decide), if_pos (by decide), bdx_l, gR_J Q.c rfl, nn_J D.W.w, cl_cases hW.1 D.W, bd_J, J_cl (by omega)]
    have key : Rt (RD o σ wa L S.1.1 S.1.2 188 696) (b_X1_farFrom_19 x FU (Int32.ofNat r) (-1) (Int32.ofNat (casesN S.1.1)) 0 σ) (.inl (o32 (farF S.1.1 S.1.2 r (casesN S.1.1)))) := by
      refine loopD (fun _ => RD o σ wa L S.1.1 S.1.2 188 696) (fun f k τ => b_X1_farFrom_19 x f (Int32.ofNat r) (o32 (farF S.1.1 S.1.2 r k)) (Int32.ofNat (casesN S.1.1)) (Int32.ofNat k) τ) (fun z => Rt (RD o σ wa L S.1.1 S.1.2 188 696) z (.inl (o32 (farF S.1.1 S.1.2 r (casesN S.1.1))))) (casesN S.1.1) (by omega) (fun f k τ hk D ih => ?_) (fun f τ D => ?_) σ D
      · show Rt _ (b_X1_farFrom_19 x (f + 1) _ _ _ _ _) _
        obtain ⟨q, σ1, e, D1, ⟨-, row, -, qc, -⟩, -⟩ := cl_look hW D hk
        have ha : apN S.1.1 k (S.1.1 8) ≤ 4 := Nat.le_trans (cntN_le _ _) h4
        have e5 : farF S.1.1 S.1.2 r (k + 1) = if setlN S.1.1 (setN S.1.1 S.1.2 k) = some r then (match farF S.1.1 S.1.2 r k with
          | none => some (apN S.1.1 k (S.1.1 8))
          | some x => some (if apN S.1.1 k (S.1.1 8) < x then apN S.1.1 k (S.1.1 8) else x)) else farF S.1.1 S.1.2 r k := rfl
        rw [e5] at ih
        rw [b_X1_farFrom_19, iJ_le (by omega) (by omega), if_neg (by omega), gR_J (Q.g D) rfl, nn_J D.W.w, e, bd_J, gI_J qc rfl, ite_pq (o32_b (fun z hz => by have := setl_lt hW hz; omega) (by omega))]
        by_cases c : setlN S.1.1 (setN S.1.1 S.1.2 k) = some r
        · rw [if_pos c] at ih
          rw [if_pos c, gR_J (Q.g D1) rfl, gI_J D1.W.w rfl, nn_J (Q.g D1)]
          refine Rt.bd (cl_distance hW Q D1 h8 hk) (fun σ2 D2 => ?_)
          have ih := ih σ2 D2
          rw [apN_comm, iJ_m1 (fun z hz => by have := farF_l4 h4 k z hz; omega)]
          cases hf : farF S.1.1 S.1.2 r k with
          | none =>
            rw [hf] at ih
            rw [if_pos rfl, lt_J, J_addL]
            exact ih
          | some z =>
            rw [hf] at ih
            have hz := farF_l4 h4 k z hf
            rw [if_neg (fun w => by cases w), lt_J, lt_J, J_addL]
            show Rt _ (b_X1_farFrom_19 x f _ (if Int32.ofNat _ < Int32.ofNat z then _ else Int32.ofNat z) _ _ _) _
            rw [iJ_lt (by omega) (by omega), show (if apN S.1.1 k (S.1.1 8) < z then Int32.ofNat (apN S.1.1 k (S.1.1 8)) else Int32.ofNat z) = Int32.ofNat (if apN S.1.1 k (S.1.1 8) < z then apN S.1.1 k (S.1.1 8) else z) from by split <;> rfl]
            exact ih
        · rw [if_neg c] at ih
          rw [if_neg c, lt_J, J_addL]
          exact ih σ1 D1
      · show Rt _ (b_X1_farFrom_19 x (f + 1) _ _ _ _ _) _
        rw [b_X1_farFrom_19, iJ_le (by omega) (by omega), if_pos (Nat.le_refl _), xl_J]
        exact Rt.mk D
    obtain ⟨σ1, e, D1⟩ := key
    rw [e]
    exact CRs.k (fin _ _ _ D1)
/-- the rules that settle nothing, so far -/
def idF (d : Nat → Nat) (t : Nat → Term) : Nat → Nat
  | 0 => 2 ^ d 17 - 1
  | k + 1 => match setlN d (setN d t k) with
    | none => idF d t k
    | some r => andn (idF d t k) (2 ^ r)
theorem idF_le {d : Nat → Nat} {t : Nat → Term} : ∀ k, idF d t k ≤ 2 ^ d 17 - 1 := by
  intro k
  induction k with
  | zero => exact Nat.le_refl _
  | succ k ih =>
    unfold idF
    split
    · exact ih
    · exact Nat.le_trans (andn_le _ _) ih
theorem idF_bit {d : Nat → Nat} {t : Nat → Term} (h17 : d 17 ≤ 10) {i : Nat} (hi : i < 31) : ∀ k, (idF d t k).testBit i = (decide (i < d 17) && decide (cntN (mofB d t i 1) k = 0)) := by
  intro k
  induction k with
  | zero =>
    show (2 ^ d 17 - 1).testBit i = _
    rw [Nat.testBit_two_pow_sub_one]
    show _ = (decide (i < d 17) && decide (0 = 0))
    simp
  | succ k ih =>
    have e : cntN (mofB d t i 1) (k + 1) = cntN (mofB d t i 1) k + (if decide (setlN d (setN d t k) = some i) then 1 else 0) := rfl
    rw [e]
    unfold idF
    cases hq : setlN d (setN d t k) with
    | none =>
      rw [if_neg (by simp)]
      exact ih
    | some r =>
      dsimp only
      rw [andn_bit hi, ih, Nat.testBit_two_pow]
      by_cases c : r = i
      · rw [c, if_pos (by simp), decide_eq_true rfl]
        simp
      · rw [if_neg (by simpa using c), decide_eq_false c]
        simp
theorem setP_bit {p : Nat → Bool} : ∀ k r, (setP p k).testBit r = (decide (r < k) && p r) := by
  intro k
  induction k with
  | zero => intro r; show (0 : Nat).testBit r = _; simp
  | succ k ih =>
    intro r
    show (setP p k ||| (if p k then 2 ^ k else 0)).testBit r = _
    rw [Nat.testBit_or, ih]
    by_cases e : r = k
    · subst e
      cases hh : p r with
      | false => simp
      | true => simp [Nat.testBit_two_pow]
    · have : (if p k then 2 ^ k else 0).testBit r = false := by
        split
        · rw [Nat.testBit_two_pow]; exact decide_eq_false (Ne.symm e)
        · simp
      rw [this, Bool.or_false]
      congr 1
      apply decide_eq_decide.mpr
      omega
theorem idF_P {d : Nat → Nat} {t : Nat → Term} (h17 : d 17 ≤ 10) : idF d t (casesN d) = setP (fun r => decide (mofN d t r 1 = 0)) (d 17) := by
  have hp := pow10 h17
  have h1 := idF_le (d := d) (t := t) (casesN d)
  have h2 := setP_lt (p := fun r => decide (mofN d t r 1 = 0)) (d 17)
  apply Nat.eq_of_testBit_eq
  intro i
  by_cases hi : i < 31
  · rw [idF_bit h17 hi, setP_bit]
    rfl
  · have e : ∀ z, z < 1024 → z.testBit i = false := fun z hz => Nat.testBit_lt_two_pow (Nat.lt_of_lt_of_le hz (Nat.le_trans (show 1024 ≤ 2 ^ 31 by decide) (Nat.pow_le_pow_right (by decide) (by omega))))
    rw [e _ (by omega), e _ (by omega)]
theorem pc_idle {o : oW} {σ : cS} {x : Nat} {S : SS} (h : CInv o σ x S) (hO : SSok S) (hR : Rm σ 700 3000) : CRp x (m_X1_idle x σ) (sp_idle S).2.1 (sp_idle S).2.2 := by
  obtain ⟨wa, L, dq, sl, bu, re, Q, D, fin, -⟩ := h.ask hO hR
  have hW := hO.1.1
  have hc := casesN_le hW.1
  have h17 := hW.r
  have hp := pow10 h17
  have hp1 : 1 ≤ 2 ^ S.1.1 17 := Nat.one_le_two_pow
  unfold sp_idle m_X1_idle
  rw [gR_J Q.c rfl, gR_J D.W.w rfl, D.W.l.nn, D.W.l.size, bd_J, J_shl _ (by omega), J_subL hp1, lt_J, gR_J Q.c rfl, nn_J D.W.w, cl_cases hW.1 D.W, bd_J]
  have key : Rt (RD o σ wa L S.1.1 S.1.2 188 696) (b_X1_idle_25 x FU (Int32.ofNat (2 ^ S.1.1 17 - OfNat.ofNat 1)) (Int32.ofNat (casesN S.1.1)) 0 σ) (Int32.ofNat (idF S.1.1 S.1.2 (casesN S.1.1))) := by
    refine loopD (fun _ => RD o σ wa L S.1.1 S.1.2 188 696) (fun f k τ => b_X1_idle_25 x f (Int32.ofNat (idF S.1.1 S.1.2 k)) (Int32.ofNat (casesN S.1.1)) (Int32.ofNat k) τ) (fun z => Rt (RD o σ wa L S.1.1 S.1.2 188 696) z (Int32.ofNat (idF S.1.1 S.1.2 (casesN S.1.1)))) (casesN S.1.1) (by omega) (fun f k τ hk D ih => ?_) (fun f τ D => ?_) σ D
    · show Rt _ (b_X1_idle_25 x (f + 1) _ _ _ _) _
      obtain ⟨q, σ1, e, D1, ⟨-, row, -, qc, -⟩, -⟩ := cl_look hW D hk
      have hl := idF_le (d := S.1.1) (t := S.1.2) k
      have e5 : idF S.1.1 S.1.2 (k + 1) = (match setlN S.1.1 (setN S.1.1 S.1.2 k) with
        | none => idF S.1.1 S.1.2 k
        | some r => andn (idF S.1.1 S.1.2 k) (2 ^ r)) := rfl
      rw [e5] at ih
      rw [b_X1_idle_25, iJ_le (by omega) (by omega), if_neg (by omega), gR_J (Q.g D) rfl, nn_J D.W.w, e, bd_J, gI_J qc rfl, iJ_m1 (fun z hz => by have := setl_lt hW hz; omega)]
      have ih := ih σ1 D1
      cases hq : setlN S.1.1 (setN S.1.1 S.1.2 k) with
      | none =>
        rw [hq] at ih
        rw [if_pos rfl, J_and, Nat.and_self, lt_J, lt_J, J_addL]
        exact ih
      | some r =>
        rw [hq] at ih
        have hr := setl_lt hW hq
        rw [if_neg (fun w => by cases w), show o32 (some r) = Int32.ofNat r from rfl, J_shl r (by omega), J_andn (by omega), lt_J, lt_J, J_addL]
        exact ih
    · show Rt _ (b_X1_idle_25 x (f + 1) _ _ _ _) _
      rw [b_X1_idle_25, iJ_le (by omega) (by omega), if_pos (Nat.le_refl _)]
      exact Rt.mk D
  obtain ⟨σ1, e, D1⟩ := key
  rw [show (0 : Int32) = Int32.ofNat 0 from rfl] at e
  refine ⟨o, σ1, ?_, fin _ _ _ D1⟩
  rw [← idF_P h17]
  exact e
theorem pc_dearest {o : oW} {σ : cS} {x : Nat} {S : SS} (h : CInv o σ x S) (hO : SSok S) (hR : Rm σ 700 3000) : CRs [] x σ (m_X1_dearest x σ) S (sp_dearest S).1 (sp_dearest S).2.1 (sp_dearest S).2.2 := by
  obtain ⟨wa, L, dq, sl, bu, re, Q, D, fin, -⟩ := h.ask hO hR
  have hW := hO.1.1
  have hc := casesN_le hW.1
  have hdl : ∀ n, dutsN S.1.1 (setlN S.1.1 (setN S.1.1 S.1.2 n)) ≤ 40000 := fun n => Nat.le_trans (dutsN_le hW (setl_o hW n)) (by decide)
  obtain ⟨r1, D1, Q1, g⟩ := lam_new (u := 187) (v := 693) Q hW.1 D (c := 65) (k := 1) (fs := [.ref x]) (by decide)
  obtain ⟨σ2, e2, D2⟩ := cl_overS (sg := 1) hW Q1 D1.base hdl true rfl (lg_duties hW Q1 (Or.inl rfl) g)
  have D2' := D2.to D1
  unfold m_X1_dearest sp_dearest
  rw [nO_J r1.1 r1.2, nn_J Q1.c, e2, bdx_l, gR_J (Q.g D2') rfl, nn_J D2'.W.w, cl_cases hW.1 D2'.W, bd_J]
  have step : ∀ (mo : Option Nat) (hmo : ∀ z, mo = some z → z ≤ 40000) (R : Nat → Int32) (hR0 : ∀ k, k < casesN S.1.1 → (seB S.1.1 S.1.2 k = true ∧ mo = some (dutsN S.1.1 (setlN S.1.1 (setN S.1.1 S.1.2 k))) → R k = Int32.ofNat k) ∧ (¬ (seB S.1.1 S.1.2 k = true ∧ mo = some (dutsN S.1.1 (setlN S.1.1 (setN S.1.1 S.1.2 k)))) → R k = R (k + 1))) (hRe : R (casesN S.1.1) = -1), Rt (RD o σ wa L S.1.1 S.1.2 187 693) (b_X1_dearest_22 x FU (o32 mo) (Int32.ofNat (casesN S.1.1)) 0 σ2) (.inl (R 0)) := by
    intro mo hmo R hR0 hRe
    have key : ∀ j k f τ, k + j = casesN S.1.1 → j < f → RD o σ wa L S.1.1 S.1.2 187 693 τ → Rt (RD o σ wa L S.1.1 S.1.2 187 693) (b_X1_dearest_22 x f (o32 mo) (Int32.ofNat (casesN S.1.1)) (Int32.ofNat k) τ) (.inl (R k)) := by
      intro j
      induction j with
      | zero =>
        intro k f τ hk hf D
        obtain ⟨f, rfl⟩ : ∃ f', f = f' + 1 := ⟨f - 1, by omega⟩
        rw [b_X1_dearest_22, iJ_le (by omega) (by omega), if_pos (by omega), xl_J, show k = casesN S.1.1 by omega, hRe]
        exact Rt.mk D
      | succ j ih =>
        intro k f τ hk hf D
        obtain ⟨f, rfl⟩ : ∃ f', f = f' + 1 := ⟨f - 1, by omega⟩
        obtain ⟨q, σ3, e3, D3, ⟨-, row, -, qc, -⟩, -⟩ := cl_look hW D (show k < casesN S.1.1 by omega)
        have h3 := verdN_le S.1.1 (setN S.1.1 S.1.2 k)
        have hd := hdl k
        obtain ⟨hA, hB⟩ := hR0 k (by omega)
        rw [b_X1_dearest_22, iJ_le (by omega) (by omega), if_neg (by omega), gR_J (Q.g D) rfl, nn_J D.W.w, e3, bd_J, gI_J qc rfl, iJ_eqL (by omega) (by decide)]
        by_cases c : verdN S.1.1 (setN S.1.1 S.1.2 k) = 0
        · rw [if_pos (show _ = OfNat.ofNat 0 from c), gR_J (Q.g D3) rfl, nn_J D3.W.w]
          obtain ⟨σ4, e4, D4⟩ := cl_duties hW D3 (show k < casesN S.1.1 by omega)
          have eq : (Int32.ofNat (dutsN S.1.1 (setlN S.1.1 (setN S.1.1 S.1.2 k))) = o32 mo) = (mo = some (dutsN S.1.1 (setlN S.1.1 (setN S.1.1 S.1.2 k)))) := by
            rw [← o32_b (fun z hz => by have := hmo z hz; omega) (by omega)]
            exact propext ⟨fun w => w.symm, fun w => w.symm⟩
          rw [e4, bd_J, ite_pq eq]
          by_cases c2 : mo = some (dutsN S.1.1 (setlN S.1.1 (setN S.1.1 S.1.2 k)))
          · rw [if_pos c2, xl_J, hA ⟨decide_eq_true c, c2⟩]
            exact Rt.mk D4
          · rw [if_neg c2, lt_J, J_addL, hB (fun w => c2 w.2)]
            exact ih (k + 1) f σ4 (by omega) (by omega) D4
        · rw [if_neg (show ¬ _ = OfNat.ofNat 0 from c), lt_J, J_addL, hB (fun w => c (of_decide_eq_true w.1))]
          exact ih (k + 1) f σ3 (by omega) (by omega) D3
    exact key (casesN S.1.1) 0 FU σ2 (by omega) (by show _ < 4096; omega) D2'
  rcases deF_G hW (casesN S.1.1) with ⟨h1, h2, h3⟩ | ⟨p, h1, h2, h3, h4, h5, h6⟩
  · rw [h1, h2]
    obtain ⟨σ4, e4, D4⟩ := step none (fun z hz => by cases hz) (fun _ => -1) (fun k hk => ⟨fun w => (by rw [h3 k hk] at w; cases w.1), fun _ => rfl⟩) rfl
    rw [e4]
    exact CRs.k (fin _ _ _ D4)
  · rw [h1, h2]
    generalize hRR : (fun k => if k ≤ p.1 then Int32.ofNat p.1 else if k < casesN S.1.1 then (match firstF (fun j => seB S.1.1 S.1.2 j && decide (dutsN S.1.1 (setlN S.1.1 (setN S.1.1 S.1.2 j)) = p.2)) (casesN S.1.1 - k) k with | none => (-1 : Int32) | some r => Int32.ofNat r) else -1) = RR
    have hR1 : ∀ k, RR k = if k ≤ p.1 then Int32.ofNat p.1 else if k < casesN S.1.1 then (match firstF (fun j => seB S.1.1 S.1.2 j && decide (dutsN S.1.1 (setlN S.1.1 (setN S.1.1 S.1.2 j)) = p.2)) (casesN S.1.1 - k) k with | none => (-1 : Int32) | some r => Int32.ofNat r) else -1 := fun k => by rw [← hRR]
    have hS1 : ∀ k, k < casesN S.1.1 → (seB S.1.1 S.1.2 k = true ∧ some p.2 = some (dutsN S.1.1 (setlN S.1.1 (setN S.1.1 S.1.2 k))) → RR k = Int32.ofNat k) ∧ (¬ (seB S.1.1 S.1.2 k = true ∧ some p.2 = some (dutsN S.1.1 (setlN S.1.1 (setN S.1.1 S.1.2 k)))) → RR k = RR (k + 1)) := by
      intro k hk
      refine ⟨fun w => ?_, fun w => ?_⟩
      · obtain ⟨w1, w2⟩ := w
        have w2 : p.2 = dutsN S.1.1 (setlN S.1.1 (setN S.1.1 S.1.2 k)) := Option.some.inj w2
        rw [hR1]
        by_cases c : k < p.1
        · exact absurd w2.symm (h5 k c w1)
        · by_cases c2 : k = p.1
          · rw [if_pos (show k ≤ p.1 by omega), c2]
          · rw [if_neg (show ¬ k ≤ p.1 by omega), if_pos hk, show casesN S.1.1 - k = (casesN S.1.1 - (k + 1)) + 1 by omega]
            rw [firstF_s, w1, decide_eq_true w2.symm]
            rfl
      · rw [hR1, hR1]
        by_cases c : k + 1 ≤ p.1
        · rw [if_pos (show k ≤ p.1 by omega), if_pos c]
        · by_cases c2 : k = p.1
          · exfalso
            apply w
            rw [c2]
            exact ⟨h4.1, by rw [h4.2]⟩
          · have hpf : (seB S.1.1 S.1.2 k && decide (dutsN S.1.1 (setlN S.1.1 (setN S.1.1 S.1.2 k)) = p.2)) = false := by
              cases hs : seB S.1.1 S.1.2 k with
              | false => rfl
              | true =>
                rw [Bool.true_and]
                apply decide_eq_false
                intro e
                exact w ⟨hs, by rw [e]⟩
            rw [if_neg (show ¬ k ≤ p.1 by omega), if_pos hk, if_neg c, show casesN S.1.1 - k = (casesN S.1.1 - (k + 1)) + 1 by omega]
            rw [firstF_s, hpf, if_neg (show ¬ (false = true) by decide)]
            by_cases c3 : k + 1 < casesN S.1.1
            · rw [if_pos c3]
            · rw [if_neg c3, show casesN S.1.1 - (k + 1) = 0 by omega]
              rfl
    obtain ⟨σ4, e4, D4⟩ := step (some p.2) (fun z hz => by cases hz; rw [← h4.2]; exact hdl _) RR hS1 (by rw [hR1, if_neg (by omega), if_neg (by omega)])
    rw [hR1, if_pos (Nat.zero_le _)] at e4
    rw [e4]
    exact CRs.k (fin _ _ _ D4)
