/-! THE PLAIN LAW, the class' side: the longer questions -/
set_option maxRecDepth 100000
/-- a rule that is beaten is beaten by a rule that applies -/
theorem beat_ex {d : Nat → Nat} {m r : Nat} : ∀ k, (beatN d m k).testBit r = true → ∃ j, j < k ∧ m.testBit j = true ∧ (d (51 + 34 * j)).testBit r = true := by
  intro k
  induction k with
  | zero => intro h; have h : (0 : Nat).testBit r = true := h; simp at h
  | succ k ih =>
    intro h
    have h : (beatN d m k ||| (if m.testBit k then d (51 + 34 * k) else 0)).testBit r = true := h
    rw [Nat.testBit_or, Bool.or_eq_true] at h
    rcases h with h | h
    · obtain ⟨j, h1, h2⟩ := ih h
      exact ⟨j, by omega, h2⟩
    · cases c : m.testBit k with
      | false => rw [c, if_neg (by decide)] at h; simp at h
      | true => rw [c, if_pos rfl] at h; exact ⟨k, Nat.lt_succ_self _, c, h⟩
theorem ovF_bit {d : Nat → Nat} {r : Nat} : ∀ k j, (ovF d r k).testBit j = (decide (j < k) && (d (51 + 34 * j)).testBit r) := by
  intro k
  induction k with
  | zero => intro j; show (0 : Nat).testBit j = _; simp
  | succ k ih =>
    intro j
    show (ovF d r k ||| (if (d (51 + 34 * k)).testBit r then 2 ^ k else 0)).testBit j = _
    rw [Nat.testBit_or, ih]
    by_cases e : j = k
    · subst e
      cases hh : (d (51 + 34 * j)).testBit r with
      | false => simp
      | true => simp [Nat.testBit_two_pow]
    · have : (if (d (51 + 34 * k)).testBit r then 2 ^ k else 0).testBit j = false := by
        split
        · rw [Nat.testBit_two_pow]; exact decide_eq_false (Ne.symm e)
        · simp
      rw [this, Bool.or_false]
      congr 1
      apply decide_eq_decide.mpr
      omega
theorem sameF_iff {d : Nat → Nat} {r s : Nat} : ∀ k, sameF d r s k = true ↔ ∀ j, j < k → d (47 + 34 * r + j) = d (47 + 34 * s + j) := by
  intro k
  induction k with
  | zero => exact ⟨fun _ j hj => absurd hj (Nat.not_lt_zero _), fun _ => rfl⟩
  | succ k ih =>
    show (sameF d r s k && decide (d (47 + 34 * r + k) = d (47 + 34 * s + k))) = true ↔ _
    rw [Bool.and_eq_true, ih, decide_eq_true_iff]
    constructor
    · rintro ⟨h1, h2⟩ j hj
      by_cases e : j = k
      · rw [e]; exact h2
      · exact h1 j (by omega)
    · intro h
      exact ⟨fun j hj => h j (by omega), h k (Nat.lt_succ_self _)⟩
theorem firstN_none {p : Nat → Bool} {n : Nat} : firstN p n = none ↔ ∀ i, i < n → p i = false := by
  constructor
  · intro h i hi
    exact firstF_none h i (Nat.zero_le _) (by omega)
  · intro h
    cases e : firstN p n with
    | none => rfl
    | some k =>
      obtain ⟨-, h2, h3, -⟩ := firstF_some e
      rw [h k (by omega)] at h3
      cases h3
/-- rules that are not alike: it does not matter to which of the set they are held -/
theorem other_like {d : Nat → Nat} {m r s : Nat} (hr : r < d 17) (hs : s < d 17) (br : m.testBit r = true) (bs : m.testBit s = true) (h : otherN d m r = none) : otherN d m s = none := by
  have h := firstN_none.mp h
  refine firstN_none.mpr (fun i hi => ?_)
  have h1 := h i hi
  have h2 := h s hs
  rw [bs, Bool.true_and] at h2
  cases c : m.testBit i with
  | false => rfl
  | true =>
    rw [c, Bool.true_and] at h1
    rw [Bool.true_and]
    have e1 : sameF d i r 4 = true := by simpa [sameB] using h1
    have e2 : sameF d s r 4 = true := by simpa [sameB] using h2
    have : sameB d i s = true := (sameF_iff 4).mpr (fun j hj => ((sameF_iff 4).mp e1 j hj).trans ((sameF_iff 4).mp e2 j hj).symm)
    rw [this]
    rfl
theorem verd3 {d : Nat → Nat} {t : Nat → Term} (hW : WOk d t) {m r : Nat} (hm : m < 2 ^ d 17) (hr : r < d 17) (hu : (unbN d m).testBit r = true) : (verdN d m = 3) = (otherN d (unbN d m) r ≠ none) := by
  have h17 := hW.r
  have hle : unbN d m ≤ m := andn_le _ _
  have h0 : unbN d m ≠ 0 := fun e => by rw [e] at hu; simp at hu
  have hm0 : m ≠ 0 := fun e => by omega
  obtain ⟨s, hs1, hs2, hs3⟩ := least_bit (Nat.lt_of_le_of_lt hle hm) (by omega) h0
  have e : verdN d m = if otherN d (unbN d m) s = none then 0 else 3 := by
    unfold verdN
    rw [if_neg hm0, if_neg h0, hs1]
  rw [e]
  apply propext
  by_cases c : otherN d (unbN d m) s = none
  · rw [if_pos c]
    have := other_like hs2 hr hs3 hu c
    constructor
    · intro w; cases w
    · intro w; exact absurd this w
  · rw [if_neg c]
    constructor
    · intro _ w
      exact c (other_like hr hs2 hu hs3 w)
    · intro _; rfl
theorem cl_reason {o : oW} {σ : cS} {q n r : Nat} {d : Nat → Nat} {t : Nat → Term} (hW : WOk d t) (hr : r < d 17) (hF : FindC o σ q d t n) : m_X1_reasonOf (some q) (Int32.ofNat r) σ = some (Int32.ofNat (reasN d (setN d t n) r), σ) := by
  have h17 := hW.r
  have hp := pow10 h17
  have hm := setN_lt (d := d) (t := t) (n := n)
  have hle : unbN d (setN d t n) ≤ setN d t n := andn_le _ _
  have hv := verdN_le d (setN d t n)
  obtain ⟨-, row, -, qc, -⟩ := hF
  unfold m_X1_reasonOf m_X1_beatenIn reasN
  rw [gI_J qc rfl, J_bit0 (by omega) (by omega)]
  cases c1 : (setN d t n).testBit r with
  | false => rw [if_neg (show ¬ (false = true) by decide), if_pos rfl, if_pos rfl]; rfl
  | true =>
    have hl2 := andn_le (setN d t n) (unbN d (setN d t n))
    rw [if_pos (show true = true from rfl), if_neg (by decide), if_neg (show ¬ (true = false) by decide), gI_J qc rfl, gI_J qc rfl, J_andn (by omega), J_bit0 (by omega) (by omega), andn_bit (by omega), c1, bd_J, Bool.true_and]
    cases c2 : (unbN d (setN d t n)).testBit r with
    | false => rw [if_pos rfl]; rfl
    | true =>
      rw [if_neg (show ¬ ((!true) = true) by decide), if_neg (by decide), if_neg (show ¬ (true = false) by decide), gI_J qc rfl, iJ_eqL (by omega) (by decide), ite_pq (show (verdN d (setN d t n) = OfNat.ofNat 3) = _ from verd3 hW hm hr c2)]
      by_cases c3 : otherN d (unbN d (setN d t n)) r = none
      · rw [if_neg (fun w => w c3), if_pos c3, gI_J qc rfl, ite_pq (o32_b (fun k hk => by have := setl_lt hW hk; omega) (by omega))]
        split <;> rfl
      · rw [if_pos c3, if_neg c3]
        rfl
theorem and_ne0 {a b k : Nat} (h1 : a.testBit k = true) (h2 : b.testBit k = true) : a &&& b ≠ 0 := by
  intro e
  have : (a &&& b).testBit k = true := by rw [Nat.testBit_and, h1, h2]; rfl
  rw [e] at this
  simp at this
theorem pc_why {o : oW} {σ : cS} {x : Nat} {S : SS} (h : CInv o σ x S) (hO : SSok S) (hR : Rm σ 700 3000) (x1 x2 x3 : Int32) : CRs [3, 2, 1] x σ (m_X1_why x x1 x2 x3 σ) S (sp_why x1 x2 x3 S).1 (sp_why x1 x2 x3 S).2.1 (sp_why x1 x2 x3 S).2.2 := by
  obtain ⟨wa, L, dq, sl, bu, re, Q, D, fin, -⟩ := h.ask hO hR
  have hW := hO.1.1
  have hc := casesN_le hW.1
  have h17 := hW.r
  have hp := pow10 h17
  unfold sp_why m_X1_why
  rw [nn_J Q.c, cz_case hW.1 Q.c D.W]
  cases hb : inB x1 (casesN S.1.1) with
  | false =>
    rw [if_neg (by decide), if_neg (show ¬ ((false && _ && _) = true) by simp), bdx_t hR]
    exact CRs.t (j := 0) hR rfl
  | true =>
    rw [if_pos rfl, bdx_l, nn_J Q.c, cz_rule hW Q.c D.W (D.rm (by decide) (by decide))]
    cases hb2 : inB x2 (S.1.1 17) with
    | false =>
      rw [if_neg (by decide), if_neg (show ¬ ((true && false && _) = true) by simp), bdx_t hR]
      exact CRs.t (j := 1) hR rfl
    | true =>
      rw [if_pos rfl, bdx_l, cz_in (n := 2) (by decide)]
      cases hb3 : inB x3 2 with
      | false =>
        rw [if_neg (by decide), if_neg (by decide), bdx_t hR]
        exact CRs.t (j := 2) hR rfl
      | true =>
        obtain ⟨n, hn, rfl⟩ := inB_of hb
        obtain ⟨r, hr, rfl⟩ := inB_of hb2
        obtain ⟨w, hw, rfl⟩ := inB_of hb3
        obtain ⟨q, σ1, e, D1, F, -⟩ := cl_look hW D hn
        have hm := setN_lt (d := S.1.1) (t := S.1.2) (n := n)
        have hle : unbN S.1.1 (setN S.1.1 S.1.2 n) ≤ setN S.1.1 S.1.2 n := andn_le _ _
        have hre : reasN S.1.1 (setN S.1.1 S.1.2 n) r ≤ 4 := by
          unfold reasN
          repeat' split
          all_goals omega
        rw [if_pos (by decide), if_pos (by decide), bdx_l, gR_J Q.c rfl, nn_J D.W.w, e, bd_J, cl_reason hW hr F, bd_J, J_cl (by omega), J_cl (by omega), J_cl (by omega), iJ_eqL (by omega) (by decide)]
        by_cases c : w = 0
        · rw [if_pos (show w = OfNat.ofNat 0 from c), if_pos c, xl_J]
          exact CRs.k (fin _ _ _ D1)
        · obtain ⟨-, row, -, qc, hI⟩ := F
          rw [if_neg (show ¬ w = OfNat.ofNat 0 from c), if_neg c, iJ_eqL (by omega) (by decide)]
          unfold whyI
          by_cases c0 : reasN S.1.1 (setN S.1.1 S.1.2 n) r = 0
          · rw [if_pos (show _ = OfNat.ofNat 0 from c0), c0, if_neg (by decide), if_neg (by decide), if_neg (by decide), if_neg (by decide), gI_J qc rfl, cl_bits (by omega), bd_J, xl_J]
            exact CRs.k (fin _ _ _ D1)
          rw [if_neg (show ¬ _ = OfNat.ofNat 0 from c0), iJ_eqL (by omega) (by decide)]
          by_cases c1 : reasN S.1.1 (setN S.1.1 S.1.2 n) r = 1
          · rw [if_pos (show _ = OfNat.ofNat 1 from c1), if_pos c1, gR_J qc rfl, hI.ldL (show 0 < S.1.1 0 from hW.1.1.1) (by have := hW.1.1.2; omega), xl_J]
            exact CRs.k (fin _ _ _ D1)
          rw [if_neg (show ¬ _ = OfNat.ofNat 1 from c1), if_neg c1, iJ_eqL (by omega) (by decide)]
          by_cases c2 : reasN S.1.1 (setN S.1.1 S.1.2 n) r = 2
          · rw [if_pos (show _ = OfNat.ofNat 2 from c2), if_pos c2, gI_J qc rfl, nn_J (Q.g D1), cl_beaters hW (Q.g D1) D1.W (by omega), bd_J, J_and]
            have hx : setN S.1.1 S.1.2 n &&& ovN S.1.1 r < 1024 := Nat.lt_of_le_of_lt Nat.and_le_left (by omega)
            have hne : setN S.1.1 S.1.2 n &&& ovN S.1.1 r ≠ 0 := by
              unfold reasN at c2
              cases b1 : (setN S.1.1 S.1.2 n).testBit r with
              | false => rw [b1, if_pos rfl] at c2; cases c2
              | true =>
                rw [b1, if_neg (by decide)] at c2
                cases b2 : (unbN S.1.1 (setN S.1.1 S.1.2 n)).testBit r with
                | true =>
                  rw [b2, if_neg (by decide)] at c2
                  repeat' split at c2
                  all_goals cases c2
                | false =>
                  unfold unbN at b2
                  rw [andn_bit (by omega), b1, Bool.true_and] at b2
                  obtain ⟨j, j1, j2, j3⟩ := beat_ex (S.1.1 17) (by simpa using b2)
                  refine and_ne0 j2 (k := j) ?_
                  unfold ovN
                  rw [ovF_bit, decide_eq_true j1, j3]
                  rfl
            obtain ⟨s, hs1, -, -⟩ := least_bit (n := 10) (show _ < 2 ^ 10 from hx) (by decide) hne
            rw [cl_ntz hx, bd_J, xl_J, hs1]
            exact CRs.k (fin _ _ _ D1)
          rw [if_neg (show ¬ _ = OfNat.ofNat 2 from c2), if_neg c2, iJ_eqL (by omega) (by decide)]
          by_cases c3 : reasN S.1.1 (setN S.1.1 S.1.2 n) r = 3
          · rw [if_pos (show _ = OfNat.ofNat 3 from c3), if_pos c3, gR_J (Q.g D1) rfl, gI_J qc rfl, nn_J D1.W.w, cl_unlike hW D1.W (by omega) hr, bd_J, xl_J]
            exact CRs.k (fin _ _ _ D1)
          · rw [if_neg (show ¬ _ = OfNat.ofNat 3 from c3), if_neg c3, if_pos (show reasN S.1.1 (setN S.1.1 S.1.2 n) r = 4 by omega), gI_J qc rfl, xl_J]
            exact CRs.k (fin _ _ _ D1)
theorem exF_neg {d : Nat → Nat} {t : Nat → Term} {v : Nat} : ∀ (j k : Nat) (left : Int32), j ≤ 1000 → (left.toInt < 0 ∨ (j : Int) ≤ left.toInt) → exF d t v j k left = -1 := by
  intro j
  induction j with
  | zero => intro k left _ _; rfl
  | succ j ih =>
    intro k left hj h
    unfold exF
    have hne : ¬ left = 0 := fun e => by rw [e] at h; have h0 : (0 : Int32).toInt = 0 := rfl; omega
    have hdec : (left + (-1)).toInt < 0 ∨ (j : Int) ≤ (left + (-1)).toInt := by
      have h1 := Int32.toInt_lt left
      have h2 := Int32.le_toInt left
      rw [Int32.toInt_add, show (-1 : Int32).toInt = -1 from rfl]
      by_cases c : left.toInt = -2147483648
      · right
        rw [c]
        show (j : Int) ≤ Int.bmod (-2147483648 + -1) 4294967296
        rw [show Int.bmod (-2147483648 + -1) 4294967296 = 2147483647 by decide]
        omega
      · rw [Int.bmod_eq_of_le (by omega) (by omega)]
        omega
    split
    · exact ih _ _ (by omega) hdec
    · exact ih _ _ (by omega) (by omega)
theorem pc_example {o : oW} {σ : cS} {x : Nat} {S : SS} (h : CInv o σ x S) (hO : SSok S) (hR : Rm σ 700 3000) (x1 x2 : Int32) : CRs [1] x σ (m_X1_example x x1 x2 σ) S (sp_example x1 x2 S).1 (sp_example x1 x2 S).2.1 (sp_example x1 x2 S).2.2 := by
  obtain ⟨wa, L, dq, sl, bu, re, Q, D, fin, -⟩ := h.ask hO hR
  have hW := hO.1.1
  have hc := casesN_le hW.1
  unfold sp_example m_X1_example
  rw [cz_in (n := 4) (by decide)]
  cases hb : inB x1 4 with
  | false =>
    rw [if_neg (by decide), if_neg (by decide), bdx_t hR]
    exact CRs.t (j := 0) hR rfl
  | true =>
    obtain ⟨w, hw, rfl⟩ := inB_of hb
    rw [if_pos (by decide), if_pos (by decide), bdx_l, gR_J Q.c rfl, nn_J D.W.w, cl_cases hW.1 D.W, bd_J, J_cl (by omega)]
    have key : ∀ j k f left τ, k + j = casesN S.1.1 → j < f → RD o σ wa L S.1.1 S.1.2 188 696 τ → Rt (RD o σ wa L S.1.1 S.1.2 188 696) (b_X1_example_20 x f (Int32.ofNat w) left (Int32.ofNat (casesN S.1.1)) (Int32.ofNat k) τ) (.inl (exF S.1.1 S.1.2 w j k left)) := by
      intro j
      induction j with
      | zero =>
        intro k f left τ hk hf D
        obtain ⟨f, rfl⟩ : ∃ f', f = f' + 1 := ⟨f - 1, by omega⟩
        rw [b_X1_example_20, iJ_le (by omega) (by omega), if_pos (by omega), xl_J]
        exact Rt.mk D
      | succ j ih =>
        intro k f left τ hk hf D
        obtain ⟨f, rfl⟩ : ∃ f', f = f' + 1 := ⟨f - 1, by omega⟩
        rw [b_X1_example_20, iJ_le (by omega) (by omega), if_neg (by omega)]
        by_cases c : left < 0
        · rw [if_pos c, xl_J, exF_neg (j + 1) k left (by omega) (Or.inl (Int32.lt_iff_toInt_lt.mp c))]
          exact Rt.mk D
        · obtain ⟨q, σ1, e, D1, ⟨-, row, -, qc, -⟩, -⟩ := cl_look hW D (show k < casesN S.1.1 by omega)
          have h3 := verdN_le S.1.1 (setN S.1.1 S.1.2 k)
          rw [if_neg c, gR_J (Q.g D) rfl, nn_J D.W.w, e, bd_J, gI_J qc rfl, iJ_eq (by omega) (by omega)]
          unfold exF
          by_cases c2 : verdN S.1.1 (setN S.1.1 S.1.2 k) = w
          · rw [if_pos c2, if_pos c2]
            by_cases c3 : left = 0
            · rw [if_pos c3, if_pos c3, xl_J]
              exact Rt.mk D1
            · rw [if_neg c3, if_neg c3, lt_J, lt_J, J_addL]
              exact ih (k + 1) f _ σ1 (by omega) (by omega) D1
          · rw [if_neg c2, if_neg c2, lt_J, J_addL]
            exact ih (k + 1) f _ σ1 (by omega) (by omega) D1
    obtain ⟨σ1, e, D1⟩ := key (casesN S.1.1) 0 FU x2 σ (by omega) (by show _ < 4096; omega) D
    rw [show (0 : Int32) = Int32.ofNat 0 from rfl, e]
    exact CRs.k (fin _ _ _ D1)
