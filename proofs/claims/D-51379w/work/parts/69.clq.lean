/-! THE PLAIN LAW, the class' side: the object's questions -/
set_option maxRecDepth 100000
theorem gL_J {β : Type} {σ : cS} {a c : Nat} {fs : List Value} {K : List Value → Option β} (h : σ.1 a = some (.inr (c, fs))) : gL σ a c K = K fs := by
  unfold gL
  rw [h]
  dsimp only
  rw [if_pos rfl]
theorem dl_64 {σ : cS} {q x : Nat} {M : List Value} {n : Int32} {q0 : Nat} (hq : σ.1 q = some (.inr (64, [.ref x, .ref q0]))) (hx : σ.1 x = some (.inr (0, M))) : dL_of q n σ = m_X1_lambda_patch_10 x (some q0) n σ := by
  unfold dL_of
  simp only [isO_J hq]
  rw [if_pos (by decide), gL_J hq]
  show nn σ (some x) 0 (fun b => m_X1_lambda_patch_10 b (some q0) n σ) = _
  exact nn_J hx
theorem dl_65 {σ : cS} {q x : Nat} {M : List Value} {n : Int32}  (hq : σ.1 q = some (.inr (65, [.ref x]))) (hx : σ.1 x = some (.inr (0, M))) : dL_of q n σ = m_X1_lambda_dearest_11 x n σ := by
  unfold dL_of
  simp only [isO_J hq]
  rw [if_neg (by decide), if_pos (by decide), gL_J hq]
  show nn σ (some x) 0 (fun b => m_X1_lambda_dearest_11 b n σ) = _
  exact nn_J hx
theorem dl_66 {σ : cS} {q x : Nat} {M : List Value} {n : Int32}  (hq : σ.1 q = some (.inr (66, [.ref x]))) (hx : σ.1 x = some (.inr (0, M))) : dL_of q n σ = m_X1_left x n σ := by
  unfold dL_of
  simp only [isO_J hq]
  rw [if_neg (by decide), if_neg (by decide), if_pos (by decide), gL_J hq]
  show nn σ (some x) 0 (fun b => m_X1_left b n σ) = _
  exact nn_J hx
theorem dl_67 {σ : cS} {q x : Nat} {M : List Value} {n : Int32}  (hq : σ.1 q = some (.inr (67, [.ref x]))) (hx : σ.1 x = some (.inr (0, M))) : dL_of q n σ = m_X1_lambda_meanDuties_12 x n σ := by
  unfold dL_of
  simp only [isO_J hq]
  rw [if_neg (by decide), if_neg (by decide), if_neg (by decide), if_pos (by decide), gL_J hq]
  show nn σ (some x) 0 (fun b => m_X1_lambda_meanDuties_12 b n σ) = _
  exact nn_J hx
theorem dl_68 {σ : cS} {q x : Nat} {M : List Value} {n : Int32} {y : Int32} (hq : σ.1 q = some (.inr (68, [.ref x, .int y]))) (hx : σ.1 x = some (.inr (0, M))) : dL_of q n σ = m_X1_lambda_heir_0 x y n σ := by
  unfold dL_of
  simp only [isO_J hq]
  rw [if_neg (by decide), if_neg (by decide), if_neg (by decide), if_neg (by decide), if_pos (by decide), gL_J hq]
  show nn σ (some x) 0 (fun b => m_X1_lambda_heir_0 b y n σ) = _
  exact nn_J hx
theorem dl_69 {σ : cS} {q x : Nat} {M : List Value} {n : Int32} {y : Int32} (hq : σ.1 q = some (.inr (69, [.ref x, .int y]))) (hx : σ.1 x = some (.inr (0, M))) : dL_of q n σ = m_X1_lambda_heir_1 x y n σ := by
  unfold dL_of
  simp only [isO_J hq]
  rw [if_neg (by decide), if_neg (by decide), if_neg (by decide), if_neg (by decide), if_neg (by decide), if_pos (by decide), gL_J hq]
  show nn σ (some x) 0 (fun b => m_X1_lambda_heir_1 b y n σ) = _
  exact nn_J hx
theorem dl_70 {σ : cS} {q x : Nat} {M : List Value} {n : Int32} {y : Int32} (hq : σ.1 q = some (.inr (70, [.ref x, .int y]))) (hx : σ.1 x = some (.inr (0, M))) : dL_of q n σ = m_X1_lambda_rule_2 x y n σ := by
  unfold dL_of
  simp only [isO_J hq]
  rw [if_neg (by decide), if_neg (by decide), if_neg (by decide), if_neg (by decide), if_neg (by decide), if_neg (by decide), if_pos (by decide), gL_J hq]
  show nn σ (some x) 0 (fun b => m_X1_lambda_rule_2 b y n σ) = _
  exact nn_J hx
theorem dl_71 {σ : cS} {q x : Nat} {M : List Value} {n : Int32} {y : Int32} (hq : σ.1 q = some (.inr (71, [.ref x, .int y]))) (hx : σ.1 x = some (.inr (0, M))) : dL_of q n σ = m_X1_lambda_rule_3 x y n σ := by
  unfold dL_of
  simp only [isO_J hq]
  rw [if_neg (by decide), if_neg (by decide), if_neg (by decide), if_neg (by decide), if_neg (by decide), if_neg (by decide), if_neg (by decide), if_pos (by decide), gL_J hq]
  show nn σ (some x) 0 (fun b => m_X1_lambda_rule_3 b y n σ) = _
  exact nn_J hx
theorem dl_72 {σ : cS} {q x : Nat} {M : List Value} {n : Int32} {y : Int32} (hq : σ.1 q = some (.inr (72, [.ref x, .int y]))) (hx : σ.1 x = some (.inr (0, M))) : dL_of q n σ = m_X1_lambda_rule_4 x y n σ := by
  unfold dL_of
  simp only [isO_J hq]
  rw [if_neg (by decide), if_neg (by decide), if_neg (by decide), if_neg (by decide), if_neg (by decide), if_neg (by decide), if_neg (by decide), if_neg (by decide), if_pos (by decide), gL_J hq]
  show nn σ (some x) 0 (fun b => m_X1_lambda_rule_4 b y n σ) = _
  exact nn_J hx
theorem dl_73 {σ : cS} {q x : Nat} {M : List Value} {n : Int32} {y z : Int32} (hq : σ.1 q = some (.inr (73, [.ref x, .int y, .int z]))) (hx : σ.1 x = some (.inr (0, M))) : dL_of q n σ = unx (m_X1_lambda_isWider_5 x y z n σ) := by
  unfold dL_of
  simp only [isO_J hq]
  rw [if_neg (by decide), if_neg (by decide), if_neg (by decide), if_neg (by decide), if_neg (by decide), if_neg (by decide), if_neg (by decide), if_neg (by decide), if_neg (by decide), if_pos (by decide), gL_J hq]
  show nn σ (some x) 0 (fun b => unx (m_X1_lambda_isWider_5 b y z n σ)) = _
  exact nn_J hx
theorem dl_74 {σ : cS} {q x : Nat} {M : List Value} {n : Int32} {y z : Int32} (hq : σ.1 q = some (.inr (74, [.ref x, .int y, .int z]))) (hx : σ.1 x = some (.inr (0, M))) : dL_of q n σ = unx (m_X1_lambda_common_6 x y z n σ) := by
  unfold dL_of
  simp only [isO_J hq]
  rw [if_neg (by decide), if_neg (by decide), if_neg (by decide), if_neg (by decide), if_neg (by decide), if_neg (by decide), if_neg (by decide), if_neg (by decide), if_neg (by decide), if_neg (by decide), if_pos (by decide), gL_J hq]
  show nn σ (some x) 0 (fun b => unx (m_X1_lambda_common_6 b y z n σ)) = _
  exact nn_J hx
/-- the sum of a number over all cases -/
def smI (g : Nat → Int32) : Nat → Int32
  | 0 => 0
  | k + 1 => smI g k + g k
theorem smI_c (p : Nat → Bool) : ∀ c, smI (fun n => if p n then 1 else 0) c = Int32.ofNat (cntN p c) := by
  intro c
  induction c with
  | zero => rfl
  | succ c ih =>
    show smI _ c + (if p c then 1 else 0) = Int32.ofNat (cntN p c + if p c then 1 else 0)
    rw [ih]
    cases p c
    · exact J_add _ 0
    · exact J_add _ 1
/-- the greatest or least number over the settled cases -/
def extG (p : Nat → Bool) (g : Nat → Nat) (b : Bool) : Nat → Option Nat
  | 0 => none
  | k + 1 => if p k then (match extG p g b k with
    | none => some (g k)
    | some x => some (if b then (if x < g k then g k else x) else if g k < x then g k else x)) else extG p g b k
theorem extG_le {p : Nat → Bool} {g : Nat → Nat} {b : Bool} {m : Nat} (hg : ∀ n, g n ≤ m) : ∀ k x, extG p g b k = some x → x ≤ m := by
  intro k
  induction k with
  | zero => intro x h; cases h
  | succ k ih =>
    intro x h
    unfold extG at h
    have hk := hg k
    split at h
    · cases hx : extG p g b k with
      | none => rw [hx] at h; cases h; exact hk
      | some y =>
        rw [hx] at h
        have := ih y hx
        cases h
        repeat' split
        all_goals omega
    · exact ih x h
def seB (d : Nat → Nat) (t : Nat → Term) (n : Nat) : Bool := decide (verdN d (setN d t n) = 0)
theorem se_o {d : Nat → Nat} {t : Nat → Term} (hW : WOk d t) {n : Nat} : (verdN d (setN d t n) = 0) = (setlN d (setN d t n) ≠ none) := by
  have h17 := hW.r
  have hm := setN_lt (d := d) (t := t) (n := n)
  have hu : unbN d (setN d t n) ≤ setN d t n := andn_le _ _
  apply propext
  constructor
  · intro h
    unfold setlN
    rw [if_pos h]
    by_cases c : unbN d (setN d t n) = 0
    · exfalso
      unfold verdN at h
      rw [c] at h
      split at h
      · cases h
      · rw [if_pos rfl] at h; cases h
    · obtain ⟨r, hr, -⟩ := least_bit (Nat.lt_of_le_of_lt hu hm) (by omega) c
      rw [hr]
      intro w
      cases w
  · intro h
    unfold setlN at h
    split at h
    · next c => exact c
    · exact absurd rfl h
theorem extF_G {d : Nat → Nat} {t : Nat → Term} (hW : WOk d t) {h : Nat} {b : Bool} : ∀ k, extF d t h b k = extG (seB d t) (fun n => partN d (setlN d (setN d t n)) h) b k := by
  intro k
  induction k with
  | zero => rfl
  | succ k ih =>
    have e : extF d t h b (k + 1) = (match setlN d (setN d t k) with
      | none => extF d t h b k
      | some r => match extF d t h b k with
        | none => some (partN d (some r) h)
        | some x => some (if b then (if x < partN d (some r) h then partN d (some r) h else x) else if partN d (some r) h < x then partN d (some r) h else x)) := rfl
    have e2 : extG (seB d t) (fun n => partN d (setlN d (setN d t n)) h) b (k + 1) = if seB d t k then (match extG (seB d t) (fun n => partN d (setlN d (setN d t n)) h) b k with
      | none => some (partN d (setlN d (setN d t k)) h)
      | some x => some (if b then (if x < partN d (setlN d (setN d t k)) h then partN d (setlN d (setN d t k)) h else x) else if partN d (setlN d (setN d t k)) h < x then partN d (setlN d (setN d t k)) h else x)) else extG (seB d t) (fun n => partN d (setlN d (setN d t n)) h) b k := rfl
    rw [e, e2, ih]
    cases hq : setlN d (setN d t k) with
    | none =>
      rw [if_neg (show ¬ seB d t k = true from fun w => by
        have := of_decide_eq_true w
        rw [se_o hW] at this
        exact this hq)]
    | some r =>
      rw [if_pos (show seB d t k = true from decide_eq_true (by rw [se_o hW, hq]; intro w; cases w))]
theorem deF_G {d : Nat → Nat} {t : Nat → Term} (hW : WOk d t) : ∀ k, (deF d t k = none ∧ extG (seB d t) (fun n => dutsN d (setlN d (setN d t n))) true k = none ∧ ∀ j, j < k → seB d t j = false) ∨ ∃ p, deF d t k = some p ∧ extG (seB d t) (fun n => dutsN d (setlN d (setN d t n))) true k = some p.2 ∧ p.1 < k ∧ (seB d t p.1 = true ∧ dutsN d (setlN d (setN d t p.1)) = p.2) ∧ (∀ j, j < p.1 → seB d t j = true → dutsN d (setlN d (setN d t j)) ≠ p.2) ∧ ∀ j, j < k → seB d t j = true → dutsN d (setlN d (setN d t j)) ≤ p.2 := by
  intro k
  induction k with
  | zero => exact Or.inl ⟨rfl, rfl, fun j hj => absurd hj (Nat.not_lt_zero _)⟩
  | succ k ih =>
    have e : deF d t (k + 1) = (match setlN d (setN d t k) with
      | none => deF d t k
      | some r => match deF d t k with
        | none => some (k, dutsN d (some r))
        | some p => if p.2 < dutsN d (some r) then some (k, dutsN d (some r)) else some p) := rfl
    rw [e]
    have e2 : extG (seB d t) (fun n => dutsN d (setlN d (setN d t n))) true (k + 1) = if seB d t k then (match extG (seB d t) (fun n => dutsN d (setlN d (setN d t n))) true k with
      | none => some (dutsN d (setlN d (setN d t k)))
      | some x => some (if true then (if x < dutsN d (setlN d (setN d t k)) then dutsN d (setlN d (setN d t k)) else x) else if dutsN d (setlN d (setN d t k)) < x then dutsN d (setlN d (setN d t k)) else x)) else extG (seB d t) (fun n => dutsN d (setlN d (setN d t n))) true k := rfl
    rw [e2]
    cases hq : setlN d (setN d t k) with
    | none =>
      have hb : seB d t k = false := by
        unfold seB
        apply decide_eq_false
        rw [se_o hW]
        exact fun w => w hq
      rw [hb, if_neg (by decide)]
      dsimp only
      rcases ih with ⟨h1, h2, h3⟩ | ⟨p, h1, h2, h3, h4, h5, h6⟩
      · refine Or.inl ⟨h1, h2, fun j hj => ?_⟩
        by_cases c : j = k
        · rw [c]; exact hb
        · exact h3 j (by omega)
      · refine Or.inr ⟨p, h1, h2, by omega, h4, h5, fun j hj w => ?_⟩
        by_cases c : j = k
        · rw [c, hb] at w; cases w
        · exact h6 j (by omega) w
    | some r =>
      have hb : seB d t k = true := decide_eq_true (by rw [se_o hW, hq]; intro w; cases w)
      rw [hb, if_pos rfl]
      dsimp only
      right
      rcases ih with ⟨h1, h2, h3⟩ | ⟨p, h1, h2, h3, h4, h5, h6⟩
      · rw [h1, h2]
        refine ⟨_, rfl, rfl, Nat.lt_succ_self _, ⟨hb, by rw [hq]⟩, fun j hj w => ?_, fun j hj w => ?_⟩
        · rw [h3 j hj] at w; cases w
        · by_cases c : j = k
          · rw [c, hq]; exact Nat.le_refl _
          · rw [h3 j (by omega)] at w; cases w
      · rw [h1, h2]
        dsimp only
        rw [if_pos rfl]
        by_cases c : p.2 < dutsN d (some r)
        · rw [if_pos c, if_pos c]
          refine ⟨_, rfl, rfl, Nat.lt_succ_self _, ⟨hb, by rw [hq]⟩, fun j hj w => ?_, fun j hj w => ?_⟩
          · have := h6 j hj w
            show dutsN d (setlN d (setN d t j)) ≠ dutsN d (some r)
            omega
          · by_cases c2 : j = k
            · rw [c2, hq]; exact Nat.le_refl _
            · have := h6 j (by omega) w
              show dutsN d (setlN d (setN d t j)) ≤ dutsN d (some r)
              omega
        · rw [if_neg c, if_neg c]
          refine ⟨p, rfl, rfl, by omega, h4, h5, fun j hj w => ?_⟩
          by_cases c2 : j = k
          · rw [c2, hq]; omega
          · exact h6 j (by omega) w
section CLP
variable {o : oW} {σ0 σ : cS} {x wa dq sl bu re u v q : Nat} {L d : Nat → Nat} {t : Nat → Term}
theorem cl_sum (hF : FOk d) (Q : QS o σ0 x wa dq sl bu re) (D : RD o σ0 wa L d t u v σ) {g : Nat → Int32} (hg : ∀ n τ, n < casesN d → RD o σ0 wa L d t u v τ → Rt (RD o σ0 wa L d t u v) (dL_of q (Int32.ofNat n) τ) (g n)) : Rt (RD o σ0 wa L d t u v) (m_X1_sum x (some q) σ) (.inl (smI g (casesN d))) := by
  have hc := casesN_le hF
  unfold m_X1_sum
  rw [gR_J (Q.g D) rfl, nn_J D.W.w, cl_cases hF D.W, bd_J]
  refine loopD (fun _ => RD o σ0 wa L d t u v) (fun f k σ => b_X1_sum_13 x f (some q) (smI g k) (Int32.ofNat (casesN d)) (Int32.ofNat k) σ) (fun z => Rt (RD o σ0 wa L d t u v) z (.inl (smI g (casesN d)))) (casesN d) (by omega) (fun f k σ hk D ih => ?_) (fun f σ D => ?_) σ D
  · show Rt _ (b_X1_sum_13 x (f + 1) _ _ _ _ _) _
    rw [b_X1_sum_13, iJ_le (by omega) (by omega), if_neg (by omega), icl_J]
    refine Rt.bd (hg k σ hk D) (fun σ1 D1 => ?_)
    rw [lt_J, lt_J, J_addL]
    exact ih σ1 D1
  · show Rt _ (b_X1_sum_13 x (f + 1) _ _ _ _ _) _
    rw [b_X1_sum_13, iJ_le (by omega) (by omega), if_pos (Nat.le_refl _), xl_J]
    exact Rt.mk D
theorem J_neg_le {a b : Nat} (ha : a < 2147483648) (hb : b < 2147483648) : ((-1 : Int32) * Int32.ofNat a ≤ (-1) * Int32.ofNat b) = (b ≤ a) := by
  have h : ∀ c, c < 2147483648 → ((-1 : Int32) * Int32.ofNat c).toInt = -(c : Int) := by
    intro c hc
    rw [Int32.toInt_mul, J_int hc, show (-1 : Int32).toInt = -1 from rfl, Int.neg_one_mul]
    rw [Int.bmod_eq_of_le (by omega) (by omega)]
  apply propext
  rw [Int32.le_iff_toInt_le, h a ha, h b hb]
  omega
theorem cl_overS (hW : WOk d t) (Q : QS o σ0 x wa dq sl bu re) (D : RD o σ0 wa L d t u v σ) {g : Nat → Nat} (hgl : ∀ n, g n ≤ 40000) (b : Bool) {sg : Int32} (hs : sg = if b then 1 else -1) (hg : ∀ n τ, n < casesN d → RD o σ0 wa L d t u v τ → Rt (RD o σ0 wa L d t u v) (dL_of q (Int32.ofNat n) τ) (Int32.ofNat (g n))) : Rt (RD o σ0 wa L d t u v) (m_X1_overSettled x (some q) sg σ) (.inl (o32 (extG (seB d t) g b (casesN d)))) := by
  subst hs
  have hF := hW.1
  have hc := casesN_le hF
  unfold m_X1_overSettled
  rw [gR_J (Q.g D) rfl, nn_J D.W.w, cl_cases hF D.W, bd_J]
  refine loopD (fun _ => RD o σ0 wa L d t u v) (fun f k σ => b_X1_overSettled_14 x f (some q) (if b then 1 else -1) (o32 (extG (seB d t) g b k)) (Int32.ofNat (casesN d)) (Int32.ofNat k) σ) (fun z => Rt (RD o σ0 wa L d t u v) z (.inl (o32 (extG (seB d t) g b (casesN d))))) (casesN d) (by omega) (fun f k σ hk D ih => ?_) (fun f σ D => ?_) σ D
  · show Rt _ (b_X1_overSettled_14 x (f + 1) _ _ _ _ _ _) _
    obtain ⟨p, σ1, e, D1, ⟨-, row, -, qc, -⟩, -⟩ := cl_look hW D hk
    have h3 := verdN_le d (setN d t k)
    have e5 : extG (seB d t) g b (k + 1) = if seB d t k then (match extG (seB d t) g b k with
      | none => some (g k)
      | some x => some (if b then (if x < g k then g k else x) else if g k < x then g k else x)) else extG (seB d t) g b k := rfl
    rw [e5] at ih
    rw [b_X1_overSettled_14, iJ_le (by omega) (by omega), if_neg (by omega), gR_J (Q.g D) rfl, nn_J D.W.w, e, bd_J, gI_J qc rfl, iJ_eqL (by omega) (by decide)]
    by_cases c : verdN d (setN d t k) = 0
    · rw [if_pos (show verdN d (setN d t k) = OfNat.ofNat 0 from c), icl_J]
      rw [if_pos (show seB d t k = true from decide_eq_true c)] at ih
      refine Rt.bd (hg k σ1 hk D1) (fun σ2 D2 => ?_)
      have hl := hgl k
      have ih := ih σ2 D2
      rw [iJ_m1 (fun z hz => by have := extG_le hgl k z hz; omega)]
      cases hx : extG (seB d t) g b k with
      | none =>
        rw [hx] at ih
        rw [if_pos rfl, lt_J, J_addL]
        exact ih
      | some z =>
        rw [hx] at ih
        have hz := extG_le hgl k z hx
        rw [if_neg (fun w => by cases w)]
        show Rt _ (if (if b then 1 else -1) * Int32.ofNat (g k) ≤ (if b then 1 else -1) * Int32.ofNat z then _ else _) _
        cases b with
        | true =>
          simp only [if_pos, Int32.one_mul] at ih ⊢
          rw [iJ_le (by omega) (by omega)]
          by_cases c2 : g k ≤ z
          · rw [if_pos c2, lt_J, J_addL]
            rw [if_neg (by omega)] at ih
            exact ih
          · rw [if_neg c2, lt_J, J_addL]
            rw [if_pos (by omega)] at ih
            exact ih
        | false =>
          simp only [if_neg (show ¬ (false = true) from by decide)] at ih ⊢
          rw [ite_pq (J_neg_le (by omega) (by omega))]
          by_cases c2 : z ≤ g k
          · rw [if_pos c2, lt_J, J_addL]
            rw [if_neg (by omega)] at ih
            exact ih
          · rw [if_neg c2, lt_J, J_addL]
            rw [if_pos (by omega)] at ih
            exact ih
    · rw [if_neg (show ¬ verdN d (setN d t k) = OfNat.ofNat 0 from c), lt_J, J_addL]
      rw [if_neg (show ¬ seB d t k = true from fun w => c (of_decide_eq_true w))] at ih
      exact ih σ1 D1
  · show Rt _ (b_X1_overSettled_14 x (f + 1) _ _ _ _ _ _) _
    rw [b_X1_overSettled_14, iJ_le (by omega) (by omega), if_pos (Nat.le_refl _), xl_J]
    exact Rt.mk D
/-- a new object of a lambda: the questions go on from there -/
theorem lam_new (Q : QS o σ0 x wa dq sl bu re) (hF : FOk d) (D : RD o σ0 wa L d t (u + 1) (v + 3) σ) {c k : Nat} {fs : List Value} (hk : k ≤ 3) : (σ.2 0 + 1 ≤ σ.2 3 ∧ σ.2 1 + k ≤ σ.2 4) ∧ RD o σ0 wa L d t u v (cN σ (.inr (c, fs)) k) ∧ QS o (cN σ (.inr (c, fs)) k) x wa dq sl bu re ∧ ∀ u' v' τ, RD o (cN σ (.inr (c, fs)) k) wa L d t u' v' τ → τ.1 (σ.2 0) = some (.inr (c, fs)) := by
  have D' : RD o σ0 wa L d t (u + 1) (v + k) σ := D.le (Nat.le_refl _) (by omega)
  have D1 : RD o σ0 wa L d t u v (cN σ (.inr (c, fs)) k) := D'.new hF
  refine ⟨D'.room, D1, Q.to D1, fun u' v' τ Dτ => Dτ.g D1.S cN_s (fun w => ?_)⟩
  have := D.S.nw (Nat.le_refl (σ.2 0))
  rw [w] at this
  cases this
theorem RD.rm {a u' v' : Nat} (D : RD o σ0 a L d t u v σ) (h1 : u' ≤ u) (h2 : v' ≤ v) : Rm σ u' v' := by
  obtain ⟨-, -, -, n, -, h⟩ := D
  exact h.le (by omega) (by omega)
/-- what an heir gets, as a lambda -/
theorem lg_gets (hW : WOk d t) (Q : QS o σ0 x wa dq sl bu re) {c h : Nat} (hh : h < d 5) (hc : c = 68 ∨ c = 69) (hq : ∀ u v τ, RD o σ0 wa L d t u v τ → τ.1 q = some (.inr (c, [.ref x, .int (Int32.ofNat h)]))) : ∀ n τ, n < casesN d → RD o σ0 wa L d t u v τ → Rt (RD o σ0 wa L d t u v) (dL_of q (Int32.ofNat n) τ) (Int32.ofNat (partN d (setlN d (setN d t n)) h)) := by
  intro n τ hn D
  have key : Rt (RD o σ0 wa L d t u v) (m_X1_lambda_heir_0 x (Int32.ofNat h) (Int32.ofNat n) τ) (Int32.ofNat (partN d (setlN d (setN d t n)) h)) := by
    unfold m_X1_lambda_heir_0
    rw [gR_J (Q.g D) rfl, nn_J D.W.w]
    exact Rt.bd (cl_gets hW D hn hh) (fun σ1 D1 => Rt.mk D1)
  rcases hc with rfl | rfl
  · rw [dl_68 (hq u v τ D) (Q.g D)]; exact key
  · rw [dl_69 (hq u v τ D) (Q.g D)]; exact key
theorem lg_duties (hW : WOk d t) (Q : QS o σ0 x wa dq sl bu re) {c : Nat} (hc : c = 65 ∨ c = 67) (hq : ∀ u v τ, RD o σ0 wa L d t u v τ → τ.1 q = some (.inr (c, [.ref x]))) : ∀ n τ, n < casesN d → RD o σ0 wa L d t u v τ → Rt (RD o σ0 wa L d t u v) (dL_of q (Int32.ofNat n) τ) (Int32.ofNat (dutsN d (setlN d (setN d t n)))) := by
  intro n τ hn D
  have key : Rt (RD o σ0 wa L d t u v) (m_X1_lambda_dearest_11 x (Int32.ofNat n) τ) (Int32.ofNat (dutsN d (setlN d (setN d t n)))) := by
    unfold m_X1_lambda_dearest_11
    rw [gR_J (Q.g D) rfl, nn_J D.W.w]
    exact Rt.bd (cl_duties hW D hn) (fun σ1 D1 => Rt.mk D1)
  rcases hc with rfl | rfl
  · rw [dl_65 (hq u v τ D) (Q.g D)]; exact key
  · rw [dl_67 (hq u v τ D) (Q.g D)]; exact key
theorem J_bit0 {a k : Nat} (ha : a < 2147483648) (hk : k < 32) : (Int32.ofNat a >>> (Int32.ofNat k &&& 31)) &&& 1 = if a.testBit k then 1 else 0 := by
  have h := J_bit ha hk
  cases c : a.testBit k with
  | true => rw [if_pos rfl, h]; exact c
  | false =>
    rw [if_neg (by decide), J_shr ha hk, show (1 : Int32) = Int32.ofNat 1 from rfl, J_and]
    rw [Nat.testBit_eq_decide_div_mod_eq] at c
    have c := of_decide_eq_false c
    rw [Nat.and_one_is_mod, Nat.shiftRight_eq_div_pow]
    rw [show a / 2 ^ k % 2 = 0 by omega]
    rfl
theorem lg_rule (hW : WOk d t) (Q : QS o σ0 x wa dq sl bu re) {w r : Nat} (hr : r < d 17) (hw : w ≤ 2) (hq : ∀ u v τ, RD o σ0 wa L d t u v τ → τ.1 q = some (.inr (70 + w, [.ref x, .int (Int32.ofNat r)]))) : ∀ n τ, n < casesN d → RD o σ0 wa L d t u v τ → Rt (RD o σ0 wa L d t u v) (dL_of q (Int32.ofNat n) τ) (if mofB d t r w n then 1 else 0) := by
  intro n τ hn D
  have h17 := hW.r
  have hp := pow10 h17
  have hm := setN_lt (d := d) (t := t) (n := n)
  have hu : unbN d (setN d t n) ≤ setN d t n := andn_le _ _
  obtain ⟨p, σ1, e, D1, ⟨-, row, -, qc, -⟩, -⟩ := cl_look hW D hn
  obtain rfl | rfl | rfl : w = 0 ∨ w = 1 ∨ w = 2 := by omega
  · rw [dl_70 (hq u v τ D) (Q.g D), show mofB d t r 0 n = (setN d t n).testBit r from rfl]
    unfold m_X1_lambda_rule_2
    rw [gR_J (Q.g D) rfl, nn_J D.W.w, e, bd_J, gI_J qc rfl, J_bit0 (by omega) (by omega)]
    exact Rt.mk D1
  · rw [dl_71 (hq u v τ D) (Q.g D), show mofB d t r 1 n = decide (setlN d (setN d t n) = some r) from rfl]
    unfold m_X1_lambda_rule_3
    rw [gR_J (Q.g D) rfl, nn_J D.W.w, e, bd_J, gI_J qc rfl, ite_pq (o32_b (fun k hk => by have := setl_lt hW hk; omega) (by omega))]
    by_cases c : setlN d (setN d t n) = some r
    · rw [if_pos c, if_pos (decide_eq_true c)]; exact Rt.mk D1
    · rw [if_neg c, if_neg (by simpa using c)]; exact Rt.mk D1
  · rw [dl_72 (hq u v τ D) (Q.g D), show mofB d t r 2 n = ((setN d t n).testBit r && !(unbN d (setN d t n)).testBit r) from rfl]
    unfold m_X1_lambda_rule_4 m_X1_beatenIn
    rw [gR_J (Q.g D) rfl, nn_J D.W.w, e, bd_J, gI_J qc rfl, gI_J qc rfl, J_andn (by omega)]
    have hl := andn_le (setN d t n) (unbN d (setN d t n))
    rw [J_bit0 (by omega) (by omega), andn_bit (by omega), bd_J]
    exact Rt.mk D1
theorem cl_applies (hW : WOk d t) (Q : QS o σ0 x wa dq sl bu re) (D : RD o σ0 wa L d t u v σ) (h1 : 1 ≤ u) (h2 : 6 ≤ v) {n r : Nat} (hn : n < casesN d) (hr : r < d 17) : Rt (RD o σ0 wa L d t u v) (m_X1_applies x (Int32.ofNat n) (Int32.ofNat r) σ) (.inl (b32 ((setN d t n).testBit r))) := by
  have h17 := hW.r
  have hp := pow10 h17
  have hc := casesN_le hW.1
  have hm := setN_lt (d := d) (t := t) (n := n)
  have b1 : ∀ {a b : Nat}, a < b → b < 2147483648 → inB (Int32.ofNat a) b = true := fun h h' => decide_eq_true (by rw [J_int (by omega)]; omega)
  obtain ⟨p, σ1, e, D1, ⟨-, row, -, qc, -⟩, -⟩ := cl_look hW D hn
  unfold m_X1_applies
  rw [nn_J (Q.g D), cz_case hW.1 (Q.g D) D.W, b1 hn (by omega), if_pos rfl, bdx_l, nn_J (Q.g D), cz_rule hW (Q.g D) D.W (D.rm h1 h2), b1 hr (by omega), if_pos rfl, bdx_l, gR_J (Q.g D) rfl, nn_J D.W.w, e, bd_J, gI_J qc rfl, ite_pq (J_bit (by omega) (by omega))]
  cases (setN d t n).testBit r with
  | true => rw [if_pos rfl]; exact Rt.mk D1
  | false => rw [if_neg (by decide)]; exact Rt.mk D1
theorem Rt.bdx {α γ : Type} {D D2 : cS → Prop} {r : Option (cX α × cS)} {v : α} {K : α → cS → Option (cX γ × cS)} {w : cX γ} (h : Rt D r (.inl v)) (k : ∀ σ', D σ' → Rt D2 (K v σ') w) : Rt D2 (bdx r K) w := by
  obtain ⟨σ', e, hD⟩ := h
  rw [e, bdx_l]
  exact k σ' hD
theorem Rt.unx {α : Type} {D : cS → Prop} {r : Option (cX α × cS)} {v : α} (h : Rt D r (.inl v)) : Rt D (unx r) v := by
  obtain ⟨σ', e, hD⟩ := h
  rw [e]
  exact ⟨σ', rfl, hD⟩
theorem lg_wider (hW : WOk d t) (Q : QS o σ0 x wa dq sl bu re) (h1 : 1 ≤ u) (h2 : 6 ≤ v) {r s : Nat} (hr : r < d 17) (hs : s < d 17) (hq : ∀ u v τ, RD o σ0 wa L d t u v τ → τ.1 q = some (.inr (73, [.ref x, .int (Int32.ofNat s), .int (Int32.ofNat r)]))) : ∀ n τ, n < casesN d → RD o σ0 wa L d t u v τ → Rt (RD o σ0 wa L d t u v) (dL_of q (Int32.ofNat n) τ) (if (setN d t n).testBit s && !(setN d t n).testBit r then 1 else 0) := by
  intro n τ hn D
  rw [dl_73 (hq u v τ D) (Q.g D)]
  refine Rt.unx ?_
  unfold m_X1_lambda_isWider_5
  rw [nn_J (Q.g D)]
  refine Rt.bdx (cl_applies hW Q D h1 h2 hn hs) (fun σ1 D1 => ?_)
  rw [ite_pq (b32_0 _)]
  cases (setN d t n).testBit s with
  | false => rw [if_pos rfl]; exact Rt.mk D1
  | true =>
    rw [if_neg (by decide), nn_J (Q.g D1)]
    refine Rt.bdx (cl_applies hW Q D1 h1 h2 hn hr) (fun σ2 D2 => ?_)
    rw [ite_pq (b32_0 _)]
    cases (setN d t n).testBit r with
    | false => rw [if_pos rfl]; exact Rt.mk D2
    | true => rw [if_neg (by decide)]; exact Rt.mk D2
theorem lg_common (hW : WOk d t) (Q : QS o σ0 x wa dq sl bu re) (h1 : 1 ≤ u) (h2 : 6 ≤ v) {r s : Nat} (hr : r < d 17) (hs : s < d 17) (hq : ∀ u v τ, RD o σ0 wa L d t u v τ → τ.1 q = some (.inr (74, [.ref x, .int (Int32.ofNat r), .int (Int32.ofNat s)]))) : ∀ n τ, n < casesN d → RD o σ0 wa L d t u v τ → Rt (RD o σ0 wa L d t u v) (dL_of q (Int32.ofNat n) τ) (if (setN d t n).testBit r && (setN d t n).testBit s then 1 else 0) := by
  intro n τ hn D
  rw [dl_74 (hq u v τ D) (Q.g D)]
  refine Rt.unx ?_
  unfold m_X1_lambda_common_6
  rw [nn_J (Q.g D)]
  refine Rt.bdx (cl_applies hW Q D h1 h2 hn hr) (fun σ1 D1 => ?_)
  rw [ite_pq (b32_0 _)]
  cases (setN d t n).testBit r with
  | false => rw [if_pos rfl]; exact Rt.mk D1
  | true =>
    rw [if_neg (by decide), nn_J (Q.g D1)]
    refine Rt.bdx (cl_applies hW Q D1 h1 h2 hn hs) (fun σ2 D2 => ?_)
    rw [ite_pq (b32_0 _)]
    cases (setN d t n).testBit s with
    | false => rw [if_pos rfl]; exact Rt.mk D2
    | true => rw [if_neg (by decide)]; exact Rt.mk D2
theorem lg_left (hW : WOk d t) (Q : QS o σ0 x wa dq sl bu re) (hq : ∀ u v τ, RD o σ0 wa L d t u v τ → τ.1 q = some (.inr (66, [.ref x]))) : ∀ n τ, n < casesN d → RD o σ0 wa L d t u v τ → Rt (RD o σ0 wa L d t u v) (dL_of q (Int32.ofNat n) τ) ((if setlN d (setN d t n) = none then 0 else Int32.ofNat (d 7)) - subI d (setlN d (setN d t n)) (d 5)) := by
  intro n τ hn D
  have h5 := hW.h
  have h3 := verdN_le d (setN d t n)
  obtain ⟨p, σ1, e, D1, ⟨-, row, -, qc, -⟩, -⟩ := cl_look hW D hn
  rw [dl_66 (hq u v τ D) (Q.g D)]
  unfold m_X1_left
  rw [gR_J (Q.g D) rfl, nn_J D.W.w, e, bd_J, gI_J qc rfl, iJ_eqL (by omega) (by decide), gR_J (Q.g D1) rfl, gI_J D1.W.w rfl]
  have key : ∀ z : Int32, Rt (RD o σ0 wa L d t u v) (b_X1_left_28 x FU (Int32.ofNat n) z 0 σ1) (z - subI d (setlN d (setN d t n)) (d 5)) := by
    intro z
    have := loopD (fun _ => RD o σ0 wa L d t u v) (fun f k σ => b_X1_left_28 x f (Int32.ofNat n) (z - subI d (setlN d (setN d t n)) k) (Int32.ofNat k) σ) (fun r => Rt (RD o σ0 wa L d t u v) r (z - subI d (setlN d (setN d t n)) (d 5))) (d 5) (by omega) (fun f k σ hk D ih => ?_) (fun f σ D => ?_) σ1 D1
    · rw [show subI d (setlN d (setN d t n)) 0 = 0 from rfl, Int32.sub_zero] at this
      exact this
    · show Rt _ (b_X1_left_28 x (f + 1) _ _ _ _) _
      rw [b_X1_left_28, gR_J (Q.g D) rfl, gI_J D.W.w rfl, iJ_le (by omega) (by omega), if_neg (by omega), gR_J (Q.g D) rfl, nn_J D.W.w]
      refine Rt.bd (cl_gets hW D hn hk) (fun σ2 D2 => ?_)
      rw [lt_J, lt_J, J_addL, i32_sub]
      exact ih σ2 D2
    · show Rt _ (b_X1_left_28 x (f + 1) _ _ _ _) _
      rw [b_X1_left_28, gR_J (Q.g D) rfl, gI_J D.W.w rfl, iJ_le (by omega) (by omega), if_pos (Nat.le_refl _)]
      exact Rt.mk D
  by_cases c : verdN d (setN d t n) = 0
  · rw [if_pos (show verdN d (setN d t n) = OfNat.ofNat 0 from c), if_neg (by rw [se_o hW] at c; exact c)]
    exact key _
  · rw [if_neg (show ¬ verdN d (setN d t n) = OfNat.ofNat 0 from c), if_pos (by rw [se_o hW] at c; exact Decidable.of_not_not c)]
    exact key _
end CLP
