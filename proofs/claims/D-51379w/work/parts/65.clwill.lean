/-! THE PLAIN LAW, the class' side: guards, rules, wills -/
set_option maxRecDepth 100000
def sgN (k : Nat) : Nat := if k = 0 then 61 else if k = 1 then 60 else 62
def laN (k : Nat) : Nat := if k = 0 then 8 else if k = 1 then 6 else 7
def foldF (b : Bool) (ts : Nat → Term) : Nat → Term
  | 0 => ts 0
  | k + 1 => if b then .mul (foldF b ts k) (ts (k + 1)) else .add (foldF b ts k) (ts (k + 1))
/-- a guard's objects -/
def GuardC (o : oW) (σ : cS) (d : Nat → Nat) : Nat → Nat → Term → Prop
  | 0, _, _ => False
  | D + 1, p, tm => (o p).1 = 0 ∧ ((∃ s, tm = .arg s ∧ sOk d s ∧ σ.1 p = some (.inr (4, [.int (Int32.ofNat ((s - 10) / 16)), .int (Int32.ofNat (sgN ((s - 10) / 4 % 4))), .int (Int32.ofNat ((s - 10) % 4)), .ref (σ.2 (laN ((s - 10) / 4 % 4)))]))) ∨ (tm = .null ∧ σ.1 p = some (.inr (7, []))) ∨ (∃ q u, tm = .length u ∧ σ.1 p = some (.inr (6, [.ref q])) ∧ GuardC o σ d D q u) ∨ ∃ (b : Bool) (li ar n : Nat) (r : Nat → Nat) (ts : Nat → Term), ((1 ≤ n ∧ n ≤ 11) ∧ tm = foldF b ts n) ∧ σ.1 p = some (.inr (5, [.ref li, .int (b32 b)])) ∧ ((o li).1 = 0 ∧ (o ar).1 = 0 ∧ AL σ li ar (n + 1) r) ∧ ∀ i, i ≤ n → GuardC o σ d D (r i) (ts i))
theorem laN_2 (k : Nat) : 2 ≤ laN k := by
  unfold laN
  split
  · decide
  · split <;> decide
theorem GuardC.c {o o' : oW} {M : Nat → Prop} {σ σ' : cS} {d d' : Nat → Nat} (hC : Ch M σ σ') (hW : Wf σ) (hM : ∀ q, q < σ.2 0 → M q → (o q).1 ≠ 0) (ho : ∀ q, q < σ.2 0 → (o q).1 = 0 → (o' q).1 = 0) (hd : ∀ i, i < 5 → d' i = d i) (h0 : d 0 ≤ 4) : ∀ D p tm, GuardC o σ d D p tm → GuardC o' σ' d' D p tm := by
  intro D
  induction D with
  | zero => intro p tm h; exact h
  | succ D ih =>
    intro p tm h
    obtain ⟨h1, h2⟩ := h
    have kp : ∀ {q : Nat} {e : cE}, (o q).1 = 0 → σ.1 q = some e → σ'.1 q = some e := fun h0 hq => hC.c hW hq (fun w => hM _ (hW.lt hq) w h0)
    rcases h2 with ⟨s, e, e2, e3⟩ | ⟨e, e3⟩ | ⟨q, u, e, e3, e4⟩ | ⟨b, li, ar, n, r, ts, e, e3, ⟨e4, e5, e6⟩, e7⟩
    · refine ⟨ho p (hW.lt e3) h1, Or.inl ⟨s, e, ?_, ?_⟩⟩
      · obtain ⟨w1, w2, w3, w4⟩ := e2
        exact ⟨w1, by rw [hd 0 (by decide)]; exact w2, by rw [hd _ (by omega)]; exact w3, w4⟩
      · rw [kp h1 e3, hC.k (laN_2 _)]
    · exact ⟨ho p (hW.lt e3) h1, Or.inr (Or.inl ⟨e, kp h1 e3⟩)⟩
    · exact ⟨ho p (hW.lt e3) h1, Or.inr (Or.inr (Or.inl ⟨q, u, e, kp h1 e3, ih q u e4⟩))⟩
    · obtain ⟨⟨mc, g1⟩, cap, f, g2, -⟩ := id e6
      exact ⟨ho p (hW.lt e3) h1, Or.inr (Or.inr (Or.inr ⟨b, li, ar, n, r, ts, e, kp h1 e3, ⟨ho li (hW.lt g1) e4, ho ar (hW.lt g2) e5, e6.c hC hW (fun w => hM _ (hW.lt g1) w e4) (fun w => hM _ (hW.lt g2) w e5)⟩, fun i hi => ih _ _ (e7 i hi)⟩))⟩
theorem GuardC.up {o : oW} {σ : cS} {d : Nat → Nat} : ∀ D p tm, GuardC o σ d D p tm → GuardC o σ d (D + 1) p tm := by
  intro D
  induction D with
  | zero => intro p tm h; exact h.elim
  | succ D ih =>
    intro p tm h
    obtain ⟨h1, h2⟩ := h
    rcases h2 with h | h | ⟨q, u, e, e3, e4⟩ | ⟨b, li, ar, n, r, ts, e, e3, e4, e7⟩
    · exact ⟨h1, Or.inl h⟩
    · exact ⟨h1, Or.inr (Or.inl h)⟩
    · exact ⟨h1, Or.inr (Or.inr (Or.inl ⟨q, u, e, e3, ih _ _ e4⟩))⟩
    · exact ⟨h1, Or.inr (Or.inr (Or.inr ⟨b, li, ar, n, r, ts, e, e3, e4, fun i hi => ih _ _ (e7 i hi)⟩))⟩
theorem GuardC.le {o : oW} {σ : cS} {d : Nat → Nat} {D p : Nat} {tm : Term} (h : GuardC o σ d D p tm) : ∀ j, GuardC o σ d (D + j) p tm := by
  intro j
  induction j with
  | zero => exact h
  | succ j ih => exact ih.up
/-- a guard's class -/
theorem GuardC.k {o : oW} {σ : cS} {d : Nat → Nat} {D p : Nat} {tm : Term} (h : GuardC o σ d D p tm) : ∃ c fs, σ.1 p = some (.inr (c, fs)) ∧ 4 ≤ c ∧ c ≤ 7 := by
  cases D with
  | zero => exact h.elim
  | succ D =>
    obtain ⟨-, h2⟩ := h
    rcases h2 with ⟨s, e, e2, e3⟩ | ⟨e, e3⟩ | ⟨q, u, e, e3, e4⟩ | ⟨b, li, ar, n, r, ts, e, e3, e4, e7⟩
    · exact ⟨_, _, e3, by decide, by decide⟩
    · exact ⟨_, _, e3, by decide, by decide⟩
    · exact ⟨_, _, e3, by decide, by decide⟩
    · exact ⟨_, _, e3, by decide, by decide⟩
theorem GuardC.cst {β : Type} {o : oW} {σ : cS} {d : Nat → Nat} {D p : Nat} {tm : Term} {K : Option β} (h : GuardC o σ d D p tm) : cst σ (some p) [4, 5, 6, 7] K = K := by
  obtain ⟨c, fs, h1, h2, h3⟩ := h.k
  refine cst_J h1 (by omega) ?_
  obtain rfl | rfl | rfl | rfl : c = 4 ∨ c = 5 ∨ c = 6 ∨ c = 7 := by omega
  all_goals rfl
theorem GuardC.okV {o : oW} {σ : cS} {d : Nat → Nat} {D p : Nat} {tm : Term} (h : GuardC o σ d D p tm) : okV σ 2 (some p) = true := by
  obtain ⟨c, fs, h1, h2, h3⟩ := h.k
  exact okV_J h1 (decide_eq_true (by omega))
/-- the words and numbers that stand from the start -/
def SC (o : oW) (σ : cS) (p : Nat) (s : List Nat) : Prop := ∃ (by_ : Nat) (h z : Int32) (f : Nat → Int32), (o p).1 = 0 ∧ (o by_).1 = 0 ∧ σ.1 p = some (.inr (12, [.ref by_, .int 0, .int h, .int z])) ∧ σ.1 by_ = some (.inl (1, s.length, .inl f)) ∧ ∀ i, i < s.length → f i = (Int32.ofNat (s.getD i 0)).toInt8.toInt32
def fvB (b : Bool) (h : Nat → Bool) : Nat → Bool
  | 0 => b
  | k + 1 => if b then fvB b h k && h k else fvB b h k || h k
theorem fvB_st {b : Bool} {h : Nat → Bool} {k : Nat} (e : fvB b h k = !b) : ∀ j, fvB b h (k + j) = !b := by
  intro j
  induction j with
  | zero => exact e
  | succ j ih =>
    show (if b then fvB b h (k + j) && h (k + j) else fvB b h (k + j) || h (k + j)) = !b
    rw [ih]
    cases b <;> simp
theorem foldF_v {d : Nat → Nat} {n : Nat} {b : Bool} {ts : Nat → Term} : ∀ k, decide (gV d n (foldF b ts k) = 1) = fvB b (fun i => decide (gV d n (ts i) = 1)) (k + 1) := by
  intro k
  induction k with
  | zero =>
    show decide (gV d n (ts 0) = 1) = if b then b && decide (gV d n (ts 0) = 1) else b || decide (gV d n (ts 0) = 1)
    cases b <;> simp
  | succ k ih =>
    have h1 := gV_le d n (foldF b ts k)
    have h2 := gV_le d n (ts (k + 1))
    show decide (gV d n (if b then .mul (foldF b ts k) (ts (k + 1)) else .add (foldF b ts k) (ts (k + 1))) = 1) = if b then fvB b (fun i => decide (gV d n (ts i) = 1)) (k + 1) && decide (gV d n (ts (k + 1)) = 1) else fvB b (fun i => decide (gV d n (ts i) = 1)) (k + 1) || decide (gV d n (ts (k + 1)) = 1)
    rw [← ih]
    cases b
    · show decide ((if gV d n (foldF false ts k) < gV d n (ts (k + 1)) then gV d n (ts (k + 1)) else gV d n (foldF false ts k)) = 1) = _
      simp only [if_neg (show ¬ (false = true) from by decide)]
      rw [← Bool.decide_or]
      apply decide_eq_decide.mpr
      split <;> omega
    · show decide (gV d n (foldF true ts k) * gV d n (ts (k + 1)) = 1) = _
      simp only [if_pos]
      rw [← Bool.decide_and]
      apply decide_eq_decide.mpr
      rcases Nat.le_one_iff_eq_zero_or_eq_one.mp h1 with w | w
      · rw [w]; simp
      · rw [w, Nat.one_mul]; simp
theorem gz_b {b : Bool} {σ : cS} : gz (some (b32 b, σ)) = some (b32 b, σ) := by cases b <;> rfl
theorem dL_isJ {σ : cS} {k v w : Nat} (hl : ∀ k, k < 3 → ∃ fs, σ.1 (σ.2 (6 + k)) = some (.inr (60 + k, fs))) (hk : k ≤ 2) (hv : v < 2147483648) (hw : w < 2147483648) : dL_is (σ.2 (laN k)) (Int32.ofNat v) (Int32.ofNat w) σ = some (b32 (if k = 0 then decide (v = w) else if k = 1 then decide (v < w) else decide (w < v)), σ) := by
  obtain rfl | rfl | rfl : k = 0 ∨ k = 1 ∨ k = 2 := by omega
  · obtain ⟨fs, h⟩ := hl 2 (by decide)
    have h : σ.1 (σ.2 (laN 0)) = some (.inr (62, fs)) := h
    unfold dL_is gL m_X7_lambda_new_2
    rw [isO_J h, isO_J h, isO_J h, if_neg (by decide), if_neg (by decide), if_pos (by decide), h]
    dsimp only
    rw [if_pos rfl, iJ_eq hv hw]
    by_cases c : v = w
    · rw [if_pos c, if_pos rfl, decide_eq_true c]; rfl
    · rw [if_neg c, if_pos rfl, decide_eq_false c]; rfl
  · obtain ⟨fs, h⟩ := hl 0 (by decide)
    have h : σ.1 (σ.2 (laN 1)) = some (.inr (60, fs)) := h
    unfold dL_is gL m_X7_lambda_new_0
    rw [isO_J h, if_pos (by decide), h]
    dsimp only
    rw [if_pos rfl, iJ_le hw hv, if_neg (show ¬ 1 = 0 by decide), if_pos (show 1 = 1 from rfl)]
    by_cases c : w ≤ v
    · rw [if_pos c, decide_eq_false (by omega)]; rfl
    · rw [if_neg c, decide_eq_true (by omega)]; rfl
  · obtain ⟨fs, h⟩ := hl 1 (by decide)
    have h : σ.1 (σ.2 (laN 2)) = some (.inr (61, fs)) := h
    unfold dL_is gL m_X7_lambda_new_1
    rw [isO_J h, isO_J h, if_neg (by decide), if_pos (by decide), h]
    dsimp only
    rw [if_pos rfl, iJ_le hv hw, if_neg (show ¬ 2 = 0 by decide), if_neg (show ¬ 2 = 1 by decide)]
    by_cases c : v ≤ w
    · rw [if_pos c, decide_eq_false (by omega)]; rfl
    · rw [if_neg c, decide_eq_true (by omega)]; rfl
theorem cl_holds {o : oW} {σ : cS} {d : Nat → Nat} {n q : Nat} (hF : FOk d) (hl : ∀ k, k < 3 → ∃ fs, σ.1 (σ.2 (6 + k)) = some (.inr (60 + k, fs))) (hI : IA σ q (d 0) (fun f => valueN d n f)) : ∀ D E p tm, GuardC o σ d D p tm → D ≤ E → dv_holds E p (some q) σ = some (b32 (decide (gV d n tm = 1)), σ) := by
  have h4 := hF.1
  intro D
  induction D with
  | zero => intro E p tm h _; exact h.elim
  | succ D ih =>
    intro E p tm h hE
    obtain ⟨E, rfl⟩ : ∃ E', E = E' + 1 := ⟨E - 1, by omega⟩
    obtain ⟨-, h2⟩ := h
    show (if isO σ p 4 = true then m_X7_holds (dv_holds E) p (some q) σ else if isO σ p 5 = true then m_X8_holds (dv_holds E) p (some q) σ else if isO σ p 6 = true then m_X5_holds (dv_holds E) p (some q) σ else if isO σ p 7 = true then m_X6_holds (dv_holds E) p (some q) σ else none) = _
    rcases h2 with ⟨s, e, e2, e3⟩ | ⟨e, e3⟩ | ⟨p', u, e, e3, e4⟩ | ⟨b, li, ar, m, r, ts, ⟨e8, e⟩, e3, ⟨-, -, e6⟩, e7⟩
    · obtain ⟨w1, w2, w3, w4⟩ := e2
      have hv := valueN_lt hF n w2
      have hb := hF.2 _ w2
      rw [isO_J e3, if_pos (by decide)]
      unfold m_X7_holds
      rw [gR_J e3 rfl, gI_J e3 rfl, hI.ld w2 (by omega), gI_J e3 rfl, icl_J, dL_isJ hl w4 (by omega) (by omega), bd_J, rzJ, e]
      congr 3
      unfold gV cmpN
      split
      · split <;> simp_all
      · split
        · split <;> simp_all
        · split <;> simp_all
    · rw [isO_J e3, isO_J e3, isO_J e3, isO_J e3, if_neg (by decide), if_neg (by decide), if_neg (by decide), if_pos (by decide), e]
      rfl
    · rw [isO_J e3, isO_J e3, isO_J e3, if_neg (by decide), if_neg (by decide), if_pos (by decide)]
      unfold m_X5_holds
      rw [gR_J e3 rfl, icl_J, ih E p' u e4 (by omega), bd_J, ite_pq (b32_0 _), e]
      have := gV_le d n u
      show _ = some (b32 (decide (1 - gV d n u = 1)), σ)
      by_cases c : gV d n u = 1
      · rw [decide_eq_true c, if_neg (by decide), decide_eq_false (by omega)]; rfl
      · rw [decide_eq_false c, if_pos rfl, decide_eq_true (by omega)]; rfl
    · rw [isO_J e3, isO_J e3, if_neg (by decide), if_pos (by decide)]
      unfold m_X8_holds
      rw [gI_J e3 rfl, e, foldF_v]
      refine loop_FU (fun f k => b_X8_holds_7 (dv_holds E) p f (some q) (b32 (fvB b (fun i => decide (gV d n (ts i) = 1)) k)) (Int32.ofNat k) σ) (fun _ => some (b32 (fvB b (fun i => decide (gV d n (ts i) = 1)) (m + 1)), σ)) (m + 1) (by omega) (fun f k hk i5 => ?_) (fun f => ?_)
      · show b_X8_holds_7 (dv_holds E) p (f + 1) _ _ _ _ = _
        rw [b_X8_holds_7, gR_J e3 rfl, e6.nn, e6.size, bd_J, iJ_le (by omega) (by omega), if_neg (by omega), gI_J e3 rfl]
        by_cases c : fvB b (fun i => decide (gV d n (ts i) = 1)) k = b
        · rw [if_pos (by rw [c]), gR_J e3 rfl, e6.nn, e6.get hk, bd_J, (e7 k (by omega)).cst, icl_J, ih E (r k) (ts k) (e7 k (by omega)) (by omega), bd_J, lt_J, J_addL]
          refine Eq.trans ?_ i5
          show b_X8_holds_7 (dv_holds E) p f (some q) (b32 (decide (gV d n (ts k) = 1))) (Int32.ofNat (k + 1)) σ = b_X8_holds_7 (dv_holds E) p f (some q) (b32 (if b then fvB b _ k && _ else fvB b _ k || _)) (Int32.ofNat (k + 1)) σ
          rw [c]
          cases b <;> simp
        · have c2 : fvB b (fun i => decide (gV d n (ts i) = 1)) k = !b := by revert c; cases fvB b (fun i => decide (gV d n (ts i) = 1)) k <;> cases b <;> simp
          rw [if_neg (by rw [c2]; cases b <;> decide), rzJ, c2]
          have := fvB_st c2 (m + 1 - k)
          rw [show k + (m + 1 - k) = m + 1 by omega] at this
          rw [this]
      · show b_X8_holds_7 (dv_holds E) p (f + 1) _ _ _ _ = _
        rw [b_X8_holds_7, gR_J e3 rfl, e6.nn, e6.size, bd_J, iJ_le (by omega) (by omega), if_pos (Nat.le_refl _), rzJ]
