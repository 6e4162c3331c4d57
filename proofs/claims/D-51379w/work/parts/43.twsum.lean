/-! THE PLAIN LAW: the twin's gap, shares, means, checksum -/
set_option maxRecDepth 100000
theorem loop_I {α : Type} (B : Nat → Nat → twS → Option (α × twS)) (I : twS → Prop) (V : α) (n : Nat) (hn : n < 4096) (step : ∀ f k σ, k < n → I σ → (∀ σ2, I σ2 → ∃ σ', I σ' ∧ B f (k + 1) σ2 = some (V, σ')) → ∃ σ', I σ' ∧ B (f + 1) k σ = some (V, σ')) (fin : ∀ f σ, I σ → ∃ σ', I σ' ∧ B (f + 1) n σ = some (V, σ')) : ∀ σ, I σ → ∃ σ', I σ' ∧ B FU 0 σ = some (V, σ') := by
  have key : ∀ j k f, k + j = n → j < f → ∀ σ, I σ → ∃ σ', I σ' ∧ B f k σ = some (V, σ') := by
    intro j
    induction j with
    | zero =>
      intro k f hk hf σ hI
      obtain ⟨f, rfl⟩ : ∃ f', f = f' + 1 := ⟨f - 1, by omega⟩
      rw [show k = n by omega]
      exact fin f σ hI
    | succ j ih =>
      intro k f hk hf σ hI
      obtain ⟨f, rfl⟩ : ∃ f', f = f' + 1 := ⟨f - 1, by omega⟩
      exact step f k σ (by omega) hI (ih (k + 1) f (by omega) (by omega))
  exact key n 0 FU (by omega) (by show n < 4096; omega)
def subI (d : Nat → Nat) (o : Option Nat) : Nat → Int32
  | 0 => 0
  | k + 1 => subI d o k + Int32.ofNat (partN d o k)
def gapI (d : Nat → Nat) (t : Nat → Term) : Nat → Int32
  | 0 => 0
  | k + 1 => gapI d t k + ((if setlN d (setN d t k) = none then 0 else Int32.ofNat (d 7)) - subI d (setlN d (setN d t k)) (d 5))
theorem i32_sub (a b c : Int32) : a - b - c = a - (b + c) := by
  rw [Int32.sub_eq_add_neg, Int32.sub_eq_add_neg, Int32.sub_eq_add_neg, Int32.neg_add, Int32.sub_eq_add_neg, Int32.add_assoc]
theorem i32_asub (a b c : Int32) : a + b - c = a + (b - c) := by
  rw [Int32.sub_eq_add_neg, Int32.sub_eq_add_neg, Int32.add_assoc]
theorem tw_gap_in {d : Nat → Nat} {t : Nat → Term} {σ : twS} (hT : TW d σ) (hW : WOk d t) {o : Option Nat} (ho : ∀ r, o = some r → r < d 17) (K : Int32 → Int32 → Int32 → twS → Option (Int32 × twS)) (a c : Int32) (n : Nat) : bT_gap_58 K FU a c (Int32.ofNat n) (o32 o) 0 σ = K (a - subI d o (d 5)) c (Int32.ofNat (n + 1)) σ := by
  have h5 := hW.h
  have h0 : a - subI d o 0 = a := Int32.sub_zero a
  have := loop_FU (fun g k => bT_gap_58 K g (a - subI d o k) c (Int32.ofNat n) (o32 o) (Int32.ofNat k) σ) (fun _ => K (a - subI d o (d 5)) c (Int32.ofNat (n + 1)) σ) (d 5) (by omega) (fun g k hk ih => ?_) (fun g => ?_)
  · rw [h0] at this
    exact this
  · show bT_gap_58 K (g + 1) _ _ _ _ _ _ = _
    have e : subI d o (k + 1) = subI d o k + Int32.ofNat (partN d o k) := rfl
    rw [e] at ih
    rw [bT_gap_58, tw_aldL hT (by decide), iJ_le (by omega) (by omega), if_neg (by omega), tw_part hT hW ho hk, bd_J, lt_J, lt_J, J_addL, i32_sub]
    exact ih
  · show bT_gap_58 K (g + 1) _ _ _ _ _ _ = _
    rw [bT_gap_58, tw_aldL hT (by decide), iJ_le (by omega) (by omega), if_pos (Nat.le_refl _), lt_J, J_addL]
theorem tw_gap {d : Nat → Nat} {t : Nat → Term} {σ : twS} (hT : TW d σ) (hW : WOk d t) (hA : AP d t σ) : bT_gap_18 FU 0 (Int32.ofNat (casesN d)) 0 σ = some (gapI d t (casesN d), σ) := by
  have hC := casesN_le hW.1
  have h17 := hW.r
  refine loop_FU (fun g k => bT_gap_18 g (gapI d t k) (Int32.ofNat (casesN d)) (Int32.ofNat k) σ) (fun _ => some (gapI d t (casesN d), σ)) (casesN d) (by omega) (fun g k hk ih => ?_) (fun g => ?_)
  · show bT_gap_18 (g + 1) _ _ _ _ = _
    have e : gapI d t (k + 1) = gapI d t k + ((if setlN d (setN d t k) = none then 0 else Int32.ofNat (d 7)) - subI d (setlN d (setN d t k)) (d 5)) := rfl
    rw [e] at ih
    rw [bT_gap_18, iJ_le (by omega) (by omega), if_neg (by omega), ald_J (by omega) (by decide), hA k hk, tw_settles hT hW setN_lt, bd_J, setl_m1 hW]
    by_cases c : setlN d (setN d t k) = none
    · rw [if_pos c] at ih
      rw [if_pos c, lt_J, tw_gap_in hT hW (setl_ok hW), i32_asub]
      exact ih
    · rw [if_neg c] at ih
      rw [if_neg c, tw_aldL hT (by decide), lt_J, tw_gap_in hT hW (setl_ok hW), i32_asub]
      exact ih
  · show bT_gap_18 (g + 1) _ _ _ _ = _
    rw [bT_gap_18, iJ_le (by omega) (by omega), if_pos (Nat.le_refl _)]
def shaI (d : Nat → Nat) (t : Nat → Term) : UInt32 := FP.fdiv (FP.i2f (Int32.ofNat (manyN d t 0 none))) (FP.i2f (Int32.ofNat (casesN d)))
theorem tw_settledShare {d : Nat → Nat} {t : Nat → Term} {σ : twS} (hT : TW d σ) (hW : WOk d t) : ∃ σ', fr15 (twI σ 13 0) σ' ∧ mT_settledShare σ = some (shaI d t, σ') := by
  have hC := casesN_le hW.1
  obtain ⟨σ1, f1, hA, e1⟩ := tw_setsOut (twI_tw (k := 13) (x := 0) hT) hW
  refine ⟨σ1, f1, ?_⟩
  unfold mT_settledShare
  rw [lt_J, e1, bd_J, show (0 : Int32) = Int32.ofNat 0 from rfl, show (-1 : Int32) = o32 none from rfl, tw_many (f1.tw hT) hW hA (by decide) (fun _ h => by cases h), bd_J, tw_cases (f1.tw hT) hW.1, bd_J, nf32_J (by omega) (by omega)]
  rfl
def dutA (d : Nat → Nat) (t : Nat → Term) : Nat → Nat
  | 0 => 0
  | k + 1 => dutA d t k + dutsN d (setlN d (setN d t k))
def setlC (d : Nat → Nat) (t : Nat → Term) : Nat → Nat := cntN fun n => decide (setlN d (setN d t n) ≠ none)
theorem dutsN_none {d : Nat → Nat} : dutsN d none = 0 := by
  have : ∀ k, dutsF d none k = 0 := by
    intro k
    induction k with
    | zero => rfl
    | succ k ih =>
      show dutsF d none k + dutyN d none k = 0
      rw [ih, dutyN_none]
  exact this _
def meaI (d : Nat → Nat) (t : Nat → Term) : UInt64 := if setlC d t (casesN d) = 0 then FP.dconst0 else FP.ddiv (FP.i2d (Int32.ofNat (dutA d t (casesN d)))) (FP.i2d (Int32.ofNat (setlC d t (casesN d))))
theorem tw_mean {d : Nat → Nat} {t : Nat → Term} {σ : twS} (hT : TW d σ) (hW : WOk d t) (hA : AP d t σ) : bT_meanDuties_21 FU 0 0 (Int32.ofNat (casesN d)) 0 σ = some (meaI d t, σ) := by
  have hC := casesN_le hW.1
  have h17 := hW.r
  refine loop_FU (fun g k => bT_meanDuties_21 g (Int32.ofNat (dutA d t k)) (Int32.ofNat (setlC d t k)) (Int32.ofNat (casesN d)) (Int32.ofNat k) σ) (fun _ => some (meaI d t, σ)) (casesN d) (by omega) (fun g k hk ih => ?_) (fun g => ?_)
  · show bT_meanDuties_21 (g + 1) _ _ _ _ _ = _
    have e : dutA d t (k + 1) = dutA d t k + dutsN d (setlN d (setN d t k)) := rfl
    have e2 : setlC d t (k + 1) = setlC d t k + (if decide (setlN d (setN d t k) ≠ none) then 1 else 0) := rfl
    rw [e, e2] at ih
    rw [bT_meanDuties_21, iJ_le (by omega) (by omega), if_neg (by omega), ald_J (by omega) (by decide), hA k hk, tw_settles hT hW setN_lt, bd_J, setl_m1 hW]
    by_cases c : setlN d (setN d t k) = none
    · rw [c, dutsN_none] at ih
      rw [if_pos c]
      unfold bT_meanDuties_57
      rw [lt_J, setl_m1 hW, if_pos c, lt_J, lt_J, J_addL, J_addL, J_addL]
      exact ih
    · rw [decide_eq_true c, if_pos rfl] at ih
      rw [if_neg c, tw_duties0 hT hW (setl_ok hW), bd_J]
      unfold bT_meanDuties_57
      rw [lt_J, setl_m1 hW, if_neg c, lt_J, lt_J, J_add, J_addL, J_addL]
      exact ih
  · show bT_meanDuties_21 (g + 1) _ _ _ _ _ = _
    have hl : setlC d t (casesN d) ≤ casesN d := cntN_le _ _
    unfold meaI
    rw [bT_meanDuties_21, iJ_le (by omega) (by omega), if_pos (Nat.le_refl _), iJ_eqL (by omega) (by decide)]
    by_cases c : setlC d t (casesN d) = 0
    · rw [if_pos c, if_pos c]
    · rw [if_neg c, if_neg c, nf64_J c (by omega)]
theorem tw_meanDuties {d : Nat → Nat} {t : Nat → Term} {σ : twS} (hT : TW d σ) (hW : WOk d t) : ∃ σ', fr15 (twI σ 13 0) σ' ∧ mT_meanDuties σ = some (meaI d t, σ') := by
  obtain ⟨σ1, f1, hA, e1⟩ := tw_setsOut (twI_tw (k := 13) (x := 0) hT) hW
  refine ⟨σ1, f1, ?_⟩
  unfold mT_meanDuties
  rw [lt_J, e1, bd_J, tw_cases (f1.tw hT) hW.1, bd_J, tw_mean (f1.tw hT) hW hA]
def ckF (s : Int64) (g : Nat → Int32) : Nat → Int64
  | 0 => s
  | k + 1 => 31 * ckF s g k + (g k).toInt64
def ckH (d : Nat → Nat) (t : Nat → Term) (s : Int64) : Nat → Int64
  | 0 => s
  | k + 1 => ckF (ckH d t s k) (heirI d t k) 7
def ckP (d : Nat → Nat) (r : Nat) (s : Int64) : Nat → Int64
  | 0 => s
  | k + 1 => 31 * (31 * ckP d r s k + (Int32.ofNat (shTN d r k false)).toInt64) + (Int32.ofNat (shTN d r k true)).toInt64
def ckR (d : Nat → Nat) (t : Nat → Term) (s : Int64) : Nat → Int64
  | 0 => s
  | k + 1 => ckP d k (ckF (ckR d t s k) (fun w => Int32.ofNat (rulI d t k w)) 6) (d 5)
def ckV (d : Nat → Nat) (t : Nat → Term) (s : Int64) : Nat → Int64
  | 0 => s
  | k + 1 => 31 * (31 * ckV d t s k + (Int32.ofNat (verdN d (setN d t k))).toInt64) + (o32 (setlN d (setN d t k))).toInt64
def ckI (d : Nat → Nat) (t : Nat → Term) (p b r : Nat) : Int64 := ckV d t (ckR d t (ckH d t (ckF 0 (fun w => Int32.ofNat (sizI d t p b r w)) 11) (d 5)) (d 17)) (casesN d)
theorem tw_checksum {d : Nat → Nat} {t : Nat → Term} {σ : twS} (hT : TW d σ) (hW : WOk d t) {p b r : Nat} (hp : σ.2 5 = Int32.ofNat p) (hb : σ.2 9 = Int32.ofNat b) (hr : σ.2 12 = Int32.ofNat r) : ∃ σ', fr15 (twI σ 13 0) σ' ∧ mT_checksum σ = some (ckI d t p b r, σ') := by
  have hC := casesN_le hW.1
  have h17 := hW.r
  have h5 := hW.h
  unfold mT_checksum
  rw [lt_J]
  refine loop_I (fun g k => bT_checksum_9 g (ckF 0 (fun w => Int32.ofNat (sizI d t p b r w)) k) (Int32.ofNat k)) (fr15 (twI σ 13 0)) (ckI d t p b r) 11 (by decide) (fun g k σ1 hk f1 ih => ?_) (fun g σ1 f1 => ?_) _ fr15.rf
  · have hT1 : TW d σ1 := f1.tw hT
    obtain ⟨σ2, f2, e2⟩ := tw_sizeOf hT1 hW (p := p) (b := b) (r := r) (by rw [f1.2]; exact hp) (by rw [f1.2]; exact hb) (by rw [f1.2]; exact hr) (w := k) (by omega)
    obtain ⟨σ3, f3, e3⟩ := ih σ2 (f1.trans f2)
    refine ⟨σ3, f3, ?_⟩
    show bT_checksum_9 (g + 1) _ _ _ = _
    rw [bT_checksum_9, iJ_leR (by decide) (by omega), if_neg (by omega), e2, bd_J, lt_J, lt_J, J_addL]
    exact e3
  · show ∃ σ', _ ∧ bT_checksum_9 (g + 1) _ _ _ = _
    rw [bT_checksum_9, iJ_leR (by decide) (by omega), if_pos (Nat.le_refl _)]
    refine loop_I (fun g k => bT_checksum_36 g (ckH d t (ckF 0 (fun w => Int32.ofNat (sizI d t p b r w)) 11) k) (Int32.ofNat k)) (fr15 (twI σ 13 0)) (ckI d t p b r) (d 5) (by omega) (fun g k σ1 hk f1 ih => ?_) (fun g σ1 f1 => ?_) _ f1
    · have hT1 : TW d σ1 := f1.tw hT
      show ∃ σ', _ ∧ bT_checksum_36 (g + 1) _ _ _ = _
      rw [bT_checksum_36, tw_aldL hT1 (by decide), iJ_le (by omega) (by omega), if_neg (by omega)]
      refine loop_I (fun g j => bT_checksum_49 (bT_checksum_36 _) g (ckF (ckH d t (ckF 0 (fun w => Int32.ofNat (sizI d t p b r w)) 11) k) (heirI d t k) j) (Int32.ofNat k) (Int32.ofNat j)) (fr15 (twI σ 13 0)) (ckI d t p b r) 7 (by decide) (fun g j σ1 hj f1 ih2 => ?_) (fun g σ1 f1 => ?_) _ f1
      · have hT1 : TW d σ1 := f1.tw hT
        obtain ⟨σ2, f2, e2⟩ := tw_heirTold hT1 hW hk (w := j) (by omega)
        obtain ⟨σ3, f3, e3⟩ := ih2 σ2 (f1.trans f2)
        refine ⟨σ3, f3, ?_⟩
        show bT_checksum_49 _ (g + 1) _ _ _ _ = _
        rw [bT_checksum_49, iJ_leR (by decide) (by omega), if_neg (by omega), e2, bd_J, lt_J, lt_J, J_addL]
        exact e3
      · obtain ⟨σ3, f3, e3⟩ := ih σ1 f1
        refine ⟨σ3, f3, ?_⟩
        show bT_checksum_49 _ (g + 1) _ _ _ _ = _
        rw [bT_checksum_49, iJ_leR (by decide) (by omega), if_pos (Nat.le_refl _), lt_J, J_addL]
        exact e3
    · have hT1 : TW d σ1 := f1.tw hT
      show ∃ σ', _ ∧ bT_checksum_36 (g + 1) _ _ _ = _
      rw [bT_checksum_36, tw_aldL hT1 (by decide), iJ_le (by omega) (by omega), if_pos (Nat.le_refl _)]
      generalize hs : ckH d t (ckF 0 (fun w => Int32.ofNat (sizI d t p b r w)) 11) (d 5) = s
      refine loop_I (fun g k => bT_checksum_85 g (ckR d t s k) (Int32.ofNat k)) (fr15 (twI σ 13 0)) (ckI d t p b r) (d 17) (by omega) (fun g k σ1 hk f1 ih => ?_) (fun g σ1 f1 => ?_) _ f1
      · have hT1 : TW d σ1 := f1.tw hT
        show ∃ σ', _ ∧ bT_checksum_85 (g + 1) _ _ _ = _
        rw [bT_checksum_85, tw_aldL hT1 (by decide), iJ_le (by omega) (by omega), if_neg (by omega)]
        refine loop_I (fun g j => bT_checksum_99 (bT_checksum_85 _) g (ckF (ckR d t s k) (fun w => Int32.ofNat (rulI d t k w)) j) (Int32.ofNat k) (Int32.ofNat j)) (fr15 (twI σ 13 0)) (ckI d t p b r) 6 (by decide) (fun g j σ1 hj f1 ih2 => ?_) (fun g σ1 f1 => ?_) _ f1
        · have hT1 : TW d σ1 := f1.tw hT
          obtain ⟨σ2, f2, e2⟩ := tw_ruleTold hT1 hW hk (w := j) (by omega)
          obtain ⟨σ3, f3, e3⟩ := ih2 σ2 (f1.trans f2)
          refine ⟨σ3, f3, ?_⟩
          show bT_checksum_99 _ (g + 1) _ _ _ _ = _
          rw [bT_checksum_99, iJ_leR (by decide) (by omega), if_neg (by omega), e2, bd_J, lt_J, lt_J, J_addL]
          exact e3
        · have hT1 : TW d σ1 := f1.tw hT
          show ∃ σ', _ ∧ bT_checksum_99 _ (g + 1) _ _ _ _ = _
          rw [bT_checksum_99, iJ_leR (by decide) (by omega), if_pos (Nat.le_refl _)]
          refine loop_I (fun g j => bT_checksum_130 (bT_checksum_85 _) g (ckP d k (ckF (ckR d t s k) (fun w => Int32.ofNat (rulI d t k w)) 6) j) (Int32.ofNat k) (Int32.ofNat j)) (fr15 (twI σ 13 0)) (ckI d t p b r) (d 5) (by omega) (fun g j σ1 hj f1 ih2 => ?_) (fun g σ1 f1 => ?_) _ f1
          · have hT1 : TW d σ1 := f1.tw hT
            obtain ⟨σ3, f3, e3⟩ := ih2 σ1 f1
            refine ⟨σ3, f3, ?_⟩
            show bT_checksum_130 _ (g + 1) _ _ _ _ = _
            rw [bT_checksum_130, tw_aldL hT1 (by decide), iJ_le (by omega) (by omega), if_neg (by omega), show (0 : Int32) = b32 false from rfl, tw_shareTold hT1 hW hk (by omega), bd_J, lt_J, show bT_checksum_130 = bT_checksum_130 from rfl, show mT_shareTold (Int32.ofNat k) (Int32.ofNat j) 1 σ1 = mT_shareTold (Int32.ofNat k) (Int32.ofNat j) (b32 true) σ1 from rfl, tw_shareTold hT1 hW hk (by omega), bd_J, lt_J, lt_J, J_addL]
            exact e3
          · have hT1 : TW d σ1 := f1.tw hT
            obtain ⟨σ3, f3, e3⟩ := ih σ1 f1
            refine ⟨σ3, f3, ?_⟩
            show bT_checksum_130 _ (g + 1) _ _ _ _ = _
            rw [bT_checksum_130, tw_aldL hT1 (by decide), iJ_le (by omega) (by omega), if_pos (Nat.le_refl _), lt_J, J_addL]
            exact e3
      · have hT1 : TW d σ1 := f1.tw hT
        obtain ⟨σ2, f2, hA, e2⟩ := tw_setsOut hT1 hW
        have hT2 : TW d σ2 := f2.tw hT1
        refine ⟨σ2, f1.trans f2, ?_⟩
        show bT_checksum_85 (g + 1) _ _ _ = _
        rw [bT_checksum_85, tw_aldL hT1 (by decide), iJ_le (by omega) (by omega), if_pos (Nat.le_refl _), e2, bd_J, tw_cases hT2 hW.1, bd_J]
        have e : ckI d t p b r = ckV d t (ckR d t s (d 17)) (casesN d) := by rw [← hs]; rfl
        rw [e]
        generalize ckR d t s (d 17) = u
        refine loop_FU (fun g k => bT_checksum_197 g (ckV d t u k) (Int32.ofNat (casesN d)) (Int32.ofNat k) σ2) (fun _ => some (ckV d t u (casesN d), σ2)) (casesN d) (by omega) (fun g k hk ih => ?_) (fun g => ?_)
        · show bT_checksum_197 (g + 1) _ _ _ _ = _
          rw [bT_checksum_197, iJ_le (by omega) (by omega), if_neg (by omega), ald_J (by omega) (by decide), hA k hk, tw_verdictOf hT2 hW setN_lt, bd_J, lt_J, ald_J (by omega) (by decide), hA k hk, tw_settles hT2 hW setN_lt, bd_J, lt_J, lt_J, J_addL]
          exact ih
        · show bT_checksum_197 (g + 1) _ _ _ _ = _
          rw [bT_checksum_197, iJ_le (by omega) (by omega), if_pos (Nat.le_refl _)]
