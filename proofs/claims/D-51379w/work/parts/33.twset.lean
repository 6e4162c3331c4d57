/-! THE PLAIN LAW: which rules apply, which are beaten, the verdict -/
set_option maxRecDepth 100000
/-- a rule's shares and what it is over, in range -/
def SOk (d : Nat → Nat) (r : Nat) : Prop := (∀ h, h < 4 → d (47 + 34 * r + h) ≤ 27720) ∧ d (47 + 34 * r) + d (48 + 34 * r) + d (49 + 34 * r) + d (50 + 34 * r) ≤ 27720 ∧ d (51 + 34 * r) < 2 ^ d 17
/-- a will in range -/
def WOk (d : Nat → Nat) (t : Nat → Term) : Prop := FOk d ∧ (1 ≤ d 5 ∧ d 5 ≤ 4) ∧ d 6 < d 5 ∧ d 7 ≤ 9999 ∧ d 8 < casesN d ∧ (∀ h, h < 4 → d (9 + 2 * h) ≤ 9999 ∧ d (10 + 2 * h) ≤ 60) ∧ d 17 ≤ 10 ∧ ∀ r, r < d 17 → GT d t r ∧ SOk d r
def sameF (d : Nat → Nat) (r o : Nat) : Nat → Bool
  | 0 => true
  | k + 1 => sameF d r o k && decide (d (47 + 34 * r + k) = d (47 + 34 * o + k))
def sameB (d : Nat → Nat) (r o : Nat) : Bool := sameF d r o 4
theorem sameF_mono {d : Nat → Nat} {r o k j : Nat} (h : sameF d r o k = false) : sameF d r o (k + j) = false := by
  induction j with
  | zero => exact h
  | succ j ih => show (sameF d r o (k + j) && _) = false; rw [ih]; rfl
theorem rz_b {b : Bool} {σ : twS} : rz (b32 b) σ = some (b32 b, σ) := by cases b <;> rfl
theorem tw_isSame {d : Nat → Nat} {σ : twS} (hT : TW d σ) {r o : Nat} (hr : r < 10) (ho : o < 10) (hs : ∀ h, h < 4 → d (47 + 34 * r + h) ≤ 27720) (hs2 : ∀ h, h < 4 → d (47 + 34 * o + h) ≤ 27720) : mT_isSame (Int32.ofNat r) (Int32.ofNat o) σ = some (b32 (sameB d r o), σ) := by
  unfold mT_isSame
  refine loop_FU (fun g k => bT_isSame_5 g (Int32.ofNat r) (Int32.ofNat o) (b32 (sameF d r o k)) (Int32.ofNat k) σ) (fun _ => some (b32 (sameB d r o), σ)) 4 (by decide) (fun g k hk ih => ?_) (fun g => ?_)
  · show bT_isSame_5 (g + 1) _ _ _ _ _ = _
    have h1 := hs k hk
    have h2 := hs2 k hk
    rw [bT_isSame_5, show (4 : Int32) = Int32.ofNat 4 from rfl, iJ_le (by omega) (by omega), if_neg (by omega)]
    simp only [b32_0]
    by_cases c : sameF d r o k = false
    · rw [if_pos c]
      simp only [lt_J]
      rw [show (1 : Int32) = Int32.ofNat 1 from rfl, J_add]
      have e : sameF d r o (k + 1) = false := sameF_mono (j := 1) c
      rw [e] at ih
      exact ih
    · have c' : sameF d r o k = true := by simpa using c
      rw [if_neg c, show (29 : Int32) = Int32.ofNat 29 from rfl, J_add, tw_of hT (by omega), bd_J, tw_of hT (by omega), bd_J]
      rw [show 18 + 34 * r + (29 + k) = 47 + 34 * r + k by omega, show 18 + 34 * o + (29 + k) = 47 + 34 * o + k by omega, iJ_eq (by omega) (by omega)]
      simp only [lt_J]
      rw [show (1 : Int32) = Int32.ofNat 1 from rfl, J_add]
      have e : sameF d r o (k + 1) = decide (d (47 + 34 * r + k) = d (47 + 34 * o + k)) := by show (sameF d r o k && _) = _; rw [c']; rfl
      rw [e] at ih
      by_cases c2 : d (47 + 34 * r + k) = d (47 + 34 * o + k)
      · rw [if_pos c2]
        rw [decide_eq_true c2] at ih
        exact ih
      · rw [if_neg c2]
        rw [decide_eq_false c2] at ih
        exact ih
  · show bT_isSame_5 (g + 1) _ _ _ _ _ = _
    rw [bT_isSame_5, show (4 : Int32) = Int32.ofNat 4 from rfl, iJ_le (by omega) (by omega), if_pos (by decide), rz_b]
    rfl
/-- the rules that those of a set are over -/
def beatN (d : Nat → Nat) (m : Nat) : Nat → Nat
  | 0 => 0
  | k + 1 => beatN d m k ||| (if m.testBit k then d (51 + 34 * k) else 0)
def unbN (d : Nat → Nat) (m : Nat) : Nat := andn m (beatN d m (d 17))
def leastN (m : Nat) : Option Nat := firstN (fun k => m.testBit k) 31
def otherN (d : Nat → Nat) (m r : Nat) : Option Nat := firstN (fun k => m.testBit k && !sameB d k r) (d 17)
theorem beatN_lt {d : Nat → Nat} {m : Nat} (h : ∀ r, r < d 17 → d (51 + 34 * r) < 1024) : ∀ k, k ≤ d 17 → beatN d m k < 1024 := by
  intro k
  induction k with
  | zero => intro _; show 0 < 1024; decide
  | succ k ih =>
    intro hk
    show beatN d m k ||| _ < 2 ^ 10
    refine Nat.or_lt_two_pow (ih (by omega)) ?_
    split
    · exact h k (by omega)
    · decide
theorem tw_unbeaten {d : Nat → Nat} {σ : twS} (hT : TW d σ) (h17 : d 17 ≤ 10) (h : ∀ r, r < d 17 → d (51 + 34 * r) < 1024) {m : Nat} (hm : m < 2147483648) : mT_unbeaten (Int32.ofNat m) σ = some (Int32.ofNat (unbN d m), σ) := by
  unfold mT_unbeaten
  refine loop_FU (fun g k => bT_unbeaten_4 g (Int32.ofNat m) (Int32.ofNat (beatN d m k)) (Int32.ofNat k) σ) (fun _ => some (Int32.ofNat (unbN d m), σ)) (d 17) (by omega) (fun g k hk ih => ?_) (fun g => ?_)
  · show bT_unbeaten_4 (g + 1) _ _ _ _ = _
    have h1 := h k hk
    rw [bT_unbeaten_4, show (17 : Int32) = Int32.ofNat 17 from rfl, ald_J (by decide) (by decide), hT 17 (by decide), iJ_le (by omega) (by omega), if_neg (by omega), tw_has hm (by omega), bd_J]
    simp only [b32_0]
    have e : beatN d m (k + 1) = beatN d m k ||| (if m.testBit k then d (51 + 34 * k) else 0) := rfl
    rw [e] at ih
    by_cases c : m.testBit k = false
    · rw [if_pos c]
      simp only [lt_J]
      rw [show (0 : Int32) = Int32.ofNat 0 from rfl, show (1 : Int32) = Int32.ofNat 1 from rfl, J_or, J_add]
      rw [c] at ih
      exact ih
    · have c' : m.testBit k = true := by simpa using c
      rw [if_neg c, show (33 : Int32) = Int32.ofNat 33 from rfl, tw_of hT (by omega), bd_J]
      simp only [lt_J]
      rw [show (1 : Int32) = Int32.ofNat 1 from rfl, J_or, J_add, show 18 + 34 * k + 33 = 51 + 34 * k by omega]
      rw [c'] at ih
      exact ih
  · show bT_unbeaten_4 (g + 1) _ _ _ _ = _
    rw [bT_unbeaten_4, show (17 : Int32) = Int32.ofNat 17 from rfl, ald_J (by decide) (by decide), hT 17 (by decide), iJ_le (by omega) (by omega), if_pos (Nat.le_refl _), J_andn hm]
    rfl
theorem tw_least {m : Nat} {σ : twS} (hm : m < 2147483648) : mT_least (Int32.ofNat m) σ = some (o32 (leastN m), σ) := by
  unfold mT_least
  refine loop_FU (fun g k => bT_least_2 g (Int32.ofNat m) (Int32.ofNat k) σ) (fun k => some (o32 (firstF (fun k => m.testBit k) (31 - k) k), σ)) 31 (by decide) (fun g k hk ih => ?_) (fun g => ?_)
  · show bT_least_2 (g + 1) _ _ _ = _
    rw [bT_least_2, show (31 : Int32) = Int32.ofNat 31 from rfl, iJ_le (by omega) (by omega), if_neg (by omega), tw_has hm (by omega), bd_J]
    simp only [b32_0]
    rw [show 31 - k = (31 - (k + 1)) + 1 by omega]
    unfold firstF
    by_cases c : m.testBit k = false
    · rw [if_pos c, c]
      simp only [lt_J]
      rw [show (1 : Int32) = Int32.ofNat 1 from rfl, J_add]
      exact ih
    · have c' : m.testBit k = true := by simpa using c
      rw [if_neg c, c']
      rfl
  · show bT_least_2 (g + 1) _ _ _ = _
    rw [bT_least_2, show (31 : Int32) = Int32.ofNat 31 from rfl, iJ_le (by omega) (by omega), if_pos (by decide)]
    rfl
theorem tw_other {d : Nat → Nat} {σ : twS} (hT : TW d σ) (h17 : d 17 ≤ 10) (hs : ∀ r, r < d 17 → ∀ h, h < 4 → d (47 + 34 * r + h) ≤ 27720) {m r : Nat} (hm : m < 2147483648) (hr : r < d 17) : mT_other (Int32.ofNat m) (Int32.ofNat r) σ = some (o32 (otherN d m r), σ) := by
  unfold mT_other
  refine loop_FU (fun g k => bT_other_2 g (Int32.ofNat m) (Int32.ofNat r) (Int32.ofNat k) σ) (fun k => some (o32 (firstF (fun k => m.testBit k && !sameB d k r) (d 17 - k) k), σ)) (d 17) (by omega) (fun g k hk ih => ?_) (fun g => ?_)
  · show bT_other_2 (g + 1) _ _ _ _ = _
    rw [bT_other_2, show (17 : Int32) = Int32.ofNat 17 from rfl, ald_J (by decide) (by decide), hT 17 (by decide), iJ_le (by omega) (by omega), if_neg (by omega), tw_has hm (by omega), bd_J]
    simp only [b32_0]
    rw [show d 17 - k = (d 17 - (k + 1)) + 1 by omega]
    unfold firstF
    by_cases c : m.testBit k = false
    · rw [if_pos c, c]
      simp only [lt_J]
      rw [show (1 : Int32) = Int32.ofNat 1 from rfl, J_add]
      exact ih
    · have c' : m.testBit k = true := by simpa using c
      rw [if_neg c, c', tw_isSame hT (by omega) (by omega) (hs k hk) (hs r hr), bd_J]
      simp only [b32_0]
      by_cases c2 : sameB d k r = false
      · rw [if_pos c2, c2]
        rfl
      · have c2' : sameB d k r = true := by simpa using c2
        rw [if_neg c2, c2']
        simp only [lt_J]
        rw [show (1 : Int32) = Int32.ofNat 1 from rfl, J_add]
        exact ih
  · show bT_other_2 (g + 1) _ _ _ _ = _
    rw [bT_other_2, show (17 : Int32) = Int32.ofNat 17 from rfl, ald_J (by decide) (by decide), hT 17 (by decide), iJ_le (by omega) (by omega), if_pos (Nat.le_refl _), Nat.sub_self]
    rfl
/-- the verdict over a set of rules: 0 settled, 1 none, 2 beaten, 3 a clash -/
def verdN (d : Nat → Nat) (m : Nat) : Nat := if m = 0 then 1 else if unbN d m = 0 then 2 else match leastN (unbN d m) with
  | none => 0
  | some r => if otherN d (unbN d m) r = none then 0 else 3
def setlN (d : Nat → Nat) (m : Nat) : Option Nat := if verdN d m = 0 then leastN (unbN d m) else none
theorem least_bit {m n : Nat} (hm : m < 2 ^ n) (hn : n ≤ 31) (h0 : m ≠ 0) : ∃ r, leastN m = some r ∧ r < n ∧ m.testBit r = true := by
  cases hl : leastN m with
  | none =>
    exfalso
    apply h0
    apply Nat.eq_of_testBit_eq
    intro i
    rw [Nat.zero_testBit]
    by_cases hi : i < 31
    · exact firstF_none hl i (Nat.zero_le _) (by omega)
    · exact Nat.testBit_lt_two_pow (Nat.lt_of_lt_of_le hm (Nat.pow_le_pow_right (by decide) (by omega)))
  | some r =>
    obtain ⟨-, -, h3, -⟩ := firstF_some hl
    refine ⟨r, rfl, ?_, h3⟩
    by_cases hr : r < n
    · exact hr
    · have : m.testBit r = false := Nat.testBit_lt_two_pow (Nat.lt_of_lt_of_le hm (Nat.pow_le_pow_right (by decide) (by omega)))
      rw [this] at h3
      cases h3
theorem pow10 {n : Nat} (h : n ≤ 10) : 2 ^ n ≤ 1024 := by
  have : 2 ^ n ≤ 2 ^ 10 := Nat.pow_le_pow_right (by decide) h
  simpa using this
theorem tw_verdictOf {d : Nat → Nat} {t : Nat → Term} {σ : twS} (hT : TW d σ) (hW : WOk d t) {m : Nat} (hm : m < 2 ^ d 17) : mT_verdictOf (Int32.ofNat m) σ = some (Int32.ofNat (verdN d m), σ) := by
  obtain ⟨hF, -, -, -, -, -, h17, hR⟩ := hW
  have hp := pow10 h17
  have ho : ∀ r, r < d 17 → d (51 + 34 * r) < 1024 := fun r hr => Nat.lt_of_lt_of_le (hR r hr).2.2.2 hp
  unfold mT_verdictOf
  rw [tw_unbeaten hT h17 ho (by omega), bd_J]
  have hu := andn_le m (beatN d m (d 17))
  have hu' : unbN d m ≤ m := hu
  simp only [show (0 : Int32) = Int32.ofNat 0 from rfl]
  rw [iJ_eq (by omega) (by omega), iJ_eq (by omega) (by omega)]
  unfold verdN
  by_cases c : m = 0
  · rw [if_pos c, if_pos c, bT_verdictOf_14, show (0 : Int32) = Int32.ofNat 0 from rfl, iJ_eq (by omega) (by omega), if_pos c]
    rfl
  · rw [if_neg c, if_neg c]
    by_cases c2 : unbN d m = 0
    · rw [if_pos c2, if_pos c2, bT_verdictOf_14, show (0 : Int32) = Int32.ofNat 0 from rfl, iJ_eq (by omega) (by omega), if_neg c]
      rfl
    · rw [if_neg c2, if_neg c2, tw_least (by omega), bd_J]
      obtain ⟨r, h1, h2, h3⟩ := least_bit (n := d 17) (by omega) (by omega) c2
      rw [h1]
      show bd (mT_other _ (Int32.ofNat r) σ) _ = _
      rw [tw_other hT h17 (fun r hr => (hR r hr).2.1) (by omega) h2, bd_J, iJ_m1 (fun k hk => by have := (firstF_some hk).2.1; omega)]
      show (if otherN d (unbN d m) r = none then _ else _) = _
      by_cases c3 : otherN d (unbN d m) r = none
      · rw [if_pos c3]
        show _ = some (Int32.ofNat (if otherN d (unbN d m) r = none then 0 else 3), σ)
        rw [if_pos c3]
      · rw [if_neg c3]
        show _ = some (Int32.ofNat (if otherN d (unbN d m) r = none then 0 else 3), σ)
        rw [if_neg c3]
        rfl
theorem verdN_le (d : Nat → Nat) (m : Nat) : verdN d m ≤ 3 := by
  unfold verdN
  repeat' split
  all_goals omega
theorem tw_settles {d : Nat → Nat} {t : Nat → Term} {σ : twS} (hT : TW d σ) (hW : WOk d t) {m : Nat} (hm : m < 2 ^ d 17) : mT_settles (Int32.ofNat m) σ = some (o32 (setlN d m), σ) := by
  have h17 := hW.2.2.2.2.2.2.1
  have hR := hW.2.2.2.2.2.2.2
  have hp := pow10 h17
  have ho : ∀ r, r < d 17 → d (51 + 34 * r) < 1024 := fun r hr => Nat.lt_of_lt_of_le (hR r hr).2.2.2 hp
  have hu : unbN d m ≤ m := andn_le m (beatN d m (d 17))
  have hv := verdN_le d m
  unfold mT_settles
  rw [tw_verdictOf hT hW hm, bd_J]
  simp only [show (0 : Int32) = Int32.ofNat 0 from rfl]
  rw [iJ_eq (by omega) (by omega)]
  unfold setlN
  by_cases c : verdN d m = 0
  · rw [if_pos c, if_pos c, tw_unbeaten hT h17 ho (by omega), bd_J, tw_least (by omega), bd_J]
  · rw [if_neg c, if_neg c]
    rfl
/-- the rules that apply in a case, those below k -/
def setF (d : Nat → Nat) (t : Nat → Term) (n : Nat) : Nat → Nat
  | 0 => 0
  | k + 1 => setF d t n k ||| (if holdsB d t k n then 2 ^ k else 0)
def setN (d : Nat → Nat) (t : Nat → Term) (n : Nat) : Nat := setF d t n (d 17)
theorem setF_lt {d : Nat → Nat} {t : Nat → Term} {n : Nat} : ∀ k, setF d t n k < 2 ^ k := by
  intro k
  induction k with
  | zero => show 0 < 1; decide
  | succ k ih =>
    show setF d t n k ||| _ < 2 ^ (k + 1)
    refine Nat.or_lt_two_pow (Nat.lt_of_lt_of_le ih (Nat.pow_le_pow_right (by decide) (by omega))) ?_
    split
    · exact Nat.pow_lt_pow_right (by decide) (by omega)
    · exact Nat.pow_pos (by decide)
theorem setF_lt10 {d : Nat → Nat} {t : Nat → Term} {n k : Nat} (h : k ≤ 10) : setF d t n k < 1024 := Nat.lt_of_lt_of_le (setF_lt k) (pow10 h)
theorem tw_setOf {d : Nat → Nat} {t : Nat → Term} {σ : twS} (hT : TW d σ) (hW : WOk d t) {n : Nat} (hn : n < 2147483648) : ∃ σ', fr14 σ σ' ∧ mT_setOf (Int32.ofNat n) σ = some (Int32.ofNat (setN d t n), σ') := by
  have h17 := hW.2.2.2.2.2.2.1
  have hR := hW.2.2.2.2.2.2.2
  have key : ∀ j k f σ, TW d σ → k + j = d 17 → j < f → ∃ σ', fr14 σ σ' ∧ bT_setOf_4 f (Int32.ofNat n) (Int32.ofNat (setF d t n k)) (Int32.ofNat k) σ = some (Int32.ofNat (setN d t n), σ') := by
    intro j
    induction j with
    | zero =>
      intro k f σ hT hk hf
      obtain ⟨f, rfl⟩ : ∃ f', f = f' + 1 := ⟨f - 1, by omega⟩
      refine ⟨σ, fr14.rf, ?_⟩
      rw [bT_setOf_4, show (17 : Int32) = Int32.ofNat 17 from rfl, ald_J (by decide) (by decide), hT 17 (by decide), iJ_le (by omega) (by omega), if_pos (by omega), show k = d 17 by omega]
      rfl
    | succ j ih =>
      intro k f σ hT hk hf
      obtain ⟨f, rfl⟩ : ∃ f', f = f' + 1 := ⟨f - 1, by omega⟩
      obtain ⟨σ1, f1, e1⟩ := tw_holds hT hW.1 (r := k) (by omega) hn (hR k (by omega)).1
      obtain ⟨σ2, f2, e2⟩ := ih (k + 1) f σ1 (f1.tw hT) (by omega) (by omega)
      refine ⟨σ2, f1.trans f2, ?_⟩
      rw [bT_setOf_4, show (17 : Int32) = Int32.ofNat 17 from rfl, ald_J (by decide) (by decide), hT 17 (by decide), iJ_le (by omega) (by omega), if_neg (by omega), e1, bd_J]
      simp only [b32_0]
      have e : setF d t n (k + 1) = setF d t n k ||| (if holdsB d t k n then 2 ^ k else 0) := rfl
      rw [e] at e2
      by_cases c : holdsB d t k n = false
      · rw [if_pos c]
        simp only [lt_J]
        rw [show (0 : Int32) = Int32.ofNat 0 from rfl, show (1 : Int32) = Int32.ofNat 1 from rfl, J_or, J_add]
        rw [c] at e2
        exact e2
      · have c' : holdsB d t k n = true := by simpa using c
        rw [if_neg c]
        simp only [lt_J]
        rw [J_shl k (by omega), show (1 : Int32) = Int32.ofNat 1 from rfl, J_or, J_add]
        rw [c'] at e2
        exact e2
  exact key (d 17) 0 FU σ hT (by omega) (by show d 17 < 4096; omega)
