/-! THE PLAIN LAW: the twin's questions over all cases, going on -/
set_option maxRecDepth 100000
theorem tw_bits : ∀ m f a n σ, n < 2 ^ m → m < f → n < 2147483648 → ∃ k, k ≤ m ∧ bT_bits_4 f (Int32.ofNat a) (Int32.ofNat n) σ = some (Int32.ofNat (a + cntN (fun i => n.testBit i) m), σ) := by
  have cnt : ∀ n m, cntN (fun i => n.testBit i) (m + 1) = n % 2 + cntN (fun i => (n / 2).testBit i) m := by
    intro n m
    induction m with
    | zero =>
      show 0 + (if n.testBit 0 then 1 else 0) = n % 2 + 0
      rw [Nat.testBit_zero]
      have := Nat.mod_lt n (show 2 > 0 by decide)
      by_cases c : n % 2 = 1
      · simp [c]
      · simp [c]; omega
    | succ m ih =>
      show cntN (fun i => n.testBit i) (m + 1) + (if n.testBit (m + 1) then 1 else 0) = n % 2 + (cntN (fun i => (n / 2).testBit i) m + (if (n / 2).testBit m then 1 else 0))
      rw [ih, Nat.testBit_succ]
      omega
  intro m
  induction m with
  | zero =>
    intro f a n σ hn hf _
    obtain ⟨f, rfl⟩ : ∃ f', f = f' + 1 := ⟨f - 1, by omega⟩
    refine ⟨0, Nat.le_refl _, ?_⟩
    have h0 : n = 0 := by simpa using hn
    subst h0
    rw [bT_bits_4, iJ_leL (by decide) (by decide), if_pos (Nat.le_refl _)]
    rfl
  | succ m ih =>
    intro f a n σ hn hf hn2
    obtain ⟨f, rfl⟩ : ∃ f', f = f' + 1 := ⟨f - 1, by omega⟩
    refine ⟨0, Nat.zero_le _, ?_⟩
    by_cases c : n = 0
    · subst c
      rw [bT_bits_4, iJ_leL (by decide) (by decide), if_pos (Nat.le_refl _)]
      have : ∀ k, cntN (fun i => (0 : Nat).testBit i) k = 0 := by
        intro k
        induction k with
        | zero => rfl
        | succ k ih => show cntN _ k + (if (0 : Nat).testBit k then 1 else 0) = 0; rw [ih]; simp
      rw [this]
      rfl
    · have hp : 2 ^ (m + 1) = 2 ^ m * 2 := Nat.pow_succ ..
      obtain ⟨-, -, e⟩ := ih f (a + n % 2) (n / 2) σ (by omega) (by omega) (by omega)
      rw [bT_bits_4, iJ_leL hn2 (by decide), if_neg (by omega), J_divL hn2 (by decide), J_mulL, J_sub (by omega), J_add, lt_J, lt_J, show n - n / 2 * 2 = n % 2 by omega, e, cnt]
      rw [show a + (n % 2 + cntN (fun i => (n / 2).testBit i) m) = a + n % 2 + cntN (fun i => (n / 2).testBit i) m by omega]
/-- how many rules are in a set -/
def bitsN (m : Nat) : Nat := cntN (fun i => m.testBit i) 31
theorem tw_bitsO {m : Nat} {σ : twS} (hm : m < 2147483648) : mT_bits (Int32.ofNat m) σ = some (Int32.ofNat (bitsN m), σ) := by
  obtain ⟨-, -, e⟩ := tw_bits 31 FU 0 m σ (by simpa using hm) (by decide) hm
  unfold mT_bits
  rw [show (0 : Int32) = Int32.ofNat 0 from rfl, e, Nat.zero_add]
  rfl
/-- why a rule doesn't settle a case -/
def reasN (d : Nat → Nat) (m r : Nat) : Nat := if m.testBit r = false then 1 else if (unbN d m).testBit r = false then 2 else if otherN d (unbN d m) r = none then (if setlN d m = some r then 0 else 4) else 3
theorem tw_reason {d : Nat → Nat} {t : Nat → Term} {σ : twS} (hT : TW d σ) (hW : WOk d t) {n r : Nat} (hr : r < d 17) : mT_reason (Int32.ofNat (setN d t n)) (Int32.ofNat r) σ = some (Int32.ofNat (reasN d (setN d t n) r), σ) := by
  have h17 := hW.r
  have hp := pow10 h17
  have hs := setN_lt (d := d) (t := t) (n := n)
  have hu : unbN d (setN d t n) ≤ setN d t n := andn_le _ _
  unfold mT_reason
  rw [tw_unbeaten hT h17 (fun r hr => hW.ov hr) (by omega), bd_J, tw_has (by omega) (by omega), bd_J, ite_pq (b32_0 _)]
  unfold reasN
  by_cases c1 : (setN d t n).testBit r = false
  · rw [if_pos c1, if_pos c1]; rfl
  · rw [if_neg c1, if_neg c1, tw_has (by omega) (by omega), bd_J, ite_pq (b32_0 _)]
    by_cases c2 : (unbN d (setN d t n)).testBit r = false
    · rw [if_pos c2, if_pos c2]; rfl
    · rw [if_neg c2, if_neg c2, tw_other hT h17 (fun r hr => (hW.2.2.2.2.2.2.2 r hr).2.1) (by omega) hr, bd_J, iJ_m1 (fun k hk => by have := (firstF_some hk).2.1; omega)]
      by_cases c3 : otherN d (unbN d (setN d t n)) r = none
      · rw [if_pos c3, if_pos c3, tw_settles hT hW hs, bd_J, ite_pq (o32_b (fun x hx => by have := setl_lt hW hx; omega) (by omega))]
        by_cases c4 : setlN d (setN d t n) = some r
        · rw [if_pos c4, if_pos c4]; rfl
        · rw [if_neg c4, if_neg c4]; rfl
      · rw [if_neg c3, if_neg c3]; rfl
/-- the place-th case with a verdict (place by the machine) -/
def exF (d : Nat → Nat) (t : Nat → Term) (v : Nat) : Nat → Nat → Int32 → Int32
  | 0, _, _ => -1
  | j + 1, k, left => if verdN d (setN d t k) = v then (if left = 0 then Int32.ofNat k else exF d t v j (k + 1) (left + (-1))) else exF d t v j (k + 1) left
theorem tw_example {d : Nat → Nat} {t : Nat → Term} {σ : twS} (hT : TW d σ) (hW : WOk d t) (hA : AP d t σ) {v : Nat} (hv : v ≤ 3) (left : Int32) : bT_example_38 FU (Int32.ofNat v) left (Int32.ofNat (casesN d)) 0 σ = some (exF d t v (casesN d) 0 left, σ) := by
  have hC := casesN_le hW.1
  have key : ∀ j k f left, k + j = casesN d → j < f → bT_example_38 f (Int32.ofNat v) left (Int32.ofNat (casesN d)) (Int32.ofNat k) σ = some (exF d t v j k left, σ) := by
    intro j
    induction j with
    | zero =>
      intro k f left hk hf
      obtain ⟨f, rfl⟩ : ∃ f', f = f' + 1 := ⟨f - 1, by omega⟩
      rw [bT_example_38, iJ_le (by omega) (by omega), if_pos (by omega)]
      rfl
    | succ j ih =>
      intro k f left hk hf
      obtain ⟨f, rfl⟩ : ∃ f', f = f' + 1 := ⟨f - 1, by omega⟩
      have hs := setN_lt (d := d) (t := t) (n := k)
      have hvl := verdN_le d (setN d t k)
      rw [bT_example_38, iJ_le (by omega) (by omega), if_neg (by omega), ald_J (by omega) (by decide), hA k (by omega), tw_verdictOf hT hW hs, bd_J, iJ_eq (by omega) (by omega)]
      show _ = some (if verdN d (setN d t k) = v then (if left = 0 then Int32.ofNat k else exF d t v j (k + 1) (left + (-1))) else exF d t v j (k + 1) left, σ)
      by_cases c : verdN d (setN d t k) = v
      · rw [if_pos c, if_pos c]
        by_cases c2 : left = 0
        · rw [if_pos c2, if_pos c2]
        · rw [if_neg c2, if_neg c2, lt_J, lt_J, J_addL]
          exact ih (k + 1) f _ (by omega) (by omega)
      · rw [if_neg c, if_neg c, lt_J, J_addL]
        exact ih (k + 1) f _ (by omega) (by omega)
  exact key (casesN d) 0 FU left (by omega) (by show casesN d < 4096; omega)
/-- a truth of all cases below n -/
def allN (p : Nat → Bool) : Nat → Bool
  | 0 => true
  | k + 1 => allN p k && p k
theorem tw_isWider {d : Nat → Nat} {t : Nat → Term} {σ : twS} (hW : WOk d t) (hA : AP d t σ) {r o : Nat} (hr : r < 31) (ho : o < 31) : bT_isWider_45 FU (Int32.ofNat r) (Int32.ofNat o) 1 (Int32.ofNat (casesN d)) 0 σ = some (b32 (allN (fun n => !(setN d t n).testBit o || (setN d t n).testBit r) (casesN d)), σ) := by
  have hC := casesN_le hW.1
  have hp := pow10 hW.r
  refine loop_FU (fun g k => bT_isWider_45 g (Int32.ofNat r) (Int32.ofNat o) (b32 (allN (fun n => !(setN d t n).testBit o || (setN d t n).testBit r) k)) (Int32.ofNat (casesN d)) (Int32.ofNat k) σ) (fun _ => some (b32 (allN (fun n => !(setN d t n).testBit o || (setN d t n).testBit r) (casesN d)), σ)) (casesN d) (by omega) (fun g k hk ih => ?_) (fun g => ?_)
  · show bT_isWider_45 (g + 1) _ _ _ _ _ _ = _
    have hs := setN_lt (d := d) (t := t) (n := k)
    have e : allN (fun n => !(setN d t n).testBit o || (setN d t n).testBit r) (k + 1) = (allN (fun n => !(setN d t n).testBit o || (setN d t n).testBit r) k && (!(setN d t k).testBit o || (setN d t k).testBit r)) := rfl
    rw [e] at ih
    rw [bT_isWider_45, iJ_le (by omega) (by omega), if_neg (by omega), ite_pq (b32_0 _)]
    cases hb : allN (fun n => !(setN d t n).testBit o || (setN d t n).testBit r) k with
    | false =>
      rw [hb] at ih
      rw [if_pos rfl, lt_J, J_addL]
      exact ih
    | true =>
      rw [hb] at ih
      rw [if_neg (by decide), ald_J (by omega) (by decide), hA k hk, tw_has (by omega) (by omega), bd_J, ite_pq (b32_0 _)]
      cases c1 : (setN d t k).testBit o with
      | false =>
        rw [c1] at ih
        rw [if_pos rfl, lt_J, J_addL]
        exact ih
      | true =>
        rw [c1] at ih
        rw [if_neg (by decide), ald_J (by omega) (by decide), hA k hk, tw_has (by omega) (by omega), bd_J, ite_pq (b32_0 _)]
        cases c2 : (setN d t k).testBit r with
        | false =>
          rw [c2] at ih
          rw [if_pos rfl, lt_J, J_addL]
          exact ih
        | true =>
          rw [c2] at ih
          rw [if_neg (by decide), lt_J, J_addL]
          exact ih
  · show bT_isWider_45 (g + 1) _ _ _ _ _ _ = _
    rw [bT_isWider_45, iJ_le (by omega) (by omega), if_pos (Nat.le_refl _), rz_b]
theorem tw_common {d : Nat → Nat} {t : Nat → Term} {σ : twS} (hW : WOk d t) (hA : AP d t σ) {r o : Nat} (hr : r < 31) (ho : o < 31) : bT_common_45 FU (Int32.ofNat r) (Int32.ofNat o) 0 (Int32.ofNat (casesN d)) 0 σ = some (Int32.ofNat (cntN (fun n => (setN d t n).testBit r && (setN d t n).testBit o) (casesN d)), σ) := by
  have hC := casesN_le hW.1
  have hp := pow10 hW.r
  refine loop_FU (fun g k => bT_common_45 g (Int32.ofNat r) (Int32.ofNat o) (Int32.ofNat (cntN (fun n => (setN d t n).testBit r && (setN d t n).testBit o) k)) (Int32.ofNat (casesN d)) (Int32.ofNat k) σ) (fun _ => some (Int32.ofNat (cntN (fun n => (setN d t n).testBit r && (setN d t n).testBit o) (casesN d)), σ)) (casesN d) (by omega) (fun g k hk ih => ?_) (fun g => ?_)
  · show bT_common_45 (g + 1) _ _ _ _ _ _ = _
    have hs := setN_lt (d := d) (t := t) (n := k)
    have e : cntN (fun n => (setN d t n).testBit r && (setN d t n).testBit o) (k + 1) = cntN (fun n => (setN d t n).testBit r && (setN d t n).testBit o) k + (if (setN d t k).testBit r && (setN d t k).testBit o then 1 else 0) := rfl
    rw [e] at ih
    rw [bT_common_45, iJ_le (by omega) (by omega), if_neg (by omega), ald_J (by omega) (by decide), hA k hk, tw_has (by omega) (by omega), bd_J, ite_pq (b32_0 _)]
    cases c1 : (setN d t k).testBit r with
    | false =>
      rw [c1] at ih
      rw [if_pos rfl, lt_J, J_addL, lt_J, J_addL]
      exact ih
    | true =>
      rw [c1] at ih
      rw [if_neg (by decide), ald_J (by omega) (by decide), hA k hk, tw_has (by omega) (by omega), bd_J, ite_pq (b32_0 _)]
      cases c2 : (setN d t k).testBit o with
      | false =>
        rw [c2] at ih
        rw [if_pos rfl, lt_J, J_addL, lt_J, J_addL]
        exact ih
      | true =>
        rw [c2] at ih
        rw [if_neg (by decide), lt_J, J_addL, lt_J, J_addL]
        exact ih
  · show bT_common_45 (g + 1) _ _ _ _ _ _ = _
    rw [bT_common_45, iJ_le (by omega) (by omega), if_pos (Nat.le_refl _)]
/-- the set of the rules below k with a property -/
def setP (p : Nat → Bool) : Nat → Nat
  | 0 => 0
  | k + 1 => setP p k ||| (if p k then 2 ^ k else 0)
theorem setP_lt {p : Nat → Bool} : ∀ k, setP p k < 2 ^ k := by
  intro k
  induction k with
  | zero => show 0 < 1; decide
  | succ k ih =>
    show setP p k ||| _ < 2 ^ (k + 1)
    refine Nat.or_lt_two_pow (Nat.lt_of_lt_of_le ih (Nat.pow_le_pow_right (by decide) (by omega))) ?_
    split
    · exact Nat.pow_lt_pow_right (by decide) (by omega)
    · exact Nat.pow_pos (by decide)
def unsN (d : Nat → Nat) (t : Nat → Term) (but : Option Nat) : Nat := gapsN d t but + manyN d t 3 but
theorem gapsN_le {d : Nat → Nat} {t : Nat → Term} (h : FOk d) (but : Option Nat) : gapsN d t but ≤ 512 := by
  have h1 := manyN_le (t := t) h 1 but
  have h2 := manyN_le (t := t) h 2 but
  unfold gapsN
  omega
theorem tw_needed {d : Nat → Nat} {t : Nat → Term} {σ : twS} (hT : TW d σ) (hW : WOk d t) (hA : AP d t σ) : bT_needed_26 FU (Int32.ofNat (unsN d t none)) 0 0 σ = some (Int32.ofNat (setP (fun r => decide (unsN d t none < unsN d t (some r))) (d 17)), σ) := by
  have h17 := hW.r
  refine loop_FU (fun g k => bT_needed_26 g (Int32.ofNat (unsN d t none)) (Int32.ofNat (setP (fun r => decide (unsN d t none < unsN d t (some r))) k)) (Int32.ofNat k) σ) (fun _ => some (Int32.ofNat (setP (fun r => decide (unsN d t none < unsN d t (some r))) (d 17)), σ)) (d 17) (by omega) (fun g k hk ih => ?_) (fun g => ?_)
  · show bT_needed_26 (g + 1) _ _ _ _ = _
    have q1 := gapsN_le (t := t) hW.1 (some k)
    have q2 := manyN_le (t := t) hW.1 3 (some k)
    have q3 := gapsN_le (t := t) hW.1 none
    have q4 := manyN_le (t := t) hW.1 3 none
    have u1 : unsN d t (some k) = gapsN d t (some k) + manyN d t 3 (some k) := rfl
    have u2 : unsN d t none = gapsN d t none + manyN d t 3 none := rfl
    have e : setP (fun r => decide (unsN d t none < unsN d t (some r))) (k + 1) = setP (fun r => decide (unsN d t none < unsN d t (some r))) k ||| (if decide (unsN d t none < unsN d t (some k)) then 2 ^ k else 0) := rfl
    rw [e] at ih
    have g1 := tw_gaps (but := some k) hT hW hA (fun r hr => by cases hr; omega)
    have g2 := tw_many (v := 3) (but := some k) hT hW hA (by decide) (fun r hr => by cases hr; omega)
    rw [bT_needed_26, tw_aldL hT (by decide), iJ_le (by omega) (by omega), if_neg (by omega)]
    have g1' : mT_gaps (Int32.ofNat k) σ = some (Int32.ofNat (gapsN d t (some k)), σ) := g1
    have g2' : mT_many 3 (Int32.ofNat k) σ = some (Int32.ofNat (manyN d t 3 (some k)), σ) := g2
    rw [g1', bd_J, g2', bd_J, J_add, iJ_le (by omega) (by omega)]
    by_cases c : unsN d t none < unsN d t (some k)
    · rw [decide_eq_true c] at ih
      rw [if_neg (by omega), J_shl k (by omega), lt_J, J_or, lt_J, J_addL]
      exact ih
    · rw [decide_eq_false c] at ih
      rw [if_pos (by omega), lt_J, J_orL, lt_J, J_addL]
      exact ih
  · show bT_needed_26 (g + 1) _ _ _ _ = _
    rw [bT_needed_26, tw_aldL hT (by decide), iJ_le (by omega) (by omega), if_pos (Nat.le_refl _)]
theorem mofN_le {d : Nat → Nat} {t : Nat → Term} (h : FOk d) (r w : Nat) : mofN d t r w ≤ 256 := Nat.le_trans (cntN_le _ _) (casesN_le h).2
theorem tw_idle {d : Nat → Nat} {t : Nat → Term} {σ : twS} (hT : TW d σ) (hW : WOk d t) : ∃ σ', fr15 σ σ' ∧ bT_idle_9 FU 0 0 σ = some (Int32.ofNat (setP (fun r => decide (mofN d t r 1 = 0)) (d 17)), σ') := by
  have h17 := hW.r
  have key : ∀ j k f σ, TW d σ → k + j = d 17 → j < f → ∃ σ', fr15 σ σ' ∧ bT_idle_9 f (Int32.ofNat (setP (fun r => decide (mofN d t r 1 = 0)) k)) (Int32.ofNat k) σ = some (Int32.ofNat (setP (fun r => decide (mofN d t r 1 = 0)) (d 17)), σ') := by
    intro j
    induction j with
    | zero =>
      intro k f σ hT hk hf
      obtain ⟨f, rfl⟩ : ∃ f', f = f' + 1 := ⟨f - 1, by omega⟩
      refine ⟨σ, fr15.rf, ?_⟩
      rw [bT_idle_9, tw_aldL hT (by decide), iJ_le (by omega) (by omega), if_pos (by omega), show k = d 17 by omega]
    | succ j ih =>
      intro k f σ hT hk hf
      obtain ⟨f, rfl⟩ : ∃ f', f = f' + 1 := ⟨f - 1, by omega⟩
      obtain ⟨σ1, f1, e1⟩ := tw_manyOf (r := k) (w := 1) hT hW (by omega) (by decide)
      have e1' : mT_manyOf (Int32.ofNat k) 1 σ = some (Int32.ofNat (mofN d t k 1), σ1) := e1
      obtain ⟨σ2, f2, e2⟩ := ih (k + 1) f σ1 (f1.tw hT) (by omega) (by omega)
      have hm := mofN_le (t := t) hW.1 k 1
      refine ⟨σ2, f1.trans f2, ?_⟩
      have e : setP (fun r => decide (mofN d t r 1 = 0)) (k + 1) = setP (fun r => decide (mofN d t r 1 = 0)) k ||| (if decide (mofN d t k 1 = 0) then 2 ^ k else 0) := rfl
      rw [e] at e2
      rw [bT_idle_9, tw_aldL hT (by decide), iJ_le (by omega) (by omega), if_neg (by omega), e1', bd_J, iJ_eqL (by omega) (by decide)]
      by_cases c : mofN d t k 1 = 0
      · rw [decide_eq_true c] at e2
        rw [if_pos c, J_shl k (by omega), lt_J, J_or, lt_J, J_addL]
        exact e2
      · rw [decide_eq_false c] at e2
        rw [if_neg c, lt_J, J_orL, lt_J, J_addL]
        exact e2
  exact key (d 17) 0 FU σ hT (by omega) (by show d 17 < 4096; omega)
