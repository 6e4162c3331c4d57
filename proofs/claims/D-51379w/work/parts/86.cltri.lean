/-! THE PLAIN LAW, the class' side: trials -/
set_option maxRecDepth 100000
/-- what the rules of a set give, all alike -/
def alikeP (d : Nat → Nat) (u : Nat) : Prop := ∀ i j, i < d 17 → j < d 17 → u.testBit i = true → u.testBit j = true → sameB d i j = true
theorem verd_c {d : Nat → Nat} {m : Nat} (h17 : d 17 ≤ 10) (hm : m < 2 ^ d 17) : (m = 0 → verdN d m = 1) ∧ (m ≠ 0 → unbN d m = 0 → verdN d m = 2) ∧ (m ≠ 0 → unbN d m ≠ 0 → alikeP d (unbN d m) → verdN d m = 0) ∧ (m ≠ 0 → unbN d m ≠ 0 → ¬ alikeP d (unbN d m) → verdN d m = 3) := by
  have hle : unbN d m ≤ m := andn_le _ _
  refine ⟨fun h => by unfold verdN; rw [if_pos h], fun h h2 => by unfold verdN; rw [if_neg h, if_pos h2], fun h h2 h3 => ?_, fun h h2 h3 => ?_⟩
  · obtain ⟨s, hs1, hs2, hs3⟩ := least_bit (Nat.lt_of_le_of_lt hle hm) (by omega) h2
    unfold verdN
    rw [if_neg h, if_neg h2, hs1]
    dsimp only
    rw [if_pos]
    refine firstN_none.mpr (fun i hi => ?_)
    cases c : (unbN d m).testBit i with
    | false => rfl
    | true => rw [h3 i s hi hs2 c hs3]; rfl
  · obtain ⟨s, hs1, hs2, hs3⟩ := least_bit (Nat.lt_of_le_of_lt hle hm) (by omega) h2
    unfold verdN
    rw [if_neg h, if_neg h2, hs1]
    dsimp only
    rw [if_neg]
    intro w
    apply h3
    have w := firstN_none.mp w
    have e : ∀ i, i < d 17 → (unbN d m).testBit i = true → sameF d i s 4 = true := fun i hi hb => by
      have := w i hi
      rw [hb, Bool.true_and] at this
      simpa [sameB] using this
    intro i j hi hj bi bj
    exact (sameF_iff 4).mpr (fun k hk => ((sameF_iff 4).mp (e i hi bi) k hk).trans ((sameF_iff 4).mp (e j hj bj) k hk).symm)
theorem beatN_bit {d : Nat → Nat} {m j : Nat} : ∀ k, (beatN d m k).testBit j = true ↔ ∃ i, i < k ∧ m.testBit i = true ∧ (d (51 + 34 * i)).testBit j = true := by
  intro k
  refine ⟨fun h => beat_ex k h, ?_⟩
  rintro ⟨i, h1, h2, h3⟩
  induction k with
  | zero => omega
  | succ k ih =>
    show (beatN d m k ||| (if m.testBit k then d (51 + 34 * k) else 0)).testBit j = true
    rw [Nat.testBit_or, Bool.or_eq_true]
    by_cases c : i = k
    · right
      rw [← c, h2, if_pos rfl]
      exact h3
    · exact Or.inl (ih (by omega))
def upR (r i : Nat) : Nat := if i < r then i else i + 1
theorem big_bit {z i : Nat} (hz : z < 1024) (hi : 10 ≤ i) : z.testBit i = false := Nat.testBit_lt_two_pow (Nat.lt_of_lt_of_le hz (Nat.le_trans (show 1024 ≤ 2 ^ 10 by decide) (Nat.pow_le_pow_right (by decide) hi)))
theorem zero_of {z : Nat} (h : ∀ i, z.testBit i = false) : z = 0 := Nat.eq_of_testBit_eq (fun i => by rw [h i, Nat.zero_testBit])
section TRI
variable {d : Nat → Nat} {t : Nat → Term} {r n : Nat}
theorem drop_set (hW : WOk d t) (hr : r < d 17) (i : Nat) : (setN (drD d r) (drT t r) n).testBit i = (setN d t n).testBit (upR r i) := by
  have h17 := hW.r
  have h4 := hW.1.1.2
  unfold setN
  rw [setF_bit, setF_bit, drD_17]
  unfold upR
  by_cases c : i < d 17 - 1
  · have e : holdsB (drD d r) (drT t r) i n = holdsB d t (if i < r then i else i + 1) n := by
      unfold holdsB drT
      have hg := (hW.2.2.2.2.2.2.2 (if i < r then i else i + 1) (by split <;> omega)).1.1.1
      rw [show (if i < r then t i else t (i + 1)) = t (if i < r then i else i + 1) by split <;> rfl, gV_cg (d := d) (d' := drD d r) (fun k hk => drD_lo (by omega)) h4 _ hg]
    rw [e, decide_eq_true c, decide_eq_true (by split <;> omega)]
  · rw [decide_eq_false c, decide_eq_false (by split <;> omega), Bool.false_and, Bool.false_and]
theorem but_bit {m i : Nat} (hm : m < 1024) : (butN m (some r)).testBit i = (m.testBit i && !decide (i = r)) := by
  show (andn m (2 ^ r)).testBit i = _
  by_cases h : i < 31
  · rw [andn_bit h, Nat.testBit_two_pow]
    congr 2
    exact decide_eq_decide.mpr ⟨fun e => e.symm, fun e => e.symm⟩
  · have := andn_le m (2 ^ r)
    rw [big_bit (by omega) (by omega), big_bit hm (by omega)]
    rfl
theorem up_ne (i : Nat) : upR r i ≠ r := by
  unfold upR
  split <;> omega
theorem up_ex {j : Nat} (h : j ≠ r) : ∃ i, upR r i = j := by
  unfold upR
  by_cases c : j < r
  · exact ⟨j, if_pos c⟩
  · exact ⟨j - 1, by rw [if_neg (by omega)]; omega⟩
theorem drop_unb (hW : WOk d t) (hr : r < d 17) (i : Nat) : (unbN (drD d r) (setN (drD d r) (drT t r) n)).testBit i = (unbN d (butN (setN d t n) (some r))).testBit (upR r i) := by
  have h17 := hW.r
  have hp := pow10 h17
  have hm := setN_lt (d := d) (t := t) (n := n)
  have hm' := setN_lt (d := drD d r) (t := drT t r) (n := n)
  rw [drD_17] at hm'
  have hm'1 : setN (drD d r) (drT t r) n < 1024 := Nat.lt_of_lt_of_le hm' (Nat.le_trans (Nat.pow_le_pow_right (by decide) (show d 17 - 1 ≤ 10 by omega)) (by decide))
  have hbl : butN (setN d t n) (some r) ≤ setN d t n := andn_le _ _
  unfold unbN
  by_cases h : i < 10
  · have hu : upR r i < 31 := by unfold upR; split <;> omega
    rw [andn_bit (by omega), andn_bit hu, drop_set hW hr, but_bit (by omega), decide_eq_false (up_ne i), Bool.not_false, Bool.and_true]
    congr 2
    rw [Bool.eq_iff_iff, beatN_bit, beatN_bit, drD_17]
    constructor
    · rintro ⟨k, k1, k2, k3⟩
      refine ⟨upR r k, by unfold upR; split <;> omega, ?_, ?_⟩
      · rw [but_bit (by omega), ← drop_set hW hr, k2, decide_eq_false (up_ne k)]; rfl
      · rw [drD_o h17 (by omega), wo_bit] at k3
        unfold upR
        rw [show (if i < r then i else i + 1) = upR r i from rfl]
        unfold upR
        by_cases c : i < r
        · rw [if_pos c] at k3 ⊢; exact k3
        · rw [if_neg c] at k3 ⊢; exact k3
    · rintro ⟨j, j1, j2, j3⟩
      rw [but_bit (by omega), Bool.and_eq_true] at j2
      have hjr : j ≠ r := by simpa using j2.2
      obtain ⟨k, rfl⟩ := up_ex hjr
      refine ⟨k, by unfold upR at j1; split at j1 <;> omega, by rw [drop_set hW hr]; exact j2.1, ?_⟩
      have hk : k < d 17 - 1 := by unfold upR at j1; split at j1 <;> omega
      rw [drD_o h17 hk, wo_bit]
      unfold upR at j3
      rw [show (if i < r then i else i + 1) = upR r i from rfl] at j3
      unfold upR at j3
      by_cases c : i < r
      · rw [if_pos c] at j3 ⊢; exact j3
      · rw [if_neg c] at j3 ⊢; exact j3
  · have a1 := andn_le (setN (drD d r) (drT t r) n) (beatN (drD d r) (setN (drD d r) (drT t r) n) (drD d r 17))
    have a2 := andn_le (butN (setN d t n) (some r)) (beatN d (butN (setN d t n) (some r)) (d 17))
    rw [big_bit (by omega) (by omega), big_bit (by omega) (by unfold upR; split <;> omega)]
theorem drop_same (h17 : d 17 ≤ 10) {i j : Nat} (hi : i < d 17 - 1) (hj : j < d 17 - 1) : sameB (drD d r) i j = sameB d (upR r i) (upR r j) := by
  have e : ∀ i, i < d 17 - 1 → ∀ h, h < 4 → drD d r (47 + 34 * i + h) = d (47 + 34 * upR r i + h) := fun i hi h hh => by
    have := drD_f (r := r) (f := 29 + h) h17 hi (by omega)
    unfold upR
    rw [show 47 + 34 * i + h = 18 + 34 * i + (29 + h) by omega, this]
    congr 1
    omega
  rw [Bool.eq_iff_iff]
  unfold sameB
  rw [sameF_iff, sameF_iff]
  constructor
  · intro w k hk
    rw [← e i hi k hk, ← e j hj k hk]
    exact w k hk
  · intro w k hk
    rw [e i hi k hk, e j hj k hk]
    exact w k hk
theorem drop_verd (hW : WOk d t) (hW' : WOk (drD d r) (drT t r)) (hr : r < d 17) : verdN (drD d r) (setN (drD d r) (drT t r) n) = verdN d (butN (setN d t n) (some r)) := by
  have h17 := hW.r
  have hp := pow10 h17
  have hm := setN_lt (d := d) (t := t) (n := n)
  have hbl : butN (setN d t n) (some r) ≤ setN d t n := andn_le _ _
  have hm' := setN_lt (d := drD d r) (t := drT t r) (n := n)
  obtain ⟨a1, a2, a3, a4⟩ := verd_c hW'.r hm'
  obtain ⟨b1, b2, b3, b4⟩ := verd_c h17 (Nat.lt_of_le_of_lt hbl hm)
  have hset := drop_set (n := n) hW hr
  have hunb := drop_unb (n := n) hW hr
  have hbr : (butN (setN d t n) (some r)).testBit r = false := by rw [but_bit (by omega), decide_eq_true rfl]; simp
  have hul : unbN d (butN (setN d t n) (some r)) ≤ butN (setN d t n) (some r) := andn_le _ _
  have hur : (unbN d (butN (setN d t n) (some r))).testBit r = false := by
    unfold unbN
    rw [andn_bit (by omega), hbr]
    rfl
  have z1 : setN (drD d r) (drT t r) n = 0 ↔ butN (setN d t n) (some r) = 0 := by
    constructor
    · intro w
      refine zero_of (fun j => ?_)
      by_cases c : j = r
      · rw [c]; exact hbr
      · obtain ⟨i, rfl⟩ := up_ex c
        rw [but_bit (by omega), ← hset, w, Nat.zero_testBit]
        rfl
    · intro w
      refine zero_of (fun i => ?_)
      rw [hset]
      have := but_bit (r := r) (i := upR r i) (show setN d t n < 1024 by omega)
      rw [w, Nat.zero_testBit, decide_eq_false (up_ne i)] at this
      simpa using this.symm
  have z2 : unbN (drD d r) (setN (drD d r) (drT t r) n) = 0 ↔ unbN d (butN (setN d t n) (some r)) = 0 := by
    constructor
    · intro w
      refine zero_of (fun j => ?_)
      by_cases c : j = r
      · rw [c]; exact hur
      · obtain ⟨i, rfl⟩ := up_ex c
        rw [← hunb, w, Nat.zero_testBit]
    · intro w
      refine zero_of (fun i => ?_)
      rw [hunb, w, Nat.zero_testBit]
  have z3 : alikeP (drD d r) (unbN (drD d r) (setN (drD d r) (drT t r) n)) ↔ alikeP d (unbN d (butN (setN d t n) (some r))) := by
    constructor
    · intro w i j hi hj bi bj
      have hir : i ≠ r := fun e => by rw [e, hur] at bi; cases bi
      have hjr : j ≠ r := fun e => by rw [e, hur] at bj; cases bj
      obtain ⟨i, rfl⟩ := up_ex hir
      obtain ⟨j, rfl⟩ := up_ex hjr
      have hi' : i < d 17 - 1 := by unfold upR at hi; split at hi <;> omega
      have hj' : j < d 17 - 1 := by unfold upR at hj; split at hj <;> omega
      rw [← drop_same h17 hi' hj']
      exact w i j (by rw [drD_17]; exact hi') (by rw [drD_17]; exact hj') (by rw [hunb]; exact bi) (by rw [hunb]; exact bj)
    · intro w i j hi hj bi bj
      rw [drD_17] at hi hj
      rw [drop_same h17 hi hj]
      exact w _ _ (by unfold upR; split <;> omega) (by unfold upR; split <;> omega) (by rw [← hunb]; exact bi) (by rw [← hunb]; exact bj)
  by_cases c1 : setN (drD d r) (drT t r) n = 0
  · rw [a1 c1, b1 (z1.mp c1)]
  · have c1' : butN (setN d t n) (some r) ≠ 0 := fun w => c1 (z1.mpr w)
    by_cases c2 : unbN (drD d r) (setN (drD d r) (drT t r) n) = 0
    · rw [a2 c1 c2, b2 c1' (z2.mp c2)]
    · have c2' : unbN d (butN (setN d t n) (some r)) ≠ 0 := fun w => c2 (z2.mpr w)
      by_cases c3 : alikeP (drD d r) (unbN (drD d r) (setN (drD d r) (drT t r) n))
      · rw [a3 c1 c2 c3, b3 c1' c2' (z3.mp c3)]
      · rw [a4 c1 c2 c3, b4 c1' c2' (fun w => c3 (z3.mpr w))]
theorem drop_many (hW : WOk d t) (hW' : WOk (drD d r) (drT t r)) (hr : r < d 17) (v : Nat) : manyN (drD d r) (drT t r) v none = manyN d t v (some r) := by
  unfold manyN
  rw [casesN_cg (d := d) (d' := drD d r) (fun i hi => drD_lo (by omega)) hW.1.1.2]
  congr 1
  funext n
  show decide (verdN (drD d r) (setN (drD d r) (drT t r) n) = v) = _
  rw [drop_verd hW hW' hr]
end TRI
