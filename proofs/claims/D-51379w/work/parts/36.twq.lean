/-! THE PLAIN LAW: the twin's questions, without their checks -/
set_option maxRecDepth 100000
theorem setl_lt {d : Nat → Nat} {t : Nat → Term} (hW : WOk d t) {n r : Nat} (h : setlN d (setN d t n) = some r) : r < d 17 := by
  unfold setlN at h
  split at h
  · have hu : unbN d (setN d t n) ≤ setN d t n := andn_le _ _
    have hs := setN_lt (d := d) (t := t) (n := n)
    by_cases c : unbN d (setN d t n) = 0
    · rw [c] at h
      have := (firstF_some h).2.2.1
      simp at this
    · obtain ⟨r', h1, h2, -⟩ := least_bit (n := d 17) (by omega) (by have := hW.r; omega) c
      cases h1.symm.trans h
      exact h2
  · cases h
theorem o32_b {o : Option Nat} {r : Nat} (ho : ∀ k, o = some k → k < 2147483648) (hr : r < 2147483648) : (o32 o = Int32.ofNat r) = (o = some r) := by
  cases o with
  | none =>
    apply propext
    constructor
    · intro h
      have := J_m1 hr
      have h2 : Int32.ofNat r = -1 := h.symm
      rw [this] at h2
      exact h2.elim
    · intro h; cases h
  | some k =>
    have := J_eq (ho k rfl) hr
    simp only [o32, this, Option.some.injEq]
/-- the least, the most that an heir gets in a settled case -/
def extF (d : Nat → Nat) (t : Nat → Term) (h : Nat) (b : Bool) : Nat → Option Nat
  | 0 => none
  | k + 1 => match setlN d (setN d t k) with
    | none => extF d t h b k
    | some r => match extF d t h b k with
      | none => some (partN d (some r) h)
      | some x => some (if b then (if x < partN d (some r) h then partN d (some r) h else x) else if partN d (some r) h < x then partN d (some r) h else x)
theorem extF_le {d : Nat → Nat} {t : Nat → Term} (hW : WOk d t) {h : Nat} (hh : h < 4) {b : Bool} : ∀ k x, extF d t h b k = some x → x ≤ 9999 := by
  intro k
  induction k with
  | zero => intro x hx; cases hx
  | succ k ih =>
    intro x hx
    unfold extF at hx
    have he := hW.e
    cases hs : setlN d (setN d t k) with
    | none => rw [hs] at hx; exact ih x hx
    | some r =>
      rw [hs] at hx
      have hp := partN_le hW (o := some r) (h := h) (fun r' h' => by cases h'; exact setl_lt hW hs) hh
      cases hk : extF d t h b k with
      | none => rw [hk] at hx; cases hx; omega
      | some y =>
        rw [hk] at hx
        have := ih y hk
        cases hx
        repeat' split
        all_goals omega
theorem tw_extreme {d : Nat → Nat} {t : Nat → Term} {σ : twS} (hT : TW d σ) (hW : WOk d t) {h : Nat} (hh : h < d 5) (b : Bool) : ∃ σ', fr15 σ σ' ∧ mT_extreme (Int32.ofNat h) (b32 b) σ = some (o32 (extF d t h b (casesN d)), σ') := by
  have hC := casesN_le hW.1
  have h5 := hW.h
  have hp := pow10 hW.r
  have h17 := hW.r
  obtain ⟨σ1, f1, hA, e1⟩ := tw_setsOut hT hW
  have hT1 := f1.tw hT
  refine ⟨σ1, f1, ?_⟩
  unfold mT_extreme
  rw [e1, bd_J, tw_cases hT1 hW.1, bd_J]
  refine loop_FU (fun g k => bT_extreme_15 g (Int32.ofNat h) (b32 b) (o32 (extF d t h b k)) (Int32.ofNat (casesN d)) (Int32.ofNat k) σ1) (fun _ => some (o32 (extF d t h b (casesN d)), σ1)) (casesN d) (by omega) (fun g k hk ih => ?_) (fun g => ?_)
  · show bT_extreme_15 (g + 1) _ _ _ _ _ _ = _
    have hs := setN_lt (d := d) (t := t) (n := k)
    rw [bT_extreme_15, iJ_le (by omega) (by omega), if_neg (by omega), ald_J (by omega) (by decide), hA k hk, tw_settles hT1 hW hs, bd_J, iJ_m1 (fun r hr => by have := setl_lt hW hr; omega)]
    have e : extF d t h b (k + 1) = (match setlN d (setN d t k) with
      | none => extF d t h b k
      | some r => match extF d t h b k with
        | none => some (partN d (some r) h)
        | some x => some (if b then (if x < partN d (some r) h then partN d (some r) h else x) else if partN d (some r) h < x then partN d (some r) h else x)) := rfl
    rw [e] at ih
    cases hq : setlN d (setN d t k) with
    | none =>
      rw [hq] at ih
      rw [if_pos rfl, lt_J, J_addL]
      exact ih
    | some r =>
      rw [hq] at ih
      have hr := setl_lt hW hq
      have hpl := partN_le hW (o := some r) (h := h) (fun r' h' => by cases h'; exact hr) (by omega)
      have he := hW.e
      rw [if_neg (by simp), tw_part hT1 hW (fun r' h' => by cases h'; exact hr) hh, bd_J, iJ_m1 (fun x hx => by have := extF_le hW (by omega) k x hx; omega)]
      cases hx : extF d t h b k with
      | none =>
        rw [hx] at ih
        rw [if_pos rfl, lt_J, J_addL]
        exact ih
      | some x =>
        rw [hx] at ih
        have hxl := extF_le hW (by omega) k x hx
        rw [if_neg (by simp)]
        simp only [b32_0]
        cases b with
        | false =>
          rw [if_pos rfl, lt_J, lt_J, J_addL]
          show bT_extreme_15 g _ _ (if Int32.ofNat _ < Int32.ofNat x then _ else Int32.ofNat x) _ _ _ = _
          rw [iJ_lt (by omega) (by omega), show (if partN d (some r) h < x then Int32.ofNat (partN d (some r) h) else Int32.ofNat x) = Int32.ofNat (if partN d (some r) h < x then partN d (some r) h else x) from by split <;> rfl]
          exact ih
        | true =>
          rw [if_neg (by decide), lt_J, lt_J, J_addL]
          show bT_extreme_15 g _ _ (if Int32.ofNat x < Int32.ofNat _ then _ else Int32.ofNat x) _ _ _ = _
          rw [iJ_lt (by omega) (by omega), show (if x < partN d (some r) h then Int32.ofNat (partN d (some r) h) else Int32.ofNat x) = Int32.ofNat (if x < partN d (some r) h then partN d (some r) h else x) from by split <;> rfl]
          exact ih
  · show bT_extreme_15 (g + 1) _ _ _ _ _ _ = _
    rw [bT_extreme_15, iJ_le (by omega) (by omega), if_pos (Nat.le_refl _)]
/-- the rules that are over one -/
def ovF (d : Nat → Nat) (r : Nat) : Nat → Nat
  | 0 => 0
  | k + 1 => ovF d r k ||| (if (d (51 + 34 * k)).testBit r then 2 ^ k else 0)
def ovN (d : Nat → Nat) (r : Nat) : Nat := ovF d r (d 17)
theorem ovF_lt {d : Nat → Nat} {r : Nat} : ∀ k, ovF d r k < 2 ^ k := by
  intro k
  induction k with
  | zero => show 0 < 1; decide
  | succ k ih =>
    show ovF d r k ||| _ < 2 ^ (k + 1)
    refine Nat.or_lt_two_pow (Nat.lt_of_lt_of_le ih (Nat.pow_le_pow_right (by decide) (by omega))) ?_
    split
    · exact Nat.pow_lt_pow_right (by decide) (by omega)
    · exact Nat.pow_pos (by decide)
theorem tw_overIt {d : Nat → Nat} {t : Nat → Term} {σ : twS} (hT : TW d σ) (hW : WOk d t) {r : Nat} (hr : r < 31) : mT_overIt (Int32.ofNat r) σ = some (Int32.ofNat (ovN d r), σ) := by
  have h17 := hW.r
  unfold mT_overIt
  refine loop_FU (fun g k => bT_overIt_4 g (Int32.ofNat r) (Int32.ofNat (ovF d r k)) (Int32.ofNat k) σ) (fun _ => some (Int32.ofNat (ovN d r), σ)) (d 17) (by omega) (fun g k hk ih => ?_) (fun g => ?_)
  · show bT_overIt_4 (g + 1) _ _ _ _ = _
    have ho := hW.ov hk
    rw [bT_overIt_4, tw_aldL hT (by decide), iJ_le (by omega) (by omega), if_neg (by omega), show (33 : Int32) = Int32.ofNat 33 from rfl, tw_of hT (by omega), bd_J, show 18 + 34 * k + 33 = 51 + 34 * k by omega, tw_has (by omega) (by omega), bd_J]
    simp only [b32_0]
    unfold ovF at ih
    by_cases c : (d (51 + 34 * k)).testBit r = false
    · rw [c] at ih
      rw [if_pos c, lt_J, J_orL, lt_J, J_addL]
      exact ih
    · have c' : (d (51 + 34 * k)).testBit r = true := by simpa using c
      rw [c'] at ih
      rw [if_neg c, J_shl k (by omega), lt_J, J_or, lt_J, J_addL]
      exact ih
  · show bT_overIt_4 (g + 1) _ _ _ _ = _
    rw [bT_overIt_4, tw_aldL hT (by decide), iJ_le (by omega) (by omega), if_pos (Nat.le_refl _)]
    rfl
/-- in how many cases a rule applies (0), settles (1), is beaten (2) -/
def mofB (d : Nat → Nat) (t : Nat → Term) (r w n : Nat) : Bool := if w = 0 then (setN d t n).testBit r else if w = 1 then decide (setlN d (setN d t n) = some r) else (setN d t n).testBit r && !(unbN d (setN d t n)).testBit r
def mofN (d : Nat → Nat) (t : Nat → Term) (r w : Nat) : Nat := cntN (mofB d t r w) (casesN d)
theorem tw_manyOf {d : Nat → Nat} {t : Nat → Term} {σ : twS} (hT : TW d σ) (hW : WOk d t) {r w : Nat} (hr : r < 31) (hw : w ≤ 2) : ∃ σ', fr15 σ σ' ∧ mT_manyOf (Int32.ofNat r) (Int32.ofNat w) σ = some (Int32.ofNat (mofN d t r w), σ') := by
  have hC := casesN_le hW.1
  have hp := pow10 hW.r
  have h17 := hW.r
  obtain ⟨σ1, f1, hA, e1⟩ := tw_setsOut hT hW
  have hT1 := f1.tw hT
  refine ⟨σ1, f1, ?_⟩
  unfold mT_manyOf
  rw [e1, bd_J, tw_cases hT1 hW.1, bd_J]
  refine loop_FU (fun g k => bT_manyOf_15 g (Int32.ofNat r) (Int32.ofNat w) (Int32.ofNat (cntN (mofB d t r w) k)) (Int32.ofNat (casesN d)) (Int32.ofNat k) σ1) (fun _ => some (Int32.ofNat (mofN d t r w), σ1)) (casesN d) (by omega) (fun g k hk ih => ?_) (fun g => ?_)
  · show bT_manyOf_15 (g + 1) _ _ _ _ _ _ = _
    have hs := setN_lt (d := d) (t := t) (n := k)
    have hu : unbN d (setN d t k) ≤ setN d t k := andn_le _ _
    have last : ∀ b : Bool, mofB d t r w k = b → bT_manyOf_94 (bT_manyOf_15 g) (Int32.ofNat r) (Int32.ofNat w) (Int32.ofNat (cntN (mofB d t r w) k)) (Int32.ofNat (casesN d)) (Int32.ofNat k) (b32 b) σ1 = some (Int32.ofNat (mofN d t r w), σ1) := by
      intro b hb
      have e : cntN (mofB d t r w) (k + 1) = cntN (mofB d t r w) k + (if b then 1 else 0) := by show _ + (if mofB d t r w k then 1 else 0) = _; rw [hb]
      rw [e] at ih
      rw [bT_manyOf_94]
      simp only [b32_0]
      cases b with
      | false => rw [if_pos rfl, lt_J, J_addL, lt_J, J_addL]; exact ih
      | true => rw [if_neg (by decide), lt_J, J_addL, lt_J, J_addL]; exact ih
    rw [bT_manyOf_15, iJ_le (by omega) (by omega), if_neg (by omega), ald_J (by omega) (by decide), hA k hk, iJ_eqL (by omega) (by decide), iJ_eqL (by omega) (by decide)]
    by_cases c0 : w = 0
    · rw [if_pos c0, tw_has (by omega) (by omega), bd_J]
      exact last _ (by unfold mofB; rw [if_pos c0])
    · rw [if_neg c0]
      by_cases c1 : w = 1
      · rw [if_pos c1, tw_settles hT1 hW hs, bd_J, ite_pq (o32_b (fun x hx => by have := setl_lt hW hx; omega) (by omega))]
        by_cases c2 : setlN d (setN d t k) = some r
        · rw [if_pos c2]
          exact last true (by unfold mofB; rw [if_neg c0, if_pos c1, decide_eq_true c2])
        · rw [if_neg c2]
          exact last false (by unfold mofB; rw [if_neg c0, if_pos c1, decide_eq_false c2])
      · rw [if_neg c1, tw_has (by omega) (by omega), bd_J]
        simp only [b32_0]
        by_cases c2 : (setN d t k).testBit r = false
        · rw [if_pos c2, bT_manyOf_93]
          exact last false (by unfold mofB; rw [if_neg c0, if_neg c1, c2]; rfl)
        · have c2' : (setN d t k).testBit r = true := by simpa using c2
          rw [if_neg c2, tw_unbeaten hT1 h17 (fun r hr => hW.ov hr) (by omega), bd_J, tw_has (by omega) (by omega), bd_J]
          simp only [b32_0]
          by_cases c3 : (unbN d (setN d t k)).testBit r = false
          · rw [if_pos c3]
            exact last true (by unfold mofB; rw [if_neg c0, if_neg c1, c2', c3]; rfl)
          · have c3' : (unbN d (setN d t k)).testBit r = true := by simpa using c3
            rw [if_neg c3, bT_manyOf_93]
            exact last false (by unfold mofB; rw [if_neg c0, if_neg c1, c2', c3']; rfl)
  · show bT_manyOf_15 (g + 1) _ _ _ _ _ _ = _
    rw [bT_manyOf_15, iJ_le (by omega) (by omega), if_pos (Nat.le_refl _)]
    rfl
/-- the twin's divisor -/
theorem tw_divisor : ∀ m f a b σ, b < 2 ^ m → 2 * m + 1 ≤ f → a < 2147483648 → b < 2147483648 → mT_divisor f (Int32.ofNat a) (Int32.ofNat b) σ = some (Int32.ofNat (Nat.gcd a b), σ) := by
  have one : ∀ f a b σ, a < 2147483648 → b < 2147483648 → b ≠ 0 → mT_divisor (f + 1) (Int32.ofNat a) (Int32.ofNat b) σ = bd (mT_divisor f (Int32.ofNat b) (Int32.ofNat (a % b)) σ) fun v s => some (v, s) := by
    intro f a b σ ha hb h0
    show mO_divisor (mT_divisor f) _ _ _ = _
    unfold mO_divisor
    have h3 := Nat.div_mul_le_self a b
    rw [iJ_eqL hb (by decide), if_neg h0, nz_J h0 hb, J_div ha hb, J_mul, J_sub h3]
    have h5 := Nat.div_add_mod a b
    rw [Nat.mul_comm] at h5
    rw [show a - a / b * b = a % b by omega]
  have zero : ∀ f a σ, mT_divisor (f + 1) (Int32.ofNat a) (Int32.ofNat 0) σ = some (Int32.ofNat (Nat.gcd a 0), σ) := by
    intro f a σ
    show mO_divisor (mT_divisor f) _ _ _ = _
    unfold mO_divisor
    rw [iJ_eqL (by decide) (by decide), if_pos rfl, Nat.gcd_zero_right]
  intro m
  induction m with
  | zero =>
    intro f a b σ hb hf _ _
    obtain ⟨f, rfl⟩ : ∃ f', f = f' + 1 := ⟨f - 1, by omega⟩
    rw [show b = 0 by simpa using hb]
    exact zero f a σ
  | succ m ih =>
    intro f a b σ hb hf ha hb2
    obtain ⟨f, rfl⟩ : ∃ f', f = f' + 1 := ⟨f - 1, by omega⟩
    by_cases h0 : b = 0
    · rw [h0]; exact zero f a σ
    obtain ⟨f, rfl⟩ : ∃ f', f = f' + 1 := ⟨f - 1, by omega⟩
    have hab : a % b < b := Nat.mod_lt _ (by omega)
    have g1 : Nat.gcd a b = Nat.gcd b (a % b) := by rw [Nat.gcd_comm, Nat.gcd_rec, Nat.gcd_comm]
    rw [one (f + 1) a b σ ha hb2 h0]
    by_cases h1 : a % b = 0
    · rw [h1, zero, bd_J, g1, h1]
    · have hc : b % (a % b) < a % b := Nat.mod_lt _ (by omega)
      have hq : b % (a % b) ≤ b / 2 := by
        by_cases h2 : a % b ≤ b / 2
        · omega
        · have h7 : b % (a % b) = b - a % b := by
            rw [Nat.mod_eq_sub_mod (by omega), Nat.mod_eq_of_lt (by omega)]
          omega
      have hp2 : 2 ^ (m + 1) = 2 ^ m * 2 := Nat.pow_succ ..
      have g2 : Nat.gcd b (a % b) = Nat.gcd (a % b) (b % (a % b)) := by rw [Nat.gcd_comm, Nat.gcd_rec, Nat.gcd_comm]
      rw [one f b (a % b) σ hb2 (by omega) h1, ih f (a % b) (b % (a % b)) σ (by omega) (by omega) (by omega) (by omega), bd_J, bd_J, g1, g2]
def shTN (d : Nat → Nat) (r h : Nat) (b : Bool) : Nat := (if b then 27720 else d (47 + 34 * r + h)) / Nat.gcd 27720 (d (47 + 34 * r + h))
theorem tw_shareTold {d : Nat → Nat} {t : Nat → Term} {σ : twS} (hT : TW d σ) (hW : WOk d t) {r h : Nat} (hr : r < d 17) (hh : h < 4) (b : Bool) : mT_shareTold (Int32.ofNat r) (Int32.ofNat h) (b32 b) σ = some (Int32.ofNat (shTN d r h b), σ) := by
  have h17 := hW.r
  have hs := hW.sh hr hh
  have hg : Nat.gcd 27720 (d (47 + 34 * r + h)) ≤ 27720 := Nat.gcd_le_left _ (by decide)
  have hg0 : 0 < Nat.gcd 27720 (d (47 + 34 * r + h)) := Nat.gcd_pos_of_pos_left _ (by decide)
  unfold mT_shareTold
  rw [J_addR, tw_of hT (by omega), bd_J, show 18 + 34 * r + (29 + h) = 47 + 34 * r + h by omega]
  have last : ∀ x : Nat, x < 2147483648 → bT_shareTold_23 (Int32.ofNat (d (47 + 34 * r + h))) (Int32.ofNat x) σ = some (Int32.ofNat (x / Nat.gcd 27720 (d (47 + 34 * r + h))), σ) := by
    intro x hx
    unfold bT_shareTold_23
    rw [show (27720 : Int32) = Int32.ofNat 27720 from rfl, tw_divisor 15 DP 27720 _ σ (by show _ < 32768; omega) (by decide) (by decide) (by omega), bd_J, nz_J (by omega) (by omega), J_div hx (by omega)]
  simp only [b32_0]
  cases b with
  | false => rw [if_pos rfl]; exact last _ (by omega)
  | true => rw [if_neg (by decide)]; exact last 27720 (by decide)
