/-! THE PLAIN LAW: what heirs get -/
set_option maxRecDepth 100000
def pcN (d : Nat → Nat) (r h : Nat) : Nat := d 7 * d (47 + 34 * r + h) / 27720
def restF (d : Nat → Nat) (r h : Nat) : Nat → Nat
  | 0 => d 7
  | k + 1 => restF d r h k - (if k = h then 0 else pcN d r k)
/-- what an heir gets by a rule; by none -/
def partN (d : Nat → Nat) (o : Option Nat) (h : Nat) : Nat := match o with
  | none => 0
  | some r => if h = d 6 then restF d r h (d 5) else pcN d r h
def dutyN (d : Nat → Nat) (o : Option Nat) (h : Nat) : Nat := (partN d o h - d (9 + 2 * h)) * d (10 + 2 * h) / 100
def dutsF (d : Nat → Nat) (o : Option Nat) : Nat → Nat
  | 0 => 0
  | k + 1 => dutsF d o k + dutyN d o k
def dutsN (d : Nat → Nat) (o : Option Nat) : Nat := dutsF d o (d 5)
theorem psum_le {d : Nat → Nat} {r : Nat} (h : d (47 + 34 * r) + d (48 + 34 * r) + d (49 + 34 * r) + d (50 + 34 * r) ≤ 27720) : pcN d r 0 + pcN d r 1 + pcN d r 2 + pcN d r 3 ≤ d 7 := by
  unfold pcN
  have e : d 7 * d (47 + 34 * r) + d 7 * d (48 + 34 * r) + d 7 * d (49 + 34 * r) + d 7 * d (50 + 34 * r) ≤ d 7 * 27720 := by
    rw [← Nat.mul_add, ← Nat.mul_add, ← Nat.mul_add]
    exact Nat.mul_le_mul (Nat.le_refl _) h
  rw [show 47 + 34 * r + 0 = 47 + 34 * r by omega, show 47 + 34 * r + 1 = 48 + 34 * r by omega, show 47 + 34 * r + 2 = 49 + 34 * r by omega, show 47 + 34 * r + 3 = 50 + 34 * r by omega]
  omega
def psF (d : Nat → Nat) (r : Nat) : Nat → Nat
  | 0 => 0
  | k + 1 => psF d r k + pcN d r k
theorem restF_ge {d : Nat → Nat} {r h : Nat} : ∀ k, d 7 - psF d r k ≤ restF d r h k ∧ restF d r h k ≤ d 7 := by
  intro k
  induction k with
  | zero => exact ⟨Nat.sub_le _ _, Nat.le_refl _⟩
  | succ k ih =>
    show d 7 - (psF d r k + pcN d r k) ≤ restF d r h k - _ ∧ restF d r h k - _ ≤ d 7
    split <;> omega
theorem psF_le {d : Nat → Nat} {r : Nat} (h : d (47 + 34 * r) + d (48 + 34 * r) + d (49 + 34 * r) + d (50 + 34 * r) ≤ 27720) : ∀ k, k ≤ 4 → psF d r k ≤ d 7 := by
  intro k hk
  have := psum_le h
  match k, hk with
  | 0, _ => exact Nat.zero_le _
  | 1, _ => show 0 + pcN d r 0 ≤ d 7; omega
  | 2, _ => show 0 + pcN d r 0 + pcN d r 1 ≤ d 7; omega
  | 3, _ => show 0 + pcN d r 0 + pcN d r 1 + pcN d r 2 ≤ d 7; omega
  | 4, _ => show 0 + pcN d r 0 + pcN d r 1 + pcN d r 2 + pcN d r 3 ≤ d 7; omega
theorem J_subI {a b : Nat} (ha : a < 2147483648) (hb : b < 2147483648) : (Int32.ofNat a - Int32.ofNat b).toInt = (a : Int) - b := by
  rw [Int32.toInt_sub, J_int ha, J_int hb]
  exact Int.bmod_eq_of_le (by omega) (by omega)
theorem J_sle {a b : Nat} (ha : a < 2147483648) (hb : b < 2147483648) : (Int32.ofNat a - Int32.ofNat b ≤ 0) = (a ≤ b) := by
  rw [Int32.le_iff_toInt_le, J_subI ha hb]
  apply propext
  have : (0 : Int32).toInt = 0 := rfl
  rw [this]
  omega
theorem partN_le {d : Nat → Nat} {t : Nat → Term} (hW : WOk d t) {o : Option Nat} {h : Nat} (ho : ∀ r, o = some r → r < d 17) (hh : h < 4) : partN d o h ≤ d 7 := by
  cases o with
  | none => exact Nat.zero_le _
  | some r =>
    show (if h = d 6 then restF d r h (d 5) else pcN d r h) ≤ d 7
    split
    · exact (restF_ge _).2
    · have := hW.sh (ho r rfl) hh
      unfold pcN
      have e : d 7 * d (47 + 34 * r + h) ≤ d 7 * 27720 := Nat.mul_le_mul (Nat.le_refl _) this
      omega
theorem WOk.e {d : Nat → Nat} {t : Nat → Term} (h : WOk d t) : d 7 ≤ 9999 := h.2.2.2.1
theorem WOk.h {d : Nat → Nat} {t : Nat → Term} (h : WOk d t) : 1 ≤ d 5 ∧ d 5 ≤ 4 := h.2.1
theorem WOk.rest {d : Nat → Nat} {t : Nat → Term} (h : WOk d t) : d 6 < d 5 := h.2.2.1
theorem WOk.fr {d : Nat → Nat} {t : Nat → Term} (h : WOk d t) {k : Nat} (hk : k < 4) : d (9 + 2 * k) ≤ 9999 ∧ d (10 + 2 * k) ≤ 60 := h.2.2.2.2.2.1 k hk
theorem pc_J {d : Nat → Nat} {t : Nat → Term} {σ : twS} (hT : TW d σ) (hW : WOk d t) {r k : Nat} (hr : r < d 17) (hk : k < 4) : Int32.ofNat (d 7) * Int32.ofNat (d (18 + 34 * r + (29 + k))) / 27720 = Int32.ofNat (pcN d r k) := by
  have h1 := hW.sh hr hk
  have h2 := hW.e
  have e : d 7 * d (47 + 34 * r + k) ≤ 9999 * 27720 := Nat.mul_le_mul h2 h1
  rw [show 18 + 34 * r + (29 + k) = 47 + 34 * r + k by omega, J_mul, J_divL (by omega) (by decide)]
  rfl
theorem tw_part {d : Nat → Nat} {t : Nat → Term} {σ : twS} (hT : TW d σ) (hW : WOk d t) {o : Option Nat} {h : Nat} (ho : ∀ r, o = some r → r < d 17) (hh : h < d 5) : mT_part (o32 o) (Int32.ofNat h) σ = some (Int32.ofNat (partN d o h), σ) := by
  have h5 := hW.h
  have h6 := hW.rest
  have h7 := hW.e
  have h17 := hW.r
  unfold mT_part
  rw [iJ_m1 (fun r hr => by have := ho r hr; omega)]
  cases o with
  | none => rw [if_pos rfl]; rfl
  | some r =>
    have hr := ho r rfl
    have hs := (hW.2.2.2.2.2.2.2 r hr).2.2.1
    rw [if_neg (by simp), tw_aldL hT (by decide), iJ_eq (by omega) (by omega)]
    show (if h = d 6 then _ else _) = some (Int32.ofNat (if h = d 6 then restF d r h (d 5) else pcN d r h), σ)
    by_cases c : h = d 6
    · rw [if_pos c, if_pos c, tw_aldL hT (by decide)]
      refine loop_FU (fun g k => bT_part_51 g (o32 (some r)) (Int32.ofNat h) (Int32.ofNat (restF d r h k)) (Int32.ofNat k) σ) (fun _ => some (Int32.ofNat (restF d r h (d 5)), σ)) (d 5) (by omega) (fun g k hk ih => ?_) (fun g => ?_)
      · show bT_part_51 (g + 1) _ _ _ _ _ = _
        have e : restF d r h (k + 1) = restF d r h k - (if k = h then 0 else pcN d r k) := rfl
        rw [e] at ih
        rw [bT_part_51, tw_aldL hT (by decide), iJ_le (by omega) (by omega), if_neg (by omega), iJ_eq (by omega) (by omega)]
        by_cases c2 : k = h
        · rw [if_pos c2, lt_J, J_subL (Nat.zero_le _), lt_J, J_addL]
          rw [if_pos c2] at ih
          exact ih
        · rw [if_neg c2, tw_aldL hT (by decide), J_addR]
          show bd (mT_of (Int32.ofNat r) _ σ) _ = _
          rw [tw_of hT (by omega), bd_J, pc_J hT hW hr (by omega), lt_J]
          have q1 := (restF_ge (d := d) (r := r) (h := h) k).1
          have q2 := psF_le hs (k + 1) (by omega)
          have q3 : psF d r (k + 1) = psF d r k + pcN d r k := rfl
          rw [J_sub (by omega), lt_J, J_addL]
          rw [if_neg c2] at ih
          exact ih
      · show bT_part_51 (g + 1) _ _ _ _ _ = _
        rw [bT_part_51, tw_aldL hT (by decide), iJ_le (by omega) (by omega), if_pos (Nat.le_refl _)]
    · rw [if_neg c, if_neg c, tw_aldL hT (by decide), J_addR]
      show bd (mT_of (Int32.ofNat r) _ σ) _ = _
      rw [tw_of hT (by omega), bd_J, pc_J hT hW hr (by omega)]
theorem dutyN_le {d : Nat → Nat} {t : Nat → Term} (hW : WOk d t) {o : Option Nat} {h : Nat} (ho : ∀ r, o = some r → r < d 17) (hh : h < 4) : dutyN d o h ≤ 9999 := by
  have h1 := partN_le hW ho hh
  have h2 := hW.e
  have h3 := (hW.fr hh).2
  unfold dutyN
  have e : (partN d o h - d (9 + 2 * h)) * d (10 + 2 * h) ≤ 9999 * 60 := Nat.mul_le_mul (by omega) h3
  omega
theorem tw_duty {d : Nat → Nat} {t : Nat → Term} {σ : twS} (hT : TW d σ) (hW : WOk d t) {o : Option Nat} {h : Nat} (ho : ∀ r, o = some r → r < d 17) (hh : h < d 5) : mT_duty (o32 o) (Int32.ofNat h) σ = some (Int32.ofNat (dutyN d o h), σ) := by
  have h5 := hW.h
  have h7 := hW.e
  have h1 := partN_le hW ho (h := h) (by omega)
  have h3 := hW.fr (k := h) (by omega)
  unfold mT_duty
  rw [tw_part hT hW ho hh, bd_J, J_mulR, J_addR, tw_ald hT (by omega), lt_J, ite_pq (J_sle (by omega) (by omega))]
  unfold dutyN
  by_cases c : partN d o h ≤ d (9 + 2 * h)
  · rw [if_pos c, Nat.sub_eq_zero_of_le c, Nat.zero_mul]
    rfl
  · rw [if_neg c, J_addL, show 9 + 2 * h + 1 = 10 + 2 * h by omega, tw_ald hT (by omega), J_sub (by omega), J_mul]
    have e : (partN d o h - d (9 + 2 * h)) * d (10 + 2 * h) ≤ 9999 * 60 := Nat.mul_le_mul (by omega) h3.2
    rw [J_divL (by omega) (by decide)]
theorem dutsF_le {d : Nat → Nat} {t : Nat → Term} (hW : WOk d t) {o : Option Nat} (ho : ∀ r, o = some r → r < d 17) : ∀ k, k ≤ 4 → dutsF d o k ≤ 9999 * k := by
  intro k
  induction k with
  | zero => intro _; exact Nat.le_refl _
  | succ k ih =>
    intro hk
    have := dutyN_le hW ho (h := k) (by omega)
    have := ih (by omega)
    show dutsF d o k + dutyN d o k ≤ _
    omega
theorem tw_duties0 {d : Nat → Nat} {t : Nat → Term} {σ : twS} (hT : TW d σ) (hW : WOk d t) {o : Option Nat} (ho : ∀ r, o = some r → r < d 17) : mT_duties0 (o32 o) σ = some (Int32.ofNat (dutsN d o), σ) := by
  have h5 := hW.h
  unfold mT_duties0
  refine loop_FU (fun g k => bT_duties0_4 g (o32 o) (Int32.ofNat (dutsF d o k)) (Int32.ofNat k) σ) (fun _ => some (Int32.ofNat (dutsN d o), σ)) (d 5) (by omega) (fun g k hk ih => ?_) (fun g => ?_)
  · show bT_duties0_4 (g + 1) _ _ _ _ = _
    rw [bT_duties0_4, tw_aldL hT (by decide), iJ_le (by omega) (by omega), if_neg (by omega), tw_duty hT hW ho hk, bd_J, lt_J, J_add, lt_J, J_addL]
    exact ih
  · show bT_duties0_4 (g + 1) _ _ _ _ = _
    rw [bT_duties0_4, tw_aldL hT (by decide), iJ_le (by omega) (by omega), if_pos (Nat.le_refl _)]
    rfl
