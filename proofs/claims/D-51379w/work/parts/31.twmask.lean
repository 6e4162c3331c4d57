/-! THE PLAIN LAW, THE TWIN's SIDE: loops, sets of rules -/
set_option maxRecDepth 100000
/-- a loop's head with fuel: what it answers from k on -/
theorem loop_gen {α : Type} (B : Nat → Nat → α) (S : Nat → α) (n : Nat) (step : ∀ f k, k < n → B f (k + 1) = S (k + 1) → B (f + 1) k = S k) (fin : ∀ f, B (f + 1) n = S n) : ∀ j k f, k + j = n → j < f → B f k = S k := by
  intro j
  induction j with
  | zero =>
    intro k f hk hf
    obtain ⟨f, rfl⟩ : ∃ f', f = f' + 1 := ⟨f - 1, by omega⟩
    rw [show k = n by omega]
    exact fin f
  | succ j ih =>
    intro k f hk hf
    obtain ⟨f, rfl⟩ : ∃ f', f = f' + 1 := ⟨f - 1, by omega⟩
    exact step f k (by omega) (ih (k + 1) f (by omega) (by omega))
theorem loop_FU {α : Type} (B : Nat → Nat → α) (S : Nat → α) (n : Nat) (hn : n < 4096) (step : ∀ f k, k < n → B f (k + 1) = S (k + 1) → B (f + 1) k = S k) (fin : ∀ f, B (f + 1) n = S n) : B FU 0 = S 0 := loop_gen B S n step fin n 0 FU (by omega) (by show n < 4096; omega)
/-- the first number below n with a property; none -/
def firstF (p : Nat → Bool) : Nat → Nat → Option Nat
  | 0, _ => none
  | j + 1, k => if p k then some k else firstF p j (k + 1)
def firstN (p : Nat → Bool) (n : Nat) : Option Nat := firstF p n 0
def o32 : Option Nat → Int32
  | none => -1
  | some k => Int32.ofNat k
theorem firstF_some {p : Nat → Bool} : ∀ {j k r : Nat}, firstF p j k = some r → k ≤ r ∧ r < k + j ∧ p r = true ∧ ∀ i, k ≤ i → i < r → p i = false := by
  intro j
  induction j with
  | zero => intro k r h; cases h
  | succ j ih =>
    intro k r h
    unfold firstF at h
    split at h
    · next hp => cases h; exact ⟨Nat.le_refl _, by omega, hp, fun i h1 h2 => by omega⟩
    · next hp =>
      obtain ⟨h1, h2, h3, h4⟩ := ih h
      refine ⟨by omega, by omega, h3, fun i h5 h6 => ?_⟩
      by_cases hi : i = k
      · subst hi; simpa using hp
      · exact h4 i (by omega) h6
theorem firstF_none {p : Nat → Bool} : ∀ {j k : Nat}, firstF p j k = none → ∀ i, k ≤ i → i < k + j → p i = false := by
  intro j
  induction j with
  | zero => intro k h i h1 h2; omega
  | succ j ih =>
    intro k h i h1 h2
    unfold firstF at h
    split at h
    · cases h
    · next hp =>
      by_cases hi : i = k
      · subst hi; simpa using hp
      · exact ih h i (by omega) (by omega)
theorem J_m1 {a : Nat} (h : a < 2147483648) : (Int32.ofNat a = -1) = False := by
  apply propext
  constructor
  · intro h'
    have := congrArg Int32.toInt h'
    rw [J_int h] at this
    have h2 : (-1 : Int32).toInt = -1 := by decide
    rw [h2] at this
    omega
  · exact False.elim
theorem o32_m1 {o : Option Nat} (h : ∀ k, o = some k → k < 2147483648) : (o32 o = -1) = (o = none) := by
  cases o with
  | none => simp [o32]
  | some k => simp only [o32, J_m1 (h k rfl)]; simp
/-! bits -/
theorem J_bv {a : Nat} : (Int32.ofNat a).toBitVec = BitVec.ofNat 32 a := rfl
theorem J_and (a b : Nat) : Int32.ofNat a &&& Int32.ofNat b = Int32.ofNat (a &&& b) := by
  apply Int32.toBitVec_inj.mp
  show BitVec.ofNat 32 a &&& BitVec.ofNat 32 b = BitVec.ofNat 32 (a &&& b)
  apply BitVec.eq_of_getLsbD_eq
  intro i hi
  simp [BitVec.getLsbD_ofNat, hi, Nat.testBit_and]
theorem J_or (a b : Nat) : Int32.ofNat a ||| Int32.ofNat b = Int32.ofNat (a ||| b) := by
  apply Int32.toBitVec_inj.mp
  show BitVec.ofNat 32 a ||| BitVec.ofNat 32 b = BitVec.ofNat 32 (a ||| b)
  apply BitVec.eq_of_getLsbD_eq
  intro i hi
  simp [BitVec.getLsbD_ofNat, hi, Nat.testBit_or]
theorem J_xor (a b : Nat) : Int32.ofNat a ^^^ Int32.ofNat b = Int32.ofNat (a ^^^ b) := by
  apply Int32.toBitVec_inj.mp
  show BitVec.ofNat 32 a ^^^ BitVec.ofNat 32 b = BitVec.ofNat 32 (a ^^^ b)
  apply BitVec.eq_of_getLsbD_eq
  intro i hi
  simp [BitVec.getLsbD_ofNat, hi, Nat.testBit_xor]
theorem J_m31 {k : Nat} (h : k < 32) : Int32.ofNat k &&& 31 = Int32.ofNat k := by
  rw [show (31 : Int32) = Int32.ofNat 31 from rfl, J_and]
  congr 1
  have := Nat.and_two_pow_sub_one_eq_mod k 5
  simp at this
  rw [this, Nat.mod_eq_of_lt h]
theorem J_shl : ∀ k, k < 31 → (1 : Int32) <<< (Int32.ofNat k &&& 31) = Int32.ofNat (2 ^ k) := by decide +kernel
theorem J_shr {a k : Nat} (ha : a < 2147483648) (hk : k < 32) : Int32.ofNat a >>> (Int32.ofNat k &&& 31) = Int32.ofNat (a >>> k) := by
  rw [J_m31 hk]
  apply Int32.toBitVec_inj.mp
  rw [Int32.toBitVec_shiftRight]
  have h1 : ((Int32.ofNat k).toBitVec.smod 32).toNat = k := by
    have : ∀ k, k < 32 → ((Int32.ofNat k).toBitVec.smod 32).toNat = k := by decide +kernel
    exact this k hk
  apply BitVec.eq_of_toInt_eq
  show ((Int32.ofNat a).toBitVec.sshiftRight ((Int32.ofNat k).toBitVec.smod 32).toNat).toInt = _
  rw [h1, BitVec.toInt_sshiftRight]
  show (BitVec.ofNat 32 a).toInt >>> k = (BitVec.ofNat 32 (a >>> k)).toInt
  have h2 : (BitVec.ofNat 32 a).toInt = (a : Int) := J_int ha
  have h3 : a >>> k < 2147483648 := Nat.lt_of_le_of_lt (Nat.shiftRight_le a k) ha
  have h4 : (BitVec.ofNat 32 (a >>> k)).toInt = ((a >>> k : Nat) : Int) := J_int h3
  rw [h2, h4]
  rfl
/-- a without b -/
def andn (a b : Nat) : Nat := a &&& (b ^^^ 2147483647)
theorem J_andn {a b : Nat} (ha : a < 2147483648) : Int32.ofNat a &&& (Int32.ofNat b ^^^ (-1)) = Int32.ofNat (andn a b) := by
  rw [show (-1 : Int32) = Int32.ofNat 4294967295 from by decide, J_xor, J_and]
  congr 1
  unfold andn
  apply Nat.eq_of_testBit_eq
  intro i
  simp only [Nat.testBit_and, Nat.testBit_xor]
  by_cases hi : i < 31
  · have h1 : (4294967295 : Nat).testBit i = true := by
      have := Nat.testBit_two_pow_sub_one 32 i
      simp at this
      rw [this]; simp; omega
    have h2 : (2147483647 : Nat).testBit i = true := by
      have := Nat.testBit_two_pow_sub_one 31 i
      simp at this
      rw [this]; simp; omega
    rw [h1, h2]
  · have : a.testBit i = false := Nat.testBit_lt_two_pow (Nat.lt_of_lt_of_le ha (by
      have : 2 ^ 31 ≤ 2 ^ i := Nat.pow_le_pow_right (by decide) (by omega)
      simpa using this))
    rw [this]; rfl
theorem andn_bit {a b i : Nat} (hi : i < 31) : (andn a b).testBit i = (a.testBit i && !b.testBit i) := by
  unfold andn
  simp only [Nat.testBit_and, Nat.testBit_xor]
  have h2 : (2147483647 : Nat).testBit i = true := by
    have := Nat.testBit_two_pow_sub_one 31 i
    simp at this
    rw [this]; simp; omega
  rw [h2]
  cases a.testBit i <;> cases b.testBit i <;> rfl
theorem andn_le (a b : Nat) : andn a b ≤ a := Nat.and_le_left
theorem J_bit {a k : Nat} (ha : a < 2147483648) (hk : k < 32) : ((Int32.ofNat a >>> (Int32.ofNat k &&& 31)) &&& 1 = 1) = (a.testBit k = true) := by
  rw [J_shr ha hk, show (1 : Int32) = Int32.ofNat 1 from rfl, J_and, J_eq (by
    have : (a >>> k) &&& 1 ≤ 1 := Nat.and_le_right
    omega) (by decide)]
  apply propext
  rw [Nat.and_one_is_mod]
  unfold Nat.testBit
  rw [Nat.and_comm, Nat.and_one_is_mod]
  simp
theorem rz1 {σ : twS} : rz (1 : Int32) σ = some (1, σ) := rfl
theorem rz0 {σ : twS} : rz (0 : Int32) σ = some (0, σ) := rfl
/-- a truth as 0 or 1 -/
def b32 (b : Bool) : Int32 := if b then 1 else 0
theorem b32_0 (b : Bool) : (b32 b = 0) = (b = false) := by cases b <;> simp [b32]
theorem iJ_m1 {α : Type} {o : Option Nat} (h : ∀ k, o = some k → k < 2147483648) {x y : α} : (if o32 o = -1 then x else y) = if o = none then x else y := ite_pq (o32_m1 h)
theorem tw_has {a k : Nat} {σ : twS} (ha : a < 2147483648) (hk : k < 32) : mT_has (Int32.ofNat a) (Int32.ofNat k) σ = some (b32 (a.testBit k), σ) := by
  unfold mT_has
  rw [ite_pq (J_bit ha hk)]
  cases a.testBit k <;> rfl
