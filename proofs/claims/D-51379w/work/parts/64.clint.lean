/-! THE PLAIN LAW, the class' side: numbers -/
set_option maxRecDepth 1000000
def c00 : cS := (fun _ => none, fun _ => 0)
def shU (k x : Int32) : Int32 := (x.toUInt32 >>> (Int32.toUInt32 k &&& Int32.toUInt32 31)).toInt32
def n62 (x0 x1 : Int32) : Int32 := if x0 ≤ 4 then x1 + shU 1 x0 else (x1 + 2) + shU 1 (shU 2 x0)
def n49 (x0 x1 : Int32) : Int32 := if x0 ≤ 16 then n62 x0 x1 else n62 (shU 4 x0) (x1 + 4)
def n34 (x0 x1 : Int32) : Int32 := if x0 ≤ 256 then n49 x0 x1 else n49 (shU 8 x0) (x1 + 8)
def ntzI (x : Int32) : Int32 := if 0 < ((x ^^^ (-1)) &&& (x - 1)) then (if ((x ^^^ (-1)) &&& (x - 1)) ≤ 65536 then n34 ((x ^^^ (-1)) &&& (x - 1)) 1 else n34 (shU 16 ((x ^^^ (-1)) &&& (x - 1))) (1 + 16)) else ((x ^^^ (-1)) &&& (x - 1)) &&& 32
theorem n62_s (x0 x1 : Int32) (σ : cS) : b_J14_numberOfTrailingZeros_62 x0 x1 σ = some (n62 x0 x1, σ) := by
  unfold b_J14_numberOfTrailingZeros_62 n62 lt_
  split <;> rfl
theorem n49_s (x0 x1 : Int32) (σ : cS) : b_J14_numberOfTrailingZeros_49 x0 x1 σ = some (n49 x0 x1, σ) := by
  unfold b_J14_numberOfTrailingZeros_49 n49 lt_
  split
  · exact n62_s _ _ _
  · exact n62_s _ _ _
theorem n34_s (x0 x1 : Int32) (σ : cS) : b_J14_numberOfTrailingZeros_34 x0 x1 σ = some (n34 x0 x1, σ) := by
  unfold b_J14_numberOfTrailingZeros_34 n34 lt_
  split
  · exact n49_s _ _ _
  · exact n49_s _ _ _
theorem ntz_s (x : Int32) (σ : cS) : m_J14_numberOfTrailingZeros x σ = some (ntzI x, σ) := by
  unfold m_J14_numberOfTrailingZeros ntzI lt_
  generalize (x ^^^ (-1)) &&& (x - 1) = y
  dsimp only
  split
  · split
    · exact n34_s _ _ _
    · exact n34_s _ _ _
  · rfl
def o32t (o : Option Nat) : Int32 := match o with
  | none => 32
  | some r => Int32.ofNat r
theorem ntz_d : ∀ m, m < 1024 → ntzI (Int32.ofNat m) = o32t (leastN m) := by decide +kernel
theorem cl_ntz {m : Nat} {σ : cS} (h : m < 1024) : m_J14_numberOfTrailingZeros (Int32.ofNat m) σ = some (o32t (leastN m), σ) := by rw [ntz_s, ntz_d m h]
def bcI (x : Int32) : Int32 := match m_J14_bitCount x c00 with
  | some q => q.1
  | none => 0
theorem bc_s (x : Int32) (σ : cS) : m_J14_bitCount x σ = some (bcI x, σ) := rfl
theorem bc_d : ∀ m, m < 1024 → bcI (Int32.ofNat m) = Int32.ofNat (bitsN m) := by decide +kernel
theorem cl_bits {m : Nat} {σ : cS} (h : m < 1024) : m_J14_bitCount (Int32.ofNat m) σ = some (Int32.ofNat (bitsN m), σ) := by rw [bc_s, bc_d m h]
theorem J_rem {a b : Nat} (ha : a < 2147483648) (hb : b < 2147483648) : Int32.ofNat a - Int32.ofNat a / Int32.ofNat b * Int32.ofNat b = Int32.ofNat (a % b) := by
  rw [J_div ha hb, J_mul, J_sub (Nat.div_mul_le_self _ _)]
  congr 1
  have := Nat.div_add_mod a b
  rw [Nat.mul_comm] at this
  omega
theorem cl_div4 : ∀ m f a b σ, b < 2 ^ m → 2 * m + 1 ≤ f → a < 2147483648 → b < 2147483648 → b_X1_divisor_4 f (Int32.ofNat a) (Int32.ofNat b) σ = some (Int32.ofNat (Nat.gcd a b), σ) := by
  intro m
  induction m with
  | zero =>
    intro f a b σ hb hf ha _
    obtain ⟨f, rfl⟩ : ∃ f', f = f' + 1 := ⟨f - 1, by omega⟩
    have h0 : b = 0 := by simpa using hb
    subst h0
    rw [b_X1_divisor_4, iJ_eqL (by decide) (by decide), if_pos rfl, Nat.gcd_zero_right]
  | succ m ih =>
    intro f a b σ hb hf ha hb2
    obtain ⟨f, rfl⟩ : ∃ f', f = f' + 1 := ⟨f - 1, by omega⟩
    rw [b_X1_divisor_4, iJ_eqL hb2 (by decide)]
    by_cases c : b = 0
    · rw [if_pos c, c, Nat.gcd_zero_right]
    · rw [if_neg (show ¬ b = OfNat.ofNat 0 from c), nz_J c hb2, lt_J, J_rem ha hb2]
      have hr : a % b < b := Nat.mod_lt _ (by omega)
      obtain ⟨f, rfl⟩ : ∃ f', f = f' + 1 := ⟨f - 1, by omega⟩
      have hr2 : a % b < 2147483648 := by omega
      rw [b_X1_divisor_4, iJ_eqL hr2 (by decide)]
      by_cases c2 : a % b = 0
      · rw [if_pos c2, Nat.gcd_comm a b, Nat.gcd_rec b a, c2, Nat.gcd_zero_left]
      · rw [if_neg (show ¬ a % b = OfNat.ofNat 0 from c2), nz_J c2 hr2, lt_J, J_rem hb2 hr2]
        have h3 : b % (a % b) < 2 ^ m := by
          have h4 : b % (a % b) < a % b := Nat.mod_lt _ (by omega)
          have h5 : b % (a % b) + a % b ≤ b := by
            have := Nat.div_add_mod b (a % b)
            have h6 : 1 ≤ b / (a % b) := (Nat.one_le_div_iff (by omega)).mpr (by omega)
            have h7 : (a % b) * 1 ≤ (a % b) * (b / (a % b)) := Nat.mul_le_mul (Nat.le_refl _) h6
            omega
          have : 2 ^ (m + 1) = 2 * 2 ^ m := by rw [Nat.pow_succ]; omega
          omega
        rw [ih f (a % b) (b % (a % b)) σ h3 (by omega) hr2 (by have : b % (a % b) ≤ b := Nat.mod_le _ _; omega)]
        congr 2
        rw [Nat.gcd_comm (a % b) (b % (a % b)), ← Nat.gcd_rec (a % b) b, ← Nat.gcd_rec b a, Nat.gcd_comm]
theorem cl_divisor {a : Nat} {σ : cS} (ha : a < 2147483648) : m_X1_divisor (Int32.ofNat a) 27720 σ = some (Int32.ofNat (Nat.gcd a 27720), σ) := cl_div4 15 FU a 27720 σ (by decide) (by decide) ha (by decide)
theorem L_of {a : Nat} (h : a < 2147483648) : (Int32.ofNat a).toInt64 = Int64.ofNat a := by
  apply Int64.toInt_inj.mp
  rw [Int32.toInt_toInt64, J_int h, Int64.toInt_ofNat_of_lt (by omega)]
theorem L_to {a : Nat} : (Int64.ofNat a).toInt32 = Int32.ofNat a := Int64.toInt32_ofNat'
theorem cl_pc {a b : Nat} (ha : a ≤ 9999) (hb : b ≤ 27720) : Int64.toInt32 (((Int32.ofNat a).toInt64 * (Int32.ofNat b).toInt64) / 27720) = Int32.ofNat (a * b / 27720) := by
  have h : a * b ≤ 9999 * 27720 := Nat.mul_le_mul ha hb
  rw [L_of (by omega), L_of (by omega), ← Int64.ofNat_mul, show (27720 : Int64) = Int64.ofNat 27720 from rfl, ← Int64.ofNat_div (by simp; omega) (by decide), L_to]
