/-! THE PLAIN LAW, THE TWIN's SIDE: numbers -/
set_option maxRecDepth 100000
section NUM
theorem J_int {a : Nat} (h : a < 2147483648) : (Int32.ofNat a).toInt = a := by
  rw [Int32.toInt_ofNat_of_lt (by simpa using h)]
theorem J_le {a b : Nat} (ha : a < 2147483648) (hb : b < 2147483648) : (Int32.ofNat a ≤ Int32.ofNat b) = (a ≤ b) := by
  rw [Int32.le_iff_toInt_le, J_int ha, J_int hb]
  simp
theorem J_lt {a b : Nat} (ha : a < 2147483648) (hb : b < 2147483648) : (Int32.ofNat a < Int32.ofNat b) = (a < b) := by
  rw [Int32.lt_iff_toInt_lt, J_int ha, J_int hb]
  simp
theorem J_eq {a b : Nat} (ha : a < 2147483648) (hb : b < 2147483648) : (Int32.ofNat a = Int32.ofNat b) = (a = b) := by
  apply propext
  constructor
  · intro h
    have := congrArg Int32.toInt h
    rw [J_int ha, J_int hb] at this
    omega
  · intro h; rw [h]
theorem J_cl {a : Nat} (h : a < 2147483648) : (Int32.ofNat a).toNatClampNeg = a := by
  show (Int32.ofNat a).toInt.toNat = a
  rw [J_int h]
  rfl
theorem J_nn {a : Nat} (h : a < 2147483648) : (Int32.ofNat a < 0) = False := by
  apply propext
  rw [Int32.lt_iff_toInt_lt, J_int h]
  simp
theorem ite_pq {α : Type} {p q : Prop} [Decidable p] [Decidable q] (h : p = q) {x y : α} : (if p then x else y) = if q then x else y := by
  by_cases c : p
  · rw [if_pos c, if_pos (h ▸ c)]
  · rw [if_neg c, if_neg (h ▸ c)]
theorem iJ_le {α : Type} {a b : Nat} (ha : a < 2147483648) (hb : b < 2147483648) {x y : α} : (if Int32.ofNat a ≤ Int32.ofNat b then x else y) = if a ≤ b then x else y := ite_pq (J_le ha hb)
theorem iJ_lt {α : Type} {a b : Nat} (ha : a < 2147483648) (hb : b < 2147483648) {x y : α} : (if Int32.ofNat a < Int32.ofNat b then x else y) = if a < b then x else y := ite_pq (J_lt ha hb)
theorem iJ_eq {α : Type} {a b : Nat} (ha : a < 2147483648) (hb : b < 2147483648) {x y : α} : (if Int32.ofNat a = Int32.ofNat b then x else y) = if a = b then x else y := ite_pq (J_eq ha hb)
theorem J_add (a b : Nat) : Int32.ofNat a + Int32.ofNat b = Int32.ofNat (a + b) := (Int32.ofNat_add a b).symm
theorem J_mul (a b : Nat) : Int32.ofNat a * Int32.ofNat b = Int32.ofNat (a * b) := (Int32.ofNat_mul a b).symm
theorem J_sub {a b : Nat} (h : b ≤ a) : Int32.ofNat a - Int32.ofNat b = Int32.ofNat (a - b) := (Int32.ofNat_sub a b h).symm
theorem J_div {a b : Nat} (ha : a < 2147483648) (hb : b < 2147483648) : Int32.ofNat a / Int32.ofNat b = Int32.ofNat (a / b) := (Int32.ofNat_div (by simpa using ha) (by simpa using hb)).symm
theorem ald_J {β : Type} {σ : twS} {k n j : Nat} {K : Int32 → Option β} (hj : j < n) (hn : n < 2147483648) : ald σ k n (Int32.ofNat j) K = K (σ.1 k j) := by
  unfold ald
  rw [if_neg (by
    rintro (h | h)
    · rw [J_nn (by omega)] at h; exact h
    · rw [J_cl (by omega)] at h; omega), J_cl (by omega)]
theorem ast_J {β : Type} {σ : twS} {k n j : Nat} {x : Int32} {K : twS → Option β} (hj : j < n) (hn : n < 2147483648) : ast σ k n (Int32.ofNat j) x K = K (twA σ k j x) := by
  unfold ast
  rw [if_neg (by
    rintro (h | h)
    · rw [J_nn (by omega)] at h; exact h
    · rw [J_cl (by omega)] at h; omega), J_cl (by omega)]
theorem nz_J {β : Type} {a : Nat} {K : Option β} (h0 : a ≠ 0) (h : a < 2147483648) : nz (Int32.ofNat a) K = K := by
  unfold nz
  rw [if_neg]
  have := J_eq (a := a) (b := 0) h (by decide)
  intro h'
  rw [show (0 : Int32) = Int32.ofNat 0 from rfl, this] at h'
  exact h0 h'
theorem lt_J {α β : Type} {x : α} {K : α → β} : lt_ x K = K x := congrFun (congrFun (show (fun (x : α) (K : α → β) => lt_ x K) = fun x K => K x from rfl) x) K
theorem bd_J {α σ γ : Type} {v : α} {s : σ} {f : α → σ → Option γ} : bd (some (v, s)) f = f v s := rfl
end NUM
/-- the row of numbers w, as numbers -/
def TW (d : Nat → Nat) (σ : twS) : Prop := ∀ i, i < 358 → σ.1 0 i = Int32.ofNat (d i)
def prodN (d : Nat → Nat) : Nat → Nat
  | 0 => 1
  | k + 1 => prodN d k * d (1 + k)
def casesN (d : Nat → Nat) : Nat := prodN d (d 0)
def divN (d : Nat → Nat) (n : Nat) : Nat → Nat
  | 0 => n
  | k + 1 => divN d n k / d (1 + k)
def valueN (d : Nat → Nat) (n f : Nat) : Nat := divN d n f % d (1 + f)
/-- facts and values in range -/
def FOk (d : Nat → Nat) : Prop := (1 ≤ d 0 ∧ d 0 ≤ 4) ∧ ∀ f, f < d 0 → 2 ≤ d (1 + f) ∧ d (1 + f) ≤ 4
theorem prodN_le {d : Nat → Nat} (h : FOk d) : ∀ k, k ≤ d 0 → 1 ≤ prodN d k ∧ prodN d k ≤ 4 ^ k := by
  intro k
  induction k with
  | zero => intro _; exact ⟨Nat.le_refl _, Nat.le_refl _⟩
  | succ k ih =>
    intro hk
    have h1 := ih (by omega)
    have h2 := h.2 k (by omega)
    refine ⟨?_, ?_⟩
    · show 1 ≤ prodN d k * d (1 + k)
      exact Nat.mul_pos h1.1 (by omega)
    · show prodN d k * d (1 + k) ≤ 4 ^ (k + 1)
      rw [Nat.pow_succ]
      exact Nat.mul_le_mul h1.2 h2.2
theorem casesN_le {d : Nat → Nat} (h : FOk d) : 1 ≤ casesN d ∧ casesN d ≤ 256 := by
  have h1 := prodN_le h (d 0) (Nat.le_refl _)
  refine ⟨h1.1, Nat.le_trans h1.2 ?_⟩
  have : 4 ^ (d 0) ≤ 4 ^ 4 := Nat.pow_le_pow_right (by decide) h.1.2
  simpa using this
theorem tw_cases_loop {d : Nat → Nat} {σ : twS} (h : TW d σ) (hF : FOk d) : ∀ j k f, k + j = d 0 → j < f → bT_cases_4 f (Int32.ofNat (prodN d k)) (Int32.ofNat k) σ = some (Int32.ofNat (casesN d), σ) := by
  intro j
  induction j with
  | zero =>
    intro k f hk hf
    obtain ⟨f, rfl⟩ : ∃ f', f = f' + 1 := ⟨f - 1, by omega⟩
    have h4 := hF.1
    rw [bT_cases_4]
    simp only [show (0 : Int32) = Int32.ofNat 0 from rfl, show (1 : Int32) = Int32.ofNat 1 from rfl]
    rw [ald_J (by decide) (by decide), h 0 (by decide), iJ_le (by omega) (by omega), if_pos (by omega)]
    rw [show k = d 0 by omega]
    rfl
  | succ j ih =>
    intro k f hk hf
    obtain ⟨f, rfl⟩ : ∃ f', f = f' + 1 := ⟨f - 1, by omega⟩
    have h4 := hF.1
    rw [bT_cases_4]
    simp only [show (0 : Int32) = Int32.ofNat 0 from rfl, show (1 : Int32) = Int32.ofNat 1 from rfl]
    rw [ald_J (by decide) (by decide), h 0 (by decide), iJ_le (by omega) (by omega), if_neg (by omega), J_add, ald_J (by omega) (by decide), h _ (by omega)]
    simp only [lt_J]
    rw [J_mul, J_add]
    exact ih (k + 1) f (by omega) (by omega)
theorem tw_cases {d : Nat → Nat} {σ : twS} (h : TW d σ) (hF : FOk d) : mT_cases σ = some (Int32.ofNat (casesN d), σ) := by
  have h4 := hF.1
  exact tw_cases_loop h hF (d 0) 0 FU (by omega) (by show d 0 < 4096; omega)
