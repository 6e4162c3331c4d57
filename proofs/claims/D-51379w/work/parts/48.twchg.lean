/-! THE PLAIN LAW: the twin's changes -/
set_option maxRecDepth 100000
theorem frP0 {σ : twS} {x : Int32} : frP σ (twI σ 13 x) := frP.th
/-- one place of w is set -/
theorem WOk.up {d : Nat → Nat} {t : Nat → Term} (hW : WOk d t) {i v : Nat} (hi : i = 6 ∧ v < d 5 ∨ i = 7 ∧ v ≤ 9999 ∨ i = 8 ∧ v < casesN d ∨ ∃ h, h < 4 ∧ (i = 9 + 2 * h ∧ v ≤ 9999 ∨ i = 10 + 2 * h ∧ v ≤ 60)) : WOk (upN d i v) t := by
  have hi5 : 6 ≤ i ∧ i < 17 := by
    rcases hi with h | h | h | ⟨h, h1, h2⟩ <;> omega
  have h4 := hW.1.1
  have hc : ∀ j, j < 5 → upN d i v j = d j := fun j hj => upN_ne (by omega)
  refine ⟨FOk_cg hc hW.1, ?_, ?_, ?_, ?_, ?_, ?_, ?_⟩
  · rw [upN_ne (by omega)]; exact hW.h
  · rw [upN_ne (i := i) (j := 5) (by omega)]
    unfold upN
    have := hW.rest
    split
    · rcases hi with h | h | h | ⟨h, h1, h2⟩ <;> omega
    · omega
  · unfold upN
    have := hW.e
    split
    · rcases hi with h | h | h | ⟨h, h1, h2⟩ <;> omega
    · omega
  · rw [casesN_cg hc h4.2]
    unfold upN
    have : d 8 < casesN d := hW.2.2.2.2.1
    split
    · rcases hi with h | h | h | ⟨h, h1, h2⟩ <;> omega
    · omega
  · intro h hh
    have := hW.fr hh
    unfold upN
    refine ⟨?_, ?_⟩
    · split
      · rcases hi with h | h | h | ⟨h, h1, h2⟩ <;> omega
      · omega
    · split
      · rcases hi with h | h | h | ⟨h, h1, h2⟩ <;> omega
      · omega
  · rw [upN_ne (by omega)]; exact hW.r
  · intro r hr
    rw [upN_ne (by omega)] at hr
    have h17 := hW.r
    obtain ⟨⟨g1, g2, g3⟩, s1, s2, s3⟩ := hW.2.2.2.2.2.2.2 r hr
    refine ⟨⟨⟨gOk_cg hc h4.2 _ g1.1, g1.2⟩, ?_, ?_⟩, ?_, ?_, ?_⟩
    · rw [upN_ne (by omega)]; exact g2
    · intro k hk
      rw [upN_ne (by omega)]; exact g3 k hk
    · intro h hh
      rw [upN_ne (by omega)]; exact s1 h hh
    · rw [upN_ne (by omega), upN_ne (by omega), upN_ne (by omega), upN_ne (by omega)]; exact s2
    · rw [upN_ne (by omega), upN_ne (by omega)]; exact s3
theorem WO.up {W : Wl} (hW : WO W) {i v : Nat} (hi : i = 6 ∧ v < W.1 5 ∨ i = 7 ∧ v ≤ 9999 ∨ i = 8 ∧ v < casesN W.1 ∨ ∃ h, h < 4 ∧ (i = 9 + 2 * h ∧ v ≤ 9999 ∨ i = 10 + 2 * h ∧ v ≤ 60)) : WO (upN W.1 i v, W.2) := by
  refine ⟨hW.1.up hi, fun r hr h h1 h2 => ?_⟩
  have hi5 : 6 ≤ i ∧ i < 17 := by
    rcases hi with h | h | h | ⟨h, h1, h2⟩ <;> omega
  dsimp only at hr h1 ⊢
  rw [upN_ne (by omega)] at hr h1
  rw [upN_ne (by omega)]
  exact hW.2 r hr h h1 h2
theorem tw_sets {σ : twS} {S : SS} (hI : TInv σ S) {i v : Nat} (hi : i < 358) (hW : WO (upN S.1.1 i v, S.1.2)) : ∃ σ', TInv σ' ((upN S.1.1 i v, S.1.2), keepS S.2.1 S.1, S.2.2) ∧ σ'.2 13 = σ.2 13 ∧ mT_sets (Int32.ofNat i) (Int32.ofNat v) σ = some (Int32.ofNat (S.1.1 i), σ') := by
  have hT := hI.1.1
  have hT1 : TW S.1.1 (cpO σ 1 0 358 (fun i => Int32.ofNat (S.1.1 i))) := TW.fr hT (cpO_ne (by decide))
  have hb : ∀ q, q ≠ 0 → (twA (cpO σ 1 0 358 (fun i => Int32.ofNat (S.1.1 i))) 0 i (Int32.ofNat v)).1 q = (cpO σ 1 0 358 (fun i => Int32.ofNat (S.1.1 i))).1 q := fun q hq => by simp [twA, hq]
  obtain ⟨p1, p2⟩ := hI.past (b := twA (cpO σ 1 0 358 (fun i => Int32.ofNat (S.1.1 i))) 0 i (Int32.ofNat v)) hb rfl
  obtain ⟨σ', f, p, e⟩ := tw_remember p1 p2 hI.1.2
  refine ⟨σ', hI.chg (W := (upN S.1.1 i v, S.1.2)) hb rfl hT1.st hW f p, (f.2 13 (by decide)), ?_⟩
  unfold mT_sets
  rw [tw_begins hT, bd_J, tw_ald hT1 hi, ast_J hi (by decide), e, bd_J]
def setHB (x2 x3 : Int32) : Bool := inB x2 2 && inB x3 (if x2 = 0 then 10000 else 61)
theorem bifC {α : Type} (c : Bool) {x y : α} : (if c = true then x else y) = if c = false then y else x := by cases c <;> simp
theorem setH_chk {σ : twS} {d : Nat → Nat} (hT : TW d σ) (h5 : d 5 < 2147483648) (x1 x2 x3 : Int32) : mT_setHeir x1 x2 x3 σ = if inB x1 (d 5) && setHB x2 x3 then bd (mT_sets ((9 + (2 * x1)) + x2) x3 (twI σ 13 0)) fun v_4 σ_5 => some (v_4, σ_5) else some (0, twI σ 13 (Int32.ofNat (th2 (!inB x1 (d 5)) (!setHB x2 x3)))) := by
  have k3 : ∀ b c : Bool, bT_setHeir_50 x1 x2 x3 (b32 b) (b32 c) σ = if !c && !b then bd (mT_sets ((9 + (2 * x1)) + x2) x3 (twI σ 13 0)) fun v_4 σ_5 => some (v_4, σ_5) else some (0, twI σ 13 (Int32.ofNat (th2 c b))) := by
    intro b c
    unfold bT_setHeir_50
    rw [tw_th2, bd_J, ite_pq (b32_0 _)]
    cases c
    · cases b
      · rw [if_pos (by decide), if_pos (by decide)]
        rfl
      · rw [if_neg (by decide), if_neg (by decide)]
    · cases b
      · rw [if_neg (by decide), if_neg (by decide)]
      · rw [if_neg (by decide), if_neg (by decide)]
  have k2 : ∀ b : Bool, bT_setHeir_34 x1 x2 x3 (b32 b) σ = if inB x1 (d 5) && !b then bd (mT_sets ((9 + (2 * x1)) + x2) x3 (twI σ 13 0)) fun v_4 σ_5 => some (v_4, σ_5) else some (0, twI σ 13 (Int32.ofNat (th2 (!inB x1 (d 5)) b))) := by
    intro b
    unfold bT_setHeir_34
    rw [tw_isHeir hT h5, bd_J, ite_pq (b32_0 _)]
    cases inB x1 (d 5)
    · rw [if_pos rfl]
      exact k3 b true
    · rw [if_neg (by decide)]
      exact k3 b false
  have k1 : ∀ (s2 : Int32) (n : Nat), s2.toInt = (n : Int) - 1 → bT_setHeir_23 x1 x2 x3 x3 0 s2 σ = bT_setHeir_34 x1 x2 x3 (b32 (!inB x3 n)) σ := by
    intro s2 n h
    unfold bT_setHeir_23
    rw [tw_inI h, bd_J, ite_pq (b32_0 _)]
    cases inB x3 n
    · rw [if_pos rfl]; rfl
    · rw [if_neg (by decide)]; rfl
  have k0 : mT_setHeir x1 x2 x3 σ = bT_setHeir_34 x1 x2 x3 (b32 (!setHB x2 x3)) σ := by
    unfold mT_setHeir setHB
    rw [tw_inI (n := 2) (by decide), bd_J, ite_pq (b32_0 _)]
    cases inB x2 2
    · rw [if_pos rfl, Bool.false_and]
      rfl
    · rw [if_neg (by decide), Bool.true_and]
      by_cases c : x2 = 0
      · rw [if_pos c, if_pos c, k1 9999 10000 (by decide)]
      · rw [if_neg c, if_neg c, k1 60 61 (by decide)]
  rw [k0, k2, Bool.not_not]
theorem tw_valN {d : Nat → Nat} {t : Nat → Term} (hW : WOk d t) {f : Nat} (hf : f < d 0) : valueN d (d 8) f < d (1 + f) := valueN_lt hW.1 _ hf
theorem prodN_dvd (d : Nat → Nat) (k : Nat) : ∀ j, ∃ m, prodN d (k + j) = prodN d k * m := by
  intro j
  induction j with
  | zero => exact ⟨1, (Nat.mul_one _).symm⟩
  | succ j ih =>
    obtain ⟨m, hm⟩ := ih
    refine ⟨m * d (1 + (k + j)), ?_⟩
    show prodN d (k + j) * d (1 + (k + j)) = _
    rw [hm, Nat.mul_assoc]
/-- the case at hand with another value -/
def svN (d : Nat → Nat) (f v : Nat) : Nat := d 8 + prodN d f * v - prodN d f * valueN d (d 8) f
theorem divN_mul {d : Nat → Nat} (h : FOk d) (n : Nat) : ∀ k, k ≤ d 0 → divN d n k * prodN d k ≤ n ∧ n < divN d n k * prodN d k + prodN d k := by
  intro k
  induction k with
  | zero => intro _; show n * 1 ≤ n ∧ n < n * 1 + 1; omega
  | succ k ih =>
    intro hk
    have h1 := ih (by omega)
    have h2 := h.2 k (by omega)
    have e : divN d n (k + 1) = divN d n k / d (1 + k) := rfl
    have e2 : prodN d (k + 1) = prodN d k * d (1 + k) := rfl
    rw [e, e2]
    generalize divN d n k = q at h1 ⊢
    generalize prodN d k = p at h1 ⊢
    generalize d (1 + k) = b at h2 ⊢
    have h3 := Nat.div_add_mod q b
    have h4 := Nat.mod_lt q (show b > 0 by omega)
    have e3 : q * p = (q / b) * (p * b) + (q % b) * p := by
      conv => lhs; rw [← h3]
      rw [Nat.add_mul]
      congr 1
      rw [Nat.mul_comm b, Nat.mul_assoc, Nat.mul_comm b p]
    have h5 : (q % b) * p + p ≤ p * b := by
      rw [← Nat.succ_mul, Nat.mul_comm p b]
      exact Nat.mul_le_mul_right p h4
    omega
theorem svN_ok {d : Nat → Nat} {t : Nat → Term} (hW : WOk d t) {f v : Nat} (hf : f < d 0) (hv : v < d (1 + f)) : prodN d f * valueN d (d 8) f ≤ d 8 ∧ svN d f v < casesN d := by
  have h8 : d 8 < casesN d := hW.2.2.2.2.1
  -- the digits above and below
  have h1 := divN_mul hW.1 (d 8) f (by omega)
  have h2 := divN_mul hW.1 (d 8) (f + 1) (by omega)
  have e : divN d (d 8) (f + 1) = divN d (d 8) f / d (1 + f) := rfl
  have e2 : prodN d (f + 1) = prodN d f * d (1 + f) := rfl
  have ev : valueN d (d 8) f = divN d (d 8) f % d (1 + f) := rfl
  have h3 := Nat.div_add_mod (divN d (d 8) f) (d (1 + f))
  obtain ⟨m, hm⟩ := prodN_dvd d (f + 1) (d 0 - (f + 1))
  rw [show f + 1 + (d 0 - (f + 1)) = d 0 by omega] at hm
  have hc : casesN d = prodN d f * d (1 + f) * m := hm
  rw [e, e2] at h2
  unfold svN
  rw [hc] at h8 ⊢
  rw [ev]
  generalize divN d (d 8) f = q at h1 h2 h3 ⊢
  generalize prodN d f = p at h1 h2 h8 ⊢
  generalize d (1 + f) = b at h2 h3 h8 hv ⊢
  generalize d 8 = n at h1 h2 h8 ⊢
  clear hc hm ev e e2
  have e3 : p * (q % b) + (q / b) * (p * b) = q * p := by
    conv => rhs; rw [← h3]
    rw [Nat.add_mul, Nat.add_comm, Nat.mul_comm p (q % b), Nat.mul_comm b (q / b), Nat.mul_assoc, Nat.mul_comm b p]
  have h4 : (q / b) * (p * b) < p * b * m := by omega
  have h5 : q / b < m := by
    rcases Nat.lt_or_ge (q / b) m with h | h
    · exact h
    · have := Nat.mul_le_mul_left (p * b) h
      rw [Nat.mul_comm (q / b)] at h4
      omega
  have h6 : (q / b + 1) * (p * b) ≤ p * b * m := by
    rw [Nat.mul_comm (q / b + 1)]
    exact Nat.mul_le_mul_left _ h5
  rw [Nat.succ_mul] at h6
  have h7 : p * v + p ≤ p * b := by
    rw [← Nat.mul_succ]
    exact Nat.mul_le_mul_left p hv
  omega
