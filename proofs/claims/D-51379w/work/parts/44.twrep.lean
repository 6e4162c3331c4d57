/-! THE PLAIN LAW: the twin's reports -/
set_option maxRecDepth 100000
def RP (σ : twS) (L : List Nat) : Prop := L.length ≤ 600 ∧ σ.2 12 = Int32.ofNat L.length ∧ ∀ i, i < L.length → σ.1 11 i = Int32.ofNat (L.getD i 0)
def frR (σ σ' : twS) : Prop := (∀ q, q ≠ 11 → σ'.1 q = σ.1 q) ∧ ∀ k, k ≠ 12 → σ'.2 k = σ.2 k
theorem frR.rf {σ : twS} : frR σ σ := ⟨fun _ _ => rfl, fun _ _ => rfl⟩
theorem frR.trans {a b c : twS} (h : frR a b) (h' : frR b c) : frR a c := ⟨fun q h1 => (h'.1 q h1).trans (h.1 q h1), fun k hk => (h'.2 k hk).trans (h.2 k hk)⟩
theorem frR.tw {d : Nat → Nat} {a b : twS} (h : frR a b) (ht : TW d a) : TW d b := fun i hi => by rw [h.1 0 (by decide)]; exact ht i hi
def WR (σ : twS) (L : List Nat) (r : Option (Int32 × twS)) : Prop := ∃ σ', frR σ σ' ∧ RP σ' L ∧ r = some (0, σ')
theorem WR.bd {σ : twS} {L L2 : List Nat} {r : Option (Int32 × twS)} {f : twS → Option (Int32 × twS)} (h : WR σ L r) (k : ∀ σ', frR σ σ' → RP σ' L → WR σ' L2 (f σ')) : WR σ L2 (bd r fun _ σ' => f σ') := by
  obtain ⟨σ1, f1, p1, rfl⟩ := h
  obtain ⟨σ2, f2, p2, e2⟩ := k σ1 f1 p1
  exact ⟨σ2, f1.trans f2, p2, e2⟩
theorem WR.of {σ : twS} {L : List Nat} (h : RP σ L) : WR σ L (some (0, σ)) := ⟨σ, frR.rf, h, rfl⟩
theorem getD_l {A B : List Nat} {i : Nat} (h : i < A.length) : (A ++ B).getD i 0 = A.getD i 0 := by
  rw [List.getD_eq_getElem?_getD, List.getD_eq_getElem?_getD, List.getElem?_append_left h]
theorem getD_r {A B : List Nat} {i : Nat} : (A ++ B).getD (A.length + i) 0 = B.getD i 0 := by
  rw [List.getD_eq_getElem?_getD, List.getD_eq_getElem?_getD, List.getElem?_append_right (by omega), Nat.add_sub_cancel_left]
theorem nar_char : ∀ c, c < 256 → vp_nar .char (((Int32.ofNat c).toUInt32 % 65536).toInt32) = Int32.ofNat c := by decide +kernel
theorem tw_write {σ : twS} {L : List Nat} {c : Nat} (hc : c < 256) (h : RP σ L) (hl : (L ++ [c]).length ≤ 600) : WR σ (L ++ [c]) (mT_write (Int32.ofNat c) σ) := by
  have hl2 : L.length + 1 ≤ 600 := by simpa using hl
  unfold mT_write
  rw [h.2.1, ast_J (by omega) (by decide), lt_J, nar_char c hc]
  refine ⟨_, ⟨fun q hq => ?_, fun k hk => ?_⟩, ⟨hl, ?_, fun i hi => ?_⟩, rfl⟩
  · show (twA σ 11 L.length (Int32.ofNat c)).1 q = σ.1 q
    simp [twA, hq]
  · show (if k = 12 then _ else (twA σ 11 L.length (Int32.ofNat c)).2 k) = σ.2 k
    rw [if_neg hk]
    rfl
  · show σ.2 12 + 1 = _
    rw [h.2.1, J_addL]
    simp
  · show (twA σ 11 L.length (Int32.ofNat c)).1 11 i = _
    rw [twA_at]
    have hi2 : i < L.length + 1 := by simpa using hi
    by_cases e : i = L.length
    · rw [if_pos e, e, show L.length = L.length + 0 from rfl, getD_r]
      rfl
    · rw [if_neg e, getD_l (by omega)]
      exact h.2.2 i (by omega)
def tokL (L s : List Nat) : List Nat := if L = [] then s else L ++ 32 :: s
theorem tok_in {t1 : List Int32} {s : List Nat} (ht : t1 = s.map Int32.ofNat) (hs : ∀ x, x ∈ s → x < 256) : ∀ v u f (σ : twS) (L : List Nat), s = u ++ v → v.length < f → s.length < 2147483648 → RP σ (L ++ u) → (L ++ s).length ≤ 600 → WR σ (L ++ s) (bT_writeToken_15 t1 f (Int32.ofNat u.length) σ) := by
  intro v
  induction v with
  | nil =>
    intro u f σ L e hf hl h hL
    obtain ⟨f, rfl⟩ : ∃ f', f = f' + 1 := ⟨f - 1, by simp at hf; omega⟩
    have e2 : t1.length = u.length := by rw [ht, e]; simp
    rw [bT_writeToken_15, e2]
    show WR _ _ (if Int32.ofNat u.length ≤ Int32.ofNat u.length then _ else _)
    rw [if_pos (Int32.le_refl _), show s = u by simpa using e]
    exact WR.of h
  | cons c v ih =>
    intro u f σ L e hf hl h hL
    obtain ⟨f, rfl⟩ : ∃ f', f = f' + 1 := ⟨f - 1, by simp at hf; omega⟩
    have e2 : t1.length = u.length + (v.length + 1) := by rw [ht, e]; simp
    have e3 : s.length = u.length + (v.length + 1) := by rw [e]; simp
    have hc : c < 256 := hs c (by rw [e]; simp)
    rw [bT_writeToken_15, e2]
    show WR _ _ (if Int32.ofNat (u.length + (v.length + 1)) ≤ Int32.ofNat u.length then _ else _)
    rw [iJ_le (by omega) (by omega), if_neg (by omega)]
    unfold chA
    rw [if_neg (by
      rintro (q | q)
      · rw [J_nn (by omega)] at q; exact q
      · rw [J_cl (by omega), e2] at q; omega), J_cl (by omega)]
    have e4 : t1.getD u.length 0 = Int32.ofNat c := by
      rw [ht, e, List.getD_eq_getElem?_getD, List.map_append, List.getElem?_append_right (by simp)]
      simp
    have e5 : t1.getD u.length 0 &&& 255 = Int32.ofNat c := by
      rw [e4]
      show Int32.ofNat c &&& Int32.ofNat 255 = _
      rw [J_and, show c &&& 255 = c from by
        rw [show (255 : Nat) = 2 ^ 8 - 1 from rfl, Nat.and_two_pow_sub_one_eq_mod]
        exact Nat.mod_eq_of_lt hc]
    rw [e5]
    have hL2 : ((L ++ u) ++ [c]).length ≤ 600 := by
      simp only [List.length_append, List.length_cons, List.length_nil] at hL ⊢
      omega
    refine (tw_write hc h hL2).bd fun σ' f1 p1 => ?_
    rw [lt_J, J_addL]
    have := ih (u ++ [c]) f σ' L (by rw [e]; simp) (by simp at hf; omega) hl (by rw [← List.append_assoc]; exact p1) hL
    rw [List.length_append] at this
    exact this
theorem tw_writeToken {t1 : List Int32} {s : List Nat} (ht : t1 = s.map Int32.ofNat) (hs : ∀ x, x ∈ s → x < 256) {σ : twS} {L : List Nat} (h : RP σ L) (hl : (tokL L s).length ≤ 600) : WR σ (tokL L s) (mT_writeToken t1 σ) := by
  unfold mT_writeToken
  have h1 := h.1
  have hsl : s.length ≤ 600 := by
    unfold tokL at hl
    split at hl
    · exact hl
    · simp at hl; omega
  rw [h.2.1, iJ_leL (by omega) (by decide)]
  by_cases c : L = []
  · rw [if_pos (by rw [c]; exact Nat.le_refl _)]
    unfold tokL at hl ⊢
    rw [if_pos c] at hl ⊢
    rw [c] at h
    exact tok_in ht hs s [] FU σ [] rfl (by show s.length < 4096; omega) (by omega) h hl
  · rw [if_neg (by have : L.length ≠ 0 := fun q => c (List.length_eq_zero_iff.mp q); omega)]
    unfold tokL at hl ⊢
    rw [if_neg c] at hl ⊢
    refine (tw_write (c := 32) (by decide) h (by simp at hl ⊢; omega)).bd fun σ' f1 p1 => ?_
    have := tok_in ht hs s [] FU σ' (L ++ [32]) rfl (by show s.length < 4096; omega) (by omega) (by simpa using p1) (by simp at hl ⊢; omega)
    rw [List.append_assoc] at this
    exact this
theorem tokL_ne {L s : List Nat} (h : L ≠ []) : tokL L s = L ++ 32 :: s := by unfold tokL; rw [if_neg h]
theorem tokL_nn {L s : List Nat} (h : s ≠ []) : tokL L s ≠ [] := by
  unfold tokL
  split
  · exact h
  · simp
theorem tokL_tok {L x y : List Nat} (h : x ≠ []) : tokL (tokL L x) y = tokL L (x ++ 32 :: y) := by
  rw [tokL_ne (tokL_nn h)]
  unfold tokL
  split <;> simp
theorem tokL_app {L x y : List Nat} : tokL L x ++ y = tokL L (x ++ y) := by
  unfold tokL
  split <;> simp
def decD : Nat → Nat → List Nat
  | 0, n => [48 + n % 10]
  | k + 1, n => if n ≤ 9 then [48 + n % 10] else decD k (n / 10) ++ [48 + n % 10]
def decN (n : Nat) : List Nat := decD 9 n
theorem decD_len : ∀ k n j, n < 10 ^ (j + 1) → (decD k n).length ≤ j + 1 := by
  intro k
  induction k with
  | zero => intro n j _; exact Nat.succ_le_succ (Nat.zero_le _)
  | succ k ih =>
    intro n j h
    unfold decD
    split
    · exact Nat.succ_le_succ (Nat.zero_le _)
    · next c =>
      cases j with
      | zero => simp at h; omega
      | succ j =>
        have := ih (n / 10) j (by rw [Nat.pow_succ] at h; omega)
        simp
        omega
theorem J_mod {a b : Nat} (ha : a < 2147483648) (hb : b < 2147483648) : Int32.ofNat a - Int32.ofNat a / Int32.ofNat b * Int32.ofNat b = Int32.ofNat (a % b) := by
  have := Nat.div_mul_le_self a b
  rw [J_div ha hb, J_mul, J_sub this]
  congr 1
  have h5 := Nat.div_add_mod a b
  rw [Nat.mul_comm] at h5
  omega
theorem tw_dec : ∀ D k n (σ : twS) (L : List Nat), k < D → n < 10 ^ (k + 1) → n < 2147483648 → RP σ L → (L ++ decD k n).length ≤ 600 → WR σ (L ++ decD k n) (mT_writeNumber D (Int32.ofNat n) σ) := by
  intro D
  induction D with
  | zero => intro k n σ L h; omega
  | succ D ih =>
    intro k n σ L hk hn hn2 h hl
    show WR _ _ (mO_writeNumber (mT_writeNumber D) (Int32.ofNat n) σ)
    have last : ∀ (σ : twS) (L : List Nat), RP σ L → (L ++ [48 + n % 10]).length ≤ 600 → WR σ (L ++ [48 + n % 10]) (bT_writeNumber_14 (mT_writeNumber D) (Int32.ofNat n) σ) := by
      intro σ L h hl
      unfold bT_writeNumber_14
      rw [show (10 : Int32) = Int32.ofNat 10 from rfl, J_mod hn2 (by decide), J_addR]
      exact (tw_write (c := 48 + n % 10) (by omega) h hl).bd fun σ' f1 p1 => WR.of p1
    unfold mO_writeNumber
    rw [iJ_leL hn2 (by decide)]
    by_cases c : n ≤ 9
    · rw [if_pos c]
      have e : decD k n = [48 + n % 10] := by
        cases k with
        | zero => rfl
        | succ k => unfold decD; rw [if_pos c]
      rw [e] at hl ⊢
      exact last σ L h hl
    · rw [if_neg c]
      cases k with
      | zero => simp at hn; omega
      | succ k =>
        have e : decD (k + 1) n = decD k (n / 10) ++ [48 + n % 10] := by
          rw [decD, if_neg c]
        rw [e, ← List.append_assoc] at hl ⊢
        rw [J_divL hn2 (by decide)]
        exact (ih k (n / 10) σ L (by omega) (by rw [Nat.pow_succ] at hn; show n / 10 < _; omega) (by show n / 10 < _; omega) h (by simp at hl ⊢; omega)).bd fun σ' f1 p1 => last σ' _ p1 hl
theorem tw_writeNumber {n : Nat} {σ : twS} {L : List Nat} (hn : n < 2147483648) (h : RP σ L) (hl : (L ++ decN n).length ≤ 600) : WR σ (L ++ decN n) (mT_writeNumber DP (Int32.ofNat n) σ) := tw_dec DP 9 n σ L (by decide) (by omega) hn h hl
