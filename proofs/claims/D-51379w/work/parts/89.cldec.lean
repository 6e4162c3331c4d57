/-! THE PLAIN LAW, the class' side: a number is written -/
set_option maxRecDepth 1000000
theorem decD_up : ∀ k n, n < 10 ^ (k + 1) → decD (k + 1) n = decD k n := by
  intro k
  induction k with
  | zero =>
    intro n h
    show (if n ≤ 9 then [48 + n % 10] else decD 0 (n / 10) ++ [48 + n % 10]) = [48 + n % 10]
    rw [if_pos (by omega)]
  | succ k ih =>
    intro n h
    show (if n ≤ 9 then [48 + n % 10] else decD (k + 1) (n / 10) ++ [48 + n % 10]) = if n ≤ 9 then [48 + n % 10] else decD k (n / 10) ++ [48 + n % 10]
    by_cases c : n ≤ 9
    · rw [if_pos c, if_pos c]
    · rw [if_neg c, if_neg c, ih (n / 10) (by rw [Nat.pow_succ] at h; omega)]
theorem decN_1 {n : Nat} (h : n < 10) : decN n = [48 + n] := by
  show (if n ≤ 9 then [48 + n % 10] else _) = _
  rw [if_pos (by omega), Nat.mod_eq_of_lt h]
theorem decN_s {n : Nat} (h : 10 ≤ n) (h2 : n < 100000) : decN n = decN (n / 10) ++ [48 + n % 10] := by
  show (if n ≤ 9 then [48 + n % 10] else decD 8 (n / 10) ++ [48 + n % 10]) = decD 9 (n / 10) ++ [48 + n % 10]
  rw [if_neg (by omega), decD_up 8 (n / 10) (by omega)]
theorem decN_l {n : Nat} (h2 : n < 100000) : 1 ≤ (decN n).length ∧ (decN n).length ≤ 5 := by
  refine ⟨?_, decD_len 9 n 4 h2⟩
  by_cases c : n < 10
  · rw [decN_1 c]; exact Nat.le_refl _
  · rw [decN_s (by omega) h2, List.length_append]
    exact Nat.le_add_left _ _
theorem J_neg (n : Nat) : -(Int32.ofNat n) = 0 - Int32.ofNat n := by simp
theorem J_ngi {n : Nat} (h : n < 2147483648) : (-(Int32.ofNat n)).toInt = -(n : Int) := by
  rw [Int32.toInt_neg, J_int h, Int.bmod_eq_of_le (by omega) (by omega)]
theorem J_size : ∀ n, n < 10 → ∀ (σ : cS), True := fun _ _ _ => trivial
section DEC
variable {σ : cS}
theorem ngl {n m : Nat} (hn : n < 2147483648) {z : Int32} (hz : z.toInt = -(m : Int)) : (-(Int32.ofNat n) ≤ z) = (m ≤ n) := by
  apply propext
  rw [Int32.le_iff_toInt_le, J_ngi hn, hz]
  omega
theorem cl_size {n : Nat} (h : n < 100000) : m_J14_stringSize (Int32.ofNat n) σ = some (Int32.ofNat (decN n).length, σ) := by
  have hb : n < 2147483648 := by omega
  unfold m_J14_stringSize
  rw [if_neg (by rw [J_nn hb]; exact id)]
  have st : ∀ f p i : Nat, ∀ z : Int32, z.toInt = -(p : Int) → i < 10 → b_J14_stringSize_16 (f + 1) (-(Int32.ofNat n)) 0 z (Int32.ofNat i) σ = if p ≤ n then b_J14_stringSize_16 f (-(Int32.ofNat n)) 0 (10 * z) (Int32.ofNat (i + 1)) σ else some (Int32.ofNat i, σ) := by
    intro f p i z hz hi
    rw [b_J14_stringSize_16, iJ_leR (by decide) (by omega), if_neg (by show ¬ 10 ≤ i; omega), ite_pq (ngl hb hz)]
    by_cases c : p ≤ n
    · rw [if_pos c, if_pos c, lt_J, lt_J, J_addL]
    · rw [if_neg c, if_neg c, J_addL]
      rfl
  show b_J14_stringSize_16 (4095 + 1) (-(Int32.ofNat n)) 0 (-10) (Int32.ofNat 1) σ = _
  rw [st 4095 10 1 (-10) (by decide) (by decide)]
  by_cases c1 : 10 ≤ n
  · rw [if_pos c1, show 4095 = 4094 + 1 from rfl, st 4094 100 2 (10 * -10) (by decide) (by decide)]
    by_cases c2 : 100 ≤ n
    · rw [if_pos c2, show 4094 = 4093 + 1 from rfl, st 4093 1000 3 (10 * (10 * -10)) (by decide) (by decide)]
      by_cases c3 : 1000 ≤ n
      · rw [if_pos c3, show 4093 = 4092 + 1 from rfl, st 4092 10000 4 (10 * (10 * (10 * -10))) (by decide) (by decide)]
        by_cases c4 : 10000 ≤ n
        · rw [if_pos c4, show 4092 = 4091 + 1 from rfl, st 4091 100000 5 (10 * (10 * (10 * (10 * -10)))) (by decide) (by decide), if_neg (by omega), decN_s (by omega) h, decN_s (n := n / 10) (by omega) (by omega), decN_s (n := n / 10 / 10) (by omega) (by omega), decN_s (n := n / 10 / 10 / 10) (by omega) (by omega), decN_1 (by omega)]
          rfl
        · rw [if_neg c4, decN_s (by omega) h, decN_s (n := n / 10) (by omega) (by omega), decN_s (n := n / 10 / 10) (by omega) (by omega), decN_1 (by omega)]
          rfl
      · rw [if_neg c3, decN_s (by omega) h, decN_s (n := n / 10) (by omega) (by omega), decN_1 (by omega)]
        rfl
    · rw [if_neg c2, decN_s (by omega) h, decN_1 (by omega)]
      rfl
  · rw [if_neg c1, decN_1 (by omega)]
    rfl
theorem nar_d : ∀ d, d < 10 → vp_nar .byte (Int32.ofNat (48 + d)) = (Int32.ofNat (48 + d)).toInt8.toInt32 := by decide +kernel
theorem J_neg_neg (n : Nat) : -(-(Int32.ofNat n)) = Int32.ofNat n := by simp
theorem J_ngd {n : Nat} (h : n < 2147483648) : -(Int32.ofNat n) / 100 = -(Int32.ofNat (n / 100)) := by
  apply Int32.toInt_inj.mp
  rw [J_ngi (by omega), Int32.toInt_div, J_ngi h, show (100 : Int32).toInt = 100 from rfl]
  rw [Int.neg_tdiv, show ((n : Int).tdiv 100) = ((n / 100 : Nat) : Int) from (Int.ofNat_tdiv n 100).symm, Int.bmod_eq_of_le (by omega) (by omega)]
theorem J_ngr {n : Nat} (h : n < 2147483648) : -(Int32.ofNat (n / 100)) * 100 - -(Int32.ofNat n) = Int32.ofNat (n % 100) := by
  have h1 : Int32.ofNat n - Int32.ofNat (n / 100) * 100 = Int32.ofNat (n % 100) := by
    have := J_rem (a := n) (b := 100) h (by decide)
    rw [J_div h (by decide)] at this
    exact this
  rw [← h1, Int32.neg_mul, Int32.sub_neg, Int32.sub_eq_add_neg, Int32.add_comm]
/-- the digits are written from the end -/
theorem cl_chars {o : oW} (hD : DG o σ) {by_ cap : Nat} (hne : σ.2 17 ≠ by_ ∧ σ.2 18 ≠ by_) (hw : σ.2 2 ≤ by_) (hcap : cap ≤ 2000) : ∀ fu n pos (g : Nat → Int32), n < 100000 → n < 100 ^ fu → (decN n).length ≤ pos → pos ≤ cap → ∀ f, fu < f → ∃ g', b_J14_getChars_22 f (-(Int32.ofNat n)) (some by_) (Int32.ofNat pos) 0 (cU σ by_ (.inl (1, cap, .inl g))) = some (Int32.ofNat (pos - (decN n).length), cU σ by_ (.inl (1, cap, .inl g'))) ∧ (∀ i, i < (decN n).length → g' (pos - (decN n).length + i) = (Int32.ofNat ((decN n).getD i 0)).toInt8.toInt32) ∧ ∀ i, (i < pos - (decN n).length ∨ pos ≤ i) → g' i = g i := by
  obtain ⟨⟨-, ft, t1, t2⟩, -, fo, u1, u2⟩ := hD
  have rd : ∀ (g : Nat → Int32) (j : Nat), j < 100 → (∀ {β : Type} (K : Int32 → Option β), aI (cU σ by_ (.inl (1, cap, .inl g))) (some (σ.2 18)) 1 (Int32.ofNat j) K = K (Int32.ofNat (48 + j % 10))) ∧ ∀ {β : Type} (K : Int32 → Option β), aI (cU σ by_ (.inl (1, cap, .inl g))) (some (σ.2 17)) 1 (Int32.ofNat j) K = K (Int32.ofNat (48 + j / 10)) := by
    intro g j hj
    refine ⟨fun {β} K => ?_, fun {β} K => ?_⟩
    · rw [aI_J (show (cU σ by_ (.inl (1, cap, .inl g))).1 (σ.2 18) = some (.inl (1, 100, .inl fo)) by rw [cU_n hne.2]; exact u1) hj (by decide), u2 j hj]
    · rw [aI_J (show (cU σ by_ (.inl (1, cap, .inl g))).1 (σ.2 17) = some (.inl (1, 100, .inl ft)) by rw [cU_n hne.1]; exact t1) hj (by decide), t2 j hj]
  have wr : ∀ (g : Nat → Int32) (j : Nat) (z : Int32), j < cap → ∀ {β : Type} (K : cS → Option β), sI (cU σ by_ (.inl (1, cap, .inl g))) (some by_) 1 (Int32.ofNat j) z K = K (cU σ by_ (.inl (1, cap, .inl (upd g j z)))) := by
    intro g j z hj β K
    rw [sI_J cU_s hj (by omega) hw, cU_cU]
  have dec : ∀ j, 1 ≤ j → Int32.ofNat j + (-1) = Int32.ofNat (j - 1) := fun j hj => by
    rw [← Int32.sub_eq_add_neg, J_subL (show 1 ≤ j from hj)]
  intro fu
  induction fu with
  | zero =>
    intro n pos g hn h1 hl hp f hf
    have h0 : n = 0 := by have h1 : n < 1 := h1; omega
    subst h0
    obtain ⟨f, rfl⟩ : ∃ f', f = f' + 1 := ⟨f - 1, by omega⟩
    have e1 : decN 0 = [48] := by decide
    rw [e1] at hl ⊢
    have hl : 1 ≤ pos := hl
    rw [b_J14_getChars_22, if_pos (by decide), dec pos hl, lt_J, J_neg_neg]
    show ∃ g', aI (cU σ by_ (.inl (1, cap, .inl g))) (some (σ.2 18)) 1 (Int32.ofNat 0) _ = _ ∧ _
    rw [(rd g 0 (by decide)).1, wr g (pos - 1) _ (by omega), if_pos (by decide)]
    unfold b_J14_getChars_104
    rw [if_pos rfl]
    refine ⟨_, rfl, fun i hi => ?_, fun i hi => ?_⟩
    · have hi0 : i = 0 := by have hi : i < 1 := hi; omega
      subst hi0
      show upd g (pos - 1) (vp_nar .byte (Int32.ofNat (48 + 0))) (pos - 1 + 0) = _
      rw [show pos - 1 + 0 = pos - 1 from rfl, pk_us]
      exact nar_d 0 (by decide)
    · exact pk_un (by have hi : i < pos - 1 ∨ pos ≤ i := hi; omega)
  | succ fu ih =>
    intro n pos g hn h1 hl hp f hf
    obtain ⟨f, rfl⟩ : ∃ f', f = f' + 1 := ⟨f - 1, by omega⟩
    have hln := decN_l hn
    have hb : n < 2147483648 := by omega
    have hcond : ((-100 : Int32) < -(Int32.ofNat n)) = (n < 100) := by
      apply propext
      rw [Int32.lt_iff_toInt_lt, J_ngi hb, show (-100 : Int32).toInt = -100 from rfl]
      omega
    have hcond9 : ((-9 : Int32) ≤ -(Int32.ofNat n)) = (n ≤ 9) := by
      apply propext
      rw [Int32.le_iff_toInt_le, J_ngi hb, show (-9 : Int32).toInt = -9 from rfl]
      omega
    rw [b_J14_getChars_22, ite_pq hcond]
    by_cases c : n < 100
    · rw [if_pos c, dec pos (by omega), lt_J, J_neg_neg]
      show ∃ g', aI (cU σ by_ (.inl (1, cap, .inl g))) (some (σ.2 18)) 1 (Int32.ofNat n) _ = _ ∧ _
      rw [(rd g n c).1, wr g (pos - 1) _ (by omega), ite_pq hcond9]
      unfold b_J14_getChars_104
      by_cases c9 : n ≤ 9
      · have e1 := decN_1 (show n < 10 by omega)
        rw [if_pos c9, if_pos rfl, e1]
        refine ⟨_, rfl, fun i hi => ?_, fun i hi => ?_⟩
        · have hi0 : i = 0 := by have hi : i < 1 := hi; omega
          subst hi0
          show upd g (pos - 1) (vp_nar .byte (Int32.ofNat (48 + n % 10))) (pos - 1 + 0) = (Int32.ofNat (48 + n)).toInt8.toInt32
          rw [show pos - 1 + 0 = pos - 1 from rfl, pk_us, Nat.mod_eq_of_lt (show n < 10 by omega)]
          exact nar_d n (by omega)
        · exact pk_un (by have hi : i < pos - 1 ∨ pos ≤ i := hi; omega)
      · have e1 : decN n = [48 + n / 10, 48 + n % 10] := by rw [decN_s (by omega) hn, decN_1 (by omega)]; rfl
        rw [e1] at hl ⊢
        have hl : 2 ≤ pos := hl
        rw [if_neg c9, dec (pos - 1) (by omega), lt_J]
        show ∃ g', aI (cU σ by_ (.inl (1, cap, .inl (upd g (pos - 1) (vp_nar .byte (Int32.ofNat (48 + n % 10))))))) (some (σ.2 17)) 1 (Int32.ofNat n) _ = _ ∧ _
        rw [(rd _ n c).2, wr _ (pos - 1 - 1) _ (by omega), if_pos rfl]
        refine ⟨_, rfl, fun i hi => ?_, fun i hi => ?_⟩
        · have hi : i < 2 := hi
          show upd (upd g (pos - 1) (vp_nar .byte (Int32.ofNat (48 + n % 10)))) (pos - 1 - 1) (vp_nar .byte (Int32.ofNat (48 + n / 10))) (pos - 2 + i) = _
          obtain rfl | rfl : i = 0 ∨ i = 1 := by omega
          · rw [show pos - 2 + 0 = pos - 1 - 1 by omega, pk_us]
            exact nar_d (n / 10) (by omega)
          · rw [show pos - 2 + 1 = pos - 1 by omega, pk_un (by omega), pk_us]
            exact nar_d (n % 10) (by omega)
        · have hi : i < pos - 2 ∨ pos ≤ i := hi
          rw [pk_un (by omega), pk_un (by omega)]
    · have e1 : decN n = decN (n / 100) ++ [48 + n / 10 % 10, 48 + n % 10] := by
        rw [decN_s (by omega) hn, decN_s (n := n / 10) (by omega) (by omega), show n / 10 / 10 = n / 100 by omega, List.append_assoc]
        rfl
      have hl2 : (decN n).length = (decN (n / 100)).length + 2 := by rw [e1, List.length_append]; rfl
      have hq := decN_l (n := n / 100) (by omega)
      rw [if_neg c, J_ngd hb, lt_J, J_ngr hb, lt_J, dec pos (by omega), lt_J]
      show ∃ g', aI (cU σ by_ (.inl (1, cap, .inl g))) (some (σ.2 18)) 1 (Int32.ofNat (n % 100)) _ = _ ∧ _
      rw [(rd g (n % 100) (by omega)).1, wr g (pos - 1) _ (by omega), dec (pos - 1) (by omega), lt_J]
      show ∃ g', aI (cU σ by_ (.inl (1, cap, .inl (upd g (pos - 1) (vp_nar .byte (Int32.ofNat (48 + n % 100 % 10))))))) (some (σ.2 17)) 1 (Int32.ofNat (n % 100)) _ = _ ∧ _
      rw [(rd _ (n % 100) (by omega)).2, wr _ (pos - 1 - 1) _ (by omega)]
      obtain ⟨g', r1, r2, r3⟩ := ih (n / 100) (pos - 1 - 1) (upd (upd g (pos - 1) (vp_nar .byte (Int32.ofNat (48 + n % 100 % 10)))) (pos - 1 - 1) (vp_nar .byte (Int32.ofNat (48 + n % 100 / 10)))) (by omega) (by rw [Nat.pow_succ] at h1; omega) (by omega) (by omega) f (by omega)
      refine ⟨g', ?_, fun i hi => ?_, fun i hi => ?_⟩
      · rw [r1, show pos - 1 - 1 - (decN (n / 100)).length = pos - (decN n).length by omega]
      · rw [hl2] at hi
        rw [show (decN n).getD i 0 = (decN (n / 100) ++ [48 + n / 10 % 10, 48 + n % 10]).getD i 0 from by rw [e1]]
        by_cases c2 : i < (decN (n / 100)).length
        · rw [getD_l c2, ← r2 i c2]
          congr 1
          omega
        · obtain ⟨j, rfl⟩ : ∃ j, i = (decN (n / 100)).length + j := ⟨i - (decN (n / 100)).length, by omega⟩
          rw [getD_r, r3 _ (Or.inr (by omega))]
          obtain rfl | rfl : j = 0 ∨ j = 1 := by omega
          · rw [show pos - (decN n).length + ((decN (n / 100)).length + 0) = pos - 1 - 1 by omega, pk_us, show n % 100 / 10 = n / 10 % 10 by omega]
            exact nar_d (n / 10 % 10) (by omega)
          · rw [show pos - (decN n).length + ((decN (n / 100)).length + 1) = pos - 1 by omega, pk_un (by omega), pk_us, show n % 100 % 10 = n % 10 by omega]
            exact nar_d (n % 10) (by omega)
      · rw [r3 i (by omega), pk_un (by omega), pk_un (by omega)]
end DEC
