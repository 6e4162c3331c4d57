/-! THE PLAIN LAW: quotients of whole numbers are no NaN -/
set_option maxRecDepth 100000
def gD (f : FP.Core.Fmt) : FP.Core.Datum → Prop
  | .nan => False
  | .inf _ => True
  | .fin _ c q => c < 2 ^ f.p ∧ q ≤ f.qmax
theorem gD_round {f : FP.Core.Fmt} (h1 : f.tails < 2 ^ f.p) (h2 : f.qmin ≤ f.qmax) (s : Bool) (n dn : Nat) (e : Int) : gD f (FP.Core.roundRatio f s n dn e) := by
  unfold FP.Core.roundRatio
  split
  · exact ⟨Nat.two_pow_pos _, h2⟩
  · unfold FP.Core.roundAt FP.Core.settle
    split
    · unfold FP.Core.bound
      split
      · exact ⟨by assumption, by assumption⟩
      · trivial
    · unfold FP.Core.bound
      split
      · exact ⟨h1, by assumption⟩
      · trivial
theorem gD_quot {f : FP.Core.Fmt} (h1 : f.tails < 2 ^ f.p) (h2 : f.qmin ≤ f.qmax) {x : FP.Core.Datum} {t : Bool} {m : Nat} {r : Int} (hx : x ≠ .nan) (hm : m ≠ 0) : gD f (FP.Core.quotient f x (.fin t m r)) := by
  cases x with
  | nan => exact absurd rfl hx
  | inf s => trivial
  | fin s c q =>
    unfold FP.Core.quotient
    dsimp only
    rw [if_neg hm]
    exact gD_round h1 h2 _ _ _ _
theorem enc32 {x : FP.Core.Datum} (h : gD FP.Core.b32 x) : FP.Core.encode FP.Core.b32 x < 4294967296 ∧ FP.Core.encode FP.Core.b32 x % 2147483648 ≤ 2139095040 := by
  cases x with
  | nan => cases h
  | inf s => cases s <;> decide
  | fin s c q =>
    obtain ⟨hc, hq⟩ := h
    have e1 : (2 : Nat) ^ FP.Core.b32.p = 16777216 := rfl
    have e2 : FP.Core.b32.qmax = 104 := rfl
    have e3 : FP.Core.b32.qmin = -149 := rfl
    have e4 : FP.Core.b32.tails = 8388608 := rfl
    have e5 : FP.Core.b32.exps = 256 := rfl
    rw [e1] at hc
    rw [e2] at hq
    unfold FP.Core.encode FP.Core.assemble
    dsimp only
    rw [e4, e5, e3]
    cases s
    · simp only [Bool.toNat_false]
      split <;> omega
    · simp only [Bool.toNat_true]
      split <;> omega
theorem enc64 {x : FP.Core.Datum} (h : gD FP.Core.b64 x) : FP.Core.encode FP.Core.b64 x < 18446744073709551616 ∧ FP.Core.encode FP.Core.b64 x % 9223372036854775808 ≤ 9218868437227405312 := by
  cases x with
  | nan => cases h
  | inf s => cases s <;> decide
  | fin s c q =>
    obtain ⟨hc, hq⟩ := h
    have e1 : (2 : Nat) ^ FP.Core.b64.p = 9007199254740992 := rfl
    have e2 : FP.Core.b64.qmax = 971 := rfl
    have e3 : FP.Core.b64.qmin = -1074 := rfl
    have e4 : FP.Core.b64.tails = 4503599627370496 := rfl
    have e5 : FP.Core.b64.exps = 2048 := rfl
    rw [e1] at hc
    rw [e2] at hq
    unfold FP.Core.encode FP.Core.assemble
    dsimp only
    rw [e4, e5, e3]
    cases s
    · simp only [Bool.toNat_false]
      split <;> omega
    · simp only [Bool.toNat_true]
      split <;> omega
theorem dec32 {n : Nat} (h : n < 4294967296 ∧ n % 2147483648 ≤ 2139095040) : FP.Core.decode FP.Core.b32 n ≠ .nan := by
  unfold FP.Core.decode FP.Core.fieldE FP.Core.fieldT
  have e4 : FP.Core.b32.tails = 8388608 := rfl
  have e5 : FP.Core.b32.exps = 256 := rfl
  rw [e4, e5]
  split
  · next h1 => rw [if_pos (by omega)]; simp
  · split <;> simp
theorem dec64 {n : Nat} (h : n < 18446744073709551616 ∧ n % 9223372036854775808 ≤ 9218868437227405312) : FP.Core.decode FP.Core.b64 n ≠ .nan := by
  unfold FP.Core.decode FP.Core.fieldE FP.Core.fieldT
  have e4 : FP.Core.b64.tails = 4503599627370496 := rfl
  have e5 : FP.Core.b64.exps = 2048 := rfl
  rw [e4, e5]
  split
  · next h1 => rw [if_pos (by omega)]; simp
  · split <;> simp
theorem int32_gD (i : Int) : gD FP.Core.b32 (FP.Core.round FP.Core.b32 (FP.Core.ofInt i)) := gD_round (by decide) (by decide) _ _ _ _
theorem int64_gD (i : Int) : gD FP.Core.b64 (FP.Core.round FP.Core.b64 (FP.Core.ofInt i)) := gD_round (by decide) (by decide) _ _ _ _
theorem i2f_ok (a : Int32) : FP.Core.decode FP.Core.b32 (FP.Core.i2f a).toNat ≠ .nan := by
  have h := enc32 (int32_gD a.toInt)
  unfold FP.Core.i2f FP.Core.fromInt
  rw [UInt32.toNat_ofNat_of_lt' h.1]
  exact dec32 h
theorem i2d_ok (a : Int32) : FP.Core.decode FP.Core.b64 (FP.Core.i2d a).toNat ≠ .nan := by
  have h := enc64 (int64_gD a.toInt)
  unfold FP.Core.i2d FP.Core.fromInt
  rw [UInt64.toNat_ofNat_of_lt' h.1]
  exact dec64 h
def nzB : FP.Core.Datum → Bool
  | .fin _ c _ => !decide (c = 0)
  | _ => false
theorem nzB_of {x : FP.Core.Datum} (h : nzB x = true) : ∃ t m r, x = .fin t m r ∧ m ≠ 0 := by
  cases x with
  | nan => cases h
  | inf s => cases h
  | fin s c q => exact ⟨s, c, q, rfl, by simpa [nzB] using h⟩
theorem i2f_small : ∀ k, k < 257 → k = 0 ∨ nzB (FP.Core.decode FP.Core.b32 (FP.Core.i2f (Int32.ofNat k)).toNat) = true := by decide +kernel
theorem i2d_small : ∀ k, k < 257 → k = 0 ∨ nzB (FP.Core.decode FP.Core.b64 (FP.Core.i2d (Int32.ofNat k)).toNat) = true := by decide +kernel
theorem nf32_J {β : Type} {a : Int32} {k : Nat} {K : Option β} (h0 : k ≠ 0) (hk : k < 257) : nf32 (FP.fdiv (FP.i2f a) (FP.i2f (Int32.ofNat k))) K = K := by
  unfold nf32
  rw [if_pos]
  obtain ⟨t, m, r, e, hm⟩ := nzB_of ((i2f_small k hk).resolve_left h0)
  have h := enc32 (show gD FP.Core.b32 (FP.Core.quotient FP.Core.b32 (FP.Core.decode FP.Core.b32 (FP.Core.i2f a).toNat) (FP.Core.decode FP.Core.b32 (FP.Core.i2f (Int32.ofNat k)).toNat)) from by rw [e]; exact gD_quot (by decide) (by decide) (i2f_ok a) hm)
  rw [UInt32.le_iff_toNat_le, UInt32.toNat_and]
  show (FP.Core.fdiv (FP.Core.i2f a) (FP.Core.i2f (Int32.ofNat k))).toNat &&& (2 ^ 31 - 1) ≤ 2139095040
  rw [Nat.and_two_pow_sub_one_eq_mod]
  unfold FP.Core.fdiv FP.Core.div
  rw [UInt32.toNat_ofNat_of_lt' h.1]
  exact h.2
theorem nf64_J {β : Type} {a : Int32} {k : Nat} {K : Option β} (h0 : k ≠ 0) (hk : k < 257) : nf64 (FP.ddiv (FP.i2d a) (FP.i2d (Int32.ofNat k))) K = K := by
  unfold nf64
  rw [if_pos]
  obtain ⟨t, m, r, e, hm⟩ := nzB_of ((i2d_small k hk).resolve_left h0)
  have h := enc64 (show gD FP.Core.b64 (FP.Core.quotient FP.Core.b64 (FP.Core.decode FP.Core.b64 (FP.Core.i2d a).toNat) (FP.Core.decode FP.Core.b64 (FP.Core.i2d (Int32.ofNat k)).toNat)) from by rw [e]; exact gD_quot (by decide) (by decide) (i2d_ok a) hm)
  rw [UInt64.le_iff_toNat_le, UInt64.toNat_and]
  show (FP.Core.ddiv (FP.Core.i2d a) (FP.Core.i2d (Int32.ofNat k))).toNat &&& (2 ^ 63 - 1) ≤ 9218868437227405312
  rw [Nat.and_two_pow_sub_one_eq_mod]
  unfold FP.Core.ddiv FP.Core.div
  rw [UInt64.toNat_ofNat_of_lt' h.1]
  exact h.2
/-- the first of the dearest cases, and what it costs -/
def deF (d : Nat → Nat) (t : Nat → Term) : Nat → Option (Nat × Nat)
  | 0 => none
  | k + 1 => match setlN d (setN d t k) with
    | none => deF d t k
    | some r => match deF d t k with
      | none => some (k, dutsN d (some r))
      | some p => if p.2 < dutsN d (some r) then some (k, dutsN d (some r)) else some p
theorem dutsN_le {d : Nat → Nat} {t : Nat → Term} (hW : WOk d t) {o : Option Nat} (ho : ∀ r, o = some r → r < d 17) : dutsN d o ≤ 39996 := by
  have h := dutsF_le hW ho (d 5) hW.h.2
  have := hW.h
  have : 9999 * d 5 ≤ 9999 * 4 := Nat.mul_le_mul_left _ hW.h.2
  exact Nat.le_trans h this
theorem deF_le {d : Nat → Nat} {t : Nat → Term} (hW : WOk d t) : ∀ k p, deF d t k = some p → p.1 < k ∧ p.2 ≤ 39996 := by
  intro k
  induction k with
  | zero => intro p h; cases h
  | succ k ih =>
    intro p h
    unfold deF at h
    cases hs : setlN d (setN d t k) with
    | none => rw [hs] at h; have := ih p h; omega
    | some r =>
      have hd := dutsN_le hW (o := some r) (fun x hx => by cases hx; exact setl_lt hW hs)
      rw [hs] at h
      cases hf : deF d t k with
      | none => rw [hf] at h; cases h; exact ⟨Nat.lt_succ_self _, hd⟩
      | some q =>
        rw [hf] at h
        dsimp only at h
        split at h
        · cases h; exact ⟨Nat.lt_succ_self _, hd⟩
        · cases h; have := ih p hf; omega
theorem J_m1lt {a : Nat} (h : a < 2147483648) : (Int32.ofNat a ≤ -1) = False := by
  apply propext
  rw [Int32.le_iff_toInt_le, J_int h, show (-1 : Int32).toInt = -1 from by decide]
  simp
  omega
theorem tw_dearest {d : Nat → Nat} {t : Nat → Term} {σ : twS} (hT : TW d σ) (hW : WOk d t) (hA : AP d t σ) : bT_dearest_21 FU (-1) (-1) (Int32.ofNat (casesN d)) 0 σ = some (o32 ((deF d t (casesN d)).map (·.1)), σ) := by
  have hC := casesN_le hW.1
  have h17 := hW.r
  refine loop_FU (fun g k => bT_dearest_21 g (o32 ((deF d t k).map (·.1))) (o32 ((deF d t k).map (·.2))) (Int32.ofNat (casesN d)) (Int32.ofNat k) σ) (fun _ => some (o32 ((deF d t (casesN d)).map (·.1)), σ)) (casesN d) (by omega) (fun g k hk ih => ?_) (fun g => ?_)
  · show bT_dearest_21 (g + 1) _ _ _ _ _ = _
    have e : deF d t (k + 1) = (match setlN d (setN d t k) with
      | none => deF d t k
      | some r => match deF d t k with
        | none => some (k, dutsN d (some r))
        | some p => if p.2 < dutsN d (some r) then some (k, dutsN d (some r)) else some p) := rfl
    rw [e] at ih
    rw [bT_dearest_21, iJ_le (by omega) (by omega), if_neg (by omega), ald_J (by omega) (by decide), hA k hk, tw_settles hT hW setN_lt, bd_J, setl_m1 hW]
    cases hs : setlN d (setN d t k) with
    | none =>
      rw [hs] at ih
      rw [if_pos rfl, lt_J, J_addL]
      exact ih
    | some r =>
      rw [hs] at ih
      have hr : ∀ x, some r = some x → x < d 17 := fun x hx => by cases hx; exact setl_lt hW hs
      have hd := dutsN_le hW hr
      rw [if_neg (by simp), tw_duties0 hT hW hr, bd_J]
      cases hf : deF d t k with
      | none =>
        rw [hf] at ih
        show (if Int32.ofNat (dutsN d (some r)) ≤ -1 then _ else _) = _
        rw [ite_pq (J_m1lt (by omega)), if_neg (by simp), tw_duties0 hT hW hr, bd_J, lt_J, J_addL]
        exact ih
      | some p =>
        have hp := deF_le hW k p hf
        rw [hf] at ih
        show (if Int32.ofNat (dutsN d (some r)) ≤ Int32.ofNat p.2 then _ else _) = _
        rw [iJ_le (by omega) (by omega)]
        dsimp only at ih
        by_cases c : p.2 < dutsN d (some r)
        · rw [if_pos c] at ih
          rw [if_neg (by omega), tw_duties0 hT hW hr, bd_J, lt_J, J_addL]
          exact ih
        · rw [if_neg c] at ih
          rw [if_pos (by omega), lt_J, J_addL]
          exact ih
  · show bT_dearest_21 (g + 1) _ _ _ _ _ = _
    rw [bT_dearest_21, iJ_le (by omega) (by omega), if_pos (Nat.le_refl _)]
