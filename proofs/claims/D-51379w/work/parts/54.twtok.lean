/-! THE PLAIN LAW: tokens of a text, and how the twin passes them -/
set_option maxRecDepth 100000
def sortN (c : Nat) : Nat := if 97 ≤ c ∧ c ≤ 122 then 1 else if 48 ≤ c ∧ c ≤ 57 then 2 else if c = 59 ∨ c = 44 ∨ c = 47 ∨ c = 40 ∨ c = 41 ∨ c = 61 ∨ c = 60 ∨ c = 62 then c else 3
/-- how many from q on meet p -/
def runN (L : List Nat) (p : Nat → Bool) (q : Nat) : Nat := ((L.drop q).takeWhile p).length
def isSp (c : Nat) : Bool := decide (c = 32 ∨ c = 10)
def isS (s c : Nat) : Bool := decide (sortN c = s)
theorem drop_c {L : List Nat} {q : Nat} (h : q < L.length) : L.drop q = L.getD q 0 :: L.drop (q + 1) := by
  rw [List.drop_eq_getElem_cons h, List.getD_eq_getElem?_getD, List.getElem?_eq_getElem h]
  rfl
theorem runN_end {L : List Nat} {p : Nat → Bool} {q : Nat} (h : L.length ≤ q) : runN L p q = 0 := by
  unfold runN
  rw [List.drop_eq_nil_of_le h]
  rfl
theorem runN_y {L : List Nat} {p : Nat → Bool} {q : Nat} (h : q < L.length) (hp : p (L.getD q 0) = true) : runN L p q = runN L p (q + 1) + 1 := by
  unfold runN
  rw [drop_c h, List.takeWhile_cons_of_pos hp]
  rfl
theorem runN_n {L : List Nat} {p : Nat → Bool} {q : Nat} (h : q < L.length) (hp : ¬ p (L.getD q 0) = true) : runN L p q = 0 := by
  unfold runN
  rw [drop_c h, List.takeWhile_cons_of_neg hp]
  rfl
theorem runN_le {L : List Nat} {p : Nat → Bool} {q : Nat} (h : q ≤ L.length) : q + runN L p q ≤ L.length := by
  unfold runN
  have h1 := (List.takeWhile_sublist p (l := L.drop q)).length_le
  rw [List.length_drop] at h1
  omega
theorem runN_at {L : List Nat} {p : Nat → Bool} : ∀ k q, k < runN L p q → p (L.getD (q + k) 0) = true := by
  intro k
  induction k with
  | zero =>
    intro q h
    rcases Nat.lt_or_ge q L.length with c | c
    · by_cases hp : p (L.getD q 0) = true
      · exact hp
      · rw [runN_n c hp] at h; omega
    · rw [runN_end c] at h; omega
  | succ k ih =>
    intro q h
    rcases Nat.lt_or_ge q L.length with c | c
    · by_cases hp : p (L.getD q 0) = true
      · rw [runN_y c hp] at h
        have := ih (q + 1) (by omega)
        rw [show q + (k + 1) = q + 1 + k by omega]
        exact this
      · rw [runN_n c hp] at h; omega
    · rw [runN_end c] at h; omega
/-- where the token behind p begins, its sort, its end, its kind, its value -/
def tkO (L : List Nat) (p : Nat) : Nat := p + runN L isSp p
def tkS (L : List Nat) (p : Nat) : Nat := sortN (L.getD (tkO L p) 0)
def tkE (L : List Nat) (p : Nat) : Nat := if L.length ≤ tkO L p then tkO L p else if tkS L p = 1 ∨ tkS L p = 2 then tkO L p + 1 + runN L (isS (tkS L p)) (tkO L p + 1) else tkO L p + 1
def tkK (L : List Nat) (p : Nat) : Nat := if L.length ≤ tkO L p then 0 else if tkS L p = 2 ∧ 4 < tkE L p - tkO L p then 3 else tkS L p
def valF (L : List Nat) (o : Nat) : Nat → Nat
  | 0 => 0
  | k + 1 => 10 * valF L o k + L.getD (o + k) 0 - 48
def tkV (L : List Nat) (p : Nat) : Nat := valF L (tkO L p) (tkE L p - tkO L p)
theorem tkO_le {L : List Nat} {p : Nat} (h : p ≤ L.length) : p ≤ tkO L p ∧ tkO L p ≤ L.length := ⟨Nat.le_add_right _ _, runN_le h⟩
theorem sortN_cases (c : Nat) : sortN c = 1 ∨ sortN c = 2 ∨ sortN c = 3 ∨ (sortN c = c ∧ 40 ≤ c ∧ c ≤ 62 ∧ ¬ (48 ≤ c ∧ c ≤ 57)) := by
  unfold sortN
  by_cases h1 : 97 ≤ c ∧ c ≤ 122
  · rw [if_pos h1]; omega
  · rw [if_neg h1]
    by_cases h2 : 48 ≤ c ∧ c ≤ 57
    · rw [if_pos h2]; omega
    · rw [if_neg h2]
      split <;> omega
theorem tkE_le {L : List Nat} {p : Nat} (h : p ≤ L.length) : tkO L p ≤ tkE L p ∧ tkE L p ≤ L.length := by
  have h1 := tkO_le h
  unfold tkE
  split
  · omega
  · split
    · have := runN_le (L := L) (p := isS (tkS L p)) (q := tkO L p + 1) (by omega)
      omega
    · omega
theorem tkE_adv {L : List Nat} {p : Nat} (h : p ≤ L.length) (hk : tkK L p ≠ 0) : p < tkE L p := by
  have h1 := tkO_le h
  unfold tkK at hk
  split at hk
  · exact absurd rfl hk
  · next c =>
    unfold tkE
    rw [if_neg c]
    split <;> omega
theorem tkK_lt (L : List Nat) (p : Nat) : tkK L p ≤ 62 := by
  have h := sortN_cases (L.getD (tkO L p) 0)
  unfold tkK tkS
  split
  · omega
  · split <;> omega
theorem sort_dig {c : Nat} (h : sortN c = 2) : 48 ≤ c ∧ c ≤ 57 := by
  unfold sortN at h
  split at h
  · omega
  · split at h
    · assumption
    · split at h <;> omega
theorem sort_let {c : Nat} (h : sortN c = 1) : 97 ≤ c ∧ c ≤ 122 := by
  unfold sortN at h
  split at h
  · assumption
  · split at h
    · omega
    · split at h <;> omega
theorem valF_lt {L : List Nat} {o n : Nat} (h : ∀ k, k < n → 48 ≤ L.getD (o + k) 0 ∧ L.getD (o + k) 0 ≤ 57) : ∀ k, k ≤ n → valF L o k < 10 ^ k := by
  intro k
  induction k with
  | zero => intro _; exact Nat.zero_lt_one
  | succ k ih =>
    intro hk
    have h1 := ih (by omega)
    have h2 := h k (by omega)
    unfold valF
    rw [Nat.pow_succ]
    omega
/-- a number's digits -/
theorem tk_num {L : List Nat} {p : Nat} (hk : tkK L p = 2) : tkO L p < L.length ∧ tkS L p = 2 ∧ tkE L p - tkO L p ≤ 4 ∧ tkO L p < tkE L p ∧ ∀ k, k < tkE L p - tkO L p → 48 ≤ L.getD (tkO L p + k) 0 ∧ L.getD (tkO L p + k) 0 ≤ 57 := by
  unfold tkK at hk
  split at hk
  · omega
  · next c =>
    split at hk
    · omega
    · next c2 =>
      have he : tkE L p = tkO L p + 1 + runN L (isS 2) (tkO L p + 1) := by
        unfold tkE
        rw [if_neg c, if_pos (Or.inr hk), hk]
      refine ⟨by omega, hk, by omega, by omega, fun k hk2 => ?_⟩
      rw [he] at hk2
      cases k with
      | zero => exact sort_dig hk
      | succ k =>
        have := runN_at (L := L) (p := isS 2) k (tkO L p + 1) (by omega)
        rw [show tkO L p + (k + 1) = tkO L p + 1 + k by omega]
        exact sort_dig (of_decide_eq_true this)
theorem tkV_lt {L : List Nat} {p : Nat} (hk : tkK L p = 2) : tkV L p < 10000 := by
  obtain ⟨-, -, h4, -, hd⟩ := tk_num hk
  have := valF_lt hd (tkE L p - tkO L p) (Nat.le_refl _)
  unfold tkV
  exact Nat.lt_of_lt_of_le this (Nat.pow_le_pow_right (by decide) h4)
def fr4 (a b : twS) : Prop := b.1 = a.1 ∧ ∀ k, (k < 16 ∨ 19 < k) → b.2 k = a.2 k
theorem fr4.rf {a : twS} : fr4 a a := ⟨rfl, fun _ _ => rfl⟩
theorem fr4.trans {a b c : twS} (h : fr4 a b) (h' : fr4 b c) : fr4 a c := ⟨h'.1.trans h.1, fun k hk => (h'.2 k hk).trans (h.2 k hk)⟩
theorem fr4.i {a : twS} {k : Nat} {x : Int32} (hk : 16 ≤ k ∧ k ≤ 19) : fr4 a (twI a k x) := ⟨rfl, fun j hj => by show (if j = k then x else a.2 j) = _; rw [if_neg (by omega)]⟩
theorem TXt.fr {L : List Nat} {a b : twS} (h : TXt L a) (h8 : b.1 8 = a.1 8) (h10 : b.2 10 = a.2 10) : TXt L b := ⟨h.1, h.2.1, h10.trans h.2.2.1, fun i hi => by rw [h8]; exact h.2.2.2 i hi⟩
theorem TXt.f4 {L : List Nat} {a b : twS} (h : TXt L a) (f : fr4 a b) : TXt L b := h.fr (by rw [f.1]) (f.2 10 (by decide))
theorem TXt.at {L : List Nat} {a : twS} (h : TXt L a) {i : Nat} (hi : i < L.length) {β : Type} {K : Int32 → Option β} : ald a 8 700 (Int32.ofNat i) K = K (Int32.ofNat (L.getD i 0)) := by
  have := h.1
  rw [ald_J (by omega) (by decide), h.2.2.2 i hi]
theorem TXt.c {L : List Nat} {a : twS} (h : TXt L a) {i : Nat} (hi : i < L.length) : L.getD i 0 < 256 := by
  rw [List.getD_eq_getElem?_getD, List.getElem?_eq_getElem hi]
  exact h.2.1 _ (List.getElem_mem hi)
/-- the twin stands before the token behind p -/
def PT (L : List Nat) (p : Nat) (σ : twS) : Prop := TXt L σ ∧ p ≤ L.length ∧ σ.2 16 = Int32.ofNat (tkK L p) ∧ σ.2 17 = Int32.ofNat (tkO L p) ∧ σ.2 18 = Int32.ofNat (tkE L p) ∧ (tkK L p = 2 → σ.2 19 = Int32.ofNat (tkV L p)) ∧ σ.2 20 = 0
theorem twI_k {σ : twS} {k : Nat} {x : Int32} : (twI σ k x).2 k = x := by simp [twI]
theorem twI_n {σ : twS} {k j : Nat} {x : Int32} (h : j ≠ k) : (twI σ k x).2 j = σ.2 j := by simp [twI, h]
theorem tw_sortOf {c : Nat} {σ : twS} (hc : c < 256) : mT_sortOf (Int32.ofNat c) σ = some (Int32.ofNat (sortN c), σ) := by
  have h28 : ¬ (97 ≤ c ∧ c ≤ 122) → ¬ (48 ≤ c ∧ c ≤ 57) → bT_sortOf_28 (Int32.ofNat c) σ = some (Int32.ofNat (sortN c), σ) := by
    intro h1 h2
    unfold bT_sortOf_28 sortN
    rw [if_neg h1, if_neg h2, iJ_eqL (by omega) (by decide), iJ_eqL (by omega) (by decide), iJ_eqL (by omega) (by decide), iJ_eqL (by omega) (by decide), iJ_eqL (by omega) (by decide), iJ_eqL (by omega) (by decide), iJ_eqL (by omega) (by decide), iJ_eqL (by omega) (by decide)]
    by_cases a1 : c = 59
    · subst a1; rfl
    · by_cases a2 : c = 44
      · subst a2; rfl
      · by_cases a3 : c = 47
        · subst a3; rfl
        · by_cases a4 : c = 40
          · subst a4; rfl
          · by_cases a5 : c = 41
            · subst a5; rfl
            · by_cases a6 : c = 61
              · subst a6; rfl
              · by_cases a7 : c = 60
                · subst a7; rfl
                · by_cases a8 : c = 62
                  · subst a8; rfl
                  · rw [if_neg a1, if_neg a2, if_neg a3, if_neg a4, if_neg a5, if_neg a6, if_neg a7, if_neg a8, if_neg (by omega)]
                    rfl
  have h14 : ¬ (97 ≤ c ∧ c ≤ 122) → bT_sortOf_14 (Int32.ofNat c) σ = some (Int32.ofNat (sortN c), σ) := by
    intro h1
    unfold bT_sortOf_14
    rw [iJ_ltL (by omega) (by decide), iJ_ltR (by decide) (by omega)]
    by_cases c1 : c < 48
    · rw [if_pos (show c < OfNat.ofNat 48 from c1)]; exact h28 h1 (by omega)
    · rw [if_neg (show ¬ c < OfNat.ofNat 48 from c1)]
      by_cases c2 : 57 < c
      · rw [if_pos (show OfNat.ofNat 57 < c from c2)]; exact h28 h1 (by omega)
      · rw [if_neg (show ¬ OfNat.ofNat 57 < c from c2)]
        unfold sortN
        rw [if_neg h1, if_pos (by omega)]
        rfl
  unfold mT_sortOf
  rw [iJ_ltL (by omega) (by decide), iJ_ltR (by decide) (by omega)]
  by_cases c1 : c < 97
  · rw [if_pos (show c < OfNat.ofNat 97 from c1)]; exact h14 (by omega)
  · rw [if_neg (show ¬ c < OfNat.ofNat 97 from c1)]
    by_cases c2 : 122 < c
    · rw [if_pos (show OfNat.ofNat 122 < c from c2)]; exact h14 (by omega)
    · rw [if_neg (show ¬ OfNat.ofNat 122 < c from c2)]
      unfold sortN
      rw [if_pos (by omega)]
      rfl
theorem tw_n8 {L : List Nat} : ∀ j q f (σ : twS), q + j = L.length → j < f → TXt L σ → σ.2 17 = Int32.ofNat q → ∃ σ', fr4 σ σ' ∧ σ'.2 17 = Int32.ofNat (q + runN L isSp q) ∧ bT_next_8 f σ = bT_next_60 σ' := by
  intro j
  induction j with
  | zero =>
    intro q f σ hq hf hX h17
    obtain ⟨f, rfl⟩ : ∃ f', f = f' + 1 := ⟨f - 1, by omega⟩
    have := hX.1
    refine ⟨σ, fr4.rf, ?_, ?_⟩
    · rw [runN_end (by omega)]; exact h17
    · rw [bT_next_8, hX.2.2.1, h17, iJ_le (by omega) (by omega), if_pos (by omega)]
  | succ j ih =>
    intro q f σ hq hf hX h17
    obtain ⟨f, rfl⟩ : ∃ f', f = f' + 1 := ⟨f - 1, by omega⟩
    have hl := hX.1
    have hc := hX.c (show q < L.length by omega)
    have next : isSp (L.getD q 0) = true → ∃ σ', fr4 σ σ' ∧ σ'.2 17 = Int32.ofNat (q + runN L isSp q) ∧ bT_next_47 (bT_next_8 f) σ = bT_next_60 σ' := by
      intro hs
      have f1 : fr4 σ (twI σ 17 (Int32.ofNat (q + 1))) := fr4.i (by decide)
      obtain ⟨σ2, f2, e2, e3⟩ := ih (q + 1) f (twI σ 17 (Int32.ofNat (q + 1))) (by omega) (by omega) (hX.f4 f1) twI_k
      refine ⟨σ2, f1.trans f2, ?_, ?_⟩
      · rw [runN_y (by omega) hs, show q + (runN L isSp (q + 1) + 1) = q + 1 + runN L isSp (q + 1) by omega]; exact e2
      · unfold bT_next_47
        rw [lt_J, h17, J_addL]
        exact e3
    rw [bT_next_8, hX.2.2.1, h17, iJ_le (by omega) (by omega), if_neg (by omega), hX.at (by omega), iJ_eqL (by omega) (by decide)]
    by_cases c1 : L.getD q 0 = 32
    · rw [if_pos (show L.getD q 0 = OfNat.ofNat 32 from c1)]
      exact next (decide_eq_true (Or.inl c1))
    · rw [if_neg (show ¬ L.getD q 0 = OfNat.ofNat 32 from c1), hX.at (by omega), iJ_eqL (by omega) (by decide)]
      by_cases c2 : L.getD q 0 = 10
      · rw [if_pos (show L.getD q 0 = OfNat.ofNat 10 from c2)]
        exact next (decide_eq_true (Or.inr c2))
      · rw [if_neg (show ¬ L.getD q 0 = OfNat.ofNat 10 from c2)]
        refine ⟨σ, fr4.rf, ?_, rfl⟩
        rw [runN_n (by omega) (by
          intro h
          have := of_decide_eq_true h
          omega)]
        exact h17
theorem tw_n111 {L : List Nat} {s : Nat} (hs : s = 1 ∨ s = 2) : ∀ j q f (σ : twS), q + j = L.length → j < f → TXt L σ → σ.2 16 = Int32.ofNat s → σ.2 18 = Int32.ofNat q → ∃ σ', fr4 σ σ' ∧ σ'.2 16 = Int32.ofNat s ∧ σ'.2 17 = σ.2 17 ∧ σ'.2 18 = Int32.ofNat (q + runN L (isS s) q) ∧ bT_next_111 f σ = bT_next_170 σ' := by
  intro j
  induction j with
  | zero =>
    intro q f σ hq hf hX h16 h18
    obtain ⟨f, rfl⟩ : ∃ f', f = f' + 1 := ⟨f - 1, by omega⟩
    have := hX.1
    refine ⟨σ, fr4.rf, h16, rfl, ?_, ?_⟩
    · rw [runN_end (by omega)]; exact h18
    · have e : bT_next_127 (bT_next_111 f) σ = bT_next_170 σ := by
        unfold bT_next_127
        rw [hX.2.2.1, h18, iJ_le (by omega) (by omega), if_pos (by omega)]
      rw [bT_next_111, h16, iJ_eqL (by omega) (by decide), iJ_eqL (by omega) (by decide)]
      rcases hs with rfl | rfl
      · rw [if_pos rfl]; exact e
      · rw [if_neg (by decide), if_pos rfl]; exact e
  | succ j ih =>
    intro q f σ hq hf hX h16 h18
    obtain ⟨f, rfl⟩ : ∃ f', f = f' + 1 := ⟨f - 1, by omega⟩
    have hl := hX.1
    have hc := hX.c (show q < L.length by omega)
    have e : ∃ σ', fr4 σ σ' ∧ σ'.2 16 = Int32.ofNat s ∧ σ'.2 17 = σ.2 17 ∧ σ'.2 18 = Int32.ofNat (q + runN L (isS s) q) ∧ bT_next_127 (bT_next_111 f) σ = bT_next_170 σ' := by
      have hsl : sortN (L.getD q 0) < 2147483648 := by
        have := sortN_cases (L.getD q 0)
        omega
      unfold bT_next_127
      rw [hX.2.2.1, h18, iJ_le (by omega) (by omega), if_neg (by omega), hX.at (by omega), tw_sortOf hc, bd_J, h16, iJ_eq hsl (by omega)]
      by_cases c : sortN (L.getD q 0) = s
      · rw [if_pos c, lt_J, h18, J_addL]
        have f1 : fr4 σ (twI σ 18 (Int32.ofNat (q + 1))) := fr4.i (by decide)
        obtain ⟨σ2, f2, g1, g2, g3, g4⟩ := ih (q + 1) f (twI σ 18 (Int32.ofNat (q + 1))) (by omega) (by omega) (hX.f4 f1) ((twI_n (by decide)).trans h16) twI_k
        refine ⟨σ2, f1.trans f2, g1, g2.trans (twI_n (by decide)), ?_, g4⟩
        rw [runN_y (by omega) (decide_eq_true c), show q + (runN L (isS s) (q + 1) + 1) = q + 1 + runN L (isS s) (q + 1) by omega]
        exact g3
      · rw [if_neg c]
        refine ⟨σ, fr4.rf, h16, rfl, ?_, rfl⟩
        rw [runN_n (by omega) (fun h => c (of_decide_eq_true h))]
        exact h18
    rw [bT_next_111, h16, iJ_eqL (by omega) (by decide), iJ_eqL (by omega) (by decide)]
    rcases hs with rfl | rfl
    · rw [if_pos rfl]; exact e
    · rw [if_neg (by decide), if_pos rfl]; exact e
theorem tw_n206 {L : List Nat} {o n : Nat} (ho : o + n ≤ L.length) (hn : n ≤ 4) (hd : ∀ k, k < n → 48 ≤ L.getD (o + k) 0 ∧ L.getD (o + k) 0 ≤ 57) : ∀ j k f (σ : twS), k + j = n → j < f → TXt L σ → σ.2 16 = Int32.ofNat 2 → σ.2 18 = Int32.ofNat (o + n) → σ.2 19 = Int32.ofNat (valF L o k) → ∃ σ', fr4 σ σ' ∧ σ'.2 16 = σ.2 16 ∧ σ'.2 17 = σ.2 17 ∧ σ'.2 18 = σ.2 18 ∧ σ'.2 19 = Int32.ofNat (valF L o n) ∧ bT_next_206 f (Int32.ofNat (o + k)) σ = some (0, σ') := by
  intro j
  induction j with
  | zero =>
    intro k f σ hk hf hX h16 h18 h19
    obtain ⟨f, rfl⟩ : ∃ f', f = f' + 1 := ⟨f - 1, by omega⟩
    have := hX.1
    refine ⟨σ, fr4.rf, rfl, rfl, rfl, by rw [h19, show k = n by omega], ?_⟩
    rw [bT_next_206, h18, iJ_le (by omega) (by omega), if_pos (by omega)]
  | succ j ih =>
    intro k f σ hk hf hX h16 h18 h19
    obtain ⟨f, rfl⟩ : ∃ f', f = f' + 1 := ⟨f - 1, by omega⟩
    have hl := hX.1
    have h1 := hd k (by omega)
    have h2 := valF_lt hd k (by omega)
    have h3 : 10 ^ k ≤ 10 ^ 4 := Nat.pow_le_pow_right (by decide) (by omega)
    have h4 : valF L o k < 10000 := Nat.lt_of_lt_of_le h2 h3
    have e : (10 : Int32) * Int32.ofNat (valF L o k) + Int32.ofNat (L.getD (o + k) 0) - 48 = Int32.ofNat (valF L o (k + 1)) := by
      rw [J_mulR, J_add, J_subL (show OfNat.ofNat 48 ≤ OfNat.ofNat 10 * valF L o k + L.getD (o + k) 0 from by show 48 ≤ 10 * valF L o k + L.getD (o + k) 0; omega)]
      rfl
    have f1 : fr4 σ (twI σ 19 (Int32.ofNat (valF L o (k + 1)))) := fr4.i (by decide)
    obtain ⟨σ2, f2, g1, g2, g3, g4, g5⟩ := ih (k + 1) f (twI σ 19 (Int32.ofNat (valF L o (k + 1)))) (by omega) (by omega) (hX.f4 f1) ((twI_n (by decide)).trans h16) ((twI_n (by decide)).trans h18) twI_k
    refine ⟨σ2, f1.trans f2, g1.trans (twI_n (by decide)), g2.trans (twI_n (by decide)), g3.trans (twI_n (by decide)), g4, ?_⟩
    rw [bT_next_206, h18, iJ_le (by omega) (by omega), if_neg (by omega), h16, if_pos (by decide), hX.at (by omega), lt_J, h19, e, lt_J, J_addL]
    exact g5
theorem tw_next {L : List Nat} {σ : twS} {p : Nat} (hX : TXt L σ) (hp : p ≤ L.length) (h18 : σ.2 18 = Int32.ofNat p) (h20 : σ.2 20 = 0) : ∃ σ', fr4 σ σ' ∧ PT L p σ' ∧ mT_next σ = some (0, σ') := by
  have hl := hX.1
  have hO := tkO_le hp
  have hE := tkE_le hp
  unfold mT_next
  rw [lt_J, h18]
  have f0 : fr4 σ (twI σ 17 (Int32.ofNat p)) := fr4.i (by decide)
  obtain ⟨σ1, f1, g17, e1⟩ := tw_n8 (L.length - p) p FU (twI σ 17 (Int32.ofNat p)) (by omega) (by show _ < 4096; omega) (hX.f4 f0) twI_k
  have hX1 := (hX.f4 f0).f4 f1
  have g17' : σ1.2 17 = Int32.ofNat (tkO L p) := g17
  rw [e1]
  unfold bT_next_60
  rw [lt_J, g17']
  have f2 : fr4 σ1 (twI σ1 18 (Int32.ofNat (tkO L p))) := fr4.i (by decide)
  have hX2 := hX1.f4 f2
  have k17 : (twI σ1 18 (Int32.ofNat (tkO L p))).2 17 = Int32.ofNat (tkO L p) := (twI_n (by decide)).trans g17'
  have k18 : (twI σ1 18 (Int32.ofNat (tkO L p))).2 18 = Int32.ofNat (tkO L p) := twI_k
  have fa := (f0.trans f1).trans f2
  generalize twI σ1 18 (Int32.ofNat (tkO L p)) = σ2 at hX2 k17 k18 fa ⊢
  rw [k17, hX2.2.2.1, iJ_eq (by omega) (by omega)]
  by_cases c : tkO L p = L.length
  · rw [if_pos c, lt_J]
    have f3 : fr4 σ2 (twI σ2 16 0) := fr4.i (by decide)
    have eK : tkK L p = 0 := by unfold tkK; rw [if_pos (by omega)]
    have eE : tkE L p = tkO L p := by unfold tkE; rw [if_pos (by omega)]
    refine ⟨twI σ2 16 0, fa.trans f3, ⟨hX2.f4 f3, hp, ?_, ?_, ?_, ?_, ?_⟩, rfl⟩
    · rw [eK]; exact twI_k
    · exact (twI_n (by decide)).trans k17
    · rw [eE]; exact (twI_n (by decide)).trans k18
    · intro h; omega
    · rw [(fa.trans f3).2 20 (by decide)]; exact h20
  · have hc := hX2.c (show tkO L p < L.length by omega)
    have hsc := sortN_cases (L.getD (tkO L p) 0)
    rw [if_neg c, hX2.at (by omega), tw_sortOf hc, bd_J, lt_J]
    have f3 : fr4 σ2 (twI σ2 16 (Int32.ofNat (tkS L p))) := fr4.i (by decide)
    have k18' : (twI σ2 16 (Int32.ofNat (sortN (L.getD (tkO L p) 0)))).2 18 = Int32.ofNat (tkO L p) := (twI_n (by decide)).trans k18
    rw [lt_J, k18', J_addL]
    have f4 : fr4 (twI σ2 16 (Int32.ofNat (tkS L p))) (twI (twI σ2 16 (Int32.ofNat (tkS L p))) 18 (Int32.ofNat (tkO L p + 1))) := fr4.i (by decide)
    have fb := (fa.trans f3).trans f4
    have hX4 := (hX2.f4 f3).f4 f4
    have q16 : (twI (twI σ2 16 (Int32.ofNat (tkS L p))) 18 (Int32.ofNat (tkO L p + 1))).2 16 = Int32.ofNat (tkS L p) := (twI_n (by decide)).trans twI_k
    have q17 : (twI (twI σ2 16 (Int32.ofNat (tkS L p))) 18 (Int32.ofNat (tkO L p + 1))).2 17 = Int32.ofNat (tkO L p) := (twI_n (by decide)).trans ((twI_n (by decide)).trans k17)
    have q18 : (twI (twI σ2 16 (Int32.ofNat (tkS L p))) 18 (Int32.ofNat (tkO L p + 1))).2 18 = Int32.ofNat (tkO L p + 1) := twI_k
    show ∃ σ', _ ∧ _ ∧ bT_next_111 FU (twI (twI σ2 16 (Int32.ofNat (tkS L p))) 18 (Int32.ofNat (tkO L p + 1))) = _
    generalize twI (twI σ2 16 (Int32.ofNat (tkS L p))) 18 (Int32.ofNat (tkO L p + 1)) = σ4 at fb hX4 q16 q17 q18 ⊢
    -- the token's end
    have hend : ∃ σ5, fr4 σ4 σ5 ∧ σ5.2 16 = Int32.ofNat (tkS L p) ∧ σ5.2 17 = Int32.ofNat (tkO L p) ∧ σ5.2 18 = Int32.ofNat (tkE L p) ∧ bT_next_111 FU σ4 = bT_next_170 σ5 := by
      by_cases hs : tkS L p = 1 ∨ tkS L p = 2
      · obtain ⟨σ5, f5, r16, r17, r18, e5⟩ := tw_n111 hs (L.length - (tkO L p + 1)) (tkO L p + 1) FU σ4 (by omega) (by show _ < 4096; omega) hX4 q16 q18
        refine ⟨σ5, f5, r16, r17.trans q17, ?_, e5⟩
        rw [r18]
        unfold tkE
        rw [if_neg (by omega), if_pos hs]
      · refine ⟨σ4, fr4.rf, q16, q17, ?_, ?_⟩
        · rw [q18]
          unfold tkE
          rw [if_neg (by omega), if_neg hs]
        · have hsl : tkS L p < 2147483648 := by unfold tkS; omega
          show bT_next_111 (4095 + 1) σ4 = _
          rw [bT_next_111, q16, iJ_eqL hsl (by decide), iJ_eqL hsl (by decide), if_neg (fun h => hs (Or.inl h)), if_neg (fun h => hs (Or.inr h))]
    obtain ⟨σ5, f5, r16, r17, r18, e5⟩ := hend
    rw [e5]
    have hX5 := hX4.f4 f5
    have fc := fb.trans f5
    -- the token's kind
    have hkind : ∃ σ6, fr4 σ5 σ6 ∧ σ6.2 16 = Int32.ofNat (tkK L p) ∧ σ6.2 17 = Int32.ofNat (tkO L p) ∧ σ6.2 18 = Int32.ofNat (tkE L p) ∧ bT_next_170 σ5 = bT_next_196 σ6 := by
      have hsl : tkS L p < 2147483648 := by unfold tkS; omega
      unfold bT_next_170
      rw [r16, iJ_eqL hsl (by decide)]
      by_cases h2 : tkS L p = 2
      · rw [if_pos (show tkS L p = OfNat.ofNat 2 from h2), r17, r18, J_sub hE.1, iJ_leL (by omega) (by decide)]
        by_cases h4 : tkE L p - tkO L p ≤ 4
        · rw [if_pos (show tkE L p - tkO L p ≤ OfNat.ofNat 4 from h4)]
          refine ⟨σ5, fr4.rf, ?_, r17, r18, rfl⟩
          rw [r16]
          unfold tkK
          rw [if_neg (by omega), if_neg (by omega)]
        · rw [if_neg (show ¬ tkE L p - tkO L p ≤ OfNat.ofNat 4 from h4), lt_J]
          refine ⟨twI σ5 16 3, fr4.i (by decide), ?_, (twI_n (by decide)).trans r17, (twI_n (by decide)).trans r18, rfl⟩
          rw [twI_k]
          unfold tkK
          rw [if_neg (by omega), if_pos (by omega)]
          rfl
      · rw [if_neg (show ¬ tkS L p = OfNat.ofNat 2 from h2)]
        refine ⟨σ5, fr4.rf, ?_, r17, r18, rfl⟩
        rw [r16]
        unfold tkK
        rw [if_neg (by omega), if_neg (by omega)]
    obtain ⟨σ6, f6, s16, s17, s18, e6⟩ := hkind
    rw [e6]
    have hX6 := hX5.f4 f6
    have fd := fc.trans f6
    unfold bT_next_196
    rw [lt_J]
    have f7 : fr4 σ6 (twI σ6 19 0) := fr4.i (by decide)
    have hX7 := hX6.f4 f7
    have t17 : (twI σ6 19 0).2 17 = Int32.ofNat (tkO L p) := (twI_n (by decide)).trans s17
    rw [lt_J, t17]
    have t16 : (twI σ6 19 0).2 16 = Int32.ofNat (tkK L p) := (twI_n (by decide)).trans s16
    have t18 : (twI σ6 19 0).2 18 = Int32.ofNat (tkE L p) := (twI_n (by decide)).trans s18
    have t19 : (twI σ6 19 0).2 19 = 0 := twI_k
    have fe := fd.trans f7
    generalize twI σ6 19 0 = σ7 at f7 hX7 t16 t17 t18 t19 fe ⊢
    have hkl := tkK_lt L p
    by_cases hk : tkK L p = 2
    · obtain ⟨n1, n2, n3, n4, n5⟩ := tk_num hk
      obtain ⟨σ8, f8, u16, u17, u18, u19, e8⟩ := tw_n206 (o := tkO L p) (n := tkE L p - tkO L p) (by omega) n3 n5 (tkE L p - tkO L p) 0 FU σ7 (by omega) (by show _ < 4096; omega) hX7 (by rw [t16, hk]) (by rw [t18]; congr 1; omega) t19
      refine ⟨σ8, fe.trans f8, ⟨hX7.f4 f8, hp, u16.trans t16, u17.trans t17, u18.trans t18, fun _ => u19, ?_⟩, e8⟩
      rw [(fe.trans f8).2 20 (by decide)]; exact h20
    · refine ⟨σ7, fe, ⟨hX7, hp, t16, t17, t18, fun h => absurd h hk, by rw [fe.2 20 (by decide)]; exact h20⟩, ?_⟩
      show bT_next_206 (4095 + 1) _ _ = _
      rw [bT_next_206, t16, t18, iJ_le (by omega) (by omega), iJ_eqL (by omega) (by decide), if_neg (show ¬ tkK L p = OfNat.ofNat 2 from hk)]
      split <;> rfl
