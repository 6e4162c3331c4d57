/-! THE PLAIN LAW: words, signs, numbers that are read, and how the twin reads them -/
set_option maxRecDepth 100000
/-- what is read: a fault, or a result -/
abbrev PR (α : Type) : Type := Nat ⊕ α
def pb {α β : Type} (x : PR α) (f : α → PR β) : PR β := match x with
  | .inl e => .inl e
  | .inr a => f a
def wdN (L : List Nat) (p : Nat) : List Nat := (L.drop (tkO L p)).take (tkE L p - tkO L p)
def isW (L : List Nat) (p : Nat) (s : List Nat) : Bool := decide (tkK L p = 1 ∧ wdN L p = s)
/-- a fault at the token behind p -/
def flt (L : List Nat) (p c : Nat) : Nat := 8 * tkO L p + c
def rWord (L : List Nat) (p : Nat) (s : List Nat) : PR Nat := if isW L p s then .inr (tkE L p) else .inl (flt L p 1)
def rSign (L : List Nat) (p c : Nat) : PR Nat := if tkK L p = c then .inr (tkE L p) else .inl (flt L p 1)
/-- the number ahead (not passed), passed -/
def rIs (L : List Nat) (p lo hi : Nat) : PR Nat := if tkK L p = 2 then (if lo ≤ tkV L p ∧ tkV L p ≤ hi then .inr (tkV L p) else .inl (flt L p 2)) else .inl (flt L p 1)
def rNum (L : List Nat) (p lo hi : Nat) : PR (Nat × Nat) := pb (rIs L p lo hi) fun v => .inr (v, tkE L p)
/-- what failed reading leaves: w and the reader's own numbers may be other -/
def frX (a b : twS) : Prop := (∀ q, q ≠ 0 → b.1 q = a.1 q) ∧ ∀ k, (k < 16 ∨ 26 < k) → b.2 k = a.2 k
def frT (a b : twS) : Prop := b.1 = a.1 ∧ ∀ k, (k < 16 ∨ 21 < k) → b.2 k = a.2 k
theorem frX.rf {a : twS} : frX a a := ⟨fun _ _ => rfl, fun _ _ => rfl⟩
theorem frX.trans {a b c : twS} (h : frX a b) (h' : frX b c) : frX a c := ⟨fun q hq => (h'.1 q hq).trans (h.1 q hq), fun k hk => (h'.2 k hk).trans (h.2 k hk)⟩
theorem frT.rf {a : twS} : frT a a := ⟨rfl, fun _ _ => rfl⟩
theorem frT.trans {a b c : twS} (h : frT a b) (h' : frT b c) : frT a c := ⟨h'.1.trans h.1, fun k hk => (h'.2 k hk).trans (h.2 k hk)⟩
theorem fr4.t {a b : twS} (h : fr4 a b) : frT a b := ⟨h.1, fun k hk => h.2 k (by omega)⟩
theorem frT.x {a b : twS} (h : frT a b) : frX a b := ⟨fun q _ => by rw [h.1], fun k hk => h.2 k (by omega)⟩
theorem frT.i {a : twS} {k : Nat} {x : Int32} (hk : 16 ≤ k ∧ k ≤ 21) : frT a (twI a k x) := ⟨rfl, fun j hj => by show (if j = k then x else a.2 j) = _; rw [if_neg (by omega)]⟩
theorem frX.i {a : twS} {k : Nat} {x : Int32} (hk : 16 ≤ k ∧ k ≤ 26) : frX a (twI a k x) := ⟨fun _ _ => rfl, fun j hj => by show (if j = k then x else a.2 j) = _; rw [if_neg (by omega)]⟩
theorem frX.a {a : twS} {j : Nat} {x : Int32} : frX a (twA a 0 j x) := ⟨fun q hq => by simp [twA, hq], fun _ _ => rfl⟩
/-- what a reading method of the twin answers -/
def RR {α : Type} (σ : twS) (r : Option (Int32 × twS)) (x : PR α) (Q : α → twS → Prop) : Prop := match x with
  | .inl e => ∃ σ', frX σ σ' ∧ (σ'.2 20 = Int32.ofNat e ∧ 0 < e ∧ e < 10000) ∧ r = some (0, σ')
  | .inr a => ∃ σ', frX σ σ' ∧ Q a σ' ∧ r = some (1, σ')
theorem RR.fr {α : Type} {σ σ1 : twS} {r : Option (Int32 × twS)} {x : PR α} {Q : α → twS → Prop} (f : frX σ σ1) (h : RR σ1 r x Q) : RR σ r x Q := by
  cases x with
  | inl e => obtain ⟨σ', f', h1, h2⟩ := h; exact ⟨σ', f.trans f', h1, h2⟩
  | inr a => obtain ⟨σ', f', h1, h2⟩ := h; exact ⟨σ', f.trans f', h1, h2⟩
theorem RR.im {α : Type} {σ : twS} {r : Option (Int32 × twS)} {x : PR α} {Q Q2 : α → twS → Prop} (h : RR σ r x Q) (i : ∀ a σ', frX σ σ' → Q a σ' → Q2 a σ') : RR σ r x Q2 := by
  cases x with
  | inl e => exact h
  | inr a => obtain ⟨σ', f', h1, h2⟩ := h; exact ⟨σ', f', i a σ' f' h1, h2⟩
/-- one reading behind another -/
theorem RR.bn {α β : Type} {σ : twS} {r : Option (Int32 × twS)} {x : PR α} {Q : α → twS → Prop} {K : twS → Option (Int32 × twS)} {y : α → PR β} {Q2 : β → twS → Prop} (h : RR σ r x Q) (k : ∀ a σ', frX σ σ' → Q a σ' → RR σ' (K σ') (y a) Q2) : RR σ (bd r fun v σ_2 => if v = 0 then rz 0 σ_2 else K σ_2) (pb x y) Q2 := by
  cases x with
  | inl e =>
    obtain ⟨σ', f', h1, rfl⟩ := h
    exact ⟨σ', f', h1, rfl⟩
  | inr a =>
    obtain ⟨σ', f', h1, rfl⟩ := h
    exact RR.fr f' (k a σ' f' h1)
theorem PT.f4 {L : List Nat} {p : Nat} {a b : twS} (h : PT L p a) (f : ∀ k, 16 ≤ k → k ≤ 20 → b.2 k = a.2 k) (h8 : b.1 8 = a.1 8) (h10 : b.2 10 = a.2 10) : PT L p b := ⟨h.1.fr h8 h10, h.2.1, (f 16 (by decide) (by decide)).trans h.2.2.1, (f 17 (by decide) (by decide)).trans h.2.2.2.1, (f 18 (by decide) (by decide)).trans h.2.2.2.2.1, fun hk => (f 19 (by decide) (by decide)).trans (h.2.2.2.2.2.1 hk), (f 20 (by decide) (by decide)).trans h.2.2.2.2.2.2⟩
theorem PT.next {L : List Nat} {p : Nat} {σ : twS} (h : PT L p σ) : ∃ σ', fr4 σ σ' ∧ PT L (tkE L p) σ' ∧ mT_next σ = some (0, σ') := tw_next h.1 (tkE_le h.2.1).2 h.2.2.2.2.1 h.2.2.2.2.2.2
theorem PT.b {L : List Nat} {p : Nat} {σ : twS} (h : PT L p σ) : L.length ≤ 700 ∧ tkO L p ≤ L.length ∧ tkE L p ≤ L.length ∧ tkO L p ≤ tkE L p ∧ tkK L p ≤ 62 := ⟨h.1.1, (tkO_le h.2.1).2, (tkE_le h.2.1).2, (tkE_le h.2.1).1, tkK_lt L p⟩
theorem PT.v {L : List Nat} {p : Nat} {σ : twS} (h : PT L p σ) (hk : tkK L p = 2) : σ.2 19 = Int32.ofNat (tkV L p) ∧ tkV L p < 10000 := ⟨h.2.2.2.2.2.1 hk, tkV_lt hk⟩
theorem tw_fail {L : List Nat} {p c : Nat} {σ : twS} (h : PT L p σ) : ∃ σ', frT σ σ' ∧ σ'.2 20 = Int32.ofNat (flt L p c) ∧ mT_fail (Int32.ofNat c) σ = some (0, σ') := by
  refine ⟨twI σ 20 (Int32.ofNat (flt L p c)), frT.i (by decide), twI_k, ?_⟩
  unfold mT_fail
  rw [h.2.2.2.2.2.2, if_pos rfl, lt_J, h.2.2.2.1, J_mulR, J_add]
  rfl
/-- a failing branch -/
theorem RR.fail {α : Type} {L : List Nat} {p c : Nat} {σ : twS} {Q : α → twS → Prop} (h : PT L p σ) (hc : 0 < c ∧ c < 8 := by decide) : RR σ (bd (mT_fail (Int32.ofNat c) σ) fun v σ' => rz v σ') (.inl (flt L p c)) Q := by
  obtain ⟨σ', f, h1, h2⟩ := tw_fail (c := c) h
  exact ⟨σ', f.x, ⟨h1, by unfold flt; omega, by have := h.b; unfold flt; omega⟩, by rw [h2, bd_J, rz0]⟩
theorem getD_take {A : List Nat} {n i : Nat} (h : i < n) : (A.take n).getD i 0 = A.getD i 0 := by
  rw [List.getD_eq_getElem?_getD, List.getD_eq_getElem?_getD, List.getElem?_take_of_lt h]
theorem getD_drop {A : List Nat} {n i : Nat} : (A.drop n).getD i 0 = A.getD (n + i) 0 := by
  rw [List.getD_eq_getElem?_getD, List.getD_eq_getElem?_getD, List.getElem?_drop]
theorem wdN_len {L : List Nat} {p : Nat} (hp : p ≤ L.length) : (wdN L p).length = tkE L p - tkO L p := by
  have h1 := tkO_le hp
  have h2 := tkE_le hp
  unfold wdN
  rw [List.length_take, List.length_drop]
  omega
theorem wdN_at {L : List Nat} {p i : Nat} (h : i < tkE L p - tkO L p) : (wdN L p).getD i 0 = L.getD (tkO L p + i) 0 := by
  unfold wdN
  rw [getD_take h, getD_drop]
theorem list_eq {A B : List Nat} (hl : A.length = B.length) (h : ∀ i, i < A.length → A.getD i 0 = B.getD i 0) : A = B := by
  apply List.ext_getElem? 
  intro i
  rcases Nat.lt_or_ge i A.length with c | c
  · have h1 := h i c
    rw [List.getD_eq_getElem?_getD, List.getD_eq_getElem?_getD, List.getElem?_eq_getElem c, List.getElem?_eq_getElem (by omega)] at h1
    rw [List.getElem?_eq_getElem c, List.getElem?_eq_getElem (by omega)]
    exact congrArg some h1
  · rw [List.getElem?_eq_none c, List.getElem?_eq_none (by omega)]
theorem tw_says28 {L : List Nat} {p : Nat} {σ : twS} (h : PT L p σ) {t1 : List Int32} {s : List Nat} (ht : t1 = s.map Int32.ofNat) (hs : ∀ x, x ∈ s → x < 256) (hl : tkE L p - tkO L p = s.length) : ∀ j k f, k + j = s.length → j < f → (∀ i, i < k → (wdN L p).getD i 0 = s.getD i 0) → bT_says_28 t1 f (Int32.ofNat k) σ = some (b32 (decide (wdN L p = s)), σ) := by
  have hb := h.b
  have hlen : t1.length = s.length := by rw [ht]; simp
  intro j
  induction j with
  | zero =>
    intro k f hk hf hp
    obtain ⟨f, rfl⟩ : ∃ f', f = f' + 1 := ⟨f - 1, by omega⟩
    rw [bT_says_28]
    show (if Int32.ofNat t1.length ≤ Int32.ofNat k then _ else _) = _
    rw [iJ_le (by omega) (by omega), if_pos (by omega), decide_eq_true]
    · rfl
    · exact list_eq (by rw [wdN_len h.2.1, hl]) (fun i hi => hp i (by rw [wdN_len h.2.1] at hi; omega))
  | succ j ih =>
    intro k f hk hf hp
    obtain ⟨f, rfl⟩ : ∃ f', f = f' + 1 := ⟨f - 1, by omega⟩
    have hk2 : k < s.length := by omega
    have hsk : s.getD k 0 < 256 := by
      rw [List.getD_eq_getElem?_getD, List.getElem?_eq_getElem hk2]
      exact hs _ (List.getElem_mem hk2)
    have hck := h.1.c (show tkO L p + k < L.length by omega)
    rw [bT_says_28]
    show (if Int32.ofNat t1.length ≤ Int32.ofNat k then _ else _) = _
    rw [iJ_le (by omega) (by omega), if_neg (by omega), h.2.2.2.1, J_add, h.1.at (by omega)]
    unfold chA
    rw [if_neg (by
      rintro (q | q)
      · rw [J_nn (by omega)] at q; exact q
      · rw [J_cl (by omega), hlen] at q; omega), J_cl (by omega)]
    have e4 : t1.getD k 0 = Int32.ofNat (s.getD k 0) := by
      rw [ht, List.getD_eq_getElem?_getD, List.getD_eq_getElem?_getD, List.getElem?_map, List.getElem?_eq_getElem hk2]
      rfl
    have e5 : t1.getD k 0 &&& 255 = Int32.ofNat (s.getD k 0) := by
      rw [e4]
      show Int32.ofNat (s.getD k 0) &&& Int32.ofNat 255 = _
      rw [J_and, show s.getD k 0 &&& 255 = s.getD k 0 from by
        rw [show (255 : Nat) = 2 ^ 8 - 1 from rfl, Nat.and_two_pow_sub_one_eq_mod]
        exact Nat.mod_eq_of_lt hsk]
    rw [e5]
    show (if Int32.ofNat (L.getD (tkO L p + k) 0) = Int32.ofNat (s.getD k 0) then _ else _) = _
    rw [iJ_eq (by omega) (by omega)]
    have ew := wdN_at (L := L) (p := p) (i := k) (by omega)
    by_cases c : L.getD (tkO L p + k) 0 = s.getD k 0
    · rw [if_pos c, lt_J, J_addL]
      refine ih (k + 1) f (by omega) (by omega) fun i hi => ?_
      by_cases ci : i = k
      · rw [ci, ew, c]
      · exact hp i (by omega)
    · rw [if_neg c, decide_eq_false]
      · rfl
      · intro q
        rw [← ew, q] at c
        exact c rfl
theorem tw_says {L : List Nat} {p : Nat} {σ : twS} (h : PT L p σ) {t1 : List Int32} {s : List Nat} (ht : t1 = s.map Int32.ofNat) (hs : (∀ x, x ∈ s → x < 256) ∧ s.length < 100) : mT_says t1 σ = some (b32 (isW L p s), σ) := by
  have hb := h.b
  have hlen : t1.length = s.length := by rw [ht]; simp
  have hs2 := hs.2
  unfold mT_says isW
  rw [h.2.2.1, iJ_eqL (by omega) (by decide)]
  by_cases c : tkK L p = 1
  · rw [if_pos (show tkK L p = OfNat.ofNat 1 from c), h.2.2.2.1, h.2.2.2.2.1, J_sub (by omega)]
    show (if Int32.ofNat (tkE L p - tkO L p) = Int32.ofNat t1.length then _ else _) = _
    rw [iJ_eq (by omega) (by omega)]
    by_cases c2 : tkE L p - tkO L p = s.length
    · rw [if_pos (by omega), show decide (tkK L p = 1 ∧ wdN L p = s) = decide (wdN L p = s) from by simp [c]]
      exact tw_says28 h ht hs.1 c2 s.length 0 FU (by omega) (by show _ < 4096; omega) (fun i hi => by omega)
    · rw [if_neg (by omega), decide_eq_false]
      · rfl
      · rintro ⟨-, q⟩
        apply c2
        rw [← wdN_len h.2.1, q]
  · rw [if_neg (show ¬ tkK L p = OfNat.ofNat 1 from c), decide_eq_false (fun q => c q.1)]
    rfl
theorem says1 {L : List Nat} {p : Nat} {σ : twS} (h : PT L p σ) {t1 : List Int32} {s : List Nat} (ht : t1 = s.map Int32.ofNat := by rfl) (hs : (∀ x, x ∈ s → x < 256) ∧ s.length < 100 := by decide) : mT_says t1 σ = some (b32 (isW L p s), σ) := tw_says h ht hs
theorem tw_word {L : List Nat} {p : Nat} {σ : twS} (h : PT L p σ) {t1 : List Int32} {s : List Nat} (ht : t1 = s.map Int32.ofNat := by rfl) (hs : (∀ x, x ∈ s → x < 256) ∧ s.length < 100 := by decide) : RR σ (mT_word t1 σ) (rWord L p s) fun p' σ' => fr4 σ σ' ∧ PT L p' σ' := by
  unfold mT_word rWord
  rw [tw_says h ht hs, bd_J, ite_pq (b32_0 _)]
  cases isW L p s
  · rw [if_pos rfl]
    exact RR.fail h
  · rw [if_neg (by decide)]
    obtain ⟨σ', f, h1, e⟩ := h.next
    refine ⟨σ', f.t.x, ⟨f, h1⟩, ?_⟩
    rw [e]
    rfl
theorem tw_sign {L : List Nat} {p c : Nat} {σ : twS} (h : PT L p σ) (hc : c < 100) : RR σ (mT_sign (Int32.ofNat c) σ) (rSign L p c) fun p' σ' => fr4 σ σ' ∧ PT L p' σ' := by
  have hb := h.b
  unfold mT_sign rSign
  rw [h.2.2.1, iJ_eq (by omega) (by omega)]
  by_cases q : tkK L p = c
  · rw [if_pos q, if_pos q]
    obtain ⟨σ', f, h1, e⟩ := h.next
    refine ⟨σ', f.t.x, ⟨f, h1⟩, ?_⟩
    rw [e]
    rfl
  · rw [if_neg q, if_neg q]
    exact RR.fail h
theorem tw_inN {v lo hi : Nat} {σ : twS} (hv : v < 2147483648) (hlo : lo < 2147483648) (hhi : hi < 2147483648) : mT_in (Int32.ofNat v) (Int32.ofNat lo) (Int32.ofNat hi) σ = some (b32 (decide (lo ≤ v ∧ v ≤ hi)), σ) := by
  unfold mT_in
  rw [iJ_lt hv hlo, iJ_lt hhi hv]
  by_cases c1 : v < lo
  · rw [if_pos c1, decide_eq_false (by omega)]; rfl
  · rw [if_neg c1]
    by_cases c2 : hi < v
    · rw [if_pos c2, decide_eq_false (by omega)]; rfl
    · rw [if_neg c2, decide_eq_true (by omega)]; rfl
theorem tw_isNumber {L : List Nat} {p lo hi : Nat} {σ : twS} (h : PT L p σ) (hlo : lo < 2147483648) (hhi : hi < 2147483648) : RR σ (mT_isNumber (Int32.ofNat lo) (Int32.ofNat hi) σ) (rIs L p lo hi) fun v σ' => frT σ σ' ∧ PT L p σ' ∧ tkK L p = 2 ∧ v = tkV L p ∧ (lo ≤ v ∧ v ≤ hi) ∧ σ'.2 21 = Int32.ofNat v := by
  have hb := h.b
  unfold mT_isNumber rIs
  rw [h.2.2.1, iJ_eqL (by omega) (by decide)]
  by_cases c : tkK L p = 2
  · obtain ⟨hv, hv2⟩ := h.v c
    rw [if_pos (show tkK L p = OfNat.ofNat 2 from c), if_pos c, hv, tw_inN (by omega) hlo hhi, bd_J, ite_pq (b32_0 _)]
    by_cases q : lo ≤ tkV L p ∧ tkV L p ≤ hi
    · rw [decide_eq_true q, if_neg (by decide), if_pos q, lt_J, hv]
      have f1 : frT σ (twI σ 21 (Int32.ofNat (tkV L p))) := frT.i (by decide)
      exact ⟨_, f1.x, ⟨f1, h.f4 (fun k _ hk => twI_n (by omega)) rfl rfl, c, rfl, q, twI_k⟩, rfl⟩
    · rw [decide_eq_false q, if_pos rfl, if_neg q]
      exact RR.fail h
  · rw [if_neg (show ¬ tkK L p = OfNat.ofNat 2 from c), if_neg c]
    exact RR.fail h
theorem tw_number {L : List Nat} {p lo hi : Nat} {σ : twS} (h : PT L p σ) (hlo : lo < 2147483648) (hhi : hi < 2147483648) : RR σ (mT_number (Int32.ofNat lo) (Int32.ofNat hi) σ) (rNum L p lo hi) fun a σ' => frT σ σ' ∧ PT L a.2 σ' ∧ (lo ≤ a.1 ∧ a.1 ≤ hi) ∧ a.1 < 10000 ∧ σ'.2 21 = Int32.ofNat a.1 := by
  unfold mT_number rNum
  refine (tw_isNumber h hlo hhi).bn fun v σ1 f1 q => ?_
  obtain ⟨g1, g2, g3, g4, g5, g6⟩ := q
  obtain ⟨σ2, f2, h2, e2⟩ := g2.next
  have hv := (h.v g3).2
  refine ⟨σ2, f2.t.x, ⟨g1.trans f2.t, h2, g5, by show v < 10000; omega, by rw [f2.2 21 (by decide)]; exact g6⟩, ?_⟩
  rw [e2]
  rfl
