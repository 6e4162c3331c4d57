/-! THE PLAIN LAW: the twin's checks; more questions -/
set_option maxRecDepth 100000
/-- what a question may change: the stack, the sets, 'thrown' -/
def frP (σ σ' : twS) : Prop := (∀ q, q ≠ 14 → q ≠ 15 → σ'.1 q = σ.1 q) ∧ ∀ k, k ≠ 13 → σ'.2 k = σ.2 k
theorem fr15.p {a b : twS} (h : fr15 a b) : frP a b := ⟨h.1, fun k _ => by rw [h.2]⟩
theorem frP.rf {σ : twS} : frP σ σ := fr15.rf.p
theorem frP.trans {a b c : twS} (h : frP a b) (h' : frP b c) : frP a c := ⟨fun q h1 h2 => (h'.1 q h1 h2).trans (h.1 q h1 h2), fun k hk => (h'.2 k hk).trans (h.2 k hk)⟩
theorem frP.tw {d : Nat → Nat} {a b : twS} (h : frP a b) (ht : TW d a) : TW d b := fun i hi => by rw [h.1 0 (by decide) (by decide)]; exact ht i hi
theorem frP.th {σ : twS} {x : Int32} : frP σ (twI σ 13 x) := ⟨fun _ _ _ => rfl, fun k hk => by simp [twI, hk]⟩
theorem twI_at {σ : twS} {k i : Nat} {x : Int32} : (twI σ k x).2 i = if i = k then x else σ.2 i := rfl
theorem twI_tw {d : Nat → Nat} {σ : twS} {k : Nat} {x : Int32} (h : TW d σ) : TW d (twI σ k x) := h
/-- a number of the script lies in [0, n) -/
def inB (x : Int32) (n : Nat) : Bool := decide (0 ≤ x.toInt ∧ x.toInt < n)
theorem inB_of {x : Int32} {n : Nat} (h : inB x n = true) : ∃ k, k < n ∧ x = Int32.ofNat k := by
  have h := of_decide_eq_true h
  refine ⟨x.toInt.toNat, by omega, ?_⟩
  apply Int32.toInt_inj.mp
  have hx := Int32.toInt_lt x
  have : x.toInt.toNat < 2147483648 := by omega
  rw [J_int this]
  omega
theorem tw_inI {x hi : Int32} {n : Nat} {σ : twS} (h : hi.toInt = (n : Int) - 1) : mT_in x 0 hi σ = some (b32 (inB x n), σ) := by
  unfold mT_in inB
  by_cases c1 : x < 0
  · rw [if_pos c1]
    have := Int32.lt_iff_toInt_lt.mp c1
    have h0 : (0 : Int32).toInt = 0 := rfl
    rw [decide_eq_false (by omega)]
    rfl
  · rw [if_neg c1]
    have c1' : 0 ≤ x.toInt := by
      have h0 : (0 : Int32).toInt = 0 := rfl
      have : ¬ x.toInt < (0 : Int32).toInt := fun q => c1 (Int32.lt_iff_toInt_lt.mpr q)
      omega
    by_cases c2 : hi < x
    · rw [if_pos c2]
      have := Int32.lt_iff_toInt_lt.mp c2
      rw [decide_eq_false (by omega)]
      rfl
    · rw [if_neg c2]
      have : ¬ hi.toInt < x.toInt := fun q => c2 (Int32.lt_iff_toInt_lt.mpr q)
      rw [decide_eq_true (by omega)]
      rfl
theorem J_pre {n : Nat} (h : n < 2147483648) : (Int32.ofNat n - 1).toInt = (n : Int) - 1 := by
  have := J_subI (a := n) (b := 1) h (by decide)
  exact this
theorem tw_isRule {d : Nat → Nat} {σ : twS} (hT : TW d σ) (h : d 17 < 2147483648) (x : Int32) : mT_isRule x σ = some (b32 (inB x (d 17)), σ) := by
  unfold mT_isRule
  rw [tw_aldL hT (by decide), tw_inI (J_pre h), bd_J, rz_b]
theorem tw_isHeir {d : Nat → Nat} {σ : twS} (hT : TW d σ) (h : d 5 < 2147483648) (x : Int32) : mT_isHeir x σ = some (b32 (inB x (d 5)), σ) := by
  unfold mT_isHeir
  rw [tw_aldL hT (by decide), tw_inI (J_pre h), bd_J, rz_b]
theorem tw_isFact {d : Nat → Nat} {σ : twS} (hT : TW d σ) (h : d 0 < 2147483648) (x : Int32) : mT_isFact x σ = some (b32 (inB x (d 0)), σ) := by
  unfold mT_isFact
  rw [tw_aldL hT (by decide), tw_inI (J_pre h), bd_J, rz_b]
theorem tw_isCase {d : Nat → Nat} {σ : twS} (hT : TW d σ) (hF : FOk d) (x : Int32) : mT_isCase x σ = some (b32 (inB x (casesN d)), σ) := by
  have hC := casesN_le hF
  unfold mT_isCase
  rw [tw_cases hT hF, bd_J, tw_inI (J_pre (by omega)), bd_J, rz_b]
theorem tw_th1 {b : Bool} {σ : twS} : mT_throwsOne (b32 b) σ = some (b32 b, twI σ 13 (b32 b)) := by cases b <;> rfl
/-- which of two, of three -/
def th2 (a b : Bool) : Nat := if a then 1 else if b then 2 else 0
def th3 (a b c : Bool) : Nat := if a then 1 else if b then 2 else if c then 3 else 0
theorem tw_th2 {a b : Bool} {σ : twS} : mT_throwsOne_2 (b32 a) (b32 b) σ = some (b32 (a || b), twI σ 13 (Int32.ofNat (th2 a b))) := by cases a <;> cases b <;> rfl
theorem tw_th3 {a b c : Bool} {σ : twS} : mT_throwsOne_3 (b32 a) (b32 b) (b32 c) σ = some (b32 (a || b || c), twI σ 13 (Int32.ofNat (th3 a b c))) := by cases a <;> cases b <;> cases c <;> rfl
/-- how many comparisons -/
theorem gFl_cnt {d : Nat → Nat} : ∀ t, gOk d t → (gFl t).countP (fun s => decide (4 ≤ s)) = gLv t := by
  intro t
  induction t with
  | arg s =>
    intro h
    have h1 : 10 ≤ s := h.1
    simp [gFl, gLv]
    omega
  | null => intro _; rfl
  | length t ih =>
    intro h
    show (gFl t ++ [1]).countP _ = gLv t
    rw [List.countP_append, ih h]
    rfl
  | mul a b iha ihb =>
    intro h
    show (gFl a ++ (gFl b ++ [2])).countP _ = gLv a + gLv b
    rw [List.countP_append, List.countP_append, iha h.1, ihb h.2]
    rfl
  | add a b iha ihb =>
    intro h
    show (gFl a ++ (gFl b ++ [3])).countP _ = gLv a + gLv b
    rw [List.countP_append, List.countP_append, iha h.1, ihb h.2]
    rfl
  | _ => intro h; exact h.elim
theorem gFl_lt {d : Nat → Nat} (hF : FOk d) : ∀ t, gOk d t → ∀ x, x ∈ gFl t → x < 74 := by
  have h4 := hF.1
  intro t
  induction t with
  | arg s =>
    intro h x hx
    have h1 : sOk d s := h
    obtain ⟨q1, q2, -, -⟩ := h1
    have : x = s := by simpa [gFl] using hx
    omega
  | null =>
    intro _ x hx
    have : x = 4 := by simpa [gFl] using hx
    omega
  | length t ih =>
    intro h x hx
    rcases List.mem_append.mp (show x ∈ gFl t ++ [1] from hx) with h1 | h1
    · exact ih h x h1
    · have := List.mem_singleton.mp h1; omega
  | mul a b iha ihb =>
    intro h x hx
    rcases List.mem_append.mp (show x ∈ gFl a ++ (gFl b ++ [2]) from hx) with h1 | h1
    · exact iha h.1 x h1
    · rcases List.mem_append.mp h1 with h1 | h1
      · exact ihb h.2 x h1
      · have := List.mem_singleton.mp h1; omega
  | add a b iha ihb =>
    intro h x hx
    rcases List.mem_append.mp (show x ∈ gFl a ++ (gFl b ++ [3]) from hx) with h1 | h1
    · exact iha h.1 x h1
    · rcases List.mem_append.mp h1 with h1 | h1
      · exact ihb h.2 x h1
      · have := List.mem_singleton.mp h1; omega
  | _ => intro h; exact h.elim
theorem GT.lt {d : Nat → Nat} {t : Nat → Term} (hF : FOk d) {r i : Nat} (h : GT d t r) (hi : i < (gFl (t r)).length) : d (19 + 34 * r + i) < 74 := by
  rw [h.2.2 i hi]
  simp only [List.getD_eq_getElem?_getD]
  rw [List.getElem?_eq_getElem hi]
  exact gFl_lt hF _ h.1.1 _ (List.getElem_mem hi)
theorem tw_comparisons {d : Nat → Nat} {t : Nat → Term} {σ : twS} (hT : TW d σ) (hW : WOk d t) {r : Nat} (hr : r < d 17) : mT_comparisons (Int32.ofNat r) σ = some (Int32.ofNat (gLv (t r)), σ) := by
  have h17 := hW.r
  obtain ⟨⟨g1, g2, g3⟩, g4, g5⟩ := (hW.2.2.2.2.2.2.2 r hr).1
  have hlen := gFl_len (t r) g1
  unfold mT_comparisons
  refine loop_FU (fun g k => bT_comparisons_4 g (Int32.ofNat r) (Int32.ofNat (((gFl (t r)).take k).countP (fun s => decide (4 ≤ s)))) (Int32.ofNat k) σ) (fun _ => some (Int32.ofNat (gLv (t r)), σ)) (gFl (t r)).length (by omega) (fun g k hk ih => ?_) (fun g => ?_)
  · show bT_comparisons_4 (g + 1) _ _ _ _ = _
    have hs := g5 k hk
    have e : ((gFl (t r)).take (k + 1)).countP (fun s => decide (4 ≤ s)) = ((gFl (t r)).take k).countP (fun s => decide (4 ≤ s)) + (if 4 ≤ d (19 + 34 * r + k) then 1 else 0) := by
      rw [List.take_add_one, List.countP_append, hs]
      simp only [List.getD_eq_getElem?_getD]
      rw [List.getElem?_eq_getElem hk]
      simp [List.countP_cons]
    rw [e] at ih
    have hd : d (19 + 34 * r + k) < 2147483648 := by
      have := GT.lt hW.1 (hW.2.2.2.2.2.2.2 r hr).1 hk
      omega
    rw [bT_comparisons_4, show (0 : Int32) = Int32.ofNat 0 from rfl, tw_of hT (by omega), bd_J, Nat.add_zero, g4, iJ_le (by omega) (by omega), if_neg (by omega), J_addR, tw_of hT (by omega), bd_J, show 18 + 34 * r + (1 + k) = 19 + 34 * r + k by omega, iJ_ltL hd (by decide)]
    by_cases c : d (19 + 34 * r + k) < 4
    · rw [if_neg (by omega)] at ih
      rw [if_pos c, lt_J, J_add, lt_J, J_addL]
      exact ih
    · rw [if_pos (by omega)] at ih
      rw [if_neg c, lt_J, J_addL, lt_J, J_addL]
      exact ih
  · show bT_comparisons_4 (g + 1) _ _ _ _ = _
    rw [bT_comparisons_4, show (0 : Int32) = Int32.ofNat 0 from rfl, tw_of hT (by omega), bd_J, Nat.add_zero, g4, iJ_le (by omega) (by omega), if_pos (Nat.le_refl _), List.take_length, gFl_cnt (t r) g1]
