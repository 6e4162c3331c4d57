/-! THE PLAIN LAW: what is asked of the twin over all cases -/
set_option maxRecDepth 100000
theorem tw_ald {β : Type} {d : Nat → Nat} {σ : twS} {i : Nat} {K : Int32 → Option β} (hT : TW d σ) (hi : i < 358) : ald σ 0 358 (Int32.ofNat i) K = K (Int32.ofNat (d i)) := by rw [ald_J hi (by decide), hT i hi]
theorem tw_aldL {β : Type} {d : Nat → Nat} {σ : twS} {i : Nat} {K : Int32 → Option β} (hT : TW d σ) (hi : i < 358) : ald σ 0 358 (OfNat.ofNat i) K = K (Int32.ofNat (d (OfNat.ofNat i))) := tw_ald hT hi
theorem J_addL {a b : Nat} : Int32.ofNat a + OfNat.ofNat b = Int32.ofNat (a + OfNat.ofNat b) := J_add a b
theorem J_addR {a b : Nat} : (OfNat.ofNat a : Int32) + Int32.ofNat b = Int32.ofNat (OfNat.ofNat a + b) := J_add a b
theorem J_mulL {a b : Nat} : Int32.ofNat a * OfNat.ofNat b = Int32.ofNat (a * OfNat.ofNat b) := J_mul a b
theorem J_mulR {a b : Nat} : (OfNat.ofNat a : Int32) * Int32.ofNat b = Int32.ofNat (OfNat.ofNat a * b) := J_mul a b
theorem J_subL {a b : Nat} (h : OfNat.ofNat b ≤ a) : Int32.ofNat a - OfNat.ofNat b = Int32.ofNat (a - OfNat.ofNat b) := J_sub h
theorem J_divL {a b : Nat} (ha : a < 2147483648) (hb : b < 2147483648) : Int32.ofNat a / OfNat.ofNat b = Int32.ofNat (a / OfNat.ofNat b) := J_div ha hb
theorem J_orL {a b : Nat} : Int32.ofNat a ||| OfNat.ofNat b = Int32.ofNat (a ||| OfNat.ofNat b) := J_or a b
theorem iJ_eqL {α : Type} {a b : Nat} (ha : a < 2147483648) (hb : b < 2147483648) {x y : α} : (if Int32.ofNat a = OfNat.ofNat b then x else y) = if a = OfNat.ofNat b then x else y := iJ_eq ha hb
theorem iJ_leL {α : Type} {a b : Nat} (ha : a < 2147483648) (hb : b < 2147483648) {x y : α} : (if Int32.ofNat a ≤ OfNat.ofNat b then x else y) = if a ≤ OfNat.ofNat b then x else y := iJ_le ha hb
theorem iJ_leR {α : Type} {a b : Nat} (ha : a < 2147483648) (hb : b < 2147483648) {x y : α} : (if (OfNat.ofNat a : Int32) ≤ Int32.ofNat b then x else y) = if OfNat.ofNat a ≤ b then x else y := iJ_le ha hb
theorem iJ_ltL {α : Type} {a b : Nat} (ha : a < 2147483648) (hb : b < 2147483648) {x y : α} : (if Int32.ofNat a < OfNat.ofNat b then x else y) = if a < OfNat.ofNat b then x else y := iJ_lt ha hb
theorem iJ_ltR {α : Type} {a b : Nat} (ha : a < 2147483648) (hb : b < 2147483648) {x y : α} : (if (OfNat.ofNat a : Int32) < Int32.ofNat b then x else y) = if OfNat.ofNat a < b then x else y := iJ_lt ha hb
theorem aldL {β : Type} {σ : twS} {k n j : Nat} {K : Int32 → Option β} (hj : j < n) (hn : n < 2147483648) : ald σ k n (OfNat.ofNat j) K = K (σ.1 k (OfNat.ofNat j)) := ald_J hj hn
theorem astL {β : Type} {σ : twS} {k n j : Nat} {x : Int32} {K : twS → Option β} (hj : j < n) (hn : n < 2147483648) : ast σ k n (OfNat.ofNat j) x K = K (twA σ k (OfNat.ofNat j) x) := ast_J hj hn
/-- the sets that are laid out -/
def AP (d : Nat → Nat) (t : Nat → Term) (σ : twS) : Prop := ∀ n, n < casesN d → σ.1 15 n = Int32.ofNat (setN d t n)
theorem setN_lt {d : Nat → Nat} {t : Nat → Term} {n : Nat} : setN d t n < 2 ^ d 17 := setF_lt _
theorem WOk.sh {d : Nat → Nat} {t : Nat → Term} (h : WOk d t) {r k : Nat} (hr : r < d 17) (hk : k < 4) : d (47 + 34 * r + k) ≤ 27720 := (h.2.2.2.2.2.2.2 r hr).2.1 k hk
theorem WOk.ov {d : Nat → Nat} {t : Nat → Term} (h : WOk d t) {r : Nat} (hr : r < d 17) : d (51 + 34 * r) < 1024 := Nat.lt_of_lt_of_le (h.2.2.2.2.2.2.2 r hr).2.2.2 (pow10 h.2.2.2.2.2.2.1)
theorem WOk.r {d : Nat → Nat} {t : Nat → Term} (h : WOk d t) : d 17 ≤ 10 := h.2.2.2.2.2.2.1
theorem tw_setsOut {d : Nat → Nat} {t : Nat → Term} {σ : twS} (hT : TW d σ) (hW : WOk d t) : ∃ σ', fr15 σ σ' ∧ AP d t σ' ∧ mT_setsOut σ = some (0, σ') := by
  have hC := casesN_le hW.1
  have h17 := hW.r
  have hR := hW.2.2.2.2.2.2.2
  -- the rules of one case
  have inner : ∀ (B : Nat → Nat → twS → Option (Int32 × twS)) (n : Nat), n < casesN d → ∀ j k f σ, TW d σ → k + j = d 17 → j < f → σ.1 15 n = Int32.ofNat (setF d t n k) → ∃ σ', fr15 σ σ' ∧ (∀ i, i ≠ n → σ'.1 15 i = σ.1 15 i) ∧ σ'.1 15 n = Int32.ofNat (setN d t n) ∧ ∀ (K : Int32 → Int32 → twS → Option (Int32 × twS)), bT_setsOut_21 K f (Int32.ofNat (casesN d)) (Int32.ofNat n) (Int32.ofNat k) σ = K (Int32.ofNat (casesN d)) (Int32.ofNat (n + 1)) σ' := by
    intro _ n hn j
    induction j with
    | zero =>
      intro k f σ hT hk hf hs
      obtain ⟨f, rfl⟩ : ∃ f', f = f' + 1 := ⟨f - 1, by omega⟩
      refine ⟨σ, fr15.rf, fun _ _ => rfl, by rw [hs, show k = d 17 by omega]; rfl, fun K => ?_⟩
      rw [bT_setsOut_21, tw_aldL hT (by decide), iJ_le (by omega) (by omega), if_pos (by omega), lt_J, J_addL]
    | succ j ih =>
      intro k f σ hT hk hf hs
      obtain ⟨f, rfl⟩ : ∃ f', f = f' + 1 := ⟨f - 1, by omega⟩
      obtain ⟨σ1, f1, e1⟩ := tw_holds hT hW.1 (r := k) (n := n) (by omega) (by omega) (hR k (by omega)).1
      have hs1 : σ1.1 15 n = Int32.ofNat (setF d t n k) := by rw [f1.1 15 (by decide)]; exact hs
      obtain ⟨σ2, f2, k2, v2, e2⟩ := ih (k + 1) f (twA σ1 15 n (Int32.ofNat (setF d t n (k + 1)))) (fr15.st.tw (f1.tw hT)) (by omega) (by omega) (by rw [twA_at, if_pos rfl])
      refine ⟨σ2, f1.to.trans (fr15.st.trans f2), fun i hi => by rw [k2 i hi, twA_at, if_neg hi, f1.1 15 (by decide)], v2, fun K => ?_⟩
      rw [bT_setsOut_21, tw_aldL hT (by decide), iJ_le (by omega) (by omega), if_neg (by omega), ald_J (by omega) (by decide), hs, e1, bd_J]
      have e : setF d t n (k + 1) = setF d t n k ||| (if holdsB d t k n then 2 ^ k else 0) := rfl
      simp only [b32_0]
      by_cases c : holdsB d t k n = false
      · rw [if_pos c, bT_setsOut_55, ast_J (by omega) (by decide), J_orL, lt_J, J_addL, ← e2 K, e, c]
        rfl
      · have c' : holdsB d t k n = true := by simpa using c
        rw [if_neg c, bT_setsOut_55, J_shl k (by omega), ast_J (by omega) (by decide), J_or, lt_J, J_addL, ← e2 K, e, c']
        rfl
  have outer : ∀ j n f σ, TW d σ → n + j = casesN d → j < f → (∀ i, i < n → σ.1 15 i = Int32.ofNat (setN d t i)) → ∃ σ', fr15 σ σ' ∧ AP d t σ' ∧ bT_setsOut_7 f (Int32.ofNat (casesN d)) (Int32.ofNat n) σ = some (0, σ') := by
    intro j
    induction j with
    | zero =>
      intro n f σ hT hn hf hA
      obtain ⟨f, rfl⟩ : ∃ f', f = f' + 1 := ⟨f - 1, by omega⟩
      refine ⟨σ, fr15.rf, fun i hi => hA i (by omega), ?_⟩
      rw [bT_setsOut_7, iJ_le (by omega) (by omega), if_pos (by omega)]
    | succ j ih =>
      intro n f σ hT hn hf hA
      obtain ⟨f, rfl⟩ : ∃ f', f = f' + 1 := ⟨f - 1, by omega⟩
      obtain ⟨σ1, f1, k1, v1, e1⟩ := inner (fun _ _ _ => none) n (by omega) (d 17) 0 FU (twA σ 15 n 0) (fr15.st.tw hT) (by omega) (by show d 17 < 4096; omega) (by rw [twA_at, if_pos rfl]; rfl)
      obtain ⟨σ2, f2, a2, e2⟩ := ih (n + 1) f σ1 (f1.tw (fr15.st.tw hT)) (by omega) (by omega) (fun i hi => by
        by_cases c : i = n
        · rw [c]; exact v1
        · rw [k1 i c, twA_at, if_neg c]; exact hA i (by omega))
      refine ⟨σ2, fr15.st.trans (f1.trans f2), a2, ?_⟩
      rw [bT_setsOut_7, iJ_le (by omega) (by omega), if_neg (by omega), ast_J (by omega) (by decide)]
      exact (e1 _).trans e2
  obtain ⟨σ', f', a', e'⟩ := outer (casesN d) 0 FU σ hT (by omega) (by show casesN d < 4096; omega) (fun i hi => by omega)
  refine ⟨σ', f', a', ?_⟩
  unfold mT_setsOut
  rw [tw_cases hT hW.1, bd_J]
  exact e'
/-- how many below n -/
def cntN (p : Nat → Bool) : Nat → Nat
  | 0 => 0
  | k + 1 => cntN p k + (if p k then 1 else 0)
theorem cntN_le (p : Nat → Bool) : ∀ n, cntN p n ≤ n := by
  intro n
  induction n with
  | zero => exact Nat.le_refl _
  | succ n ih =>
    show cntN p n + _ ≤ n + 1
    split <;> omega
/-- a set without a rule -/
def butN (m : Nat) : Option Nat → Nat
  | none => m
  | some r => andn m (2 ^ r)
theorem butN_lt {m k : Nat} {o : Option Nat} (h : m < 2 ^ k) : butN m o < 2 ^ k := by
  cases o with
  | none => exact h
  | some r => exact Nat.lt_of_le_of_lt (andn_le m _) h
def manyN (d : Nat → Nat) (t : Nat → Term) (v : Nat) (but : Option Nat) : Nat := cntN (fun n => decide (verdN d (butN (setN d t n) but) = v)) (casesN d)
theorem manyN_le {d : Nat → Nat} {t : Nat → Term} (h : FOk d) (v : Nat) (but : Option Nat) : manyN d t v but ≤ 256 := Nat.le_trans (cntN_le _ _) (casesN_le h).2
theorem tw_many {d : Nat → Nat} {t : Nat → Term} {σ : twS} (hT : TW d σ) (hW : WOk d t) (hA : AP d t σ) {v : Nat} (hv : v ≤ 3) {but : Option Nat} (hb : ∀ r, but = some r → r < 10) : mT_many (Int32.ofNat v) (o32 but) σ = some (Int32.ofNat (manyN d t v but), σ) := by
  have hC := casesN_le hW.1
  have hp := pow10 hW.r
  unfold mT_many
  rw [tw_cases hT hW.1, bd_J]
  refine loop_FU (fun g k => bT_many_11 g (Int32.ofNat v) (o32 but) (Int32.ofNat (cntN (fun n => decide (verdN d (butN (setN d t n) but) = v)) k)) (Int32.ofNat (casesN d)) (Int32.ofNat k) σ) (fun _ => some (Int32.ofNat (manyN d t v but), σ)) (casesN d) (by omega) (fun g k hk ih => ?_) (fun g => ?_)
  · show bT_many_11 (g + 1) _ _ _ _ _ _ = _
    have hs := setN_lt (d := d) (t := t) (n := k)
    have hs2 := butN_lt (o := but) hs
    have hv2 := verdN_le d (butN (setN d t k) but)
    have e : cntN (fun n => decide (verdN d (butN (setN d t n) but) = v)) (k + 1) = cntN (fun n => decide (verdN d (butN (setN d t n) but) = v)) k + (if decide (verdN d (butN (setN d t k) but) = v) then 1 else 0) := rfl
    rw [e] at ih
    have last : ∀ (x : Nat), x = butN (setN d t k) but → bT_many_46 (bT_many_11 g) (Int32.ofNat v) (o32 but) (Int32.ofNat (cntN (fun n => decide (verdN d (butN (setN d t n) but) = v)) k)) (Int32.ofNat (casesN d)) (Int32.ofNat k) (Int32.ofNat x) σ = some (Int32.ofNat (manyN d t v but), σ) := by
      intro x hx
      subst hx
      rw [bT_many_46, tw_verdictOf hT hW hs2, bd_J, iJ_eq (by omega) (by omega)]
      by_cases c : verdN d (butN (setN d t k) but) = v
      · rw [if_pos c, lt_J, lt_J, J_addL, J_addL]
        rw [decide_eq_true c] at ih
        exact ih
      · rw [if_neg c, lt_J, lt_J, J_addL, J_addL]
        rw [decide_eq_false c] at ih
        exact ih
    rw [bT_many_11, iJ_le (by omega) (by omega), if_neg (by omega), iJ_m1 (fun r hr => by have := hb r hr; omega)]
    cases but with
    | none =>
      rw [if_pos rfl, ald_J (by omega) (by decide), hA k hk]
      exact last _ rfl
    | some r =>
      have h10 := hb r rfl
      rw [if_neg (by simp), ald_J (by omega) (by decide), hA k hk]
      show bT_many_46 _ _ _ _ _ _ (Int32.ofNat (setN d t k) &&& ((1 <<< (Int32.ofNat r &&& 31)) ^^^ (-1))) σ = _
      rw [J_shl r (by omega), J_andn (by omega)]
      exact last _ rfl
  · show bT_many_11 (g + 1) _ _ _ _ _ _ = _
    rw [bT_many_11, iJ_le (by omega) (by omega), if_pos (Nat.le_refl _)]
    rfl
def gapsN (d : Nat → Nat) (t : Nat → Term) (but : Option Nat) : Nat := manyN d t 1 but + manyN d t 2 but
theorem tw_gaps {d : Nat → Nat} {t : Nat → Term} {σ : twS} (hT : TW d σ) (hW : WOk d t) (hA : AP d t σ) {but : Option Nat} (hb : ∀ r, but = some r → r < 10) : mT_gaps (o32 but) σ = some (Int32.ofNat (gapsN d t but), σ) := by
  unfold mT_gaps
  rw [show (1 : Int32) = Int32.ofNat 1 from rfl, show (2 : Int32) = Int32.ofNat 2 from rfl, tw_many hT hW hA (by decide) hb, bd_J, tw_many hT hW hA (by decide) hb, bd_J, J_add]
  rfl
