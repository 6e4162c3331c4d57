/-! THE PLAIN LAW: the twin's questions over all cases, the last -/
set_option maxRecDepth 100000
def upN (d : Nat → Nat) (i v : Nat) : Nat → Nat := fun j => if j = i then v else d j
theorem upN_at {d : Nat → Nat} {i v : Nat} : upN d i v i = v := by simp [upN]
theorem upN_ne {d : Nat → Nat} {i v j : Nat} (h : j ≠ i) : upN d i v j = d j := by simp [upN, h]
theorem TW.st {d : Nat → Nat} {σ : twS} (h : TW d σ) {i v : Nat} : TW (upN d i v) (twA σ 0 i (Int32.ofNat v)) := by
  intro j hj
  rw [twA_at]
  by_cases c : j = i
  · rw [if_pos c, c, upN_at]
  · rw [if_neg c, upN_ne c]
    exact h j hj
theorem prodN_cg {d d' : Nat → Nat} : ∀ k, k ≤ 4 → (∀ i, i < 5 → d' i = d i) → prodN d' k = prodN d k := by
  intro k
  induction k with
  | zero => intro _ _; rfl
  | succ k ih =>
    intro hk h
    show prodN d' k * d' (1 + k) = prodN d k * d (1 + k)
    rw [ih (by omega) h, h _ (by omega)]
theorem divN_cg {d d' : Nat → Nat} {n : Nat} : ∀ k, k ≤ 4 → (∀ i, i < 5 → d' i = d i) → divN d' n k = divN d n k := by
  intro k
  induction k with
  | zero => intro _ _; rfl
  | succ k ih =>
    intro hk h
    show divN d' n k / d' (1 + k) = divN d n k / d (1 + k)
    rw [ih (by omega) h, h _ (by omega)]
theorem valueN_cg {d d' : Nat → Nat} {n k : Nat} (hk : k < 4) (h : ∀ i, i < 5 → d' i = d i) : valueN d' n k = valueN d n k := by
  unfold valueN
  rw [divN_cg k (by omega) h, h _ (by omega)]
theorem gV_cg {d d' : Nat → Nat} {n : Nat} (h : ∀ i, i < 5 → d' i = d i) (h4 : d 0 ≤ 4) : ∀ t, gOk d t → gV d' n t = gV d n t := by
  intro t
  induction t with
  | arg s =>
    intro hg
    have hs : sOk d s := hg
    show cmpN d' s n = cmpN d s n
    unfold cmpN
    rw [valueN_cg (by have := hs.2.1; omega) h]
  | null => intro _; rfl
  | length t ih => intro hg; show 1 - gV d' n t = 1 - gV d n t; rw [ih hg]
  | mul a b iha ihb => intro hg; show gV d' n a * gV d' n b = gV d n a * gV d n b; rw [iha hg.1, ihb hg.2]
  | add a b iha ihb => intro hg; show (if gV d' n a < gV d' n b then gV d' n b else gV d' n a) = (if gV d n a < gV d n b then gV d n b else gV d n a); rw [iha hg.1, ihb hg.2]
  | _ => intro hg; exact hg.elim
theorem setF_cg {d d' : Nat → Nat} {t : Nat → Term} {n : Nat} (h : ∀ i, i < 5 → d' i = d i) (h4 : d 0 ≤ 4) (hg : ∀ r, r < d 17 → gOk d (t r)) : ∀ k, k ≤ d 17 → setF d' t n k = setF d t n k := by
  intro k
  induction k with
  | zero => intro _; rfl
  | succ k ih =>
    intro hk
    show setF d' t n k ||| (if holdsB d' t k n then 2 ^ k else 0) = setF d t n k ||| (if holdsB d t k n then 2 ^ k else 0)
    unfold holdsB
    rw [ih (by omega), gV_cg h h4 _ (hg k (by omega))]
theorem setN_cg {d d' : Nat → Nat} {t : Nat → Term} {n : Nat} (h : ∀ i, i < 5 → d' i = d i) (h17 : d' 17 = d 17) (hW : WOk d t) : setN d' t n = setN d t n := by
  unfold setN
  rw [h17]
  exact setF_cg h hW.1.1.2 (fun r hr => (hW.2.2.2.2.2.2.2 r hr).1.1.1) _ (Nat.le_refl _)
theorem casesN_cg {d d' : Nat → Nat} (h : ∀ i, i < 5 → d' i = d i) (h4 : d 0 ≤ 4) : casesN d' = casesN d := by
  unfold casesN
  rw [h 0 (by decide), prodN_cg _ h4 h]
theorem FOk_cg {d d' : Nat → Nat} (h : ∀ i, i < 5 → d' i = d i) (hF : FOk d) : FOk d' := by
  refine ⟨by rw [h 0 (by decide)]; exact hF.1, fun f hf => ?_⟩
  rw [h 0 (by decide)] at hf
  have := hF.1
  rw [h _ (by omega)]
  exact hF.2 f hf
theorem gOk_cg {d d' : Nat → Nat} (h : ∀ i, i < 5 → d' i = d i) (h4 : d 0 ≤ 4) : ∀ t, gOk d t → gOk d' t := by
  intro t
  induction t with
  | arg s =>
    intro hg
    obtain ⟨q1, q2, q3, q4⟩ := (show sOk d s from hg)
    exact (show sOk d' s from ⟨q1, by rw [h 0 (by decide)]; exact q2, by rw [h _ (by omega)]; exact q3, q4⟩)
  | null => intro _; trivial
  | length t ih => intro hg; exact ih hg
  | mul a b iha ihb => intro hg; exact ⟨iha hg.1, ihb hg.2⟩
  | add a b iha ihb => intro hg; exact ⟨iha hg.1, ihb hg.2⟩
  | _ => intro hg; exact hg.elim
/-- another number in a rule's 'over' -/
theorem WOk.over {d : Nat → Nat} {t : Nat → Term} (hW : WOk d t) {r v : Nat} (hr : r < d 17) (hv : v < 2 ^ d 17) : WOk (upN d (51 + 34 * r) v) t := by
  have h17 := hW.r
  have e : ∀ j, j < 51 → upN d (51 + 34 * r) v j = d j := fun j hj => upN_ne (by omega)
  have e5 : ∀ i, i < 5 → upN d (51 + 34 * r) v i = d i := fun i hi => e i (by omega)
  obtain ⟨hF, h5, h6, h7, h8, h9, h17', hR⟩ := hW
  refine ⟨FOk_cg e5 hF, by rw [e 5 (by decide)]; exact h5, by rw [e 5 (by decide), e 6 (by decide)]; exact h6, by rw [e 7 (by decide)]; exact h7, by rw [e 8 (by decide), casesN_cg e5 hF.1.2]; exact h8, fun h hh => by rw [e _ (by omega), e _ (by omega)]; exact h9 h hh, by rw [e 17 (by decide)]; exact h17', fun q hq => ?_⟩
  rw [e 17 (by decide)] at hq
  obtain ⟨⟨g1, g2, g3⟩, s1, s2, s3⟩ := hR q hq
  have hl := gFl_len (t q) g1.1
  refine ⟨⟨⟨gOk_cg e5 hF.1.2 _ g1.1, g1.2⟩, by rw [upN_ne (by omega)]; exact g2, fun i hi => by rw [upN_ne (by omega)]; exact g3 i hi⟩, fun h hh => by rw [upN_ne (by omega)]; exact s1 h hh, by rw [upN_ne (by omega), upN_ne (by omega), upN_ne (by omega), upN_ne (by omega)]; exact s2, ?_⟩
  rw [e 17 (by decide)]
  by_cases c : q = r
  · rw [c, upN_at]; exact hv
  · rw [upN_ne (by omega)]; exact s3
def clashN (d : Nat → Nat) (t : Nat → Term) (r o : Nat) : Nat := manyN (upN d (51 + 34 * r) (if r = o then d (51 + 34 * r) else d (51 + 34 * r) ^^^ 2 ^ o)) t 3 none
theorem tw_clashes {d : Nat → Nat} {t : Nat → Term} {σ : twS} (hT : TW d σ) (hW : WOk d t) (hA : AP d t σ) {r v : Nat} (hr : r < d 17) (hv : v < 2 ^ d 17) : ∃ σ', fr15 σ σ' ∧ bT_clashesIf_67 (Int32.ofNat r) (Int32.ofNat (d (51 + 34 * r))) (Int32.ofNat (51 + 34 * r)) (Int32.ofNat v) σ = some (Int32.ofNat (manyN (upN d (51 + 34 * r) v) t 3 none), σ') := by
  have h17 := hW.r
  have hW' := hW.over hr hv
  have e5 : ∀ i, i < 5 → upN d (51 + 34 * r) v i = d i := fun i hi => upN_ne (by omega)
  have hT' : TW (upN d (51 + 34 * r) v) (twA σ 0 (51 + 34 * r) (Int32.ofNat v)) := hT.st
  have hA' : AP (upN d (51 + 34 * r) v) t (twA σ 0 (51 + 34 * r) (Int32.ofNat v)) := by
    intro n hn
    rw [casesN_cg e5 hW.1.1.2] at hn
    rw [setN_cg e5 (upN_ne (by omega)) hW]
    exact hA n hn
  refine ⟨twA (twA σ 0 (51 + 34 * r) (Int32.ofNat v)) 0 (51 + 34 * r) (Int32.ofNat (d (51 + 34 * r))), ⟨fun q h1 h2 => ?_, rfl⟩, ?_⟩
  · by_cases c : q = 0
    · subst c
      funext j
      rw [twA_at, twA_at]
      by_cases c2 : j = 51 + 34 * r
      · rw [if_pos c2, c2]; exact (hT _ (by omega)).symm
      · rw [if_neg c2, if_neg c2]
    · simp [twA, c]
  · have hm := tw_many (v := 3) (but := none) hT' hW' hA' (by decide) (fun r hr => by cases hr)
    have hm' : mT_many 3 (-1) (twA σ 0 (51 + 34 * r) (Int32.ofNat v)) = some (Int32.ofNat (manyN (upN d (51 + 34 * r) v) t 3 none), twA σ 0 (51 + 34 * r) (Int32.ofNat v)) := hm
    rw [bT_clashesIf_67, ast_J (by omega) (by decide), hm', bd_J]
    unfold mT_rule0
    rw [bd_J, J_mulR, J_addR, J_addL, show 18 + 34 * r + 33 = 51 + 34 * r by omega, ast_J (by omega) (by decide)]
/-- gaps in which a fact has a value -/
def gwB (d : Nat → Nat) (t : Nat → Term) (f v n : Nat) : Bool := (decide (verdN d (setN d t n) = 1) || decide (verdN d (setN d t n) = 2)) && decide (valueN d n f = v)
def gwN (d : Nat → Nat) (t : Nat → Term) (f v : Nat) : Nat := cntN (gwB d t f v) (casesN d)
theorem tw_gapsWith {d : Nat → Nat} {t : Nat → Term} {σ : twS} (hT : TW d σ) (hW : WOk d t) (hA : AP d t σ) {f v : Nat} (hf : f < d 0) (hv : v < 2147483648) : mT_gapsWith (Int32.ofNat f) (Int32.ofNat v) σ = some (Int32.ofNat (gwN d t f v), σ) := by
  have hC := casesN_le hW.1
  have h4 := hW.1.1
  unfold mT_gapsWith
  rw [tw_cases hT hW.1, bd_J]
  refine loop_FU (fun g k => bT_gapsWith_11 g (Int32.ofNat f) (Int32.ofNat v) (Int32.ofNat (cntN (gwB d t f v) k)) (Int32.ofNat (casesN d)) (Int32.ofNat k) σ) (fun _ => some (Int32.ofNat (gwN d t f v), σ)) (casesN d) (by omega) (fun g k hk ih => ?_) (fun g => ?_)
  · show bT_gapsWith_11 (g + 1) _ _ _ _ _ _ = _
    have hs := setN_lt (d := d) (t := t) (n := k)
    have hvl := verdN_le d (setN d t k)
    have hx := valueN_lt hW.1 k hf
    have hx2 := hW.1.2 f hf
    have e : cntN (gwB d t f v) (k + 1) = cntN (gwB d t f v) k + (if gwB d t f v k then 1 else 0) := rfl
    rw [e] at ih
    have last : (verdN d (setN d t k) = 1 ∨ verdN d (setN d t k) = 2) → bT_gapsWith_44 (bT_gapsWith_11 g) (Int32.ofNat f) (Int32.ofNat v) (Int32.ofNat (casesN d)) (Int32.ofNat k) (Int32.ofNat (cntN (gwB d t f v) k)) σ = some (Int32.ofNat (gwN d t f v), σ) := by
      intro h
      have hb : gwB d t f v k = decide (valueN d k f = v) := by
        unfold gwB
        rcases h with h | h <;> rw [h] <;> simp
      rw [hb] at ih
      rw [bT_gapsWith_44, tw_valueOf hT hW.1 (by omega) hf, bd_J, iJ_eq (by omega) hv]
      by_cases c : valueN d k f = v
      · rw [decide_eq_true c] at ih
        rw [if_pos c, lt_J, J_addL, lt_J, J_addL]
        exact ih
      · rw [decide_eq_false c] at ih
        rw [if_neg c, lt_J, J_addL, lt_J, J_addL]
        exact ih
    rw [bT_gapsWith_11, iJ_le (by omega) (by omega), if_neg (by omega), ald_J (by omega) (by decide), hA k hk, tw_verdictOf hT hW hs, bd_J, iJ_eqL (by omega) (by decide), iJ_eqL (by omega) (by decide)]
    by_cases c1 : verdN d (setN d t k) = 1
    · rw [if_pos c1]; exact last (Or.inl c1)
    · rw [if_neg c1]
      by_cases c2 : verdN d (setN d t k) = 2
      · rw [if_pos c2]; exact last (Or.inr c2)
      · have hb : gwB d t f v k = false := by
          unfold gwB
          rw [decide_eq_false c1, decide_eq_false c2]; rfl
        rw [hb] at ih
        rw [if_neg c2, lt_J, J_addL, lt_J, J_addL]
        exact ih
  · show bT_gapsWith_11 (g + 1) _ _ _ _ _ _ = _
    rw [bT_gapsWith_11, iJ_le (by omega) (by omega), if_pos (Nat.le_refl _)]
    rfl
theorem gwN_le {d : Nat → Nat} {t : Nat → Term} (h : FOk d) (f v : Nat) : gwN d t f v ≤ 256 := Nat.le_trans (cntN_le _ _) (casesN_le h).2
/-- the best comparison for a new rule: found, how many -/
def patV (d : Nat → Nat) (t : Nat → Term) (f : Nat) (p : Option Nat × Nat) : Nat → Option Nat × Nat
  | 0 => p
  | v + 1 => if (patV d t f p v).2 < gwN d t f v then (some (10 * f + v), gwN d t f v) else patV d t f p v
def patF (d : Nat → Nat) (t : Nat → Term) : Nat → Option Nat × Nat
  | 0 => (none, 0)
  | f + 1 => patV d t f (patF d t f) (d (1 + f))
theorem patV_le {d : Nat → Nat} {t : Nat → Term} (hF : FOk d) {f : Nat} {p : Option Nat × Nat} (hp : p.2 ≤ 256) : ∀ v, (patV d t f p v).2 ≤ 256 := by
  intro v
  induction v with
  | zero => exact hp
  | succ v ih =>
    show (if _ then _ else _ : Option Nat × Nat).2 ≤ 256
    split
    · exact gwN_le hF f v
    · exact ih
theorem patF_le {d : Nat → Nat} {t : Nat → Term} (hF : FOk d) : ∀ f, (patF d t f).2 ≤ 256 := by
  intro f
  induction f with
  | zero => exact Nat.zero_le _
  | succ f ih => exact patV_le hF ih _
theorem tw_patch {d : Nat → Nat} {t : Nat → Term} {σ : twS} (hT : TW d σ) (hW : WOk d t) (hA : AP d t σ) : bT_patch_15 FU (-1) 0 0 σ = some (o32 (patF d t (d 0)).1, σ) := by
  have h4 := hW.1.1
  refine loop_FU (fun g k => bT_patch_15 g (o32 (patF d t k).1) (Int32.ofNat (patF d t k).2) (Int32.ofNat k) σ) (fun _ => some (o32 (patF d t (d 0)).1, σ)) (d 0) (by omega) (fun g k hk ih => ?_) (fun g => ?_)
  · show bT_patch_15 (g + 1) _ _ _ _ = _
    rw [bT_patch_15, tw_aldL hT (by decide), iJ_le (by omega) (by omega), if_neg (by omega)]
    have hv := hW.1.2 k hk
    refine loop_FU (fun g2 v => bT_patch_28 (bT_patch_15 g) g2 (o32 (patV d t k (patF d t k) v).1) (Int32.ofNat (patV d t k (patF d t k) v).2) (Int32.ofNat k) (Int32.ofNat v) σ) (fun _ => some (o32 (patF d t (d 0)).1, σ)) (d (1 + k)) (by omega) (fun g2 v hv2 ih2 => ?_) (fun g2 => ?_)
    · show bT_patch_28 _ (g2 + 1) _ _ _ _ _ = _
      have hm := gwN_le (t := t) hW.1 k v
      have hm2 := patV_le (t := t) (f := k) hW.1 (patF_le (t := t) hW.1 k) v
      have e : patV d t k (patF d t k) (v + 1) = (if (patV d t k (patF d t k) v).2 < gwN d t k v then (some (10 * k + v), gwN d t k v) else patV d t k (patF d t k) v) := rfl
      rw [e] at ih2
      rw [bT_patch_28, J_addR, tw_ald hT (by omega), iJ_le (by omega) (by omega), if_neg (by omega), tw_gapsWith hT hW hA hk (by omega), bd_J, iJ_le (by omega) (by omega)]
      by_cases c : (patV d t k (patF d t k) v).2 < gwN d t k v
      · rw [if_pos c] at ih2
        rw [if_neg (by omega), J_mulR, J_add, lt_J, lt_J, J_addL]
        exact ih2
      · rw [if_neg c] at ih2
        rw [if_pos (by omega), lt_J, J_addL]
        exact ih2
    · show bT_patch_28 _ (g2 + 1) _ _ _ _ _ = _
      rw [bT_patch_28, J_addR, tw_ald hT (by omega), iJ_le (by omega) (by omega), if_pos (Nat.le_refl _), lt_J, J_addL]
      exact ih
  · show bT_patch_15 (g + 1) _ _ _ _ = _
    rw [bT_patch_15, tw_aldL hT (by decide), iJ_le (by omega) (by omega), if_pos (Nat.le_refl _)]
/-- in how many facts two cases differ -/
def apN (d : Nat → Nat) (n o : Nat) : Nat := cntN (fun f => !decide (valueN d n f = valueN d o f)) (d 0)
theorem tw_apart {d : Nat → Nat} {σ : twS} (hT : TW d σ) (hF : FOk d) {n o : Nat} (hn : n < 2147483648) (ho : o < 2147483648) : mT_apart (Int32.ofNat n) (Int32.ofNat o) σ = some (Int32.ofNat (apN d n o), σ) := by
  have h4 := hF.1
  unfold mT_apart
  refine loop_FU (fun g k => bT_apart_5 g (Int32.ofNat n) (Int32.ofNat o) (Int32.ofNat (cntN (fun f => !decide (valueN d n f = valueN d o f)) k)) (Int32.ofNat k) σ) (fun _ => some (Int32.ofNat (apN d n o), σ)) (d 0) (by omega) (fun g k hk ih => ?_) (fun g => ?_)
  · show bT_apart_5 (g + 1) _ _ _ _ _ = _
    have h1 := valueN_lt hF n hk
    have h2 := valueN_lt hF o hk
    have h3 := hF.2 k hk
    have e : cntN (fun f => !decide (valueN d n f = valueN d o f)) (k + 1) = cntN (fun f => !decide (valueN d n f = valueN d o f)) k + (if !decide (valueN d n k = valueN d o k) then 1 else 0) := rfl
    rw [e] at ih
    rw [bT_apart_5, tw_aldL hT (by decide), iJ_le (by omega) (by omega), if_neg (by omega), tw_valueOf hT hF hn hk, bd_J, tw_valueOf hT hF ho hk, bd_J, iJ_eq (by omega) (by omega)]
    by_cases c : valueN d n k = valueN d o k
    · rw [decide_eq_true c] at ih
      rw [if_pos c, lt_J, J_addL, lt_J, J_addL]
      exact ih
    · rw [decide_eq_false c] at ih
      rw [if_neg c, lt_J, J_addL, lt_J, J_addL]
      exact ih
  · show bT_apart_5 (g + 1) _ _ _ _ _ = _
    rw [bT_apart_5, tw_aldL hT (by decide), iJ_le (by omega) (by omega), if_pos (Nat.le_refl _)]
    rfl
/-- how far the nearest case is that a rule settles -/
def farF (d : Nat → Nat) (t : Nat → Term) (r : Nat) : Nat → Option Nat
  | 0 => none
  | k + 1 => if setlN d (setN d t k) = some r then (match farF d t r k with
    | none => some (apN d k (d 8))
    | some x => some (if apN d k (d 8) < x then apN d k (d 8) else x)) else farF d t r k
theorem apN_le {d : Nat → Nat} (n o : Nat) : apN d n o ≤ d 0 := cntN_le _ _
theorem farF_le {d : Nat → Nat} {t : Nat → Term} {r : Nat} : ∀ k x, farF d t r k = some x → x ≤ d 0 := by
  intro k
  induction k with
  | zero => intro x h; cases h
  | succ k ih =>
    intro x h
    unfold farF at h
    have ha := apN_le (d := d) k (d 8)
    split at h
    · cases hk : farF d t r k with
      | none => rw [hk] at h; cases h; exact ha
      | some y =>
        rw [hk] at h
        have := ih y hk
        cases h
        split <;> omega
    · exact ih x h
theorem tw_farFrom {d : Nat → Nat} {t : Nat → Term} {σ : twS} (hT : TW d σ) (hW : WOk d t) (hA : AP d t σ) {r : Nat} (hr : r < 2147483648) : bT_farFrom_36 FU (Int32.ofNat r) (-1) (Int32.ofNat (casesN d)) 0 σ = some (o32 (farF d t r (casesN d)), σ) := by
  have hC := casesN_le hW.1
  have h4 := hW.1.1
  have h17 := hW.r
  have h8 : d 8 < casesN d := hW.2.2.2.2.1
  refine loop_FU (fun g k => bT_farFrom_36 g (Int32.ofNat r) (o32 (farF d t r k)) (Int32.ofNat (casesN d)) (Int32.ofNat k) σ) (fun _ => some (o32 (farF d t r (casesN d)), σ)) (casesN d) (by omega) (fun g k hk ih => ?_) (fun g => ?_)
  · show bT_farFrom_36 (g + 1) _ _ _ _ _ = _
    have hs := setN_lt (d := d) (t := t) (n := k)
    have ha := apN_le (d := d) k (d 8)
    have e : farF d t r (k + 1) = (if setlN d (setN d t k) = some r then (match farF d t r k with
      | none => some (apN d k (d 8))
      | some x => some (if apN d k (d 8) < x then apN d k (d 8) else x)) else farF d t r k) := rfl
    rw [e] at ih
    rw [bT_farFrom_36, iJ_le (by omega) (by omega), if_neg (by omega), ald_J (by omega) (by decide), hA k hk, tw_settles hT hW hs, bd_J, ite_pq (o32_b (fun x hx => by have := setl_lt hW hx; omega) hr)]
    by_cases c : setlN d (setN d t k) = some r
    · rw [if_pos c] at ih
      rw [if_pos c, tw_aldL hT (by decide), tw_apart hT hW.1 (by omega) (by omega), bd_J, iJ_m1 (fun x hx => by have := farF_le k x hx; omega)]
      cases hk : farF d t r k with
      | none =>
        rw [hk] at ih
        rw [if_pos rfl, lt_J, J_addL]
        exact ih
      | some x =>
        have hxl := farF_le k x hk
        rw [hk] at ih
        rw [if_neg (by simp), lt_J, lt_J, J_addL]
        show bT_farFrom_36 g _ (if Int32.ofNat _ < Int32.ofNat x then _ else Int32.ofNat x) _ _ _ = _
        rw [iJ_lt (by omega) (by omega), show (if apN d k (d 8) < x then Int32.ofNat (apN d k (d 8)) else Int32.ofNat x) = Int32.ofNat (if apN d k (d 8) < x then apN d k (d 8) else x) from by split <;> rfl]
        exact ih
    · rw [if_neg c] at ih
      rw [if_neg c, lt_J, J_addL]
      exact ih
  · show bT_farFrom_36 (g + 1) _ _ _ _ _ = _
    rw [bT_farFrom_36, iJ_le (by omega) (by omega), if_pos (Nat.le_refl _)]
