/-! THE PLAIN LAW: guards as trees (arg: a comparison by its sign; null: always; length: not; mul: and; add: or), and how the twin works them out -/
set_option maxRecDepth 100000
def gFl : Term → List Nat
  | .arg s => [s]
  | .null => [4]
  | .length t => gFl t ++ [1]
  | .mul a b => gFl a ++ (gFl b ++ [2])
  | .add a b => gFl a ++ (gFl b ++ [3])
  | _ => []
/-- a comparison's sign -/
def sOk (d : Nat → Nat) (s : Nat) : Prop := 10 ≤ s ∧ (s - 10) / 16 < d 0 ∧ (s - 10) % 4 < d (1 + (s - 10) / 16) ∧ (s - 10) / 4 % 4 ≤ 2
def gOk (d : Nat → Nat) : Term → Prop
  | .arg s => sOk d s
  | .null => True
  | .length t => gOk d t
  | .mul a b => gOk d a ∧ gOk d b
  | .add a b => gOk d a ∧ gOk d b
  | _ => False
/-- comparisons and 'always' in it; 'not's in it -/
def gLv : Term → Nat
  | .arg _ => 1
  | .null => 1
  | .length t => gLv t
  | .mul a b => gLv a + gLv b
  | .add a b => gLv a + gLv b
  | _ => 0
def gNt : Term → Nat
  | .length t => gNt t + 1
  | .mul a b => gNt a + gNt b
  | .add a b => gNt a + gNt b
  | _ => 0
def cmpN (d : Nat → Nat) (s n : Nat) : Nat := if (s - 10) / 4 % 4 = 0 then (if valueN d n ((s - 10) / 16) = (s - 10) % 4 then 1 else 0) else if (s - 10) / 4 % 4 = 1 then (if valueN d n ((s - 10) / 16) < (s - 10) % 4 then 1 else 0) else if (s - 10) % 4 < valueN d n ((s - 10) / 16) then 1 else 0
def gV (d : Nat → Nat) (n : Nat) : Term → Nat
  | .arg s => cmpN d s n
  | .null => 1
  | .length t => 1 - gV d n t
  | .mul a b => gV d n a * gV d n b
  | .add a b => if gV d n a < gV d n b then gV d n b else gV d n a
  | _ => 0
theorem cmpN_le (d : Nat → Nat) (s n : Nat) : cmpN d s n ≤ 1 := by
  unfold cmpN
  repeat' split
  all_goals omega
theorem gV_le (d : Nat → Nat) (n : Nat) : ∀ t, gV d n t ≤ 1 := by
  intro t
  induction t with
  | arg s => exact cmpN_le d s n
  | null => exact Nat.le_refl _
  | length t _ => show 1 - _ ≤ 1; omega
  | mul a b ha hb =>
    show gV d n a * gV d n b ≤ 1
    exact Nat.le_trans (Nat.mul_le_mul ha hb) (by decide)
  | add a b ha hb =>
    show (if gV d n a < gV d n b then gV d n b else gV d n a) ≤ 1
    split <;> omega
  | _ => exact Nat.zero_le _
theorem gFl_len {d : Nat → Nat} : ∀ t, gOk d t → (gFl t).length + 1 = 2 * gLv t + gNt t ∧ 1 ≤ gLv t := by
  intro t
  induction t with
  | arg s => intro _; exact ⟨rfl, Nat.le_refl _⟩
  | null => intro _; exact ⟨rfl, Nat.le_refl _⟩
  | length t ih =>
    intro h
    have := ih h
    show (gFl t ++ [1]).length + 1 = 2 * gLv t + (gNt t + 1) ∧ 1 ≤ gLv t
    simp only [List.length_append, List.length_cons, List.length_nil]
    omega
  | mul a b iha ihb =>
    intro h
    have h1 := iha h.1
    have h2 := ihb h.2
    show (gFl a ++ (gFl b ++ [2])).length + 1 = 2 * (gLv a + gLv b) + (gNt a + gNt b) ∧ 1 ≤ gLv a + gLv b
    simp only [List.length_append, List.length_cons, List.length_nil]
    omega
  | add a b iha ihb =>
    intro h
    have h1 := iha h.1
    have h2 := ihb h.2
    show (gFl a ++ (gFl b ++ [3])).length + 1 = 2 * (gLv a + gLv b) + (gNt a + gNt b) ∧ 1 ≤ gLv a + gLv b
    simp only [List.length_append, List.length_cons, List.length_nil]
    omega
  | _ => intro h; exact h.elim
/-- a rule's guard is this tree -/
def GT (d : Nat → Nat) (t : Nat → Term) (r : Nat) : Prop := (gOk d (t r) ∧ gLv (t r) ≤ 12 ∧ gNt (t r) ≤ 5) ∧ d (18 + 34 * r) = (gFl (t r)).length ∧ ∀ i, i < (gFl (t r)).length → d (19 + 34 * r + i) = (gFl (t r)).getD i 0
theorem divN_le {d : Nat → Nat} (n : Nat) : ∀ k, divN d n k ≤ n := by
  intro k
  induction k with
  | zero => exact Nat.le_refl _
  | succ k ih => exact Nat.le_trans (Nat.div_le_self _ _) ih
theorem valueN_lt {d : Nat → Nat} (h : FOk d) (n : Nat) {f : Nat} (hf : f < d 0) : valueN d n f < d (1 + f) := Nat.mod_lt _ (by have := h.2 f hf; omega)
theorem tw_valueOf {d : Nat → Nat} {σ : twS} (h : TW d σ) (hF : FOk d) {n f : Nat} (hn : n < 2147483648) (hf : f < d 0) : mT_valueOf (Int32.ofNat n) (Int32.ofNat f) σ = some (Int32.ofNat (valueN d n f), σ) := by
  have h4 := hF.1
  unfold mT_valueOf
  refine loop_FU (fun g k => bT_valueOf_5 g (Int32.ofNat f) (Int32.ofNat (divN d n k)) (Int32.ofNat k) σ) (fun _ => some (Int32.ofNat (valueN d n f), σ)) f (by omega) (fun g k hk ih => ?_) (fun g => ?_)
  · have h1 := hF.2 k (by omega)
    have h2 := divN_le (d := d) n k
    show bT_valueOf_5 (g + 1) _ _ _ _ = _
    rw [bT_valueOf_5, iJ_le (by omega) (by omega), if_neg (by omega), show (1 : Int32) = Int32.ofNat 1 from rfl, J_add, ald_J (by omega) (by decide), h _ (by omega), nz_J (by omega) (by omega)]
    simp only [lt_J]
    rw [J_div (by omega) (by omega), J_add]
    exact ih
  · have h1 := hF.2 f hf
    have h2 := divN_le (d := d) n f
    show bT_valueOf_5 (g + 1) _ _ _ _ = _
    rw [bT_valueOf_5, iJ_le (by omega) (by omega), if_pos (by omega), show (1 : Int32) = Int32.ofNat 1 from rfl, J_add, ald_J (by omega) (by decide), h _ (by omega), nz_J (by omega) (by omega)]
    have h3 := Nat.div_mul_le_self (divN d n f) (d (1 + f))
    rw [J_div (by omega) (by omega), J_mul, J_sub h3]
    congr 3
    have h5 := Nat.div_add_mod (divN d n f) (d (1 + f))
    rw [Nat.mul_comm] at h5
    show divN d n f - divN d n f / d (1 + f) * d (1 + f) = divN d n f % d (1 + f)
    omega
theorem tw_of {d : Nat → Nat} {σ : twS} (h : TW d σ) {r k : Nat} (hr : 18 + 34 * r + k < 358) : mT_of (Int32.ofNat r) (Int32.ofNat k) σ = some (Int32.ofNat (d (18 + 34 * r + k)), σ) := by
  unfold mT_of mT_rule0
  rw [bd_J, show (18 : Int32) = Int32.ofNat 18 from rfl, show (34 : Int32) = Int32.ofNat 34 from rfl, J_mul, J_add, J_add, ald_J hr (by decide), h _ hr]
theorem J_mod4 {a : Nat} (ha : a < 2147483648) : Int32.ofNat a - Int32.ofNat a / 4 * 4 = Int32.ofNat (a % 4) := by
  rw [show (4 : Int32) = Int32.ofNat 4 from rfl, J_div ha (by decide), J_mul, J_sub (by omega)]
  congr 1
  omega
theorem tw_compares {d : Nat → Nat} {σ : twS} (h : TW d σ) (hF : FOk d) {s n : Nat} (hs : sOk d s) (hs2 : s < 2147483648) (hn : n < 2147483648) : mT_compares (Int32.ofNat s) (Int32.ofNat n) σ = some (Int32.ofNat (cmpN d s n), σ) := by
  obtain ⟨h1, h2, h3, h4⟩ := hs
  have h5 := valueN_lt hF n h2
  have h6 := hF.2 _ h2
  unfold mT_compares
  simp only [lt_J]
  rw [show (10 : Int32) = Int32.ofNat 10 from rfl, J_sub h1, show (16 : Int32) = Int32.ofNat 16 from rfl, J_div (by omega) (by decide), tw_valueOf h hF hn h2, bd_J]
  rw [J_mod4 (by omega), show Int32.ofNat (s - 10) / 4 = Int32.ofNat ((s - 10) / 4) from J_div (by omega) (by decide), J_mod4 (by omega)]
  simp only [show (0 : Int32) = Int32.ofNat 0 from rfl, show (1 : Int32) = Int32.ofNat 1 from rfl]
  rw [iJ_eq (by omega) (by omega), iJ_eq (by omega) (by omega), iJ_eq (by omega) (by omega), iJ_le (by omega) (by omega), iJ_le (by omega) (by omega)]
  unfold cmpN
  by_cases c1 : (s - 10) / 4 % 4 = 0
  · rw [if_pos c1, if_pos c1]
    split <;> rfl
  · rw [if_neg c1, if_neg c1]
    by_cases c2 : (s - 10) / 4 % 4 = 1
    · rw [if_pos c2, if_pos c2]
      by_cases c3 : valueN d n ((s - 10) / 16) < (s - 10) % 4
      · rw [if_neg (by omega), if_pos c3]
      · rw [if_pos (by omega), if_neg c3]
    · rw [if_neg c2, if_neg c2]
      by_cases c3 : (s - 10) % 4 < valueN d n ((s - 10) / 16)
      · rw [if_neg (by omega), if_pos c3]
      · rw [if_pos (by omega), if_neg c3]
/-- what may have changed: the stack alone; the stack and the sets -/
def fr14 (σ σ' : twS) : Prop := (∀ q, q ≠ 14 → σ'.1 q = σ.1 q) ∧ σ'.2 = σ.2
def fr15 (σ σ' : twS) : Prop := (∀ q, q ≠ 14 → q ≠ 15 → σ'.1 q = σ.1 q) ∧ σ'.2 = σ.2
theorem fr14.rf {σ : twS} : fr14 σ σ := ⟨fun _ _ => rfl, rfl⟩
theorem fr15.rf {σ : twS} : fr15 σ σ := ⟨fun _ _ _ => rfl, rfl⟩
theorem fr14.trans {a b c : twS} (h : fr14 a b) (h' : fr14 b c) : fr14 a c := ⟨fun q hq => (h'.1 q hq).trans (h.1 q hq), h'.2.trans h.2⟩
theorem fr15.trans {a b c : twS} (h : fr15 a b) (h' : fr15 b c) : fr15 a c := ⟨fun q hq h5 => (h'.1 q hq h5).trans (h.1 q hq h5), h'.2.trans h.2⟩
theorem fr14.to {a b : twS} (h : fr14 a b) : fr15 a b := ⟨fun q hq _ => h.1 q hq, h.2⟩
theorem fr14.tw {d : Nat → Nat} {a b : twS} (h : fr14 a b) (ht : TW d a) : TW d b := fun i hi => by rw [h.1 0 (by decide)]; exact ht i hi
theorem fr15.tw {d : Nat → Nat} {a b : twS} (h : fr15 a b) (ht : TW d a) : TW d b := fun i hi => by rw [h.1 0 (by decide) (by decide)]; exact ht i hi
theorem fr14.st {σ : twS} {j : Nat} {x : Int32} : fr14 σ (twA σ 14 j x) := ⟨fun q hq => by simp [twA, hq], rfl⟩
theorem fr15.st {σ : twS} {j : Nat} {x : Int32} : fr15 σ (twA σ 15 j x) := ⟨fun q _ hq => by simp [twA, hq], rfl⟩
theorem twA_at {σ : twS} {k j i : Nat} {x : Int32} : (twA σ k j x).1 k i = if i = j then x else σ.1 k i := by simp [twA, upd]
/-- what working out a tree's signs does, the list and the value given -/
def Wkd (d : Nat → Nat) (r n : Nat) (L : List Nat) (lv v : Nat) : Prop := ∀ (σ : twS) (p k f : Nat), TW d σ → k + L.length ≤ d (18 + 34 * r) → d (18 + 34 * r) ≤ 28 → (∀ i, i < L.length → d (19 + 34 * r + (k + i)) = L.getD i 0) → p + lv ≤ 32 → ∃ σ', fr14 σ σ' ∧ (∀ i, i < p → σ'.1 14 i = σ.1 14 i) ∧ σ'.1 14 p = Int32.ofNat v ∧ bT_holds_5 (f + L.length) (Int32.ofNat r) (Int32.ofNat n) (Int32.ofNat p) (Int32.ofNat k) σ = bT_holds_5 f (Int32.ofNat r) (Int32.ofNat n) (Int32.ofNat (p + 1)) (Int32.ofNat (k + L.length)) σ'
theorem wk_leaf0 {d : Nat → Nat} (hF : FOk d) {r n : Nat} (hr : r < 10) (hn : n < 2147483648) : ∀ (σ : twS) (p k f s : Nat), TW d σ → k < d (18 + 34 * r) → d (18 + 34 * r) ≤ 28 → d (19 + 34 * r + k) = s → p < 32 → s ≠ 1 → s ≠ 2 → s ≠ 3 → (s = 4 ∨ sOk d s) → ∀ v : Nat, (s = 4 → v = 1) → (s ≠ 4 → v = cmpN d s n) → bT_holds_5 (f + 1) (Int32.ofNat r) (Int32.ofNat n) (Int32.ofNat p) (Int32.ofNat k) σ = bT_holds_5 f (Int32.ofNat r) (Int32.ofNat n) (Int32.ofNat (p + 1)) (Int32.ofNat (k + 1)) (twA σ 14 p (Int32.ofNat v)) := by
  intro σ p k f s hT hk hl hs hp n1 n2 n3 hso v hv1 hv2
  have hs2 : s < 2147483648 := by
    rcases hso with h | h
    · omega
    · obtain ⟨q1, q2, q3, q4⟩ := h
      have := hF.1
      omega
  rw [bT_holds_5, show (0 : Int32) = Int32.ofNat 0 from rfl, show (1 : Int32) = Int32.ofNat 1 from rfl, tw_of hT (by omega), bd_J, Nat.add_zero, iJ_le (by omega) (by omega), if_neg (by omega), J_add, tw_of hT (by omega), bd_J]
  rw [show 18 + 34 * r + (1 + k) = 19 + 34 * r + k by omega, hs]
  rw [iJ_eq hs2 (by decide), if_neg n1, show (2 : Int32) = Int32.ofNat 2 from rfl, iJ_eq hs2 (by decide), if_neg n2, show (3 : Int32) = Int32.ofNat 3 from rfl, iJ_eq hs2 (by decide), if_neg n3, show (4 : Int32) = Int32.ofNat 4 from rfl, iJ_eq hs2 (by decide)]
  by_cases c : s = 4
  · rw [if_pos c, bT_holds_159, ast_J hp (by decide), hv1 c]
    simp only [lt_J]
    rw [show (1 : Int32) = Int32.ofNat 1 from rfl, J_add, J_add]
  · rw [if_neg c, tw_compares hT hF (hso.resolve_left c) hs2 hn, bd_J, bT_holds_159, ast_J hp (by decide), hv2 c]
    simp only [lt_J]
    rw [show (1 : Int32) = Int32.ofNat 1 from rfl, J_add, J_add]

theorem wk_leaf {d : Nat → Nat} (hF : FOk d) {r n : Nat} (hr : r < 10) (hn : n < 2147483648) {s v : Nat} (n1 : s ≠ 1) (n2 : s ≠ 2) (n3 : s ≠ 3) (hs : s = 4 ∨ sOk d s) (hv1 : s = 4 → v = 1) (hv2 : s ≠ 4 → v = cmpN d s n) : Wkd d r n [s] 1 v := by
  intro σ p k f hT hk hl hd hp
  simp only [List.length_cons, List.length_nil, Nat.zero_add] at hk hd ⊢
  have h1 := wk_leaf0 hF hr hn σ p k f s hT (by omega) hl (by have := hd 0 (by omega); simpa using this) (by omega) n1 n2 n3 hs v hv1 hv2
  exact ⟨_, fr14.st, fun i hi => by rw [twA_at, if_neg (by omega)], by rw [twA_at, if_pos rfl], h1⟩
theorem wk_two {d : Nat → Nat} (hF : FOk d) {r n : Nat} (hr : r < 10) (hn : n < 2147483648) {A B : List Nat} {s la lb va vb v : Nat} (hs : s = 2 ∨ s = 3) (hv2 : s = 2 → v = va * vb) (hv3 : s = 3 → v = if va < vb then vb else va) (b1 : va ≤ 1) (b2 : vb ≤ 1) (iha : Wkd d r n A la va) (ihb : Wkd d r n B lb vb) (hla : 1 ≤ la) (hlb : 1 ≤ lb) : Wkd d r n (A ++ (B ++ [s])) (la + lb) v := by
  intro σ p k f hT hk hl hd hp
  simp only [List.length_append, List.length_cons, List.length_nil] at hk hd ⊢
  obtain ⟨σ1, f1, k1, v1, e1⟩ := iha σ p k (f + 1 + B.length) hT (by omega) hl (fun i hi => by
    rw [hd i (by omega)]
    simp only [List.getD_eq_getElem?_getD]
    rw [List.getElem?_append_left hi]) (by omega)
  obtain ⟨σ2, f2, k2, v2, e2⟩ := ihb σ1 (p + 1) (k + A.length) (f + 1) (f1.tw hT) (by omega) hl (fun i hi => by
    rw [show k + A.length + i = k + (A.length + i) by omega, hd _ (by omega)]
    simp only [List.getD_eq_getElem?_getD]
    rw [List.getElem?_append_right (by omega), show A.length + i - A.length = i by omega, List.getElem?_append_left hi]) (by omega)
  have hT2 := f2.tw (f1.tw hT)
  have hs9 : d (19 + 34 * r + (k + A.length + B.length)) = s := by
    rw [show k + A.length + B.length = k + (A.length + B.length) by omega, hd _ (by omega)]
    simp only [List.getD_eq_getElem?_getD]
    rw [List.getElem?_append_right (by omega), List.getElem?_append_right (by omega), show A.length + B.length - A.length - B.length = 0 by omega]
    rfl
  have w1 : σ2.1 14 p = Int32.ofNat (va) := by rw [k2 p (by omega)]; exact v1
  refine ⟨twA σ2 14 p (Int32.ofNat v), f1.trans (f2.trans fr14.st), fun i hi => ?_, by rw [twA_at, if_pos rfl], ?_⟩
  · rw [twA_at, if_neg (by omega), k2 i (by omega), k1 i hi]
  · rw [show f + (A.length + (B.length + (0 + 1))) = f + 1 + B.length + A.length by omega, e1, e2]
    rw [bT_holds_5, show (0 : Int32) = Int32.ofNat 0 from rfl, show (1 : Int32) = Int32.ofNat 1 from rfl, tw_of hT2 (by omega), bd_J, Nat.add_zero, iJ_le (by omega) (by omega), if_neg (by omega), J_add, tw_of hT2 (by omega), bd_J]
    rw [show 18 + 34 * r + (1 + (k + A.length + B.length)) = 19 + 34 * r + (k + A.length + B.length) by omega, hs9]
    rw [iJ_eq (by omega) (by omega), if_neg (by omega), show (2 : Int32) = Int32.ofNat 2 from rfl, iJ_eq (by omega) (by omega)]
    have hm1 : Int32.ofNat (p + 1 + 1) + -Int32.ofNat 1 = Int32.ofNat (p + 1) := by
      rw [← Int32.sub_eq_add_neg, J_sub (by omega)]
      congr 1
    have hm2 : Int32.ofNat (p + 1) - Int32.ofNat 1 = Int32.ofNat p := by rw [J_sub (by omega)]; congr 1
    have hk9 : k + A.length + B.length + 1 = k + (A.length + (B.length + (0 + 1))) := by omega
    by_cases c : s = 2
    · rw [if_pos c]
      simp only [lt_J]
      rw [hm1, hm2, ald_J (by omega) (by decide), ald_J (by omega) (by decide), ast_J (by omega) (by decide), w1, v2, J_mul, J_add, hk9, hv2 c]
    · have c3 : s = 3 := hs.resolve_left c
      rw [if_neg c, show (3 : Int32) = Int32.ofNat 3 from rfl, iJ_eq (by omega) (by omega), if_pos c3]
      simp only [lt_J]
      rw [hm1, hm2, ald_J (by omega) (by decide), ald_J (by omega) (by decide), ast_J (by omega) (by decide), w1, v2, iJ_lt (by omega) (by omega), J_add, hk9, hv3 c3, show (if va < vb then Int32.ofNat vb else Int32.ofNat va) = Int32.ofNat (if va < vb then vb else va) from by split <;> rfl]

theorem wk_not {d : Nat → Nat} (hF : FOk d) {r n : Nat} (hr : r < 10) (hn : n < 2147483648) {A : List Nat} {la va : Nat} (b1 : va ≤ 1) (ih : Wkd d r n A la va) (hla : 1 ≤ la) : Wkd d r n (A ++ [1]) la (1 - va) := by
  intro σ p k f hT hk hl hd hp
  simp only [List.length_append, List.length_cons, List.length_nil, Nat.zero_add] at hk hd ⊢
  obtain ⟨σ1, f1, k1, v1, e1⟩ := ih σ p k (f + 1) hT (by omega) hl (fun i hi => by
    rw [hd i (by omega)]
    simp only [List.getD_eq_getElem?_getD]
    rw [List.getElem?_append_left hi]) hp
  have hT1 := f1.tw hT
  have hs9 : d (19 + 34 * r + (k + A.length)) = 1 := by
    rw [hd _ (by omega)]
    simp only [List.getD_eq_getElem?_getD]
    rw [List.getElem?_append_right (by omega), Nat.sub_self]
    rfl
  refine ⟨twA σ1 14 p (Int32.ofNat (1 - va)), f1.trans fr14.st, fun i hi => ?_, by rw [twA_at, if_pos rfl], ?_⟩
  · rw [twA_at, if_neg (by omega), k1 i hi]
  · rw [show f + (A.length + 1) = f + 1 + A.length by omega, e1]
    rw [bT_holds_5, show (0 : Int32) = Int32.ofNat 0 from rfl, show (1 : Int32) = Int32.ofNat 1 from rfl, tw_of hT1 (by omega), bd_J, Nat.add_zero, iJ_le (by omega) (by omega), if_neg (by omega), J_add, tw_of hT1 (by omega), bd_J]
    rw [show 18 + 34 * r + (1 + (k + A.length)) = 19 + 34 * r + (k + A.length) by omega, hs9, if_pos rfl]
    have hm2 : Int32.ofNat (p + 1) - Int32.ofNat 1 = Int32.ofNat p := by rw [J_sub (by omega)]; congr 1
    rw [hm2, ald_J (by omega) (by decide), ast_J (by omega) (by decide), v1, J_sub b1]
    simp only [lt_J]
    rw [J_add, show k + A.length + 1 = k + (A.length + 1) by omega]
theorem tw_holds_tree {d : Nat → Nat} (hF : FOk d) {r n : Nat} (hr : r < 10) (hn : n < 2147483648) : ∀ t, gOk d t → Wkd d r n (gFl t) (gLv t) (gV d n t) := by
  intro t
  induction t with
  | arg s =>
    intro hg
    have hs : sOk d s := hg
    have h1 := hs.1
    exact wk_leaf hF hr hn (by omega) (by omega) (by omega) (Or.inr hs) (by omega) (fun _ => rfl)
  | null =>
    intro hg
    exact wk_leaf hF hr hn (by decide) (by decide) (by decide) (Or.inl rfl) (fun _ => rfl) (fun h => absurd rfl h)
  | length t ih =>
    intro hg
    exact wk_not hF hr hn (gV_le d n t) (ih hg) (gFl_len t hg).2
  | mul a b iha ihb =>
    intro hg
    exact wk_two hF hr hn (Or.inl rfl) (fun _ => rfl) (fun h => by cases h) (gV_le d n a) (gV_le d n b) (iha hg.1) (ihb hg.2) (gFl_len a hg.1).2 (gFl_len b hg.2).2
  | add a b iha ihb =>
    intro hg
    exact wk_two hF hr hn (Or.inr rfl) (fun h => by cases h) (fun _ => rfl) (gV_le d n a) (gV_le d n b) (iha hg.1) (ihb hg.2) (gFl_len a hg.1).2 (gFl_len b hg.2).2
  | _ => intro hg; exact hg.elim
def holdsB (d : Nat → Nat) (t : Nat → Term) (r n : Nat) : Bool := decide (gV d n (t r) = 1)
theorem tw_holds {d : Nat → Nat} {t : Nat → Term} {σ : twS} (hT : TW d σ) (hF : FOk d) {r n : Nat} (hr : r < 10) (hn : n < 2147483648) (hG : GT d t r) : ∃ σ', fr14 σ σ' ∧ mT_holds (Int32.ofNat r) (Int32.ofNat n) σ = some (b32 (holdsB d t r n), σ') := by
  obtain ⟨⟨g1, g2, g3⟩, g4, g5⟩ := hG
  have hlen := gFl_len (t r) g1
  obtain ⟨σ', f1, -, v1, e1⟩ := tw_holds_tree hF hr hn (t r) g1 σ 0 0 (FU - (gFl (t r)).length) hT (by omega) (by omega) (fun i hi => by rw [Nat.zero_add]; exact g5 i hi) (by omega)
  refine ⟨σ', f1, ?_⟩
  unfold mT_holds
  rw [show FU - (gFl (t r)).length + (gFl (t r)).length = FU by show 4096 - _ + _ = 4096; omega] at e1
  simp only [show (0 : Int32) = Int32.ofNat 0 from rfl] at e1 ⊢
  rw [e1, Nat.zero_add, ← g4]
  have hT1 := f1.tw hT
  rw [show FU - d (18 + 34 * r) = (FU - d (18 + 34 * r) - 1) + 1 by show 4096 - _ = 4096 - _ - 1 + 1; omega]
  rw [bT_holds_5, show (0 : Int32) = Int32.ofNat 0 from rfl, show (1 : Int32) = Int32.ofNat 1 from rfl, tw_of hT1 (by omega), bd_J, Nat.add_zero, Nat.zero_add, iJ_le (by omega) (by omega), if_pos (Nat.le_refl _), ald_J (by decide) (by decide), v1]
  have b1 := gV_le d n (t r)
  rw [iJ_eq (by omega) (by omega)]
  unfold holdsB b32
  by_cases c : gV d n (t r) = 1
  · rw [if_pos c, decide_eq_true c]; rfl
  · rw [if_neg c, decide_eq_false c]; rfl
