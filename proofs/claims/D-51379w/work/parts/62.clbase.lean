/-! THE PLAIN LAW, the class' side: cells, owners, changes -/
set_option maxRecDepth 100000
/-- whose a cell is (the owner's address + 1; 0: nobody's, it stays as it is) and what it is for it -/
abbrev oW : Type := Nat → Nat × Nat
abbrev vR (f : Nat → Option Nat) : (Nat → Int32) ⊕ (Nat → Int64) ⊕ (Nat → UInt32) ⊕ (Nat → UInt64) ⊕ (Nat → Option Nat) := .inr (.inr (.inr (.inr f)))
theorem vin {i n : Nat} (h : i < n) (hn : n < 2147483648) : ¬ (Int32.ofNat i < 0 ∨ n ≤ i) := by
  rw [J_nn (by omega)]
  rintro (w | w)
  · exact w
  · omega
theorem gO_J {β : Type} {σ : cS} {a c k : Nat} {fs : List Value} {v : Value} {K : Value → Option β} (h : σ.1 a = some (.inr (c, fs))) (hk : fs[k]? = some v) : gO σ (some a) c k K = K v := by
  unfold gO
  dsimp only
  rw [h]
  dsimp only
  rw [if_pos rfl, hk]
theorem gI_J {β : Type} {σ : cS} {a c k : Nat} {fs : List Value} {x : Int32} {K : Int32 → Option β} (h : σ.1 a = some (.inr (c, fs))) (hk : fs[k]? = some (.int x)) : gI σ (some a) c k K = K x := by
  unfold gI
  rw [gO_J h hk]
  rfl
theorem gR_J {β : Type} {σ : cS} {a c k : Nat} {fs : List Value} {p : Nat} {K : Option Nat → Option β} (h : σ.1 a = some (.inr (c, fs))) (hk : fs[k]? = some (.ref p)) : gR σ (some a) c k K = K (some p) := by
  unfold gR
  rw [gO_J h hk]
  rfl
theorem pO_J {β : Type} {σ : cS} {a c k : Nat} {fs : List Value} {v : Value} {K : cS → Option β} (h : σ.1 a = some (.inr (c, fs))) (hk : k < fs.length) (hw : σ.2 2 ≤ a) : pO σ (some a) c k v K = K (cU σ a (.inr (c, fs.set k v))) := by
  unfold pO
  dsimp only
  rw [h]
  dsimp only
  rw [if_pos ⟨rfl, hk, hw⟩]
theorem nO_J {β : Type} {σ : cS} {c n : Nat} {fs : List Value} {K : Nat → cS → Option β} (h0 : σ.2 0 + 1 ≤ σ.2 3) (h1 : σ.2 1 + n ≤ σ.2 4) : nO σ c n fs K = K (σ.2 0) (cN σ (.inr (c, fs)) n) := by
  unfold nO
  rw [if_pos ⟨h0, h1⟩]
theorem nA_J {β : Type} {σ : cS} {kind n : Nat} {f : (Nat → Int32) ⊕ (Nat → Int64) ⊕ (Nat → UInt32) ⊕ (Nat → UInt64) ⊕ (Nat → Option Nat)} {K : Nat → cS → Option β} (hn : n ≤ 67108864) (h0 : σ.2 0 + 1 ≤ σ.2 3) (h1 : σ.2 1 + n ≤ σ.2 4) : nA σ kind (Int32.ofNat n) f K = K (σ.2 0) (cN σ (.inl (kind, n, f)) n) := by
  unfold nA
  rw [J_cl (by omega), if_neg (by rw [J_nn (by omega)]; rintro (w | w); exact w; omega), if_pos ⟨h0, h1⟩]
theorem aL_J {β : Type} {σ : cS} {a : Nat} {x : Nat × vp_A} {K : Int32 → Option β} (h : σ.1 a = some (.inl x)) (hk : x.1 < 6) : aL σ (some a) K = K (Int32.ofNat x.2.1) := by
  unfold aL
  dsimp only
  rw [h]
  dsimp only
  rw [if_pos hk]
theorem aI_J {β : Type} {σ : cS} {a kd n i : Nat} {f : Nat → Int32} {K : Int32 → Option β} (h : σ.1 a = some (.inl (kd, n, .inl f))) (hi : i < n) (hn : n < 2147483648) : aI σ (some a) kd (Int32.ofNat i) K = K (f i) := by
  unfold aI
  dsimp only
  rw [h]
  dsimp only
  rw [J_cl (by omega), if_pos ⟨rfl, vin hi hn⟩]
theorem sI_J {β : Type} {σ : cS} {a kd n i : Nat} {f : Nat → Int32} {x : Int32} {K : cS → Option β} (h : σ.1 a = some (.inl (kd, n, .inl f))) (hi : i < n) (hn : n < 2147483648) (hw : σ.2 2 ≤ a) : sI σ (some a) kd (Int32.ofNat i) x K = K (cU σ a (.inl (kd, n, .inl (upd f i x)))) := by
  unfold sI
  dsimp only
  rw [h]
  dsimp only
  rw [J_cl (by omega), if_pos ⟨rfl, vin hi hn, hw⟩]
theorem aR_J {β : Type} {σ : cS} {a kd n i : Nat} {f : Nat → Option Nat} {K : Option Nat → Option β} (h : σ.1 a = some (.inl (kd, n, vR f))) (hk : 2 ≤ kd ∧ kd < 5) (hi : i < n) (hn : n < 2147483648) : aR σ (some a) (Int32.ofNat i) K = K (f i) := by
  unfold aR
  dsimp only
  rw [h]
  dsimp only
  rw [J_cl (by omega), if_pos ⟨hk.1, hk.2, vin hi hn⟩]
theorem sR_J {β : Type} {σ : cS} {a kd n i : Nat} {f : Nat → Option Nat} {x : Option Nat} {K : cS → Option β} (h : σ.1 a = some (.inl (kd, n, vR f))) (hv : okV σ kd x = true) (hk : 2 ≤ kd ∧ kd < 5) (hi : i < n) (hn : n < 2147483648) (hw : σ.2 2 ≤ a) : sR σ (some a) (Int32.ofNat i) x K = K (cU σ a (.inl (kd, n, vR (va_up f i x)))) := by
  unfold sR
  dsimp only
  rw [h]
  dsimp only
  rw [J_cl (by omega), if_pos ⟨hv, hk.1, hk.2, vin hi hn, hw⟩]
theorem isO_J {σ : cS} {a c : Nat} {fs : List Value} (h : σ.1 a = some (.inr (c, fs))) (k : Nat) : isO σ a k = decide (c = k) := by
  unfold isO
  rw [h]
theorem nn_J {β : Type} {σ : cS} {a c : Nat} {fs : List Value} {K : Nat → Option β} (h : σ.1 a = some (.inr (c, fs))) : nn σ (some a) c K = K a := by
  unfold nn
  dsimp only
  rw [isO_J h, if_pos (decide_eq_true rfl)]
theorem cst_J {β : Type} {σ : cS} {a c : Nat} {fs : List Value} {ok : List Nat} {K : Option β} (h : σ.1 a = some (.inr (c, fs))) (hc : c < 59) (hk : ok.contains c = true) : cst σ (some a) ok K = K := by
  have e : ckd σ a = c := by
    unfold ckd
    rw [h]
    exact if_pos hc
  unfold cst
  dsimp only
  rw [e, if_pos hk]
theorem okV_J {σ : cS} {a c kd : Nat} {fs : List Value} (h : σ.1 a = some (.inr (c, fs))) (hk : okS kd c = true) : okV σ kd (some a) = true := by
  unfold okV
  dsimp only
  rw [h]
  exact hk
theorem icl_J {α β : Type} {a : Nat} {f : Nat → Option (α × cS)} {K : α → cS → Option β} : icl (some a) f K = bd (f a) K := rfl
theorem bdx_l {α β : Type} {v : α} {σ : cS} {K : α → cS → Option (cX β × cS)} : bdx (some (.inl v, σ)) K = K v σ := rfl
theorem bdx_r {α β : Type} {x : Nat × Nat} {σ : cS} {K : α → cS → Option (cX β × cS)} : bdx (some (.inr x, σ)) K = some (.inr x, σ) := rfl
theorem xl_J {α : Type} {v : α} {σ : cS} : xl (some (v, σ)) = some ((.inl v : cX α), σ) := rfl
theorem gd_J {β : Type} {c : Prop} [Decidable c] {K : Option β} (h : c) : gd c K = K := if_pos h
theorem rzJ {b : Bool} {σ : cS} : rz (b32 b) σ = some (b32 b, σ) := by cases b <;> rfl
theorem rzc1 {σ : cS} : rz (1 : Int32) σ = some (1, σ) := rfl
theorem rzc0 {σ : cS} : rz (0 : Int32) σ = some (0, σ) := rfl
theorem cU_s {σ : cS} {a : Nat} {e : cE} : (cU σ a e).1 a = some e := if_pos rfl
theorem cU_n {σ : cS} {a q : Nat} {e : cE} (h : q ≠ a) : (cU σ a e).1 q = σ.1 q := if_neg h
theorem cU_2 {σ : cS} {a : Nat} {e : cE} : (cU σ a e).2 = σ.2 := rfl
theorem cU_cU {σ : cS} {a : Nat} {e e' : cE} : cU (cU σ a e) a e' = cU σ a e' := by
  unfold cU
  refine Prod.ext (funext fun q => ?_) rfl
  dsimp only
  by_cases c : q = a
  · rw [if_pos c, if_pos c]
  · rw [if_neg c, if_neg c, if_neg c]
theorem cN_s {σ : cS} {e : cE} {n : Nat} : (cN σ e n).1 (σ.2 0) = some e := if_pos rfl
theorem cN_n {σ : cS} {q n : Nat} {e : cE} (h : q ≠ σ.2 0) : (cN σ e n).1 q = σ.1 q := if_neg h
theorem cN_0 {σ : cS} {e : cE} {n : Nat} : (cN σ e n).2 0 = σ.2 0 + 1 := rfl
theorem cN_1 {σ : cS} {e : cE} {n : Nat} : (cN σ e n).2 1 = σ.2 1 + n := rfl
theorem cN_k {σ : cS} {e : cE} {n k : Nat} (h : 2 ≤ k) : (cN σ e n).2 k = σ.2 k := by
  show (if k = 0 then _ else if k = 1 then _ else σ.2 k) = _
  rw [if_neg (by omega), if_neg (by omega)]
/-- nothing lies beyond -/
def Wf (σ : cS) : Prop := ∀ q, σ.1 q ≠ none → q < σ.2 0
/-- what may have changed: the cells of L, new cells -/
def Ch (L : Nat → Prop) (σ σ' : cS) : Prop := (∀ q, q < σ.2 0 → ¬ L q → σ'.1 q = σ.1 q) ∧ σ.2 0 ≤ σ'.2 0 ∧ (∀ k, 2 ≤ k → σ'.2 k = σ.2 k) ∧ (∀ q, σ.1 q ≠ none → σ'.1 q ≠ none) ∧ (Wf σ → Wf σ')
theorem Ch.rf {L : Nat → Prop} {σ : cS} : Ch L σ σ := ⟨fun _ _ _ => rfl, Nat.le_refl _, fun _ _ => rfl, fun _ h => h, id⟩
theorem Ch.trans {L : Nat → Prop} {a b c : cS} (h : Ch L a b) (h' : Ch L b c) : Ch L a c := ⟨fun q h1 h2 => (h'.1 q (Nat.lt_of_lt_of_le h1 h.2.1) h2).trans (h.1 q h1 h2), Nat.le_trans h.2.1 h'.2.1, fun k hk => (h'.2.2.1 k hk).trans (h.2.2.1 k hk), fun q hq => h'.2.2.2.1 q (h.2.2.2.1 q hq), fun w => h'.2.2.2.2 (h.2.2.2.2 w)⟩
theorem Ch.mono {L M : Nat → Prop} {a b : cS} (h : Ch L a b) (hq : ∀ q, q < a.2 0 → L q → M q) : Ch M a b := ⟨fun q h1 h2 => h.1 q h1 (fun w => h2 (hq q h1 w)), h.2⟩
theorem Ch.then {L M : Nat → Prop} {a b c : cS} (h : Ch L a b) (h' : Ch M b c) (hq : ∀ q, q < a.2 0 → M q → L q) : Ch L a c := ⟨fun q h1 h2 => (h'.1 q (Nat.lt_of_lt_of_le h1 h.2.1) (fun w => h2 (hq q h1 w))).trans (h.1 q h1 h2), Nat.le_trans h.2.1 h'.2.1, fun k hk => (h'.2.2.1 k hk).trans (h.2.2.1 k hk), fun q hq => h'.2.2.2.1 q (h.2.2.2.1 q hq), fun w => h'.2.2.2.2 (h.2.2.2.2 w)⟩
theorem Ch.k {L : Nat → Prop} {a b : cS} (h : Ch L a b) {k : Nat} (hk : 2 ≤ k) : b.2 k = a.2 k := h.2.2.1 k hk
theorem Ch.cU {L : Nat → Prop} {a b : cS} {q : Nat} {e e0 : cE} (h : Ch L a b) (h0 : b.1 q = some e0) (hq : a.2 0 ≤ q ∨ L q) : Ch L a (cU b q e) := by
  refine ⟨fun p h1 h2 => ?_, h.2.1, h.2.2.1, fun p hp => ?_, fun w p hp => ?_⟩
  · rw [cU_n (fun w => ?_)]
    · exact h.1 p h1 h2
    · rcases hq with hq | hq
      · omega
      · rw [w] at h2; exact h2 hq
  · by_cases c : p = q
    · rw [c, cU_s]; exact fun w => by cases w
    · rw [cU_n c]; exact h.2.2.2.1 p hp
  · by_cases c : p = q
    · rw [c]; exact h.2.2.2.2 w q (by rw [h0]; exact fun w => by cases w)
    · rw [cU_n c] at hp; exact h.2.2.2.2 w p hp
theorem Ch.cN {L : Nat → Prop} {a b : cS} {e : cE} {n : Nat} (h : Ch L a b) : Ch L a (cN b e n) := by
  refine ⟨fun p h1 h2 => ?_, ?_, fun k hk => ?_, fun p hp => ?_, fun w p hp => ?_⟩
  · rw [cN_n (by have := h.2.1; omega)]; exact h.1 p h1 h2
  · rw [cN_0]; have := h.2.1; omega
  · rw [cN_k hk]; exact h.2.2.1 k hk
  · by_cases c : p = b.2 0
    · rw [c, cN_s]; exact fun w => by cases w
    · rw [cN_n c]; exact h.2.2.2.1 p hp
  · rw [cN_0]
    by_cases c : p = b.2 0
    · omega
    · rw [cN_n c] at hp; have := h.2.2.2.2 w p hp; omega
theorem Wf.lt {σ : cS} {q : Nat} {e : cE} (h : Wf σ) (hq : σ.1 q = some e) : q < σ.2 0 := h q (by rw [hq]; exact fun w => by cases w)
theorem Ch.c {L : Nat → Prop} {σ σ' : cS} {q : Nat} {e : cE} (h : Ch L σ σ') (hS : Wf σ) (hq : σ.1 q = some e) (hP : ¬ L q) : σ'.1 q = some e := by
  rw [h.1 q (hS.lt hq) hP]; exact hq
/-- the state is whole: nothing lies beyond; what is owned is there and may be written -/
def SI (o : oW) (σ : cS) : Prop := Wf σ ∧ σ.2 2 ≤ σ.2 0 ∧ ∀ q, (o q).1 ≠ 0 → σ.2 2 ≤ q ∧ σ.1 q ≠ none ∧ σ.1 ((o q).1 - 1) ≠ none
theorem SI.lt {o : oW} {σ : cS} {q : Nat} {e : cE} (h : SI o σ) (hq : σ.1 q = some e) : q < σ.2 0 := h.1.lt hq
theorem SI.ch {o : oW} {L : Nat → Prop} {a b : cS} (h : SI o a) (hC : Ch L a b) : SI o b := ⟨hC.2.2.2.2 h.1, by rw [hC.k (by decide)]; exact Nat.le_trans h.2.1 hC.2.1, fun q hq => ⟨by rw [hC.k (by decide)]; exact (h.2.2 q hq).1, hC.2.2.2.1 q (h.2.2 q hq).2.1, hC.2.2.2.1 _ (h.2.2 q hq).2.2⟩⟩
theorem SI.w {o : oW} {σ : cS} {q a k : Nat} (h : SI o σ) (hq : o q = (a + 1, k)) : σ.2 2 ≤ q := (h.2.2 q (by rw [hq]; exact Nat.succ_ne_zero _)).1
theorem SI.l {o : oW} {σ : cS} {q a k : Nat} (h : SI o σ) (hq : o q = (a + 1, k)) : q < σ.2 0 := h.1 q (h.2.2 q (by rw [hq]; exact Nat.succ_ne_zero _)).2.1
theorem SI.own {o : oW} {σ : cS} {q a : Nat} (h : SI o σ) (hq : (o q).1 = a + 1) : a < σ.2 0 := by
  have := (h.2.2 q (by rw [hq]; exact Nat.succ_ne_zero _)).2.2
  rw [hq] at this
  exact h.1 a this
/-- a cell gets an owner -/
def oN (o : oW) (q : Nat) (v : Nat × Nat) : oW := fun p => if p = q then v else o p
theorem oN_s {o : oW} {q : Nat} {v : Nat × Nat} : oN o q v q = v := if_pos rfl
theorem oN_n {o : oW} {q p : Nat} {v : Nat × Nat} (h : p ≠ q) : oN o q v p = o p := if_neg h
theorem SI.oN {o : oW} {σ : cS} {q : Nat} {v : Nat × Nat} (h : SI o σ) (hq : σ.2 2 ≤ q ∧ σ.1 q ≠ none ∧ σ.1 (v.1 - 1) ≠ none) : SI (oN o q v) σ := by
  refine ⟨h.1, h.2.1, fun p hp => ?_⟩
  by_cases c : p = q
  · rw [c, oN_s]; exact hq
  · rw [oN_n c] at hp ⊢; exact h.2.2 p hp
/-- room for n cells, m slots -/
def Rm (σ : cS) (n m : Nat) : Prop := σ.2 0 + n ≤ σ.2 3 ∧ σ.2 1 + m ≤ σ.2 4
theorem Rm.le {σ : cS} {n m n' m' : Nat} (h : Rm σ n m) (h1 : n' ≤ n) (h2 : m' ≤ m) : Rm σ n' m' := ⟨by have := h.1; omega, by have := h.2; omega⟩
theorem Rm.cU {σ : cS} {n m q : Nat} {e : cE} (h : Rm σ n m) : Rm (cU σ q e) n m := h
theorem Rm.cN {σ : cS} {n m k : Nat} {e : cE} (h : Rm σ (n + 1) (m + k)) : Rm (cN σ e k) n m := by
  unfold Rm
  rw [cN_0, cN_1, cN_k (by decide), cN_k (by decide)]
  have := h.1
  have := h.2
  omega
theorem Rm.a {σ : cS} {n m : Nat} (h : Rm σ (n + 1) m) : σ.2 0 + 1 ≤ σ.2 3 := by have := h.1; omega
theorem Rm.b {σ : cS} {n m k : Nat} (h : Rm σ n (m + k)) : σ.2 1 + k ≤ σ.2 4 := by have := h.2; omega
/-- an int array -/
def IA (σ : cS) (p n : Nat) (g : Nat → Nat) : Prop := ∃ f : Nat → Int32, σ.1 p = some (.inl (0, n, .inl f)) ∧ ∀ i, i < n → f i = Int32.ofNat (g i)
theorem IA.c {L : Nat → Prop} {σ σ' : cS} {p n : Nat} {g : Nat → Nat} (h : IA σ p n g) (hC : Ch L σ σ') (hS : Wf σ) (hP : ¬ L p) : IA σ' p n g := by
  obtain ⟨f, h1, h2⟩ := h
  exact ⟨f, hC.c hS h1 hP, h2⟩
theorem IA.to {σ σ' : cS} {p n : Nat} {g : Nat → Nat} (h : IA σ p n g) (e : σ'.1 p = σ.1 p) : IA σ' p n g := by
  obtain ⟨f, h1, h2⟩ := h
  exact ⟨f, by rw [e]; exact h1, h2⟩
theorem IA.g {σ : cS} {p n : Nat} {g g' : Nat → Nat} (h : IA σ p n g) (e : ∀ i, i < n → g i = g' i) : IA σ p n g' := by
  obtain ⟨f, h1, h2⟩ := h
  exact ⟨f, h1, fun i hi => by rw [h2 i hi, e i hi]⟩
theorem IA.lt {σ : cS} {p n : Nat} {g : Nat → Nat} (h : IA σ p n g) (hS : Wf σ) : p < σ.2 0 := by
  obtain ⟨f, h1, -⟩ := h
  exact hS.lt h1
theorem IA.ld {β : Type} {σ : cS} {p n i : Nat} {g : Nat → Nat} {K : Int32 → Option β} (h : IA σ p n g) (hi : i < n) (hn : n < 2147483648) : aI σ (some p) 0 (Int32.ofNat i) K = K (Int32.ofNat (g i)) := by
  obtain ⟨f, h1, h2⟩ := h
  rw [aI_J h1 hi hn, h2 i hi]
theorem IA.ldL {β : Type} {σ : cS} {p n i : Nat} {g : Nat → Nat} {K : Int32 → Option β} (h : IA σ p n g) (hi : i < n) (hn : n < 2147483648) : aI σ (some p) 0 (OfNat.ofNat i) K = K (Int32.ofNat (g i)) := h.ld hi hn
theorem IA.len {β : Type} {σ : cS} {p n : Nat} {g : Nat → Nat} {K : Int32 → Option β} (h : IA σ p n g) : aL σ (some p) K = K (Int32.ofNat n) := by
  obtain ⟨f, h1, h2⟩ := h
  rw [aL_J h1 (by show 0 < 6; decide)]
theorem IA.st {σ : cS} {p n i x : Nat} {g : Nat → Nat} (h : IA σ p n g) (hi : i < n) (hn : n < 2147483648) (hw : σ.2 2 ≤ p) : ∃ e : cE, (∀ (β : Type) (K : cS → Option β), sI σ (some p) 0 (Int32.ofNat i) (Int32.ofNat x) K = K (cU σ p e)) ∧ IA (cU σ p e) p n (fun j => if j = i then x else g j) := by
  obtain ⟨f, h1, h2⟩ := h
  refine ⟨_, fun β K => sI_J h1 hi hn hw, _, cU_s, fun j hj => ?_⟩
  unfold upd
  dsimp only
  by_cases c : j = i
  · rw [if_pos c, if_pos c]
  · rw [if_neg c, if_neg c]; exact h2 j hj
theorem IA.nw {σ : cS} {n k : Nat} : IA (cN σ (.inl (0, n, .inl (fun _ => 0))) k) (σ.2 0) n (fun _ => 0) := ⟨_, cN_s, fun _ _ => rfl⟩
/-- a list of objects: its cell, its array, its elements -/
def AL (σ : cS) (li ar n : Nat) (r : Nat → Nat) : Prop := (∃ mc, σ.1 li = some (.inr (9, [.int mc, .ref ar, .int (Int32.ofNat n)]))) ∧ ∃ cap f, σ.1 ar = some (.inl (2, cap, vR f)) ∧ n ≤ cap ∧ (∀ i, i < n → f i = some (r i)) ∧ (cap = 0 ∧ ar = σ.2 15 ∨ cap = 10 ∨ cap = 15)
theorem AL.to {σ σ' : cS} {li ar n : Nat} {r : Nat → Nat} (h : AL σ li ar n r) (e1 : σ'.1 li = σ.1 li) (e2 : σ'.1 ar = σ.1 ar) (e3 : σ'.2 15 = σ.2 15) : AL σ' li ar n r := by
  obtain ⟨⟨mc, h1⟩, cap, f, h2, h3, h4, h5⟩ := h
  exact ⟨⟨mc, e1.trans h1⟩, cap, f, e2.trans h2, h3, h4, by rw [e3]; exact h5⟩
theorem AL.c {L : Nat → Prop} {σ σ' : cS} {li ar n : Nat} {r : Nat → Nat} (h : AL σ li ar n r) (hC : Ch L σ σ') (hS : Wf σ) (h1 : ¬ L li) (h2 : ¬ L ar) : AL σ' li ar n r := by
  obtain ⟨⟨mc, g1⟩, cap, f, g2, g3⟩ := id h
  exact h.to (hC.1 li (hS.lt g1) h1) (hC.1 ar (hS.lt g2) h2) (hC.k (by decide))
theorem AL.r {σ : cS} {li ar n : Nat} {r r' : Nat → Nat} (h : AL σ li ar n r) (e : ∀ i, i < n → r i = r' i) : AL σ li ar n r' := by
  obtain ⟨h1, cap, f, h2, h3, h4, h5⟩ := h
  exact ⟨h1, cap, f, h2, h3, fun i hi => by rw [h4 i hi, e i hi], h5⟩
theorem AL.n {σ : cS} {li ar n : Nat} {r : Nat → Nat} (h : AL σ li ar n r) : n ≤ 15 := by
  obtain ⟨-, cap, f, -, h3, -, h5⟩ := h
  omega
theorem AL.size {σ : cS} {li ar n : Nat} {r : Nat → Nat} (h : AL σ li ar n r) : m_J18_size li σ = some (Int32.ofNat n, σ) := by
  obtain ⟨⟨mc, h1⟩, -⟩ := h
  unfold m_J18_size
  rw [gI_J h1 rfl]
theorem AL.nn {β : Type} {σ : cS} {li ar n : Nat} {r : Nat → Nat} {K : Nat → Option β} (h : AL σ li ar n r) : nn σ (some li) 9 K = K li := by
  obtain ⟨⟨mc, h1⟩, -⟩ := h
  exact nn_J h1
theorem j23 {i n : Nat} (hi : i < n) (hn : n < 2147483648) {σ : cS} : m_J23_checkIndex (Int32.ofNat i) (Int32.ofNat n) σ = some (Int32.ofNat i, σ) := by
  unfold m_J23_checkIndex m_J7_checkIndex
  rw [if_neg (by rw [J_nn (by omega)]; exact id), iJ_lt (by omega) hn, if_pos hi, bd_J]
theorem AL.get {σ : cS} {li ar n i : Nat} {r : Nat → Nat} (h : AL σ li ar n r) (hi : i < n) : m_J18_get li (Int32.ofNat i) σ = some (some (r i), σ) := by
  have hn := h.n
  obtain ⟨⟨mc, h1⟩, cap, f, h2, h3, h4, h5⟩ := h
  unfold m_J18_get m_J18_elementData
  rw [gI_J h1 rfl, j23 hi (by omega), bd_J, nn_J h1, gR_J h1 rfl, aR_J h2 (by decide) (by omega) (by omega), h4 i hi, bd_J]
theorem cpR_J {β : Type} {σ : cS} {a b k0 k1 n0 n1 n : Nat} {f h : Nat → Option Nat} {K : cS → Option β} (ha : σ.1 a = some (.inl (k0, n0, vR f))) (hb : σ.1 b = some (.inl (k1, n1, vR h))) (hk : (2 ≤ k0 ∧ k0 < 5) ∧ (2 ≤ k1 ∧ k1 < 5)) {i j : Nat} (h0 : i + n ≤ n0) (h1 : j + n ≤ n1) (hn : n0 < 2147483648 ∧ n1 < 2147483648) (hw : σ.2 2 ≤ b) (hv : ∀ q, q < n → okV σ k1 (f (i + q)) = true) : cpR σ (some a) (Int32.ofNat i) (some b) (Int32.ofNat j) (Int32.ofNat n) K = K (cU σ b (.inl (k1, n1, vR (va_cpy f h i j n)))) := by
  unfold cpR
  dsimp only
  rw [ha, hb]
  dsimp only
  rw [J_cl (by omega), J_cl (by omega), J_cl (by omega), if_pos ⟨hk, ⟨by rw [J_nn (by omega)]; exact id, by rw [J_nn (by omega)]; exact id, by rw [J_nn (by omega)]; exact id⟩, ⟨h0, h1⟩, hw, hv⟩]
theorem cpI_J {β : Type} {σ : cS} {a b kd n0 n1 n : Nat} {f h : Nat → Int32} {K : cS → Option β} (ha : σ.1 a = some (.inl (kd, n0, .inl f))) (hb : σ.1 b = some (.inl (kd, n1, .inl h))) {i j : Nat} (h0 : i + n ≤ n0) (h1 : j + n ≤ n1) (hn : n0 < 2147483648 ∧ n1 < 2147483648) (hw : σ.2 2 ≤ b) (hv : kd = 0 ∨ ∀ q, q < n → (f (i + q)).toInt8.toInt32 = f (i + q)) : cpI σ kd (some a) (Int32.ofNat i) (some b) (Int32.ofNat j) (Int32.ofNat n) K = K (cU σ b (.inl (kd, n1, .inl (va_cpy f h i j n)))) := by
  unfold cpI
  dsimp only
  rw [ha, hb]
  dsimp only
  rw [J_cl (by omega), J_cl (by omega), J_cl (by omega), if_pos ⟨⟨rfl, rfl⟩, ⟨by rw [J_nn (by omega)]; exact id, by rw [J_nn (by omega)]; exact id, by rw [J_nn (by omega)]; exact id⟩, ⟨h0, h1⟩, hw, hv⟩]
