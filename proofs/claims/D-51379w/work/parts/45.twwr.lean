/-! THE PLAIN LAW: how the twin writes guards and rules -/
set_option maxRecDepth 100000
def sgC (s : Nat) : Nat := if (s - 10) / 4 % 4 = 0 then 61 else if (s - 10) / 4 % 4 = 1 then 60 else 62
def brk (b : Bool) (s : List Nat) : List Nat := if b then 40 :: 32 :: (s ++ [32, 41]) else s
/-- a guard as a text; a: how tightly what is around it binds -/
def gW : Nat → Term → List Nat
  | _, .arg s => [97 + (s - 10) / 16, 32, sgC s, 32, 48 + (s - 10) % 4]
  | _, .null => [97, 108, 119, 97, 121, 115]
  | _, .length t => 110 :: 111 :: 116 :: 32 :: gW 1 t
  | a, .mul t u => brk (decide (a < 2)) (gW 2 t ++ 32 :: 97 :: 110 :: 100 :: 32 :: gW 2 u)
  | a, .add t u => brk (decide (a < 3)) (gW 3 t ++ 32 :: 111 :: 114 :: 32 :: gW 3 u)
  | _, _ => []
theorem brk_ne {b : Bool} {s : List Nat} (h : s ≠ []) : brk b s ≠ [] := by
  unfold brk
  split
  · simp
  · exact h
theorem brk_len {b : Bool} {s : List Nat} : (brk b s).length ≤ s.length + 4 := by
  unfold brk
  split
  · simp
  · omega
theorem gW_ne {d : Nat → Nat} : ∀ t a, gOk d t → gW a t ≠ [] := by
  intro t a h
  cases t with
  | arg s => intro q; cases q
  | null => intro q; cases q
  | length t => intro q; cases q
  | mul t u => exact brk_ne (by simp)
  | add t u => exact brk_ne (by simp)
  | _ => exact h.elim
theorem gW_len {d : Nat → Nat} : ∀ t a, gOk d t → (gW a t).length + 9 ≤ 15 * gLv t + 4 * gNt t := by
  intro t
  induction t with
  | arg s => intro a _; show 5 + 9 ≤ 15 * 1 + 4 * 0; omega
  | null => intro a _; show 6 + 9 ≤ 15 * 1 + 4 * 0; omega
  | length t ih =>
    intro a h
    have := ih 1 h
    show (gW 1 t).length + 1 + 1 + 1 + 1 + 9 ≤ 15 * gLv t + 4 * (gNt t + 1)
    omega
  | mul t u ih1 ih2 =>
    intro a h
    have h1 := ih1 2 h.1
    have h2 := ih2 2 h.2
    have h3 := brk_len (b := decide (a < 2)) (s := gW 2 t ++ 32 :: 97 :: 110 :: 100 :: 32 :: gW 2 u)
    show (brk (decide (a < 2)) (gW 2 t ++ 32 :: 97 :: 110 :: 100 :: 32 :: gW 2 u)).length + 9 ≤ 15 * (gLv t + gLv u) + 4 * (gNt t + gNt u)
    simp only [List.length_append, List.length_cons] at h3
    omega
  | add t u ih1 ih2 =>
    intro a h
    have h1 := ih1 3 h.1
    have h2 := ih2 3 h.2
    have h3 := brk_len (b := decide (a < 3)) (s := gW 3 t ++ 32 :: 111 :: 114 :: 32 :: gW 3 u)
    show (brk (decide (a < 3)) (gW 3 t ++ 32 :: 111 :: 114 :: 32 :: gW 3 u)).length + 9 ≤ 15 * (gLv t + gLv u) + 4 * (gNt t + gNt u)
    simp only [List.length_append, List.length_cons] at h3
    omega
  | _ => intro a h; exact h.elim
/-- a part of a rule's guard that begins at k is this tree -/
def At (d : Nat → Nat) (r : Nat) (L : List Nat) (k : Nat) : Prop := (∀ i, i < L.length → d (19 + 34 * r + (k + i)) = L.getD i 0) ∧ k + L.length ≤ 28
theorem At.l {d : Nat → Nat} {r : Nat} {A B : List Nat} {k : Nat} (h : At d r (A ++ B) k) : At d r A k := by
  refine ⟨fun i hi => ?_, ?_⟩
  · rw [h.1 i (by rw [List.length_append]; omega), getD_l hi]
  · have := h.2
    rw [List.length_append] at this
    omega
theorem At.r {d : Nat → Nat} {r : Nat} {A B : List Nat} {k : Nat} (h : At d r (A ++ B) k) : At d r B (k + A.length) := by
  refine ⟨fun i hi => ?_, ?_⟩
  · rw [show k + A.length + i = k + (A.length + i) by omega, h.1 (A.length + i) (by rw [List.length_append]; omega), getD_r]
  · have := h.2
    rw [List.length_append] at this
    omega
theorem At.one {d : Nat → Nat} {r s : Nat} {k : Nat} (h : At d r [s] k) : d (18 + 34 * r + (1 + k)) = s ∧ k < 28 := by
  have h1 := h.1 0 (by simp)
  have h2 := h.2
  refine ⟨?_, by have : k + 1 ≤ 28 := h2; omega⟩
  rw [show 18 + 34 * r + (1 + k) = 19 + 34 * r + (k + 0) by omega, h1]
  rfl
theorem gFl_pos {d : Nat → Nat} {t : Term} (h : gOk d t) : 1 ≤ (gFl t).length := by
  have := gFl_len t h
  omega
theorem tw_beginOf {d : Nat → Nat} {σ : twS} (hT : TW d σ) (hF : FOk d) {r : Nat} (hr : r < 10) : ∀ u D k, gOk d u → At d r (gFl u) k → (gFl u).length ≤ D → mT_beginOf D (Int32.ofNat r) (Int32.ofNat (k + (gFl u).length - 1)) σ = some (Int32.ofNat k, σ) := by
  intro u
  induction u with
  | arg s =>
    intro D k h hA hD
    obtain ⟨D, rfl⟩ : ∃ D', D = D' + 1 := ⟨D - 1, by simp [gFl] at hD; omega⟩
    have h1 := hA.one
    have hs : 10 ≤ s := h.1
    show mO_beginOf (mT_beginOf D) _ _ _ = _
    have hl : s < 74 := gFl_lt hF (.arg s) h s (List.mem_singleton.mpr rfl)
    unfold mO_beginOf
    show (bd (mT_of (Int32.ofNat r) (1 + Int32.ofNat k) σ) _) = _
    rw [J_addR, show OfNat.ofNat 1 + k = 1 + k from rfl, tw_of hT (by omega), bd_J, h1.1, iJ_ltL (by omega) (by decide), if_neg (by show ¬ s < 4; omega)]
    rfl
  | null =>
    intro D k h hA hD
    obtain ⟨D, rfl⟩ : ∃ D', D = D' + 1 := ⟨D - 1, by simp [gFl] at hD; omega⟩
    have h1 := At.one (s := 4) hA
    show mO_beginOf (mT_beginOf D) (Int32.ofNat r) (Int32.ofNat k) _ = _
    unfold mO_beginOf
    rw [J_addR, show OfNat.ofNat 1 + k = 1 + k from rfl, tw_of hT (by omega), bd_J, h1.1, iJ_ltL (by omega) (by decide), if_neg (by decide)]
  | length t ih =>
    intro D k h hA hD
    obtain ⟨D, rfl⟩ : ∃ D', D = D' + 1 := ⟨D - 1, by simp [gFl] at hD; omega⟩
    have h1 := At.one (At.r (A := gFl t) (B := [1]) hA)
    have hp := gFl_pos (t := t) h
    have e : (gFl (.length t)).length = (gFl t).length + 1 := by simp [gFl]
    rw [e] at hD ⊢
    rw [show k + ((gFl t).length + 1) - 1 = k + (gFl t).length by omega]
    show mO_beginOf (mT_beginOf D) _ _ _ = _
    unfold mO_beginOf
    rw [J_addR, show OfNat.ofNat 1 + (k + (gFl t).length) = 1 + (k + (gFl t).length) from rfl, tw_of hT (by omega), bd_J, h1.1, iJ_ltL (by omega) (by decide), if_pos (by decide), J_subL (by show 1 ≤ _; omega), ih D k h (At.l (A := gFl t) (B := [1]) hA) (by omega), bd_J, iJ_eqL (by omega) (by decide), if_pos rfl]
  | mul a b iha ihb =>
    intro D k h hA hD
    obtain ⟨D, rfl⟩ : ∃ D', D = D' + 1 := ⟨D - 1, by simp [gFl] at hD; omega⟩
    have hA2 := At.r (A := gFl a) (B := gFl b ++ [2]) hA
    have h1 := At.one (At.r (A := gFl b) (B := [2]) hA2)
    have hp := gFl_pos (t := a) h.1
    have hp2 := gFl_pos (t := b) h.2
    have e : (gFl (.mul a b)).length = (gFl a).length + ((gFl b).length + 1) := by simp [gFl]
    rw [e] at hD ⊢
    rw [show k + ((gFl a).length + ((gFl b).length + 1)) - 1 = k + (gFl a).length + (gFl b).length by omega]
    show mO_beginOf (mT_beginOf D) _ _ _ = _
    unfold mO_beginOf
    rw [J_addR, show OfNat.ofNat 1 + (k + (gFl a).length + (gFl b).length) = 1 + (k + (gFl a).length + (gFl b).length) from rfl, tw_of hT (by omega), bd_J, h1.1, iJ_ltL (by omega) (by decide), if_pos (by decide), J_subL (by show 1 ≤ _; omega), ihb D (k + (gFl a).length) h.2 (At.l (A := gFl b) (B := [2]) hA2) (by omega), bd_J, iJ_eqL (by omega) (by decide), if_neg (by decide), J_subL (by show 1 ≤ _; omega), iha D k h.1 (At.l (A := gFl a) (B := gFl b ++ [2]) hA) (by omega), bd_J]
  | add a b iha ihb =>
    intro D k h hA hD
    obtain ⟨D, rfl⟩ : ∃ D', D = D' + 1 := ⟨D - 1, by simp [gFl] at hD; omega⟩
    have hA2 := At.r (A := gFl a) (B := gFl b ++ [3]) hA
    have h1 := At.one (At.r (A := gFl b) (B := [3]) hA2)
    have hp := gFl_pos (t := a) h.1
    have hp2 := gFl_pos (t := b) h.2
    have e : (gFl (.add a b)).length = (gFl a).length + ((gFl b).length + 1) := by simp [gFl]
    rw [e] at hD ⊢
    rw [show k + ((gFl a).length + ((gFl b).length + 1)) - 1 = k + (gFl a).length + (gFl b).length by omega]
    show mO_beginOf (mT_beginOf D) _ _ _ = _
    unfold mO_beginOf
    rw [J_addR, show OfNat.ofNat 1 + (k + (gFl a).length + (gFl b).length) = 1 + (k + (gFl a).length + (gFl b).length) from rfl, tw_of hT (by omega), bd_J, h1.1, iJ_ltL (by omega) (by decide), if_pos (by decide), J_subL (by show 1 ≤ _; omega), ihb D (k + (gFl a).length) h.2 (At.l (A := gFl b) (B := [3]) hA2) (by omega), bd_J, iJ_eqL (by omega) (by decide), if_neg (by decide), J_subL (by show 1 ≤ _; omega), iha D k h.1 (At.l (A := gFl a) (B := gFl b ++ [3]) hA) (by omega), bd_J]
  | _ => intro D k h; exact h.elim
theorem tk1 {t1 : List Int32} {s : List Nat} (e : t1 = s.map Int32.ofNat := by rfl) (hs : ∀ x, x ∈ s → x < 256 := by decide) {σ : twS} {L : List Nat} (h : RP σ L) (hl : (tokL L s).length ≤ 600) : WR σ (tokL L s) (mT_writeToken t1 σ) := tw_writeToken e hs h hl
theorem tokL_len {L s : List Nat} : s.length ≤ (tokL L s).length ∧ L.length ≤ (tokL L s).length := by
  unfold tokL
  split
  · next c => rw [c]; exact ⟨Nat.le_refl _, Nat.zero_le _⟩
  · simp
    omega
theorem tokL_mono {L s u : List Nat} : (tokL L s).length ≤ (tokL L (s ++ u)).length := by
  rw [← tokL_app, List.length_append]
  omega
theorem tw_writeCompare {d : Nat → Nat} {σ : twS} (hF : FOk d) {s a : Nat} (hs : sOk d s) {L : List Nat} (h : RP σ L) (hl : (tokL L (gW a (.arg s))).length ≤ 600) : WR σ (tokL L (gW a (.arg s))) (mT_writeCompare (Int32.ofNat s) σ) := by
  have h74 : s < 74 := gFl_lt hF (.arg s) hs s (List.mem_singleton.mpr rfl)
  have h10 : 10 ≤ s := hs.1
  have h4 := hs.2.2.2
  have hf := hF.1
  have hs2 := hs.2.1
  unfold mT_writeCompare
  rw [lt_J, J_subL h10]
  have e0 : tokL L (gW a (.arg s)) = tokL L [97 + (s - 10) / 16] ++ [32, sgC s, 32, 48 + (s - 10) % 4] := by
    rw [tokL_app]; rfl
  rw [e0] at hl ⊢
  have hl1 : (tokL L [97 + (s - 10) / 16]).length + 4 ≤ 600 := by simpa using hl
  have hl0 : (tokL L []).length ≤ 600 := by
    have := tokL_mono (L := L) (s := []) (u := [97 + (s - 10) / 16])
    simp at this
    omega
  refine (tk1 (s := []) (h := h) (hl := hl0)).bd fun σ1 f1 p1 => ?_
  rw [show (OfNat.ofNat 10 : Nat) = 10 from rfl, J_divL (by omega) (by decide), J_addR]
  have e1 : tokL L [] ++ [97 + (s - 10) / 16] = tokL L [97 + (s - 10) / 16] := tokL_app
  refine (tw_write (c := 97 + (s - 10) / 16) (by omega) p1 (by rw [e1]; omega)).bd fun σ2 f2 p2 => ?_
  rw [e1] at p2
  have hne : tokL L [97 + (s - 10) / 16] ≠ [] := tokL_nn (by simp)
  have e4 : Int32.ofNat (s - 10) / 4 = Int32.ofNat ((s - 10) / 4) := J_div (by omega) (by decide)
  rw [e4, J_mod4 (by omega), iJ_eqL (by omega) (by decide), iJ_eqL (by omega) (by decide)]
  generalize hM : tokL L [97 + (s - 10) / 16] = M at p2 hl hl1 hne ⊢
  have last : ∀ (σ : twS) (c : Nat), RP σ (M ++ [32, c]) → WR σ (M ++ [32, c, 32, 48 + (s - 10) % 4]) (bd (mT_writeToken tS_370 σ) fun _ σ_13 => bd (mT_writeNumber DP (Int32.ofNat (s - 10) - Int32.ofNat ((s - 10) / 4) * 4) σ_13) fun _ σ_14 => some (0, σ_14)) := by
    intro σ c p
    have e5 : tokL (M ++ [32, c]) [] = M ++ [32, c, 32] := by
      rw [tokL_ne (by simp)]
      simp
    refine (tk1 (s := []) (h := p) (hl := by rw [e5]; simp; omega)).bd fun σ3 f3 p3 => ?_
    rw [e5] at p3
    rw [← e4, J_mod4 (by omega)]
    have e6 : decN ((s - 10) % 4) = [48 + (s - 10) % 4] := by
      unfold decN decD
      rw [if_pos (by omega)]
      congr 2
      omega
    refine (tw_writeNumber (n := (s - 10) % 4) (by omega) p3 (by rw [e6]; simp; omega)).bd fun σ4 f4 p4 => ?_
    rw [e6] at p4
    have e7 : M ++ [32, c, 32] ++ [48 + (s - 10) % 4] = M ++ [32, c, 32, 48 + (s - 10) % 4] := by simp
    rw [e7] at p4
    exact WR.of p4
  unfold sgC
  by_cases c1 : (s - 10) / 4 % 4 = 0
  · rw [if_pos c1, if_pos c1]
    have e8 : tokL M [61] = M ++ [32, 61] := tokL_ne hne
    refine (tk1 (s := [61]) (h := p2) (hl := by rw [e8]; simp; omega)).bd fun σ3 f3 p3 => ?_
    rw [e8] at p3
    exact last σ3 61 p3
  · rw [if_neg c1, if_neg c1]
    by_cases c2 : (s - 10) / 4 % 4 = 1
    · rw [if_pos c2, if_pos c2]
      have e8 : tokL M [60] = M ++ [32, 60] := tokL_ne hne
      refine (tk1 (s := [60]) (h := p2) (hl := by rw [e8]; simp; omega)).bd fun σ3 f3 p3 => ?_
      rw [e8] at p3
      exact last σ3 60 p3
    · rw [if_neg c2, if_neg c2]
      have e8 : tokL M [62] = M ++ [32, 62] := tokL_ne hne
      refine (tk1 (s := [62]) (h := p2) (hl := by rw [e8]; simp; omega)).bd fun σ3 f3 p3 => ?_
      rw [e8] at p3
      exact last σ3 62 p3
def tlB : Bool → List Nat
  | true => [32, 41]
  | false => []
def WPd (d : Nat → Nat) (r : Nat) (u : Term) : Prop := ∀ (D k a : Nat) (σ : twS) (L : List Nat), a < 2147483648 → At d r (gFl u) k → (gFl u).length ≤ D → TW d σ → RP σ L → (tokL L (gW a u)).length ≤ 600 → WR σ (tokL L (gW a u)) (mT_writePart D (Int32.ofNat r) (Int32.ofNat (k + (gFl u).length - 1)) (Int32.ofNat a) σ)
/-- the two parts of a joined guard -/
theorem wp_two {d : Nat → Nat} (hF : FOk d) {r : Nat} (hr : r < 10) {A B : Term} {s : Nat} {W : List Nat} (hs : s = 2 ∧ W = [97, 110, 100] ∨ s = 3 ∧ W = [111, 114]) (hA : gOk d A) (hB : gOk d B) (iha : WPd d r A) (ihb : WPd d r B) (D k a : Nat) (σ : twS) (L : List Nat) (ha : a < 2147483648) (hAt : At d r (gFl A ++ (gFl B ++ [s])) k) (hD : (gFl A).length + ((gFl B).length + 1) ≤ D) (hT : TW d σ) (h : RP σ L) (hl : (tokL L (brk (decide (a < s)) (gW s A ++ 32 :: (W ++ 32 :: gW s B)))).length ≤ 600) : WR σ (tokL L (brk (decide (a < s)) (gW s A ++ 32 :: (W ++ 32 :: gW s B)))) (mT_writePart D (Int32.ofNat r) (Int32.ofNat (k + ((gFl A).length + ((gFl B).length + 1)) - 1)) (Int32.ofNat a) σ) := by
  obtain ⟨D, rfl⟩ : ∃ D', D = D' + 1 := ⟨D - 1, by omega⟩
  have hA2 := At.r (A := gFl A) (B := gFl B ++ [s]) hAt
  have h1 := At.one (At.r (A := gFl B) (B := [s]) hA2)
  have hp := gFl_pos (t := A) hA
  have hp2 := gFl_pos (t := B) hB
  have hs4 : s < 4 ∧ 2 ≤ s := by omega
  rw [show k + ((gFl A).length + ((gFl B).length + 1)) - 1 = k + (gFl A).length + (gFl B).length by omega]
  show WR _ _ (mO_writePart (mT_writePart D) _ _ _ _)
  have hneA := gW_ne (d := d) A s hA
  have hneB := gW_ne (d := d) B s hB
  have hneW : W ≠ [] := by
    rcases hs with ⟨-, h⟩ | ⟨-, h⟩ <;> rw [h] <;> simp
  -- what is between the brackets
  have mid : ∀ (σ : twS) (M : List Nat) (b : Bool), TW d σ → RP σ M → (tokL M (gW s A ++ 32 :: (W ++ 32 :: gW s B)) ++ tlB b).length ≤ 600 → WR σ (tokL M (gW s A ++ 32 :: (W ++ 32 :: gW s B)) ++ tlB b) (bT_writePart_84 (mT_writePart D) (Int32.ofNat r) (Int32.ofNat (k + (gFl A).length + (gFl B).length)) (Int32.ofNat s) (b32 b) σ) := by
    intro σ M b hT p hl
    have hl2 : (tokL M (gW s A ++ 32 :: (W ++ 32 :: gW s B))).length ≤ 600 := by rw [List.length_append] at hl; omega
    unfold bT_writePart_84
    rw [J_subL (by show 1 ≤ _; omega), tw_beginOf hT hF hr B DP (k + (gFl A).length) hB (At.l (A := gFl B) (B := [s]) hA2) (by have := hA2.2; rw [List.length_append] at this; show _ ≤ 64; omega), bd_J, J_subL (by show 1 ≤ _; omega)]
    have hlA : (tokL M (gW s A)).length ≤ 600 := Nat.le_trans (tokL_mono (u := 32 :: (W ++ 32 :: gW s B))) hl2
    refine (iha D k s σ M (by omega) (At.l (A := gFl A) (B := gFl B ++ [s]) hAt) (by omega) hT p hlA).bd fun σ1 f1 p1 => ?_
    have eW : tokL (tokL M (gW s A)) W = tokL M (gW s A ++ 32 :: W) := tokL_tok hneA
    have eB : tokL (tokL M (gW s A ++ 32 :: W)) (gW s B) = tokL M (gW s A ++ 32 :: (W ++ 32 :: gW s B)) := by rw [tokL_tok (by simp)]; simp
    have hlW : (tokL (tokL M (gW s A)) W).length ≤ 600 := by
      rw [eW]
      refine Nat.le_trans (tokL_mono (u := 32 :: gW s B)) ?_
      simpa using hl2
    have fin : ∀ σ2 : twS, TW d σ2 → RP σ2 (tokL M (gW s A ++ 32 :: W)) → WR σ2 (tokL M (gW s A ++ 32 :: (W ++ 32 :: gW s B)) ++ tlB b) (bd (mT_writePart D (Int32.ofNat r) (Int32.ofNat (k + (gFl A).length + (gFl B).length - 1)) (Int32.ofNat s) σ2) fun _ σ_10 => if b32 b = 0 then some (0, σ_10) else bd (mT_writeToken tS_390 σ_10) fun _ σ_12 => some (0, σ_12)) := by
      intro σ2 hT2 p2
      refine (ihb D (k + (gFl A).length) s σ2 _ (by omega) (At.l (A := gFl B) (B := [s]) hA2) (by omega) hT2 p2 (by rw [eB]; exact hl2)).bd fun σ3 f3 p3 => ?_
      rw [eB] at p3
      rw [ite_pq (b32_0 b)]
      cases b with
      | false =>
        rw [if_pos rfl]
        rw [show tlB false = [] from rfl, List.append_nil]
        exact WR.of p3
      | true =>
        rw [if_neg (by decide)]
        have e9 : tokL (tokL M (gW s A ++ 32 :: (W ++ 32 :: gW s B))) [41] = tokL M (gW s A ++ 32 :: (W ++ 32 :: gW s B)) ++ [32, 41] := tokL_ne (tokL_nn (by simp))
        have hl3 : (tokL M (gW s A ++ 32 :: (W ++ 32 :: gW s B)) ++ [32, 41]).length ≤ 600 := hl
        refine (tk1 (s := [41]) (h := p3) (hl := by rw [e9]; exact hl3)).bd fun σ4 f4 p4 => ?_
        rw [e9] at p4
        exact WR.of p4
    rcases hs with ⟨rfl, rfl⟩ | ⟨rfl, rfl⟩
    · rw [if_pos (by decide)]
      refine (tk1 (s := [97, 110, 100]) (h := p1) (hl := hlW)).bd fun σ2 f2 p2 => ?_
      rw [eW] at p2
      exact fin σ2 ((f1.trans f2).tw hT) p2
    · rw [if_neg (by decide)]
      refine (tk1 (s := [111, 114]) (h := p1) (hl := hlW)).bd fun σ2 f2 p2 => ?_
      rw [eW] at p2
      exact fin σ2 ((f1.trans f2).tw hT) p2
  unfold mO_writePart
  rw [J_addR, show OfNat.ofNat 1 + (k + (gFl A).length + (gFl B).length) = 1 + (k + (gFl A).length + (gFl B).length) from rfl, tw_of hT (by omega), bd_J, h1.1, iJ_ltL (by omega) (by decide), if_pos (show s < 10 by omega), iJ_eqL (by omega) (by decide), if_neg (show ¬ s = 4 by omega), iJ_eqL (by omega) (by decide), if_neg (show ¬ s = 1 by omega), iJ_le (by omega) (by omega)]
  by_cases c : s ≤ a
  · rw [if_pos c]
    rw [decide_eq_false (show ¬ a < s by omega)] at hl ⊢
    have hl' : (tokL L (gW s A ++ 32 :: (W ++ 32 :: gW s B)) ++ tlB false).length ≤ 600 := by
      simpa [brk, tlB] using hl
    have := mid σ L false hT h hl'
    unfold bT_writePart_70
    rw [if_pos rfl]
    simpa [brk, b32, tlB] using this
  · rw [if_neg c]
    rw [decide_eq_true (show a < s by omega)] at hl ⊢
    have e0 : tokL L (brk true (gW s A ++ 32 :: (W ++ 32 :: gW s B))) = tokL (tokL L [40]) (gW s A ++ 32 :: (W ++ 32 :: gW s B)) ++ [32, 41] := by
      rw [tokL_tok (by simp), tokL_app]
      simp [brk]
    rw [e0] at hl ⊢
    unfold bT_writePart_70
    rw [if_neg (by decide)]
    have hl4 : (tokL L [40]).length ≤ 600 := by
      have h8 := (tokL_len (L := tokL L [40]) (s := gW s A ++ 32 :: (W ++ 32 :: gW s B))).2
      rw [List.length_append] at hl
      omega
    refine (tk1 (s := [40]) (h := h) (hl := hl4)).bd fun σ1 f1 p1 => ?_
    exact mid σ1 _ true (f1.tw hT) p1 hl
theorem tw_writePart {d : Nat → Nat} (hF : FOk d) {r : Nat} (hr : r < 10) : ∀ u, gOk d u → WPd d r u := by
  intro u
  induction u with
  | arg s =>
    intro h D k a σ L ha hA hD hT p hl
    obtain ⟨D, rfl⟩ : ∃ D', D = D' + 1 := ⟨D - 1, by simp [gFl] at hD; omega⟩
    have h1 := hA.one
    have hl74 : s < 74 := gFl_lt hF (.arg s) h s (List.mem_singleton.mpr rfl)
    have h10 : 10 ≤ s := h.1
    show WR _ _ (mO_writePart (mT_writePart D) (Int32.ofNat r) (Int32.ofNat k) _ _)
    unfold mO_writePart
    rw [J_addR, show OfNat.ofNat 1 + k = 1 + k from rfl, tw_of hT (by omega), bd_J, h1.1, iJ_ltL (by omega) (by decide), if_neg (show ¬ s < 10 by omega)]
    exact (tw_writeCompare hF h p hl).bd fun σ1 f1 p1 => WR.of p1
  | null =>
    intro h D k a σ L ha hA hD hT p hl
    obtain ⟨D, rfl⟩ : ∃ D', D = D' + 1 := ⟨D - 1, by simp [gFl] at hD; omega⟩
    have h1 := At.one (s := 4) hA
    show WR _ _ (mO_writePart (mT_writePart D) (Int32.ofNat r) (Int32.ofNat k) _ _)
    unfold mO_writePart
    rw [J_addR, show OfNat.ofNat 1 + k = 1 + k from rfl, tw_of hT (by omega), bd_J, h1.1, iJ_ltL (by omega) (by decide), if_pos (by decide), iJ_eqL (by omega) (by decide), if_pos rfl]
    exact (tk1 (s := [97, 108, 119, 97, 121, 115]) (h := p) (hl := hl)).bd fun σ1 f1 p1 => WR.of p1
  | length t ih =>
    intro h D k a σ L ha hA hD hT p hl
    obtain ⟨D, rfl⟩ : ∃ D', D = D' + 1 := ⟨D - 1, by simp [gFl] at hD; omega⟩
    have h1 := At.one (At.r (A := gFl t) (B := [1]) hA)
    have hp := gFl_pos (t := t) h
    have e : (gFl (.length t)).length = (gFl t).length + 1 := by simp [gFl]
    rw [e] at hD ⊢
    rw [show k + ((gFl t).length + 1) - 1 = k + (gFl t).length by omega]
    show WR _ _ (mO_writePart (mT_writePart D) _ _ _ _)
    unfold mO_writePart
    rw [J_addR, show OfNat.ofNat 1 + (k + (gFl t).length) = 1 + (k + (gFl t).length) from rfl, tw_of hT (by omega), bd_J, h1.1, iJ_ltL (by omega) (by decide), if_pos (by decide), iJ_eqL (by omega) (by decide), if_neg (by decide), iJ_eqL (by omega) (by decide), if_pos rfl, J_subL (by show 1 ≤ _; omega)]
    have e0 : tokL (tokL L [110, 111, 116]) (gW 1 t) = tokL L (gW a (.length t)) := by
      rw [tokL_tok (by simp)]; rfl
    rw [← e0] at hl ⊢
    refine (tk1 (s := [110, 111, 116]) (h := p) (hl := Nat.le_trans (tokL_len).2 hl)).bd fun σ1 f1 p1 => ?_
    exact (ih h D k 1 σ1 _ (by decide) (At.l (A := gFl t) (B := [1]) hA) (by omega) (f1.tw hT) p1 hl).bd fun σ2 f2 p2 => WR.of p2
  | mul A B iha ihb =>
    intro h D k a σ L ha hA hD hT p hl
    have e : (gFl (.mul A B)).length = (gFl A).length + ((gFl B).length + 1) := by simp [gFl]
    rw [e] at hD ⊢
    exact wp_two hF hr (W := [97, 110, 100]) (Or.inl ⟨rfl, rfl⟩) h.1 h.2 (iha h.1) (ihb h.2) D k a σ L ha hA hD hT p hl
  | add A B iha ihb =>
    intro h D k a σ L ha hA hD hT p hl
    have e : (gFl (.add A B)).length = (gFl A).length + ((gFl B).length + 1) := by simp [gFl]
    rw [e] at hD ⊢
    exact wp_two hF hr (W := [111, 114]) (Or.inr ⟨rfl, rfl⟩) h.1 h.2 (iha h.1) (ihb h.2) D k a σ L ha hA hD hT p hl
  | _ => intro h; exact h.elim
