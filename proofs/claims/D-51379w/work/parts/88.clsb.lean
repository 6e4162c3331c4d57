/-! THE PLAIN LAW, the class' side: texts that are written -/
set_option maxRecDepth 100000
/-- a text that is written, with its array's length -/
def SBx (o : oW) (σ : cS) (x k p : Nat) (B : List Nat) (cap : Nat) : Prop := o p = (x + 1, k) ∧ ∃ (by_ : Nat) (f : Nat → Int32) (ml : Int32), o by_ = (x + 1, k + 1) ∧ σ.1 p = some (.inr (11, [.ref by_, .int 0, .int ml, .int (Int32.ofNat B.length)])) ∧ σ.1 by_ = some (.inl (1, cap, .inl f)) ∧ (B.length ≤ cap ∧ (cap = 16 ∨ cap = 34 ∨ cap = 70 ∨ cap = 142 ∨ cap = 286 ∨ cap = 574 ∨ cap = 1150)) ∧ (∀ i, i < B.length → f i = (Int32.ofNat (B.getD i 0)).toInt8.toInt32) ∧ ∀ i, i < cap → (f i).toInt8.toInt32 = f i
theorem SBx.c {o : oW} {σ : cS} {x k p cap : Nat} {B : List Nat} (h : SBx o σ x k p B cap) : SBc o σ x k p B := by
  obtain ⟨h1, b, f, ml, h2⟩ := h
  exact ⟨h1, b, cap, f, ml, h2⟩
theorem SBc.x {o : oW} {σ : cS} {x k p : Nat} {B : List Nat} (h : SBc o σ x k p B) : ∃ cap, SBx o σ x k p B cap ∧ cap ≤ 2000 := by
  obtain ⟨h1, b, cap, f, ml, h2, h3, h4, h5, h6⟩ := h
  exact ⟨cap, ⟨h1, b, f, ml, h2, h3, h4, h5, h6⟩, by omega⟩
theorem cpI_0 {β : Type} {σ : cS} {a b kd n0 n1 n : Nat} {f h : Nat → Int32} {K : cS → Option β} (ha : σ.1 a = some (.inl (kd, n0, .inl f))) (hb : σ.1 b = some (.inl (kd, n1, .inl h))) (h0 : n ≤ n0) (h1 : n ≤ n1) (hn : n0 < 2147483648 ∧ n1 < 2147483648) (hw : σ.2 2 ≤ b) (hv : kd = 0 ∨ ∀ q, q < n → (f q).toInt8.toInt32 = f q) : cpI σ kd (some a) 0 (some b) 0 (Int32.ofNat n) K = K (cU σ b (.inl (kd, n1, .inl (va_cpy f h 0 0 n)))) := cpI_J (i := 0) (j := 0) ha hb (by omega) (by omega) hn hw (by
  rcases hv with w | w
  · exact Or.inl w
  · exact Or.inr (fun q hq => by rw [Nat.zero_add]; exact w q hq))
theorem J_l0 (x : Int32) : x <<< ((0 : Int32) &&& 31) = x := by
  rw [show ((0 : Int32) &&& 31) = 0 from rfl]
  simp
theorem J_r0 (x : Int32) : x >>> ((0 : Int32) &&& 31) = x := by
  rw [show ((0 : Int32) &&& 31) = 0 from rfl]
  simp
theorem nar_nar (x : Int32) : (x.toInt8.toInt32).toInt8.toInt32 = x.toInt8.toInt32 := by simp
/-- what the two cells of a text are to their object -/
def SbM (o : oW) (x k : Nat) : Nat → Prop := fun q => o q = (x + 1, k) ∨ o q = (x + 1, k + 1)
/-- room for the array to grow -/
def RB (σ : cS) (cap n m : Nat) : Prop := Rm σ (n + (2000 - cap)) (m + 2 * (2000 - cap))
section SBS
variable {o : oW} {σ : cS} {x k p cap n m : Nat} {B : List Nat}
theorem SBx.nn {β : Type} {K : Nat → Option β} (h : SBx o σ x k p B cap) : nn σ (some p) 11 K = K p := sb_nn h.c
theorem sb_lat (h : SBx o σ x k p B cap) : m_J2_isLatin1 p σ = some (1, σ) := by
  obtain ⟨-, b, f, ml, -, h1, -⟩ := h
  unfold m_J2_isLatin1
  rw [if_neg (by decide), gI_J h1 rfl, if_pos rfl]
  rfl
theorem sb_ens (hS : SI o σ) (h : SBx o σ x k p B cap) {N : Nat} (hN : N ≤ 900) (hN2 : N ≤ B.length + 10) (hR : RB σ cap n m) : ∃ σ' o' cap', m_J2_ensureCapacityInternal p (Int32.ofNat N) σ = some (0, σ') ∧ SBx o' σ' x k p B cap' ∧ N ≤ cap' ∧ SI o' σ' ∧ Ch (SbM o x k) σ σ' ∧ (∀ q, q < σ.2 0 → o' q = o q) ∧ RB σ' cap' n m := by
  obtain ⟨o1, by_, f, ml, o2, h1, h2, ⟨h3, h4⟩, h5, h6⟩ := id h
  have hne : p ≠ by_ := ne_role o1 o2 (by omega)
  have hb0 := hS.lt h2
  have hp0 := hS.lt h1
  have hs2 := hS.2.1
  unfold m_J2_ensureCapacityInternal
  rw [gR_J h1 rfl, aL_J h2 (by show 1 < 6; decide)]
  dsimp only
  rw [gI_J h1 rfl, J_r0, lt_J, ite_pq (J_sle (by omega) (by omega))]
  by_cases c : N ≤ cap
  · rw [if_pos c]
    exact ⟨σ, o, cap, rfl, h, c, hS, Ch.rf, fun _ _ => rfl, hR⟩
  · rw [if_neg c, gR_J h1 rfl, nn_J h1]
    unfold m_J2_newCapacity
    generalize hcap' : (if N - cap < cap + 2 then cap + (cap + 2) else cap + (N - cap)) = cap'
    have hc0 : cap' = 2 * cap + 2 := by
      rw [← hcap', if_pos (by omega)]
      omega
    have hc1 : 2 * cap ≤ cap' ∧ N ≤ cap' ∧ cap' ≤ 1802 ∧ cap < cap' := by omega
    have e1 : m_J15_newLength (Int32.ofNat cap) (Int32.ofNat N - Int32.ofNat cap) (Int32.ofNat cap + (2 <<< ((0 : Int32) &&& 31))) σ = some (Int32.ofNat cap', σ) := by
      unfold m_J15_newLength
      rw [J_l0, J_sub (by omega), J_addL, lt_J]
      have e2 : (if Int32.ofNat (N - cap) < Int32.ofNat (cap + OfNat.ofNat 2) then Int32.ofNat (cap + OfNat.ofNat 2) else Int32.ofNat (N - cap)) = Int32.ofNat (if N - cap < cap + 2 then cap + 2 else N - cap) := by
        rw [iJ_lt (by omega) (by show cap + 2 < _; omega)]
        split
        · rfl
        · rfl
      rw [e2, J_add, lt_J]
      have e3 : cap + (if N - cap < cap + 2 then cap + 2 else N - cap) = cap' := by
        rw [← hcap']
        split <;> rfl
      rw [e3, iJ_leL (by omega) (by decide), if_neg (by show ¬ cap' ≤ 0; omega), iJ_ltR (by decide) (by omega), if_neg (by show ¬ 2147483639 < cap'; omega)]
    rw [gR_J h1 rfl, aL_J h2 (by show 1 < 6; decide)]
    dsimp only
    rw [gI_J h1 rfl, J_l0, lt_J, lt_J, gI_J h1 rfl, e1, bd_J, iJ_eqL (by omega) (by decide), if_neg (by show ¬ cap' = 2147483647; omega), gI_J h1 rfl, J_r0, bd_J, gI_J h1 rfl, J_l0]
    unfold m_J9_copyOf
    have hR' : σ.2 0 + 1 ≤ σ.2 3 ∧ σ.2 1 + cap' ≤ σ.2 4 := by
      have a1 := hR.1
      have a2 := hR.2
      omega
    rw [aL_J h2 (by show 1 < 6; decide)]
    dsimp only
    rw [iJ_eq (by omega) (by omega), if_neg (by omega), nA_J (by omega) hR'.1 hR'.2]
    have c2 : (cN σ (.inl (1, cap', .inl (fun _ => 0))) cap').1 by_ = some (.inl (1, cap, .inl f)) := by rw [cN_n (by omega)]; exact h2
    rw [aL_J c2 (by show 1 < 6; decide), lt_J]
    dsimp only
    rw [iJ_lt (by omega) (by omega), if_neg (by omega), cpI_0 c2 cN_s (by omega) (by omega) (by omega) (by rw [cN_k (by decide)]; exact hs2) (Or.inr h6), bd_J, cN_cU]
    have c1 : (cN σ (.inl (1, cap', .inl (va_cpy f (fun _ => 0) 0 0 cap))) cap').1 p = some (.inr (11, [.ref by_, .int 0, .int ml, .int (Int32.ofNat B.length)])) := by rw [cN_n (by omega)]; exact h1
    rw [pO_J c1 (by show 0 < 4; decide) (by rw [cN_k (by decide)]; exact hS.w o1)]
    have C1 : Ch (SbM o x k) σ (cU (cN σ (.inl (1, cap', .inl (va_cpy f (fun _ => 0) 0 0 cap))) cap') p (.inr (11, List.set [Value.ref by_, .int 0, .int ml, .int (Int32.ofNat B.length)] 0 (va_rf (some (σ.2 0)))))) := (Ch.cN Ch.rf).cU c1 (Or.inr (Or.inl o1))
    have d1 : (cU (cN σ (.inl (1, cap', .inl (va_cpy f (fun _ => 0) 0 0 cap))) cap') p (.inr (11, List.set [Value.ref by_, .int 0, .int ml, .int (Int32.ofNat B.length)] 0 (va_rf (some (σ.2 0)))))).1 p = some (.inr (11, [.ref (σ.2 0), .int 0, .int ml, .int (Int32.ofNat B.length)])) := cU_s
    have d2 : (cU (cN σ (.inl (1, cap', .inl (va_cpy f (fun _ => 0) 0 0 cap))) cap') p (.inr (11, List.set [Value.ref by_, .int 0, .int ml, .int (Int32.ofNat B.length)] 0 (va_rf (some (σ.2 0)))))).1 (σ.2 0) = some (.inl (1, cap', .inl (va_cpy f (fun _ => 0) 0 0 cap))) := by rw [cU_n (by omega), cN_s]
    have d3 : RB (cU (cN σ (.inl (1, cap', .inl (va_cpy f (fun _ => 0) 0 0 cap))) cap') p (.inr (11, List.set [Value.ref by_, .int 0, .int ml, .int (Int32.ofNat B.length)] 0 (va_rf (some (σ.2 0)))))) cap' n m := by
      have a1 := hR.1
      have a2 := hR.2
      unfold RB Rm
      rw [cU_2, cN_0, cN_1, cN_k (by decide), cN_k (by decide)]
      omega
    generalize cU (cN σ (.inl (1, cap', .inl (va_cpy f (fun _ => 0) 0 0 cap))) cap') p (.inr (11, List.set [Value.ref by_, .int 0, .int ml, .int (Int32.ofNat B.length)] 0 (va_rf (some (σ.2 0))))) = σ2 at C1 d1 d2 d3 ⊢
    have S2 : SI (oN o (σ.2 0) (x + 1, k + 1)) σ2 := by
      refine SI.oN (v := (x + 1, k + 1)) (hS.ch C1) ⟨by rw [C1.k (by decide)]; exact hs2, (by rw [d2]; exact fun w => (by cases w)), ?_⟩
      have := (hS.2.2 p (by rw [o1]; exact Nat.succ_ne_zero _)).2.2
      rw [o1] at this
      exact C1.2.2.2.1 x this
    refine ⟨σ2, oN o (σ.2 0) (x + 1, k + 1), cap', rfl, ⟨by rw [oN_n (by omega)]; exact o1, σ.2 0, _, ml, oN_s, d1, d2, ⟨by omega, by omega⟩, fun i hi => ?_, fun i hi => ?_⟩, hc1.2.1, S2, C1, fun q hq => oN_n (by omega), d3⟩
    · rw [pk_cpy_in (by omega) (by omega), Nat.zero_add, Nat.sub_zero]
      exact h5 i hi
    · by_cases c3 : i < cap
      · rw [pk_cpy_in (by omega) (by omega), Nat.zero_add, Nat.sub_zero]
        exact h6 i c3
      · rw [pk_cpy_out (Or.inr (by omega))]
        rfl
/-- the end of an append: the array holds more, the length is set -/
theorem sb_fin (hS : SI o σ) {by_ : Nat} {f : Nat → Int32} {ml : Int32} {s : List Nat} (o1 : o p = (x + 1, k)) (o2 : o by_ = (x + 1, k + 1)) (h1 : σ.1 p = some (.inr (11, [.ref by_, .int 0, .int ml, .int (Int32.ofNat B.length)]))) (h2 : σ.1 by_ = some (.inl (1, cap, .inl f))) (hc : B.length + s.length ≤ cap ∧ (cap = 16 ∨ cap = 34 ∨ cap = 70 ∨ cap = 142 ∨ cap = 286 ∨ cap = 574 ∨ cap = 1150)) (hB : ∀ i, i < B.length → f i = (Int32.ofNat (B.getD i 0)).toInt8.toInt32) (hs : ∀ i, i < s.length → f (B.length + i) = (Int32.ofNat (s.getD i 0)).toInt8.toInt32) (h6 : ∀ i, i < cap → (f i).toInt8.toInt32 = f i) : SBx o (cU σ p (.inr (11, [.ref by_, .int 0, .int ml, .int (Int32.ofNat (B.length + s.length))]))) x k p (B ++ s) cap := by
  have hne : p ≠ by_ := ne_role o1 o2 (by omega)
  refine ⟨o1, by_, f, ml, o2, by rw [cU_s, List.length_append], by rw [cU_n (Ne.symm hne)]; exact h2, ⟨by rw [List.length_append]; exact hc.1, hc.2⟩, fun i hi => ?_, h6⟩
  rw [List.length_append] at hi
  by_cases c : i < B.length
  · rw [getD_l c]; exact hB i c
  · have := hs (i - B.length) (by omega)
    rw [show B.length + (i - B.length) = i by omega] at this
    rw [this]
    have e := getD_r (A := B) (B := s) (i := i - B.length)
    rw [show B.length + (i - B.length) = i by omega] at e
    rw [e]
/-- a text's own word, read -/
def STR (σ : cS) (q : Nat) (s : List Nat) : Prop := ∃ (by_ : Nat) (h z : Int32) (f : Nat → Int32), σ.1 q = some (.inr (12, [.ref by_, .int 0, .int h, .int z])) ∧ σ.1 by_ = some (.inl (1, s.length, .inl f)) ∧ ∀ i, i < s.length → f i = (Int32.ofNat (s.getD i 0)).toInt8.toInt32
theorem SC.s {q : Nat} {s : List Nat} (h : SC o σ q s) : STR σ q s := by
  obtain ⟨b, x, z, f, -, -, h3, h4, h5⟩ := h
  exact ⟨b, x, z, f, h3, h4, h5⟩
theorem STR.len {q : Nat} {s : List Nat} (h : STR σ q s) : m_J4_length q σ = some (Int32.ofNat s.length, σ) := by
  obtain ⟨b, x, z, f, h1, h2, h3⟩ := h
  unfold m_J4_length m_J4_coder
  rw [gR_J h1 rfl, aL_J h2 (by show 1 < 6; decide), nn_J h1, if_neg (by decide), gI_J h1 rfl]
  dsimp only
  rw [show rb (0 : Int32) σ = some (0, σ) from rfl, bd_J, J_r0]
theorem STR.nn {β : Type} {q : Nat} {s : List Nat} {K : Nat → Option β} (h : STR σ q s) : nn σ (some q) 12 K = K q := by
  obtain ⟨b, x, z, f, h1, h2, h3⟩ := h
  exact nn_J h1
theorem STR.ch {L : Nat → Prop} {σ' : cS} {q : Nat} {s : List Nat} (h : STR σ q s) (hC : Ch L σ σ') (hW : Wf σ) (hL : ∀ p, p = q ∨ (∃ fs, σ.1 q = some (.inr (12, .ref p :: fs))) → ¬ L p) : STR σ' q s := by
  obtain ⟨b, x, z, f, h1, h2, h3⟩ := h
  exact ⟨b, x, z, f, hC.c hW h1 (hL q (Or.inl rfl)), hC.c hW h2 (hL b (Or.inr ⟨_, h1⟩)), h3⟩
end SBS
