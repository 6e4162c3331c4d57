/-! THE PLAIN LAW: undo, snapshots, typing, as the twin does them -/
set_option maxRecDepth 100000
theorem TP_nil {σ : twS} (h : σ.2 5 = 0) : TP [] σ := ⟨by decide, h, fun j V hj => by cases hj⟩
theorem TB_nil {σ : twS} (h : σ.2 9 = 0) : TB [] σ := ⟨by decide, (fun x hx => by cases hx), h, fun i hi => by simp at hi⟩
def sp_undo (S : SS) : Nat × Int32 × SS := match S.2.1.getLast? with
  | none => (0, -1, S)
  | some W => (0, Int32.ofNat (S.2.1.length - 1), (W, S.2.1.dropLast, S.2.2))
theorem pt_undo {σ : twS} {S : SS} (hI : TInv σ S) : TRs (mT_undo σ) (sp_undo S) := by
  obtain ⟨⟨hT, hW⟩, hP, hK, hB, hR, h8⟩ := hI
  have hI : TInv σ S := ⟨⟨hT, hW⟩, hP, hK, hB, hR, h8⟩
  have hl := hP.1
  unfold mT_undo sp_undo
  have e5 : (twI σ 13 0).2 5 = Int32.ofNat S.2.1.length := hP.2.1
  rw [lt_J, e5, iJ_eqL (by omega) (by decide)]
  cases hg : S.2.1.getLast? with
  | none =>
    have h0 : S.2.1 = [] := List.getLast?_eq_none_iff.mp hg
    rw [if_pos (by rw [h0]; rfl)]
    exact TRs.q hI fr15.rf rfl
  | some W =>
    have hne : S.2.1 ≠ [] := by intro q; rw [q] at hg; cases hg
    have hn : 1 ≤ S.2.1.length := List.length_pos_iff.mpr hne
    have hj : S.2.1[S.2.1.length - 1]? = some W := by rw [← List.getLast?_eq_getElem?]; exact hg
    obtain ⟨hW2, hT2⟩ := hP.2.2 _ W hj
    rw [if_neg (by show ¬ S.2.1.length = 0; omega), lt_J, J_subL (show OfNat.ofNat 1 ≤ S.2.1.length from hn), show S.2.1.length - OfNat.ofNat 1 = S.2.1.length - 1 from rfl]
    generalize hσ : twI (twI σ 13 0) 5 (Int32.ofNat (S.2.1.length - 1)) = σ0
    have a0 : σ0.1 = σ.1 := by rw [← hσ]; rfl
    have b0 : ∀ k, k ≠ 13 → k ≠ 5 → σ0.2 k = σ.2 k := fun k h1 h2 => by rw [← hσ]; simp [twI, h1, h2]
    have b5 : σ0.2 5 = Int32.ofNat (S.2.1.length - 1) := by rw [← hσ]; rfl
    have b13 : σ0.2 13 = 0 := by rw [← hσ]; rfl
    have h0 : bT_undo_26 FU 0 (cpO σ0 0 0 0 (fun i => Int32.ofNat (W.1 i))) = some (Int32.ofNat (S.2.1.length - 1), cpO σ0 0 0 358 (fun i => Int32.ofNat (W.1 i))) := by
      refine loop_FU (fun g k => bT_undo_26 g (Int32.ofNat k) (cpO σ0 0 0 k (fun i => Int32.ofNat (W.1 i)))) (fun _ => some (Int32.ofNat (S.2.1.length - 1), cpO σ0 0 0 358 (fun i => Int32.ofNat (W.1 i)))) 358 (by decide) (fun g k hk ih => ?_) (fun g => ?_)
      · show bT_undo_26 (g + 1) _ _ = _
        have e := cpO_s (σ := σ0) (q := 0) (off := 0) (n := k) (g := fun i => Int32.ofNat (W.1 i)) rfl
        rw [Nat.zero_add] at e
        have e5 : (cpO σ0 0 0 k (fun i => Int32.ofNat (W.1 i))).2 5 = Int32.ofNat (S.2.1.length - 1) := b5
        have e1 : (cpO σ0 0 0 k (fun i => Int32.ofNat (W.1 i))).1 3 (358 * (S.2.1.length - 1) + k) = Int32.ofNat (W.1 k) := by
          rw [cpO_ne (by decide), a0]
          exact hT2 k hk
        rw [bT_undo_26, iJ_leR (by decide) (by omega), if_neg (by show ¬ 358 ≤ k; omega), e5, J_mulR, J_add, show OfNat.ofNat 358 * (S.2.1.length - 1) + k = 358 * (S.2.1.length - 1) + k from rfl, ald_J (by omega) (by decide), e1, ast_J hk (by decide), e, lt_J, J_addL]
        exact ih
      · show bT_undo_26 (g + 1) _ _ = _
        have e5 : (cpO σ0 0 0 358 (fun i => Int32.ofNat (W.1 i))).2 5 = Int32.ofNat (S.2.1.length - 1) := b5
        rw [bT_undo_26, iJ_leR (by decide) (by decide), if_pos (Nat.le_refl _), e5]
    rw [cpO_0] at h0
    refine ⟨cpO σ0 0 0 358 (fun i => Int32.ofNat (W.1 i)), ⟨⟨fun i hi => ?_, hW2⟩, ⟨?_, ?_, fun j V hj2 => ?_⟩, ?_, ?_, ?_, h8⟩, ?_, h0⟩
    · have := cpO_in (σ := σ0) (q := 0) (off := 0) (n := 358) (i := i) (g := fun i => Int32.ofNat (W.1 i)) hi
      rwa [Nat.zero_add] at this
    · show S.2.1.dropLast.length ≤ 8
      rw [List.length_dropLast]; omega
    · show σ0.2 5 = Int32.ofNat S.2.1.dropLast.length
      rw [List.length_dropLast, b5]
    · have hj3 : S.2.1[j]? = some V := by
        have h5 : S.2.1.dropLast[j]? = some V := hj2
        rw [List.getElem?_dropLast] at h5
        split at h5
        · exact h5
        · cases h5
      obtain ⟨h1, h2⟩ := hP.2.2 j V hj3
      refine ⟨h1, fun i hi => ?_⟩
      rw [cpO_ne (by decide), a0]
      exact h2 i hi
    · exact hK.fr (by rw [cpO_ne (by decide), a0]) (b0 6 (by decide) (by decide))
    · exact hB.fr (by rw [cpO_ne (by decide), a0]) (b0 9 (by decide) (by decide))
    · exact hR.fr (by rw [cpO_ne (by decide), a0]) (b0 12 (by decide) (by decide))
    · exact b13
def upK (K : Nat → Option Wl) (k : Nat) (W : Wl) : Nat → Option Wl := fun j => if j = k then some W else K j
theorem kBits_bit {K : Nat → Option Wl} {k : Nat} (hk : k < 2) : (kBits K).testBit k = (K k).isSome := by
  unfold kBits
  obtain rfl | rfl : k = 0 ∨ k = 1 := by omega
  · cases (K 0).isSome <;> cases (K 1).isSome <;> decide
  · cases (K 0).isSome <;> cases (K 1).isSome <;> decide
theorem kBits_le {K : Nat → Option Wl} : kBits K ≤ 3 := by
  unfold kBits
  split <;> split <;> omega
theorem kBits_up {K : Nat → Option Wl} {k : Nat} {W : Wl} (hk : k < 2) : kBits K ||| 2 ^ k = kBits (upK K k W) := by
  obtain rfl | rfl : k = 0 ∨ k = 1 := by omega
  · show (if (K 0).isSome = true then 1 else 0) + (if (K 1).isSome = true then 2 else 0) ||| 2 ^ 0 = 1 + (if (K 1).isSome = true then 2 else 0)
    cases (K 0).isSome <;> cases (K 1).isSome <;> decide
  · show (if (K 0).isSome = true then 1 else 0) + (if (K 1).isSome = true then 2 else 0) ||| 2 ^ 1 = (if (K 0).isSome = true then 1 else 0) + 2
    cases (K 0).isSome <;> cases (K 1).isSome <;> decide
def sp_saveSnapshot (x1 : Int32) (S : SS) : Nat × Int32 × SS := if inB x1 2 then (0, b32 (S.2.2.1 x1.toNatClampNeg).isSome, (S.1, S.2.1, upK S.2.2.1 x1.toNatClampNeg S.1, S.2.2.2)) else (1, 0, S)
theorem pt_saveSnapshot {σ : twS} {S : SS} (hI : TInv σ S) (x1 : Int32) : TRs (mT_saveSnapshot x1 σ) (sp_saveSnapshot x1 S) := by
  rw [ck_saveSnapshot hI.1.1 hI.1.2.1]
  unfold sp_saveSnapshot
  by_cases hc : inB x1 2 = true
  · rw [if_pos hc, if_pos hc]
    obtain ⟨k, hk, rfl⟩ := inB_of hc
    rw [J_cl (by omega)]
    have hI0 := hI.q (frP0 (x := 0))
    have hz : (twI σ 13 0).2 13 = 0 := rfl
    generalize twI σ 13 0 = σ0 at hI0 hz ⊢
    obtain ⟨⟨hT, hW⟩, hP, hK, hB, hR, h8⟩ := hI0
    have hkb := kBits_le (K := S.2.2.1)
    have key : ∀ b : Bool, TRs (bT_saveSnapshot_40 (Int32.ofNat k) (b32 b) σ0) (0, b32 b, (S.1, S.2.1, upK S.2.2.1 k S.1, S.2.2.2)) := by
      intro b
      unfold bT_saveSnapshot_40
      rw [lt_J, hK.1, J_shl k (by omega), J_or, kBits_up hk]
      generalize hσ : twI σ0 6 (Int32.ofNat (kBits (upK S.2.2.1 k S.1))) = σ1
      have a0 : σ1.1 = σ0.1 := by rw [← hσ]; rfl
      have b0 : ∀ k, k ≠ 6 → σ1.2 k = σ0.2 k := fun k h1 => by rw [← hσ]; simp [twI, h1]
      have b6 : σ1.2 6 = Int32.ofNat (kBits (upK S.2.2.1 k S.1)) := by rw [← hσ]; rfl
      have h0 : bT_saveSnapshot_55 FU (Int32.ofNat k) (b32 b) 0 (cpO σ1 4 (358 * k) 0 (fun i => Int32.ofNat (S.1.1 i))) = some (b32 b, cpO σ1 4 (358 * k) 358 (fun i => Int32.ofNat (S.1.1 i))) := by
        refine loop_FU (fun g j => bT_saveSnapshot_55 g (Int32.ofNat k) (b32 b) (Int32.ofNat j) (cpO σ1 4 (358 * k) j (fun i => Int32.ofNat (S.1.1 i)))) (fun _ => some (b32 b, cpO σ1 4 (358 * k) 358 (fun i => Int32.ofNat (S.1.1 i)))) 358 (by decide) (fun g j hj ih => ?_) (fun g => ?_)
        · show bT_saveSnapshot_55 (g + 1) _ _ _ _ = _
          have hT1 : TW S.1.1 (cpO σ1 4 (358 * k) j (fun i => Int32.ofNat (S.1.1 i))) := TW.fr hT (by rw [cpO_ne (by decide), a0])
          rw [bT_saveSnapshot_55, iJ_leR (by decide) (by omega), if_neg (by show ¬ 358 ≤ j; omega), tw_ald hT1 hj, J_mulR, J_add, show OfNat.ofNat 358 * k + j = 358 * k + j from rfl, ast_J (by omega) (by decide), cpO_s (g := fun i => Int32.ofNat (S.1.1 i)) rfl, lt_J, J_addL]
          exact ih
        · show bT_saveSnapshot_55 (g + 1) _ _ _ _ = _
          rw [bT_saveSnapshot_55, iJ_leR (by decide) (by decide), if_pos (Nat.le_refl _), rz_b]
      rw [cpO_0] at h0
      refine ⟨cpO σ1 4 (358 * k) 358 (fun i => Int32.ofNat (S.1.1 i)), ⟨⟨TW.fr hT (by rw [cpO_ne (by decide), a0]), hW⟩, hP.fr (by rw [cpO_ne (by decide), a0]) (b0 5 (by decide)), ⟨b6, fun j V hj2 hV => ?_⟩, hB.fr (by rw [cpO_ne (by decide), a0]) (b0 9 (by decide)), hR.fr (by rw [cpO_ne (by decide), a0]) (b0 12 (by decide)), h8⟩, (b0 13 (by decide)).trans hz, h0⟩
      have hV2 : upK S.2.2.1 k S.1 j = some V := hV
      unfold upK at hV2
      by_cases c : j = k
      · rw [if_pos c] at hV2
        cases hV2
        refine ⟨hW, fun i hi => ?_⟩
        rw [c, cpO_in hi]
      · rw [if_neg c] at hV2
        obtain ⟨q1, q2⟩ := hK.2 j V hj2 hV2
        refine ⟨q1, fun i hi => ?_⟩
        rw [cpO_out (by omega), a0]
        exact q2 i hi
    unfold q_saveSnapshot
    rw [hK.1, ite_pq (J_bit (by omega) (by omega)), kBits_bit hk]
    cases hs : (S.2.2.1 k).isSome with
    | true => rw [if_pos rfl]; exact key true
    | false => rw [if_neg (by decide)]; exact key false
  · rw [if_neg hc, if_neg hc]
    exact TRs.t hI (by rw [Bool.eq_false_iff.mpr hc]; rfl)
def sp_restoreSnapshot (x1 : Int32) (S : SS) : Nat × Int32 × SS := if inB x1 2 then (match S.2.2.1 x1.toNatClampNeg with
  | none => (2, 0, S)
  | some W => (0, Int32.ofNat (W.1 17), (W, [], S.2.2))) else (1, 0, S)
theorem pt_restoreSnapshot {σ : twS} {S : SS} (hI : TInv σ S) (x1 : Int32) : TRs (mT_restoreSnapshot x1 σ) (sp_restoreSnapshot x1 S) := by
  have hkb := kBits_le (K := S.2.2.1)
  have hK := hI.2.2.1
  unfold mT_restoreSnapshot sp_restoreSnapshot
  rw [tw_inI (n := 2) (by decide), bd_J, ite_pq (b32_0 _)]
  cases hb : inB x1 2 with
  | false =>
    rw [if_pos rfl, if_neg (by decide)]
    unfold bT_restoreSnapshot_17 bT_restoreSnapshot_36 bT_restoreSnapshot_37
    rw [if_pos (by decide), show mT_throwsOne_2 1 0 σ = some (1, twI σ 13 1) from rfl, bd_J, if_neg (by decide)]
    exact TRs.t hI (k := 1) rfl
  | true =>
    rw [if_neg (by decide), if_pos rfl]
    obtain ⟨k, hk, rfl⟩ := inB_of hb
    unfold bT_restoreSnapshot_17
    rw [if_neg (by decide), J_cl (by omega), hK.1]
    have e01 : ((Int32.ofNat (kBits S.2.2.1) >>> (Int32.ofNat k &&& 31)) &&& 1 = 0) = ((S.2.2.1 k).isSome = false) := by
      rw [J_shr (by omega) (by omega), show (1 : Int32) = Int32.ofNat 1 from rfl, J_and, ← kBits_bit hk]
      rw [show (0 : Int32) = Int32.ofNat 0 from rfl, J_eq (by have := Nat.and_le_right (n := kBits S.2.2.1 >>> k) (m := 1); omega) (by decide), Nat.testBit]
      rw [Nat.and_comm]
      apply propext
      have h1 : 1 &&& kBits S.2.2.1 >>> k ≤ 1 := Nat.and_le_left
      constructor
      · intro q; rw [q]; rfl
      · intro q
        rcases Nat.lt_or_ge 0 (1 &&& kBits S.2.2.1 >>> k) with c | c
        · rw [show 1 &&& kBits S.2.2.1 >>> k = 1 by omega] at q
          cases q
        · omega
    rw [ite_pq e01]
    cases hs : S.2.2.1 k with
    | none =>
      rw [if_pos (by rfl)]
      unfold bT_restoreSnapshot_37
      rw [show mT_throwsOne_2 0 1 σ = some (1, twI σ 13 2) from rfl, bd_J, if_neg (by decide)]
      exact TRs.t hI (k := 2) rfl
    | some W =>
      obtain ⟨hW2, hT2⟩ := hK.2 k W hk hs
      rw [if_neg (by simp)]
      unfold bT_restoreSnapshot_36 bT_restoreSnapshot_37
      rw [show mT_throwsOne_2 0 0 σ = some (0, twI σ 13 0) from rfl, bd_J, if_pos rfl]
      have hI0 := hI.q (frP0 (x := 0))
      have hz : (twI σ 13 0).2 13 = 0 := rfl
      have ha4 : (twI σ 13 0).1 = σ.1 := rfl
      generalize twI σ 13 0 = σ0 at hI0 hz ha4 ⊢
      obtain ⟨⟨hT, hW⟩, hP, hK0, hB, hR, h8⟩ := hI0
      have h0 : bT_restoreSnapshot_47 FU (Int32.ofNat k) 0 (cpO σ0 0 0 0 (fun i => Int32.ofNat (W.1 i))) = some (Int32.ofNat (W.1 17), twI (cpO σ0 0 0 358 (fun i => Int32.ofNat (W.1 i))) 5 0) := by
        refine loop_FU (fun g j => bT_restoreSnapshot_47 g (Int32.ofNat k) (Int32.ofNat j) (cpO σ0 0 0 j (fun i => Int32.ofNat (W.1 i)))) (fun _ => some (Int32.ofNat (W.1 17), twI (cpO σ0 0 0 358 (fun i => Int32.ofNat (W.1 i))) 5 0)) 358 (by decide) (fun g j hj ih => ?_) (fun g => ?_)
        · show bT_restoreSnapshot_47 (g + 1) _ _ _ = _
          have e := cpO_s (σ := σ0) (q := 0) (off := 0) (n := j) (g := fun i => Int32.ofNat (W.1 i)) rfl
          rw [Nat.zero_add] at e
          have e1 : (cpO σ0 0 0 j (fun i => Int32.ofNat (W.1 i))).1 4 (358 * k + j) = Int32.ofNat (W.1 j) := by
            rw [cpO_ne (by decide), ha4]
            exact hT2 j hj
          rw [bT_restoreSnapshot_47, iJ_leR (by decide) (by omega), if_neg (by show ¬ 358 ≤ j; omega), J_mulR, J_add, show OfNat.ofNat 358 * k + j = 358 * k + j from rfl, ald_J (by omega) (by decide), e1, ast_J hj (by decide), e, lt_J, J_addL]
          exact ih
        · show bT_restoreSnapshot_47 (g + 1) _ _ _ = _
          have e17 : (twI (cpO σ0 0 0 358 (fun i => Int32.ofNat (W.1 i))) 5 0).1 0 17 = Int32.ofNat (W.1 17) := by
            have := cpO_in (σ := σ0) (q := 0) (off := 0) (n := 358) (i := 17) (g := fun i => Int32.ofNat (W.1 i)) (by decide)
            exact this
          rw [bT_restoreSnapshot_47, iJ_leR (by decide) (by decide), if_pos (Nat.le_refl _), lt_J, show (17 : Int32) = Int32.ofNat 17 from rfl, ald_J (by decide) (by decide), e17]
      rw [cpO_0] at h0
      refine ⟨twI (cpO σ0 0 0 358 (fun i => Int32.ofNat (W.1 i))) 5 0, ⟨⟨fun i hi => ?_, hW2⟩, TP_nil rfl, hK0.fr (by rw [twI_1, cpO_ne (by decide)]) rfl, hB.fr (by rw [twI_1, cpO_ne (by decide)]) rfl, hR.fr (by rw [twI_1, cpO_ne (by decide)]) rfl, h8⟩, hz, h0⟩
      have := cpO_in (σ := σ0) (q := 0) (off := 0) (n := 358) (i := i) (g := fun i => Int32.ofNat (W.1 i)) hi
      rw [Nat.zero_add] at this
      exact this
/-- a byte of an int -/
def byN (x : Int32) (k : Nat) : Nat := (x >>> (Int32.ofNat k &&& 31)).toBitVec.toNat % 256
def b4N (x : Int32) : List Nat := [byN x 24, byN x 16, byN x 8, byN x 0]
theorem J_255 (y : Int32) : y &&& 255 = Int32.ofNat (y.toBitVec.toNat % 256) := by
  apply Int32.toBitVec_inj.mp
  apply BitVec.eq_of_toNat_eq
  rw [Int32.toBitVec_and, BitVec.toNat_and]
  show y.toBitVec.toNat &&& (2 ^ 8 - 1) = (BitVec.ofNat 32 (y.toBitVec.toNat % 256)).toNat
  rw [Nat.and_two_pow_sub_one_eq_mod, BitVec.toNat_ofNat]
  omega
/-- what typing leaves -/
def frB (a b : twS) : Prop := (∀ q, q ≠ 7 → b.1 q = a.1 q) ∧ ∀ k, k ≠ 9 → b.2 k = a.2 k
theorem frB.trans {a b c : twS} (h : frB a b) (h' : frB b c) : frB a c := ⟨fun q h1 => (h'.1 q h1).trans (h.1 q h1), fun k hk => (h'.2 k hk).trans (h.2 k hk)⟩
theorem tw_type1 {σ : twS} {B : List Nat} {x x2 : Int32} {k : Nat} (h : TB B σ) (hl : B.length < 700) (hx : x2 = Int32.ofNat k) (hk : k ≤ 24) (f : Nat) : ∃ σ', frB σ σ' ∧ TB (B ++ [byN x k]) σ' ∧ bT_type_3 (f + 1) x x2 σ = bT_type_3 f x (x2 + (-8)) σ' := by
  subst hx
  refine ⟨twI (twA σ 7 B.length (Int32.ofNat (byN x k))) 9 (Int32.ofNat (B.length + 1)), ⟨fun q hq => by simp [twI, twA, hq], fun j hj => by simp [twI, twA, hj]⟩, ⟨by simp; omega, fun y hy => ?_, by simp [twI], fun i hi => ?_⟩, ?_⟩
  · rw [List.mem_append] at hy
    rcases hy with hy | hy
    · exact h.2.1 y hy
    · have : y = byN x k := by simpa using hy
      rw [this]
      exact Nat.mod_lt _ (by decide)
  · rw [twI_1, twA_at]
    have hi2 : i < B.length + 1 := by simpa using hi
    by_cases e : i = B.length
    · rw [if_pos e, e, show B.length = B.length + 0 from rfl, getD_r]
      rfl
    · rw [if_neg e, getD_l (by omega)]
      exact h.2.2.2 i (by omega)
  · rw [bT_type_3, if_neg (by rw [J_nn (by omega)]; exact not_false), h.2.2.1, ast_J hl (by decide), J_255, lt_J, lt_J]
    have e9 : (twA σ 7 B.length (Int32.ofNat ((x >>> (Int32.ofNat k &&& 31)).toBitVec.toNat % 256))).2 9 = Int32.ofNat B.length := h.2.2.1
    rw [e9, J_addL]
    rfl
theorem tw_type {σ : twS} {B : List Nat} {x : Int32} (h : TB B σ) (hl : B.length + 4 ≤ 700) : ∃ σ', frB σ σ' ∧ TB (B ++ b4N x) σ' ∧ mT_type x σ = some (0, σ') := by
  obtain ⟨σ1, f1, h1, e1⟩ := tw_type1 (x := x) (x2 := 24) (k := 24) h (by omega) rfl (by decide) 4095
  obtain ⟨σ2, f2, h2, e2⟩ := tw_type1 (x := x) (x2 := 24 + (-8)) (k := 16) h1 (by simp; omega) (by decide) (by decide) 4094
  obtain ⟨σ3, f3, h3, e3⟩ := tw_type1 (x := x) (x2 := 24 + (-8) + (-8)) (k := 8) h2 (by simp; omega) (by decide) (by decide) 4093
  obtain ⟨σ4, f4, h4, e4⟩ := tw_type1 (x := x) (x2 := 24 + (-8) + (-8) + (-8)) (k := 0) h3 (by simp; omega) (by decide) (by decide) 4092
  refine ⟨σ4, f1.trans (f2.trans (f3.trans f4)), ?_, ?_⟩
  · have e : B ++ [byN x 24] ++ [byN x 16] ++ [byN x 8] ++ [byN x 0] = B ++ b4N x := by simp [b4N]
    rw [e] at h4
    exact h4
  · show bT_type_3 (4095 + 1) x 24 σ = _
    rw [e1]
    show bT_type_3 (4094 + 1) x _ σ1 = _
    rw [e2]
    show bT_type_3 (4093 + 1) x _ σ2 = _
    rw [e3]
    show bT_type_3 (4092 + 1) x _ σ3 = _
    rw [e4]
    show bT_type_3 (4091 + 1) x _ σ4 = _
    rw [bT_type_3, if_pos (by decide)]
theorem TInv.b {a b : twS} {S : SS} {B : List Nat} (h : TInv a S) (f : frB a b) (hB : TB B b) : TInv b (S.1, S.2.1, S.2.2.1, B, S.2.2.2.2) := by
  obtain ⟨⟨h1, h2⟩, h3, h4, h5, h6, h7⟩ := h
  exact ⟨⟨h1.fr (f.1 0 (by decide)), h2⟩, h3.fr (f.1 3 (by decide)) (f.2 5 (by decide)), h4.fr (f.1 4 (by decide)) (f.2 6 (by decide)), hB, h6.fr (f.1 11 (by decide)) (f.2 12 (by decide)), h7⟩
def sp_append (x1 x2 x3 x4 x5 : Int32) (S : SS) : Nat × Int32 × SS := if S.2.2.2.1.length + 20 ≤ 700 then (0, Int32.ofNat (S.2.2.2.1.length + 20), (S.1, S.2.1, S.2.2.1, S.2.2.2.1 ++ (b4N x1 ++ (b4N x2 ++ (b4N x3 ++ (b4N x4 ++ b4N x5)))), S.2.2.2.2)) else (0, -1, S)
theorem pt_append {σ : twS} {S : SS} (hI : TInv σ S) (x1 x2 x3 x4 x5 : Int32) : TRs (mT_append x1 x2 x3 x4 x5 σ) (sp_append x1 x2 x3 x4 x5 S) := by
  have hI0 := hI.q (frP0 (x := 0))
  have hz : (twI σ 13 0).2 13 = 0 := rfl
  unfold mT_append sp_append
  rw [lt_J]
  generalize twI σ 13 0 = σ0 at hI0 hz ⊢
  have hB := hI0.2.2.2.1
  have hl := hB.1
  rw [hB.2.2.1, J_addL, iJ_leL (by show _ + 20 < _; omega) (by decide)]
  by_cases c : S.2.2.2.1.length + 20 ≤ 700
  · rw [if_pos (show S.2.2.2.1.length + OfNat.ofNat 20 ≤ OfNat.ofNat 700 from c), if_pos c]
    have l4 : ∀ x, (b4N x).length = 4 := fun x => rfl
    obtain ⟨σ1, f1, h1, e1⟩ := tw_type (x := x1) hB (by omega)
    obtain ⟨σ2, f2, h2, e2⟩ := tw_type (x := x2) h1 (by simp only [List.length_append, l4]; omega)
    obtain ⟨σ3, f3, h3, e3⟩ := tw_type (x := x3) h2 (by simp only [List.length_append, l4]; omega)
    obtain ⟨σ4, f4, h4, e4⟩ := tw_type (x := x4) h3 (by simp only [List.length_append, l4]; omega)
    obtain ⟨σ5, f5, h5, e5⟩ := tw_type (x := x5) h4 (by simp only [List.length_append, l4]; omega)
    have f := f1.trans (f2.trans (f3.trans (f4.trans f5)))
    have e : S.2.2.2.1 ++ b4N x1 ++ b4N x2 ++ b4N x3 ++ b4N x4 ++ b4N x5 = S.2.2.2.1 ++ (b4N x1 ++ (b4N x2 ++ (b4N x3 ++ (b4N x4 ++ b4N x5)))) := by simp only [List.append_assoc]
    rw [e] at h5
    refine ⟨σ5, hI0.b f h5, (f.2 13 (by decide)).trans hz, ?_⟩
    rw [e1, bd_J, e2, bd_J, e3, bd_J, e4, bd_J, e5, bd_J, h5.2.2.1]
    simp only [List.length_append, l4]
  · rw [if_neg (show ¬ S.2.2.2.1.length + OfNat.ofNat 20 ≤ OfNat.ofNat 700 from c), if_neg c]
    exact ⟨_, hI0, hz, rfl⟩
/-- the text to be read -/
def TXt (B : List Nat) (σ : twS) : Prop := B.length ≤ 700 ∧ (∀ x, x ∈ B → x < 256) ∧ σ.2 10 = Int32.ofNat B.length ∧ ∀ i, i < B.length → σ.1 8 i = Int32.ofNat (B.getD i 0)
theorem tw_takes {σ : twS} {S : SS} (hI : TInv σ S) {n : Nat} (hn : n ≤ S.2.2.2.1.length) : ∃ σ', TInv σ' (S.1, S.2.1, S.2.2.1, [], S.2.2.2.2) ∧ TXt (S.2.2.2.1.take n) σ' ∧ σ'.2 13 = σ.2 13 ∧ mT_takes (Int32.ofNat n) σ = some (0, σ') := by
  obtain ⟨⟨hT, hW⟩, hP, hK, hB, hR, h8⟩ := hI
  have hl := hB.1
  have h0 : bT_takes_2 FU (Int32.ofNat n) 0 (cpO σ 8 0 0 (σ.1 7)) = some (0, twI (twI (cpO σ 8 0 n (σ.1 7)) 10 (Int32.ofNat n)) 9 0) := by
    refine loop_FU (fun g k => bT_takes_2 g (Int32.ofNat n) (Int32.ofNat k) (cpO σ 8 0 k (σ.1 7))) (fun _ => some (0, twI (twI (cpO σ 8 0 n (σ.1 7)) 10 (Int32.ofNat n)) 9 0)) n (by omega) (fun g k hk ih => ?_) (fun g => ?_)
    · show bT_takes_2 (g + 1) _ _ _ = _
      have e := cpO_s (σ := σ) (q := 8) (off := 0) (n := k) (g := σ.1 7) rfl
      rw [Nat.zero_add] at e
      have e1 : (cpO σ 8 0 k (σ.1 7)).1 7 k = σ.1 7 k := by rw [cpO_ne (by decide)]
      rw [bT_takes_2, iJ_le (by omega) (by omega), if_neg (by omega), ald_J (by omega) (by decide), e1, ast_J (by omega) (by decide), e, lt_J, J_addL]
      exact ih
    · show bT_takes_2 (g + 1) _ _ _ = _
      rw [bT_takes_2, if_pos (Int32.le_refl _), lt_J, lt_J]
  rw [cpO_0] at h0
  have hlen : (S.2.2.2.1.take n).length = n := by rw [List.length_take]; omega
  refine ⟨twI (twI (cpO σ 8 0 n (σ.1 7)) 10 (Int32.ofNat n)) 9 0, ⟨⟨hT.fr (by rw [twI_1, twI_1, cpO_ne (by decide)]), hW⟩, hP.fr (by rw [twI_1, twI_1, cpO_ne (by decide)]) rfl, hK.fr (by rw [twI_1, twI_1, cpO_ne (by decide)]) rfl, TB_nil rfl, hR.fr (by rw [twI_1, twI_1, cpO_ne (by decide)]) rfl, h8⟩, ⟨by omega, fun x hx => hB.2.1 x (List.mem_of_mem_take hx), by rw [hlen]; rfl, fun i hi => ?_⟩, rfl, h0⟩
  rw [hlen] at hi
  have e := cpO_in (σ := σ) (q := 8) (off := 0) (n := n) (i := i) (g := σ.1 7) hi
  rw [Nat.zero_add] at e
  rw [twI_1, twI_1, e, hB.2.2.2 i (by omega)]
  rw [List.getD_eq_getElem?_getD, List.getD_eq_getElem?_getD, List.getElem?_take_of_lt hi]
