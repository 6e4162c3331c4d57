/-! THE PLAIN LAW: the public changes, as the twin does them -/
set_option maxRecDepth 100000
/-- the will of a state is changed to d, t -/
def chS (S : SS) (d : Nat → Nat) (t : Nat → Term) : SS := ((d, t), keepS S.2.1 S.1, S.2.2)
def sp_setRest (x1 : Int32) (S : SS) : Nat × Int32 × SS := if inB x1 (S.1.1 5) then (0, Int32.ofNat (S.1.1 6), chS S (upN S.1.1 6 x1.toNatClampNeg) S.1.2) else (1, 0, S)
theorem pt_setRest {σ : twS} {S : SS} (hI : TInv σ S) (x1 : Int32) : TRs (mT_setRest x1 σ) (sp_setRest x1 S) := by
  have h5 := hI.1.2.1.h
  rw [ck_setRest hI.1.1 hI.1.2.1]
  unfold sp_setRest
  by_cases hc : inB x1 (S.1.1 5) = true
  · rw [if_pos hc, if_pos hc]
    obtain ⟨k, hk, rfl⟩ := inB_of hc
    rw [J_cl (by omega)]
    obtain ⟨σ1, i1, z1, e1⟩ := tw_sets (hI.q (frP0 (x := 0))) (i := 6) (v := k) (by decide) (hI.1.2.up (Or.inl ⟨rfl, hk⟩))
    refine ⟨σ1, i1, z1, ?_⟩
    unfold q_setRest
    rw [show (6 : Int32) = Int32.ofNat 6 from rfl, e1, bd_J]
  · rw [if_neg hc, if_neg hc]
    exact TRs.t hI (by rw [Bool.eq_false_iff.mpr hc]; rfl)
def sp_setEstate (x1 : Int32) (S : SS) : Nat × Int32 × SS := if inB x1 10000 then (0, Int32.ofNat (S.1.1 7), chS S (upN S.1.1 7 x1.toNatClampNeg) S.1.2) else (1, 0, S)
theorem pt_setEstate {σ : twS} {S : SS} (hI : TInv σ S) (x1 : Int32) : TRs (mT_setEstate x1 σ) (sp_setEstate x1 S) := by
  rw [ck_setEstate hI.1.1 hI.1.2.1]
  unfold sp_setEstate
  by_cases hc : inB x1 10000 = true
  · rw [if_pos hc, if_pos hc]
    obtain ⟨k, hk, rfl⟩ := inB_of hc
    rw [J_cl (by omega)]
    obtain ⟨σ1, i1, z1, e1⟩ := tw_sets (hI.q (frP0 (x := 0))) (i := 7) (v := k) (by decide) (hI.1.2.up (Or.inr (Or.inl ⟨rfl, by omega⟩)))
    refine ⟨σ1, i1, z1, ?_⟩
    unfold q_setEstate
    rw [show (7 : Int32) = Int32.ofNat 7 from rfl, e1, bd_J]
  · rw [if_neg hc, if_neg hc]
    exact TRs.t hI (by rw [Bool.eq_false_iff.mpr hc]; rfl)
def sp_setHeir (x1 x2 x3 : Int32) (S : SS) : Nat × Int32 × SS := if inB x1 (S.1.1 5) && setHB x2 x3 then (0, Int32.ofNat (S.1.1 (9 + 2 * x1.toNatClampNeg + x2.toNatClampNeg)), chS S (upN S.1.1 (9 + 2 * x1.toNatClampNeg + x2.toNatClampNeg) x3.toNatClampNeg) S.1.2) else (th2 (!inB x1 (S.1.1 5)) (!setHB x2 x3), 0, S)
theorem setHB_of {x2 x3 : Int32} (h : setHB x2 x3 = true) : ∃ k2 k3, k2 < 2 ∧ x2 = Int32.ofNat k2 ∧ x3 = Int32.ofNat k3 ∧ (k2 = 0 ∧ k3 ≤ 9999 ∨ k2 = 1 ∧ k3 ≤ 60) := by
  unfold setHB at h
  obtain ⟨h2, h3⟩ := (Bool.and_eq_true _ _).mp h
  obtain ⟨k2, hk2, rfl⟩ := inB_of h2
  obtain rfl | rfl : k2 = 0 ∨ k2 = 1 := by omega
  · rw [if_pos (by decide)] at h3
    obtain ⟨k3, hk3, rfl⟩ := inB_of h3
    exact ⟨0, k3, by decide, rfl, rfl, Or.inl ⟨rfl, by omega⟩⟩
  · rw [if_neg (by decide)] at h3
    obtain ⟨k3, hk3, rfl⟩ := inB_of h3
    exact ⟨1, k3, by decide, rfl, rfl, Or.inr ⟨rfl, by omega⟩⟩
theorem pt_setHeir {σ : twS} {S : SS} (hI : TInv σ S) (x1 x2 x3 : Int32) : TRs (mT_setHeir x1 x2 x3 σ) (sp_setHeir x1 x2 x3 S) := by
  have h5 := hI.1.2.1.h
  rw [setH_chk hI.1.1 (by omega)]
  unfold sp_setHeir
  by_cases hc : (inB x1 (S.1.1 5) && setHB x2 x3) = true
  · rw [if_pos hc, if_pos hc]
    obtain ⟨hc1, hc2⟩ := (Bool.and_eq_true _ _).mp hc
    obtain ⟨k, hk, rfl⟩ := inB_of hc1
    obtain ⟨k2, k3, hk2, rfl, rfl, h23⟩ := setHB_of hc2
    rw [J_cl (by omega), J_cl (by omega), J_cl (by omega)]
    obtain ⟨σ1, i1, z1, e1⟩ := tw_sets (hI.q (frP0 (x := 0))) (i := 9 + 2 * k + k2) (v := k3) (by omega) (hI.1.2.up (Or.inr (Or.inr (Or.inr ⟨k, by omega, by omega⟩))))
    refine ⟨σ1, i1, z1, ?_⟩
    rw [J_mulR, J_addR, J_add]
    have e2 : mT_sets (Int32.ofNat (OfNat.ofNat 9 + OfNat.ofNat 2 * k + k2)) (Int32.ofNat k3) (twI σ 13 0) = some (Int32.ofNat (S.1.1 (9 + 2 * k + k2)), σ1) := e1
    rw [e2, bd_J]
  · rw [if_neg hc, if_neg hc]
    exact TRs.t hI rfl
def valB (d : Nat → Nat) (x1 x2 : Int32) : Bool := inB x2 (d (1 + x1.toNatClampNeg))
def sp_setValue (x1 x2 : Int32) (S : SS) : Nat × Int32 × SS := if inB x1 (S.1.1 0) then (if inB x2 (S.1.1 (1 + x1.toNatClampNeg)) then (0, Int32.ofNat (svN S.1.1 x1.toNatClampNeg x2.toNatClampNeg), chS S (upN S.1.1 8 (svN S.1.1 x1.toNatClampNeg x2.toNatClampNeg)) S.1.2) else (2, 0, S)) else (1, 0, S)
theorem pt_setValue {σ : twS} {S : SS} (hI : TInv σ S) (x1 x2 : Int32) : TRs (mT_setValue x1 x2 σ) (sp_setValue x1 x2 S) := by
  have hT := hI.1.1
  have hW := hI.1.2.1
  have h4 := hW.1.1
  have h8 : S.1.1 8 < casesN S.1.1 := hW.2.2.2.2.1
  have hC := casesN_le hW.1
  unfold mT_setValue sp_setValue
  rw [tw_isFact hT (by omega), bd_J, ite_pq (b32_0 _)]
  cases hb : inB x1 (S.1.1 0) with
  | false =>
    rw [if_pos rfl, if_neg (by decide)]
    unfold bT_setValue_14
    rw [tw_isFact hT (by omega), bd_J, hb]
    exact TRs.t hI (k := 1) rfl
  | true =>
    rw [if_neg (by decide), if_pos rfl]
    unfold bT_setValue_14
    obtain ⟨f, hf, rfl⟩ := inB_of hb
    have hv := hW.1.2 f hf
    rw [tw_isFact hT (by omega), bd_J, hb, if_neg (by decide), J_addR, show OfNat.ofNat 1 + f = 1 + f from rfl, tw_ald hT (by omega), tw_inI (J_pre (by omega)), bd_J, J_cl (by omega), ite_pq (b32_0 _)]
    cases hb2 : inB x2 (S.1.1 (1 + f)) with
    | false =>
      rw [if_pos rfl, if_neg (by decide)]
      exact TRs.t hI (k := 2) rfl
    | true =>
      rw [if_neg (by decide), if_pos rfl]
      obtain ⟨v, hv2, rfl⟩ := inB_of hb2
      rw [J_cl (by omega)]
      unfold bT_setValue_44 bT_setValue_45
      have e0 : mT_throwsOne_2 0 0 σ = some (0, twI σ 13 0) := rfl
      rw [e0, bd_J, if_pos rfl]
      have hI0 := hI.q (frP0 (x := 0))
      have hT0 : TW S.1.1 (twI σ 13 0) := twI_tw hT
      obtain ⟨hs1, hs2⟩ := svN_ok hW hf hv2
      obtain ⟨σ1, i1, z1, e1⟩ := tw_sets hI0 (i := 8) (v := svN S.1.1 f v) (by decide) (hI.1.2.up (Or.inr (Or.inr (Or.inl ⟨rfl, hs2⟩))))
      refine ⟨σ1, i1, z1, ?_⟩
      refine loop_FU (fun g k => bT_setValue_58 g (Int32.ofNat f) (Int32.ofNat v) (Int32.ofNat (prodN S.1.1 k)) (Int32.ofNat k) (twI σ 13 0)) (fun _ => some (Int32.ofNat (svN S.1.1 f v), σ1)) f (by omega) (fun g k hk ih => ?_) (fun g => ?_)
      · show bT_setValue_58 (g + 1) _ _ _ _ _ = _
        rw [bT_setValue_58, iJ_le (by omega) (by omega), if_neg (by omega), J_addR, show OfNat.ofNat 1 + k = 1 + k from rfl, tw_ald hT0 (by omega), lt_J, lt_J, J_addL, J_mul]
        exact ih
      · show bT_setValue_58 (g + 1) _ _ _ _ _ = _
        have e3 : Int32.ofNat (S.1.1 8) + Int32.ofNat (prodN S.1.1 f) * (Int32.ofNat v - Int32.ofNat (valueN S.1.1 (S.1.1 8) f)) = Int32.ofNat (svN S.1.1 f v) := by
          have h5 : S.1.1 8 + prodN S.1.1 f * v - prodN S.1.1 f * valueN S.1.1 (S.1.1 8) f = svN S.1.1 f v := rfl
          rw [← h5, Int32.mul_sub, J_mul, J_mul, ← i32_asub, J_add, J_sub (by omega)]
        rw [bT_setValue_58, iJ_le (by omega) (by omega), if_pos (Nat.le_refl _), tw_aldL hT0 (by decide), tw_aldL hT0 (by decide), tw_valueOf hT0 hW.1 (by omega) hf, bd_J]
        have e4 : Int32.ofNat (S.1.1 (OfNat.ofNat 8)) = Int32.ofNat (S.1.1 8) := rfl
        rw [e4, e3, show (8 : Int32) = Int32.ofNat 8 from rfl, e1, bd_J, ald_J (by decide) (by decide)]
        have e5 : σ1.1 0 8 = Int32.ofNat (svN S.1.1 f v) := by
          have := i1.1.1 8 (by decide)
          rw [this]
          show Int32.ofNat (upN S.1.1 8 (svN S.1.1 f v) 8) = _
          rw [upN_at]
        rw [e5]
