/-! THE PLAIN LAW, the class' side: the class' constructor -/
set_option maxRecDepth 1000000
def xBlank : cE := .inr (0, [.null, .null, .null, .null, .null])
theorem cl_init {o : oW} {σ : cS} (hS : SI o σ) (hK : KA o σ) (hR : Rm σ 20100 100200) : ∃ o' σ' W, rAll bi0 = .inr W ∧ m_X1_init (σ.2 0) (cN σ xBlank 5) = some (0, σ') ∧ CInv o' σ' (σ.2 0) (W, [], kNone, [], []) := by
  have hs2 := hS.2.1
  have hR1 := hR.1
  have hR2 := hR.2
  obtain ⟨W, hx⟩ := bi_ok (k := 0) (by decide)
  generalize hs0 : cN σ xBlank 5 = s0
  have C0 : Ch (fun _ => False) σ s0 := by rw [← hs0]; exact Ch.rf.cN
  have a0_0 : s0.1 (σ.2 0) = some (.inr (0, [.null, .null, .null, .null, .null])) := by rw [← hs0]; exact cN_s
  have n0 : s0.2 0 = σ.2 0 + 1 ∧ s0.2 1 = σ.2 1 + 5 := by rw [← hs0]; exact ⟨rfl, rfl⟩
  have k0 : ∀ k, 2 ≤ k → s0.2 k = σ.2 k := fun k hk => C0.k hk
  clear hs0
  obtain ⟨s1, hs1⟩ : ∃ s, s = cN s0 (.inr (10, [.null, .int 0, .int 0])) 3 := ⟨_, rfl⟩
  have C1 : Ch (fun _ => False) σ s1 := by rw [hs1]; exact C0.cN
  have a1_0 : s1.1 (σ.2 0) = some (.inr (0, [.null, .null, .null, .null, .null])) := by rw [hs1, cN_n (by omega)]; exact a0_0
  have a1_1 : s1.1 (σ.2 0 + 1) = some (.inr (10, [.null, .int 0, .int 0])) := by rw [hs1, ← n0.1]; exact cN_s
  have n1 : s1.2 0 = σ.2 0 + 2 ∧ s1.2 1 = σ.2 1 + 8 := by rw [hs1, cN_0, cN_1]; omega
  have k1 : ∀ k, 2 ≤ k → s1.2 k = σ.2 k := fun k hk => C1.k hk
  obtain ⟨s2, hs2⟩ : ∃ s, s = cN s1 (.inl (2, 17, vR (fun _ => none))) 17 := ⟨_, rfl⟩
  have C2 : Ch (fun _ => False) σ s2 := by rw [hs2]; exact C1.cN
  have a2_0 : s2.1 (σ.2 0) = some (.inr (0, [.null, .null, .null, .null, .null])) := by rw [hs2, cN_n (by omega)]; exact a1_0
  have a2_1 : s2.1 (σ.2 0 + 1) = some (.inr (10, [.null, .int 0, .int 0])) := by rw [hs2, cN_n (by omega)]; exact a1_1
  have a2_2 : s2.1 (σ.2 0 + 2) = some (.inl (2, 17, vR (fun _ => none))) := by rw [hs2, ← n1.1]; exact cN_s
  have n2 : s2.2 0 = σ.2 0 + 3 ∧ s2.2 1 = σ.2 1 + 25 := by rw [hs2, cN_0, cN_1]; omega
  have k2 : ∀ k, 2 ≤ k → s2.2 k = σ.2 k := fun k hk => C2.k hk
  obtain ⟨s3, hs3⟩ : ∃ s, s = cU s2 (σ.2 0 + 1) (.inr (10, [.ref (σ.2 0 + 2), .int 0, .int 0])) := ⟨_, rfl⟩
  have C3 : Ch (fun _ => False) σ s3 := by rw [hs3]; exact C2.cU a2_1 (Or.inl (by omega))
  have a3_0 : s3.1 (σ.2 0) = some (.inr (0, [.null, .null, .null, .null, .null])) := by rw [hs3, cU_n (by omega)]; exact a2_0
  have a3_2 : s3.1 (σ.2 0 + 2) = some (.inl (2, 17, vR (fun _ => none))) := by rw [hs3, cU_n (by omega)]; exact a2_2
  have a3_1 : s3.1 (σ.2 0 + 1) = some (.inr (10, [.ref (σ.2 0 + 2), .int 0, .int 0])) := by rw [hs3]; exact cU_s
  have n3 : s3.2 0 = σ.2 0 + 3 ∧ s3.2 1 = σ.2 1 + 25 := by rw [hs3, cU_2]; exact n2
  have k3 : ∀ k, 2 ≤ k → s3.2 k = σ.2 k := fun k hk => C3.k hk
  obtain ⟨s4, hs4⟩ : ∃ s, s = cU s3 (σ.2 0) (.inr (0, [.null, .ref (σ.2 0 + 1), .null, .null, .null])) := ⟨_, rfl⟩
  have C4 : Ch (fun _ => False) σ s4 := by rw [hs4]; exact C3.cU a3_0 (Or.inl (by omega))
  have a4_1 : s4.1 (σ.2 0 + 1) = some (.inr (10, [.ref (σ.2 0 + 2), .int 0, .int 0])) := by rw [hs4, cU_n (by omega)]; exact a3_1
  have a4_2 : s4.1 (σ.2 0 + 2) = some (.inl (2, 17, vR (fun _ => none))) := by rw [hs4, cU_n (by omega)]; exact a3_2
  have a4_0 : s4.1 (σ.2 0) = some (.inr (0, [.null, .ref (σ.2 0 + 1), .null, .null, .null])) := by rw [hs4]; exact cU_s
  have n4 : s4.2 0 = σ.2 0 + 3 ∧ s4.2 1 = σ.2 1 + 25 := by rw [hs4, cU_2]; exact n3
  have k4 : ∀ k, 2 ≤ k → s4.2 k = σ.2 k := fun k hk => C4.k hk
  obtain ⟨s5, hs5⟩ : ∃ s, s = cN s4 (.inl (3, 2, vR (fun _ => none))) 2 := ⟨_, rfl⟩
  have C5 : Ch (fun _ => False) σ s5 := by rw [hs5]; exact C4.cN
  have a5_0 : s5.1 (σ.2 0) = some (.inr (0, [.null, .ref (σ.2 0 + 1), .null, .null, .null])) := by rw [hs5, cN_n (by omega)]; exact a4_0
  have a5_1 : s5.1 (σ.2 0 + 1) = some (.inr (10, [.ref (σ.2 0 + 2), .int 0, .int 0])) := by rw [hs5, cN_n (by omega)]; exact a4_1
  have a5_2 : s5.1 (σ.2 0 + 2) = some (.inl (2, 17, vR (fun _ => none))) := by rw [hs5, cN_n (by omega)]; exact a4_2
  have a5_3 : s5.1 (σ.2 0 + 3) = some (.inl (3, 2, vR (fun _ => none))) := by rw [hs5, ← n4.1]; exact cN_s
  have n5 : s5.2 0 = σ.2 0 + 4 ∧ s5.2 1 = σ.2 1 + 27 := by rw [hs5, cN_0, cN_1]; omega
  have k5 : ∀ k, 2 ≤ k → s5.2 k = σ.2 k := fun k hk => C5.k hk
  obtain ⟨s6, hs6⟩ : ∃ s, s = cU s5 (σ.2 0) (.inr (0, [.null, .ref (σ.2 0 + 1), .ref (σ.2 0 + 3), .null, .null])) := ⟨_, rfl⟩
  have C6 : Ch (fun _ => False) σ s6 := by rw [hs6]; exact C5.cU a5_0 (Or.inl (by omega))
  have a6_1 : s6.1 (σ.2 0 + 1) = some (.inr (10, [.ref (σ.2 0 + 2), .int 0, .int 0])) := by rw [hs6, cU_n (by omega)]; exact a5_1
  have a6_2 : s6.1 (σ.2 0 + 2) = some (.inl (2, 17, vR (fun _ => none))) := by rw [hs6, cU_n (by omega)]; exact a5_2
  have a6_3 : s6.1 (σ.2 0 + 3) = some (.inl (3, 2, vR (fun _ => none))) := by rw [hs6, cU_n (by omega)]; exact a5_3
  have a6_0 : s6.1 (σ.2 0) = some (.inr (0, [.null, .ref (σ.2 0 + 1), .ref (σ.2 0 + 3), .null, .null])) := by rw [hs6]; exact cU_s
  have n6 : s6.2 0 = σ.2 0 + 4 ∧ s6.2 1 = σ.2 1 + 27 := by rw [hs6, cU_2]; exact n5
  have k6 : ∀ k, 2 ≤ k → s6.2 k = σ.2 k := fun k hk => C6.k hk
  obtain ⟨s7, hs7⟩ : ∃ s, s = cN s6 (.inr (11, [.null, .int 0, .int 0, .int 0])) 4 := ⟨_, rfl⟩
  have C7 : Ch (fun _ => False) σ s7 := by rw [hs7]; exact C6.cN
  have a7_0 : s7.1 (σ.2 0) = some (.inr (0, [.null, .ref (σ.2 0 + 1), .ref (σ.2 0 + 3), .null, .null])) := by rw [hs7, cN_n (by omega)]; exact a6_0
  have a7_1 : s7.1 (σ.2 0 + 1) = some (.inr (10, [.ref (σ.2 0 + 2), .int 0, .int 0])) := by rw [hs7, cN_n (by omega)]; exact a6_1
  have a7_2 : s7.1 (σ.2 0 + 2) = some (.inl (2, 17, vR (fun _ => none))) := by rw [hs7, cN_n (by omega)]; exact a6_2
  have a7_3 : s7.1 (σ.2 0 + 3) = some (.inl (3, 2, vR (fun _ => none))) := by rw [hs7, cN_n (by omega)]; exact a6_3
  have a7_4 : s7.1 (σ.2 0 + 4) = some (.inr (11, [.null, .int 0, .int 0, .int 0])) := by rw [hs7, ← n6.1]; exact cN_s
  have n7 : s7.2 0 = σ.2 0 + 5 ∧ s7.2 1 = σ.2 1 + 31 := by rw [hs7, cN_0, cN_1]; omega
  have k7 : ∀ k, 2 ≤ k → s7.2 k = σ.2 k := fun k hk => C7.k hk
  obtain ⟨s8, hs8⟩ : ∃ s, s = cN s7 (.inl (1, 16, .inl (fun _ => 0))) 16 := ⟨_, rfl⟩
  have C8 : Ch (fun _ => False) σ s8 := by rw [hs8]; exact C7.cN
  have a8_0 : s8.1 (σ.2 0) = some (.inr (0, [.null, .ref (σ.2 0 + 1), .ref (σ.2 0 + 3), .null, .null])) := by rw [hs8, cN_n (by omega)]; exact a7_0
  have a8_1 : s8.1 (σ.2 0 + 1) = some (.inr (10, [.ref (σ.2 0 + 2), .int 0, .int 0])) := by rw [hs8, cN_n (by omega)]; exact a7_1
  have a8_2 : s8.1 (σ.2 0 + 2) = some (.inl (2, 17, vR (fun _ => none))) := by rw [hs8, cN_n (by omega)]; exact a7_2
  have a8_3 : s8.1 (σ.2 0 + 3) = some (.inl (3, 2, vR (fun _ => none))) := by rw [hs8, cN_n (by omega)]; exact a7_3
  have a8_4 : s8.1 (σ.2 0 + 4) = some (.inr (11, [.null, .int 0, .int 0, .int 0])) := by rw [hs8, cN_n (by omega)]; exact a7_4
  have a8_5 : s8.1 (σ.2 0 + 5) = some (.inl (1, 16, .inl (fun _ => 0))) := by rw [hs8, ← n7.1]; exact cN_s
  have n8 : s8.2 0 = σ.2 0 + 6 ∧ s8.2 1 = σ.2 1 + 47 := by rw [hs8, cN_0, cN_1]; omega
  have k8 : ∀ k, 2 ≤ k → s8.2 k = σ.2 k := fun k hk => C8.k hk
  obtain ⟨s9, hs9⟩ : ∃ s, s = cU s8 (σ.2 0 + 4) (.inr (11, [.ref (σ.2 0 + 5), .int 0, .int 0, .int 0])) := ⟨_, rfl⟩
  have C9 : Ch (fun _ => False) σ s9 := by rw [hs9]; exact C8.cU a8_4 (Or.inl (by omega))
  have a9_0 : s9.1 (σ.2 0) = some (.inr (0, [.null, .ref (σ.2 0 + 1), .ref (σ.2 0 + 3), .null, .null])) := by rw [hs9, cU_n (by omega)]; exact a8_0
  have a9_1 : s9.1 (σ.2 0 + 1) = some (.inr (10, [.ref (σ.2 0 + 2), .int 0, .int 0])) := by rw [hs9, cU_n (by omega)]; exact a8_1
  have a9_2 : s9.1 (σ.2 0 + 2) = some (.inl (2, 17, vR (fun _ => none))) := by rw [hs9, cU_n (by omega)]; exact a8_2
  have a9_3 : s9.1 (σ.2 0 + 3) = some (.inl (3, 2, vR (fun _ => none))) := by rw [hs9, cU_n (by omega)]; exact a8_3
  have a9_5 : s9.1 (σ.2 0 + 5) = some (.inl (1, 16, .inl (fun _ => 0))) := by rw [hs9, cU_n (by omega)]; exact a8_5
  have a9_4 : s9.1 (σ.2 0 + 4) = some (.inr (11, [.ref (σ.2 0 + 5), .int 0, .int 0, .int 0])) := by rw [hs9]; exact cU_s
  have n9 : s9.2 0 = σ.2 0 + 6 ∧ s9.2 1 = σ.2 1 + 47 := by rw [hs9, cU_2]; exact n8
  have k9 : ∀ k, 2 ≤ k → s9.2 k = σ.2 k := fun k hk => C9.k hk
  obtain ⟨s10, hs10⟩ : ∃ s, s = cU s9 (σ.2 0) (.inr (0, [.null, .ref (σ.2 0 + 1), .ref (σ.2 0 + 3), .ref (σ.2 0 + 4), .null])) := ⟨_, rfl⟩
  have C10 : Ch (fun _ => False) σ s10 := by rw [hs10]; exact C9.cU a9_0 (Or.inl (by omega))
  have a10_1 : s10.1 (σ.2 0 + 1) = some (.inr (10, [.ref (σ.2 0 + 2), .int 0, .int 0])) := by rw [hs10, cU_n (by omega)]; exact a9_1
  have a10_2 : s10.1 (σ.2 0 + 2) = some (.inl (2, 17, vR (fun _ => none))) := by rw [hs10, cU_n (by omega)]; exact a9_2
  have a10_3 : s10.1 (σ.2 0 + 3) = some (.inl (3, 2, vR (fun _ => none))) := by rw [hs10, cU_n (by omega)]; exact a9_3
  have a10_4 : s10.1 (σ.2 0 + 4) = some (.inr (11, [.ref (σ.2 0 + 5), .int 0, .int 0, .int 0])) := by rw [hs10, cU_n (by omega)]; exact a9_4
  have a10_5 : s10.1 (σ.2 0 + 5) = some (.inl (1, 16, .inl (fun _ => 0))) := by rw [hs10, cU_n (by omega)]; exact a9_5
  have a10_0 : s10.1 (σ.2 0) = some (.inr (0, [.null, .ref (σ.2 0 + 1), .ref (σ.2 0 + 3), .ref (σ.2 0 + 4), .null])) := by rw [hs10]; exact cU_s
  have n10 : s10.2 0 = σ.2 0 + 6 ∧ s10.2 1 = σ.2 1 + 47 := by rw [hs10, cU_2]; exact n9
  have k10 : ∀ k, 2 ≤ k → s10.2 k = σ.2 k := fun k hk => C10.k hk
  obtain ⟨s11, hs11⟩ : ∃ s, s = cN s10 (.inr (11, [.null, .int 0, .int 0, .int 0])) 4 := ⟨_, rfl⟩
  have C11 : Ch (fun _ => False) σ s11 := by rw [hs11]; exact C10.cN
  have a11_0 : s11.1 (σ.2 0) = some (.inr (0, [.null, .ref (σ.2 0 + 1), .ref (σ.2 0 + 3), .ref (σ.2 0 + 4), .null])) := by rw [hs11, cN_n (by omega)]; exact a10_0
  have a11_1 : s11.1 (σ.2 0 + 1) = some (.inr (10, [.ref (σ.2 0 + 2), .int 0, .int 0])) := by rw [hs11, cN_n (by omega)]; exact a10_1
  have a11_2 : s11.1 (σ.2 0 + 2) = some (.inl (2, 17, vR (fun _ => none))) := by rw [hs11, cN_n (by omega)]; exact a10_2
  have a11_3 : s11.1 (σ.2 0 + 3) = some (.inl (3, 2, vR (fun _ => none))) := by rw [hs11, cN_n (by omega)]; exact a10_3
  have a11_4 : s11.1 (σ.2 0 + 4) = some (.inr (11, [.ref (σ.2 0 + 5), .int 0, .int 0, .int 0])) := by rw [hs11, cN_n (by omega)]; exact a10_4
  have a11_5 : s11.1 (σ.2 0 + 5) = some (.inl (1, 16, .inl (fun _ => 0))) := by rw [hs11, cN_n (by omega)]; exact a10_5
  have a11_6 : s11.1 (σ.2 0 + 6) = some (.inr (11, [.null, .int 0, .int 0, .int 0])) := by rw [hs11, ← n10.1]; exact cN_s
  have n11 : s11.2 0 = σ.2 0 + 7 ∧ s11.2 1 = σ.2 1 + 51 := by rw [hs11, cN_0, cN_1]; omega
  have k11 : ∀ k, 2 ≤ k → s11.2 k = σ.2 k := fun k hk => C11.k hk
  obtain ⟨s12, hs12⟩ : ∃ s, s = cN s11 (.inl (1, 16, .inl (fun _ => 0))) 16 := ⟨_, rfl⟩
  have C12 : Ch (fun _ => False) σ s12 := by rw [hs12]; exact C11.cN
  have a12_0 : s12.1 (σ.2 0) = some (.inr (0, [.null, .ref (σ.2 0 + 1), .ref (σ.2 0 + 3), .ref (σ.2 0 + 4), .null])) := by rw [hs12, cN_n (by omega)]; exact a11_0
  have a12_1 : s12.1 (σ.2 0 + 1) = some (.inr (10, [.ref (σ.2 0 + 2), .int 0, .int 0])) := by rw [hs12, cN_n (by omega)]; exact a11_1
  have a12_2 : s12.1 (σ.2 0 + 2) = some (.inl (2, 17, vR (fun _ => none))) := by rw [hs12, cN_n (by omega)]; exact a11_2
  have a12_3 : s12.1 (σ.2 0 + 3) = some (.inl (3, 2, vR (fun _ => none))) := by rw [hs12, cN_n (by omega)]; exact a11_3
  have a12_4 : s12.1 (σ.2 0 + 4) = some (.inr (11, [.ref (σ.2 0 + 5), .int 0, .int 0, .int 0])) := by rw [hs12, cN_n (by omega)]; exact a11_4
  have a12_5 : s12.1 (σ.2 0 + 5) = some (.inl (1, 16, .inl (fun _ => 0))) := by rw [hs12, cN_n (by omega)]; exact a11_5
  have a12_6 : s12.1 (σ.2 0 + 6) = some (.inr (11, [.null, .int 0, .int 0, .int 0])) := by rw [hs12, cN_n (by omega)]; exact a11_6
  have a12_7 : s12.1 (σ.2 0 + 7) = some (.inl (1, 16, .inl (fun _ => 0))) := by rw [hs12, ← n11.1]; exact cN_s
  have n12 : s12.2 0 = σ.2 0 + 8 ∧ s12.2 1 = σ.2 1 + 67 := by rw [hs12, cN_0, cN_1]; omega
  have k12 : ∀ k, 2 ≤ k → s12.2 k = σ.2 k := fun k hk => C12.k hk
  obtain ⟨s13, hs13⟩ : ∃ s, s = cU s12 (σ.2 0 + 6) (.inr (11, [.ref (σ.2 0 + 7), .int 0, .int 0, .int 0])) := ⟨_, rfl⟩
  have C13 : Ch (fun _ => False) σ s13 := by rw [hs13]; exact C12.cU a12_6 (Or.inl (by omega))
  have a13_0 : s13.1 (σ.2 0) = some (.inr (0, [.null, .ref (σ.2 0 + 1), .ref (σ.2 0 + 3), .ref (σ.2 0 + 4), .null])) := by rw [hs13, cU_n (by omega)]; exact a12_0
  have a13_1 : s13.1 (σ.2 0 + 1) = some (.inr (10, [.ref (σ.2 0 + 2), .int 0, .int 0])) := by rw [hs13, cU_n (by omega)]; exact a12_1
  have a13_2 : s13.1 (σ.2 0 + 2) = some (.inl (2, 17, vR (fun _ => none))) := by rw [hs13, cU_n (by omega)]; exact a12_2
  have a13_3 : s13.1 (σ.2 0 + 3) = some (.inl (3, 2, vR (fun _ => none))) := by rw [hs13, cU_n (by omega)]; exact a12_3
  have a13_4 : s13.1 (σ.2 0 + 4) = some (.inr (11, [.ref (σ.2 0 + 5), .int 0, .int 0, .int 0])) := by rw [hs13, cU_n (by omega)]; exact a12_4
  have a13_5 : s13.1 (σ.2 0 + 5) = some (.inl (1, 16, .inl (fun _ => 0))) := by rw [hs13, cU_n (by omega)]; exact a12_5
  have a13_7 : s13.1 (σ.2 0 + 7) = some (.inl (1, 16, .inl (fun _ => 0))) := by rw [hs13, cU_n (by omega)]; exact a12_7
  have a13_6 : s13.1 (σ.2 0 + 6) = some (.inr (11, [.ref (σ.2 0 + 7), .int 0, .int 0, .int 0])) := by rw [hs13]; exact cU_s
  have n13 : s13.2 0 = σ.2 0 + 8 ∧ s13.2 1 = σ.2 1 + 67 := by rw [hs13, cU_2]; exact n12
  have k13 : ∀ k, 2 ≤ k → s13.2 k = σ.2 k := fun k hk => C13.k hk
  obtain ⟨s14, hs14⟩ : ∃ s, s = cU s13 (σ.2 0) (.inr (0, [.null, .ref (σ.2 0 + 1), .ref (σ.2 0 + 3), .ref (σ.2 0 + 4), .ref (σ.2 0 + 6)])) := ⟨_, rfl⟩
  have C14 : Ch (fun _ => False) σ s14 := by rw [hs14]; exact C13.cU a13_0 (Or.inl (by omega))
  have a14_1 : s14.1 (σ.2 0 + 1) = some (.inr (10, [.ref (σ.2 0 + 2), .int 0, .int 0])) := by rw [hs14, cU_n (by omega)]; exact a13_1
  have a14_2 : s14.1 (σ.2 0 + 2) = some (.inl (2, 17, vR (fun _ => none))) := by rw [hs14, cU_n (by omega)]; exact a13_2
  have a14_3 : s14.1 (σ.2 0 + 3) = some (.inl (3, 2, vR (fun _ => none))) := by rw [hs14, cU_n (by omega)]; exact a13_3
  have a14_4 : s14.1 (σ.2 0 + 4) = some (.inr (11, [.ref (σ.2 0 + 5), .int 0, .int 0, .int 0])) := by rw [hs14, cU_n (by omega)]; exact a13_4
  have a14_5 : s14.1 (σ.2 0 + 5) = some (.inl (1, 16, .inl (fun _ => 0))) := by rw [hs14, cU_n (by omega)]; exact a13_5
  have a14_6 : s14.1 (σ.2 0 + 6) = some (.inr (11, [.ref (σ.2 0 + 7), .int 0, .int 0, .int 0])) := by rw [hs14, cU_n (by omega)]; exact a13_6
  have a14_7 : s14.1 (σ.2 0 + 7) = some (.inl (1, 16, .inl (fun _ => 0))) := by rw [hs14, cU_n (by omega)]; exact a13_7
  have a14_0 : s14.1 (σ.2 0) = some (.inr (0, [.null, .ref (σ.2 0 + 1), .ref (σ.2 0 + 3), .ref (σ.2 0 + 4), .ref (σ.2 0 + 6)])) := by rw [hs14]; exact cU_s
  have n14 : s14.2 0 = σ.2 0 + 8 ∧ s14.2 1 = σ.2 1 + 67 := by rw [hs14, cU_2]; exact n13
  have k14 : ∀ k, 2 ≤ k → s14.2 k = σ.2 k := fun k hk => C14.k hk
  have N : ∀ {β : Type} (k m : Nat) (s : cS) (c : Nat) (fs : List Value) (K : Nat → cS → Option β), k ≤ 100 → m + c ≤ 200 → s.2 0 = σ.2 0 + k → s.2 1 = σ.2 1 + m → (∀ j, 2 ≤ j → s.2 j = σ.2 j) → ∀ q, nO s q c fs K = K (σ.2 0 + k) (cN s (.inr (q, fs)) c) := fun k m s c fs K h1 h2 h3 h4 h5 q => by rw [nO_J (by rw [h3, h5 3 (by decide)]; omega) (by rw [h4, h5 4 (by decide)]; omega), h3]
  have A : ∀ {β : Type} (k m : Nat) (s : cS) (c : Nat) (f : (Nat → Int32) ⊕ (Nat → Int64) ⊕ (Nat → UInt32) ⊕ (Nat → UInt64) ⊕ (Nat → Option Nat)) (K : Nat → cS → Option β), k ≤ 100 → m + c ≤ 200 → s.2 0 = σ.2 0 + k → s.2 1 = σ.2 1 + m → (∀ j, 2 ≤ j → s.2 j = σ.2 j) → ∀ q, nA s q (OfNat.ofNat c) f K = K (σ.2 0 + k) (cN s (.inl (q, c, f)) c) := fun k m s c f K h1 h2 h3 h4 h5 q => by rw [nA_L (by omega) (by rw [h3, h5 3 (by decide)]; omega) (by rw [h4, h5 4 (by decide)]; omega), h3]
  have w : ∀ (s : cS), (∀ j, 2 ≤ j → s.2 j = σ.2 j) → ∀ k : Nat, s.2 2 ≤ σ.2 0 + k := fun s h k => by rw [h 2 (by decide)]; omega
  have ej1 : m_J1_init (σ.2 0 + 1) s1 = some (0, s3) := by
    unfold m_J1_init m_J0_init
    rw [bd_J, A 2 8 s1 17 _ _ (by decide) (by decide) n1.1 n1.2 k1, ← hs2, hs3]
    exact pO_J a2_1 (by show 0 < 3; decide) (w s2 k2 1)
  have e4 : ∀ (K : cS → Option (Int32 × cS)), pO s3 (some (σ.2 0)) 0 1 (va_rf (some (σ.2 0 + 1))) K = K s4 := fun K => by
    rw [hs4]
    exact pO_J a3_0 (by show 1 < 5; decide) (w s3 k3 0)
  have e6 : ∀ (K : cS → Option (Int32 × cS)), pO s5 (some (σ.2 0)) 0 2 (va_rf (some (σ.2 0 + 3))) K = K s6 := fun K => by
    rw [hs6]
    exact pO_J a5_0 (by show 2 < 5; decide) (w s5 k5 0)
  have ej3 : m_J3_init (σ.2 0 + 4) s7 = some (0, s9) := by
    unfold m_J3_init m_J2_init
    rw [if_neg (by decide), A 5 31 s7 16 _ _ (by decide) (by decide) n7.1 n7.2 k7, ← hs8, pO_J a8_4 (by show 0 < 4; decide) (w s8 k8 4), gd_J rfl, pO_J cU_s (by show 1 < 4; decide) (w s8 k8 4), cU_cU, bd_J, hs9]
    rfl
  have e10 : ∀ (K : cS → Option (Int32 × cS)), pO s9 (some (σ.2 0)) 0 3 (va_rf (some (σ.2 0 + 4))) K = K s10 := fun K => by
    rw [hs10]
    exact pO_J a9_0 (by show 3 < 5; decide) (w s9 k9 0)
  have ej6 : m_J3_init (σ.2 0 + 6) s11 = some (0, s13) := by
    unfold m_J3_init m_J2_init
    rw [if_neg (by decide), A 7 51 s11 16 _ _ (by decide) (by decide) n11.1 n11.2 k11, ← hs12, pO_J a12_6 (by show 0 < 4; decide) (w s12 k12 6), gd_J rfl, pO_J cU_s (by show 1 < 4; decide) (w s12 k12 6), cU_cU, bd_J, hs13]
    rfl
  have e14 : ∀ (K : cS → Option (Int32 × cS)), pO s13 (some (σ.2 0)) 0 4 (va_rf (some (σ.2 0 + 6))) K = K s14 := fun K => by
    rw [hs14]
    exact pO_J a13_0 (by show 4 < 5; decide) (w s13 k13 0)
  -- owners
  obtain ⟨o1, ho1⟩ : ∃ p : oW, p = oN (oN (oN (oN (oN (oN (oN (oN o (σ.2 0) (σ.2 0 + 1, 0)) (σ.2 0 + 1) (σ.2 0 + 1, 1)) (σ.2 0 + 2) (σ.2 0 + 1, 2)) (σ.2 0 + 3) (σ.2 0 + 1, 3)) (σ.2 0 + 4) (σ.2 0 + 1, 4)) (σ.2 0 + 5) (σ.2 0 + 1, 5)) (σ.2 0 + 6) (σ.2 0 + 1, 6)) (σ.2 0 + 7) (σ.2 0 + 1, 7) := ⟨_, rfl⟩
  have oo : ∀ q, q < σ.2 0 → o1 q = o q := fun q hq => by rw [ho1, oN_n (by omega), oN_n (by omega), oN_n (by omega), oN_n (by omega), oN_n (by omega), oN_n (by omega), oN_n (by omega), oN_n (by omega)]
  have w0 := w s14 k14
  have x0 : s14.1 (σ.2 0 + 1 - 1) ≠ none := by rw [Nat.add_sub_cancel, a14_0]; exact fun e => by cases e
  have y0 : s14.1 (σ.2 0) ≠ none := by rw [a14_0]; exact fun e => by cases e
  have y1 : s14.1 (σ.2 0 + 1) ≠ none := by rw [a14_1]; exact fun e => by cases e
  have y2 : s14.1 (σ.2 0 + 2) ≠ none := by rw [a14_2]; exact fun e => by cases e
  have y3 : s14.1 (σ.2 0 + 3) ≠ none := by rw [a14_3]; exact fun e => by cases e
  have y4 : s14.1 (σ.2 0 + 4) ≠ none := by rw [a14_4]; exact fun e => by cases e
  have y5 : s14.1 (σ.2 0 + 5) ≠ none := by rw [a14_5]; exact fun e => by cases e
  have y6 : s14.1 (σ.2 0 + 6) ≠ none := by rw [a14_6]; exact fun e => by cases e
  have y7 : s14.1 (σ.2 0 + 7) ≠ none := by rw [a14_7]; exact fun e => by cases e
  have S1 : SI o1 s14 := by
    rw [ho1]
    exact SI.oN (SI.oN (SI.oN (SI.oN (SI.oN (SI.oN (SI.oN (SI.oN (hS.ch C14) ⟨w0 0, y0, x0⟩) ⟨w0 1, y1, x0⟩) ⟨w0 2, y2, x0⟩) ⟨w0 3, y3, x0⟩) ⟨w0 4, y4, x0⟩) ⟨w0 5, y5, x0⟩) ⟨w0 6, y6, x0⟩) ⟨w0 7, y7, x0⟩
  have K1 : KA o1 s14 := hK.c C14 hS.1 (fun _ _ e => e.elim) oo
  have p0 : o1 (σ.2 0) = (σ.2 0 + 1, 0) := by rw [ho1, oN_n (by omega), oN_n (by omega), oN_n (by omega), oN_n (by omega), oN_n (by omega), oN_n (by omega), oN_n (by omega), oN_s]
  have p1 : o1 (σ.2 0 + 1) = (σ.2 0 + 1, 1) := by rw [ho1, oN_n (by omega), oN_n (by omega), oN_n (by omega), oN_n (by omega), oN_n (by omega), oN_n (by omega), oN_s]
  have p2 : o1 (σ.2 0 + 2) = (σ.2 0 + 1, 2) := by rw [ho1, oN_n (by omega), oN_n (by omega), oN_n (by omega), oN_n (by omega), oN_n (by omega), oN_s]
  have p3 : o1 (σ.2 0 + 3) = (σ.2 0 + 1, 3) := by rw [ho1, oN_n (by omega), oN_n (by omega), oN_n (by omega), oN_n (by omega), oN_s]
  have p4 : o1 (σ.2 0 + 4) = (σ.2 0 + 1, 4) := by rw [ho1, oN_n (by omega), oN_n (by omega), oN_n (by omega), oN_s]
  have p5 : o1 (σ.2 0 + 5) = (σ.2 0 + 1, 5) := by rw [ho1, oN_n (by omega), oN_n (by omega), oN_s]
  have p6 : o1 (σ.2 0 + 6) = (σ.2 0 + 1, 6) := by rw [ho1, oN_n (by omega), oN_s]
  have p7 : o1 (σ.2 0 + 7) = (σ.2 0 + 1, 7) := by rw [ho1, oN_s]
  have hY : CIy o1 s14 (σ.2 0) .null kNone [] [] (σ.2 0 + 1) (σ.2 0 + 3) (σ.2 0 + 4) (σ.2 0 + 6) [] (fun _ => 0) := ⟨⟨p0, a14_0⟩, ⟨p1, σ.2 0 + 2, 0, fun _ => none, p2, a14_1, a14_2, ⟨by decide, Nat.zero_le _⟩, fun j p h => by simp at h⟩, ⟨p3, fun _ => none, a14_3, fun _ _ => rfl⟩, ⟨p4, σ.2 0 + 5, 16, fun _ => 0, 0, p5, a14_4, a14_5, ⟨Nat.zero_le _, Or.inl rfl⟩, fun i hi => absurd hi (Nat.not_lt_zero _), fun _ _ => rfl⟩, ⟨p6, σ.2 0 + 7, 16, fun _ => 0, 0, p7, a14_6, a14_7, ⟨Nat.zero_le _, Or.inl rfl⟩, fun i hi => absurd hi (Nat.not_lt_zero _), fun _ _ => rfl⟩⟩
  obtain ⟨o2, σ2, w2, e2, SK2, X2⟩ := cl_start (k := 0) S1 K1 hY (by decide) hx (by
    unfold Rm
    rw [n14.1, n14.2, k14 3 (by decide), k14 4 (by decide)]
    omega)
  refine ⟨o2, σ2, W, hx, ?_, SK2, w2, _, _, _, _, _, _, X2⟩
  unfold m_X1_init
  rw [N 1 5 s0 3 _ _ (by decide) (by decide) n0.1 n0.2 k0, ← hs1, ej1, bd_J, e4, A 3 25 s4 2 _ _ (by decide) (by decide) n4.1 n4.2 k4, ← hs5, e6, N 4 27 s6 4 _ _ (by decide) (by decide) n6.1 n6.2 k6, ← hs7, ej3, bd_J, e10, N 6 47 s10 4 _ _ (by decide) (by decide) n10.1 n10.2 k10, ← hs11, ej6, bd_J, e14, nn_J a14_0]
  show bd (m_X1_start (σ.2 0) (Int32.ofNat 0) s14) _ = _
  rw [e2, bd_J]
