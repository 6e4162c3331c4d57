/-! THE PLAIN LAW, the class' side: a will is made, copied -/
set_option maxRecDepth 100000
theorem nA_L {β : Type} {σ : cS} {kind n : Nat} {f : (Nat → Int32) ⊕ (Nat → Int64) ⊕ (Nat → UInt32) ⊕ (Nat → UInt64) ⊕ (Nat → Option Nat)} {K : Nat → cS → Option β} (hn : n ≤ 67108864) (h0 : σ.2 0 + 1 ≤ σ.2 3) (h1 : σ.2 1 + n ≤ σ.2 4) : nA σ kind (OfNat.ofNat n) f K = K (σ.2 0) (cN σ (.inl (kind, n, f)) n) := nA_J hn h0 h1
theorem sI_L {β : Type} {σ : cS} {a kd n i : Nat} {f : Nat → Int32} {x : Int32} {K : cS → Option β} (h : σ.1 a = some (.inl (kd, n, .inl f))) (hi : i < n) (hn : n < 2147483648) (hw : σ.2 2 ≤ a) : sI σ (some a) kd (OfNat.ofNat i) x K = K (cU σ a (.inl (kd, n, .inl (upd f i x)))) := sI_J h hi hn hw
theorem cl_cases0 {σ : cS} {a vl : Nat} {d : Nat → Nat} {fs : List Value} (hF : FOk d) (h1 : σ.1 a = some (.inr (1, fs))) (h2 : fs[0]? = some (.ref vl)) (hv : IA σ vl (d 0) (fun i => d (1 + i))) : m_X4_cases a σ = some (Int32.ofNat (casesN d), σ) := by
  have h4 := hF.1
  unfold m_X4_cases
  refine loop_FU (fun g k => b_X4_cases_4 a g (Int32.ofNat (prodN d k)) (Int32.ofNat k) σ) (fun _ => some (Int32.ofNat (casesN d), σ)) (d 0) (by omega) (fun g k hk ih => ?_) (fun g => ?_)
  · show b_X4_cases_4 a (g + 1) _ _ _ = _
    rw [b_X4_cases_4, gR_J h1 h2, hv.len, iJ_le (by omega) (by omega), if_neg (by omega), gR_J h1 h2, hv.ld hk (by omega), lt_J, J_mul, lt_J, J_addL]
    exact ih
  · show b_X4_cases_4 a (g + 1) _ _ _ = _
    rw [b_X4_cases_4, gR_J h1 h2, hv.len, iJ_le (by omega) (by omega), if_pos (Nat.le_refl _)]
    rfl
def wBlank : cE := .inr (1, [.null, .int 0, .null, .null, .null, .null, .int 0, .int 0, .int 0])
/-- a will's new parts -/
def oWill (o : oW) (a b : Nat) : oW := oN (oN (oN (oN (oN o a (a + 1, 0)) b (a + 1, 1)) (b + 1) (a + 1, 2)) (b + 2) (a + 1, 3)) (b + 3) (a + 1, 5)
def LWill (vl b s15 : Nat) : Nat → Nat := fun k => if k = 0 then vl else if k = 1 then b else if k = 2 then b + 1 else if k = 3 then b + 2 else if k = 4 then s15 else if k = 5 then b + 3 else 0
theorem cl_winit {o : oW} {σ : cS} {a vl x y : Nat} {d : Nat → Nat} {t : Nat → Term} (hF : FOk d) (h5 : d 5 < 2147483648) (hS : SI o σ) (hK : KL o σ) (ha : σ.1 a = some wBlank) (hw : σ.2 2 ≤ a) (hv : IA σ vl (d 0) (fun i => d (1 + i))) (ov : (o vl).1 = 0) (d7 : d 7 = 1000) (d8 : d 8 = 0) (df : ∀ k, k < 4 → d (9 + 2 * k) = 0 ∧ d (10 + 2 * k) = 10) (d17 : d 17 = 0) (hR : Rm σ (x + 4) (y + 267)) : ∃ σ' L, m_X4_init a (some vl) (Int32.ofNat (d 5)) (Int32.ofNat (d 6)) σ = some (0, σ') ∧ WillC (oWill o a (σ.2 0)) σ' a L d t ∧ σ'.1 (L 5) = some (.inl (4, casesN d, vR (fun _ => none))) ∧ (SI (oWill o a (σ.2 0)) σ' ∧ KL (oWill o a (σ.2 0)) σ') ∧ Ch (fun q => q = a) σ σ' ∧ Rm σ' x y ∧ L 0 = vl := by
  have hW := hS.1
  have h4 := hF.1
  have hc := casesN_le hF
  have ha0 := hW.lt ha
  have hv0 := hv.lt hW
  obtain ⟨-, o15, f15, h15⟩ := id hK
  have h150 := hW.lt h15
  have hw0 := hS.2.1
  have hva : vl ≠ a := fun e => by
    obtain ⟨f, w, -⟩ := hv
    rw [e, ha] at w
    cases w
  have h15a : σ.2 15 ≠ a := fun e => by rw [e, ha] at h15; cases h15
  have r0 : σ.2 0 + 1 ≤ σ.2 3 ∧ σ.2 0 + 2 ≤ σ.2 3 ∧ σ.2 0 + 3 ≤ σ.2 3 ∧ σ.2 0 + 4 ≤ σ.2 3 := by have := hR.1; omega
  have r1 : σ.2 1 + 4 ≤ σ.2 4 ∧ σ.2 1 + 4 + 4 ≤ σ.2 4 ∧ σ.2 1 + 4 + 4 + 3 ≤ σ.2 4 ∧ σ.2 1 + 4 + 4 + 3 + casesN d ≤ σ.2 4 := by have := hR.2; omega
  unfold m_X4_init
  -- the free sums
  rw [nA_L (n := 4) (by decide) r0.1 r1.1]
  generalize hs1 : cN σ (.inl (0, 4, .inl (fun _ => 0))) 4 = σ1
  have C1 : Ch (fun q => q = a) σ σ1 := by rw [← hs1]; exact Ch.cN Ch.rf
  have a1 : σ1.1 a = some wBlank := by rw [← hs1, cN_n (by omega)]; exact ha
  have b1 : σ1.1 (σ.2 0) = some (.inl (0, 4, .inl (fun _ => 0))) := by rw [← hs1]; exact cN_s
  have n1 : σ1.2 0 = σ.2 0 + 1 ∧ σ1.2 1 = σ.2 1 + 4 := by rw [← hs1]; exact ⟨rfl, rfl⟩
  have k1 : ∀ k, 2 ≤ k → σ1.2 k = σ.2 k := fun k hk => C1.k hk
  clear hs1
  rw [pO_J a1 (by show 2 < 9; decide) (by rw [k1 2 (by decide)]; exact hw)]
  generalize hs2 : cU σ1 a _ = σ2
  have C2 : Ch (fun q => q = a) σ σ2 := by rw [← hs2]; exact C1.cU a1 (Or.inr rfl)
  have a2 : σ2.1 a = some (.inr (1, [.null, .int 0, .ref (σ.2 0), .null, .null, .null, .int 0, .int 0, .int 0])) := by rw [← hs2]; exact cU_s
  have b2 : σ2.1 (σ.2 0) = some (.inl (0, 4, .inl (fun _ => 0))) := by rw [← hs2, cU_n (by omega)]; exact b1
  have n2 : σ2.2 0 = σ.2 0 + 1 ∧ σ2.2 1 = σ.2 1 + 4 := by rw [← hs2]; exact n1
  have k2 : ∀ k, 2 ≤ k → σ2.2 k = σ.2 k := fun k hk => C2.k hk
  clear hs2
  -- the rates
  rw [nA_L (n := 4) (by decide) (by rw [n2.1, k2 3 (by decide)]; omega) (by rw [n2.2, k2 4 (by decide)]; omega)]
  have w2 : ∀ e n, (cN σ2 e n).2 2 ≤ σ2.2 0 := fun e n => by rw [cN_k (by decide), k2 2 (by decide), n2.1]; omega
  rw [sI_L (i := 0) cN_s (by decide) (by decide) (w2 _ _), cN_cU, sI_L (i := 1) cN_s (by decide) (by decide) (w2 _ _), cN_cU, sI_L (i := 2) cN_s (by decide) (by decide) (w2 _ _), cN_cU, sI_L (i := 3) cN_s (by decide) (by decide) (w2 _ _), cN_cU]
  generalize hs3 : cN σ2 (.inl (0, 4, .inl (upd (upd (upd (upd (fun _ => 0) 0 10) 1 10) 2 10) 3 10))) 4 = σ3
  have C3 : Ch (fun q => q = a) σ σ3 := by rw [← hs3]; exact C2.cN
  have a3 : σ3.1 a = some (.inr (1, [.null, .int 0, .ref (σ.2 0), .null, .null, .null, .int 0, .int 0, .int 0])) := by rw [← hs3, cN_n (by omega)]; exact a2
  have b3 : σ3.1 (σ.2 0) = some (.inl (0, 4, .inl (fun _ => 0))) := by rw [← hs3, cN_n (by omega)]; exact b2
  have c3 : IA σ3 (σ.2 0 + 1) 4 (fun _ => 10) := by
    refine ⟨_, by rw [← hs3, ← n2.1]; exact cN_s, fun i hi => ?_⟩
    obtain rfl | rfl | rfl | rfl : i = 0 ∨ i = 1 ∨ i = 2 ∨ i = 3 := by omega
    all_goals rfl
  have n3 : σ3.2 0 = σ.2 0 + 2 ∧ σ3.2 1 = σ.2 1 + 4 + 4 := by rw [← hs3, cN_0, cN_1]; omega
  have k3 : ∀ k, 2 ≤ k → σ3.2 k = σ.2 k := fun k hk => C3.k hk
  rw [n2.1]
  clear hs3
  rw [pO_J a3 (by show 3 < 9; decide) (by rw [k3 2 (by decide)]; exact hw)]
  generalize hs4 : cU σ3 a _ = σ4
  have C4 : Ch (fun q => q = a) σ σ4 := by rw [← hs4]; exact C3.cU a3 (Or.inr rfl)
  have a4 : σ4.1 a = some (.inr (1, [.null, .int 0, .ref (σ.2 0), .ref (σ.2 0 + 1), .null, .null, .int 0, .int 0, .int 0])) := by rw [← hs4]; exact cU_s
  have b4 : σ4.1 (σ.2 0) = some (.inl (0, 4, .inl (fun _ => 0))) := by rw [← hs4, cU_n (by omega)]; exact b3
  have c4 : IA σ4 (σ.2 0 + 1) 4 (fun _ => 10) := by rw [← hs4]; exact c3.to (cU_n (by omega))
  have n4 : σ4.2 0 = σ.2 0 + 2 ∧ σ4.2 1 = σ.2 1 + 4 + 4 := by rw [← hs4]; exact n3
  have k4 : ∀ k, 2 ≤ k → σ4.2 k = σ.2 k := fun k hk => C4.k hk
  clear hs4
  -- the list
  rw [nO_J (by rw [n4.1, k4 3 (by decide)]; omega) (by rw [n4.2, k4 4 (by decide)]; omega)]
  have w4 : ∀ e n, (cN σ4 e n).2 2 ≤ σ4.2 0 := fun e n => by rw [cN_k (by decide), k4 2 (by decide), n4.1]; omega
  unfold m_J18_init m_J17_init m_J0_init
  rw [bd_J, pO_J cN_s (by show 0 < 3; decide) (w4 _ _), cN_cU, bd_J, pO_J cN_s (by show 1 < 3; decide) (w4 _ _), cN_cU, bd_J]
  generalize hs5 : cN σ4 (.inr (9, _)) 3 = σ5
  have C5 : Ch (fun q => q = a) σ σ5 := by rw [← hs5]; exact C4.cN
  have a5 : σ5.1 a = some (.inr (1, [.null, .int 0, .ref (σ.2 0), .ref (σ.2 0 + 1), .null, .null, .int 0, .int 0, .int 0])) := by rw [← hs5, cN_n (by omega)]; exact a4
  have b5 : σ5.1 (σ.2 0) = some (.inl (0, 4, .inl (fun _ => 0))) := by rw [← hs5, cN_n (by omega)]; exact b4
  have c5 : IA σ5 (σ.2 0 + 1) 4 (fun _ => 10) := by rw [← hs5]; exact c4.to (cN_n (by omega))
  have l5 : σ5.1 (σ.2 0 + 2) = some (.inr (9, [.int 0, .ref (σ.2 15), .int 0])) := by
    rw [← hs5, ← n4.1, cN_s, cN_k (by decide), k4 15 (by decide)]
    rfl
  have n5 : σ5.2 0 = σ.2 0 + 3 ∧ σ5.2 1 = σ.2 1 + 4 + 4 + 3 := by rw [← hs5, cN_0, cN_1]; omega
  have k5 : ∀ k, 2 ≤ k → σ5.2 k = σ.2 k := fun k hk => C5.k hk
  rw [n4.1]
  clear hs5
  have wa5 : ∀ e, (cU σ5 a e).2 2 ≤ a := fun e => by rw [cU_2, k5 2 (by decide)]; exact hw
  rw [pO_J a5 (by show 4 < 9; decide) (by rw [k5 2 (by decide)]; exact hw), pO_J cU_s (by show 7 < 9; decide) (wa5 _), cU_cU, pO_J cU_s (by show 0 < 9; decide) (wa5 _), cU_cU, pO_J cU_s (by show 1 < 9; decide) (wa5 _), cU_cU, pO_J cU_s (by show 6 < 9; decide) (wa5 _), cU_cU]
  generalize hs6 : cU σ5 a _ = σ6
  have C6 : Ch (fun q => q = a) σ σ6 := by rw [← hs6]; exact C5.cU a5 (Or.inr rfl)
  have a6 : σ6.1 a = some (.inr (1, [.ref vl, .int (Int32.ofNat (d 5)), .ref (σ.2 0), .ref (σ.2 0 + 1), .ref (σ.2 0 + 2), .null, .int (Int32.ofNat (d 6)), .int 1000, .int 0])) := by rw [← hs6]; exact cU_s
  have b6 : σ6.1 (σ.2 0) = some (.inl (0, 4, .inl (fun _ => 0))) := by rw [← hs6, cU_n (by omega)]; exact b5
  have c6 : IA σ6 (σ.2 0 + 1) 4 (fun _ => 10) := by rw [← hs6]; exact c5.to (cU_n (by omega))
  have l6 : σ6.1 (σ.2 0 + 2) = some (.inr (9, [.int 0, .ref (σ.2 15), .int 0])) := by rw [← hs6, cU_n (by omega)]; exact l5
  have n6 : σ6.2 0 = σ.2 0 + 3 ∧ σ6.2 1 = σ.2 1 + 4 + 4 + 3 := by rw [← hs6]; exact n5
  have k6 : ∀ k, 2 ≤ k → σ6.2 k = σ.2 k := fun k hk => C6.k hk
  have v6 : IA σ6 vl (d 0) (fun i => d (1 + i)) := hv.c C6 hW hva
  clear hs6
  -- what is found
  rw [nn_J a6, cl_cases0 hF a6 rfl v6, bd_J, nA_J (by omega) (by rw [n6.1, k6 3 (by decide)]; omega) (by rw [n6.2, k6 4 (by decide)]; omega)]
  have a7 : (cN σ6 (.inl (4, casesN d, vR (fun _ => none))) (casesN d)).1 a = some (.inr (1, [.ref vl, .int (Int32.ofNat (d 5)), .ref (σ.2 0), .ref (σ.2 0 + 1), .ref (σ.2 0 + 2), .null, .int (Int32.ofNat (d 6)), .int 1000, .int 0])) := by rw [cN_n (by omega)]; exact a6
  rw [pO_J a7 (by show 5 < 9; decide) (by rw [cN_k (by decide), k6 2 (by decide)]; exact hw)]
  generalize hs8 : cU (cN σ6 (.inl (4, casesN d, vR (fun _ => none))) (casesN d)) a _ = σ8
  have C8 : Ch (fun q => q = a) σ σ8 := by rw [← hs8]; exact (C6.cN).cU a7 (Or.inr rfl)
  have a8 : σ8.1 a = some (.inr (1, [.ref vl, .int (Int32.ofNat (d 5)), .ref (σ.2 0), .ref (σ.2 0 + 1), .ref (σ.2 0 + 2), .ref (σ.2 0 + 3), .int (Int32.ofNat (d 6)), .int 1000, .int 0])) := by rw [← hs8, ← n6.1]; exact cU_s
  have b8 : IA σ8 (σ.2 0) 4 (fun _ => 0) := ⟨_, by rw [← hs8, cU_n (by omega), cN_n (by omega)]; exact b6, fun _ _ => rfl⟩
  have c8 : IA σ8 (σ.2 0 + 1) 4 (fun _ => 10) := by rw [← hs8]; exact c6.to (by rw [cU_n (by omega), cN_n (by omega)])
  have l8 : σ8.1 (σ.2 0 + 2) = some (.inr (9, [.int 0, .ref (σ.2 15), .int 0])) := by rw [← hs8, cU_n (by omega), cN_n (by omega)]; exact l6
  have f8 : σ8.1 (σ.2 0 + 3) = some (.inl (4, casesN d, vR (fun _ => none))) := by rw [← hs8, cU_n (by omega), ← n6.1]; exact cN_s
  have n8 : σ8.2 0 = σ.2 0 + 4 ∧ σ8.2 1 = σ.2 1 + 4 + 4 + 3 + casesN d := by rw [← hs8, cU_2, cN_0, cN_1]; omega
  have k8 : ∀ k, 2 ≤ k → σ8.2 k = σ.2 k := fun k hk => C8.k hk
  have v8 : IA σ8 vl (d 0) (fun i => d (1 + i)) := hv.c C8 hW hva
  have e8 : σ8.1 (σ.2 15) = some (.inl (2, 0, vR f15)) := C8.c hW h15 h15a
  clear hs8
  have oa : ∀ q, q ≠ a → q < σ.2 0 → oWill o a (σ.2 0) q = o q := fun q h1 h2 => by
    unfold oWill
    rw [oN_n (by omega), oN_n (by omega), oN_n (by omega), oN_n (by omega), oN_n h1]
  have o0 : oWill o a (σ.2 0) a = (a + 1, 0) := by
    unfold oWill
    rw [oN_n (by omega), oN_n (by omega), oN_n (by omega), oN_n (by omega), oN_s]
  have o1 : oWill o a (σ.2 0) (σ.2 0) = (a + 1, 1) := by
    unfold oWill
    rw [oN_n (by omega), oN_n (by omega), oN_n (by omega), oN_s]
  have o2 : oWill o a (σ.2 0) (σ.2 0 + 1) = (a + 1, 2) := by
    unfold oWill
    rw [oN_n (by omega), oN_n (by omega), oN_s]
  have o3 : oWill o a (σ.2 0) (σ.2 0 + 2) = (a + 1, 3) := by
    unfold oWill
    rw [oN_n (by omega), oN_s]
  have o5 : oWill o a (σ.2 0) (σ.2 0 + 3) = (a + 1, 5) := oN_s
  have S8 : SI (oWill o a (σ.2 0)) σ8 := by
    have hs := hS.ch C8
    have w8 : σ8.2 2 = σ.2 2 := k8 2 (by decide)
    have ea : σ8.1 a ≠ none := by rw [a8]; exact fun w => by cases w
    refine SI.oN (SI.oN (SI.oN (SI.oN (SI.oN hs ⟨by omega, ea, ea⟩) ⟨by omega, ?_, ea⟩) ⟨by omega, ?_, ea⟩) ⟨by omega, ?_, ea⟩) ⟨by omega, ?_, ea⟩
    · obtain ⟨f, w, -⟩ := b8; rw [w]; exact fun w => by cases w
    · obtain ⟨f, w, -⟩ := c8; rw [w]; exact fun w => by cases w
    · rw [l8]; exact fun w => by cases w
    · rw [f8]; exact fun w => by cases w
  refine ⟨σ8, LWill vl (σ.2 0) (σ.2 15), rfl, ?_, ?_, ⟨S8, ?_⟩, C8, ?_, rfl⟩
  · refine ⟨⟨⟨o0, ?_⟩, ?_, v8⟩, ⟨⟨o1, b8.g (fun i hi => (df i hi).1.symm)⟩, o2, c8.g (fun i hi => (df i hi).2.symm)⟩, ⟨o3, Or.inl ⟨?_, (k8 15 (by decide)).symm⟩, ⟨0, ?_⟩, 0, f15, e8, ?_, ?_, Or.inl ⟨rfl, (k8 15 (by decide)).symm⟩⟩, o5, ?_, ?_⟩
    · rw [a8]; unfold wF; rw [d7, d8]; rfl
    · show (oWill o a (σ.2 0) vl).1 = 0
      rw [oa vl hva hv0]; exact ov
    · show (oWill o a (σ.2 0) (σ.2 15)).1 = 0
      rw [oa _ h15a h150]; exact o15
    · rw [d17]; exact l8
    · rw [d17]; exact Nat.le_refl _
    · intro i hi; rw [d17] at hi; exact absurd hi (Nat.not_lt_zero _)
    · intro i hi; rw [d17] at hi; exact absurd hi (Nat.not_lt_zero _)
    · intro i j hi; rw [d17] at hi; exact absurd hi (Nat.not_lt_zero _)
  · exact f8
  · obtain ⟨g1, g2, f, g3⟩ := hK
    refine ⟨fun k hk => ?_, ?_, f, ?_⟩
    · obtain ⟨q1, fs, q2⟩ := g1 k hk
      have hne : σ.2 (6 + k) ≠ a := fun e => by
        rw [e, ha] at q2
        have h1 := Sum.inr.inj (show (Sum.inr (1, [Value.null, .int 0, .null, .null, .null, .null, .int 0, .int 0, .int 0]) : cE) = Sum.inr (60 + k, fs) from Option.some.inj q2)
        have h2 : 1 = 60 + k := congrArg Prod.fst h1
        omega
      rw [k8 _ (by omega)]
      exact ⟨by rw [oa _ hne (hW.lt q2)]; exact q1, fs, C8.c hW q2 hne⟩
    · rw [k8 15 (by decide), oa _ h15a h150]; exact o15
    · rw [k8 15 (by decide)]; exact C8.c hW g3 h15a
  · unfold Rm at hR ⊢
    rw [k8 3 (by decide), k8 4 (by decide), n8.1, n8.2]
    omega
