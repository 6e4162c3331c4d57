/-! THE PLAIN LAW, the class' side: append -/
set_option maxRecDepth 1000000
theorem shm_1 : ∀ k, k < 32 → (Int32.toUInt32 (Int32.ofNat k) &&& Int32.toUInt32 31) = UInt32.ofNat k := by decide +kernel
theorem shm_2 : ∀ k, k < 32 → ((UInt32.ofNat k).toBitVec % 32).toNat = k := by decide +kernel
theorem shm_3 : ∀ k, k < 32 → ((Int32.ofNat k).toBitVec.smod 32).toNat = k := by decide +kernel
theorem shm_4 : ∀ c, c < 256 → ((Int32.ofNat c).toUInt32 % 65536).toInt32 = Int32.ofNat c := by decide +kernel
theorem shr_low {x : Int32} {k : Nat} (hk : k ≤ 24) : ((x.toUInt32 >>> (UInt32.ofNat k)).toInt32).toBitVec.toNat % 256 = (x >>> (Int32.ofNat k &&& 31)).toBitVec.toNat % 256 := by
  have e1 : ((x.toUInt32 >>> (UInt32.ofNat k)).toInt32).toBitVec = x.toBitVec >>> k := by
    show x.toBitVec >>> (((UInt32.ofNat k).toBitVec % 32)) = _
    rw [BitVec.ushiftRight_eq', shm_2 k (by omega)]
  have e2 : (x >>> (Int32.ofNat k &&& 31)).toBitVec = x.toBitVec.sshiftRight k := by
    rw [J_m31 (by omega), Int32.toBitVec_shiftRight, BitVec.sshiftRight_eq', shm_3 k (by omega)]
  rw [e1, e2]
  have : ∀ y z : BitVec 32, (∀ i, i < 8 → y.getLsbD i = z.getLsbD i) → y.toNat % 256 = z.toNat % 256 := fun y z h => by
    have : y.setWidth 8 = z.setWidth 8 := BitVec.eq_of_getLsbD_eq (fun i hi => by rw [BitVec.getLsbD_setWidth, BitVec.getLsbD_setWidth, h i hi])
    have := congrArg BitVec.toNat this
    rw [BitVec.toNat_setWidth, BitVec.toNat_setWidth] at this
    exact this
  refine this _ _ (fun i hi => ?_)
  rw [BitVec.getLsbD_ushiftRight, BitVec.getLsbD_sshiftRight, if_pos (by omega)]
  simp
  omega
theorem byN_lt {x : Int32} {k : Nat} : byN x k < 256 := Nat.mod_lt _ (by decide)
theorem shr_chr {x : Int32} {k : Nat} (hk : k ≤ 24) : (((((x.toUInt32 >>> (Int32.toUInt32 (Int32.ofNat k) &&& Int32.toUInt32 31)).toInt32) &&& 255).toUInt32 % 65536).toInt32) = Int32.ofNat (byN x k) := by
  rw [shm_1 k (by omega), J_255, shr_low hk]
  exact shm_4 _ byN_lt
section APD
variable {o : oW} {σ : cS} {x wa dq sl bu re u n m q : Nat} {S : SS} {PA : List Nat} {ka L : Nat → Nat} {B : List Nat} {f : Nat → Int32}
/-- the object whose buffer is B so far, with the array of words -/
def PU (o : oW) (σ : cS) (x : Nat) (S : SS) (wa dq sl bu re : Nat) (PA : List Nat) (ka L : Nat → Nat) (u n m q : Nat) (f : Nat → Int32) (B : List Nat) : Prop := ∃ cap, PX o σ x (bfS S B) wa dq sl bu re PA ka L u ∧ SBx o σ x 4 bu B cap ∧ RB σ cap n m ∧ (o q).1 = 0 ∧ σ.1 q = some (.inl (0, 5, .inl f))
theorem PU.xc (h : PU o σ x S wa dq sl bu re PA ka L u n m q f B) : σ.1 x = some (.inr (0, mF wa dq sl bu re)) := by
  obtain ⟨cap, h1, h2, h3⟩ := h
  exact h1.2.1.1.2
theorem PU.nn {β : Type} {K : Nat → Option β} (h : PU o σ x S wa dq sl bu re PA ka L u n m q f B) : nn σ (some bu) 11 K = K bu := by
  obtain ⟨cap, h1, h2, h3⟩ := h
  exact h2.nn
theorem PU.qc (h : PU o σ x S wa dq sl bu re PA ka L u n m q f B) : σ.1 q = some (.inl (0, 5, .inl f)) := by
  obtain ⟨cap, h1, h2, h3, h4, h5⟩ := h
  exact h5
theorem PU.chr (h : PU o σ x S wa dq sl bu re PA ka L u n m q f B) (hO : SFk S) {c : Nat} (hc : c < 256) (hl : B.length + 1 ≤ 900) : ∃ σ' o', m_J3_append_3 bu (Int32.ofNat c) σ = some (some bu, σ') ∧ PU o' σ' x S wa dq sl bu re PA ka L u n m q f (B ++ [c]) := by
  obtain ⟨cap, h1, h2, h3, h4, h5⟩ := h
  obtain ⟨σ', o', cap', e, X, S', C, oo, R⟩ := sb_chr (u := n) (v := m) h1.1.1 h2 hc hl h3
  have hq := h1.1.1.lt h5
  exact ⟨σ', o', e, cap', PX.buf (S := bfS S B) h1 hO C (fun q _ w => w) oo S' X.c, X, R, by rw [oo q hq]; exact h4, C.c h1.1.1.1 h5 (fun w => by rw [w.ow] at h4; cases h4)⟩
theorem ap_1 (P : PU o σ x S wa dq sl bu re PA ka L u n m q f B) (hO : SFk S) (hl : B.length + 1 ≤ 900) {K : Option Nat → Int32 → cS → Option (Int32 × cS)} {j k g : Nat} (hj : j < 5) (hk : k ≤ 24) : ∃ o' σ', b_X1_appendWords_11 x K (g + 1) (some q) (Int32.ofNat j) (Int32.ofNat k) σ = b_X1_appendWords_11 x K g (some q) (Int32.ofNat j) (Int32.ofNat k + (-8)) σ' ∧ PU o' σ' x S wa dq sl bu re PA ka L u n m q f (B ++ [byN (f j) k]) := by
  obtain ⟨σ1, o1, e1, P1⟩ := P.chr hO (byN_lt (x := f j) (k := k)) hl
  refine ⟨o1, σ1, ?_, P1⟩
  rw [b_X1_appendWords_11, if_neg (by rw [J_nn (by omega)]; exact id), gR_J P.xc rfl, aI_J P.qc hj (by decide), P.nn, shr_chr hk, e1, bd_J, lt_J]
theorem ap_4 (P : PU o σ x S wa dq sl bu re PA ka L u n m q f B) (hO : SFk S) (hl : B.length + 4 ≤ 900) {K : Option Nat → Int32 → cS → Option (Int32 × cS)} {j : Nat} (hj : j < 5) : ∃ o' σ', b_X1_appendWords_11 x K FU (some q) (Int32.ofNat j) 24 σ = K (some q) (Int32.ofNat (j + 1)) σ' ∧ PU o' σ' x S wa dq sl bu re PA ka L u n m q f (B ++ b4N (f j)) := by
  obtain ⟨o1, σ1, e1, P1⟩ := ap_1 (K := K) (k := 24) (g := 4095) P hO (by omega) hj (by decide)
  obtain ⟨o2, σ2, e2, P2⟩ := ap_1 (K := K) (k := 16) (g := 4094) P1 hO (by rw [List.length_append]; show B.length + 1 + 1 ≤ _; omega) hj (by decide)
  obtain ⟨o3, σ3, e3, P3⟩ := ap_1 (K := K) (k := 8) (g := 4093) P2 hO (by rw [List.length_append, List.length_append]; show B.length + 1 + 1 + 1 ≤ _; omega) hj (by decide)
  obtain ⟨o4, σ4, e4, P4⟩ := ap_1 (K := K) (k := 0) (g := 4092) P3 hO (by rw [List.length_append, List.length_append, List.length_append]; show B.length + 1 + 1 + 1 + 1 ≤ _; omega) hj (by decide)
  refine ⟨o4, σ4, ?_, ?_⟩
  · show b_X1_appendWords_11 x K (4095 + 1) (some q) (Int32.ofNat j) (Int32.ofNat 24) σ = _
    rw [e1, show Int32.ofNat 24 + (-8) = Int32.ofNat 16 from by decide]
    show b_X1_appendWords_11 x K (4094 + 1) (some q) (Int32.ofNat j) _ σ1 = _
    rw [e2, show Int32.ofNat 16 + (-8) = Int32.ofNat 8 from by decide]
    show b_X1_appendWords_11 x K (4093 + 1) (some q) (Int32.ofNat j) _ σ2 = _
    rw [e3, show Int32.ofNat 8 + (-8) = Int32.ofNat 0 from by decide]
    show b_X1_appendWords_11 x K (4092 + 1) (some q) (Int32.ofNat j) _ σ3 = _
    rw [e4]
    show b_X1_appendWords_11 x K (4091 + 1) (some q) (Int32.ofNat j) _ σ4 = _
    rw [b_X1_appendWords_11, if_pos (by decide), J_addL, lt_J]
  · have e : B ++ [byN (f j) 24] ++ [byN (f j) 16] ++ [byN (f j) 8] ++ [byN (f j) 0] = B ++ b4N (f j) := by simp [b4N]
    rw [e] at P4
    exact P4
theorem ap_all (P : PU o σ x S wa dq sl bu re PA ka L u n m q f B) (hO : SFk S) (hl : B.length + 20 ≤ 900) : ∃ o' σ', m_X1_appendWords x (some q) σ = some (0, σ') ∧ PU o' σ' x S wa dq sl bu re PA ka L u n m q f (B ++ (b4N (f 0) ++ (b4N (f 1) ++ (b4N (f 2) ++ (b4N (f 3) ++ b4N (f 4)))))) := by
  have l4 : ∀ x, (b4N x).length = 4 := fun x => rfl
  have st : ∀ (g j : Nat) (τ : cS), τ.1 q = some (.inl (0, 5, .inl f)) → j < 5 → b_X1_appendWords_2 x (g + 1) (some q) (Int32.ofNat j) τ = b_X1_appendWords_11 x (b_X1_appendWords_2 x g) FU (some q) (Int32.ofNat j) 24 τ := fun g j τ h hj => by
    rw [b_X1_appendWords_2, aL_J h (by show 0 < 6; decide)]
    dsimp only
    rw [iJ_le (by decide) (by omega), if_neg (by omega)]
  obtain ⟨o1, σ1, e1, P1⟩ := ap_4 (K := b_X1_appendWords_2 x 4095) (j := 0) P hO (by omega) (by decide)
  obtain ⟨o2, σ2, e2, P2⟩ := ap_4 (K := b_X1_appendWords_2 x 4094) (j := 1) P1 hO (by simp only [List.length_append, l4]; omega) (by decide)
  obtain ⟨o3, σ3, e3, P3⟩ := ap_4 (K := b_X1_appendWords_2 x 4093) (j := 2) P2 hO (by simp only [List.length_append, l4]; omega) (by decide)
  obtain ⟨o4, σ4, e4, P4⟩ := ap_4 (K := b_X1_appendWords_2 x 4092) (j := 3) P3 hO (by simp only [List.length_append, l4]; omega) (by decide)
  obtain ⟨o5, σ5, e5, P5⟩ := ap_4 (K := b_X1_appendWords_2 x 4091) (j := 4) P4 hO (by simp only [List.length_append, l4]; omega) (by decide)
  refine ⟨o5, σ5, ?_, ?_⟩
  · unfold m_X1_appendWords
    show b_X1_appendWords_2 x (4095 + 1) (some q) (Int32.ofNat 0) σ = _
    rw [st _ 0 σ P.qc (by decide), e1]
    show b_X1_appendWords_2 x (4094 + 1) (some q) (Int32.ofNat 1) σ1 = _
    rw [st _ 1 σ1 P1.qc (by decide), e2]
    show b_X1_appendWords_2 x (4093 + 1) (some q) (Int32.ofNat 2) σ2 = _
    rw [st _ 2 σ2 P2.qc (by decide), e3]
    show b_X1_appendWords_2 x (4092 + 1) (some q) (Int32.ofNat 3) σ3 = _
    rw [st _ 3 σ3 P3.qc (by decide), e4]
    show b_X1_appendWords_2 x (4091 + 1) (some q) (Int32.ofNat 4) σ4 = _
    rw [st _ 4 σ4 P4.qc (by decide), e5]
    show b_X1_appendWords_2 x (4090 + 1) (some q) (Int32.ofNat 5) σ5 = _
    rw [b_X1_appendWords_2, aL_J P5.qc (by show 0 < 6; decide)]
    rfl
  · have e : B ++ b4N (f 0) ++ b4N (f 1) ++ b4N (f 2) ++ b4N (f 3) ++ b4N (f 4) = B ++ (b4N (f 0) ++ (b4N (f 1) ++ (b4N (f 2) ++ (b4N (f 3) ++ b4N (f 4))))) := by simp only [List.append_assoc]
    rw [e] at P5
    exact P5
end APD
theorem pc_append {o : oW} {σ : cS} {x : Nat} {S : SS} (h : CInv o σ x S) (hO : SSok S) (hR : Rm σ 7000 40000) (x1 x2 x3 x4 x5 : Int32) : CRp x (m_X1_append x x1 x2 x3 x4 x5 σ) (sp_append x1 x2 x3 x4 x5 S).2.1 (sp_append x1 x2 x3 x4 x5 S).2.2 := by
  obtain ⟨wa, dq, sl, bu, re, PA, ka, L, u, P⟩ := h.px
  obtain ⟨⟨hS, hK⟩, hX, hC, hF⟩ := id P
  obtain ⟨⟨x1', x2'⟩, -, -, b1, -⟩ := id hX
  obtain ⟨cap, hb, hcap⟩ := b1.x
  have hl := hO.2.2.2.2.1.1
  have hs2 := hS.2.1
  have hR1 := hR.1
  have hR2 := hR.2
  unfold m_X1_append sp_append
  rw [gR_J x2' rfl, hb.nn, sb_len hb.c, bd_J, J_addL, iJ_leL (by show _ + 20 < _; omega) (by decide)]
  by_cases c : S.2.2.2.1.length + 20 ≤ 700
  · rw [if_pos (show S.2.2.2.1.length + OfNat.ofNat 20 ≤ OfNat.ofNat 700 from c), if_pos c]
    rw [show ∀ K, nA (β := Int32 × cS) σ 0 5 (.inl (fun _ => 0)) K = nA σ 0 (Int32.ofNat 5) (.inl (fun _ => 0)) K from fun _ => rfl, nA_J (by decide) (by omega) (by omega)]
    generalize hσ1 : cN σ (.inl (0, 5, .inl (fun _ => 0))) 5 = σ1
    have g1 : σ1.1 (σ.2 0) = some (.inl (0, 5, .inl (fun _ => 0))) := by rw [← hσ1]; exact cN_s
    have n1 : σ1.2 0 = σ.2 0 + 1 ∧ σ1.2 1 = σ.2 1 + 5 ∧ ∀ k, 2 ≤ k → σ1.2 k = σ.2 k := by
      rw [← hσ1]
      exact ⟨rfl, rfl, fun k hk => cN_k hk⟩
    have hw : σ1.2 2 ≤ σ.2 0 := by rw [n1.2.2 2 (by decide)]; exact hs2
    have C1 : Ch (fun _ => False) σ σ1 := by rw [← hσ1]; exact Ch.rf.cN
    have cI : ∀ {β : Type} (j : Nat) (hj : j < 5) (g : Nat → Int32) (v : Int32) (K : cS → Option β), sI (cU σ1 (σ.2 0) (.inl (0, 5, .inl g))) (some (σ.2 0)) 0 (Int32.ofNat j) v K = K (cU σ1 (σ.2 0) (.inl (0, 5, .inl (upd g j v)))) := fun j hj g v K => by rw [sI_J cU_s hj (by decide) hw, cU_cU]
    rw [← cU_id g1]
    rw [show ∀ v K, sI (β := Int32 × cS) (cU σ1 (σ.2 0) (.inl (0, 5, .inl (fun _ => 0)))) (some (σ.2 0)) 0 0 v K = _ from fun v K => cI 0 (by decide) _ v K]
    rw [show ∀ g v K, sI (β := Int32 × cS) (cU σ1 (σ.2 0) (.inl (0, 5, .inl g))) (some (σ.2 0)) 0 1 v K = _ from fun g v K => cI 1 (by decide) g v K]
    rw [show ∀ g v K, sI (β := Int32 × cS) (cU σ1 (σ.2 0) (.inl (0, 5, .inl g))) (some (σ.2 0)) 0 2 v K = _ from fun g v K => cI 2 (by decide) g v K]
    rw [show ∀ g v K, sI (β := Int32 × cS) (cU σ1 (σ.2 0) (.inl (0, 5, .inl g))) (some (σ.2 0)) 0 3 v K = _ from fun g v K => cI 3 (by decide) g v K]
    rw [show ∀ g v K, sI (β := Int32 × cS) (cU σ1 (σ.2 0) (.inl (0, 5, .inl g))) (some (σ.2 0)) 0 4 v K = _ from fun g v K => cI 4 (by decide) g v K]
    generalize hf : upd (upd (upd (upd (upd (fun _ => (0 : Int32)) 0 x1) 1 x2) 2 x3) 3 x4) 4 x5 = f
    have f0 : f 0 = x1 := by rw [← hf]; rfl
    have f1 : f 1 = x2 := by rw [← hf]; rfl
    have f2 : f 2 = x3 := by rw [← hf]; rfl
    have f3 : f 3 = x4 := by rw [← hf]; rfl
    have f4 : f 4 = x5 := by rw [← hf]; rfl
    generalize hσ2 : cU σ1 (σ.2 0) (.inl (0, 5, .inl f)) = σ2
    have C2 : Ch (fun _ => False) σ σ2 := by rw [← hσ2]; exact C1.cU g1 (Or.inl (Nat.le_refl _))
    have g2 : σ2.1 (σ.2 0) = some (.inl (0, 5, .inl f)) := by rw [← hσ2]; exact cU_s
    have P2 := P.al hO C2 (fun _ _ => rfl) (hS.ch C2)
    have hb2 := hb.cc C2 hS.1 (fun _ _ w => w.elim) (fun _ _ => rfl)
    have R2 : RB σ2 cap 0 0 := by
      unfold RB Rm
      rw [← hσ2, cU_2, n1.1, n1.2.1, n1.2.2 3 (by decide), n1.2.2 4 (by decide)]
      omega
    have PU2 : PU o σ2 x S wa dq sl bu re PA ka L u 0 0 (σ.2 0) f S.2.2.2.1 := ⟨cap, P2, hb2, R2, hS.fr (Nat.le_refl _), g2⟩
    obtain ⟨o3, σ3, e3, P3⟩ := ap_all PU2 hO.f (by omega)
    rw [f0, f1, f2, f3, f4] at P3
    obtain ⟨cap3, P3', hb3, -⟩ := id P3
    rw [nn_J P2.2.1.1.2, e3, bd_J, gR_J P3.xc rfl, P3.nn, sb_len hb3.c, bd_J]
    refine ⟨o3, σ3, ?_, P3'.C⟩
    have l4 : ∀ x, (b4N x).length = 4 := fun x => rfl
    simp only [List.length_append, l4]
  · rw [if_neg (show ¬ S.2.2.2.1.length + OfNat.ofNat 20 ≤ OfNat.ofNat 700 from c), if_neg c]
    exact ⟨o, σ, rfl, h⟩
