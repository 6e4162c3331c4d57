/-! THE PLAIN LAW, the class' side: writeVerdicts, reportAt, append -/
set_option maxRecDepth 1000000
theorem cN_cU2 {σ : cS} {e e' : cE} {k : Nat} : cU (cN σ e k) (σ.2 0) e' = cN σ e' k := cN_cU
theorem cl_valueOf {o : oW} {σ : cS} {z : Nat} (hS : SI o σ) (hK : KA o σ) (hz : z < 100000) (hR : Rm σ 2 9) : ∃ q σ', m_J4_valueOf (Int32.ofNat z) σ = some (some q, σ') ∧ SC o σ' q (decN z) ∧ SI o σ' ∧ Ch (fun _ => False) σ σ' ∧ ∀ a b, Rm σ (a + 2) (b + 9) → Rm σ' a b := by
  have hd := decN_l hz
  have hs2 := hS.2.1
  have hR1 := hR.1
  have hR2 := hR.2
  unfold m_J4_valueOf m_J14_toString
  rw [cl_size hz, bd_J, if_neg (by decide), nA_J (by omega) (by omega) (by omega)]
  generalize hσ1 : cN σ (.inl (1, (decN z).length, .inl (fun _ => 0))) (decN z).length = σ1
  have C1 : Ch (fun _ => False) σ σ1 := by rw [← hσ1]; exact Ch.rf.cN
  have S1 := hS.ch C1
  have K1 : KA o σ1 := hK.c C1 hS.1 (fun _ _ w => w.elim) (fun _ _ => rfl)
  have g1 : σ1.1 (σ.2 0) = some (.inl (1, (decN z).length, .inl (fun _ => 0))) := by rw [← hσ1]; exact cN_s
  have hw1 : σ1.2 2 ≤ σ.2 0 := by rw [← hσ1, cN_k (by decide)]; exact hs2
  have hne : σ1.2 17 ≠ σ.2 0 ∧ σ1.2 18 ≠ σ.2 0 := by
    obtain ⟨-, -, -, ⟨-, f, h5, -⟩, -, g, h8, -⟩ := hK
    have a1 := hS.lt h5
    have a2 := hS.lt h8
    rw [← hσ1, cN_k (by decide), cN_k (by decide)]
    omega
  obtain ⟨g', r1, r2, r3⟩ := cl_chars K1.2.2.2 (by_ := σ.2 0) (cap := (decN z).length) hne hw1 (by omega) 3 z (decN z).length (fun _ => 0) hz (by omega) (Nat.le_refl _) (Nat.le_refl _) FU (by decide)
  rw [cU_id g1] at r1
  unfold m_J14_getChars b_J14_getChars_12
  rw [if_pos (show (0 : Int32) ≤ Int32.ofNat z from by rw [show (0 : Int32) = Int32.ofNat 0 from rfl, J_le (by decide) (by omega)]; exact Nat.zero_le _), if_pos rfl, r1, bd_J]
  generalize hσ2 : cU σ1 (σ.2 0) (.inl (1, (decN z).length, .inl g')) = σ2
  have C2 : Ch (fun _ => False) σ σ2 := by rw [← hσ2]; exact C1.cU g1 (Or.inl (Nat.le_refl _))
  have g2 : σ2.1 (σ.2 0) = some (.inl (1, (decN z).length, .inl g')) := by rw [← hσ2]; exact cU_s
  have n2 : σ2.2 0 = σ.2 0 + 1 ∧ σ2.2 1 = σ.2 1 + (decN z).length ∧ ∀ k, 2 ≤ k → σ2.2 k = σ.2 k := by
    rw [← hσ2, ← hσ1]
    exact ⟨rfl, rfl, fun k hk => by rw [cU_2]; exact cN_k hk⟩
  rw [nO_J (by rw [n2.1, n2.2.2 3 (by decide)]; omega) (by rw [n2.2.1, n2.2.2 4 (by decide)]; omega)]
  unfold m_J4_init_3
  generalize hσ3 : cN σ2 (.inr (12, [Value.null, .int 0, .int 0, .int 0])) 4 = σ3
  have g3 : σ3.1 (σ2.2 0) = some (.inr (12, [Value.null, .int 0, .int 0, .int 0])) := by rw [← hσ3]; exact cN_s
  have g4 : σ3.1 (σ.2 0) = some (.inl (1, (decN z).length, .inl g')) := by rw [← hσ3, cN_n (by rw [n2.1]; omega)]; exact g2
  have n3 : σ3.2 0 = σ.2 0 + 2 ∧ σ3.2 1 = σ.2 1 + (decN z).length + 4 ∧ ∀ k, 2 ≤ k → σ3.2 k = σ.2 k := by
    rw [← hσ3]
    exact ⟨by rw [cN_0, n2.1], by rw [cN_1, n2.2.1], fun k hk => by rw [cN_k hk]; exact n2.2.2 k hk⟩
  have hw3 : σ3.2 2 ≤ σ2.2 0 := by rw [n3.2.2 2 (by decide), n2.1]; omega
  have C3 : Ch (fun _ => False) σ σ3 := by rw [← hσ3]; exact C2.cN
  rw [pO_J g3 (by show 0 < 4; decide) hw3, gd_J rfl, pO_J cU_s (by show 1 < 4; decide) hw3, cU_cU, bd_J, bd_J]
  have C4 : Ch (fun _ => False) σ (cU σ3 (σ2.2 0) (.inr (12, List.set (List.set [Value.null, .int 0, .int 0, .int 0] 0 (va_rf (some (σ.2 0)))) 1 (.int 0)))) := C3.cU g3 (Or.inl (by rw [n2.1]; omega))
  refine ⟨σ2.2 0, _, rfl, ⟨σ.2 0, 0, 0, g', hS.fr (by rw [n2.1]; omega), hS.fr (Nat.le_refl _), cU_s, by rw [cU_n (by rw [n2.1]; omega)]; exact g4, fun i hi => ?_⟩, hS.ch C4, C4, fun a b h => ?_⟩
  · have := r2 i hi
    rw [Nat.sub_self, Nat.zero_add] at this
    exact this
  · have h1 := h.1
    have h2 := h.2
    unfold Rm
    rw [cU_2, n3.1, n3.2.1, n3.2.2 3 (by decide), n3.2.2 4 (by decide)]
    omega
section WVS
variable {o : oW} {σ : cS} {x wa dq sl bu re n m : Nat} {S : SS} {PA : List Nat} {ka L : Nat → Nat} {B : List Nat}
/-- a new report -/
theorem pb_new {u : Nat} (h : PX o σ x S wa dq sl bu re PA ka L u) (hO : SFk S) (hR : Rm σ (2 * u + n + 2002) (9 * u + m + 4020)) : ∃ σ' o' p, (∀ (β : Type) (K : cS → Option β), (nO σ 11 4 [.null, .int 0, .int 0, .int 0] fun q_1 σ_2 => bd (m_J3_init q_1 σ_2) fun _ σ_3 => pO σ_3 (some x) 0 4 (va_rf (some q_1)) K) = K σ') ∧ PB o' σ' x S wa dq sl bu p PA ka L n m [] ∧ KG S o σ o' σ' := by
  obtain ⟨⟨hS, hK⟩, hX, hC, hF⟩ := id h
  obtain ⟨⟨x1, x2⟩, -⟩ := id hX
  have hs2 := hS.2.1
  have hR1 := hR.1
  have hR2 := hR.2
  have xl := hS.lt x2
  generalize hσ1 : cN σ (.inr (11, [.null, .int 0, .int 0, .int 0])) 4 = σ1
  have n1 : σ1.2 0 = σ.2 0 + 1 ∧ σ1.2 1 = σ.2 1 + 4 ∧ ∀ k, 2 ≤ k → σ1.2 k = σ.2 k := by
    rw [← hσ1]
    exact ⟨rfl, rfl, fun k hk => cN_k hk⟩
  generalize hσ2 : cN σ1 (.inl (1, 16, .inl (fun _ => 0))) 16 = σ2
  have n2 : σ2.2 0 = σ.2 0 + 2 ∧ σ2.2 1 = σ.2 1 + 20 ∧ ∀ k, 2 ≤ k → σ2.2 k = σ.2 k := by
    rw [← hσ2]
    exact ⟨by rw [cN_0, n1.1], by rw [cN_1, n1.2.1], fun k hk => by rw [cN_k hk, n1.2.2 k hk]⟩
  have C2 : Ch (fun _ => False) σ σ2 := by rw [← hσ2, ← hσ1]; exact Ch.rf.cN.cN
  have p1 : σ2.1 (σ.2 0) = some (.inr (11, [.null, .int 0, .int 0, .int 0])) := by
    rw [← hσ2, cN_n (by rw [n1.1]; omega), ← hσ1]
    exact cN_s
  have p2 : σ2.1 (σ.2 0 + 1) = some (.inl (1, 16, .inl (fun _ => 0))) := by
    rw [← hσ2, ← n1.1]
    exact cN_s
  generalize hσ3 : cU σ2 (σ.2 0) (.inr (11, [.ref (σ.2 0 + 1), .int 0, .int 0, .int 0])) = σ3
  have p3 : σ3.1 (σ.2 0) = some (.inr (11, [.ref (σ.2 0 + 1), .int 0, .int 0, .int 0])) := by rw [← hσ3]; exact cU_s
  have p4 : σ3.1 (σ.2 0 + 1) = some (.inl (1, 16, .inl (fun _ => 0))) := by rw [← hσ3, cU_n (by omega)]; exact p2
  have p5 : σ3.1 x = some (.inr (0, mF wa dq sl bu re)) := by rw [← hσ3, cU_n (by omega)]; exact C2.c hS.1 x2 id
  have C3 : Ch (fun _ => False) σ σ3 := by rw [← hσ3]; exact C2.cU p1 (Or.inl (Nat.le_refl _))
  have n3 : σ3.2 = σ2.2 := by rw [← hσ3]; rfl
  generalize hσ4 : cU σ3 x (.inr (0, mF wa dq sl bu (σ.2 0))) = σ4
  have q3 : σ4.1 (σ.2 0) = some (.inr (11, [.ref (σ.2 0 + 1), .int 0, .int 0, .int 0])) := by rw [← hσ4, cU_n (by omega)]; exact p3
  have q4 : σ4.1 (σ.2 0 + 1) = some (.inl (1, 16, .inl (fun _ => 0))) := by rw [← hσ4, cU_n (by omega)]; exact p4
  have q5 : σ4.1 x = some (.inr (0, mF wa dq sl bu (σ.2 0))) := by rw [← hσ4]; exact cU_s
  have C4 : Ch (fun q => q = x) σ σ4 := by rw [← hσ4]; exact (C3.mono (fun _ _ w => w.elim)).cU p5 (Or.inr rfl)
  have n4 : σ4.2 = σ2.2 := by rw [← hσ4, ← n3]; rfl
  have S4 := hS.ch C4
  have oo : ∀ q, q < σ.2 0 → oN (oN o (σ.2 0) (x + 1, 6)) (σ.2 0 + 1) (x + 1, 7) q = o q := fun q hq => by rw [oN_n (by omega), oN_n (by omega)]
  have xn : σ4.1 x ≠ none := by rw [q5]; exact fun w => by cases w
  have S5 : SI (oN (oN o (σ.2 0) (x + 1, 6)) (σ.2 0 + 1) (x + 1, 7)) σ4 := by
    refine SI.oN (v := (x + 1, 7)) (SI.oN (v := (x + 1, 6)) S4 ⟨?_, ?_, xn⟩) ⟨?_, ?_, xn⟩
    · rw [n4, n2.2.2 2 (by decide)]; exact hs2
    · rw [q3]; exact fun w => by cases w
    · rw [n4, n2.2.2 2 (by decide)]; omega
    · rw [q4]; exact fun w => by cases w
  have hsb : SBx (oN (oN o (σ.2 0) (x + 1, 6)) (σ.2 0 + 1) (x + 1, 7)) σ4 x 6 (σ.2 0) [] 16 := ⟨by rw [oN_n (by omega)]; exact oN_s, σ.2 0 + 1, fun _ => 0, 0, oN_s, q3, q4, ⟨by decide, by decide⟩, fun i hi => absurd hi (Nat.not_lt_zero _), fun _ _ => rfl⟩
  refine ⟨σ4, _, σ.2 0, fun β K => ?_, ⟨u, 16, h.rep hO C4 (fun q _ w => Or.inl (by rw [w]; exact x1)) oo S5 hsb.c q5, hsb, ?_⟩, KG.of hO.1 hS C4 (fun q _ w => by rw [w, x1]; exact Nat.succ_ne_zero _) oo⟩
  · rw [nO_J (by omega) (by omega), hσ1]
    unfold m_J3_init m_J2_init
    rw [if_neg (by decide), show nA σ1 1 16 (.inl (fun _ => 0)) = nA (β := Int32 × cS) σ1 1 (Int32.ofNat 16) (.inl (fun _ => 0)) from rfl, nA_J (by decide) (by rw [n1.1, n1.2.2 3 (by decide)]; omega) (by rw [n1.2.1, n1.2.2 4 (by decide)]; omega), hσ2, n1.1, pO_J p1 (by show 0 < 4; decide) (by rw [n2.2.2 2 (by decide)]; exact hs2), gd_J rfl, pO_J cU_s (by show 1 < 4; decide) (by show σ2.2 2 ≤ _; rw [n2.2.2 2 (by decide)]; exact hs2), cU_cU]
    rw [show cU σ2 (σ.2 0) (.inr (11, List.set (List.set [Value.null, .int 0, .int 0, .int 0] 0 (va_rf (some (σ.2 0 + 1)))) 1 (.int 0))) = σ3 from hσ3, bd_J, bd_J, pO_J p5 (by show 4 < 5; decide) (by rw [n3, n2.2.2 2 (by decide)]; exact hS.w x1)]
    rw [show cU σ3 x (.inr (0, List.set (mF wa dq sl bu re) 4 (va_rf (some (σ.2 0))))) = σ4 from hσ4]
  · unfold Rm
    rw [n4, n2.1, n2.2.1, n2.2.2 3 (by decide), n2.2.2 4 (by decide)]
    omega
theorem wv_loop (hO : SSok S) : ∀ j k f (o : oW) (σ : cS) (B : List Nat), k + j = casesN S.1.1 → j < f → B = vdF S.1.1 S.1.2 k → PB o σ x S wa dq sl bu re PA ka L (2 * j) (9 * j) B → ∃ o' σ', b_X1_writeVerdicts_21 x f (Int32.ofNat (casesN S.1.1)) (Int32.ofNat k) σ = some (Int32.ofNat (casesN S.1.1), σ') ∧ PB o' σ' x S wa dq sl bu re PA ka L 0 0 (vdF S.1.1 S.1.2 (casesN S.1.1)) := by
  have hW := hO.1.1
  have hc := casesN_le hW.1
  intro j
  induction j with
  | zero =>
    intro k f o σ B hk hf hB P
    obtain ⟨f, rfl⟩ : ∃ f', f = f' + 1 := ⟨f - 1, by omega⟩
    have e : k = casesN S.1.1 := hk
    rw [e] at hB ⊢
    rw [b_X1_writeVerdicts_21, iJ_le (by omega) (by omega), if_pos (Nat.le_refl _), gR_J P.xc rfl, P.nn, P.len, bd_J, hB, vdF_len]
    rw [hB] at P
    exact ⟨o, σ, rfl, P⟩
  | succ j ih =>
    intro k f o σ B hk hf hB P
    obtain ⟨f, rfl⟩ : ∃ f', f = f' + 1 := ⟨f - 1, by omega⟩
    have hkc : k < casesN S.1.1 := by omega
    have hBl : B.length = k := by rw [hB, vdF_len]
    obtain ⟨q, σ1, e1, P1, F1⟩ := P.look hO.f hW hkc
    rw [b_X1_writeVerdicts_21, iJ_le (by omega) (by omega), if_neg (by omega), gR_J P.xc rfl, gR_J P.xc rfl, nn_J P.W.w, e1, bd_J]
    have hsg : ∃ (p : Nat) (σ2 : cS), m_X1_signOf (some q) σ1 = some (some p, σ2) ∧ SC o σ2 p [vdC S.1.1 S.1.2 k] ∧ PB o σ2 x S wa dq sl bu re PA ka L (2 * j) (9 * j) B := by
      obtain ⟨-, row, -, f1, -⟩ := F1
      unfold m_X1_signOf vdC
      have hv := verdN_le S.1.1 (setN S.1.1 S.1.2 k)
      have P1' : PB o σ1 x S wa dq sl bu re PA ka L (2 * j) (9 * j) B := by
        obtain ⟨u, cap, w1, w2, w3⟩ := P1
        exact ⟨u, cap, w1, w2, w3.le (by omega) (by omega)⟩
      rw [gI_J f1 rfl, iJ_eqL (by omega) (by decide)]
      by_cases c0 : verdN S.1.1 (setN S.1.1 S.1.2 k) = 0
      · obtain ⟨s, hs, hs2⟩ := setl_0 hW c0
        have h17 := hW.r
        have hR2 : Rm σ1 2 9 := by
          obtain ⟨u, cap, -, -, w⟩ := P1
          exact w.le (by omega) (by omega)
        obtain ⟨p, σ2, r1, r2, r3, r4, r5⟩ := cl_valueOf (z := s) P1.SK.1 P1.SK.2 (by omega) hR2
        rw [if_pos (show verdN S.1.1 (setN S.1.1 S.1.2 k) = OfNat.ofNat 0 from c0), if_pos c0, gI_J f1 rfl, hs]
        show ∃ p σ2, bd (m_J4_valueOf (Int32.ofNat s) σ1) _ = _ ∧ _
        rw [r1, bd_J]
        rw [decN_1 (by omega)] at r2
        exact ⟨p, σ2, rfl, r2, P1.al hO.f r4 r3 (fun a b w => r5 _ _ (w.le (by omega) (by omega)))⟩
      · rw [if_neg (show ¬ verdN S.1.1 (setN S.1.1 S.1.2 k) = OfNat.ofNat 0 from c0), if_neg c0, iJ_eqL (by omega) (by decide)]
        by_cases c3 : verdN S.1.1 (setN S.1.1 S.1.2 k) = 3
        · rw [if_pos (show verdN S.1.1 (setN S.1.1 S.1.2 k) = OfNat.ofNat 3 from c3), if_pos c3]
          exact ⟨_, _, rfl, P1.SK.2.2.1 10 (by decide), P1'⟩
        · rw [if_neg (show ¬ verdN S.1.1 (setN S.1.1 S.1.2 k) = OfNat.ofNat 3 from c3), if_neg c3]
          exact ⟨_, _, rfl, P1.SK.2.2.1 11 (by decide), P1'⟩
    obtain ⟨p, σ2, e2, hs, P2⟩ := hsg
    obtain ⟨σ3, o3, e3, P3, -⟩ := P2.str hO.f hs (by show 1 ≤ 10; decide) (by rw [hBl]; show k + 1 ≤ 900; omega)
    rw [e2, bd_J, P2.nn, e3, bd_J, J_addL, lt_J]
    exact ih (k + 1) f o3 σ3 _ (by omega) (by omega) (by rw [hB]; rfl) P3
theorem pc_writeVerdicts {o : oW} {σ : cS} {x : Nat} {S : SS} (h : CInv o σ x S) (hO : SSok S) (hR : Rm σ 7000 40000) : CRp x (m_X1_writeVerdicts x σ) (sp_writeVerdicts S).2.1 (sp_writeVerdicts S).2.2 := by
  obtain ⟨wa, dq, sl, bu, re, PA, ka, L, u, P⟩ := h.px
  have hW := hO.1.1
  have hc := casesN_le hW.1
  obtain ⟨⟨hS, hK⟩, hX, hC, f, f1, f2, f3⟩ := P
  have f4 := cntN_le (fun n => (f n).isNone) (casesN S.1.1)
  have P' : PX o σ x S wa dq sl bu re PA ka L 256 := ⟨⟨hS, hK⟩, hX, hC, f, f1, f2, by omega⟩
  obtain ⟨σ1, o1, p, e1, P1, -⟩ := pb_new (n := 2 * casesN S.1.1) (m := 9 * casesN S.1.1) P' hO.f (hR.le (by omega) (by omega))
  obtain ⟨o2, σ2, e2, P2⟩ := wv_loop hO (casesN S.1.1) 0 FU o1 σ1 [] (Nat.zero_add _) (Nat.lt_of_le_of_lt hc.2 (by decide)) rfl P1
  have hlen : (sp_writeVerdicts S).2.1 = Int32.ofNat (casesN S.1.1) := rfl
  refine ⟨o2, σ2, ?_, P2.C⟩
  unfold m_X1_writeVerdicts
  rw [e1, gR_J P1.xc rfl, nn_J P1.W.w, cl_cases hW.1 P1.W, bd_J]
  exact e2
theorem pc_reportAt {o : oW} {σ : cS} {x : Nat} {S : SS} (h : CInv o σ x S) (hO : SSok S) (x1 : Int32) : CRp x (m_X1_reportAt x x1 σ) (sp_reportAt x1 S).2.1 (sp_reportAt x1 S).2.2 := by
  obtain ⟨⟨hS, hK⟩, wa, dq, sl, bu, re, PA, ka, hX⟩ := id h
  obtain ⟨⟨x1', x2⟩, -, -, -, r1, -⟩ := id hX
  obtain ⟨cap, hb, -⟩ := r1.x
  obtain ⟨-, b, f, ml, -, g1, -⟩ := id hb
  have hl := hO.2.2.2.2.2.1
  refine ⟨o, σ, ?_, h⟩
  unfold m_X1_reportAt sp_reportAt
  have hlen : m_J3_length re σ = some (Int32.ofNat S.2.2.2.2.length, σ) := by
    unfold m_J3_length m_J2_length
    rw [hb.nn, gI_J g1 rfl, bd_J]
  cases c : inB x1 S.2.2.2.2.length with
  | true =>
    obtain ⟨k, hk, rfl⟩ := inB_of c
    rw [if_neg (by rw [J_nn (by omega)]; exact id), gR_J x2 rfl, hb.nn, hlen, bd_J, iJ_lt (by omega) (by omega), if_pos hk, gR_J x2 rfl, hb.nn, sb_chAt hb hO.2.2.2.2.2.2 hk, bd_J, rc_J, if_pos rfl, J_cl (by omega)]
    have hm := hO.2.2.2.2.2.2 (S.2.2.2.2.getD k 0) (by
      rw [List.getD_eq_getElem?_getD, List.getElem?_eq_getElem hk]
      exact List.getElem_mem _)
    exact hm
  | false =>
    show _ = some ((0 : Int32), σ)
    by_cases c1 : x1 < 0
    · rw [if_pos c1]; rfl
    · rw [if_neg c1, gR_J x2 rfl, hb.nn, hlen, bd_J, if_neg]
      · rfl
      · intro c2
        have h1 := Int32.lt_iff_toInt_lt.mp c2
        have c1' : ¬ x1.toInt < (0 : Int32).toInt := fun q => c1 (Int32.lt_iff_toInt_lt.mpr q)
        have h0 : (0 : Int32).toInt = 0 := rfl
        have hi := J_int (a := S.2.2.2.2.length) (by omega)
        exact of_decide_eq_false c ⟨by omega, by omega⟩
end WVS
