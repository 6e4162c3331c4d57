/-! THE PLAIN LAW, the class' side: dropRule, setOver, setShare -/
set_option maxRecDepth 100000
theorem FoundC.raw {o : oW} {σ : cS} {p u : Nat} {d : Nat → Nat} {t : Nat → Term} (h : FoundC o σ p d t u) : ∃ f, σ.1 p = some (.inl (4, casesN d, vR f)) := by
  obtain ⟨f, h1, -⟩ := h
  exact ⟨f, h1⟩
theorem pc_dropRule {o : oW} {σ : cS} {x : Nat} {S : SS} (h : CInv o σ x S) (hO : SSok S) (hR : Rm σ 700 3000) (x1 : Int32) : CRs [2] x σ (m_X1_dropRule x x1 σ) S (sp_dropRule x1 S).1 (sp_dropRule x1 S).2.1 (sp_dropRule x1 S).2.2 := by
  have hW := hO.1.1
  have h17 := hW.r
  obtain ⟨⟨hS, hK⟩, wa, dq, sl, bu, re, PA, ka, L, u, hX, hC, hF⟩ := h.parts
  have xc := hX.1.2
  unfold m_X1_dropRule sp_dropRule
  rw [nn_J xc, cz_rule hW xc hC (hR.le (by decide) (by decide))]
  cases hb : inB x1 (S.1.1 17) with
  | false => rw [if_neg (by decide), if_neg (by decide), bdx_t hR]; exact CRs.t (j := 0) hR rfl
  | true =>
    obtain ⟨r, hr, rfl⟩ := inB_of hb
    obtain ⟨σ1, o1, PA1, e1, ⟨S1, K1⟩, X1, C1, F1, R1⟩ := cl_rem (n := 0) (m := 0) hS hK hX hO hC hF (hR.le (by decide) (by decide))
    have xc1 := X1.1.2
    obtain ⟨f, c5⟩ := F1.raw
    obtain ⟨σ2, L2, e2, C2, F2, Ch2, k2⟩ := cl_drop hW S1 K1.1 C1 c5 hr
    have xc2 : σ2.1 x = some (.inr (0, mF wa dq sl bu re)) := Ch2.c S1.1 xc1 (fun w => by
      rw [X1.1.1] at w
      have w : x + 1 = wa + 1 := w
      exact X1.ne X1.2.2.2.2.2.1 (by omega))
    have wl := C2.l
    rw [drD_17] at wl
    rw [if_pos (by decide), if_pos (by decide), bdx_l, nn_J xc, e1, bd_J, gR_J xc1 rfl, nn_J C1.w, e2, bd_J, gR_J xc2 rfl, gR_J C2.w rfl, wl.nn, wl.size, bd_J, xl_J, J_cl (by omega)]
    exact CRs.k (X1.cur hO.keep.f S1 K1 Ch2 (fun q _ w => w) ⟨L2, _, C2, F2⟩)
theorem or_two {m k : Nat} (hm : m < 1024) (hk : k < 10) : m ||| 2 ^ k = andn m (2 ^ k) ||| 2 ^ k := by
  apply Nat.eq_of_testBit_eq
  intro i
  rw [Nat.testBit_or, Nat.testBit_or, Nat.testBit_two_pow]
  by_cases h : i < 31
  · rw [andn_bit h, Nat.testBit_two_pow]
    cases m.testBit i <;> cases decide (k = i) <;> rfl
  · have e : ∀ z, z < 1024 → z.testBit i = false := fun z hz => Nat.testBit_lt_two_pow (Nat.lt_of_lt_of_le hz (Nat.le_trans (show 1024 ≤ 2 ^ 31 by decide) (Nat.pow_le_pow_right (by decide) (by omega))))
    have := andn_le m (2 ^ k)
    rw [e m hm, e _ (by omega)]
theorem pc_setOver {o : oW} {σ : cS} {x : Nat} {S : SS} (h : CInv o σ x S) (hO : SSok S) (hR : Rm σ 700 3000) (x1 x2 : Int32) (b : Bool) : CRs [2] x σ (m_X1_setOver x x1 x2 (b32 b) σ) S (sp_setOver x1 x2 b S).1 (sp_setOver x1 x2 b S).2.1 (sp_setOver x1 x2 b S).2.2 := by
  have hW := hO.1.1
  have h17 := hW.r
  have hF0 := hW.1
  have hcc := casesN_le hF0
  obtain ⟨⟨hS, hK⟩, wa, dq, sl, bu, re, PA, ka, L, u, hX, hC, hF⟩ := h.parts
  have xc := hX.1.2
  unfold m_X1_setOver sp_setOver
  rw [nn_J xc, cz_rule hW xc hC (hR.le (by decide) (by decide))]
  cases hb : inB x1 (S.1.1 17) with
  | false => rw [if_neg (by decide), if_neg (by simp), bdx_t hR]; exact CRs.t (j := 0) hR rfl
  | true =>
    rw [if_pos rfl, bdx_l, nn_J xc, cz_rule hW xc hC (hR.le (by decide) (by decide))]
    cases hb2 : inB x2 (S.1.1 17) with
    | false => rw [if_neg (by decide), if_neg (by simp), bdx_t hR]; exact CRs.t (j := 0) hR rfl
    | true =>
      obtain ⟨r, hr, rfl⟩ := inB_of hb
      obtain ⟨s, hs, rfl⟩ := inB_of hb2
      rw [if_pos rfl, if_pos (by simp), bdx_l, J_cl (by omega), J_cl (by omega), iJ_eq (by omega) (by omega)]
      by_cases c : r = s
      · rw [if_pos c, if_pos c, xl_J]
        exact CRs.k h
      · rw [if_neg c, if_neg c]
        obtain ⟨σ1, o1, PA1, e1, ⟨S1, K1⟩, X1, C1, F1, R1⟩ := cl_rem (n := 0) (m := 0) hS hK hX hO hC hF (hR.le (by decide) (by decide))
        have xc1 := X1.1.2
        have rc := C1.r hr
        have ov := hW.ov hr
        have hlt : ovrV S.1.1 r s b < 1024 := by
          unfold ovrV
          have h2 : 2 ^ s ≤ 512 := Nat.le_trans (Nat.pow_le_pow_right (by decide) (show s ≤ 9 by omega)) (by decide)
          have h3 := andn_le (S.1.1 (51 + 34 * r)) (2 ^ s)
          split
          · exact Nat.or_lt_two_pow (n := 10) (by omega) (by omega)
          · omega
        have fin : CRs [2] x σ (b_X1_setOver_53 x (some (L (10 + r))) (some (L (10 + r))) (Int32.ofNat (ovrV S.1.1 r s b)) σ1) S 0 (Int32.ofNat (bitsN (ovrV S.1.1 r s b))) (chS S (upN S.1.1 (51 + 34 * r) (ovrV S.1.1 r s b)) S.1.2) := by
          unfold b_X1_setOver_53
          rw [pO_J rc.2.1 (by show 3 < 4; decide) (S1.w rc.1.1)]
          have C2 := C1.sO (r := r) (z := ovrV S.1.1 r s b) hF0 S1 hr h17
          have Ch2 : Ch (fun q => q = L (10 + r)) σ1 (cU σ1 (L (10 + r)) (.inr (2, [.ref (L (50 + r)), .int (Int32.ofNat (gLv (S.1.2 r))), .ref (L (30 + r)), .int (Int32.ofNat (ovrV S.1.1 r s b))]))) := Ch.rf.cU rc.2.1 (Or.inr rfl)
          have ls : List.set [Value.ref (L (50 + r)), .int (Int32.ofNat (gLv (S.1.2 r))), .ref (L (30 + r)), .int (Int32.ofNat (S.1.1 (51 + 34 * r)))] 3 (.int (Int32.ofNat (ovrV S.1.1 r s b))) = [.ref (L (50 + r)), .int (Int32.ofNat (gLv (S.1.2 r))), .ref (L (30 + r)), .int (Int32.ofNat (ovrV S.1.1 r s b))] := rfl
          rw [ls]
          obtain ⟨f, c5⟩ := F1.raw
          have n5 : L 5 ≠ L (10 + r) := ne_role C1.o5 rc.1.1 (by decide)
          have nx : x ≠ L (10 + r) := fun e => by
            have := X1.1.2
            rw [e, rc.2.1] at this
            cases this
          have c52 : (cU σ1 (L (10 + r)) (.inr (2, [.ref (L (50 + r)), .int (Int32.ofNat (gLv (S.1.2 r))), .ref (L (30 + r)), .int (Int32.ofNat (ovrV S.1.1 r s b))]))).1 (L 5) = some (.inl (4, casesN S.1.1, vR f)) := by rw [cU_n n5]; exact c5
          have x2' : (cU σ1 (L (10 + r)) (.inr (2, [.ref (L (50 + r)), .int (Int32.ofNat (gLv (S.1.2 r))), .ref (L (30 + r)), .int (Int32.ofNat (ovrV S.1.1 r s b))]))).1 x = some (.inr (0, mF wa dq sl bu re)) := by rw [cU_n nx]; exact xc1
          generalize cU σ1 (L (10 + r)) (.inr (2, [.ref (L (50 + r)), .int (Int32.ofNat (gLv (S.1.2 r))), .ref (L (30 + r)), .int (Int32.ofNat (ovrV S.1.1 r s b))])) = σ2 at C2 Ch2 c52 x2' ⊢
          have S2 := S1.ch Ch2
          have fg := cl_forget S2 C2 c52 hcc.2
          have Ch3 : Ch (fun q => q = L 5) σ2 (cU σ2 (L 5) (.inl (4, casesN S.1.1, vR (fun i => if i < casesN S.1.1 then none else f i)))) := Ch.rf.cU c52 (Or.inr rfl)
          have C3 := C2.c (o' := o1) Ch3 S2.1 (FOk_cg (fun i hi => upN_ne (by omega)) hF0) (fun q _ w => by rw [w, C2.o5]; exact ⟨Nat.succ_ne_zero _, fun _ => rfl⟩) (fun _ _ => rfl) (S2.l C2.o5)
          have c53 : (cU σ2 (L 5) (.inl (4, casesN S.1.1, vR (fun i => if i < casesN S.1.1 then none else f i)))).1 (L 5) = some (.inl (4, casesN S.1.1, vR (fun i => if i < casesN S.1.1 then none else f i))) := cU_s
          have rc3 := C3.r (i := r) (by rw [upN_ne (by omega)]; exact hr)
          have ec : casesN (upN S.1.1 (51 + 34 * r) (ovrV S.1.1 r s b)) = casesN S.1.1 := casesN_cg (fun i hi => upN_ne (by omega)) hF0.1.2
          rw [gR_J x2' rfl, nn_J C2.w, fg, bd_J, gI_J rc3.2.1 rfl, upN_at, cl_bits hlt, bd_J, xl_J]
          have Ch13 : Ch (fun q => (o1 q).1 = wa + 1) σ1 (cU σ2 (L 5) (.inl (4, casesN S.1.1, vR (fun i => if i < casesN S.1.1 then none else f i)))) := (Ch2.mono (fun q _ w => by rw [w, rc.1.1])).trans (Ch3.mono (fun q _ w => by rw [w, C1.o5]))
          refine CRs.k (X1.cur hO.keep.f S1 K1 Ch13 (fun q _ w => w) ⟨L, casesN S.1.1, C3, _, by rw [ec]; exact c53, fun n hn => Or.inl ?_, by rw [ec]; exact cntN_le _ _⟩)
          rw [ec] at hn
          exact if_pos hn
        rw [nn_J xc, e1, bd_J, ite_pq (b32_0 _)]
        cases b with
        | false =>
          rw [if_pos rfl, gI_J rc.2.1 rfl, J_shl s (by omega), J_andn (by omega)]
          exact fin
        | true =>
          rw [if_neg (by decide), gI_J rc.2.1 rfl, J_shl s (by omega), J_or, or_two ov (by omega)]
          exact fin
theorem unt_ok : ∀ a, a < 13 → ∀ b, b < 13 → b ≠ 0 → 27720 / b * a = untN a b := by decide +kernel
theorem cz_in1 {x : Int32} {σ : cS} : m_X1_check x 1 12 σ = if in1B x then some (.inl 0, σ) else thr σ 1 := by
  unfold m_X1_check b_X1_check_10 in1B
  have h1 : (1 : Int32).toInt = 1 := rfl
  have h12 : (12 : Int32).toInt = 12 := rfl
  by_cases c1 : x < 1
  · rw [if_pos c1]
    have := Int32.lt_iff_toInt_lt.mp c1
    rw [if_neg]
    intro w
    have := of_decide_eq_true w
    omega
  · rw [if_neg c1]
    have c1' : ¬ x.toInt < (1 : Int32).toInt := fun q => c1 (Int32.lt_iff_toInt_lt.mpr q)
    by_cases c2 : x ≤ 12
    · rw [if_pos c2]
      have := Int32.le_iff_toInt_le.mp c2
      rw [if_pos (decide_eq_true (by omega))]
      rfl
    · rw [if_neg c2]
      have c2' : ¬ x.toInt ≤ (12 : Int32).toInt := fun q => c2 (Int32.le_iff_toInt_le.mpr q)
      rw [if_neg]
      intro w
      have := of_decide_eq_true w
      omega
theorem in1B_of {x : Int32} (h : in1B x = true) : ∃ k, 1 ≤ k ∧ k < 13 ∧ x = Int32.ofNat k := by
  have h := of_decide_eq_true h
  refine ⟨x.toInt.toNat, by omega, by omega, ?_⟩
  apply Int32.toInt_inj.mp
  have : x.toInt.toNat < 2147483648 := by omega
  rw [J_int this]
  omega
/-- a rule's share is set, in a will of which the rule may not be a part yet -/
theorem cl_shareSum {σ : cS} {q p s : Nat} {tm : Int32} {z : Value} {g : Nat → Nat} (h1 : σ.1 q = some (.inr (2, [.ref p, .int tm, .ref s, z]))) (h2 : IA σ s 4 g) : m_X9_sharesTogether q σ = some (Int32.ofNat (g 0 + g 1 + g 2 + g 3), σ) := by
  unfold m_X9_sharesTogether
  have step : ∀ k, k < 4 → ∀ f a, b_X9_sharesTogether_4 q (f + 1) (Int32.ofNat a) (Int32.ofNat k) σ = b_X9_sharesTogether_4 q f (Int32.ofNat (a + g k)) (Int32.ofNat (k + 1)) σ := by
    intro k hk f a
    rw [b_X9_sharesTogether_4, iJ_leR (by decide) (by omega), if_neg (by show ¬ 4 ≤ k; omega), gR_J h1 rfl, h2.ld hk (by decide), lt_J, J_add, lt_J, J_addL]
  show b_X9_sharesTogether_4 q (4095 + 1) (Int32.ofNat 0) (Int32.ofNat 0) σ = _
  rw [step 0 (by decide), show 4095 = 4094 + 1 from rfl, step 1 (by decide), show 4094 = 4093 + 1 from rfl, step 2 (by decide), show 4093 = 4092 + 1 from rfl, step 3 (by decide), show 4092 = 4091 + 1 from rfl, b_X9_sharesTogether_4, iJ_leR (by decide) (by decide), if_pos (by decide), Nat.zero_add]
theorem cl_setShare {σ : cS} {a q p s h A B : Nat} {tm : Int32} {z : Value} {g : Nat → Nat} {σ0 : cS} (fg : m_X4_forget a σ0 = some (0, σ)) (hn : ∃ fs, σ0.1 a = some (.inr (1, fs))) (h1 : σ.1 q = some (.inr (2, [.ref p, .int tm, .ref s, z]))) (h2 : IA σ s 4 g) (hg : g 0 + g 1 + g 2 + g 3 ≤ 27720) (hh : h < 4) (hA : A < 13) (hB : 1 ≤ B ∧ B < 13) (hw : σ.2 2 ≤ s) : ∃ e : cE, m_X4_setShare a (some q) (Int32.ofNat h) (Int32.ofNat A) (Int32.ofNat B) σ0 = some (b32 (decide (g 0 + g 1 + g 2 + g 3 - g h + untN A B ≤ 27720)), cU σ s e) ∧ IA (cU σ s e) s 4 (fun j => if j = h then (if g 0 + g 1 + g 2 + g 3 - g h + untN A B ≤ 27720 then untN A B else g h) else g j) := by
  obtain ⟨fs, wc⟩ := hn
  have hu := unt_ok A hA B hB.2 (by omega)
  have hul : untN A B ≤ 27720 * 12 := by
    rw [← hu]
    exact Nat.mul_le_mul (Nat.div_le_self _ _) (by omega)
  have hgh : g h ≤ g 0 + g 1 + g 2 + g 3 := by
    obtain rfl | rfl | rfl | rfl : h = 0 ∨ h = 1 ∨ h = 2 ∨ h = 3 := by omega
    all_goals omega
  unfold m_X4_setShare
  rw [nn_J wc, fg, bd_J, nz_J (by omega) (by omega), show (27720 : Int32) = Int32.ofNat 27720 from rfl, J_div (by decide) (by omega), J_mul, hu, lt_J, nn_J h1, cl_shareSum h1 h2, bd_J, gR_J h1 rfl, h2.ld hh (by decide), J_sub hgh, J_add, iJ_lt (by decide) (by omega)]
  by_cases c : g 0 + g 1 + g 2 + g 3 - g h + untN A B ≤ 27720
  · rw [if_neg (by omega), decide_eq_true c]
    unfold b_X4_setShare_39 b_X4_setShare_62
    obtain ⟨e, q1, q2⟩ := h2.st (i := h) (x := untN A B) hh (by decide) hw
    refine ⟨e, ?_, q2.g (fun i _ => by
      by_cases c2 : i = h
      · rw [if_pos c2, if_pos c2, if_pos c]
      · rw [if_neg c2, if_neg c2])⟩
    rw [gR_J h1 rfl, if_neg (by decide), q1]
    rfl
  · rw [if_pos (by omega), decide_eq_false c]
    unfold b_X4_setShare_39 b_X4_setShare_62
    obtain ⟨e, q1, q2⟩ := h2.st (i := h) (x := g h) hh (by decide) hw
    refine ⟨e, ?_, q2.g (fun i _ => by
      by_cases c2 : i = h
      · rw [if_pos c2, if_pos c2, if_neg c]
      · rw [if_neg c2, if_neg c2])⟩
    rw [gR_J h1 rfl, if_pos rfl, gR_J h1 rfl, h2.ld hh (by decide), q1]
    rfl
