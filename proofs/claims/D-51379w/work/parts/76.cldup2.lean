/-! THE PLAIN LAW, the class' side: a rule, a will copied -/
set_option maxRecDepth 100000
theorem RuleC.c {o o' : oW} {M : Nat → Prop} {σ σ' : cS} {a q s p k : Nat} {d : Nat → Nat} {tm : Term} (h : RuleC o σ a d q s p k tm) (hC : Ch M σ σ') (hW : Wf σ) (h4 : d 0 ≤ 4) (hM : ∀ q, q < σ.2 0 → M q → (o q).1 ≠ 0 ∧ o q ≠ (a + 1, 6) ∧ o q ≠ (a + 1, 7)) (ho : ∀ q, q < σ.2 0 → o' q = o q) : RuleC o' σ' a d q s p k tm := by
  obtain ⟨⟨q1, q2⟩, q3, q4, q5⟩ := h
  have ql := hW.lt q3
  have sl := q4.lt hW
  exact ⟨⟨by rw [ho _ ql]; exact q1, by rw [ho _ sl]; exact q2⟩, hC.c hW q3 (fun w => (hM _ ql w).2.1 q1), q4.c hC hW (fun w => (hM _ sl w).2.2 q2), GuardC.c hC hW (fun q hq w => (hM q hq w).1) (fun q hq w => by rw [ho q hq]; exact w) (fun _ _ => rfl) h4 _ _ _ q5⟩
/-- the new rule's place -/
def LAdd (L : Nat → Nat) (i ar r s p : Nat) : Nat → Nat := fun k => if k = 4 then ar else if k = 10 + i then r else if k = 30 + i then s else if k = 50 + i then p else L k
/-- a rule is taken into the will's list: d tells all rules, i of them are there -/
theorem WillC.add {o : oW} {σ : cS} {a i r s p x y : Nat} {L d : Nat → Nat} {t : Nat → Term} (hF : FOk d) (hi : i < 10) (hS : SI o σ) (hK : KL o σ) (h : WillC o σ a L (upN d 17 i) t) (hr : RuleC o σ a d r s p i (t i)) (hn : ∀ j, j < i → L (10 + j) ≠ r ∧ L (30 + j) ≠ s) (hR : Rm σ (x + 1) (y + 15)) : ∃ σ' o' ar', m_J18_add (L 3) (some r) σ = some (1, σ') ∧ WillC o' σ' a (LAdd L i ar' r s p) (upN d 17 (i + 1)) t ∧ (SI o' σ' ∧ KL o' σ') ∧ Ch (fun q => o q = (a + 1, 3) ∨ o q = (a + 1, 4)) σ σ' ∧ (∀ q, q < σ.2 0 → o' q = o q) ∧ Rm σ' x y := by
  have h4 := hF.1
  have hW := hS.1
  obtain ⟨⟨⟨w1, w2⟩, w3, w4⟩, ⟨⟨f1, f2⟩, r1, r2⟩, ⟨l1, l2, l3⟩, o5, ru, inj⟩ := id h
  have e17 : upN d 17 i 17 = i := upN_at
  have hl5 := hS.l o5
  rw [e17] at l3
  have hv : ∀ j, j < i → okV σ 2 (some (L (10 + j))) = true := fun j hj => okV_J (ru j (by rw [e17]; exact hj)).2.1 rfl
  have har : L 4 ≠ σ.2 15 → o (L 4) = (a + 1, 4) := fun hne => by
    rcases l2 with ⟨-, q⟩ | q
    · exact absurd q hne
    · exact q
  obtain ⟨σ', ar', e1, A1, A2, C1, R1⟩ := l3.add (x := r) (a := x) (b := y) hW hS.2.1 (hS.w l1) (fun hne => hS.w (har hne)) hK.2.2 (okV_J hr.2.1 rfl) hv (by omega) hR
  have C2 : Ch (fun q => o q = (a + 1, 3) ∨ o q = (a + 1, 4)) σ σ' := C1.mono (fun q _ hq => by
    rcases hq with rfl | ⟨rfl, hne⟩
    · exact Or.inl l1
    · exact Or.inr (har hne))
  have har2 : o (L 4) = (a + 1, 4) ∧ ar' = L 4 ∨ ar' = σ.2 0 := by
    rcases A2 with ⟨q1, q2⟩ | q
    · exact Or.inl ⟨har q2, q1⟩
    · exact Or.inr q
  generalize ho' : (if ar' = σ.2 0 then oN o (σ.2 0) (a + 1, 4) else o) = o'
  have oo : ∀ q, q < σ.2 0 → o' q = o q := fun q hq => by
    rw [← ho']
    split
    · exact oN_n (by omega)
    · rfl
  have oar : o' ar' = (a + 1, 4) := by
    rw [← ho']
    by_cases c : ar' = σ.2 0
    · rw [if_pos c, c]; exact oN_s
    · rw [if_neg c]
      rcases har2 with ⟨q1, q2⟩ | q
      · rw [q2]; exact q1
      · exact absurd q c
  have S1 : SI o' σ' := by
    have hs := hS.ch C2
    rw [← ho']
    split
    · next c =>
      refine hs.oN ⟨?_, ?_, C2.2.2.2.1 a (by rw [w2]; exact fun w => by cases w)⟩
      · rw [C2.k (by decide)]; exact hS.2.1
      · obtain ⟨-, cap, f, g, -⟩ := A1
        rw [← c, g]
        exact fun w => by cases w
    · exact hs
  have nM : ∀ {q k : Nat}, o q = (a + 1, k) → k ≠ 3 → k ≠ 4 → ¬ (o q = (a + 1, 3) ∨ o q = (a + 1, 4)) := fun hq h3 h4 w => by
    rw [hq] at w
    rcases w with w | w
    · exact h3 (by have := congrArg Prod.snd w; exact this)
    · exact h4 (by have := congrArg Prod.snd w; exact this)
  have n0 : ∀ {q : Nat}, (o q).1 = 0 → ¬ (o q = (a + 1, 3) ∨ o q = (a + 1, 4)) := fun hq w => by
    rcases w with w | w <;> · rw [w] at hq; cases hq
  have hM0 : ∀ q, q < σ.2 0 → (o q = (a + 1, 3) ∨ o q = (a + 1, 4)) → (o q).1 ≠ 0 := fun q _ w e => n0 e w
  have hM : ∀ q, q < σ.2 0 → (o q = (a + 1, 3) ∨ o q = (a + 1, 4)) → (o q).1 ≠ 0 ∧ o q ≠ (a + 1, 6) ∧ o q ≠ (a + 1, 7) := fun q hq w => ⟨hM0 q hq w, fun e => nM e (by decide) (by decide) w, fun e => nM e (by decide) (by decide) w⟩
  have wl := hW.lt w2
  have vl := w4.lt hW
  have fl := f2.lt hW
  have rl := r2.lt hW
  have hu : ∀ k, k ≠ 17 → upN d 17 (i + 1) k = upN d 17 i k := fun k hk => by rw [upN_ne hk, upN_ne hk]
  have hd : ∀ k, k ≠ 17 → upN d 17 (i + 1) k = d k := fun k hk => upN_ne hk
  have hLA : ∀ k, k ≠ 4 → k < 10 → LAdd L i ar' r s p k = L k := fun k h1 h2 => by
    unfold LAdd
    rw [if_neg h1, if_neg (by omega), if_neg (by omega), if_neg (by omega)]
  have e4 : LAdd L i ar' r s p 4 = ar' := if_pos rfl
  have e10 : ∀ j, j < 10 → LAdd L i ar' r s p (10 + j) = if j = i then r else L (10 + j) := fun j hj => by
    unfold LAdd
    rw [if_neg (by omega)]
    by_cases c : j = i
    · rw [if_pos (by omega), if_pos c]
    · rw [if_neg (by omega), if_neg c, if_neg (by omega), if_neg (by omega)]
  have e30 : ∀ j, j < 10 → LAdd L i ar' r s p (30 + j) = if j = i then s else L (30 + j) := fun j hj => by
    unfold LAdd
    rw [if_neg (by omega), if_neg (by omega)]
    by_cases c : j = i
    · rw [if_pos (by omega), if_pos c]
    · rw [if_neg (by omega), if_neg c, if_neg (by omega)]
  have e50 : ∀ j, j < 10 → LAdd L i ar' r s p (50 + j) = if j = i then p else L (50 + j) := fun j hj => by
    unfold LAdd
    rw [if_neg (by omega), if_neg (by omega), if_neg (by omega)]
    by_cases c : j = i
    · rw [if_pos (by omega), if_pos c]
    · rw [if_neg (by omega), if_neg c]
  have e17' : upN d 17 (i + 1) 17 = i + 1 := upN_at
  have hwF : wF (LAdd L i ar' r s p) (upN d 17 (i + 1)) = wF L (upN d 17 i) := by
    unfold wF
    rw [hLA 0 (by decide) (by decide), hLA 1 (by decide) (by decide), hLA 2 (by decide) (by decide), hLA 3 (by decide) (by decide), hLA 5 (by decide) (by decide), hu 5 (by decide), hu 6 (by decide), hu 7 (by decide), hu 8 (by decide)]
  refine ⟨σ', o', ar', e1, ⟨⟨⟨by rw [oo a wl]; exact w1, ?_⟩, ?_, ?_⟩, ⟨⟨?_, ?_⟩, ?_, ?_⟩, ⟨?_, Or.inr (by rw [e4]; exact oar), ?_⟩, ?_, fun j hj => ?_, fun j k hj hk hjk => ?_⟩, ⟨S1, hK.c C2 hW hM0 oo⟩, C2, oo, R1⟩
  · rw [hwF]; exact C2.c hW w2 (nM w1 (by decide) (by decide))
  · rw [hLA 0 (by decide) (by decide), oo _ vl]; exact w3
  · rw [hLA 0 (by decide) (by decide), hu 0 (by decide)]
    exact (w4.c C2 hW (n0 w3)).g (fun k hk => by rw [hu (1 + k) (by rw [upN_ne (by decide)] at hk; omega)])
  · rw [hLA 1 (by decide) (by decide), oo _ fl]; exact f1
  · rw [hLA 1 (by decide) (by decide)]
    exact (f2.c C2 hW (nM f1 (by decide) (by decide))).g (fun k hk => by rw [hu (9 + 2 * k) (by omega)])
  · rw [hLA 2 (by decide) (by decide), oo _ rl]; exact r1
  · rw [hLA 2 (by decide) (by decide)]
    exact (r2.c C2 hW (nM r1 (by decide) (by decide))).g (fun k hk => by rw [hu (10 + 2 * k) (by omega)])
  · rw [hLA 3 (by decide) (by decide), oo _ (hS.l l1)]; exact l1
  · rw [hLA 3 (by decide) (by decide), e4, e17']
    exact A1.r (fun j hj => by rw [e10 j (by omega)])
  · rw [hLA 5 (by decide) (by decide), oo _ hl5]; exact o5
  · rw [e17'] at hj
    rw [e10 j (by omega), e30 j (by omega), e50 j (by omega)]
    have key : ∀ {q s p : Nat}, RuleC o σ a d q s p j (t j) → RuleC o' σ' a (upN d 17 (i + 1)) q s p j (t j) := fun {q s p} hq => by
      obtain ⟨g1, g2, g3, g4⟩ := hq.c C2 hW h4.2 hM oo
      refine ⟨g1, by rw [hd (51 + 34 * j) (by omega)]; exact g2, g3.g (fun k hk => by rw [hd (47 + 34 * j + k) (by omega)]), ?_⟩
      exact GuardC.c (M := fun _ => False) Ch.rf S1.1 (fun _ _ w => w.elim) (fun _ _ w => w) (fun k hk => hd k (by omega)) h4.2 _ _ _ g4
    by_cases c : j = i
    · rw [if_pos c, if_pos c, if_pos c]
      rw [c] at key ⊢
      exact key hr
    · rw [if_neg c, if_neg c, if_neg c]
      obtain ⟨g1, g2, g3, g4⟩ := ru j (by rw [e17]; omega)
      refine key ⟨g1, by rw [upN_ne (by omega)] at g2; exact g2, g3.g (fun k hk => by rw [upN_ne (by omega)]), ?_⟩
      exact GuardC.c (M := fun _ => False) Ch.rf hW (fun _ _ w => w.elim) (fun _ _ w => w) (fun k hk => (upN_ne (by omega)).symm) (by rw [upN_ne (by decide)]; exact h4.2) _ _ _ g4
  · rw [e17'] at hj hk
    rw [e10 j (by omega), e10 k (by omega), e30 j (by omega), e30 k (by omega)]
    by_cases c : j = i
    · rw [if_pos c, if_pos c, if_neg (by omega), if_neg (by omega)]
      have := hn k (by omega)
      exact ⟨Ne.symm this.1, Ne.symm this.2⟩
    · by_cases c2 : k = i
      · rw [if_neg c, if_neg c, if_pos c2, if_pos c2]
        exact hn j (by omega)
      · rw [if_neg c, if_neg c, if_neg c2, if_neg c2]
        exact inj j k (by rw [e17]; omega) (by rw [e17]; omega) hjk
/-- a rule is copied -/
theorem cl_rdup {o : oW} {σ : cS} {a q s p k x y : Nat} {d : Nat → Nat} {tm : Term} (hS : SI o σ) (h : RuleC o σ a d q s p k tm) (hR : Rm σ (x + 2) (y + 8)) : ∃ σ', m_X9_duplicate q σ = some (some (σ.2 0), σ') ∧ σ'.1 (σ.2 0) = some (.inr (2, [.ref p, .int (Int32.ofNat (gLv tm)), .ref (σ.2 0 + 1), .int (Int32.ofNat (d (51 + 34 * k)))])) ∧ IA σ' (σ.2 0 + 1) 4 (fun h => d (47 + 34 * k + h)) ∧ Ch (fun _ => False) σ σ' ∧ σ'.2 0 = σ.2 0 + 2 ∧ Rm σ' x y := by
  have hW := hS.1
  have hw0 := hS.2.1
  obtain ⟨⟨q1, q2⟩, q3, ⟨f, q4, q5⟩, -⟩ := h
  have ql := hW.lt q3
  have sl := hW.lt q4
  unfold m_X9_duplicate
  rw [nO_J (by have := hR.1; omega) (by have := hR.2; omega)]
  generalize hs1 : cN σ (.inr (2, [.null, .int 0, .null, .int 0])) 4 = σ1
  have C1 : Ch (fun _ => False) σ σ1 := by rw [← hs1]; exact Ch.cN Ch.rf
  have g1 : σ1.1 q = some (.inr (2, [.ref p, .int (Int32.ofNat (gLv tm)), .ref s, .int (Int32.ofNat (d (51 + 34 * k)))])) := C1.c hW q3 id
  have s1 : σ1.1 s = some (.inl (0, 4, .inl f)) := C1.c hW q4 id
  have r1 : σ1.1 (σ.2 0) = some (.inr (2, [.null, .int 0, .null, .int 0])) := by rw [← hs1]; exact cN_s
  have n1 : σ1.2 0 = σ.2 0 + 1 ∧ σ1.2 1 = σ.2 1 + 4 := by rw [← hs1]; exact ⟨rfl, rfl⟩
  have k1 : ∀ k, 2 ≤ k → σ1.2 k = σ.2 k := fun k hk => C1.k hk
  clear hs1
  rw [gR_J g1 rfl, gI_J g1 rfl]
  unfold m_X9_init
  rw [nA_L (n := 4) (by decide) (by rw [n1.1, k1 3 (by decide)]; have := hR.1; omega) (by rw [n1.2, k1 4 (by decide)]; have := hR.2; omega)]
  generalize hs2 : cN σ1 (.inl (0, 4, .inl (fun _ => 0))) 4 = σ2
  have C2 : Ch (fun _ => False) σ σ2 := by rw [← hs2]; exact C1.cN
  have r2 : σ2.1 (σ.2 0) = some (.inr (2, [.null, .int 0, .null, .int 0])) := by rw [← hs2, cN_n (by omega)]; exact r1
  have t2 : σ2.1 (σ.2 0 + 1) = some (.inl (0, 4, .inl (fun _ => 0))) := by rw [← hs2, ← n1.1]; exact cN_s
  have n2 : σ2.2 0 = σ.2 0 + 2 ∧ σ2.2 1 = σ.2 1 + 8 := by rw [← hs2, cN_0, cN_1]; omega
  have k2 : ∀ k, 2 ≤ k → σ2.2 k = σ.2 k := fun k hk => C2.k hk
  have w2 : σ2.2 2 ≤ σ.2 0 := by rw [k2 2 (by decide)]; exact hw0
  rw [n1.1]
  clear hs2
  rw [pO_J r2 (by show 2 < 4; decide) w2, pO_J cU_s (by show 0 < 4; decide) w2, cU_cU, pO_J cU_s (by show 1 < 4; decide) w2, cU_cU, bd_J]
  generalize hs3 : cU σ2 (σ.2 0) _ = σ3
  have C3 : Ch (fun _ => False) σ σ3 := by rw [← hs3]; exact C2.cU r2 (Or.inl (Nat.le_refl _))
  have r3 : σ3.1 (σ.2 0) = some (.inr (2, [.ref p, .int (Int32.ofNat (gLv tm)), .ref (σ.2 0 + 1), .int 0])) := by rw [← hs3]; exact cU_s
  have t3 : σ3.1 (σ.2 0 + 1) = some (.inl (0, 4, .inl (fun _ => 0))) := by rw [← hs3, cU_n (by omega)]; exact t2
  have n3 : σ3.2 = σ2.2 := by rw [← hs3]; rfl
  have g3 : σ3.1 q = some (.inr (2, [.ref p, .int (Int32.ofNat (gLv tm)), .ref s, .int (Int32.ofNat (d (51 + 34 * k)))])) := C3.c hW q3 id
  have s3 : σ3.1 s = some (.inl (0, 4, .inl f)) := C3.c hW q4 id
  clear hs3
  rw [gR_J g3 rfl, gR_J r3 rfl, show (4 : Int32) = Int32.ofNat 4 from rfl, show (0 : Int32) = Int32.ofNat 0 from rfl, cpI_J s3 t3 (by decide) (by decide) (by decide) (by rw [n3]; omega) (Or.inl rfl)]
  generalize hs4 : cU σ3 (σ.2 0 + 1) _ = σ4
  have C4 : Ch (fun _ => False) σ σ4 := by rw [← hs4]; exact C3.cU t3 (Or.inl (Nat.le_succ _))
  have r4 : σ4.1 (σ.2 0) = some (.inr (2, [.ref p, .int (Int32.ofNat (gLv tm)), .ref (σ.2 0 + 1), .int 0])) := by rw [← hs4, cU_n (by omega)]; exact r3
  have t4 : IA σ4 (σ.2 0 + 1) 4 (fun h => d (47 + 34 * k + h)) := ⟨va_cpy f (fun _ => 0) 0 0 4, by rw [← hs4]; exact cU_s, fun i hi => by rw [pk_cpy_in (by omega) (by omega), Nat.zero_add, Nat.sub_zero]; exact q5 i hi⟩
  have g4 : σ4.1 q = some (.inr (2, [.ref p, .int (Int32.ofNat (gLv tm)), .ref s, .int (Int32.ofNat (d (51 + 34 * k)))])) := C4.c hW q3 id
  have n4 : σ4.2 = σ2.2 := by rw [← hs4]; exact n3
  clear hs4
  rw [gI_J g4 rfl, pO_J r4 (by show 3 < 4; decide) (by rw [n4]; exact w2)]
  refine ⟨_, rfl, cU_s, t4.to (cU_n (by omega)), C4.cU r4 (Or.inl (Nat.le_refl _)), ?_, ?_⟩
  · rw [cU_2, n4]; exact n2.1
  · unfold Rm at hR ⊢
    rw [cU_2, n4, n2.1, n2.2, k2 3 (by decide), k2 4 (by decide)]
    omega
