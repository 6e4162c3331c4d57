/-! THE PLAIN LAW, the class' side: a will is copied -/
set_option maxRecDepth 100000
/-- an array of a will is copied into its copy's -/
theorem cp4 {β : Type} {σ : cS} {p q : Nat} {g g' : Nat → Nat} (h : IA σ p 4 g) (h' : IA σ q 4 g') (hw : σ.2 2 ≤ q) : ∃ e : cE, (∀ (K : cS → Option β), cpI σ 0 (some p) 0 (some q) 0 4 K = K (cU σ q e)) ∧ IA (cU σ q e) q 4 g := by
  obtain ⟨f, h1, h2⟩ := h
  obtain ⟨f', h3, -⟩ := h'
  refine ⟨.inl (0, 4, .inl (va_cpy f f' 0 0 4)), fun K => ?_, _, cU_s, fun i hi => ?_⟩
  · rw [show (4 : Int32) = Int32.ofNat 4 from rfl, show (0 : Int32) = Int32.ofNat 0 from rfl]
    exact cpI_J h1 h3 (by decide) (by decide) (by decide) hw (Or.inl rfl)
  · rw [pk_cpy_in (by omega) (by omega), Nat.zero_add, Nat.sub_zero]; exact h2 i hi
theorem FoundC.of {o : oW} {σ : cS} {p : Nat} {d : Nat → Nat} {t : Nat → Term} (h : σ.1 p = some (.inl (4, casesN d, vR (fun _ => none)))) : FoundC o σ p d t (casesN d) := ⟨fun _ => none, h, fun _ _ => Or.inl rfl, cntN_le _ _⟩
theorem dup_loop {o : oW} {σ : cS} {a b x y : Nat} {L d dI : Nat → Nat} {t : Nat → Term} (hW : WOk d t) (hS : SI o σ) (hC : WillC o σ a L d t) (hb : σ.2 0 = b) (hI : ∀ i, i ≠ 7 → i ≠ 8 → dI i = d i) (hFI : FOk dI) : ∀ j i f o' τ L', i + j = d 17 → j < f → (SI o' τ ∧ KL o' τ) → Ch (fun _ => False) σ τ → (∀ q, q < σ.2 0 → o' q = o q) → WillC o' τ b L' (upN dI 17 i) t → τ.1 (L' 5) = some (.inl (4, casesN d, vR (fun _ => none))) → Rm τ (x + 3 * j) (y + 23 * j) → ∃ τ' o'' L'', b_X4_duplicate_50 a f (some b) (Int32.ofNat i) τ = some (some b, τ') ∧ WillC o'' τ' b L'' d t ∧ τ'.1 (L'' 5) = some (.inl (4, casesN d, vR (fun _ => none))) ∧ (SI o'' τ' ∧ KL o'' τ') ∧ Ch (fun _ => False) σ τ' ∧ (∀ q, q < σ.2 0 → o'' q = o q) ∧ Rm τ' x y := by
  have hF := hW.1
  have h17 := hW.r
  have hn5 := hS.l hC.o5
  intro j
  induction j with
  | zero =>
    intro i f o' τ L' hi hf hSK hCh ho hN hFd hR
    obtain ⟨f, rfl⟩ : ∃ f', f = f' + 1 := ⟨f - 1, by omega⟩
    have A := hC.c hCh hS.1 hF (fun _ _ w => w.elim) ho hn5
    have hbw : τ.2 2 ≤ b := by rw [hCh.k (by decide), ← hb]; exact hS.2.1
    have e1 : upN dI 17 i = dI := by
      funext k
      by_cases c : k = 17
      · rw [c, upN_at, hI 17 (by decide) (by decide)]; omega
      · exact upN_ne c
    rw [e1] at hN
    rw [b_X4_duplicate_50, gR_J A.w rfl, A.l.nn, A.l.size, bd_J, iJ_le (by omega) (by omega), if_pos (by omega), gI_J A.w rfl, pO_J hN.w (by show 7 < 9; decide) hbw]
    have hne : a ≠ b := by have := hS.lt hC.w; omega
    have A2 : (cU τ b (.inr (1, List.set (wF L' dI) 7 (.int (Int32.ofNat (d 7)))))).1 a = some (.inr (1, wF L d)) := by rw [cU_n hne]; exact A.w
    rw [gI_J A2 rfl, pO_J cU_s (by show 8 < 9; decide) hbw, cU_cU]
    have ew : List.set (List.set (wF L' dI) 7 (.int (Int32.ofNat (d 7)))) 8 (.int (Int32.ofNat (d 8))) = wF L' d := by
      unfold wF
      rw [hI 5 (by decide) (by decide), hI 6 (by decide) (by decide)]
      rfl
    rw [ew]
    have N2 := hN.sW (d' := d) hFI hSK.1 (fun i h6 h7 h8 => (hI i h7 h8).symm)
    have C2 : Ch (fun _ => False) σ (cU τ b (.inr (1, wF L' d))) := hCh.cU hN.w (Or.inl (by omega))
    have C1 : Ch (fun q => q = b) τ (cU τ b (.inr (1, wF L' d))) := Ch.rf.cU hN.w (Or.inr rfl)
    have ob := hN.ow.1
    have hM : ∀ q, q < τ.2 0 → q = b → (o' q).1 ≠ 0 := fun q _ w => by rw [w, ob]; exact Nat.succ_ne_zero _
    exact ⟨_, o', L', rfl, N2, C1.c hSK.1.1 hFd (ne_role hN.ow.2.2.2.2.2.1 ob (by decide)), ⟨hSK.1.ch C1, hSK.2.c C1 hSK.1.1 hM (fun _ _ => rfl)⟩, C2, ho, hR⟩
  | succ j ih =>
    intro i f o' τ L' hi hf hSK hCh ho hN hFd hR
    obtain ⟨f, rfl⟩ : ∃ f', f = f' + 1 := ⟨f - 1, by omega⟩
    have hi2 : i < d 17 := by omega
    have A := hC.c hCh hS.1 hF (fun _ _ w => w.elim) ho hn5
    have rc := A.r hi2
    have hb0 : b < τ.2 0 := hSK.1.lt hN.w
    rw [b_X4_duplicate_50, gR_J A.w rfl, A.l.nn, A.l.size, bd_J, iJ_le (by omega) (by omega), if_neg (by omega), gR_J hN.w rfl, gR_J A.w rfl, A.l.nn, A.l.get hi2, bd_J, cst_J rc.2.1 (by decide) rfl, nn_J rc.2.1]
    obtain ⟨τ1, e1, g1, g2, C1, n1, R1⟩ := cl_rdup (x := x + 3 * j + 1) (y := y + 23 * j + 15) hSK.1 rc (hR.le (by omega) (by omega))
    -- its owner
    generalize hr : τ.2 0 = r at *
    have S1 := hSK.1.ch C1
    have b1 : τ1.1 b = some (.inr (1, wF L' (upN dI 17 i))) := C1.c hSK.1.1 hN.w id
    have hb1 : τ1.1 b ≠ none := by rw [b1]; exact fun w => by cases w
    have w1 : τ1.2 2 ≤ r := by rw [C1.k (by decide), ← hr]; exact hSK.1.2.1
    generalize ho1 : oN (oN o' r (b + 1, 6)) (r + 1) (b + 1, 7) = o1
    have oo : ∀ q, q < r → o1 q = o' q := fun q hq => by rw [← ho1, oN_n (by omega), oN_n (by omega)]
    have o6 : o1 r = (b + 1, 6) := by rw [← ho1, oN_n (by omega), oN_s]
    have o7 : o1 (r + 1) = (b + 1, 7) := by rw [← ho1, oN_s]
    have S2 : SI o1 τ1 := by
      rw [← ho1]
      refine SI.oN (v := (b + 1, 7)) (SI.oN (v := (b + 1, 6)) S1 ⟨w1, ?_, hb1⟩) ⟨by omega, ?_, hb1⟩
      · rw [g1]; exact fun w => by cases w
      · obtain ⟨f, w, -⟩ := g2; rw [w]; exact fun w => by cases w
    have oo' : ∀ q, q < τ.2 0 → o1 q = o' q := fun q hq => oo q (by omega)
    have K2 : KL o1 τ1 := hSK.2.c C1 hSK.1.1 (fun _ _ w => w.elim) oo'
    have F0 : FOk (upN dI 17 i) := ⟨by rw [upN_ne (by decide)]; exact hFI.1, fun f hf => by rw [upN_ne (by decide)] at hf; rw [upN_ne (by have := hFI.1; omega)]; exact hFI.2 f hf⟩
    have N2 : WillC o1 τ1 b L' (upN dI 17 i) t := hN.c C1 hSK.1.1 F0 (fun _ _ w => w.elim) oo' (hSK.1.l hN.o5)
    have hFd2 := C1.c hSK.1.1 hFd id
    have RN : RuleC o1 τ1 b dI r (r + 1) (L (50 + i)) i (t i) := by
      refine ⟨⟨o6, o7⟩, by rw [hI (51 + 34 * i) (by omega) (by omega)]; exact g1, g2.g (fun k hk => (hI (47 + 34 * i + k) (by omega) (by omega)).symm), ?_⟩
      exact GuardC.c C1 hSK.1.1 (fun _ _ w => w.elim) (fun q hq w => by rw [oo' q hq]; exact w) (fun k hk => hI k (by omega) (by omega)) hF.1.2 _ _ _ rc.2.2.2
    have hnr : ∀ k, k < i → L' (10 + k) ≠ r ∧ L' (30 + k) ≠ r + 1 := fun k hk => by
      obtain ⟨-, q3, q4, -⟩ := hN.r (i := k) (by rw [upN_at]; exact hk)
      have h1 := hSK.1.lt q3
      have h2 := q4.lt hSK.1.1
      omega
    obtain ⟨τ2, o2, ar', e2, N3, SK3, C3, oo3, R3⟩ := WillC.add (x := x + 3 * j) (y := y + 23 * j) hFI (by omega) S2 K2 N2 RN hnr R1
    have hlnn : ∀ (K : Nat → Option (Option Nat × cS)), nn τ1 (some (L' 3)) 9 K = K (L' 3) := fun K => N2.l.nn
    rw [e1, bd_J, hlnn, e2, bd_J, lt_J, J_addL]
    have hown : ∀ q, q < σ.2 0 → ¬ (o1 q = (b + 1, 3) ∨ o1 q = (b + 1, 4)) := fun q hq w => by
      have hq2 : q < r := by have := hCh.2.1; omega
      rw [oo q hq2, ho q hq] at w
      have : b < σ.2 0 := by
        rcases w with w | w
        · exact hS.own (by rw [w])
        · exact hS.own (by rw [w])
      omega
    have C4 : Ch (fun _ => False) σ τ2 := (hCh.trans C1).then C3 (fun q hq w => hown q hq w)
    have hM3 : ∀ q, q < τ1.2 0 → (o1 q = (b + 1, 3) ∨ o1 q = (b + 1, 4)) → (o1 q).1 ≠ 0 := fun q _ w => by
      rcases w with w | w <;> · rw [w]; exact Nat.succ_ne_zero _
    have F3 := C3.c S2.1 hFd2 (fun w => by
      rw [N2.o5] at w
      rcases w with w | w
      · exact absurd (congrArg Prod.snd w) (show ¬ (5 : Nat) = 3 by decide)
      · exact absurd (congrArg Prod.snd w) (show ¬ (5 : Nat) = 4 by decide))
    have e5 : LAdd L' i ar' r (r + 1) (L (50 + i)) 5 = L' 5 := by
      unfold LAdd
      rw [if_neg (by decide), if_neg (by omega), if_neg (by omega), if_neg (by omega)]
    refine ih (i + 1) f o2 τ2 _ (by omega) (by omega) SK3 C4 (fun q hq => ?_) N3 (by rw [e5]; exact F3) R3
    have hq2 : q < r := by have := hCh.2.1; omega
    rw [oo3 q (by have := C1.2.1; omega), oo q hq2, ho q hq]
theorem cl_dup {o : oW} {σ : cS} {a x y : Nat} {L d : Nat → Nat} {t : Nat → Term} (hW : WOk d t) (hS : SI o σ) (hK : KL o σ) (hC : WillC o σ a L d t) (hR : Rm σ (x + 35) (y + 506)) : ∃ σ' o' L', m_X4_duplicate a σ = some (some (σ.2 0), σ') ∧ WillC o' σ' (σ.2 0) L' d t ∧ σ'.1 (L' 5) = some (.inl (4, casesN d, vR (fun _ => none))) ∧ (SI o' σ' ∧ KL o' σ') ∧ Ch (fun _ => False) σ σ' ∧ (∀ q, q < σ.2 0 → o' q = o q) ∧ Rm σ' x y := by
  have hF := hW.1
  have h4 := hF.1
  have h5 := hW.h
  have h17 := hW.r
  have hn5 := hS.l hC.o5
  unfold m_X4_duplicate
  rw [nO_J (by have := hR.1; omega) (by have := hR.2; omega)]
  generalize hs1 : cN σ (.inr (1, [.null, .int 0, .null, .null, .null, .null, .int 0, .int 0, .int 0])) 9 = σ1
  have C1 : Ch (fun _ => False) σ σ1 := by rw [← hs1]; exact Ch.cN Ch.rf
  have n1 : σ1.2 0 = σ.2 0 + 1 := by rw [← hs1]; rfl
  have b1 : σ1.1 (σ.2 0) = some wBlank := by rw [← hs1]; exact cN_s
  have R1 : Rm σ1 (x + 34) (y + 497) := by rw [← hs1]; exact Rm.cN (hR.le (by omega) (by omega))
  clear hs1
  have S1 := hS.ch C1
  have K1 := hK.c C1 hS.1 (fun _ _ w => w.elim) (fun _ _ => rfl)
  have A1 := hC.c C1 hS.1 hF (fun _ _ w => w.elim) (fun _ _ => rfl) hn5
  generalize hb : σ.2 0 = b at *
  have hbw : σ1.2 2 ≤ b := by rw [C1.k (by decide), ← hb]; exact hS.2.1
  -- the values to begin with
  generalize hdJ : (fun i => if i < 7 then d i else if i = 7 then 1000 else if i = 8 then 0 else if i = 17 then 0 else if i < 17 ∧ i % 2 = 0 then 10 else if i < 17 then 0 else d i) = dJ
  have j7 : ∀ i, i < 7 → dJ i = d i := fun i hi => by rw [← hdJ]; dsimp only; rw [if_pos hi]
  have FJ : FOk dJ := ⟨by rw [j7 0 (by decide)]; exact hF.1, fun f hf => by rw [j7 0 (by decide)] at hf; rw [j7 (1 + f) (by omega)]; exact hF.2 f hf⟩
  have vJ : IA σ1 (L 0) (dJ 0) (fun i => dJ (1 + i)) := by
    rw [j7 0 (by decide)]
    exact A1.v.g (fun i hi => (j7 (1 + i) (by omega)).symm)
  rw [gR_J A1.w rfl, gI_J A1.w rfl, gI_J A1.w rfl, ← j7 5 (by decide), ← j7 6 (by decide)]
  obtain ⟨σ2, L2, e2, N2, F2, SK2, C2, R2, l0⟩ := cl_winit (o := o) (t := t) (x := x + 30) (y := y + 230) FJ (by rw [j7 5 (by decide)]; omega) S1 K1 b1 hbw vJ A1.1.2.1 (by rw [← hdJ]; rfl) (by rw [← hdJ]; rfl) (fun k hk => by
    obtain rfl | rfl | rfl | rfl : k = 0 ∨ k = 1 ∨ k = 2 ∨ k = 3 := by omega
    all_goals (rw [← hdJ]; exact ⟨rfl, rfl⟩)) (by rw [← hdJ]; rfl) (R1.le (by omega) (by omega))
  rw [e2, bd_J]
  generalize ho2 : oWill o b (σ1.2 0) = o2 at N2 F2 SK2
  have oo2 : ∀ q, q < b → o2 q = o q := fun q hq => by
    rw [← ho2]
    unfold oWill
    rw [oN_n (by omega), oN_n (by omega), oN_n (by omega), oN_n (by omega), oN_n (by omega)]
  have C12 : Ch (fun _ => False) σ σ2 := C1.then C2 (fun q hq w => by omega)
  have A2 := hC.c C12 hS.1 hF (fun _ _ w => w.elim) (fun q hq => oo2 q (by omega)) (by omega)
  have S2 := SK2.1
  have ow := N2.ow
  obtain ⟨e3, q3, I3⟩ := cp4 (β := Option Nat × cS) A2.f N2.f (S2.w ow.2.1)
  rw [gR_J A2.w rfl, gR_J N2.w rfl, q3]
  -- the free sums are copied
  generalize hdK : (fun i => if i = 9 then d 9 else if i = 11 then d 11 else if i = 13 then d 13 else if i = 15 then d 15 else dJ i) = dK
  have kK : ∀ i, i ≠ 9 → i ≠ 11 → i ≠ 13 → i ≠ 15 → dK i = dJ i := fun i h1 h2 h3 h4 => by rw [← hdK]; dsimp only; rw [if_neg h1, if_neg h2, if_neg h3, if_neg h4]
  have N3 : WillC o2 (cU σ2 (L2 1) e3) b L2 dK t := by
    refine N2.sF FJ S2 (Or.inl rfl) (I3.g (fun i hi => ?_)) (fun i hi => kK i (by have := hi 0 (by decide); omega) (by have := hi 1 (by decide); omega) (by have := hi 2 (by decide); omega) (by have := hi 3 (by decide); omega))
    obtain rfl | rfl | rfl | rfl : i = 0 ∨ i = 1 ∨ i = 2 ∨ i = 3 := by omega
    all_goals (rw [← hdK]; rfl)
  have hlt : ∀ k, k = 1 ∨ k = 2 → b ≤ L2 k := fun k hk => by
    refine Nat.not_lt.mp (fun w => ?_)
    have ok : o2 (L2 k) = (b + 1, k) := by rcases hk with rfl | rfl; exact ow.2.1; exact ow.2.2.1
    rw [oo2 _ w] at ok
    have := hS.own (q := L2 k) (a := b) (by rw [ok])
    omega
  obtain ⟨f1, c1, -⟩ := N2.f
  have C3 : Ch (fun _ => False) σ (cU σ2 (L2 1) e3) := C12.cU c1 (Or.inl (by have := hlt 1 (Or.inl rfl); omega))
  have D3 : Ch (fun q => o2 q = (b + 1, 1)) σ2 (cU σ2 (L2 1) e3) := Ch.rf.cU c1 (Or.inr ow.2.1)
  have hM1 : ∀ k q, q < σ2.2 0 → o2 q = (b + 1, k) → (o2 q).1 ≠ 0 := fun k q _ w => by rw [w]; exact Nat.succ_ne_zero _
  have S3 := S2.ch D3
  have K3 := SK2.2.c D3 S2.1 (hM1 1) (fun _ _ => rfl)
  have F3 : (cU σ2 (L2 1) e3).1 (L2 5) = some (.inl (4, casesN dJ, vR (fun _ => none))) := by rw [cU_n (ne_role ow.2.2.2.2.2.1 ow.2.1 (by decide))]; exact F2
  have A3 := hC.c C3 hS.1 hF (fun _ _ w => w.elim) (fun q hq => oo2 q (by omega)) (by omega)
  have R3 : Rm (cU σ2 (L2 1) e3) (x + 30) (y + 230) := R2
  generalize cU σ2 (L2 1) e3 = σ3 at N3 C3 S3 K3 F3 A3 R3 ⊢
  obtain ⟨e4, q4, I4⟩ := cp4 (β := Option Nat × cS) A3.ra N3.ra (S3.w ow.2.2.1)
  rw [gR_J A3.w rfl, gR_J N3.w rfl, q4]
  have FK : FOk dK := ⟨by rw [kK 0 (by decide) (by decide) (by decide) (by decide)]; exact FJ.1, fun f hf => by rw [kK 0 (by decide) (by decide) (by decide) (by decide)] at hf; have := FJ.1; rw [kK (1 + f) (by omega) (by omega) (by omega) (by omega)]; exact FJ.2 f hf⟩
  generalize hdI : (fun i => if i = 7 then 1000 else if i = 8 then 0 else d i) = dI
  have kI : ∀ i, i ≠ 7 → i ≠ 8 → dI i = d i := fun i h7 h8 => by rw [← hdI]; dsimp only; rw [if_neg h7, if_neg h8]
  have FI : FOk dI := ⟨by rw [kI 0 (by decide) (by decide)]; exact hF.1, fun f hf => by rw [kI 0 (by decide) (by decide)] at hf; rw [kI (1 + f) (by omega) (by omega)]; exact hF.2 f hf⟩
  have N4 : WillC o2 (cU σ3 (L2 2) e4) b L2 (upN dI 17 0) t := by
    refine N3.sF FK S3 (Or.inr rfl) (I4.g (fun i hi => ?_)) (fun i hi => ?_)
    · rw [upN_ne (by omega), kI _ (by omega) (by omega)]
    · have h0 := hi 0 (by decide)
      have h1 := hi 1 (by decide)
      have h2 := hi 2 (by decide)
      have h3 := hi 3 (by decide)
      rw [← hdK, ← hdJ, ← hdI]
      unfold upN
      dsimp only
      repeat' split
      all_goals first | rfl | omega | (simp_all; done) | (subst_vars; rfl)
  obtain ⟨f2, c2, -⟩ := N3.ra
  have C4 : Ch (fun _ => False) σ (cU σ3 (L2 2) e4) := C3.cU c2 (Or.inl (by have := hlt 2 (Or.inr rfl); omega))
  have D4 : Ch (fun q => o2 q = (b + 1, 2)) σ3 (cU σ3 (L2 2) e4) := Ch.rf.cU c2 (Or.inr ow.2.2.1)
  have hM2 : ∀ q, q < σ3.2 0 → o2 q = (b + 1, 2) → (o2 q).1 ≠ 0 := fun q _ w => by rw [w]; exact Nat.succ_ne_zero _
  have F4 : (cU σ3 (L2 2) e4).1 (L2 5) = some (.inl (4, casesN dJ, vR (fun _ => none))) := by rw [cU_n (ne_role ow.2.2.2.2.2.1 ow.2.2.1 (by decide))]; exact F3
  have ec : casesN dJ = casesN d := by
    unfold casesN
    rw [j7 0 (by decide)]
    have : ∀ k, k ≤ 4 → prodN dJ k = prodN d k := by
      intro k
      induction k with
      | zero => intro _; rfl
      | succ k ih => intro hk; show prodN dJ k * dJ (1 + k) = _; rw [ih (by omega), j7 (1 + k) (by omega)]; rfl
    exact this _ (by omega)
  rw [ec] at F4
  obtain ⟨τ', o'', L'', e5, r1, r2, r3, r4, r5, r6⟩ := dup_loop (x := x) (y := y) hW hS hC hb kI FI (d 17) 0 FU o2 _ L2 (by omega) (by show _ < 4096; omega) ⟨S3.ch D4, K3.c D4 S3.1 hM2 (fun _ _ => rfl)⟩ C4 (fun q hq => oo2 q (by omega)) N4 F4 (R3.le (by omega) (by omega))
  rw [show (0 : Int32) = Int32.ofNat 0 from rfl, e5]
  exact ⟨τ', o'', L'', rfl, r1, r2, r3, r4, fun q hq => r5 q (by omega), r6⟩
