/-! THE PLAIN LAW: how the twin reads rules -/
set_option maxRecDepth 100000
theorem rCmp_cg {d e : Nat → Nat} (h : ∀ j, j < 5 → e j = d j) (h4 : d 0 ≤ 4) (L : List Nat) : rCmp e L = rCmp d L := by
  funext p fc nt
  unfold rCmp
  rw [h 0 (by decide)]
  by_cases c : (tkK L p = 1 ∧ tkE L p - tkO L p = 1) ∧ factN L p < d 0
  · rw [if_pos c, if_pos c, h (1 + factN L p) (by omega)]
  · rw [if_neg c, if_neg c]
theorem rF_cg {d e : Nat → Nat} (h : ∀ j, j < 5 → e j = d j) (h4 : d 0 ≤ 4) (L : List Nat) : ∀ n, rF e L n = rF d L n := by
  intro n
  induction n with
  | zero => rfl
  | succ n ih =>
    show rFo (rF e L n) e L = rFo (rF d L n) d L
    funext i p fc nt
    unfold rFo
    rw [ih, rCmp_cg h h4]
theorem zrD_lo {d : Nat → Nat} {j : Nat} (h : j < 18 + 34 * d 17) : zrD d j = d j := by
  unfold zrD
  rw [if_neg (by omega)]
theorem ruD_lo {d : Nat → Nat} {E : List Nat} {sh : Nat → Nat} {ov j : Nat} (h : j < 18) : ruD (zrD d) E sh ov j = d j := by
  unfold ruD
  rw [zrD_17, if_neg (by omega), if_neg (by omega), emD_lo (by rw [zrD_17]; omega), zrD_lo (by omega)]
theorem ruD_sh {d : Nat → Nat} {E : List Nat} {sh : Nat → Nat} {ov h : Nat} (hh : h < 4) : ruD (zrD d) E sh ov (47 + 34 * d 17 + h) = sh h := by
  unfold ruD
  rw [zrD_17, if_pos (by omega), show 47 + 34 * d 17 + h - (47 + 34 * d 17) = h by omega]
theorem ruD_ov {d : Nat → Nat} {E : List Nat} {sh : Nat → Nat} {ov : Nat} : ruD (zrD d) E sh ov (51 + 34 * d 17) = ov := by
  unfold ruD
  rw [zrD_17, if_neg (by omega), if_pos rfl]
theorem ruD_us {d : Nat → Nat} {E : List Nat} {sh : Nat → Nat} {ov h v : Nat} (hh : h < 4) : upN (ruD (zrD d) E sh ov) (47 + 34 * d 17 + h) v = ruD (zrD d) E (upN sh h v) ov := by
  funext j
  unfold ruD
  rw [zrD_17]
  by_cases c : j = 47 + 34 * d 17 + h
  · rw [c, upN_at, if_pos (by omega), show 47 + 34 * d 17 + h - (47 + 34 * d 17) = h by omega, upN_at]
  · rw [upN_ne c]
    by_cases c2 : 47 + 34 * d 17 ≤ j ∧ j < 51 + 34 * d 17
    · rw [if_pos c2, if_pos c2, upN_ne (by omega)]
    · rw [if_neg c2, if_neg c2]
theorem ruD_uo {d : Nat → Nat} {E : List Nat} {sh : Nat → Nat} {ov v : Nat} : upN (ruD (zrD d) E sh ov) (51 + 34 * d 17) v = ruD (zrD d) E sh v := by
  funext j
  unfold ruD
  rw [zrD_17]
  by_cases c : j = 51 + 34 * d 17
  · rw [c, upN_at, if_neg (by omega), if_pos rfl]
  · rw [upN_ne c]
    by_cases c2 : 47 + 34 * d 17 ≤ j ∧ j < 51 + 34 * d 17
    · rw [if_pos c2, if_pos c2]
    · rw [if_neg c2, if_neg c2, if_neg c, if_neg c]
/-- the twin reads behind a rule's guard -/
def RU (d : Nat → Nat) (E : List Nat) (sh : Nat → Nat) (ov : Nat) (L : List Nat) (p : Nat) (σ : twS) : Prop := PT L p σ ∧ TW (ruD (zrD d) E sh ov) σ ∧ σ.2 25 = Int32.ofNat (18 + 34 * d 17)
theorem RU.t {d : Nat → Nat} {E : List Nat} {sh : Nat → Nat} {ov : Nat} {L : List Nat} {p p' : Nat} {a b : twS} (h : RU d E sh ov L p a) (f : frT a b) (hp : PT L p' b) : RU d E sh ov L p' b := ⟨hp, h.2.1.fr (by rw [f.1]), (f.2 25 (by decide)).trans h.2.2⟩
theorem RU.next {d : Nat → Nat} {E : List Nat} {sh : Nat → Nat} {ov : Nat} {L : List Nat} {p : Nat} {a : twS} (h : RU d E sh ov L p a) : ∃ b, fr4 a b ∧ RU d E sh ov L (tkE L p) b ∧ mT_next a = some (0, b) := by
  obtain ⟨b, f, h1, e⟩ := h.1.next
  exact ⟨b, f, h.t f.t h1, e⟩
theorem tw_readsPart {d : Nat → Nat} {E : List Nat} {sh : Nat → Nat} {ov had : Nat} {L : List Nat} {p : Nat} {σ : twS} (h5 : 1 ≤ d 5 ∧ d 5 ≤ 4) (h17 : d 17 < 10) (hh : had < 1024) (hs : ShP d had sh) (h : RU d E sh ov L p σ) : RR σ (mT_readsPart (Int32.ofNat had) σ) (rPart d L had sh p) fun a σ' => RU d E a.2.1 ov L a.2.2 σ' ∧ σ'.2 26 = Int32.ofNat a.1 := by
  unfold mT_readsPart rPart
  rw [tw_aldL h.2.1 (by decide), show ruD (zrD d) E sh ov (OfNat.ofNat 5) = d 5 from ruD_lo (by decide), J_subL (show OfNat.ofNat 1 ≤ d 5 from h5.1)]
  refine (tw_isNumber (lo := 0) h.1 (by decide) (by show d 5 - 1 < _; omega)).bx fun v σ1 hv f1 q => ?_
  obtain ⟨g1, g2, g3, g4, g5, g6⟩ := q
  have hv4 : v < 4 := by have := g5.2; have : v ≤ d 5 - 1 := g5.2; omega
  have w1 := h.t g1 g2
  rw [lt_J, g6, tw_has (by omega) (by omega), bd_J, ite_pq (b32_0 _)]
  cases hb : had.testBit v with
  | true =>
    rw [if_neg (by decide), if_pos rfl]
    exact RR.fail (c := 3) w1.1
  | false =>
    rw [if_pos rfl, if_neg (show ¬ (false = true) from by decide)]
    obtain ⟨σ2, f2, w2, e2⟩ := w1.next
    rw [e2, bd_J]
    refine RR.fr f2.t.x ((tw_number (lo := 0) (hi := 12) w2.1 (by decide) (by decide)).bx fun a σ3 ha f3 q3 => ?_)
    obtain ⟨k1, k2, k3, k4, k5⟩ := q3
    have w3 := w2.t k1 k2
    rw [lt_J, k5]
    refine (tw_sign (c := 47) w3.1 (by decide)).bx fun q σ4 hq f4 q4 => ?_
    have w4 := w3.t q4.1.t q4.2
    refine (tw_isNumber (lo := 1) (hi := 12) w4.1 (by decide) (by decide)).bx fun b σ5 hb5 f5 q5 => ?_
    obtain ⟨r1, r2, r3, r4, r5, r6⟩ := q5
    have w5 := w4.t r1 r2
    have hu := untN_le (a := a.1) (b := b) (by omega) r5.1
    rw [r6, nz_J (by omega) (by omega), lt_J, J_mulL, show (OfNat.ofNat 27720 : Nat) = 27720 from rfl, J_div (by omega) (by omega), show a.1 * 27720 / b = untN a.1 b from rfl]
    have s0 : (47 : Nat) + 34 * d 17 + 3 < 358 := by omega
    have hk : ∀ k, k < 4 → ∀ f x, bT_readsPart_98 (f + 1) (Int32.ofNat v) (Int32.ofNat (untN a.1 b)) (Int32.ofNat x) (Int32.ofNat k) σ5 = bT_readsPart_98 f (Int32.ofNat v) (Int32.ofNat (untN a.1 b)) (Int32.ofNat (x + sh k)) (Int32.ofNat (k + 1)) σ5 := by
      intro k hk f x
      rw [bT_readsPart_98, iJ_leR (by decide) (by omega), if_neg (by show ¬ 4 ≤ k; omega), w5.2.2, J_addL, J_add, show 18 + 34 * d 17 + OfNat.ofNat 29 + k = 47 + 34 * d 17 + k by show 18 + 34 * d 17 + 29 + k = _; omega, tw_ald w5.2.1 (by omega), ruD_sh hk, lt_J, J_add, lt_J, J_addL]
    show RR σ5 (bT_readsPart_98 (4091 + 1 + 1 + 1 + 1 + 1) (Int32.ofNat v) (Int32.ofNat (untN a.1 b)) (Int32.ofNat (untN a.1 b)) (Int32.ofNat 0) σ5) _ _
    have hsum := hs.1
    rw [hk 0 (by decide), hk 1 (by decide), hk 2 (by decide), hk 3 (by decide), bT_readsPart_98, if_pos (by decide), iJ_leL (by omega) (by decide)]
    by_cases c : untN a.1 b + sh 0 + sh 1 + sh 2 + sh 3 ≤ 27720
    · rw [if_pos (show untN a.1 b + sh 0 + sh 1 + sh 2 + sh 3 ≤ OfNat.ofNat 27720 from c), if_pos c]
      obtain ⟨σ6, f6, w6, e6⟩ := w5.next
      have t6 := w6.2.1.st (i := 47 + 34 * d 17 + v) (v := untN a.1 b)
      rw [ruD_us hv4] at t6
      refine ⟨twI (twA σ6 0 (47 + 34 * d 17 + v) (Int32.ofNat (untN a.1 b))) 26 (Int32.ofNat v), f6.t.x.trans (frX.a.trans (frX.i (by decide))), ⟨⟨w6.1.a.i (by decide), t6, (twI_n (by decide)).trans w6.2.2⟩, twI_k⟩, ?_⟩
      rw [e6, bd_J, w6.2.2, J_addL, J_add, show 18 + 34 * d 17 + OfNat.ofNat 29 + v = 47 + 34 * d 17 + v by show 18 + 34 * d 17 + 29 + v = _; omega, ast_J (by omega) (by decide), lt_J, rz1]
    · rw [if_neg (show ¬ untN a.1 b + sh 0 + sh 1 + sh 2 + sh 3 ≤ OfNat.ofNat 27720 from c), if_neg c]
      exact RR.fail (c := 5) w5.1
theorem tw_pl {d : Nat → Nat} {E : List Nat} {ov : Nat} {L : List Nat} (h5 : 1 ≤ d 5 ∧ d 5 ≤ 4) (h17 : d 17 < 10) : ∀ f had sh p (σ : twS), L.length - p + 1 < f → had < 16 → ShP d had sh → RU d E sh ov L p σ → RR σ (bT_readsParts_19 f (Int32.ofNat had) 1 σ) (rPl d L f had sh p) fun a σ' => RU d E a.1 ov L a.2 σ' := by
  intro f
  induction f with
  | zero => intro had sh p σ h; omega
  | succ f ih =>
    intro had sh p σ hf hh hs h
    have hp := h.1.2.1
    rw [bT_readsParts_19, rPl, if_neg (by decide)]
    refine (tw_readsPart h5 h17 (by omega) hs h).bx fun a σ1 ha f1 w1 => ?_
    obtain ⟨o1, o2, o3, o4⟩ := rPart_ok h5 hp hs ha
    have hk := tkK_lt L a.2.2
    have hh2 : had ||| 2 ^ a.1 < 16 := Nat.or_lt_two_pow (n := 4) hh (Nat.pow_lt_pow_right (by decide) (by omega))
    rw [w1.2, J_shl a.1 (by omega), J_or, lt_J, w1.1.1.2.2.1, iJ_eqL (by omega) (by decide)]
    by_cases c : tkK L a.2.2 = 44
    · rw [if_pos (show tkK L a.2.2 = OfNat.ofNat 44 from c), if_pos c]
      unfold bT_readsParts_56
      rw [if_neg (by decide)]
      obtain ⟨σ2, f2, w2, e2⟩ := w1.1.next
      rw [e2, bd_J]
      have a2 := tkE_adv o1.2 (by omega)
      exact RR.fr f2.t.x (ih _ _ _ σ2 (by omega) hh2 o4 w2)
    · rw [if_neg (show ¬ tkK L a.2.2 = OfNat.ofNat 44 from c), if_neg c]
      unfold bT_readsParts_56
      rw [if_pos rfl]
      obtain ⟨f, rfl⟩ : ∃ f', f = f' + 1 := ⟨f - 1, by omega⟩
      refine ⟨σ1, frX.rf, w1.1, ?_⟩
      rw [bT_readsParts_19, if_pos rfl, rz1]
theorem tw_readsParts {d : Nat → Nat} {E : List Nat} {ov : Nat} {L : List Nat} {p : Nat} {σ : twS} (h5 : 1 ≤ d 5 ∧ d 5 ≤ 4) (h17 : d 17 < 10) (h : RU d E (fun _ => 0) ov L p σ) : RR σ (mT_readsParts σ) (rParts d L p) fun a σ' => RU d E a.1 ov L a.2 σ' := by
  have hl := h.1.1.1
  unfold mT_readsParts rParts
  rw [says1 (s := wNth) h.1, bd_J, ite_pq (b32_0 _)]
  cases hw : isW L p wNth with
  | false =>
    rw [if_pos rfl, if_neg (show ¬ (false = true) from by decide)]
    exact tw_pl h5 h17 FU 0 _ p σ (by show _ < 4096; omega) (by decide) ⟨by decide, fun _ _ => rfl, fun _ _ => rfl⟩ h
  | true =>
    rw [if_neg (by decide), if_pos rfl]
    obtain ⟨σ2, f2, w2, e2⟩ := h.next
    exact ⟨σ2, f2.t.x, w2, by rw [e2, bd_J, rz1]⟩
theorem tw_isX {L : List Nat} {p n : Nat} {σ : twS} (h : PT L p σ) {hi : Int32} (hh : hi.toInt = (n : Int) - 1) : RR σ (mT_isNumber 0 hi σ) (rIsX L p n) fun v σ' => frT σ σ' ∧ PT L p σ' ∧ tkK L p = 2 ∧ v = tkV L p ∧ v < n ∧ σ'.2 21 = Int32.ofNat v := by
  have hb := h.b
  unfold mT_isNumber rIsX
  rw [h.2.2.1, iJ_eqL (by omega) (by decide)]
  by_cases c : tkK L p = 2
  · obtain ⟨hv, hv2⟩ := h.v c
    have hin : inB (Int32.ofNat (tkV L p)) n = decide (tkV L p < n) := by
      unfold inB
      rw [J_int (by omega)]
      by_cases q : tkV L p < n
      · rw [decide_eq_true q, decide_eq_true (by omega)]
      · rw [decide_eq_false q, decide_eq_false (by omega)]
    rw [if_pos (show tkK L p = OfNat.ofNat 2 from c), if_pos c, hv, tw_inI hh, hin, bd_J, ite_pq (b32_0 _)]
    by_cases q : tkV L p < n
    · rw [decide_eq_true q, if_neg (by decide), if_pos q, lt_J, hv]
      have f1 : frT σ (twI σ 21 (Int32.ofNat (tkV L p))) := frT.i (by decide)
      exact ⟨_, f1.x, ⟨f1, h.f4 (fun k _ hk => twI_n (by omega)) rfl rfl, c, rfl, q, twI_k⟩, rfl⟩
    · rw [decide_eq_false q, if_pos rfl, if_neg q]
      exact RR.fail h
  · rw [if_neg (show ¬ tkK L p = OfNat.ofNat 2 from c), if_neg c]
    exact RR.fail h
theorem tw_ol {d : Nat → Nat} {E : List Nat} {sh : Nat → Nat} {L : List Nat} (h17 : d 17 < 10) : ∀ f ov p (σ : twS), L.length - p + 1 < f → ov < 2 ^ d 17 → RU d E sh ov L p σ → RR σ (bT_readsOver_17 f 1 σ) (rOl d L f ov p) fun a σ' => RU d E sh a.1 L a.2 σ' := by
  intro f
  induction f with
  | zero => intro ov p σ h; omega
  | succ f ih =>
    intro ov p σ hf ho h
    have hp := h.1.2.1
    have l1 := tkE_le hp
    have hp10 := pow10 (n := d 17) (by omega)
    rw [bT_readsOver_17, rOl, if_neg (by decide), tw_aldL h.2.1 (by decide), show ruD (zrD d) E sh ov (OfNat.ofNat 17) = d 17 from ruD_lo (by decide)]
    refine (tw_isX h.1 (J_pre (by omega))).bx fun v σ1 hv f1 q => ?_
    obtain ⟨g1, g2, g3, g4, g5, g6⟩ := q
    have w1 := h.t g1 g2
    have a1 := tkE_adv hp (by omega)
    rw [w1.2.2, J_addL, show 18 + 34 * d 17 + OfNat.ofNat 33 = 51 + 34 * d 17 by show 18 + 34 * d 17 + 33 = _; omega, tw_ald w1.2.1 (by omega), ruD_ov, g6, tw_has (by omega) (by omega), bd_J, ite_pq (b32_0 _)]
    cases hb : ov.testBit v with
    | true =>
      rw [if_neg (by decide), if_pos rfl]
      exact RR.fail (c := 3) w1.1
    | false =>
      rw [if_pos rfl, if_neg (show ¬ (false = true) from by decide), lt_J, w1.2.2, J_addL, show 18 + 34 * d 17 + OfNat.ofNat 33 = 51 + 34 * d 17 by show 18 + 34 * d 17 + 33 = _; omega, tw_ald w1.2.1 (by omega), ruD_ov, g6, J_shl v (by omega), J_or, ast_J (by omega) (by decide)]
      have t2 := w1.2.1.st (i := 51 + 34 * d 17) (v := ov ||| 2 ^ v)
      rw [ruD_uo] at t2
      have w2 : RU d E sh (ov ||| 2 ^ v) L p (twA σ1 0 (51 + 34 * d 17) (Int32.ofNat (ov ||| 2 ^ v))) := ⟨w1.1.a, t2, w1.2.2⟩
      obtain ⟨σ3, f3, w3, e3⟩ := w2.next
      have ho2 : ov ||| 2 ^ v < 2 ^ d 17 := Nat.or_lt_two_pow ho (Nat.pow_lt_pow_right (by decide) g5)
      have hk := tkK_lt L (tkE L p)
      refine RR.fr (frX.a (j := 51 + 34 * d 17) (x := Int32.ofNat (ov ||| 2 ^ v))) (RR.fr f3.t.x ?_)
      rw [e3, bd_J, w3.1.2.2.1, iJ_eqL (by omega) (by decide)]
      by_cases c : tkK L (tkE L p) = 2
      · rw [if_pos (show tkK L (tkE L p) = OfNat.ofNat 2 from c), if_pos c]
        exact ih _ _ σ3 (by omega) ho2 w3
      · rw [if_neg (show ¬ tkK L (tkE L p) = OfNat.ofNat 2 from c), if_neg c]
        obtain ⟨f, rfl⟩ : ∃ f', f = f' + 1 := ⟨f - 1, by omega⟩
        refine ⟨σ3, frX.rf, w3, ?_⟩
        rw [bT_readsOver_17, if_pos rfl, rz1]
theorem tw_readsOver {d : Nat → Nat} {E : List Nat} {sh : Nat → Nat} {L : List Nat} {p : Nat} {σ : twS} (h17 : d 17 < 10) (h : RU d E sh 0 L p σ) : RR σ (mT_readsOver σ) (rOver d L p) fun a σ' => RU d E sh a.1 L a.2 σ' := by
  have hl := h.1.1.1
  unfold mT_readsOver rOver
  rw [says1 (s := wOvr) h.1, bd_J, ite_pq (b32_0 _)]
  cases hw : isW L p wOvr with
  | false =>
    rw [if_pos rfl, if_neg (show ¬ (false = true) from by decide)]
    exact ⟨σ, frX.rf, h, rz1⟩
  | true =>
    rw [if_neg (by decide), if_pos rfl]
    obtain ⟨σ2, f2, w2, e2⟩ := h.next
    rw [e2, bd_J]
    exact RR.fr f2.t.x (tw_ol h17 FU 0 _ σ2 (by show _ < 4096; omega) (Nat.two_pow_pos _) w2)
theorem tw_rule16 {d : Nat → Nat} {L : List Nat} {p : Nat} (h17 : d 17 < 10) : ∀ j k f (σ : twS), k + j = 34 → j < f → PT L p σ → TW (fun i => if 18 + 34 * d 17 ≤ i ∧ i < 18 + 34 * d 17 + k then 0 else d i) σ → σ.2 25 = Int32.ofNat (18 + 34 * d 17) → ∃ σ', frX σ σ' ∧ PT L p σ' ∧ TW (zrD d) σ' ∧ σ'.2 25 = Int32.ofNat (18 + 34 * d 17) ∧ bT_readsRule_16 f (Int32.ofNat k) σ = bT_readsRule_16 1 (Int32.ofNat 34) σ' := by
  intro j
  induction j with
  | zero =>
    intro k f σ hk hf hP hT h25
    obtain ⟨f, rfl⟩ : ∃ f', f = f' + 1 := ⟨f - 1, by omega⟩
    have hk34 : k = 34 := by omega
    subst hk34
    refine ⟨σ, frX.rf, hP, ?_, h25, ?_⟩
    · have e : (fun i => if 18 + 34 * d 17 ≤ i ∧ i < 18 + 34 * d 17 + 34 then 0 else d i) = zrD d := by
        funext i
        unfold zrD
        rw [show 18 + 34 * d 17 + 34 = 52 + 34 * d 17 by omega]
      rw [← e]; exact hT
    · rw [bT_readsRule_16, bT_readsRule_16, if_pos (by decide), if_pos (by decide)]
  | succ j ih =>
    intro k f σ hk hf hP hT h25
    obtain ⟨f, rfl⟩ : ∃ f', f = f' + 1 := ⟨f - 1, by omega⟩
    have t2 := hT.st (i := 18 + 34 * d 17 + k) (v := 0)
    have e : upN (fun i => if 18 + 34 * d 17 ≤ i ∧ i < 18 + 34 * d 17 + k then 0 else d i) (18 + 34 * d 17 + k) 0 = fun i => if 18 + 34 * d 17 ≤ i ∧ i < 18 + 34 * d 17 + (k + 1) then 0 else d i := by
      funext i
      unfold upN
      dsimp only
      by_cases c : i = 18 + 34 * d 17 + k
      · rw [if_pos c, if_pos (by omega)]
      · rw [if_neg c]
        by_cases c2 : 18 + 34 * d 17 ≤ i ∧ i < 18 + 34 * d 17 + k
        · rw [if_pos c2, if_pos (by omega)]
        · rw [if_neg c2, if_neg (by omega)]
    rw [e] at t2
    obtain ⟨σ2, f2, p2, q2, r2, e2⟩ := ih (k + 1) f _ (by omega) (by omega) (hP.a (j := 18 + 34 * d 17 + k) (x := Int32.ofNat 0)) t2 h25
    refine ⟨σ2, frX.a.trans f2, p2, q2, r2, ?_⟩
    rw [bT_readsRule_16, iJ_leR (by decide) (by omega), if_neg (by show ¬ 34 ≤ k; omega), h25, J_add, ast_J (by omega) (by decide), lt_J, J_addL]
    exact e2
theorem tw_readsRule {d : Nat → Nat} {L : List Nat} {p : Nat} {σ : twS} (hF : FOk d) (h5 : 1 ≤ d 5 ∧ d 5 ≤ 4) (h17 : d 17 < 10) (hP : PT L p σ) (hT : TW d σ) : RR σ (mT_readsRule σ) (rRule d L p) fun a σ' => RU d (gFl a.1) a.2.1 a.2.2.1 L a.2.2.2 σ' := by
  unfold mT_readsRule
  rw [tw_aldL hT (by decide)]
  show RR σ (bd (mT_rule0 (Int32.ofNat (d 17)) σ) _) _ _
  rw [tw_rule0, bd_J, lt_J]
  have f0 : frX σ (twI σ 25 (Int32.ofNat (18 + 34 * d 17))) := frX.i (by decide)
  obtain ⟨σ1, f1, p1, t1, r1, e1⟩ := tw_rule16 h17 34 0 FU (twI σ 25 (Int32.ofNat (18 + 34 * d 17))) (by omega) (by decide) (hP.i (by decide)) (by
    have e : (fun i => if 18 + 34 * d 17 ≤ i ∧ i < 18 + 34 * d 17 + 0 then 0 else d i) = d := by
      funext i
      rw [if_neg (by omega)]
    rw [e]; exact twI_tw hT) twI_k
  rw [show (0 : Int32) = Int32.ofNat 0 from rfl, e1]
  refine RR.fr (f0.trans f1) ?_
  rw [bT_readsRule_16, if_pos (by decide), lt_J, lt_J, lt_J]
  have hlo : ∀ j, j < 5 → zrD d j = d j := fun j hj => zrD_lo (by omega)
  have e00 : emD (zrD d) [] = zrD d := by
    funext j
    unfold emD
    rw [zrD_17]
    by_cases c : j = 18 + 34 * d 17
    · rw [if_pos c, c]
      unfold zrD
      rw [if_pos (by omega)]
      rfl
    · rw [if_neg c, if_neg (by show ¬ (19 + 34 * d 17 ≤ j ∧ j < 19 + 34 * d 17 + 0); omega)]
  generalize hσ : twI (twI (twI σ1 22 (Int32.ofNat 0)) 23 (Int32.ofNat 0)) 24 (Int32.ofNat 0) = σ2
  have w2 : RW (zrD d) [] L p 0 0 0 σ2 := by
    rw [← hσ]
    exact ⟨((p1.i (by decide)).i (by decide)).i (by decide), by rw [e00]; exact t1, (twI_n (by decide)).trans ((twI_n (by decide)).trans twI_k), (twI_n (by decide)).trans twI_k, twI_k, by rw [zrD_17]; exact (twI_n (by decide)).trans ((twI_n (by decide)).trans ((twI_n (by decide)).trans r1))⟩
  have f2 : frX σ1 σ2 := by
    rw [← hσ]
    exact (frX.i (by decide)).trans ((frX.i (by decide)).trans (frX.i (by decide)))
  refine RR.fr f2 ?_
  have hFz : FOk (zrD d) := FOk_cg hlo hF
  have hg := tw_guard (by rw [zrD_17]; exact h17) (rF_ok hFz 12 0) (tw_factor hFz (by rw [zrD_17]; exact h17) 12 DP 0 (by decide) (by decide)) p 0 0 [] σ2 (by decide) w2 (by decide) (by decide) (by decide)
  rw [rF_cg hlo hF.1.2] at hg
  unfold rRule
  refine hg.bx fun a σ3 ha f3 w3 => ?_
  have g := rG_ok (rF_ok hF 12 0) p 0 0 a w2.1.2.1 (by decide) (by decide) ha
  have gl := g.len
  have g21 := g.2.1
  have w3' : RU d (gFl a.1) (fun _ => 0) 0 L a.2.1 σ3 := by
    refine ⟨w3.1, fun i hi => ?_, by have := w3.2.2.2.2.2; rwa [zrD_17] at this⟩
    have hi2 := w3.2.1 i hi
    rw [List.nil_append] at hi2
    rw [hi2]
    congr 1
    unfold ruD
    rw [zrD_17]
    by_cases c1 : 47 + 34 * d 17 ≤ i ∧ i < 51 + 34 * d 17
    · rw [if_pos c1]
      unfold emD
      rw [zrD_17, if_neg (by omega), if_neg (by omega)]
      unfold zrD
      rw [if_pos (by omega)]
    · rw [if_neg c1]
      by_cases c2 : i = 51 + 34 * d 17
      · rw [if_pos c2]
        unfold emD
        rw [zrD_17, if_neg (by omega), if_neg (by omega)]
        unfold zrD
        rw [if_pos (by omega)]
      · rw [if_neg c2]
  refine (tw_word (s := wGiv) w3'.1).bx fun q σ4 hq f4 q4 => ?_
  have w4 := w3'.t q4.1.t q4.2
  refine (tw_readsParts h5 h17 w4).bx fun s σ5 hs f5 w5 => ?_
  have := tw_readsOver h17 w5
  refine this.bx fun o σ6 ho f6 w6 => ?_
  exact ⟨σ6, frX.rf, w6, rz1⟩
