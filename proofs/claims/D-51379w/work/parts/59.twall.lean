/-! THE PLAIN LAW: how the twin reads texts -/
set_option maxRecDepth 100000
/-- the twin reads lines -/
def RL (d : Nat → Nat) (L : List Nat) (p : Nat) (σ : twS) : Prop := PT L p σ ∧ TW d σ
theorem RL.t {d : Nat → Nat} {L : List Nat} {p p' : Nat} {a b : twS} (h : RL d L p a) (f : frT a b) (hp : PT L p' b) : RL d L p' b := ⟨hp, h.2.fr (by rw [f.1])⟩
theorem RL.st {d : Nat → Nat} {L : List Nat} {p i v : Nat} {a : twS} (h : RL d L p a) : RL (upN d i v) L p (twA a 0 i (Int32.ofNat v)) := ⟨h.1.a, h.2.st⟩
theorem RL.next {d : Nat → Nat} {L : List Nat} {p : Nat} {a : twS} (h : RL d L p a) : ∃ b, fr4 a b ∧ RL d L (tkE L p) b ∧ mT_next a = some (0, b) := by
  obtain ⟨b, f, h1, e⟩ := h.1.next
  exact ⟨b, f, h.t f.t h1, e⟩
theorem tw_readsHeir {W : Wl} {L : List Nat} {p : Nat} {σ : twS} (hW : WO W) (h : RL W.1 L p σ) : RR σ (mT_readsHeir σ) (pb (rNum L (tkE L p) 0 (W.1 5 - 1)) fun h => pb (rWord L h.2 wFre) fun q => pb (rNum L q 0 9999) fun a => pb (rWord L a.2 wRat) fun q2 => pb (rNum L q2 0 60) fun b => .inr (((upN (upN W.1 (9 + 2 * h.1) a.1) (10 + 2 * h.1) b.1, W.2), b.2) : Wl × Nat)) fun a σ' => RL a.1.1 L a.2 σ' := by
  have h5 := hW.1.h
  unfold mT_readsHeir
  obtain ⟨σ1, f1, w1, e1⟩ := h.next
  refine RR.fr f1.t.x ?_
  rw [e1, bd_J, tw_aldL w1.2 (by decide), J_subL (show OfNat.ofNat 1 ≤ W.1 (OfNat.ofNat 5) from h5.1)]
  refine (tw_number (lo := 0) (hi := W.1 5 - 1) w1.1 (by decide) (by omega)).bx fun x σ2 hx f2 q => ?_
  have w2 := w1.t q.1 q.2.1
  have hx4 : x.1 < 4 := by have := q.2.2.1.2; omega
  rw [lt_J, q.2.2.2.2]
  refine (tw_word (s := wFre) w2.1).bx fun q1 σ3 hq1 f3 q3 => ?_
  have w3 := w2.t q3.1.t q3.2
  refine (tw_number (lo := 0) (hi := 9999) w3.1 (by decide) (by decide)).bx fun a σ4 ha f4 q4 => ?_
  have w4 := w3.t q4.1 q4.2.1
  rw [q4.2.2.2.2, J_mulR, J_addR, show OfNat.ofNat 9 + OfNat.ofNat 2 * x.1 = 9 + 2 * x.1 from rfl, ast_J (by omega) (by decide)]
  refine RR.fr (frX.a (j := 9 + 2 * x.1) (x := Int32.ofNat a.1)) ?_
  have w5 := w4.st (i := 9 + 2 * x.1) (v := a.1)
  refine (tw_word (s := wRat) w5.1).bx fun q2 σ6 hq2 f6 q6 => ?_
  have w6 := w5.t q6.1.t q6.2
  refine (tw_number (lo := 0) (hi := 60) w6.1 (by decide) (by decide)).bx fun b σ7 hb f7 q7 => ?_
  have w7 := w6.t q7.1 q7.2.1
  have w8 := w7.st (i := 10 + 2 * x.1) (v := b.1)
  refine ⟨_, frX.a, w8, ?_⟩
  rw [q7.2.2.2.2, J_addL, show 9 + 2 * x.1 + OfNat.ofNat 1 = 10 + 2 * x.1 by show 9 + 2 * x.1 + 1 = _; omega, ast_J (by omega) (by decide), rz1]
theorem RR.id {α : Type} {σ : twS} {r : Option (Int32 × twS)} {x : PR α} {Q : α → twS → Prop} (h : RR σ r x Q) : RR σ (bd r fun v σ_2 => rz v σ_2) x Q := by
  cases x with
  | inl e =>
    obtain ⟨σ', f', h1, rfl⟩ := h
    exact ⟨σ', f', h1, by rw [bd_J, rz0]⟩
  | inr a =>
    obtain ⟨σ', f', h1, rfl⟩ := h
    exact ⟨σ', f', h1, by rw [bd_J, rz1]⟩
theorem RR.idm {α β : Type} {σ : twS} {r : Option (Int32 × twS)} {x : PR α} {Q : α → twS → Prop} {Q2 : β → twS → Prop} {f : α → β} (h : RR σ r x Q) (hq : ∀ a σ', Q a σ' → Q2 (f a) σ') : RR σ (bd r fun v σ_2 => rz v σ_2) (pb x fun a => .inr (f a)) Q2 := by
  cases x with
  | inl e =>
    obtain ⟨σ', f', h1, rfl⟩ := h
    exact ⟨σ', f', h1, by rw [bd_J, rz0]⟩
  | inr a =>
    obtain ⟨σ', f', h1, rfl⟩ := h
    exact ⟨σ', f', hq a σ' h1, by rw [bd_J, rz1]⟩
theorem tw_readsLine {W : Wl} {L : List Nat} {p : Nat} {σ : twS} (hW : WO W) (h : RL W.1 L p σ) : RR σ (mT_readsLine σ) (rLine W L p) fun a σ' => RL a.1.1 L a.2 σ' := by
  have h17 := hW.1.r
  unfold mT_readsLine rLine
  rw [says1 (s := wRul) h.1, bd_J, ite_pq (b32_0 _)]
  cases hw : isW L p wRul with
  | true =>
    rw [if_neg (by decide), if_pos rfl, tw_aldL h.2 (by decide), iJ_eqL (by show W.1 17 < _; omega) (by decide)]
    by_cases c : W.1 17 = 10
    · rw [if_pos (show W.1 (OfNat.ofNat 17) = OfNat.ofNat 10 from c), if_pos c]
      exact RR.fail (c := 4) h.1
    · rw [if_neg (show ¬ W.1 (OfNat.ofNat 17) = OfNat.ofNat 10 from c), if_neg c]
      obtain ⟨σ1, f1, w1, e1⟩ := h.next
      rw [e1, bd_J]
      refine RR.fr f1.t.x ((tw_readsRule hW.1.1 hW.1.h (by omega) w1.1 w1.2).bx fun a σ2 ha f2 w2 => ?_)
      rw [tw_aldL w2.2.1 (by decide), show ruD (zrD W.1) (gFl a.1) a.2.1 a.2.2.1 (OfNat.ofNat 17) = W.1 17 from ruD_lo (by decide), J_addL, show (17 : Int32) = Int32.ofNat 17 from rfl, ast_J (by decide) (by decide)]
      exact ⟨_, frX.a, ⟨w2.1.a, w2.2.1.st⟩, rz1⟩
  | false =>
    rw [if_pos rfl, if_neg (show ¬ (false = true) from by decide), says1 (s := wHei) h.1, bd_J, ite_pq (b32_0 _)]
    cases hw2 : isW L p wHei with
    | true =>
      rw [if_neg (by decide), if_pos rfl]
      exact (tw_readsHeir hW h).id
    | false =>
      rw [if_pos rfl, if_neg (show ¬ (false = true) from by decide)]
      refine (tw_word (s := wEst) h.1).bx fun q σ1 hq f1 q1 => ?_
      have w1 := h.t q1.1.t q1.2
      refine (tw_number (lo := 0) (hi := 9999) w1.1 (by decide) (by decide)).bx fun a σ2 ha f2 q2 => ?_
      have w2 := w1.t q2.1 q2.2.1
      rw [q2.2.2.2.2, show (7 : Int32) = Int32.ofNat 7 from rfl, ast_J (by decide) (by decide)]
      exact ⟨_, frX.a, w2.st, rz1⟩
theorem tw_ls {L : List Nat} : ∀ f (W : Wl) p (σ : twS), L.length - p < f → WO W → RL W.1 L p σ → RR σ (bT_reads_9 f σ) (rLs L f W p) fun W' σ' => TW W'.1 σ' := by
  intro f
  induction f with
  | zero => intro W p σ h; omega
  | succ f ih =>
    intro W p σ hf hW h
    have hp := h.1.2.1
    have hk := tkK_lt L p
    rw [bT_reads_9, rLs, h.1.2.2.1, iJ_eqL (by omega) (by decide)]
    by_cases c : tkK L p = 0
    · rw [if_pos (show tkK L p = OfNat.ofNat 0 from c), if_pos c]
      exact ⟨σ, frX.rf, h.2, rz1⟩
    · rw [if_neg (show ¬ tkK L p = OfNat.ofNat 0 from c), if_neg c]
      refine (tw_readsLine hW h).bx fun a σ1 ha f1 w1 => ?_
      obtain ⟨r1, r2⟩ := rLine_ok hW hp ha
      refine (tw_sign (c := 59) w1.1 (by decide)).bx fun q σ2 hq f2 q2 => ?_
      obtain ⟨k1, k2⟩ := rSign_ok hq
      have a2 := tkE_adv r1.2 (by omega)
      exact ih a.1 q σ2 (by omega) r2 (w1.t q2.1.t q2.2)
theorem FcP.d0 : FcP d0N := ⟨fun _ _ => rfl, by decide, fun f hf => absurd hf (by show ¬ f < 0; omega)⟩
theorem rz_1' {σ : twS} : rz (1 : Int32) σ = some (1, σ) := rfl
/-- the rest of the first line -/
theorem tw_facts2 {d : Nat → Nat} {L : List Nat} {p : Nat} {σ : twS} (h : RL d L p σ) : ∀ n, RR σ (bT_readsFacts_13 (n + 1) 0 σ) (pb (rSign L p 59) fun q1 => pb (rWord L q1 wHrs) fun q2 => pb (rNum L q2 1 4) fun h => pb (rWord L h.2 wRes) fun q3 => pb (rNum L q3 0 (h.1 - 1)) fun r => pb (rSign L r.2 59) fun q4 => .inr (((upN (upN d 5 h.1) 6 r.1), q4) : (Nat → Nat) × Nat)) fun a σ' => RL a.1 L a.2 σ' := by
  intro n
  rw [bT_readsFacts_13, if_pos rfl]
  refine (tw_sign (c := 59) h.1 (by decide)).bx fun q σ1 hq f1 g1 => ?_
  have w1 := h.t g1.1.t g1.2
  refine (tw_word (s := wHrs) w1.1).bx fun q2 σ2 hq2 f2 g2 => ?_
  have w2 := w1.t g2.1.t g2.2
  refine (tw_number (lo := 1) (hi := 4) w2.1 (by decide) (by decide)).bx fun x σ3 hx f3 g3 => ?_
  have w3 := w2.t g3.1 g3.2.1
  have hx1 := g3.2.2.1
  rw [g3.2.2.2.2, show (5 : Int32) = Int32.ofNat 5 from rfl, ast_J (by decide) (by decide)]
  refine RR.fr (frX.a (j := 5) (x := Int32.ofNat x.1)) ?_
  have w4 := w3.st (i := 5) (v := x.1)
  refine (tw_word (s := wRes) w4.1).bx fun q3 σ5 hq3 f5 g5 => ?_
  have w5 := w4.t g5.1.t g5.2
  rw [tw_ald w5.2 (by decide), upN_at, J_subL (show OfNat.ofNat 1 ≤ x.1 from hx1.1)]
  refine (tw_number (lo := 0) (hi := x.1 - 1) w5.1 (by decide) (by omega)).bx fun r σ6 hr f6 g6 => ?_
  have w6 := w5.t g6.1 g6.2.1
  rw [g6.2.2.2.2, show (6 : Int32) = Int32.ofNat 6 from rfl, ast_J (by decide) (by decide)]
  refine RR.fr (frX.a (j := 6) (x := Int32.ofNat r.1)) ?_
  have w7 := w6.st (i := 6) (v := r.1)
  exact (tw_sign (c := 59) w7.1 (by decide)).idm (f := fun q4 => (upN (upN d 5 x.1) 6 r.1, q4)) fun q4 σ8 g8 => w7.t g8.1.t g8.2
theorem tw_fl {L : List Nat} : ∀ f d p (σ : twS), L.length - p + 1 < f → FcP d → RL d L p σ → RR σ (bT_readsFacts_13 f 1 σ) (pb (rFl L f d p) fun a => pb (rSign L a.2 59) fun q1 => pb (rWord L q1 wHrs) fun q2 => pb (rNum L q2 1 4) fun h => pb (rWord L h.2 wRes) fun q3 => pb (rNum L q3 0 (h.1 - 1)) fun r => pb (rSign L r.2 59) fun q4 => .inr (((upN (upN a.1 5 h.1) 6 r.1), q4) : (Nat → Nat) × Nat)) fun a σ' => RL a.1 L a.2 σ' := by
  intro f
  induction f with
  | zero => intro d p σ h; omega
  | succ f ih =>
    intro d p σ hf hd h
    have hp := h.1.2.1
    have h04 := hd.2.1
    rw [bT_readsFacts_13, if_neg (by decide)]
    have key : ∀ {γ : Type} (x : PR Nat) (y : Nat → PR ((Nat → Nat) × Nat)) (z : (Nat → Nat) × Nat → PR γ), pb (pb x y) z = pb x fun a => pb (y a) z := by
      intro γ x y z
      cases x <;> rfl
    have e : rFl L (f + 1) d p = pb (rIs L p 2 4) fun v => if d 0 = 4 then .inl (flt L p 4) else if tkK L (tkE L p) = 2 then rFl L f (upN (upN d (1 + d 0) v) 0 (d 0 + 1)) (tkE L p) else .inr (upN (upN d (1 + d 0) v) 0 (d 0 + 1), tkE L p) := rfl
    rw [e, key]
    refine (tw_isNumber (lo := 2) (hi := 4) h.1 (by decide) (by decide)).bx fun v σ1 hv f1 q => ?_
    obtain ⟨g1, g2, g3, g4, g5, g6⟩ := q
    have w1 := h.t g1 g2
    have a1 := tkE_adv hp (by omega)
    have l1 := tkE_le hp
    rw [tw_aldL w1.2 (by decide), iJ_eqL (by show d 0 < _; omega) (by decide)]
    by_cases c : d 0 = 4
    · rw [if_pos (show d (OfNat.ofNat 0) = OfNat.ofNat 4 from c), if_pos c]
      exact RR.fail (c := 4) w1.1
    · rw [if_neg (show ¬ d (OfNat.ofNat 0) = OfNat.ofNat 4 from c), if_neg c, tw_aldL w1.2 (by decide), J_addR, g6, show (OfNat.ofNat 1 : Nat) + d (OfNat.ofNat 0) = 1 + d 0 from rfl, ast_J (show 1 + d 0 < 358 by omega) (by decide)]
      have w2 := w1.st (i := 1 + d 0) (v := v)
      have e0 : upN d (1 + d 0) v (OfNat.ofNat 0) = d 0 := upN_ne (by show 0 ≠ 1 + d 0; omega)
      rw [tw_aldL w2.2 (by decide), e0, J_addL, show (0 : Int32) = Int32.ofNat 0 from rfl, ast_J (by decide) (by decide)]
      have w3 := w2.st (i := 0) (v := d 0 + 1)
      obtain ⟨σ4, f4, w4, e4⟩ := w3.next
      have hk := tkK_lt L (tkE L p)
      have e4' : mT_next (twA (twA σ1 0 (1 + d 0) (Int32.ofNat v)) 0 0 (Int32.ofNat (d 0 + OfNat.ofNat 1))) = some (0, σ4) := e4
      refine RR.fr ((frX.a (j := 1 + d 0) (x := Int32.ofNat v)).trans ((frX.a (j := 0) (x := Int32.ofNat (d 0 + 1))).trans f4.t.x)) ?_
      rw [e4', bd_J, w4.1.2.2.1, iJ_eqL (by omega) (by decide)]
      have hd2 := hd.up c g5
      by_cases c2 : tkK L (tkE L p) = 2
      · rw [if_pos (show tkK L (tkE L p) = OfNat.ofNat 2 from c2), if_pos c2]
        exact ih _ _ σ4 (by omega) hd2 w4
      · rw [if_neg (show ¬ tkK L (tkE L p) = OfNat.ofNat 2 from c2), if_neg c2]
        obtain ⟨f, rfl⟩ : ∃ f', f = f' + 1 := ⟨f - 1, by omega⟩
        exact tw_facts2 w4 f
theorem tw_reads {L : List Nat} {σ : twS} (h : RL d0N L 0 σ) : RR σ (mT_reads σ) (rAll L) fun W' σ' => TW W'.1 σ' := by
  have hl := h.1.1.1
  unfold mT_reads rAll
  have hf : RR σ (mT_readsFacts σ) (rFacts d0N L 0) fun a σ' => RL a.1 L a.2 σ' := by
    unfold mT_readsFacts rFacts
    refine (tw_word (s := wFac) h.1).bx fun q σ1 hq f1 g1 => ?_
    exact tw_fl FU d0N q σ1 (by show _ < 4096; omega) FcP.d0 (h.t g1.1.t g1.2)
  refine hf.bx fun a σ1 ha f1 w1 => ?_
  obtain ⟨r1, r2⟩ := rFacts_ok (t := fun _ => .null) ha
  exact tw_ls FU (a.1, fun _ => .null) a.2 σ1 (by show _ < 4096; omega) r2 w1
