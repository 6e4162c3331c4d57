/-! THE PLAIN LAW: guards that are read -/
set_option maxRecDepth 100000
/-- a guard, where it ends, comparisons and nots so far -/
abbrev G4 : Type := Term × Nat × Nat × Nat
def wAnd : List Nat := [97, 110, 100]
def wOr : List Nat := [111, 114]
def wNot : List Nat := [110, 111, 116]
def wAlw : List Nat := [97, 108, 119, 97, 121, 115]
def rTl (F : Nat → Nat → Nat → PR G4) (L : List Nat) : Nat → G4 → PR G4
  | 0, _ => .inl 0
  | f + 1, a => if isW L a.2.1 wAnd then pb (F (tkE L a.2.1) a.2.2.1 a.2.2.2) fun b => rTl F L f (.mul a.1 b.1, b.2) else .inr a
def rT (F : Nat → Nat → Nat → PR G4) (L : List Nat) (p fc nt : Nat) : PR G4 := pb (F p fc nt) fun a => rTl F L FU a
def rGl (F : Nat → Nat → Nat → PR G4) (L : List Nat) : Nat → G4 → PR G4
  | 0, _ => .inl 0
  | f + 1, a => if isW L a.2.1 wOr then pb (rT F L (tkE L a.2.1) a.2.2.1 a.2.2.2) fun b => rGl F L f (.add a.1 b.1, b.2) else .inr a
def rG (F : Nat → Nat → Nat → PR G4) (L : List Nat) (p fc nt : Nat) : PR G4 := pb (rT F L p fc nt) fun a => rGl F L FU a
def howN (k : Nat) : Nat := if k = 61 then 0 else if k = 60 then 1 else if k = 62 then 2 else 3
def factN (L : List Nat) (p : Nat) : Nat := L.getD (tkO L p) 0 - 97
def rCmp (d : Nat → Nat) (L : List Nat) (p fc nt : Nat) : PR G4 := if (tkK L p = 1 ∧ tkE L p - tkO L p = 1) ∧ factN L p < d 0 then (if fc = 12 then .inl (flt L p 4) else if howN (tkK L (tkE L p)) = 3 then .inl (flt L (tkE L p) 1) else pb (rNum L (tkE L (tkE L p)) 0 (d (1 + factN L p) - 1)) fun a => .inr (.arg (10 + 16 * factN L p + 4 * howN (tkK L (tkE L p)) + a.1), a.2, fc + 1, nt)) else .inl (flt L p 1)
def rFo (R : Nat → Nat → Nat → Nat → PR G4) (d : Nat → Nat) (L : List Nat) (i p fc nt : Nat) : PR G4 := if isW L p wNot then (if nt = 5 then .inl (flt L p 4) else pb (R i (tkE L p) fc (nt + 1)) fun a => .inr (.length a.1, a.2)) else if tkK L p = 40 then (if i = 5 then .inl (flt L p 4) else pb (rG (R (i + 1)) L (tkE L p) fc nt) fun a => pb (rSign L a.2.1 41) fun p' => .inr (a.1, p', a.2.2)) else if isW L p wAlw then (if fc = 12 then .inl (flt L p 4) else .inr (.null, tkE L p, fc + 1, nt)) else rCmp d L p fc nt
def rF (d : Nat → Nat) (L : List Nat) : Nat → Nat → Nat → Nat → Nat → PR G4
  | 0 => fun _ _ _ _ => .inl 0
  | n + 1 => rFo (rF d L n) d L
def GP (d : Nat → Nat) (L : List Nat) (p fc nt : Nat) (a : G4) : Prop := (p < a.2.1 ∧ a.2.1 ≤ L.length) ∧ (a.2.2.1 ≤ 12 ∧ a.2.2.2 ≤ 5) ∧ gOk d a.1 ∧ fc + gLv a.1 = a.2.2.1 ∧ nt + gNt a.1 = a.2.2.2
def GPF (d : Nat → Nat) (L : List Nat) (F : Nat → Nat → Nat → PR G4) : Prop := ∀ p fc nt a, p ≤ L.length → fc ≤ 12 → nt ≤ 5 → F p fc nt = .inr a → GP d L p fc nt a
theorem pb_inr {α β : Type} {x : PR α} {f : α → PR β} {b : β} (h : pb x f = .inr b) : ∃ a, x = .inr a ∧ f a = .inr b := by
  cases x with
  | inl e => cases h
  | inr a => exact ⟨a, rfl, h⟩
theorem isW_k {L : List Nat} {p : Nat} {s : List Nat} (h : isW L p s = true) : tkK L p = 1 := (of_decide_eq_true h).1
theorem rTl_ok {d : Nat → Nat} {L : List Nat} {F : Nat → Nat → Nat → PR G4} (hF : GPF d L F) : ∀ f a b p fc nt, GP d L p fc nt a → rTl F L f a = .inr b → GP d L p fc nt b := by
  intro f
  induction f with
  | zero => intro a b p fc nt _ h; cases h
  | succ f ih =>
    intro a b p fc nt ha h
    unfold rTl at h
    split at h
    · next hw =>
      obtain ⟨c, h1, h2⟩ := pb_inr h
      have hk := isW_k hw
      have ha1 := tkE_adv ha.1.2 (by omega)
      have hc := hF _ _ _ _ (tkE_le ha.1.2).2 ha.2.1.1 ha.2.1.2 h1
      refine ih (.mul a.1 c.1, c.2) _ p fc nt ⟨⟨by have := ha.1; have := hc.1; show p < c.2.1; omega, hc.1.2⟩, hc.2.1, ⟨ha.2.2.1, hc.2.2.1⟩, ?_, ?_⟩ h2
      · have h3 := ha.2.2.2.1
        have h4 := hc.2.2.2.1
        show fc + (gLv a.1 + gLv c.1) = c.2.2.1
        omega
      · have h3 := ha.2.2.2.2
        have h4 := hc.2.2.2.2
        show nt + (gNt a.1 + gNt c.1) = c.2.2.2
        omega
    · cases h; exact ha
theorem rT_ok {d : Nat → Nat} {L : List Nat} {F : Nat → Nat → Nat → PR G4} (hF : GPF d L F) : GPF d L (rT F L) := by
  intro p fc nt a hp hfc hnt h
  obtain ⟨c, h1, h2⟩ := pb_inr h
  exact rTl_ok hF _ _ _ _ _ _ (hF p fc nt c hp hfc hnt h1) h2
theorem rGl_ok {d : Nat → Nat} {L : List Nat} {F : Nat → Nat → Nat → PR G4} (hF : GPF d L F) : ∀ f a b p fc nt, GP d L p fc nt a → rGl F L f a = .inr b → GP d L p fc nt b := by
  intro f
  induction f with
  | zero => intro a b p fc nt _ h; cases h
  | succ f ih =>
    intro a b p fc nt ha h
    unfold rGl at h
    split at h
    · next hw =>
      obtain ⟨c, h1, h2⟩ := pb_inr h
      have hk := isW_k hw
      have ha1 := tkE_adv ha.1.2 (by omega)
      have hc := rT_ok hF _ _ _ _ (tkE_le ha.1.2).2 ha.2.1.1 ha.2.1.2 h1
      refine ih (.add a.1 c.1, c.2) _ p fc nt ⟨⟨by have := ha.1; have := hc.1; show p < c.2.1; omega, hc.1.2⟩, hc.2.1, ⟨ha.2.2.1, hc.2.2.1⟩, ?_, ?_⟩ h2
      · have h3 := ha.2.2.2.1
        have h4 := hc.2.2.2.1
        show fc + (gLv a.1 + gLv c.1) = c.2.2.1
        omega
      · have h3 := ha.2.2.2.2
        have h4 := hc.2.2.2.2
        show nt + (gNt a.1 + gNt c.1) = c.2.2.2
        omega
    · cases h; exact ha
theorem rG_ok {d : Nat → Nat} {L : List Nat} {F : Nat → Nat → Nat → PR G4} (hF : GPF d L F) : GPF d L (rG F L) := by
  intro p fc nt a hp hfc hnt h
  obtain ⟨c, h1, h2⟩ := pb_inr h
  exact rGl_ok hF _ _ _ _ _ _ (rT_ok hF p fc nt c hp hfc hnt h1) h2
theorem rIs_ok {L : List Nat} {p lo hi v : Nat} (h : rIs L p lo hi = .inr v) : tkK L p = 2 ∧ v = tkV L p ∧ lo ≤ v ∧ v ≤ hi := by
  unfold rIs at h
  split at h
  · next hk =>
    split at h
    · next h2 => cases h; exact ⟨hk, rfl, h2⟩
    · cases h
  · cases h
theorem rNum_ok {L : List Nat} {p lo hi : Nat} {a : Nat × Nat} (h : rNum L p lo hi = .inr a) : tkK L p = 2 ∧ a = (tkV L p, tkE L p) ∧ lo ≤ a.1 ∧ a.1 ≤ hi := by
  obtain ⟨v, h1, h2⟩ := pb_inr h
  obtain ⟨h3, h4, h5, h6⟩ := rIs_ok h1
  cases h2
  exact ⟨h3, by rw [h4], h5, h6⟩
theorem rSign_ok {L : List Nat} {p c q : Nat} (h : rSign L p c = .inr q) : tkK L p = c ∧ q = tkE L p := by
  unfold rSign at h
  split at h
  · next hk => cases h; exact ⟨hk, rfl⟩
  · cases h
theorem rWord_ok {L : List Nat} {p q : Nat} {s : List Nat} (h : rWord L p s = .inr q) : isW L p s = true ∧ q = tkE L p := by
  unfold rWord at h
  split at h
  · next hk => cases h; exact ⟨hk, rfl⟩
  · cases h
theorem howN_k {k : Nat} (h : howN k ≠ 3) : k ≠ 0 ∧ howN k ≤ 2 := by
  unfold howN at h ⊢
  split
  · omega
  · split
    · omega
    · split
      · omega
      · next h1 h2 h3 => rw [if_neg h1, if_neg h2, if_neg h3] at h; exact absurd rfl h
theorem rCmp_ok {d : Nat → Nat} (hF : FOk d) {L : List Nat} : GPF d L (rCmp d L) := by
  intro p fc nt a hp hfc hnt h
  unfold rCmp at h
  split at h
  · next c =>
    split at h
    · cases h
    · next c12 =>
      split at h
      · cases h
      · next ch =>
        obtain ⟨b, h1, h2⟩ := pb_inr h
        obtain ⟨hk, hb, hb2, hb3⟩ := rNum_ok h1
        have e1 := tkE_le hp
        have e2 := tkE_le e1.2
        have e3 := tkE_le e2.2
        have a1 := tkE_adv hp (by omega)
        have hh := howN_k ch
        have a2 := tkE_adv e1.2 hh.1
        have a3 := tkE_adv e2.2 (by omega)
        have hv := hF.2 _ c.2
        have hf4 := hF.1
        have hb4 : b.2 = tkE L (tkE L (tkE L p)) := by rw [hb]
        cases h2
        refine ⟨⟨by show p < b.2; omega, by show b.2 ≤ _; omega⟩, ⟨by show fc + 1 ≤ 12; omega, hnt⟩, ?_, rfl, rfl⟩
        show sOk d (10 + 16 * factN L p + 4 * howN (tkK L (tkE L p)) + b.1)
        generalize factN L p = f at c hb3 hv ⊢
        generalize howN (tkK L (tkE L p)) = g at hh ⊢
        have q1 : (10 + 16 * f + 4 * g + b.1 - 10) / 16 = f := by omega
        refine ⟨by omega, by rw [q1]; exact c.2, by rw [q1]; omega, by omega⟩
  · cases h
theorem rF_ok {d : Nat → Nat} (hF : FOk d) {L : List Nat} : ∀ n i, GPF d L (rF d L n i) := by
  intro n
  induction n with
  | zero => intro i p fc nt a _ _ _ h; cases h
  | succ n ih =>
    intro i p fc nt a hp hfc hnt h
    have h : rFo (rF d L n) d L i p fc nt = .inr a := h
    have e1 := tkE_le hp
    unfold rFo at h
    split at h
    · next hw =>
      have a1 := tkE_adv hp (by have := isW_k hw; omega)
      split at h
      · cases h
      · obtain ⟨b, h1, h2⟩ := pb_inr h
        have hb := ih i _ _ _ _ e1.2 hfc (by omega) h1
        cases h2
        refine ⟨⟨by have := hb.1; show p < b.2.1; omega, hb.1.2⟩, hb.2.1, hb.2.2.1, hb.2.2.2.1, ?_⟩
        have h3 := hb.2.2.2.2
        show nt + (gNt b.1 + 1) = b.2.2.2
        omega
    · split at h
      · next hk =>
        have a1 := tkE_adv hp (by omega)
        split at h
        · cases h
        · obtain ⟨b, h1, h2⟩ := pb_inr h
          have hb := rG_ok (ih (i + 1)) _ _ _ _ e1.2 hfc hnt h1
          obtain ⟨p', h3, h4⟩ := pb_inr h2
          obtain ⟨h5, h6⟩ := rSign_ok h3
          have a2 := tkE_adv hb.1.2 (by omega)
          have e2 := tkE_le hb.1.2
          cases h4
          exact ⟨⟨by have := hb.1; show p < p'; omega, by show p' ≤ _; omega⟩, hb.2.1, hb.2.2.1, hb.2.2.2.1, hb.2.2.2.2⟩
      · split at h
        · next hw =>
          have a1 := tkE_adv hp (by have := isW_k hw; omega)
          split at h
          · cases h
          · cases h
            exact ⟨⟨a1, e1.2⟩, ⟨by show fc + 1 ≤ 12; omega, hnt⟩, trivial, rfl, rfl⟩
        · exact rCmp_ok hF p fc nt a hp hfc hnt h
/-- signs are written behind the others -/
def emD (d : Nat → Nat) (E : List Nat) : Nat → Nat := fun j => if j = 18 + 34 * d 17 then E.length else if 19 + 34 * d 17 ≤ j ∧ j < 19 + 34 * d 17 + E.length then E.getD (j - (19 + 34 * d 17)) 0 else d j
theorem emD_lo {d : Nat → Nat} {E : List Nat} {j : Nat} (h : j < 18 + 34 * d 17) : emD d E j = d j := by
  unfold emD
  rw [if_neg (by omega), if_neg (by omega)]
theorem emD_len {d : Nat → Nat} {E : List Nat} : emD d E (18 + 34 * d 17) = E.length := by
  unfold emD
  rw [if_pos rfl]
theorem emD_s {d : Nat → Nat} {E : List Nat} {s : Nat} : upN (upN (emD d E) (19 + 34 * d 17 + E.length) s) (18 + 34 * d 17) (E.length + 1) = emD d (E ++ [s]) := by
  funext j
  unfold upN emD
  by_cases c1 : j = 18 + 34 * d 17
  · rw [if_pos c1, if_pos c1, List.length_append]; rfl
  · rw [if_neg c1, if_neg c1, List.length_append, if_neg c1]
    by_cases c2 : j = 19 + 34 * d 17 + E.length
    · rw [if_pos c2, if_pos (by show 19 + 34 * d 17 ≤ j ∧ j < 19 + 34 * d 17 + (E.length + 1); omega), c2, show 19 + 34 * d 17 + E.length - (19 + 34 * d 17) = E.length + 0 by omega, getD_r]
      rfl
    · rw [if_neg c2]
      by_cases c3 : 19 + 34 * d 17 ≤ j ∧ j < 19 + 34 * d 17 + E.length
      · rw [if_pos c3, if_pos (by show 19 + 34 * d 17 ≤ j ∧ j < 19 + 34 * d 17 + (E.length + 1); omega), getD_l (by omega)]
      · rw [if_neg c3, if_neg (by show ¬ (19 + 34 * d 17 ≤ j ∧ j < 19 + 34 * d 17 + (E.length + 1)); omega)]
/-- the twin reads a guard: signs E are written, it stands behind p -/
def RW (d : Nat → Nat) (E L : List Nat) (p fc nt i : Nat) (σ : twS) : Prop := PT L p σ ∧ TW (emD d E) σ ∧ σ.2 22 = Int32.ofNat fc ∧ σ.2 23 = Int32.ofNat nt ∧ σ.2 24 = Int32.ofNat i ∧ σ.2 25 = Int32.ofNat (18 + 34 * d 17)
theorem RW.t {d : Nat → Nat} {E L : List Nat} {p p' fc nt i : Nat} {a b : twS} (h : RW d E L p fc nt i a) (f : frT a b) (hp : PT L p' b) : RW d E L p' fc nt i b := ⟨hp, h.2.1.fr (by rw [f.1]), (f.2 22 (by decide)).trans h.2.2.1, (f.2 23 (by decide)).trans h.2.2.2.1, (f.2 24 (by decide)).trans h.2.2.2.2.1, (f.2 25 (by decide)).trans h.2.2.2.2.2⟩
theorem RW.next {d : Nat → Nat} {E L : List Nat} {p fc nt i : Nat} {a : twS} (h : RW d E L p fc nt i a) : ∃ b, frX a b ∧ RW d E L (tkE L p) fc nt i b ∧ mT_next a = some (0, b) := by
  obtain ⟨b, f, h1, e⟩ := h.1.next
  exact ⟨b, f.t.x, h.t f.t h1, e⟩
theorem PT.i {L : List Nat} {p : Nat} {a : twS} {k : Nat} {x : Int32} (h : PT L p a) (hk : 20 < k) : PT L p (twI a k x) := h.f4 (fun j _ hj => twI_n (by omega)) rfl (twI_n (by omega))
theorem PT.a {L : List Nat} {p : Nat} {a : twS} {j : Nat} {x : Int32} (h : PT L p a) : PT L p (twA a 0 j x) := h.f4 (fun _ _ _ => rfl) (by simp [twA]) rfl
theorem tw_emits {d : Nat → Nat} {E L : List Nat} {p fc nt i s : Nat} {σ : twS} (h : RW d E L p fc nt i σ) (h17 : d 17 < 10) (hE : E.length < 28) : ∃ σ', frX σ σ' ∧ RW d (E ++ [s]) L p fc nt i σ' ∧ mT_emits (Int32.ofNat s) σ = some (0, σ') := by
  obtain ⟨hP, hT, h22, h23, h24, h25⟩ := h
  have e0 : (Int32.ofNat (18 + 34 * d 17) + 0 : Int32) = Int32.ofNat (18 + 34 * d 17) := by rw [J_addL]; rfl
  have hT2 := hT.st (i := 19 + 34 * d 17 + E.length) (v := s)
  have e25 : (twA σ 0 (19 + 34 * d 17 + E.length) (Int32.ofNat s)).2 25 = Int32.ofNat (18 + 34 * d 17) := h25
  have e3 : upN (emD d E) (19 + 34 * d 17 + E.length) s (18 + 34 * d 17) = E.length := by rw [upN_ne (by omega), emD_len]
  have hT3 := hT2.st (i := 18 + 34 * d 17) (v := E.length + 1)
  rw [emD_s] at hT3
  refine ⟨twA (twA σ 0 (19 + 34 * d 17 + E.length) (Int32.ofNat s)) 0 (18 + 34 * d 17) (Int32.ofNat (E.length + 1)), frX.a.trans frX.a, ⟨hP.a.a, hT3, h22, h23, h24, h25⟩, ?_⟩
  unfold mT_emits
  rw [h25, e0, tw_ald hT (by omega), emD_len, J_addL, J_add, show 18 + 34 * d 17 + OfNat.ofNat 1 + E.length = 19 + 34 * d 17 + E.length by show 18 + 34 * d 17 + 1 + E.length = _; omega, ast_J (by omega) (by decide), lt_J, e25, e0, tw_ald hT2 (by omega), e3, J_addL, ast_J (by omega) (by decide)]
def TF (d : Nat → Nat) (L : List Nat) (n i : Nat) (F : twS → Option (Int32 × twS)) (S : Nat → Nat → Nat → PR G4) : Prop := ∀ p fc nt E σ, (5 - i) + (5 - nt) < n → RW d E L p fc nt i σ → fc ≤ 12 → nt ≤ 5 → E.length ≤ 2 * fc + nt → RR σ (F σ) (S p fc nt) fun a σ' => RW d (E ++ gFl a.1) L a.2.1 a.2.2.1 a.2.2.2 i σ'
theorem RR.bx {α β : Type} {σ : twS} {r : Option (Int32 × twS)} {x : PR α} {Q : α → twS → Prop} {K : twS → Option (Int32 × twS)} {y : α → PR β} {Q2 : β → twS → Prop} (h : RR σ r x Q) (k : ∀ a σ', x = .inr a → frX σ σ' → Q a σ' → RR σ' (K σ') (y a) Q2) : RR σ (bd r fun v σ_2 => if v = 0 then rz 0 σ_2 else K σ_2) (pb x y) Q2 := by
  cases x with
  | inl e =>
    obtain ⟨σ', f', h1, rfl⟩ := h
    exact ⟨σ', f', h1, rfl⟩
  | inr a =>
    obtain ⟨σ', f', h1, rfl⟩ := h
    exact RR.fr f' (k a σ' rfl f' h1)
theorem gFl_mul {a b : Term} : gFl (.mul a b) = gFl a ++ (gFl b ++ [2]) := rfl
theorem gFl_add {a b : Term} : gFl (.add a b) = gFl a ++ (gFl b ++ [3]) := rfl
theorem gFl_not {a : Term} : gFl (.length a) = gFl a ++ [1] := rfl
theorem GP.len {d : Nat → Nat} {L : List Nat} {p fc nt : Nat} {a : G4} (h : GP d L p fc nt a) : (gFl a.1).length + 1 + 2 * fc + nt = 2 * a.2.2.1 + a.2.2.2 := by
  have h1 := gFl_len a.1 h.2.2.1
  have h2 := h.2.2.2.1
  have h3 := h.2.2.2.2
  omega
theorem tw_tl {d : Nat → Nat} {L : List Nat} {n i : Nat} {F : twS → Option (Int32 × twS)} {S : Nat → Nat → Nat → PR G4} (h17 : d 17 < 10) (hS : GPF d L S) (hF : TF d L n i F S) : ∀ f a (E : List Nat) (σ : twS), (5 - i) + (5 - a.2.2.2) < n → L.length - a.2.1 < f → RW d (E ++ gFl a.1) L a.2.1 a.2.2.1 a.2.2.2 i σ → a.2.2.1 ≤ 12 → a.2.2.2 ≤ 5 → (E ++ gFl a.1).length + 1 ≤ 2 * a.2.2.1 + a.2.2.2 → RR σ (bT_readsTerm_9 F f σ) (rTl S L f a) fun b σ' => RW d (E ++ gFl b.1) L b.2.1 b.2.2.1 b.2.2.2 i σ' := by
  intro f
  induction f with
  | zero => intro a E σ _ h; omega
  | succ f ih =>
    intro a E σ hm hf h h12 h5 hE
    rw [bT_readsTerm_9, rTl, says1 (s := wAnd) h.1, bd_J, ite_pq (b32_0 _)]
    cases hw : isW L a.2.1 wAnd with
    | false =>
      rw [if_pos rfl, if_neg (by decide)]
      exact ⟨σ, frX.rf, h, rfl⟩
    | true =>
      rw [if_neg (by decide), if_pos rfl]
      have hadv := tkE_adv h.1.2.1 (by have := isW_k hw; omega)
      have hel := (tkE_le h.1.2.1).2
      obtain ⟨σ1, f1, w1, e1⟩ := h.next
      rw [e1, bd_J]
      refine RR.fr f1 ((hF (tkE L a.2.1) a.2.2.1 a.2.2.2 (E ++ gFl a.1) σ1 hm w1 h12 h5 (by omega)).bx fun b σ2 hb f2 w2 => ?_)
      have g := hS _ _ _ _ hel h12 h5 hb
      have gl := g.len
      obtain ⟨σ3, f3, w3, e3⟩ := tw_emits (s := 2) w2 h17 (by have := g.2.1; rw [List.length_append]; omega)
      rw [show (2 : Int32) = Int32.ofNat 2 from rfl, e3, bd_J]
      have e4 : E ++ gFl a.1 ++ gFl b.1 ++ [2] = E ++ gFl (.mul a.1 b.1) := by rw [gFl_mul]; simp only [List.append_assoc]
      rw [e4] at w3
      have h2 := g.2.2.2.2
      refine RR.fr f3 (ih (.mul a.1 b.1, b.2) E σ3 (by show (5 - i) + (5 - b.2.2.2) < n; omega) (by have := g.1; show L.length - b.2.1 < f; omega) w3 g.2.1.1 g.2.1.2 ?_)
      rw [← e4]
      simp only [List.length_append, List.length_cons, List.length_nil] at hE ⊢
      show _ ≤ 2 * b.2.2.1 + b.2.2.2
      omega
theorem tw_term {d : Nat → Nat} {L : List Nat} {n i : Nat} {F : twS → Option (Int32 × twS)} {S : Nat → Nat → Nat → PR G4} (h17 : d 17 < 10) (hS : GPF d L S) (hF : TF d L n i F S) : TF d L n i (mT_readsTerm F) (rT S L) := by
  intro p fc nt E σ hm h h12 h5 hE
  unfold mT_readsTerm rT
  refine (hF p fc nt E σ hm h h12 h5 hE).bx fun a σ1 ha f1 w1 => ?_
  have g := hS _ _ _ _ h.1.2.1 h12 h5 ha
  have gl := g.len
  have h2 := g.2.2.2.2
  exact tw_tl h17 hS hF FU a E σ1 (by omega) (by have := h.1.1.1; show _ < 4096; omega) w1 g.2.1.1 g.2.1.2 (by rw [List.length_append]; omega)
theorem tw_gl {d : Nat → Nat} {L : List Nat} {n i : Nat} {F : twS → Option (Int32 × twS)} {S : Nat → Nat → Nat → PR G4} (h17 : d 17 < 10) (hS : GPF d L S) (hF : TF d L n i F S) : ∀ f a (E : List Nat) (σ : twS), (5 - i) + (5 - a.2.2.2) < n → L.length - a.2.1 < f → RW d (E ++ gFl a.1) L a.2.1 a.2.2.1 a.2.2.2 i σ → a.2.2.1 ≤ 12 → a.2.2.2 ≤ 5 → (E ++ gFl a.1).length + 1 ≤ 2 * a.2.2.1 + a.2.2.2 → RR σ (bT_readsGuard_9 F f σ) (rGl S L f a) fun b σ' => RW d (E ++ gFl b.1) L b.2.1 b.2.2.1 b.2.2.2 i σ' := by
  intro f
  induction f with
  | zero => intro a E σ _ h; omega
  | succ f ih =>
    intro a E σ hm hf h h12 h5 hE
    rw [bT_readsGuard_9, rGl, says1 (s := wOr) h.1, bd_J, ite_pq (b32_0 _)]
    cases hw : isW L a.2.1 wOr with
    | false =>
      rw [if_pos rfl, if_neg (by decide)]
      exact ⟨σ, frX.rf, h, rfl⟩
    | true =>
      rw [if_neg (by decide), if_pos rfl]
      have hadv := tkE_adv h.1.2.1 (by have := isW_k hw; omega)
      have hel := (tkE_le h.1.2.1).2
      obtain ⟨σ1, f1, w1, e1⟩ := h.next
      rw [e1, bd_J]
      refine RR.fr f1 ((tw_term h17 hS hF (tkE L a.2.1) a.2.2.1 a.2.2.2 (E ++ gFl a.1) σ1 hm w1 h12 h5 (by omega)).bx fun b σ2 hb f2 w2 => ?_)
      have g := rT_ok hS _ _ _ _ hel h12 h5 hb
      have gl := g.len
      obtain ⟨σ3, f3, w3, e3⟩ := tw_emits (s := 3) w2 h17 (by have := g.2.1; rw [List.length_append]; omega)
      rw [show (3 : Int32) = Int32.ofNat 3 from rfl, e3, bd_J]
      have e4 : E ++ gFl a.1 ++ gFl b.1 ++ [3] = E ++ gFl (.add a.1 b.1) := by rw [gFl_add]; simp only [List.append_assoc]
      rw [e4] at w3
      have h2 := g.2.2.2.2
      refine RR.fr f3 (ih (.add a.1 b.1, b.2) E σ3 (by show (5 - i) + (5 - b.2.2.2) < n; omega) (by have := g.1; show L.length - b.2.1 < f; omega) w3 g.2.1.1 g.2.1.2 ?_)
      rw [← e4]
      simp only [List.length_append, List.length_cons, List.length_nil] at hE ⊢
      show _ ≤ 2 * b.2.2.1 + b.2.2.2
      omega
theorem tw_guard {d : Nat → Nat} {L : List Nat} {n i : Nat} {F : twS → Option (Int32 × twS)} {S : Nat → Nat → Nat → PR G4} (h17 : d 17 < 10) (hS : GPF d L S) (hF : TF d L n i F S) : TF d L n i (mT_readsGuard F) (rG S L) := by
  intro p fc nt E σ hm h h12 h5 hE
  unfold mT_readsGuard rG
  refine (tw_term h17 hS hF p fc nt E σ hm h h12 h5 hE).bx fun a σ1 ha f1 w1 => ?_
  have g := rT_ok hS _ _ _ _ h.1.2.1 h12 h5 ha
  have gl := g.len
  have h2 := g.2.2.2.2
  exact tw_gl h17 hS hF FU a E σ1 (by omega) (by have := h.1.1.1; show _ < 4096; omega) w1 g.2.1.1 g.2.1.2 (by rw [List.length_append]; omega)
theorem J_m97 {c : Nat} (hc : c < 256) (n : Nat) (hn : n ≤ 4) : inB (Int32.ofNat c - 97) n = decide (97 ≤ c ∧ c - 97 < n) := by
  unfold inB
  have h := J_subI (a := c) (b := 97) (by omega) (by decide)
  have e : (Int32.ofNat c - 97).toInt = (c : Int) - 97 := h
  rw [e]
  by_cases q : 97 ≤ c ∧ c - 97 < n
  · rw [decide_eq_true q, decide_eq_true (by omega)]
  · rw [decide_eq_false q, decide_eq_false (by omega)]
theorem tw_cmp {d : Nat → Nat} {L : List Nat} {i : Nat} (hF : FOk d) (h17 : d 17 < 10) : ∀ p fc nt E σ, RW d E L p fc nt i σ → fc ≤ 12 → nt ≤ 5 → E.length ≤ 2 * fc + nt → RR σ (mT_readsCompare σ) (rCmp d L p fc nt) fun a σ' => RW d (E ++ gFl a.1) L a.2.1 a.2.2.1 a.2.2.2 i σ' := by
  intro p fc nt E σ h h12 h5 hE
  have hb := h.1.b
  have h4 := hF.1
  have e0 : emD d E 0 = d 0 := emD_lo (by omega)
  unfold mT_readsCompare rCmp
  rw [h.1.2.2.1, iJ_eqL (by omega) (by decide)]
  have bad : ∀ x : Int32, inB x (d 0) = false → RR σ (bT_readsCompare_37 x σ) (.inl (flt L p 1)) fun (a : G4) σ' => RW d (E ++ gFl a.1) L a.2.1 a.2.2.1 a.2.2.2 i σ' := by
    intro x hx
    unfold bT_readsCompare_37
    rw [tw_isFact h.2.1 (by rw [e0]; omega), e0, hx, bd_J, if_pos (by decide)]
    exact RR.fail (c := 1) h.1
  have m1 : inB (-1) (d 0) = false := decide_eq_false (by rw [show (-1 : Int32).toInt = -1 from by decide]; omega)
  by_cases c1 : tkK L p = 1
  · rw [if_pos (show tkK L p = OfNat.ofNat 1 from c1), h.1.2.2.2.1, h.1.2.2.2.2.1, J_sub (by omega), iJ_eqL (by omega) (by decide)]
    by_cases c2 : tkE L p - tkO L p = 1
    · rw [if_pos (show tkE L p - tkO L p = OfNat.ofNat 1 from c2)]
      have hc := h.1.1.c (show tkO L p < L.length by omega)
      rw [h.1.1.at (by omega)]
      have hlet : 97 ≤ L.getD (tkO L p) 0 := by
        have : tkS L p = 1 := by
          unfold tkK at c1
          split at c1
          · omega
          · split at c1
            · omega
            · exact c1
        exact (sort_let this).1
      by_cases c3 : factN L p < d 0
      · rw [if_pos ⟨⟨c1, c2⟩, c3⟩]
        have hfi : inB (Int32.ofNat (L.getD (tkO L p) 0) - 97) (d 0) = true := by
          rw [J_m97 hc _ h4.2]
          exact decide_eq_true ⟨hlet, c3⟩
        have efact : Int32.ofNat (L.getD (tkO L p) 0) - 97 = Int32.ofNat (factN L p) := J_subL (show OfNat.ofNat 97 ≤ L.getD (tkO L p) 0 from hlet)
        rw [efact] at hfi ⊢
        unfold bT_readsCompare_37
        rw [tw_isFact h.2.1 (by rw [e0]; omega), e0, hfi, bd_J, if_neg (by decide), h.2.2.1, iJ_eqL (by omega) (by decide)]
        by_cases c12 : fc = 12
        · rw [if_pos (show fc = OfNat.ofNat 12 from c12), if_pos c12]
          exact RR.fail (c := 4) h.1
        · rw [if_neg (show ¬ fc = OfNat.ofNat 12 from c12), if_neg c12, lt_J, J_addL]
          have w1 : RW d E L p (fc + 1) nt i (twI σ 22 (Int32.ofNat (fc + 1))) := ⟨h.1.i (by decide), h.2.1, twI_k, (twI_n (by decide)).trans h.2.2.2.1, (twI_n (by decide)).trans h.2.2.2.2.1, (twI_n (by decide)).trans h.2.2.2.2.2⟩
          refine RR.fr (frX.i (k := 22) (x := Int32.ofNat (fc + 1)) (by decide)) ?_
          show RR (twI σ 22 (Int32.ofNat (fc + 1))) (bd (mT_next (twI σ 22 (Int32.ofNat (fc + 1)))) _) _ _
          obtain ⟨σ2, f2, w2, e2⟩ := w1.next
          refine RR.fr f2 ?_
          rw [e2, bd_J, w2.1.2.2.1]
          have hkl := tkK_lt L (tkE L p)
          rw [iJ_eqL (by omega) (by decide), iJ_eqL (by omega) (by decide), iJ_eqL (by omega) (by decide)]
          have hv := hF.2 _ c3
          have ev : emD d E (1 + factN L p) = d (1 + factN L p) := emD_lo (by omega)
          have last : ∀ g, g ≤ 2 → howN (tkK L (tkE L p)) = g → RR σ2 (bT_readsCompare_121 (Int32.ofNat (factN L p)) (Int32.ofNat g) σ2) (if howN (tkK L (tkE L p)) = 3 then .inl (flt L (tkE L p) 1) else pb (rNum L (tkE L (tkE L p)) 0 (d (1 + factN L p) - 1)) fun a => .inr (.arg (10 + 16 * factN L p + 4 * howN (tkK L (tkE L p)) + a.1), a.2, fc + 1, nt)) fun a σ' => RW d (E ++ gFl a.1) L a.2.1 a.2.2.1 a.2.2.2 i σ' := by
            intro g hg hgk
            rw [hgk, if_neg (by omega)]
            unfold bT_readsCompare_121
            rw [ite_pq (J_m1 (by omega)), if_neg (by simp)]
            obtain ⟨σ3, f3, w3, e3⟩ := w2.next
            refine RR.fr f3 ?_
            rw [e3, bd_J, J_addR, show OfNat.ofNat 1 + factN L p = 1 + factN L p from rfl, tw_ald w3.2.1 (by omega), ev, J_subL (show OfNat.ofNat 1 ≤ d (1 + factN L p) by show 1 ≤ _; omega), show (0 : Int32) = Int32.ofNat 0 from rfl]
            refine (tw_number w3.1 (by decide) (by show d (1 + factN L p) - 1 < _; omega)).bx fun a σ4 ha f4 q => ?_
            obtain ⟨q1, q2, q3, q4, q5⟩ := q
            have w4 := w3.t q1 q2
            rw [q5, J_mulR, J_mulR, J_addR, J_add, J_add]
            obtain ⟨σ5, f5, w5, e5⟩ := tw_emits (s := 10 + 16 * factN L p + 4 * g + a.1) w4 h17 (by omega)
            refine ⟨σ5, f5, w5, ?_⟩
            have e5' : mT_emits (Int32.ofNat (OfNat.ofNat 10 + OfNat.ofNat 16 * factN L p + OfNat.ofNat 4 * g + a.1)) σ4 = some (0, σ5) := e5
            rw [e5', bd_J, rz1]
          unfold howN at last ⊢
          by_cases k1 : tkK L (tkE L p) = 61
          · rw [if_pos (show tkK L (tkE L p) = OfNat.ofNat 61 from k1)]
            exact last 0 (by decide) (by rw [if_pos k1])
          · rw [if_neg (show ¬ tkK L (tkE L p) = OfNat.ofNat 61 from k1)]
            by_cases k2 : tkK L (tkE L p) = 60
            · rw [if_pos (show tkK L (tkE L p) = OfNat.ofNat 60 from k2)]
              exact last 1 (by decide) (by rw [if_neg k1, if_pos k2])
            · rw [if_neg (show ¬ tkK L (tkE L p) = OfNat.ofNat 60 from k2)]
              by_cases k3 : tkK L (tkE L p) = 62
              · rw [if_pos (show tkK L (tkE L p) = OfNat.ofNat 62 from k3)]
                exact last 2 (by decide) (by rw [if_neg k1, if_neg k2, if_pos k3])
              · rw [if_neg (show ¬ tkK L (tkE L p) = OfNat.ofNat 62 from k3), if_neg k1, if_neg k2, if_neg k3, if_pos rfl]
                unfold bT_readsCompare_121
                rw [if_pos rfl]
                exact RR.fail (c := 1) w2.1
      · rw [if_neg (fun q => c3 q.2)]
        exact bad _ (by rw [J_m97 hc _ h4.2]; exact decide_eq_false (fun q => c3 q.2))
    · rw [if_neg (show ¬ tkE L p - tkO L p = OfNat.ofNat 1 from c2), if_neg (fun q => c2 q.1.2)]
      exact bad _ m1
  · rw [if_neg (show ¬ tkK L p = OfNat.ofNat 1 from c1), if_neg (fun q => c1 q.1.1)]
    exact bad _ m1
theorem tw_factor {d : Nat → Nat} {L : List Nat} (hF : FOk d) (h17 : d 17 < 10) : ∀ n D i, n ≤ D → i ≤ 5 → TF d L n i (mT_readsFactor D) (rF d L n i) := by
  intro n
  induction n with
  | zero => intro D i _ _ p fc nt E σ hm; omega
  | succ n ih =>
    intro D i hD hi p fc nt E σ hm h h12 h5 hE
    obtain ⟨D, rfl⟩ : ∃ D', D = D' + 1 := ⟨D - 1, by omega⟩
    show RR σ (mO_readsFactor (mT_readsFactor D) σ) (rFo (rF d L n) d L i p fc nt) _
    have hb := h.1.b
    have hel := (tkE_le h.1.2.1).2
    unfold mO_readsFactor rFo
    rw [says1 (s := wNot) h.1, bd_J, ite_pq (b32_0 _)]
    cases hw : isW L p wNot with
    | true =>
      rw [if_neg (by decide), if_pos rfl, h.2.2.2.1, iJ_eqL (by omega) (by decide)]
      by_cases c5 : nt = 5
      · rw [if_pos (show nt = OfNat.ofNat 5 from c5), if_pos c5]
        exact RR.fail (c := 4) h.1
      · rw [if_neg (show ¬ nt = OfNat.ofNat 5 from c5), if_neg c5, lt_J, J_addL]
        have w1 : RW d E L p fc (nt + 1) i (twI σ 23 (Int32.ofNat (nt + 1))) := ⟨h.1.i (by decide), h.2.1, (twI_n (by decide)).trans h.2.2.1, twI_k, (twI_n (by decide)).trans h.2.2.2.2.1, (twI_n (by decide)).trans h.2.2.2.2.2⟩
        refine RR.fr (frX.i (k := 23) (x := Int32.ofNat (nt + 1)) (by decide)) ?_
        show RR (twI σ 23 (Int32.ofNat (nt + 1))) (bd (mT_next (twI σ 23 (Int32.ofNat (nt + 1)))) _) _ _
        obtain ⟨σ2, f2, w2, e2⟩ := w1.next
        refine RR.fr f2 ?_
        rw [e2, bd_J]
        refine (ih D i (by omega) hi (tkE L p) fc (nt + 1) E σ2 (by omega) w2 h12 (by omega) (by omega)).bx fun a σ3 ha f3 w3 => ?_
        have g := rF_ok hF n i _ _ _ _ hel h12 (by omega) ha
        have gl := g.len
        obtain ⟨σ4, f4, w4, e4⟩ := tw_emits (s := 1) w3 h17 (by have := g.2.1; rw [List.length_append]; omega)
        refine ⟨σ4, f4, ?_, ?_⟩
        · show RW d (E ++ gFl (.length a.1)) L a.2.1 a.2.2.1 a.2.2.2 i σ4
          rw [gFl_not, ← List.append_assoc]
          exact w4
        · rw [show (1 : Int32) = Int32.ofNat 1 from rfl, e4, bd_J]
          rfl
    | false =>
      rw [if_pos rfl, if_neg (show ¬ (false = true) from by decide), h.1.2.2.1, iJ_eqL (by omega) (by decide)]
      by_cases ck : tkK L p = 40
      · rw [if_pos (show tkK L p = OfNat.ofNat 40 from ck), if_pos ck, h.2.2.2.2.1, iJ_eqL (by omega) (by decide)]
        by_cases c5 : i = 5
        · rw [if_pos (show i = OfNat.ofNat 5 from c5), if_pos c5]
          exact RR.fail (c := 4) h.1
        · rw [if_neg (show ¬ i = OfNat.ofNat 5 from c5), if_neg c5, lt_J, J_addL]
          have w1 : RW d E L p fc nt (i + 1) (twI σ 24 (Int32.ofNat (i + 1))) := ⟨h.1.i (by decide), h.2.1, (twI_n (by decide)).trans h.2.2.1, (twI_n (by decide)).trans h.2.2.2.1, twI_k, (twI_n (by decide)).trans h.2.2.2.2.2⟩
          refine RR.fr (frX.i (k := 24) (x := Int32.ofNat (i + 1)) (by decide)) ?_
          show RR (twI σ 24 (Int32.ofNat (i + 1))) (bd (mT_next (twI σ 24 (Int32.ofNat (i + 1)))) _) _ _
          obtain ⟨σ2, f2, w2, e2⟩ := w1.next
          refine RR.fr f2 ?_
          rw [e2, bd_J]
          refine (tw_guard h17 (rF_ok hF n (i + 1)) (ih D (i + 1) (by omega) (by omega)) (tkE L p) fc nt E σ2 (by omega) w2 h12 h5 hE).bx fun a σ3 ha f3 w3 => ?_
          rw [show (41 : Int32) = Int32.ofNat 41 from rfl]
          refine (tw_sign w3.1 (by decide)).bx fun p' σ4 hp' f4 q => ?_
          have w4 := w3.t q.1.t q.2
          rw [lt_J, w4.2.2.2.2.1, J_subL (show OfNat.ofNat 1 ≤ i + 1 from Nat.le_add_left 1 i)]
          exact ⟨_, frX.i (by decide), ⟨w4.1.i (by decide), w4.2.1, (twI_n (by decide)).trans w4.2.2.1, (twI_n (by decide)).trans w4.2.2.2.1, twI_k, (twI_n (by decide)).trans w4.2.2.2.2.2⟩, rfl⟩
      · rw [if_neg (show ¬ tkK L p = OfNat.ofNat 40 from ck), if_neg ck, says1 (s := wAlw) h.1, bd_J, ite_pq (b32_0 _)]
        cases hw2 : isW L p wAlw with
        | false =>
          rw [if_pos rfl, if_neg (show ¬ (false = true) from by decide)]
          have := tw_cmp hF h17 p fc nt E σ h h12 h5 hE
          cases hx : rCmp d L p fc nt with
          | inl e =>
            rw [hx] at this
            obtain ⟨σ', f', h1, h2⟩ := this
            exact ⟨σ', f', h1, by rw [h2, bd_J, rz0]⟩
          | inr a =>
            rw [hx] at this
            obtain ⟨σ', f', h1, h2⟩ := this
            exact ⟨σ', f', h1, by rw [h2, bd_J, rz1]⟩
        | true =>
          rw [if_neg (by decide), if_pos rfl, h.2.2.1, iJ_eqL (by omega) (by decide)]
          by_cases c12 : fc = 12
          · rw [if_pos (show fc = OfNat.ofNat 12 from c12), if_pos c12]
            exact RR.fail (c := 4) h.1
          · rw [if_neg (show ¬ fc = OfNat.ofNat 12 from c12), if_neg c12, lt_J, J_addL]
            have w1 : RW d E L p (fc + 1) nt i (twI σ 22 (Int32.ofNat (fc + 1))) := ⟨h.1.i (by decide), h.2.1, twI_k, (twI_n (by decide)).trans h.2.2.2.1, (twI_n (by decide)).trans h.2.2.2.2.1, (twI_n (by decide)).trans h.2.2.2.2.2⟩
            refine RR.fr (frX.i (k := 22) (x := Int32.ofNat (fc + 1)) (by decide)) ?_
            show RR (twI σ 22 (Int32.ofNat (fc + 1))) (bd (mT_next (twI σ 22 (Int32.ofNat (fc + 1)))) _) _ _
            obtain ⟨σ2, f2, w2, e2⟩ := w1.next
            obtain ⟨σ3, f3, w3, e3⟩ := tw_emits (s := 4) w2 h17 (by omega)
            refine ⟨σ3, f2.trans f3, w3, ?_⟩
            rw [e2, bd_J, show (4 : Int32) = Int32.ofNat 4 from rfl, e3, bd_J, rz1]
