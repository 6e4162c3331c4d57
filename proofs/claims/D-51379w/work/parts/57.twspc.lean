/-! THE PLAIN LAW: rules, lines, whole texts that are read -/
set_option maxRecDepth 100000
def wNth : List Nat := [110, 111, 116, 104, 105, 110, 103]
def wOvr : List Nat := [111, 118, 101, 114]
def wGiv : List Nat := [103, 105, 118, 101, 115]
def wFre : List Nat := [102, 114, 101, 101]
def wRat : List Nat := [114, 97, 116, 101]
def wRul : List Nat := [114, 117, 108, 101]
def wHei : List Nat := [104, 101, 105, 114]
def wEst : List Nat := [101, 115, 116, 97, 116, 101]
def wFac : List Nat := [102, 97, 99, 116, 115]
def wHrs : List Nat := [104, 101, 105, 114, 115]
def wRes : List Nat := [114, 101, 115, 116]
def rIsX (L : List Nat) (p n : Nat) : PR Nat := if tkK L p = 2 then (if tkV L p < n then .inr (tkV L p) else .inl (flt L p 2)) else .inl (flt L p 1)
def rPart (d : Nat → Nat) (L : List Nat) (had : Nat) (sh : Nat → Nat) (p : Nat) : PR (Nat × (Nat → Nat) × Nat) := pb (rIs L p 0 (d 5 - 1)) fun h => if had.testBit h = true then .inl (flt L p 3) else pb (rNum L (tkE L p) 0 12) fun a => pb (rSign L a.2 47) fun q => pb (rIs L q 1 12) fun b => if untN a.1 b + sh 0 + sh 1 + sh 2 + sh 3 ≤ 27720 then .inr (h, upN sh h (untN a.1 b), tkE L q) else .inl (flt L q 5)
def rPl (d : Nat → Nat) (L : List Nat) : Nat → Nat → (Nat → Nat) → Nat → PR ((Nat → Nat) × Nat)
  | 0, _, _, _ => .inl 0
  | f + 1, had, sh, p => pb (rPart d L had sh p) fun a => if tkK L a.2.2 = 44 then rPl d L f (had ||| 2 ^ a.1) a.2.1 (tkE L a.2.2) else .inr (a.2.1, a.2.2)
def rParts (d : Nat → Nat) (L : List Nat) (p : Nat) : PR ((Nat → Nat) × Nat) := if isW L p wNth then .inr (fun _ => 0, tkE L p) else rPl d L FU 0 (fun _ => 0) p
def rOl (d : Nat → Nat) (L : List Nat) : Nat → Nat → Nat → PR (Nat × Nat)
  | 0, _, _ => .inl 0
  | f + 1, ov, p => pb (rIsX L p (d 17)) fun v => if ov.testBit v = true then .inl (flt L p 3) else if tkK L (tkE L p) = 2 then rOl d L f (ov ||| 2 ^ v) (tkE L p) else .inr (ov ||| 2 ^ v, tkE L p)
def rOver (d : Nat → Nat) (L : List Nat) (p : Nat) : PR (Nat × Nat) := if isW L p wOvr then rOl d L FU 0 (tkE L p) else .inr (0, p)
/-- a rule: its guard, its shares, what it is over, where it ends -/
def rRule (d : Nat → Nat) (L : List Nat) (p : Nat) : PR (Term × (Nat → Nat) × Nat × Nat) := pb (rG (rF d L 12 0) L p 0 0) fun a => pb (rWord L a.2.1 wGiv) fun q => pb (rParts d L q) fun s => pb (rOver d L s.2) fun o => .inr (a.1, s.1, o.1, o.2)
def zrD (d : Nat → Nat) : Nat → Nat := fun j => if 18 + 34 * d 17 ≤ j ∧ j < 52 + 34 * d 17 then 0 else d j
def ruD (d : Nat → Nat) (E : List Nat) (sh : Nat → Nat) (ov : Nat) : Nat → Nat := fun j => if 47 + 34 * d 17 ≤ j ∧ j < 51 + 34 * d 17 then sh (j - (47 + 34 * d 17)) else if j = 51 + 34 * d 17 then ov else emD d E j
/-- a will with one rule more -/
def adD (d : Nat → Nat) (tm : Term) (sh : Nat → Nat) (ov : Nat) : Nat → Nat := upN (ruD (zrD d) (gFl tm) sh ov) 17 (d 17 + 1)
def adT (t : Nat → Term) (n : Nat) (tm : Term) : Nat → Term := fun k => if k = n then tm else t k
def rLine (W : Wl) (L : List Nat) (p : Nat) : PR (Wl × Nat) := if isW L p wRul then (if W.1 17 = 10 then .inl (flt L p 4) else pb (rRule W.1 L (tkE L p)) fun a => .inr ((adD W.1 a.1 a.2.1 a.2.2.1, adT W.2 (W.1 17) a.1), a.2.2.2)) else if isW L p wHei then pb (rNum L (tkE L p) 0 (W.1 5 - 1)) fun h => pb (rWord L h.2 wFre) fun q => pb (rNum L q 0 9999) fun a => pb (rWord L a.2 wRat) fun q2 => pb (rNum L q2 0 60) fun b => .inr ((upN (upN W.1 (9 + 2 * h.1) a.1) (10 + 2 * h.1) b.1, W.2), b.2) else pb (rWord L p wEst) fun q => pb (rNum L q 0 9999) fun a => .inr ((upN W.1 7 a.1, W.2), a.2)
def rLs (L : List Nat) : Nat → Wl → Nat → PR Wl
  | 0, _, _ => .inl 0
  | f + 1, W, p => if tkK L p = 0 then .inr W else pb (rLine W L p) fun a => pb (rSign L a.2 59) fun q => rLs L f a.1 q
def rFl (L : List Nat) : Nat → (Nat → Nat) → Nat → PR ((Nat → Nat) × Nat)
  | 0, _, _ => .inl 0
  | f + 1, d, p => pb (rIs L p 2 4) fun v => if d 0 = 4 then .inl (flt L p 4) else if tkK L (tkE L p) = 2 then rFl L f (upN (upN d (1 + d 0) v) 0 (d 0 + 1)) (tkE L p) else .inr (upN (upN d (1 + d 0) v) 0 (d 0 + 1), tkE L p)
def rFacts (d : Nat → Nat) (L : List Nat) (p : Nat) : PR ((Nat → Nat) × Nat) := pb (rWord L p wFac) fun q => pb (rFl L FU d q) fun a => pb (rSign L a.2 59) fun q1 => pb (rWord L q1 wHrs) fun q2 => pb (rNum L q2 1 4) fun h => pb (rWord L h.2 wRes) fun q3 => pb (rNum L q3 0 (h.1 - 1)) fun r => pb (rSign L r.2 59) fun q4 => .inr (upN (upN a.1 5 h.1) 6 r.1, q4)
def d0N : Nat → Nat := fun j => if j = 7 then 1000 else if j = 10 ∨ j = 12 ∨ j = 14 ∨ j = 16 then 10 else 0
def rAll (L : List Nat) : PR Wl := pb (rFacts d0N L 0) fun a => rLs L FU (a.1, fun _ => .null) a.2
theorem rIsX_ok {L : List Nat} {p n v : Nat} (h : rIsX L p n = .inr v) : tkK L p = 2 ∧ v = tkV L p ∧ v < n := by
  unfold rIsX at h
  split at h
  · next hk =>
    split at h
    · next h2 => cases h; exact ⟨hk, rfl, h2⟩
    · cases h
  · cases h
/-- shares in range: together, each, those of heirs that there are not -/
def ShP (d : Nat → Nat) (had : Nat) (sh : Nat → Nat) : Prop := sh 0 + sh 1 + sh 2 + sh 3 ≤ 27720 ∧ (∀ h, d 5 ≤ h → sh h = 0) ∧ ∀ h, had.testBit h = false → sh h = 0
theorem sum4_le {sh : Nat → Nat} {h : Nat} (hh : h < 4) : sh h ≤ sh 0 + sh 1 + sh 2 + sh 3 := by
  obtain rfl | rfl | rfl | rfl : h = 0 ∨ h = 1 ∨ h = 2 ∨ h = 3 := by omega
  all_goals omega
theorem sum4_up {sh : Nat → Nat} {h v : Nat} (hh : h < 4) (h0 : sh h = 0) : upN sh h v 0 + upN sh h v 1 + upN sh h v 2 + upN sh h v 3 = v + sh 0 + sh 1 + sh 2 + sh 3 := by
  unfold upN
  obtain rfl | rfl | rfl | rfl : h = 0 ∨ h = 1 ∨ h = 2 ∨ h = 3 := by omega
  · rw [if_pos rfl, if_neg (by decide), if_neg (by decide), if_neg (by decide)]; omega
  · rw [if_neg (by decide), if_pos rfl, if_neg (by decide), if_neg (by decide)]; omega
  · rw [if_neg (by decide), if_neg (by decide), if_pos rfl, if_neg (by decide)]; omega
  · rw [if_neg (by decide), if_neg (by decide), if_neg (by decide), if_pos rfl]; omega
theorem rPart_ok {d : Nat → Nat} {L : List Nat} {had p : Nat} {sh : Nat → Nat} {a : Nat × (Nat → Nat) × Nat} (h5 : 1 ≤ d 5 ∧ d 5 ≤ 4) (hp : p ≤ L.length) (hs : ShP d had sh) (h : rPart d L had sh p = .inr a) : (p < a.2.2 ∧ a.2.2 ≤ L.length) ∧ a.1 < d 5 ∧ had.testBit a.1 = false ∧ ShP d (had ||| 2 ^ a.1) a.2.1 := by
  obtain ⟨v, h1, h2⟩ := pb_inr h
  obtain ⟨k1, e1, -, k2⟩ := rIs_ok h1
  split at h2
  · cases h2
  · next hb =>
    obtain ⟨b, h3, h4⟩ := pb_inr h2
    obtain ⟨k3, e3, -, k4⟩ := rNum_ok h3
    obtain ⟨q, h6, h7⟩ := pb_inr h4
    obtain ⟨k5, e5⟩ := rSign_ok h6
    obtain ⟨c, h8, h9⟩ := pb_inr h7
    obtain ⟨k6, e6, -, -⟩ := rIs_ok h8
    have hbf : had.testBit v = false := by simpa using hb
    have l1 := tkE_le hp
    have l2 := tkE_le l1.2
    have b2 : b.2 = tkE L (tkE L p) := by rw [e3]
    rw [b2] at e5 k5
    have l3 := tkE_le l2.2
    rw [← e5] at l3
    have l4 := tkE_le l3.2
    have a1 := tkE_adv hp (by omega)
    have a2 := tkE_adv l1.2 (by omega)
    have a3 := tkE_adv l2.2 (by omega)
    have a4 := tkE_adv l3.2 (by omega)
    split at h9
    · next hle =>
      cases h9
      refine ⟨⟨by show p < tkE L q; omega, l4.2⟩, by show v < d 5; omega, hbf, ?_, fun h hh => ?_, fun h hh => ?_⟩
      · rw [sum4_up (by omega) (hs.2.2 v hbf)]
        exact hle
      · show upN sh v _ h = 0
        rw [upN_ne (by omega)]
        exact hs.2.1 h hh
      · have hh2 : (had ||| 2 ^ v).testBit h = false := hh
        rw [Nat.testBit_or, Nat.testBit_two_pow] at hh2
        have hne : h ≠ v := by
          intro q
          rw [q] at hh2
          simp at hh2
        show upN sh v _ h = 0
        rw [upN_ne hne]
        refine hs.2.2 h ?_
        cases hb2 : had.testBit h with
        | false => rfl
        | true => rw [hb2] at hh2; cases hh2
    · cases h9
theorem rPl_ok {d : Nat → Nat} {L : List Nat} (h5 : 1 ≤ d 5 ∧ d 5 ≤ 4) : ∀ f had sh p a, p ≤ L.length → ShP d had sh → rPl d L f had sh p = .inr a → (p < a.2 ∧ a.2 ≤ L.length) ∧ ∃ had', ShP d had' a.1 := by
  intro f
  induction f with
  | zero => intro had sh p a _ _ h; cases h
  | succ f ih =>
    intro had sh p a hp hs h
    obtain ⟨b, h1, h2⟩ := pb_inr h
    obtain ⟨q1, q2, q3, q4⟩ := rPart_ok h5 hp hs h1
    split at h2
    · next hk =>
      have l1 := tkE_le q1.2
      have a1 := tkE_adv q1.2 (by omega)
      obtain ⟨r1, r2⟩ := ih _ _ _ _ l1.2 q4 h2
      exact ⟨⟨by omega, r1.2⟩, r2⟩
    · cases h2
      exact ⟨q1, _, q4⟩
theorem rParts_ok {d : Nat → Nat} {L : List Nat} {p : Nat} {a : (Nat → Nat) × Nat} (h5 : 1 ≤ d 5 ∧ d 5 ≤ 4) (hp : p ≤ L.length) (h : rParts d L p = .inr a) : (p < a.2 ∧ a.2 ≤ L.length) ∧ ∃ had', ShP d had' a.1 := by
  have h0 : ShP d 0 (fun _ => 0) := ⟨by decide, fun _ _ => rfl, fun _ _ => rfl⟩
  unfold rParts at h
  split at h
  · next hw =>
    cases h
    have a1 := tkE_adv hp (by have := isW_k hw; omega)
    exact ⟨⟨a1, (tkE_le hp).2⟩, _, h0⟩
  · exact rPl_ok h5 _ _ _ _ _ hp h0 h
theorem rOl_ok {d : Nat → Nat} {L : List Nat} : ∀ f ov p a, p ≤ L.length → ov < 2 ^ d 17 → rOl d L f ov p = .inr a → (p < a.2 ∧ a.2 ≤ L.length) ∧ a.1 < 2 ^ d 17 := by
  intro f
  induction f with
  | zero => intro ov p a _ _ h; cases h
  | succ f ih =>
    intro ov p a hp ho h
    obtain ⟨v, h1, h2⟩ := pb_inr h
    obtain ⟨k1, e1, k2⟩ := rIsX_ok h1
    have l1 := tkE_le hp
    have a1 := tkE_adv hp (by omega)
    have ho2 : ov ||| 2 ^ v < 2 ^ d 17 := Nat.or_lt_two_pow ho (Nat.pow_lt_pow_right (by decide) k2)
    split at h2
    · cases h2
    · split at h2
      · obtain ⟨r1, r2⟩ := ih _ _ _ l1.2 ho2 h2
        exact ⟨⟨by omega, r1.2⟩, r2⟩
      · cases h2
        exact ⟨⟨a1, l1.2⟩, ho2⟩
theorem rOver_ok {d : Nat → Nat} {L : List Nat} {p : Nat} {a : Nat × Nat} (hp : p ≤ L.length) (h : rOver d L p = .inr a) : (p ≤ a.2 ∧ a.2 ≤ L.length) ∧ a.1 < 2 ^ d 17 := by
  unfold rOver at h
  split at h
  · next hw =>
    have a1 := tkE_adv hp (by have := isW_k hw; omega)
    obtain ⟨r1, r2⟩ := rOl_ok _ _ _ _ (tkE_le hp).2 (Nat.two_pow_pos _) h
    exact ⟨⟨by omega, r1.2⟩, r2⟩
  · cases h
    exact ⟨⟨Nat.le_refl _, hp⟩, Nat.two_pow_pos _⟩
theorem rRule_ok {d : Nat → Nat} {L : List Nat} {p : Nat} {a : Term × (Nat → Nat) × Nat × Nat} (hF : FOk d) (h5 : 1 ≤ d 5 ∧ d 5 ≤ 4) (hp : p ≤ L.length) (h : rRule d L p = .inr a) : (p < a.2.2.2 ∧ a.2.2.2 ≤ L.length) ∧ (gOk d a.1 ∧ gLv a.1 ≤ 12 ∧ gNt a.1 ≤ 5) ∧ (∃ had, ShP d had a.2.1) ∧ a.2.2.1 < 2 ^ d 17 := by
  obtain ⟨g, h1, h2⟩ := pb_inr h
  have q := rG_ok (rF_ok hF 12 0) p 0 0 g hp (by decide) (by decide) h1
  obtain ⟨q1, h3, h4⟩ := pb_inr h2
  obtain ⟨w1, w2⟩ := rWord_ok h3
  have l1 := tkE_le q.1.2
  rw [← w2] at l1
  obtain ⟨s, h6, h7⟩ := pb_inr h4
  obtain ⟨s1, s2⟩ := rParts_ok h5 l1.2 h6
  obtain ⟨o, h8, h9⟩ := pb_inr h7
  obtain ⟨o1, o2⟩ := rOver_ok s1.2 h8
  have a1 := tkE_adv q.1.2 (by have := isW_k w1; omega)
  cases h9
  have q2 := q.2.1
  have q3 := q.2.2.2.1
  have q4 := q.2.2.2.2
  have q5 := q.1
  exact ⟨⟨by show p < o.2; omega, o1.2⟩, ⟨q.2.2.1, by show gLv g.1 ≤ 12; omega, by show gNt g.1 ≤ 5; omega⟩, s2, o2⟩
theorem adD_lo {d : Nat → Nat} {tm : Term} {sh : Nat → Nat} {ov j : Nat} (h : j < 17) : adD d tm sh ov j = d j := by
  have e : zrD d 17 = d 17 := by unfold zrD; rw [if_neg (by omega)]
  unfold adD
  rw [upN_ne (by omega)]
  unfold ruD
  rw [e, if_neg (by omega), if_neg (by omega), emD_lo (by rw [e]; omega)]
  unfold zrD
  rw [if_neg (by omega)]
theorem adD_17 {d : Nat → Nat} {tm : Term} {sh : Nat → Nat} {ov : Nat} : adD d tm sh ov 17 = d 17 + 1 := upN_at
theorem zrD_17 {d : Nat → Nat} : zrD d 17 = d 17 := by unfold zrD; rw [if_neg (by omega)]
theorem adD_old {d : Nat → Nat} {tm : Term} {sh : Nat → Nat} {ov j : Nat} (h : 18 ≤ j) (hj : j < 18 + 34 * d 17) : adD d tm sh ov j = d j := by
  unfold adD
  rw [upN_ne (by omega)]
  unfold ruD
  rw [zrD_17, if_neg (by omega), if_neg (by omega), emD_lo (by rw [zrD_17]; omega)]
  unfold zrD
  rw [if_neg (by omega)]
theorem adD_len {d : Nat → Nat} {tm : Term} {sh : Nat → Nat} {ov : Nat} : adD d tm sh ov (18 + 34 * d 17) = (gFl tm).length := by
  unfold adD
  rw [upN_ne (by omega)]
  unfold ruD emD
  rw [zrD_17, if_neg (by omega), if_neg (by omega), if_pos rfl]
theorem adD_sgn {d : Nat → Nat} {tm : Term} {sh : Nat → Nat} {ov i : Nat} (hi : i < (gFl tm).length) (hl : (gFl tm).length ≤ 28) : adD d tm sh ov (19 + 34 * d 17 + i) = (gFl tm).getD i 0 := by
  unfold adD
  rw [upN_ne (by omega)]
  unfold ruD emD
  rw [zrD_17, if_neg (by omega), if_neg (by omega), if_neg (by omega), if_pos (by omega), show 19 + 34 * d 17 + i - (19 + 34 * d 17) = i by omega]
theorem adD_sh {d : Nat → Nat} {tm : Term} {sh : Nat → Nat} {ov h : Nat} (hh : h < 4) : adD d tm sh ov (47 + 34 * d 17 + h) = sh h := by
  unfold adD
  rw [upN_ne (by omega)]
  unfold ruD
  rw [zrD_17, if_pos (by omega), show 47 + 34 * d 17 + h - (47 + 34 * d 17) = h by omega]
theorem adD_ov {d : Nat → Nat} {tm : Term} {sh : Nat → Nat} {ov : Nat} : adD d tm sh ov (51 + 34 * d 17) = ov := by
  unfold adD
  rw [upN_ne (by omega)]
  unfold ruD
  rw [zrD_17, if_neg (by omega), if_pos rfl]
theorem WO.add {W : Wl} (hW : WO W) (h17 : W.1 17 < 10) {tm : Term} {sh : Nat → Nat} {ov : Nat} (hg : gOk W.1 tm ∧ gLv tm ≤ 12 ∧ gNt tm ≤ 5) {had : Nat} (hs : ShP W.1 had sh) (ho : ov < 2 ^ W.1 17) : WO (adD W.1 tm sh ov, adT W.2 (W.1 17) tm) := by
  have h4 := hW.1.1.1
  have hc : ∀ j, j < 5 → adD W.1 tm sh ov j = W.1 j := fun j hj => adD_lo (by omega)
  have hlen := gFl_len tm hg.1
  have hp2 : 2 ^ W.1 17 ≤ 2 ^ (W.1 17 + 1) := Nat.pow_le_pow_right (by decide) (by omega)
  refine ⟨⟨FOk_cg hc hW.1.1, ?_, ?_, ?_, ?_, ?_, ?_, ?_⟩, ?_⟩
  · dsimp only; rw [adD_lo (by decide)]; exact hW.1.h
  · dsimp only; rw [adD_lo (by decide), adD_lo (by decide)]; exact hW.1.rest
  · dsimp only; rw [adD_lo (by decide)]; exact hW.1.e
  · dsimp only; rw [adD_lo (by decide), casesN_cg hc h4.2]; exact hW.1.2.2.2.2.1
  · intro k hk
    dsimp only
    rw [adD_lo (by omega), adD_lo (by omega)]
    exact hW.1.fr hk
  · dsimp only; rw [adD_17]; omega
  · intro q hq
    dsimp only at hq ⊢
    rw [adD_17] at hq
    unfold GT SOk
    rw [adD_17]
    by_cases c : q = W.1 17
    · subst c
      have et : adT W.2 (W.1 17) tm (W.1 17) = tm := by unfold adT; rw [if_pos rfl]
      rw [et]
      refine ⟨⟨⟨gOk_cg hc h4.2 _ hg.1, hg.2⟩, adD_len, fun i hi => adD_sgn hi (by omega)⟩, fun h hh => ?_, ?_, ?_⟩
      · rw [adD_sh hh]
        exact Nat.le_trans (sum4_le hh) hs.1
      · have e0 := adD_sh (d := W.1) (tm := tm) (sh := sh) (ov := ov) (h := 0) (by decide)
        have e1 := adD_sh (d := W.1) (tm := tm) (sh := sh) (ov := ov) (h := 1) (by decide)
        have e2 := adD_sh (d := W.1) (tm := tm) (sh := sh) (ov := ov) (h := 2) (by decide)
        have e3 := adD_sh (d := W.1) (tm := tm) (sh := sh) (ov := ov) (h := 3) (by decide)
        rw [Nat.add_zero] at e0
        rw [show 48 + 34 * W.1 17 = 47 + 34 * W.1 17 + 1 by omega, show 49 + 34 * W.1 17 = 47 + 34 * W.1 17 + 2 by omega, show 50 + 34 * W.1 17 = 47 + 34 * W.1 17 + 3 by omega, e0, e1, e2, e3]
        exact hs.1
      · rw [adD_ov]; omega
    · have et : adT W.2 (W.1 17) tm q = W.2 q := by unfold adT; rw [if_neg c]
      obtain ⟨⟨g1, g2, g3⟩, q1, q2, q3⟩ := hW.1.2.2.2.2.2.2.2 q (by omega)
      have hlq := gFl_len _ g1.1
      have hlv := g1.2
      rw [et]
      refine ⟨⟨⟨gOk_cg hc h4.2 _ g1.1, g1.2⟩, by rw [adD_old (by omega) (by omega)]; exact g2, fun i hi => by rw [adD_old (by omega) (by omega)]; exact g3 i hi⟩, fun h hh => by rw [adD_old (by omega) (by omega)]; exact q1 h hh, ?_, ?_⟩
      · rw [adD_old (by omega) (by omega), adD_old (by omega) (by omega), adD_old (by omega) (by omega), adD_old (by omega) (by omega)]
        exact q2
      · rw [adD_old (by omega) (by omega)]; omega
  · intro q hq h h1 h2
    dsimp only at hq h1 ⊢
    rw [adD_17] at hq
    rw [adD_lo (by decide)] at h1
    by_cases c : q = W.1 17
    · subst c
      rw [adD_sh h2]
      exact hs.2.1 h h1
    · rw [adD_old (by omega) (by omega)]
      exact hW.2 q (by omega) h h1 h2
theorem rLine_ok {W : Wl} {L : List Nat} {p : Nat} {a : Wl × Nat} (hW : WO W) (hp : p ≤ L.length) (h : rLine W L p = .inr a) : (p < a.2 ∧ a.2 ≤ L.length) ∧ WO a.1 := by
  have l1 := tkE_le hp
  unfold rLine at h
  split at h
  · next hw =>
    have a1 := tkE_adv hp (by have := isW_k hw; omega)
    split at h
    · cases h
    · next h10 =>
      obtain ⟨b, h1, h2⟩ := pb_inr h
      obtain ⟨r1, r2, ⟨had, r3⟩, r4⟩ := rRule_ok hW.1.1 hW.1.h l1.2 h1
      cases h2
      exact ⟨⟨by show p < b.2.2.2; omega, r1.2⟩, hW.add (by have := hW.1.r; omega) r2 r3 r4⟩
  · split at h
    · next hw =>
      have a1 := tkE_adv hp (by have := isW_k hw; omega)
      have h5 := hW.1.h
      obtain ⟨x1, h1, h2⟩ := pb_inr h
      obtain ⟨k1, e1, -, b1⟩ := rNum_ok h1
      obtain ⟨x2, h3, h4⟩ := pb_inr h2
      obtain ⟨k2, e2⟩ := rWord_ok h3
      obtain ⟨x3, h5', h6⟩ := pb_inr h4
      obtain ⟨k3, e3, -, b3⟩ := rNum_ok h5'
      obtain ⟨x4, h7, h8⟩ := pb_inr h6
      obtain ⟨k4, e4⟩ := rWord_ok h7
      obtain ⟨x5, h9, h10⟩ := pb_inr h8
      obtain ⟨k5, e5, -, b5⟩ := rNum_ok h9
      have f1 : x1.2 = tkE L (tkE L p) := by rw [e1]
      have l2 := tkE_le l1.2
      have a2 := tkE_adv l1.2 (by omega)
      rw [← f1] at l2 a2
      have l3 := tkE_le l2.2
      have a3 := tkE_adv l2.2 (by have := isW_k k2; omega)
      rw [← e2] at l3 a3
      have f3 : x3.2 = tkE L x2 := by rw [e3]
      have l4 := tkE_le l3.2
      have a4 := tkE_adv l3.2 (by omega)
      rw [← f3] at l4 a4
      have l5 := tkE_le l4.2
      have a5 := tkE_adv l4.2 (by have := isW_k k4; omega)
      rw [← e4] at l5 a5
      have f5 : x5.2 = tkE L x4 := by rw [e5]
      have l6 := tkE_le l5.2
      have a6 := tkE_adv l5.2 (by omega)
      rw [← f5] at l6 a6
      cases h10
      refine ⟨⟨by show p < x5.2; omega, l6.2⟩, ?_⟩
      have w1 := hW.up (i := 9 + 2 * x1.1) (v := x3.1) (Or.inr (Or.inr (Or.inr ⟨x1.1, by omega, Or.inl ⟨rfl, b3⟩⟩)))
      exact w1.up (i := 10 + 2 * x1.1) (v := x5.1) (Or.inr (Or.inr (Or.inr ⟨x1.1, by omega, Or.inr ⟨rfl, b5⟩⟩)))
    · obtain ⟨x1, h1, h2⟩ := pb_inr h
      obtain ⟨k1, e1⟩ := rWord_ok h1
      obtain ⟨x2, h3, h4⟩ := pb_inr h2
      obtain ⟨k2, e2, -, b2⟩ := rNum_ok h3
      have a1 := tkE_adv hp (by have := isW_k k1; omega)
      rw [← e1] at l1 a1
      have f2 : x2.2 = tkE L x1 := by rw [e2]
      have l2 := tkE_le l1.2
      have a2 := tkE_adv l1.2 (by omega)
      rw [← f2] at l2 a2
      cases h4
      exact ⟨⟨by show p < x2.2; omega, l2.2⟩, hW.up (Or.inr (Or.inl ⟨rfl, b2⟩))⟩
theorem rLs_ok {L : List Nat} : ∀ f W p W', WO W → p ≤ L.length → rLs L f W p = .inr W' → WO W' := by
  intro f
  induction f with
  | zero => intro W p W' _ _ h; cases h
  | succ f ih =>
    intro W p W' hW hp h
    unfold rLs at h
    split at h
    · cases h; exact hW
    · obtain ⟨a, h1, h2⟩ := pb_inr h
      obtain ⟨q, h3, h4⟩ := pb_inr h2
      obtain ⟨r1, r2⟩ := rLine_ok hW hp h1
      obtain ⟨k1, e1⟩ := rSign_ok h3
      exact ih _ _ _ r2 (by rw [e1]; exact (tkE_le r1.2).2) h4
/-- a will whose facts are being read -/
def FcP (d : Nat → Nat) : Prop := (∀ j, 5 ≤ j → d j = d0N j) ∧ d 0 ≤ 4 ∧ ∀ f, f < d 0 → 2 ≤ d (1 + f) ∧ d (1 + f) ≤ 4
theorem FcP.up {d : Nat → Nat} (h : FcP d) {v : Nat} (h0 : d 0 ≠ 4) (hv : 2 ≤ v ∧ v ≤ 4) : FcP (upN (upN d (1 + d 0) v) 0 (d 0 + 1)) := by
  obtain ⟨h1, h2, h3⟩ := h
  refine ⟨fun j hj => ?_, ?_, fun f hf => ?_⟩
  · rw [upN_ne (by omega), upN_ne (by omega)]; exact h1 j hj
  · rw [upN_at]; omega
  · rw [upN_at] at hf
    rw [upN_ne (by omega)]
    by_cases c : f = d 0
    · rw [c, upN_at]; exact hv
    · rw [upN_ne (by omega)]; exact h3 f (by omega)
theorem rFl_ok {L : List Nat} : ∀ f d p a, FcP d → p ≤ L.length → rFl L f d p = .inr a → (p < a.2 ∧ a.2 ≤ L.length) ∧ FcP a.1 ∧ 1 ≤ a.1 0 := by
  intro f
  induction f with
  | zero => intro d p a _ _ h; cases h
  | succ f ih =>
    intro d p a hd hp h
    obtain ⟨v, h1, h2⟩ := pb_inr h
    obtain ⟨k1, e1, b1, b2⟩ := rIs_ok h1
    have l1 := tkE_le hp
    have a1 := tkE_adv hp (by omega)
    split at h2
    · cases h2
    · next h0 =>
      have hd2 := hd.up h0 ⟨b1, b2⟩
      split at h2
      · obtain ⟨r1, r2, r3⟩ := ih _ _ _ hd2 l1.2 h2
        exact ⟨⟨by omega, r1.2⟩, r2, r3⟩
      · cases h2
        exact ⟨⟨a1, l1.2⟩, hd2, by show 1 ≤ upN (upN d (1 + d 0) v) 0 (d 0 + 1) 0; rw [upN_at]; omega⟩
theorem WO.new {d : Nat → Nat} (hd : FcP d) (h0 : 1 ≤ d 0) {h r : Nat} (hh : 1 ≤ h ∧ h ≤ 4) (hr : r < h) {t : Nat → Term} : WO (upN (upN d 5 h) 6 r, t) := by
  obtain ⟨h1, h2, h3⟩ := hd
  have e : ∀ j, j ≠ 5 → j ≠ 6 → upN (upN d 5 h) 6 r j = d j := fun j q1 q2 => by rw [upN_ne q2, upN_ne q1]
  have e5 : upN (upN d 5 h) 6 r 5 = h := by rw [upN_ne (by decide), upN_at]
  have hF : FOk (upN (upN d 5 h) 6 r) := ⟨by rw [e 0 (by decide) (by decide)]; exact ⟨h0, h2⟩, fun f hf => by rw [e 0 (by decide) (by decide)] at hf; rw [e _ (by omega) (by omega)]; exact h3 f hf⟩
  have e17 : upN (upN d 5 h) 6 r 17 = 0 := by rw [e 17 (by decide) (by decide), h1 17 (by decide)]; rfl
  refine ⟨⟨hF, ?_, ?_, ?_, ?_, ?_, ?_, ?_⟩, ?_⟩
  · dsimp only; rw [e5]; exact hh
  · dsimp only; rw [e5, upN_at]; exact hr
  · dsimp only; rw [e 7 (by decide) (by decide), h1 7 (by decide)]; decide
  · dsimp only; rw [e 8 (by decide) (by decide), h1 8 (by decide)]; exact (casesN_le hF).1
  · intro k hk
    dsimp only
    rw [e _ (by omega) (by omega), e _ (by omega) (by omega), h1 _ (by omega), h1 _ (by omega)]
    obtain rfl | rfl | rfl | rfl : k = 0 ∨ k = 1 ∨ k = 2 ∨ k = 3 := by omega
    all_goals decide
  · dsimp only; rw [e17]; decide
  · intro q hq
    dsimp only at hq
    rw [e17] at hq
    omega
  · intro q hq
    dsimp only at hq
    rw [e17] at hq
    omega
theorem rFacts_ok {L : List Nat} {a : (Nat → Nat) × Nat} {t : Nat → Term} (h : rFacts d0N L 0 = .inr a) : a.2 ≤ L.length ∧ WO (a.1, t) := by
  have hd0 : FcP d0N := ⟨fun _ _ => rfl, by decide, fun f hf => absurd hf (by show ¬ f < 0; omega)⟩
  obtain ⟨q, h1, h2⟩ := pb_inr h
  obtain ⟨k1, e1⟩ := rWord_ok h1
  have l1 := tkE_le (L := L) (p := 0) (by omega)
  rw [← e1] at l1
  obtain ⟨b, h3, h4⟩ := pb_inr h2
  obtain ⟨r1, r2, r3⟩ := rFl_ok _ _ _ _ hd0 l1.2 h3
  obtain ⟨q1, h5, h6⟩ := pb_inr h4
  obtain ⟨k2, e2⟩ := rSign_ok h5
  have l2 := tkE_le r1.2
  rw [← e2] at l2
  obtain ⟨q2, h7, h8⟩ := pb_inr h6
  obtain ⟨k3, e3⟩ := rWord_ok h7
  have l3 := tkE_le l2.2
  rw [← e3] at l3
  obtain ⟨x, h9, h10⟩ := pb_inr h8
  obtain ⟨k4, e4, b4, b5⟩ := rNum_ok h9
  have f4 : x.2 = tkE L q2 := by rw [e4]
  have l4 := tkE_le l3.2
  rw [← f4] at l4
  obtain ⟨q3, h11, h12⟩ := pb_inr h10
  obtain ⟨k5, e5⟩ := rWord_ok h11
  have l5 := tkE_le l4.2
  rw [← e5] at l5
  obtain ⟨y, h13, h14⟩ := pb_inr h12
  obtain ⟨k6, e6, -, b7⟩ := rNum_ok h13
  have f6 : y.2 = tkE L q3 := by rw [e6]
  have l6 := tkE_le l5.2
  rw [← f6] at l6
  obtain ⟨q4, h15, h16⟩ := pb_inr h14
  obtain ⟨k7, e7⟩ := rSign_ok h15
  have l7 := tkE_le l6.2
  rw [← e7] at l7
  cases h16
  exact ⟨l7.2, WO.new r2 r3 ⟨b4, b5⟩ (by omega)⟩
theorem rAll_ok {L : List Nat} {W : Wl} (h : rAll L = .inr W) : WO W := by
  obtain ⟨a, h1, h2⟩ := pb_inr h
  obtain ⟨r1, r2⟩ := rFacts_ok (t := fun _ => .null) h1
  exact rLs_ok _ _ _ _ r2 r1 h2
