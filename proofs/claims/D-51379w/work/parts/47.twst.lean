/-! THE PLAIN LAW: the whole state, and the twin's copies -/
set_option maxRecDepth 100000
abbrev Wl : Type := (Nat → Nat) × (Nat → Term)
/-- the will, the past, the two snapshots, the buffer, the report -/
abbrev SS : Type := Wl × List Wl × (Nat → Option Wl) × List Nat × List Nat
/-- shares of heirs that there are not are 0 -/
def WO (W : Wl) : Prop := WOk W.1 W.2 ∧ ∀ r, r < W.1 17 → ∀ h, W.1 5 ≤ h → h < 4 → W.1 (47 + 34 * r + h) = 0
def TWat (q off : Nat) (d : Nat → Nat) (σ : twS) : Prop := ∀ i, i < 358 → σ.1 q (off + i) = Int32.ofNat (d i)
theorem TWat.tw {d : Nat → Nat} {σ : twS} (h : TWat 0 0 d σ) : TW d σ := fun i hi => by have := h i hi; rwa [Nat.zero_add] at this
def TP (P : List Wl) (σ : twS) : Prop := P.length ≤ 8 ∧ σ.2 5 = Int32.ofNat P.length ∧ ∀ j W, P[j]? = some W → WO W ∧ TWat 3 (358 * j) W.1 σ
def kBits (K : Nat → Option Wl) : Nat := (if (K 0).isSome then 1 else 0) + (if (K 1).isSome then 2 else 0)
def TK (K : Nat → Option Wl) (σ : twS) : Prop := σ.2 6 = Int32.ofNat (kBits K) ∧ ∀ j W, j < 2 → K j = some W → WO W ∧ TWat 4 (358 * j) W.1 σ
def TB (B : List Nat) (σ : twS) : Prop := B.length ≤ 700 ∧ (∀ x, x ∈ B → x < 256) ∧ σ.2 9 = Int32.ofNat B.length ∧ ∀ i, i < B.length → σ.1 7 i = Int32.ofNat (B.getD i 0)
def TInv (σ : twS) (S : SS) : Prop := (TW S.1.1 σ ∧ WO S.1) ∧ TP S.2.1 σ ∧ TK S.2.2.1 σ ∧ TB S.2.2.2.1 σ ∧ RP σ S.2.2.2.2 ∧ ∀ x, x ∈ S.2.2.2.2 → x < 256
theorem TP.fr {P : List Wl} {a b : twS} (h : TP P a) (h3 : b.1 3 = a.1 3) (h5 : b.2 5 = a.2 5) : TP P b := ⟨h.1, h5.trans h.2.1, fun j W hj => ⟨(h.2.2 j W hj).1, fun i hi => by rw [h3]; exact (h.2.2 j W hj).2 i hi⟩⟩
theorem TK.fr {K : Nat → Option Wl} {a b : twS} (h : TK K a) (h3 : b.1 4 = a.1 4) (h5 : b.2 6 = a.2 6) : TK K b := ⟨h5.trans h.1, fun j W h2 hj => ⟨(h.2 j W h2 hj).1, fun i hi => by rw [h3]; exact (h.2 j W h2 hj).2 i hi⟩⟩
theorem TB.fr {B : List Nat} {a b : twS} (h : TB B a) (h3 : b.1 7 = a.1 7) (h5 : b.2 9 = a.2 9) : TB B b := ⟨h.1, h.2.1, h5.trans h.2.2.1, fun i hi => by rw [h3]; exact h.2.2.2 i hi⟩
theorem RP.fr {L : List Nat} {a b : twS} (h : RP a L) (h3 : b.1 11 = a.1 11) (h5 : b.2 12 = a.2 12) : RP b L := ⟨h.1, h5.trans h.2.1, fun i hi => by rw [h3]; exact h.2.2 i hi⟩
theorem TW.fr {d : Nat → Nat} {a b : twS} (h : TW d a) (h3 : b.1 0 = a.1 0) : TW d b := fun i hi => by rw [h3]; exact h i hi
theorem TInv.q {a b : twS} {S : SS} (h : TInv a S) (f : frP a b) : TInv b S := by
  obtain ⟨⟨h1, h2⟩, h3, h4, h5, h6, h7⟩ := h
  exact ⟨⟨f.tw h1, h2⟩, h3.fr (f.1 3 (by decide) (by decide)) (f.2 5 (by decide)), h4.fr (f.1 4 (by decide) (by decide)) (f.2 6 (by decide)), h5.fr (f.1 7 (by decide) (by decide)) (f.2 9 (by decide)), h6.fr (f.1 11 (by decide) (by decide)) (f.2 12 (by decide)), h7⟩
theorem TInv.r {a b : twS} {S : SS} {L : List Nat} (h : TInv a S) (f : frR a b) (hL : RP b L) (h8 : ∀ x, x ∈ L → x < 256) : TInv b (S.1, S.2.1, S.2.2.1, S.2.2.2.1, L) := by
  obtain ⟨⟨h1, h2⟩, h3, h4, h5, h6, h7⟩ := h
  exact ⟨⟨f.tw h1, h2⟩, h3.fr (f.1 3 (by decide)) (f.2 5 (by decide)), h4.fr (f.1 4 (by decide)) (f.2 6 (by decide)), h5.fr (f.1 7 (by decide)) (f.2 9 (by decide)), hL, h8⟩
/-- a stretch of an array is laid anew -/
def cpO (σ : twS) (q off n : Nat) (g : Nat → Int32) : twS := (fun p i => if p = q ∧ off ≤ i ∧ i < off + n then g (i - off) else σ.1 p i, σ.2)
theorem cpO_0 {σ : twS} {q off : Nat} {g : Nat → Int32} : cpO σ q off 0 g = σ := by
  unfold cpO
  refine Prod.ext (funext fun p => funext fun i => ?_) rfl
  dsimp only
  rw [if_neg (by omega)]
theorem cpO_s {σ : twS} {q off n : Nat} {g : Nat → Int32} {x : Int32} (h : x = g n) : twA (cpO σ q off n g) q (off + n) x = cpO σ q off (n + 1) g := by
  unfold cpO twA
  refine Prod.ext (funext fun p => funext fun i => ?_) rfl
  dsimp only
  by_cases c : p = q
  · rw [if_pos c, c]
    unfold upd
    dsimp only
    by_cases e : i = off + n
    · rw [if_pos e, if_pos (by omega), h, e, Nat.add_sub_cancel_left]
    · rw [if_neg e]
      by_cases f : off ≤ i ∧ i < off + n
      · rw [if_pos ⟨rfl, f⟩, if_pos ⟨rfl, by omega, by omega⟩]
      · rw [if_neg (fun w => f w.2), if_neg (fun w => f ⟨w.2.1, by omega⟩)]
  · rw [if_neg c, if_neg (fun w => c w.1), if_neg (fun w => c w.1)]
theorem cpO_ne {σ : twS} {q off n p : Nat} {g : Nat → Int32} (h : p ≠ q) : (cpO σ q off n g).1 p = σ.1 p := by
  unfold cpO
  funext i
  dsimp only
  rw [if_neg (fun w => h w.1)]
theorem cpO_in {σ : twS} {q off n i : Nat} {g : Nat → Int32} (h : i < n) : (cpO σ q off n g).1 q (off + i) = g i := by
  unfold cpO
  dsimp only
  rw [if_pos (by omega), Nat.add_sub_cancel_left]
theorem cpO_out {σ : twS} {q off n i : Nat} {g : Nat → Int32} (h : i < off ∨ off + n ≤ i) : (cpO σ q off n g).1 q i = σ.1 q i := by
  unfold cpO
  dsimp only
  rw [if_neg (by omega)]
theorem twI_1 {σ : twS} {k : Nat} {x : Int32} : (twI σ k x).1 = σ.1 := rfl
theorem tw_begins {d : Nat → Nat} {σ : twS} (hT : TW d σ) : mT_begins σ = some (0, cpO σ 1 0 358 (fun i => Int32.ofNat (d i))) := by
  have h0 : bT_begins_2 FU 0 (cpO σ 1 0 0 (fun i => Int32.ofNat (d i))) = some (0, cpO σ 1 0 358 (fun i => Int32.ofNat (d i))) := by
    refine loop_FU (fun g k => bT_begins_2 g (Int32.ofNat k) (cpO σ 1 0 k (fun i => Int32.ofNat (d i)))) (fun _ => some (0, cpO σ 1 0 358 (fun i => Int32.ofNat (d i)))) 358 (by decide) (fun g k hk ih => ?_) (fun g => ?_)
    · show bT_begins_2 (g + 1) _ _ = _
      have e := cpO_s (σ := σ) (q := 1) (off := 0) (n := k) (g := fun i => Int32.ofNat (d i)) rfl
      rw [Nat.zero_add] at e
      rw [bT_begins_2, iJ_leR (by decide) (by omega), if_neg (by omega), tw_ald (TW.fr hT (cpO_ne (by decide))) hk, ast_J hk (by decide), e, lt_J, J_addL]
      exact ih
    · show bT_begins_2 (g + 1) _ _ = _
      rw [bT_begins_2, iJ_leR (by decide) (by decide), if_pos (Nat.le_refl _)]
  rw [cpO_0] at h0
  exact h0
/-- a will goes into the past -/
def keepS (P : List Wl) (W : Wl) : List Wl := if P.length = 8 then P.tail ++ [W] else P ++ [W]
/-- what a change leaves: the past is longer -/
def frC (σ σ' : twS) : Prop := (∀ q, q ≠ 1 → q ≠ 3 → σ'.1 q = σ.1 q) ∧ ∀ k, k ≠ 5 → σ'.2 k = σ.2 k
theorem tw_remember54 {σ : twS} {P : List Wl} {W : Wl} (hP : TP P σ) (hB : TWat 1 0 W.1 σ) (hW : WO W) (hl : P.length < 8) : ∃ σ', frC σ σ' ∧ TP (P ++ [W]) σ' ∧ bT_remember_54 FU 0 σ = some (0, σ') := by
  refine ⟨twI (cpO σ 3 (358 * P.length) 358 (fun i => Int32.ofNat (W.1 i))) 5 (Int32.ofNat (P.length + 1)), ⟨fun q h1 h3 => by rw [twI_1]; exact cpO_ne h3, fun k hk => ?_⟩, ⟨by simp; omega, by simp [twI_at], fun j V hj => ?_⟩, ?_⟩
  · show (if k = 5 then _ else σ.2 k) = σ.2 k
    rw [if_neg hk]
  · by_cases c : j < P.length
    · rw [List.getElem?_append_left c] at hj
      obtain ⟨h1, h2⟩ := hP.2.2 j V hj
      refine ⟨h1, fun i hi => ?_⟩
      rw [twI_1, cpO_out (Or.inl (by omega))]
      exact h2 i hi
    · rw [List.getElem?_append_right (by omega)] at hj
      have hj0 : j - P.length = 0 := by
        cases hq : j - P.length with
        | zero => rfl
        | succ m => rw [hq] at hj; cases hj
      rw [hj0] at hj
      cases hj
      refine ⟨hW, fun i hi => ?_⟩
      rw [twI_1, show j = P.length by omega, cpO_in hi]
  · have h0 : bT_remember_54 FU 0 (cpO σ 3 (358 * P.length) 0 (fun i => Int32.ofNat (W.1 i))) = some (0, twI (cpO σ 3 (358 * P.length) 358 (fun i => Int32.ofNat (W.1 i))) 5 (Int32.ofNat (P.length + 1))) := by
      refine loop_FU (fun g k => bT_remember_54 g (Int32.ofNat k) (cpO σ 3 (358 * P.length) k (fun i => Int32.ofNat (W.1 i)))) (fun _ => some (0, twI (cpO σ 3 (358 * P.length) 358 (fun i => Int32.ofNat (W.1 i))) 5 (Int32.ofNat (P.length + 1)))) 358 (by decide) (fun g k hk ih => ?_) (fun g => ?_)
      · show bT_remember_54 (g + 1) _ _ = _
        have e5 : (cpO σ 3 (358 * P.length) k (fun i => Int32.ofNat (W.1 i))).2 5 = Int32.ofNat P.length := hP.2.1
        have e1 : (cpO σ 3 (358 * P.length) k (fun i => Int32.ofNat (W.1 i))).1 1 k = Int32.ofNat (W.1 k) := by
          rw [cpO_ne (by decide)]
          have := hB k hk
          rwa [Nat.zero_add] at this
        rw [bT_remember_54, iJ_leR (by decide) (by omega), if_neg (by omega), ald_J hk (by decide), e1, e5, J_mulR, J_add, ast_J (by show 358 * P.length + k < 2864; omega) (by decide), show OfNat.ofNat 358 * P.length + k = 358 * P.length + k from rfl, cpO_s rfl, lt_J, J_addL]
        exact ih
      · show bT_remember_54 (g + 1) _ _ = _
        have e5 : (cpO σ 3 (358 * P.length) 358 (fun i => Int32.ofNat (W.1 i))).2 5 = Int32.ofNat P.length := hP.2.1
        rw [bT_remember_54, iJ_leR (by decide) (by decide), if_pos (Nat.le_refl _), lt_J, e5, J_addL]
    rw [cpO_0] at h0
    exact h0
theorem tw_remember {σ : twS} {P : List Wl} {W : Wl} (hP : TP P σ) (hB : TWat 1 0 W.1 σ) (hW : WO W) : ∃ σ', frC σ σ' ∧ TP (keepS P W) σ' ∧ mT_remember σ = some (0, σ') := by
  have h8 := hP.1
  unfold mT_remember keepS
  rw [hP.2.1, iJ_eqL (by omega) (by decide)]
  by_cases c : P.length = 8
  · rw [if_pos c, if_pos (show P.length = 8 from c)]
    have h0 : bT_remember_13 FU 358 (cpO σ 3 0 0 (fun i => σ.1 3 (i + 358))) = bT_remember_54 FU 0 (twI (cpO σ 3 0 2506 (fun i => σ.1 3 (i + 358))) 5 (Int32.ofNat 7)) := by
      refine loop_FU (fun g k => bT_remember_13 g (Int32.ofNat (358 + k)) (cpO σ 3 0 k (fun i => σ.1 3 (i + 358)))) (fun _ => bT_remember_54 FU 0 (twI (cpO σ 3 0 2506 (fun i => σ.1 3 (i + 358))) 5 (Int32.ofNat 7))) 2506 (by decide) (fun g k hk ih => ?_) (fun g => ?_)
      · show bT_remember_13 (g + 1) _ _ = _
        have e1 : (cpO σ 3 0 k (fun i => σ.1 3 (i + 358))).1 3 (358 + k) = σ.1 3 (k + 358) := by rw [cpO_out (Or.inr (by omega)), Nat.add_comm]
        have e := cpO_s (σ := σ) (q := 3) (off := 0) (n := k) (g := fun i => σ.1 3 (i + 358)) rfl
        rw [Nat.zero_add] at e
        rw [bT_remember_13, iJ_leR (by decide) (by omega), if_neg (by show ¬ 2864 ≤ 358 + k; omega), ald_J (by omega) (by decide), e1, J_subL (by show 358 ≤ 358 + k; omega), show 358 + k - OfNat.ofNat 358 = k by show 358 + k - 358 = k; omega, ast_J (by omega) (by decide), e, lt_J, J_addL]
        exact ih
      · show bT_remember_13 (g + 1) _ _ = _
        have e5 : (cpO σ 3 0 2506 (fun i => σ.1 3 (i + 358))).2 5 = Int32.ofNat 8 := by show σ.2 5 = _; rw [hP.2.1, c]
        rw [bT_remember_13, iJ_leR (by decide) (by decide), if_pos (by decide), lt_J, e5, J_subL (by decide)]
    rw [cpO_0] at h0
    rw [h0]
    have hP2 : TP P.tail (twI (cpO σ 3 0 2506 (fun i => σ.1 3 (i + 358))) 5 (Int32.ofNat 7)) := by
      refine ⟨by rw [List.length_tail]; omega, by rw [List.length_tail, c]; rfl, fun j V hj => ?_⟩
      have hj2 : P[j + 1]? = some V := by rw [← List.getElem?_tail]; exact hj
      obtain ⟨h1, h2⟩ := hP.2.2 (j + 1) V hj2
      have hjl : j + 1 < P.length := (List.getElem?_eq_some_iff.mp hj2).1
      refine ⟨h1, fun i hi => ?_⟩
      have e := cpO_in (σ := σ) (q := 3) (off := 0) (n := 2506) (i := 358 * j + i) (g := fun i => σ.1 3 (i + 358)) (by omega)
      rw [Nat.zero_add] at e
      rw [twI_1, e, ← h2 i hi]
      show σ.1 3 (358 * j + i + 358) = σ.1 3 (358 * (j + 1) + i)
      rw [show 358 * j + i + 358 = 358 * (j + 1) + i by omega]
    obtain ⟨σ', f, p, e⟩ := tw_remember54 (W := W) hP2 (fun i hi => by rw [twI_1, cpO_ne (by decide)]; exact hB i hi) hW (by rw [List.length_tail]; omega)
    refine ⟨σ', ⟨fun q h1 h3 => (f.1 q h1 h3).trans (by rw [twI_1]; exact cpO_ne h3), fun k hk => (f.2 k hk).trans ?_⟩, p, e⟩
    show (if k = 5 then _ else σ.2 k) = σ.2 k
    rw [if_neg hk]
  · rw [if_neg c, if_neg (show ¬ P.length = 8 from c)]
    exact tw_remember54 hP hB hW (by omega)
/-- the twin's change: begun, done (array 0 alone), remembered -/
theorem TInv.chg {a b c : twS} {S : SS} {W : Wl} (h : TInv a S) (hb : ∀ q, q ≠ 0 → b.1 q = (cpO a 1 0 358 (fun i => Int32.ofNat (S.1.1 i))).1 q) (hb2 : b.2 = a.2) (hbT : TW W.1 b) (hW : WO W) (f : frC b c) (hc : TP (keepS S.2.1 S.1) c) : TInv c (W, keepS S.2.1 S.1, S.2.2) := by
  obtain ⟨⟨h1, h2⟩, h3, h4, h5, h6, h7⟩ := h
  have g : ∀ q, q ≠ 0 → q ≠ 1 → q ≠ 3 → c.1 q = a.1 q := fun q q0 q1 q3 => by rw [f.1 q q1 q3, hb q q0, cpO_ne q1]
  have g2 : ∀ k, k ≠ 5 → c.2 k = a.2 k := fun k hk => by rw [f.2 k hk, hb2]
  exact ⟨⟨TW.fr hbT (f.1 0 (by decide) (by decide)), hW⟩, hc, h4.fr (g 4 (by decide) (by decide) (by decide)) (g2 6 (by decide)), h5.fr (g 7 (by decide) (by decide) (by decide)) (g2 9 (by decide)), h6.fr (g 11 (by decide) (by decide) (by decide)) (g2 12 (by decide)), h7⟩
theorem TInv.past {a b : twS} {S : SS} (h : TInv a S) (hb : ∀ q, q ≠ 0 → b.1 q = (cpO a 1 0 358 (fun i => Int32.ofNat (S.1.1 i))).1 q) (hb2 : b.2 = a.2) : TP S.2.1 b ∧ TWat 1 0 S.1.1 b := by
  refine ⟨h.2.1.fr (by rw [hb 3 (by decide), cpO_ne (by decide)]) (by rw [hb2]), fun i hi => ?_⟩
  rw [hb 1 (by decide), cpO_in hi]
