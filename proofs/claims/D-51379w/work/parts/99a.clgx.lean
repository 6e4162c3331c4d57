/-! THE PLAIN LAW, the class' side: guards that are read -/
set_option maxRecDepth 1000000
/-- what the reader writes beside itself: guards and their lists -/
def okW (e : cE) : Prop := (∃ c fs, e = .inr (c, fs) ∧ 1 ≤ c ∧ c ≤ 9 ∧ c ≠ 8) ∨ ∃ k n f, e = .inl (k, n, f) ∧ (k = 0 ∨ k = 4 ∨ (k = 2 ∧ 0 < n))
theorem keepC {M : Nat → Prop} {σ σ' : cS} {q : Nat} {e : cE} (C : Ch M σ σ') (hW : Wf σ) (hM : ∀ q, q < σ.2 0 → M q → ∃ e, σ.1 q = some e ∧ okW e) (hq : σ.1 q = some e) (hn : ¬ okW e) : σ'.1 q = some e := C.c hW hq (fun w => by
  obtain ⟨e', e1, e2⟩ := hM q (hW.lt hq) w
  rw [hq] at e1
  exact hn (Option.some.inj e1 ▸ e2))
theorem nok_o {c : Nat} {fs : List Value} (h : c < 1 ∨ c = 8 ∨ 9 < c) : ¬ okW (.inr (c, fs)) := fun w => by
  rcases w with ⟨c', fs', e, h1, h2, h3⟩ | ⟨k, n, f, e, h1⟩
  · have := (Prod.mk.inj (Sum.inr.inj e)).1
    omega
  · cases e
theorem nok_a {k n : Nat} {f : (Nat → Int32) ⊕ (Nat → Int64) ⊕ (Nat → UInt32) ⊕ (Nat → UInt64) ⊕ (Nat → Option Nat)} (h : k = 1 ∨ (k = 2 ∧ n = 0)) : ¬ okW (.inl (k, n, f)) := fun w => by
  rcases w with ⟨c', fs', e, h1, h2, h3⟩ | ⟨k', n', f', e, h1⟩
  · cases e
  · have e1 := Sum.inl.inj e
    have := (Prod.mk.inj e1).1
    have := (Prod.mk.inj (Prod.mk.inj e1).2).1
    omega
section WRS
variable {o : oW} {σ σ' : cS} {M : Nat → Prop}
theorem SC.wr {p : Nat} {s : List Nat} (h : SC o σ p s) (C : Ch M σ σ') (hW : Wf σ) (hM : ∀ q, q < σ.2 0 → M q → ∃ e, σ.1 q = some e ∧ okW e) : SC o σ' p s := by
  obtain ⟨b, x, z, f, h1, h2, h3, h4, h5⟩ := h
  exact ⟨b, x, z, f, h1, h2, keepC C hW hM h3 (nok_o (by decide)), keepC C hW hM h4 (nok_a (Or.inl rfl)), h5⟩
theorem KA.wr (h : KA o σ) (C : Ch M σ σ') (hW : Wf σ) (hM : ∀ q, q < σ.2 0 → M q → ∃ e, σ.1 q = some e ∧ okW e) : KA o σ' := by
  obtain ⟨⟨l1, l2, g0, l3⟩, h2, h3, ⟨h4, f, h5, h6⟩, h7, g, h8, h9⟩ := h
  refine ⟨⟨fun k hk => ?_, by rw [C.k (by decide)]; exact l2, g0, by rw [C.k (by decide)]; exact keepC C hW hM l3 (nok_a (Or.inr ⟨rfl, rfl⟩))⟩, fun k hk => ?_, fun i j hi hj => ?_, ⟨?_, f, ?_, h6⟩, ?_, g, ?_, h9⟩
  · obtain ⟨w1, fs, w2⟩ := l1 k hk
    rw [C.k (by omega)]
    exact ⟨w1, fs, keepC C hW hM w2 (nok_o (by omega))⟩
  · rw [C.k (by omega)]
    exact (h2 k hk).wr C hW hM
  · rw [C.k (by omega), C.k (by omega)]
    exact h3 i j hi hj
  · rw [C.k (by decide)]; exact h4
  · rw [C.k (by decide)]; exact keepC C hW hM h5 (nok_a (Or.inl rfl))
  · rw [C.k (by decide)]; exact h7
  · rw [C.k (by decide)]; exact keepC C hW hM h8 (nok_a (Or.inl rfl))
theorem TX.wr {rd tp : Nat} {L : List Nat} (h : TX o σ rd tp L) (C : Ch M σ σ') (hW : Wf σ) (hM : ∀ q, q < σ.2 0 → M q → ∃ e, σ.1 q = some e ∧ okW e) : TX o σ' rd tp L := by
  obtain ⟨h1, ⟨h2, h3⟩ | ⟨x, cap, n, B, h2, h3, h4⟩⟩ := h
  · exact ⟨h1, Or.inl ⟨h2.wr C hW hM, h3⟩⟩
  · obtain ⟨g1, b, f, ml, g2, g3, g4, g5⟩ := h3
    exact ⟨h1, Or.inr ⟨x, cap, n, B, h2, ⟨g1, b, f, ml, g2, keepC C hW hM g3 (nok_o (by decide)), keepC C hW hM g4 (nok_a (Or.inl rfl)), g5⟩, h4⟩⟩
theorem RV.wr {rd tp p fc nt n m x y : Nat} {fr : Value} {L : List Nat} (h : RV o σ rd tp fr L p fc nt (n + x) (m + y)) (C : Ch M σ σ') (hM : ∀ q, q < σ.2 0 → M q → ∃ e, σ.1 q = some e ∧ okW e) (hR : ∀ a b, Rm σ (a + x) (b + y) → Rm σ' a b) : RV o σ' rd tp fr L p fc nt n m := by
  obtain ⟨⟨hS, hK⟩, h2, h3, h4, ⟨wd, vl, h5, h6, h7⟩, h8⟩ := h
  refine ⟨⟨hS.ch C, hK.wr C hS.1 hM⟩, h2.wr C hS.1 hM, h3, h4, ⟨wd, vl, by rw [C.k (by omega)]; exact keepC C hS.1 hM h5 (nok_o (by decide)), fun w => ?_, h7⟩, hR _ _ (h8.le (by omega) (by omega))⟩
  obtain ⟨g1, b, y', z, f, g2, g3, g4, g5⟩ := h6 w
  exact ⟨g1, b, y', z, f, g2, keepC C hS.1 hM g3 (nok_o (by decide)), keepC C hS.1 hM g4 (nok_a (Or.inl rfl)), g5⟩
end WRS
/-- the will that is built, as far as guards need it -/
def VW (o : oW) (σ : cS) (rd w : Nat) (d : Nat → Nat) : Prop := w ≠ rd ∧ o w = (w + 1, 0) ∧ ∃ (vl : Nat) (rest : List Value), σ.1 w = some (.inr (1, .ref vl :: rest)) ∧ (o vl).1 = 0 ∧ IA σ vl (d 0) (fun i => d (1 + i))
theorem VW.f {o o' : oW} {σ σ' : cS} {rd w : Nat} {d : Nat → Nat} (h : VW o σ rd w d) (hS : SI o σ) (F : RF o σ rd o' σ') : VW o' σ' rd w d := by
  obtain ⟨h1, h2, vl, rest, h3, h4, h5⟩ := h
  have hv := h5.lt hS.1
  exact ⟨h1, by rw [F.2 _ (hS.lt h3)]; exact h2, vl, rest, F.1.c hS.1 h3 (fun w => by have w' : (o _).1 = rd + 1 := w; rw [h2] at w'; omega), by rw [F.2 _ hv]; exact h4, h5.c F.1 hS.1 (fun w => by have w' : (o vl).1 = rd + 1 := w; rw [h4] at w'; omega)⟩
/-- a ghost's map: what may not be a guard's -/
def gX (s a b : Nat) (o : oW) : oW := fun q => if q < s ∨ q = a ∨ q = b then (1, 0) else o q
theorem gX_y {s a b q : Nat} {o : oW} (h : (gX s a b o q).1 = 0) : s ≤ q ∧ q ≠ a ∧ q ≠ b ∧ (o q).1 = 0 := by
  unfold gX at h
  split at h
  · cases h
  · exact ⟨by omega, by omega, by omega, h⟩
theorem gX_n {s a b q : Nat} {o : oW} (h1 : s ≤ q) (h2 : q ≠ a) (h3 : q ≠ b) (h4 : (o q).1 = 0) : (gX s a b o q).1 = 0 := by
  unfold gX
  rw [if_neg (by omega)]
  exact h4
section GHO
variable {o o' : oW} {σ σ' : cS} {rd s a b s' a' b' D g : Nat} {d : Nat → Nat} {tm : Term}
theorem GX.f (G : GuardC (gX s a b o) σ d D g tm) (hW : Wf σ) (h0 : d 0 ≤ 4) (F : RF o σ rd o' σ') : GuardC (gX s a b o') σ' d D g tm := GuardC.c F.1 hW (fun q _ w v => by
  have := (gX_y v).2.2.2
  have w : (o q).1 = rd + 1 := w
  omega) (fun q hq v => by
  have := gX_y v
  exact gX_n this.1 this.2.1 this.2.2.1 (by rw [F.2 q hq]; exact this.2.2.2)) (fun _ _ => rfl) h0 D g tm G
theorem GX.gh (G : GuardC (gX s a b o) σ d D g tm) (hW : Wf σ) (h0 : d 0 ≤ 4) (h : ∀ q, q < σ.2 0 → s ≤ q → q ≠ a → q ≠ b → s' ≤ q ∧ q ≠ a' ∧ q ≠ b') : GuardC (gX s' a' b' o) σ d D g tm := GuardC.c (M := fun _ => False) Ch.rf hW (fun _ _ w => w.elim) (fun q hq v => by
  have v1 := gX_y v
  have v2 := h q hq v1.1 v1.2.1 v1.2.2.1
  exact gX_n v2.1 v2.2.1 v2.2.2 v1.2.2.2) (fun _ _ => rfl) h0 D g tm G
theorem GX.w {M : Nat → Prop} (G : GuardC (gX s a b o) σ d D g tm) (hW : Wf σ) (h0 : d 0 ≤ 4) (C : Ch M σ σ') (hM : ∀ q, q < σ.2 0 → M q → q < s ∨ q = a ∨ q = b) : GuardC (gX s a b o) σ' d D g tm := GuardC.c C hW (fun q hq w v => by
  have := gX_y v
  have := hM q hq w
  omega) (fun _ _ v => v) (fun _ _ => rfl) h0 D g tm G
end GHO
/-- a joined guard that is built -/
def JS (o : oW) (σ : cS) (s : Nat) (d : Nat → Nat) (D : Nat) (b : Bool) (j li ar k : Nat) (r : Nat → Nat) (ts : Nat → Term) : Prop := ((s ≤ j ∧ s ≤ li ∧ s ≤ ar) ∧ 0 < s) ∧ ((o j).1 = 0 ∧ (o li).1 = 0 ∧ (o ar).1 = 0) ∧ σ.1 j = some (.inr (5, [.ref li, .int (b32 b)])) ∧ (AL σ li ar (k + 1) r ∧ ar ≠ σ.2 15 ∧ σ.2 2 ≤ li ∧ σ.2 2 ≤ ar) ∧ ∀ i, i ≤ k → GuardC (gX s li ar o) σ d D (r i) (ts i)
theorem AL.lt {σ : cS} {li ar n : Nat} {r : Nat → Nat} (h : AL σ li ar n r) (hW : Wf σ) : li < σ.2 0 ∧ ar < σ.2 0 := by
  obtain ⟨⟨mc, h1⟩, cap, f, h2, -⟩ := h
  exact ⟨hW.lt h1, hW.lt h2⟩
section JSS
variable {o o' : oW} {σ σ' : cS} {rd tp s D j li ar k p fc nt n m g : Nat} {b : Bool} {d r : Nat → Nat} {ts : Nat → Term} {tm : Term} {fr : Value} {L : List Nat}
theorem JS.f (h : JS o σ s d D b j li ar k r ts) (hS : SI o σ) (h0 : d 0 ≤ 4) (F : RF o σ rd o' σ') : JS o' σ' s d D b j li ar k r ts := by
  obtain ⟨h1, ⟨h2, h3, h4⟩, h5, ⟨h6, h7, h8⟩, h9⟩ := h
  have hl := h6.lt hS.1
  have hj := hS.lt h5
  have kp : ∀ q, (o q).1 = 0 → ¬ (o q).1 = rd + 1 := fun q w => by omega
  exact ⟨h1, ⟨by rw [F.2 _ hj]; exact h2, by rw [F.2 _ hl.1]; exact h3, by rw [F.2 _ hl.2]; exact h4⟩, F.1.c hS.1 h5 (kp _ h2), ⟨h6.c F.1 hS.1 (kp _ h3) (kp _ h4), by rw [F.1.k (by decide)]; exact h7, by rw [F.1.k (by decide)]; exact h8⟩, fun i hi => GX.f (h9 i hi) hS.1 h0 F⟩
theorem JS.add (h : JS o σ s d D b j li ar k r ts) (V : RV o σ rd tp fr L p fc nt (n + 1) (m + 15)) (h0 : d 0 ≤ 4) (hk : k < 12) {t : Nat} (ht : s ≤ t ∧ li < t ∧ ar < t) (hg : GuardC (gX t 0 0 o) σ d D g tm) : ∃ σ' ar', m_J18_add li (some g) σ = some (1, σ') ∧ JS o σ' s d D b j li ar' (k + 1) (fun i => if i = k + 1 then g else r i) (fun i => if i = k + 1 then tm else ts i) ∧ RV o σ' rd tp fr L p fc nt n m ∧ Ch (fun q => q = li ∨ q = ar) σ σ' := by
  obtain ⟨⟨⟨a1, a2, a3⟩, a4⟩, ⟨h2, h3, h4⟩, h5, ⟨h6, h7, h8, h9⟩, h10⟩ := h
  have hS := V.1.1
  have hl := h6.lt hS.1
  obtain ⟨σ', ar', e, A', hA, C, -⟩ := AL.add (a := 0) (b := 0) h6 hS.1 hS.2.1 h8 (fun _ => h9) V.1.2.1.2.2 hg.okV (fun i hi => (h10 i (by omega)).okV) (by omega) (V.rm (by omega) (by omega))
  have hRm : ∀ a b, Rm σ (a + 1) (b + 15) → Rm σ' a b := fun a b hR => by
    obtain ⟨σ2, ar2, e2, -, -, -, R⟩ := AL.add h6 hS.1 hS.2.1 h8 (fun _ => h9) V.1.2.1.2.2 hg.okV (fun i hi => (h10 i (by omega)).okV) (by omega) hR
    rw [e] at e2
    have := (Prod.mk.inj (Option.some.inj e2)).2
    rw [this]
    exact R
  have C2 : Ch (fun q => q = li ∨ q = ar) σ σ' := C.mono (fun q _ w => by
    rcases w with w | w
    · exact Or.inl w
    · exact Or.inr w.1)
  obtain ⟨⟨mc, l1⟩, cap, f, l2, l3, -⟩ := id h6
  have hM : ∀ q, q < σ.2 0 → (q = li ∨ q = ar) → ∃ e, σ.1 q = some e ∧ okW e := fun q _ w => by
    rcases w with w | w
    · exact ⟨_, by rw [w]; exact l1, Or.inl ⟨9, _, rfl, by decide, by decide, by decide⟩⟩
    · exact ⟨_, by rw [w]; exact l2, Or.inr ⟨2, cap, _, rfl, Or.inr (Or.inr ⟨rfl, by omega⟩)⟩⟩
  have hjl : j ≠ li := fun w => by rw [w, l1] at h5; cases h5
  have hja : j ≠ ar := fun w => by rw [w, l2] at h5; cases h5
  have hsN := hS.2.1
  have har : s ≤ ar' ∧ (o ar').1 = 0 ∧ ar' ≠ σ.2 15 ∧ σ.2 2 ≤ ar' ∧ (ar' = ar ∨ ar' = σ.2 0) := by
    rcases hA with ⟨w, -⟩ | w
    · rw [w]; exact ⟨a3, h4, h7, h9, Or.inl rfl⟩
    · have h15 : σ.2 15 < σ.2 0 := by
        obtain ⟨-, -, f0, w2⟩ := V.1.2.1
        exact hS.lt w2
      rw [w]
      exact ⟨by omega, hS.fr (Nat.le_refl _), by omega, hsN, Or.inr rfl⟩
  have C0 : Wf σ' := (hS.ch C2).1
  have G1 : ∀ i, i ≤ k → GuardC (gX s li ar' o) σ' d D (r i) (ts i) := fun i hi => by
    rcases har.2.2.2.2 with w | w
    · rw [w]
      exact GX.w (h10 i hi) hS.1 h0 C2 (fun q _ w => Or.inr w)
    · have w2 : GuardC (gX s li ar (gX s (σ.2 0) (σ.2 0) o)) σ d D (r i) (ts i) := GuardC.c (M := fun _ => False) (o := gX s li ar o) Ch.rf hS.1 (fun _ _ w => w.elim) (fun q hq v => by
        have := gX_y v
        exact gX_n this.1 this.2.1 this.2.2.1 (gX_n this.1 (by omega) (by omega) this.2.2.2)) (fun _ _ => rfl) h0 D _ _ (h10 i hi)
      have w3 : GuardC (gX s li ar (gX s (σ.2 0) (σ.2 0) o)) σ' d D (r i) (ts i) := GX.w w2 hS.1 h0 C2 (fun q _ w => Or.inr w)
      rw [w]
      exact GuardC.c (M := fun _ => False) (o := gX s li ar (gX s (σ.2 0) (σ.2 0) o)) Ch.rf C0 (fun _ _ w => w.elim) (fun q hq v => by
        have v1 := gX_y v
        have v2 := gX_y v1.2.2.2
        exact gX_n v1.1 v1.2.1 v2.2.1 v2.2.2.2) (fun _ _ => rfl) h0 D _ _ w3
  have G2 : GuardC (gX s li ar' o) σ' d D g tm := by
    have w1 : GuardC (gX t li ar o) σ' d D g tm := GX.w (GX.gh hg hS.1 h0 (fun q hq a _ _ => ⟨a, by omega, by omega⟩)) hS.1 h0 C2 (fun q _ w => Or.inr w)
    rcases har.2.2.2.2 with w | w
    · rw [w]
      exact GX.gh w1 C0 h0 (fun q hq a b c => ⟨by omega, b, c⟩)
    · have w2 : GuardC (gX t li ar (gX t (σ.2 0) (σ.2 0) o)) σ d D g tm := GuardC.c (M := fun _ => False) (o := gX t 0 0 o) Ch.rf hS.1 (fun _ _ w => w.elim) (fun q hq v => by
        have := gX_y v
        exact gX_n this.1 (by omega) (by omega) (gX_n this.1 (by omega) (by omega) this.2.2.2)) (fun _ _ => rfl) h0 D _ _ hg
      have w3 : GuardC (gX t li ar (gX t (σ.2 0) (σ.2 0) o)) σ' d D g tm := GX.w w2 hS.1 h0 C2 (fun q _ w => Or.inr w)
      rw [w]
      exact GuardC.c (M := fun _ => False) (o := gX t li ar (gX t (σ.2 0) (σ.2 0) o)) Ch.rf C0 (fun _ _ w => w.elim) (fun q hq v => by
        have v1 := gX_y v
        have v2 := gX_y v1.2.2.2
        exact gX_n (by omega) v1.2.1 v2.2.1 v2.2.2.2) (fun _ _ => rfl) h0 D _ _ w3
  refine ⟨σ', ar', e, ⟨⟨⟨a1, a2, har.1⟩, a4⟩, ⟨h2, h3, har.2.1⟩, C2.c hS.1 h5 (fun w => by rcases w with w | w; exact hjl w; exact hja w), ⟨A', by rw [C2.k (by decide)]; exact har.2.2.1, by rw [C2.k (by decide)]; exact h8, by rw [C2.k (by decide)]; exact har.2.2.2.1⟩, fun i hi => ?_⟩, V.wr C2 hM hRm, C2⟩
  dsimp only
  by_cases c : i = k + 1
  · rw [if_pos c, if_pos c]
    exact G2
  · rw [if_neg c, if_neg c]
    exact G1 i (by omega)
theorem JS.mk (V : RV o σ rd tp fr L p fc nt (n + 3) (m + 20)) (h0 : d 0 ≤ 4) (hs : 0 < s ∧ s ≤ σ.2 0) (hg : GuardC (gX s 0 0 o) σ d D g tm) : ∃ σ' ar, (∀ (β : Type) (K : Nat → cS → Option β), (nO σ 5 2 [.null, .int 0] fun q_8 σ_9 => bd (m_X8_init q_8 (b32 b) σ_9) fun _ σ_10 => gR σ_10 (some q_8) 5 0 fun v_11 => nn σ_10 v_11 9 fun a_14 => bd (m_J18_add a_14 (some g) σ_10) fun _ σ_13 => K q_8 σ_13) = K (σ.2 0) σ') ∧ JS o σ' s d D b (σ.2 0) (σ.2 0 + 1) ar 0 (fun _ => g) (fun _ => tm) ∧ RV o σ' rd tp fr L p fc nt n m ∧ Ch (fun _ => False) σ σ' := by
  have hS := V.1.1
  have hs2 := hS.2.1
  have hR := V.rm (a := 3) (b := 20) (by omega) (by omega)
  have hR1 := hR.1
  have hR2 := hR.2
  generalize hσ1 : cN σ (.inr (5, [.null, .int 0])) 2 = σ1
  have n1 : σ1.2 0 = σ.2 0 + 1 ∧ σ1.2 1 = σ.2 1 + 2 ∧ ∀ k, 2 ≤ k → σ1.2 k = σ.2 k := by
    rw [← hσ1]
    exact ⟨rfl, rfl, fun k hk => cN_k hk⟩
  generalize hσ2 : cN σ1 (.inr (9, [.int 0, .null, .int 0])) 3 = σ2
  have n2 : σ2.2 0 = σ.2 0 + 2 ∧ σ2.2 1 = σ.2 1 + 5 ∧ ∀ k, 2 ≤ k → σ2.2 k = σ.2 k := by
    rw [← hσ2]
    exact ⟨by rw [cN_0, n1.1], by rw [cN_1, n1.2.1], fun k hk => by rw [cN_k hk, n1.2.2 k hk]⟩
  have C2 : Ch (fun _ => False) σ σ2 := by rw [← hσ2, ← hσ1]; exact Ch.rf.cN.cN
  have j2 : σ2.1 (σ.2 0) = some (.inr (5, [.null, .int 0])) := by rw [← hσ2, cN_n (by rw [n1.1]; omega), ← hσ1]; exact cN_s
  have l2 : σ2.1 (σ.2 0 + 1) = some (.inr (9, [.int 0, .null, .int 0])) := by rw [← hσ2, ← n1.1]; exact cN_s
  have hw : σ2.2 2 ≤ σ.2 0 := by rw [n2.2.2 2 (by decide)]; exact hs2
  generalize hσ3 : cU σ2 (σ.2 0 + 1) (.inr (9, [.int 0, .ref (σ.2 15), .int 0])) = σ3
  have n3 : σ3.2 = σ2.2 := by rw [← hσ3]; rfl
  have C3 : Ch (fun _ => False) σ σ3 := by rw [← hσ3]; exact C2.cU l2 (Or.inl (by omega))
  have j3 : σ3.1 (σ.2 0) = some (.inr (5, [.null, .int 0])) := by rw [← hσ3, cU_n (by omega)]; exact j2
  have l3 : σ3.1 (σ.2 0 + 1) = some (.inr (9, [.int 0, .ref (σ.2 15), .int 0])) := by rw [← hσ3]; exact cU_s
  generalize hσ4 : cU σ3 (σ.2 0) (.inr (5, [.ref (σ.2 0 + 1), .int (b32 b)])) = σ4
  have n4 : σ4.2 = σ2.2 := by rw [← n3, ← hσ4]; rfl
  have C4 : Ch (fun _ => False) σ σ4 := by rw [← hσ4]; exact C3.cU j3 (Or.inl (Nat.le_refl _))
  have j4 : σ4.1 (σ.2 0) = some (.inr (5, [.ref (σ.2 0 + 1), .int (b32 b)])) := by rw [← hσ4]; exact cU_s
  have l4 : σ4.1 (σ.2 0 + 1) = some (.inr (9, [.int 0, .ref (σ.2 15), .int 0])) := by rw [← hσ4, cU_n (by omega)]; exact l3
  obtain ⟨o15, f0, k15⟩ := V.1.2.1.2
  have h15 := hS.lt k15
  have k15' : σ4.1 (σ4.2 15) = some (.inl (2, 0, vR f0)) := by rw [C4.k (by decide)]; exact C4.c hS.1 k15 id
  have A4 : AL σ4 (σ.2 0 + 1) (σ.2 15) 0 (fun _ => g) := ⟨⟨0, l4⟩, 0, f0, by rw [C4.k (by decide)] at k15'; exact k15', Nat.le_refl _, fun i hi => absurd hi (Nat.not_lt_zero _), Or.inl ⟨rfl, by rw [C4.k (by decide)]⟩⟩
  have S4 := hS.ch C4
  have hgok : okV σ4 2 (some g) = true := by
    have : GuardC (gX s 0 0 o) σ4 d D g tm := GX.w hg hS.1 h0 C4 (fun _ _ w => w.elim)
    exact this.okV
  have hR4 : ∀ a b, Rm σ (a + 3) (b + 20) → Rm σ4 (a + 1) (b + 15) := fun a b h => by
    have h1 := h.1
    have h2 := h.2
    unfold Rm
    rw [n4, n2.1, n2.2.1, n2.2.2 3 (by decide), n2.2.2 4 (by decide)]
    omega
  have hw4 : σ4.2 2 ≤ σ.2 0 + 1 := by rw [n4, n2.2.2 2 (by decide)]; omega
  obtain ⟨σ5, ar, e5, A5, hA, C5, -⟩ := AL.add (a := 0) (b := 0) A4 S4.1 S4.2.1 hw4 (fun w => absurd (C4.k (by decide)).symm w) ⟨f0, k15'⟩ hgok (fun i hi => absurd hi (Nat.not_lt_zero _)) (by decide) (hR4 0 0 hR)
  have hRm : ∀ a b, Rm σ (a + 3) (b + 20) → Rm σ5 a b := fun a b hR => by
    obtain ⟨σ6, ar6, e6, -, -, -, R⟩ := AL.add A4 S4.1 S4.2.1 hw4 (fun w => absurd (C4.k (by decide)).symm w) ⟨f0, k15'⟩ hgok (fun i hi => absurd hi (Nat.not_lt_zero _)) (by decide) (hR4 a b hR)
    rw [e5] at e6
    have := (Prod.mk.inj (Option.some.inj e6)).2
    rw [this]
    exact R
  have har : ar = σ.2 0 + 2 := by
    rcases hA with ⟨-, w⟩ | w
    · exact absurd (C4.k (by decide)).symm w
    · rw [w, n4, n2.1]
  have C5' : Ch (fun _ => False) σ σ5 := C4.then C5 (fun q hq w => by
    rcases w with w | w
    · omega
    · exact absurd (C4.k (by decide)).symm w.2)
  have j5 : σ5.1 (σ.2 0) = some (.inr (5, [.ref (σ.2 0 + 1), .int (b32 b)])) := C5.c S4.1 j4 (fun w => by
    rcases w with w | w
    · omega
    · exact absurd (C4.k (by decide)).symm w.2)
  have hb : b32 b = 0 ∨ b32 b = 1 := by cases b <;> decide
  refine ⟨σ5, ar, fun β K => ?_, ⟨⟨⟨hs.2, by omega, by omega⟩, hs.1⟩, ⟨hS.fr (Nat.le_refl _), hS.fr (by omega), hS.fr (by omega)⟩, j5, ⟨by
    have : (fun i => if i = 0 then g else (fun _ => g) i) = (fun _ : Nat => g) := funext fun i => by split <;> rfl
    rw [this] at A5
    exact A5, by rw [C5'.k (by decide)]; omega, by rw [C5'.k (by decide)]; omega, by rw [C5'.k (by decide)]; omega⟩, fun i hi => ?_⟩, V.wr C5' (fun _ _ w => w.elim) hRm, C5'⟩
  · rw [nO_J (by omega) (by omega), hσ1]
    unfold m_X8_init m_J18_init m_J17_init m_J0_init
    rw [nO_J (by rw [n1.1, n1.2.2 3 (by decide)]; omega) (by rw [n1.2.1, n1.2.2 4 (by decide)]; omega), hσ2, n1.1, bd_J, pO_J l2 (by show 0 < 3; decide) (by omega), bd_J, pO_J cU_s (by show 1 < 3; decide) (by show σ2.2 2 ≤ _; omega), cU_cU, bd_J]
    rw [show cU σ2 (σ.2 0 + 1) (.inr (9, List.set (List.set [Value.int 0, .null, .int 0] 0 (.int 0)) 1 (va_rf (some ((cU σ2 (σ.2 0 + 1) (.inr (9, List.set [Value.int 0, .null, .int 0] 0 (.int 0)))).2 15))))) = σ3 from by
      rw [← hσ3, cU_2, n2.2.2 15 (by decide)]
      rfl]
    rw [pO_J j3 (by show 0 < 2; decide) (by rw [n3]; exact hw), gd_J hb, pO_J cU_s (by show 1 < 2; decide) (by show σ3.2 2 ≤ _; rw [n3]; exact hw), cU_cU]
    rw [show cU σ3 (σ.2 0) (.inr (5, List.set (List.set [Value.null, .int 0] 0 (va_rf (some (σ.2 0 + 1)))) 1 (.int (b32 b)))) = σ4 from hσ4, bd_J, gR_J j4 rfl, nn_J l4, e5, bd_J]
  · have w1 : GuardC (gX s (σ.2 0 + 1) ar o) σ d D g tm := GX.gh hg hS.1 h0 (fun q hq a _ _ => ⟨a, by omega, by omega⟩)
    exact GX.w w1 hS.1 h0 C5' (fun _ _ w => w.elim)
theorem JS.end (h : JS o σ s d D b j li ar k r ts) (hW : Wf σ) (h0 : d 0 ≤ 4) (hk : 1 ≤ k ∧ k ≤ 11) : GuardC (gX s 0 0 o) σ d (D + 1) j (foldF b ts k) := by
  obtain ⟨⟨⟨a1, a2, a3⟩, a4⟩, ⟨h2, h3, h4⟩, h5, ⟨h6, h7, h8, h9⟩, h10⟩ := h
  exact ⟨gX_n a1 (by omega) (by omega) h2, Or.inr (Or.inr (Or.inr ⟨b, li, ar, k, r, ts, ⟨hk, rfl⟩, h5, ⟨gX_n a2 (by omega) (by omega) h3, gX_n a3 (by omega) (by omega) h4, h6⟩, fun i hi => GX.gh (h10 i hi) hW h0 (fun q hq a b c => ⟨a, by omega, by omega⟩)⟩))⟩
end JSS
