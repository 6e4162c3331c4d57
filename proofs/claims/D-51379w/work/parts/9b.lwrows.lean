/-! THE LAW: the heap as the law sees it -/
set_option maxRecDepth 1000000
/-- the class' cells, without bounds -/
def HQ (g : cG) (A : Nat → Prop) (σ : cS) (H : Heap) : Prop := (∀ a e, σ.1 a = some e → cCell g a e H) ∧ (∀ a e, σ.1 a = some e → σ.2 2 ≤ a → A a) ∧ (∀ q, H.size ≤ q → A q) ∧ Bn g.2.2.1 σ.2 ∧ σ.2 0 ≤ H.size
theorem HP.q {g : cG} {A : Nat → Prop} {σ : cS} {H : Heap} (h : HP g A σ H) : HQ g A σ H := by
  obtain ⟨p0, p1, p2, p3, p4, p5, p6⟩ := h
  exact ⟨p4, p5, fun q hq => p6 q (by omega), fun k h1 _ _ => p3 k h1, by omega⟩
/-- the counts as they are -/
def sC (σ : cS) (H : Heap) : cS := (σ.1, fun k => if k = 0 then H.size else if k = 1 then hsl H else σ.2 k)
def gB (g : cG) (n m : Nat) : cG := (g.1, g.2.1, fun k => if k = 3 then n else if k = 4 then m else g.2.2.1 k, g.2.2.2)
def sB (σ : cS) (H : Heap) (n m : Nat) : cS := (σ.1, fun k => if k = 0 then H.size else if k = 1 then hsl H else if k = 3 then n else if k = 4 then m else σ.2 k)
theorem sB_n {σ : cS} {H : Heap} {n m k : Nat} (h0 : k ≠ 0) (h1 : k ≠ 1) (h3 : k ≠ 3) (h4 : k ≠ 4) : (sB σ H n m).2 k = σ.2 k := by
  show (if k = 0 then _ else if k = 1 then _ else if k = 3 then _ else if k = 4 then _ else σ.2 k) = _
  rw [if_neg h0, if_neg h1, if_neg h3, if_neg h4]
theorem gB_n {g : cG} {n m k : Nat} (h3 : k ≠ 3) (h4 : k ≠ 4) : (gB g n m).2.2.1 k = g.2.2.1 k := by
  show (if k = 3 then n else if k = 4 then m else g.2.2.1 k) = _
  rw [if_neg h3, if_neg h4]
theorem sB_b {σ : cS} {H : Heap} {n m : Nat} : Bn σ.2 (sB σ H n m).2 := fun k h1 h2 h3 => sB_n (by omega) (by omega) h2 h3
theorem cCell.gB {g : cG} {n m a : Nat} {e : cE} {H : Heap} : cCell (gB g n m) a e H = cCell g a e H := rfl
theorem HQ.p {g : cG} {A : Nat → Prop} {σ : cS} {H : Heap} {n m : Nat} (h : HQ g A σ H) (hn : H.size ≤ n) (hm : hsl H ≤ m) : HP (gB g n m) A (sB σ H n m) H := by
  obtain ⟨h1, h2, h3, h4, h5⟩ := h
  refine ⟨rfl, rfl, ⟨hn, hm⟩, fun k hk => ?_, h1, fun a e ha hw => h2 a e ha ?_, h3⟩
  · by_cases c3 : k = 3
    · rw [c3]; rfl
    · by_cases c4 : k = 4
      · rw [c4]; rfl
      · rw [sB_n (by omega) (by omega) c3 c4, gB_n c3 c4]
        exact h4 k hk c3 c4
  · rw [sB_n (by decide) (by decide) (by decide) (by decide)] at hw
    exact hw
theorem HQ.gB {g : cG} {A : Nat → Prop} {σ : cS} {H : Heap} {n m : Nat} (h : HQ (gB g n m) A σ H) : HQ g A σ H := by
  obtain ⟨h1, h2, h3, h4, h5⟩ := h
  exact ⟨h1, h2, h3, fun k a b c => by rw [h4 k a b c, gB_n b c], h5⟩
theorem HQ.kept {g : cG} {A : Nat → Prop} {σ : cS} {H H1 : Heap} (h : HQ g A σ H) (hz : H.size ≤ H1.size) (ho : ∀ a e, σ.1 a = some e → H1[a]? = H[a]?) : HQ g A σ H1 := by
  obtain ⟨h1, h2, h3, h4, h5⟩ := h
  exact ⟨fun a e ha => (h1 a e ha).kept (ho a e ha), h2, fun q hq => h3 q (Nat.le_trans hz hq), h4, Nat.le_trans h5 hz⟩
/-- a call that threw: the cells are as they were -/
theorem HPx.q {g : cG} {A : Nat → Prop} {σ : cS} {H : Heap} (h : HPx g A σ H) : HQ g A (sC σ H) H := by
  obtain ⟨n0, n1, h0, h1, p0, p1, p2, p3, p4, p5, p6⟩ := h
  refine ⟨p4, fun a e ha hw => p5 a e ha ?_, fun q hq => p6 q ?_, fun k a b c => ?_, Nat.le_refl _⟩
  · exact hw
  · have p0' : H.size = n0 := p0
    show n0 ≤ q
    omega
  · have := p3 k a
    show (if k = 0 then _ else if k = 1 then _ else σ.2 k) = _
    rw [if_neg (by omega), if_neg (by omega)]
    have e : (if k = 0 then n0 else if k = 1 then n1 else σ.2 k) = g.2.2.1 k := this
    rw [if_neg (by omega), if_neg (by omega)] at e
    exact e
theorem cSt_b : ∀ q ∈ cSt, q.2.2.2 ≠ 3 ∧ q.2.2.2 ≠ 4 := by decide
theorem cStr_b : ∀ q ∈ cStr, q.2.2.2 ≠ 3 ∧ q.2.2.2 ≠ 4 := by decide
theorem cLam_b : ∀ q ∈ cLam, q.2.2.2.2 ≠ 3 ∧ q.2.2.2.2 ≠ 4 := by decide +kernel
theorem WKc.gB {g : cG} {A : Nat → Prop} {U : State} {H : Heap} {n m : Nat} (h : WKc g A U H) : WKc (gB g n m) A U H := by
  obtain ⟨h1, h2, h3, h4, h5, h6, h7, h8, h9, h10, h11, h12, h13, h14, h15, ⟨x1, x2, x3, x4⟩, h17⟩ := h
  refine ⟨h1, h2, h3, h4, fun q hq => ?_, fun q hq => ?_, h7, h8, h9, h10, h11, h12, h13, h14, h15, ⟨x1, x2, fun k q hq => ?_, x4⟩, h17⟩
  · have b := cSt_b q hq
    rw [gB_n b.1 b.2]
    exact h5 q hq
  · have b := cStr_b q hq
    rw [gB_n b.1 b.2]
    exact h6 q hq
  · have b := cLam_b q (List.mem_of_getElem? hq)
    obtain ⟨m', k', cf, i0, p0, l, q1, q2, q3, q4, q5, q6, q7, q8, q9, q10⟩ := x3 k q hq
    refine ⟨m', k', cf, i0, p0, l, q1, q2, q3, q4, q5, q6, q7, q8, ?_, q10⟩
    rw [gB_n b.1 b.2]
    exact q9
/-- the class' side, the twin's side, the long that is told -/
def LC (g : cG) (A : Nat → Prop) (x : Nat) (S : SS) (H : Heap) : Prop := ∃ o σ, CInv o σ x S ∧ HQ g A σ H
def LT (gt : twG) (B : Nat → Prop) (S : SS) (H : Heap) : Prop := ∃ τ, TI gt B τ H ∧ TInv τ S
def LO (g : cG) (ao : Nat) (v : Int64) (H : Heap) : Prop := ∃ f : Nat → Int64, H[ao]? = some (vp_cell (g.2.1 5) (1, .inr (.inl f))) ∧ f 0 = v
theorem LO.kept {g : cG} {ao : Nat} {v : Int64} {H H1 : Heap} (h : LO g ao v H) (ho : H1[ao]? = H[ao]?) : LO g ao v H1 := by
  obtain ⟨f, h1, h2⟩ := h
  exact ⟨f, ho.trans h1, h2⟩
theorem LT.kept {gt : twG} {B : Nat → Prop} {S : SS} {H H1 : Heap} (h : LT gt B S H) (ho : ∀ q, B q → q < H.size → H1[q]? = H[q]?) : LT gt B S H1 := by
  obtain ⟨τ, ⟨h1, h2⟩, h3⟩ := h
  exact ⟨τ, ⟨h1.kept fun k q hq => ho q.1 (h2.2 k q hq) (h1 k q hq).lt, h2⟩, h3⟩
theorem LC.kept {g : cG} {A : Nat → Prop} {x : Nat} {S : SS} {H H1 : Heap} (h : LC g A x S H) (hz : H.size ≤ H1.size) (hb : ∀ q, g.2.2.1 2 ≤ q → ¬ A q → True) (ho : ∀ q, q < H.size → (A q ∨ q < g.2.2.1 2) → H1[q]? = H[q]?) : LC g A x S H1 := by
  obtain ⟨o, σ, h1, h2⟩ := h
  refine ⟨o, σ, h1, h2.kept hz fun a e ha => ho a (h2.1 a e ha).lt ?_⟩
  by_cases c : σ.2 2 ≤ a
  · exact Or.inl (h2.2.1 a e ha c)
  · have := h2.2.2.2.1 2 (by decide) (by decide) (by decide)
    exact Or.inr (by omega)
section LWR
variable {p : Program} {l : Launch} {e : Env} {R : Room} {s : State} {m : MethodId} {args : Array Value} {below : List Frame} {meth : Method} {c : Code} {H : Heap} {locs : List Loc} {cells slots : Nat} {Q : State → Prop}
variable {cc : ByteArray} {pc : Nat} {ls : Array Slot} {rest : List Value} {g : cG} {A : Nat → Prop} {nL : Nat} {ret : Option FieldType} {own : String} {σ : cS}
/-- how many cells and slots there are -/
theorem stand_room {T : State} (hT : T.heap = H) (X : Stand p l e R s m args below meth c T locs cells slots) : (s.heap.size ≤ H.size ∧ H.size ≤ s.heap.size + cells) ∧ hsl s.heap ≤ hsl H ∧ hsl H ≤ hsl s.heap + slots := by
  obtain ⟨h1, h2, h3, h4, h5, h6⟩ := X.same
  have hz : (T.setVm s.vm).heap = H := hT
  rw [hz] at h2 h3 h4 h5 h6
  have e1 : hsl H = hsl s.heap + ((H.toList.drop s.heap.size).map (fun (x : Cell) => x.slots.size)).sum := by
    have e2 : H.toList = H.toList.take s.heap.size ++ H.toList.drop s.heap.size := (List.take_append_drop _ _).symm
    have e3 : (H.toList.take s.heap.size).map (fun (x : Cell) => x.slots.size) = s.heap.toList.map (fun (x : Cell) => x.slots.size) := by
      apply List.ext_getElem?
      intro i
      simp only [List.getElem?_map, List.getElem?_take]
      by_cases hi : i < s.heap.size
      · rw [if_pos hi]
        obtain ⟨c1, q1, q2, q3, -⟩ := h6 i _ (Array.getElem?_eq_getElem hi)
        simp only [Array.getElem?_toList]
        rw [q1, Array.getElem?_eq_getElem hi]
        simp [q3]
      · rw [if_neg hi]
        simp only [Array.getElem?_toList]
        rw [Array.getElem?_eq_none (by omega)]
    unfold hsl
    rw [e2, List.map_append, List.sum_append, e3]
    congr 2
    rw [← e2]
  exact ⟨⟨h2, h3⟩, by omega, by omega⟩
/-- behind any call of the law -/
theorem lw_go {v : Option Value} {Qa : State → Outcome → State → Prop} {B N : Nat → Prop} {mc ms : Nat} {st : List Value} (hr : va_Run p l e R s m args below meth c H locs (H.size - s.heap.size) (hsl H - hsl s.heap) mc ms (F0 m pc ls st) rest Qa B) (hS : va_S N s.heap H locs) (hBN : ∀ q, B q → N q)
    (hQ : ∀ st0 w t, st0.heap = H → Qa st0 (.returned w) t → w = v ∧ va_F B st0 t)
    (kk : ∀ (H1 : Heap) (locs1 : List Loc) (st0 t : State), st0.heap = H → t.heap = H1 → Qa st0 (.returned v) t → va_F B st0 t → va_S N s.heap H1 locs1 → (H1.size ≤ H.size + mc ∧ hsl H1 ≤ hsl H + ms) → W p l e R s m args below meth c H1 locs1 (H1.size - s.heap.size) (hsl H1 - hsl s.heap) Q (F0 m (pc + 3) ls (v.toList ++ rest))) : W p l e R s m args below meth c H locs cells slots Q (F0 m pc ls st) := by
  refine W.narrow ?_
  intro T hT X
  have hr0 := stand_room hT X
  obtain ⟨w, st₀, t, T', L, h0, X', hL, e1, e2, hq, st⟩ := hr T hT X
  have hr1 := stand_room rfl X'
  obtain ⟨rfl, hF⟩ := hQ st₀ w t h0 hq
  have hz := hF.1
  have hk := hF.2
  rw [h0] at hz hk
  obtain ⟨t2, a1, b1⟩ := W.narrow (kk T'.heap (locs ++ L) st₀ t h0 e1.symm hq hF ⟨Nat.le_trans hS.1 (by rw [e1]; exact hz), fun q h1 h2 => by rw [e1, hk q (Nat.lt_of_lt_of_le h1 hS.1) (fun w => h2 (hBN q w))]; exact hS.2.1 q h1 h2, fun q hq => by
      rcases List.mem_append.mp hq with h | h
      · exact hS.2.2 q h
      · exact hBN _ (hL q h)⟩ ⟨by omega, by omega⟩) T' rfl X'
  exact ⟨t2, st t2 a1, b1⟩
end LWR
