/-! METHODS OF THE CLASS THAT MAY THROW -/
set_option maxRecDepth 100000
/-- what a method answers: a value, or what it throws (0: a Fault; 1 .. 4: a JDK exception) and where -/
abbrev cX (α : Type) : Type := α ⊕ (Nat × Nat)
def bdx {α β : Type} (f : Option (cX α × cS)) (K : α → cS → Option (cX β × cS)) : Option (cX β × cS) := match f with
  | some (.inl v, σ) => K v σ
  | some (.inr e, σ) => some (.inr e, σ)
  | none => none
def xl {α : Type} (f : Option (α × cS)) : Option (cX α × cS) := match f with
  | some (v, σ) => some (.inl v, σ)
  | none => none
def xN (k : Nat) : String := if k = 0 then "HeirCases$Fault" else if k = 1 then "java/lang/IllegalArgumentException" else if k = 2 then "java/lang/IndexOutOfBoundsException" else if k = 3 then "java/util/NoSuchElementException" else "java/lang/IllegalStateException"
/-- 'throw new E()' -/
def thr {β : Type} (σ : cS) (k : Nat) : Option (cX β × cS) := if σ.2 0 + 1 ≤ σ.2 3 ∧ σ.2 1 + 6 ≤ σ.2 4 then some (.inr (k, σ.2 0), (σ.1, fun j => if j = 0 then σ.2 0 + 1 else if j = 1 then σ.2 1 + 6 else σ.2 j)) else none
/-- a Fault that is there is thrown -/
def thF {β : Type} (σ : cS) (r : Option Nat) : Option (cX β × cS) := match r with
  | none => none
  | some q => if isO σ q 14 = true then some (.inr (0, q), σ) else none
theorem bdx_s {α β : Type} {f : Option (cX α × cS)} {K : α → cS → Option (cX β × cS)} {z : cX β × cS} (h : bdx f K = some z) : (∃ v σ, f = some (.inl v, σ) ∧ K v σ = some z) ∨ ∃ e σ, f = some (.inr e, σ) ∧ z = (.inr e, σ) := by
  unfold bdx at h
  split at h
  · next v σ => exact Or.inl ⟨v, σ, rfl, h⟩
  · next e σ => exact Or.inr ⟨e, σ, rfl, (Option.some.inj h).symm⟩
  · cases h
theorem xl_s {α : Type} {f : Option (α × cS)} {z : cX α × cS} (h : xl f = some z) : ∃ v σ, f = some (v, σ) ∧ z = (.inl v, σ) := by
  unfold xl at h
  split at h
  · next v σ => exact ⟨v, σ, rfl, (Option.some.inj h).symm⟩
  · cases h
/-- the cells are as they were, but for how many there are -/
def HPx (g : cG) (A : Nat → Prop) (σ : cS) (H : Heap) : Prop := ∃ n0 n1, n0 ≤ σ.2 0 ∧ n1 ≤ σ.2 1 ∧ HP g A (σ.1, fun j => if j = 0 then n0 else if j = 1 then n1 else σ.2 j) H
def CXr (g : cG) (A : Nat → Prop) (e : Nat × Nat) (σ1 : cS) : String → Addr → State → State → Prop := fun E q st t => E = xN e.1 ∧ (e.1 = 0 → q = e.2 ∧ HP g A σ1 t.heap) ∧ (¬ e.1 = 0 → HPx g A σ1 t.heap) ∧ va_F A st t ∧ hsl st.heap ≤ hsl t.heap
def UQ {α : Type} (g : cG) (A : Nat → Prop) (toV : α → Option Value) (z : cX α × cS) (args : Array Value) (s : State) (mc ms : Nat) (below : List Frame) : State → Prop := match z.1 with
  | .inl v => MQ below (CQ g A (toV v) z.2) args s mc ms A
  | .inr e => vx_MQ below (fun _ _ _ _ => False) (CXr g A e z.2) args s mc ms A
def MetX {α : Type} (l : Launch) (y : MethodName) (ws : List Cond) (rm : Room) (g : cG) (A : Nat → Prop) (as : List Value) (σ : cS) (toV : α → Option Value) (z : cX α × cS) (mc ms : Nat) : Prop := match z.1 with
  | .inl v => Met l y ws rm (CPc g A as σ) (CQ g A (toV v) z.2) mc ms A
  | .inr e => vx_Met l y ws rm (CPc g A as σ) (fun _ _ _ _ => False) (CXr g A e z.2) mc ms A
theorem met_of_vx {l : Launch} {y : MethodName} {ws : List Cond} {rm : Room} {Pc : Array Value → State → Prop} {Qc : Array Value → State → Outcome → State → Prop} {mc ms : Nat} {free : Addr → Prop} (h : vx_Met l y ws rm Pc Qc (fun _ _ _ _ => False) mc ms free) : Met l y ws rm Pc Qc mc ms free := by
  unfold vx_Met at h
  unfold Met
  refine Jvm.Free.MetFree.mono h (fun _ _ q => q) (fun _ _ _ _ _ q => q) (fun a st o t _ q => ?_)
  rcases q with q | ⟨q, -, E, ce, L, hF, -⟩
  · exact q
  · exact hF.elim
theorem metx_of {α : Type} {l : Launch} {y : MethodName} {ws ws' : List Cond} {rm : Room} {g : cG} {A : Nat → Prop} {as : List Value} {σ : cS} {toV : α → Option Value} {z : cX α × cS} {mc ms : Nat} {cc : ByteArray} {maxL : Nat} {ret : Option FieldType}
    (hy : plainName y.cls = true) (hw : ws = Cond.code y cc maxL ret :: ws')
    (body : ∀ p e s m args below meth c s₁, BodyLoose p l y (headSpec ws rm) cc maxL ret e s m args below meth c s₁ → c.maxLocals = maxL → (∀ x ∈ c.exceptionTable.toList, False) → CPc g A as σ args s →
      W p l e (headSpec ws rm).room s m args below meth c s.heap [] 0 0 (UQ g A toV z args s mc ms below) (entryFrame m args maxL)) : MetX l y ws rm g A as σ toV z mc ms := by
  rcases z with ⟨v | e, σ1⟩
  · exact met_of_vx (vx_ofW hy hw (fun p e s m args below meth c s₁ B hm hx hp => vx_ret (body p e s m args below meth c s₁ B hm hx hp)))
  · exact vx_ofW hy hw body
theorem metx_ofH {α : Type} {l : Launch} {y : MethodName} {ws ws' : List Cond} {rm : Room} {g : cG} {A : Nat → Prop} {as : List Value} {σ : cS} {toV : α → Option Value} {z : cX α × cS} {mc ms : Nat} {cc : ByteArray} {maxL : Nat} {ret : Option FieldType} {hh : List (Nat × Nat × Nat × Nat)}
    (hy : plainName y.cls = true) (hw : ws = Cond.codeWith y cc maxL ret hh :: ws')
    (body : ∀ p e s m args below meth c s₁, BodyLoose p l y (headSpec ws rm) cc maxL ret e s m args below meth c s₁ → c.maxLocals = maxL → CPc g A as σ args s →
      W p l e (headSpec ws rm).room s m args below meth c s.heap [] 0 0 (UQ g A toV z args s mc ms below) (entryFrame m args maxL)) : MetX l y ws rm g A as σ toV z mc ms := by
  rcases z with ⟨v | e, σ1⟩
  · exact met_of_vx (vx_ofWH hy hw (fun p e s m args below meth c s₁ B hm hp => vx_ret (body p e s m args below meth c s₁ B hm hp)))
  · exact vx_ofWH hy hw body
section CX1
variable {p : Program} {l : Launch} {e : Env} {R : Room} {s : State} {m : MethodId} {args : Array Value} {below : List Frame} {meth : Method} {c : Code} {H : Heap} {locs : List Loc} {cells slots : Nat} {Q : State → Prop}
variable {cc : ByteArray} {pc : Nat} {ls : Array Slot} {rest : List Value} {g : cG} {A : Nat → Prop} {nL : Nat} {ret : Option FieldType} {own : String} {σ : cS} {F_ L_ : Nat}
theorem uq_l {α : Type} {toV : α → Option Value} {f : Option (α × cS)} {z : cX α × cS} {mc ms : Nat} {fr : JFrame} (h : xl f = some z) (k : ∀ y : α × cS, f = some y → W p l e R s m args below meth c H locs cells slots (MQ below (CQ g A (toV y.1) y.2) args s mc ms A) fr) : W p l e R s m args below meth c H locs cells slots (UQ g A toV z args s mc ms below) fr := by
  obtain ⟨v, σ1, h1, rfl⟩ := xl_s h
  exact k (v, σ1) h1
theorem CI.bounds (hI : CI g A s σ H locs) : H.size - s.heap.size ≤ g.2.2.1 3 - s.heap.size ∧ hsl H - hsl s.heap ≤ g.2.2.1 4 - hsl s.heap := hI.end_
theorem HP.ends {H1 : Heap} (h : HP g A σ H1) : H1.size ≤ g.2.2.1 3 ∧ hsl H1 ≤ g.2.2.1 4 := by
  obtain ⟨p0, p1, p2, p3, -⟩ := h
  have b3 := p3 3 (by decide)
  have b4 := p3 4 (by decide)
  constructor <;> omega
theorem HPx.ends {H1 : Heap} (h : HPx g A σ H1) : H1.size ≤ g.2.2.1 3 ∧ hsl H1 ≤ g.2.2.1 4 := by
  obtain ⟨n0, n1, -, -, h⟩ := h
  exact HP.ends h
theorem vx_narrow {fr : JFrame} {q : Addr} (k : vx_W p l e R s m args below meth c H locs (H.size - s.heap.size) (hsl H - hsl s.heap) Q fr q) : vx_W p l e R s m args below meth c H locs cells slots Q fr q := fun T hT X => k T hT (stand_narrow hT X)
/-- an exception comes out of a call and isn't caught here: it goes on -/
theorem cx_out {α : Type} {toV : α → Option Value} {e' : Nat × Nat} {σ1 : cS} {z : cX α × cS} {st : List Value} {mc ms : Nat} (hz : z = (.inr e', σ1)) (hr : vx_Run p l e R s m args below meth c H locs cells slots mc ms (F0 m pc ls st) rest (fun _ _ _ => False) (CXr g A e' σ1) A) (hI : CI g A s σ H locs) (hx : ∀ x ∈ c.exceptionTable.toList, False) (hk : meth.locks = false) :
    W p l e R s m args below meth c H locs cells slots (UQ g A toV z args s (g.2.2.1 3 - s.heap.size) (g.2.2.1 4 - hsl s.heap) below) (F0 m pc ls st) := by
  subst hz
  intro T hT X
  rcases hr T hT X with ⟨v, st₀, t, T', L, h0, X', hL, e1, e2, hF, hgo⟩ | ⟨q, st₀, t, T', L, E, ce, h0, X', hL, e1, e2, ⟨hE, hF0, hF1, ⟨hz, hkp⟩, hs⟩, hce, hv, hcl, st⟩
  · exact hF.elim
  have hends : t.heap.size ≤ g.2.2.1 3 ∧ hsl t.heap ≤ g.2.2.1 4 := by
    by_cases h : e'.1 = 0
    · exact (hF0 h).2.ends
    · exact (hF1 h).ends
  have hS := hI.2.1
  rw [h0] at hz hkp hs
  obtain ⟨tt, a1, b1⟩ := vx_narrow (vx_widen (show T'.heap.size - s.heap.size ≤ g.2.2.1 3 - s.heap.size by rw [e1]; omega) (show hsl T'.heap - hsl s.heap ≤ g.2.2.1 4 - hsl s.heap by rw [e1]; omega)
    (vx_out (pc := pc) (ls := ls) (rest := rest) (E := E) (ce := ce) (Qc := fun _ _ _ _ => False) (XC := CXr g A e' σ1) (free := A) (args := args) (mc := g.2.2.1 3 - s.heap.size) (ms := g.2.2.1 4 - hsl s.heap) (locs := locs ++ L) (fun x hx' => (hx x hx').elim) hk (by rw [e1]; exact hce) hv hcl
      (fun t' ht' _ => ⟨hE, fun h => ⟨(hF0 h).1, by rw [ht', e1]; exact (hF0 h).2⟩, fun h => by rw [ht', e1]; exact hF1 h, ⟨by rw [ht', e1]; exact Nat.le_trans hS.1 hz, fun q' h1 h2 => by rw [ht', e1, hkp q' (Nat.lt_of_lt_of_le h1 hS.1) h2]; exact hS.2.1 q' h1 h2⟩, by rw [ht', e1]; exact Nat.le_trans hI.2.2 hs⟩)
      (fun z hz' => (List.mem_append.mp hz').elim (hS.2.2 z) (hL z)) (Nat.le_refl _) (Nat.le_refl _))) T' rfl X'
  exact ⟨tt, st.trans a1, b1⟩
variable {y : MethodName} {bytes : ByteArray} {maxL index n : Nat} {ret' : Option FieldType} {ws : List Cond} {rm : Room}
/-- calls of methods that may throw -/
theorem cx_callV {α β : Type} {f : Nat → Option (cX α × cS)} {K : α → cS → Option (cX β × cS)} {z : cX β × cS} {r : Option Nat} {Cn : String} {T : u_T} {N : Nat} (ci : Nat) (toV : α → Option Value) {toW : β → Option Value} (As : List Value) {st : List Value} (C : CX p m meth c s args cc nL ret own) (hx : ∀ x ∈ c.exceptionTable.toList, False) (hw : WKc g A s s.heap) (hR : RM g s R F_ L_) (hI : CI g A s σ H locs) (hn : ls.size = nL) (h : nn σ r ci (fun a => bdx (f a) K) = some z) (h60 : ci < 59) (hc : ccl[ci]? = some (Cn, T, N))
    (hM : ∀ a u, f a = some u → MetX l y ws rm g A (.ref a :: As) σ toV u (σ.2 3 - σ.2 0) (σ.2 4 - σ.2 1)) (cw : CallW R s args own Cn index y bytes maxL ret' ws rm (σ.2 3 - σ.2 0) (σ.2 4 - σ.2 1) n)
    (hAs : As.length = n) (hst : st = As.reverse ++ va_rf r :: rest) (hrest : rest.length ≤ 4) (hdg : decode cc pc = .ok (.invokevirtual index, 3))
    (kk : ∀ (v : α) (σ1 : cS) (H : Heap) (locs : List Loc), K v σ1 = some z → CI g A s σ1 H locs → W p l e R s m args below meth c H locs (H.size - s.heap.size) (hsl H - hsl s.heap) (UQ g A toW z args s (g.2.2.1 3 - s.heap.size) (g.2.2.1 4 - hsl s.heap) below) (F0 m (pc + 3) ls ((toV v).toList ++ rest))) : W p l e R s m args below meth c H locs (H.size - s.heap.size) (hsl H - hsl s.heap) (UQ g A toW z args s (g.2.2.1 3 - s.heap.size) (g.2.2.1 4 - hsl s.heap) below) (F0 m pc ls st) := by
  obtain ⟨a, fs, rfl, h1, h2⟩ := nn_s h
  rcases bdx_s h2 with ⟨v, σ1, e1, h3⟩ | ⟨e', σ1, e1, hz⟩
  · exact cw_go (va_runV (As := As) (rest := rest) C.1 (hM a _ e1) cw ⟨CPc.blind, cw_recv hw hI h1 h60 hc, fun U hU hW => ⟨rfl, by rw [hU]; exact hw.at hI.2.1 hW, by rw [hU]; exact hI.1⟩⟩ rfl hAs hn hst (by show 2 * 0 + _ ≤ 8; have := room_of hrest; omega) hdg (hR.call hI)) hI (fun H1 locs1 q => kk v σ1 H1 locs1 h3 q)
  · exact cx_out hz (vx_runV (As := As) (rest := rest) C.1 (hM a _ e1) cw ⟨CPc.blind, cw_recv hw hI h1 h60 hc, fun U hU hW => ⟨rfl, by rw [hU]; exact hw.at hI.2.1 hW, by rw [hU]; exact hI.1⟩⟩ rfl hAs hn hst (by show 2 * 0 + _ ≤ 8; have := room_of hrest; omega) hdg (hR.call hI)) hI hx C.k
theorem cx_callS {α β : Type} {f : Option (cX α × cS)} {K : α → cS → Option (cX β × cS)} {z : cX β × cS} (toV : α → Option Value) {toW : β → Option Value} (As : List Value) {st : List Value} (C : CX p m meth c s args cc nL ret own) (hx : ∀ x ∈ c.exceptionTable.toList, False) (hw : WKc g A s s.heap) (hR : RM g s R F_ L_) (hI : CI g A s σ H locs) (hn : ls.size = nL) (h : bdx f K = some z)
    (hM : ∀ u, f = some u → MetX l y ws rm g A As σ toV u (σ.2 3 - σ.2 0) (σ.2 4 - σ.2 1)) (cw : CallB R s args own index y bytes maxL ret' ws rm (σ.2 3 - σ.2 0) (σ.2 4 - σ.2 1) n ∧ (Cond.static y).before args s = true)
    (hAs : As.length = n) (hst : st = As.reverse ++ rest) (hrest : rest.length ≤ 4) (hdg : decode cc pc = .ok (.invokestatic index, 3))
    (kk : ∀ (v : α) (σ1 : cS) (H : Heap) (locs : List Loc), K v σ1 = some z → CI g A s σ1 H locs → W p l e R s m args below meth c H locs (H.size - s.heap.size) (hsl H - hsl s.heap) (UQ g A toW z args s (g.2.2.1 3 - s.heap.size) (g.2.2.1 4 - hsl s.heap) below) (F0 m (pc + 3) ls ((toV v).toList ++ rest))) : W p l e R s m args below meth c H locs (H.size - s.heap.size) (hsl H - hsl s.heap) (UQ g A toW z args s (g.2.2.1 3 - s.heap.size) (g.2.2.1 4 - hsl s.heap) below) (F0 m pc ls st) := by
  rcases bdx_s h with ⟨v, σ1, e1, h3⟩ | ⟨e', σ1, e1, hz⟩
  · exact cw_go (va_runS (As := As) (rest := rest) C.1 (hM _ e1) cw ⟨CPc.blind, fun U hU hW => ⟨rfl, by rw [hU]; exact hw.at hI.2.1 hW, by rw [hU]; exact hI.1⟩⟩ rfl hAs hn hst (by show 2 * 0 + _ ≤ 8; have := room_of hrest; omega) hdg (hR.call hI)) hI (fun H1 locs1 q => kk v σ1 H1 locs1 h3 q)
  · exact cx_out hz (vx_runS (As := As) (rest := rest) C.1 (hM _ e1) cw ⟨CPc.blind, fun U hU hW => ⟨rfl, by rw [hU]; exact hw.at hI.2.1 hW, by rw [hU]; exact hI.1⟩⟩ rfl hAs hn hst (by show 2 * 0 + _ ≤ 8; have := room_of hrest; omega) hdg (hR.call hI)) hI hx C.k
/-- 'throw new E()' -/
theorem cx_thr {β : Type} {toW : β → Option Value} {z : cX β × cS} {names : List String} {ik ic : Nat} (k : Nat) (hl : l.stackTraces = false) (C : CX p m meth c s args cc nL ret own) (hx : ∀ x ∈ c.exceptionTable.toList, False) (hw : WKc g A s s.heap) (hR : RM g s R F_ L_) (hI : CI g A s σ H locs) (hn : ls.size = nL) (h : thr σ k = some z) (hk0 : ¬ k = 0)
    (hcls : Bundle.fit (xN k) = true) (hnames : ∀ n ∈ names, Bundle.fit n = true) (hk : (Cond.classLink own ik (xN k)).before args s = true) (hini : (Cond.initialized (xN k)).before args s = true) (hat : ∀ w ∈ vx_at0 own ic (xN k) names, w.before args s = true)
    (hgood : ∀ w ∈ Cond.classLink own ik (xN k) :: Cond.initialized (xN k) :: vx_at0 own ic (xN k) names, vx_ot w = true)
    (d0 : decode cc pc = .ok (.new ik, 3)) (d3 : decode cc (pc + 3) = .ok (.dup, 1)) (d4 : decode cc (pc + 4) = .ok (.invokespecial ic, 3)) (d7 : decode cc (pc + 7) = .ok (.athrow, 1))
    (hrest : rest.length ≤ 4) (hRf : names.length + 3 < R.frames) (hRl : 8 + (13 * (names.length + 1) + 42) ≤ R.locals) :
    W p l e R s m args below meth c H locs (H.size - s.heap.size) (hsl H - hsl s.heap) (UQ g A toW z args s (g.2.2.1 3 - s.heap.size) (g.2.2.1 4 - hsl s.heap) below) (F0 m pc ls rest) := by
  unfold thr at h
  split at h
  case isFalse => cases h
  next hb =>
  cases h
  have hP := hI.1
  obtain ⟨p0, p1, p2, p3, p5, p6, p7⟩ := id hP
  have b3 := p3 3 (by decide)
  have b4 := p3 4 (by decide)
  have s1 := hI.2.1.1
  have s2 := hI.2.2
  obtain ⟨-, r1, r2⟩ := hR
  refine vx_throw0 C.x C.b hl C.o hcls hnames hk hini hat hgood hw.2.2.2.2.2.2.2.2.2.2.2.2.2.1 hw.2.2.2.2.2.2.2.2.2.2.2.2.2.2.1 hI.2.1 (hn.trans C.n.symm) d0 d3 d4 d7 (fun x h => (hx x h).elim) hRf (by have := room_of hrest; omega) (by omega) (by omega) C.k (fun q0 t s0 h0 hsame _ => ?_) hI.2.1.2.2 (by omega) (by omega)
  obtain ⟨t1, t2⟩ := vx_frame hsame
  obtain ⟨-, u2, u3, -, u5, -⟩ := hsame
  rw [h0] at t1 t2 u2 u3 u5
  have t3 : ∀ q : Nat, q < H.size → t.heap[q]? = H[q]? := fun q hq => t2 q hq (fun z hz => nomatch hz)
  have u3' : t.heap.size ≤ H.size + 1 := u3
  have e1 : hsl t.heap = hsl H + ((t.heap.toList.drop H.size).map (fun (x : Cell) => x.slots.size)).sum := by
    have e2 : t.heap.toList = t.heap.toList.take H.size ++ t.heap.toList.drop H.size := (List.take_append_drop _ _).symm
    have e3 : t.heap.toList.take H.size = H.toList := by
      apply List.ext_getElem?
      intro i
      rw [List.getElem?_take]
      by_cases hi : i < H.size
      · rw [if_pos hi]; simp only [Array.getElem?_toList]; exact t3 i hi
      · rw [if_neg hi]; simp only [Array.getElem?_toList]; rw [Array.getElem?_eq_none (by omega)]
    unfold hsl
    rw [e2, List.map_append, List.sum_append, e3]
    congr 2
    rw [← e3, List.take_append_drop]
  have u5' : ((t.heap.toList.drop H.size).map (fun (x : Cell) => x.slots.size)).sum ≤ 6 := u5
  refine ⟨rfl, fun h => absurd h hk0, fun _ => ⟨t.heap.size, hsl t.heap, by show t.heap.size ≤ σ.2 0 + 1; omega, by show hsl t.heap ≤ σ.2 1 + 6; omega, rfl, rfl, ⟨by show t.heap.size ≤ σ.2 3; omega, by show hsl t.heap ≤ σ.2 4; omega⟩, fun k hk => ?_, fun a e he => (p5 a e he).kept (t3 a (p5 a e he).lt), p6, fun q hq => p7 q (by have : t.heap.size ≤ q := hq; omega)⟩, ⟨by omega, fun q h1 h2 => by rw [t3 q (by omega)]; exact hI.2.1.2.1 q h1 h2⟩, by omega⟩
  show (if k = 0 then _ else if k = 1 then _ else if k = 0 then _ else if k = 1 then _ else σ.2 k) = _
  rw [if_neg (by omega), if_neg (by omega), if_neg (by omega), if_neg (by omega)]
  exact p3 k hk
theorem hat_1 (C : CX p m meth c s args cc nL ret RX1) (hw : WKc g A s s.heap) : ∀ w ∈ vx_at0 RX1 108 (xN 1) ["java/lang/RuntimeException", "java/lang/Exception"], w.before args s = true := by
  have h := vx_c (C.t _ q140) (vx_c (C.t _ q418) (vx_c (C.t _ q427) (vx_c (C.t _ q435) (vx_c (C.t _ q438) (vx_c (C.t _ q440) (vx_c (C.t _ q419) (vx_c (C.t _ q420) (vx_c (C.t _ q173) (vx_c (C.t _ q174) (vx_c (C.t _ q421) (vx_c (C.t _ q426) (vx_c (C.t _ q436) (vx_c (C.t _ q627) (vx_c (C.t _ q408) (vx_c (C.t _ q628) (vx_c (C.t _ q410) (vx_c (C.t _ q629) (vx_c (C.t _ q412) (vx_c (C.t _ q422) (vx_c (C.t _ q424) (vx_c (C.t _ q414) (vx_c (C.t _ q1542) (vx_c (C.t _ q1543) (vx_c (C.t _ q1544) (vx_c (C.t _ q1516) (vx_c (va_Nw.use rfl (hw.2.2.2.2.2.2.2.2.2.2.2.2.1 _ (List.mem_of_getElem? (i := 0) rfl))) (vx_c (C.t _ q1516) (vx_c (C.t _ q1517) (vx_c (C.t _ q1518) (vx_c (C.t _ q766) (vx_c (va_Nw.use rfl (hw.2.2.2.2.2.2.2.2.2.2.2.2.1 _ (List.mem_of_getElem? (i := 1) rfl))) (vx_c (C.t _ q766) (vx_c (C.t _ q767) (vx_c (C.t _ q768) (vx_c (C.t _ q419) (vx_c (va_Nw.use rfl (hw.2.2.2.2.2.2.2.2.2.2.2.2.1 _ (List.mem_of_getElem? (i := 2) rfl))) (vx_c (C.t _ q1541) (vx_c (C.t _ q397) (vx_c (va_Nw.use rfl (hw.2.2.2.2.2.2.1 _ (List.mem_of_getElem? (i := 2) rfl))) (vx_c (C.t _ q405) (vx_c (C.t _ q406) (vx_c (C.t _ q407) (vx_c (C.t _ q409) (vx_c (C.t _ q411) (vx_c (C.t _ q413) (vx_c (C.t _ q625) (vx_c (C.t _ q416) (vx_c (C.t _ q415) vx_n))))))))))))))))))))))))))))))))))))))))))))))))
  exact fun w hw' => h w ((by decide +kernel : ∀ w ∈ vx_at0 RX1 108 (xN 1) ["java/lang/RuntimeException", "java/lang/Exception"], w ∈ _) w hw')
theorem hat_2 (C : CX p m meth c s args cc nL ret RX1) (hw : WKc g A s s.heap) : ∀ w ∈ vx_at0 RX1 111 (xN 2) ["java/lang/RuntimeException", "java/lang/Exception"], w.before args s = true := by
  have h := vx_c (C.t _ q140) (vx_c (C.t _ q418) (vx_c (C.t _ q427) (vx_c (C.t _ q435) (vx_c (C.t _ q438) (vx_c (C.t _ q440) (vx_c (C.t _ q419) (vx_c (C.t _ q420) (vx_c (C.t _ q173) (vx_c (C.t _ q174) (vx_c (C.t _ q421) (vx_c (C.t _ q426) (vx_c (C.t _ q436) (vx_c (C.t _ q627) (vx_c (C.t _ q408) (vx_c (C.t _ q628) (vx_c (C.t _ q410) (vx_c (C.t _ q629) (vx_c (C.t _ q412) (vx_c (C.t _ q422) (vx_c (C.t _ q424) (vx_c (C.t _ q414) (vx_c (C.t _ q1566) (vx_c (C.t _ q1567) (vx_c (C.t _ q1568) (vx_c (C.t _ q1516) (vx_c (va_Nw.use rfl (hw.2.2.2.2.2.2.2.2.2.2.2.2.1 _ (List.mem_of_getElem? (i := 0) rfl))) (vx_c (C.t _ q1516) (vx_c (C.t _ q1517) (vx_c (C.t _ q1518) (vx_c (C.t _ q766) (vx_c (va_Nw.use rfl (hw.2.2.2.2.2.2.2.2.2.2.2.2.1 _ (List.mem_of_getElem? (i := 1) rfl))) (vx_c (C.t _ q766) (vx_c (C.t _ q767) (vx_c (C.t _ q768) (vx_c (C.t _ q419) (vx_c (va_Nw.use rfl (hw.2.2.2.2.2.2.2.2.2.2.2.2.1 _ (List.mem_of_getElem? (i := 2) rfl))) (vx_c (C.t _ q1565) (vx_c (C.t _ q1557) (vx_c (va_Nw.use rfl (hw.2.2.2.2.2.2.1 _ (List.mem_of_getElem? (i := 7) rfl))) (vx_c (C.t _ q1559) (vx_c (C.t _ q432) (vx_c (C.t _ q1560) (vx_c (C.t _ q1561) (vx_c (C.t _ q1562) (vx_c (C.t _ q1563) (vx_c (C.t _ q625) (vx_c (C.t _ q416) (vx_c (C.t _ q1564) vx_n))))))))))))))))))))))))))))))))))))))))))))))))
  exact fun w hw' => h w ((by decide +kernel : ∀ w ∈ vx_at0 RX1 111 (xN 2) ["java/lang/RuntimeException", "java/lang/Exception"], w ∈ _) w hw')
theorem hat_3 (C : CX p m meth c s args cc nL ret RX1) (hw : WKc g A s s.heap) : ∀ w ∈ vx_at0 RX1 117 (xN 3) ["java/lang/RuntimeException", "java/lang/Exception"], w.before args s = true := by
  have h := vx_c (C.t _ q140) (vx_c (C.t _ q418) (vx_c (C.t _ q427) (vx_c (C.t _ q435) (vx_c (C.t _ q438) (vx_c (C.t _ q440) (vx_c (C.t _ q419) (vx_c (C.t _ q420) (vx_c (C.t _ q173) (vx_c (C.t _ q174) (vx_c (C.t _ q421) (vx_c (C.t _ q426) (vx_c (C.t _ q436) (vx_c (C.t _ q627) (vx_c (C.t _ q408) (vx_c (C.t _ q628) (vx_c (C.t _ q410) (vx_c (C.t _ q629) (vx_c (C.t _ q412) (vx_c (C.t _ q422) (vx_c (C.t _ q424) (vx_c (C.t _ q414) (vx_c (C.t _ q1513) (vx_c (C.t _ q1514) (vx_c (C.t _ q1515) (vx_c (C.t _ q1516) (vx_c (va_Nw.use rfl (hw.2.2.2.2.2.2.2.2.2.2.2.2.1 _ (List.mem_of_getElem? (i := 0) rfl))) (vx_c (C.t _ q1516) (vx_c (C.t _ q1517) (vx_c (C.t _ q1518) (vx_c (C.t _ q766) (vx_c (va_Nw.use rfl (hw.2.2.2.2.2.2.2.2.2.2.2.2.1 _ (List.mem_of_getElem? (i := 1) rfl))) (vx_c (C.t _ q766) (vx_c (C.t _ q767) (vx_c (C.t _ q768) (vx_c (C.t _ q419) (vx_c (va_Nw.use rfl (hw.2.2.2.2.2.2.2.2.2.2.2.2.1 _ (List.mem_of_getElem? (i := 2) rfl))) (vx_c (C.t _ q1632) (vx_c (C.t _ q1504) (vx_c (va_Nw.use rfl (hw.2.2.2.2.2.2.1 _ (List.mem_of_getElem? (i := 14) rfl))) (vx_c (C.t _ q1506) (vx_c (C.t _ q434) (vx_c (C.t _ q1507) (vx_c (C.t _ q1508) (vx_c (C.t _ q1509) (vx_c (C.t _ q1510) (vx_c (C.t _ q625) (vx_c (C.t _ q416) (vx_c (C.t _ q1511) vx_n))))))))))))))))))))))))))))))))))))))))))))))))
  exact fun w hw' => h w ((by decide +kernel : ∀ w ∈ vx_at0 RX1 117 (xN 3) ["java/lang/RuntimeException", "java/lang/Exception"], w ∈ _) w hw')
theorem hat_4 (C : CX p m meth c s args cc nL ret RX1) (hw : WKc g A s s.heap) : ∀ w ∈ vx_at0 RX1 412 (xN 4) ["java/lang/RuntimeException", "java/lang/Exception"], w.before args s = true := by
  have h := vx_c (C.t _ q140) (vx_c (C.t _ q418) (vx_c (C.t _ q427) (vx_c (C.t _ q435) (vx_c (C.t _ q438) (vx_c (C.t _ q440) (vx_c (C.t _ q419) (vx_c (C.t _ q420) (vx_c (C.t _ q173) (vx_c (C.t _ q174) (vx_c (C.t _ q421) (vx_c (C.t _ q426) (vx_c (C.t _ q436) (vx_c (C.t _ q627) (vx_c (C.t _ q408) (vx_c (C.t _ q628) (vx_c (C.t _ q410) (vx_c (C.t _ q629) (vx_c (C.t _ q412) (vx_c (C.t _ q422) (vx_c (C.t _ q424) (vx_c (C.t _ q414) (vx_c (C.t _ q2077) (vx_c (C.t _ q2078) (vx_c (C.t _ q2079) (vx_c (C.t _ q1516) (vx_c (va_Nw.use rfl (hw.2.2.2.2.2.2.2.2.2.2.2.2.1 _ (List.mem_of_getElem? (i := 0) rfl))) (vx_c (C.t _ q1516) (vx_c (C.t _ q1517) (vx_c (C.t _ q1518) (vx_c (C.t _ q766) (vx_c (va_Nw.use rfl (hw.2.2.2.2.2.2.2.2.2.2.2.2.1 _ (List.mem_of_getElem? (i := 1) rfl))) (vx_c (C.t _ q766) (vx_c (C.t _ q767) (vx_c (C.t _ q768) (vx_c (C.t _ q419) (vx_c (va_Nw.use rfl (hw.2.2.2.2.2.2.2.2.2.2.2.2.1 _ (List.mem_of_getElem? (i := 2) rfl))) (vx_c (C.t _ q2076) (vx_c (C.t _ q1157) (vx_c (va_Nw.use rfl (hw.2.2.2.2.2.2.1 _ (List.mem_of_getElem? (i := 5) rfl))) (vx_c (C.t _ q1159) (vx_c (C.t _ q431) (vx_c (C.t _ q1160) (vx_c (C.t _ q1161) (vx_c (C.t _ q1162) (vx_c (C.t _ q1163) (vx_c (C.t _ q625) (vx_c (C.t _ q416) (vx_c (C.t _ q1164) vx_n))))))))))))))))))))))))))))))))))))))))))))))))
  exact fun w hw' => h w ((by decide +kernel : ∀ w ∈ vx_at0 RX1 412 (xN 4) ["java/lang/RuntimeException", "java/lang/Exception"], w ∈ _) w hw')
end CX1
