/-! THE LAW: its wrappers around the class' methods -/
set_option maxRecDepth 1000000
/-- pairs of exceptions that aren't one another's kind -/
def WNc (U : State) : Prop := ∀ i j : Nat, (i, j) ∈ [(2, 3), (1, 2), (1, 3), (4, 1)] → va_Nc (xN i) (xN j) U
theorem WNc.moved {u U : State} (hvm : u.vm.Alike U.vm) (h : WNc u) : WNc U := fun i j hij => (h i j hij).moved hvm
def WPc (g : cG) (A : Nat → Prop) (ao : Nat) (as : List Value) (σ : cS) : Array Value → State → Prop := va_Pc as (fun U => WKc g A U U.heap ∧ HP g A σ U.heap ∧ (∃ v, LO g ao v U.heap) ∧ WNc U)
theorem WPc.blind {g : cG} {A : Nat → Prop} {ao : Nat} {as : List Value} {σ : cS} : FrameBlind (WPc g A ao as σ) := by
  intro a U f mk h
  obtain ⟨h0, h1, h2, h3, h4⟩ := h
  exact ⟨h0, h1.vm (s := U) rfl, h2, h3, h4.moved (Vm.Alike.refl _)⟩
def WrR {α : Type} (g : cG) (A : Nat → Prop) (ao : Nat) (es : List Nat) (toL : α → Int64) (u : cX α × cS) (st : State) (oc : Outcome) (t : State) : Prop := match u.1 with
  | .inl v => oc = .returned (some (.int 0)) ∧ HQ g A u.2 t.heap ∧ LO g ao (toL v) t.heap
  | .inr e => (∃ j : Nat, es[j]? = some e.1 ∧ oc = .returned (some (.int (Int32.ofNat (j + 1))))) ∧ HPx g A u.2 t.heap ∧ t.heap[ao]? = st.heap[ao]?
def WrQ {α : Type} (g : cG) (A : Nat → Prop) (ao : Nat) (es : List Nat) (toL : α → Int64) (u : cX α × cS) : Array Value → State → Outcome → State → Prop := fun _ st oc t => WrR g A ao es toL u st oc t ∧ va_F (fun q => A q ∨ q = ao) st t ∧ hsl st.heap ≤ hsl t.heap
/-- a call's runs, whatever it comes to -/
def WRun {α : Type} (p : Program) (l : Launch) (e : Env) (R : Room) (s : State) (m : MethodId) (args : Array Value) (below : List Frame) (meth : Method) (c : Code) (H : Heap) (locs : List Loc) (cells slots mc ms : Nat) (fr : JFrame) (rest : List Value) (g : cG) (A : Nat → Prop) (toV : α → Option Value) (u : cX α × cS) (a : Array Value) : Prop := match u.1 with
  | .inl v => va_Run p l e R s m args below meth c H locs cells slots mc ms fr rest (CQ g A (toV v) u.2 a) A
  | .inr e' => vx_Run p l e R s m args below meth c H locs cells slots mc ms fr rest (fun _ _ _ => False) (CXr g A e' u.2) A
section WRC
variable {p : Program} {l : Launch} {e : Env} {R : Room} {s : State} {m : MethodId} {args : Array Value} {below : List Frame} {meth : Method} {c : Code} {H : Heap} {locs : List Loc} {cells slots : Nat} {Q : State → Prop}
variable {cc : ByteArray} {pc : Nat} {ls : Array Slot} {rest : List Value} {g : cG} {A : Nat → Prop} {nL : Nat} {ret : Option FieldType} {own : String} {σ : cS} {F_ L_ : Nat}
variable {y : MethodName} {bytes : ByteArray} {maxL index n : Nat} {ret' : Option FieldType} {ws : List Cond} {rm : Room} {hh : List (Nat × Nat × Nat × Nat)}
theorem wr_run {α : Type} {u : cX α × cS} {toV : α → Option Value} {As st : List Value} {a : Nat} {mc ms : Nat} (S : CallFix p m c cc nL s args lw_all own) (hM : MetX l y ws rm g A (.ref a :: As) σ toV u mc ms) (cw : CallW R s args own RX1 index y bytes maxL ret' ws rm mc ms n) (hp : PreV s H RX1 a (CPc g A (.ref a :: As) σ) As)
    (hn : As.length = n) (hsize : ls.size = nL) (hstack : st = As.reverse ++ .ref a :: rest) (hW : (rest.map fun v => v.category).sum ≤ 8) (hdg : decode cc pc = .ok (.invokevirtual index, 3)) (hf : cells + mc ≤ R.cells ∧ slots + ms ≤ R.slots) : WRun p l e R s m args below meth c H locs cells slots mc ms (F0 m pc ls st) rest g A toV u (Value.ref a :: As).toArray := by
  rcases u with ⟨v | e', σ1⟩
  · exact va_runV (As := As) (rest := rest) S hM cw hp rfl hn hsize hstack (by show 2 * 0 + _ ≤ 8; omega) hdg hf
  · exact vx_runV (As := As) (rest := rest) S hM cw hp rfl hn hsize hstack (by show 2 * 0 + _ ≤ 8; omega) hdg hf
theorem wr_runW {α : Type} {u : cX α × cS} {toV : α → Option Value} {As st : List Value} {a : Nat} {mc ms : Nat} (S : CallFix p m c cc nL s args lw_all own) (hM : MetX l y ws rm g A (.ref a :: As) σ toV u mc ms) (cw : vx_CVW R s args own RX1 index y bytes maxL ret' hh ws rm mc ms n) (hp : PreV s H RX1 a (CPc g A (.ref a :: As) σ) As)
    (hn : As.length = n) (hsize : ls.size = nL) (hstack : st = As.reverse ++ .ref a :: rest) (hW : (rest.map fun v => v.category).sum ≤ 8) (hdg : decode cc pc = .ok (.invokevirtual index, 3)) (hf : cells + mc ≤ R.cells ∧ slots + ms ≤ R.slots) : WRun p l e R s m args below meth c H locs cells slots mc ms (F0 m pc ls st) rest g A toV u (Value.ref a :: As).toArray := by
  rcases u with ⟨v | e', σ1⟩
  · exact vx_runVW (As := As) (rest := rest) S hM cw hp rfl hn hsize hstack (by show 2 * 0 + _ ≤ 8; omega) hdg hf
  · exact vx_runVX (As := As) (rest := rest) S hM cw hp rfl hn hsize hstack (by show 2 * 0 + _ ≤ 8; omega) hdg hf
theorem xN_cast {g : cG} {A : Nat → Prop} {U : State} {H : Heap} (h : WKc g A U H) : ∀ k, 1 ≤ k → k ≤ 4 → va_Nw (.castable (xN k) (xN k)) U := by
  intro k h1 h4
  have h7 := h.2.2.2.2.2.2.1
  obtain rfl | rfl | rfl | rfl : k = 1 ∨ k = 2 ∨ k = 3 ∨ k = 4 := by omega
  · exact h7 ("java/lang/IllegalArgumentException", "java/lang/IllegalArgumentException") (by decide +kernel)
  · exact h7 ("java/lang/IndexOutOfBoundsException", "java/lang/IndexOutOfBoundsException") (by decide +kernel)
  · exact h7 ("java/util/NoSuchElementException", "java/util/NoSuchElementException") (by decide +kernel)
  · exact h7 ("java/lang/IllegalStateException", "java/lang/IllegalStateException") (by decide +kernel)
/-- an entry of a handlers' table -/
def hE (en : Nat) (x : Nat × Nat × Nat) : ExceptionTableEntry := ⟨0, en, x.2.1, x.2.2⟩
/-- the call in a wrapper: it answers, or throws into one of the handlers -/
theorem wr_call {α : Type} {u : cX α × cS} {toV : α → Option Value} {st : List Value} {a : Array Value} {mc ms en : Nat} {hs : List (Nat × Nat × Nat)} (C : CX p m meth c s args cc nL ret own) (hr : WRun p l e R s m args below meth c H locs (H.size - s.heap.size) (hsl H - hsl s.heap) mc ms (F0 m pc ls st) rest g A toV u a) (hw : WKc g A s s.heap) (hI : CI g A s σ H locs)
    (htab : c.exceptionTable.toList = hs.map (hE en)) (hcov : ∀ x ∈ hs, covers (hE en x) pc = true) (hlk : ∀ x ∈ hs, (1 ≤ x.1 ∧ x.1 ≤ 4) ∧ x.2.2 ≠ 0 ∧ (Cond.classLink own x.2.2 (xN x.1)).before args s = true) (hnc : ∀ (i j : Nat) (x z : Nat × Nat × Nat), i < j → hs[i]? = some x → hs[j]? = some z → va_Nc (xN z.1) (xN x.1) s)
    (hu : ∀ e' σ1, u = (.inr e', σ1) → ∃ x ∈ hs, x.1 = e'.1)
    (kk : ∀ v σ1 (H1 : Heap) (locs1 : List Loc), u = (.inl v, σ1) → CI g A s σ1 H1 locs1 → W p l e R s m args below meth c H1 locs1 (H1.size - s.heap.size) (hsl H1 - hsl s.heap) Q (F0 m (pc + 3) ls ((toV v).toList ++ rest)))
    (kc : ∀ (j : Nat) (x : Nat × Nat × Nat) (q0 : Nat) (q : Nat) σ1 (H1 : Heap) (locs1 : List Loc), hs[j]? = some x → u = (.inr (x.1, q0), σ1) → HPx g A σ1 H1 → va_S A s.heap H1 locs1 → hsl s.heap ≤ hsl H1 → W p l e R s m args below meth c H1 locs1 (H1.size - s.heap.size) (hsl H1 - hsl s.heap) Q (F0 m x.2.1 ls [.ref q])) : W p l e R s m args below meth c H locs cells slots Q (F0 m pc ls st) := by
  refine W.narrow ?_
  rcases u with ⟨v | e', σ1⟩
  · exact cw_go (σ1 := σ1) (show va_Run p l e R s m args below meth c H locs (H.size - s.heap.size) (hsl H - hsl s.heap) mc ms (F0 m pc ls st) rest (CQ g A (toV v) σ1 a) A from hr) hI (fun H1 locs1 q => kk v σ1 H1 locs1 rfl q)
  · have hr' : vx_Run p l e R s m args below meth c H locs (H.size - s.heap.size) (hsl H - hsl s.heap) mc ms (F0 m pc ls st) rest (fun _ _ _ => False) (CXr g A e' σ1) A := hr
    intro T hT X
    rcases hr' T hT X with ⟨v, st₀, t, T', L, h0, X', hL, e2, e3, hF, hgo⟩ | ⟨q, st₀, t, T', L, E, ce, h0, X', hL, e2, e3, ⟨hE', hF0, hF1, ⟨hz, hkp⟩, hs'⟩, hce, hv, hcl, st9⟩
    · exact hF.elim
    obtain ⟨x, hx, hxe⟩ := hu e' σ1 rfl
    obtain ⟨j, hj⟩ := List.getElem?_of_mem hx
    have hjl := (List.getElem?_eq_some_iff.mp hj).1
    have hk := hlk x hx
    have hne : ¬ e'.1 = 0 := by omega
    have hP := hF1 hne
    subst hE'
    rw [h0] at hz hkp hs'
    have hS := hI.2.1
    have hS1 : va_S A s.heap T'.heap (locs ++ L) := ⟨Nat.le_trans hS.1 (by rw [e2]; exact hz), fun q h1 h2 => by rw [e2, hkp q (Nat.lt_of_lt_of_le h1 hS.1) h2]; exact hS.2.1 q h1 h2, fun q hq => by
      rcases List.mem_append.mp hq with h | h
      · exact hS.2.2 q h
      · exact hL q h⟩
    have hsplit : c.exceptionTable.toList = (hs.take j).map (hE en) ++ hE en x :: (hs.drop (j + 1)).map (hE en) := by
      rw [htab]
      have : hs = hs.take j ++ x :: hs.drop (j + 1) := by
        have h1 := (List.take_append_drop j hs).symm
        rw [List.drop_eq_getElem_cons hjl] at h1
        have h2 : hs[j] = x := (List.getElem?_eq_some_iff.mp hj).2
        rw [h2] at h1
        exact h1
      conv => lhs; rw [this]
      rw [List.map_append, List.map_cons]
    have hE2 : e' = (x.1, e'.2) := Prod.ext hxe.symm rfl
    obtain ⟨t2, a1, b1⟩ := vx_catch (pc := pc) (ls := ls) (rest := rest) (E := xN e'.1) (ce := ce) C.o ((hs.take j).map (hE en)) (hE en x) ((hs.drop (j + 1)).map (hE en)) hsplit (fun z hz => by
        obtain ⟨z0, hz0, rfl⟩ := List.mem_map.mp hz
        obtain ⟨i, hi⟩ := List.getElem?_of_mem hz0
        have hil := (List.getElem?_eq_some_iff.mp hi).1
        rw [List.length_take] at hil
        rw [List.getElem?_take_of_lt (by omega)] at hi
        have hz1 := hlk z0 (List.mem_of_getElem? hi)
        refine Or.inr ⟨hz1.2.1, _, hz1.2.2, ?_⟩
        rw [← hxe]
        exact hnc i j z0 x (by omega) hi hj) (hcov x hx) hk.2.1 hk.2.2 (by rw [← hxe]; exact va_Nw.use rfl (xN_cast hw x.1 hk.1.1 hk.1.2)) (by rw [e2]; exact hce) hv hcl (W.narrow (kc j x e'.2 q σ1 T'.heap (locs ++ L) hj (by rw [← hE2]) (by rw [e2]; exact hP) hS1 (by rw [e2]; exact Nat.le_trans hI.2.2 hs'))) T' rfl X'
    exact ⟨t2, st9.trans a1, b1⟩
/-- the answer is stored, 0 is returned -/
theorem wr_store {α : Type} {u : cX α × cS} {es : List Nat} {toL : α → Int64} {v : α} {σ1 : cS} {ao pE : Nat} {off : Int} {w : Int64} (C : CX p m meth c s args cc nL (some .int) own) (hw : WKc g A s s.heap) (hI : CI g A s σ1 H locs) (hO : ∃ v, LO g ao v s.heap) (hao : ¬ A ao ∧ g.2.2.1 2 ≤ ao) (hu : u = (.inl v, σ1)) (hv : toL v = w)
    (d1 : decode cc pc = .ok (.lastore, 1)) (d2 : decode cc (pc + 1) = .ok (.goto off, 3)) (ht : ((pc + 1 : Nat) : Int) + off = (pE : Int)) (d3 : decode cc pE = .ok (.iconst 0, 1)) (d4 : decode cc (pE + 1) = .ok (.ireturn, 1)) : W p l e R s m args below meth c H locs (H.size - s.heap.size) (hsl H - hsl s.heap) (MQ below (WrQ g A ao es toL u) args s (g.2.2.1 3 - s.heap.size) (g.2.2.1 4 - hsl s.heap) (fun q => A q ∨ q = ao)) (F0 m pc ls [.long w, .int 0, .ref ao]) := by
  obtain ⟨v0, f0, hO1, hO2⟩ := hO
  have hal : ao < s.heap.size := (Array.getElem?_eq_some_iff.mp hO1).1
  have hcell : H[ao]? = some (vp_cell (g.2.1 5) (1, .inr (.inl f0))) := by rw [hI.2.1.2.1 ao hal hao.1]; exact hO1
  refine W.last C.x C.b hcell ((hw.1.2 5 _ rfl).1 1 (fun j => .long (f0 j))) (fun q => by cases q) (by show ¬ ((0 : Int32) < 0 ∨ (arrV _ _ _).slots.size ≤ _); rw [arrV_size]; decide) rfl rfl d1 fun H1 e1 z1 o1 => ?_
  refine lv_goto (tgt := pE) C.x C.b d2 ht ?_
  refine lv_iconst (v := 0) C.x C.b d3 (by decide) ?_
  have hb := hI.end_
  have hs1 : hsl H1 = hsl H := hsl_same z1 fun q => by
    by_cases c : q = ao
    · rw [c, hcell, e1]
      simp [vp_cell_l, Cell.setSlot]
    · rw [o1 q c]
  have hne : ∀ a e, σ1.1 a = some e → a ≠ ao := fun a e ha c => by
    obtain ⟨-, -, -, p3, -, p5, -⟩ := hI.1
    have h2 := p3 2 (by decide)
    exact hao.1 (by rw [← c]; exact p5 a e ha (by rw [h2, c]; exact hao.2))
  refine W.widen (by rw [← z1]; exact hb.1) (by rw [← hs1]; exact hb.2) (W.iret C.x C.b C.r (fun t ht _ => ?_) (fun z hz => ?_) d4 C.k)
  · refine ⟨?_, ⟨by rw [ht, z1]; exact hI.2.1.1, fun q h1 h2 => ?_⟩, by rw [ht, hs1]; exact hI.2.2⟩
    · rw [hu]
      refine ⟨rfl, ?_, ?_⟩
      · rw [ht]
        exact hI.1.q.kept (by omega) (fun a e ha => o1 a (hne a e ha))
      · rw [ht]
        refine ⟨fun j => if j = 0 then w else f0 j, ?_, by rw [if_pos rfl, hv]⟩
        rw [e1, vp_cell_l, vp_cell_l, arrV_store]
        congr 2
        funext q
        by_cases hq : q = 0
        · subst hq
          simp [updV]
        · simp [updV, hq]
    · rw [ht, o1 q (fun c => h2 (Or.inr c))]
      exact hI.2.1.2.1 q h1 (fun c => h2 (Or.inl c))
  · rcases List.mem_append.mp hz with h | h
    · exact Or.inl (hI.2.1.2.2 z h)
    · simp only [List.mem_singleton] at h
      rw [h]
      exact Or.inr rfl
/-- a handler's end -/
theorem wr_caught {α : Type} {u : cX α × cS} {es : List Nat} {toL : α → Int64} {σ1 : cS} {ao j k q0 : Nat} {w : Int32} (C : CX p m meth c s args cc nL (some .int) own) (hP : HPx g A σ1 H) (hS : va_S A s.heap H locs) (hsl1 : hsl s.heap ≤ hsl H) (hao : ¬ A ao) (hal : ao < s.heap.size) (hu : u = (.inr (k, q0), σ1)) (hj : es[j]? = some k) (hw : w = Int32.ofNat (j + 1)) (d : decode cc pc = .ok (.ireturn, 1)) : W p l e R s m args below meth c H locs (H.size - s.heap.size) (hsl H - hsl s.heap) (MQ below (WrQ g A ao es toL u) args s (g.2.2.1 3 - s.heap.size) (g.2.2.1 4 - hsl s.heap) (fun q => A q ∨ q = ao)) (F0 m pc ls [.int w]) := by
  have hb := hP.ends
  refine W.widen (by omega) (by omega) (W.iret C.x C.b C.r (fun t ht _ => ?_) (fun z hz => Or.inl (hS.2.2 z hz)) d C.k)
  refine ⟨?_, ⟨by rw [ht]; exact hS.1, fun q h1 h2 => by rw [ht]; exact hS.2.1 q h1 (fun c => h2 (Or.inl c))⟩, by rw [ht]; exact hsl1⟩
  rw [hu]
  exact ⟨⟨j, hj, by rw [hw]⟩, by rw [ht]; exact hP, by rw [ht]; exact hS.2.1 ao hal hao⟩
end WRC
theorem wr_of {l : Launch} {y : MethodName} {ws ws' : List Cond} {rm : Room} {Pc : Array Value → State → Prop} {Qc : Array Value → State → Outcome → State → Prop} {mc ms : Nat} {free : Addr → Prop} {cc : ByteArray} {maxL : Nat} {ret : Option FieldType} {hh : List (Nat × Nat × Nat × Nat)}
    (hy : plainName y.cls = true) (hw : ws = Cond.codeWith y cc maxL ret hh :: ws')
    (body : ∀ p e s m args below meth c s₁, BodyLoose p l y (headSpec ws rm) cc maxL ret e s m args below meth c s₁ → c.maxLocals = maxL → Pc args s →
      W p l e (headSpec ws rm).room s m args below meth c s.heap [] 0 0 (MQ below Qc args s mc ms free) (entryFrame m args maxL)) : Met l y ws rm Pc Qc mc ms free := met_of_vx (vx_ofWH hy hw (fun p e s m args below meth c s₁ B hm hp => vx_ret (body p e s m args below meth c s₁ B hm hp)))
