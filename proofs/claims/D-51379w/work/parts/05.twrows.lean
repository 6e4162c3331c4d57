/-! THE TWIN's WORLD: one object of 27 fields and its ten arrays; its state as a pure value -/
set_option maxRecDepth 100000
/-- arrays by their field's number, int fields by theirs -/
abbrev twS : Type := (Nat → Nat → Int32) × (Nat → Int32)
def twA (σ : twS) (k j : Nat) (x : Int32) : twS := (fun q => if q = k then upd (σ.1 q) j x else σ.1 q, σ.2)
def twI (σ : twS) (k : Nat) (x : Int32) : twS := (σ.1, fun q => if q = k then x else σ.2 q)
/-- pure pieces: a bind; a read and a store in range; a name; a divisor that isn't 0 -/
def bd {α σ γ : Type} (x : Option (α × σ)) (f : α → σ → Option γ) : Option γ := match x with
  | none => none
  | some q => f q.1 q.2
def ald {β : Type} (σ : twS) (k n : Nat) (i : Int32) (K : Int32 → Option β) : Option β := if i < 0 ∨ n ≤ i.toNatClampNeg then none else K (σ.1 k i.toNatClampNeg)
def ast {β : Type} (σ : twS) (k n : Nat) (i x : Int32) (K : twS → Option β) : Option β := if i < 0 ∨ n ≤ i.toNatClampNeg then none else K (twA σ k i.toNatClampNeg x)
def lt_ {α β : Type} (x : α) (K : α → β) : β := K x
def nz {β : Type} (y : Int32) (K : Option β) : Option β := if y = 0 then none else K
def chA {β : Type} (t : List Int32) (i : Int32) (K : Int32 → Option β) : Option β := if i < 0 ∨ t.length ≤ i.toNatClampNeg then none else K (t.getD i.toNatClampNeg 0 &&& 255)
theorem bd_s {α σ γ : Type} {x : Option (α × σ)} {f : α → σ → Option γ} {z : γ} (h : bd x f = some z) : ∃ v s, x = some (v, s) ∧ f v s = some z := by
  cases x with
  | none => cases h
  | some q => exact ⟨q.1, q.2, rfl, h⟩
theorem ald_s {β : Type} {σ : twS} {k n : Nat} {i : Int32} {K : Int32 → Option β} {z : β} (h : ald σ k n i K = some z) : vp_in i n ∧ K (σ.1 k i.toNatClampNeg) = some z := by
  unfold ald at h
  split at h
  · cases h
  · exact ⟨by assumption, h⟩
theorem ast_s {β : Type} {σ : twS} {k n : Nat} {i x : Int32} {K : twS → Option β} {z : β} (h : ast σ k n i x K = some z) : vp_in i n ∧ K (twA σ k i.toNatClampNeg x) = some z := by
  unfold ast at h
  split at h
  · cases h
  · exact ⟨by assumption, h⟩
theorem chA_s {β : Type} {t : List Int32} {i : Int32} {K : Int32 → Option β} {z : β} (h : chA t i K = some z) : vp_in i t.length ∧ K (t.getD i.toNatClampNeg 0 &&& 255) = some z := by
  unfold chA at h
  split at h
  · cases h
  · exact ⟨by assumption, h⟩
theorem nz_s {β : Type} {y : Int32} {K : Option β} {z : β} (h : nz y K = some z) : ¬ y = 0 ∧ K = some z := by
  unfold nz at h
  split at h
  · cases h
  · exact ⟨by assumption, h⟩
theorem ip {c : Prop} [Decidable c] {α : Sort _} {x y z : α} (hc : c) (h : (if c then x else y) = z) : x = z := by rw [if_pos hc] at h; exact h
theorem iN {c : Prop} [Decidable c] {α : Sort _} {x y z : α} (hc : ¬ c) (h : (if c then x else y) = z) : y = z := by rw [if_neg hc] at h; exact h

/-- the classes' numbers, the two array classes, the object, its arrays -/
abbrev twG : Type := va_G × ClassId × ClassId × Nat × (Nat → Nat)
abbrev twCl : List vw_C := [(RX10, TX10, 27)]
abbrev twFs (g : twG) (σ : twS) : List Value := [.ref (g.2.2.2.2 0), .ref (g.2.2.2.2 1), .ref (g.2.2.2.2 2), .ref (g.2.2.2.2 3), .ref (g.2.2.2.2 4), .int (σ.2 5), .int (σ.2 6), .ref (g.2.2.2.2 7), .ref (g.2.2.2.2 8), .int (σ.2 9), .int (σ.2 10), .ref (g.2.2.2.2 11), .int (σ.2 12), .int (σ.2 13), .ref (g.2.2.2.2 14), .ref (g.2.2.2.2 15), .int (σ.2 16), .int (σ.2 17), .int (σ.2 18), .int (σ.2 19), .int (σ.2 20), .int (σ.2 21), .int (σ.2 22), .int (σ.2 23), .int (σ.2 24), .int (σ.2 25), .int (σ.2 26)]
abbrev twW (g : twG) (σ : twS) : va_W := [(g.2.2.2.1, .inr (0, twFs g σ)), (g.2.2.2.2 0, .inl (g.2.1, 358, .inl (σ.1 0))), (g.2.2.2.2 1, .inl (g.2.1, 358, .inl (σ.1 1))), (g.2.2.2.2 2, .inl (g.2.1, 358, .inl (σ.1 2))), (g.2.2.2.2 3, .inl (g.2.1, 2864, .inl (σ.1 3))), (g.2.2.2.2 4, .inl (g.2.1, 716, .inl (σ.1 4))), (g.2.2.2.2 7, .inl (g.2.1, 700, .inl (σ.1 7))), (g.2.2.2.2 8, .inl (g.2.1, 700, .inl (σ.1 8))), (g.2.2.2.2 11, .inl (g.2.2.1, 600, .inl (σ.1 11))), (g.2.2.2.2 14, .inl (g.2.1, 32, .inl (σ.1 14))), (g.2.2.2.2 15, .inl (g.2.1, 256, .inl (σ.1 15)))]
def TI (g : twG) (A : Nat → Prop) (σ : twS) (H : Heap) : Prop := va_P g.1 twCl (twW g σ) H ∧ va_D A (twW g σ)

/-- a String outside A: its bytes -/
def StrC (A : Nat → Prop) (t : List Int32) (a : Nat) (U : State) (H : Heap) : Prop := t.length < 2 ^ 31 ∧ va_O "java/lang/String" a A U H ∧ va_OF "java/lang/String" "coder" "B" (.int 0) a A U H ∧ ∃ v : Nat, va_OF "java/lang/String" "value" "[B" (.ref v) a A U H ∧ va_T .byte v t.length (fun j => .int (t.getD j 0)) A U H
theorem StrC.moved {A : Nat → Prop} {t : List Int32} {a : Nat} {u U : State} {H : Heap} (hvm : u.vm.Alike U.vm) (h : StrC A t a u H) : StrC A t a U H := by
  obtain ⟨h0, h1, h2, v, h3, h4⟩ := h
  exact ⟨h0, va_O.moved hvm h1, va_OF.moved hvm h2, v, va_OF.moved hvm h3, va_T.moved hvm h4⟩
theorem StrC.kept {A : Nat → Prop} {t : List Int32} {a : Nat} {U : State} {H H1 : Heap} (h : StrC A t a U H) (hq : ∀ q : Nat, q < H.size → ¬ A q → H1[q]? = H[q]?) : StrC A t a U H1 := by
  obtain ⟨h0, h1, h2, v, h3, h4⟩ := h
  exact ⟨h0, h1.kept hq, h2.kept hq, v, h3.kept hq, h4.kept hq⟩
/-- what the String methods read of statics -/
def StJ (A : Nat → Prop) (U : State) (H : Heap) : Prop := va_Z "java/lang/String" "COMPACT_STRINGS" "Z" (.int 1) A U H ∧ va_Zq "jdk/internal/util/Preconditions" "SIOOBE_FORMATTER" "Ljava/util/function/BiFunction;" A U H
theorem StJ.moved {A : Nat → Prop} {u U : State} {H : Heap} (hvm : u.vm.Alike U.vm) (h : StJ A u H) : StJ A U H := ⟨va_Z.moved hvm h.1, va_Zq.moved hvm h.2⟩
theorem StJ.kept {A : Nat → Prop} {U : State} {H H1 : Heap} (h : StJ A U H) (hq : ∀ q : Nat, q < H.size → ¬ A q → H1[q]? = H[q]?) : StJ A U H1 := ⟨h.1.kept hq, h.2.kept hq⟩
/-- the twin's knowledge of a state: classes, statics, its String constants -/
def twStr (own : String) (A : Nat → Prop) (U : State) (H : Heap) (q : Nat × String × List Int32) : Prop := ∃ a, vk_R own q.1 q.2.1 a U ∧ StrC A q.2.2 a U H
def WKt (L : List (Nat × String × List Int32)) (g : twG) (A : Nat → Prop) (U : State) (H : Heap) : Prop := va_K g.1 twCl [(g.2.1, .int), (g.2.2.1, .char)] U ∧ StJ A U H ∧ ∀ q ∈ L, twStr RX10 A U H q
theorem WKt.at {L : List (Nat × String × List Int32)} {g : twG} {A : Nat → Prop} {s U : State} {H : Heap} {locs : List Loc} (h : WKt L g A s s.heap) (hS : va_S A s.heap H locs) (hW : s.WarmedH U.vm) : WKt L g A U H := by
  refine ⟨va_K.moved hW.alike h.1, (StJ.moved hW.alike h.2.1).kept hS.2.1, fun q hq => ?_⟩
  obtain ⟨a, h1, h2⟩ := h.2.2 q hq
  exact ⟨a, vk_R.warm hW h1, (StrC.moved hW.alike h2).kept hS.2.1⟩
theorem WKt.vm {L : List (Nat × String × List Int32)} {g : twG} {A : Nat → Prop} {s U : State} {H : Heap} (h : WKt L g A s H) (hv : U.vm = s.vm) : WKt L g A U H := by
  have hal : s.vm.Alike U.vm := by rw [hv]; exact Vm.Alike.refl _
  refine ⟨va_K.moved hal h.1, StJ.moved hal h.2.1, fun q hq => ?_⟩
  obtain ⟨a, h1, h2⟩ := h.2.2 q hq
  exact ⟨a, vk_R.same hv h1, StrC.moved hal h2⟩

/-- a method's frame of facts -/
def CX (p : Program) (m : MethodId) (meth : Method) (c : Code) (s : State) (args : Array Value) (cc : ByteArray) (nL : Nat) (ret : Option FieldType) (own : String) : Prop := CallFix p m c cc nL s args lw_all own ∧ meth.sig.returnType = ret ∧ meth.locks = false
section TW0
variable {p : Program} {m : MethodId} {meth : Method} {c : Code} {s : State} {args : Array Value} {cc : ByteArray} {nL : Nat} {ret : Option FieldType} {own : String}
theorem CX.x (C : CX p m meth c s args cc nL ret own) : p.tables.exec = Jvm.exec := C.1.1
theorem CX.b (C : CX p m meth c s args cc nL ret own) : c.code = cc := C.1.2.1
theorem CX.n (C : CX p m meth c s args cc nL ret own) : c.maxLocals = nL := C.1.2.2.1
theorem CX.o (C : CX p m meth c s args cc nL ret own) : s.vm.findClass own = some m.cls := C.1.2.2.2.1
theorem CX.t (C : CX p m meth c s args cc nL ret own) : ∀ w ∈ lw_all, w.before args s = true := C.1.2.2.2.2
theorem CX.r (C : CX p m meth c s args cc nL ret own) : meth.sig.returnType = ret := C.2.1
theorem CX.k (C : CX p m meth c s args cc nL ret own) : meth.locks = false := C.2.2
end TW0
/-- the start and the end of a method of the twin -/
def TPc (L : List (Nat × String × List Int32)) (g : twG) (A : Nat → Prop) (as : List Value) (X : State → Prop) (σ : twS) : Array Value → State → Prop := va_Pc as (fun U => WKt L g A U U.heap ∧ X U ∧ TI g A σ U.heap)
def TQ (g : twG) (A : Nat → Prop) (v : Option Value) (σ : twS) : Array Value → State → Outcome → State → Prop := fun _ st oc t => oc = .returned v ∧ TI g A σ t.heap ∧ va_F A st t
def XB (X : State → Prop) : Prop := ∀ (U U' : State), U'.vm = U.vm → U'.heap = U.heap → X U → X U'
theorem XB.tt : XB (fun _ => True) := fun _ _ _ _ _ => trivial
theorem XB.str (A : Nat → Prop) (t : List Int32) (a : Nat) : XB (fun U => StrC A t a U U.heap) := fun U U' hv hh h => by
  show StrC A t a U' U'.heap
  rw [hh]
  exact StrC.moved (by rw [hv]; exact Vm.Alike.refl _) h
theorem TPc.blind {L : List (Nat × String × List Int32)} {g : twG} {A : Nat → Prop} {as : List Value} {X : State → Prop} {σ : twS} (hX : XB X) : FrameBlind (TPc L g A as X σ) := by
  intro a U f mk h
  obtain ⟨h0, h1, h2, h3⟩ := h
  exact ⟨h0, h1.vm (s := U) rfl, hX U _ rfl rfl h2, h3⟩
section TW1
variable {p : Program} {l : Launch} {e : Env} {R : Room} {s : State} {m : MethodId} {args : Array Value} {below : List Frame} {meth : Method} {c : Code} {H : Heap} {locs : List Loc} {cells slots : Nat} {Q : State → Prop}
variable {cc : ByteArray} {pc : Nat} {ls : Array Slot} {rest : List Value} {g : twG} {A : Nat → Prop} {nL : Nat} {ret : Option FieldType} {own : String} {σ : twS} {H0 : Heap} {L : List (Nat × String × List Int32)}
/-- behind a call: the state that came back (the heap may have changed in A alone) -/
theorem tw_go {v : Option Value} {σ1 : twS} {a : Array Value} {st : List Value} (hr : va_Run p l e R s m args below meth c H locs 0 0 0 0 (F0 m pc ls st) rest (TQ g A v σ1 a) A) (hS : va_S A s.heap H locs)
    (kk : ∀ (H1 : Heap) (locs1 : List Loc), TI g A σ1 H1 → va_S A s.heap H1 locs1 → W p l e R s m args below meth c H1 locs1 0 0 Q (F0 m (pc + 3) ls (v.toList ++ rest))) : W p l e R s m args below meth c H locs 0 0 Q (F0 m pc ls st) := by
  intro T hT X
  obtain ⟨w, st₀, t, T', L, h0, X', hL, e1, e2, ⟨hv, hI, hz, hk⟩, st⟩ := hr T hT X
  cases hv
  rw [h0] at hz hk
  obtain ⟨t2, a1, b1⟩ := kk T'.heap (locs ++ L) (by rw [e1]; exact hI)
    ⟨Nat.le_trans hS.1 (by rw [e1]; exact hz), fun q h1 h2 => by rw [e1, hk q (Nat.lt_of_lt_of_le h1 hS.1) h2]; exact hS.2.1 q h1 h2, fun q hq => by
      rcases List.mem_append.mp hq with h | h
      · exact hS.2.2 q h
      · exact hL q h⟩ T' rfl X'
  exact ⟨t2, st t2 a1, b1⟩
/-- the receiver -/
theorem tw_recv (hw : WKt L g A s s.heap) (hσ : TI g A σ H) : ∃ cell : Cell, H[g.2.2.2.1]? = some cell ∧ cell.vm.isStatics = false ∧ s.vm.findClass RX10 = some cell.cls := by
  obtain ⟨r, h1, cell, q1, q2, q3, q4⟩ := hσ.1 0 _ rfl
  have hr : r = (RX10, TX10, 27) := (Option.some.inj (h1.symm.trans (rfl : twCl[0]? = some (RX10, TX10, 27))))
  subst hr
  obtain ⟨hS, hfc, -⟩ := hw.1.1 0 _ (rfl : twCl[0]? = some (RX10, TX10, 27))
  exact ⟨cell, q1, by rw [q3]; rfl, by rw [q2]; exact hfc⟩
variable {y : MethodName} {bytes : ByteArray} {maxL index n : Nat} {ret' : Option FieldType} {ws : List Cond} {rm : Room}
/-- a method of the twin is called on it -/
theorem tw_call {α β : Type} {f : Option (α × twS)} {K : α → twS → Option (β × twS)} {z : β × twS} (toV : α → Option Value) (As : List Value) (Xa : State → Prop) {st : List Value} (C : CX p m meth c s args cc nL ret own) (hw : WKt L g A s s.heap) (hXb : XB Xa) (hX : ∀ U : State, U.heap = H → s.WarmedH U.vm → Xa U) (hσ : TI g A σ H) (hS : va_S A s.heap H locs) (hn : ls.size = nL) (h : bd f K = some z)
    (hM : ∀ v σ1, f = some (v, σ1) → Met l y ws rm (TPc L g A (.ref g.2.2.2.1 :: As) Xa σ) (TQ g A (toV v) σ1) 0 0 A) (cw : CallW R s args own RX10 index y bytes maxL ret' ws rm 0 0 n)
    (hAs : As.length = n) (hst : st = As.reverse ++ .ref g.2.2.2.1 :: rest) (hrest : (rest.map fun v => v.category).sum ≤ 8) (hdg : decode cc pc = .ok (.invokevirtual index, 3))
    (kk : ∀ (v : α) (σ1 : twS) (H1 : Heap) (locs1 : List Loc), K v σ1 = some z → TI g A σ1 H1 → va_S A s.heap H1 locs1 → W p l e R s m args below meth c H1 locs1 0 0 Q (F0 m (pc + 3) ls ((toV v).toList ++ rest))) : W p l e R s m args below meth c H locs 0 0 Q (F0 m pc ls st) := by
  obtain ⟨v, σ1, e1, h1⟩ := bd_s h
  refine tw_go (va_runV (As := As) (rest := rest) C.1 (hM v σ1 e1) cw ⟨TPc.blind hXb, tw_recv hw hσ, fun U hU hW => ⟨rfl, ?_, ?_, ?_⟩⟩ rfl hAs hn hst (lv_room (m := m) (pc := pc) (ls := ls) (rest := st) hrest) hdg ⟨Nat.zero_le _, Nat.zero_le _⟩) hS (fun H1 locs1 a b => kk v σ1 H1 locs1 h1 a b)
  · rw [hU]; exact hw.at hS hW
  · exact hX U hU hW
  · rw [hU]; exact hσ
theorem tw_callS {α β : Type} {f : Option (α × twS)} {K : α → twS → Option (β × twS)} {z : β × twS} (toV : α → Option Value) (As : List Value) {st : List Value} (C : CX p m meth c s args cc nL ret own) (hw : WKt L g A s s.heap) (hσ : TI g A σ H) (hS : va_S A s.heap H locs) (hn : ls.size = nL) (h : bd f K = some z)
    (hM : ∀ v σ1, f = some (v, σ1) → Met l y ws rm (TPc L g A As (fun _ => True) σ) (TQ g A (toV v) σ1) 0 0 A) (cw : CallB R s args own index y bytes maxL ret' ws rm 0 0 n ∧ (Cond.static y).before args s = true)
    (hAs : As.length = n) (hst : st = As.reverse ++ rest) (hrest : (rest.map fun v => v.category).sum ≤ 8) (hdg : decode cc pc = .ok (.invokestatic index, 3))
    (kk : ∀ (v : α) (σ1 : twS) (H1 : Heap) (locs1 : List Loc), K v σ1 = some z → TI g A σ1 H1 → va_S A s.heap H1 locs1 → W p l e R s m args below meth c H1 locs1 0 0 Q (F0 m (pc + 3) ls ((toV v).toList ++ rest))) : W p l e R s m args below meth c H locs 0 0 Q (F0 m pc ls st) := by
  obtain ⟨v, σ1, e1, h1⟩ := bd_s h
  refine tw_go (va_runS (As := As) (rest := rest) C.1 (hM v σ1 e1) cw ⟨TPc.blind XB.tt, fun U hU hW => ⟨rfl, ?_, trivial, ?_⟩⟩ rfl hAs hn hst (lv_room (m := m) (pc := pc) (ls := ls) (rest := st) hrest) hdg ⟨Nat.zero_le _, Nat.zero_le _⟩) hS (fun H1 locs1 a b => kk v σ1 H1 locs1 h1 a b)
  · rw [hU]; exact hw.at hS hW
  · rw [hU]; exact hσ
/-- a field, an array's address -/
theorem tw_getf (C : CX p m meth c s args cc nL ret RX10) (hw : WKt L g A s s.heap) (hσ : TI g A σ H) (k : Nat) (hk : k < 27) {v : Value} (hv : (twFs g σ)[k]? = some v) {idx : Nat} {w : Cond} (hl : w ∈ lw_all) (he : w = Cond.fieldLink RX10 idx RX10 (TX10 k).2.1 (TX10 k).2.2.1) (h1 : (TX10 k).1 = RX10) (hdg : decode cc pc = .ok (.getfield idx, 3))
    (kk : W p l e R s m args below meth c H locs cells slots Q (F0 m (pc + 3) ls (v :: rest))) : W p l e R s m args below meth c H locs cells slots Q (F0 m pc ls (.ref g.2.2.2.1 :: rest)) :=
  va_get (D := g.1) (ci := 0) (v := v) (C := RX10) (T := TX10) (N := 27) C.x C.b C.t in_X10 C.o hw.1 hσ.1 0 rfl rfl k hk (he ▸ C.t _ hl) (fun _ h9 => by rw [h1] at h9; exact h9) hv hdg kk
theorem tw_putf (C : CX p m meth c s args cc nL ret RX10) (hw : WKt L g A s s.heap) (hσ : TI g A σ H) (hS : va_S A s.heap H locs) (k : Nat) (hk : k < 27) {x : Int32} (hv : (twFs g σ).set k (.int x) = twFs g (twI σ k x)) (ha : twW g (twI σ k x) = (twW g σ).set 0 (g.2.2.2.1, .inr (0, twFs g (twI σ k x)))) (hf : (TX10 k).2.2.2 = false) (hty : parseFieldDescriptor (TX10 k).2.2.1 = some .int) {idx : Nat} {w : Cond} (hl : w ∈ lw_all) (he : w = Cond.fieldLink RX10 idx RX10 (TX10 k).2.1 (TX10 k).2.2.1) (h1 : (TX10 k).1 = RX10) (hdg : decode cc pc = .ok (.putfield idx, 3))
    (kk : ∀ (H1 : Heap) (locs1 : List Loc), TI g A (twI σ k x) H1 → va_S A s.heap H1 locs1 → W p l e R s m args below meth c H1 locs1 cells slots Q (F0 m (pc + 3) ls rest)) : W p l e R s m args below meth c H locs cells slots Q (F0 m pc ls (.int x :: .ref g.2.2.2.1 :: rest)) := by
  refine va_put (D := g.1) (ci := 0) (v := .int x) (ty := .int) (C := RX10) (T := TX10) (N := 27) C.x C.b C.t in_X10 tyX10 tyX10_ok nmX10 C.o hw.1 hσ.1 hσ.2 hS 0 rfl rfl k hk (he ▸ C.t _ hl) (fun _ h9 => by rw [h1] at h9; exact h9) hf hty rfl rfl (by show k < 27; exact hk) hdg (fun H1 locs1 a b d => kk H1 locs1 ⟨?_, ?_⟩ d)
  · rw [ha, ← hv]; exact a
  · rw [ha, ← hv]; exact b

theorem tw_ld0 {β : Type} {i : Int32} {K : Int32 → Option β} {z : β} (C : CX p m meth c s args cc nL ret own) (hw : WKt L g A s s.heap) (hσ : TI g A σ H) (h : ald σ 0 358 i K = some z) (hdg : decode cc pc = .ok (.iaload, 1))
    (kk : ∀ v : Int32, K v = some z → W p l e R s m args below meth c H locs cells slots Q (F0 m (pc + 1) ls (.int v :: rest))) : W p l e R s m args below meth c H locs cells slots Q (F0 m pc ls (.int i :: .ref (g.2.2.2.2 0) :: rest)) :=
  va_iald C.x C.b hw.1 hσ.1 1 0 rfl rfl (ald_s h).1 hdg (kk _ (ald_s h).2)

theorem tw_st0 {β : Type} {i x : Int32} {K : twS → Option β} {z : β} (C : CX p m meth c s args cc nL ret own) (hw : WKt L g A s s.heap) (hσ : TI g A σ H) (hS : va_S A s.heap H locs) (h : ast σ 0 358 i x K = some z) (hdg : decode cc pc = .ok (.iastore, 1))
    (kk : ∀ (σ1 : twS) (H1 : Heap) (locs1 : List Loc), K σ1 = some z → TI g A σ1 H1 → va_S A s.heap H1 locs1 → W p l e R s m args below meth c H1 locs1 cells slots Q (F0 m (pc + 1) ls rest)) : W p l e R s m args below meth c H locs cells slots Q (F0 m pc ls (.int x :: .int i :: .ref (g.2.2.2.2 0) :: rest)) :=
  va_iast C.x C.b hw.1 hσ.1 hσ.2 hS 1 0 rfl rfl (ast_s h).1 hdg (fun H1 locs1 a b d => kk _ H1 locs1 (ast_s h).2 ⟨a, b⟩ d)

theorem tw_ld1 {β : Type} {i : Int32} {K : Int32 → Option β} {z : β} (C : CX p m meth c s args cc nL ret own) (hw : WKt L g A s s.heap) (hσ : TI g A σ H) (h : ald σ 1 358 i K = some z) (hdg : decode cc pc = .ok (.iaload, 1))
    (kk : ∀ v : Int32, K v = some z → W p l e R s m args below meth c H locs cells slots Q (F0 m (pc + 1) ls (.int v :: rest))) : W p l e R s m args below meth c H locs cells slots Q (F0 m pc ls (.int i :: .ref (g.2.2.2.2 1) :: rest)) :=
  va_iald C.x C.b hw.1 hσ.1 2 0 rfl rfl (ald_s h).1 hdg (kk _ (ald_s h).2)

theorem tw_st1 {β : Type} {i x : Int32} {K : twS → Option β} {z : β} (C : CX p m meth c s args cc nL ret own) (hw : WKt L g A s s.heap) (hσ : TI g A σ H) (hS : va_S A s.heap H locs) (h : ast σ 1 358 i x K = some z) (hdg : decode cc pc = .ok (.iastore, 1))
    (kk : ∀ (σ1 : twS) (H1 : Heap) (locs1 : List Loc), K σ1 = some z → TI g A σ1 H1 → va_S A s.heap H1 locs1 → W p l e R s m args below meth c H1 locs1 cells slots Q (F0 m (pc + 1) ls rest)) : W p l e R s m args below meth c H locs cells slots Q (F0 m pc ls (.int x :: .int i :: .ref (g.2.2.2.2 1) :: rest)) :=
  va_iast C.x C.b hw.1 hσ.1 hσ.2 hS 2 0 rfl rfl (ast_s h).1 hdg (fun H1 locs1 a b d => kk _ H1 locs1 (ast_s h).2 ⟨a, b⟩ d)

theorem tw_ld2 {β : Type} {i : Int32} {K : Int32 → Option β} {z : β} (C : CX p m meth c s args cc nL ret own) (hw : WKt L g A s s.heap) (hσ : TI g A σ H) (h : ald σ 2 358 i K = some z) (hdg : decode cc pc = .ok (.iaload, 1))
    (kk : ∀ v : Int32, K v = some z → W p l e R s m args below meth c H locs cells slots Q (F0 m (pc + 1) ls (.int v :: rest))) : W p l e R s m args below meth c H locs cells slots Q (F0 m pc ls (.int i :: .ref (g.2.2.2.2 2) :: rest)) :=
  va_iald C.x C.b hw.1 hσ.1 3 0 rfl rfl (ald_s h).1 hdg (kk _ (ald_s h).2)

theorem tw_st2 {β : Type} {i x : Int32} {K : twS → Option β} {z : β} (C : CX p m meth c s args cc nL ret own) (hw : WKt L g A s s.heap) (hσ : TI g A σ H) (hS : va_S A s.heap H locs) (h : ast σ 2 358 i x K = some z) (hdg : decode cc pc = .ok (.iastore, 1))
    (kk : ∀ (σ1 : twS) (H1 : Heap) (locs1 : List Loc), K σ1 = some z → TI g A σ1 H1 → va_S A s.heap H1 locs1 → W p l e R s m args below meth c H1 locs1 cells slots Q (F0 m (pc + 1) ls rest)) : W p l e R s m args below meth c H locs cells slots Q (F0 m pc ls (.int x :: .int i :: .ref (g.2.2.2.2 2) :: rest)) :=
  va_iast C.x C.b hw.1 hσ.1 hσ.2 hS 3 0 rfl rfl (ast_s h).1 hdg (fun H1 locs1 a b d => kk _ H1 locs1 (ast_s h).2 ⟨a, b⟩ d)

theorem tw_ld3 {β : Type} {i : Int32} {K : Int32 → Option β} {z : β} (C : CX p m meth c s args cc nL ret own) (hw : WKt L g A s s.heap) (hσ : TI g A σ H) (h : ald σ 3 2864 i K = some z) (hdg : decode cc pc = .ok (.iaload, 1))
    (kk : ∀ v : Int32, K v = some z → W p l e R s m args below meth c H locs cells slots Q (F0 m (pc + 1) ls (.int v :: rest))) : W p l e R s m args below meth c H locs cells slots Q (F0 m pc ls (.int i :: .ref (g.2.2.2.2 3) :: rest)) :=
  va_iald C.x C.b hw.1 hσ.1 4 0 rfl rfl (ald_s h).1 hdg (kk _ (ald_s h).2)

theorem tw_st3 {β : Type} {i x : Int32} {K : twS → Option β} {z : β} (C : CX p m meth c s args cc nL ret own) (hw : WKt L g A s s.heap) (hσ : TI g A σ H) (hS : va_S A s.heap H locs) (h : ast σ 3 2864 i x K = some z) (hdg : decode cc pc = .ok (.iastore, 1))
    (kk : ∀ (σ1 : twS) (H1 : Heap) (locs1 : List Loc), K σ1 = some z → TI g A σ1 H1 → va_S A s.heap H1 locs1 → W p l e R s m args below meth c H1 locs1 cells slots Q (F0 m (pc + 1) ls rest)) : W p l e R s m args below meth c H locs cells slots Q (F0 m pc ls (.int x :: .int i :: .ref (g.2.2.2.2 3) :: rest)) :=
  va_iast C.x C.b hw.1 hσ.1 hσ.2 hS 4 0 rfl rfl (ast_s h).1 hdg (fun H1 locs1 a b d => kk _ H1 locs1 (ast_s h).2 ⟨a, b⟩ d)

theorem tw_ld4 {β : Type} {i : Int32} {K : Int32 → Option β} {z : β} (C : CX p m meth c s args cc nL ret own) (hw : WKt L g A s s.heap) (hσ : TI g A σ H) (h : ald σ 4 716 i K = some z) (hdg : decode cc pc = .ok (.iaload, 1))
    (kk : ∀ v : Int32, K v = some z → W p l e R s m args below meth c H locs cells slots Q (F0 m (pc + 1) ls (.int v :: rest))) : W p l e R s m args below meth c H locs cells slots Q (F0 m pc ls (.int i :: .ref (g.2.2.2.2 4) :: rest)) :=
  va_iald C.x C.b hw.1 hσ.1 5 0 rfl rfl (ald_s h).1 hdg (kk _ (ald_s h).2)

theorem tw_st4 {β : Type} {i x : Int32} {K : twS → Option β} {z : β} (C : CX p m meth c s args cc nL ret own) (hw : WKt L g A s s.heap) (hσ : TI g A σ H) (hS : va_S A s.heap H locs) (h : ast σ 4 716 i x K = some z) (hdg : decode cc pc = .ok (.iastore, 1))
    (kk : ∀ (σ1 : twS) (H1 : Heap) (locs1 : List Loc), K σ1 = some z → TI g A σ1 H1 → va_S A s.heap H1 locs1 → W p l e R s m args below meth c H1 locs1 cells slots Q (F0 m (pc + 1) ls rest)) : W p l e R s m args below meth c H locs cells slots Q (F0 m pc ls (.int x :: .int i :: .ref (g.2.2.2.2 4) :: rest)) :=
  va_iast C.x C.b hw.1 hσ.1 hσ.2 hS 5 0 rfl rfl (ast_s h).1 hdg (fun H1 locs1 a b d => kk _ H1 locs1 (ast_s h).2 ⟨a, b⟩ d)

theorem tw_ld7 {β : Type} {i : Int32} {K : Int32 → Option β} {z : β} (C : CX p m meth c s args cc nL ret own) (hw : WKt L g A s s.heap) (hσ : TI g A σ H) (h : ald σ 7 700 i K = some z) (hdg : decode cc pc = .ok (.iaload, 1))
    (kk : ∀ v : Int32, K v = some z → W p l e R s m args below meth c H locs cells slots Q (F0 m (pc + 1) ls (.int v :: rest))) : W p l e R s m args below meth c H locs cells slots Q (F0 m pc ls (.int i :: .ref (g.2.2.2.2 7) :: rest)) :=
  va_iald C.x C.b hw.1 hσ.1 6 0 rfl rfl (ald_s h).1 hdg (kk _ (ald_s h).2)

theorem tw_st7 {β : Type} {i x : Int32} {K : twS → Option β} {z : β} (C : CX p m meth c s args cc nL ret own) (hw : WKt L g A s s.heap) (hσ : TI g A σ H) (hS : va_S A s.heap H locs) (h : ast σ 7 700 i x K = some z) (hdg : decode cc pc = .ok (.iastore, 1))
    (kk : ∀ (σ1 : twS) (H1 : Heap) (locs1 : List Loc), K σ1 = some z → TI g A σ1 H1 → va_S A s.heap H1 locs1 → W p l e R s m args below meth c H1 locs1 cells slots Q (F0 m (pc + 1) ls rest)) : W p l e R s m args below meth c H locs cells slots Q (F0 m pc ls (.int x :: .int i :: .ref (g.2.2.2.2 7) :: rest)) :=
  va_iast C.x C.b hw.1 hσ.1 hσ.2 hS 6 0 rfl rfl (ast_s h).1 hdg (fun H1 locs1 a b d => kk _ H1 locs1 (ast_s h).2 ⟨a, b⟩ d)

theorem tw_ld8 {β : Type} {i : Int32} {K : Int32 → Option β} {z : β} (C : CX p m meth c s args cc nL ret own) (hw : WKt L g A s s.heap) (hσ : TI g A σ H) (h : ald σ 8 700 i K = some z) (hdg : decode cc pc = .ok (.iaload, 1))
    (kk : ∀ v : Int32, K v = some z → W p l e R s m args below meth c H locs cells slots Q (F0 m (pc + 1) ls (.int v :: rest))) : W p l e R s m args below meth c H locs cells slots Q (F0 m pc ls (.int i :: .ref (g.2.2.2.2 8) :: rest)) :=
  va_iald C.x C.b hw.1 hσ.1 7 0 rfl rfl (ald_s h).1 hdg (kk _ (ald_s h).2)

theorem tw_st8 {β : Type} {i x : Int32} {K : twS → Option β} {z : β} (C : CX p m meth c s args cc nL ret own) (hw : WKt L g A s s.heap) (hσ : TI g A σ H) (hS : va_S A s.heap H locs) (h : ast σ 8 700 i x K = some z) (hdg : decode cc pc = .ok (.iastore, 1))
    (kk : ∀ (σ1 : twS) (H1 : Heap) (locs1 : List Loc), K σ1 = some z → TI g A σ1 H1 → va_S A s.heap H1 locs1 → W p l e R s m args below meth c H1 locs1 cells slots Q (F0 m (pc + 1) ls rest)) : W p l e R s m args below meth c H locs cells slots Q (F0 m pc ls (.int x :: .int i :: .ref (g.2.2.2.2 8) :: rest)) :=
  va_iast C.x C.b hw.1 hσ.1 hσ.2 hS 7 0 rfl rfl (ast_s h).1 hdg (fun H1 locs1 a b d => kk _ H1 locs1 (ast_s h).2 ⟨a, b⟩ d)

theorem tw_ld11 {β : Type} {i : Int32} {K : Int32 → Option β} {z : β} (C : CX p m meth c s args cc nL ret own) (hw : WKt L g A s s.heap) (hσ : TI g A σ H) (h : ald σ 11 600 i K = some z) (hdg : decode cc pc = .ok (.caload, 1))
    (kk : ∀ v : Int32, K v = some z → W p l e R s m args below meth c H locs cells slots Q (F0 m (pc + 1) ls (.int v :: rest))) : W p l e R s m args below meth c H locs cells slots Q (F0 m pc ls (.int i :: .ref (g.2.2.2.2 11) :: rest)) :=
  va_cald C.x C.b hw.1 hσ.1 8 1 rfl rfl (ald_s h).1 hdg (kk _ (ald_s h).2)

theorem tw_st11 {β : Type} {i x : Int32} {K : twS → Option β} {z : β} (C : CX p m meth c s args cc nL ret own) (hw : WKt L g A s s.heap) (hσ : TI g A σ H) (hS : va_S A s.heap H locs) (h : ast σ 11 600 i (vp_nar .char x) K = some z) (hdg : decode cc pc = .ok (.castore, 1))
    (kk : ∀ (σ1 : twS) (H1 : Heap) (locs1 : List Loc), K σ1 = some z → TI g A σ1 H1 → va_S A s.heap H1 locs1 → W p l e R s m args below meth c H1 locs1 cells slots Q (F0 m (pc + 1) ls rest)) : W p l e R s m args below meth c H locs cells slots Q (F0 m pc ls (.int x :: .int i :: .ref (g.2.2.2.2 11) :: rest)) :=
  va_cast C.x C.b hw.1 hσ.1 hσ.2 hS 8 1 rfl rfl (ast_s h).1 hdg (fun H1 locs1 a b d => kk _ H1 locs1 (ast_s h).2 ⟨a, b⟩ d)

theorem tw_ld14 {β : Type} {i : Int32} {K : Int32 → Option β} {z : β} (C : CX p m meth c s args cc nL ret own) (hw : WKt L g A s s.heap) (hσ : TI g A σ H) (h : ald σ 14 32 i K = some z) (hdg : decode cc pc = .ok (.iaload, 1))
    (kk : ∀ v : Int32, K v = some z → W p l e R s m args below meth c H locs cells slots Q (F0 m (pc + 1) ls (.int v :: rest))) : W p l e R s m args below meth c H locs cells slots Q (F0 m pc ls (.int i :: .ref (g.2.2.2.2 14) :: rest)) :=
  va_iald C.x C.b hw.1 hσ.1 9 0 rfl rfl (ald_s h).1 hdg (kk _ (ald_s h).2)

theorem tw_st14 {β : Type} {i x : Int32} {K : twS → Option β} {z : β} (C : CX p m meth c s args cc nL ret own) (hw : WKt L g A s s.heap) (hσ : TI g A σ H) (hS : va_S A s.heap H locs) (h : ast σ 14 32 i x K = some z) (hdg : decode cc pc = .ok (.iastore, 1))
    (kk : ∀ (σ1 : twS) (H1 : Heap) (locs1 : List Loc), K σ1 = some z → TI g A σ1 H1 → va_S A s.heap H1 locs1 → W p l e R s m args below meth c H1 locs1 cells slots Q (F0 m (pc + 1) ls rest)) : W p l e R s m args below meth c H locs cells slots Q (F0 m pc ls (.int x :: .int i :: .ref (g.2.2.2.2 14) :: rest)) :=
  va_iast C.x C.b hw.1 hσ.1 hσ.2 hS 9 0 rfl rfl (ast_s h).1 hdg (fun H1 locs1 a b d => kk _ H1 locs1 (ast_s h).2 ⟨a, b⟩ d)

theorem tw_ld15 {β : Type} {i : Int32} {K : Int32 → Option β} {z : β} (C : CX p m meth c s args cc nL ret own) (hw : WKt L g A s s.heap) (hσ : TI g A σ H) (h : ald σ 15 256 i K = some z) (hdg : decode cc pc = .ok (.iaload, 1))
    (kk : ∀ v : Int32, K v = some z → W p l e R s m args below meth c H locs cells slots Q (F0 m (pc + 1) ls (.int v :: rest))) : W p l e R s m args below meth c H locs cells slots Q (F0 m pc ls (.int i :: .ref (g.2.2.2.2 15) :: rest)) :=
  va_iald C.x C.b hw.1 hσ.1 10 0 rfl rfl (ald_s h).1 hdg (kk _ (ald_s h).2)

theorem tw_st15 {β : Type} {i x : Int32} {K : twS → Option β} {z : β} (C : CX p m meth c s args cc nL ret own) (hw : WKt L g A s s.heap) (hσ : TI g A σ H) (hS : va_S A s.heap H locs) (h : ast σ 15 256 i x K = some z) (hdg : decode cc pc = .ok (.iastore, 1))
    (kk : ∀ (σ1 : twS) (H1 : Heap) (locs1 : List Loc), K σ1 = some z → TI g A σ1 H1 → va_S A s.heap H1 locs1 → W p l e R s m args below meth c H1 locs1 cells slots Q (F0 m (pc + 1) ls rest)) : W p l e R s m args below meth c H locs cells slots Q (F0 m pc ls (.int x :: .int i :: .ref (g.2.2.2.2 15) :: rest)) :=
  va_iast C.x C.b hw.1 hσ.1 hσ.2 hS 10 0 rfl rfl (ast_s h).1 hdg (fun H1 locs1 a b d => kk _ H1 locs1 (ast_s h).2 ⟨a, b⟩ d)

theorem tw_pf5 {x : Int32} (C : CX p m meth c s args cc nL ret RX10) (hw : WKt L g A s s.heap) (hσ : TI g A σ H) (hS : va_S A s.heap H locs) {idx : Nat} (hl : Cond.fieldLink RX10 idx RX10 (TX10 5).2.1 (TX10 5).2.2.1 ∈ lw_all) (hdg : decode cc pc = .ok (.putfield idx, 3))
    (kk : ∀ (H1 : Heap) (locs1 : List Loc), TI g A (twI σ 5 x) H1 → va_S A s.heap H1 locs1 → W p l e R s m args below meth c H1 locs1 cells slots Q (F0 m (pc + 3) ls rest)) : W p l e R s m args below meth c H locs cells slots Q (F0 m pc ls (.int x :: .ref g.2.2.2.1 :: rest)) :=
  tw_putf C hw hσ hS 5 (by decide) rfl rfl rfl (by decide +kernel) hl rfl rfl hdg kk

theorem tw_pf6 {x : Int32} (C : CX p m meth c s args cc nL ret RX10) (hw : WKt L g A s s.heap) (hσ : TI g A σ H) (hS : va_S A s.heap H locs) {idx : Nat} (hl : Cond.fieldLink RX10 idx RX10 (TX10 6).2.1 (TX10 6).2.2.1 ∈ lw_all) (hdg : decode cc pc = .ok (.putfield idx, 3))
    (kk : ∀ (H1 : Heap) (locs1 : List Loc), TI g A (twI σ 6 x) H1 → va_S A s.heap H1 locs1 → W p l e R s m args below meth c H1 locs1 cells slots Q (F0 m (pc + 3) ls rest)) : W p l e R s m args below meth c H locs cells slots Q (F0 m pc ls (.int x :: .ref g.2.2.2.1 :: rest)) :=
  tw_putf C hw hσ hS 6 (by decide) rfl rfl rfl (by decide +kernel) hl rfl rfl hdg kk

theorem tw_pf9 {x : Int32} (C : CX p m meth c s args cc nL ret RX10) (hw : WKt L g A s s.heap) (hσ : TI g A σ H) (hS : va_S A s.heap H locs) {idx : Nat} (hl : Cond.fieldLink RX10 idx RX10 (TX10 9).2.1 (TX10 9).2.2.1 ∈ lw_all) (hdg : decode cc pc = .ok (.putfield idx, 3))
    (kk : ∀ (H1 : Heap) (locs1 : List Loc), TI g A (twI σ 9 x) H1 → va_S A s.heap H1 locs1 → W p l e R s m args below meth c H1 locs1 cells slots Q (F0 m (pc + 3) ls rest)) : W p l e R s m args below meth c H locs cells slots Q (F0 m pc ls (.int x :: .ref g.2.2.2.1 :: rest)) :=
  tw_putf C hw hσ hS 9 (by decide) rfl rfl rfl (by decide +kernel) hl rfl rfl hdg kk

theorem tw_pf10 {x : Int32} (C : CX p m meth c s args cc nL ret RX10) (hw : WKt L g A s s.heap) (hσ : TI g A σ H) (hS : va_S A s.heap H locs) {idx : Nat} (hl : Cond.fieldLink RX10 idx RX10 (TX10 10).2.1 (TX10 10).2.2.1 ∈ lw_all) (hdg : decode cc pc = .ok (.putfield idx, 3))
    (kk : ∀ (H1 : Heap) (locs1 : List Loc), TI g A (twI σ 10 x) H1 → va_S A s.heap H1 locs1 → W p l e R s m args below meth c H1 locs1 cells slots Q (F0 m (pc + 3) ls rest)) : W p l e R s m args below meth c H locs cells slots Q (F0 m pc ls (.int x :: .ref g.2.2.2.1 :: rest)) :=
  tw_putf C hw hσ hS 10 (by decide) rfl rfl rfl (by decide +kernel) hl rfl rfl hdg kk

theorem tw_pf12 {x : Int32} (C : CX p m meth c s args cc nL ret RX10) (hw : WKt L g A s s.heap) (hσ : TI g A σ H) (hS : va_S A s.heap H locs) {idx : Nat} (hl : Cond.fieldLink RX10 idx RX10 (TX10 12).2.1 (TX10 12).2.2.1 ∈ lw_all) (hdg : decode cc pc = .ok (.putfield idx, 3))
    (kk : ∀ (H1 : Heap) (locs1 : List Loc), TI g A (twI σ 12 x) H1 → va_S A s.heap H1 locs1 → W p l e R s m args below meth c H1 locs1 cells slots Q (F0 m (pc + 3) ls rest)) : W p l e R s m args below meth c H locs cells slots Q (F0 m pc ls (.int x :: .ref g.2.2.2.1 :: rest)) :=
  tw_putf C hw hσ hS 12 (by decide) rfl rfl rfl (by decide +kernel) hl rfl rfl hdg kk

theorem tw_pf13 {x : Int32} (C : CX p m meth c s args cc nL ret RX10) (hw : WKt L g A s s.heap) (hσ : TI g A σ H) (hS : va_S A s.heap H locs) {idx : Nat} (hl : Cond.fieldLink RX10 idx RX10 (TX10 13).2.1 (TX10 13).2.2.1 ∈ lw_all) (hdg : decode cc pc = .ok (.putfield idx, 3))
    (kk : ∀ (H1 : Heap) (locs1 : List Loc), TI g A (twI σ 13 x) H1 → va_S A s.heap H1 locs1 → W p l e R s m args below meth c H1 locs1 cells slots Q (F0 m (pc + 3) ls rest)) : W p l e R s m args below meth c H locs cells slots Q (F0 m pc ls (.int x :: .ref g.2.2.2.1 :: rest)) :=
  tw_putf C hw hσ hS 13 (by decide) rfl rfl rfl (by decide +kernel) hl rfl rfl hdg kk

theorem tw_pf16 {x : Int32} (C : CX p m meth c s args cc nL ret RX10) (hw : WKt L g A s s.heap) (hσ : TI g A σ H) (hS : va_S A s.heap H locs) {idx : Nat} (hl : Cond.fieldLink RX10 idx RX10 (TX10 16).2.1 (TX10 16).2.2.1 ∈ lw_all) (hdg : decode cc pc = .ok (.putfield idx, 3))
    (kk : ∀ (H1 : Heap) (locs1 : List Loc), TI g A (twI σ 16 x) H1 → va_S A s.heap H1 locs1 → W p l e R s m args below meth c H1 locs1 cells slots Q (F0 m (pc + 3) ls rest)) : W p l e R s m args below meth c H locs cells slots Q (F0 m pc ls (.int x :: .ref g.2.2.2.1 :: rest)) :=
  tw_putf C hw hσ hS 16 (by decide) rfl rfl rfl (by decide +kernel) hl rfl rfl hdg kk

theorem tw_pf17 {x : Int32} (C : CX p m meth c s args cc nL ret RX10) (hw : WKt L g A s s.heap) (hσ : TI g A σ H) (hS : va_S A s.heap H locs) {idx : Nat} (hl : Cond.fieldLink RX10 idx RX10 (TX10 17).2.1 (TX10 17).2.2.1 ∈ lw_all) (hdg : decode cc pc = .ok (.putfield idx, 3))
    (kk : ∀ (H1 : Heap) (locs1 : List Loc), TI g A (twI σ 17 x) H1 → va_S A s.heap H1 locs1 → W p l e R s m args below meth c H1 locs1 cells slots Q (F0 m (pc + 3) ls rest)) : W p l e R s m args below meth c H locs cells slots Q (F0 m pc ls (.int x :: .ref g.2.2.2.1 :: rest)) :=
  tw_putf C hw hσ hS 17 (by decide) rfl rfl rfl (by decide +kernel) hl rfl rfl hdg kk

theorem tw_pf18 {x : Int32} (C : CX p m meth c s args cc nL ret RX10) (hw : WKt L g A s s.heap) (hσ : TI g A σ H) (hS : va_S A s.heap H locs) {idx : Nat} (hl : Cond.fieldLink RX10 idx RX10 (TX10 18).2.1 (TX10 18).2.2.1 ∈ lw_all) (hdg : decode cc pc = .ok (.putfield idx, 3))
    (kk : ∀ (H1 : Heap) (locs1 : List Loc), TI g A (twI σ 18 x) H1 → va_S A s.heap H1 locs1 → W p l e R s m args below meth c H1 locs1 cells slots Q (F0 m (pc + 3) ls rest)) : W p l e R s m args below meth c H locs cells slots Q (F0 m pc ls (.int x :: .ref g.2.2.2.1 :: rest)) :=
  tw_putf C hw hσ hS 18 (by decide) rfl rfl rfl (by decide +kernel) hl rfl rfl hdg kk

theorem tw_pf19 {x : Int32} (C : CX p m meth c s args cc nL ret RX10) (hw : WKt L g A s s.heap) (hσ : TI g A σ H) (hS : va_S A s.heap H locs) {idx : Nat} (hl : Cond.fieldLink RX10 idx RX10 (TX10 19).2.1 (TX10 19).2.2.1 ∈ lw_all) (hdg : decode cc pc = .ok (.putfield idx, 3))
    (kk : ∀ (H1 : Heap) (locs1 : List Loc), TI g A (twI σ 19 x) H1 → va_S A s.heap H1 locs1 → W p l e R s m args below meth c H1 locs1 cells slots Q (F0 m (pc + 3) ls rest)) : W p l e R s m args below meth c H locs cells slots Q (F0 m pc ls (.int x :: .ref g.2.2.2.1 :: rest)) :=
  tw_putf C hw hσ hS 19 (by decide) rfl rfl rfl (by decide +kernel) hl rfl rfl hdg kk

theorem tw_pf20 {x : Int32} (C : CX p m meth c s args cc nL ret RX10) (hw : WKt L g A s s.heap) (hσ : TI g A σ H) (hS : va_S A s.heap H locs) {idx : Nat} (hl : Cond.fieldLink RX10 idx RX10 (TX10 20).2.1 (TX10 20).2.2.1 ∈ lw_all) (hdg : decode cc pc = .ok (.putfield idx, 3))
    (kk : ∀ (H1 : Heap) (locs1 : List Loc), TI g A (twI σ 20 x) H1 → va_S A s.heap H1 locs1 → W p l e R s m args below meth c H1 locs1 cells slots Q (F0 m (pc + 3) ls rest)) : W p l e R s m args below meth c H locs cells slots Q (F0 m pc ls (.int x :: .ref g.2.2.2.1 :: rest)) :=
  tw_putf C hw hσ hS 20 (by decide) rfl rfl rfl (by decide +kernel) hl rfl rfl hdg kk

theorem tw_pf21 {x : Int32} (C : CX p m meth c s args cc nL ret RX10) (hw : WKt L g A s s.heap) (hσ : TI g A σ H) (hS : va_S A s.heap H locs) {idx : Nat} (hl : Cond.fieldLink RX10 idx RX10 (TX10 21).2.1 (TX10 21).2.2.1 ∈ lw_all) (hdg : decode cc pc = .ok (.putfield idx, 3))
    (kk : ∀ (H1 : Heap) (locs1 : List Loc), TI g A (twI σ 21 x) H1 → va_S A s.heap H1 locs1 → W p l e R s m args below meth c H1 locs1 cells slots Q (F0 m (pc + 3) ls rest)) : W p l e R s m args below meth c H locs cells slots Q (F0 m pc ls (.int x :: .ref g.2.2.2.1 :: rest)) :=
  tw_putf C hw hσ hS 21 (by decide) rfl rfl rfl (by decide +kernel) hl rfl rfl hdg kk

theorem tw_pf22 {x : Int32} (C : CX p m meth c s args cc nL ret RX10) (hw : WKt L g A s s.heap) (hσ : TI g A σ H) (hS : va_S A s.heap H locs) {idx : Nat} (hl : Cond.fieldLink RX10 idx RX10 (TX10 22).2.1 (TX10 22).2.2.1 ∈ lw_all) (hdg : decode cc pc = .ok (.putfield idx, 3))
    (kk : ∀ (H1 : Heap) (locs1 : List Loc), TI g A (twI σ 22 x) H1 → va_S A s.heap H1 locs1 → W p l e R s m args below meth c H1 locs1 cells slots Q (F0 m (pc + 3) ls rest)) : W p l e R s m args below meth c H locs cells slots Q (F0 m pc ls (.int x :: .ref g.2.2.2.1 :: rest)) :=
  tw_putf C hw hσ hS 22 (by decide) rfl rfl rfl (by decide +kernel) hl rfl rfl hdg kk

theorem tw_pf23 {x : Int32} (C : CX p m meth c s args cc nL ret RX10) (hw : WKt L g A s s.heap) (hσ : TI g A σ H) (hS : va_S A s.heap H locs) {idx : Nat} (hl : Cond.fieldLink RX10 idx RX10 (TX10 23).2.1 (TX10 23).2.2.1 ∈ lw_all) (hdg : decode cc pc = .ok (.putfield idx, 3))
    (kk : ∀ (H1 : Heap) (locs1 : List Loc), TI g A (twI σ 23 x) H1 → va_S A s.heap H1 locs1 → W p l e R s m args below meth c H1 locs1 cells slots Q (F0 m (pc + 3) ls rest)) : W p l e R s m args below meth c H locs cells slots Q (F0 m pc ls (.int x :: .ref g.2.2.2.1 :: rest)) :=
  tw_putf C hw hσ hS 23 (by decide) rfl rfl rfl (by decide +kernel) hl rfl rfl hdg kk

theorem tw_pf24 {x : Int32} (C : CX p m meth c s args cc nL ret RX10) (hw : WKt L g A s s.heap) (hσ : TI g A σ H) (hS : va_S A s.heap H locs) {idx : Nat} (hl : Cond.fieldLink RX10 idx RX10 (TX10 24).2.1 (TX10 24).2.2.1 ∈ lw_all) (hdg : decode cc pc = .ok (.putfield idx, 3))
    (kk : ∀ (H1 : Heap) (locs1 : List Loc), TI g A (twI σ 24 x) H1 → va_S A s.heap H1 locs1 → W p l e R s m args below meth c H1 locs1 cells slots Q (F0 m (pc + 3) ls rest)) : W p l e R s m args below meth c H locs cells slots Q (F0 m pc ls (.int x :: .ref g.2.2.2.1 :: rest)) :=
  tw_putf C hw hσ hS 24 (by decide) rfl rfl rfl (by decide +kernel) hl rfl rfl hdg kk

theorem tw_pf25 {x : Int32} (C : CX p m meth c s args cc nL ret RX10) (hw : WKt L g A s s.heap) (hσ : TI g A σ H) (hS : va_S A s.heap H locs) {idx : Nat} (hl : Cond.fieldLink RX10 idx RX10 (TX10 25).2.1 (TX10 25).2.2.1 ∈ lw_all) (hdg : decode cc pc = .ok (.putfield idx, 3))
    (kk : ∀ (H1 : Heap) (locs1 : List Loc), TI g A (twI σ 25 x) H1 → va_S A s.heap H1 locs1 → W p l e R s m args below meth c H1 locs1 cells slots Q (F0 m (pc + 3) ls rest)) : W p l e R s m args below meth c H locs cells slots Q (F0 m pc ls (.int x :: .ref g.2.2.2.1 :: rest)) :=
  tw_putf C hw hσ hS 25 (by decide) rfl rfl rfl (by decide +kernel) hl rfl rfl hdg kk

theorem tw_pf26 {x : Int32} (C : CX p m meth c s args cc nL ret RX10) (hw : WKt L g A s s.heap) (hσ : TI g A σ H) (hS : va_S A s.heap H locs) {idx : Nat} (hl : Cond.fieldLink RX10 idx RX10 (TX10 26).2.1 (TX10 26).2.2.1 ∈ lw_all) (hdg : decode cc pc = .ok (.putfield idx, 3))
    (kk : ∀ (H1 : Heap) (locs1 : List Loc), TI g A (twI σ 26 x) H1 → va_S A s.heap H1 locs1 → W p l e R s m args below meth c H1 locs1 cells slots Q (F0 m (pc + 3) ls rest)) : W p l e R s m args below meth c H locs cells slots Q (F0 m pc ls (.int x :: .ref g.2.2.2.1 :: rest)) :=
  tw_putf C hw hσ hS 26 (by decide) rfl rfl rfl (by decide +kernel) hl rfl rfl hdg kk

theorem tw_gf0 (C : CX p m meth c s args cc nL ret RX10) (hw : WKt L g A s s.heap) (hσ : TI g A σ H) {idx : Nat} (hl : Cond.fieldLink RX10 idx RX10 (TX10 0).2.1 (TX10 0).2.2.1 ∈ lw_all) (hdg : decode cc pc = .ok (.getfield idx, 3))
    (kk : W p l e R s m args below meth c H locs cells slots Q (F0 m (pc + 3) ls (.ref (g.2.2.2.2 0) :: rest))) : W p l e R s m args below meth c H locs cells slots Q (F0 m pc ls (.ref g.2.2.2.1 :: rest)) :=
  tw_getf C hw hσ 0 (by decide) rfl hl rfl rfl hdg kk

theorem tw_gf1 (C : CX p m meth c s args cc nL ret RX10) (hw : WKt L g A s s.heap) (hσ : TI g A σ H) {idx : Nat} (hl : Cond.fieldLink RX10 idx RX10 (TX10 1).2.1 (TX10 1).2.2.1 ∈ lw_all) (hdg : decode cc pc = .ok (.getfield idx, 3))
    (kk : W p l e R s m args below meth c H locs cells slots Q (F0 m (pc + 3) ls (.ref (g.2.2.2.2 1) :: rest))) : W p l e R s m args below meth c H locs cells slots Q (F0 m pc ls (.ref g.2.2.2.1 :: rest)) :=
  tw_getf C hw hσ 1 (by decide) rfl hl rfl rfl hdg kk

theorem tw_gf2 (C : CX p m meth c s args cc nL ret RX10) (hw : WKt L g A s s.heap) (hσ : TI g A σ H) {idx : Nat} (hl : Cond.fieldLink RX10 idx RX10 (TX10 2).2.1 (TX10 2).2.2.1 ∈ lw_all) (hdg : decode cc pc = .ok (.getfield idx, 3))
    (kk : W p l e R s m args below meth c H locs cells slots Q (F0 m (pc + 3) ls (.ref (g.2.2.2.2 2) :: rest))) : W p l e R s m args below meth c H locs cells slots Q (F0 m pc ls (.ref g.2.2.2.1 :: rest)) :=
  tw_getf C hw hσ 2 (by decide) rfl hl rfl rfl hdg kk

theorem tw_gf3 (C : CX p m meth c s args cc nL ret RX10) (hw : WKt L g A s s.heap) (hσ : TI g A σ H) {idx : Nat} (hl : Cond.fieldLink RX10 idx RX10 (TX10 3).2.1 (TX10 3).2.2.1 ∈ lw_all) (hdg : decode cc pc = .ok (.getfield idx, 3))
    (kk : W p l e R s m args below meth c H locs cells slots Q (F0 m (pc + 3) ls (.ref (g.2.2.2.2 3) :: rest))) : W p l e R s m args below meth c H locs cells slots Q (F0 m pc ls (.ref g.2.2.2.1 :: rest)) :=
  tw_getf C hw hσ 3 (by decide) rfl hl rfl rfl hdg kk

theorem tw_gf4 (C : CX p m meth c s args cc nL ret RX10) (hw : WKt L g A s s.heap) (hσ : TI g A σ H) {idx : Nat} (hl : Cond.fieldLink RX10 idx RX10 (TX10 4).2.1 (TX10 4).2.2.1 ∈ lw_all) (hdg : decode cc pc = .ok (.getfield idx, 3))
    (kk : W p l e R s m args below meth c H locs cells slots Q (F0 m (pc + 3) ls (.ref (g.2.2.2.2 4) :: rest))) : W p l e R s m args below meth c H locs cells slots Q (F0 m pc ls (.ref g.2.2.2.1 :: rest)) :=
  tw_getf C hw hσ 4 (by decide) rfl hl rfl rfl hdg kk

theorem tw_gf5 (C : CX p m meth c s args cc nL ret RX10) (hw : WKt L g A s s.heap) (hσ : TI g A σ H) {idx : Nat} (hl : Cond.fieldLink RX10 idx RX10 (TX10 5).2.1 (TX10 5).2.2.1 ∈ lw_all) (hdg : decode cc pc = .ok (.getfield idx, 3))
    (kk : W p l e R s m args below meth c H locs cells slots Q (F0 m (pc + 3) ls (.int (σ.2 5) :: rest))) : W p l e R s m args below meth c H locs cells slots Q (F0 m pc ls (.ref g.2.2.2.1 :: rest)) :=
  tw_getf C hw hσ 5 (by decide) rfl hl rfl rfl hdg kk

theorem tw_gf6 (C : CX p m meth c s args cc nL ret RX10) (hw : WKt L g A s s.heap) (hσ : TI g A σ H) {idx : Nat} (hl : Cond.fieldLink RX10 idx RX10 (TX10 6).2.1 (TX10 6).2.2.1 ∈ lw_all) (hdg : decode cc pc = .ok (.getfield idx, 3))
    (kk : W p l e R s m args below meth c H locs cells slots Q (F0 m (pc + 3) ls (.int (σ.2 6) :: rest))) : W p l e R s m args below meth c H locs cells slots Q (F0 m pc ls (.ref g.2.2.2.1 :: rest)) :=
  tw_getf C hw hσ 6 (by decide) rfl hl rfl rfl hdg kk

theorem tw_gf7 (C : CX p m meth c s args cc nL ret RX10) (hw : WKt L g A s s.heap) (hσ : TI g A σ H) {idx : Nat} (hl : Cond.fieldLink RX10 idx RX10 (TX10 7).2.1 (TX10 7).2.2.1 ∈ lw_all) (hdg : decode cc pc = .ok (.getfield idx, 3))
    (kk : W p l e R s m args below meth c H locs cells slots Q (F0 m (pc + 3) ls (.ref (g.2.2.2.2 7) :: rest))) : W p l e R s m args below meth c H locs cells slots Q (F0 m pc ls (.ref g.2.2.2.1 :: rest)) :=
  tw_getf C hw hσ 7 (by decide) rfl hl rfl rfl hdg kk

theorem tw_gf8 (C : CX p m meth c s args cc nL ret RX10) (hw : WKt L g A s s.heap) (hσ : TI g A σ H) {idx : Nat} (hl : Cond.fieldLink RX10 idx RX10 (TX10 8).2.1 (TX10 8).2.2.1 ∈ lw_all) (hdg : decode cc pc = .ok (.getfield idx, 3))
    (kk : W p l e R s m args below meth c H locs cells slots Q (F0 m (pc + 3) ls (.ref (g.2.2.2.2 8) :: rest))) : W p l e R s m args below meth c H locs cells slots Q (F0 m pc ls (.ref g.2.2.2.1 :: rest)) :=
  tw_getf C hw hσ 8 (by decide) rfl hl rfl rfl hdg kk

theorem tw_gf9 (C : CX p m meth c s args cc nL ret RX10) (hw : WKt L g A s s.heap) (hσ : TI g A σ H) {idx : Nat} (hl : Cond.fieldLink RX10 idx RX10 (TX10 9).2.1 (TX10 9).2.2.1 ∈ lw_all) (hdg : decode cc pc = .ok (.getfield idx, 3))
    (kk : W p l e R s m args below meth c H locs cells slots Q (F0 m (pc + 3) ls (.int (σ.2 9) :: rest))) : W p l e R s m args below meth c H locs cells slots Q (F0 m pc ls (.ref g.2.2.2.1 :: rest)) :=
  tw_getf C hw hσ 9 (by decide) rfl hl rfl rfl hdg kk

theorem tw_gf10 (C : CX p m meth c s args cc nL ret RX10) (hw : WKt L g A s s.heap) (hσ : TI g A σ H) {idx : Nat} (hl : Cond.fieldLink RX10 idx RX10 (TX10 10).2.1 (TX10 10).2.2.1 ∈ lw_all) (hdg : decode cc pc = .ok (.getfield idx, 3))
    (kk : W p l e R s m args below meth c H locs cells slots Q (F0 m (pc + 3) ls (.int (σ.2 10) :: rest))) : W p l e R s m args below meth c H locs cells slots Q (F0 m pc ls (.ref g.2.2.2.1 :: rest)) :=
  tw_getf C hw hσ 10 (by decide) rfl hl rfl rfl hdg kk

theorem tw_gf11 (C : CX p m meth c s args cc nL ret RX10) (hw : WKt L g A s s.heap) (hσ : TI g A σ H) {idx : Nat} (hl : Cond.fieldLink RX10 idx RX10 (TX10 11).2.1 (TX10 11).2.2.1 ∈ lw_all) (hdg : decode cc pc = .ok (.getfield idx, 3))
    (kk : W p l e R s m args below meth c H locs cells slots Q (F0 m (pc + 3) ls (.ref (g.2.2.2.2 11) :: rest))) : W p l e R s m args below meth c H locs cells slots Q (F0 m pc ls (.ref g.2.2.2.1 :: rest)) :=
  tw_getf C hw hσ 11 (by decide) rfl hl rfl rfl hdg kk

theorem tw_gf12 (C : CX p m meth c s args cc nL ret RX10) (hw : WKt L g A s s.heap) (hσ : TI g A σ H) {idx : Nat} (hl : Cond.fieldLink RX10 idx RX10 (TX10 12).2.1 (TX10 12).2.2.1 ∈ lw_all) (hdg : decode cc pc = .ok (.getfield idx, 3))
    (kk : W p l e R s m args below meth c H locs cells slots Q (F0 m (pc + 3) ls (.int (σ.2 12) :: rest))) : W p l e R s m args below meth c H locs cells slots Q (F0 m pc ls (.ref g.2.2.2.1 :: rest)) :=
  tw_getf C hw hσ 12 (by decide) rfl hl rfl rfl hdg kk

theorem tw_gf13 (C : CX p m meth c s args cc nL ret RX10) (hw : WKt L g A s s.heap) (hσ : TI g A σ H) {idx : Nat} (hl : Cond.fieldLink RX10 idx RX10 (TX10 13).2.1 (TX10 13).2.2.1 ∈ lw_all) (hdg : decode cc pc = .ok (.getfield idx, 3))
    (kk : W p l e R s m args below meth c H locs cells slots Q (F0 m (pc + 3) ls (.int (σ.2 13) :: rest))) : W p l e R s m args below meth c H locs cells slots Q (F0 m pc ls (.ref g.2.2.2.1 :: rest)) :=
  tw_getf C hw hσ 13 (by decide) rfl hl rfl rfl hdg kk

theorem tw_gf14 (C : CX p m meth c s args cc nL ret RX10) (hw : WKt L g A s s.heap) (hσ : TI g A σ H) {idx : Nat} (hl : Cond.fieldLink RX10 idx RX10 (TX10 14).2.1 (TX10 14).2.2.1 ∈ lw_all) (hdg : decode cc pc = .ok (.getfield idx, 3))
    (kk : W p l e R s m args below meth c H locs cells slots Q (F0 m (pc + 3) ls (.ref (g.2.2.2.2 14) :: rest))) : W p l e R s m args below meth c H locs cells slots Q (F0 m pc ls (.ref g.2.2.2.1 :: rest)) :=
  tw_getf C hw hσ 14 (by decide) rfl hl rfl rfl hdg kk

theorem tw_gf15 (C : CX p m meth c s args cc nL ret RX10) (hw : WKt L g A s s.heap) (hσ : TI g A σ H) {idx : Nat} (hl : Cond.fieldLink RX10 idx RX10 (TX10 15).2.1 (TX10 15).2.2.1 ∈ lw_all) (hdg : decode cc pc = .ok (.getfield idx, 3))
    (kk : W p l e R s m args below meth c H locs cells slots Q (F0 m (pc + 3) ls (.ref (g.2.2.2.2 15) :: rest))) : W p l e R s m args below meth c H locs cells slots Q (F0 m pc ls (.ref g.2.2.2.1 :: rest)) :=
  tw_getf C hw hσ 15 (by decide) rfl hl rfl rfl hdg kk

theorem tw_gf16 (C : CX p m meth c s args cc nL ret RX10) (hw : WKt L g A s s.heap) (hσ : TI g A σ H) {idx : Nat} (hl : Cond.fieldLink RX10 idx RX10 (TX10 16).2.1 (TX10 16).2.2.1 ∈ lw_all) (hdg : decode cc pc = .ok (.getfield idx, 3))
    (kk : W p l e R s m args below meth c H locs cells slots Q (F0 m (pc + 3) ls (.int (σ.2 16) :: rest))) : W p l e R s m args below meth c H locs cells slots Q (F0 m pc ls (.ref g.2.2.2.1 :: rest)) :=
  tw_getf C hw hσ 16 (by decide) rfl hl rfl rfl hdg kk

theorem tw_gf17 (C : CX p m meth c s args cc nL ret RX10) (hw : WKt L g A s s.heap) (hσ : TI g A σ H) {idx : Nat} (hl : Cond.fieldLink RX10 idx RX10 (TX10 17).2.1 (TX10 17).2.2.1 ∈ lw_all) (hdg : decode cc pc = .ok (.getfield idx, 3))
    (kk : W p l e R s m args below meth c H locs cells slots Q (F0 m (pc + 3) ls (.int (σ.2 17) :: rest))) : W p l e R s m args below meth c H locs cells slots Q (F0 m pc ls (.ref g.2.2.2.1 :: rest)) :=
  tw_getf C hw hσ 17 (by decide) rfl hl rfl rfl hdg kk

theorem tw_gf18 (C : CX p m meth c s args cc nL ret RX10) (hw : WKt L g A s s.heap) (hσ : TI g A σ H) {idx : Nat} (hl : Cond.fieldLink RX10 idx RX10 (TX10 18).2.1 (TX10 18).2.2.1 ∈ lw_all) (hdg : decode cc pc = .ok (.getfield idx, 3))
    (kk : W p l e R s m args below meth c H locs cells slots Q (F0 m (pc + 3) ls (.int (σ.2 18) :: rest))) : W p l e R s m args below meth c H locs cells slots Q (F0 m pc ls (.ref g.2.2.2.1 :: rest)) :=
  tw_getf C hw hσ 18 (by decide) rfl hl rfl rfl hdg kk

theorem tw_gf19 (C : CX p m meth c s args cc nL ret RX10) (hw : WKt L g A s s.heap) (hσ : TI g A σ H) {idx : Nat} (hl : Cond.fieldLink RX10 idx RX10 (TX10 19).2.1 (TX10 19).2.2.1 ∈ lw_all) (hdg : decode cc pc = .ok (.getfield idx, 3))
    (kk : W p l e R s m args below meth c H locs cells slots Q (F0 m (pc + 3) ls (.int (σ.2 19) :: rest))) : W p l e R s m args below meth c H locs cells slots Q (F0 m pc ls (.ref g.2.2.2.1 :: rest)) :=
  tw_getf C hw hσ 19 (by decide) rfl hl rfl rfl hdg kk

theorem tw_gf20 (C : CX p m meth c s args cc nL ret RX10) (hw : WKt L g A s s.heap) (hσ : TI g A σ H) {idx : Nat} (hl : Cond.fieldLink RX10 idx RX10 (TX10 20).2.1 (TX10 20).2.2.1 ∈ lw_all) (hdg : decode cc pc = .ok (.getfield idx, 3))
    (kk : W p l e R s m args below meth c H locs cells slots Q (F0 m (pc + 3) ls (.int (σ.2 20) :: rest))) : W p l e R s m args below meth c H locs cells slots Q (F0 m pc ls (.ref g.2.2.2.1 :: rest)) :=
  tw_getf C hw hσ 20 (by decide) rfl hl rfl rfl hdg kk

theorem tw_gf21 (C : CX p m meth c s args cc nL ret RX10) (hw : WKt L g A s s.heap) (hσ : TI g A σ H) {idx : Nat} (hl : Cond.fieldLink RX10 idx RX10 (TX10 21).2.1 (TX10 21).2.2.1 ∈ lw_all) (hdg : decode cc pc = .ok (.getfield idx, 3))
    (kk : W p l e R s m args below meth c H locs cells slots Q (F0 m (pc + 3) ls (.int (σ.2 21) :: rest))) : W p l e R s m args below meth c H locs cells slots Q (F0 m pc ls (.ref g.2.2.2.1 :: rest)) :=
  tw_getf C hw hσ 21 (by decide) rfl hl rfl rfl hdg kk

theorem tw_gf22 (C : CX p m meth c s args cc nL ret RX10) (hw : WKt L g A s s.heap) (hσ : TI g A σ H) {idx : Nat} (hl : Cond.fieldLink RX10 idx RX10 (TX10 22).2.1 (TX10 22).2.2.1 ∈ lw_all) (hdg : decode cc pc = .ok (.getfield idx, 3))
    (kk : W p l e R s m args below meth c H locs cells slots Q (F0 m (pc + 3) ls (.int (σ.2 22) :: rest))) : W p l e R s m args below meth c H locs cells slots Q (F0 m pc ls (.ref g.2.2.2.1 :: rest)) :=
  tw_getf C hw hσ 22 (by decide) rfl hl rfl rfl hdg kk

theorem tw_gf23 (C : CX p m meth c s args cc nL ret RX10) (hw : WKt L g A s s.heap) (hσ : TI g A σ H) {idx : Nat} (hl : Cond.fieldLink RX10 idx RX10 (TX10 23).2.1 (TX10 23).2.2.1 ∈ lw_all) (hdg : decode cc pc = .ok (.getfield idx, 3))
    (kk : W p l e R s m args below meth c H locs cells slots Q (F0 m (pc + 3) ls (.int (σ.2 23) :: rest))) : W p l e R s m args below meth c H locs cells slots Q (F0 m pc ls (.ref g.2.2.2.1 :: rest)) :=
  tw_getf C hw hσ 23 (by decide) rfl hl rfl rfl hdg kk

theorem tw_gf24 (C : CX p m meth c s args cc nL ret RX10) (hw : WKt L g A s s.heap) (hσ : TI g A σ H) {idx : Nat} (hl : Cond.fieldLink RX10 idx RX10 (TX10 24).2.1 (TX10 24).2.2.1 ∈ lw_all) (hdg : decode cc pc = .ok (.getfield idx, 3))
    (kk : W p l e R s m args below meth c H locs cells slots Q (F0 m (pc + 3) ls (.int (σ.2 24) :: rest))) : W p l e R s m args below meth c H locs cells slots Q (F0 m pc ls (.ref g.2.2.2.1 :: rest)) :=
  tw_getf C hw hσ 24 (by decide) rfl hl rfl rfl hdg kk

theorem tw_gf25 (C : CX p m meth c s args cc nL ret RX10) (hw : WKt L g A s s.heap) (hσ : TI g A σ H) {idx : Nat} (hl : Cond.fieldLink RX10 idx RX10 (TX10 25).2.1 (TX10 25).2.2.1 ∈ lw_all) (hdg : decode cc pc = .ok (.getfield idx, 3))
    (kk : W p l e R s m args below meth c H locs cells slots Q (F0 m (pc + 3) ls (.int (σ.2 25) :: rest))) : W p l e R s m args below meth c H locs cells slots Q (F0 m pc ls (.ref g.2.2.2.1 :: rest)) :=
  tw_getf C hw hσ 25 (by decide) rfl hl rfl rfl hdg kk

theorem tw_gf26 (C : CX p m meth c s args cc nL ret RX10) (hw : WKt L g A s s.heap) (hσ : TI g A σ H) {idx : Nat} (hl : Cond.fieldLink RX10 idx RX10 (TX10 26).2.1 (TX10 26).2.2.1 ∈ lw_all) (hdg : decode cc pc = .ok (.getfield idx, 3))
    (kk : W p l e R s m args below meth c H locs cells slots Q (F0 m (pc + 3) ls (.int (σ.2 26) :: rest))) : W p l e R s m args below meth c H locs cells slots Q (F0 m pc ls (.ref g.2.2.2.1 :: rest)) :=
  tw_getf C hw hσ 26 (by decide) rfl hl rfl rfl hdg kk

end TW1
