/-! THE CLASS' CALLS -/
set_option maxRecDepth 100000
/-- the start and the ends of a method of the class: it returns; it throws (0: a Fault, at its address; 1 .. 4: a JDK exception, made last) -/
def CPc (g : cG) (A : Nat → Prop) (as : List Value) (σ : cS) : Array Value → State → Prop := va_Pc as (fun U => WKc g A U U.heap ∧ HP g A σ U.heap)
def CQ (g : cG) (A : Nat → Prop) (v : Option Value) (σ : cS) : Array Value → State → Outcome → State → Prop := fun _ st oc t => oc = .returned v ∧ HP g A σ t.heap ∧ va_F A st t ∧ hsl st.heap ≤ hsl t.heap
theorem CPc.blind {g : cG} {A : Nat → Prop} {as : List Value} {σ : cS} : FrameBlind (CPc g A as σ) := by
  intro a U f mk h
  obtain ⟨h0, h1, h2⟩ := h
  exact ⟨h0, h1.vm (s := U) rfl, h2⟩
/-- the room of a walk -/
def RM (g : cG) (s : State) (R : Room) (f lo : Nat) : Prop := (f ≤ R.frames ∧ lo ≤ R.locals) ∧ g.2.2.1 3 - s.heap.size ≤ R.cells ∧ g.2.2.1 4 - hsl s.heap ≤ R.slots
section CW2
variable {p : Program} {l : Launch} {e : Env} {R : Room} {s : State} {m : MethodId} {args : Array Value} {below : List Frame} {meth : Method} {c : Code} {H : Heap} {locs : List Loc} {cells slots : Nat} {Q : State → Prop}
variable {cc : ByteArray} {pc : Nat} {ls : Array Slot} {rest : List Value} {g : cG} {A : Nat → Prop} {nL : Nat} {ret : Option FieldType} {own : String} {σ : cS} {F_ L_ : Nat}
theorem RM.f (h : RM g s R F_ L_) : F_ ≤ R.frames := h.1.1
theorem RM.lo (h : RM g s R F_ L_) : L_ ≤ R.locals := h.1.2
/-- a call has room for the bounds' rest -/
theorem RM.call (h : RM g s R F_ L_) (hI : CI g A s σ H locs) : (H.size - s.heap.size) + (σ.2 3 - σ.2 0) ≤ R.cells ∧ (hsl H - hsl s.heap) + (σ.2 4 - σ.2 1) ≤ R.slots := by
  obtain ⟨⟨p0, p1, p2, p3, -⟩, hS, hs⟩ := hI
  have b3 := p3 3 (by decide)
  have b4 := p3 4 (by decide)
  have s1 := hS.1
  obtain ⟨-, h1, h2⟩ := h
  constructor <;> omega
theorem cw_go {v : Option Value} {σ1 : cS} {a : Array Value} {st : List Value} {mc ms : Nat} (hr : va_Run p l e R s m args below meth c H locs cells slots mc ms (F0 m pc ls st) rest (CQ g A v σ1 a) A) (hI : CI g A s σ H locs)
    (kk : ∀ (H : Heap) (locs : List Loc), CI g A s σ1 H locs → W p l e R s m args below meth c H locs (H.size - s.heap.size) (hsl H - hsl s.heap) Q (F0 m (pc + 3) ls (v.toList ++ rest))) : W p l e R s m args below meth c H locs cells slots Q (F0 m pc ls st) := by
  intro T hT X
  obtain ⟨w, st₀, t, T', L, h0, X', hL, e1, e2, ⟨hv, hP, ⟨hz, hk⟩, hs⟩, st⟩ := hr T hT X
  cases hv
  rw [h0] at hz hk hs
  have hS := hI.2.1
  obtain ⟨t2, a1, b1⟩ := W.narrow (kk T'.heap (locs ++ L) ⟨by rw [e1]; exact hP, ⟨Nat.le_trans hS.1 (by rw [e1]; exact hz), fun q h1 h2 => by rw [e1, hk q (Nat.lt_of_lt_of_le h1 hS.1) h2]; exact hS.2.1 q h1 h2, fun q hq => by
      rcases List.mem_append.mp hq with h | h
      · exact hS.2.2 q h
      · exact hL q h⟩, by rw [e1]; exact Nat.le_trans hI.2.2 hs⟩) T' rfl X'
  exact ⟨t2, st t2 a1, b1⟩
theorem cw_recv {a ci : Nat} {fs : List Value} {Cn : String} {T : u_T} {N : Nat} (hw : WKc g A s s.heap) (hI : CI g A s σ H locs) (h1 : σ.1 a = some (.inr (ci, fs))) (h60 : ci < 59) (hc : ccl[ci]? = some (Cn, T, N)) : ∃ cell : Cell, H[a]? = some cell ∧ cell.vm.isStatics = false ∧ s.vm.findClass Cn = some cell.cls := by
  obtain ⟨r, hr, cell, q1, q2, q3, q4⟩ := (hI.1.2.2.2.2.1 a _ h1).obj h60
  cases Option.some.inj (hr.symm.trans hc)
  exact ⟨cell, q1, by rw [q3]; rfl, by rw [q2]; exact (hw.1.1 ci _ hc).2.1⟩
variable {y : MethodName} {bytes : ByteArray} {maxL index n : Nat} {ret' : Option FieldType} {ws : List Cond} {rm : Room}
/-- a method is called on an object (its class known) -/
theorem cw_callV {α β : Type} {f : Nat → Option (α × cS)} {K : α → cS → Option β} {z : β} {r : Option Nat} {Cn : String} {T : u_T} {N : Nat} (ci : Nat) (toV : α → Option Value) (As : List Value) {st : List Value} (C : CX p m meth c s args cc nL ret own) (hw : WKc g A s s.heap) (hR : RM g s R F_ L_) (hI : CI g A s σ H locs) (hn : ls.size = nL) (h : nn σ r ci (fun a => bd (f a) K) = some z) (h60 : ci < 59) (hc : ccl[ci]? = some (Cn, T, N))
    (hM : ∀ a v σ1, f a = some (v, σ1) → Met l y ws rm (CPc g A (.ref a :: As) σ) (CQ g A (toV v) σ1) (σ.2 3 - σ.2 0) (σ.2 4 - σ.2 1) A) (cw : CallW R s args own Cn index y bytes maxL ret' ws rm (σ.2 3 - σ.2 0) (σ.2 4 - σ.2 1) n)
    (hAs : As.length = n) (hst : st = As.reverse ++ va_rf r :: rest) (hrest : rest.length ≤ 4) (hdg : decode cc pc = .ok (.invokevirtual index, 3))
    (kk : ∀ (v : α) (σ1 : cS) (H : Heap) (locs : List Loc), K v σ1 = some z → CI g A s σ1 H locs → W p l e R s m args below meth c H locs (H.size - s.heap.size) (hsl H - hsl s.heap) Q (F0 m (pc + 3) ls ((toV v).toList ++ rest))) : W p l e R s m args below meth c H locs (H.size - s.heap.size) (hsl H - hsl s.heap) Q (F0 m pc ls st) := by
  obtain ⟨a, fs, rfl, h1, h2⟩ := nn_s h
  obtain ⟨v, σ1, e1, h3⟩ := bd_s h2
  refine cw_go (va_runV (As := As) (rest := rest) C.1 (hM a v σ1 e1) cw ⟨CPc.blind, cw_recv hw hI h1 h60 hc, fun U hU hW => ⟨rfl, ?_, ?_⟩⟩ rfl hAs hn hst (by show 2 * 0 + _ ≤ 8; have := room_of hrest; omega) hdg (hR.call hI)) hI (fun H1 locs1 q => kk v σ1 H1 locs1 h3 q)
  · rw [hU]; exact hw.at hI.2.1 hW
  · rw [hU]; exact hI.1
theorem cw_callS {α β : Type} {f : Option (α × cS)} {K : α → cS → Option β} {z : β} (toV : α → Option Value) (As : List Value) {st : List Value} (C : CX p m meth c s args cc nL ret own) (hw : WKc g A s s.heap) (hR : RM g s R F_ L_) (hI : CI g A s σ H locs) (hn : ls.size = nL) (h : bd f K = some z)
    (hM : ∀ v σ1, f = some (v, σ1) → Met l y ws rm (CPc g A As σ) (CQ g A (toV v) σ1) (σ.2 3 - σ.2 0) (σ.2 4 - σ.2 1) A) (cw : CallB R s args own index y bytes maxL ret' ws rm (σ.2 3 - σ.2 0) (σ.2 4 - σ.2 1) n ∧ (Cond.static y).before args s = true)
    (hAs : As.length = n) (hst : st = As.reverse ++ rest) (hrest : rest.length ≤ 4) (hdg : decode cc pc = .ok (.invokestatic index, 3))
    (kk : ∀ (v : α) (σ1 : cS) (H : Heap) (locs : List Loc), K v σ1 = some z → CI g A s σ1 H locs → W p l e R s m args below meth c H locs (H.size - s.heap.size) (hsl H - hsl s.heap) Q (F0 m (pc + 3) ls ((toV v).toList ++ rest))) : W p l e R s m args below meth c H locs (H.size - s.heap.size) (hsl H - hsl s.heap) Q (F0 m pc ls st) := by
  obtain ⟨v, σ1, e1, h3⟩ := bd_s h
  refine cw_go (va_runS (As := As) (rest := rest) C.1 (hM v σ1 e1) cw ⟨CPc.blind, fun U hU hW => ⟨rfl, ?_, ?_⟩⟩ rfl hAs hn hst (by show 2 * 0 + _ ≤ 8; have := room_of hrest; omega) hdg (hR.call hI)) hI (fun H1 locs1 q => kk v σ1 H1 locs1 h3 q)
  · rw [hU]; exact hw.at hI.2.1 hW
  · rw [hU]; exact hI.1
/-- a constructor is called on a new object -/
theorem cw_callI {β : Type} {b : Nat} {f : Option (Int32 × cS)} {K : Int32 → cS → Option β} {z : β} (As : List Value) {st : List Value} (C : CX p m meth c s args cc nL ret own) (hw : WKc g A s s.heap) (hR : RM g s R F_ L_) (hI : CI g A s σ H locs) (hn : ls.size = nL) (h : bd f K = some z)
    (hM : ∀ v σ1, f = some (v, σ1) → Met l y ws rm (CPc g A (.ref b :: As) σ) (CQ g A none σ1) (σ.2 3 - σ.2 0) (σ.2 4 - σ.2 1) A) (cw : CallB R s args own index y bytes maxL none ws rm (σ.2 3 - σ.2 0) (σ.2 4 - σ.2 1) n ∧ y.name = "<init>" ∧ (Cond.instanceMethod y).before args s = true)
    (hAs : As.length = n) (hst : st = As.reverse ++ .ref b :: rest) (hrest : rest.length ≤ 4) (hdg : decode cc pc = .ok (.invokespecial index, 3))
    (kk : ∀ (σ1 : cS) (v : Int32) (H : Heap) (locs : List Loc), K v σ1 = some z → CI g A s σ1 H locs → W p l e R s m args below meth c H locs (H.size - s.heap.size) (hsl H - hsl s.heap) Q (F0 m (pc + 3) ls rest)) : W p l e R s m args below meth c H locs (H.size - s.heap.size) (hsl H - hsl s.heap) Q (F0 m pc ls st) := by
  obtain ⟨v, σ1, e1, h3⟩ := bd_s h
  refine cw_go (v := none) (va_runI (As := As) (rest := rest) C.1 (hM v σ1 e1) cw ⟨CPc.blind, fun U hU hW => ⟨rfl, ?_, ?_⟩⟩ rfl hAs hn hst (by show 2 * 0 + _ ≤ 8; have := room_of hrest; omega) hdg (hR.call hI)) hI (fun H1 locs1 q => kk σ1 v H1 locs1 h3 q)
  · rw [hU]; exact hw.at hI.2.1 hW
  · rw [hU]; exact hI.1
/-- ends -/
theorem CI.end_ (hI : CI g A s σ H locs) : H.size - s.heap.size ≤ g.2.2.1 3 - s.heap.size ∧ hsl H - hsl s.heap ≤ g.2.2.1 4 - hsl s.heap := by
  obtain ⟨⟨p0, p1, p2, p3, -⟩, -, -⟩ := hI
  have b3 := p3 3 (by decide)
  have b4 := p3 4 (by decide)
  constructor <;> omega
theorem cw_iret {x : Int32} {z : Int32 × cS} (C : CX p m meth c s args cc nL (some .int) own) (hI : CI g A s σ H locs) (h : some (x, σ) = some z) (hdg : decode cc pc = .ok (.ireturn, 1)) : W p l e R s m args below meth c H locs (H.size - s.heap.size) (hsl H - hsl s.heap) (MQ below (CQ g A (some (.int z.1)) z.2) args s (g.2.2.1 3 - s.heap.size) (g.2.2.1 4 - hsl s.heap) A) (F0 m pc ls [.int x]) := by
  cases h
  exact W.widen hI.end_.1 hI.end_.2 (W.iret C.x C.b C.r (fun t ht hW => ⟨rfl, by rw [ht]; exact hI.1, hI.2.1.F ht, by rw [ht]; exact hI.2.2⟩) hI.2.1.2.2 hdg C.k)
theorem cw_nret {x : Int32} {z : Int32 × cS} {ty : FieldType} (C : CX p m meth c s args cc nL (some ty) own) (hI : CI g A s σ H locs) (hn : narrow ty (.int x) = .int x) (h : some (x, σ) = some z) (hdg : decode cc pc = .ok (.ireturn, 1)) : W p l e R s m args below meth c H locs (H.size - s.heap.size) (hsl H - hsl s.heap) (MQ below (CQ g A (some (.int z.1)) z.2) args s (g.2.2.1 3 - s.heap.size) (g.2.2.1 4 - hsl s.heap) A) (F0 m pc ls [.int x]) := by
  cases h
  exact W.widen hI.end_.1 hI.end_.2 (W.zret C.x C.b C.r hn (fun t ht hW => ⟨rfl, by rw [ht]; exact hI.1, hI.2.1.F ht, by rw [ht]; exact hI.2.2⟩) hI.2.1.2.2 hdg C.k)
theorem cw_zret {x : Int32} {z : Int32 × cS} (C : CX p m meth c s args cc nL (some .boolean) own) (hI : CI g A s σ H locs) (h : rz x σ = some z) (hdg : decode cc pc = .ok (.ireturn, 1)) : W p l e R s m args below meth c H locs (H.size - s.heap.size) (hsl H - hsl s.heap) (MQ below (CQ g A (some (.int z.1)) z.2) args s (g.2.2.1 3 - s.heap.size) (g.2.2.1 4 - hsl s.heap) A) (F0 m pc ls [.int x]) := by
  unfold rz at h
  split at h
  · next hx => exact cw_nret C hI (by show Value.int (x &&& 1) = _; rw [hx]) h hdg
  · cases h
theorem cw_cret {x : Int32} {z : Int32 × cS} (C : CX p m meth c s args cc nL (some .char) own) (hI : CI g A s σ H locs) (h : rc x σ = some z) (hdg : decode cc pc = .ok (.ireturn, 1)) : W p l e R s m args below meth c H locs (H.size - s.heap.size) (hsl H - hsl s.heap) (MQ below (CQ g A (some (.int z.1)) z.2) args s (g.2.2.1 3 - s.heap.size) (g.2.2.1 4 - hsl s.heap) A) (F0 m pc ls [.int x]) := by
  unfold rc at h
  split at h
  · next hx => exact cw_nret C hI (by show Value.int (x.toUInt32.toUInt16.toUInt32.toInt32) = _; rw [hx]) h hdg
  · cases h
def rb {σ : Type} (x : Int32) (s : σ) : Option (Int32 × σ) := if x.toInt8.toInt32 = x then some (x, s) else none
theorem cw_bret {x : Int32} {z : Int32 × cS} (C : CX p m meth c s args cc nL (some .byte) own) (hI : CI g A s σ H locs) (h : rb x σ = some z) (hdg : decode cc pc = .ok (.ireturn, 1)) : W p l e R s m args below meth c H locs (H.size - s.heap.size) (hsl H - hsl s.heap) (MQ below (CQ g A (some (.int z.1)) z.2) args s (g.2.2.1 3 - s.heap.size) (g.2.2.1 4 - hsl s.heap) A) (F0 m pc ls [.int x]) := by
  unfold rb at h
  split at h
  · next hx => exact cw_nret C hI (by show Value.int x.toInt8.toInt32 = _; rw [hx]) h hdg
  · cases h
theorem cw_vret {x : Int32} {z : Int32 × cS} (C : CX p m meth c s args cc nL none own) (hI : CI g A s σ H locs) (h : some (x, σ) = some z) (hdg : decode cc pc = .ok (.return_, 1)) : W p l e R s m args below meth c H locs (H.size - s.heap.size) (hsl H - hsl s.heap) (MQ below (CQ g A none z.2) args s (g.2.2.1 3 - s.heap.size) (g.2.2.1 4 - hsl s.heap) A) (F0 m pc ls []) := by
  cases h
  exact W.widen hI.end_.1 hI.end_.2 (W.vret C.x C.b C.r (fun t ht hW => ⟨rfl, by rw [ht]; exact hI.1, hI.2.1.F ht, by rw [ht]; exact hI.2.2⟩) hI.2.1.2.2 hdg C.k)
theorem cw_aret {x : Option Nat} {z : Option Nat × cS} {rt : FieldType} (C : CX p m meth c s args cc nL (some rt) own) (hrt : (∃ n, rt = .object n) ∨ ∃ t, rt = .array t) (hI : CI g A s σ H locs) (h : some (x, σ) = some z) (hdg : decode cc pc = .ok (.areturn, 1)) : W p l e R s m args below meth c H locs (H.size - s.heap.size) (hsl H - hsl s.heap) (MQ below (CQ g A (some (va_rf z.1)) z.2) args s (g.2.2.1 3 - s.heap.size) (g.2.2.1 4 - hsl s.heap) A) (F0 m pc ls [va_rf x]) := by
  cases h
  exact W.widen hI.end_.1 hI.end_.2 (W.aret C.x C.b C.r hrt (by cases x <;> first | exact Or.inl rfl | exact Or.inr ⟨_, rfl⟩) (fun t ht hW => ⟨rfl, by rw [ht]; exact hI.1, hI.2.1.F ht, by rw [ht]; exact hI.2.2⟩) hI.2.1.2.2 hdg C.k)
theorem cw_lret {x : Int64} {z : Int64 × cS} (C : CX p m meth c s args cc nL (some .long) own) (hI : CI g A s σ H locs) (h : some (x, σ) = some z) (hdg : decode cc pc = .ok (.lreturn, 1)) : W p l e R s m args below meth c H locs (H.size - s.heap.size) (hsl H - hsl s.heap) (MQ below (CQ g A (some (.long z.1)) z.2) args s (g.2.2.1 3 - s.heap.size) (g.2.2.1 4 - hsl s.heap) A) (F0 m pc ls [.long x]) := by
  cases h
  exact W.widen hI.end_.1 hI.end_.2 (W.lret C.x C.b C.r (fun t ht hW => ⟨rfl, by rw [ht]; exact hI.1, hI.2.1.F ht, by rw [ht]; exact hI.2.2⟩) hI.2.1.2.2 hdg C.k)
theorem cw_fret {x : UInt32} {z : UInt32 × cS} (C : CX p m meth c s args cc nL (some .float) own) (hI : CI g A s σ H locs) (h : some (x, σ) = some z) (hdg : decode cc pc = .ok (.freturn, 1)) : W p l e R s m args below meth c H locs (H.size - s.heap.size) (hsl H - hsl s.heap) (MQ below (CQ g A (some (.float z.1)) z.2) args s (g.2.2.1 3 - s.heap.size) (g.2.2.1 4 - hsl s.heap) A) (F0 m pc ls [.float x]) := by
  cases h
  exact W.widen hI.end_.1 hI.end_.2 (W.fret C.x C.b C.r (fun t ht hW => ⟨rfl, by rw [ht]; exact hI.1, hI.2.1.F ht, by rw [ht]; exact hI.2.2⟩) hI.2.1.2.2 hdg C.k)
theorem cw_dret {x : UInt64} {z : UInt64 × cS} (C : CX p m meth c s args cc nL (some .double) own) (hI : CI g A s σ H locs) (h : some (x, σ) = some z) (hdg : decode cc pc = .ok (.dreturn, 1)) : W p l e R s m args below meth c H locs (H.size - s.heap.size) (hsl H - hsl s.heap) (MQ below (CQ g A (some (.double z.1)) z.2) args s (g.2.2.1 3 - s.heap.size) (g.2.2.1 4 - hsl s.heap) A) (F0 m pc ls [.double x]) := by
  cases h
  exact W.widen hI.end_.1 hI.end_.2 (W.dret C.x C.b C.r (fun t ht hW => ⟨rfl, by rw [ht]; exact hI.1, hI.2.1.F ht, by rw [ht]; exact hI.2.2⟩) hI.2.1.2.2 hdg C.k)
/-- references in locals and on the stack -/
theorem r_aload_n (hexec : p.tables.exec = Jvm.exec) (hb : c.code = cc) {k : Fin 4} {i : Nat} {x : Option Nat} (hdg : decode cc pc = .ok (.aload_n k, 1)) (hi : (k : Nat) = i) (hl : ls[i]? = some (.val (va_rf x)))
    (kk : W p l e R s m args below meth c H locs cells slots Q (F0 m (pc + 1) ls (va_rf x :: rest))) : W p l e R s m args below meth c H locs cells slots Q (F0 m pc ls rest) := by
  cases x with
  | none => exact lv_aload_nN hexec hb hdg hi hl kk
  | some a => exact lv_aload_n hexec hb hdg hi hl kk
theorem r_aload (hexec : p.tables.exec = Jvm.exec) (hb : c.code = cc) {i : Nat} {x : Option Nat} (hdg : decode cc pc = .ok (.aload i, 2)) (hl : ls[i]? = some (.val (va_rf x)))
    (kk : W p l e R s m args below meth c H locs cells slots Q (F0 m (pc + 2) ls (va_rf x :: rest))) : W p l e R s m args below meth c H locs cells slots Q (F0 m pc ls rest) := by
  cases x with
  | none => exact lv_aloadN hexec hb hdg hl kk
  | some a => exact lv_aload hexec hb hdg hl kk
theorem r_astore_n (hexec : p.tables.exec = Jvm.exec) (hb : c.code = cc) {k : Fin 4} {i nL : Nat} {x : Option Nat} {lv lv' : List (Nat × Value)} (hdg : decode cc pc = .ok (.astore_n k, 1)) (hi : (k : Nat) = i) (h : lv_has ls nL lv) (hn : i < nL) (hl : (i, va_rf x) :: lv.filter (fun q => !(q.1 == i) && !(q.1 + 1 == i && q.2.category == 2)) = lv')
    (kk : ∀ ls' : Array Slot, lv_has ls' nL lv' → W p l e R s m args below meth c H locs cells slots Q (F0 m (pc + 1) ls' rest)) : W p l e R s m args below meth c H locs cells slots Q (F0 m pc ls (va_rf x :: rest)) := by
  cases x with
  | none => exact lv_astore_nN hexec hb hdg hi h hn hl kk
  | some a => exact lv_astore_n hexec hb hdg hi h hn hl kk
theorem r_astore (hexec : p.tables.exec = Jvm.exec) (hb : c.code = cc) {i nL : Nat} {x : Option Nat} {lv lv' : List (Nat × Value)} (hdg : decode cc pc = .ok (.astore i, 2)) (h : lv_has ls nL lv) (hn : i < nL) (hl : (i, va_rf x) :: lv.filter (fun q => !(q.1 == i) && !(q.1 + 1 == i && q.2.category == 2)) = lv')
    (kk : ∀ ls' : Array Slot, lv_has ls' nL lv' → W p l e R s m args below meth c H locs cells slots Q (F0 m (pc + 2) ls' rest)) : W p l e R s m args below meth c H locs cells slots Q (F0 m pc ls (va_rf x :: rest)) := by
  cases x with
  | none => exact lv_astoreN hexec hb hdg h hn hl kk
  | some a => exact lv_astore hexec hb hdg h hn hl kk
theorem r_ifnull (hexec : p.tables.exec = Jvm.exec) (hb : c.code = cc) {x : Option Nat} {off : Int} {tgt : Nat} (hdg : decode cc pc = .ok (.ifnull off, 3)) (ht : (pc : Int) + off = (tgt : Int))
    (kt : x = none → W p l e R s m args below meth c H locs cells slots Q (F0 m tgt ls rest)) (kf : ¬ x = none → W p l e R s m args below meth c H locs cells slots Q (F0 m (pc + 3) ls rest)) : W p l e R s m args below meth c H locs cells slots Q (F0 m pc ls (va_rf x :: rest)) := by
  cases x with
  | none => exact lv_ifnullN hexec hb hdg ht (kt rfl)
  | some a => exact lv_ifnull hexec hb hdg (kf (fun h => by cases h))
theorem r_ifnonnull (hexec : p.tables.exec = Jvm.exec) (hb : c.code = cc) {x : Option Nat} {off : Int} {tgt : Nat} (hdg : decode cc pc = .ok (.ifnonnull off, 3)) (ht : (pc : Int) + off = (tgt : Int))
    (kt : ¬ x = none → W p l e R s m args below meth c H locs cells slots Q (F0 m tgt ls rest)) (kf : x = none → W p l e R s m args below meth c H locs cells slots Q (F0 m (pc + 3) ls rest)) : W p l e R s m args below meth c H locs cells slots Q (F0 m pc ls (va_rf x :: rest)) := by
  cases x with
  | none => exact lv_ifnonnullN hexec hb hdg (kf rfl)
  | some a => exact lv_ifnonnull hexec hb hdg ht (kt (fun h => by cases h))
end CW2
