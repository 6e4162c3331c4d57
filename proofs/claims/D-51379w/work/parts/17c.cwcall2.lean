/-! MORE CALLS OF THE CLASS: inherited, overriding, super's, through an interface -/
set_option maxRecDepth 100000
theorem sel_priv {args : Array Value} {s : State} {C : String} {n : Nat} {y : MethodName} (hi : (Cond.instantiable C n).before args s = true) (hinst : (Cond.instanceMethod y).before args s = true) (hp : (Cond.privateMethod y).before args s = true) (hn : y.cls ≠ "java/lang/invoke/MethodHandle" ∧ y.cls ≠ "java/lang/invoke/VarHandle")
    (hk : ∀ (c : ClassId) (k : Class), s.vm.findClass y.cls = some c → s.vm.classes[c]? = some k → k.isInterface = false) : (Cond.selects C y y).before args s = true := by
  obtain ⟨mk, methM, hnamed, hmethM, -, -⟩ := Cond.instanceMethod_spec hinst
  have hfound : s.methodFound? y.cls y.name y.desc = some mk := State.methodFound?_of_named hnamed hn
  obtain ⟨c, kC, hc, hkC, -⟩ := Cond.instantiable_spec hi
  have hpa := Cond.privateMethod_at hp mk methM hnamed hmethM
  have hsel : selectMethod {} s.vm c mk = .method mk := selectMethod_private hmethM hpa
  have hfc := findClass_of_methodNamed hnamed
  obtain ⟨kM, hkM⟩ : ∃ kM, s.vm.classes[mk.cls]? = some kM := by
    unfold Vm.method? at hmethM
    cases hq : s.vm.classes[mk.cls]? with
    | none => simp [hq] at hmethM
    | some x => exact ⟨x, rfl⟩
  have hni := hk _ _ hfc hkM
  simp only [Cond.before, Cond.holds, Cond.value, hc, hfound, hnamed, hsel, hkM]
  simp; exact hni
theorem sel_privS {args : Array Value} {s : State} {C : String} {n : Nat} {y y' : MethodName} (hi : (Cond.instantiable C n).before args s = true) (hinst : (Cond.instanceMethod y).before args s = true) (hp : (Cond.privateMethod y).before args s = true) (hn : y.cls ≠ "java/lang/invoke/MethodHandle" ∧ y.cls ≠ "java/lang/invoke/VarHandle")
    (hx : (Cond.selects C y' y').before args s = true) (hc : y'.cls = y.cls) : (Cond.selects C y y).before args s = true := by
  obtain ⟨c2, r2, m2, -, -, q3, -, mk, q5, q6⟩ := Cond.selects_spec hx
  have h1 := findClass_of_methodNamed q3
  rw [hc] at h1
  exact sel_priv hi hinst hp hn (fun c k e1 e2 => by cases Option.some.inj (h1.symm.trans e1); cases Option.some.inj (q5.symm.trans e2); exact q6)
theorem mem4 {L : List Cond} {a b c d : Cond} (h1 : a ∈ L) (h2 : b ∈ L) (h3 : c ∈ L) (h4 : d ∈ L) : ∀ w ∈ [a, b, c, d], w ∈ L := by
  intro w h
  simp only [List.mem_cons, List.not_mem_nil, or_false] at h
  rcases h with rfl | rfl | rfl | rfl <;> assumption
theorem mem5 {L : List Cond} {a b c d e : Cond} (h1 : a ∈ L) (h2 : b ∈ L) (h3 : c ∈ L) (h4 : d ∈ L) (h5 : e ∈ L) : ∀ w ∈ [a, b, c, d, e], w ∈ L := by
  intro w h
  simp only [List.mem_cons, List.not_mem_nil, or_false] at h
  rcases h with rfl | rfl | rfl | rfl | rfl <;> assumption
theorem mem6 {L : List Cond} {a b c d e f : Cond} (h1 : a ∈ L) (h2 : b ∈ L) (h3 : c ∈ L) (h4 : d ∈ L) (h5 : e ∈ L) (h6 : f ∈ L) : ∀ w ∈ [a, b, c, d, e, f], w ∈ L := by
  intro w h
  simp only [List.mem_cons, List.not_mem_nil, or_false] at h
  rcases h with rfl | rfl | rfl | rfl | rfl | rfl <;> assumption
/-- one of several classes -/
def dsp {α : Type} (σ : cS) (L : List (Nat × Option (α × cS))) (a : Nat) : Option (α × cS) := match L with
  | [] => none
  | q :: r => if isO σ a q.1 = true then q.2 else dsp σ r a
theorem dsp_c {α : Type} {σ : cS} {L : List (Nat × Option (α × cS))} {a ci : Nat} {f : Option (α × cS)} {u : α × cS} {P : Prop} (h : dsp σ ((ci, f) :: L) a = some u) (h1 : isO σ a ci = true → f = some u → P) (h2 : dsp σ L a = some u → P) : P := by
  unfold dsp at h
  split at h
  · exact h1 (by assumption) h
  · exact h2 h
theorem dsp_n {α : Type} {σ : cS} {a : Nat} {u : α × cS} {P : Prop} (h : dsp σ ([] : List (Nat × Option (α × cS))) a = some u) : P := by cases h
/-- a call on what may be null -/
def icl {α β : Type} (r : Option Nat) (f : Nat → Option (α × cS)) (K : α → cS → Option β) : Option β := match r with
  | none => none
  | some a => bd (f a) K
section CW4
variable {p : Program} {l : Launch} {e : Env} {R : Room} {s : State} {m : MethodId} {args : Array Value} {below : List Frame} {meth : Method} {c : Code} {H : Heap} {locs : List Loc} {cells slots : Nat} {Q : State → Prop}
variable {cc : ByteArray} {pc : Nat} {ls : Array Slot} {rest : List Value} {g : cG} {A : Nat → Prop} {nL : Nat} {ret : Option FieldType} {own : String} {σ : cS} {F_ L_ : Nat}
variable {y : MethodName} {bytes : ByteArray} {maxL index n : Nat} {ret' : Option FieldType} {ws : List Cond} {rm : Room}
/-- a virtual call of an inherited method of its own class's or of a class above -/
theorem cwG {Ts ws' : List Cond} {C : String} {mc ms : Nat} (n : Nat) (ht : ∀ w ∈ Ts, w.before args s = true) (hG : GoodIn Ts ws) (hw : ws = Cond.code y bytes maxL ret' :: ws') (hrc : rm.cells = mc) (hrs : rm.slots = ms) (hini : (Cond.initialized y.cls).before args s = true) (hl : (Cond.methodLink own index y).before args s = true) (hin : (Cond.instanceMethod y).before args s = true) (hse : (Cond.selects C y y).before args s = true)
    (hd : y.cls ≠ "java/lang/invoke/MethodHandle" ∧ y.cls ≠ "java/lang/invoke/VarHandle" ∧ (parseMethodDescriptor y.desc).map (fun d => d.parameters.length) = some n) (hR : rm.frames + 1 ≤ R.frames ∧ 8 + (maxL + 11) + rm.locals ≤ R.locals) : CallW R s args own C index y bytes maxL ret' ws rm mc ms n := ⟨callB_of n ht hG hw hrc hrs hini hl hd hR, hin, hse⟩
theorem cw_callU {α β : Type} {x : MethodName} {owner : String} {f : Nat → Option (α × cS)} {K : α → cS → Option β} {z : β} {r : Option Nat} {Cn : String} {T : u_T} {N : Nat} (ci : Nat) (toV : α → Option Value) (As : List Value) {st : List Value} (C : CX p m meth c s args cc nL ret own) (hw : WKc g A s s.heap) (hR : RM g s R F_ L_) (hI : CI g A s σ H locs) (hn : ls.size = nL) (h : nn σ r ci (fun a => bd (f a) K) = some z) (h60 : ci < 59) (hc : ccl[ci]? = some (Cn, T, N))
    (hM : ∀ a v σ1, f a = some (v, σ1) → Met l y ws rm (CPc g A (.ref a :: As) σ) (CQ g A (toV v) σ1) (σ.2 3 - σ.2 0) (σ.2 4 - σ.2 1) A) (cw : va_CU R s args own Cn owner index x y bytes maxL ret' ws rm (σ.2 3 - σ.2 0) (σ.2 4 - σ.2 1) n)
    (hAs : As.length = n) (hst : st = As.reverse ++ va_rf r :: rest) (hrest : rest.length ≤ 4) (hdg : decode cc pc = .ok (.invokevirtual index, 3))
    (kk : ∀ (v : α) (σ1 : cS) (H : Heap) (locs : List Loc), K v σ1 = some z → CI g A s σ1 H locs → W p l e R s m args below meth c H locs (H.size - s.heap.size) (hsl H - hsl s.heap) Q (F0 m (pc + 3) ls ((toV v).toList ++ rest))) : W p l e R s m args below meth c H locs (H.size - s.heap.size) (hsl H - hsl s.heap) Q (F0 m pc ls st) := by
  obtain ⟨a, fs, rfl, h1, h2⟩ := nn_s h
  obtain ⟨v, σ1, e1, h3⟩ := bd_s h2
  exact cw_go (va_runU (As := As) (rest := rest) C.1 (hM a v σ1 e1) cw ⟨CPc.blind, cw_recv hw hI h1 h60 hc, fun U hU hW => ⟨rfl, by rw [hU]; exact hw.at hI.2.1 hW, by rw [hU]; exact hI.1⟩⟩ rfl hAs hn hst (by show 2 * 0 + _ ≤ 8; have := room_of hrest; omega) hdg (hR.call hI)) hI (fun H1 locs1 q => kk v σ1 H1 locs1 h3 q)
theorem cw_callSU {α β : Type} {f : Nat → Option (α × cS)} {K : α → cS → Option β} {z : β} {r : Option Nat} {Cn : String} {T : u_T} {N : Nat} (ci : Nat) (toV : α → Option Value) (As : List Value) {st : List Value} (C : CX p m meth c s args cc nL ret own) (hw : WKc g A s s.heap) (hR : RM g s R F_ L_) (hI : CI g A s σ H locs) (hn : ls.size = nL) (h : nn σ r ci (fun a => bd (f a) K) = some z) (h60 : ci < 59) (hc : ccl[ci]? = some (Cn, T, N))
    (hM : ∀ a v σ1, f a = some (v, σ1) → Met l y ws rm (CPc g A (.ref a :: As) σ) (CQ g A (toV v) σ1) (σ.2 3 - σ.2 0) (σ.2 4 - σ.2 1) A) (cw : va_CS R s args own index y bytes maxL ret' ws rm (σ.2 3 - σ.2 0) (σ.2 4 - σ.2 1) n)
    (hAs : As.length = n) (hst : st = As.reverse ++ va_rf r :: rest) (hrest : rest.length ≤ 4) (hdg : decode cc pc = .ok (.invokespecial index, 3))
    (kk : ∀ (v : α) (σ1 : cS) (H : Heap) (locs : List Loc), K v σ1 = some z → CI g A s σ1 H locs → W p l e R s m args below meth c H locs (H.size - s.heap.size) (hsl H - hsl s.heap) Q (F0 m (pc + 3) ls ((toV v).toList ++ rest))) : W p l e R s m args below meth c H locs (H.size - s.heap.size) (hsl H - hsl s.heap) Q (F0 m pc ls st) := by
  obtain ⟨a, fs, rfl, h1, h2⟩ := nn_s h
  obtain ⟨v, σ1, e1, h3⟩ := bd_s h2
  exact cw_go (va_runSU (As := As) (rest := rest) (hw.1.1 ci _ hc).2 C.1 (hM a v σ1 e1) cw ⟨CPc.blind, cw_recv hw hI h1 h60 hc, fun U hU hW => ⟨rfl, by rw [hU]; exact hw.at hI.2.1 hW, by rw [hU]; exact hI.1⟩⟩ rfl hAs hn hst (by show 2 * 0 + _ ≤ 8; have := room_of hrest; omega) hdg (hR.call hI)) hI (fun H1 locs1 q => kk v σ1 H1 locs1 h3 q)
/-- through an interface -/
theorem cw_go5 {v : Option Value} {σ1 : cS} {a : Array Value} {st : List Value} {mc ms : Nat} (hr : va_Run5 p l e R s m args below meth c H locs cells slots mc ms (F0 m pc ls st) rest (CQ g A v σ1 a) A) (hI : CI g A s σ H locs)
    (kk : ∀ (H : Heap) (locs : List Loc), CI g A s σ1 H locs → W p l e R s m args below meth c H locs (H.size - s.heap.size) (hsl H - hsl s.heap) Q (F0 m (pc + 5) ls (v.toList ++ rest))) : W p l e R s m args below meth c H locs cells slots Q (F0 m pc ls st) := by
  intro T hT X
  obtain ⟨w, st₀, t, T', L, h0, X', hL, e1, e2, ⟨hv, hP, ⟨hz, hk⟩, hs⟩, st⟩ := hr T hT X
  cases hv
  rw [h0] at hz hk hs
  have hS := hI.2.1
  obtain ⟨t2, a1, b1⟩ := W.narrow (kk T'.heap (locs ++ L) ⟨by rw [e1]; exact hP, ⟨Nat.le_trans hS.1 (by rw [e1]; exact hz), fun q h1 h2 => by rw [e1, hk q (Nat.lt_of_lt_of_le h1 hS.1) h2]; exact hS.2.1 q h1 h2, fun q hq => by
      rcases List.mem_append.mp hq with h | h
      · exact hS.2.2 q h
      · exact hL q h⟩, by rw [e1]; exact Nat.le_trans hI.2.2 hs⟩) T' rfl X'
  exact ⟨t2, st t2 a1, b1⟩
theorem cw_callID {T : State} (X : Stand p l e R s m args below meth c T locs cells slots) (hexec : p.tables.exec = Jvm.exec) {own C : String} {index count : Nat} {x y : MethodName} {bytes : ByteArray} {maxL : Nat} {ret : Option FieldType}
    (hown : s.vm.findClass own = some m.cls) (hlink : (Cond.methodLink own index x).before args s = true) (hdecl : (Cond.declares x).before args s = true) (hface : (Cond.interfaceMethod x.cls x.cls x.name x.desc).before args s = true)
    (hsel : va_Ld C x s) (hyx : y = x) (hinst : (Cond.instanceMethod y).before args s = true) (hpub : (Cond.publicMethod y).before args s = true) (hunh : (Cond.unhidden C x.name x.desc).before args s = true)
    (hcast : (Cond.castable C x.cls).before args s = true) (hcode : (Cond.code y bytes maxL ret).before args s = true) (hx : x.cls ≠ "java/lang/invoke/MethodHandle" ∧ x.cls ≠ "java/lang/invoke/VarHandle")
    {W : Nat} {Pre : Pt → Array Value → Prop} {Post : Pt → Array Value → Option Value → Pt → Prop} (hK : Back l R p e below s args y 5 W Pre Post)
    {b : Addr} {cellB : Cell} {kB : Class} (hcell : T.heap[b]? = some cellB) (hobj : cellB.vm.isStatics = false) (hcls : s.vm.findClass C = some cellB.cls) (hkB : s.vm.classes[cellB.cls]? = some kB)
    {g : JFrame} (hg : g.method = m) (hsize : g.locals.size = c.maxLocals) {argsL rest : List Value} (hlen : ∀ sig, parseMethodDescriptor x.desc = some sig → argsL.length = sig.parameters.length)
    (hstack : g.stack = argsL.reverse ++ .ref b :: rest) (hW : 2 * g.monitorRoom + (rest.map fun v => v.category).sum ≤ W) (hdg : decode c.code g.pc = .ok (.invokeinterface index count, 5))
    (hpre : ∀ vm₁, s.WarmedH vm₁ → Pre ⟨T.setVm vm₁, locs, cells, slots⟩ (Value.ref b :: argsL).toArray) :
    ∃ (v : Option Value) (vm₁ : Vm) (B : Pt), s.WarmedH vm₁ ∧ Stand p l e R s m args below meth c B.U B.locs B.cells B.slots ∧ Post ⟨T.setVm vm₁, locs, cells, slots⟩ (Value.ref b :: argsL).toArray v B ∧
      ∀ target, Steps p.tables e below (B.U.setTop { g with pc := g.pc + 5, stack := v.toList ++ rest }) target → Steps p.tables e below (T.setTop g) target := by
  obtain ⟨r0, r, hn, hrm, hstR, hsigR⟩ := Cond.declares_spec hdecl
  obtain ⟨cL, kL, r1, hcL, hkL, hiL, hfoundL, hn1⟩ := Cond.interfaceMethod_spec hface
  cases hn.symm.trans hn1
  have hr0cls : r0.cls = cL := Option.some.inj ((findClass_of_methodNamed hn).symm.trans hcL)
  obtain ⟨hnameR, hdescR⟩ := name_of_methodNamed hn hrm
  obtain ⟨mk, methM, hnamed, hmethM, -, habM⟩ := Cond.instanceMethod_spec hinst
  subst hyx
  obtain ⟨c2, r2, q1, q2, q4⟩ := hsel
  cases hcls.symm.trans q1
  have e1 : r2 = mk := Option.some.inj (q2.symm.trans hnamed)
  have e2 : r0 = mk := Option.some.inj (hn.symm.trans hnamed)
  rw [e1] at q4
  have hselP : selectMethod e.platform s.vm cellB.cls r0 = .method mk := by rw [Launch.admits_selectMethod X.admits, e2]; exact q4
  have hpubM : hasFlag methM.accessFlags Acc.public_ = true := Cond.publicMethod_spec hnamed hmethM hpub
  have hway : ((cellB.cls :: s.vm.superclasses cellB.cls).any fun k => (declaredIn s.vm r.name r.desc k).any fun (_, z) => z.isPrivate || z.isStatic) = false := by
    rw [hnameR, hdescR]; exact Cond.unhidden_spec hcls hunh
  obtain ⟨c3, t3, w1, w2, w3⟩ := Cond.castable_spec hcast
  cases hcls.symm.trans w1
  cases hcL.symm.trans w2
  obtain ⟨vm₁, X₁, hstep₁⟩ := X.invokeinterface hexec hown hlink hn hrm hstR (by rw [hr0cls]; exact hkL) hiL hx (a := b) (cell := cellB) (kcell := kB) hcell
    (fun z h => by rw [h] at hobj; cases hobj) hkB (by rw [hr0cls]; exact w3) hselP hmethM hway hpubM habM (g := g) hg (argsL := argsL) (rest := rest) (hlen _ hsigR) hstack hdg
  obtain ⟨v, B, X', hpost, hsteps⟩ := hK m meth c ⟨T.setVm vm₁, locs, cells, slots⟩ { g with stack := rest } (.invokeinterface index count) mk (Value.ref b :: argsL).toArray X₁ hg hsize hdg hW (X₁.named hnamed) (hpre vm₁ X₁.warmed)
  exact ⟨v, vm₁, B, X₁.warmed, X', hpost, fun target h => hstep₁ _ fun acts => by rw [doInvoke_state]; exact hsteps.trans h⟩
/-- what a call that comes to an interface's own method asks -/
def va_CD (R : Room) (s : State) (args : Array Value) (own C : String) (index : Nat) (x : MethodName) (bytes : ByteArray) (maxL : Nat) (ret : Option FieldType) (ws : List Cond) (rm : Room) (mc ms n : Nat) : Prop :=
  (rm.cells = mc ∧ rm.slots = ms ∧ rm.frames + 1 ≤ R.frames ∧ 8 + (maxL + 11) + rm.locals ≤ R.locals ∧ (∀ w ∈ ws, ∀ (a' : Array Value) (U : State), s.WarmedH U.vm → w.before a' U = true) ∧ Cond.code x bytes maxL ret ∈ ws) ∧
  (Cond.methodLink own index x).before args s = true ∧ va_Ld C x s ∧ va_Fw C x x s ∧ (Cond.instanceMethod x).before args s = true ∧ (Cond.initialized x.cls).before args s = true ∧ (Cond.code x bytes maxL ret).before args s = true ∧
  (x.cls ≠ "java/lang/invoke/MethodHandle" ∧ x.cls ≠ "java/lang/invoke/VarHandle") ∧ (∀ sig, parseMethodDescriptor x.desc = some sig → n = sig.parameters.length)
theorem cw_cwD {C : String} {x : MethodName} {Ts ws' : List Cond} {mc ms : Nat} (n : Nat) (ht : ∀ w ∈ Ts, w.before args s = true) (hG : GoodIn Ts ws) (hw : ws = Cond.code x bytes maxL ret' :: ws') (hrc : rm.cells = mc) (hrs : rm.slots = ms) (hl : (Cond.methodLink own index x).before args s = true) (hL : va_Ld C x s) (hF : va_Fw C x x s) (hin : (Cond.instanceMethod x).before args s = true) (hini : (Cond.initialized x.cls).before args s = true)
    (hd : x.cls ≠ "java/lang/invoke/MethodHandle" ∧ x.cls ≠ "java/lang/invoke/VarHandle" ∧ (parseMethodDescriptor x.desc).map (fun d => d.parameters.length) = some n) (hR : rm.frames + 1 ≤ R.frames ∧ 8 + (maxL + 11) + rm.locals ≤ R.locals) : va_CD R s args own C index x bytes maxL ret' ws rm mc ms n := by
  have hc : Cond.code x bytes maxL ret' ∈ ws := by rw [hw]; exact List.mem_cons_self
  refine ⟨⟨hrc, hrs, hR.1, hR.2, pay_in ht hG, hc⟩, hl, hL, hF, hin, hini, ht _ (hG _ hc).1, ⟨hd.1, hd.2.1⟩, fun sig h => ?_⟩
  have h2 := hd.2.2
  rw [h] at h2
  exact (Option.some.inj h2).symm
theorem cw_runFD {x : MethodName} {bytes cc : ByteArray} {maxL nL mc ms n index count : Nat} {ret : Option FieldType} {ws : List Cond} {rm : Room} {Pc : Array Value → State → Prop} {Qc : Array Value → State → Outcome → State → Prop} {free : Addr → Prop} {Ts : List Cond} {own C : String} {cC : ClassId} {b : Addr} {As rest : List Value} {g : JFrame}
    (hat : ClassAt s C cC) (S : CallFix p m c cc nL s args Ts own) (hM : Met l x ws rm Pc Qc mc ms free) (cw : va_CD R s args own C index x bytes maxL ret ws rm mc ms n) (hp : PreV s H C b Pc As)
    (hg : g.method = m) (hn : As.length = n) (hsize : g.locals.size = nL) (hstack : g.stack = As.reverse ++ .ref b :: rest) (hW : 2 * g.monitorRoom + (rest.map fun v => v.category).sum ≤ 8) (hdg : decode cc g.pc = .ok (.invokeinterface index count, 5)) (hf : cells + mc ≤ R.cells ∧ slots + ms ≤ R.slots) :
    va_Run5 p l e R s m args below meth c H locs cells slots mc ms g rest (Qc (Value.ref b :: As).toArray) (free) := by
  obtain ⟨⟨hrc, hrs, hfr, hlo, hws, hcw⟩, wl, wL, wF, wi, hini, wc, wn, wlen⟩ := cw
  have hK : Back l R p e below s args x 5 8 (PreOf R mc ms Pc) (PostOf Qc mc ms free) := back_of (bytes := bytes) (maxL := maxL) (ret := ret) hM hp.1 hrc hrs hfr hlo hws hcw (fun a' U hW => word_at hW (Or.inl (by first | rfl | simp [Cond.onTables, Cond.keeps, Cond.steady])) hini)
  obtain ⟨hx, hb, hml, ho, -⟩ := S
  obtain ⟨-, ⟨cellB, hcB, hoB, hclB⟩, hPc⟩ := hp
  obtain ⟨hfc, kB, hkB, -⟩ := hat
  cases hfc.symm.trans hclB
  intro T hT X
  obtain ⟨v, vm₁, ⟨U', l2, c2, s2⟩, hW₁, X', ⟨g', mk, t, L, e1, e2, hq, h1, hL, h2, h3⟩, st⟩ := cw_callID (y := x) X hx (C := C) (bytes := bytes) (maxL := maxL) (ret := ret) ho wl (va_any rfl wF.1) (va_any rfl wF.2.1) wL rfl wi (va_any rfl wF.2.2.1) (va_any rfl wF.2.2.2.1) (va_any rfl wF.2.2.2.2) wc wn hK (by rw [hT]; exact hcB) hoB hclB hkB hg (hsize.trans hml.symm) (argsL := As) (rest := rest) (fun sig h => hn.trans (wlen sig h)) hstack hW (by rw [hb]; exact hdg)
    (fun vm₁ hW₁ => ⟨hf.1, hf.2, hPc (T.setVm vm₁) hT hW₁⟩)
  dsimp only [Pt.U, Pt.locs, Pt.cells, Pt.slots] at X' e1 e2 h1 h2 h3 st
  subst h1; subst h2; subst h3
  exact ⟨v, (T.setVm vm₁).calling g' mk (Value.ref b :: As).toArray, t, U', L, hT, X', hL, e1, e2, hq, st⟩
/-- what an interface call asks of one class of receivers -/
def FC (l : Launch) (R : Room) (s : State) (args : Array Value) (own : String) (index : Nat) (x : MethodName) (n : Nat) (g : cG) (A : Nat → Prop) (σ σ1 : cS) (as : List Value) (v : Option Value) (ci : Nat) : Prop :=
  ∃ (q : vw_C) (y : MethodName) (bytes : ByteArray) (maxL : Nat) (ret' : Option FieldType) (ws : List Cond) (rm : Room), ci < 59 ∧ ccl[ci]? = some q ∧ Met l y ws rm (CPc g A as σ) (CQ g A v σ1) (σ.2 3 - σ.2 0) (σ.2 4 - σ.2 1) A ∧ (va_CI R s args own q.1 index x y bytes maxL ret' ws rm (σ.2 3 - σ.2 0) (σ.2 4 - σ.2 1) n ∨ y = x ∧ va_CD R s args own q.1 index x bytes maxL ret' ws rm (σ.2 3 - σ.2 0) (σ.2 4 - σ.2 1) n)
theorem cw_callF {α β : Type} {x : MethodName} {count : Nat} {f : Nat → Option (α × cS)} {K : α → cS → Option β} {z : β} {r : Option Nat} (toV : α → Option Value) (As : List Value) {st : List Value} (C : CX p m meth c s args cc nL ret own) (hw : WKc g A s s.heap) (hR : RM g s R F_ L_) (hI : CI g A s σ H locs) (hn : ls.size = nL) (h : icl r f K = some z)
    (hM : ∀ a v σ1, f a = some (v, σ1) → ∃ ci, isO σ a ci = true ∧ FC l R s args own index x n g A σ σ1 (.ref a :: As) (toV v) ci)
    (hAs : As.length = n) (hst : st = As.reverse ++ va_rf r :: rest) (hrest : rest.length ≤ 4) (hdg : decode cc pc = .ok (.invokeinterface index count, 5))
    (kk : ∀ (v : α) (σ1 : cS) (H : Heap) (locs : List Loc), K v σ1 = some z → CI g A s σ1 H locs → W p l e R s m args below meth c H locs (H.size - s.heap.size) (hsl H - hsl s.heap) Q (F0 m (pc + 5) ls ((toV v).toList ++ rest))) : W p l e R s m args below meth c H locs (H.size - s.heap.size) (hsl H - hsl s.heap) Q (F0 m pc ls st) := by
  cases r with
  | none => cases h
  | some a =>
    obtain ⟨v, σ1, e1, h3⟩ := bd_s h
    obtain ⟨ci, hO, q, y, bytes, maxL, ret', ws, rm, h60, hc, hMet, cw⟩ := hM a v σ1 e1
    obtain ⟨fs, h1⟩ : ∃ fs, σ.1 a = some (.inr (ci, fs)) := by
      unfold isO at hO
      split at hO
      · next o ho => exact ⟨o.2, by rw [ho, ← of_decide_eq_true hO]⟩
      · cases hO
    rcases cw with cw | ⟨rfl, cw⟩
    · exact cw_go5 (va_runF (As := As) (rest := rest) (hw.1.1 ci _ hc).2 C.1 hMet cw ⟨CPc.blind, cw_recv hw hI h1 h60 hc, fun U hU hW => ⟨rfl, by rw [hU]; exact hw.at hI.2.1 hW, by rw [hU]; exact hI.1⟩⟩ rfl hAs hn hst (by show 2 * 0 + _ ≤ 8; have := room_of hrest; omega) hdg (hR.call hI)) hI (fun H1 locs1 q => kk v σ1 H1 locs1 h3 q)
    · exact cw_go5 (cw_runFD (As := As) (rest := rest) (hw.1.1 ci _ hc).2 C.1 hMet cw ⟨CPc.blind, cw_recv hw hI h1 h60 hc, fun U hU hW => ⟨rfl, by rw [hU]; exact hw.at hI.2.1 hW, by rw [hU]; exact hI.1⟩⟩ rfl hAs hn hst (by show 2 * 0 + _ ≤ 8; have := room_of hrest; omega) hdg (hR.call hI)) hI (fun H1 locs1 q => kk v σ1 H1 locs1 h3 q)
theorem cw_castG {β : Type} {K : Option β} {z : β} {r : Option Nat} {index : Nat} (C : CX p m meth c s args cc nL ret own) (hw : WKc g A s s.heap) (hI : CI g A s σ H locs) (h : cst σ r [4, 5, 6, 7] K = some z) (hcl : Cond.classLink own index "HeirCases$Guard" ∈ lw_all) (hdg : decode cc pc = .ok (.checkcast index, 3))
    (kk : K = some z → W p l e R s m args below meth c H locs cells slots Q (F0 m (pc + 3) ls (va_rf r :: rest))) : W p l e R s m args below meth c H locs cells slots Q (F0 m pc ls (va_rf r :: rest)) := by
  obtain ⟨h1, h2⟩ := cst_s h
  rcases h1 with rfl | ⟨a, rfl, h3⟩
  · exact lv_castN C.x C.b hdg (kk h2)
  · unfold ckd at h3
    split at h3
    · next o ho =>
      have h5 : o.1 = 4 ∨ o.1 = 5 ∨ o.1 = 6 ∨ o.1 = 7 := by
        split at h3
        · simpa using h3
        · simp at h3; omega
      rcases h5 with e | e | e | e
      · exact va_castY (C := "HeirCases$Comparison") C.x C.b C.o (C.t _ hcl) (hw.2.2.2.2.2.2.1 _ (List.mem_of_getElem? (i := 33) rfl)) (cw_recv (ci := 4) hw hI (show σ.1 a = some (.inr (4, o.2)) by rw [ho, ← e]) (by decide) rfl) hdg (kk h2)
      · exact va_castY (C := "HeirCases$Joined") C.x C.b C.o (C.t _ hcl) (hw.2.2.2.2.2.2.1 _ (List.mem_of_getElem? (i := 35) rfl)) (cw_recv (ci := 5) hw hI (show σ.1 a = some (.inr (5, o.2)) by rw [ho, ← e]) (by decide) rfl) hdg (kk h2)
      · exact va_castY (C := "HeirCases$1Not") C.x C.b C.o (C.t _ hcl) (hw.2.2.2.2.2.2.1 _ (List.mem_of_getElem? (i := 29) rfl)) (cw_recv (ci := 6) hw hI (show σ.1 a = some (.inr (6, o.2)) by rw [ho, ← e]) (by decide) rfl) hdg (kk h2)
      · exact va_castY (C := "HeirCases$1") C.x C.b C.o (C.t _ hcl) (hw.2.2.2.2.2.2.1 _ (List.mem_of_getElem? (i := 31) rfl)) (cw_recv (ci := 7) hw hI (show σ.1 a = some (.inr (7, o.2)) by rw [ho, ← e]) (by decide) rfl) hdg (kk h2)
    · next x hx => simp at h3; omega
    · simp at h3
end CW4
