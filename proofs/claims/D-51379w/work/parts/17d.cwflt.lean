/-! A FAULT IS MADE AND THROWN -/
set_option maxRecDepth 100000
/-- what a Fault's constructor asks -/
def fAt : List Cond := Bundle.throwableAtoms ++ Bundle.chain0Atoms "java/lang/Exception" [] ++ [.methodLink RX3 1 (Bundle.init0 "java/lang/Exception"), .instantiable RX3 8, .selects RX3 Bundle.tFill0 Bundle.tFill0, .selects RX3 Bundle.tFill Bundle.tFill, .isRef (.static Bundle.tN "UNASSIGNED_STACK" Bundle.steD), .isRef (.static Bundle.tN "SUPPRESSED_SENTINEL" Bundle.listD), .fieldLink Bundle.tN 198 Bundle.tN "backtrace" "Ljava/lang/Object;", .lays Bundle.tN Bundle.tN "backtrace" "Ljava/lang/Object;"]
/-- Exception's constructor on a fresh Fault: what it sets isn't asked for again -/
def exI {β : Type} (σ : cS) (r : Option Nat) (K : cS → Option β) : Option β := match r with
  | none => none
  | some a => if isO σ a 59 = true ∧ σ.2 2 ≤ a then K (cU σ a (.inr (14, [.int 0, .int 0]))) else none
theorem isO_s {σ : cS} {a c : Nat} (h : isO σ a c = true) : ∃ fs, σ.1 a = some (.inr (c, fs)) := by
  unfold isO at h
  split at h
  · next o ho => exact ⟨o.2, by rw [ho, ← of_decide_eq_true h]⟩
  · cases h
theorem exI_s {β : Type} {σ : cS} {r : Option Nat} {K : cS → Option β} {z : β} (h : exI σ r K = some z) : ∃ a fs, r = some a ∧ σ.1 a = some (.inr (59, fs)) ∧ σ.2 2 ≤ a ∧ K (cU σ a (.inr (14, [.int 0, .int 0]))) = some z := by
  unfold exI at h
  cases r with
  | none => cases h
  | some a =>
    dsimp only at h
    split at h
    · next hc =>
      obtain ⟨fs, h1⟩ := isO_s hc.1
      exact ⟨a, fs, rfl, h1, hc.2, h⟩
    · cases h
section CX4
variable {p : Program} {l : Launch} {e : Env} {R : Room} {s : State} {m : MethodId} {args : Array Value} {below : List Frame} {meth : Method} {c : Code} {H : Heap} {locs : List Loc} {cells slots : Nat} {Q : State → Prop}
variable {cc : ByteArray} {pc : Nat} {ls : Array Slot} {rest : List Value} {g : cG} {A : Nat → Prop} {nL : Nat} {ret : Option FieldType} {own : String} {σ : cS} {F_ L_ : Nat}
theorem hat_F (C : CX p m meth c s args cc nL ret RX3) (hw : WKc g A s s.heap) : ∀ w ∈ fAt.filter vx_no, w.before args s = true := by
  have h := vx_c (C.t _ q140) (vx_c (C.t _ q418) (vx_c (C.t _ q427) (vx_c (C.t _ q435) (vx_c (C.t _ q438) (vx_c (C.t _ q440) (vx_c (C.t _ q419) (vx_c (C.t _ q420) (vx_c (C.t _ q173) (vx_c (C.t _ q174) (vx_c (C.t _ q421) (vx_c (C.t _ q426) (vx_c (C.t _ q436) (vx_c (C.t _ q627) (vx_c (C.t _ q408) (vx_c (C.t _ q628) (vx_c (C.t _ q410) (vx_c (C.t _ q629) (vx_c (C.t _ q412) (vx_c (C.t _ q422) (vx_c (C.t _ q424) (vx_c (C.t _ q414) (vx_c (C.t _ q766) (vx_c (C.t _ q767) (vx_c (C.t _ q768) (vx_c (C.t _ q419) (vx_c (va_Nw.use rfl (hw.2.2.2.2.2.2.2.2.2.2.2.2.1 _ (List.mem_of_getElem? (i := 2) rfl))) (vx_c (C.t _ q765) (vx_c (C.t _ q625) (vx_c (C.t _ q416) (vx_c (C.t _ q754) (vx_c (C.t _ q756) (vx_c (C.t _ q429) vx_n))))))))))))))))))))))))))))))))
  exact fun w hw' => h w ((by decide +kernel : ∀ w ∈ fAt.filter vx_no, w ∈ _) w hw')
theorem cw_newF {β : Type} {K : Nat → cS → Option β} {z : β} {index : Nat} (C : CX p m meth c s args cc nL ret own) (hw : WKc g A s s.heap) (hI : CI g A s σ H locs) (hRc : g.2.2.1 3 - s.heap.size ≤ R.cells) (hRs : g.2.2.1 4 - hsl s.heap ≤ R.slots) (h : nO σ 59 8 [] K = some z)
    (hcl : Cond.classLink own index RX3 ∈ lw_all) (hinst : Cond.instantiable RX3 8 ∈ lw_all) (hini : Cond.initialized RX3 ∈ lw_all) (hdg : decode cc pc = .ok (.new index, 3))
    (kk : ∀ (q : Nat) (σ1 : cS) (H : Heap) (locs : List Loc), K q σ1 = some z → CI g A s σ1 H locs → W p l e R s m args below meth c H locs (H.size - s.heap.size) (hsl H - hsl s.heap) Q (F0 m (pc + 3) ls (.ref q :: rest))) : W p l e R s m args below meth c H locs (H.size - s.heap.size) (hsl H - hsl s.heap) Q (F0 m pc ls rest) := by
  obtain ⟨hb, hk⟩ := nO_s h
  obtain ⟨hP, hS, hsl1⟩ := hI
  obtain ⟨p0, p1, p2, p3, -⟩ := id hP
  have hKn := hw.1.1 13 _ rfl
  have b3 := p3 3 (by decide)
  have b4 := p3 4 (by decide)
  have s1 := hS.1
  refine W.newc C.x C.b C.o (C.t _ hcl) (C.t _ hinst) (C.t _ hini) rfl hdg (by omega) (by omega) fun cC kC f1 f2 f3 f4 => ?_
  have ec : cC = g.1.1 13 := Option.some.inj (f1.symm.trans hKn.2.1)
  subst ec
  have hcell : cCell g (σ.2 0) (.inr (59, [])) (H.push { cls := g.1.1 13, slots := kC.instanceTypes.map defaultValue, vm := .none }) := by
    unfold cCell
    dsimp only
    rw [if_neg (by decide), if_pos rfl]
    obtain ⟨cell, q1, q2, q3, q4⟩ := u_born tyX3 C.t in_X3 hKn f2 (H := H.push { cls := g.1.1 13, slots := kC.instanceTypes.map defaultValue, vm := .none }) (o := σ.2 0) (by rw [← p0]; simp [blank]) tyX3_ok
    rw [← p0, Array.getElem?_push_size] at q1
    cases q1
    exact ⟨_, by rw [← p0, Array.getElem?_push_size], rfl, rfl, rfl, fun k hk => q4 k hk⟩
  have hnew : CI g A s (cN σ (.inr (59, [])) 8) (H.push { cls := g.1.1 13, slots := kC.instanceTypes.map defaultValue, vm := .none }) locs := by
    refine ⟨hP.new (by simpa using f4) hb hcell, ⟨by simp; omega, fun q h1 h2 => ?_, hS.2.2⟩, by rw [hsl_push]; omega⟩
    rw [Array.getElem?_push, if_neg (by omega)]
    exact hS.2.1 q h1 h2
  have := kk _ _ _ _ hk hnew
  rw [hsl_push, Array.size_push] at this
  rw [← p0] at this
  have e1 : (kC.instanceTypes.map defaultValue).size = 8 := by simpa using f4
  have e2 : H.size + 1 - s.heap.size = H.size - s.heap.size + 1 := by omega
  have e3 : hsl H + 8 - hsl s.heap = hsl H - hsl s.heap + 8 := by omega
  dsimp only at this
  rw [e1, e2, e3] at this
  exact this
theorem cw_exI {β : Type} {K : cS → Option β} {z : β} {r : Option Nat} (C : CX p m meth c s args cc nL ret RX3) (hw : WKc g A s s.heap) (hR : RM g s R F_ L_) (hI : CI g A s σ H locs) (hl : l.stackTraces = false) (hn : ls.size = nL) (h : exI σ r K = some z) (hF : 4 ≤ F_) (hLo : 8 + 54 ≤ L_) (hrest : rest.length ≤ 3) (hdg : decode cc pc = .ok (.invokespecial 1, 3))
    (kk : ∀ (σ1 : cS) (H : Heap) (locs : List Loc), K σ1 = some z → CI g A s σ1 H locs → W p l e R s m args below meth c H locs (H.size - s.heap.size) (hsl H - hsl s.heap) Q (F0 m (pc + 3) ls rest)) : W p l e R s m args below meth c H locs (H.size - s.heap.size) (hsl H - hsl s.heap) Q (F0 m pc ls (va_rf r :: rest)) := by
  obtain ⟨a, fs, rfl, ha, hw2, hK⟩ := exI_s h
  have hcell := hI.1.2.2.2.2.1 a _ ha
  unfold cCell at hcell
  dsimp only at hcell
  rw [if_neg (by decide), if_pos rfl] at hcell
  obtain ⟨cell, h1, hcl, hv, hmon, hsl0⟩ := hcell
  have hKn := hw.1.1 13 _ rfl
  have hKn2 := hw.1.1 14 _ rfl
  have hap := va_apart (own := RX3) C.t in_X3 tyX3 tyX3_ok nmX3 hw.1 (ci := 13) rfl
  have hAa : A a := hI.1.2.2.2.2.2.1 a _ ha hw2
  have hU := hw.2.2.2.2.2.2.2.2.2.2.2.2.2.1
  have hN := hw.2.2.2.2.2.2.2.2.2.2.2.2.2.2.1
  have hat := vx_own (hat_F C hw) (vx_isRefq hU.1) (vx_isRefq hN.1) hU.2.word hN.2.word
  intro T hT X
  subst hT
  have htr : e.platform.stackTraces = false := (show e.platform.stackTraces = l.stackTraces by rw [X.admits.platform]).trans hl
  have howns : e.platform.frameOwnsMonitors = true := by rw [X.admits.platform]
  have hfin : e.platform.finalization = false := by rw [X.admits.platform]
  have hpl : e.platform.magicAccessors = ({} : Platform).magicAccessors := by rw [X.admits.platform]
  obtain ⟨T', Z, L, LZ, Y⟩ := ThrowableC.of_atoms (args := args) howns hfin hpl (fun x hx => hat x (by simp [fAt, hx]))
  obtain ⟨P1, Ps, hlen, L1, hLp, hP1m, hlink1, hlink⟩ := Bundle.chain0 (args := args) hpl Y.init0 [] "java/lang/Exception" (by decide +kernel) (fun n hn => nomatch hn) (fun x hx => hat x (by simp [fAt, hx]))
  have hPs : Ps = [] := List.length_eq_zero_iff.mp hlen
  subst hPs
  have hfound : s.vm.findClass RX3 = some cell.cls := by rw [hcl]; exact hKn.2.1
  obtain ⟨c1, kX, hc1, hk, hord, -, -, hn6⟩ := Cond.instantiable_spec (hat (.instantiable RX3 8) (by simp [fAt]))
  cases Option.some.inj (hc1.symm.trans hfound)
  have hsel0 : selectMethod e.platform s.vm cell.cls T'.fill0 = .method T'.fill0 := by
    obtain ⟨c2, r2, m2, q1, q2, q3, q4, -⟩ := Cond.selects_spec (hat (.selects RX3 Bundle.tFill0 Bundle.tFill0) (by simp [fAt]))
    cases Option.some.inj (q1.symm.trans hfound)
    cases Option.some.inj (q2.symm.trans (State.methodFound?_of_named Y.fill0 (by decide)))
    cases Option.some.inj (q3.symm.trans Y.fill0)
    rw [Launch.admits_selectMethod X.admits]; exact q4
  have hselF : selectMethod e.platform s.vm cell.cls T'.fill = .method T'.fill := by
    obtain ⟨c2, r2, m2, q1, q2, q3, q4, -⟩ := Cond.selects_spec (hat (.selects RX3 Bundle.tFill Bundle.tFill) (by simp [fAt]))
    cases Option.some.inj (q1.symm.trans hfound)
    cases Option.some.inj (q2.symm.trans (State.methodFound?_of_named Y.fill (by decide)))
    cases Option.some.inj (q3.symm.trans Y.fill)
    rw [Launch.admits_selectMethod X.admits]; exact q4
  obtain ⟨cellS0, hcS0, hiss⟩ := Y.statics
  obtain ⟨u0, hu0⟩ := Cond.staticRefV Y.unassigned L.unassignedStatic L.statics hcS0 hiss (hat (.isRef (.static Bundle.tN "UNASSIGNED_STACK" Bundle.steD)) (by simp [fAt]))
  obtain ⟨sen, hsen⟩ := Cond.staticRefV Y.sentinel L.sentinelStatic L.statics hcS0 hiss (hat (.isRef (.static Bundle.tN "SUPPRESSED_SENTINEL" Bundle.listD)) (by simp [fAt]))
  have hnA : ¬ A T'.aS := by
    obtain ⟨c9, k9, i9, f9, a9, cell9, q1, q2, q3, q4, -, -, -, -, -, q10⟩ := hU.2
    have e9 := Option.some.inj (q2.symm.trans Y.unassigned)
    simp only [Prod.mk.injEq] at e9
    have e8 : a9 = T'.aS := Option.some.inj (q4.symm.trans (by rw [e9.2.1]; exact L.statics))
    rw [← e8]; exact q10
  have hcellS : T.heap[T'.aS]? = some cellS0 := by rw [hI.2.1.2.1 _ (Array.getElem?_eq_some_iff.mp hcS0).1 hnA]; exact hcS0
  have hneS : T'.aS ≠ a := fun h => hnA (by rw [h]; exact hAa)
  have hknownS : cellS0.vm ≠ .unknown := by intro hu; rw [hu] at hiss; cases hiss
  obtain ⟨ci198, i198, fB, hk198, hg198, ha198, hsB, -, hnB, htB, hffB⟩ := Cond.ownField (t := .object "java/lang/Object") Y.found L.cls (by decide +kernel) (hat (.fieldLink Bundle.tN 198 Bundle.tN "backtrace" "Ljava/lang/Object;") (by simp [fAt])) (hat (.lays Bundle.tN Bundle.tN "backtrace" "Ljava/lang/Object;") (by simp [fAt])) e.platform hpl
  have y0 : (Cond.lays RX3 Bundle.tN "cause" "Ljava/lang/Throwable;").before args s = true := C.t _ (in_X3 _ (u_in_lay (C := RX3) (T := TX3) (N := 8) (k := 0) (by decide)))
  have y1 : (Cond.lays RX3 Bundle.tN "stackTrace" Bundle.steD).before args s = true := C.t _ (in_X3 _ (u_in_lay (C := RX3) (T := TX3) (N := 8) (k := 1) (by decide)))
  have y2 : (Cond.lays RX3 Bundle.tN "suppressedExceptions" Bundle.listD).before args s = true := C.t _ (in_X3 _ (u_in_lay (C := RX3) (T := TX3) (N := 8) (k := 2) (by decide)))
  obtain ⟨tyC, -⟩ := Cond.laysAt hfound hk Y.cause y0
  obtain ⟨tyS, -⟩ := Cond.laysAt hfound hk Y.stack y1
  obtain ⟨tyP, -⟩ := Cond.laysAt hfound hk Y.supp y2
  have s0 : T'.fCause.slot = g.1.2 13 0 := by
    obtain ⟨_, _, _, fd, hi, he⟩ := hKn.1 0 (by decide)
    have e9 := Option.some.inj (hi.symm.trans Y.cause)
    simp only [Prod.mk.injEq] at e9
    rw [← e9.2.2.2]; exact he
  have s1 : T'.fStack.slot = g.1.2 13 1 := by
    obtain ⟨_, _, _, fd, hi, he⟩ := hKn.1 1 (by decide)
    have e9 := Option.some.inj (hi.symm.trans Y.stack)
    simp only [Prod.mk.injEq] at e9
    rw [← e9.2.2.2]; exact he
  have s2 : T'.fSupp.slot = g.1.2 13 2 := by
    obtain ⟨_, _, _, fd, hi, he⟩ := hKn.1 2 (by decide)
    have e9 := Option.some.inj (hi.symm.trans Y.supp)
    simp only [Prod.mk.injEq] at e9
    rw [← e9.2.2.2]; exact he
  have s4 : fB.slot = g.1.2 13 4 := by
    obtain ⟨_, _, _, fd, hi, he⟩ := hKn.1 4 (by decide)
    have e9 := Option.some.inj (hi.symm.trans hffB)
    simp only [Prod.mk.injEq] at e9
    rw [← e9.2.2.2]; exact he
  have sF : ∀ k, k < 2 → g.1.2 14 k = g.1.2 13 (6 + k) := by
    intro k hk
    obtain ⟨_, _, _, f1, i1, e1⟩ := hKn.1 (6 + k) (show 6 + k < 8 by omega)
    obtain ⟨_, _, _, f2, i2, e2⟩ := hKn2.1 k hk
    have e9 := Option.some.inj (i2.symm.trans i1)
    simp only [Prod.mk.injEq] at e9
    rw [← e1, ← e2, e9.2.2.2]
  have htk : ∀ (f : Field) (v : Value) (k : Nat), k < 8 → f.slot = g.1.2 13 k → kX.instanceTypes[f.slot]? = some f.type → fits f.type v = true → Takes s cell f v := by
    intro f v k hk8 hs ht hf
    have := Takes.of_laid hk hord ht hf
    refine ⟨by rw [hs]; exact (Array.getElem?_eq_some_iff.mp (hsl0 k hk8)).1, ?_⟩
    rw [hv]
    exact this.2
  have bC : fB.slot ≠ T'.fCause.slot := by rw [s4, s0]; exact hap 4 0 (by decide) (by decide) (by decide)
  have bS : fB.slot ≠ T'.fStack.slot := by rw [s4, s1]; exact hap 4 1 (by decide) (by decide) (by decide)
  have bP : fB.slot ≠ T'.fSupp.slot := by rw [s4, s2]; exact hap 4 2 (by decide) (by decide) (by decide)
  have hskip : SkipFacts T' e.platform s (fun u => u) u0 ((preparedCellV T'.toThrowableT cell a u0 sen).withEntry T.cur) :=
    ⟨{ ci198 := ci198, i198 := i198, fBack := fB }, ⟨hk198, hg198, ha198, hsB⟩, by
      have : cell.slots[fB.slot]? = some .null := by rw [s4]; exact hsl0 4 (by decide)
      simpa [preparedCellV, Cell.setSlot, Cell.withEntry, Array.getElem?_setIfInBounds, bC, bS, bP, bC.symm, bS.symm, bP.symm] using this, fun _ _ => rfl⟩
  have hdg' : decode c.code pc = .ok (.invokespecial 1, 3) := by rw [C.b]; exact hdg
  obtain ⟨tm, methC, cdC, kC, vm₁, hnC, -, -, -, -, -, -, -, hW₁, st1⟩ := Steps.initCold (tb := p.tables) (e := e) (below := below) (s := s) (U := T) X.here C.x X.warmed hpl C.o (t := Bundle.init0 "java/lang/Exception") rfl rfl (by decide)
    (hat (.methodLink RX3 1 (Bundle.init0 "java/lang/Exception")) (by simp [fAt])) (hat (.instanceMethod (Bundle.init0 "java/lang/Exception")) (by simp [fAt, Bundle.chain0Atoms, Bundle.passAtoms])) (bytes := Bundle.five) (maxL := 1) (hat (.code (Bundle.init0 "java/lang/Exception") Bundle.five 1 none) (by simp [fAt, Bundle.chain0Atoms, Bundle.passAtoms]))
    (f := F0 m pc ls (.ref a :: rest)) rfl (a := a) (rest := rest) rfl hdg'
  cases Option.some.inj (hnC.symm.trans hP1m)
  have X₁ := X.noted hW₁
  have hrm := room_of (st := rest) (by omega)
  have hf4 := hR.f
  have hl4 := hR.lo
  obtain ⟨vm₂, X₂, st2⟩ := X₁.ctorPlainOffV C.x (g := F0 m pc ls rest) rfl (hn.trans C.n.symm) T' L Z LZ [P1]
    (fun P hP => by rcases List.mem_singleton.mp hP with rfl; exact L1) ⟨hlink1, hlink⟩ (u0 := u0) (sen := sen) (self := a) (cell := cell) (cellS := cellS0)
    h1 (fun _ => by rw [hv]; simp) (by rw [hv]; simp) (by rw [hmon]) (by rw [hmon]) hsel0 hselF hcellS hneS hknownS hu0 hsen
    (htk _ _ 0 (by decide) s0 tyC (by rw [Y.causeType]; rfl)) (htk _ _ 1 (by decide) s1 tyS (by rw [Y.stackType]; exact fits_refV_array _ u0)) (htk _ _ 2 (by decide) s2 tyP (by rw [Y.suppType]; exact fits_refV_object _ sen)) Y.objLocals hskip htr [] hdg'
    (by simp only [List.length_cons, List.length_nil]; omega) (by show 2 * 0 + _ + _ ≤ _; simp only [List.length_cons, List.length_nil]; omega)
  have hlt : a < T.heap.size := (Array.getElem?_eq_some_iff.mp h1).1
  obtain ⟨cell2, hc2⟩ : ∃ x, x = (preparedCellV T'.toThrowableT cell a u0 sen).setSlot T'.fStack.slot u0.v := ⟨_, rfl⟩
  rw [← hc2] at X₂ st2
  obtain ⟨H1, hH1⟩ : ∃ H1 : Heap, H1 = (((T.setVm vm₁).setVm vm₂).setCell a cell2).heap := ⟨_, rfl⟩
  have e1 : H1[a]? = some cell2 := by rw [hH1]; exact heapAt_setCell_self _ hlt
  have oq : ∀ q : Nat, q ≠ a → H1[q]? = T.heap[q]? := fun q hq => by rw [hH1]; exact heapAt_setCell_ne (s := (T.setVm vm₁).setVm vm₂) _ (Ne.symm hq)
  have hz : H1.size = T.heap.size := by
    rw [hH1]
    show (T.heap.setIfInBounds a cell2).size = _
    simp
  have hs : hsl H1 = hsl T.heap := by
    refine hsl_same hz fun q => ?_
    by_cases hq : q = a
    · subst hq
      rw [e1, h1, hc2]
      simp [preparedCellV, Cell.setSlot]
    · rw [oq q hq]
  have hcell2 : cCell g a (.inr (14, [.int 0, .int 0])) H1 := by
    refine cCell.of ⟨(RXF, TXF, 2), rfl, cell2, e1, ?_, by rw [hc2]; exact hv, fun k hk2 => ?_⟩ (by decide)
    · have : cell2.cls = cell.cls := by rw [hc2]; rfl
      rw [this]
      exact Option.some.inj (hfound.symm.trans hKn2.2.1)
    · have hd : cell.slots[g.1.2 13 (6 + k)]? = some (.int 0) := by
        have := hsl0 (6 + k) (by have : k < 2 := hk2; omega)
        match k, hk2 with
        | 0, _ => exact this
        | 1, _ => exact this
      have n0 : g.1.2 13 (6 + k) ≠ g.1.2 13 0 := hap _ _ (by have : k < 2 := hk2; omega) (by decide) (by omega)
      have n1 : g.1.2 13 (6 + k) ≠ g.1.2 13 1 := hap _ _ (by have : k < 2 := hk2; omega) (by decide) (by omega)
      have n2 : g.1.2 13 (6 + k) ≠ g.1.2 13 2 := hap _ _ (by have : k < 2 := hk2; omega) (by decide) (by omega)
      have hv9 : vp_V [.int 0, .int 0] k = .int 0 := by
        match k, hk2 with
        | 0, _ => rfl
        | 1, _ => rfl
      rw [hv9]
      show cell2.slots[g.1.2 14 k]? = _
      rw [sF k hk2, hc2]
      simpa [preparedCellV, Cell.setSlot, Array.getElem?_setIfInBounds, s0, s1, s2, n0, n1, n2, n0.symm, n1.symm, n2.symm] using hd
  have hI1 : CI g A s (cU σ a (.inr (14, [.int 0, .int 0]))) H1 (locs ++ [⟨a, T'.fCause.slot⟩, ⟨a, T'.fStack.slot⟩, ⟨a, T'.fSupp.slot⟩, ⟨a, T'.fStack.slot⟩]) := by
    refine ⟨hI.1.set ha hcell2 hz hs oq, ⟨by rw [hz]; exact hI.2.1.1, fun q q1 q2 => ?_, fun x hx => ?_⟩, by rw [hs]; exact hI.2.2⟩
    · rw [oq q (fun h => q2 (by rw [h]; exact hAa))]
      exact hI.2.1.2.1 q q1 q2
    · rcases List.mem_append.mp hx with hx | hx
      · exact hI.2.1.2.2 x hx
      · have hb : x.base = a := by
          simp only [List.mem_cons, List.not_mem_nil, or_false] at hx
          rcases hx with rfl | rfl | rfl | rfl <;> rfl
        rw [hb]; exact hAa
  have k2 := kk _ H1 _ hK hI1
  rw [hz, hs] at k2
  obtain ⟨t, a1, b1⟩ := k2 _ hH1.symm X₂
  refine ⟨t, st1 _ fun acts => ?_, b1⟩
  rw [doInvoke_state]
  exact st2 _ a1
theorem cx_athrow {β : Type} {toW : β → Option Value} {z : cX β × cS} {r : Option Nat} (C : CX p m meth c s args cc nL ret own) (hx : ∀ x ∈ c.exceptionTable.toList, False) (hw : WKc g A s s.heap) (hI : CI g A s σ H locs) (h : thF σ r = some z) (hdg : decode cc pc = .ok (.athrow, 1)) :
    W p l e R s m args below meth c H locs cells slots (UQ g A toW z args s (g.2.2.1 3 - s.heap.size) (g.2.2.1 4 - hsl s.heap) below) (F0 m pc ls (va_rf r :: rest)) := by
  unfold thF at h
  cases r with
  | none => cases h
  | some q =>
    dsimp only at h
    split at h
    case isFalse => cases h
    next hq =>
    cases h
    obtain ⟨fs, hq1⟩ := isO_s hq
    obtain ⟨r', hr', ce, g1, g2, g3, -⟩ := (hI.1.2.2.2.2.1 q _ hq1).obj (by decide)
    cases Option.some.inj (hr'.symm.trans (show ccl[14]? = some (RXF, TXF, 2) from rfl))
    have hcl : s.vm.findClass "HeirCases$Fault" = some ce.cls := by rw [g2]; exact (hw.1.1 14 _ rfl).2.1
    exact W.narrow (vx_athrow C.x C.b hdg (vx_widen hI.bounds.1 hI.bounds.2 (vx_out (E := "HeirCases$Fault") (ce := ce) (Qc := fun _ _ _ _ => False) (XC := CXr g A (0, q) σ) (free := A) (args := args) (mc := g.2.2.1 3 - s.heap.size) (ms := g.2.2.1 4 - hsl s.heap) (fun x hx' => (hx x hx').elim) C.k g1 g3 hcl
      (fun t ht _ => ⟨rfl, fun _ => ⟨rfl, by rw [ht]; exact hI.1⟩, fun h => absurd rfl h, hI.2.1.F ht, by rw [ht]; exact hI.2.2⟩) hI.2.1.2.2 (Nat.le_refl _) (Nat.le_refl _))))
end CX4
