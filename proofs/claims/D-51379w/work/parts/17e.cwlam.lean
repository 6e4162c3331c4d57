/-! LAMBDAS: made, and called -/
set_option maxRecDepth 100000
/-- what the library's writer makes of a shape: the forwarder's bytes, the pool's entries -/
def lamOk (σ : Lambda.Shape) (caller : String) (bytes : ByteArray) (maxL mi ci nt cs : Nat) (fis : List (Nat × Nat)) : Bool :=
  plainName (caller ++ "$$Lambda") && match σ.file caller with
  | none => false
  | some D => match layoutMethods D, layoutFields D 0 with
    | some ms, some lay => (match ms[1]? with
        | some fwd => (match fwd.code with
            | some c => decide (c.code.data = bytes.data ∧ c.maxLocals = maxL)
            | none => false) && decide (fwd.accessFlags = 1 ∧ fwd.sig.returnType = σ.sam.returnType)
        | none => false)
      && decide (D.constantPool[mi]? = some (.methodref ci nt) ∧ D.constantPool.className? ci = some σ.implClass ∧ D.constantPool.nameAndType? nt = some (σ.implName, σ.implDesc.toString))
      && decide (D.constantPool[ci]? = some (.class_ cs) ∧ D.constantPool.string? cs = some σ.implClass ∧ ci ≠ D.thisClass)
      && ((List.range fis.length).all fun i => match fis[i]? with
          | some f => decide (D.constantPool[f.1]? = some (.fieldref 2 f.2) ∧ (D.constantPool.nameAndType? f.2).map (·.1) = some (Lambda.fieldName i) ∧ lay.1.findIdx? (·.name == Lambda.fieldName i) = some i ∧ (lay.1[i]?).map (fun f => (f.isStatic, f.slot)) = some (false, i))
          | none => false)
      && decide (lay.2.1 = σ.captured.toArray)
    | _, _ => false
def LFp (vm : Vm) (c : ClassId) (σ : Lambda.Shape) (bytes : ByteArray) (maxL mi ci : Nat) (fis : List (Nat × Nat)) : Prop :=
  ∃ (k tk : Class) (file : ClassFile) (methk : Method) (ck : Code) (toy : ClassId) (t : MethodId) (nt : Nat),
    vm.classes[c]? = some k ∧ plainName k.name = true ∧ k.cf = some file ∧ vm.method? ⟨c, 1⟩ = some methk ∧ methk.code = some ck ∧ ck.code = bytes ∧ ck.maxLocals = maxL ∧ methk.locks = false ∧ methk.accessFlags = 0x0001 ∧ methk.sig.returnType = σ.sam.returnType ∧
    vm.findClass σ.implClass = some toy ∧ vm.classes[toy]? = some tk ∧ ((methodIn toy σ.implName σ.implDesc.toString tk.isInterface none).ask { classPath := fun _ => none } vm).1 = .ok t ∧ vm.methodReady c mi t ∧ vm.classReady c ci toy ∧
    (∀ i f, fis[i]? = some f → ∃ fd : Field, vm.fieldReady c f.1 c fd ∧ fd.isStatic = false ∧ fd.slot = i) ∧ k.instanceTypes = σ.captured.toArray ∧ k.kind = .ordinary ∧ file.constantPool[mi]? = some (.methodref ci nt) ∧ file.constantPool.nameAndType? nt = some (σ.implName, σ.implDesc.toString) ∧ tk.isInterface = σ.implItf
theorem lam_facts {vm : Vm} {d c : ClassId} {dk : Class} {σ : Lambda.Shape} {bytes : ByteArray} {maxL mi ci nt cs : Nat} {fis : List (Nat × Nat)} (hd : vm.classes[d]? = some dk) (h : Lambda.isMade { classPath := fun _ => none } vm d σ c = true)
    (hO : ∀ o ok, vm.findClass "java/lang/Object" = some o → vm.classes[o]? = some ok → ok.instanceTypes.size = 0) (hlo : lamOk σ dk.name bytes maxL mi ci nt cs fis = true) : LFp vm c σ bytes maxL mi ci fis := by
  obtain ⟨dk', k, ok, tk, file, cf, object, iface, toy, lay, methods, target, found, hd', hk, hfile, hcf, hobj, -, hok, hlay, hms, ht, htk, hg, -, hrec, -, -, -, hitf, hpool, hmeth, hfields, hty, hres, -⟩ := Lambda.isMade_spec h
  cases hd.symm.trans hd'
  have hok0 : ok.instanceTypes = #[] := Array.eq_empty_of_size_eq_zero (hO object ok hobj hok)
  rw [hO object ok hobj hok] at hlay
  unfold lamOk at hlo
  rw [hcf] at hlo
  cases hm1 : methods[1]? with
  | none => simp [hms, hlay, hm1] at hlo
  | some fwd =>
    cases hfc : fwd.code with
    | none => simp [hms, hlay, hm1, hfc] at hlo
    | some x =>
      simp only [hms, hlay, hm1, hfc, Bool.and_eq_true, decide_eq_true_eq] at hlo
      obtain ⟨hpl, ⟨⟨⟨⟨⟨hcd, hml⟩, hfl1, hrt⟩, hM1, hM2, hM3⟩, hC1, hC2, hC3⟩, hF⟩, hT⟩ := hlo
      obtain ⟨b, hb, hsame⟩ := hmeth 1 fwd hm1
      simp only [Lambda.sameMethod, Bool.and_eq_true, decide_eq_true_eq] at hsame
      obtain ⟨⟨hn, -, hsig, hfl⟩, hcode⟩ := hsame
      cases hbc : b.code with
      | none => simp [hfc, hbc] at hcode
      | some y =>
        simp only [hfc, hbc, Bool.and_eq_true, decide_eq_true_eq] at hcode
        refine ⟨k, tk, file, b, y, toy, target, nt, hk, by rw [hrec.1]; exact hpl, hfile, by simp [Vm.method?, hk, hb], hbc, ?_, by rw [← hcode.1.1.1.1.2.1]; exact hml, ?_, by rw [← hfl]; exact hfl1, by rw [← hsig]; exact hrt, ht, htk, hg, ⟨k, hk, hres mi _ (Lambda.resolvedOf_method hM1 hM2 ht htk hM3 hg)⟩, ⟨k, hk, hres ci _ (Lambda.resolvedOf_class hC1 hC3 hC2 ht)⟩, fun i f hf => ?_, by rw [hty.1, hok0, hT]; simp, hrec.2.1, by rw [hpool.2.1]; exact hM1, by rw [hpool.2.1]; exact hM3, hitf⟩
        · rw [← hcode.1.1.1.1.2.2]
          exact ByteArray.ext hcd
        · simp [Method.locks, Method.isSynchronized, ← hfl, hfl1, hasFlag, Acc.synchronized]
        · have hi : i < fis.length := (List.getElem?_eq_some_iff.mp hf).1
          have h1 := (List.all_eq_true.mp hF) i (List.mem_range.mpr hi)
          simp only [hf, decide_eq_true_eq] at h1
          obtain ⟨e1, e2, e3, e4⟩ := h1
          obtain ⟨nd, hnd, hn1⟩ := Option.map_eq_some_iff.mp e2
          obtain ⟨fd, hfd, hp⟩ := Option.map_eq_some_iff.mp e4
          simp only [Prod.mk.injEq] at hp
          exact ⟨fd, ⟨k, i, k, hk, hres f.1 _ (Lambda.resolvedOf_field e1 (show cf.constantPool.nameAndType? f.2 = some (Lambda.fieldName i, nd.2) by rw [hnd, ← hn1]) e3), hk, hfields i _ hfd⟩, hp.1, hp.2⟩
theorem LamV.facts {g : cG} {U : State} {n : Nat} {q : cLt} {bytes : ByteArray} {maxL mi ci nt cs : Nat} {fis : List (Nat × Nat)} (h : LamV g U n q) (hlo : lamOk q.2.2.2.1 q.1.cls bytes maxL mi ci nt cs fis = true) : LFp U.vm (g.2.2.2 n) q.2.2.2.1 bytes maxL mi ci fis := by
  obtain ⟨m, k, cf, i0, p0, l, h1, h2, h3, h4, h5, h6, h7, h8, h9, h10⟩ := h
  exact lam_facts h2 h6 h10 (by rw [h8]; exact hlo)
/-- a site's descriptor -/
theorem lam_no {sh : Lambda.Shape} {P : Prop} (h : (none : Option Lambda.Shape) = some sh) : P := by cases h
theorem lam_arr {arr : Array Nat} {T : Nat → Nat → Nat → Option Lambda.Shape} {y : Lambda.Shape} {P : Prop} (h : Lambda.shapeOf?.match_15 (fun _ => Option Lambda.Shape) arr (fun a0 a1 a2 => T a0 a1 a2) (fun _ => none) = some y) (k : ∀ a0 a1 a2, T a0 a1 a2 = some y → P) : P := by
  rcases arr with ⟨l⟩
  rcases l with _ | ⟨a0, _ | ⟨a1, _ | ⟨a2, _ | ⟨a3, l⟩⟩⟩⟩
  · exact lam_no h
  · exact lam_no h
  · exact lam_no h
  · exact k a0 a1 a2 h
  · exact lam_no h
theorem lam_site {cf : ClassFile} {index : Nat} {sh : Lambda.Shape} (h : Lambda.shapeOf? cf index = some sh) : ∃ b nt name desc sig, cf.constantPool[index]? = some (.invokeDynamic b nt) ∧ cf.constantPool.nameAndType? nt = some (name, desc) ∧ parseMethodDescriptor desc = some sig ∧ sig.parameters = sh.captured := by
  unfold Lambda.shapeOf? at h
  rcases hc : cf.constantPool[index]? with _ | x
  · rw [hc] at h
    exact lam_no h
  cases x <;> try (rw [hc] at h; exact lam_no h)
  next b nt =>
    rw [hc] at h
    obtain ⟨entries, he, h⟩ := Option.bind_eq_some_iff.mp (show Option.bind _ _ = some sh from h)
    obtain ⟨bm, hbm, h⟩ := Option.bind_eq_some_iff.mp (show Option.bind _ _ = some sh from h)
    rcases hx : cf.constantPool[bm.bootstrapMethodRef]? with _ | x
    · rw [hx] at h
      exact lam_no h
    cases x <;> try (rw [hx] at h; exact lam_no h)
    next kk r =>
      rw [hx] at h
      rcases kk with _ | _ | _ | _ | _ | _ | _ | kk <;> try (exact lam_no h)
      obtain ⟨-, -, h⟩ := Option.bind_eq_some_iff.mp (show Option.bind _ _ = some sh from h)
      refine lam_arr h (fun a0 a1 a2 h => ?_)
      rcases h0 : cf.constantPool[a0]? with _ | x0
      · rw [h0] at h
        exact lam_no h
      cases x0 <;> try (rw [h0] at h; exact lam_no h)
      rw [h0] at h
      rcases h1 : cf.constantPool[a1]? with _ | x1
      · rw [h1] at h
        exact lam_no h
      cases x1 <;> try (rw [h1] at h; exact lam_no h)
      rw [h1] at h
      rcases h2 : cf.constantPool[a2]? with _ | x2
      · rw [h2] at h
        exact lam_no h
      cases x2 <;> try (rw [h2] at h; exact lam_no h)
      rw [h2] at h
      obtain ⟨⟨name, desc⟩, hnt, h⟩ := Option.bind_eq_some_iff.mp (show Option.bind _ _ = some sh from h)
      obtain ⟨site, hsite, h⟩ := Option.bind_eq_some_iff.mp (show Option.bind _ _ = some sh from h)
      refine ⟨b, nt, name, desc, site, rfl, hnt, hsite, ?_⟩
      obtain ⟨sp, sr⟩ := site
      rcases sr with _ | sr
      · exact lam_no h
      cases sr <;> try (exact lam_no h)
      obtain ⟨⟨q1, q2, q3, q4⟩, -, h⟩ := Option.bind_eq_some_iff.mp (show Option.bind _ _ = some sh from h)
      obtain ⟨q5, -, h⟩ := Option.bind_eq_some_iff.mp (show Option.bind _ _ = some sh from h)
      obtain ⟨q6, -, h⟩ := Option.bind_eq_some_iff.mp (show Option.bind _ _ = some sh from h)
      obtain ⟨q7, -, h⟩ := Option.bind_eq_some_iff.mp (show Option.bind _ _ = some sh from h)
      obtain ⟨q8, -, h⟩ := Option.bind_eq_some_iff.mp (show Option.bind _ _ = some sh from h)
      obtain ⟨q9, -, h⟩ := Option.bind_eq_some_iff.mp (show Option.bind _ _ = some sh from h)
      cases h
      rfl
def fitsL : List FieldType → List Value → Prop
  | [], [] => True
  | t :: ts, v :: vs => (fits t v = true ∧ narrow t v = v) ∧ fitsL ts vs
  | _, _ => False
theorem fitsL_len : ∀ {ts : List FieldType} {vs : List Value}, fitsL ts vs → vs.length = ts.length
  | [], [], _ => rfl
  | _ :: _, _ :: _, h => by simp [fitsL_len h.2]
  | [], _ :: _, h => h.elim
  | _ :: _, [], h => h.elim
theorem fitsL_nar : ∀ {ts : List FieldType} {vs : List Value}, fitsL ts vs → (ts.zip vs).map (fun (t, v) => narrow t v) = vs
  | [], [], _ => rfl
  | t :: ts, v :: vs, h => by
    have := fitsL_nar h.2
    simp only [List.zip_cons_cons, List.map_cons, h.1.2, this]
  | [], _ :: _, h => h.elim
  | _ :: _, [], h => h.elim
theorem fitsL_at : ∀ {ts : List FieldType} {vs : List Value}, fitsL ts vs → ∀ (i : Nat) (v : Value), vs[i]? = some v → ∃ t, ts[i]? = some t ∧ fits t v = true
  | [], [], _, i, v, h => by simp at h
  | t :: ts, w :: vs, h, 0, v, hv => by
    simp at hv
    exact ⟨t, rfl, by rw [← hv]; exact h.1.1⟩
  | t :: ts, w :: vs, h, i + 1, v, hv => by
    obtain ⟨t', h1, h2⟩ := fitsL_at h.2 i v (by simpa using hv)
    exact ⟨t', by simpa using h1, h2⟩
  | [], _ :: _, h, _, _, _ => h.elim
  | _ :: _, [], h, _, _, _ => h.elim
/-- captured values -/
def gL {β : Type} (σ : cS) (a c : Nat) (K : List Value → Option β) : Option β := match σ.1 a with
  | some (.inr o) => if o.1 = c then K o.2 else none
  | _ => none
def kI {β : Type} (fs : List Value) (k : Nat) (K : Int32 → Option β) : Option β := match fs[k]? with
  | some v => asI v K
  | none => none
def kR {β : Type} (fs : List Value) (k : Nat) (K : Option Nat → Option β) : Option β := match fs[k]? with
  | some v => asR v K
  | none => none
/-- a boolean that is 0 or 1; a method that may throw, and does not -/
def gz (f : Option (Int32 × cS)) : Option (Int32 × cS) := match f with
  | some (v, σ) => if v = 0 ∨ v = 1 then some (v, σ) else none
  | none => none
def unx {α : Type} (f : Option (cX α × cS)) : Option (α × cS) := match f with
  | some (.inl v, σ) => some (v, σ)
  | _ => none
theorem gL_s {β : Type} {σ : cS} {a c : Nat} {K : List Value → Option β} {z : β} (h : gL σ a c K = some z) : ∃ fs, σ.1 a = some (.inr (c, fs)) ∧ K fs = some z := by
  unfold gL at h
  split at h
  · next o ho =>
    split at h
    · next hc => exact ⟨o.2, by rw [ho, ← hc], h⟩
    · cases h
  · cases h
theorem kI_s {β : Type} {fs : List Value} {k : Nat} {K : Int32 → Option β} {z : β} (h : kI fs k K = some z) : ∃ x, fs[k]? = some (.int x) ∧ K x = some z := by
  unfold kI at h
  split at h
  · next v hv => cases v <;> first | exact ⟨_, hv, h⟩ | cases h
  · cases h
theorem kR_s {β : Type} {fs : List Value} {k : Nat} {K : Option Nat → Option β} {z : β} (h : kR fs k K = some z) : ∃ x, fs[k]? = some (va_rf x) ∧ K x = some z := by
  unfold kR at h
  split at h
  · next v hv => cases v <;> first | exact ⟨none, hv, h⟩ | exact ⟨some _, hv, h⟩ | cases h
  · cases h
theorem gz_s {f : Option (Int32 × cS)} {v : Int32} {σ : cS} (h : gz f = some (v, σ)) : (v = 0 ∨ v = 1) ∧ f = some (v, σ) := by
  unfold gz at h
  split at h
  · split at h
    · cases h; exact ⟨by assumption, rfl⟩
    · cases h
  · cases h
theorem unx_s {α : Type} {f : Option (cX α × cS)} {v : α} {σ : cS} (h : unx f = some (v, σ)) : f = some (.inl v, σ) := by
  unfold unx at h
  split at h
  · cases h; rfl
  · cases h
theorem arr_at {fs : List Value} {k : Nat} {v : Value} (h : fs[k]? = some v) : fs.toArray[k]? = some v := by simpa using h
section CW5
variable {p : Program} {l : Launch} {e : Env} {R : Room} {s : State} {m : MethodId} {args : Array Value} {below : List Frame} {meth : Method} {c : Code} {H : Heap} {locs : List Loc} {cells slots : Nat} {Q : State → Prop}
variable {cc : ByteArray} {pc : Nat} {ls : Array Slot} {rest : List Value} {g : cG} {A : Nat → Prop} {nL : Nat} {ret : Option FieldType} {own : String} {σ : cS} {F_ L_ : Nat}
/-- 'invokedynamic', nothing captured -/
theorem cw_lamK {q : cLt} (n : Nat) (C : CX p m meth c s args cc nL ret own) (hw : WKc g A s s.heap) (hR : RM g s R F_ L_) (hI : CI g A s σ H locs) (hnm : s.methodNamed? q.1 = some m) (hq : cLam[n]? = some q) (hcap : q.2.2.2.1.captured = []) (hpc : q.2.1 = pc) (h2 : 2 ≤ q.2.2.2.2) (hn : ls.size = nL) (hL : 3080 ≤ L_) (hrest : rest.length ≤ 4) (hdg : decode cc pc = .ok (.invokedynamic q.2.2.1, 5))
    (kk : W p l e R s m args below meth c H locs cells slots Q (F0 m (pc + 5) ls (.ref (σ.2 q.2.2.2.2) :: rest))) : W p l e R s m args below meth c H locs cells slots Q (F0 m pc ls rest) := by
  obtain ⟨m', k, cf, i0, p0, lk, h1, h2', h3, h4, h5, h6, h7, h8, h9, h10⟩ := hw.2.2.2.2.2.2.2.2.2.2.2.2.2.2.2.1.2.2.1 n q hq
  cases hnm.symm.trans h1
  rcases h9 with ⟨-, rfl⟩ | ⟨-, h⟩
  · intro T hT X
    obtain ⟨t, a1, b1⟩ := kk T hT X
    have hrm := room_of hrest
    have hl4 := hR.lo
    refine ⟨t, X.lambdaConstant C.x (g := F0 m pc ls rest) rfl (hn.trans C.n.symm) (by rw [C.b]; exact hdg) h2' (by rw [hpc] at h5; exact h5) (by rw [X.admits.platform]; show 2 * 0 + _ + 3072 ≤ R.locals; have : (List.map (fun v => v.category) (F0 m pc ls rest).stack).sum ≤ 8 := hrm; omega) ?_, b1⟩
    rw [← hI.1.2.2.2.1 _ h2]
    exact a1
  · exact absurd hcap h
/-- 'invokedynamic' that captures: a new object -/
theorem cw_lamM {β : Type} {K : Nat → cS → Option β} {z : β} {q : cLt} {bytesF : ByteArray} {maxF mi ci nt cs : Nat} {fis : List (Nat × Nat)} {st : List Value} (n : Nat) (vals : List Value) (C : CX p m meth c s args cc nL ret own) (hw : WKc g A s s.heap) (hR : RM g s R F_ L_) (hI : CI g A s σ H locs) (hnm : s.methodNamed? q.1 = some m) (hq : cLam[n]? = some q) (hlo : lamOk q.2.2.2.1 q.1.cls bytesF maxF mi ci nt cs fis = true) (h : nO σ (60 + n) vals.length vals K = some z) (hcap : q.2.2.2.1.captured ≠ []) (hfit : fitsL q.2.2.2.1.captured vals) (hpc : q.2.1 = pc) (hn : ls.size = nL) (hL : 3080 ≤ L_) (hst : st = vals.reverse ++ rest) (hlen : st.length ≤ 4) (hdg : decode cc pc = .ok (.invokedynamic q.2.2.1, 5))
    (kk : ∀ (q0 : Nat) (σ1 : cS) (H : Heap) (locs : List Loc), K q0 σ1 = some z → CI g A s σ1 H locs → W p l e R s m args below meth c H locs (H.size - s.heap.size) (hsl H - hsl s.heap) Q (F0 m (pc + 5) ls (.ref q0 :: rest))) : W p l e R s m args below meth c H locs (H.size - s.heap.size) (hsl H - hsl s.heap) Q (F0 m pc ls st) := by
  have hV := hw.2.2.2.2.2.2.2.2.2.2.2.2.2.2.2.1.2.2.1 n q hq
  obtain ⟨kK, tk, file, methk, ck, toy, t, nt', f1, f2, f3, f4, f5, f6, f7, f8, f9, f10, f11, f12, f13, f14, f15, f16, f17, f18, f19, f20, f21⟩ := hV.facts hlo
  obtain ⟨m', k, cf, i0, p0, lk, h1, h2', h3, h4, h5, h6, h7, h8, h9, h10⟩ := hV
  cases hnm.symm.trans h1
  rcases h9 with ⟨h, -⟩ | ⟨rfl, -⟩
  · exact absurd h hcap
  obtain ⟨bsm, nt9, name, desc, sig, e1, e2, e3, e4⟩ := lam_site h4
  obtain ⟨hb, hk⟩ := nO_s h
  obtain ⟨hP, hS, hsl1⟩ := hI
  obtain ⟨p0', p1, p2, p3, -⟩ := id hP
  have b3 := p3 3 (by decide)
  have b4 := p3 4 (by decide)
  have s1 := hS.1
  obtain ⟨-, r1, r2⟩ := id hR
  have hl4 := hR.lo
  have hrm := room_of hlen
  have hval : ((kK.instanceTypes.toList.zip vals).map fun (t, v) => narrow t v) = vals := by rw [f17]; exact fitsL_nar hfit
  have hcell : cCell g (σ.2 0) (.inr (60 + n, vals)) (H.push { cls := g.2.2.2 n, slots := vals.toArray, vm := .none }) := by
    unfold cCell
    dsimp only
    rw [if_neg (by omega), if_neg (by omega), ← p0', Array.getElem?_push_size, Nat.add_sub_cancel_left]
  have hnew : CI g A s (cN σ (.inr (60 + n, vals)) vals.length) (H.push { cls := g.2.2.2 n, slots := vals.toArray, vm := .none }) locs := by
    refine ⟨hP.new (by simp) hb hcell, ⟨by simp; omega, fun q h1 h2 => ?_, hS.2.2⟩, by rw [hsl_push]; omega⟩
    rw [Array.getElem?_push, if_neg (by omega)]
    exact hS.2.1 q h1 h2
  intro T hT X
  obtain ⟨X₁, st1⟩ := X.lambdaMakes C.x (g := F0 m pc ls st) rfl (hn.trans C.n.symm) (by rw [C.b]; exact hdg) (vals := vals) (rest := rest) h2' (by rw [hpc] at h5; exact h5) h3 e1 e2 (parseLong_of_parse e3) (by rw [e4]; exact fitsL_len hfit) hst f1
    (by rw [X.admits.platform]; show 2 * 0 + _ + 3072 ≤ R.locals; have : (List.map (fun v => v.category) (F0 m pc ls st).stack).sum ≤ 8 := hrm; omega) (by omega) (by rw [hval]; omega)
    (fun i v hv => by
      rw [hval] at hv
      obtain ⟨t, h1, h2⟩ := fitsL_at hfit i v (by simpa using hv)
      simp [State.fitsSlot, State.slotType?, f1, f18, f17, h1, h2])
  rw [hval] at X₁ st1
  have := kk _ _ _ _ hk hnew
  rw [hsl_push, Array.size_push] at this
  have e5 : H.size + 1 - s.heap.size = H.size - s.heap.size + 1 := by omega
  have e6 : hsl H + vals.toArray.size - hsl s.heap = hsl H - hsl s.heap + vals.toArray.size := by omega
  dsimp only at this
  rw [e5, e6] at this
  obtain ⟨t, a1, b1⟩ := this _ (by show T.heap.push _ = _; rw [hT]) X₁
  refine ⟨t, st1 _ ?_, b1⟩
  rw [hT, p0']
  exact a1
/-- a captured value is read in the forwarder -/
theorem cw_lget {R' : Room} {s' : State} {a' : Array Value} {below' : List Frame} {methk : Method} {ck : Code} {bytesF : ByteArray} {Q' : State → Prop} {pcF fi i a : Nat} {cK : ClassId} {lsF : Array Slot} {restF : List Value} {v : Value} {cellF : Cell} (hexec : p.tables.exec = Jvm.exec) (hb : ck.code = bytesF) (hf : ∀ U : State, s'.WarmedH U.vm → ∃ f : Field, U.vm.fieldReady cK fi cK f ∧ f.isStatic = false ∧ f.slot = i) (hc : H[a]? = some cellF) (hv : cellF.vm ≠ .unknown) (hs : cellF.slots[i]? = some v) (hdg : decode bytesF pcF = .ok (.getfield fi, 3))
    (kk : W p l e R' s' ⟨cK, 1⟩ a' below' methk ck H [] 0 0 Q' (F0 ⟨cK, 1⟩ (pcF + 3) lsF (v :: restF))) : W p l e R' s' ⟨cK, 1⟩ a' below' methk ck H [] 0 0 Q' (F0 ⟨cK, 1⟩ pcF lsF (.ref a :: restF)) := by
  intro T hT X
  obtain ⟨f, f1, f2, f3⟩ := hf T X.warmed
  obtain ⟨t, a1, b1⟩ := kk T hT X
  refine ⟨t, ?_, b1⟩
  have hd : decode ck.code pcF = .ok (.getfield fi, 3) := by rw [hb]; exact hdg
  jvm_step X.here [hexec, hd, getfield.wp_ready (e := e) (s := T) (c := cK) (field := f) (a := a) (rest := restF) (cell := cellF) (v := v) (f := F0 ⟨cK, 1⟩ pcF lsF (.ref a :: restF)) X.here.top f1 f2 rfl (by rw [hT]; exact hc) hv (by rw [f3]; exact hs)]
  exact a1
theorem lam_cell {n a : Nat} {vals : List Value} (hI : CI g A s σ H locs) (ha : σ.1 a = some (.inr (60 + n, vals))) : H[a]? = some ({ cls := g.2.2.2 n, slots := vals.toArray, vm := .none } : Cell) := by
  have h := hI.1.2.2.2.2.1 a _ ha
  unfold cCell at h
  dsimp only at h
  rw [if_neg (by omega), if_neg (by omega), Nat.add_sub_cancel_left] at h
  exact h
/-- how the forwarder ends -/
def lamRet (rv : Option Value) (rt : Option FieldType) (bytes : ByteArray) (pc : Nat) : Prop := (rv = none ∧ rt = none ∧ decode bytes pc = .ok (.return_, 1)) ∨ ∃ (w : Int32) (t : FieldType), rv = some (.int w) ∧ rt = some t ∧ narrow t (.int w) = .int w ∧ (t = .int ∨ t = .boolean ∨ t = .byte ∨ t = .char ∨ t = .short) ∧ decode bytes pc = .ok (.ireturn, 1)
/-- the forwarder loads what its target is handed -/
def lamLd (p : Program) (l : Launch) (e : Env) (H : Heap) (cK : ClassId) (fis : List (Nat × Nat)) (bytesF : ByteArray) (maxF pI : Nat) (a0 as : List Value) : Prop :=
  ∀ (R' : Room) (s' : State) (a' : Array Value) (below' : List Frame) (methk : Method) (ck : Code) (Q' : State → Prop) (ls' : Array Slot), ck.code = bytesF → (∀ i f, fis[i]? = some f → ∀ U : State, s'.WarmedH U.vm → ∃ fd : Field, U.vm.fieldReady cK f.1 cK fd ∧ fd.isStatic = false ∧ fd.slot = i) → lv_has ls' maxF (lv_args 0 a0) →
    W p l e R' s' ⟨cK, 1⟩ a' below' methk ck H [] 0 0 Q' (F0 ⟨cK, 1⟩ pI ls' as.reverse) → W p l e R' s' ⟨cK, 1⟩ a' below' methk ck H [] 0 0 Q' (F0 ⟨cK, 1⟩ 0 ls' [])
/-- the target of a forwarder, at its call -/
def lamTgt (l : Launch) (p : Program) (e : Env) (y : MethodName) (H : Heap) (as : List Value) (s0 : State) (cK : ClassId) (mi : Nat) (bytesF : ByteArray) (pI : Nat) (ΦQ : Option Value → State → List Loc → Nat → Nat → Prop) : Prop :=
  ∀ (R' : Room) (s' : State) (a' : Array Value) (below' : List Frame) (methk : Method) (ck : Code) (T1 : State) (ls' : Array Slot) (Pre : Pt → Array Value → Prop) (Post : Pt → Array Value → Option Value → Pt → Prop), s0.WarmedH T1.vm → T1.heap = H → l.admits e → p.tables.exec = Jvm.exec → ck.code = bytesF → ls'.size = ck.maxLocals →
    Stand p l e R' s' ⟨cK, 1⟩ a' below' methk ck T1 [] 0 0 → Back l R' p e below' s' a' y 3 8 Pre Post → Pre ⟨T1, [], 0, 0⟩ as.toArray →
    ∃ (v : Option Value) (B : Pt), Stand p l e R' s' ⟨cK, 1⟩ a' below' methk ck B.U B.locs B.cells B.slots ∧ Post ⟨T1, [], 0, 0⟩ as.toArray v B ∧ Steps p.tables e below' (T1.setTop (F0 ⟨cK, 1⟩ pI ls' as.reverse)) (B.U.setTop (F0 ⟨cK, 1⟩ (pI + 3) ls' v.toList))
theorem cw_lamC {q : cLt} {n a count index maxLY maxF mi ci nt cs pI : Nat} {as As vals : List Value} {x y : MethodName} {bytesF bytesY : ByteArray} {fis : List (Nat × Nat)} {retY : Option FieldType} {ws ws' : List Cond} {rm : Room} {rv : Option Value} {σ1 : cS} {st : List Value}
    (C : CX p m meth c s args cc nL ret own) (hw : WKc g A s s.heap) (hR : RM g s R F_ L_) (hI : CI g A s σ H locs) (hn : ls.size = nL) (hq : cLam[n]? = some q) (hlo : lamOk q.2.2.2.1 q.1.cls bytesF maxF mi ci nt cs fis = true) (ha : σ.1 a = some (.inr (60 + n, vals)))
    (hxe : x = ⟨q.2.2.2.1.iface, q.2.2.2.1.name, q.2.2.2.1.sam.toString⟩) (hxf : x ∈ cFi) (hlink : (Cond.methodLink own index x).before args s = true)
    (hM : Met l y ws rm (CPc g A as σ) (CQ g A rv σ1) (σ.2 3 - σ.2 0) (σ.2 4 - σ.2 1) A) (hG : GoodIn lw_all ws) (hws : ws = Cond.code y bytesY maxLY retY :: ws') (hrc : rm.cells = σ.2 3 - σ.2 0) (hrs : rm.slots = σ.2 4 - σ.2 1) (hini : Cond.initialized y.cls ∈ lw_all)
    (hfr : rm.frames + 2 ≤ F_) (hlr : 8 + (maxF + 11) + (8 + (maxLY + 11) + rm.locals) ≤ L_)
    (hld : lamLd p l e H (g.2.2.2 n) fis bytesF maxF pI (.ref a :: As) as) (hT : lamTgt l p e y H as s (g.2.2.2 n) mi bytesF pI (fun _ _ _ _ _ => True)) (hrt : lamRet rv q.2.2.2.1.sam.returnType bytesF (pI + 3))
    (hlg : (lg_sl (.ref a :: As)).length ≤ maxF) (hAs : (parseMethodDescriptor x.desc).map (fun d => d.parameters.length) = some As.length) (hst : st = As.reverse ++ .ref a :: rest) (hrest : rest.length ≤ 4) (hdg : decode cc pc = .ok (.invokeinterface index count, 5)) :
    va_Run5 p l e R s m args below meth c H locs (H.size - s.heap.size) (hsl H - hsl s.heap) (σ.2 3 - σ.2 0) (σ.2 4 - σ.2 1) (F0 m pc ls st) rest (CQ g A rv σ1 (Value.ref a :: As).toArray) A := by
  have hwx := hw.2.2.2.2.2.2.2.2.2.2.2.2.2.2.2.1
  have hV := hwx.2.2.1 n q hq
  have hfi := hwx.2.2.2 x hxf
  have hx := cFi_ok x hxf
  have hcell := lam_cell hI ha
  obtain ⟨kK, tk, file, methk, ck, toy, tt, nt', f1, f2, f3, f4, f5, f6, f7, f8, f9, f10, -⟩ := hV.facts hlo
  obtain ⟨m', k, cf, i0, p0, lk, h1, h2', h3, h4, h5, hmade, hcan, h8, h9, h10⟩ := id hV
  obtain ⟨r0, r, hn0, hrm, hstR, hsigR⟩ := Cond.declares_spec hfi.1
  obtain ⟨cL, kL, r1, hcL, hkL, hiL, hfoundL, hn1⟩ := Cond.interfaceMethod_spec hfi.2
  cases hn0.symm.trans hn1
  have hr0cls : r0.cls = cL := Option.some.inj ((findClass_of_methodNamed hn0).symm.trans hcL)
  obtain ⟨hnameR, hdescR⟩ := name_of_methodNamed hn0 hrm
  obtain ⟨-, -, -, -, -, -, -, iface', -, -, -, -, found, -, -, -, -, -, hi', -, -, -, -, -, -, hfound', -, -, -, -, -, -, -, -, -, -, hsel⟩ := Lambda.isMade_spec hmade
  have hcL' : s.vm.findClass q.2.2.2.1.iface = some cL := by rw [hxe] at hcL; exact hcL
  cases hcL'.symm.trans hi'
  have hfr0 : found = r0 := by
    have e1 : s.methodFound? x.cls x.name x.desc = some r0 := hfoundL
    simp only [State.methodFound?, hcL, hkL, hiL, Option.bind_eq_bind, Option.bind_some] at e1
    rw [hxe] at e1
    dsimp only at e1
    rw [hfound'] at e1
    exact Option.some.inj e1
  subst hfr0
  obtain ⟨i2, hi2, hasg, hway⟩ := State.lambdaCallable_spec hcan
  cases hcL'.symm.trans hi2
  intro T hT0 X
  have hselP : selectMethod e.platform s.vm (g.2.2.2 n) found = .method ⟨g.2.2.2 n, 1⟩ := by rw [Launch.admits_selectMethod X.admits]; exact hsel
  have hlenR : As.length = r.sig.parameters.length := by
    obtain ⟨d, hd, hd2⟩ := Option.map_eq_some_iff.mp hAs
    rw [← hd2]
    exact congrArg (fun z => z.parameters.length) (Option.some.inj (hd.symm.trans hsigR))
  have hdg' : decode c.code pc = .ok (.invokeinterface index count, 5) := by rw [C.b]; exact hdg
  obtain ⟨vm₁, X₁, hstep₁⟩ := X.invokeinterface C.x C.o hlink hn0 hrm hstR (by rw [hr0cls]; exact hkL) hiL hx (a := a) (cell := { cls := g.2.2.2 n, slots := vals.toArray, vm := .none }) (kcell := kK) (by rw [hT0]; exact hcell)
    (fun z h => nomatch h) f1 (by rw [hr0cls]; exact hasg) hselP f4 (by rw [hnameR, hdescR, hxe]; exact hway) (by rw [f9]; decide) (by simp [Method.isAbstract, f9, hasFlag, Acc.abstract]) (g := F0 m pc ls st) rfl (argsL := As) (rest := rest) hlenR hst hdg'
  have hW1 : s.WarmedH vm₁ := X₁.warmed
  obtain ⟨kK1, tk1, file1, methk1, ck1, toy1, tt1, nt1, v1, v2, v3, v4, v5, v6, v7, v8, v9, v10, -⟩ := (hV.warm (U := T.setVm vm₁) hW1).facts hlo
  have hrm4 := room_of hrest
  have hF4 := hR.f
  have hL4 := hR.lo
  have hcall := hR.call hI
  obtain ⟨Y₀, hin⟩ := X₁.into (g := F0 m pc ls rest) rfl (hn.trans C.n.symm) hdg' (Value.ref a :: As).toArray (R' := { frames := rm.frames + 1, locals := 8 + (maxLY + 11) + rm.locals, cells := σ.2 3 - σ.2 0, slots := σ.2 4 - σ.2 1 }) v4 v5 v8 (fun k9 hk9 => by cases v1.symm.trans hk9; exact plain_of_name v2) (by show rm.frames + 1 + 1 ≤ R.frames; omega)
    (by show 2 * 0 + (rest.map fun v => v.category).sum + (ck1.maxLocals + 11) + (8 + (maxLY + 11) + rm.locals) ≤ R.locals; rw [v7]; omega) hcall.1 hcall.2
  have hheap : (((T.setVm vm₁).setTop (F0 m pc ls rest)).pushFrame (.java (entryFrame ⟨g.2.2.2 n, 1⟩ (Value.ref a :: As).toArray ck1.maxLocals))).heap = H := hT0
  generalize hU₀ : ((T.setVm vm₁).setTop (F0 m pc ls rest)).pushFrame (.java (entryFrame ⟨g.2.2.2 n, 1⟩ (Value.ref a :: As).toArray ck1.maxLocals)) = U₀ at Y₀ hin hheap
  rw [lg_entry_eq, v7] at hin
  have hl := lv_entry (.ref a :: As) (n := maxF) hlg
  generalize (lg_sl (Value.ref a :: As) ++ List.replicate (maxF - (lg_sl (Value.ref a :: As)).length) Slot.unset).toArray = ls' at hl hin
  generalize hs' : (T.setVm vm₁).calling (F0 m pc ls rest) ⟨g.2.2.2 n, 1⟩ (Value.ref a :: As).toArray = s' at Y₀
  have hsv : s'.vm = vm₁ := by rw [← hs']; rfl
  have hW9 : s.WarmedH s'.vm := by rw [hsv]; exact hW1
  have hcw : Cond.code y bytesY maxLY retY ∈ ws := by rw [hws]; exact List.mem_cons_self
  have hK : Back l { frames := rm.frames + 1, locals := 8 + (maxLY + 11) + rm.locals, cells := σ.2 3 - σ.2 0, slots := σ.2 4 - σ.2 1 } p e (.java (F0 m pc ls rest) :: below) s' (Value.ref a :: As).toArray y 3 8 (PreOf { frames := rm.frames + 1, locals := 8 + (maxLY + 11) + rm.locals, cells := σ.2 3 - σ.2 0, slots := σ.2 4 - σ.2 1 } (σ.2 3 - σ.2 0) (σ.2 4 - σ.2 1) (CPc g A as σ)) (PostOf (CQ g A rv σ1) (σ.2 3 - σ.2 0) (σ.2 4 - σ.2 1) A) :=
    back_of (bytes := bytesY) (maxL := maxLY) (ret := retY) hM CPc.blind hrc hrs (Nat.le_refl _) (Nat.le_refl _) (fun w hw1 a' U hU => pay_in C.t hG w hw1 a' U (State.WarmedH.trans hW9 hU)) hcw (fun a' U hU => word_at (State.WarmedH.trans hW9 hU) (Or.inl (by first | rfl | simp [Cond.onTables, Cond.keeps, Cond.steady])) (C.t _ hini))
  have kI := hld { frames := rm.frames + 1, locals := 8 + (maxLY + 11) + rm.locals, cells := σ.2 3 - σ.2 0, slots := σ.2 4 - σ.2 1 } s' (Value.ref a :: As).toArray (.java (F0 m pc ls rest) :: below) methk1 ck1
    (fun t => ∃ (v : Option Value) (B : Pt), Stand p l e { frames := rm.frames + 1, locals := 8 + (maxLY + 11) + rm.locals, cells := σ.2 3 - σ.2 0, slots := σ.2 4 - σ.2 1 } s' ⟨g.2.2.2 n, 1⟩ (Value.ref a :: As).toArray (.java (F0 m pc ls rest) :: below) methk1 ck1 B.U B.locs B.cells B.slots ∧ t = B.U.setTop (F0 ⟨g.2.2.2 n, 1⟩ (pI + 3) ls' v.toList) ∧ v = rv ∧ (∀ q ∈ B.locs, A q.base) ∧ B.cells = σ.2 3 - σ.2 0 ∧ B.slots = σ.2 4 - σ.2 1 ∧ HP g A σ1 B.U.heap ∧ H.size ≤ B.U.heap.size ∧ (∀ q : Nat, q < H.size → ¬ A q → B.U.heap[q]? = H[q]?) ∧ hsl H ≤ hsl B.U.heap)
    ls' v6 (fun i f hf U hU => by
      obtain ⟨_, _, _, _, _, _, _, _, -, -, -, -, -, -, -, -, -, -, -, -, -, -, -, g16, -⟩ := (hV.warm (U := U) (State.WarmedH.trans hW9 hU)).facts hlo
      exact g16 i f hf) hl (fun T1 hT1 Y1 => by
      have hWT : s.WarmedH T1.vm := State.WarmedH.trans hW9 Y1.warmed
      obtain ⟨v, B, Y2, ⟨g', mk, t, L, e1, e2, ⟨ev, eP, ⟨ez, ek⟩, es⟩, e4, e5, e6, e7⟩, kE⟩ := hT _ s' _ _ methk1 ck1 T1 ls' _ _ hWT hT1 X.admits C.x v6 (hl.1.trans v7.symm) Y1 hK
        ⟨by show 0 + (σ.2 3 - σ.2 0) ≤ σ.2 3 - σ.2 0; omega, by show 0 + (σ.2 4 - σ.2 1) ≤ σ.2 4 - σ.2 1; omega, rfl, by show WKc g A T1 T1.heap; rw [hT1]; exact hw.at hI.2.1 hWT, by show HP g A σ T1.heap; rw [hT1]; exact hI.1⟩
      have hst1 : (T1.calling g' mk as.toArray).heap = H := by rw [← hT1]; rfl
      cases ev
      refine ⟨_, kE, _, B, Y2, rfl, rfl, fun q hq => ?_, ?_, ?_, by rw [e1]; exact eP, ?_, ?_, ?_⟩
      · rw [e4] at hq
        exact e5 q ((List.mem_append.mp hq).elim (fun h => nomatch h) id)
      · rw [e6]; show 0 + _ = _; omega
      · rw [e7]; show 0 + _ = _; omega
      · rw [e1, ← hst1]; exact ez
      · intro q h1 h2
        rw [e1, ek q (by show q < (T1.calling g' mk as.toArray).heap.size; rw [hst1]; exact h1) h2]
        show (T1.calling g' mk as.toArray).heap[q]? = _
        rw [hst1]
      · rw [e1, ← hst1]; exact es)
  obtain ⟨t, a1, v, ⟨U₁, L₁, c₁, n₁⟩, Y2, rfl, rfl, hΦL, hΦc, hΦn, hΦP, hΦz, hΦk, hΦs⟩ := kI U₀ hheap Y₀
  have hm9 := Y2.method'
  obtain ⟨fs, hleave, -, hended, hWe, hsame⟩ := Y2.leave (v := v) (fun h => by
    rcases hrt with ⟨q1, q2, q3⟩ | ⟨w, t, q1, q2, q3, q4, q5⟩
    · exact q1
    · rw [v10, q2] at h; cases h) v8
  have hend : Steps p.tables e (.java (F0 m pc ls rest) :: below) (U₁.setTop (F0 ⟨g.2.2.2 n, 1⟩ (pI + 3) ls' v.toList)) (U₁.setFrames fs) := by
    rcases hrt with ⟨q1, q2, q3⟩ | ⟨w, t, q1, q2, q3, q4, q5⟩
    · subst q1
      have hd : decode ck1.code (pI + 3) = .ok (.return_, 1) := by rw [v6]; exact q3
      have hr : methk1.sig.returnType = none := by rw [v10]; exact q2
      jvm_step Y2.here [Y2.here.top, C.x, hd, hm9, hr]
      first | (intro acts; rw [hleave _ acts rfl rfl rfl]) | rw [hleave _ _ rfl rfl rfl]
      exact Steps.refl _
    · subst q1
      have hd : decode ck1.code (pI + 3) = .ok (.ireturn, 1) := by rw [v6]; exact q5
      have hr : methk1.sig.returnType = some t := by rw [v10]; exact q2
      rcases q4 with rfl | rfl | rfl | rfl | rfl <;>
      · jvm_step Y2.here [Y2.here.top, C.x, hd, hm9, hr, q3]
        first | (intro acts; rw [hleave _ acts rfl rfl rfl]) | rw [hleave _ _ rfl rfl rfl]
        exact Steps.refl _
  subst hs'
  obtain ⟨T', X', hW', -, ht⟩ := X₁.outOf (g := F0 m pc ls rest) rfl hdg' hended hWe hsame
  have hh : T'.heap = U₁.heap := (congrArg State.heap ht).symm
  have hΦc' : c₁ = σ.2 3 - σ.2 0 := hΦc
  have hΦn' : n₁ = σ.2 4 - σ.2 1 := hΦn
  subst hΦc'
  subst hΦn'
  refine ⟨v, T, T', T', L₁, hT0, X', hΦL, rfl, rfl, ⟨rfl, by rw [hh]; exact hΦP, ⟨by rw [hh, hT0]; exact hΦz, fun q h1 h2 => by rw [hT0] at h1 ⊢; rw [hh]; exact hΦk q h1 h2⟩, by rw [hh, hT0]; exact hΦs⟩, fun target h => ?_⟩
  refine hstep₁ _ fun acts => ?_
  rw [doInvoke_state, hin []]
  refine Steps.trans (Steps.weaken (mid := [.java (F0 m pc ls rest)]) (a1.trans hend)) ?_
  rw [ht]
  exact h
/-- the target is static -/
theorem lamT_S {q : cLt} {n mi ci nt cs maxF pI maxLY : Nat} {bytesF bytesY : ByteArray} {fis : List (Nat × Nat)} {retY : Option FieldType} {y : MethodName} {as : List Value} {sig : MethodDescriptor} {ΦQ : Option Value → State → List Loc → Nat → Nat → Prop}
    (hts : ∀ w ∈ lw_all, w.before args s = true) (hV : LamV g s n q) (hlo : lamOk q.2.2.2.1 q.1.cls bytesF maxF mi ci nt cs fis = true) (hye : y = ⟨q.2.2.2.1.implClass, q.2.2.2.1.implName, q.2.2.2.1.implDesc.toString⟩) (hy : y.cls ≠ "java/lang/invoke/MethodHandle" ∧ y.cls ≠ "java/lang/invoke/VarHandle")
    (hcode : Cond.code y bytesY maxLY retY ∈ lw_all) (hst : Cond.static y ∈ lw_all) (hini : Cond.initialized y.cls ∈ lw_all) (hsig : (parseMethodDescriptor y.desc).map (fun d => d.parameters.length) = some as.length) (hdI : decode bytesF pI = .ok (.invokestatic mi, 3)) :
    lamTgt l p e y H as s (g.2.2.2 n) mi bytesF pI ΦQ := by
  intro R' s' a' below' methk ck T1 ls' Pre Post hWT hT1 hadm hexec hcb hsz Y1 hK hP
  obtain ⟨kK, tk, file, methk', ck', toy, tt, nt', f1, f2, f3, f4, f5, f6, f7, f8, f9, f10, f11, f12, f13, f14, f15, f16, f17, f18, f19, f20, f21⟩ := (hV.warm (U := T1) hWT).facts hlo
  obtain ⟨sg, hsg, hsl⟩ := Option.map_eq_some_iff.mp hsig
  have hwc : (Cond.code y bytesY maxLY retY).before #[] T1 = true := word_at hWT (Or.inl (by first | rfl | simp [Cond.onTables, Cond.keeps, Cond.steady])) (hts _ hcode)
  have hws : (Cond.static y).before #[] T1 = true := word_at hWT (Or.inl (by first | rfl | simp [Cond.onTables, Cond.keeps, Cond.steady])) (hts _ hst)
  have hwi : (Cond.initialized y.cls).before #[] T1 = true := word_at hWT (Or.inl (by first | rfl | simp [Cond.onTables, Cond.keeps, Cond.steady])) (hts _ hini)
  have hfc1 : T1.vm.findClass y.cls = some toy := by rw [hye]; exact f11
  obtain ⟨mB, hnB⟩ : ∃ mB, T1.methodNamed? y = some mB := by
    cases h : T1.methodNamed? y with
    | none => simp [Cond.before, Cond.holds, Cond.value, h] at hwc
    | some mB => exact ⟨mB, rfl⟩
  obtain ⟨methB, cB, hmB, -, -, -, -, -, -, hsigB⟩ := Cond.code_spec hnB hwc
  have hmk : tt = mB := by
    have e1 : T1.methodFound? y.cls y.name y.desc = some mB := State.methodFound?_of_named hnB hy
    simp only [State.methodFound?, hfc1, f12, Option.bind_eq_bind, Option.bind_some] at e1
    rw [hye] at e1
    dsimp only at e1
    rw [f13] at e1
    exact Option.some.inj e1
  subst hmk
  have hcls : tt.cls = toy := Option.some.inj ((findClass_of_methodNamed hnB).symm.trans hfc1)
  obtain ⟨kT, hkT, hnameT⟩ := className_of_methodNamed hnB
  have hkt : kT = tk := Option.some.inj (hkT.symm.trans (by rw [hcls]; exact f12))
  subst hkt
  have hsp : ∀ z : Method, signaturePolymorphic kT z = false := fun z => by simp [signaturePolymorphic, hnameT, hy.1, hy.2]
  obtain ⟨bb, hmem⟩ := memberRef_ask' (e := e) (vm := T1.vm) (d := g.2.2.2 n) (index := mi) f1 f3 (Or.inl f19) f20
  have href : plainRef T1 e (g.2.2.2 n) mi := ⟨ci, _, _, bb, toy, kT, hmem, f15, f12, by simp [hsp]⟩
  have hd : decode ck.code pI = .ok (.invokestatic mi, 3) := by rw [hcb]; exact hdI
  have hlen : as.length = methB.sig.parameters.length := by rw [← hsl]; exact congrArg (fun z => z.parameters.length) (Option.some.inj (hsg.symm.trans hsigB))
  obtain ⟨v, B, Y2, hpost, kE⟩ := hK ⟨g.2.2.2 n, 1⟩ methk ck ⟨T1, [], 0, 0⟩ (F0 ⟨g.2.2.2 n, 1⟩ pI ls' []) (.invokestatic mi) tt as.toArray Y1 rfl hsz hd (by show 2 * 0 + 0 ≤ 8; decide) hnB hP
  refine ⟨v, B, Y2, hpost, ?_⟩
  have kE' : Steps p.tables e below' (doInvoke e (T1.setTop (F0 ⟨g.2.2.2 n, 1⟩ pI ls' [])) [] tt as.toArray).1 (B.U.setTop (F0 ⟨g.2.2.2 n, 1⟩ (pI + 3) ls' v.toList)) := by
    have h9 : v.toList ++ ([] : List Value) = v.toList := List.append_nil _
    have h8 := kE
    dsimp only at h8
    rw [show (v.toList ++ (F0 ⟨g.2.2.2 n, 1⟩ pI ls' []).stack) = v.toList from h9] at h8
    exact h8
  jvm_step Y1.here [hexec, hd, invokestatic.wp_ready (e := e) (s := T1) (m := tt) (k := kT) (meth := methB) (args := as) (rest := []) (f := F0 ⟨g.2.2.2 n, 1⟩ pI ls' as.reverse) Y1.here.top href f14 hkT hmB (hsp _) (Cond.static_spec hnB hmB hws) (Cond.initialized_spec hfc1 f12 hwi) hlen (by show as.reverse = as.reverse ++ []; rw [List.append_nil])]
  intro acts
  rw [doInvoke_state]
  exact kE'
/-- the target is a method of the first captured value's -/
theorem lamT_V {q : cLt} {n mi ci nt cs maxF pI maxLY o cB : Nat} {bytesF bytesY : ByteArray} {fis : List (Nat × Nat)} {retY : Option FieldType} {y : MethodName} {as : List Value} {ΦQ : Option Value → State → List Loc → Nat → Nat → Prop} {cellO : Cell}
    (hts : ∀ w ∈ lw_all, w.before args s = true) (hV : LamV g s n q) (hlo : lamOk q.2.2.2.1 q.1.cls bytesF maxF mi ci nt cs fis = true) (hye : y = ⟨q.2.2.2.1.implClass, q.2.2.2.1.implName, q.2.2.2.1.implDesc.toString⟩) (hy : y.cls ≠ "java/lang/invoke/MethodHandle" ∧ y.cls ≠ "java/lang/invoke/VarHandle") (hitf : q.2.2.2.1.implItf = false)
    (hcode : Cond.code y bytesY maxLY retY ∈ lw_all) (hinst : Cond.instanceMethod y ∈ lw_all) (hse : Cond.selects y.cls y y ∈ lw_all) (hini : Cond.initialized y.cls ∈ lw_all) (hsig : (parseMethodDescriptor y.desc).map (fun d => d.parameters.length) = some as.length) (hdI : decode bytesF pI = .ok (.invokevirtual mi, 3))
    (hO : H[o]? = some cellO) (hOv : cellO.vm.isStatics = false) (hOc : s.vm.findClass y.cls = some cellO.cls) :
    lamTgt l p e y H (.ref o :: as) s (g.2.2.2 n) mi bytesF pI ΦQ := by
  intro R' s' a' below' methk ck T1 ls' Pre Post hWT hT1 hadm hexec hcb hsz Y1 hK hP
  obtain ⟨kK, tk, file, methk', ck', toy, tt, nt', f1, f2, f3, f4, f5, f6, f7, f8, f9, f10, f11, f12, f13, f14, f15, f16, f17, f18, f19, f20, f21⟩ := (hV.warm (U := T1) hWT).facts hlo
  obtain ⟨sg, hsg, hsl⟩ := Option.map_eq_some_iff.mp hsig
  have hwi : (Cond.instanceMethod y).before #[] T1 = true := word_at hWT (Or.inl (by first | rfl | simp [Cond.onTables, Cond.keeps, Cond.steady])) (hts _ hinst)
  obtain ⟨mk, methM, hnamed, hmethM, hst, hab⟩ := Cond.instanceMethod_spec hwi
  have hfc1 : T1.vm.findClass y.cls = some toy := by rw [hye]; exact f11
  have hmk : tt = mk := by
    have e1 : T1.methodFound? y.cls y.name y.desc = some mk := State.methodFound?_of_named hnamed hy
    simp only [State.methodFound?, hfc1, f12, Option.bind_eq_bind, Option.bind_some] at e1
    rw [hye] at e1
    dsimp only at e1
    rw [f13] at e1
    exact Option.some.inj e1
  subst hmk
  have hcO : toy = cellO.cls := by
    have : T1.vm.findClass y.cls = some cellO.cls := by rw [hWT.alike.findClass]; exact hOc
    exact Option.some.inj (hfc1.symm.trans this)
  have hwc : (Cond.code y bytesY maxLY retY).before #[] T1 = true := word_at hWT (Or.inl (by first | rfl | simp [Cond.onTables, Cond.keeps, Cond.steady])) (hts _ hcode)
  have hwse : (Cond.selects y.cls y y).before #[] T1 = true := word_at hWT (Or.inl (by first | rfl | simp [Cond.onTables, Cond.keeps, Cond.steady])) (hts _ hse)
  obtain ⟨methB, cB', hmB, -, -, -, -, -, -, hsigB⟩ := Cond.code_spec hnamed hwc
  cases hmB.symm.trans hmethM
  obtain ⟨c2, r2, m2, q1, q2, q3, q4, kP, hkP, hkPi⟩ := Cond.selects_spec hwse
  cases hfc1.symm.trans q1
  cases (State.methodFound?_of_named hnamed hy).symm.trans q2
  cases hnamed.symm.trans q3
  have hcls : tt.cls = toy := Option.some.inj ((findClass_of_methodNamed hnamed).symm.trans hfc1)
  obtain ⟨kT, hkT, hnameT⟩ := className_of_methodNamed hnamed
  have hsp : signaturePolymorphic kT methM = false := by simp [signaturePolymorphic, hnameT, hy.1, hy.2]
  have hnc : namesAClass T1 (g.2.2.2 n) mi := ⟨kK, file, ci, nt', toy, tk, f1, f3, f19, f15, f12, by rw [f21]; exact hitf⟩
  have hd : decode ck.code pI = .ok (.invokevirtual mi, 3) := by rw [hcb]; exact hdI
  have hlen : as.length = methM.sig.parameters.length := by rw [← hsl]; exact congrArg (fun z => z.parameters.length) (Option.some.inj (hsg.symm.trans hsigB))
  have hselP : selectMethod e.platform T1.vm cellO.cls tt = .method tt := by rw [Launch.admits_selectMethod hadm, ← hcO]; exact q4
  obtain ⟨v, B, Y2, hpost, kE⟩ := hK ⟨g.2.2.2 n, 1⟩ methk ck ⟨T1, [], 0, 0⟩ (F0 ⟨g.2.2.2 n, 1⟩ pI ls' []) (.invokevirtual mi) tt (Value.ref o :: as).toArray Y1 rfl hsz hd (by show 2 * 0 + 0 ≤ 8; decide) hnamed hP
  refine ⟨v, B, Y2, hpost, ?_⟩
  have kE' : Steps p.tables e below' (doInvoke e (T1.setTop (F0 ⟨g.2.2.2 n, 1⟩ pI ls' [])) [] tt (Value.ref o :: as).toArray).1 (B.U.setTop (F0 ⟨g.2.2.2 n, 1⟩ (pI + 3) ls' v.toList)) := by
    have h8 := kE
    dsimp only at h8
    rw [show (v.toList ++ (F0 ⟨g.2.2.2 n, 1⟩ pI ls' []).stack) = v.toList from List.append_nil _] at h8
    exact h8
  rw [show (Value.ref o :: as).reverse = as.reverse ++ [.ref o] from by simp]
  jvm_step Y1.here [hexec, hd, invokevirtual.wp_ready (e := e) (s := T1) (r := tt) (m := tt) (k := kT) (mk := kP) (rmeth := methM) (meth := methM) (a := o) (args := as) (rest := []) (cell := cellO) (f := F0 ⟨g.2.2.2 n, 1⟩ pI ls' (as.reverse ++ [.ref o])) Y1.here.top hnc f14 hkT hmethM hsp hst hlen rfl (by rw [hT1]; exact hO) (fun z h => by rw [h] at hOv; cases hOv) hselP hmethM hab hkP hkPi]
  intro acts
  rw [doInvoke_state]
  exact kE'
/-- a call through an interface that lambdas alone are behind -/
theorem cw_callL {α β : Type} {F : Nat → Option (α × cS)} {K : α → cS → Option β} {z : β} {r : Option Nat} (toV : α → Option Value) (As : List Value) {st : List Value} (hI : CI g A s σ H locs) (h : icl r F K = some z)
    (hM : ∀ a v σ1, r = some a → F a = some (v, σ1) → va_Run5 p l e R s m args below meth c H locs (H.size - s.heap.size) (hsl H - hsl s.heap) (σ.2 3 - σ.2 0) (σ.2 4 - σ.2 1) (F0 m pc ls (As.reverse ++ .ref a :: rest)) rest (CQ g A (toV v) σ1 (Value.ref a :: As).toArray) A)
    (hst : st = As.reverse ++ va_rf r :: rest)
    (kk : ∀ (v : α) (σ1 : cS) (H : Heap) (locs : List Loc), K v σ1 = some z → CI g A s σ1 H locs → W p l e R s m args below meth c H locs (H.size - s.heap.size) (hsl H - hsl s.heap) Q (F0 m (pc + 5) ls ((toV v).toList ++ rest))) : W p l e R s m args below meth c H locs (H.size - s.heap.size) (hsl H - hsl s.heap) Q (F0 m pc ls st) := by
  cases r with
  | none => cases h
  | some a =>
    obtain ⟨v, σ1, e1, h3⟩ := bd_s h
    subst hst
    exact cw_go5 (hM a v σ1 rfl e1) hI (fun H1 locs1 q => kk v σ1 H1 locs1 h3 q)
end CW5
