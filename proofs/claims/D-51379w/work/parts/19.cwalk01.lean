/-! THE CLASS' WALKS 1: printed by gencl.py -/
section
variable {p : Program} {l : Launch} {e : Env} {R : Room} {s : State} {m : MethodId} {args : Array Value} {below : List Frame} {meth : Method} {c : Code} {g : cG} {A : Nat → Prop}
set_option maxRecDepth 100000
theorem k_J0_init (l : Launch) (g : cG) (A : Nat → Prop) (o : Nat) (σ : cS) (v : Int32) (σ1 : cS) (h : m_J0_init o σ = some (v, σ1)) : Met l yJ0_init (ws_ yJ0_init cJ0_init 1 (Option.none : Option Jvm.ClassFile.FieldType)) ({ frames := 1, cells := σ.2 3 - σ.2 0, slots := σ.2 4 - σ.2 1, locals := 40 }) (CPc g A [.ref o] σ) (CQ g A (none) σ1) (σ.2 3 - σ.2 0) (σ.2 4 - σ.2 1) A := by
  refine Met.ofW (cc := cJ0_init) (maxL := 1) (ret := (Option.none : Option Jvm.ClassFile.FieldType)) (by decide) rfl ?_
  intro p e s m args below meth c s₁ B hml hv
  obtain ⟨rfl, hw, hσ⟩ := hv
  have hts := atoms_spec (ws := (ws_ yJ0_init cJ0_init 1 (Option.none : Option Jvm.ClassFile.FieldType))) B.pre
  have C : CX p m meth c s ([.ref o] : List Value).toArray cJ0_init 1 (Option.none : Option Jvm.ClassFile.FieldType) RJ0 := ⟨⟨B.exec, B.bytes, hml, findClass_of_methodNamed B.named, fun w h => hts w (List.mem_cons_of_mem _ h)⟩, B.returns, B.notSynchronized⟩
  have hin : meth.name = "<init>" := (name_of_methodNamed B.named B.method).1
  have e3 : σ.2 3 - σ.2 0 = g.2.2.1 3 - s.heap.size := by rw [hσ.1, hσ.2.2.2.1 3 (by decide)]
  have e4 : σ.2 4 - σ.2 1 = g.2.2.1 4 - hsl s.heap := by rw [hσ.2.1, hσ.2.2.2.1 4 (by decide)]
  have hR : RM g s (headSpec (ws_ yJ0_init cJ0_init 1 (Option.none : Option Jvm.ClassFile.FieldType)) ({ frames := 1, cells := σ.2 3 - σ.2 0, slots := σ.2 4 - σ.2 1, locals := 40 })).room (1) (40) := ⟨⟨Nat.le_refl _, Nat.le_refl _⟩, Nat.le_of_eq e3.symm, Nat.le_of_eq e4.symm⟩
  generalize (headSpec (ws_ yJ0_init cJ0_init 1 (Option.none : Option Jvm.ClassFile.FieldType)) ({ frames := 1, cells := σ.2 3 - σ.2 0, slots := σ.2 4 - σ.2 1, locals := 40 })).room = R at hR ⊢
  rw [e3, e4]
  have hI : CI g A s σ s.heap [] := ⟨hσ, va_S.rf, Nat.le_refl _⟩
  have hl := lv_entry ([.ref o]) (n := 1) (Nat.le_of_ble_eq_true rfl)
  rw [lg_entry_eq]
  generalize (lg_sl ([.ref o]) ++ List.replicate (1 - (lg_sl ([.ref o])).length) Slot.unset).toArray = ls at hl ⊢
  have hl : lv_has ls 1 [(0, .ref o)] := hl
  obtain ⟨z, hz⟩ : ∃ z, z = (v, σ1) := ⟨_, rfl⟩
  rw [← hz] at h
  rw [show σ1 = z.2 by rw [hz]]
  clear hz v σ1
  refine W.narrow ?_
  unfold m_J0_init at h
  refine r_aload_n (x := some o) C.x C.b dJ0_init_0 rfl (lv_at hl 0 rfl) ?_
  refine cw_obj C hR hl.1 q183 q173 q174 dJ0_init_1 (by decide) (by decide) (Nat.le_of_ble_eq_true rfl) ?_
  exact cw_vret C hI h dJ0_init_4

theorem k_J17_init (l : Launch) (g : cG) (A : Nat → Prop) (o : Nat) (σ : cS) (v : Int32) (σ1 : cS) (h : m_J17_init o σ = some (v, σ1)) : Met l yJ17_init (ws_ yJ17_init cJ17_init 1 (Option.none : Option Jvm.ClassFile.FieldType)) ({ frames := 2, cells := σ.2 3 - σ.2 0, slots := σ.2 4 - σ.2 1, locals := 60 }) (CPc g A [.ref o] σ) (CQ g A (none) σ1) (σ.2 3 - σ.2 0) (σ.2 4 - σ.2 1) A := by
  refine Met.ofW (cc := cJ17_init) (maxL := 1) (ret := (Option.none : Option Jvm.ClassFile.FieldType)) (by decide) rfl ?_
  intro p e s m args below meth c s₁ B hml hv
  obtain ⟨rfl, hw, hσ⟩ := hv
  have hts := atoms_spec (ws := (ws_ yJ17_init cJ17_init 1 (Option.none : Option Jvm.ClassFile.FieldType))) B.pre
  have C : CX p m meth c s ([.ref o] : List Value).toArray cJ17_init 1 (Option.none : Option Jvm.ClassFile.FieldType) RJ17 := ⟨⟨B.exec, B.bytes, hml, findClass_of_methodNamed B.named, fun w h => hts w (List.mem_cons_of_mem _ h)⟩, B.returns, B.notSynchronized⟩
  have hin : meth.name = "<init>" := (name_of_methodNamed B.named B.method).1
  have e3 : σ.2 3 - σ.2 0 = g.2.2.1 3 - s.heap.size := by rw [hσ.1, hσ.2.2.2.1 3 (by decide)]
  have e4 : σ.2 4 - σ.2 1 = g.2.2.1 4 - hsl s.heap := by rw [hσ.2.1, hσ.2.2.2.1 4 (by decide)]
  have hR : RM g s (headSpec (ws_ yJ17_init cJ17_init 1 (Option.none : Option Jvm.ClassFile.FieldType)) ({ frames := 2, cells := σ.2 3 - σ.2 0, slots := σ.2 4 - σ.2 1, locals := 60 })).room (2) (60) := ⟨⟨Nat.le_refl _, Nat.le_refl _⟩, Nat.le_of_eq e3.symm, Nat.le_of_eq e4.symm⟩
  generalize (headSpec (ws_ yJ17_init cJ17_init 1 (Option.none : Option Jvm.ClassFile.FieldType)) ({ frames := 2, cells := σ.2 3 - σ.2 0, slots := σ.2 4 - σ.2 1, locals := 60 })).room = R at hR ⊢
  rw [e3, e4]
  have hI : CI g A s σ s.heap [] := ⟨hσ, va_S.rf, Nat.le_refl _⟩
  have hl := lv_entry ([.ref o]) (n := 1) (Nat.le_of_ble_eq_true rfl)
  rw [lg_entry_eq]
  generalize (lg_sl ([.ref o]) ++ List.replicate (1 - (lg_sl ([.ref o])).length) Slot.unset).toArray = ls at hl ⊢
  have hl : lv_has ls 1 [(0, .ref o)] := hl
  obtain ⟨z, hz⟩ : ∃ z, z = (v, σ1) := ⟨_, rfl⟩
  rw [← hz] at h
  rw [show σ1 = z.2 by rw [hz]]
  clear hz v σ1
  refine W.narrow ?_
  unfold m_J17_init at h
  refine r_aload_n (x := some o) C.x C.b dJ17_init_0 rfl (lv_at hl 0 rfl) ?_
  refine cw_callI (y := yJ0_init) (bytes := cJ0_init) (maxL := 1) (b := o) [] C hw hR hI hl.1 h (fun vv ss ee => k_J0_init l g A o σ vv ss ee) (cwI 0 C.t (lw_meth q182) rfl rfl rfl (C.t _ q127) (C.t _ q816) (C.t _ q181) rfl (by decide +kernel) ⟨Nat.le_trans (Nat.le_of_ble_eq_true rfl) hR.f, Nat.le_trans (Nat.le_of_ble_eq_true rfl) hR.lo⟩) rfl rfl (Nat.le_of_ble_eq_true rfl) dJ17_init_1 (fun σ_1 _ H locs h hI => ?_)
  refine r_aload_n (x := some o) C.x C.b dJ17_init_4 rfl (lv_at hl 0 rfl) ?_
  refine lv_iconst (v := 0) C.x C.b dJ17_init_5 (by decide) ?_
  refine cw_pO (r := some o) (v := (.int 0)) (ty := .int) 9 0 C hw hI h (by decide) rfl in_J18 tyJ18 tyJ18_ok nmJ18 (by decide) (C.t _ q821) (fun _ h9 => h9) (Or.inl rfl) (by decide +kernel) rfl rfl dJ17_init_6 (fun σ_2 H locs h hI => ?_)
  exact cw_vret C hI h dJ17_init_9

theorem w_J7_checkIndex_9 {z : Int32 × cS} (C : CX p m meth c s args cJ7_checkIndex 3 (Option.some Jvm.ClassFile.FieldType.int) RJ7) (hw : WKc g A s s.heap) (hR : RM g s R (1) (40))  : ∀ (x0 : Int32) (x1 : Int32) (x2 : Option Nat) (σ : cS) (H : Heap) (locs : List Loc) (ls : Array Slot), b_J7_checkIndex_9 x0 x1 x2 σ = some z → CI g A s σ H locs → lv_has ls 3 [(0, .int x0), (1, .int x1), (2, va_rf x2)] → W p l e R s m args below meth c H locs (H.size - s.heap.size) (hsl H - hsl s.heap) (MQ below (CQ g A (some (.int z.1)) z.2) args s (g.2.2.1 3 - s.heap.size) (g.2.2.1 4 - hsl s.heap) A) (F0 m 9 ls []) := by
  intro x0 x1 x2 σ H locs ls h hI hl
  unfold b_J7_checkIndex_9 at h
  refine r_aload_n (x := x2) C.x C.b dJ7_checkIndex_9 rfl (lv_at hl 2 rfl) ?_
  refine lv_iload_n C.x C.b dJ7_checkIndex_10 rfl (lv_at hl 0 rfl) ?_
  refine lv_iload_n C.x C.b dJ7_checkIndex_11 rfl (lv_at hl 1 rfl) ?_
  cases h

theorem k_J7_checkIndex (l : Launch) (g : cG) (A : Nat → Prop) (x0 : Int32) (x1 : Int32) (x2 : Option Nat) (σ : cS) (v : Int32) (σ1 : cS) (h : m_J7_checkIndex x0 x1 x2 σ = some (v, σ1)) : Met l yJ7_checkIndex (ws_ yJ7_checkIndex cJ7_checkIndex 3 (Option.some Jvm.ClassFile.FieldType.int)) ({ frames := 1, cells := σ.2 3 - σ.2 0, slots := σ.2 4 - σ.2 1, locals := 40 }) (CPc g A [.int x0, .int x1, va_rf x2] σ) (CQ g A (some (.int v)) σ1) (σ.2 3 - σ.2 0) (σ.2 4 - σ.2 1) A := by
  refine Met.ofW (cc := cJ7_checkIndex) (maxL := 3) (ret := (Option.some Jvm.ClassFile.FieldType.int)) (by decide) rfl ?_
  intro p e s m args below meth c s₁ B hml hv
  obtain ⟨rfl, hw, hσ⟩ := hv
  have hts := atoms_spec (ws := (ws_ yJ7_checkIndex cJ7_checkIndex 3 (Option.some Jvm.ClassFile.FieldType.int))) B.pre
  have C : CX p m meth c s ([.int x0, .int x1, va_rf x2] : List Value).toArray cJ7_checkIndex 3 (Option.some Jvm.ClassFile.FieldType.int) RJ7 := ⟨⟨B.exec, B.bytes, hml, findClass_of_methodNamed B.named, fun w h => hts w (List.mem_cons_of_mem _ h)⟩, B.returns, B.notSynchronized⟩
  have e3 : σ.2 3 - σ.2 0 = g.2.2.1 3 - s.heap.size := by rw [hσ.1, hσ.2.2.2.1 3 (by decide)]
  have e4 : σ.2 4 - σ.2 1 = g.2.2.1 4 - hsl s.heap := by rw [hσ.2.1, hσ.2.2.2.1 4 (by decide)]
  have hR : RM g s (headSpec (ws_ yJ7_checkIndex cJ7_checkIndex 3 (Option.some Jvm.ClassFile.FieldType.int)) ({ frames := 1, cells := σ.2 3 - σ.2 0, slots := σ.2 4 - σ.2 1, locals := 40 })).room (1) (40) := ⟨⟨Nat.le_refl _, Nat.le_refl _⟩, Nat.le_of_eq e3.symm, Nat.le_of_eq e4.symm⟩
  generalize (headSpec (ws_ yJ7_checkIndex cJ7_checkIndex 3 (Option.some Jvm.ClassFile.FieldType.int)) ({ frames := 1, cells := σ.2 3 - σ.2 0, slots := σ.2 4 - σ.2 1, locals := 40 })).room = R at hR ⊢
  rw [e3, e4]
  have hI : CI g A s σ s.heap [] := ⟨hσ, va_S.rf, Nat.le_refl _⟩
  have hlen : (lg_sl ([.int x0, .int x1, va_rf x2])).length ≤ 3 := by rcases x2 with _ | x2 <;> exact Nat.le_of_ble_eq_true rfl
  have hl := lv_entry ([.int x0, .int x1, va_rf x2]) (n := 3) hlen
  rw [lg_entry_eq]
  generalize (lg_sl ([.int x0, .int x1, va_rf x2]) ++ List.replicate (3 - (lg_sl ([.int x0, .int x1, va_rf x2])).length) Slot.unset).toArray = ls at hl ⊢
  have hl : lv_has ls 3 [(0, .int x0), (1, .int x1), (2, va_rf x2)] := by clear hI hw h hσ e3 e4 hR C hts B; rcases x2 with _ | x2 <;> exact hl
  obtain ⟨z, hz⟩ : ∃ z, z = (v, σ1) := ⟨_, rfl⟩
  rw [← hz] at h
  rw [show v = z.1 by rw [hz], show σ1 = z.2 by rw [hz]]
  clear hz v σ1
  refine W.narrow ?_
  unfold m_J7_checkIndex at h
  refine lv_iload_n C.x C.b dJ7_checkIndex_0 rfl (lv_at hl 0 rfl) ?_
  refine lv_if_lt (tgt := 9) C.x C.b dJ7_checkIndex_1 (by decide) (fun c_1 => ?_) (fun c_1 => ?_)
  · have h := ip c_1 h
    exact w_J7_checkIndex_9 C hw hR x0 x1 x2 _ _ _ _ h hI (lv_sub hl [0, 1, 2] rfl)
  · have h := iN c_1 h
    refine lv_iload_n C.x C.b dJ7_checkIndex_4 rfl (lv_at hl 0 rfl) ?_
    refine lv_iload_n C.x C.b dJ7_checkIndex_5 rfl (lv_at hl 1 rfl) ?_
    refine lv_icmp_lt (tgt := 16) C.x C.b dJ7_checkIndex_6 (by decide) (fun c_2 => ?_) (fun c_2 => ?_)
    · have h := ip c_2 h
      refine lv_iload_n C.x C.b dJ7_checkIndex_16 rfl (lv_at hl 0 rfl) ?_
      exact cw_iret C hI h dJ7_checkIndex_17
    · have h := iN c_2 h
      exact w_J7_checkIndex_9 C hw hR x0 x1 x2 _ _ _ _ h hI (lv_sub hl [0, 1, 2] rfl)

theorem k_J23_checkIndex (l : Launch) (g : cG) (A : Nat → Prop) (x0 : Int32) (x1 : Int32) (σ : cS) (v : Int32) (σ1 : cS) (h : m_J23_checkIndex x0 x1 σ = some (v, σ1)) : Met l yJ23_checkIndex (ws_ yJ23_checkIndex cJ23_checkIndex 2 (Option.some Jvm.ClassFile.FieldType.int)) ({ frames := 2, cells := σ.2 3 - σ.2 0, slots := σ.2 4 - σ.2 1, locals := 62 }) (CPc g A [.int x0, .int x1] σ) (CQ g A (some (.int v)) σ1) (σ.2 3 - σ.2 0) (σ.2 4 - σ.2 1) A := by
  refine Met.ofW (cc := cJ23_checkIndex) (maxL := 2) (ret := (Option.some Jvm.ClassFile.FieldType.int)) (by decide) rfl ?_
  intro p e s m args below meth c s₁ B hml hv
  obtain ⟨rfl, hw, hσ⟩ := hv
  have hts := atoms_spec (ws := (ws_ yJ23_checkIndex cJ23_checkIndex 2 (Option.some Jvm.ClassFile.FieldType.int))) B.pre
  have C : CX p m meth c s ([.int x0, .int x1] : List Value).toArray cJ23_checkIndex 2 (Option.some Jvm.ClassFile.FieldType.int) RJ23 := ⟨⟨B.exec, B.bytes, hml, findClass_of_methodNamed B.named, fun w h => hts w (List.mem_cons_of_mem _ h)⟩, B.returns, B.notSynchronized⟩
  have e3 : σ.2 3 - σ.2 0 = g.2.2.1 3 - s.heap.size := by rw [hσ.1, hσ.2.2.2.1 3 (by decide)]
  have e4 : σ.2 4 - σ.2 1 = g.2.2.1 4 - hsl s.heap := by rw [hσ.2.1, hσ.2.2.2.1 4 (by decide)]
  have hR : RM g s (headSpec (ws_ yJ23_checkIndex cJ23_checkIndex 2 (Option.some Jvm.ClassFile.FieldType.int)) ({ frames := 2, cells := σ.2 3 - σ.2 0, slots := σ.2 4 - σ.2 1, locals := 62 })).room (2) (62) := ⟨⟨Nat.le_refl _, Nat.le_refl _⟩, Nat.le_of_eq e3.symm, Nat.le_of_eq e4.symm⟩
  generalize (headSpec (ws_ yJ23_checkIndex cJ23_checkIndex 2 (Option.some Jvm.ClassFile.FieldType.int)) ({ frames := 2, cells := σ.2 3 - σ.2 0, slots := σ.2 4 - σ.2 1, locals := 62 })).room = R at hR ⊢
  rw [e3, e4]
  have hI : CI g A s σ s.heap [] := ⟨hσ, va_S.rf, Nat.le_refl _⟩
  have hl := lv_entry ([.int x0, .int x1]) (n := 2) (Nat.le_of_ble_eq_true rfl)
  rw [lg_entry_eq]
  generalize (lg_sl ([.int x0, .int x1]) ++ List.replicate (2 - (lg_sl ([.int x0, .int x1])).length) Slot.unset).toArray = ls at hl ⊢
  have hl : lv_has ls 2 [(0, .int x0), (1, .int x1)] := hl
  obtain ⟨z, hz⟩ : ∃ z, z = (v, σ1) := ⟨_, rfl⟩
  rw [← hz] at h
  rw [show v = z.1 by rw [hz], show σ1 = z.2 by rw [hz]]
  clear hz v σ1
  refine W.narrow ?_
  unfold m_J23_checkIndex at h
  refine lv_iload_n C.x C.b dJ23_checkIndex_0 rfl (lv_at hl 0 rfl) ?_
  refine lv_iload_n C.x C.b dJ23_checkIndex_1 rfl (lv_at hl 1 rfl) ?_
  refine lv_null C.x C.b dJ23_checkIndex_2 ?_
  refine cw_callS (y := yJ7_checkIndex) (bytes := cJ7_checkIndex) (maxL := 3) (fun v => some (.int v)) [.int x0, .int x1, .null] C hw hR hI hl.1 h (fun vv ss ee => k_J7_checkIndex l g A x0 x1 none σ vv ss ee) (va_cwS 3 C.t (lw_S q1270 q320 q135 q321) rfl rfl rfl (by decide +kernel) ⟨Nat.le_trans (Nat.le_of_ble_eq_true rfl) hR.f, Nat.le_trans (Nat.le_of_ble_eq_true rfl) hR.lo⟩) rfl rfl (Nat.le_of_ble_eq_true rfl) dJ23_checkIndex_3 (fun v_1 σ_2 H locs h hI => ?_)
  exact cw_iret C hI h dJ23_checkIndex_6

theorem w_J15_newLength_21 {z : Int32 × cS} (C : CX p m meth c s args cJ15_newLength 4 (Option.some Jvm.ClassFile.FieldType.int) RJ15) (hw : WKc g A s s.heap) (hR : RM g s R (1) (40))  : ∀ (x0 : Int32) (x1 : Int32) (σ : cS) (H : Heap) (locs : List Loc) (ls : Array Slot), b_J15_newLength_21 x0 x1 σ = some z → CI g A s σ H locs → lv_has ls 4 [(0, .int x0), (1, .int x1)] → W p l e R s m args below meth c H locs (H.size - s.heap.size) (hsl H - hsl s.heap) (MQ below (CQ g A (some (.int z.1)) z.2) args s (g.2.2.1 3 - s.heap.size) (g.2.2.1 4 - hsl s.heap) A) (F0 m 21 ls []) := by
  intro x0 x1 σ H locs ls h hI hl
  unfold b_J15_newLength_21 at h
  refine lv_iload_n C.x C.b dJ15_newLength_21 rfl (lv_at hl 0 rfl) ?_
  refine lv_iload_n C.x C.b dJ15_newLength_22 rfl (lv_at hl 1 rfl) ?_
  cases h

theorem k_J15_newLength (l : Launch) (g : cG) (A : Nat → Prop) (x0 : Int32) (x1 : Int32) (x2 : Int32) (σ : cS) (v : Int32) (σ1 : cS) (h : m_J15_newLength x0 x1 x2 σ = some (v, σ1)) : Met l yJ15_newLength (ws_ yJ15_newLength cJ15_newLength 4 (Option.some Jvm.ClassFile.FieldType.int)) ({ frames := 1, cells := σ.2 3 - σ.2 0, slots := σ.2 4 - σ.2 1, locals := 40 }) (CPc g A [.int x0, .int x1, .int x2] σ) (CQ g A (some (.int v)) σ1) (σ.2 3 - σ.2 0) (σ.2 4 - σ.2 1) A := by
  refine Met.ofW (cc := cJ15_newLength) (maxL := 4) (ret := (Option.some Jvm.ClassFile.FieldType.int)) (by decide) rfl ?_
  intro p e s m args below meth c s₁ B hml hv
  obtain ⟨rfl, hw, hσ⟩ := hv
  have hts := atoms_spec (ws := (ws_ yJ15_newLength cJ15_newLength 4 (Option.some Jvm.ClassFile.FieldType.int))) B.pre
  have C : CX p m meth c s ([.int x0, .int x1, .int x2] : List Value).toArray cJ15_newLength 4 (Option.some Jvm.ClassFile.FieldType.int) RJ15 := ⟨⟨B.exec, B.bytes, hml, findClass_of_methodNamed B.named, fun w h => hts w (List.mem_cons_of_mem _ h)⟩, B.returns, B.notSynchronized⟩
  have e3 : σ.2 3 - σ.2 0 = g.2.2.1 3 - s.heap.size := by rw [hσ.1, hσ.2.2.2.1 3 (by decide)]
  have e4 : σ.2 4 - σ.2 1 = g.2.2.1 4 - hsl s.heap := by rw [hσ.2.1, hσ.2.2.2.1 4 (by decide)]
  have hR : RM g s (headSpec (ws_ yJ15_newLength cJ15_newLength 4 (Option.some Jvm.ClassFile.FieldType.int)) ({ frames := 1, cells := σ.2 3 - σ.2 0, slots := σ.2 4 - σ.2 1, locals := 40 })).room (1) (40) := ⟨⟨Nat.le_refl _, Nat.le_refl _⟩, Nat.le_of_eq e3.symm, Nat.le_of_eq e4.symm⟩
  generalize (headSpec (ws_ yJ15_newLength cJ15_newLength 4 (Option.some Jvm.ClassFile.FieldType.int)) ({ frames := 1, cells := σ.2 3 - σ.2 0, slots := σ.2 4 - σ.2 1, locals := 40 })).room = R at hR ⊢
  rw [e3, e4]
  have hI : CI g A s σ s.heap [] := ⟨hσ, va_S.rf, Nat.le_refl _⟩
  have hl := lv_entry ([.int x0, .int x1, .int x2]) (n := 4) (Nat.le_of_ble_eq_true rfl)
  rw [lg_entry_eq]
  generalize (lg_sl ([.int x0, .int x1, .int x2]) ++ List.replicate (4 - (lg_sl ([.int x0, .int x1, .int x2])).length) Slot.unset).toArray = ls at hl ⊢
  have hl : lv_has ls 4 [(0, .int x0), (1, .int x1), (2, .int x2)] := hl
  obtain ⟨z, hz⟩ : ∃ z, z = (v, σ1) := ⟨_, rfl⟩
  rw [← hz] at h
  rw [show v = z.1 by rw [hz], show σ1 = z.2 by rw [hz]]
  clear hz v σ1
  refine W.narrow ?_
  unfold m_J15_newLength at h
  refine lv_iload_n C.x C.b dJ15_newLength_0 rfl (lv_at hl 0 rfl) ?_
  refine lv_iload_n C.x C.b dJ15_newLength_1 rfl (lv_at hl 1 rfl) ?_
  refine lv_iload_n C.x C.b dJ15_newLength_2 rfl (lv_at hl 2 rfl) ?_
  refine va_mmax C.x C.b (C.n.trans hl.1.symm) C.o (C.t _ q464) (C.t _ q465) (C.t _ q136) (C.t _ q466) (Nat.le_trans (Nat.le_of_ble_eq_true rfl) hR.f) (Nat.le_trans (Nat.add_le_add_right (room_of (Nat.le_of_ble_eq_true rfl)) 13) (Nat.le_trans (Nat.le_of_ble_eq_true rfl) hR.lo)) (hR.cur hI).1 (hR.cur hI).2 dJ15_newLength_3 ?_
  refine tw_lt h (fun u_1 h => ?_)
  refine lv_iadd C.x C.b dJ15_newLength_6 ?_
  refine tw_lt h (fun x3_2 h => ?_)
  refine lv_istore_n (i := 3) (lv' := [(3, .int x3_2), (0, .int x0), (1, .int x1), (2, .int x2)]) C.x C.b dJ15_newLength_7 rfl hl (by decide) rfl (fun ls hl => ?_)
  refine lv_iconst (v := 0) C.x C.b dJ15_newLength_8 (by decide) ?_
  refine lv_iload_n C.x C.b dJ15_newLength_9 rfl (lv_at hl 0 rfl) ?_
  refine lv_icmp_ge (tgt := 21) C.x C.b dJ15_newLength_10 (by decide) (fun c_3 => ?_) (fun c_3 => ?_)
  · have h := ip c_3 h
    exact w_J15_newLength_21 C hw hR x0 x1 _ _ _ _ h hI (lv_sub hl [1, 2] rfl)
  · have h := iN c_3 h
    refine lv_iload_n C.x C.b dJ15_newLength_13 rfl (lv_at hl 0 rfl) ?_
    refine lv_ldc C.x C.b C.o (C.t _ q467) dJ15_newLength_14 ?_
    refine lv_icmp_gt (tgt := 21) C.x C.b dJ15_newLength_16 (by decide) (fun c_4 => ?_) (fun c_4 => ?_)
    · have h := ip c_4 h
      exact w_J15_newLength_21 C hw hR x0 x1 _ _ _ _ h hI (lv_sub hl [1, 2] rfl)
    · have h := iN c_4 h
      refine lv_iload_n C.x C.b dJ15_newLength_19 rfl (lv_at hl 0 rfl) ?_
      exact cw_iret C hI h dJ15_newLength_20

theorem k_J18_init (l : Launch) (g : cG) (A : Nat → Prop) (o : Nat) (σ : cS) (v : Int32) (σ1 : cS) (h : m_J18_init o σ = some (v, σ1)) : Met l yJ18_init (ws_ yJ18_init cJ18_init 1 (Option.none : Option Jvm.ClassFile.FieldType)) ({ frames := 3, cells := σ.2 3 - σ.2 0, slots := σ.2 4 - σ.2 1, locals := 80 }) (CPc g A [.ref o] σ) (CQ g A (none) σ1) (σ.2 3 - σ.2 0) (σ.2 4 - σ.2 1) A := by
  refine Met.ofW (cc := cJ18_init) (maxL := 1) (ret := (Option.none : Option Jvm.ClassFile.FieldType)) (by decide) rfl ?_
  intro p e s m args below meth c s₁ B hml hv
  obtain ⟨rfl, hw, hσ⟩ := hv
  have hts := atoms_spec (ws := (ws_ yJ18_init cJ18_init 1 (Option.none : Option Jvm.ClassFile.FieldType))) B.pre
  have C : CX p m meth c s ([.ref o] : List Value).toArray cJ18_init 1 (Option.none : Option Jvm.ClassFile.FieldType) RJ18 := ⟨⟨B.exec, B.bytes, hml, findClass_of_methodNamed B.named, fun w h => hts w (List.mem_cons_of_mem _ h)⟩, B.returns, B.notSynchronized⟩
  have hin : meth.name = "<init>" := (name_of_methodNamed B.named B.method).1
  have e3 : σ.2 3 - σ.2 0 = g.2.2.1 3 - s.heap.size := by rw [hσ.1, hσ.2.2.2.1 3 (by decide)]
  have e4 : σ.2 4 - σ.2 1 = g.2.2.1 4 - hsl s.heap := by rw [hσ.2.1, hσ.2.2.2.1 4 (by decide)]
  have hR : RM g s (headSpec (ws_ yJ18_init cJ18_init 1 (Option.none : Option Jvm.ClassFile.FieldType)) ({ frames := 3, cells := σ.2 3 - σ.2 0, slots := σ.2 4 - σ.2 1, locals := 80 })).room (3) (80) := ⟨⟨Nat.le_refl _, Nat.le_refl _⟩, Nat.le_of_eq e3.symm, Nat.le_of_eq e4.symm⟩
  generalize (headSpec (ws_ yJ18_init cJ18_init 1 (Option.none : Option Jvm.ClassFile.FieldType)) ({ frames := 3, cells := σ.2 3 - σ.2 0, slots := σ.2 4 - σ.2 1, locals := 80 })).room = R at hR ⊢
  rw [e3, e4]
  have hI : CI g A s σ s.heap [] := ⟨hσ, va_S.rf, Nat.le_refl _⟩
  have hl := lv_entry ([.ref o]) (n := 1) (Nat.le_of_ble_eq_true rfl)
  rw [lg_entry_eq]
  generalize (lg_sl ([.ref o]) ++ List.replicate (1 - (lg_sl ([.ref o])).length) Slot.unset).toArray = ls at hl ⊢
  have hl : lv_has ls 1 [(0, .ref o)] := hl
  obtain ⟨z, hz⟩ : ∃ z, z = (v, σ1) := ⟨_, rfl⟩
  rw [← hz] at h
  rw [show σ1 = z.2 by rw [hz]]
  clear hz v σ1
  refine W.narrow ?_
  unfold m_J18_init at h
  refine r_aload_n (x := some o) C.x C.b dJ18_init_0 rfl (lv_at hl 0 rfl) ?_
  refine cw_callI (y := yJ17_init) (bytes := cJ17_init) (maxL := 1) (b := o) [] C hw hR hI hl.1 h (fun vv ss ee => k_J17_init l g A o σ vv ss ee) (cwI 0 C.t (lw_meth q815) rfl rfl rfl (C.t _ q151) (C.t _ q813) (C.t _ q814) rfl (by decide +kernel) ⟨Nat.le_trans (Nat.le_of_ble_eq_true rfl) hR.f, Nat.le_trans (Nat.le_of_ble_eq_true rfl) hR.lo⟩) rfl rfl (Nat.le_of_ble_eq_true rfl) dJ18_init_1 (fun σ_1 _ H locs h hI => ?_)
  refine r_aload_n (x := some o) C.x C.b dJ18_init_4 rfl (lv_at hl 0 rfl) ?_
  refine cw_gst (Cn := "java/util/ArrayList") (n := "DEFAULTCAPACITY_EMPTY_ELEMENTDATA") (d := "[Ljava/lang/Object;") (k := 15) C hw hI (List.mem_of_getElem? (i := 5) rfl) (by decide) q817 rfl dJ18_init_5 ?_
  refine cw_pO (r := some o) (v := (va_rf (some (σ_1.2 15)))) (ty := (.array (.object "java/lang/Object"))) 9 1 C hw hI h (by decide) rfl in_J18 tyJ18 tyJ18_ok nmJ18 (by decide) (C.t _ q819) (fun _ h9 => h9) (Or.inl rfl) (by decide +kernel) (nar_a _ _) (fits_a _ _) dJ18_init_8 (fun σ_2 H locs h hI => ?_)
  exact cw_vret C hI h dJ18_init_11

theorem k_J18_size (l : Launch) (g : cG) (A : Nat → Prop) (o : Nat) (σ : cS) (v : Int32) (σ1 : cS) (h : m_J18_size o σ = some (v, σ1)) : Met l yJ18_size (ws_ yJ18_size cJ18_size 1 (Option.some Jvm.ClassFile.FieldType.int)) ({ frames := 1, cells := σ.2 3 - σ.2 0, slots := σ.2 4 - σ.2 1, locals := 40 }) (CPc g A [.ref o] σ) (CQ g A (some (.int v)) σ1) (σ.2 3 - σ.2 0) (σ.2 4 - σ.2 1) A := by
  refine Met.ofW (cc := cJ18_size) (maxL := 1) (ret := (Option.some Jvm.ClassFile.FieldType.int)) (by decide) rfl ?_
  intro p e s m args below meth c s₁ B hml hv
  obtain ⟨rfl, hw, hσ⟩ := hv
  have hts := atoms_spec (ws := (ws_ yJ18_size cJ18_size 1 (Option.some Jvm.ClassFile.FieldType.int))) B.pre
  have C : CX p m meth c s ([.ref o] : List Value).toArray cJ18_size 1 (Option.some Jvm.ClassFile.FieldType.int) RJ18 := ⟨⟨B.exec, B.bytes, hml, findClass_of_methodNamed B.named, fun w h => hts w (List.mem_cons_of_mem _ h)⟩, B.returns, B.notSynchronized⟩
  have e3 : σ.2 3 - σ.2 0 = g.2.2.1 3 - s.heap.size := by rw [hσ.1, hσ.2.2.2.1 3 (by decide)]
  have e4 : σ.2 4 - σ.2 1 = g.2.2.1 4 - hsl s.heap := by rw [hσ.2.1, hσ.2.2.2.1 4 (by decide)]
  have hR : RM g s (headSpec (ws_ yJ18_size cJ18_size 1 (Option.some Jvm.ClassFile.FieldType.int)) ({ frames := 1, cells := σ.2 3 - σ.2 0, slots := σ.2 4 - σ.2 1, locals := 40 })).room (1) (40) := ⟨⟨Nat.le_refl _, Nat.le_refl _⟩, Nat.le_of_eq e3.symm, Nat.le_of_eq e4.symm⟩
  generalize (headSpec (ws_ yJ18_size cJ18_size 1 (Option.some Jvm.ClassFile.FieldType.int)) ({ frames := 1, cells := σ.2 3 - σ.2 0, slots := σ.2 4 - σ.2 1, locals := 40 })).room = R at hR ⊢
  rw [e3, e4]
  have hI : CI g A s σ s.heap [] := ⟨hσ, va_S.rf, Nat.le_refl _⟩
  have hl := lv_entry ([.ref o]) (n := 1) (Nat.le_of_ble_eq_true rfl)
  rw [lg_entry_eq]
  generalize (lg_sl ([.ref o]) ++ List.replicate (1 - (lg_sl ([.ref o])).length) Slot.unset).toArray = ls at hl ⊢
  have hl : lv_has ls 1 [(0, .ref o)] := hl
  obtain ⟨z, hz⟩ : ∃ z, z = (v, σ1) := ⟨_, rfl⟩
  rw [← hz] at h
  rw [show v = z.1 by rw [hz], show σ1 = z.2 by rw [hz]]
  clear hz v σ1
  refine W.narrow ?_
  unfold m_J18_size at h
  refine r_aload_n (x := some o) C.x C.b dJ18_size_0 rfl (lv_at hl 0 rfl) ?_
  refine cw_gI (r := some o) 9 2 C hw hI h (by decide) rfl in_J18 (by decide) (C.t _ q820) (fun _ h9 => h9) dJ18_size_1 (fun v_1 h => ?_)
  exact cw_iret C hI h dJ18_size_4

theorem w_J9_copyOf_3_24 {z : Option Nat × cS} (C : CX p m meth c s args cJ9_copyOf_3 4 (Option.some (Jvm.ClassFile.FieldType.array (Jvm.ClassFile.FieldType.object "java/lang/Object"))) RJ9) (hw : WKc g A s s.heap) (hR : RM g s R (1) (40))  : ∀ (x0 : Option Nat) (x1 : Int32) (s0 : Option Nat) (σ : cS) (H : Heap) (locs : List Loc) (ls : Array Slot), b_J9_copyOf_3_24 x0 x1 s0 σ = some z → CI g A s σ H locs → lv_has ls 4 [(0, va_rf x0), (1, .int x1)] → W p l e R s m args below meth c H locs (H.size - s.heap.size) (hsl H - hsl s.heap) (MQ below (CQ g A (some (va_rf z.1)) z.2) args s (g.2.2.1 3 - s.heap.size) (g.2.2.1 4 - hsl s.heap) A) (F0 m 24 ls [va_rf s0]) := by
  intro x0 x1 s0 σ H locs ls h hI hl
  unfold b_J9_copyOf_3_24 at h
  refine r_astore_n (i := 3) (x := s0) (lv' := [(3, va_rf s0), (0, va_rf x0), (1, .int x1)]) C.x C.b dJ9_copyOf_3_24 rfl hl (by decide) (by first | (simp [List.filter, cat_rf, cat_i, cat_a, cat_n, cat_l, cat_f, cat_d]; done) | (simp [List.filter, cat_rf, cat_i, cat_a, cat_n, cat_l, cat_f, cat_d]; rfl)) (fun ls hl => ?_)
  refine r_aload_n (x := x0) C.x C.b dJ9_copyOf_3_25 rfl (lv_at hl 1 rfl) ?_
  refine lv_iconst (v := 0) C.x C.b dJ9_copyOf_3_26 (by decide) ?_
  refine r_aload_n (x := s0) C.x C.b dJ9_copyOf_3_27 rfl (lv_at hl 0 rfl) ?_
  refine lv_iconst (v := 0) C.x C.b dJ9_copyOf_3_28 (by decide) ?_
  refine r_aload_n (x := x0) C.x C.b dJ9_copyOf_3_29 rfl (lv_at hl 1 rfl) ?_
  refine cw_aL (r := x0) C hw hI h dJ9_copyOf_3_30 (fun v_1 h => ?_)
  refine lv_iload_n C.x C.b dJ9_copyOf_3_31 rfl (lv_at hl 2 rfl) ?_
  refine va_mmin C.x C.b (C.n.trans hl.1.symm) C.o (C.t _ q482) (C.t _ q351) (C.t _ q136) (C.t _ q352) (Nat.le_trans (Nat.le_of_ble_eq_true rfl) hR.f) (Nat.le_trans (Nat.add_le_add_right (room_of (Nat.le_of_ble_eq_true rfl)) 13) (Nat.le_trans (Nat.le_of_ble_eq_true rfl) hR.lo)) (hR.cur hI).1 (hR.cur hI).2 dJ9_copyOf_3_32 ?_
  refine tw_lt h (fun u_2 h => ?_)
  refine cw_cpR (src := x0) (dst := s0) C hw hR hI hl.1 h q483 (by decide) (by decide) (Nat.le_of_ble_eq_true rfl) dJ9_copyOf_3_35 (fun σ_3 H locs h hI => ?_)
  refine r_aload_n (x := s0) C.x C.b dJ9_copyOf_3_38 rfl (lv_at hl 0 rfl) ?_
  exact cw_aret (x := s0) C (Or.inr ⟨_, rfl⟩) hI h dJ9_copyOf_3_39

theorem k_J9_copyOf_3 (l : Launch) (g : cG) (A : Nat → Prop) (x0 : Option Nat) (x1 : Int32) (x2 : Option Nat) (σ : cS) (v : Option Nat) (σ1 : cS) (h : m_J9_copyOf_3 x0 x1 x2 σ = some (v, σ1)) : Met l yJ9_copyOf_3 (ws_ yJ9_copyOf_3 cJ9_copyOf_3 4 (Option.some (Jvm.ClassFile.FieldType.array (Jvm.ClassFile.FieldType.object "java/lang/Object")))) ({ frames := 1, cells := σ.2 3 - σ.2 0, slots := σ.2 4 - σ.2 1, locals := 40 }) (CPc g A [va_rf x0, .int x1, va_rf x2] σ) (CQ g A (some (va_rf v)) σ1) (σ.2 3 - σ.2 0) (σ.2 4 - σ.2 1) A := by
  refine Met.ofW (cc := cJ9_copyOf_3) (maxL := 4) (ret := (Option.some (Jvm.ClassFile.FieldType.array (Jvm.ClassFile.FieldType.object "java/lang/Object")))) (by decide) rfl ?_
  intro p e s m args below meth c s₁ B hml hv
  obtain ⟨rfl, hw, hσ⟩ := hv
  have hts := atoms_spec (ws := (ws_ yJ9_copyOf_3 cJ9_copyOf_3 4 (Option.some (Jvm.ClassFile.FieldType.array (Jvm.ClassFile.FieldType.object "java/lang/Object"))))) B.pre
  have C : CX p m meth c s ([va_rf x0, .int x1, va_rf x2] : List Value).toArray cJ9_copyOf_3 4 (Option.some (Jvm.ClassFile.FieldType.array (Jvm.ClassFile.FieldType.object "java/lang/Object"))) RJ9 := ⟨⟨B.exec, B.bytes, hml, findClass_of_methodNamed B.named, fun w h => hts w (List.mem_cons_of_mem _ h)⟩, B.returns, B.notSynchronized⟩
  have e3 : σ.2 3 - σ.2 0 = g.2.2.1 3 - s.heap.size := by rw [hσ.1, hσ.2.2.2.1 3 (by decide)]
  have e4 : σ.2 4 - σ.2 1 = g.2.2.1 4 - hsl s.heap := by rw [hσ.2.1, hσ.2.2.2.1 4 (by decide)]
  have hR : RM g s (headSpec (ws_ yJ9_copyOf_3 cJ9_copyOf_3 4 (Option.some (Jvm.ClassFile.FieldType.array (Jvm.ClassFile.FieldType.object "java/lang/Object")))) ({ frames := 1, cells := σ.2 3 - σ.2 0, slots := σ.2 4 - σ.2 1, locals := 40 })).room (1) (40) := ⟨⟨Nat.le_refl _, Nat.le_refl _⟩, Nat.le_of_eq e3.symm, Nat.le_of_eq e4.symm⟩
  generalize (headSpec (ws_ yJ9_copyOf_3 cJ9_copyOf_3 4 (Option.some (Jvm.ClassFile.FieldType.array (Jvm.ClassFile.FieldType.object "java/lang/Object")))) ({ frames := 1, cells := σ.2 3 - σ.2 0, slots := σ.2 4 - σ.2 1, locals := 40 })).room = R at hR ⊢
  rw [e3, e4]
  have hI : CI g A s σ s.heap [] := ⟨hσ, va_S.rf, Nat.le_refl _⟩
  have hlen : (lg_sl ([va_rf x0, .int x1, va_rf x2])).length ≤ 4 := by rcases x0 with _ | x0 <;> rcases x2 with _ | x2 <;> exact Nat.le_of_ble_eq_true rfl
  have hl := lv_entry ([va_rf x0, .int x1, va_rf x2]) (n := 4) hlen
  rw [lg_entry_eq]
  generalize (lg_sl ([va_rf x0, .int x1, va_rf x2]) ++ List.replicate (4 - (lg_sl ([va_rf x0, .int x1, va_rf x2])).length) Slot.unset).toArray = ls at hl ⊢
  have hl : lv_has ls 4 [(0, va_rf x0), (1, .int x1), (2, va_rf x2)] := by clear hI hw h hσ e3 e4 hR C hts B; rcases x0 with _ | x0 <;> rcases x2 with _ | x2 <;> exact hl
  obtain ⟨z, hz⟩ : ∃ z, z = (v, σ1) := ⟨_, rfl⟩
  rw [← hz] at h
  rw [show v = z.1 by rw [hz], show σ1 = z.2 by rw [hz]]
  clear hz v σ1
  refine W.narrow ?_
  unfold m_J9_copyOf_3 at h
  refine r_aload_n (x := x2) C.x C.b dJ9_copyOf_3_0 rfl (lv_at hl 2 rfl) ?_
  refine cw_ldcM C hw hI q1090 dJ9_copyOf_3_1 ?_
  refine lv_acmp_ne (rx := x2) (ry := some (σ.2 19)) (tgt := 13) C.x C.b dJ9_copyOf_3_3 (by decide) (fun c_1 => ?_) (fun c_1 => ?_)
  · have h := iN c_1 h
    refine r_aload_n (x := x2) C.x C.b dJ9_copyOf_3_13 rfl (lv_at hl 2 rfl) ?_
    cases h
  · have h := ip c_1 h
    refine lv_iload_n C.x C.b dJ9_copyOf_3_6 rfl (lv_at hl 1 rfl) ?_
    refine cw_nAr (kind := 2) (E := "java/lang/Object") C hw hR hI h (by decide) rfl (by simp) q1091 dJ9_copyOf_3_7 (fun q_2 σ_3 H locs h hI => ?_)
    refine lv_goto (tgt := 24) C.x C.b dJ9_copyOf_3_10 (by decide) ?_
    exact w_J9_copyOf_3_24 C hw hR x0 x1 (some q_2) _ _ _ _ h hI (lv_sub hl [0, 1] rfl)

theorem k_J9_copyOf_2 (l : Launch) (g : cG) (A : Nat → Prop) (x0 : Option Nat) (x1 : Int32) (σ : cS) (v : Option Nat) (σ1 : cS) (h : m_J9_copyOf_2 x0 x1 σ = some (v, σ1)) : Met l yJ9_copyOf_2 (ws_ yJ9_copyOf_2 cJ9_copyOf_2 2 (Option.some (Jvm.ClassFile.FieldType.array (Jvm.ClassFile.FieldType.object "java/lang/Object")))) ({ frames := 2, cells := σ.2 3 - σ.2 0, slots := σ.2 4 - σ.2 1, locals := 63 }) (CPc g A [va_rf x0, .int x1] σ) (CQ g A (some (va_rf v)) σ1) (σ.2 3 - σ.2 0) (σ.2 4 - σ.2 1) A := by
  refine Met.ofW (cc := cJ9_copyOf_2) (maxL := 2) (ret := (Option.some (Jvm.ClassFile.FieldType.array (Jvm.ClassFile.FieldType.object "java/lang/Object")))) (by decide) rfl ?_
  intro p e s m args below meth c s₁ B hml hv
  obtain ⟨rfl, hw, hσ⟩ := hv
  have hts := atoms_spec (ws := (ws_ yJ9_copyOf_2 cJ9_copyOf_2 2 (Option.some (Jvm.ClassFile.FieldType.array (Jvm.ClassFile.FieldType.object "java/lang/Object"))))) B.pre
  have C : CX p m meth c s ([va_rf x0, .int x1] : List Value).toArray cJ9_copyOf_2 2 (Option.some (Jvm.ClassFile.FieldType.array (Jvm.ClassFile.FieldType.object "java/lang/Object"))) RJ9 := ⟨⟨B.exec, B.bytes, hml, findClass_of_methodNamed B.named, fun w h => hts w (List.mem_cons_of_mem _ h)⟩, B.returns, B.notSynchronized⟩
  have e3 : σ.2 3 - σ.2 0 = g.2.2.1 3 - s.heap.size := by rw [hσ.1, hσ.2.2.2.1 3 (by decide)]
  have e4 : σ.2 4 - σ.2 1 = g.2.2.1 4 - hsl s.heap := by rw [hσ.2.1, hσ.2.2.2.1 4 (by decide)]
  have hR : RM g s (headSpec (ws_ yJ9_copyOf_2 cJ9_copyOf_2 2 (Option.some (Jvm.ClassFile.FieldType.array (Jvm.ClassFile.FieldType.object "java/lang/Object")))) ({ frames := 2, cells := σ.2 3 - σ.2 0, slots := σ.2 4 - σ.2 1, locals := 63 })).room (2) (63) := ⟨⟨Nat.le_refl _, Nat.le_refl _⟩, Nat.le_of_eq e3.symm, Nat.le_of_eq e4.symm⟩
  generalize (headSpec (ws_ yJ9_copyOf_2 cJ9_copyOf_2 2 (Option.some (Jvm.ClassFile.FieldType.array (Jvm.ClassFile.FieldType.object "java/lang/Object")))) ({ frames := 2, cells := σ.2 3 - σ.2 0, slots := σ.2 4 - σ.2 1, locals := 63 })).room = R at hR ⊢
  rw [e3, e4]
  have hI : CI g A s σ s.heap [] := ⟨hσ, va_S.rf, Nat.le_refl _⟩
  have hlen : (lg_sl ([va_rf x0, .int x1])).length ≤ 2 := by rcases x0 with _ | x0 <;> exact Nat.le_of_ble_eq_true rfl
  have hl := lv_entry ([va_rf x0, .int x1]) (n := 2) hlen
  rw [lg_entry_eq]
  generalize (lg_sl ([va_rf x0, .int x1]) ++ List.replicate (2 - (lg_sl ([va_rf x0, .int x1])).length) Slot.unset).toArray = ls at hl ⊢
  have hl : lv_has ls 2 [(0, va_rf x0), (1, .int x1)] := by clear hI hw h hσ e3 e4 hR C hts B; rcases x0 with _ | x0 <;> exact hl
  obtain ⟨z, hz⟩ : ∃ z, z = (v, σ1) := ⟨_, rfl⟩
  rw [← hz] at h
  rw [show v = z.1 by rw [hz], show σ1 = z.2 by rw [hz]]
  clear hz v σ1
  refine W.narrow ?_
  unfold m_J9_copyOf_2 at h
  refine r_aload_n (x := x0) C.x C.b dJ9_copyOf_2_0 rfl (lv_at hl 0 rfl) ?_
  refine lv_iload_n C.x C.b dJ9_copyOf_2_1 rfl (lv_at hl 1 rfl) ?_
  refine r_aload_n (x := x0) C.x C.b dJ9_copyOf_2_2 rfl (lv_at hl 0 rfl) ?_
  refine cw_gcl (r := x0) C hw hR hI hl.1 h q1060 (by decide) (by decide) (Nat.le_of_ble_eq_true rfl) dJ9_copyOf_2_3 (fun v_1 h => ?_)
  refine cw_callS (y := yJ9_copyOf_3) (bytes := cJ9_copyOf_3) (maxL := 4) (fun v => some (va_rf v)) [va_rf x0, .int x1, va_rf v_1] C hw hR hI hl.1 h (fun vv ss ee => k_J9_copyOf_3 l g A x0 x1 v_1 σ vv ss ee) (va_cwS 3 C.t (lw_S q1087 q1088 q139 q1089) rfl rfl rfl (by decide +kernel) ⟨Nat.le_trans (Nat.le_of_ble_eq_true rfl) hR.f, Nat.le_trans (Nat.le_of_ble_eq_true rfl) hR.lo⟩) rfl rfl (Nat.le_of_ble_eq_true rfl) dJ9_copyOf_2_6 (fun v_2 σ_3 H locs h hI => ?_)
  exact cw_aret (x := v_2) C (Or.inr ⟨_, rfl⟩) hI h dJ9_copyOf_2_9

theorem w_J18_grow_2_20 {z : Option Nat × cS} {o : Nat} (C : CX p m meth c s args cJ18_grow_2 4 (Option.some (Jvm.ClassFile.FieldType.array (Jvm.ClassFile.FieldType.object "java/lang/Object"))) RJ18) (hw : WKc g A s s.heap) (hR : RM g s R (3) (84))  : ∀ (x1 : Int32) (x2 : Int32) (σ : cS) (H : Heap) (locs : List Loc) (ls : Array Slot), b_J18_grow_2_20 o x1 x2 σ = some z → CI g A s σ H locs → lv_has ls 4 [(0, .ref o), (1, .int x1), (2, .int x2)] → W p l e R s m args below meth c H locs (H.size - s.heap.size) (hsl H - hsl s.heap) (MQ below (CQ g A (some (va_rf z.1)) z.2) args s (g.2.2.1 3 - s.heap.size) (g.2.2.1 4 - hsl s.heap) A) (F0 m 20 ls []) := by
  intro x1 x2 σ H locs ls h hI hl
  unfold b_J18_grow_2_20 at h
  refine lv_iload_n C.x C.b dJ18_grow_2_20 rfl (lv_at hl 2 rfl) ?_
  refine lv_iload_n C.x C.b dJ18_grow_2_21 rfl (lv_at hl 1 rfl) ?_
  refine lv_iload_n C.x C.b dJ18_grow_2_22 rfl (lv_at hl 2 rfl) ?_
  refine lv_isub C.x C.b dJ18_grow_2_23 ?_
  refine lv_iload_n C.x C.b dJ18_grow_2_24 rfl (lv_at hl 2 rfl) ?_
  refine lv_iconst (v := 1) C.x C.b dJ18_grow_2_25 (by decide) ?_
  refine lv_ishr C.x C.b dJ18_grow_2_26 ?_
  refine cw_callS (y := yJ15_newLength) (bytes := cJ15_newLength) (maxL := 4) (fun v => some (.int v)) [.int x2, .int (x1 - x2), .int (x2 >>> (1 &&& 31))] C hw hR hI hl.1 h (fun vv ss ee => k_J15_newLength l g A x2 (x1 - x2) (x2 >>> (1 &&& 31)) σ vv ss ee) (va_cwS 3 C.t (lw_S q1056 q462 q146 q463) rfl rfl rfl (by decide +kernel) ⟨Nat.le_trans (Nat.le_of_ble_eq_true rfl) hR.f, Nat.le_trans (Nat.le_of_ble_eq_true rfl) hR.lo⟩) rfl rfl (Nat.le_of_ble_eq_true rfl) dJ18_grow_2_27 (fun v_1 σ_2 H locs h hI => ?_)
  refine lv_istore_n (i := 3) (lv' := [(3, .int v_1), (0, .ref o), (1, .int x1), (2, .int x2)]) C.x C.b dJ18_grow_2_30 rfl hl (by decide) rfl (fun ls hl => ?_)
  refine r_aload_n (x := some o) C.x C.b dJ18_grow_2_31 rfl (lv_at hl 1 rfl) ?_
  refine r_aload_n (x := some o) C.x C.b dJ18_grow_2_32 rfl (lv_at hl 1 rfl) ?_
  refine cw_gR (r := some o) 9 1 C hw hI h (by decide) rfl in_J18 (by decide) (C.t _ q819) (fun _ h9 => h9) dJ18_grow_2_33 (fun v_3 h => ?_)
  refine lv_iload_n C.x C.b dJ18_grow_2_36 rfl (lv_at hl 0 rfl) ?_
  refine cw_callS (y := yJ9_copyOf_2) (bytes := cJ9_copyOf_2) (maxL := 2) (fun v => some (va_rf v)) [va_rf v_3, .int v_1] C hw hR hI hl.1 h (fun vv ss ee => k_J9_copyOf_2 l g A v_3 v_1 σ_2 vv ss ee) (va_cwS 2 C.t (lw_S q1057 q1058 q139 q1059) rfl rfl rfl (by decide +kernel) ⟨Nat.le_trans (Nat.le_of_ble_eq_true rfl) hR.f, Nat.le_trans (Nat.le_of_ble_eq_true rfl) hR.lo⟩) rfl rfl (Nat.le_of_ble_eq_true rfl) dJ18_grow_2_37 (fun v_4 σ_5 H locs h hI => ?_)
  refine lv_dup_x1 C.x C.b dJ18_grow_2_40 (cat_rf _) rfl ?_
  refine cw_pO (r := some o) (v := (va_rf v_4)) (ty := (.array (.object "java/lang/Object"))) 9 1 C hw hI h (by decide) rfl in_J18 tyJ18 tyJ18_ok nmJ18 (by decide) (C.t _ q819) (fun _ h9 => h9) (Or.inl rfl) (by decide +kernel) (nar_a _ _) (fits_a _ _) dJ18_grow_2_41 (fun σ_6 H locs h hI => ?_)
  exact cw_aret (x := v_4) C (Or.inr ⟨_, rfl⟩) hI h dJ18_grow_2_44

theorem k_J18_grow_2 (l : Launch) (g : cG) (A : Nat → Prop) (o : Nat) (x1 : Int32) (σ : cS) (v : Option Nat) (σ1 : cS) (h : m_J18_grow_2 o x1 σ = some (v, σ1)) : Met l yJ18_grow_2 (ws_ yJ18_grow_2 cJ18_grow_2 4 (Option.some (Jvm.ClassFile.FieldType.array (Jvm.ClassFile.FieldType.object "java/lang/Object")))) ({ frames := 3, cells := σ.2 3 - σ.2 0, slots := σ.2 4 - σ.2 1, locals := 84 }) (CPc g A [.ref o, .int x1] σ) (CQ g A (some (va_rf v)) σ1) (σ.2 3 - σ.2 0) (σ.2 4 - σ.2 1) A := by
  refine Met.ofW (cc := cJ18_grow_2) (maxL := 4) (ret := (Option.some (Jvm.ClassFile.FieldType.array (Jvm.ClassFile.FieldType.object "java/lang/Object")))) (by decide) rfl ?_
  intro p e s m args below meth c s₁ B hml hv
  obtain ⟨rfl, hw, hσ⟩ := hv
  have hts := atoms_spec (ws := (ws_ yJ18_grow_2 cJ18_grow_2 4 (Option.some (Jvm.ClassFile.FieldType.array (Jvm.ClassFile.FieldType.object "java/lang/Object"))))) B.pre
  have C : CX p m meth c s ([.ref o, .int x1] : List Value).toArray cJ18_grow_2 4 (Option.some (Jvm.ClassFile.FieldType.array (Jvm.ClassFile.FieldType.object "java/lang/Object"))) RJ18 := ⟨⟨B.exec, B.bytes, hml, findClass_of_methodNamed B.named, fun w h => hts w (List.mem_cons_of_mem _ h)⟩, B.returns, B.notSynchronized⟩
  have e3 : σ.2 3 - σ.2 0 = g.2.2.1 3 - s.heap.size := by rw [hσ.1, hσ.2.2.2.1 3 (by decide)]
  have e4 : σ.2 4 - σ.2 1 = g.2.2.1 4 - hsl s.heap := by rw [hσ.2.1, hσ.2.2.2.1 4 (by decide)]
  have hR : RM g s (headSpec (ws_ yJ18_grow_2 cJ18_grow_2 4 (Option.some (Jvm.ClassFile.FieldType.array (Jvm.ClassFile.FieldType.object "java/lang/Object")))) ({ frames := 3, cells := σ.2 3 - σ.2 0, slots := σ.2 4 - σ.2 1, locals := 84 })).room (3) (84) := ⟨⟨Nat.le_refl _, Nat.le_refl _⟩, Nat.le_of_eq e3.symm, Nat.le_of_eq e4.symm⟩
  generalize (headSpec (ws_ yJ18_grow_2 cJ18_grow_2 4 (Option.some (Jvm.ClassFile.FieldType.array (Jvm.ClassFile.FieldType.object "java/lang/Object")))) ({ frames := 3, cells := σ.2 3 - σ.2 0, slots := σ.2 4 - σ.2 1, locals := 84 })).room = R at hR ⊢
  rw [e3, e4]
  have hI : CI g A s σ s.heap [] := ⟨hσ, va_S.rf, Nat.le_refl _⟩
  have hl := lv_entry ([.ref o, .int x1]) (n := 4) (Nat.le_of_ble_eq_true rfl)
  rw [lg_entry_eq]
  generalize (lg_sl ([.ref o, .int x1]) ++ List.replicate (4 - (lg_sl ([.ref o, .int x1])).length) Slot.unset).toArray = ls at hl ⊢
  have hl : lv_has ls 4 [(0, .ref o), (1, .int x1)] := hl
  obtain ⟨z, hz⟩ : ∃ z, z = (v, σ1) := ⟨_, rfl⟩
  rw [← hz] at h
  rw [show v = z.1 by rw [hz], show σ1 = z.2 by rw [hz]]
  clear hz v σ1
  refine W.narrow ?_
  unfold m_J18_grow_2 at h
  refine r_aload_n (x := some o) C.x C.b dJ18_grow_2_0 rfl (lv_at hl 0 rfl) ?_
  refine cw_gR (r := some o) 9 1 C hw hI h (by decide) rfl in_J18 (by decide) (C.t _ q819) (fun _ h9 => h9) dJ18_grow_2_1 (fun v_1 h => ?_)
  refine cw_aL (r := v_1) C hw hI h dJ18_grow_2_4 (fun v_2 h => ?_)
  refine lv_istore_n (i := 2) (lv' := [(2, .int v_2), (0, .ref o), (1, .int x1)]) C.x C.b dJ18_grow_2_5 rfl hl (by decide) rfl (fun ls hl => ?_)
  refine lv_iload_n C.x C.b dJ18_grow_2_6 rfl (lv_at hl 0 rfl) ?_
  refine lv_if_gt (tgt := 20) C.x C.b dJ18_grow_2_7 (by decide) (fun c_3 => ?_) (fun c_3 => ?_)
  · have h := ip c_3 h
    exact w_J18_grow_2_20 C hw hR x1 v_2 _ _ _ _ h hI (lv_sub hl [1, 2, 0] rfl)
  · have h := iN c_3 h
    refine r_aload_n (x := some o) C.x C.b dJ18_grow_2_10 rfl (lv_at hl 1 rfl) ?_
    refine cw_gR (r := some o) 9 1 C hw hI h (by decide) rfl in_J18 (by decide) (C.t _ q819) (fun _ h9 => h9) dJ18_grow_2_11 (fun v_4 h => ?_)
    refine cw_gst (Cn := "java/util/ArrayList") (n := "DEFAULTCAPACITY_EMPTY_ELEMENTDATA") (d := "[Ljava/lang/Object;") (k := 15) C hw hI (List.mem_of_getElem? (i := 5) rfl) (by decide) q817 rfl dJ18_grow_2_14 ?_
    refine lv_acmp_eq (rx := v_4) (ry := some (σ.2 15)) (tgt := 45) C.x C.b dJ18_grow_2_17 (by decide) (fun c_5 => ?_) (fun c_5 => ?_)
    · have h := ip c_5 h
      refine r_aload_n (x := some o) C.x C.b dJ18_grow_2_45 rfl (lv_at hl 1 rfl) ?_
      refine lv_bipush (v := 10) C.x C.b dJ18_grow_2_46 (by decide) ?_
      refine lv_iload_n C.x C.b dJ18_grow_2_48 rfl (lv_at hl 2 rfl) ?_
      refine va_mmax C.x C.b (C.n.trans hl.1.symm) C.o (C.t _ q1092) (C.t _ q465) (C.t _ q136) (C.t _ q466) (Nat.le_trans (Nat.le_of_ble_eq_true rfl) hR.f) (Nat.le_trans (Nat.add_le_add_right (room_of (Nat.le_of_ble_eq_true rfl)) 13) (Nat.le_trans (Nat.le_of_ble_eq_true rfl) hR.lo)) (hR.cur hI).1 (hR.cur hI).2 dJ18_grow_2_49 ?_
      refine tw_lt h (fun u_6 h => ?_)
      refine cw_nAr (kind := 2) (E := "java/lang/Object") C hw hR hI h (by decide) rfl (by simp) q1093 dJ18_grow_2_52 (fun q_7 σ_8 H locs h hI => ?_)
      refine lv_dup_x1 C.x C.b dJ18_grow_2_55 rfl rfl ?_
      refine cw_pO (r := some o) (v := (va_rf (some q_7))) (ty := (.array (.object "java/lang/Object"))) 9 1 C hw hI h (by decide) rfl in_J18 tyJ18 tyJ18_ok nmJ18 (by decide) (C.t _ q819) (fun _ h9 => h9) (Or.inl rfl) (by decide +kernel) (nar_a _ _) (fits_a _ _) dJ18_grow_2_56 (fun σ_9 H locs h hI => ?_)
      exact cw_aret (x := some q_7) C (Or.inr ⟨_, rfl⟩) hI h dJ18_grow_2_59
    · have h := iN c_5 h
      exact w_J18_grow_2_20 C hw hR x1 v_2 _ _ _ _ h hI (lv_sub hl [1, 2, 0] rfl)

end
