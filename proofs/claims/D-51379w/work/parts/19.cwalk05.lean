/-! THE CLASS' WALKS 5: printed by gencl.py -/
section
variable {p : Program} {l : Launch} {e : Env} {R : Room} {s : State} {m : MethodId} {args : Array Value} {below : List Frame} {meth : Method} {c : Code} {g : cG} {A : Nat → Prop}
set_option maxRecDepth 100000
theorem k_J1_pollFirst (l : Launch) (g : cG) (A : Nat → Prop) (o : Nat) (σ : cS) (v : Option Nat) (σ1 : cS) (h : m_J1_pollFirst o σ = some (v, σ1)) : Met l yJ1_pollFirst (ws_ yJ1_pollFirst cJ1_pollFirst 4 (Option.some (Jvm.ClassFile.FieldType.object "java/lang/Object"))) ({ frames := 2, cells := σ.2 3 - σ.2 0, slots := σ.2 4 - σ.2 1, locals := 61 }) (CPc g A [.ref o] σ) (CQ g A (some (va_rf v)) σ1) (σ.2 3 - σ.2 0) (σ.2 4 - σ.2 1) A := by
  refine Met.ofW (cc := cJ1_pollFirst) (maxL := 4) (ret := (Option.some (Jvm.ClassFile.FieldType.object "java/lang/Object"))) (by decide) rfl ?_
  intro p e s m args below meth c s₁ B hml hv
  obtain ⟨rfl, hw, hσ⟩ := hv
  have hts := atoms_spec (ws := (ws_ yJ1_pollFirst cJ1_pollFirst 4 (Option.some (Jvm.ClassFile.FieldType.object "java/lang/Object")))) B.pre
  have C : CX p m meth c s ([.ref o] : List Value).toArray cJ1_pollFirst 4 (Option.some (Jvm.ClassFile.FieldType.object "java/lang/Object")) RJ1 := ⟨⟨B.exec, B.bytes, hml, findClass_of_methodNamed B.named, fun w h => hts w (List.mem_cons_of_mem _ h)⟩, B.returns, B.notSynchronized⟩
  have e3 : σ.2 3 - σ.2 0 = g.2.2.1 3 - s.heap.size := by rw [hσ.1, hσ.2.2.2.1 3 (by decide)]
  have e4 : σ.2 4 - σ.2 1 = g.2.2.1 4 - hsl s.heap := by rw [hσ.2.1, hσ.2.2.2.1 4 (by decide)]
  have hR : RM g s (headSpec (ws_ yJ1_pollFirst cJ1_pollFirst 4 (Option.some (Jvm.ClassFile.FieldType.object "java/lang/Object"))) ({ frames := 2, cells := σ.2 3 - σ.2 0, slots := σ.2 4 - σ.2 1, locals := 61 })).room (2) (61) := ⟨⟨Nat.le_refl _, Nat.le_refl _⟩, Nat.le_of_eq e3.symm, Nat.le_of_eq e4.symm⟩
  generalize (headSpec (ws_ yJ1_pollFirst cJ1_pollFirst 4 (Option.some (Jvm.ClassFile.FieldType.object "java/lang/Object"))) ({ frames := 2, cells := σ.2 3 - σ.2 0, slots := σ.2 4 - σ.2 1, locals := 61 })).room = R at hR ⊢
  rw [e3, e4]
  have hI : CI g A s σ s.heap [] := ⟨hσ, va_S.rf, Nat.le_refl _⟩
  have hl := lv_entry ([.ref o]) (n := 4) (Nat.le_of_ble_eq_true rfl)
  rw [lg_entry_eq]
  generalize (lg_sl ([.ref o]) ++ List.replicate (4 - (lg_sl ([.ref o])).length) Slot.unset).toArray = ls at hl ⊢
  have hl : lv_has ls 4 [(0, .ref o)] := hl
  obtain ⟨z, hz⟩ : ∃ z, z = (v, σ1) := ⟨_, rfl⟩
  rw [← hz] at h
  rw [show v = z.1 by rw [hz], show σ1 = z.2 by rw [hz]]
  clear hz v σ1
  refine W.narrow ?_
  unfold m_J1_pollFirst at h
  refine r_aload_n (x := some o) C.x C.b dJ1_pollFirst_0 rfl (lv_at hl 0 rfl) ?_
  refine cw_gR (r := some o) 10 0 C hw hI h (by decide) rfl in_J1 (by decide) (C.t _ q186) (fun _ h9 => h9) dJ1_pollFirst_1 (fun v_1 h => ?_)
  refine lv_dup C.x C.b dJ1_pollFirst_4 (cat_rf _) ?_
  refine r_astore_n (i := 1) (x := v_1) (lv' := [(1, va_rf v_1), (0, .ref o)]) C.x C.b dJ1_pollFirst_5 rfl hl (by decide) (by rfl) (fun ls hl => ?_)
  refine r_aload_n (x := some o) C.x C.b dJ1_pollFirst_6 rfl (lv_at hl 1 rfl) ?_
  refine cw_gI (r := some o) 10 1 C hw hI h (by decide) rfl in_J1 (by decide) (C.t _ q187) (fun _ h9 => h9) dJ1_pollFirst_7 (fun v_2 h => ?_)
  refine lv_dup C.x C.b dJ1_pollFirst_10 rfl ?_
  refine lv_istore_n (i := 2) (lv' := [(2, .int v_2), (1, va_rf v_1), (0, .ref o)]) C.x C.b dJ1_pollFirst_11 rfl hl (by decide) (by first | (simp [List.filter, cat_rf, cat_i, cat_a, cat_n, cat_l, cat_f, cat_d]; done) | (simp [List.filter, cat_rf, cat_i, cat_a, cat_n, cat_l, cat_f, cat_d]; rfl)) (fun ls hl => ?_)
  refine cw_callS (y := yJ1_elementAt) (bytes := cJ1_elementAt) (maxL := 2) (fun v => some (va_rf v)) [va_rf v_1, .int v_2] C hw hR hI hl.1 h (fun vv ss ee => k_J1_elementAt l g A v_1 v_2 σ vv ss ee) (va_cwS 2 C.t (lw_S q1500 q1501 q128 q1502) rfl rfl rfl (by decide +kernel) ⟨Nat.le_trans (Nat.le_of_ble_eq_true rfl) hR.f, Nat.le_trans (Nat.le_of_ble_eq_true rfl) hR.lo⟩) rfl rfl (Nat.le_of_ble_eq_true rfl) dJ1_pollFirst_12 (fun v_3 σ_4 H locs h hI => ?_)
  refine r_astore_n (i := 3) (x := v_3) (lv' := [(3, va_rf v_3), (2, .int v_2), (1, va_rf v_1), (0, .ref o)]) C.x C.b dJ1_pollFirst_15 rfl hl (by decide) (by first | (simp [List.filter, cat_rf, cat_i, cat_a, cat_n, cat_l, cat_f, cat_d]; done) | (simp [List.filter, cat_rf, cat_i, cat_a, cat_n, cat_l, cat_f, cat_d]; rfl)) (fun ls hl => ?_)
  refine r_aload_n (x := v_3) C.x C.b dJ1_pollFirst_16 rfl (lv_at hl 0 rfl) ?_
  refine r_ifnull (x := v_3) (tgt := 34) C.x C.b dJ1_pollFirst_17 (by decide) (fun c_5 => ?_) (fun c_5 => ?_)
  · have h := ip c_5 h
    refine r_aload_n (x := v_3) C.x C.b dJ1_pollFirst_34 rfl (lv_at hl 0 rfl) ?_
    exact cw_aret (x := v_3) C (Or.inl ⟨_, rfl⟩) hI h dJ1_pollFirst_35
  · have h := iN c_5 h
    refine r_aload_n (x := v_1) C.x C.b dJ1_pollFirst_20 rfl (lv_at hl 2 rfl) ?_
    refine lv_iload_n C.x C.b dJ1_pollFirst_21 rfl (lv_at hl 1 rfl) ?_
    refine lv_null C.x C.b dJ1_pollFirst_22 ?_
    refine cw_rst (r := v_1) (x := none) C hw hI h dJ1_pollFirst_23 (fun σ_6 H locs h hI => ?_)
    refine r_aload_n (x := some o) C.x C.b dJ1_pollFirst_24 rfl (lv_at hl 3 rfl) ?_
    refine lv_iload_n C.x C.b dJ1_pollFirst_25 rfl (lv_at hl 1 rfl) ?_
    refine r_aload_n (x := v_1) C.x C.b dJ1_pollFirst_26 rfl (lv_at hl 2 rfl) ?_
    refine cw_aL (r := v_1) C hw hI h dJ1_pollFirst_27 (fun v_7 h => ?_)
    refine cw_callS (y := yJ1_inc) (bytes := cJ1_inc) (maxL := 2) (fun v => some (.int v)) [.int v_2, .int v_7] C hw hR hI hl.1 h (fun vv ss ee => k_J1_inc l g A v_2 v_7 σ_6 vv ss ee) (va_cwS 2 C.t (lw_S q1972 q1973 q128 q1974) rfl rfl rfl (by decide +kernel) ⟨Nat.le_trans (Nat.le_of_ble_eq_true rfl) hR.f, Nat.le_trans (Nat.le_of_ble_eq_true rfl) hR.lo⟩) rfl rfl (Nat.le_of_ble_eq_true rfl) dJ1_pollFirst_28 (fun v_8 σ_9 H locs h hI => ?_)
    refine cw_pO (r := some o) (v := (.int v_8)) (ty := .int) 10 1 C hw hI h (by decide) rfl in_J1 tyJ1 tyJ1_ok nmJ1 (by decide) (C.t _ q187) (fun _ h9 => h9) (Or.inl rfl) (by decide +kernel) rfl rfl dJ1_pollFirst_31 (fun σ_10 H locs h hI => ?_)
    refine r_aload_n (x := v_3) C.x C.b dJ1_pollFirst_34 rfl (lv_at hl 0 rfl) ?_
    exact cw_aret (x := v_3) C (Or.inl ⟨_, rfl⟩) hI h dJ1_pollFirst_35

theorem k_J1_removeFirst (l : Launch) (g : cG) (A : Nat → Prop) (o : Nat) (σ : cS) (v : Option Nat) (σ1 : cS) (h : m_J1_removeFirst o σ = some (v, σ1)) : Met l yJ1_removeFirst (ws_ yJ1_removeFirst cJ1_removeFirst 2 (Option.some (Jvm.ClassFile.FieldType.object "java/lang/Object"))) ({ frames := 3, cells := σ.2 3 - σ.2 0, slots := σ.2 4 - σ.2 1, locals := 84 }) (CPc g A [.ref o] σ) (CQ g A (some (va_rf v)) σ1) (σ.2 3 - σ.2 0) (σ.2 4 - σ.2 1) A := by
  refine Met.ofW (cc := cJ1_removeFirst) (maxL := 2) (ret := (Option.some (Jvm.ClassFile.FieldType.object "java/lang/Object"))) (by decide) rfl ?_
  intro p e s m args below meth c s₁ B hml hv
  obtain ⟨rfl, hw, hσ⟩ := hv
  have hts := atoms_spec (ws := (ws_ yJ1_removeFirst cJ1_removeFirst 2 (Option.some (Jvm.ClassFile.FieldType.object "java/lang/Object")))) B.pre
  have C : CX p m meth c s ([.ref o] : List Value).toArray cJ1_removeFirst 2 (Option.some (Jvm.ClassFile.FieldType.object "java/lang/Object")) RJ1 := ⟨⟨B.exec, B.bytes, hml, findClass_of_methodNamed B.named, fun w h => hts w (List.mem_cons_of_mem _ h)⟩, B.returns, B.notSynchronized⟩
  have e3 : σ.2 3 - σ.2 0 = g.2.2.1 3 - s.heap.size := by rw [hσ.1, hσ.2.2.2.1 3 (by decide)]
  have e4 : σ.2 4 - σ.2 1 = g.2.2.1 4 - hsl s.heap := by rw [hσ.2.1, hσ.2.2.2.1 4 (by decide)]
  have hR : RM g s (headSpec (ws_ yJ1_removeFirst cJ1_removeFirst 2 (Option.some (Jvm.ClassFile.FieldType.object "java/lang/Object"))) ({ frames := 3, cells := σ.2 3 - σ.2 0, slots := σ.2 4 - σ.2 1, locals := 84 })).room (3) (84) := ⟨⟨Nat.le_refl _, Nat.le_refl _⟩, Nat.le_of_eq e3.symm, Nat.le_of_eq e4.symm⟩
  generalize (headSpec (ws_ yJ1_removeFirst cJ1_removeFirst 2 (Option.some (Jvm.ClassFile.FieldType.object "java/lang/Object"))) ({ frames := 3, cells := σ.2 3 - σ.2 0, slots := σ.2 4 - σ.2 1, locals := 84 })).room = R at hR ⊢
  rw [e3, e4]
  have hI : CI g A s σ s.heap [] := ⟨hσ, va_S.rf, Nat.le_refl _⟩
  have hl := lv_entry ([.ref o]) (n := 2) (Nat.le_of_ble_eq_true rfl)
  rw [lg_entry_eq]
  generalize (lg_sl ([.ref o]) ++ List.replicate (2 - (lg_sl ([.ref o])).length) Slot.unset).toArray = ls at hl ⊢
  have hl : lv_has ls 2 [(0, .ref o)] := hl
  obtain ⟨z, hz⟩ : ∃ z, z = (v, σ1) := ⟨_, rfl⟩
  rw [← hz] at h
  rw [show v = z.1 by rw [hz], show σ1 = z.2 by rw [hz]]
  clear hz v σ1
  refine W.narrow ?_
  unfold m_J1_removeFirst at h
  refine r_aload_n (x := some o) C.x C.b dJ1_removeFirst_0 rfl (lv_at hl 0 rfl) ?_
  refine cw_callV (y := yJ1_pollFirst) (bytes := cJ1_pollFirst) (maxL := 4) (r := some o) (f := fun a_3 => m_J1_pollFirst a_3 σ) 10 (fun v => some (va_rf v)) [] C hw hR hI hl.1 h (by decide) rfl (fun aa vv ss ee => k_J1_pollFirst l g A aa σ vv ss ee) (cwV 0 C.t (lw_V q1994 q1995 q1996 q128 q1997) rfl rfl rfl (by decide +kernel) ⟨Nat.le_trans (Nat.le_of_ble_eq_true rfl) hR.f, Nat.le_trans (Nat.le_of_ble_eq_true rfl) hR.lo⟩) rfl rfl (Nat.le_of_ble_eq_true rfl) dJ1_removeFirst_1 (fun v_1 σ_2 H locs h hI => ?_)
  refine r_astore_n (i := 1) (x := v_1) (lv' := [(1, va_rf v_1), (0, .ref o)]) C.x C.b dJ1_removeFirst_4 rfl hl (by decide) (by rfl) (fun ls hl => ?_)
  refine r_aload_n (x := v_1) C.x C.b dJ1_removeFirst_5 rfl (lv_at hl 0 rfl) ?_
  refine r_ifnonnull (x := v_1) (tgt := 17) C.x C.b dJ1_removeFirst_6 (by decide) (fun c_4 => ?_) (fun c_4 => ?_)
  · have h := iN c_4 h
    refine r_aload_n (x := v_1) C.x C.b dJ1_removeFirst_17 rfl (lv_at hl 0 rfl) ?_
    exact cw_aret (x := v_1) C (Or.inl ⟨_, rfl⟩) hI h dJ1_removeFirst_18
  · have h := ip c_4 h
    cases h

theorem k_J2_init (l : Launch) (g : cG) (A : Nat → Prop) (o : Nat) (x1 : Int32) (σ : cS) (v : Int32) (σ1 : cS) (h : m_J2_init o x1 σ = some (v, σ1)) : Met l yJ2_init (ws_ yJ2_init cJ2_init 2 (Option.none : Option Jvm.ClassFile.FieldType)) ({ frames := 1, cells := σ.2 3 - σ.2 0, slots := σ.2 4 - σ.2 1, locals := 40 }) (CPc g A [.ref o, .int x1] σ) (CQ g A (none) σ1) (σ.2 3 - σ.2 0) (σ.2 4 - σ.2 1) A := by
  refine Met.ofW (cc := cJ2_init) (maxL := 2) (ret := (Option.none : Option Jvm.ClassFile.FieldType)) (by decide) rfl ?_
  intro p e s m args below meth c s₁ B hml hv
  obtain ⟨rfl, hw, hσ⟩ := hv
  have hts := atoms_spec (ws := (ws_ yJ2_init cJ2_init 2 (Option.none : Option Jvm.ClassFile.FieldType))) B.pre
  have C : CX p m meth c s ([.ref o, .int x1] : List Value).toArray cJ2_init 2 (Option.none : Option Jvm.ClassFile.FieldType) RJ2 := ⟨⟨B.exec, B.bytes, hml, findClass_of_methodNamed B.named, fun w h => hts w (List.mem_cons_of_mem _ h)⟩, B.returns, B.notSynchronized⟩
  have hin : meth.name = "<init>" := (name_of_methodNamed B.named B.method).1
  have e3 : σ.2 3 - σ.2 0 = g.2.2.1 3 - s.heap.size := by rw [hσ.1, hσ.2.2.2.1 3 (by decide)]
  have e4 : σ.2 4 - σ.2 1 = g.2.2.1 4 - hsl s.heap := by rw [hσ.2.1, hσ.2.2.2.1 4 (by decide)]
  have hR : RM g s (headSpec (ws_ yJ2_init cJ2_init 2 (Option.none : Option Jvm.ClassFile.FieldType)) ({ frames := 1, cells := σ.2 3 - σ.2 0, slots := σ.2 4 - σ.2 1, locals := 40 })).room (1) (40) := ⟨⟨Nat.le_refl _, Nat.le_refl _⟩, Nat.le_of_eq e3.symm, Nat.le_of_eq e4.symm⟩
  generalize (headSpec (ws_ yJ2_init cJ2_init 2 (Option.none : Option Jvm.ClassFile.FieldType)) ({ frames := 1, cells := σ.2 3 - σ.2 0, slots := σ.2 4 - σ.2 1, locals := 40 })).room = R at hR ⊢
  rw [e3, e4]
  have hI : CI g A s σ s.heap [] := ⟨hσ, va_S.rf, Nat.le_refl _⟩
  have hl := lv_entry ([.ref o, .int x1]) (n := 2) (Nat.le_of_ble_eq_true rfl)
  rw [lg_entry_eq]
  generalize (lg_sl ([.ref o, .int x1]) ++ List.replicate (2 - (lg_sl ([.ref o, .int x1])).length) Slot.unset).toArray = ls at hl ⊢
  have hl : lv_has ls 2 [(0, .ref o), (1, .int x1)] := hl
  obtain ⟨z, hz⟩ : ∃ z, z = (v, σ1) := ⟨_, rfl⟩
  rw [← hz] at h
  rw [show σ1 = z.2 by rw [hz]]
  clear hz v σ1
  refine W.narrow ?_
  unfold m_J2_init at h
  refine r_aload_n (x := some o) C.x C.b dJ2_init_0 rfl (lv_at hl 0 rfl) ?_
  refine cw_obj C hR hl.1 q206 q173 q174 dJ2_init_1 (by decide) (by decide) (Nat.le_of_ble_eq_true rfl) ?_
  refine va_gets C.x C.b hw.2.1.1 hI.2.1 C.o (C.t _ q207) (fun _ h9 => h9) dJ2_init_4 ?_
  refine lv_if_eq (tgt := 25) C.x C.b dJ2_init_7 (by decide) (fun c_1 => ?_) (fun c_1 => ?_)
  · have h := ip c_1 h
    refine r_aload_n (x := some o) C.x C.b dJ2_init_25 rfl (lv_at hl 0 rfl) ?_
    refine lv_iload_n C.x C.b dJ2_init_26 rfl (lv_at hl 1 rfl) ?_
    cases h
  · have h := iN c_1 h
    refine r_aload_n (x := some o) C.x C.b dJ2_init_10 rfl (lv_at hl 0 rfl) ?_
    refine lv_iload_n C.x C.b dJ2_init_11 rfl (lv_at hl 1 rfl) ?_
    refine cw_nAb C hw hR hI h dJ2_init_12 (fun q_2 σ_3 H locs h hI => ?_)
    refine cw_pO (r := some o) (v := (va_rf (some q_2))) (ty := (.array .byte)) 11 0 C hw hI h (by decide) rfl in_J3 tyJ3 tyJ3_ok nmJ3 (by decide) (C.t _ q216) (fun _ h9 => h9) (Or.inl rfl) (by decide +kernel) (nar_a _ _) (fits_a _ _) dJ2_init_14 (fun σ_4 H locs h hI => ?_)
    refine r_aload_n (x := some o) C.x C.b dJ2_init_17 rfl (lv_at hl 0 rfl) ?_
    refine lv_iconst (v := 0) C.x C.b dJ2_init_18 (by decide) ?_
    have hz := gd_s h
    have h := hz.2
    refine cw_pO (r := some o) (v := (.int 0)) (ty := .byte) 11 1 C hw hI h (by decide) rfl in_J3 tyJ3 tyJ3_ok nmJ3 (by decide) (C.t _ q217) (fun _ h9 => h9) (Or.inl rfl) (by decide +kernel) (nar_b hz.1) (fit_b hz.1) dJ2_init_19 (fun σ_5 H locs h hI => ?_)
    refine lv_goto (tgt := 38) C.x C.b dJ2_init_22 (by decide) ?_
    exact cw_vret C hI h dJ2_init_38

theorem k_J4_checkIndex (l : Launch) (g : cG) (A : Nat → Prop) (x0 : Int32) (x1 : Int32) (σ : cS) (v : Int32) (σ1 : cS) (h : m_J4_checkIndex x0 x1 σ = some (v, σ1)) : Met l yJ4_checkIndex (ws_ yJ4_checkIndex cJ4_checkIndex 2 (Option.none : Option Jvm.ClassFile.FieldType)) ({ frames := 2, cells := σ.2 3 - σ.2 0, slots := σ.2 4 - σ.2 1, locals := 62 }) (CPc g A [.int x0, .int x1] σ) (CQ g A (none) σ1) (σ.2 3 - σ.2 0) (σ.2 4 - σ.2 1) A := by
  refine Met.ofW (cc := cJ4_checkIndex) (maxL := 2) (ret := (Option.none : Option Jvm.ClassFile.FieldType)) (by decide) rfl ?_
  intro p e s m args below meth c s₁ B hml hv
  obtain ⟨rfl, hw, hσ⟩ := hv
  have hts := atoms_spec (ws := (ws_ yJ4_checkIndex cJ4_checkIndex 2 (Option.none : Option Jvm.ClassFile.FieldType))) B.pre
  have C : CX p m meth c s ([.int x0, .int x1] : List Value).toArray cJ4_checkIndex 2 (Option.none : Option Jvm.ClassFile.FieldType) RJ4 := ⟨⟨B.exec, B.bytes, hml, findClass_of_methodNamed B.named, fun w h => hts w (List.mem_cons_of_mem _ h)⟩, B.returns, B.notSynchronized⟩
  have e3 : σ.2 3 - σ.2 0 = g.2.2.1 3 - s.heap.size := by rw [hσ.1, hσ.2.2.2.1 3 (by decide)]
  have e4 : σ.2 4 - σ.2 1 = g.2.2.1 4 - hsl s.heap := by rw [hσ.2.1, hσ.2.2.2.1 4 (by decide)]
  have hR : RM g s (headSpec (ws_ yJ4_checkIndex cJ4_checkIndex 2 (Option.none : Option Jvm.ClassFile.FieldType)) ({ frames := 2, cells := σ.2 3 - σ.2 0, slots := σ.2 4 - σ.2 1, locals := 62 })).room (2) (62) := ⟨⟨Nat.le_refl _, Nat.le_refl _⟩, Nat.le_of_eq e3.symm, Nat.le_of_eq e4.symm⟩
  generalize (headSpec (ws_ yJ4_checkIndex cJ4_checkIndex 2 (Option.none : Option Jvm.ClassFile.FieldType)) ({ frames := 2, cells := σ.2 3 - σ.2 0, slots := σ.2 4 - σ.2 1, locals := 62 })).room = R at hR ⊢
  rw [e3, e4]
  have hI : CI g A s σ s.heap [] := ⟨hσ, va_S.rf, Nat.le_refl _⟩
  have hl := lv_entry ([.int x0, .int x1]) (n := 2) (Nat.le_of_ble_eq_true rfl)
  rw [lg_entry_eq]
  generalize (lg_sl ([.int x0, .int x1]) ++ List.replicate (2 - (lg_sl ([.int x0, .int x1])).length) Slot.unset).toArray = ls at hl ⊢
  have hl : lv_has ls 2 [(0, .int x0), (1, .int x1)] := hl
  obtain ⟨z, hz⟩ : ∃ z, z = (v, σ1) := ⟨_, rfl⟩
  rw [← hz] at h
  rw [show σ1 = z.2 by rw [hz]]
  clear hz v σ1
  refine W.narrow ?_
  unfold m_J4_checkIndex at h
  refine lv_iload_n C.x C.b dJ4_checkIndex_0 rfl (lv_at hl 0 rfl) ?_
  refine lv_iload_n C.x C.b dJ4_checkIndex_1 rfl (lv_at hl 1 rfl) ?_
  refine cw_gstF (ref := "") C hw hI q317 dJ4_checkIndex_2 ?_
  refine cw_callS (y := yJ7_checkIndex) (bytes := cJ7_checkIndex) (maxL := 3) (fun v => some (.int v)) [.int x0, .int x1, va_rf (opk (σ.2 9))] C hw hR hI hl.1 h (fun vv ss ee => k_J7_checkIndex l g A x0 x1 (opk (σ.2 9)) σ vv ss ee) (va_cwS 3 C.t (lw_S q319 q320 q135 q321) rfl rfl rfl (by decide +kernel) ⟨Nat.le_trans (Nat.le_of_ble_eq_true rfl) hR.f, Nat.le_trans (Nat.le_of_ble_eq_true rfl) hR.lo⟩) rfl rfl (Nat.le_of_ble_eq_true rfl) dJ4_checkIndex_5 (fun v_1 σ_2 H locs h hI => ?_)
  refine lv_pop C.x C.b dJ4_checkIndex_8 rfl ?_
  exact cw_vret C hI h dJ4_checkIndex_9

theorem k_J2_charAt (l : Launch) (g : cG) (A : Nat → Prop) (o : Nat) (x1 : Int32) (σ : cS) (v : Int32) (σ1 : cS) (h : m_J2_charAt o x1 σ = some (v, σ1)) : Met l yJ2_charAt (ws_ yJ2_charAt cJ2_charAt 5 (Option.some Jvm.ClassFile.FieldType.char)) ({ frames := 3, cells := σ.2 3 - σ.2 0, slots := σ.2 4 - σ.2 1, locals := 83 }) (CPc g A [.ref o, .int x1] σ) (CQ g A (some (.int v)) σ1) (σ.2 3 - σ.2 0) (σ.2 4 - σ.2 1) A := by
  refine Met.ofW (cc := cJ2_charAt) (maxL := 5) (ret := (Option.some Jvm.ClassFile.FieldType.char)) (by decide) rfl ?_
  intro p e s m args below meth c s₁ B hml hv
  obtain ⟨rfl, hw, hσ⟩ := hv
  have hts := atoms_spec (ws := (ws_ yJ2_charAt cJ2_charAt 5 (Option.some Jvm.ClassFile.FieldType.char))) B.pre
  have C : CX p m meth c s ([.ref o, .int x1] : List Value).toArray cJ2_charAt 5 (Option.some Jvm.ClassFile.FieldType.char) RJ2 := ⟨⟨B.exec, B.bytes, hml, findClass_of_methodNamed B.named, fun w h => hts w (List.mem_cons_of_mem _ h)⟩, B.returns, B.notSynchronized⟩
  have e3 : σ.2 3 - σ.2 0 = g.2.2.1 3 - s.heap.size := by rw [hσ.1, hσ.2.2.2.1 3 (by decide)]
  have e4 : σ.2 4 - σ.2 1 = g.2.2.1 4 - hsl s.heap := by rw [hσ.2.1, hσ.2.2.2.1 4 (by decide)]
  have hR : RM g s (headSpec (ws_ yJ2_charAt cJ2_charAt 5 (Option.some Jvm.ClassFile.FieldType.char)) ({ frames := 3, cells := σ.2 3 - σ.2 0, slots := σ.2 4 - σ.2 1, locals := 83 })).room (3) (83) := ⟨⟨Nat.le_refl _, Nat.le_refl _⟩, Nat.le_of_eq e3.symm, Nat.le_of_eq e4.symm⟩
  generalize (headSpec (ws_ yJ2_charAt cJ2_charAt 5 (Option.some Jvm.ClassFile.FieldType.char)) ({ frames := 3, cells := σ.2 3 - σ.2 0, slots := σ.2 4 - σ.2 1, locals := 83 })).room = R at hR ⊢
  rw [e3, e4]
  have hI : CI g A s σ s.heap [] := ⟨hσ, va_S.rf, Nat.le_refl _⟩
  have hl := lv_entry ([.ref o, .int x1]) (n := 5) (Nat.le_of_ble_eq_true rfl)
  rw [lg_entry_eq]
  generalize (lg_sl ([.ref o, .int x1]) ++ List.replicate (5 - (lg_sl ([.ref o, .int x1])).length) Slot.unset).toArray = ls at hl ⊢
  have hl : lv_has ls 5 [(0, .ref o), (1, .int x1)] := hl
  obtain ⟨z, hz⟩ : ∃ z, z = (v, σ1) := ⟨_, rfl⟩
  rw [← hz] at h
  rw [show v = z.1 by rw [hz], show σ1 = z.2 by rw [hz]]
  clear hz v σ1
  refine W.narrow ?_
  unfold m_J2_charAt at h
  refine r_aload_n (x := some o) C.x C.b dJ2_charAt_0 rfl (lv_at hl 0 rfl) ?_
  refine cw_gI (r := some o) 11 1 C hw hI h (by decide) rfl in_J3 (by decide) (C.t _ q217) (fun _ h9 => h9) dJ2_charAt_1 (fun v_1 h => ?_)
  refine lv_istore_n (i := 2) (lv' := [(2, .int v_1), (0, .ref o), (1, .int x1)]) C.x C.b dJ2_charAt_4 rfl hl (by decide) rfl (fun ls hl => ?_)
  refine r_aload_n (x := some o) C.x C.b dJ2_charAt_5 rfl (lv_at hl 1 rfl) ?_
  refine cw_gR (r := some o) 11 0 C hw hI h (by decide) rfl in_J3 (by decide) (C.t _ q216) (fun _ h9 => h9) dJ2_charAt_6 (fun v_2 h => ?_)
  refine r_astore_n (i := 3) (x := v_2) (lv' := [(3, va_rf v_2), (2, .int v_1), (0, .ref o), (1, .int x1)]) C.x C.b dJ2_charAt_9 rfl hl (by decide) (by rfl) (fun ls hl => ?_)
  refine r_aload_n (x := some o) C.x C.b dJ2_charAt_10 rfl (lv_at hl 2 rfl) ?_
  refine cw_gI (r := some o) 11 3 C hw hI h (by decide) rfl in_J3 (by decide) (C.t _ q220) (fun _ h9 => h9) dJ2_charAt_11 (fun v_3 h => ?_)
  refine r_aload_n (x := v_2) C.x C.b dJ2_charAt_14 rfl (lv_at hl 0 rfl) ?_
  refine cw_aL (r := v_2) C hw hI h dJ2_charAt_15 (fun v_4 h => ?_)
  refine lv_iload_n C.x C.b dJ2_charAt_16 rfl (lv_at hl 1 rfl) ?_
  refine lv_ishr C.x C.b dJ2_charAt_17 ?_
  refine va_mmin C.x C.b (C.n.trans hl.1.symm) C.o (C.t _ q350) (C.t _ q351) (C.t _ q136) (C.t _ q352) (Nat.le_trans (Nat.le_of_ble_eq_true rfl) hR.f) (Nat.le_trans (Nat.add_le_add_right (room_of (Nat.le_of_ble_eq_true rfl)) 13) (Nat.le_trans (Nat.le_of_ble_eq_true rfl) hR.lo)) (hR.cur hI).1 (hR.cur hI).2 dJ2_charAt_18 ?_
  refine tw_lt h (fun u_5 h => ?_)
  refine lv_istore (i := 4) (lv' := [(4, .int u_5), (3, va_rf v_2), (2, .int v_1), (0, .ref o), (1, .int x1)]) C.x C.b dJ2_charAt_21 hl (by decide) (by first | (simp [List.filter, cat_rf, cat_i, cat_a, cat_n, cat_l, cat_f, cat_d]; done) | (simp [List.filter, cat_rf, cat_i, cat_a, cat_n, cat_l, cat_f, cat_d]; rfl)) (fun ls hl => ?_)
  refine lv_iload_n C.x C.b dJ2_charAt_23 rfl (lv_at hl 4 rfl) ?_
  refine lv_iload C.x C.b dJ2_charAt_24 (lv_at hl 0 rfl) ?_
  refine cw_callS (y := yJ4_checkIndex) (bytes := cJ4_checkIndex) (maxL := 2) (fun _ => none) [.int x1, .int u_5] C hw hR hI hl.1 h (fun vv ss ee => k_J4_checkIndex l g A x1 u_5 σ vv ss ee) (va_cwS 2 C.t (lw_S q353 q315 q131 q316) rfl rfl rfl (by decide +kernel) ⟨Nat.le_trans (Nat.le_of_ble_eq_true rfl) hR.f, Nat.le_trans (Nat.le_of_ble_eq_true rfl) hR.lo⟩) rfl rfl (Nat.le_of_ble_eq_true rfl) dJ2_charAt_26 (fun _ σ_6 H locs h hI => ?_)
  refine lv_iload_n C.x C.b dJ2_charAt_29 rfl (lv_at hl 2 rfl) ?_
  refine lv_if_ne (tgt := 42) C.x C.b dJ2_charAt_30 (by decide) (fun c_7 => ?_) (fun c_7 => ?_)
  · have h := iN c_7 h
    refine r_aload_n (x := v_2) C.x C.b dJ2_charAt_42 rfl (lv_at hl 1 rfl) ?_
    refine lv_iload_n C.x C.b dJ2_charAt_43 rfl (lv_at hl 4 rfl) ?_
    cases h
  · have h := ip c_7 h
    refine r_aload_n (x := v_2) C.x C.b dJ2_charAt_33 rfl (lv_at hl 1 rfl) ?_
    refine lv_iload_n C.x C.b dJ2_charAt_34 rfl (lv_at hl 4 rfl) ?_
    refine cw_bld (r := v_2) C hw hI h dJ2_charAt_35 (fun v_8 h => ?_)
    refine lv_sipush (v := 255) C.x C.b dJ2_charAt_36 (by decide) ?_
    refine lv_iand C.x C.b dJ2_charAt_39 ?_
    refine lv_i2c C.x C.b dJ2_charAt_40 rfl ?_
    exact cw_cret C hI h dJ2_charAt_41

theorem k_J2_newCapacity (l : Launch) (g : cG) (A : Nat → Prop) (o : Nat) (x1 : Int32) (σ : cS) (v : Int32) (σ1 : cS) (h : m_J2_newCapacity o x1 σ = some (v, σ1)) : Met l yJ2_newCapacity (ws_ yJ2_newCapacity cJ2_newCapacity 6 (Option.some Jvm.ClassFile.FieldType.int)) ({ frames := 2, cells := σ.2 3 - σ.2 0, slots := σ.2 4 - σ.2 1, locals := 63 }) (CPc g A [.ref o, .int x1] σ) (CQ g A (some (.int v)) σ1) (σ.2 3 - σ.2 0) (σ.2 4 - σ.2 1) A := by
  refine Met.ofW (cc := cJ2_newCapacity) (maxL := 6) (ret := (Option.some Jvm.ClassFile.FieldType.int)) (by decide) rfl ?_
  intro p e s m args below meth c s₁ B hml hv
  obtain ⟨rfl, hw, hσ⟩ := hv
  have hts := atoms_spec (ws := (ws_ yJ2_newCapacity cJ2_newCapacity 6 (Option.some Jvm.ClassFile.FieldType.int))) B.pre
  have C : CX p m meth c s ([.ref o, .int x1] : List Value).toArray cJ2_newCapacity 6 (Option.some Jvm.ClassFile.FieldType.int) RJ2 := ⟨⟨B.exec, B.bytes, hml, findClass_of_methodNamed B.named, fun w h => hts w (List.mem_cons_of_mem _ h)⟩, B.returns, B.notSynchronized⟩
  have e3 : σ.2 3 - σ.2 0 = g.2.2.1 3 - s.heap.size := by rw [hσ.1, hσ.2.2.2.1 3 (by decide)]
  have e4 : σ.2 4 - σ.2 1 = g.2.2.1 4 - hsl s.heap := by rw [hσ.2.1, hσ.2.2.2.1 4 (by decide)]
  have hR : RM g s (headSpec (ws_ yJ2_newCapacity cJ2_newCapacity 6 (Option.some Jvm.ClassFile.FieldType.int)) ({ frames := 2, cells := σ.2 3 - σ.2 0, slots := σ.2 4 - σ.2 1, locals := 63 })).room (2) (63) := ⟨⟨Nat.le_refl _, Nat.le_refl _⟩, Nat.le_of_eq e3.symm, Nat.le_of_eq e4.symm⟩
  generalize (headSpec (ws_ yJ2_newCapacity cJ2_newCapacity 6 (Option.some Jvm.ClassFile.FieldType.int)) ({ frames := 2, cells := σ.2 3 - σ.2 0, slots := σ.2 4 - σ.2 1, locals := 63 })).room = R at hR ⊢
  rw [e3, e4]
  have hI : CI g A s σ s.heap [] := ⟨hσ, va_S.rf, Nat.le_refl _⟩
  have hl := lv_entry ([.ref o, .int x1]) (n := 6) (Nat.le_of_ble_eq_true rfl)
  rw [lg_entry_eq]
  generalize (lg_sl ([.ref o, .int x1]) ++ List.replicate (6 - (lg_sl ([.ref o, .int x1])).length) Slot.unset).toArray = ls at hl ⊢
  have hl : lv_has ls 6 [(0, .ref o), (1, .int x1)] := hl
  obtain ⟨z, hz⟩ : ∃ z, z = (v, σ1) := ⟨_, rfl⟩
  rw [← hz] at h
  rw [show v = z.1 by rw [hz], show σ1 = z.2 by rw [hz]]
  clear hz v σ1
  refine W.narrow ?_
  unfold m_J2_newCapacity at h
  refine r_aload_n (x := some o) C.x C.b dJ2_newCapacity_0 rfl (lv_at hl 0 rfl) ?_
  refine cw_gR (r := some o) 11 0 C hw hI h (by decide) rfl in_J3 (by decide) (C.t _ q216) (fun _ h9 => h9) dJ2_newCapacity_1 (fun v_1 h => ?_)
  refine cw_aL (r := v_1) C hw hI h dJ2_newCapacity_4 (fun v_2 h => ?_)
  refine lv_istore_n (i := 2) (lv' := [(2, .int v_2), (0, .ref o), (1, .int x1)]) C.x C.b dJ2_newCapacity_5 rfl hl (by decide) rfl (fun ls hl => ?_)
  refine lv_iload_n C.x C.b dJ2_newCapacity_6 rfl (lv_at hl 2 rfl) ?_
  refine r_aload_n (x := some o) C.x C.b dJ2_newCapacity_7 rfl (lv_at hl 1 rfl) ?_
  refine cw_gI (r := some o) 11 1 C hw hI h (by decide) rfl in_J3 (by decide) (C.t _ q217) (fun _ h9 => h9) dJ2_newCapacity_8 (fun v_3 h => ?_)
  refine lv_ishl C.x C.b dJ2_newCapacity_11 ?_
  refine tw_lt h (fun x3_4 h => ?_)
  refine lv_istore_n (i := 3) (lv' := [(3, .int x3_4), (2, .int v_2), (0, .ref o), (1, .int x1)]) C.x C.b dJ2_newCapacity_12 rfl hl (by decide) rfl (fun ls hl => ?_)
  refine lv_iload_n C.x C.b dJ2_newCapacity_13 rfl (lv_at hl 0 rfl) ?_
  refine lv_iload_n C.x C.b dJ2_newCapacity_14 rfl (lv_at hl 1 rfl) ?_
  refine lv_isub C.x C.b dJ2_newCapacity_15 ?_
  refine tw_lt h (fun x4_5 h => ?_)
  refine lv_istore (i := 4) (lv' := [(4, .int x4_5), (3, .int x3_4), (2, .int v_2), (0, .ref o), (1, .int x1)]) C.x C.b dJ2_newCapacity_16 hl (by decide) rfl (fun ls hl => ?_)
  refine lv_iload_n C.x C.b dJ2_newCapacity_18 rfl (lv_at hl 2 rfl) ?_
  refine lv_iload C.x C.b dJ2_newCapacity_19 (lv_at hl 0 rfl) ?_
  refine lv_iload_n C.x C.b dJ2_newCapacity_21 rfl (lv_at hl 2 rfl) ?_
  refine lv_iconst (v := 2) C.x C.b dJ2_newCapacity_22 (by decide) ?_
  refine r_aload_n (x := some o) C.x C.b dJ2_newCapacity_23 rfl (lv_at hl 3 rfl) ?_
  refine cw_gI (r := some o) 11 1 C hw hI h (by decide) rfl in_J3 (by decide) (C.t _ q217) (fun _ h9 => h9) dJ2_newCapacity_24 (fun v_6 h => ?_)
  refine lv_ishl C.x C.b dJ2_newCapacity_27 ?_
  refine lv_iadd C.x C.b dJ2_newCapacity_28 ?_
  refine cw_callS (y := yJ15_newLength) (bytes := cJ15_newLength) (maxL := 4) (fun v => some (.int v)) [.int v_2, .int x4_5, .int (v_2 + (2 <<< (v_6 &&& 31)))] C hw hR hI hl.1 h (fun vv ss ee => k_J15_newLength l g A v_2 x4_5 (v_2 + (2 <<< (v_6 &&& 31))) σ vv ss ee) (va_cwS 3 C.t (lw_S q461 q462 q146 q463) rfl rfl rfl (by decide +kernel) ⟨Nat.le_trans (Nat.le_of_ble_eq_true rfl) hR.f, Nat.le_trans (Nat.le_of_ble_eq_true rfl) hR.lo⟩) rfl rfl (Nat.le_of_ble_eq_true rfl) dJ2_newCapacity_29 (fun v_7 σ_8 H locs h hI => ?_)
  refine lv_istore (i := 5) (lv' := [(5, .int v_7), (4, .int x4_5), (3, .int x3_4), (2, .int v_2), (0, .ref o), (1, .int x1)]) C.x C.b dJ2_newCapacity_32 hl (by decide) rfl (fun ls hl => ?_)
  refine lv_iload C.x C.b dJ2_newCapacity_34 (lv_at hl 0 rfl) ?_
  refine lv_ldc C.x C.b C.o (C.t _ q471) dJ2_newCapacity_36 ?_
  refine lv_icmp_ne (tgt := 51) C.x C.b dJ2_newCapacity_38 (by decide) (fun c_9 => ?_) (fun c_9 => ?_)
  · have h := iN c_9 h
    refine lv_iload C.x C.b dJ2_newCapacity_51 (lv_at hl 0 rfl) ?_
    refine r_aload_n (x := some o) C.x C.b dJ2_newCapacity_53 rfl (lv_at hl 4 rfl) ?_
    refine cw_gI (r := some o) 11 1 C hw hI h (by decide) rfl in_J3 (by decide) (C.t _ q217) (fun _ h9 => h9) dJ2_newCapacity_54 (fun v_10 h => ?_)
    refine lv_ishr C.x C.b dJ2_newCapacity_57 ?_
    exact cw_iret C hI h dJ2_newCapacity_58
  · have h := ip c_9 h
    cases h

theorem k_J9_copyOf (l : Launch) (g : cG) (A : Nat → Prop) (x0 : Option Nat) (x1 : Int32) (σ : cS) (v : Option Nat) (σ1 : cS) (h : m_J9_copyOf x0 x1 σ = some (v, σ1)) : Met l yJ9_copyOf (ws_ yJ9_copyOf cJ9_copyOf 3 (Option.some (Jvm.ClassFile.FieldType.array Jvm.ClassFile.FieldType.byte))) ({ frames := 1, cells := σ.2 3 - σ.2 0, slots := σ.2 4 - σ.2 1, locals := 40 }) (CPc g A [va_rf x0, .int x1] σ) (CQ g A (some (va_rf v)) σ1) (σ.2 3 - σ.2 0) (σ.2 4 - σ.2 1) A := by
  refine Met.ofW (cc := cJ9_copyOf) (maxL := 3) (ret := (Option.some (Jvm.ClassFile.FieldType.array Jvm.ClassFile.FieldType.byte))) (by decide) rfl ?_
  intro p e s m args below meth c s₁ B hml hv
  obtain ⟨rfl, hw, hσ⟩ := hv
  have hts := atoms_spec (ws := (ws_ yJ9_copyOf cJ9_copyOf 3 (Option.some (Jvm.ClassFile.FieldType.array Jvm.ClassFile.FieldType.byte)))) B.pre
  have C : CX p m meth c s ([va_rf x0, .int x1] : List Value).toArray cJ9_copyOf 3 (Option.some (Jvm.ClassFile.FieldType.array Jvm.ClassFile.FieldType.byte)) RJ9 := ⟨⟨B.exec, B.bytes, hml, findClass_of_methodNamed B.named, fun w h => hts w (List.mem_cons_of_mem _ h)⟩, B.returns, B.notSynchronized⟩
  have e3 : σ.2 3 - σ.2 0 = g.2.2.1 3 - s.heap.size := by rw [hσ.1, hσ.2.2.2.1 3 (by decide)]
  have e4 : σ.2 4 - σ.2 1 = g.2.2.1 4 - hsl s.heap := by rw [hσ.2.1, hσ.2.2.2.1 4 (by decide)]
  have hR : RM g s (headSpec (ws_ yJ9_copyOf cJ9_copyOf 3 (Option.some (Jvm.ClassFile.FieldType.array Jvm.ClassFile.FieldType.byte))) ({ frames := 1, cells := σ.2 3 - σ.2 0, slots := σ.2 4 - σ.2 1, locals := 40 })).room (1) (40) := ⟨⟨Nat.le_refl _, Nat.le_refl _⟩, Nat.le_of_eq e3.symm, Nat.le_of_eq e4.symm⟩
  generalize (headSpec (ws_ yJ9_copyOf cJ9_copyOf 3 (Option.some (Jvm.ClassFile.FieldType.array Jvm.ClassFile.FieldType.byte))) ({ frames := 1, cells := σ.2 3 - σ.2 0, slots := σ.2 4 - σ.2 1, locals := 40 })).room = R at hR ⊢
  rw [e3, e4]
  have hI : CI g A s σ s.heap [] := ⟨hσ, va_S.rf, Nat.le_refl _⟩
  have hlen : (lg_sl ([va_rf x0, .int x1])).length ≤ 3 := by rcases x0 with _ | x0 <;> exact Nat.le_of_ble_eq_true rfl
  have hl := lv_entry ([va_rf x0, .int x1]) (n := 3) hlen
  rw [lg_entry_eq]
  generalize (lg_sl ([va_rf x0, .int x1]) ++ List.replicate (3 - (lg_sl ([va_rf x0, .int x1])).length) Slot.unset).toArray = ls at hl ⊢
  have hl : lv_has ls 3 [(0, va_rf x0), (1, .int x1)] := by clear hI hw h hσ e3 e4 hR C hts B; rcases x0 with _ | x0 <;> exact hl
  obtain ⟨z, hz⟩ : ∃ z, z = (v, σ1) := ⟨_, rfl⟩
  rw [← hz] at h
  rw [show v = z.1 by rw [hz], show σ1 = z.2 by rw [hz]]
  clear hz v σ1
  refine W.narrow ?_
  unfold m_J9_copyOf at h
  refine lv_iload_n C.x C.b dJ9_copyOf_0 rfl (lv_at hl 1 rfl) ?_
  refine r_aload_n (x := x0) C.x C.b dJ9_copyOf_1 rfl (lv_at hl 0 rfl) ?_
  refine cw_aL (r := x0) C hw hI h dJ9_copyOf_2 (fun v_1 h => ?_)
  refine lv_icmp_ne (tgt := 14) C.x C.b dJ9_copyOf_3 (by decide) (fun c_2 => ?_) (fun c_2 => ?_)
  · have h := iN c_2 h
    refine lv_iload_n C.x C.b dJ9_copyOf_14 rfl (lv_at hl 1 rfl) ?_
    refine cw_nAb C hw hR hI h dJ9_copyOf_15 (fun q_3 σ_4 H locs h hI => ?_)
    refine r_astore_n (i := 2) (x := some q_3) (lv' := [(2, .ref q_3), (0, va_rf x0), (1, .int x1)]) C.x C.b dJ9_copyOf_17 rfl hl (by decide) (by first | (simp [List.filter, cat_rf, cat_i, cat_a, cat_n, cat_l, cat_f, cat_d]; done) | (simp [List.filter, cat_rf, cat_i, cat_a, cat_n, cat_l, cat_f, cat_d]; rfl)) (fun ls hl => ?_)
    refine r_aload_n (x := x0) C.x C.b dJ9_copyOf_18 rfl (lv_at hl 1 rfl) ?_
    refine lv_iconst (v := 0) C.x C.b dJ9_copyOf_19 (by decide) ?_
    refine r_aload_n (x := some q_3) C.x C.b dJ9_copyOf_20 rfl (lv_at hl 0 rfl) ?_
    refine lv_iconst (v := 0) C.x C.b dJ9_copyOf_21 (by decide) ?_
    refine r_aload_n (x := x0) C.x C.b dJ9_copyOf_22 rfl (lv_at hl 1 rfl) ?_
    refine cw_aL (r := x0) C hw hI h dJ9_copyOf_23 (fun v_5 h => ?_)
    refine lv_iload_n C.x C.b dJ9_copyOf_24 rfl (lv_at hl 2 rfl) ?_
    refine va_mmin C.x C.b (C.n.trans hl.1.symm) C.o (C.t _ q482) (C.t _ q351) (C.t _ q136) (C.t _ q352) (Nat.le_trans (Nat.le_of_ble_eq_true rfl) hR.f) (Nat.le_trans (Nat.add_le_add_right (room_of (Nat.le_of_ble_eq_true rfl)) 13) (Nat.le_trans (Nat.le_of_ble_eq_true rfl) hR.lo)) (hR.cur hI).1 (hR.cur hI).2 dJ9_copyOf_25 ?_
    refine tw_lt h (fun u_6 h => ?_)
    refine cw_cpI (kind := 1) (ty := .byte) (src := x0) (dst := some q_3) (Or.inr ⟨rfl, rfl⟩) C hw hR hI hl.1 h q483 (by decide) (by decide) (Nat.le_of_ble_eq_true rfl) dJ9_copyOf_28 (fun σ_7 H locs h hI => ?_)
    refine r_aload_n (x := some q_3) C.x C.b dJ9_copyOf_31 rfl (lv_at hl 0 rfl) ?_
    exact cw_aret (x := some q_3) C (Or.inr ⟨_, rfl⟩) hI h dJ9_copyOf_32
  · have h := ip c_2 h
    refine r_aload_n (x := x0) C.x C.b dJ9_copyOf_6 rfl (lv_at hl 0 rfl) ?_
    cases h

theorem k_J2_ensureCapacityInternal (l : Launch) (g : cG) (A : Nat → Prop) (o : Nat) (x1 : Int32) (σ : cS) (v : Int32) (σ1 : cS) (h : m_J2_ensureCapacityInternal o x1 σ = some (v, σ1)) : Met l yJ2_ensureCapacityInternal (ws_ yJ2_ensureCapacityInternal cJ2_ensureCapacityInternal 3 (Option.none : Option Jvm.ClassFile.FieldType)) ({ frames := 3, cells := σ.2 3 - σ.2 0, slots := σ.2 4 - σ.2 1, locals := 88 }) (CPc g A [.ref o, .int x1] σ) (CQ g A (none) σ1) (σ.2 3 - σ.2 0) (σ.2 4 - σ.2 1) A := by
  refine Met.ofW (cc := cJ2_ensureCapacityInternal) (maxL := 3) (ret := (Option.none : Option Jvm.ClassFile.FieldType)) (by decide) rfl ?_
  intro p e s m args below meth c s₁ B hml hv
  obtain ⟨rfl, hw, hσ⟩ := hv
  have hts := atoms_spec (ws := (ws_ yJ2_ensureCapacityInternal cJ2_ensureCapacityInternal 3 (Option.none : Option Jvm.ClassFile.FieldType))) B.pre
  have C : CX p m meth c s ([.ref o, .int x1] : List Value).toArray cJ2_ensureCapacityInternal 3 (Option.none : Option Jvm.ClassFile.FieldType) RJ2 := ⟨⟨B.exec, B.bytes, hml, findClass_of_methodNamed B.named, fun w h => hts w (List.mem_cons_of_mem _ h)⟩, B.returns, B.notSynchronized⟩
  have e3 : σ.2 3 - σ.2 0 = g.2.2.1 3 - s.heap.size := by rw [hσ.1, hσ.2.2.2.1 3 (by decide)]
  have e4 : σ.2 4 - σ.2 1 = g.2.2.1 4 - hsl s.heap := by rw [hσ.2.1, hσ.2.2.2.1 4 (by decide)]
  have hR : RM g s (headSpec (ws_ yJ2_ensureCapacityInternal cJ2_ensureCapacityInternal 3 (Option.none : Option Jvm.ClassFile.FieldType)) ({ frames := 3, cells := σ.2 3 - σ.2 0, slots := σ.2 4 - σ.2 1, locals := 88 })).room (3) (88) := ⟨⟨Nat.le_refl _, Nat.le_refl _⟩, Nat.le_of_eq e3.symm, Nat.le_of_eq e4.symm⟩
  generalize (headSpec (ws_ yJ2_ensureCapacityInternal cJ2_ensureCapacityInternal 3 (Option.none : Option Jvm.ClassFile.FieldType)) ({ frames := 3, cells := σ.2 3 - σ.2 0, slots := σ.2 4 - σ.2 1, locals := 88 })).room = R at hR ⊢
  rw [e3, e4]
  have hI : CI g A s σ s.heap [] := ⟨hσ, va_S.rf, Nat.le_refl _⟩
  have hl := lv_entry ([.ref o, .int x1]) (n := 3) (Nat.le_of_ble_eq_true rfl)
  rw [lg_entry_eq]
  generalize (lg_sl ([.ref o, .int x1]) ++ List.replicate (3 - (lg_sl ([.ref o, .int x1])).length) Slot.unset).toArray = ls at hl ⊢
  have hl : lv_has ls 3 [(0, .ref o), (1, .int x1)] := hl
  obtain ⟨z, hz⟩ : ∃ z, z = (v, σ1) := ⟨_, rfl⟩
  rw [← hz] at h
  rw [show σ1 = z.2 by rw [hz]]
  clear hz v σ1
  refine W.narrow ?_
  unfold m_J2_ensureCapacityInternal at h
  refine r_aload_n (x := some o) C.x C.b dJ2_ensureCapacityInternal_0 rfl (lv_at hl 0 rfl) ?_
  refine cw_gR (r := some o) 11 0 C hw hI h (by decide) rfl in_J3 (by decide) (C.t _ q216) (fun _ h9 => h9) dJ2_ensureCapacityInternal_1 (fun v_1 h => ?_)
  refine cw_aL (r := v_1) C hw hI h dJ2_ensureCapacityInternal_4 (fun v_2 h => ?_)
  refine r_aload_n (x := some o) C.x C.b dJ2_ensureCapacityInternal_5 rfl (lv_at hl 0 rfl) ?_
  refine cw_gI (r := some o) 11 1 C hw hI h (by decide) rfl in_J3 (by decide) (C.t _ q217) (fun _ h9 => h9) dJ2_ensureCapacityInternal_6 (fun v_3 h => ?_)
  refine lv_ishr C.x C.b dJ2_ensureCapacityInternal_9 ?_
  refine tw_lt h (fun x2_4 h => ?_)
  refine lv_istore_n (i := 2) (lv' := [(2, .int x2_4), (0, .ref o), (1, .int x1)]) C.x C.b dJ2_ensureCapacityInternal_10 rfl hl (by decide) rfl (fun ls hl => ?_)
  refine lv_iload_n C.x C.b dJ2_ensureCapacityInternal_11 rfl (lv_at hl 2 rfl) ?_
  refine lv_iload_n C.x C.b dJ2_ensureCapacityInternal_12 rfl (lv_at hl 0 rfl) ?_
  refine lv_isub C.x C.b dJ2_ensureCapacityInternal_13 ?_
  refine lv_if_le (tgt := 38) C.x C.b dJ2_ensureCapacityInternal_14 (by decide) (fun c_5 => ?_) (fun c_5 => ?_)
  · have h := ip c_5 h
    exact cw_vret C hI h dJ2_ensureCapacityInternal_38
  · have h := iN c_5 h
    refine r_aload_n (x := some o) C.x C.b dJ2_ensureCapacityInternal_17 rfl (lv_at hl 1 rfl) ?_
    refine r_aload_n (x := some o) C.x C.b dJ2_ensureCapacityInternal_18 rfl (lv_at hl 1 rfl) ?_
    refine cw_gR (r := some o) 11 0 C hw hI h (by decide) rfl in_J3 (by decide) (C.t _ q216) (fun _ h9 => h9) dJ2_ensureCapacityInternal_19 (fun v_6 h => ?_)
    refine r_aload_n (x := some o) C.x C.b dJ2_ensureCapacityInternal_22 rfl (lv_at hl 1 rfl) ?_
    refine lv_iload_n C.x C.b dJ2_ensureCapacityInternal_23 rfl (lv_at hl 2 rfl) ?_
    refine cw_callV (y := yJ2_newCapacity) (bytes := cJ2_newCapacity) (maxL := 6) (r := some o) (f := fun a_9 => m_J2_newCapacity a_9 x1 σ) 11 (fun v => some (.int v)) [.int x1] C hw hR hI hl.1 h (by decide) rfl (fun aa vv ss ee => k_J2_newCapacity l g A aa x1 σ vv ss ee) (cwG 1 C.t (lw_meth q460) rfl rfl rfl (C.t _ q129) (C.t _ q457) (C.t _ q459) (sel_privS (C.t _ q199) (C.t _ q459) (va_Nw.use rfl (hw.2.2.2.2.2.2.2.2.2.2.2.2.2.2.2.1.2.1 _ (List.mem_of_getElem? (i := 1) rfl))) (by decide +kernel) (C.t _ q489) rfl) (by decide +kernel) ⟨Nat.le_trans (Nat.le_of_ble_eq_true rfl) hR.f, Nat.le_trans (Nat.le_of_ble_eq_true rfl) hR.lo⟩) rfl rfl (Nat.le_of_ble_eq_true rfl) dJ2_ensureCapacityInternal_24 (fun v_7 σ_8 H locs h hI => ?_)
    refine r_aload_n (x := some o) C.x C.b dJ2_ensureCapacityInternal_27 rfl (lv_at hl 1 rfl) ?_
    refine cw_gI (r := some o) 11 1 C hw hI h (by decide) rfl in_J3 (by decide) (C.t _ q217) (fun _ h9 => h9) dJ2_ensureCapacityInternal_28 (fun v_10 h => ?_)
    refine lv_ishl C.x C.b dJ2_ensureCapacityInternal_31 ?_
    refine cw_callS (y := yJ9_copyOf) (bytes := cJ9_copyOf) (maxL := 3) (fun v => some (va_rf v)) [va_rf v_6, .int (v_7 <<< (v_10 &&& 31))] C hw hR hI hl.1 h (fun vv ss ee => k_J9_copyOf l g A v_6 (v_7 <<< (v_10 &&& 31)) σ_8 vv ss ee) (va_cwS 2 C.t (lw_S q472 q473 q139 q474) rfl rfl rfl (by decide +kernel) ⟨Nat.le_trans (Nat.le_of_ble_eq_true rfl) hR.f, Nat.le_trans (Nat.le_of_ble_eq_true rfl) hR.lo⟩) rfl rfl (Nat.le_of_ble_eq_true rfl) dJ2_ensureCapacityInternal_32 (fun v_11 σ_12 H locs h hI => ?_)
    refine cw_pO (r := some o) (v := (va_rf v_11)) (ty := (.array .byte)) 11 0 C hw hI h (by decide) rfl in_J3 tyJ3 tyJ3_ok nmJ3 (by decide) (C.t _ q216) (fun _ h9 => h9) (Or.inl rfl) (by decide +kernel) (nar_a _ _) (fits_a _ _) dJ2_ensureCapacityInternal_35 (fun σ_13 H locs h hI => ?_)
    exact cw_vret C hI h dJ2_ensureCapacityInternal_38

theorem k_J2_isLatin1 (l : Launch) (g : cG) (A : Nat → Prop) (o : Nat) (σ : cS) (v : Int32) (σ1 : cS) (h : m_J2_isLatin1 o σ = some (v, σ1)) : Met l yJ2_isLatin1 (ws_ yJ2_isLatin1 cJ2_isLatin1 1 (Option.some Jvm.ClassFile.FieldType.boolean)) ({ frames := 1, cells := σ.2 3 - σ.2 0, slots := σ.2 4 - σ.2 1, locals := 40 }) (CPc g A [.ref o] σ) (CQ g A (some (.int v)) σ1) (σ.2 3 - σ.2 0) (σ.2 4 - σ.2 1) A := by
  refine Met.ofW (cc := cJ2_isLatin1) (maxL := 1) (ret := (Option.some Jvm.ClassFile.FieldType.boolean)) (by decide) rfl ?_
  intro p e s m args below meth c s₁ B hml hv
  obtain ⟨rfl, hw, hσ⟩ := hv
  have hts := atoms_spec (ws := (ws_ yJ2_isLatin1 cJ2_isLatin1 1 (Option.some Jvm.ClassFile.FieldType.boolean))) B.pre
  have C : CX p m meth c s ([.ref o] : List Value).toArray cJ2_isLatin1 1 (Option.some Jvm.ClassFile.FieldType.boolean) RJ2 := ⟨⟨B.exec, B.bytes, hml, findClass_of_methodNamed B.named, fun w h => hts w (List.mem_cons_of_mem _ h)⟩, B.returns, B.notSynchronized⟩
  have e3 : σ.2 3 - σ.2 0 = g.2.2.1 3 - s.heap.size := by rw [hσ.1, hσ.2.2.2.1 3 (by decide)]
  have e4 : σ.2 4 - σ.2 1 = g.2.2.1 4 - hsl s.heap := by rw [hσ.2.1, hσ.2.2.2.1 4 (by decide)]
  have hR : RM g s (headSpec (ws_ yJ2_isLatin1 cJ2_isLatin1 1 (Option.some Jvm.ClassFile.FieldType.boolean)) ({ frames := 1, cells := σ.2 3 - σ.2 0, slots := σ.2 4 - σ.2 1, locals := 40 })).room (1) (40) := ⟨⟨Nat.le_refl _, Nat.le_refl _⟩, Nat.le_of_eq e3.symm, Nat.le_of_eq e4.symm⟩
  generalize (headSpec (ws_ yJ2_isLatin1 cJ2_isLatin1 1 (Option.some Jvm.ClassFile.FieldType.boolean)) ({ frames := 1, cells := σ.2 3 - σ.2 0, slots := σ.2 4 - σ.2 1, locals := 40 })).room = R at hR ⊢
  rw [e3, e4]
  have hI : CI g A s σ s.heap [] := ⟨hσ, va_S.rf, Nat.le_refl _⟩
  have hl := lv_entry ([.ref o]) (n := 1) (Nat.le_of_ble_eq_true rfl)
  rw [lg_entry_eq]
  generalize (lg_sl ([.ref o]) ++ List.replicate (1 - (lg_sl ([.ref o])).length) Slot.unset).toArray = ls at hl ⊢
  have hl : lv_has ls 1 [(0, .ref o)] := hl
  obtain ⟨z, hz⟩ : ∃ z, z = (v, σ1) := ⟨_, rfl⟩
  rw [← hz] at h
  rw [show v = z.1 by rw [hz], show σ1 = z.2 by rw [hz]]
  clear hz v σ1
  refine W.narrow ?_
  unfold m_J2_isLatin1 at h
  refine va_gets C.x C.b hw.2.1.1 hI.2.1 C.o (C.t _ q207) (fun _ h9 => h9) dJ2_isLatin1_0 ?_
  refine lv_if_eq (tgt := 17) C.x C.b dJ2_isLatin1_3 (by decide) (fun c_1 => ?_) (fun c_1 => ?_)
  · have h := ip c_1 h
    refine lv_iconst (v := 0) C.x C.b dJ2_isLatin1_17 (by decide) ?_
    exact cw_zret C hI h dJ2_isLatin1_18
  · have h := iN c_1 h
    refine r_aload_n (x := some o) C.x C.b dJ2_isLatin1_6 rfl (lv_at hl 0 rfl) ?_
    refine cw_gI (r := some o) 11 1 C hw hI h (by decide) rfl in_J3 (by decide) (C.t _ q217) (fun _ h9 => h9) dJ2_isLatin1_7 (fun v_2 h => ?_)
    refine lv_if_ne (tgt := 17) C.x C.b dJ2_isLatin1_10 (by decide) (fun c_3 => ?_) (fun c_3 => ?_)
    · have h := iN c_3 h
      refine lv_iconst (v := 0) C.x C.b dJ2_isLatin1_17 (by decide) ?_
      exact cw_zret C hI h dJ2_isLatin1_18
    · have h := ip c_3 h
      refine lv_iconst (v := 1) C.x C.b dJ2_isLatin1_13 (by decide) ?_
      refine lv_goto (tgt := 18) C.x C.b dJ2_isLatin1_14 (by decide) ?_
      exact cw_zret C hI h dJ2_isLatin1_18

end
