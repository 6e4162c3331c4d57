/-! THE CLASS' WALKS 25: printed by gencl.py -/
section
variable {p : Program} {l : Launch} {e : Env} {R : Room} {s : State} {m : MethodId} {args : Array Value} {below : List Frame} {meth : Method} {c : Code} {g : cG} {A : Nat → Prop}
set_option maxRecDepth 100000
theorem k_X4_setValue (l : Launch) (g : cG) (A : Nat → Prop) (o : Nat) (x1 : Int32) (x2 : Int32) (σ : cS) (v : Int32) (σ1 : cS) (h : m_X4_setValue o x1 x2 σ = some (v, σ1)) : Met l yX4_setValue (ws_ yX4_setValue cX4_setValue 4 (Option.none : Option Jvm.ClassFile.FieldType)) ({ frames := 2, cells := σ.2 3 - σ.2 0, slots := σ.2 4 - σ.2 1, locals := 64 }) (CPc g A [.ref o, .int x1, .int x2] σ) (CQ g A (none) σ1) (σ.2 3 - σ.2 0) (σ.2 4 - σ.2 1) A := by
  refine Met.ofW (cc := cX4_setValue) (maxL := 4) (ret := (Option.none : Option Jvm.ClassFile.FieldType)) (by decide) rfl ?_
  intro p e s m args below meth c s₁ B hml hv
  obtain ⟨rfl, hw, hσ⟩ := hv
  have hts := atoms_spec (ws := (ws_ yX4_setValue cX4_setValue 4 (Option.none : Option Jvm.ClassFile.FieldType))) B.pre
  have C : CX p m meth c s ([.ref o, .int x1, .int x2] : List Value).toArray cX4_setValue 4 (Option.none : Option Jvm.ClassFile.FieldType) RX4 := ⟨⟨B.exec, B.bytes, hml, findClass_of_methodNamed B.named, fun w h => hts w (List.mem_cons_of_mem _ h)⟩, B.returns, B.notSynchronized⟩
  have e3 : σ.2 3 - σ.2 0 = g.2.2.1 3 - s.heap.size := by rw [hσ.1, hσ.2.2.2.1 3 (by decide)]
  have e4 : σ.2 4 - σ.2 1 = g.2.2.1 4 - hsl s.heap := by rw [hσ.2.1, hσ.2.2.2.1 4 (by decide)]
  have hR : RM g s (headSpec (ws_ yX4_setValue cX4_setValue 4 (Option.none : Option Jvm.ClassFile.FieldType)) ({ frames := 2, cells := σ.2 3 - σ.2 0, slots := σ.2 4 - σ.2 1, locals := 64 })).room (2) (64) := ⟨⟨Nat.le_refl _, Nat.le_refl _⟩, Nat.le_of_eq e3.symm, Nat.le_of_eq e4.symm⟩
  generalize (headSpec (ws_ yX4_setValue cX4_setValue 4 (Option.none : Option Jvm.ClassFile.FieldType)) ({ frames := 2, cells := σ.2 3 - σ.2 0, slots := σ.2 4 - σ.2 1, locals := 64 })).room = R at hR ⊢
  rw [e3, e4]
  have hI : CI g A s σ s.heap [] := ⟨hσ, va_S.rf, Nat.le_refl _⟩
  have hl := lv_entry ([.ref o, .int x1, .int x2]) (n := 4) (Nat.le_of_ble_eq_true rfl)
  rw [lg_entry_eq]
  generalize (lg_sl ([.ref o, .int x1, .int x2]) ++ List.replicate (4 - (lg_sl ([.ref o, .int x1, .int x2])).length) Slot.unset).toArray = ls at hl ⊢
  have hl : lv_has ls 4 [(0, .ref o), (1, .int x1), (2, .int x2)] := hl
  obtain ⟨z, hz⟩ : ∃ z, z = (v, σ1) := ⟨_, rfl⟩
  rw [← hz] at h
  rw [show σ1 = z.2 by rw [hz]]
  clear hz v σ1
  refine W.narrow ?_
  unfold m_X4_setValue at h
  refine r_aload_n (x := some o) C.x C.b dX4_setValue_0 rfl (lv_at hl 0 rfl) ?_
  refine r_aload_n (x := some o) C.x C.b dX4_setValue_1 rfl (lv_at hl 0 rfl) ?_
  refine cw_gI (r := some o) 1 8 C hw hI h (by decide) rfl in_X4 (by decide) (C.t _ q859) (fun _ h9 => h9) dX4_setValue_2 (fun v_1 h => ?_)
  refine cw_callV (y := yX4_valuesOf) (bytes := cX4_valuesOf) (maxL := 5) (r := some o) (f := fun a_4 => m_X4_valuesOf a_4 v_1 σ) 1 (fun v => some (va_rf v)) [.int v_1] C hw hR hI hl.1 h (by decide) rfl (fun aa vv ss ee => k_X4_valuesOf l g A aa v_1 σ vv ss ee) (cwV 1 C.t (lw_V q1231 q1232 q1233 q150 q1234) rfl rfl rfl (by decide +kernel) ⟨Nat.le_trans (Nat.le_of_ble_eq_true rfl) hR.f, Nat.le_trans (Nat.le_of_ble_eq_true rfl) hR.lo⟩) rfl rfl (Nat.le_of_ble_eq_true rfl) dX4_setValue_5 (fun v_2 σ_3 H locs h hI => ?_)
  refine r_astore_n (i := 3) (x := v_2) (lv' := [(3, va_rf v_2), (0, .ref o), (1, .int x1), (2, .int x2)]) C.x C.b dX4_setValue_8 rfl hl (by decide) (by rfl) (fun ls hl => ?_)
  refine r_aload_n (x := v_2) C.x C.b dX4_setValue_9 rfl (lv_at hl 0 rfl) ?_
  refine lv_iload_n C.x C.b dX4_setValue_10 rfl (lv_at hl 2 rfl) ?_
  refine lv_iload_n C.x C.b dX4_setValue_11 rfl (lv_at hl 3 rfl) ?_
  refine cw_ist (r := v_2) C hw hI h dX4_setValue_12 (fun σ_5 H locs h hI => ?_)
  refine r_aload_n (x := some o) C.x C.b dX4_setValue_13 rfl (lv_at hl 1 rfl) ?_
  refine r_aload_n (x := some o) C.x C.b dX4_setValue_14 rfl (lv_at hl 1 rfl) ?_
  refine r_aload_n (x := v_2) C.x C.b dX4_setValue_15 rfl (lv_at hl 0 rfl) ?_
  refine cw_callV (y := yX4_numberOf) (bytes := cX4_numberOf) (maxL := 4) (r := some o) (f := fun a_8 => m_X4_numberOf a_8 v_2 σ_5) 1 (fun v => some (.int v)) [va_rf v_2] C hw hR hI hl.1 h (by decide) rfl (fun aa vv ss ee => k_X4_numberOf l g A aa v_2 σ_5 vv ss ee) (cwV 1 C.t (lw_V q2057 q2058 q2059 q150 q2060) rfl rfl rfl (by decide +kernel) ⟨Nat.le_trans (Nat.le_of_ble_eq_true rfl) hR.f, Nat.le_trans (Nat.le_of_ble_eq_true rfl) hR.lo⟩) rfl rfl (Nat.le_of_ble_eq_true rfl) dX4_setValue_16 (fun v_6 σ_7 H locs h hI => ?_)
  refine cw_pO (r := some o) (v := (.int v_6)) (ty := .int) 1 8 C hw hI h (by decide) rfl in_X4 tyX4 tyX4_ok nmX4 (by decide) (C.t _ q859) (fun _ h9 => h9) (Or.inl rfl) (by decide +kernel) rfl rfl dX4_setValue_19 (fun σ_9 H locs h hI => ?_)
  exact cw_vret C hI h dX4_setValue_22

theorem k_X1_builtIn (l : Launch) (g : cG) (A : Nat → Prop) (x0 : Int32) (σ : cS) (v : Option Nat) (σ1 : cS) (h : m_X1_builtIn x0 σ = some (v, σ1)) : Met l yX1_builtIn (ws_ yX1_builtIn cX1_builtIn 1 (Option.some (Jvm.ClassFile.FieldType.object "java/lang/String"))) ({ frames := 1, cells := σ.2 3 - σ.2 0, slots := σ.2 4 - σ.2 1, locals := 40 }) (CPc g A [.int x0] σ) (CQ g A (some (va_rf v)) σ1) (σ.2 3 - σ.2 0) (σ.2 4 - σ.2 1) A := by
  refine Met.ofW (cc := cX1_builtIn) (maxL := 1) (ret := (Option.some (Jvm.ClassFile.FieldType.object "java/lang/String"))) (by decide) rfl ?_
  intro p e s m args below meth c s₁ B hml hv
  obtain ⟨rfl, hw, hσ⟩ := hv
  have hts := atoms_spec (ws := (ws_ yX1_builtIn cX1_builtIn 1 (Option.some (Jvm.ClassFile.FieldType.object "java/lang/String")))) B.pre
  have C : CX p m meth c s ([.int x0] : List Value).toArray cX1_builtIn 1 (Option.some (Jvm.ClassFile.FieldType.object "java/lang/String")) RX1 := ⟨⟨B.exec, B.bytes, hml, findClass_of_methodNamed B.named, fun w h => hts w (List.mem_cons_of_mem _ h)⟩, B.returns, B.notSynchronized⟩
  have e3 : σ.2 3 - σ.2 0 = g.2.2.1 3 - s.heap.size := by rw [hσ.1, hσ.2.2.2.1 3 (by decide)]
  have e4 : σ.2 4 - σ.2 1 = g.2.2.1 4 - hsl s.heap := by rw [hσ.2.1, hσ.2.2.2.1 4 (by decide)]
  have hR : RM g s (headSpec (ws_ yX1_builtIn cX1_builtIn 1 (Option.some (Jvm.ClassFile.FieldType.object "java/lang/String"))) ({ frames := 1, cells := σ.2 3 - σ.2 0, slots := σ.2 4 - σ.2 1, locals := 40 })).room (1) (40) := ⟨⟨Nat.le_refl _, Nat.le_refl _⟩, Nat.le_of_eq e3.symm, Nat.le_of_eq e4.symm⟩
  generalize (headSpec (ws_ yX1_builtIn cX1_builtIn 1 (Option.some (Jvm.ClassFile.FieldType.object "java/lang/String"))) ({ frames := 1, cells := σ.2 3 - σ.2 0, slots := σ.2 4 - σ.2 1, locals := 40 })).room = R at hR ⊢
  rw [e3, e4]
  have hI : CI g A s σ s.heap [] := ⟨hσ, va_S.rf, Nat.le_refl _⟩
  have hl := lv_entry ([.int x0]) (n := 1) (Nat.le_of_ble_eq_true rfl)
  rw [lg_entry_eq]
  generalize (lg_sl ([.int x0]) ++ List.replicate (1 - (lg_sl ([.int x0])).length) Slot.unset).toArray = ls at hl ⊢
  have hl : lv_has ls 1 [(0, .int x0)] := hl
  obtain ⟨z, hz⟩ : ∃ z, z = (v, σ1) := ⟨_, rfl⟩
  rw [← hz] at h
  rw [show v = z.1 by rw [hz], show σ1 = z.2 by rw [hz]]
  clear hz v σ1
  refine W.narrow ?_
  unfold m_X1_builtIn at h
  refine lv_iload_n C.x C.b dX1_builtIn_0 rfl (lv_at hl 0 rfl) ?_
  by_cases c_1 : x0 = 0
  · have h := ip c_1 h
    refine lv_lookup (off := 27) (tgt := 28) C.x C.b dX1_builtIn_1 (by decide) (by rw [c_1]; rfl) (by decide) ?_
    refine cw_ldcS (tx := "facts 2 3; heirs 3 rest 2; rule a = 1 gives 0 1/2, 1 1/4; rule b > 0 and not a = 1 gives 1 1/3; rule a = 1 and b = 2 gives 0 2/3 over 0;") (k := 20) C hw hI (List.mem_of_getElem? (i := 0) rfl) (by decide) dX1_builtIn_28 ?_
    refine lv_goto (tgt := 40) C.x C.b dX1_builtIn_30 (by decide) ?_
    exact cw_aret (x := some (σ.2 20)) C (Or.inl ⟨_, rfl⟩) hI h dX1_builtIn_40
  have h := iN c_1 h
  by_cases c_2 : x0 = 1
  · have h := ip c_2 h
    refine lv_lookup (off := 32) (tgt := 33) C.x C.b dX1_builtIn_1 (by decide) (by rw [c_2]; rfl) (by decide) ?_
    refine cw_ldcS (tx := "facts 2 2 2 2; heirs 4 rest 0; estate 9000; heir 1 free 500 rate 20; rule a = 1 or b = 1 and c = 1 gives 1 1/4, 2 1/4, 3 1/4; rule (a = 1 or b = 1) and c = 1 gives 3 1/12 over 0; rule not (a = 1 or d = 1) gives nothing; rule d = 1 gives 2 1/12, 3 5/12 over 1;") (k := 21) C hw hI (List.mem_of_getElem? (i := 1) rfl) (by decide) dX1_builtIn_33 ?_
    refine lv_goto (tgt := 40) C.x C.b dX1_builtIn_35 (by decide) ?_
    exact cw_aret (x := some (σ.2 21)) C (Or.inl ⟨_, rfl⟩) hI h dX1_builtIn_40
  have h := iN c_2 h
  refine lv_lookup (off := 37) (tgt := 38) C.x C.b dX1_builtIn_1 (by decide) (by show Op.lookupswitch.offset [(0, 27), (1, 32)] 37 _ = _; rw [lv_osw c_1 (by decide), lv_osw c_2 (by decide)]; rfl) (by decide) ?_
  refine cw_ldcS (tx := "facts 4; heirs 1 rest 0; estate 0; rule a < 1 gives 0 1/1; rule a > 2 gives nothing over 0; rule always gives nothing;") (k := 22) C hw hI (List.mem_of_getElem? (i := 2) rfl) (by decide) dX1_builtIn_38 ?_
  exact cw_aret (x := some (σ.2 22)) C (Or.inl ⟨_, rfl⟩) hI h dX1_builtIn_40

theorem k_X1_replaceAll (l : Launch) (g : cG) (A : Nat → Prop) (o : Nat) (x1 : Option Nat) (σ : cS) (v : Int32) (σ1 : cS) (h : m_X1_replaceAll o x1 σ = some (v, σ1)) : Met l yX1_replaceAll (ws_ yX1_replaceAll cX1_replaceAll 2 (Option.none : Option Jvm.ClassFile.FieldType)) ({ frames := 3, cells := σ.2 3 - σ.2 0, slots := σ.2 4 - σ.2 1, locals := 83 }) (CPc g A [.ref o, va_rf x1] σ) (CQ g A (none) σ1) (σ.2 3 - σ.2 0) (σ.2 4 - σ.2 1) A := by
  refine Met.ofW (cc := cX1_replaceAll) (maxL := 2) (ret := (Option.none : Option Jvm.ClassFile.FieldType)) (by decide) rfl ?_
  intro p e s m args below meth c s₁ B hml hv
  obtain ⟨rfl, hw, hσ⟩ := hv
  have hts := atoms_spec (ws := (ws_ yX1_replaceAll cX1_replaceAll 2 (Option.none : Option Jvm.ClassFile.FieldType))) B.pre
  have C : CX p m meth c s ([.ref o, va_rf x1] : List Value).toArray cX1_replaceAll 2 (Option.none : Option Jvm.ClassFile.FieldType) RX1 := ⟨⟨B.exec, B.bytes, hml, findClass_of_methodNamed B.named, fun w h => hts w (List.mem_cons_of_mem _ h)⟩, B.returns, B.notSynchronized⟩
  have e3 : σ.2 3 - σ.2 0 = g.2.2.1 3 - s.heap.size := by rw [hσ.1, hσ.2.2.2.1 3 (by decide)]
  have e4 : σ.2 4 - σ.2 1 = g.2.2.1 4 - hsl s.heap := by rw [hσ.2.1, hσ.2.2.2.1 4 (by decide)]
  have hR : RM g s (headSpec (ws_ yX1_replaceAll cX1_replaceAll 2 (Option.none : Option Jvm.ClassFile.FieldType)) ({ frames := 3, cells := σ.2 3 - σ.2 0, slots := σ.2 4 - σ.2 1, locals := 83 })).room (3) (83) := ⟨⟨Nat.le_refl _, Nat.le_refl _⟩, Nat.le_of_eq e3.symm, Nat.le_of_eq e4.symm⟩
  generalize (headSpec (ws_ yX1_replaceAll cX1_replaceAll 2 (Option.none : Option Jvm.ClassFile.FieldType)) ({ frames := 3, cells := σ.2 3 - σ.2 0, slots := σ.2 4 - σ.2 1, locals := 83 })).room = R at hR ⊢
  rw [e3, e4]
  have hI : CI g A s σ s.heap [] := ⟨hσ, va_S.rf, Nat.le_refl _⟩
  have hlen : (lg_sl ([.ref o, va_rf x1])).length ≤ 2 := by rcases x1 with _ | x1 <;> exact Nat.le_of_ble_eq_true rfl
  have hl := lv_entry ([.ref o, va_rf x1]) (n := 2) hlen
  rw [lg_entry_eq]
  generalize (lg_sl ([.ref o, va_rf x1]) ++ List.replicate (2 - (lg_sl ([.ref o, va_rf x1])).length) Slot.unset).toArray = ls at hl ⊢
  have hl : lv_has ls 2 [(0, .ref o), (1, va_rf x1)] := by clear hI hw h hσ e3 e4 hR C hts B; rcases x1 with _ | x1 <;> exact hl
  obtain ⟨z, hz⟩ : ∃ z, z = (v, σ1) := ⟨_, rfl⟩
  rw [← hz] at h
  rw [show σ1 = z.2 by rw [hz]]
  clear hz v σ1
  refine W.narrow ?_
  unfold m_X1_replaceAll at h
  refine r_aload_n (x := some o) C.x C.b dX1_replaceAll_0 rfl (lv_at hl 0 rfl) ?_
  refine r_aload_n (x := x1) C.x C.b dX1_replaceAll_1 rfl (lv_at hl 1 rfl) ?_
  refine cw_pO (r := some o) (v := (va_rf x1)) (ty := (.object "HeirCases$Will")) 0 0 C hw hI h (by decide) rfl in_X1 tyX1 tyX1_ok nmX1 (by decide) (C.t _ q1172) (fun _ h9 => h9) (Or.inl rfl) (by decide +kernel) (nar_o _ _) (fits_o _ _) dX1_replaceAll_2 (fun σ_1 H locs h hI => ?_)
  refine r_aload_n (x := some o) C.x C.b dX1_replaceAll_5 rfl (lv_at hl 0 rfl) ?_
  refine cw_gR (r := some o) 0 1 C hw hI h (by decide) rfl in_X1 (by decide) (C.t _ q1173) (fun _ h9 => h9) dX1_replaceAll_6 (fun v_2 h => ?_)
  refine cw_callV (y := yJ1_clear) (bytes := cJ1_clear) (maxL := 1) (r := v_2) (f := fun a_4 => m_J1_clear a_4 σ_1) 10 (fun _ => none) [] C hw hR hI hl.1 h (by decide) rfl (fun aa vv ss ee => k_J1_clear l g A aa σ_1 vv ss ee) (cwV 0 C.t (lw_V q1149 q1150 q1151 q128 q1152) rfl rfl rfl (by decide +kernel) ⟨Nat.le_trans (Nat.le_of_ble_eq_true rfl) hR.f, Nat.le_trans (Nat.le_of_ble_eq_true rfl) hR.lo⟩) rfl rfl (Nat.le_of_ble_eq_true rfl) dX1_replaceAll_9 (fun _ σ_3 H locs h hI => ?_)
  refine r_aload_n (x := some o) C.x C.b dX1_replaceAll_12 rfl (lv_at hl 0 rfl) ?_
  refine cw_gR (r := some o) 0 2 C hw hI h (by decide) rfl in_X1 (by decide) (C.t _ q1174) (fun _ h9 => h9) dX1_replaceAll_13 (fun v_5 h => ?_)
  refine lv_iconst (v := 0) C.x C.b dX1_replaceAll_16 (by decide) ?_
  refine lv_null C.x C.b dX1_replaceAll_17 ?_
  refine cw_rst (r := v_5) (x := none) C hw hI h dX1_replaceAll_18 (fun σ_6 H locs h hI => ?_)
  refine r_aload_n (x := some o) C.x C.b dX1_replaceAll_19 rfl (lv_at hl 0 rfl) ?_
  refine cw_gR (r := some o) 0 2 C hw hI h (by decide) rfl in_X1 (by decide) (C.t _ q1174) (fun _ h9 => h9) dX1_replaceAll_20 (fun v_7 h => ?_)
  refine lv_iconst (v := 1) C.x C.b dX1_replaceAll_23 (by decide) ?_
  refine lv_null C.x C.b dX1_replaceAll_24 ?_
  refine cw_rst (r := v_7) (x := none) C hw hI h dX1_replaceAll_25 (fun σ_8 H locs h hI => ?_)
  exact cw_vret C hI h dX1_replaceAll_26

theorem k_X1_start (l : Launch) (hl0 : l.stackTraces = false) (g : cG) (A : Nat → Prop) (o : Nat) (x1 : Int32) (σ : cS) (v : Int32) (σ1 : cS) (h : m_X1_start o x1 σ = some (v, σ1)) : Met l yX1_start (wsW_ yX1_start cX1_start 4 (Option.none : Option Jvm.ClassFile.FieldType) [(5, 24, 27, 73)]) ({ frames := 431, cells := σ.2 3 - σ.2 0, slots := σ.2 4 - σ.2 1, locals := 101024 }) (CPc g A [.ref o, .int x1] σ) (CQ g A (none) σ1) (σ.2 3 - σ.2 0) (σ.2 4 - σ.2 1) A := by
  refine met_of_vx (vx_ofWH (cc := cX1_start) (maxL := 4) (ret := (Option.none : Option Jvm.ClassFile.FieldType)) (by decide) rfl (fun p e s m args below meth c s₁ B hml hv => vx_ret ?_))
  obtain ⟨rfl, hw, hσ⟩ := hv
  have hts := atoms_spec (ws := (wsW_ yX1_start cX1_start 4 (Option.none : Option Jvm.ClassFile.FieldType) [(5, 24, 27, 73)])) B.pre
  have C : CX p m meth c s ([.ref o, .int x1] : List Value).toArray cX1_start 4 (Option.none : Option Jvm.ClassFile.FieldType) RX1 := ⟨⟨B.exec, B.bytes, hml, findClass_of_methodNamed B.named, fun w h => hts w (List.mem_cons_of_mem _ h)⟩, B.returns, B.notSynchronized⟩
  have hxT := vx_table (x := yX1_start) B (hts _ List.mem_cons_self)
  have e3 : σ.2 3 - σ.2 0 = g.2.2.1 3 - s.heap.size := by rw [hσ.1, hσ.2.2.2.1 3 (by decide)]
  have e4 : σ.2 4 - σ.2 1 = g.2.2.1 4 - hsl s.heap := by rw [hσ.2.1, hσ.2.2.2.1 4 (by decide)]
  have hR : RM g s (headSpec (wsW_ yX1_start cX1_start 4 (Option.none : Option Jvm.ClassFile.FieldType) [(5, 24, 27, 73)]) ({ frames := 431, cells := σ.2 3 - σ.2 0, slots := σ.2 4 - σ.2 1, locals := 101024 })).room (431) (101024) := ⟨⟨Nat.le_refl _, Nat.le_refl _⟩, Nat.le_of_eq e3.symm, Nat.le_of_eq e4.symm⟩
  generalize (headSpec (wsW_ yX1_start cX1_start 4 (Option.none : Option Jvm.ClassFile.FieldType) [(5, 24, 27, 73)]) ({ frames := 431, cells := σ.2 3 - σ.2 0, slots := σ.2 4 - σ.2 1, locals := 101024 })).room = R at hR ⊢
  rw [e3, e4]
  have hI : CI g A s σ s.heap [] := ⟨hσ, va_S.rf, Nat.le_refl _⟩
  have hl := lv_entry ([.ref o, .int x1]) (n := 4) (Nat.le_of_ble_eq_true rfl)
  rw [lg_entry_eq]
  generalize (lg_sl ([.ref o, .int x1]) ++ List.replicate (4 - (lg_sl ([.ref o, .int x1])).length) Slot.unset).toArray = ls at hl ⊢
  have hl : lv_has ls 4 [(0, .ref o), (1, .int x1)] := hl
  obtain ⟨z, hz⟩ : ∃ z, z = (v, σ1) := ⟨_, rfl⟩
  rw [← hz] at h
  rw [show σ1 = z.2 by rw [hz]]
  clear hz v σ1
  refine W.narrow ?_
  unfold m_X1_start at h
  refine lv_iload_n C.x C.b dX1_start_0 rfl (lv_at hl 1 rfl) ?_
  refine cw_callS (y := yX1_builtIn) (bytes := cX1_builtIn) (maxL := 1) (fun v => some (va_rf v)) [.int x1] C hw hR hI hl.1 h (fun vv ss ee => k_X1_builtIn l g A x1 σ vv ss ee) (va_cwS 1 C.t (lw_S q236 q237 q126 q238) rfl rfl rfl (by decide +kernel) ⟨Nat.le_trans (Nat.le_of_ble_eq_true rfl) hR.f, Nat.le_trans (Nat.le_of_ble_eq_true rfl) hR.lo⟩) rfl rfl (Nat.le_of_ble_eq_true rfl) dX1_start_1 (fun v_1 σ_2 H locs h hI => ?_)
  refine r_astore_n (i := 2) (x := v_1) (lv' := [(2, va_rf v_1), (0, .ref o), (1, .int x1)]) C.x C.b dX1_start_4 rfl hl (by decide) (by rfl) (fun ls hl => ?_)
  refine r_aload_n (x := some o) C.x C.b dX1_start_5 rfl (lv_at hl 1 rfl) ?_
  refine cw_new (T := TX2) (N := 10) 8 C hw hI hR.2.1 hR.2.2 h (by decide) rfl in_X2 tyX2 tyX2_ok (fun j hj => match j, hj with | 0, _ => rfl | 1, _ => rfl | 2, _ => rfl | 3, _ => rfl | 4, _ => rfl | 5, _ => rfl | 6, _ => rfl | 7, _ => rfl | 8, _ => rfl | 9, _ => rfl | j + 10, hj => absurd hj (Nat.not_lt_of_le (Nat.le_add_left _ _))) q242 q243 q133 dX1_start_6 (fun q_3 σ_4 H locs h hI => ?_)
  refine lv_dup C.x C.b dX1_start_9 rfl ?_
  refine r_aload_n (x := v_1) C.x C.b dX1_start_10 rfl (lv_at hl 0 rfl) ?_
  refine r_aload_n (x := v_1) C.x C.b dX1_start_11 rfl (lv_at hl 0 rfl) ?_
  refine cw_callV (y := yJ4_length) (bytes := cJ4_length) (maxL := 1) (r := v_1) (f := fun a_7 => m_J4_length a_7 σ_4) 12 (fun v => some (.int v)) [] C hw hR hI hl.1 h (by decide) rfl (fun aa vv ss ee => k_J4_length l g A aa σ_4 vv ss ee) (cwV 0 C.t (lw_V q244 q245 q246 q131 q247) rfl rfl rfl (by decide +kernel) ⟨Nat.le_trans (Nat.le_of_ble_eq_true rfl) hR.f, Nat.le_trans (Nat.le_of_ble_eq_true rfl) hR.lo⟩) rfl rfl (Nat.le_of_ble_eq_true rfl) dX1_start_12 (fun v_5 σ_6 H locs h hI => ?_)
  refine cw_callI (y := yX2_init) (bytes := cX2_init) (maxL := 3) (b := q_3) [va_rf v_1, .int v_5] C hw hR hI hl.1 h (fun vv ss ee => k_X2_init l g A q_3 v_1 v_5 σ_6 vv ss ee) (cwI 2 C.t (lw_meth q255) rfl rfl rfl (C.t _ q133) (C.t _ q253) (C.t _ q254) rfl (by decide +kernel) ⟨Nat.le_trans (Nat.le_of_ble_eq_true rfl) hR.f, Nat.le_trans (Nat.le_of_ble_eq_true rfl) hR.lo⟩) rfl rfl (Nat.le_of_ble_eq_true rfl) dX1_start_15 (fun σ_8 _ H locs h hI => ?_)
  refine cx_callVC (y := yX2_read) (bytes := cX2_read) (maxL := 5) (r := some q_3) (f := fun a_11 => m_X2_read a_11 σ_8) (st0 := 5) (en := 24) (hpc := 27) (ct := 73) 8 (fun v => some (va_rf v)) [] [] [] C hxT (by decide) (by decide) (by decide) (C.t _ q235) hw hR hI hl.1 h (by decide) rfl (fun aa uu ee => k_X2_read l hl0 g A aa σ_8 uu ee) (cwV 0 C.t (lw_V q289 q290 q291 q133 q292) rfl rfl rfl (by decide +kernel) ⟨Nat.le_trans (Nat.le_of_ble_eq_true rfl) hR.f, Nat.le_trans (Nat.le_of_ble_eq_true rfl) hR.lo⟩) rfl rfl (Nat.le_of_ble_eq_true rfl) dX1_start_18 (fun v_9 σ_10 H locs h hI => ?_) (fun q_12 σ_13 H locs h hI => ?_)
  · refine cw_callV (y := yX1_replaceAll) (bytes := cX1_replaceAll) (maxL := 2) (r := some o) (f := fun a_15 => m_X1_replaceAll a_15 v_9 σ_10) 0 (fun _ => none) [va_rf v_9] C hw hR hI hl.1 h (by decide) rfl (fun aa vv ss ee => k_X1_replaceAll l g A aa v_9 σ_10 vv ss ee) (cwV 1 C.t (lw_V q1145 q1147 qs22 q126 q1148) rfl rfl rfl (by decide +kernel) ⟨Nat.le_trans (Nat.le_of_ble_eq_true rfl) hR.f, Nat.le_trans (Nat.le_of_ble_eq_true rfl) hR.lo⟩) rfl rfl (Nat.le_of_ble_eq_true rfl) dX1_start_21 (fun _ σ_14 H locs h hI => ?_)
    refine lv_goto (tgt := 38) C.x C.b dX1_start_24 (by decide) ?_
    exact cw_vret C hI h dX1_start_38
  · refine r_astore_n (i := 3) (x := some q_12) (lv' := [(3, .ref q_12), (2, va_rf v_1), (0, .ref o), (1, .int x1)]) C.x C.b dX1_start_27 rfl hl (by decide) (by first | (simp [List.filter, cat_rf, cat_i, cat_a, cat_n, cat_l, cat_f, cat_d]; done) | (simp [List.filter, cat_rf, cat_i, cat_a, cat_n, cat_l, cat_f, cat_d]; rfl)) (fun ls hl => ?_)
    cases h

theorem k_X1_init (l : Launch) (hl0 : l.stackTraces = false) (g : cG) (A : Nat → Prop) (o : Nat) (σ : cS) (v : Int32) (σ1 : cS) (h : m_X1_init o σ = some (v, σ1)) : Met l yX1_init (ws_ yX1_init cX1_init 1 (Option.none : Option Jvm.ClassFile.FieldType)) ({ frames := 432, cells := σ.2 3 - σ.2 0, slots := σ.2 4 - σ.2 1, locals := 101047 }) (CPc g A [.ref o] σ) (CQ g A (none) σ1) (σ.2 3 - σ.2 0) (σ.2 4 - σ.2 1) A := by
  refine Met.ofW (cc := cX1_init) (maxL := 1) (ret := (Option.none : Option Jvm.ClassFile.FieldType)) (by decide) rfl ?_
  intro p e s m args below meth c s₁ B hml hv
  obtain ⟨rfl, hw, hσ⟩ := hv
  have hts := atoms_spec (ws := (ws_ yX1_init cX1_init 1 (Option.none : Option Jvm.ClassFile.FieldType))) B.pre
  have C : CX p m meth c s ([.ref o] : List Value).toArray cX1_init 1 (Option.none : Option Jvm.ClassFile.FieldType) RX1 := ⟨⟨B.exec, B.bytes, hml, findClass_of_methodNamed B.named, fun w h => hts w (List.mem_cons_of_mem _ h)⟩, B.returns, B.notSynchronized⟩
  have hin : meth.name = "<init>" := (name_of_methodNamed B.named B.method).1
  have e3 : σ.2 3 - σ.2 0 = g.2.2.1 3 - s.heap.size := by rw [hσ.1, hσ.2.2.2.1 3 (by decide)]
  have e4 : σ.2 4 - σ.2 1 = g.2.2.1 4 - hsl s.heap := by rw [hσ.2.1, hσ.2.2.2.1 4 (by decide)]
  have hR : RM g s (headSpec (ws_ yX1_init cX1_init 1 (Option.none : Option Jvm.ClassFile.FieldType)) ({ frames := 432, cells := σ.2 3 - σ.2 0, slots := σ.2 4 - σ.2 1, locals := 101047 })).room (432) (101047) := ⟨⟨Nat.le_refl _, Nat.le_refl _⟩, Nat.le_of_eq e3.symm, Nat.le_of_eq e4.symm⟩
  generalize (headSpec (ws_ yX1_init cX1_init 1 (Option.none : Option Jvm.ClassFile.FieldType)) ({ frames := 432, cells := σ.2 3 - σ.2 0, slots := σ.2 4 - σ.2 1, locals := 101047 })).room = R at hR ⊢
  rw [e3, e4]
  have hI : CI g A s σ s.heap [] := ⟨hσ, va_S.rf, Nat.le_refl _⟩
  have hl := lv_entry ([.ref o]) (n := 1) (Nat.le_of_ble_eq_true rfl)
  rw [lg_entry_eq]
  generalize (lg_sl ([.ref o]) ++ List.replicate (1 - (lg_sl ([.ref o])).length) Slot.unset).toArray = ls at hl ⊢
  have hl : lv_has ls 1 [(0, .ref o)] := hl
  obtain ⟨z, hz⟩ : ∃ z, z = (v, σ1) := ⟨_, rfl⟩
  rw [← hz] at h
  rw [show σ1 = z.2 by rw [hz]]
  clear hz v σ1
  refine W.narrow ?_
  unfold m_X1_init at h
  refine r_aload_n (x := some o) C.x C.b dX1_init_0 rfl (lv_at hl 0 rfl) ?_
  refine cw_obj C hR hl.1 q172 q173 q174 dX1_init_1 (by decide) (by decide) (Nat.le_of_ble_eq_true rfl) ?_
  refine r_aload_n (x := some o) C.x C.b dX1_init_4 rfl (lv_at hl 0 rfl) ?_
  refine cw_new (T := TJ1) (N := 3) 10 C hw hI hR.2.1 hR.2.2 h (by decide) rfl in_J1 tyJ1 tyJ1_ok (fun j hj => match j, hj with | 0, _ => rfl | 1, _ => rfl | 2, _ => rfl | j + 3, hj => absurd hj (Nat.not_lt_of_le (Nat.le_add_left _ _))) q175 q176 q128 dX1_init_5 (fun q_1 σ_2 H locs h hI => ?_)
  refine lv_dup C.x C.b dX1_init_8 rfl ?_
  refine cw_callI (y := yJ1_init) (bytes := cJ1_init) (maxL := 1) (b := q_1) [] C hw hR hI hl.1 h (fun vv ss ee => k_J1_init l g A q_1 σ_2 vv ss ee) (cwI 0 C.t (lw_meth q179) rfl rfl rfl (C.t _ q128) (C.t _ q177) (C.t _ q178) rfl (by decide +kernel) ⟨Nat.le_trans (Nat.le_of_ble_eq_true rfl) hR.f, Nat.le_trans (Nat.le_of_ble_eq_true rfl) hR.lo⟩) rfl rfl (Nat.le_of_ble_eq_true rfl) dX1_init_9 (fun σ_3 _ H locs h hI => ?_)
  refine cw_pO (r := some o) (v := (va_rf (some q_1))) (ty := (.object "java/util/ArrayDeque")) 0 1 C hw hI h (by decide) rfl in_X1 tyX1 tyX1_ok nmX1 (by decide) (C.t _ q1173) (fun _ h9 => h9) (Or.inr ⟨rfl, rfl, hin⟩) (by decide +kernel) (nar_o _ _) (fits_o _ _) dX1_init_12 (fun σ_4 H locs h hI => ?_)
  refine r_aload_n (x := some o) C.x C.b dX1_init_15 rfl (lv_at hl 0 rfl) ?_
  refine lv_iconst (v := 2) C.x C.b dX1_init_16 (by decide) ?_
  refine cw_nAr (kind := 3) (E := "HeirCases$Will") C hw hR hI h (by decide) rfl (by simp) q196 dX1_init_17 (fun q_5 σ_6 H locs h hI => ?_)
  refine cw_pO (r := some o) (v := (va_rf (some q_5))) (ty := (.array (.object "HeirCases$Will"))) 0 2 C hw hI h (by decide) rfl in_X1 tyX1 tyX1_ok nmX1 (by decide) (C.t _ q1174) (fun _ h9 => h9) (Or.inr ⟨rfl, rfl, hin⟩) (by decide +kernel) (nar_a _ _) (fits_a _ _) dX1_init_20 (fun σ_7 H locs h hI => ?_)
  refine r_aload_n (x := some o) C.x C.b dX1_init_23 rfl (lv_at hl 0 rfl) ?_
  refine cw_new (T := TJ3) (N := 4) 11 C hw hI hR.2.1 hR.2.2 h (by decide) rfl in_J3 tyJ3 tyJ3_ok (fun j hj => match j, hj with | 0, _ => rfl | 1, _ => rfl | 2, _ => rfl | 3, _ => rfl | j + 4, hj => absurd hj (Nat.not_lt_of_le (Nat.le_add_left _ _))) q198 q199 q130 dX1_init_24 (fun q_8 σ_9 H locs h hI => ?_)
  refine lv_dup C.x C.b dX1_init_27 rfl ?_
  refine cw_callI (y := yJ3_init) (bytes := cJ3_init) (maxL := 1) (b := q_8) [] C hw hR hI hl.1 h (fun vv ss ee => k_J3_init l g A q_8 σ_9 vv ss ee) (cwI 0 C.t (lw_meth q202) rfl rfl rfl (C.t _ q130) (C.t _ q200) (C.t _ q201) rfl (by decide +kernel) ⟨Nat.le_trans (Nat.le_of_ble_eq_true rfl) hR.f, Nat.le_trans (Nat.le_of_ble_eq_true rfl) hR.lo⟩) rfl rfl (Nat.le_of_ble_eq_true rfl) dX1_init_28 (fun σ_10 _ H locs h hI => ?_)
  refine cw_pO (r := some o) (v := (va_rf (some q_8))) (ty := (.object "java/lang/StringBuilder")) 0 3 C hw hI h (by decide) rfl in_X1 tyX1 tyX1_ok nmX1 (by decide) (C.t _ q1175) (fun _ h9 => h9) (Or.inr ⟨rfl, rfl, hin⟩) (by decide +kernel) (nar_o _ _) (fits_o _ _) dX1_init_31 (fun σ_11 H locs h hI => ?_)
  refine r_aload_n (x := some o) C.x C.b dX1_init_34 rfl (lv_at hl 0 rfl) ?_
  refine cw_new (T := TJ3) (N := 4) 11 C hw hI hR.2.1 hR.2.2 h (by decide) rfl in_J3 tyJ3 tyJ3_ok (fun j hj => match j, hj with | 0, _ => rfl | 1, _ => rfl | 2, _ => rfl | 3, _ => rfl | j + 4, hj => absurd hj (Nat.not_lt_of_le (Nat.le_add_left _ _))) q198 q199 q130 dX1_init_35 (fun q_12 σ_13 H locs h hI => ?_)
  refine lv_dup C.x C.b dX1_init_38 rfl ?_
  refine cw_callI (y := yJ3_init) (bytes := cJ3_init) (maxL := 1) (b := q_12) [] C hw hR hI hl.1 h (fun vv ss ee => k_J3_init l g A q_12 σ_13 vv ss ee) (cwI 0 C.t (lw_meth q202) rfl rfl rfl (C.t _ q130) (C.t _ q200) (C.t _ q201) rfl (by decide +kernel) ⟨Nat.le_trans (Nat.le_of_ble_eq_true rfl) hR.f, Nat.le_trans (Nat.le_of_ble_eq_true rfl) hR.lo⟩) rfl rfl (Nat.le_of_ble_eq_true rfl) dX1_init_39 (fun σ_14 _ H locs h hI => ?_)
  refine cw_pO (r := some o) (v := (va_rf (some q_12))) (ty := (.object "java/lang/StringBuilder")) 0 4 C hw hI h (by decide) rfl in_X1 tyX1 tyX1_ok nmX1 (by decide) (C.t _ q1176) (fun _ h9 => h9) (Or.inl rfl) (by decide +kernel) (nar_o _ _) (fits_o _ _) dX1_init_42 (fun σ_15 H locs h hI => ?_)
  refine r_aload_n (x := some o) C.x C.b dX1_init_45 rfl (lv_at hl 0 rfl) ?_
  refine lv_iconst (v := 0) C.x C.b dX1_init_46 (by decide) ?_
  refine cw_callVW (y := yX1_start) (bytes := cX1_start) (maxL := 4) (hh := [(5, 24, 27, 73)]) (r := some o) (f := fun a_17 => m_X1_start a_17 0 σ_15) 0 (fun _ => none) [.int 0] C hw hR hI hl.1 h (by decide) rfl (fun aa vv ss ee => k_X1_start l hl0 g A aa 0 σ_15 vv ss ee) (vx_cwVW 1 C.t (lw_VW q231 q233 qs0 q126 q234) rfl rfl rfl (by decide +kernel) ⟨Nat.le_trans (Nat.le_of_ble_eq_true rfl) hR.f, Nat.le_trans (Nat.le_of_ble_eq_true rfl) hR.lo⟩) rfl rfl (Nat.le_of_ble_eq_true rfl) dX1_init_47 (fun _ σ_16 H locs h hI => ?_)
  exact cw_vret C hI h dX1_init_50

theorem w_X1_appendWords_11 {z : Int32 × cS} {o : Nat} (C : CX p m meth c s args cX1_appendWords 4 (Option.none : Option Jvm.ClassFile.FieldType) RX1) (hw : WKc g A s s.heap) (hR : RM g s R (6) (152)) {k2 : Option Nat → Int32 → cS → Option (Int32 × cS)} (hk2 : ∀ (x1 : Option Nat) (x2 : Int32) (σ : cS) (H : Heap) (locs : List Loc) (ls : Array Slot), k2 x1 x2 σ = some z → CI g A s σ H locs → lv_has ls 4 [(0, .ref o), (1, va_rf x1), (2, .int x2)] → W p l e R s m args below meth c H locs (H.size - s.heap.size) (hsl H - hsl s.heap) (MQ below (CQ g A (none) z.2) args s (g.2.2.1 3 - s.heap.size) (g.2.2.1 4 - hsl s.heap) A) (F0 m 2 ls [])) : ∀ (n : Nat) (x1 : Option Nat) (x2 : Int32) (x3 : Int32) (σ : cS) (H : Heap) (locs : List Loc) (ls : Array Slot), b_X1_appendWords_11 o k2 n x1 x2 x3 σ = some z → CI g A s σ H locs → lv_has ls 4 [(0, .ref o), (1, va_rf x1), (2, .int x2), (3, .int x3)] → W p l e R s m args below meth c H locs (H.size - s.heap.size) (hsl H - hsl s.heap) (MQ below (CQ g A (none) z.2) args s (g.2.2.1 3 - s.heap.size) (g.2.2.1 4 - hsl s.heap) A) (F0 m 11 ls []) := by
  intro n
  induction n with
  | zero =>
    intro x1 x2 x3 σ H locs ls h
    cases h
  | succ n ih =>
    intro x1 x2 x3 σ H locs ls h hI hl
    rw [b_X1_appendWords_11] at h
    refine lv_iload_n C.x C.b dX1_appendWords_11 rfl (lv_at hl 3 rfl) ?_
    refine lv_if_lt (tgt := 39) C.x C.b dX1_appendWords_12 (by decide) (fun c_1 => ?_) (fun c_1 => ?_)
    · have h := ip c_1 h
      obtain ⟨x2_2, e_, h⟩ := nm_s h
      refine lv_iinc (v := x2_2) (lv' := [(2, .int x2_2), (0, .ref o), (1, va_rf x1), (3, .int x3)]) C.x C.b dX1_appendWords_39 hl (k := 2) rfl e_.symm (by decide) (by first | (simp [List.filter, cat_rf, cat_i, cat_a, cat_n, cat_l, cat_f, cat_d]; done) | (simp [List.filter, cat_rf, cat_i, cat_a, cat_n, cat_l, cat_f, cat_d]; rfl)) (fun ls hl => ?_)
      refine lv_goto (tgt := 2) C.x C.b dX1_appendWords_42 (by decide) ?_
      exact hk2 x1 x2_2 _ _ _ _ h hI (lv_sub hl [1, 2, 0] rfl)
    · have h := iN c_1 h
      refine r_aload_n (x := some o) C.x C.b dX1_appendWords_15 rfl (lv_at hl 0 rfl) ?_
      refine cw_gR (r := some o) 0 3 C hw hI h (by decide) rfl in_X1 (by decide) (C.t _ q1175) (fun _ h9 => h9) dX1_appendWords_16 (fun v_3 h => ?_)
      refine r_aload_n (x := x1) C.x C.b dX1_appendWords_19 rfl (lv_at hl 1 rfl) ?_
      refine lv_iload_n C.x C.b dX1_appendWords_20 rfl (lv_at hl 2 rfl) ?_
      refine cw_ild (r := x1) C hw hI h dX1_appendWords_21 (fun v_4 h => ?_)
      refine lv_iload_n C.x C.b dX1_appendWords_22 rfl (lv_at hl 3 rfl) ?_
      refine lv_iushr C.x C.b dX1_appendWords_23 rfl ?_
      refine lv_sipush (v := 255) C.x C.b dX1_appendWords_24 (by decide) ?_
      refine lv_iand C.x C.b dX1_appendWords_27 ?_
      refine lv_i2c C.x C.b dX1_appendWords_28 rfl ?_
      refine cw_callV (y := yJ3_append_3) (bytes := cJ3_append_3) (maxL := 2) (r := v_3) (f := fun a_7 => m_J3_append_3 a_7 (((((v_4.toUInt32 >>> (Int32.toUInt32 x3 &&& Int32.toUInt32 31)).toInt32) &&& 255).toUInt32 % 65536).toInt32) σ) 11 (fun v => some (va_rf v)) [.int (((((v_4.toUInt32 >>> (Int32.toUInt32 x3 &&& Int32.toUInt32 31)).toInt32) &&& 255).toUInt32 % 65536).toInt32)] C hw hR hI hl.1 h (by decide) rfl (fun aa vv ss ee => k_J3_append_3 l g A aa (((((v_4.toUInt32 >>> (Int32.toUInt32 x3 &&& Int32.toUInt32 31)).toInt32) &&& 255).toUInt32 % 65536).toInt32) σ vv ss ee) (cwV 1 C.t (lw_V q1197 q1198 q1199 q130 q1200) rfl rfl rfl (by decide +kernel) ⟨Nat.le_trans (Nat.le_of_ble_eq_true rfl) hR.f, Nat.le_trans (Nat.le_of_ble_eq_true rfl) hR.lo⟩) rfl rfl (Nat.le_of_ble_eq_true rfl) dX1_appendWords_29 (fun v_5 σ_6 H locs h hI => ?_)
      refine lv_pop C.x C.b dX1_appendWords_32 (cat_rf _) ?_
      obtain ⟨x3_8, e_, h⟩ := nm_s h
      refine lv_iinc (v := x3_8) (lv' := [(3, .int x3_8), (0, .ref o), (1, va_rf x1), (2, .int x2)]) C.x C.b dX1_appendWords_33 hl (k := 3) rfl e_.symm (by decide) (by first | (simp [List.filter, cat_rf, cat_i, cat_a, cat_n, cat_l, cat_f, cat_d]; done) | (simp [List.filter, cat_rf, cat_i, cat_a, cat_n, cat_l, cat_f, cat_d]; rfl)) (fun ls hl => ?_)
      refine lv_goto (tgt := 11) C.x C.b dX1_appendWords_36 (by decide) ?_
      exact ih x1 x2 x3_8 _ _ _ _ h hI (lv_sub hl [1, 2, 3, 0] rfl)

theorem w_X1_appendWords_2 {z : Int32 × cS} {o : Nat} (C : CX p m meth c s args cX1_appendWords 4 (Option.none : Option Jvm.ClassFile.FieldType) RX1) (hw : WKc g A s s.heap) (hR : RM g s R (6) (152))  : ∀ (n : Nat) (x1 : Option Nat) (x2 : Int32) (σ : cS) (H : Heap) (locs : List Loc) (ls : Array Slot), b_X1_appendWords_2 o n x1 x2 σ = some z → CI g A s σ H locs → lv_has ls 4 [(0, .ref o), (1, va_rf x1), (2, .int x2)] → W p l e R s m args below meth c H locs (H.size - s.heap.size) (hsl H - hsl s.heap) (MQ below (CQ g A (none) z.2) args s (g.2.2.1 3 - s.heap.size) (g.2.2.1 4 - hsl s.heap) A) (F0 m 2 ls []) := by
  intro n
  induction n with
  | zero =>
    intro x1 x2 σ H locs ls h
    cases h
  | succ n ih =>
    intro x1 x2 σ H locs ls h hI hl
    rw [b_X1_appendWords_2] at h
    refine lv_iload_n C.x C.b dX1_appendWords_2 rfl (lv_at hl 2 rfl) ?_
    refine r_aload_n (x := x1) C.x C.b dX1_appendWords_3 rfl (lv_at hl 1 rfl) ?_
    refine cw_aL (r := x1) C hw hI h dX1_appendWords_4 (fun v_1 h => ?_)
    refine lv_icmp_ge (tgt := 45) C.x C.b dX1_appendWords_5 (by decide) (fun c_2 => ?_) (fun c_2 => ?_)
    · have h := ip c_2 h
      exact cw_vret C hI h dX1_appendWords_45
    · have h := iN c_2 h
      refine lv_bipush (v := 24) C.x C.b dX1_appendWords_8 (by decide) ?_
      refine lv_istore_n (i := 3) (lv' := [(3, .int 24), (0, .ref o), (1, va_rf x1), (2, .int x2)]) C.x C.b dX1_appendWords_10 rfl hl (by decide) (by first | (simp [List.filter, cat_rf, cat_i, cat_a, cat_n, cat_l, cat_f, cat_d]; done) | (simp [List.filter, cat_rf, cat_i, cat_a, cat_n, cat_l, cat_f, cat_d]; rfl)) (fun ls hl => ?_)
      exact w_X1_appendWords_11 C hw hR (fun y0 y1 σ H locs ls h hI hl => ih y0 y1 σ H locs ls h hI hl) _ x1 x2 24 _ _ _ _ h hI (lv_sub hl [1, 2, 3, 0] rfl)

theorem k_X1_appendWords (l : Launch) (g : cG) (A : Nat → Prop) (o : Nat) (x1 : Option Nat) (σ : cS) (v : Int32) (σ1 : cS) (h : m_X1_appendWords o x1 σ = some (v, σ1)) : Met l yX1_appendWords (ws_ yX1_appendWords cX1_appendWords 4 (Option.none : Option Jvm.ClassFile.FieldType)) ({ frames := 6, cells := σ.2 3 - σ.2 0, slots := σ.2 4 - σ.2 1, locals := 152 }) (CPc g A [.ref o, va_rf x1] σ) (CQ g A (none) σ1) (σ.2 3 - σ.2 0) (σ.2 4 - σ.2 1) A := by
  refine Met.ofW (cc := cX1_appendWords) (maxL := 4) (ret := (Option.none : Option Jvm.ClassFile.FieldType)) (by decide) rfl ?_
  intro p e s m args below meth c s₁ B hml hv
  obtain ⟨rfl, hw, hσ⟩ := hv
  have hts := atoms_spec (ws := (ws_ yX1_appendWords cX1_appendWords 4 (Option.none : Option Jvm.ClassFile.FieldType))) B.pre
  have C : CX p m meth c s ([.ref o, va_rf x1] : List Value).toArray cX1_appendWords 4 (Option.none : Option Jvm.ClassFile.FieldType) RX1 := ⟨⟨B.exec, B.bytes, hml, findClass_of_methodNamed B.named, fun w h => hts w (List.mem_cons_of_mem _ h)⟩, B.returns, B.notSynchronized⟩
  have e3 : σ.2 3 - σ.2 0 = g.2.2.1 3 - s.heap.size := by rw [hσ.1, hσ.2.2.2.1 3 (by decide)]
  have e4 : σ.2 4 - σ.2 1 = g.2.2.1 4 - hsl s.heap := by rw [hσ.2.1, hσ.2.2.2.1 4 (by decide)]
  have hR : RM g s (headSpec (ws_ yX1_appendWords cX1_appendWords 4 (Option.none : Option Jvm.ClassFile.FieldType)) ({ frames := 6, cells := σ.2 3 - σ.2 0, slots := σ.2 4 - σ.2 1, locals := 152 })).room (6) (152) := ⟨⟨Nat.le_refl _, Nat.le_refl _⟩, Nat.le_of_eq e3.symm, Nat.le_of_eq e4.symm⟩
  generalize (headSpec (ws_ yX1_appendWords cX1_appendWords 4 (Option.none : Option Jvm.ClassFile.FieldType)) ({ frames := 6, cells := σ.2 3 - σ.2 0, slots := σ.2 4 - σ.2 1, locals := 152 })).room = R at hR ⊢
  rw [e3, e4]
  have hI : CI g A s σ s.heap [] := ⟨hσ, va_S.rf, Nat.le_refl _⟩
  have hlen : (lg_sl ([.ref o, va_rf x1])).length ≤ 4 := by rcases x1 with _ | x1 <;> exact Nat.le_of_ble_eq_true rfl
  have hl := lv_entry ([.ref o, va_rf x1]) (n := 4) hlen
  rw [lg_entry_eq]
  generalize (lg_sl ([.ref o, va_rf x1]) ++ List.replicate (4 - (lg_sl ([.ref o, va_rf x1])).length) Slot.unset).toArray = ls at hl ⊢
  have hl : lv_has ls 4 [(0, .ref o), (1, va_rf x1)] := by clear hI hw h hσ e3 e4 hR C hts B; rcases x1 with _ | x1 <;> exact hl
  obtain ⟨z, hz⟩ : ∃ z, z = (v, σ1) := ⟨_, rfl⟩
  rw [← hz] at h
  rw [show σ1 = z.2 by rw [hz]]
  clear hz v σ1
  refine W.narrow ?_
  unfold m_X1_appendWords at h
  refine lv_iconst (v := 0) C.x C.b dX1_appendWords_0 (by decide) ?_
  refine lv_istore_n (i := 2) (lv' := [(2, .int 0), (0, .ref o), (1, va_rf x1)]) C.x C.b dX1_appendWords_1 rfl hl (by decide) (by first | (simp [List.filter, cat_rf, cat_i, cat_a, cat_n, cat_l, cat_f, cat_d]; done) | (simp [List.filter, cat_rf, cat_i, cat_a, cat_n, cat_l, cat_f, cat_d]; rfl)) (fun ls hl => ?_)
  exact w_X1_appendWords_2 C hw hR _ x1 0 _ _ _ _ h hI (lv_sub hl [1, 2, 0] rfl)

theorem k_X1_append (l : Launch) (g : cG) (A : Nat → Prop) (o : Nat) (x1 : Int32) (x2 : Int32) (x3 : Int32) (x4 : Int32) (x5 : Int32) (σ : cS) (v : Int32) (σ1 : cS) (h : m_X1_append o x1 x2 x3 x4 x5 σ = some (v, σ1)) : Met l yX1_append (ws_ yX1_append cX1_append 6 (Option.some Jvm.ClassFile.FieldType.int)) ({ frames := 7, cells := σ.2 3 - σ.2 0, slots := σ.2 4 - σ.2 1, locals := 175 }) (CPc g A [.ref o, .int x1, .int x2, .int x3, .int x4, .int x5] σ) (CQ g A (some (.int v)) σ1) (σ.2 3 - σ.2 0) (σ.2 4 - σ.2 1) A := by
  refine Met.ofW (cc := cX1_append) (maxL := 6) (ret := (Option.some Jvm.ClassFile.FieldType.int)) (by decide) rfl ?_
  intro p e s m args below meth c s₁ B hml hv
  obtain ⟨rfl, hw, hσ⟩ := hv
  have hts := atoms_spec (ws := (ws_ yX1_append cX1_append 6 (Option.some Jvm.ClassFile.FieldType.int))) B.pre
  have C : CX p m meth c s ([.ref o, .int x1, .int x2, .int x3, .int x4, .int x5] : List Value).toArray cX1_append 6 (Option.some Jvm.ClassFile.FieldType.int) RX1 := ⟨⟨B.exec, B.bytes, hml, findClass_of_methodNamed B.named, fun w h => hts w (List.mem_cons_of_mem _ h)⟩, B.returns, B.notSynchronized⟩
  have e3 : σ.2 3 - σ.2 0 = g.2.2.1 3 - s.heap.size := by rw [hσ.1, hσ.2.2.2.1 3 (by decide)]
  have e4 : σ.2 4 - σ.2 1 = g.2.2.1 4 - hsl s.heap := by rw [hσ.2.1, hσ.2.2.2.1 4 (by decide)]
  have hR : RM g s (headSpec (ws_ yX1_append cX1_append 6 (Option.some Jvm.ClassFile.FieldType.int)) ({ frames := 7, cells := σ.2 3 - σ.2 0, slots := σ.2 4 - σ.2 1, locals := 175 })).room (7) (175) := ⟨⟨Nat.le_refl _, Nat.le_refl _⟩, Nat.le_of_eq e3.symm, Nat.le_of_eq e4.symm⟩
  generalize (headSpec (ws_ yX1_append cX1_append 6 (Option.some Jvm.ClassFile.FieldType.int)) ({ frames := 7, cells := σ.2 3 - σ.2 0, slots := σ.2 4 - σ.2 1, locals := 175 })).room = R at hR ⊢
  rw [e3, e4]
  have hI : CI g A s σ s.heap [] := ⟨hσ, va_S.rf, Nat.le_refl _⟩
  have hl := lv_entry ([.ref o, .int x1, .int x2, .int x3, .int x4, .int x5]) (n := 6) (Nat.le_of_ble_eq_true rfl)
  rw [lg_entry_eq]
  generalize (lg_sl ([.ref o, .int x1, .int x2, .int x3, .int x4, .int x5]) ++ List.replicate (6 - (lg_sl ([.ref o, .int x1, .int x2, .int x3, .int x4, .int x5])).length) Slot.unset).toArray = ls at hl ⊢
  have hl : lv_has ls 6 [(0, .ref o), (1, .int x1), (2, .int x2), (3, .int x3), (4, .int x4), (5, .int x5)] := hl
  obtain ⟨z, hz⟩ : ∃ z, z = (v, σ1) := ⟨_, rfl⟩
  rw [← hz] at h
  rw [show v = z.1 by rw [hz], show σ1 = z.2 by rw [hz]]
  clear hz v σ1
  refine W.narrow ?_
  unfold m_X1_append at h
  refine r_aload_n (x := some o) C.x C.b dX1_append_0 rfl (lv_at hl 0 rfl) ?_
  refine cw_gR (r := some o) 0 3 C hw hI h (by decide) rfl in_X1 (by decide) (C.t _ q1175) (fun _ h9 => h9) dX1_append_1 (fun v_1 h => ?_)
  refine cw_callV (y := yJ3_length) (bytes := cJ3_length) (maxL := 1) (r := v_1) (f := fun a_4 => m_J3_length a_4 σ) 11 (fun v => some (.int v)) [] C hw hR hI hl.1 h (by decide) rfl (fun aa vv ss ee => k_J3_length l g A aa σ vv ss ee) (cwV 0 C.t (lw_V q1192 q584 q2704 q130 q585) rfl rfl rfl (by decide +kernel) ⟨Nat.le_trans (Nat.le_of_ble_eq_true rfl) hR.f, Nat.le_trans (Nat.le_of_ble_eq_true rfl) hR.lo⟩) rfl rfl (Nat.le_of_ble_eq_true rfl) dX1_append_4 (fun v_2 σ_3 H locs h hI => ?_)
  refine lv_bipush (v := 20) C.x C.b dX1_append_7 (by decide) ?_
  refine lv_iadd C.x C.b dX1_append_9 ?_
  refine lv_sipush (v := 700) C.x C.b dX1_append_10 (by decide) ?_
  refine lv_icmp_le (tgt := 18) C.x C.b dX1_append_13 (by decide) (fun c_5 => ?_) (fun c_5 => ?_)
  · have h := ip c_5 h
    refine r_aload_n (x := some o) C.x C.b dX1_append_18 rfl (lv_at hl 0 rfl) ?_
    refine lv_iconst (v := 5) C.x C.b dX1_append_19 (by decide) ?_
    refine cw_nAi C hw hR hI h dX1_append_20 (fun q_6 σ_7 H locs h hI => ?_)
    refine lv_dup C.x C.b dX1_append_22 rfl ?_
    refine lv_iconst (v := 0) C.x C.b dX1_append_23 (by decide) ?_
    refine lv_iload_n C.x C.b dX1_append_24 rfl (lv_at hl 1 rfl) ?_
    refine cw_ist (r := some q_6) C hw hI h dX1_append_25 (fun σ_8 H locs h hI => ?_)
    refine lv_dup C.x C.b dX1_append_26 rfl ?_
    refine lv_iconst (v := 1) C.x C.b dX1_append_27 (by decide) ?_
    refine lv_iload_n C.x C.b dX1_append_28 rfl (lv_at hl 2 rfl) ?_
    refine cw_ist (r := some q_6) C hw hI h dX1_append_29 (fun σ_9 H locs h hI => ?_)
    refine lv_dup C.x C.b dX1_append_30 rfl ?_
    refine lv_iconst (v := 2) C.x C.b dX1_append_31 (by decide) ?_
    refine lv_iload_n C.x C.b dX1_append_32 rfl (lv_at hl 3 rfl) ?_
    refine cw_ist (r := some q_6) C hw hI h dX1_append_33 (fun σ_10 H locs h hI => ?_)
    refine lv_dup C.x C.b dX1_append_34 rfl ?_
    refine lv_iconst (v := 3) C.x C.b dX1_append_35 (by decide) ?_
    refine lv_iload C.x C.b dX1_append_36 (lv_at hl 4 rfl) ?_
    refine cw_ist (r := some q_6) C hw hI h dX1_append_38 (fun σ_11 H locs h hI => ?_)
    refine lv_dup C.x C.b dX1_append_39 rfl ?_
    refine lv_iconst (v := 4) C.x C.b dX1_append_40 (by decide) ?_
    refine lv_iload C.x C.b dX1_append_41 (lv_at hl 5 rfl) ?_
    refine cw_ist (r := some q_6) C hw hI h dX1_append_43 (fun σ_12 H locs h hI => ?_)
    refine cw_callV (y := yX1_appendWords) (bytes := cX1_appendWords) (maxL := 4) (r := some o) (f := fun a_14 => m_X1_appendWords a_14 (some q_6) σ_12) 0 (fun _ => none) [.ref q_6] C hw hR hI hl.1 h (by decide) rfl (fun aa vv ss ee => k_X1_appendWords l g A aa (some q_6) σ_12 vv ss ee) (cwV 1 C.t (lw_V q1193 q1195 qs23 q126 q1196) rfl rfl rfl (by decide +kernel) ⟨Nat.le_trans (Nat.le_of_ble_eq_true rfl) hR.f, Nat.le_trans (Nat.le_of_ble_eq_true rfl) hR.lo⟩) rfl rfl (Nat.le_of_ble_eq_true rfl) dX1_append_44 (fun _ σ_13 H locs h hI => ?_)
    refine r_aload_n (x := some o) C.x C.b dX1_append_47 rfl (lv_at hl 0 rfl) ?_
    refine cw_gR (r := some o) 0 3 C hw hI h (by decide) rfl in_X1 (by decide) (C.t _ q1175) (fun _ h9 => h9) dX1_append_48 (fun v_15 h => ?_)
    refine cw_callV (y := yJ3_length) (bytes := cJ3_length) (maxL := 1) (r := v_15) (f := fun a_18 => m_J3_length a_18 σ_13) 11 (fun v => some (.int v)) [] C hw hR hI hl.1 h (by decide) rfl (fun aa vv ss ee => k_J3_length l g A aa σ_13 vv ss ee) (cwV 0 C.t (lw_V q1192 q584 q2704 q130 q585) rfl rfl rfl (by decide +kernel) ⟨Nat.le_trans (Nat.le_of_ble_eq_true rfl) hR.f, Nat.le_trans (Nat.le_of_ble_eq_true rfl) hR.lo⟩) rfl rfl (Nat.le_of_ble_eq_true rfl) dX1_append_51 (fun v_16 σ_17 H locs h hI => ?_)
    exact cw_iret C hI h dX1_append_54
  · have h := iN c_5 h
    refine lv_iconst (v := -1) C.x C.b dX1_append_16 (by decide) ?_
    exact cw_iret C hI h dX1_append_17

theorem k_X1_isClosed (l : Launch) (g : cG) (A : Nat → Prop) (o : Nat) (σ : cS) (v : Int32) (σ1 : cS) (h : m_X1_isClosed o σ = some (v, σ1)) : Met l yX1_isClosed (ws_ yX1_isClosed cX1_isClosed 1 (Option.some Jvm.ClassFile.FieldType.boolean)) ({ frames := 261, cells := σ.2 3 - σ.2 0, slots := σ.2 4 - σ.2 1, locals := 6515 }) (CPc g A [.ref o] σ) (CQ g A (some (.int v)) σ1) (σ.2 3 - σ.2 0) (σ.2 4 - σ.2 1) A := by
  refine Met.ofW (cc := cX1_isClosed) (maxL := 1) (ret := (Option.some Jvm.ClassFile.FieldType.boolean)) (by decide) rfl ?_
  intro p e s m args below meth c s₁ B hml hv
  obtain ⟨rfl, hw, hσ⟩ := hv
  have hts := atoms_spec (ws := (ws_ yX1_isClosed cX1_isClosed 1 (Option.some Jvm.ClassFile.FieldType.boolean))) B.pre
  have C : CX p m meth c s ([.ref o] : List Value).toArray cX1_isClosed 1 (Option.some Jvm.ClassFile.FieldType.boolean) RX1 := ⟨⟨B.exec, B.bytes, hml, findClass_of_methodNamed B.named, fun w h => hts w (List.mem_cons_of_mem _ h)⟩, B.returns, B.notSynchronized⟩
  have e3 : σ.2 3 - σ.2 0 = g.2.2.1 3 - s.heap.size := by rw [hσ.1, hσ.2.2.2.1 3 (by decide)]
  have e4 : σ.2 4 - σ.2 1 = g.2.2.1 4 - hsl s.heap := by rw [hσ.2.1, hσ.2.2.2.1 4 (by decide)]
  have hR : RM g s (headSpec (ws_ yX1_isClosed cX1_isClosed 1 (Option.some Jvm.ClassFile.FieldType.boolean)) ({ frames := 261, cells := σ.2 3 - σ.2 0, slots := σ.2 4 - σ.2 1, locals := 6515 })).room (261) (6515) := ⟨⟨Nat.le_refl _, Nat.le_refl _⟩, Nat.le_of_eq e3.symm, Nat.le_of_eq e4.symm⟩
  generalize (headSpec (ws_ yX1_isClosed cX1_isClosed 1 (Option.some Jvm.ClassFile.FieldType.boolean)) ({ frames := 261, cells := σ.2 3 - σ.2 0, slots := σ.2 4 - σ.2 1, locals := 6515 })).room = R at hR ⊢
  rw [e3, e4]
  have hI : CI g A s σ s.heap [] := ⟨hσ, va_S.rf, Nat.le_refl _⟩
  have hl := lv_entry ([.ref o]) (n := 1) (Nat.le_of_ble_eq_true rfl)
  rw [lg_entry_eq]
  generalize (lg_sl ([.ref o]) ++ List.replicate (1 - (lg_sl ([.ref o])).length) Slot.unset).toArray = ls at hl ⊢
  have hl : lv_has ls 1 [(0, .ref o)] := hl
  obtain ⟨z, hz⟩ : ∃ z, z = (v, σ1) := ⟨_, rfl⟩
  rw [← hz] at h
  rw [show v = z.1 by rw [hz], show σ1 = z.2 by rw [hz]]
  clear hz v σ1
  refine W.narrow ?_
  unfold m_X1_isClosed at h
  refine r_aload_n (x := some o) C.x C.b dX1_isClosed_0 rfl (lv_at hl 0 rfl) ?_
  refine cw_gR (r := some o) 0 0 C hw hI h (by decide) rfl in_X1 (by decide) (C.t _ q1172) (fun _ h9 => h9) dX1_isClosed_1 (fun v_1 h => ?_)
  refine cw_callV (y := yX4_gaps) (bytes := cX4_gaps) (maxL := 1) (r := v_1) (f := fun a_4 => m_X4_gaps a_4 σ) 1 (fun v => some (.int v)) [] C hw hR hI hl.1 h (by decide) rfl (fun aa vv ss ee => k_X4_gaps l g A aa σ vv ss ee) (cwV 0 C.t (lw_V q1214 q1215 q1216 q150 q1217) rfl rfl rfl (by decide +kernel) ⟨Nat.le_trans (Nat.le_of_ble_eq_true rfl) hR.f, Nat.le_trans (Nat.le_of_ble_eq_true rfl) hR.lo⟩) rfl rfl (Nat.le_of_ble_eq_true rfl) dX1_isClosed_4 (fun v_2 σ_3 H locs h hI => ?_)
  refine lv_if_ne (tgt := 14) C.x C.b dX1_isClosed_7 (by decide) (fun c_5 => ?_) (fun c_5 => ?_)
  · have h := iN c_5 h
    refine lv_iconst (v := 0) C.x C.b dX1_isClosed_14 (by decide) ?_
    exact cw_zret C hI h dX1_isClosed_15
  · have h := ip c_5 h
    refine lv_iconst (v := 1) C.x C.b dX1_isClosed_10 (by decide) ?_
    refine lv_goto (tgt := 15) C.x C.b dX1_isClosed_11 (by decide) ?_
    exact cw_zret C hI h dX1_isClosed_15

end
