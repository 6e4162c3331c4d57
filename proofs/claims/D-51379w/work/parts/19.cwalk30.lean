/-! THE CLASS' WALKS 30: printed by gencl.py -/
section
variable {p : Program} {l : Launch} {e : Env} {R : Room} {s : State} {m : MethodId} {args : Array Value} {below : List Frame} {meth : Method} {c : Code} {g : cG} {A : Nat → Prop}
set_option maxRecDepth 100000
theorem k_X1_settledShare (l : Launch) (g : cG) (A : Nat → Prop) (o : Nat) (σ : cS) (v : UInt32) (σ1 : cS) (h : m_X1_settledShare o σ = some (v, σ1)) : Met l yX1_settledShare (ws_ yX1_settledShare cX1_settledShare 1 (Option.some Jvm.ClassFile.FieldType.float)) ({ frames := 260, cells := σ.2 3 - σ.2 0, slots := σ.2 4 - σ.2 1, locals := 6495 }) (CPc g A [.ref o] σ) (CQ g A (some (.float v)) σ1) (σ.2 3 - σ.2 0) (σ.2 4 - σ.2 1) A := by
  refine Met.ofW (cc := cX1_settledShare) (maxL := 1) (ret := (Option.some Jvm.ClassFile.FieldType.float)) (by decide) rfl ?_
  intro p e s m args below meth c s₁ B hml hv
  obtain ⟨rfl, hw, hσ⟩ := hv
  have hts := atoms_spec (ws := (ws_ yX1_settledShare cX1_settledShare 1 (Option.some Jvm.ClassFile.FieldType.float))) B.pre
  have C : CX p m meth c s ([.ref o] : List Value).toArray cX1_settledShare 1 (Option.some Jvm.ClassFile.FieldType.float) RX1 := ⟨⟨B.exec, B.bytes, hml, findClass_of_methodNamed B.named, fun w h => hts w (List.mem_cons_of_mem _ h)⟩, B.returns, B.notSynchronized⟩
  have e3 : σ.2 3 - σ.2 0 = g.2.2.1 3 - s.heap.size := by rw [hσ.1, hσ.2.2.2.1 3 (by decide)]
  have e4 : σ.2 4 - σ.2 1 = g.2.2.1 4 - hsl s.heap := by rw [hσ.2.1, hσ.2.2.2.1 4 (by decide)]
  have hR : RM g s (headSpec (ws_ yX1_settledShare cX1_settledShare 1 (Option.some Jvm.ClassFile.FieldType.float)) ({ frames := 260, cells := σ.2 3 - σ.2 0, slots := σ.2 4 - σ.2 1, locals := 6495 })).room (260) (6495) := ⟨⟨Nat.le_refl _, Nat.le_refl _⟩, Nat.le_of_eq e3.symm, Nat.le_of_eq e4.symm⟩
  generalize (headSpec (ws_ yX1_settledShare cX1_settledShare 1 (Option.some Jvm.ClassFile.FieldType.float)) ({ frames := 260, cells := σ.2 3 - σ.2 0, slots := σ.2 4 - σ.2 1, locals := 6495 })).room = R at hR ⊢
  rw [e3, e4]
  have hI : CI g A s σ s.heap [] := ⟨hσ, va_S.rf, Nat.le_refl _⟩
  have hl := lv_entry ([.ref o]) (n := 1) (Nat.le_of_ble_eq_true rfl)
  rw [lg_entry_eq]
  generalize (lg_sl ([.ref o]) ++ List.replicate (1 - (lg_sl ([.ref o])).length) Slot.unset).toArray = ls at hl ⊢
  have hl : lv_has ls 1 [(0, .ref o)] := hl
  obtain ⟨z, hz⟩ : ∃ z, z = (v, σ1) := ⟨_, rfl⟩
  rw [← hz] at h
  rw [show v = z.1 by rw [hz], show σ1 = z.2 by rw [hz]]
  clear hz v σ1
  refine W.narrow ?_
  unfold m_X1_settledShare at h
  refine r_aload_n (x := some o) C.x C.b dX1_settledShare_0 rfl (lv_at hl 0 rfl) ?_
  refine cw_gR (r := some o) 0 0 C hw hI h (by decide) rfl in_X1 (by decide) (C.t _ q1172) (fun _ h9 => h9) dX1_settledShare_1 (fun v_1 h => ?_)
  refine lv_iconst (v := 0) C.x C.b dX1_settledShare_4 (by decide) ?_
  refine cw_callV (y := yX4_withVerdict) (bytes := cX4_withVerdict) (maxL := 5) (r := v_1) (f := fun a_4 => m_X4_withVerdict a_4 0 σ) 1 (fun v => some (.int v)) [.int 0] C hw hR hI hl.1 h (by decide) rfl (fun aa vv ss ee => k_X4_withVerdict l g A aa 0 σ vv ss ee) (cwV 1 C.t (lw_V q1446 q1219 q1220 q150 q1221) rfl rfl rfl (by decide +kernel) ⟨Nat.le_trans (Nat.le_of_ble_eq_true rfl) hR.f, Nat.le_trans (Nat.le_of_ble_eq_true rfl) hR.lo⟩) rfl rfl (Nat.le_of_ble_eq_true rfl) dX1_settledShare_5 (fun v_2 σ_3 H locs h hI => ?_)
  refine lv_i2f C.x C.b dX1_settledShare_8 ?_
  refine r_aload_n (x := some o) C.x C.b dX1_settledShare_9 rfl (lv_at hl 0 rfl) ?_
  refine cw_gR (r := some o) 0 0 C hw hI h (by decide) rfl in_X1 (by decide) (C.t _ q1172) (fun _ h9 => h9) dX1_settledShare_10 (fun v_5 h => ?_)
  refine cw_callV (y := yX4_cases) (bytes := cX4_cases) (maxL := 3) (r := v_5) (f := fun a_8 => m_X4_cases a_8 σ_3) 1 (fun v => some (.int v)) [] C hw hR hI hl.1 h (by decide) rfl (fun aa vv ss ee => k_X4_cases l g A aa σ_3 vv ss ee) (cwV 0 C.t (lw_V q1382 q833 q834 q150 q835) rfl rfl rfl (by decide +kernel) ⟨Nat.le_trans (Nat.le_of_ble_eq_true rfl) hR.f, Nat.le_trans (Nat.le_of_ble_eq_true rfl) hR.lo⟩) rfl rfl (Nat.le_of_ble_eq_true rfl) dX1_settledShare_13 (fun v_6 σ_7 H locs h hI => ?_)
  refine lv_i2f C.x C.b dX1_settledShare_16 ?_
  have hz := nf32_s h
  have h := hz.2
  refine lv_fdiv C.x C.b dX1_settledShare_17 hz.1 ?_
  exact cw_fret C hI h dX1_settledShare_18

theorem k_X1_meanDuties (l : Launch) (hl0 : l.stackTraces = false) (g : cG) (A : Nat → Prop) (o : Nat) (σ : cS) (z : (cX (UInt64)) × cS) (h : m_X1_meanDuties o σ = some z) : MetX l yX1_meanDuties (ws_ yX1_meanDuties cX1_meanDuties 3 (Option.some Jvm.ClassFile.FieldType.double)) ({ frames := 268, cells := σ.2 3 - σ.2 0, slots := σ.2 4 - σ.2 1, locals := 6688 }) g A [.ref o] σ (fun v => some (.double v)) z (σ.2 3 - σ.2 0) (σ.2 4 - σ.2 1) := by
  refine metx_of (cc := cX1_meanDuties) (maxL := 3) (ret := (Option.some Jvm.ClassFile.FieldType.double)) (by decide) rfl ?_
  intro p e s m args below meth c s₁ B hml hx hv
  obtain ⟨rfl, hw, hσ⟩ := hv
  have hts := atoms_spec (ws := (ws_ yX1_meanDuties cX1_meanDuties 3 (Option.some Jvm.ClassFile.FieldType.double))) B.pre
  have C : CX p m meth c s ([.ref o] : List Value).toArray cX1_meanDuties 3 (Option.some Jvm.ClassFile.FieldType.double) RX1 := ⟨⟨B.exec, B.bytes, hml, findClass_of_methodNamed B.named, fun w h => hts w (List.mem_cons_of_mem _ h)⟩, B.returns, B.notSynchronized⟩
  have hnm : s.methodNamed? yX1_meanDuties = some m := B.named
  have e3 : σ.2 3 - σ.2 0 = g.2.2.1 3 - s.heap.size := by rw [hσ.1, hσ.2.2.2.1 3 (by decide)]
  have e4 : σ.2 4 - σ.2 1 = g.2.2.1 4 - hsl s.heap := by rw [hσ.2.1, hσ.2.2.2.1 4 (by decide)]
  have hR : RM g s (headSpec (ws_ yX1_meanDuties cX1_meanDuties 3 (Option.some Jvm.ClassFile.FieldType.double)) ({ frames := 268, cells := σ.2 3 - σ.2 0, slots := σ.2 4 - σ.2 1, locals := 6688 })).room (268) (6688) := ⟨⟨Nat.le_refl _, Nat.le_refl _⟩, Nat.le_of_eq e3.symm, Nat.le_of_eq e4.symm⟩
  generalize (headSpec (ws_ yX1_meanDuties cX1_meanDuties 3 (Option.some Jvm.ClassFile.FieldType.double)) ({ frames := 268, cells := σ.2 3 - σ.2 0, slots := σ.2 4 - σ.2 1, locals := 6688 })).room = R at hR ⊢
  rw [e3, e4]
  have hI : CI g A s σ s.heap [] := ⟨hσ, va_S.rf, Nat.le_refl _⟩
  have hl := lv_entry ([.ref o]) (n := 3) (Nat.le_of_ble_eq_true rfl)
  rw [lg_entry_eq]
  generalize (lg_sl ([.ref o]) ++ List.replicate (3 - (lg_sl ([.ref o])).length) Slot.unset).toArray = ls at hl ⊢
  have hl : lv_has ls 3 [(0, .ref o)] := hl
  refine W.narrow ?_
  unfold m_X1_meanDuties at h
  refine r_aload_n (x := some o) C.x C.b dX1_meanDuties_0 rfl (lv_at hl 0 rfl) ?_
  refine cw_gR (r := some o) 0 0 C hw hI h (by decide) rfl in_X1 (by decide) (C.t _ q1172) (fun _ h9 => h9) dX1_meanDuties_1 (fun v_1 h => ?_)
  refine lv_iconst (v := 0) C.x C.b dX1_meanDuties_4 (by decide) ?_
  refine cw_callV (y := yX4_withVerdict) (bytes := cX4_withVerdict) (maxL := 5) (r := v_1) (f := fun a_4 => m_X4_withVerdict a_4 0 σ) 1 (fun v => some (.int v)) [.int 0] C hw hR hI hl.1 h (by decide) rfl (fun aa vv ss ee => k_X4_withVerdict l g A aa 0 σ vv ss ee) (cwV 1 C.t (lw_V q1446 q1219 q1220 q150 q1221) rfl rfl rfl (by decide +kernel) ⟨Nat.le_trans (Nat.le_of_ble_eq_true rfl) hR.f, Nat.le_trans (Nat.le_of_ble_eq_true rfl) hR.lo⟩) rfl rfl (Nat.le_of_ble_eq_true rfl) dX1_meanDuties_5 (fun v_2 σ_3 H locs h hI => ?_)
  refine lv_istore_n (i := 1) (lv' := [(1, .int v_2), (0, .ref o)]) C.x C.b dX1_meanDuties_8 rfl hl (by decide) rfl (fun ls hl => ?_)
  refine r_aload_n (x := some o) C.x C.b dX1_meanDuties_9 rfl (lv_at hl 1 rfl) ?_
  refine r_aload_n (x := some o) C.x C.b dX1_meanDuties_10 rfl (lv_at hl 1 rfl) ?_
  refine cw_lamM (q := lq7) (st := [.ref o, .ref o]) 7 [.ref o] C hw hR hI hnm lz7 lo7 h (by decide) (show (fits (.object "HeirCases") (va_rf (some o)) = true ∧ narrow (.object "HeirCases") (va_rf (some o)) = (va_rf (some o))) ∧ True from ⟨⟨fits_o _ (some o), nar_o _ (some o)⟩, trivial⟩) rfl hl.1 (Nat.le_of_ble_eq_true rfl) rfl (Nat.le_of_ble_eq_true rfl) dX1_meanDuties_11 (fun q_5 σ_6 H locs h hI => ?_)
  refine cx_callV (y := yX1_sum) (bytes := cX1_sum) (maxL := 5) (r := some o) (f := fun a_9 => m_X1_sum a_9 (some q_5) σ_6) 0 (fun v => some (.int v)) [.ref q_5] C hx hw hR hI hl.1 h (by decide) rfl (fun aa uu ee => k_X1_sum l hl0 g A aa (some q_5) σ_6 uu ee) (cwV 1 C.t (lw_V q1398 q1400 qs30 q126 q1401) rfl rfl rfl (by decide +kernel) ⟨Nat.le_trans (Nat.le_of_ble_eq_true rfl) hR.f, Nat.le_trans (Nat.le_of_ble_eq_true rfl) hR.lo⟩) rfl rfl (Nat.le_of_ble_eq_true rfl) dX1_meanDuties_16 (fun v_7 σ_8 H locs h hI => ?_)
  refine lv_istore_n (i := 2) (lv' := [(2, .int v_7), (1, .int v_2), (0, .ref o)]) C.x C.b dX1_meanDuties_19 rfl hl (by decide) rfl (fun ls hl => ?_)
  refine lv_iload_n C.x C.b dX1_meanDuties_20 rfl (lv_at hl 1 rfl) ?_
  refine lv_if_ne (tgt := 28) C.x C.b dX1_meanDuties_21 (by decide) (fun c_10 => ?_) (fun c_10 => ?_)
  · have h := iN c_10 h
    refine lv_iload_n C.x C.b dX1_meanDuties_28 rfl (lv_at hl 0 rfl) ?_
    refine lv_i2d C.x C.b dX1_meanDuties_29 ?_
    refine lv_iload_n C.x C.b dX1_meanDuties_30 rfl (lv_at hl 1 rfl) ?_
    refine lv_i2d C.x C.b dX1_meanDuties_31 ?_
    have hz := nf64_s h
    have h := hz.2
    refine lv_ddiv C.x C.b dX1_meanDuties_32 hz.1 ?_
    exact uq_l h (fun y h => cw_dret C hI h dX1_meanDuties_33)
  · have h := ip c_10 h
    refine lv_dconst0 C.x C.b dX1_meanDuties_24 ?_
    refine lv_goto (tgt := 33) C.x C.b dX1_meanDuties_25 (by decide) ?_
    exact uq_l h (fun y h => cw_dret C hI h dX1_meanDuties_33)

theorem k_X1_signOf (l : Launch) (g : cG) (A : Nat → Prop) (x0 : Option Nat) (σ : cS) (v : Option Nat) (σ1 : cS) (h : m_X1_signOf x0 σ = some (v, σ1)) : Met l yX1_signOf (ws_ yX1_signOf cX1_signOf 1 (Option.some (Jvm.ClassFile.FieldType.object "java/lang/String"))) ({ frames := 4, cells := σ.2 3 - σ.2 0, slots := σ.2 4 - σ.2 1, locals := 108 }) (CPc g A [va_rf x0] σ) (CQ g A (some (va_rf v)) σ1) (σ.2 3 - σ.2 0) (σ.2 4 - σ.2 1) A := by
  refine Met.ofW (cc := cX1_signOf) (maxL := 1) (ret := (Option.some (Jvm.ClassFile.FieldType.object "java/lang/String"))) (by decide) rfl ?_
  intro p e s m args below meth c s₁ B hml hv
  obtain ⟨rfl, hw, hσ⟩ := hv
  have hts := atoms_spec (ws := (ws_ yX1_signOf cX1_signOf 1 (Option.some (Jvm.ClassFile.FieldType.object "java/lang/String")))) B.pre
  have C : CX p m meth c s ([va_rf x0] : List Value).toArray cX1_signOf 1 (Option.some (Jvm.ClassFile.FieldType.object "java/lang/String")) RX1 := ⟨⟨B.exec, B.bytes, hml, findClass_of_methodNamed B.named, fun w h => hts w (List.mem_cons_of_mem _ h)⟩, B.returns, B.notSynchronized⟩
  have e3 : σ.2 3 - σ.2 0 = g.2.2.1 3 - s.heap.size := by rw [hσ.1, hσ.2.2.2.1 3 (by decide)]
  have e4 : σ.2 4 - σ.2 1 = g.2.2.1 4 - hsl s.heap := by rw [hσ.2.1, hσ.2.2.2.1 4 (by decide)]
  have hR : RM g s (headSpec (ws_ yX1_signOf cX1_signOf 1 (Option.some (Jvm.ClassFile.FieldType.object "java/lang/String"))) ({ frames := 4, cells := σ.2 3 - σ.2 0, slots := σ.2 4 - σ.2 1, locals := 108 })).room (4) (108) := ⟨⟨Nat.le_refl _, Nat.le_refl _⟩, Nat.le_of_eq e3.symm, Nat.le_of_eq e4.symm⟩
  generalize (headSpec (ws_ yX1_signOf cX1_signOf 1 (Option.some (Jvm.ClassFile.FieldType.object "java/lang/String"))) ({ frames := 4, cells := σ.2 3 - σ.2 0, slots := σ.2 4 - σ.2 1, locals := 108 })).room = R at hR ⊢
  rw [e3, e4]
  have hI : CI g A s σ s.heap [] := ⟨hσ, va_S.rf, Nat.le_refl _⟩
  have hlen : (lg_sl ([va_rf x0])).length ≤ 1 := by rcases x0 with _ | x0 <;> exact Nat.le_of_ble_eq_true rfl
  have hl := lv_entry ([va_rf x0]) (n := 1) hlen
  rw [lg_entry_eq]
  generalize (lg_sl ([va_rf x0]) ++ List.replicate (1 - (lg_sl ([va_rf x0])).length) Slot.unset).toArray = ls at hl ⊢
  have hl : lv_has ls 1 [(0, va_rf x0)] := by clear hI hw h hσ e3 e4 hR C hts B; rcases x0 with _ | x0 <;> exact hl
  obtain ⟨z, hz⟩ : ∃ z, z = (v, σ1) := ⟨_, rfl⟩
  rw [← hz] at h
  rw [show v = z.1 by rw [hz], show σ1 = z.2 by rw [hz]]
  clear hz v σ1
  refine W.narrow ?_
  unfold m_X1_signOf at h
  refine r_aload_n (x := x0) C.x C.b dX1_signOf_0 rfl (lv_at hl 0 rfl) ?_
  refine cw_gI (r := x0) 3 3 C hw hI h (by decide) rfl in_X11 (by decide) (C.t _ q1247) (fun _ h9 => h9) dX1_signOf_1 (fun v_1 h => ?_)
  by_cases c_2 : v_1 = 0
  · have h := ip c_2 h
    refine lv_lookup (off := 28) (tgt := 32) C.x C.b dX1_signOf_4 (by decide) (by rw [c_2]; rfl) (by decide) ?_
    refine r_aload_n (x := x0) C.x C.b dX1_signOf_32 rfl (lv_at hl 0 rfl) ?_
    refine cw_gI (r := x0) 3 4 C hw hI h (by decide) rfl in_X11 (by decide) (C.t _ q1250) (fun _ h9 => h9) dX1_signOf_33 (fun v_3 h => ?_)
    refine cw_callS (y := yJ4_valueOf) (bytes := cJ4_valueOf) (maxL := 1) (fun v => some (va_rf v)) [.int v_3] C hw hR hI hl.1 h (fun vv ss ee => k_J4_valueOf l g A v_3 σ vv ss ee) (va_cwS 1 C.t (lw_S q1461 q1462 q131 q1463) rfl rfl rfl (by decide +kernel) ⟨Nat.le_trans (Nat.le_of_ble_eq_true rfl) hR.f, Nat.le_trans (Nat.le_of_ble_eq_true rfl) hR.lo⟩) rfl rfl (Nat.le_of_ble_eq_true rfl) dX1_signOf_36 (fun v_4 σ_5 H locs h hI => ?_)
    refine lv_goto (tgt := 51) C.x C.b dX1_signOf_39 (by decide) ?_
    exact cw_aret (x := v_4) C (Or.inl ⟨_, rfl⟩) hI h dX1_signOf_51
  have h := iN c_2 h
  by_cases c_6 : v_1 = 3
  · have h := ip c_6 h
    refine lv_lookup (off := 38) (tgt := 42) C.x C.b dX1_signOf_4 (by decide) (by rw [c_6]; rfl) (by decide) ?_
    refine cw_ldcwS (tx := "!") (k := 30) C hw hI (List.mem_of_getElem? (i := 10) rfl) (by decide) dX1_signOf_42 ?_
    refine lv_goto (tgt := 51) C.x C.b dX1_signOf_45 (by decide) ?_
    exact cw_aret (x := some (σ.2 30)) C (Or.inl ⟨_, rfl⟩) hI h dX1_signOf_51
  have h := iN c_6 h
  refine lv_lookup (off := 44) (tgt := 48) C.x C.b dX1_signOf_4 (by decide) (by show Op.lookupswitch.offset [(0, 28), (3, 38)] 44 _ = _; rw [lv_osw c_2 (by decide), lv_osw c_6 (by decide)]; rfl) (by decide) ?_
  refine cw_ldcwS (tx := "?") (k := 31) C hw hI (List.mem_of_getElem? (i := 11) rfl) (by decide) dX1_signOf_48 ?_
  exact cw_aret (x := some (σ.2 31)) C (Or.inl ⟨_, rfl⟩) hI h dX1_signOf_51

theorem w_X1_writeVerdicts_21 {z : Int32 × cS} {o : Nat} (C : CX p m meth c s args cX1_writeVerdicts 3 (Option.some Jvm.ClassFile.FieldType.int) RX1) (hw : WKc g A s s.heap) (hR : RM g s R (259) (6471))  : ∀ (n : Nat) (x1 : Int32) (x2 : Int32) (σ : cS) (H : Heap) (locs : List Loc) (ls : Array Slot), b_X1_writeVerdicts_21 o n x1 x2 σ = some z → CI g A s σ H locs → lv_has ls 3 [(0, .ref o), (1, .int x1), (2, .int x2)] → W p l e R s m args below meth c H locs (H.size - s.heap.size) (hsl H - hsl s.heap) (MQ below (CQ g A (some (.int z.1)) z.2) args s (g.2.2.1 3 - s.heap.size) (g.2.2.1 4 - hsl s.heap) A) (F0 m 21 ls []) := by
  intro n
  induction n with
  | zero =>
    intro x1 x2 σ H locs ls h
    cases h
  | succ n ih =>
    intro x1 x2 σ H locs ls h hI hl
    rw [b_X1_writeVerdicts_21] at h
    refine lv_iload_n C.x C.b dX1_writeVerdicts_21 rfl (lv_at hl 2 rfl) ?_
    refine lv_iload_n C.x C.b dX1_writeVerdicts_22 rfl (lv_at hl 1 rfl) ?_
    refine lv_icmp_ge (tgt := 51) C.x C.b dX1_writeVerdicts_23 (by decide) (fun c_1 => ?_) (fun c_1 => ?_)
    · have h := ip c_1 h
      refine r_aload_n (x := some o) C.x C.b dX1_writeVerdicts_51 rfl (lv_at hl 0 rfl) ?_
      refine cw_gR (r := some o) 0 4 C hw hI h (by decide) rfl in_X1 (by decide) (C.t _ q1176) (fun _ h9 => h9) dX1_writeVerdicts_52 (fun v_2 h => ?_)
      refine cw_callV (y := yJ3_length) (bytes := cJ3_length) (maxL := 1) (r := v_2) (f := fun a_5 => m_J3_length a_5 σ) 11 (fun v => some (.int v)) [] C hw hR hI hl.1 h (by decide) rfl (fun aa vv ss ee => k_J3_length l g A aa σ vv ss ee) (cwV 0 C.t (lw_V q1192 q584 q2704 q130 q585) rfl rfl rfl (by decide +kernel) ⟨Nat.le_trans (Nat.le_of_ble_eq_true rfl) hR.f, Nat.le_trans (Nat.le_of_ble_eq_true rfl) hR.lo⟩) rfl rfl (Nat.le_of_ble_eq_true rfl) dX1_writeVerdicts_55 (fun v_3 σ_4 H locs h hI => ?_)
      exact cw_iret C hI h dX1_writeVerdicts_58
    · have h := iN c_1 h
      refine r_aload_n (x := some o) C.x C.b dX1_writeVerdicts_26 rfl (lv_at hl 0 rfl) ?_
      refine cw_gR (r := some o) 0 4 C hw hI h (by decide) rfl in_X1 (by decide) (C.t _ q1176) (fun _ h9 => h9) dX1_writeVerdicts_27 (fun v_6 h => ?_)
      refine r_aload_n (x := some o) C.x C.b dX1_writeVerdicts_30 rfl (lv_at hl 0 rfl) ?_
      refine cw_gR (r := some o) 0 0 C hw hI h (by decide) rfl in_X1 (by decide) (C.t _ q1172) (fun _ h9 => h9) dX1_writeVerdicts_31 (fun v_7 h => ?_)
      refine lv_iload_n C.x C.b dX1_writeVerdicts_34 rfl (lv_at hl 2 rfl) ?_
      refine cw_callV (y := yX4_look) (bytes := cX4_look) (maxL := 2) (r := v_7) (f := fun a_10 => m_X4_look a_10 x2 σ) 1 (fun v => some (va_rf v)) [.int x2] C hw hR hI hl.1 h (by decide) rfl (fun aa vv ss ee => k_X4_look l g A aa x2 σ vv ss ee) (cwV 1 C.t (lw_V q1383 q1223 q1224 q150 q1225) rfl rfl rfl (by decide +kernel) ⟨Nat.le_trans (Nat.le_of_ble_eq_true rfl) hR.f, Nat.le_trans (Nat.le_of_ble_eq_true rfl) hR.lo⟩) rfl rfl (Nat.le_of_ble_eq_true rfl) dX1_writeVerdicts_35 (fun v_8 σ_9 H locs h hI => ?_)
      refine cw_callS (y := yX1_signOf) (bytes := cX1_signOf) (maxL := 1) (fun v => some (va_rf v)) [va_rf v_8] C hw hR hI hl.1 h (fun vv ss ee => k_X1_signOf l g A v_8 σ_9 vv ss ee) (va_cwS 1 C.t (lw_S q1458 q1459 q126 q1460) rfl rfl rfl (by decide +kernel) ⟨Nat.le_trans (Nat.le_of_ble_eq_true rfl) hR.f, Nat.le_trans (Nat.le_of_ble_eq_true rfl) hR.lo⟩) rfl rfl (Nat.le_of_ble_eq_true rfl) dX1_writeVerdicts_38 (fun v_11 σ_12 H locs h hI => ?_)
      refine cw_callV (y := yJ3_append_2) (bytes := cJ3_append_2) (maxL := 2) (r := v_6) (f := fun a_15 => m_J3_append_2 a_15 v_11 σ_12) 11 (fun v => some (va_rf v)) [va_rf v_11] C hw hR hI hl.1 h (by decide) rfl (fun aa vv ss ee => k_J3_append_2 l g A aa v_11 σ_12 vv ss ee) (cwV 1 C.t (lw_V q1475 q515 q516 q130 q517) rfl rfl rfl (by decide +kernel) ⟨Nat.le_trans (Nat.le_of_ble_eq_true rfl) hR.f, Nat.le_trans (Nat.le_of_ble_eq_true rfl) hR.lo⟩) rfl rfl (Nat.le_of_ble_eq_true rfl) dX1_writeVerdicts_41 (fun v_13 σ_14 H locs h hI => ?_)
      refine lv_pop C.x C.b dX1_writeVerdicts_44 (cat_rf _) ?_
      obtain ⟨x2_16, e_, h⟩ := nm_s h
      refine lv_iinc (v := x2_16) (lv' := [(2, .int x2_16), (0, .ref o), (1, .int x1)]) C.x C.b dX1_writeVerdicts_45 hl (k := 2) rfl e_.symm (by decide) rfl (fun ls hl => ?_)
      refine lv_goto (tgt := 21) C.x C.b dX1_writeVerdicts_48 (by decide) ?_
      exact ih x1 x2_16 _ _ _ _ h hI (lv_sub hl [1, 2, 0] rfl)

theorem k_X1_writeVerdicts (l : Launch) (g : cG) (A : Nat → Prop) (o : Nat) (σ : cS) (v : Int32) (σ1 : cS) (h : m_X1_writeVerdicts o σ = some (v, σ1)) : Met l yX1_writeVerdicts (ws_ yX1_writeVerdicts cX1_writeVerdicts 3 (Option.some Jvm.ClassFile.FieldType.int)) ({ frames := 259, cells := σ.2 3 - σ.2 0, slots := σ.2 4 - σ.2 1, locals := 6471 }) (CPc g A [.ref o] σ) (CQ g A (some (.int v)) σ1) (σ.2 3 - σ.2 0) (σ.2 4 - σ.2 1) A := by
  refine Met.ofW (cc := cX1_writeVerdicts) (maxL := 3) (ret := (Option.some Jvm.ClassFile.FieldType.int)) (by decide) rfl ?_
  intro p e s m args below meth c s₁ B hml hv
  obtain ⟨rfl, hw, hσ⟩ := hv
  have hts := atoms_spec (ws := (ws_ yX1_writeVerdicts cX1_writeVerdicts 3 (Option.some Jvm.ClassFile.FieldType.int))) B.pre
  have C : CX p m meth c s ([.ref o] : List Value).toArray cX1_writeVerdicts 3 (Option.some Jvm.ClassFile.FieldType.int) RX1 := ⟨⟨B.exec, B.bytes, hml, findClass_of_methodNamed B.named, fun w h => hts w (List.mem_cons_of_mem _ h)⟩, B.returns, B.notSynchronized⟩
  have e3 : σ.2 3 - σ.2 0 = g.2.2.1 3 - s.heap.size := by rw [hσ.1, hσ.2.2.2.1 3 (by decide)]
  have e4 : σ.2 4 - σ.2 1 = g.2.2.1 4 - hsl s.heap := by rw [hσ.2.1, hσ.2.2.2.1 4 (by decide)]
  have hR : RM g s (headSpec (ws_ yX1_writeVerdicts cX1_writeVerdicts 3 (Option.some Jvm.ClassFile.FieldType.int)) ({ frames := 259, cells := σ.2 3 - σ.2 0, slots := σ.2 4 - σ.2 1, locals := 6471 })).room (259) (6471) := ⟨⟨Nat.le_refl _, Nat.le_refl _⟩, Nat.le_of_eq e3.symm, Nat.le_of_eq e4.symm⟩
  generalize (headSpec (ws_ yX1_writeVerdicts cX1_writeVerdicts 3 (Option.some Jvm.ClassFile.FieldType.int)) ({ frames := 259, cells := σ.2 3 - σ.2 0, slots := σ.2 4 - σ.2 1, locals := 6471 })).room = R at hR ⊢
  rw [e3, e4]
  have hI : CI g A s σ s.heap [] := ⟨hσ, va_S.rf, Nat.le_refl _⟩
  have hl := lv_entry ([.ref o]) (n := 3) (Nat.le_of_ble_eq_true rfl)
  rw [lg_entry_eq]
  generalize (lg_sl ([.ref o]) ++ List.replicate (3 - (lg_sl ([.ref o])).length) Slot.unset).toArray = ls at hl ⊢
  have hl : lv_has ls 3 [(0, .ref o)] := hl
  obtain ⟨z, hz⟩ : ∃ z, z = (v, σ1) := ⟨_, rfl⟩
  rw [← hz] at h
  rw [show v = z.1 by rw [hz], show σ1 = z.2 by rw [hz]]
  clear hz v σ1
  refine W.narrow ?_
  unfold m_X1_writeVerdicts at h
  refine r_aload_n (x := some o) C.x C.b dX1_writeVerdicts_0 rfl (lv_at hl 0 rfl) ?_
  refine cw_new (T := TJ3) (N := 4) 11 C hw hI hR.2.1 hR.2.2 h (by decide) rfl in_J3 tyJ3 tyJ3_ok (fun j hj => match j, hj with | 0, _ => rfl | 1, _ => rfl | 2, _ => rfl | 3, _ => rfl | j + 4, hj => absurd hj (Nat.not_lt_of_le (Nat.le_add_left _ _))) q198 q199 q130 dX1_writeVerdicts_1 (fun q_1 σ_2 H locs h hI => ?_)
  refine lv_dup C.x C.b dX1_writeVerdicts_4 rfl ?_
  refine cw_callI (y := yJ3_init) (bytes := cJ3_init) (maxL := 1) (b := q_1) [] C hw hR hI hl.1 h (fun vv ss ee => k_J3_init l g A q_1 σ_2 vv ss ee) (cwI 0 C.t (lw_meth q202) rfl rfl rfl (C.t _ q130) (C.t _ q200) (C.t _ q201) rfl (by decide +kernel) ⟨Nat.le_trans (Nat.le_of_ble_eq_true rfl) hR.f, Nat.le_trans (Nat.le_of_ble_eq_true rfl) hR.lo⟩) rfl rfl (Nat.le_of_ble_eq_true rfl) dX1_writeVerdicts_5 (fun σ_3 _ H locs h hI => ?_)
  refine cw_pO (r := some o) (v := (va_rf (some q_1))) (ty := (.object "java/lang/StringBuilder")) 0 4 C hw hI h (by decide) rfl in_X1 tyX1 tyX1_ok nmX1 (by decide) (C.t _ q1176) (fun _ h9 => h9) (Or.inl rfl) (by decide +kernel) (nar_o _ _) (fits_o _ _) dX1_writeVerdicts_8 (fun σ_4 H locs h hI => ?_)
  refine r_aload_n (x := some o) C.x C.b dX1_writeVerdicts_11 rfl (lv_at hl 0 rfl) ?_
  refine cw_gR (r := some o) 0 0 C hw hI h (by decide) rfl in_X1 (by decide) (C.t _ q1172) (fun _ h9 => h9) dX1_writeVerdicts_12 (fun v_5 h => ?_)
  refine cw_callV (y := yX4_cases) (bytes := cX4_cases) (maxL := 3) (r := v_5) (f := fun a_8 => m_X4_cases a_8 σ_4) 1 (fun v => some (.int v)) [] C hw hR hI hl.1 h (by decide) rfl (fun aa vv ss ee => k_X4_cases l g A aa σ_4 vv ss ee) (cwV 0 C.t (lw_V q1382 q833 q834 q150 q835) rfl rfl rfl (by decide +kernel) ⟨Nat.le_trans (Nat.le_of_ble_eq_true rfl) hR.f, Nat.le_trans (Nat.le_of_ble_eq_true rfl) hR.lo⟩) rfl rfl (Nat.le_of_ble_eq_true rfl) dX1_writeVerdicts_15 (fun v_6 σ_7 H locs h hI => ?_)
  refine lv_istore_n (i := 1) (lv' := [(1, .int v_6), (0, .ref o)]) C.x C.b dX1_writeVerdicts_18 rfl hl (by decide) rfl (fun ls hl => ?_)
  refine lv_iconst (v := 0) C.x C.b dX1_writeVerdicts_19 (by decide) ?_
  refine lv_istore_n (i := 2) (lv' := [(2, .int 0), (1, .int v_6), (0, .ref o)]) C.x C.b dX1_writeVerdicts_20 rfl hl (by decide) rfl (fun ls hl => ?_)
  exact w_X1_writeVerdicts_21 C hw hR _ v_6 0 _ _ _ _ h hI (lv_sub hl [2, 1, 0] rfl)

theorem k_X1_reportAt (l : Launch) (g : cG) (A : Nat → Prop) (o : Nat) (x1 : Int32) (σ : cS) (v : Int32) (σ1 : cS) (h : m_X1_reportAt o x1 σ = some (v, σ1)) : Met l yX1_reportAt (ws_ yX1_reportAt cX1_reportAt 2 (Option.some Jvm.ClassFile.FieldType.char)) ({ frames := 5, cells := σ.2 3 - σ.2 0, slots := σ.2 4 - σ.2 1, locals := 128 }) (CPc g A [.ref o, .int x1] σ) (CQ g A (some (.int v)) σ1) (σ.2 3 - σ.2 0) (σ.2 4 - σ.2 1) A := by
  refine Met.ofW (cc := cX1_reportAt) (maxL := 2) (ret := (Option.some Jvm.ClassFile.FieldType.char)) (by decide) rfl ?_
  intro p e s m args below meth c s₁ B hml hv
  obtain ⟨rfl, hw, hσ⟩ := hv
  have hts := atoms_spec (ws := (ws_ yX1_reportAt cX1_reportAt 2 (Option.some Jvm.ClassFile.FieldType.char))) B.pre
  have C : CX p m meth c s ([.ref o, .int x1] : List Value).toArray cX1_reportAt 2 (Option.some Jvm.ClassFile.FieldType.char) RX1 := ⟨⟨B.exec, B.bytes, hml, findClass_of_methodNamed B.named, fun w h => hts w (List.mem_cons_of_mem _ h)⟩, B.returns, B.notSynchronized⟩
  have e3 : σ.2 3 - σ.2 0 = g.2.2.1 3 - s.heap.size := by rw [hσ.1, hσ.2.2.2.1 3 (by decide)]
  have e4 : σ.2 4 - σ.2 1 = g.2.2.1 4 - hsl s.heap := by rw [hσ.2.1, hσ.2.2.2.1 4 (by decide)]
  have hR : RM g s (headSpec (ws_ yX1_reportAt cX1_reportAt 2 (Option.some Jvm.ClassFile.FieldType.char)) ({ frames := 5, cells := σ.2 3 - σ.2 0, slots := σ.2 4 - σ.2 1, locals := 128 })).room (5) (128) := ⟨⟨Nat.le_refl _, Nat.le_refl _⟩, Nat.le_of_eq e3.symm, Nat.le_of_eq e4.symm⟩
  generalize (headSpec (ws_ yX1_reportAt cX1_reportAt 2 (Option.some Jvm.ClassFile.FieldType.char)) ({ frames := 5, cells := σ.2 3 - σ.2 0, slots := σ.2 4 - σ.2 1, locals := 128 })).room = R at hR ⊢
  rw [e3, e4]
  have hI : CI g A s σ s.heap [] := ⟨hσ, va_S.rf, Nat.le_refl _⟩
  have hl := lv_entry ([.ref o, .int x1]) (n := 2) (Nat.le_of_ble_eq_true rfl)
  rw [lg_entry_eq]
  generalize (lg_sl ([.ref o, .int x1]) ++ List.replicate (2 - (lg_sl ([.ref o, .int x1])).length) Slot.unset).toArray = ls at hl ⊢
  have hl : lv_has ls 2 [(0, .ref o), (1, .int x1)] := hl
  obtain ⟨z, hz⟩ : ∃ z, z = (v, σ1) := ⟨_, rfl⟩
  rw [← hz] at h
  rw [show v = z.1 by rw [hz], show σ1 = z.2 by rw [hz]]
  clear hz v σ1
  refine W.narrow ?_
  unfold m_X1_reportAt at h
  refine lv_iload_n C.x C.b dX1_reportAt_0 rfl (lv_at hl 1 rfl) ?_
  refine lv_if_lt (tgt := 15) C.x C.b dX1_reportAt_1 (by decide) (fun c_1 => ?_) (fun c_1 => ?_)
  · have h := ip c_1 h
    refine lv_iconst (v := 0) C.x C.b dX1_reportAt_15 (by decide) ?_
    refine lv_goto (tgt := 27) C.x C.b dX1_reportAt_16 (by decide) ?_
    exact cw_cret C hI h dX1_reportAt_27
  · have h := iN c_1 h
    refine lv_iload_n C.x C.b dX1_reportAt_4 rfl (lv_at hl 1 rfl) ?_
    refine r_aload_n (x := some o) C.x C.b dX1_reportAt_5 rfl (lv_at hl 0 rfl) ?_
    refine cw_gR (r := some o) 0 4 C hw hI h (by decide) rfl in_X1 (by decide) (C.t _ q1176) (fun _ h9 => h9) dX1_reportAt_6 (fun v_2 h => ?_)
    refine cw_callV (y := yJ3_length) (bytes := cJ3_length) (maxL := 1) (r := v_2) (f := fun a_5 => m_J3_length a_5 σ) 11 (fun v => some (.int v)) [] C hw hR hI hl.1 h (by decide) rfl (fun aa vv ss ee => k_J3_length l g A aa σ vv ss ee) (cwV 0 C.t (lw_V q1192 q584 q2704 q130 q585) rfl rfl rfl (by decide +kernel) ⟨Nat.le_trans (Nat.le_of_ble_eq_true rfl) hR.f, Nat.le_trans (Nat.le_of_ble_eq_true rfl) hR.lo⟩) rfl rfl (Nat.le_of_ble_eq_true rfl) dX1_reportAt_9 (fun v_3 σ_4 H locs h hI => ?_)
    refine lv_icmp_lt (tgt := 19) C.x C.b dX1_reportAt_12 (by decide) (fun c_6 => ?_) (fun c_6 => ?_)
    · have h := ip c_6 h
      refine r_aload_n (x := some o) C.x C.b dX1_reportAt_19 rfl (lv_at hl 0 rfl) ?_
      refine cw_gR (r := some o) 0 4 C hw hI h (by decide) rfl in_X1 (by decide) (C.t _ q1176) (fun _ h9 => h9) dX1_reportAt_20 (fun v_7 h => ?_)
      refine lv_iload_n C.x C.b dX1_reportAt_23 rfl (lv_at hl 1 rfl) ?_
      refine cw_callV (y := yJ3_charAt) (bytes := cJ3_charAt) (maxL := 2) (r := v_7) (f := fun a_10 => m_J3_charAt a_10 x1 σ_4) 11 (fun v => some (.int v)) [.int x1] C hw hR hI hl.1 h (by decide) rfl (fun aa vv ss ee => k_J3_charAt l g A aa x1 σ_4 vv ss ee) (cwV 1 C.t (lw_V q1480 q344 q2707 q130 q346) rfl rfl rfl (by decide +kernel) ⟨Nat.le_trans (Nat.le_of_ble_eq_true rfl) hR.f, Nat.le_trans (Nat.le_of_ble_eq_true rfl) hR.lo⟩) rfl rfl (Nat.le_of_ble_eq_true rfl) dX1_reportAt_24 (fun v_8 σ_9 H locs h hI => ?_)
      exact cw_cret C hI h dX1_reportAt_27
    · have h := iN c_6 h
      refine lv_iconst (v := 0) C.x C.b dX1_reportAt_15 (by decide) ?_
      refine lv_goto (tgt := 27) C.x C.b dX1_reportAt_16 (by decide) ?_
      exact cw_cret C hI h dX1_reportAt_27

theorem k_X1_undo (l : Launch) (g : cG) (A : Nat → Prop) (o : Nat) (σ : cS) (v : Int32) (σ1 : cS) (h : m_X1_undo o σ = some (v, σ1)) : Met l yX1_undo (ws_ yX1_undo cX1_undo 1 (Option.some Jvm.ClassFile.FieldType.int)) ({ frames := 4, cells := σ.2 3 - σ.2 0, slots := σ.2 4 - σ.2 1, locals := 105 }) (CPc g A [.ref o] σ) (CQ g A (some (.int v)) σ1) (σ.2 3 - σ.2 0) (σ.2 4 - σ.2 1) A := by
  refine Met.ofW (cc := cX1_undo) (maxL := 1) (ret := (Option.some Jvm.ClassFile.FieldType.int)) (by decide) rfl ?_
  intro p e s m args below meth c s₁ B hml hv
  obtain ⟨rfl, hw, hσ⟩ := hv
  have hts := atoms_spec (ws := (ws_ yX1_undo cX1_undo 1 (Option.some Jvm.ClassFile.FieldType.int))) B.pre
  have C : CX p m meth c s ([.ref o] : List Value).toArray cX1_undo 1 (Option.some Jvm.ClassFile.FieldType.int) RX1 := ⟨⟨B.exec, B.bytes, hml, findClass_of_methodNamed B.named, fun w h => hts w (List.mem_cons_of_mem _ h)⟩, B.returns, B.notSynchronized⟩
  have e3 : σ.2 3 - σ.2 0 = g.2.2.1 3 - s.heap.size := by rw [hσ.1, hσ.2.2.2.1 3 (by decide)]
  have e4 : σ.2 4 - σ.2 1 = g.2.2.1 4 - hsl s.heap := by rw [hσ.2.1, hσ.2.2.2.1 4 (by decide)]
  have hR : RM g s (headSpec (ws_ yX1_undo cX1_undo 1 (Option.some Jvm.ClassFile.FieldType.int)) ({ frames := 4, cells := σ.2 3 - σ.2 0, slots := σ.2 4 - σ.2 1, locals := 105 })).room (4) (105) := ⟨⟨Nat.le_refl _, Nat.le_refl _⟩, Nat.le_of_eq e3.symm, Nat.le_of_eq e4.symm⟩
  generalize (headSpec (ws_ yX1_undo cX1_undo 1 (Option.some Jvm.ClassFile.FieldType.int)) ({ frames := 4, cells := σ.2 3 - σ.2 0, slots := σ.2 4 - σ.2 1, locals := 105 })).room = R at hR ⊢
  rw [e3, e4]
  have hI : CI g A s σ s.heap [] := ⟨hσ, va_S.rf, Nat.le_refl _⟩
  have hl := lv_entry ([.ref o]) (n := 1) (Nat.le_of_ble_eq_true rfl)
  rw [lg_entry_eq]
  generalize (lg_sl ([.ref o]) ++ List.replicate (1 - (lg_sl ([.ref o])).length) Slot.unset).toArray = ls at hl ⊢
  have hl : lv_has ls 1 [(0, .ref o)] := hl
  obtain ⟨z, hz⟩ : ∃ z, z = (v, σ1) := ⟨_, rfl⟩
  rw [← hz] at h
  rw [show v = z.1 by rw [hz], show σ1 = z.2 by rw [hz]]
  clear hz v σ1
  refine W.narrow ?_
  unfold m_X1_undo at h
  refine r_aload_n (x := some o) C.x C.b dX1_undo_0 rfl (lv_at hl 0 rfl) ?_
  refine cw_gR (r := some o) 0 1 C hw hI h (by decide) rfl in_X1 (by decide) (C.t _ q1173) (fun _ h9 => h9) dX1_undo_1 (fun v_1 h => ?_)
  refine cw_callV (y := yJ1_isEmpty) (bytes := cJ1_isEmpty) (maxL := 1) (r := v_1) (f := fun a_4 => m_J1_isEmpty a_4 σ) 10 (fun v => some (.int v)) [] C hw hR hI hl.1 h (by decide) rfl (fun aa vv ss ee => k_J1_isEmpty l g A aa σ vv ss ee) (cwV 0 C.t (lw_V q1485 q1486 q1487 q128 q1488) rfl rfl rfl (by decide +kernel) ⟨Nat.le_trans (Nat.le_of_ble_eq_true rfl) hR.f, Nat.le_trans (Nat.le_of_ble_eq_true rfl) hR.lo⟩) rfl rfl (Nat.le_of_ble_eq_true rfl) dX1_undo_4 (fun v_2 σ_3 H locs h hI => ?_)
  refine lv_if_eq (tgt := 12) C.x C.b dX1_undo_7 (by decide) (fun c_5 => ?_) (fun c_5 => ?_)
  · have h := ip c_5 h
    refine r_aload_n (x := some o) C.x C.b dX1_undo_12 rfl (lv_at hl 0 rfl) ?_
    refine r_aload_n (x := some o) C.x C.b dX1_undo_13 rfl (lv_at hl 0 rfl) ?_
    refine cw_gR (r := some o) 0 1 C hw hI h (by decide) rfl in_X1 (by decide) (C.t _ q1173) (fun _ h9 => h9) dX1_undo_14 (fun v_6 h => ?_)
    refine cw_callV (y := yJ1_removeLast) (bytes := cJ1_removeLast) (maxL := 2) (r := v_6) (f := fun a_9 => m_J1_removeLast a_9 σ_3) 10 (fun v => some (va_rf v)) [] C hw hR hI hl.1 h (by decide) rfl (fun aa vv ss ee => k_J1_removeLast l g A aa σ_3 vv ss ee) (cwV 0 C.t (lw_V q1489 q1490 q1491 q128 q1492) rfl rfl rfl (by decide +kernel) ⟨Nat.le_trans (Nat.le_of_ble_eq_true rfl) hR.f, Nat.le_trans (Nat.le_of_ble_eq_true rfl) hR.lo⟩) rfl rfl (Nat.le_of_ble_eq_true rfl) dX1_undo_17 (fun v_7 σ_8 H locs h hI => ?_)
    refine cw_cast (r := v_7) 1 C hw hI h (by decide) rfl q196 dX1_undo_20 (fun h => ?_)
    refine cw_pO (r := some o) (v := (va_rf v_7)) (ty := (.object "HeirCases$Will")) 0 0 C hw hI h (by decide) rfl in_X1 tyX1 tyX1_ok nmX1 (by decide) (C.t _ q1172) (fun _ h9 => h9) (Or.inl rfl) (by decide +kernel) (nar_o _ _) (fits_o _ _) dX1_undo_23 (fun σ_10 H locs h hI => ?_)
    refine r_aload_n (x := some o) C.x C.b dX1_undo_26 rfl (lv_at hl 0 rfl) ?_
    refine cw_gR (r := some o) 0 1 C hw hI h (by decide) rfl in_X1 (by decide) (C.t _ q1173) (fun _ h9 => h9) dX1_undo_27 (fun v_11 h => ?_)
    refine cw_callV (y := yJ1_size) (bytes := cJ1_size) (maxL := 1) (r := v_11) (f := fun a_14 => m_J1_size a_14 σ_10) 10 (fun v => some (.int v)) [] C hw hR hI hl.1 h (by decide) rfl (fun aa vv ss ee => k_J1_size l g A aa σ_10 vv ss ee) (cwV 0 C.t (lw_V q1521 q1522 q1523 q128 q1524) rfl rfl rfl (by decide +kernel) ⟨Nat.le_trans (Nat.le_of_ble_eq_true rfl) hR.f, Nat.le_trans (Nat.le_of_ble_eq_true rfl) hR.lo⟩) rfl rfl (Nat.le_of_ble_eq_true rfl) dX1_undo_30 (fun v_12 σ_13 H locs h hI => ?_)
    exact cw_iret C hI h dX1_undo_33
  · have h := iN c_5 h
    refine lv_iconst (v := -1) C.x C.b dX1_undo_10 (by decide) ?_
    exact cw_iret C hI h dX1_undo_11

theorem w_X1_check_10 {z : (cX (Int32)) × cS} (C : CX p m meth c s args cX1_check 3 (Option.none : Option Jvm.ClassFile.FieldType) RX1) (hx : ∀ x ∈ c.exceptionTable.toList, False) (hl0 : l.stackTraces = false) (hw : WKc g A s s.heap) (hR : RM g s R (8) (100))  : ∀ (σ : cS) (H : Heap) (locs : List Loc) (ls : Array Slot), b_X1_check_10 σ = some z → CI g A s σ H locs → lv_has ls 3 [] → W p l e R s m args below meth c H locs (H.size - s.heap.size) (hsl H - hsl s.heap) (UQ g A (fun _ => none) z args s (g.2.2.1 3 - s.heap.size) (g.2.2.1 4 - hsl s.heap) below) (F0 m 10 ls []) := by
  intro σ H locs ls h hI hl
  unfold b_X1_check_10 at h
  exact cx_thr (names := ["java/lang/RuntimeException", "java/lang/Exception"]) 1 hl0 C hx hw hR hI hl.1 h (by decide) (by decide +kernel) (by decide +kernel) (C.t _ q1540) (C.t _ q143) (hat_1 C hw) (by decide +kernel) dX1_check_10 dX1_check_13 dX1_check_14 dX1_check_17 (Nat.le_of_ble_eq_true rfl) (Nat.lt_of_lt_of_le (Nat.lt_of_lt_of_le (Nat.lt_succ_self _) (Nat.le_of_ble_eq_true rfl)) hR.f) (Nat.le_trans (Nat.le_of_ble_eq_true rfl) hR.lo)

theorem k_X1_check (l : Launch) (hl0 : l.stackTraces = false) (g : cG) (A : Nat → Prop) (x0 : Int32) (x1 : Int32) (x2 : Int32) (σ : cS) (z : (cX (Int32)) × cS) (h : m_X1_check x0 x1 x2 σ = some z) : MetX l yX1_check (ws_ yX1_check cX1_check 3 (Option.none : Option Jvm.ClassFile.FieldType)) ({ frames := 8, cells := σ.2 3 - σ.2 0, slots := σ.2 4 - σ.2 1, locals := 100 }) g A [.int x0, .int x1, .int x2] σ (fun _ => none) z (σ.2 3 - σ.2 0) (σ.2 4 - σ.2 1) := by
  refine metx_of (cc := cX1_check) (maxL := 3) (ret := (Option.none : Option Jvm.ClassFile.FieldType)) (by decide) rfl ?_
  intro p e s m args below meth c s₁ B hml hx hv
  obtain ⟨rfl, hw, hσ⟩ := hv
  have hts := atoms_spec (ws := (ws_ yX1_check cX1_check 3 (Option.none : Option Jvm.ClassFile.FieldType))) B.pre
  have C : CX p m meth c s ([.int x0, .int x1, .int x2] : List Value).toArray cX1_check 3 (Option.none : Option Jvm.ClassFile.FieldType) RX1 := ⟨⟨B.exec, B.bytes, hml, findClass_of_methodNamed B.named, fun w h => hts w (List.mem_cons_of_mem _ h)⟩, B.returns, B.notSynchronized⟩
  have e3 : σ.2 3 - σ.2 0 = g.2.2.1 3 - s.heap.size := by rw [hσ.1, hσ.2.2.2.1 3 (by decide)]
  have e4 : σ.2 4 - σ.2 1 = g.2.2.1 4 - hsl s.heap := by rw [hσ.2.1, hσ.2.2.2.1 4 (by decide)]
  have hR : RM g s (headSpec (ws_ yX1_check cX1_check 3 (Option.none : Option Jvm.ClassFile.FieldType)) ({ frames := 8, cells := σ.2 3 - σ.2 0, slots := σ.2 4 - σ.2 1, locals := 100 })).room (8) (100) := ⟨⟨Nat.le_refl _, Nat.le_refl _⟩, Nat.le_of_eq e3.symm, Nat.le_of_eq e4.symm⟩
  generalize (headSpec (ws_ yX1_check cX1_check 3 (Option.none : Option Jvm.ClassFile.FieldType)) ({ frames := 8, cells := σ.2 3 - σ.2 0, slots := σ.2 4 - σ.2 1, locals := 100 })).room = R at hR ⊢
  rw [e3, e4]
  have hI : CI g A s σ s.heap [] := ⟨hσ, va_S.rf, Nat.le_refl _⟩
  have hl := lv_entry ([.int x0, .int x1, .int x2]) (n := 3) (Nat.le_of_ble_eq_true rfl)
  rw [lg_entry_eq]
  generalize (lg_sl ([.int x0, .int x1, .int x2]) ++ List.replicate (3 - (lg_sl ([.int x0, .int x1, .int x2])).length) Slot.unset).toArray = ls at hl ⊢
  have hl : lv_has ls 3 [(0, .int x0), (1, .int x1), (2, .int x2)] := hl
  refine W.narrow ?_
  unfold m_X1_check at h
  refine lv_iload_n C.x C.b dX1_check_0 rfl (lv_at hl 0 rfl) ?_
  refine lv_iload_n C.x C.b dX1_check_1 rfl (lv_at hl 1 rfl) ?_
  refine lv_icmp_lt (tgt := 10) C.x C.b dX1_check_2 (by decide) (fun c_1 => ?_) (fun c_1 => ?_)
  · have h := ip c_1 h
    exact w_X1_check_10 C hx hl0 hw hR _ _ _ _ h hI (lv_sub hl [] rfl)
  · have h := iN c_1 h
    refine lv_iload_n C.x C.b dX1_check_5 rfl (lv_at hl 0 rfl) ?_
    refine lv_iload_n C.x C.b dX1_check_6 rfl (lv_at hl 2 rfl) ?_
    refine lv_icmp_le (tgt := 18) C.x C.b dX1_check_7 (by decide) (fun c_2 => ?_) (fun c_2 => ?_)
    · have h := ip c_2 h
      exact uq_l h (fun y h => cw_vret C hI h dX1_check_18)
    · have h := iN c_2 h
      exact w_X1_check_10 C hx hl0 hw hR _ _ _ _ h hI (lv_sub hl [] rfl)

theorem k_X1_checkHeir (l : Launch) (hl0 : l.stackTraces = false) (g : cG) (A : Nat → Prop) (o : Nat) (x1 : Int32) (σ : cS) (z : (cX (Int32)) × cS) (h : m_X1_checkHeir o x1 σ = some z) : MetX l yX1_checkHeir (ws_ yX1_checkHeir cX1_checkHeir 2 (Option.none : Option Jvm.ClassFile.FieldType)) ({ frames := 9, cells := σ.2 3 - σ.2 0, slots := σ.2 4 - σ.2 1, locals := 121 }) g A [.ref o, .int x1] σ (fun _ => none) z (σ.2 3 - σ.2 0) (σ.2 4 - σ.2 1) := by
  refine metx_of (cc := cX1_checkHeir) (maxL := 2) (ret := (Option.none : Option Jvm.ClassFile.FieldType)) (by decide) rfl ?_
  intro p e s m args below meth c s₁ B hml hx hv
  obtain ⟨rfl, hw, hσ⟩ := hv
  have hts := atoms_spec (ws := (ws_ yX1_checkHeir cX1_checkHeir 2 (Option.none : Option Jvm.ClassFile.FieldType))) B.pre
  have C : CX p m meth c s ([.ref o, .int x1] : List Value).toArray cX1_checkHeir 2 (Option.none : Option Jvm.ClassFile.FieldType) RX1 := ⟨⟨B.exec, B.bytes, hml, findClass_of_methodNamed B.named, fun w h => hts w (List.mem_cons_of_mem _ h)⟩, B.returns, B.notSynchronized⟩
  have e3 : σ.2 3 - σ.2 0 = g.2.2.1 3 - s.heap.size := by rw [hσ.1, hσ.2.2.2.1 3 (by decide)]
  have e4 : σ.2 4 - σ.2 1 = g.2.2.1 4 - hsl s.heap := by rw [hσ.2.1, hσ.2.2.2.1 4 (by decide)]
  have hR : RM g s (headSpec (ws_ yX1_checkHeir cX1_checkHeir 2 (Option.none : Option Jvm.ClassFile.FieldType)) ({ frames := 9, cells := σ.2 3 - σ.2 0, slots := σ.2 4 - σ.2 1, locals := 121 })).room (9) (121) := ⟨⟨Nat.le_refl _, Nat.le_refl _⟩, Nat.le_of_eq e3.symm, Nat.le_of_eq e4.symm⟩
  generalize (headSpec (ws_ yX1_checkHeir cX1_checkHeir 2 (Option.none : Option Jvm.ClassFile.FieldType)) ({ frames := 9, cells := σ.2 3 - σ.2 0, slots := σ.2 4 - σ.2 1, locals := 121 })).room = R at hR ⊢
  rw [e3, e4]
  have hI : CI g A s σ s.heap [] := ⟨hσ, va_S.rf, Nat.le_refl _⟩
  have hl := lv_entry ([.ref o, .int x1]) (n := 2) (Nat.le_of_ble_eq_true rfl)
  rw [lg_entry_eq]
  generalize (lg_sl ([.ref o, .int x1]) ++ List.replicate (2 - (lg_sl ([.ref o, .int x1])).length) Slot.unset).toArray = ls at hl ⊢
  have hl : lv_has ls 2 [(0, .ref o), (1, .int x1)] := hl
  refine W.narrow ?_
  unfold m_X1_checkHeir at h
  refine lv_iload_n C.x C.b dX1_checkHeir_0 rfl (lv_at hl 1 rfl) ?_
  refine r_aload_n (x := some o) C.x C.b dX1_checkHeir_1 rfl (lv_at hl 0 rfl) ?_
  refine cw_gR (r := some o) 0 0 C hw hI h (by decide) rfl in_X1 (by decide) (C.t _ q1172) (fun _ h9 => h9) dX1_checkHeir_2 (fun v_1 h => ?_)
  refine cw_gI (r := v_1) 1 1 C hw hI h (by decide) rfl in_X4 (by decide) (C.t _ q842) (fun _ h9 => h9) dX1_checkHeir_5 (fun v_2 h => ?_)
  refine cx_callS (y := yX1_checkIndex) (bytes := cX1_checkIndex) (maxL := 2) (fun _ => none) [.int x1, .int v_2] C hx hw hR hI hl.1 h (fun uu ee => k_X1_checkIndex l hl0 g A x1 v_2 σ uu ee) (va_cwS 2 C.t (lw_S q1553 q1554 q126 q1555) rfl rfl rfl (by decide +kernel) ⟨Nat.le_trans (Nat.le_of_ble_eq_true rfl) hR.f, Nat.le_trans (Nat.le_of_ble_eq_true rfl) hR.lo⟩) rfl rfl (Nat.le_of_ble_eq_true rfl) dX1_checkHeir_8 (fun _ σ_3 H locs h hI => ?_)
  exact uq_l h (fun y h => cw_vret C hI h dX1_checkHeir_11)

end
