/-! THE CLASS' WALKS 14: printed by gencl.py -/
section
variable {p : Program} {l : Launch} {e : Env} {R : Room} {s : State} {m : MethodId} {args : Array Value} {below : List Frame} {meth : Method} {c : Code} {g : cG} {A : Nat → Prop}
set_option maxRecDepth 100000
theorem w_X7_init_69 {z : Int32 × cS} {o : Nat} (C : CX p m meth c s args cX7_init 4 (Option.none : Option Jvm.ClassFile.FieldType) RX7) (hin : meth.name = "<init>") (hnm : s.methodNamed? yX7_init = some m) (hw : WKc g A s s.heap) (hR : RM g s R (1) (3100))  : ∀ (s0 : Option Nat) (s1 : Option Nat) (σ : cS) (H : Heap) (locs : List Loc) (ls : Array Slot), b_X7_init_69 o s0 s1 σ = some z → CI g A s σ H locs → lv_has ls 4 [(0, .ref o)] → W p l e R s m args below meth c H locs (H.size - s.heap.size) (hsl H - hsl s.heap) (MQ below (CQ g A (none) z.2) args s (g.2.2.1 3 - s.heap.size) (g.2.2.1 4 - hsl s.heap) A) (F0 m 69 ls [va_rf s1, va_rf s0]) := by
  intro s0 s1 σ H locs ls h hI hl
  unfold b_X7_init_69 at h
  refine cw_pO (r := s0) (v := (va_rf s1)) (ty := (.object "HeirCases$Comparing")) 4 3 C hw hI h (by decide) rfl in_X7 tyX7 tyX7_ok nmX7 (by decide) (C.t _ q1013) (fun _ h9 => h9) (Or.inr ⟨rfl, rfl, hin⟩) (by decide +kernel) (nar_o _ _) (fits_o _ _) dX7_init_69 (fun σ_1 H locs h hI => ?_)
  exact cw_vret C hI h dX7_init_72

theorem k_X7_init (l : Launch) (g : cG) (A : Nat → Prop) (o : Nat) (x1 : Int32) (x2 : Int32) (x3 : Int32) (σ : cS) (v : Int32) (σ1 : cS) (h : m_X7_init o x1 x2 x3 σ = some (v, σ1)) : Met l yX7_init (ws_ yX7_init cX7_init 4 (Option.none : Option Jvm.ClassFile.FieldType)) ({ frames := 1, cells := σ.2 3 - σ.2 0, slots := σ.2 4 - σ.2 1, locals := 3100 }) (CPc g A [.ref o, .int x1, .int x2, .int x3] σ) (CQ g A (none) σ1) (σ.2 3 - σ.2 0) (σ.2 4 - σ.2 1) A := by
  refine Met.ofW (cc := cX7_init) (maxL := 4) (ret := (Option.none : Option Jvm.ClassFile.FieldType)) (by decide) rfl ?_
  intro p e s m args below meth c s₁ B hml hv
  obtain ⟨rfl, hw, hσ⟩ := hv
  have hts := atoms_spec (ws := (ws_ yX7_init cX7_init 4 (Option.none : Option Jvm.ClassFile.FieldType))) B.pre
  have C : CX p m meth c s ([.ref o, .int x1, .int x2, .int x3] : List Value).toArray cX7_init 4 (Option.none : Option Jvm.ClassFile.FieldType) RX7 := ⟨⟨B.exec, B.bytes, hml, findClass_of_methodNamed B.named, fun w h => hts w (List.mem_cons_of_mem _ h)⟩, B.returns, B.notSynchronized⟩
  have hnm : s.methodNamed? yX7_init = some m := B.named
  have hin : meth.name = "<init>" := (name_of_methodNamed B.named B.method).1
  have e3 : σ.2 3 - σ.2 0 = g.2.2.1 3 - s.heap.size := by rw [hσ.1, hσ.2.2.2.1 3 (by decide)]
  have e4 : σ.2 4 - σ.2 1 = g.2.2.1 4 - hsl s.heap := by rw [hσ.2.1, hσ.2.2.2.1 4 (by decide)]
  have hR : RM g s (headSpec (ws_ yX7_init cX7_init 4 (Option.none : Option Jvm.ClassFile.FieldType)) ({ frames := 1, cells := σ.2 3 - σ.2 0, slots := σ.2 4 - σ.2 1, locals := 3100 })).room (1) (3100) := ⟨⟨Nat.le_refl _, Nat.le_refl _⟩, Nat.le_of_eq e3.symm, Nat.le_of_eq e4.symm⟩
  generalize (headSpec (ws_ yX7_init cX7_init 4 (Option.none : Option Jvm.ClassFile.FieldType)) ({ frames := 1, cells := σ.2 3 - σ.2 0, slots := σ.2 4 - σ.2 1, locals := 3100 })).room = R at hR ⊢
  rw [e3, e4]
  have hI : CI g A s σ s.heap [] := ⟨hσ, va_S.rf, Nat.le_refl _⟩
  have hl := lv_entry ([.ref o, .int x1, .int x2, .int x3]) (n := 4) (Nat.le_of_ble_eq_true rfl)
  rw [lg_entry_eq]
  generalize (lg_sl ([.ref o, .int x1, .int x2, .int x3]) ++ List.replicate (4 - (lg_sl ([.ref o, .int x1, .int x2, .int x3])).length) Slot.unset).toArray = ls at hl ⊢
  have hl : lv_has ls 4 [(0, .ref o), (1, .int x1), (2, .int x2), (3, .int x3)] := hl
  obtain ⟨z, hz⟩ : ∃ z, z = (v, σ1) := ⟨_, rfl⟩
  rw [← hz] at h
  rw [show σ1 = z.2 by rw [hz]]
  clear hz v σ1
  refine W.narrow ?_
  unfold m_X7_init at h
  refine r_aload_n (x := some o) C.x C.b dX7_init_0 rfl (lv_at hl 0 rfl) ?_
  refine cw_obj C hR hl.1 q1003 q173 q174 dX7_init_1 (by decide) (by decide) (Nat.le_of_ble_eq_true rfl) ?_
  refine r_aload_n (x := some o) C.x C.b dX7_init_4 rfl (lv_at hl 0 rfl) ?_
  refine lv_iload_n C.x C.b dX7_init_5 rfl (lv_at hl 1 rfl) ?_
  refine cw_pO (r := some o) (v := (.int x1)) (ty := .int) 4 0 C hw hI h (by decide) rfl in_X7 tyX7 tyX7_ok nmX7 (by decide) (C.t _ q1010) (fun _ h9 => h9) (Or.inr ⟨rfl, rfl, hin⟩) (by decide +kernel) rfl rfl dX7_init_6 (fun σ_1 H locs h hI => ?_)
  refine r_aload_n (x := some o) C.x C.b dX7_init_9 rfl (lv_at hl 0 rfl) ?_
  refine lv_iload_n C.x C.b dX7_init_10 rfl (lv_at hl 2 rfl) ?_
  have hz := gd_s h
  have h := hz.2
  refine cw_pO (r := some o) (v := (.int x2)) (ty := .char) 4 1 C hw hI h (by decide) rfl in_X7 tyX7 tyX7_ok nmX7 (by decide) (C.t _ q1011) (fun _ h9 => h9) (Or.inr ⟨rfl, rfl, hin⟩) (by decide +kernel) (nar_c hz.1) (fit_c hz.1) dX7_init_11 (fun σ_2 H locs h hI => ?_)
  refine r_aload_n (x := some o) C.x C.b dX7_init_14 rfl (lv_at hl 0 rfl) ?_
  refine lv_iload_n C.x C.b dX7_init_15 rfl (lv_at hl 3 rfl) ?_
  refine cw_pO (r := some o) (v := (.int x3)) (ty := .int) 4 2 C hw hI h (by decide) rfl in_X7 tyX7 tyX7_ok nmX7 (by decide) (C.t _ q1012) (fun _ h9 => h9) (Or.inr ⟨rfl, rfl, hin⟩) (by decide +kernel) rfl rfl dX7_init_16 (fun σ_3 H locs h hI => ?_)
  refine r_aload_n (x := some o) C.x C.b dX7_init_19 rfl (lv_at hl 0 rfl) ?_
  refine lv_iload_n C.x C.b dX7_init_20 rfl (lv_at hl 2 rfl) ?_
  by_cases c_4 : x2 = 60
  · have h := ip c_4 h
    refine lv_lookup (off := 27) (tgt := 48) C.x C.b dX7_init_21 (by decide) (by rw [c_4]; rfl) (by decide) ?_
    refine cw_lamK (q := lq0) 0 C hw hR hI hnm lz0 rfl rfl (by decide) hl.1 (Nat.le_of_ble_eq_true rfl) (Nat.le_of_ble_eq_true rfl) dX7_init_48 ?_
    refine lv_goto (tgt := 69) C.x C.b dX7_init_53 (by decide) ?_
    exact w_X7_init_69 C hin hnm hw hR (some o) (some (σ_3.2 6)) _ _ _ _ h hI (lv_sub hl [0] rfl)
  have h := iN c_4 h
  by_cases c_5 : x2 = 62
  · have h := ip c_5 h
    refine lv_lookup (off := 35) (tgt := 56) C.x C.b dX7_init_21 (by decide) (by rw [c_5]; rfl) (by decide) ?_
    refine cw_lamK (q := lq1) 1 C hw hR hI hnm lz1 rfl rfl (by decide) hl.1 (Nat.le_of_ble_eq_true rfl) (Nat.le_of_ble_eq_true rfl) dX7_init_56 ?_
    refine lv_goto (tgt := 69) C.x C.b dX7_init_61 (by decide) ?_
    exact w_X7_init_69 C hin hnm hw hR (some o) (some (σ_3.2 7)) _ _ _ _ h hI (lv_sub hl [0] rfl)
  have h := iN c_5 h
  refine lv_lookup (off := 43) (tgt := 64) C.x C.b dX7_init_21 (by decide) (by show Op.lookupswitch.offset [(60, 27), (62, 35)] 43 _ = _; rw [lv_osw c_4 (by decide), lv_osw c_5 (by decide)]; rfl) (by decide) ?_
  refine cw_lamK (q := lq2) 2 C hw hR hI hnm lz2 rfl rfl (by decide) hl.1 (Nat.le_of_ble_eq_true rfl) (Nat.le_of_ble_eq_true rfl) dX7_init_64 ?_
  exact w_X7_init_69 C hin hnm hw hR (some o) (some (σ_3.2 8)) _ _ _ _ h hI (lv_sub hl [0] rfl)

theorem k_X7_lambda_new_0 (l : Launch) (g : cG) (A : Nat → Prop) (x0 : Int32) (x1 : Int32) (σ : cS) (v : Int32) (σ1 : cS) (h : m_X7_lambda_new_0 x0 x1 σ = some (v, σ1)) : Met l yX7_lambda_new_0 (ws_ yX7_lambda_new_0 cX7_lambda_new_0 2 (Option.some Jvm.ClassFile.FieldType.boolean)) ({ frames := 1, cells := σ.2 3 - σ.2 0, slots := σ.2 4 - σ.2 1, locals := 40 }) (CPc g A [.int x0, .int x1] σ) (CQ g A (some (.int v)) σ1) (σ.2 3 - σ.2 0) (σ.2 4 - σ.2 1) A := by
  refine Met.ofW (cc := cX7_lambda_new_0) (maxL := 2) (ret := (Option.some Jvm.ClassFile.FieldType.boolean)) (by decide) rfl ?_
  intro p e s m args below meth c s₁ B hml hv
  obtain ⟨rfl, hw, hσ⟩ := hv
  have hts := atoms_spec (ws := (ws_ yX7_lambda_new_0 cX7_lambda_new_0 2 (Option.some Jvm.ClassFile.FieldType.boolean))) B.pre
  have C : CX p m meth c s ([.int x0, .int x1] : List Value).toArray cX7_lambda_new_0 2 (Option.some Jvm.ClassFile.FieldType.boolean) RX7 := ⟨⟨B.exec, B.bytes, hml, findClass_of_methodNamed B.named, fun w h => hts w (List.mem_cons_of_mem _ h)⟩, B.returns, B.notSynchronized⟩
  have e3 : σ.2 3 - σ.2 0 = g.2.2.1 3 - s.heap.size := by rw [hσ.1, hσ.2.2.2.1 3 (by decide)]
  have e4 : σ.2 4 - σ.2 1 = g.2.2.1 4 - hsl s.heap := by rw [hσ.2.1, hσ.2.2.2.1 4 (by decide)]
  have hR : RM g s (headSpec (ws_ yX7_lambda_new_0 cX7_lambda_new_0 2 (Option.some Jvm.ClassFile.FieldType.boolean)) ({ frames := 1, cells := σ.2 3 - σ.2 0, slots := σ.2 4 - σ.2 1, locals := 40 })).room (1) (40) := ⟨⟨Nat.le_refl _, Nat.le_refl _⟩, Nat.le_of_eq e3.symm, Nat.le_of_eq e4.symm⟩
  generalize (headSpec (ws_ yX7_lambda_new_0 cX7_lambda_new_0 2 (Option.some Jvm.ClassFile.FieldType.boolean)) ({ frames := 1, cells := σ.2 3 - σ.2 0, slots := σ.2 4 - σ.2 1, locals := 40 })).room = R at hR ⊢
  rw [e3, e4]
  have hI : CI g A s σ s.heap [] := ⟨hσ, va_S.rf, Nat.le_refl _⟩
  have hl := lv_entry ([.int x0, .int x1]) (n := 2) (Nat.le_of_ble_eq_true rfl)
  rw [lg_entry_eq]
  generalize (lg_sl ([.int x0, .int x1]) ++ List.replicate (2 - (lg_sl ([.int x0, .int x1])).length) Slot.unset).toArray = ls at hl ⊢
  have hl : lv_has ls 2 [(0, .int x0), (1, .int x1)] := hl
  obtain ⟨z, hz⟩ : ∃ z, z = (v, σ1) := ⟨_, rfl⟩
  rw [← hz] at h
  rw [show v = z.1 by rw [hz], show σ1 = z.2 by rw [hz]]
  clear hz v σ1
  refine W.narrow ?_
  unfold m_X7_lambda_new_0 at h
  refine lv_iload_n C.x C.b dX7_lambda_new_0_0 rfl (lv_at hl 0 rfl) ?_
  refine lv_iload_n C.x C.b dX7_lambda_new_0_1 rfl (lv_at hl 1 rfl) ?_
  refine lv_icmp_ge (tgt := 9) C.x C.b dX7_lambda_new_0_2 (by decide) (fun c_1 => ?_) (fun c_1 => ?_)
  · have h := ip c_1 h
    refine lv_iconst (v := 0) C.x C.b dX7_lambda_new_0_9 (by decide) ?_
    exact cw_zret C hI h dX7_lambda_new_0_10
  · have h := iN c_1 h
    refine lv_iconst (v := 1) C.x C.b dX7_lambda_new_0_5 (by decide) ?_
    refine lv_goto (tgt := 10) C.x C.b dX7_lambda_new_0_6 (by decide) ?_
    exact cw_zret C hI h dX7_lambda_new_0_10

theorem k_X7_lambda_new_1 (l : Launch) (g : cG) (A : Nat → Prop) (x0 : Int32) (x1 : Int32) (σ : cS) (v : Int32) (σ1 : cS) (h : m_X7_lambda_new_1 x0 x1 σ = some (v, σ1)) : Met l yX7_lambda_new_1 (ws_ yX7_lambda_new_1 cX7_lambda_new_1 2 (Option.some Jvm.ClassFile.FieldType.boolean)) ({ frames := 1, cells := σ.2 3 - σ.2 0, slots := σ.2 4 - σ.2 1, locals := 40 }) (CPc g A [.int x0, .int x1] σ) (CQ g A (some (.int v)) σ1) (σ.2 3 - σ.2 0) (σ.2 4 - σ.2 1) A := by
  refine Met.ofW (cc := cX7_lambda_new_1) (maxL := 2) (ret := (Option.some Jvm.ClassFile.FieldType.boolean)) (by decide) rfl ?_
  intro p e s m args below meth c s₁ B hml hv
  obtain ⟨rfl, hw, hσ⟩ := hv
  have hts := atoms_spec (ws := (ws_ yX7_lambda_new_1 cX7_lambda_new_1 2 (Option.some Jvm.ClassFile.FieldType.boolean))) B.pre
  have C : CX p m meth c s ([.int x0, .int x1] : List Value).toArray cX7_lambda_new_1 2 (Option.some Jvm.ClassFile.FieldType.boolean) RX7 := ⟨⟨B.exec, B.bytes, hml, findClass_of_methodNamed B.named, fun w h => hts w (List.mem_cons_of_mem _ h)⟩, B.returns, B.notSynchronized⟩
  have e3 : σ.2 3 - σ.2 0 = g.2.2.1 3 - s.heap.size := by rw [hσ.1, hσ.2.2.2.1 3 (by decide)]
  have e4 : σ.2 4 - σ.2 1 = g.2.2.1 4 - hsl s.heap := by rw [hσ.2.1, hσ.2.2.2.1 4 (by decide)]
  have hR : RM g s (headSpec (ws_ yX7_lambda_new_1 cX7_lambda_new_1 2 (Option.some Jvm.ClassFile.FieldType.boolean)) ({ frames := 1, cells := σ.2 3 - σ.2 0, slots := σ.2 4 - σ.2 1, locals := 40 })).room (1) (40) := ⟨⟨Nat.le_refl _, Nat.le_refl _⟩, Nat.le_of_eq e3.symm, Nat.le_of_eq e4.symm⟩
  generalize (headSpec (ws_ yX7_lambda_new_1 cX7_lambda_new_1 2 (Option.some Jvm.ClassFile.FieldType.boolean)) ({ frames := 1, cells := σ.2 3 - σ.2 0, slots := σ.2 4 - σ.2 1, locals := 40 })).room = R at hR ⊢
  rw [e3, e4]
  have hI : CI g A s σ s.heap [] := ⟨hσ, va_S.rf, Nat.le_refl _⟩
  have hl := lv_entry ([.int x0, .int x1]) (n := 2) (Nat.le_of_ble_eq_true rfl)
  rw [lg_entry_eq]
  generalize (lg_sl ([.int x0, .int x1]) ++ List.replicate (2 - (lg_sl ([.int x0, .int x1])).length) Slot.unset).toArray = ls at hl ⊢
  have hl : lv_has ls 2 [(0, .int x0), (1, .int x1)] := hl
  obtain ⟨z, hz⟩ : ∃ z, z = (v, σ1) := ⟨_, rfl⟩
  rw [← hz] at h
  rw [show v = z.1 by rw [hz], show σ1 = z.2 by rw [hz]]
  clear hz v σ1
  refine W.narrow ?_
  unfold m_X7_lambda_new_1 at h
  refine lv_iload_n C.x C.b dX7_lambda_new_1_0 rfl (lv_at hl 0 rfl) ?_
  refine lv_iload_n C.x C.b dX7_lambda_new_1_1 rfl (lv_at hl 1 rfl) ?_
  refine lv_icmp_le (tgt := 9) C.x C.b dX7_lambda_new_1_2 (by decide) (fun c_1 => ?_) (fun c_1 => ?_)
  · have h := ip c_1 h
    refine lv_iconst (v := 0) C.x C.b dX7_lambda_new_1_9 (by decide) ?_
    exact cw_zret C hI h dX7_lambda_new_1_10
  · have h := iN c_1 h
    refine lv_iconst (v := 1) C.x C.b dX7_lambda_new_1_5 (by decide) ?_
    refine lv_goto (tgt := 10) C.x C.b dX7_lambda_new_1_6 (by decide) ?_
    exact cw_zret C hI h dX7_lambda_new_1_10

theorem k_X7_lambda_new_2 (l : Launch) (g : cG) (A : Nat → Prop) (x0 : Int32) (x1 : Int32) (σ : cS) (v : Int32) (σ1 : cS) (h : m_X7_lambda_new_2 x0 x1 σ = some (v, σ1)) : Met l yX7_lambda_new_2 (ws_ yX7_lambda_new_2 cX7_lambda_new_2 2 (Option.some Jvm.ClassFile.FieldType.boolean)) ({ frames := 1, cells := σ.2 3 - σ.2 0, slots := σ.2 4 - σ.2 1, locals := 40 }) (CPc g A [.int x0, .int x1] σ) (CQ g A (some (.int v)) σ1) (σ.2 3 - σ.2 0) (σ.2 4 - σ.2 1) A := by
  refine Met.ofW (cc := cX7_lambda_new_2) (maxL := 2) (ret := (Option.some Jvm.ClassFile.FieldType.boolean)) (by decide) rfl ?_
  intro p e s m args below meth c s₁ B hml hv
  obtain ⟨rfl, hw, hσ⟩ := hv
  have hts := atoms_spec (ws := (ws_ yX7_lambda_new_2 cX7_lambda_new_2 2 (Option.some Jvm.ClassFile.FieldType.boolean))) B.pre
  have C : CX p m meth c s ([.int x0, .int x1] : List Value).toArray cX7_lambda_new_2 2 (Option.some Jvm.ClassFile.FieldType.boolean) RX7 := ⟨⟨B.exec, B.bytes, hml, findClass_of_methodNamed B.named, fun w h => hts w (List.mem_cons_of_mem _ h)⟩, B.returns, B.notSynchronized⟩
  have e3 : σ.2 3 - σ.2 0 = g.2.2.1 3 - s.heap.size := by rw [hσ.1, hσ.2.2.2.1 3 (by decide)]
  have e4 : σ.2 4 - σ.2 1 = g.2.2.1 4 - hsl s.heap := by rw [hσ.2.1, hσ.2.2.2.1 4 (by decide)]
  have hR : RM g s (headSpec (ws_ yX7_lambda_new_2 cX7_lambda_new_2 2 (Option.some Jvm.ClassFile.FieldType.boolean)) ({ frames := 1, cells := σ.2 3 - σ.2 0, slots := σ.2 4 - σ.2 1, locals := 40 })).room (1) (40) := ⟨⟨Nat.le_refl _, Nat.le_refl _⟩, Nat.le_of_eq e3.symm, Nat.le_of_eq e4.symm⟩
  generalize (headSpec (ws_ yX7_lambda_new_2 cX7_lambda_new_2 2 (Option.some Jvm.ClassFile.FieldType.boolean)) ({ frames := 1, cells := σ.2 3 - σ.2 0, slots := σ.2 4 - σ.2 1, locals := 40 })).room = R at hR ⊢
  rw [e3, e4]
  have hI : CI g A s σ s.heap [] := ⟨hσ, va_S.rf, Nat.le_refl _⟩
  have hl := lv_entry ([.int x0, .int x1]) (n := 2) (Nat.le_of_ble_eq_true rfl)
  rw [lg_entry_eq]
  generalize (lg_sl ([.int x0, .int x1]) ++ List.replicate (2 - (lg_sl ([.int x0, .int x1])).length) Slot.unset).toArray = ls at hl ⊢
  have hl : lv_has ls 2 [(0, .int x0), (1, .int x1)] := hl
  obtain ⟨z, hz⟩ : ∃ z, z = (v, σ1) := ⟨_, rfl⟩
  rw [← hz] at h
  rw [show v = z.1 by rw [hz], show σ1 = z.2 by rw [hz]]
  clear hz v σ1
  refine W.narrow ?_
  unfold m_X7_lambda_new_2 at h
  refine lv_iload_n C.x C.b dX7_lambda_new_2_0 rfl (lv_at hl 0 rfl) ?_
  refine lv_iload_n C.x C.b dX7_lambda_new_2_1 rfl (lv_at hl 1 rfl) ?_
  refine lv_icmp_ne (tgt := 9) C.x C.b dX7_lambda_new_2_2 (by decide) (fun c_1 => ?_) (fun c_1 => ?_)
  · have h := iN c_1 h
    refine lv_iconst (v := 0) C.x C.b dX7_lambda_new_2_9 (by decide) ?_
    exact cw_zret C hI h dX7_lambda_new_2_10
  · have h := ip c_1 h
    refine lv_iconst (v := 1) C.x C.b dX7_lambda_new_2_5 (by decide) ?_
    refine lv_goto (tgt := 10) C.x C.b dX7_lambda_new_2_6 (by decide) ?_
    exact cw_zret C hI h dX7_lambda_new_2_10

theorem k_X7_holds (l : Launch) (g : cG) (A : Nat → Prop) {F : Nat → Option Nat → cS → Option (Int32 × cS)} {fF lF : Nat} (hF : HF_holds l g A F fF lF) (o : Nat) (x1 : Option Nat) (σ : cS) (v : Int32) (σ1 : cS) (h : m_X7_holds F o x1 σ = some (v, σ1)) : Met l yX7_holds (ws_ yX7_holds cX7_holds 2 (Option.some Jvm.ClassFile.FieldType.boolean)) ({ frames := fF + 8, cells := σ.2 3 - σ.2 0, slots := σ.2 4 - σ.2 1, locals := lF + 200 }) (CPc g A [.ref o, va_rf x1] σ) (CQ g A (some (.int v)) σ1) (σ.2 3 - σ.2 0) (σ.2 4 - σ.2 1) A := by
  refine Met.ofW (cc := cX7_holds) (maxL := 2) (ret := (Option.some Jvm.ClassFile.FieldType.boolean)) (by decide) rfl ?_
  intro p e s m args below meth c s₁ B hml hv
  obtain ⟨rfl, hw, hσ⟩ := hv
  have hts := atoms_spec (ws := (ws_ yX7_holds cX7_holds 2 (Option.some Jvm.ClassFile.FieldType.boolean))) B.pre
  have C : CX p m meth c s ([.ref o, va_rf x1] : List Value).toArray cX7_holds 2 (Option.some Jvm.ClassFile.FieldType.boolean) RX7 := ⟨⟨B.exec, B.bytes, hml, findClass_of_methodNamed B.named, fun w h => hts w (List.mem_cons_of_mem _ h)⟩, B.returns, B.notSynchronized⟩
  have e3 : σ.2 3 - σ.2 0 = g.2.2.1 3 - s.heap.size := by rw [hσ.1, hσ.2.2.2.1 3 (by decide)]
  have e4 : σ.2 4 - σ.2 1 = g.2.2.1 4 - hsl s.heap := by rw [hσ.2.1, hσ.2.2.2.1 4 (by decide)]
  have hR : RM g s (headSpec (ws_ yX7_holds cX7_holds 2 (Option.some Jvm.ClassFile.FieldType.boolean)) ({ frames := fF + 8, cells := σ.2 3 - σ.2 0, slots := σ.2 4 - σ.2 1, locals := lF + 200 })).room (fF + 8) (lF + 200) := ⟨⟨Nat.le_refl _, Nat.le_refl _⟩, Nat.le_of_eq e3.symm, Nat.le_of_eq e4.symm⟩
  generalize (headSpec (ws_ yX7_holds cX7_holds 2 (Option.some Jvm.ClassFile.FieldType.boolean)) ({ frames := fF + 8, cells := σ.2 3 - σ.2 0, slots := σ.2 4 - σ.2 1, locals := lF + 200 })).room = R at hR ⊢
  rw [e3, e4]
  have hI : CI g A s σ s.heap [] := ⟨hσ, va_S.rf, Nat.le_refl _⟩
  have hlen : (lg_sl ([.ref o, va_rf x1])).length ≤ 2 := by rcases x1 with _ | x1 <;> exact Nat.le_of_ble_eq_true rfl
  have hl := lv_entry ([.ref o, va_rf x1]) (n := 2) hlen
  rw [lg_entry_eq]
  generalize (lg_sl ([.ref o, va_rf x1]) ++ List.replicate (2 - (lg_sl ([.ref o, va_rf x1])).length) Slot.unset).toArray = ls at hl ⊢
  have hl : lv_has ls 2 [(0, .ref o), (1, va_rf x1)] := by clear hI hw h hσ e3 e4 hR C hts B; rcases x1 with _ | x1 <;> exact hl
  obtain ⟨z, hz⟩ : ∃ z, z = (v, σ1) := ⟨_, rfl⟩
  rw [← hz] at h
  rw [show v = z.1 by rw [hz], show σ1 = z.2 by rw [hz]]
  clear hz v σ1
  refine W.narrow ?_
  unfold m_X7_holds at h
  refine r_aload_n (x := some o) C.x C.b dX7_holds_0 rfl (lv_at hl 0 rfl) ?_
  refine cw_gR (r := some o) 4 3 C hw hI h (by decide) rfl in_X7 (by decide) (C.t _ q1013) (fun _ h9 => h9) dX7_holds_1 (fun v_1 h => ?_)
  refine r_aload_n (x := x1) C.x C.b dX7_holds_4 rfl (lv_at hl 1 rfl) ?_
  refine r_aload_n (x := some o) C.x C.b dX7_holds_5 rfl (lv_at hl 0 rfl) ?_
  refine cw_gI (r := some o) 4 0 C hw hI h (by decide) rfl in_X7 (by decide) (C.t _ q1010) (fun _ h9 => h9) dX7_holds_6 (fun v_2 h => ?_)
  refine cw_ild (r := x1) C hw hI h dX7_holds_9 (fun v_3 h => ?_)
  refine r_aload_n (x := some o) C.x C.b dX7_holds_10 rfl (lv_at hl 0 rfl) ?_
  refine cw_gI (r := some o) 4 2 C hw hI h (by decide) rfl in_X7 (by decide) (C.t _ q1012) (fun _ h9 => h9) dX7_holds_11 (fun v_4 h => ?_)
  refine cw_callL (r := v_1) (F := fun a_7 => dL_is a_7 v_3 v_4 σ) (fun v => some (.int v)) [.int v_3, .int v_4] hI h ?_ rfl (fun v_5 σ_6 H locs h hI => ?_)
  · intro aa vv ss er ee
    unfold dL_is at ee
    by_cases hO0 : isO σ aa 60 = true
    · rw [if_pos hO0] at ee
      obtain ⟨fs, ha, ee⟩ := gL_s ee
      obtain ⟨hz, ee⟩ := gz_s ee
      exact cw_lamC (q := lq0) (n := 0) (x := ⟨"HeirCases$Comparing", "is", "(II)Z"⟩) (y := yX7_lambda_new_0) (as := [.int v_3, .int v_4]) (As := [.int v_3, .int v_4]) (bytesY := cX7_lambda_new_0) (maxLY := 2) (retY := (Option.some Jvm.ClassFile.FieldType.boolean)) (F_ := fF + 8) (L_ := lF + 200) C hw hR hI hl.1 lz0 lo0 ha lx0 (by decide) (C.t _ q1301) (k_X7_lambda_new_0 l g A v_3 v_4 σ vv ss ee) (lw_meth q1005) rfl rfl rfl q155 (Nat.le_of_ble_eq_true rfl) (Nat.le_of_ble_eq_true rfl) (fun R' s' a' below' methk ck Q' ls' hb hF hl kk => lv_iload_n C.x hb ld0_0 rfl (lv_at hl 1 rfl) (lv_iload_n C.x hb ld0_1 rfl (lv_at hl 2 rfl) (kk))) (lamT_S (q := lq0) (n := 0) (sig := ⟨[], none⟩) (as := [.int v_3, .int v_4]) C.t (hw.2.2.2.2.2.2.2.2.2.2.2.2.2.2.2.1.2.2.1 _ _ lz0) lo0 ly0 (by decide +kernel) q1005 q1004 q155 rfl ld0_2) (Or.inr ⟨vv, .boolean, rfl, rfl, nar_z hz, Or.inr (Or.inl rfl), ld0_5⟩) (Nat.le_of_ble_eq_true rfl) rfl rfl (Nat.le_of_ble_eq_true rfl) dX7_holds_14
    rw [if_neg hO0] at ee
    by_cases hO1 : isO σ aa 61 = true
    · rw [if_pos hO1] at ee
      obtain ⟨fs, ha, ee⟩ := gL_s ee
      obtain ⟨hz, ee⟩ := gz_s ee
      exact cw_lamC (q := lq1) (n := 1) (x := ⟨"HeirCases$Comparing", "is", "(II)Z"⟩) (y := yX7_lambda_new_1) (as := [.int v_3, .int v_4]) (As := [.int v_3, .int v_4]) (bytesY := cX7_lambda_new_1) (maxLY := 2) (retY := (Option.some Jvm.ClassFile.FieldType.boolean)) (F_ := fF + 8) (L_ := lF + 200) C hw hR hI hl.1 lz1 lo1 ha lx1 (by decide) (C.t _ q1301) (k_X7_lambda_new_1 l g A v_3 v_4 σ vv ss ee) (lw_meth q1007) rfl rfl rfl q155 (Nat.le_of_ble_eq_true rfl) (Nat.le_of_ble_eq_true rfl) (fun R' s' a' below' methk ck Q' ls' hb hF hl kk => lv_iload_n C.x hb ld1_0 rfl (lv_at hl 1 rfl) (lv_iload_n C.x hb ld1_1 rfl (lv_at hl 2 rfl) (kk))) (lamT_S (q := lq1) (n := 1) (sig := ⟨[], none⟩) (as := [.int v_3, .int v_4]) C.t (hw.2.2.2.2.2.2.2.2.2.2.2.2.2.2.2.1.2.2.1 _ _ lz1) lo1 ly1 (by decide +kernel) q1007 q1006 q155 rfl ld1_2) (Or.inr ⟨vv, .boolean, rfl, rfl, nar_z hz, Or.inr (Or.inl rfl), ld1_5⟩) (Nat.le_of_ble_eq_true rfl) rfl rfl (Nat.le_of_ble_eq_true rfl) dX7_holds_14
    rw [if_neg hO1] at ee
    by_cases hO2 : isO σ aa 62 = true
    · rw [if_pos hO2] at ee
      obtain ⟨fs, ha, ee⟩ := gL_s ee
      obtain ⟨hz, ee⟩ := gz_s ee
      exact cw_lamC (q := lq2) (n := 2) (x := ⟨"HeirCases$Comparing", "is", "(II)Z"⟩) (y := yX7_lambda_new_2) (as := [.int v_3, .int v_4]) (As := [.int v_3, .int v_4]) (bytesY := cX7_lambda_new_2) (maxLY := 2) (retY := (Option.some Jvm.ClassFile.FieldType.boolean)) (F_ := fF + 8) (L_ := lF + 200) C hw hR hI hl.1 lz2 lo2 ha lx2 (by decide) (C.t _ q1301) (k_X7_lambda_new_2 l g A v_3 v_4 σ vv ss ee) (lw_meth q1009) rfl rfl rfl q155 (Nat.le_of_ble_eq_true rfl) (Nat.le_of_ble_eq_true rfl) (fun R' s' a' below' methk ck Q' ls' hb hF hl kk => lv_iload_n C.x hb ld2_0 rfl (lv_at hl 1 rfl) (lv_iload_n C.x hb ld2_1 rfl (lv_at hl 2 rfl) (kk))) (lamT_S (q := lq2) (n := 2) (sig := ⟨[], none⟩) (as := [.int v_3, .int v_4]) C.t (hw.2.2.2.2.2.2.2.2.2.2.2.2.2.2.2.1.2.2.1 _ _ lz2) lo2 ly2 (by decide +kernel) q1009 q1008 q155 rfl ld2_2) (Or.inr ⟨vv, .boolean, rfl, rfl, nar_z hz, Or.inr (Or.inl rfl), ld2_5⟩) (Nat.le_of_ble_eq_true rfl) rfl rfl (Nat.le_of_ble_eq_true rfl) dX7_holds_14
    rw [if_neg hO2] at ee
    cases ee
  · exact cw_zret C hI h dX7_holds_19

theorem k_X7_write (l : Launch) (g : cG) (A : Nat → Prop) {F : Nat → Option Nat → cS → Option (Int32 × cS)} {fF lF : Nat} (hF : HF_write l g A F fF lF) (o : Nat) (x1 : Option Nat) (σ : cS) (v : Int32) (σ1 : cS) (h : m_X7_write F o x1 σ = some (v, σ1)) : Met l yX7_write (ws_ yX7_write cX7_write 2 (Option.none : Option Jvm.ClassFile.FieldType)) ({ frames := fF + 14, cells := σ.2 3 - σ.2 0, slots := σ.2 4 - σ.2 1, locals := lF + 600 }) (CPc g A [.ref o, va_rf x1] σ) (CQ g A (none) σ1) (σ.2 3 - σ.2 0) (σ.2 4 - σ.2 1) A := by
  refine Met.ofW (cc := cX7_write) (maxL := 2) (ret := (Option.none : Option Jvm.ClassFile.FieldType)) (by decide) rfl ?_
  intro p e s m args below meth c s₁ B hml hv
  obtain ⟨rfl, hw, hσ⟩ := hv
  have hts := atoms_spec (ws := (ws_ yX7_write cX7_write 2 (Option.none : Option Jvm.ClassFile.FieldType))) B.pre
  have C : CX p m meth c s ([.ref o, va_rf x1] : List Value).toArray cX7_write 2 (Option.none : Option Jvm.ClassFile.FieldType) RX7 := ⟨⟨B.exec, B.bytes, hml, findClass_of_methodNamed B.named, fun w h => hts w (List.mem_cons_of_mem _ h)⟩, B.returns, B.notSynchronized⟩
  have e3 : σ.2 3 - σ.2 0 = g.2.2.1 3 - s.heap.size := by rw [hσ.1, hσ.2.2.2.1 3 (by decide)]
  have e4 : σ.2 4 - σ.2 1 = g.2.2.1 4 - hsl s.heap := by rw [hσ.2.1, hσ.2.2.2.1 4 (by decide)]
  have hR : RM g s (headSpec (ws_ yX7_write cX7_write 2 (Option.none : Option Jvm.ClassFile.FieldType)) ({ frames := fF + 14, cells := σ.2 3 - σ.2 0, slots := σ.2 4 - σ.2 1, locals := lF + 600 })).room (fF + 14) (lF + 600) := ⟨⟨Nat.le_refl _, Nat.le_refl _⟩, Nat.le_of_eq e3.symm, Nat.le_of_eq e4.symm⟩
  generalize (headSpec (ws_ yX7_write cX7_write 2 (Option.none : Option Jvm.ClassFile.FieldType)) ({ frames := fF + 14, cells := σ.2 3 - σ.2 0, slots := σ.2 4 - σ.2 1, locals := lF + 600 })).room = R at hR ⊢
  rw [e3, e4]
  have hI : CI g A s σ s.heap [] := ⟨hσ, va_S.rf, Nat.le_refl _⟩
  have hlen : (lg_sl ([.ref o, va_rf x1])).length ≤ 2 := by rcases x1 with _ | x1 <;> exact Nat.le_of_ble_eq_true rfl
  have hl := lv_entry ([.ref o, va_rf x1]) (n := 2) hlen
  rw [lg_entry_eq]
  generalize (lg_sl ([.ref o, va_rf x1]) ++ List.replicate (2 - (lg_sl ([.ref o, va_rf x1])).length) Slot.unset).toArray = ls at hl ⊢
  have hl : lv_has ls 2 [(0, .ref o), (1, va_rf x1)] := by clear hI hw h hσ e3 e4 hR C hts B; rcases x1 with _ | x1 <;> exact hl
  obtain ⟨z, hz⟩ : ∃ z, z = (v, σ1) := ⟨_, rfl⟩
  rw [← hz] at h
  rw [show σ1 = z.2 by rw [hz]]
  clear hz v σ1
  refine W.narrow ?_
  unfold m_X7_write at h
  refine r_aload_n (x := x1) C.x C.b dX7_write_0 rfl (lv_at hl 1 rfl) ?_
  refine cw_ldcS (tx := "abcd") (k := 49) C hw hI (List.mem_of_getElem? (i := 30) rfl) (by decide) dX7_write_1 ?_
  refine r_aload_n (x := some o) C.x C.b dX7_write_3 rfl (lv_at hl 0 rfl) ?_
  refine cw_gI (r := some o) 4 0 C hw hI h (by decide) rfl in_X7 (by decide) (C.t _ q1010) (fun _ h9 => h9) dX7_write_4 (fun v_1 h => ?_)
  refine cw_callV (y := yJ4_charAt) (bytes := cJ4_charAt) (maxL := 2) (r := some (σ.2 49)) (f := fun a_4 => m_J4_charAt a_4 v_1 σ) 12 (fun v => some (.int v)) [.int v_1] C hw hR hI hl.1 h (by decide) rfl (fun aa vv ss ee => k_J4_charAt l g A aa v_1 σ vv ss ee) (cwV 1 C.t (lw_V q1927 q304 q2703 q131 q306) rfl rfl rfl (by decide +kernel) ⟨Nat.le_trans (Nat.le_add_left_of_le (Nat.le_of_ble_eq_true rfl)) hR.f, Nat.le_trans (Nat.le_add_left_of_le (Nat.le_of_ble_eq_true rfl)) hR.lo⟩) rfl rfl (Nat.le_of_ble_eq_true rfl) dX7_write_7 (fun v_2 σ_3 H locs h hI => ?_)
  refine cw_callV (y := yJ3_append_3) (bytes := cJ3_append_3) (maxL := 2) (r := x1) (f := fun a_7 => m_J3_append_3 a_7 v_2 σ_3) 11 (fun v => some (va_rf v)) [.int v_2] C hw hR hI hl.1 h (by decide) rfl (fun aa vv ss ee => k_J3_append_3 l g A aa v_2 σ_3 vv ss ee) (cwV 1 C.t (lw_V q1928 q1198 q1199 q130 q1200) rfl rfl rfl (by decide +kernel) ⟨Nat.le_trans (Nat.le_add_left_of_le (Nat.le_of_ble_eq_true rfl)) hR.f, Nat.le_trans (Nat.le_add_left_of_le (Nat.le_of_ble_eq_true rfl)) hR.lo⟩) rfl rfl (Nat.le_of_ble_eq_true rfl) dX7_write_10 (fun v_5 σ_6 H locs h hI => ?_)
  refine lv_bipush (v := 32) C.x C.b dX7_write_13 (by decide) ?_
  refine cw_callV (y := yJ3_append_3) (bytes := cJ3_append_3) (maxL := 2) (r := v_5) (f := fun a_10 => m_J3_append_3 a_10 32 σ_6) 11 (fun v => some (va_rf v)) [.int 32] C hw hR hI hl.1 h (by decide) rfl (fun aa vv ss ee => k_J3_append_3 l g A aa 32 σ_6 vv ss ee) (cwV 1 C.t (lw_V q1928 q1198 q1199 q130 q1200) rfl rfl rfl (by decide +kernel) ⟨Nat.le_trans (Nat.le_add_left_of_le (Nat.le_of_ble_eq_true rfl)) hR.f, Nat.le_trans (Nat.le_add_left_of_le (Nat.le_of_ble_eq_true rfl)) hR.lo⟩) rfl rfl (Nat.le_of_ble_eq_true rfl) dX7_write_15 (fun v_8 σ_9 H locs h hI => ?_)
  refine r_aload_n (x := some o) C.x C.b dX7_write_18 rfl (lv_at hl 0 rfl) ?_
  refine cw_gI (r := some o) 4 1 C hw hI h (by decide) rfl in_X7 (by decide) (C.t _ q1011) (fun _ h9 => h9) dX7_write_19 (fun v_11 h => ?_)
  refine cw_callV (y := yJ3_append_3) (bytes := cJ3_append_3) (maxL := 2) (r := v_8) (f := fun a_14 => m_J3_append_3 a_14 v_11 σ_9) 11 (fun v => some (va_rf v)) [.int v_11] C hw hR hI hl.1 h (by decide) rfl (fun aa vv ss ee => k_J3_append_3 l g A aa v_11 σ_9 vv ss ee) (cwV 1 C.t (lw_V q1928 q1198 q1199 q130 q1200) rfl rfl rfl (by decide +kernel) ⟨Nat.le_trans (Nat.le_add_left_of_le (Nat.le_of_ble_eq_true rfl)) hR.f, Nat.le_trans (Nat.le_add_left_of_le (Nat.le_of_ble_eq_true rfl)) hR.lo⟩) rfl rfl (Nat.le_of_ble_eq_true rfl) dX7_write_22 (fun v_12 σ_13 H locs h hI => ?_)
  refine lv_bipush (v := 32) C.x C.b dX7_write_25 (by decide) ?_
  refine cw_callV (y := yJ3_append_3) (bytes := cJ3_append_3) (maxL := 2) (r := v_12) (f := fun a_17 => m_J3_append_3 a_17 32 σ_13) 11 (fun v => some (va_rf v)) [.int 32] C hw hR hI hl.1 h (by decide) rfl (fun aa vv ss ee => k_J3_append_3 l g A aa 32 σ_13 vv ss ee) (cwV 1 C.t (lw_V q1928 q1198 q1199 q130 q1200) rfl rfl rfl (by decide +kernel) ⟨Nat.le_trans (Nat.le_add_left_of_le (Nat.le_of_ble_eq_true rfl)) hR.f, Nat.le_trans (Nat.le_add_left_of_le (Nat.le_of_ble_eq_true rfl)) hR.lo⟩) rfl rfl (Nat.le_of_ble_eq_true rfl) dX7_write_27 (fun v_15 σ_16 H locs h hI => ?_)
  refine r_aload_n (x := some o) C.x C.b dX7_write_30 rfl (lv_at hl 0 rfl) ?_
  refine cw_gI (r := some o) 4 2 C hw hI h (by decide) rfl in_X7 (by decide) (C.t _ q1012) (fun _ h9 => h9) dX7_write_31 (fun v_18 h => ?_)
  refine cw_callV (y := yJ3_append) (bytes := cJ3_append) (maxL := 2) (r := v_15) (f := fun a_21 => m_J3_append a_21 v_18 σ_16) 11 (fun v => some (va_rf v)) [.int v_18] C hw hR hI hl.1 h (by decide) rfl (fun aa vv ss ee => k_J3_append l g A aa v_18 σ_16 vv ss ee) (cwV 1 C.t (lw_V q1929 q444 q445 q130 q446) rfl rfl rfl (by decide +kernel) ⟨Nat.le_trans (Nat.le_add_left_of_le (Nat.le_of_ble_eq_true rfl)) hR.f, Nat.le_trans (Nat.le_add_left_of_le (Nat.le_of_ble_eq_true rfl)) hR.lo⟩) rfl rfl (Nat.le_of_ble_eq_true rfl) dX7_write_34 (fun v_19 σ_20 H locs h hI => ?_)
  refine lv_pop C.x C.b dX7_write_37 (cat_rf _) ?_
  exact cw_vret C hI h dX7_write_38

theorem k_X8_init (l : Launch) (g : cG) (A : Nat → Prop) (o : Nat) (x1 : Int32) (σ : cS) (v : Int32) (σ1 : cS) (h : m_X8_init o x1 σ = some (v, σ1)) : Met l yX8_init (ws_ yX8_init cX8_init 2 (Option.none : Option Jvm.ClassFile.FieldType)) ({ frames := 4, cells := σ.2 3 - σ.2 0, slots := σ.2 4 - σ.2 1, locals := 100 }) (CPc g A [.ref o, .int x1] σ) (CQ g A (none) σ1) (σ.2 3 - σ.2 0) (σ.2 4 - σ.2 1) A := by
  refine Met.ofW (cc := cX8_init) (maxL := 2) (ret := (Option.none : Option Jvm.ClassFile.FieldType)) (by decide) rfl ?_
  intro p e s m args below meth c s₁ B hml hv
  obtain ⟨rfl, hw, hσ⟩ := hv
  have hts := atoms_spec (ws := (ws_ yX8_init cX8_init 2 (Option.none : Option Jvm.ClassFile.FieldType))) B.pre
  have C : CX p m meth c s ([.ref o, .int x1] : List Value).toArray cX8_init 2 (Option.none : Option Jvm.ClassFile.FieldType) RX8 := ⟨⟨B.exec, B.bytes, hml, findClass_of_methodNamed B.named, fun w h => hts w (List.mem_cons_of_mem _ h)⟩, B.returns, B.notSynchronized⟩
  have hin : meth.name = "<init>" := (name_of_methodNamed B.named B.method).1
  have e3 : σ.2 3 - σ.2 0 = g.2.2.1 3 - s.heap.size := by rw [hσ.1, hσ.2.2.2.1 3 (by decide)]
  have e4 : σ.2 4 - σ.2 1 = g.2.2.1 4 - hsl s.heap := by rw [hσ.2.1, hσ.2.2.2.1 4 (by decide)]
  have hR : RM g s (headSpec (ws_ yX8_init cX8_init 2 (Option.none : Option Jvm.ClassFile.FieldType)) ({ frames := 4, cells := σ.2 3 - σ.2 0, slots := σ.2 4 - σ.2 1, locals := 100 })).room (4) (100) := ⟨⟨Nat.le_refl _, Nat.le_refl _⟩, Nat.le_of_eq e3.symm, Nat.le_of_eq e4.symm⟩
  generalize (headSpec (ws_ yX8_init cX8_init 2 (Option.none : Option Jvm.ClassFile.FieldType)) ({ frames := 4, cells := σ.2 3 - σ.2 0, slots := σ.2 4 - σ.2 1, locals := 100 })).room = R at hR ⊢
  rw [e3, e4]
  have hI : CI g A s σ s.heap [] := ⟨hσ, va_S.rf, Nat.le_refl _⟩
  have hl := lv_entry ([.ref o, .int x1]) (n := 2) (Nat.le_of_ble_eq_true rfl)
  rw [lg_entry_eq]
  generalize (lg_sl ([.ref o, .int x1]) ++ List.replicate (2 - (lg_sl ([.ref o, .int x1])).length) Slot.unset).toArray = ls at hl ⊢
  have hl : lv_has ls 2 [(0, .ref o), (1, .int x1)] := hl
  obtain ⟨z, hz⟩ : ∃ z, z = (v, σ1) := ⟨_, rfl⟩
  rw [← hz] at h
  rw [show σ1 = z.2 by rw [hz]]
  clear hz v σ1
  refine W.narrow ?_
  unfold m_X8_init at h
  refine r_aload_n (x := some o) C.x C.b dX8_init_0 rfl (lv_at hl 0 rfl) ?_
  refine cw_obj C hR hl.1 q1029 q173 q174 dX8_init_1 (by decide) (by decide) (Nat.le_of_ble_eq_true rfl) ?_
  refine r_aload_n (x := some o) C.x C.b dX8_init_4 rfl (lv_at hl 0 rfl) ?_
  refine cw_new (T := TJ18) (N := 3) 9 C hw hI hR.2.1 hR.2.2 h (by decide) rfl in_J18 tyJ18 tyJ18_ok (fun j hj => match j, hj with | 0, _ => rfl | 1, _ => rfl | 2, _ => rfl | j + 3, hj => absurd hj (Nat.not_lt_of_le (Nat.le_add_left _ _))) q1030 q809 q152 dX8_init_5 (fun q_1 σ_2 H locs h hI => ?_)
  refine lv_dup C.x C.b dX8_init_8 rfl ?_
  refine cw_callI (y := yJ18_init) (bytes := cJ18_init) (maxL := 1) (b := q_1) [] C hw hR hI hl.1 h (fun vv ss ee => k_J18_init l g A q_1 σ_2 vv ss ee) (cwI 0 C.t (lw_meth q812) rfl rfl rfl (C.t _ q152) (C.t _ q1031) (C.t _ q811) rfl (by decide +kernel) ⟨Nat.le_trans (Nat.le_of_ble_eq_true rfl) hR.f, Nat.le_trans (Nat.le_of_ble_eq_true rfl) hR.lo⟩) rfl rfl (Nat.le_of_ble_eq_true rfl) dX8_init_9 (fun σ_3 _ H locs h hI => ?_)
  refine cw_pO (r := some o) (v := (va_rf (some q_1))) (ty := (.object "java/util/ArrayList")) 5 0 C hw hI h (by decide) rfl in_X8 tyX8 tyX8_ok nmX8 (by decide) (C.t _ q1032) (fun _ h9 => h9) (Or.inr ⟨rfl, rfl, hin⟩) (by decide +kernel) (nar_o _ _) (fits_o _ _) dX8_init_12 (fun σ_4 H locs h hI => ?_)
  refine r_aload_n (x := some o) C.x C.b dX8_init_15 rfl (lv_at hl 0 rfl) ?_
  refine lv_iload_n C.x C.b dX8_init_16 rfl (lv_at hl 1 rfl) ?_
  have hz := gd_s h
  have h := hz.2
  refine cw_pO (r := some o) (v := (.int x1)) (ty := .boolean) 5 1 C hw hI h (by decide) rfl in_X8 tyX8 tyX8_ok nmX8 (by decide) (C.t _ q1034) (fun _ h9 => h9) (Or.inr ⟨rfl, rfl, hin⟩) (by decide +kernel) (nar_z hz.1) (fit_z hz.1) dX8_init_17 (fun σ_5 H locs h hI => ?_)
  exact cw_vret C hI h dX8_init_20

theorem w_X8_holds_7 {z : Int32 × cS} {F : Nat → Option Nat → cS → Option (Int32 × cS)} {fF lF : Nat} (hF : HF_holds l g A F fF lF) {o : Nat} (C : CX p m meth c s args cX8_holds 4 (Option.some Jvm.ClassFile.FieldType.boolean) RX8) (hw : WKc g A s s.heap) (hR : RM g s R (fF + 8) (lF + 200))  : ∀ (n : Nat) (x1 : Option Nat) (x2 : Int32) (x3 : Int32) (σ : cS) (H : Heap) (locs : List Loc) (ls : Array Slot), b_X8_holds_7 F o n x1 x2 x3 σ = some z → CI g A s σ H locs → lv_has ls 4 [(0, .ref o), (1, va_rf x1), (2, .int x2), (3, .int x3)] → W p l e R s m args below meth c H locs (H.size - s.heap.size) (hsl H - hsl s.heap) (MQ below (CQ g A (some (.int z.1)) z.2) args s (g.2.2.1 3 - s.heap.size) (g.2.2.1 4 - hsl s.heap) A) (F0 m 7 ls []) := by
  intro n
  induction n with
  | zero =>
    intro x1 x2 x3 σ H locs ls h
    cases h
  | succ n ih =>
    intro x1 x2 x3 σ H locs ls h hI hl
    rw [b_X8_holds_7] at h
    refine lv_iload_n C.x C.b dX8_holds_7 rfl (lv_at hl 3 rfl) ?_
    refine r_aload_n (x := some o) C.x C.b dX8_holds_8 rfl (lv_at hl 0 rfl) ?_
    refine cw_gR (r := some o) 5 0 C hw hI h (by decide) rfl in_X8 (by decide) (C.t _ q1032) (fun _ h9 => h9) dX8_holds_9 (fun v_1 h => ?_)
    refine cw_callV (y := yJ18_size) (bytes := cJ18_size) (maxL := 1) (r := v_1) (f := fun a_4 => m_J18_size a_4 σ) 9 (fun v => some (.int v)) [] C hw hR hI hl.1 h (by decide) rfl (fun aa vv ss ee => k_J18_size l g A aa σ vv ss ee) (cwV 0 C.t (lw_V q1310 q947 q948 q152 q949) rfl rfl rfl (by decide +kernel) ⟨Nat.le_trans (Nat.le_add_left_of_le (Nat.le_of_ble_eq_true rfl)) hR.f, Nat.le_trans (Nat.le_add_left_of_le (Nat.le_of_ble_eq_true rfl)) hR.lo⟩) rfl rfl (Nat.le_of_ble_eq_true rfl) dX8_holds_12 (fun v_2 σ_3 H locs h hI => ?_)
    refine lv_icmp_ge (tgt := 50) C.x C.b dX8_holds_15 (by decide) (fun c_5 => ?_) (fun c_5 => ?_)
    · have h := ip c_5 h
      refine lv_iload_n C.x C.b dX8_holds_50 rfl (lv_at hl 2 rfl) ?_
      exact cw_zret C hI h dX8_holds_51
    · have h := iN c_5 h
      refine lv_iload_n C.x C.b dX8_holds_18 rfl (lv_at hl 2 rfl) ?_
      refine r_aload_n (x := some o) C.x C.b dX8_holds_19 rfl (lv_at hl 0 rfl) ?_
      refine cw_gI (r := some o) 5 1 C hw hI h (by decide) rfl in_X8 (by decide) (C.t _ q1034) (fun _ h9 => h9) dX8_holds_20 (fun v_6 h => ?_)
      refine lv_icmp_ne (tgt := 50) C.x C.b dX8_holds_23 (by decide) (fun c_7 => ?_) (fun c_7 => ?_)
      · have h := iN c_7 h
        refine lv_iload_n C.x C.b dX8_holds_50 rfl (lv_at hl 2 rfl) ?_
        exact cw_zret C hI h dX8_holds_51
      · have h := ip c_7 h
        refine r_aload_n (x := some o) C.x C.b dX8_holds_26 rfl (lv_at hl 0 rfl) ?_
        refine cw_gR (r := some o) 5 0 C hw hI h (by decide) rfl in_X8 (by decide) (C.t _ q1032) (fun _ h9 => h9) dX8_holds_27 (fun v_8 h => ?_)
        refine lv_iload_n C.x C.b dX8_holds_30 rfl (lv_at hl 3 rfl) ?_
        refine cw_callV (y := yJ18_get) (bytes := cJ18_get) (maxL := 2) (r := v_8) (f := fun a_11 => m_J18_get a_11 x3 σ_3) 9 (fun v => some (va_rf v)) [.int x3] C hw hR hI hl.1 h (by decide) rfl (fun aa vv ss ee => k_J18_get l g A aa x3 σ_3 vv ss ee) (cwV 1 C.t (lw_V q1311 q1264 q1265 q152 q1266) rfl rfl rfl (by decide +kernel) ⟨Nat.le_trans (Nat.le_add_left_of_le (Nat.le_of_ble_eq_true rfl)) hR.f, Nat.le_trans (Nat.le_add_left_of_le (Nat.le_of_ble_eq_true rfl)) hR.lo⟩) rfl rfl (Nat.le_of_ble_eq_true rfl) dX8_holds_31 (fun v_9 σ_10 H locs h hI => ?_)
        refine cw_castG (r := v_9) C hw hI h q1312 dX8_holds_34 (fun h => ?_)
        refine r_aload_n (x := x1) C.x C.b dX8_holds_37 rfl (lv_at hl 1 rfl) ?_
        refine cw_callF (x := ⟨"HeirCases$Guard", "holds", "([I)Z"⟩) (r := v_9) (f := fun a_14 => F a_14 x1 σ_10) (fun v => some (.int v)) [va_rf x1] C hw hR hI hl.1 h (fun aa vv ss ee => (hF aa x1 σ_10 vv ss ee).elim (fun qq => ⟨4, qq.1, _, yX7_holds, cX7_holds, 2, (Option.some Jvm.ClassFile.FieldType.boolean), _, _, by decide, rfl, qq.2, Or.inl (va_cwF 1 C.t (lw_app (mem4 q1314 q1295 q1297 q155) (lw_meth q1299)) rfl rfl rfl (hw.2.2.2.2.2.2.2.2.2.1 _ (List.mem_of_getElem? (i := 5) rfl)) (by decide +kernel) ⟨Nat.le_trans (by show fF + 1 ≤ fF + 8; omega) hR.f, Nat.le_trans (by show 8 + (2 + 11) + lF ≤ lF + 200; omega) hR.lo⟩)⟩) (fun hh => hh.elim (fun qq => ⟨5, qq.1, _, yX8_holds, cX8_holds, 4, (Option.some Jvm.ClassFile.FieldType.boolean), _, _, by decide, rfl, qq.2, Or.inl (va_cwF 1 C.t (lw_app (mem4 q1314 q1305 q1307 q156) (lw_meth q1309)) rfl rfl rfl (hw.2.2.2.2.2.2.2.2.2.1 _ (List.mem_of_getElem? (i := 7) rfl)) (by decide +kernel) ⟨Nat.le_trans (by show fF + 1 ≤ fF + 8; omega) hR.f, Nat.le_trans (by show 8 + (4 + 11) + lF ≤ lF + 200; omega) hR.lo⟩)⟩) (fun hh => hh.elim (fun qq => ⟨6, qq.1, _, yX5_holds, cX5_holds, 2, (Option.some Jvm.ClassFile.FieldType.boolean), _, _, by decide, rfl, qq.2, Or.inl (va_cwF 1 C.t (lw_app (mem4 q1314 q1287 q1289 q153) (lw_meth q1291)) rfl rfl rfl (hw.2.2.2.2.2.2.2.2.2.1 _ (List.mem_of_getElem? (i := 9) rfl)) (by decide +kernel) ⟨Nat.le_trans (by show fF + 1 ≤ fF + 8; omega) hR.f, Nat.le_trans (by show 8 + (2 + 11) + lF ≤ lF + 200; omega) hR.lo⟩)⟩) (fun qq => ⟨7, qq.1, _, yX6_holds, cX6_holds, 2, (Option.some Jvm.ClassFile.FieldType.boolean), _, _, by decide, rfl, qq.2, Or.inl (va_cwF 1 C.t (lw_app (mem4 q1314 q1281 q1283 q154) (lw_meth q1285)) rfl rfl rfl (hw.2.2.2.2.2.2.2.2.2.1 _ (List.mem_of_getElem? (i := 11) rfl)) (by decide +kernel) ⟨Nat.le_trans (by show fF + 1 ≤ fF + 8; omega) hR.f, Nat.le_trans (by show 8 + (2 + 11) + lF ≤ lF + 200; omega) hR.lo⟩)⟩)))) rfl rfl (Nat.le_of_ble_eq_true rfl) dX8_holds_38 (fun v_12 σ_13 H locs h hI => ?_)
        refine lv_istore_n (i := 2) (lv' := [(2, .int v_12), (0, .ref o), (1, va_rf x1), (3, .int x3)]) C.x C.b dX8_holds_43 rfl hl (by decide) (by first | (simp [List.filter, cat_rf, cat_i, cat_a, cat_n, cat_l, cat_f, cat_d]; done) | (simp [List.filter, cat_rf, cat_i, cat_a, cat_n, cat_l, cat_f, cat_d]; rfl)) (fun ls hl => ?_)
        obtain ⟨x3_15, e_, h⟩ := nm_s h
        refine lv_iinc (v := x3_15) (lv' := [(3, .int x3_15), (2, .int v_12), (0, .ref o), (1, va_rf x1)]) C.x C.b dX8_holds_44 hl (k := 3) rfl e_.symm (by decide) (by first | (simp [List.filter, cat_rf, cat_i, cat_a, cat_n, cat_l, cat_f, cat_d]; done) | (simp [List.filter, cat_rf, cat_i, cat_a, cat_n, cat_l, cat_f, cat_d]; rfl)) (fun ls hl => ?_)
        refine lv_goto (tgt := 7) C.x C.b dX8_holds_47 (by decide) ?_
        exact ih x1 v_12 x3_15 _ _ _ _ h hI (lv_sub hl [2, 3, 1, 0] rfl)

theorem k_X8_holds (l : Launch) (g : cG) (A : Nat → Prop) {F : Nat → Option Nat → cS → Option (Int32 × cS)} {fF lF : Nat} (hF : HF_holds l g A F fF lF) (o : Nat) (x1 : Option Nat) (σ : cS) (v : Int32) (σ1 : cS) (h : m_X8_holds F o x1 σ = some (v, σ1)) : Met l yX8_holds (ws_ yX8_holds cX8_holds 4 (Option.some Jvm.ClassFile.FieldType.boolean)) ({ frames := fF + 8, cells := σ.2 3 - σ.2 0, slots := σ.2 4 - σ.2 1, locals := lF + 200 }) (CPc g A [.ref o, va_rf x1] σ) (CQ g A (some (.int v)) σ1) (σ.2 3 - σ.2 0) (σ.2 4 - σ.2 1) A := by
  refine Met.ofW (cc := cX8_holds) (maxL := 4) (ret := (Option.some Jvm.ClassFile.FieldType.boolean)) (by decide) rfl ?_
  intro p e s m args below meth c s₁ B hml hv
  obtain ⟨rfl, hw, hσ⟩ := hv
  have hts := atoms_spec (ws := (ws_ yX8_holds cX8_holds 4 (Option.some Jvm.ClassFile.FieldType.boolean))) B.pre
  have C : CX p m meth c s ([.ref o, va_rf x1] : List Value).toArray cX8_holds 4 (Option.some Jvm.ClassFile.FieldType.boolean) RX8 := ⟨⟨B.exec, B.bytes, hml, findClass_of_methodNamed B.named, fun w h => hts w (List.mem_cons_of_mem _ h)⟩, B.returns, B.notSynchronized⟩
  have e3 : σ.2 3 - σ.2 0 = g.2.2.1 3 - s.heap.size := by rw [hσ.1, hσ.2.2.2.1 3 (by decide)]
  have e4 : σ.2 4 - σ.2 1 = g.2.2.1 4 - hsl s.heap := by rw [hσ.2.1, hσ.2.2.2.1 4 (by decide)]
  have hR : RM g s (headSpec (ws_ yX8_holds cX8_holds 4 (Option.some Jvm.ClassFile.FieldType.boolean)) ({ frames := fF + 8, cells := σ.2 3 - σ.2 0, slots := σ.2 4 - σ.2 1, locals := lF + 200 })).room (fF + 8) (lF + 200) := ⟨⟨Nat.le_refl _, Nat.le_refl _⟩, Nat.le_of_eq e3.symm, Nat.le_of_eq e4.symm⟩
  generalize (headSpec (ws_ yX8_holds cX8_holds 4 (Option.some Jvm.ClassFile.FieldType.boolean)) ({ frames := fF + 8, cells := σ.2 3 - σ.2 0, slots := σ.2 4 - σ.2 1, locals := lF + 200 })).room = R at hR ⊢
  rw [e3, e4]
  have hI : CI g A s σ s.heap [] := ⟨hσ, va_S.rf, Nat.le_refl _⟩
  have hlen : (lg_sl ([.ref o, va_rf x1])).length ≤ 4 := by rcases x1 with _ | x1 <;> exact Nat.le_of_ble_eq_true rfl
  have hl := lv_entry ([.ref o, va_rf x1]) (n := 4) hlen
  rw [lg_entry_eq]
  generalize (lg_sl ([.ref o, va_rf x1]) ++ List.replicate (4 - (lg_sl ([.ref o, va_rf x1])).length) Slot.unset).toArray = ls at hl ⊢
  have hl : lv_has ls 4 [(0, .ref o), (1, va_rf x1)] := by clear hI hw h hσ e3 e4 hR C hts B; rcases x1 with _ | x1 <;> exact hl
  obtain ⟨z, hz⟩ : ∃ z, z = (v, σ1) := ⟨_, rfl⟩
  rw [← hz] at h
  rw [show v = z.1 by rw [hz], show σ1 = z.2 by rw [hz]]
  clear hz v σ1
  refine W.narrow ?_
  unfold m_X8_holds at h
  refine r_aload_n (x := some o) C.x C.b dX8_holds_0 rfl (lv_at hl 0 rfl) ?_
  refine cw_gI (r := some o) 5 1 C hw hI h (by decide) rfl in_X8 (by decide) (C.t _ q1034) (fun _ h9 => h9) dX8_holds_1 (fun v_1 h => ?_)
  refine lv_istore_n (i := 2) (lv' := [(2, .int v_1), (0, .ref o), (1, va_rf x1)]) C.x C.b dX8_holds_4 rfl hl (by decide) (by first | (simp [List.filter, cat_rf, cat_i, cat_a, cat_n, cat_l, cat_f, cat_d]; done) | (simp [List.filter, cat_rf, cat_i, cat_a, cat_n, cat_l, cat_f, cat_d]; rfl)) (fun ls hl => ?_)
  refine lv_iconst (v := 0) C.x C.b dX8_holds_5 (by decide) ?_
  refine lv_istore_n (i := 3) (lv' := [(3, .int 0), (2, .int v_1), (0, .ref o), (1, va_rf x1)]) C.x C.b dX8_holds_6 rfl hl (by decide) (by first | (simp [List.filter, cat_rf, cat_i, cat_a, cat_n, cat_l, cat_f, cat_d]; done) | (simp [List.filter, cat_rf, cat_i, cat_a, cat_n, cat_l, cat_f, cat_d]; rfl)) (fun ls hl => ?_)
  exact w_X8_holds_7 hF C hw hR _ x1 v_1 0 _ _ _ _ h hI (lv_sub hl [2, 3, 1, 0] rfl)

theorem k_X8_tightness (l : Launch) (g : cG) (A : Nat → Prop) (o : Nat) (σ : cS) (v : Int32) (σ1 : cS) (h : m_X8_tightness o σ = some (v, σ1)) : Met l yX8_tightness (ws_ yX8_tightness cX8_tightness 1 (Option.some Jvm.ClassFile.FieldType.int)) ({ frames := 1, cells := σ.2 3 - σ.2 0, slots := σ.2 4 - σ.2 1, locals := 40 }) (CPc g A [.ref o] σ) (CQ g A (some (.int v)) σ1) (σ.2 3 - σ.2 0) (σ.2 4 - σ.2 1) A := by
  refine Met.ofW (cc := cX8_tightness) (maxL := 1) (ret := (Option.some Jvm.ClassFile.FieldType.int)) (by decide) rfl ?_
  intro p e s m args below meth c s₁ B hml hv
  obtain ⟨rfl, hw, hσ⟩ := hv
  have hts := atoms_spec (ws := (ws_ yX8_tightness cX8_tightness 1 (Option.some Jvm.ClassFile.FieldType.int))) B.pre
  have C : CX p m meth c s ([.ref o] : List Value).toArray cX8_tightness 1 (Option.some Jvm.ClassFile.FieldType.int) RX8 := ⟨⟨B.exec, B.bytes, hml, findClass_of_methodNamed B.named, fun w h => hts w (List.mem_cons_of_mem _ h)⟩, B.returns, B.notSynchronized⟩
  have e3 : σ.2 3 - σ.2 0 = g.2.2.1 3 - s.heap.size := by rw [hσ.1, hσ.2.2.2.1 3 (by decide)]
  have e4 : σ.2 4 - σ.2 1 = g.2.2.1 4 - hsl s.heap := by rw [hσ.2.1, hσ.2.2.2.1 4 (by decide)]
  have hR : RM g s (headSpec (ws_ yX8_tightness cX8_tightness 1 (Option.some Jvm.ClassFile.FieldType.int)) ({ frames := 1, cells := σ.2 3 - σ.2 0, slots := σ.2 4 - σ.2 1, locals := 40 })).room (1) (40) := ⟨⟨Nat.le_refl _, Nat.le_refl _⟩, Nat.le_of_eq e3.symm, Nat.le_of_eq e4.symm⟩
  generalize (headSpec (ws_ yX8_tightness cX8_tightness 1 (Option.some Jvm.ClassFile.FieldType.int)) ({ frames := 1, cells := σ.2 3 - σ.2 0, slots := σ.2 4 - σ.2 1, locals := 40 })).room = R at hR ⊢
  rw [e3, e4]
  have hI : CI g A s σ s.heap [] := ⟨hσ, va_S.rf, Nat.le_refl _⟩
  have hl := lv_entry ([.ref o]) (n := 1) (Nat.le_of_ble_eq_true rfl)
  rw [lg_entry_eq]
  generalize (lg_sl ([.ref o]) ++ List.replicate (1 - (lg_sl ([.ref o])).length) Slot.unset).toArray = ls at hl ⊢
  have hl : lv_has ls 1 [(0, .ref o)] := hl
  obtain ⟨z, hz⟩ : ∃ z, z = (v, σ1) := ⟨_, rfl⟩
  rw [← hz] at h
  rw [show v = z.1 by rw [hz], show σ1 = z.2 by rw [hz]]
  clear hz v σ1
  refine W.narrow ?_
  unfold m_X8_tightness at h
  refine r_aload_n (x := some o) C.x C.b dX8_tightness_0 rfl (lv_at hl 0 rfl) ?_
  refine cw_gI (r := some o) 5 1 C hw hI h (by decide) rfl in_X8 (by decide) (C.t _ q1034) (fun _ h9 => h9) dX8_tightness_1 (fun v_1 h => ?_)
  refine lv_if_eq (tgt := 11) C.x C.b dX8_tightness_4 (by decide) (fun c_2 => ?_) (fun c_2 => ?_)
  · have h := ip c_2 h
    refine lv_iconst (v := 0) C.x C.b dX8_tightness_11 (by decide) ?_
    exact cw_iret C hI h dX8_tightness_12
  · have h := iN c_2 h
    refine lv_iconst (v := 1) C.x C.b dX8_tightness_7 (by decide) ?_
    refine lv_goto (tgt := 12) C.x C.b dX8_tightness_8 (by decide) ?_
    exact cw_iret C hI h dX8_tightness_12

end
