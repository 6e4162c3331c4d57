/-! THE CLASS' WALKS 26: printed by gencl.py -/
section
variable {p : Program} {l : Launch} {e : Env} {R : Room} {s : State} {m : MethodId} {args : Array Value} {below : List Frame} {meth : Method} {c : Code} {g : cG} {A : Nat → Prop}
set_option maxRecDepth 100000
theorem k_X1_lambda_clashesIf_9 (l : Launch) (g : cG) (A : Nat → Prop) (x0 : Int32) (x1 : Int32) (x2 : Option Nat) (σ : cS) (v : Int32) (σ1 : cS) (h : m_X1_lambda_clashesIf_9 x0 x1 x2 σ = some (v, σ1)) : Met l yX1_lambda_clashesIf_9 (ws_ yX1_lambda_clashesIf_9 cX1_lambda_clashesIf_9 3 (Option.none : Option Jvm.ClassFile.FieldType)) ({ frames := 4, cells := σ.2 3 - σ.2 0, slots := σ.2 4 - σ.2 1, locals := 104 }) (CPc g A [.int x0, .int x1, va_rf x2] σ) (CQ g A (none) σ1) (σ.2 3 - σ.2 0) (σ.2 4 - σ.2 1) A := by
  refine Met.ofW (cc := cX1_lambda_clashesIf_9) (maxL := 3) (ret := (Option.none : Option Jvm.ClassFile.FieldType)) (by decide) rfl ?_
  intro p e s m args below meth c s₁ B hml hv
  obtain ⟨rfl, hw, hσ⟩ := hv
  have hts := atoms_spec (ws := (ws_ yX1_lambda_clashesIf_9 cX1_lambda_clashesIf_9 3 (Option.none : Option Jvm.ClassFile.FieldType))) B.pre
  have C : CX p m meth c s ([.int x0, .int x1, va_rf x2] : List Value).toArray cX1_lambda_clashesIf_9 3 (Option.none : Option Jvm.ClassFile.FieldType) RX1 := ⟨⟨B.exec, B.bytes, hml, findClass_of_methodNamed B.named, fun w h => hts w (List.mem_cons_of_mem _ h)⟩, B.returns, B.notSynchronized⟩
  have e3 : σ.2 3 - σ.2 0 = g.2.2.1 3 - s.heap.size := by rw [hσ.1, hσ.2.2.2.1 3 (by decide)]
  have e4 : σ.2 4 - σ.2 1 = g.2.2.1 4 - hsl s.heap := by rw [hσ.2.1, hσ.2.2.2.1 4 (by decide)]
  have hR : RM g s (headSpec (ws_ yX1_lambda_clashesIf_9 cX1_lambda_clashesIf_9 3 (Option.none : Option Jvm.ClassFile.FieldType)) ({ frames := 4, cells := σ.2 3 - σ.2 0, slots := σ.2 4 - σ.2 1, locals := 104 })).room (4) (104) := ⟨⟨Nat.le_refl _, Nat.le_refl _⟩, Nat.le_of_eq e3.symm, Nat.le_of_eq e4.symm⟩
  generalize (headSpec (ws_ yX1_lambda_clashesIf_9 cX1_lambda_clashesIf_9 3 (Option.none : Option Jvm.ClassFile.FieldType)) ({ frames := 4, cells := σ.2 3 - σ.2 0, slots := σ.2 4 - σ.2 1, locals := 104 })).room = R at hR ⊢
  rw [e3, e4]
  have hI : CI g A s σ s.heap [] := ⟨hσ, va_S.rf, Nat.le_refl _⟩
  have hlen : (lg_sl ([.int x0, .int x1, va_rf x2])).length ≤ 3 := by rcases x2 with _ | x2 <;> exact Nat.le_of_ble_eq_true rfl
  have hl := lv_entry ([.int x0, .int x1, va_rf x2]) (n := 3) hlen
  rw [lg_entry_eq]
  generalize (lg_sl ([.int x0, .int x1, va_rf x2]) ++ List.replicate (3 - (lg_sl ([.int x0, .int x1, va_rf x2])).length) Slot.unset).toArray = ls at hl ⊢
  have hl : lv_has ls 3 [(0, .int x0), (1, .int x1), (2, va_rf x2)] := by clear hI hw h hσ e3 e4 hR C hts B; rcases x2 with _ | x2 <;> exact hl
  obtain ⟨z, hz⟩ : ∃ z, z = (v, σ1) := ⟨_, rfl⟩
  rw [← hz] at h
  rw [show σ1 = z.2 by rw [hz]]
  clear hz v σ1
  refine W.narrow ?_
  unfold m_X1_lambda_clashesIf_9 at h
  refine r_aload_n (x := x2) C.x C.b dX1_lambda_clashesIf_9_0 rfl (lv_at hl 2 rfl) ?_
  refine cw_gR (r := x2) 1 4 C hw hI h (by decide) rfl in_X4 (by decide) (C.t _ q851) (fun _ h9 => h9) dX1_lambda_clashesIf_9_1 (fun v_1 h => ?_)
  refine lv_iload_n C.x C.b dX1_lambda_clashesIf_9_4 rfl (lv_at hl 0 rfl) ?_
  refine cw_callV (y := yJ18_get) (bytes := cJ18_get) (maxL := 2) (r := v_1) (f := fun a_4 => m_J18_get a_4 x0 σ) 9 (fun v => some (va_rf v)) [.int x0] C hw hR hI hl.1 h (by decide) rfl (fun aa vv ss ee => k_J18_get l g A aa x0 σ vv ss ee) (cwV 1 C.t (lw_V q1586 q1264 q1265 q152 q1266) rfl rfl rfl (by decide +kernel) ⟨Nat.le_trans (Nat.le_of_ble_eq_true rfl) hR.f, Nat.le_trans (Nat.le_of_ble_eq_true rfl) hR.lo⟩) rfl rfl (Nat.le_of_ble_eq_true rfl) dX1_lambda_clashesIf_9_5 (fun v_2 σ_3 H locs h hI => ?_)
  refine cw_cast (r := v_2) 2 C hw hI h (by decide) rfl q1587 dX1_lambda_clashesIf_9_8 (fun h => ?_)
  refine lv_dup C.x C.b dX1_lambda_clashesIf_9_11 (cat_rf _) ?_
  refine cw_gI (r := v_2) 2 3 C hw hI h (by decide) rfl in_X9 (by decide) (C.t _ q1112) (fun _ h9 => h9) dX1_lambda_clashesIf_9_12 (fun v_5 h => ?_)
  refine lv_iload_n C.x C.b dX1_lambda_clashesIf_9_15 rfl (lv_at hl 1 rfl) ?_
  refine lv_ixor C.x C.b dX1_lambda_clashesIf_9_16 ?_
  refine cw_pO (r := v_2) (v := (.int (v_5 ^^^ x1))) (ty := .int) 2 3 C hw hI h (by decide) rfl in_X9 tyX9 tyX9_ok nmX9 (by decide) (C.t _ q1112) (fun _ h9 => h9) (Or.inl rfl) (by decide +kernel) rfl rfl dX1_lambda_clashesIf_9_17 (fun σ_6 H locs h hI => ?_)
  exact cw_vret C hI h dX1_lambda_clashesIf_9_20

theorem k_X1_lambda_gapsWithout_8 (l : Launch) (g : cG) (A : Nat → Prop) (x0 : Int32) (x1 : Option Nat) (σ : cS) (v : Int32) (σ1 : cS) (h : m_X1_lambda_gapsWithout_8 x0 x1 σ = some (v, σ1)) : Met l yX1_lambda_gapsWithout_8 (ws_ yX1_lambda_gapsWithout_8 cX1_lambda_gapsWithout_8 2 (Option.none : Option Jvm.ClassFile.FieldType)) ({ frames := 5, cells := σ.2 3 - σ.2 0, slots := σ.2 4 - σ.2 1, locals := 130 }) (CPc g A [.int x0, va_rf x1] σ) (CQ g A (none) σ1) (σ.2 3 - σ.2 0) (σ.2 4 - σ.2 1) A := by
  refine Met.ofW (cc := cX1_lambda_gapsWithout_8) (maxL := 2) (ret := (Option.none : Option Jvm.ClassFile.FieldType)) (by decide) rfl ?_
  intro p e s m args below meth c s₁ B hml hv
  obtain ⟨rfl, hw, hσ⟩ := hv
  have hts := atoms_spec (ws := (ws_ yX1_lambda_gapsWithout_8 cX1_lambda_gapsWithout_8 2 (Option.none : Option Jvm.ClassFile.FieldType))) B.pre
  have C : CX p m meth c s ([.int x0, va_rf x1] : List Value).toArray cX1_lambda_gapsWithout_8 2 (Option.none : Option Jvm.ClassFile.FieldType) RX1 := ⟨⟨B.exec, B.bytes, hml, findClass_of_methodNamed B.named, fun w h => hts w (List.mem_cons_of_mem _ h)⟩, B.returns, B.notSynchronized⟩
  have e3 : σ.2 3 - σ.2 0 = g.2.2.1 3 - s.heap.size := by rw [hσ.1, hσ.2.2.2.1 3 (by decide)]
  have e4 : σ.2 4 - σ.2 1 = g.2.2.1 4 - hsl s.heap := by rw [hσ.2.1, hσ.2.2.2.1 4 (by decide)]
  have hR : RM g s (headSpec (ws_ yX1_lambda_gapsWithout_8 cX1_lambda_gapsWithout_8 2 (Option.none : Option Jvm.ClassFile.FieldType)) ({ frames := 5, cells := σ.2 3 - σ.2 0, slots := σ.2 4 - σ.2 1, locals := 130 })).room (5) (130) := ⟨⟨Nat.le_refl _, Nat.le_refl _⟩, Nat.le_of_eq e3.symm, Nat.le_of_eq e4.symm⟩
  generalize (headSpec (ws_ yX1_lambda_gapsWithout_8 cX1_lambda_gapsWithout_8 2 (Option.none : Option Jvm.ClassFile.FieldType)) ({ frames := 5, cells := σ.2 3 - σ.2 0, slots := σ.2 4 - σ.2 1, locals := 130 })).room = R at hR ⊢
  rw [e3, e4]
  have hI : CI g A s σ s.heap [] := ⟨hσ, va_S.rf, Nat.le_refl _⟩
  have hlen : (lg_sl ([.int x0, va_rf x1])).length ≤ 2 := by rcases x1 with _ | x1 <;> exact Nat.le_of_ble_eq_true rfl
  have hl := lv_entry ([.int x0, va_rf x1]) (n := 2) hlen
  rw [lg_entry_eq]
  generalize (lg_sl ([.int x0, va_rf x1]) ++ List.replicate (2 - (lg_sl ([.int x0, va_rf x1])).length) Slot.unset).toArray = ls at hl ⊢
  have hl : lv_has ls 2 [(0, .int x0), (1, va_rf x1)] := by clear hI hw h hσ e3 e4 hR C hts B; rcases x1 with _ | x1 <;> exact hl
  obtain ⟨z, hz⟩ : ∃ z, z = (v, σ1) := ⟨_, rfl⟩
  rw [← hz] at h
  rw [show σ1 = z.2 by rw [hz]]
  clear hz v σ1
  refine W.narrow ?_
  unfold m_X1_lambda_gapsWithout_8 at h
  refine r_aload_n (x := x1) C.x C.b dX1_lambda_gapsWithout_8_0 rfl (lv_at hl 1 rfl) ?_
  refine lv_iload_n C.x C.b dX1_lambda_gapsWithout_8_1 rfl (lv_at hl 0 rfl) ?_
  refine cw_callV (y := yX4_drop) (bytes := cX4_drop) (maxL := 5) (r := x1) (f := fun a_2 => m_X4_drop a_2 x0 σ) 1 (fun _ => none) [.int x0] C hw hR hI hl.1 h (by decide) rfl (fun aa vv ss ee => k_X4_drop l g A aa x0 σ vv ss ee) (cwV 1 C.t (lw_V q1342 q1343 q1344 q150 q1345) rfl rfl rfl (by decide +kernel) ⟨Nat.le_trans (Nat.le_of_ble_eq_true rfl) hR.f, Nat.le_trans (Nat.le_of_ble_eq_true rfl) hR.lo⟩) rfl rfl (Nat.le_of_ble_eq_true rfl) dX1_lambda_gapsWithout_8_2 (fun _ σ_1 H locs h hI => ?_)
  exact cw_vret C hI h dX1_lambda_gapsWithout_8_5

theorem k_X1_lambda_needed_7 (l : Launch) (g : cG) (A : Nat → Prop) (x0 : Int32) (x1 : Option Nat) (σ : cS) (v : Int32) (σ1 : cS) (h : m_X1_lambda_needed_7 x0 x1 σ = some (v, σ1)) : Met l yX1_lambda_needed_7 (ws_ yX1_lambda_needed_7 cX1_lambda_needed_7 2 (Option.none : Option Jvm.ClassFile.FieldType)) ({ frames := 5, cells := σ.2 3 - σ.2 0, slots := σ.2 4 - σ.2 1, locals := 130 }) (CPc g A [.int x0, va_rf x1] σ) (CQ g A (none) σ1) (σ.2 3 - σ.2 0) (σ.2 4 - σ.2 1) A := by
  refine Met.ofW (cc := cX1_lambda_needed_7) (maxL := 2) (ret := (Option.none : Option Jvm.ClassFile.FieldType)) (by decide) rfl ?_
  intro p e s m args below meth c s₁ B hml hv
  obtain ⟨rfl, hw, hσ⟩ := hv
  have hts := atoms_spec (ws := (ws_ yX1_lambda_needed_7 cX1_lambda_needed_7 2 (Option.none : Option Jvm.ClassFile.FieldType))) B.pre
  have C : CX p m meth c s ([.int x0, va_rf x1] : List Value).toArray cX1_lambda_needed_7 2 (Option.none : Option Jvm.ClassFile.FieldType) RX1 := ⟨⟨B.exec, B.bytes, hml, findClass_of_methodNamed B.named, fun w h => hts w (List.mem_cons_of_mem _ h)⟩, B.returns, B.notSynchronized⟩
  have e3 : σ.2 3 - σ.2 0 = g.2.2.1 3 - s.heap.size := by rw [hσ.1, hσ.2.2.2.1 3 (by decide)]
  have e4 : σ.2 4 - σ.2 1 = g.2.2.1 4 - hsl s.heap := by rw [hσ.2.1, hσ.2.2.2.1 4 (by decide)]
  have hR : RM g s (headSpec (ws_ yX1_lambda_needed_7 cX1_lambda_needed_7 2 (Option.none : Option Jvm.ClassFile.FieldType)) ({ frames := 5, cells := σ.2 3 - σ.2 0, slots := σ.2 4 - σ.2 1, locals := 130 })).room (5) (130) := ⟨⟨Nat.le_refl _, Nat.le_refl _⟩, Nat.le_of_eq e3.symm, Nat.le_of_eq e4.symm⟩
  generalize (headSpec (ws_ yX1_lambda_needed_7 cX1_lambda_needed_7 2 (Option.none : Option Jvm.ClassFile.FieldType)) ({ frames := 5, cells := σ.2 3 - σ.2 0, slots := σ.2 4 - σ.2 1, locals := 130 })).room = R at hR ⊢
  rw [e3, e4]
  have hI : CI g A s σ s.heap [] := ⟨hσ, va_S.rf, Nat.le_refl _⟩
  have hlen : (lg_sl ([.int x0, va_rf x1])).length ≤ 2 := by rcases x1 with _ | x1 <;> exact Nat.le_of_ble_eq_true rfl
  have hl := lv_entry ([.int x0, va_rf x1]) (n := 2) hlen
  rw [lg_entry_eq]
  generalize (lg_sl ([.int x0, va_rf x1]) ++ List.replicate (2 - (lg_sl ([.int x0, va_rf x1])).length) Slot.unset).toArray = ls at hl ⊢
  have hl : lv_has ls 2 [(0, .int x0), (1, va_rf x1)] := by clear hI hw h hσ e3 e4 hR C hts B; rcases x1 with _ | x1 <;> exact hl
  obtain ⟨z, hz⟩ : ∃ z, z = (v, σ1) := ⟨_, rfl⟩
  rw [← hz] at h
  rw [show σ1 = z.2 by rw [hz]]
  clear hz v σ1
  refine W.narrow ?_
  unfold m_X1_lambda_needed_7 at h
  refine r_aload_n (x := x1) C.x C.b dX1_lambda_needed_7_0 rfl (lv_at hl 1 rfl) ?_
  refine lv_iload_n C.x C.b dX1_lambda_needed_7_1 rfl (lv_at hl 0 rfl) ?_
  refine cw_callV (y := yX4_drop) (bytes := cX4_drop) (maxL := 5) (r := x1) (f := fun a_2 => m_X4_drop a_2 x0 σ) 1 (fun _ => none) [.int x0] C hw hR hI hl.1 h (by decide) rfl (fun aa vv ss ee => k_X4_drop l g A aa x0 σ vv ss ee) (cwV 1 C.t (lw_V q1342 q1343 q1344 q150 q1345) rfl rfl rfl (by decide +kernel) ⟨Nat.le_trans (Nat.le_of_ble_eq_true rfl) hR.f, Nat.le_trans (Nat.le_of_ble_eq_true rfl) hR.lo⟩) rfl rfl (Nat.le_of_ble_eq_true rfl) dX1_lambda_needed_7_2 (fun _ σ_1 H locs h hI => ?_)
  exact cw_vret C hI h dX1_lambda_needed_7_5

theorem k_X1_after (l : Launch) (g : cG) (A : Nat → Prop) (o : Nat) (x1 : Option Nat) (σ : cS) (v : Option Nat) (σ1 : cS) (h : m_X1_after o x1 σ = some (v, σ1)) : Met l yX1_after (ws_ yX1_after cX1_after 3 (Option.some (Jvm.ClassFile.FieldType.object "HeirCases$Will"))) ({ frames := 8, cells := σ.2 3 - σ.2 0, slots := σ.2 4 - σ.2 1, locals := 193 }) (CPc g A [.ref o, va_rf x1] σ) (CQ g A (some (va_rf v)) σ1) (σ.2 3 - σ.2 0) (σ.2 4 - σ.2 1) A := by
  refine Met.ofW (cc := cX1_after) (maxL := 3) (ret := (Option.some (Jvm.ClassFile.FieldType.object "HeirCases$Will"))) (by decide) rfl ?_
  intro p e s m args below meth c s₁ B hml hv
  obtain ⟨rfl, hw, hσ⟩ := hv
  have hts := atoms_spec (ws := (ws_ yX1_after cX1_after 3 (Option.some (Jvm.ClassFile.FieldType.object "HeirCases$Will")))) B.pre
  have C : CX p m meth c s ([.ref o, va_rf x1] : List Value).toArray cX1_after 3 (Option.some (Jvm.ClassFile.FieldType.object "HeirCases$Will")) RX1 := ⟨⟨B.exec, B.bytes, hml, findClass_of_methodNamed B.named, fun w h => hts w (List.mem_cons_of_mem _ h)⟩, B.returns, B.notSynchronized⟩
  have e3 : σ.2 3 - σ.2 0 = g.2.2.1 3 - s.heap.size := by rw [hσ.1, hσ.2.2.2.1 3 (by decide)]
  have e4 : σ.2 4 - σ.2 1 = g.2.2.1 4 - hsl s.heap := by rw [hσ.2.1, hσ.2.2.2.1 4 (by decide)]
  have hR : RM g s (headSpec (ws_ yX1_after cX1_after 3 (Option.some (Jvm.ClassFile.FieldType.object "HeirCases$Will"))) ({ frames := 8, cells := σ.2 3 - σ.2 0, slots := σ.2 4 - σ.2 1, locals := 193 })).room (8) (193) := ⟨⟨Nat.le_refl _, Nat.le_refl _⟩, Nat.le_of_eq e3.symm, Nat.le_of_eq e4.symm⟩
  generalize (headSpec (ws_ yX1_after cX1_after 3 (Option.some (Jvm.ClassFile.FieldType.object "HeirCases$Will"))) ({ frames := 8, cells := σ.2 3 - σ.2 0, slots := σ.2 4 - σ.2 1, locals := 193 })).room = R at hR ⊢
  rw [e3, e4]
  have hI : CI g A s σ s.heap [] := ⟨hσ, va_S.rf, Nat.le_refl _⟩
  have hlen : (lg_sl ([.ref o, va_rf x1])).length ≤ 3 := by rcases x1 with _ | x1 <;> exact Nat.le_of_ble_eq_true rfl
  have hl := lv_entry ([.ref o, va_rf x1]) (n := 3) hlen
  rw [lg_entry_eq]
  generalize (lg_sl ([.ref o, va_rf x1]) ++ List.replicate (3 - (lg_sl ([.ref o, va_rf x1])).length) Slot.unset).toArray = ls at hl ⊢
  have hl : lv_has ls 3 [(0, .ref o), (1, va_rf x1)] := by clear hI hw h hσ e3 e4 hR C hts B; rcases x1 with _ | x1 <;> exact hl
  obtain ⟨z, hz⟩ : ∃ z, z = (v, σ1) := ⟨_, rfl⟩
  rw [← hz] at h
  rw [show v = z.1 by rw [hz], show σ1 = z.2 by rw [hz]]
  clear hz v σ1
  refine W.narrow ?_
  unfold m_X1_after at h
  refine r_aload_n (x := some o) C.x C.b dX1_after_0 rfl (lv_at hl 0 rfl) ?_
  refine cw_gR (r := some o) 0 0 C hw hI h (by decide) rfl in_X1 (by decide) (C.t _ q1172) (fun _ h9 => h9) dX1_after_1 (fun v_1 h => ?_)
  refine cw_callV (y := yX4_duplicate) (bytes := cX4_duplicate) (maxL := 3) (r := v_1) (f := fun a_4 => m_X4_duplicate a_4 σ) 1 (fun v => some (va_rf v)) [] C hw hR hI hl.1 h (by decide) rfl (fun aa vv ss ee => k_X4_duplicate l g A aa σ vv ss ee) (cwV 0 C.t (lw_V q1359 q1360 q1361 q150 q1362) rfl rfl rfl (by decide +kernel) ⟨Nat.le_trans (Nat.le_of_ble_eq_true rfl) hR.f, Nat.le_trans (Nat.le_of_ble_eq_true rfl) hR.lo⟩) rfl rfl (Nat.le_of_ble_eq_true rfl) dX1_after_4 (fun v_2 σ_3 H locs h hI => ?_)
  refine r_astore_n (i := 2) (x := v_2) (lv' := [(2, va_rf v_2), (0, .ref o), (1, va_rf x1)]) C.x C.b dX1_after_7 rfl hl (by decide) (by first | (simp [List.filter, cat_rf, cat_i, cat_a, cat_n, cat_l, cat_f, cat_d]; done) | (simp [List.filter, cat_rf, cat_i, cat_a, cat_n, cat_l, cat_f, cat_d]; rfl)) (fun ls hl => ?_)
  refine r_aload_n (x := x1) C.x C.b dX1_after_8 rfl (lv_at hl 2 rfl) ?_
  refine r_aload_n (x := v_2) C.x C.b dX1_after_9 rfl (lv_at hl 0 rfl) ?_
  refine cw_callL (r := x1) (F := fun a_6 => dL_in a_6 v_2 σ_3) (fun _ => none) [va_rf v_2] hI h ?_ rfl (fun _ σ_5 H locs h hI => ?_)
  · intro aa vv ss er ee
    unfold dL_in at ee
    by_cases hO3 : isO σ_3 aa 63 = true
    · rw [if_pos hO3] at ee
      obtain ⟨fs, ha, ee⟩ := gL_s ee
      obtain ⟨c0, hc0, ee⟩ := kI_s ee
      exact cw_lamC (q := lq3) (n := 3) (x := ⟨"HeirCases$Deed", "in", "(LHeirCases$Will;)V"⟩) (y := yX1_lambda_needed_7) (as := [.int c0, va_rf v_2]) (As := [va_rf v_2]) (bytesY := cX1_lambda_needed_7) (maxLY := 2) (retY := (Option.none : Option Jvm.ClassFile.FieldType)) (F_ := 8) (L_ := 193) C hw hR hI hl.1 lz3 lo3 ha lx3 (by decide) (C.t _ q1375) (k_X1_lambda_needed_7 l g A c0 v_2 σ_3 vv ss ee) (lw_meth q1341) rfl rfl rfl q126 (Nat.le_of_ble_eq_true rfl) (Nat.le_of_ble_eq_true rfl) (fun R' s' a' below' methk ck Q' ls' hb hF hl kk => lv_aload_n C.x hb ld3_0 rfl (lv_at hl 0 rfl) (cw_lget C.x hb (hF 0 (15, 14) rfl) (lam_cell (n := 3) hI ha) (by simp) (arr_at hc0) ld3_1 (r_aload_n C.x hb ld3_4 rfl (lv_at hl 1 rfl) (kk)))) (lamT_S (q := lq3) (n := 3) (sig := ⟨[], none⟩) (as := [.int c0, va_rf v_2]) C.t (hw.2.2.2.2.2.2.2.2.2.2.2.2.2.2.2.1.2.2.1 _ _ lz3) lo3 ly3 (by decide +kernel) q1341 q1340 q126 rfl ld3_5) (Or.inl ⟨rfl, rfl, ld3_8⟩) (by rcases v_2 with _ | v_2 <;> exact Nat.le_of_ble_eq_true rfl) rfl rfl (Nat.le_of_ble_eq_true rfl) dX1_after_10
    rw [if_neg hO3] at ee
    by_cases hO15 : isO σ_3 aa 75 = true
    · rw [if_pos hO15] at ee
      obtain ⟨fs, ha, ee⟩ := gL_s ee
      obtain ⟨c0, hc0, ee⟩ := kI_s ee
      exact cw_lamC (q := lq15) (n := 15) (x := ⟨"HeirCases$Deed", "in", "(LHeirCases$Will;)V"⟩) (y := yX1_lambda_gapsWithout_8) (as := [.int c0, va_rf v_2]) (As := [va_rf v_2]) (bytesY := cX1_lambda_gapsWithout_8) (maxLY := 2) (retY := (Option.none : Option Jvm.ClassFile.FieldType)) (F_ := 8) (L_ := 193) C hw hR hI hl.1 lz15 lo15 ha lx15 (by decide) (C.t _ q1375) (k_X1_lambda_gapsWithout_8 l g A c0 v_2 σ_3 vv ss ee) (lw_meth q1837) rfl rfl rfl q126 (Nat.le_of_ble_eq_true rfl) (Nat.le_of_ble_eq_true rfl) (fun R' s' a' below' methk ck Q' ls' hb hF hl kk => lv_aload_n C.x hb ld15_0 rfl (lv_at hl 0 rfl) (cw_lget C.x hb (hF 0 (15, 14) rfl) (lam_cell (n := 15) hI ha) (by simp) (arr_at hc0) ld15_1 (r_aload_n C.x hb ld15_4 rfl (lv_at hl 1 rfl) (kk)))) (lamT_S (q := lq15) (n := 15) (sig := ⟨[], none⟩) (as := [.int c0, va_rf v_2]) C.t (hw.2.2.2.2.2.2.2.2.2.2.2.2.2.2.2.1.2.2.1 _ _ lz15) lo15 ly15 (by decide +kernel) q1837 q1836 q126 rfl ld15_5) (Or.inl ⟨rfl, rfl, ld15_8⟩) (by rcases v_2 with _ | v_2 <;> exact Nat.le_of_ble_eq_true rfl) rfl rfl (Nat.le_of_ble_eq_true rfl) dX1_after_10
    rw [if_neg hO15] at ee
    by_cases hO16 : isO σ_3 aa 76 = true
    · rw [if_pos hO16] at ee
      obtain ⟨fs, ha, ee⟩ := gL_s ee
      obtain ⟨c0, hc0, ee⟩ := kI_s ee
      obtain ⟨c1, hc1, ee⟩ := kI_s ee
      exact cw_lamC (q := lq16) (n := 16) (x := ⟨"HeirCases$Deed", "in", "(LHeirCases$Will;)V"⟩) (y := yX1_lambda_clashesIf_9) (as := [.int c0, .int c1, va_rf v_2]) (As := [va_rf v_2]) (bytesY := cX1_lambda_clashesIf_9) (maxLY := 3) (retY := (Option.none : Option Jvm.ClassFile.FieldType)) (F_ := 8) (L_ := 193) C hw hR hI hl.1 lz16 lo16 ha lx16 (by decide) (C.t _ q1375) (k_X1_lambda_clashesIf_9 l g A c0 c1 v_2 σ_3 vv ss ee) (lw_meth q1846) rfl rfl rfl q126 (Nat.le_of_ble_eq_true rfl) (Nat.le_of_ble_eq_true rfl) (fun R' s' a' below' methk ck Q' ls' hb hF hl kk => lv_aload_n C.x hb ld16_0 rfl (lv_at hl 0 rfl) (cw_lget C.x hb (hF 0 (16, 15) rfl) (lam_cell (n := 16) hI ha) (by simp) (arr_at hc0) ld16_1 (lv_aload_n C.x hb ld16_4 rfl (lv_at hl 0 rfl) (cw_lget C.x hb (hF 1 (18, 17) rfl) (lam_cell (n := 16) hI ha) (by simp) (arr_at hc1) ld16_5 (r_aload_n C.x hb ld16_8 rfl (lv_at hl 1 rfl) (kk)))))) (lamT_S (q := lq16) (n := 16) (sig := ⟨[], none⟩) (as := [.int c0, .int c1, va_rf v_2]) C.t (hw.2.2.2.2.2.2.2.2.2.2.2.2.2.2.2.1.2.2.1 _ _ lz16) lo16 ly16 (by decide +kernel) q1846 q1845 q126 rfl ld16_9) (Or.inl ⟨rfl, rfl, ld16_12⟩) (by rcases v_2 with _ | v_2 <;> exact Nat.le_of_ble_eq_true rfl) rfl rfl (Nat.le_of_ble_eq_true rfl) dX1_after_10
    rw [if_neg hO16] at ee
    cases ee
  · refine r_aload_n (x := v_2) C.x C.b dX1_after_15 rfl (lv_at hl 0 rfl) ?_
    exact cw_aret (x := v_2) C (Or.inl ⟨_, rfl⟩) hI h dX1_after_16

theorem w_X1_needed_12 {z : Int32 × cS} {o : Nat} (C : CX p m meth c s args cX1_needed 5 (Option.some Jvm.ClassFile.FieldType.int) RX1) (hnm : s.methodNamed? yX1_needed = some m) (hw : WKc g A s s.heap) (hR : RM g s R (261) (6515))  : ∀ (n : Nat) (x1 : Int32) (x2 : Int32) (x3 : Int32) (σ : cS) (H : Heap) (locs : List Loc) (ls : Array Slot), b_X1_needed_12 o n x1 x2 x3 σ = some z → CI g A s σ H locs → lv_has ls 5 [(0, .ref o), (1, .int x1), (2, .int x2), (3, .int x3)] → W p l e R s m args below meth c H locs (H.size - s.heap.size) (hsl H - hsl s.heap) (MQ below (CQ g A (some (.int z.1)) z.2) args s (g.2.2.1 3 - s.heap.size) (g.2.2.1 4 - hsl s.heap) A) (F0 m 12 ls []) := by
  intro n
  induction n with
  | zero =>
    intro x1 x2 x3 σ H locs ls h
    cases h
  | succ n ih =>
    intro x1 x2 x3 σ H locs ls h hI hl
    rw [b_X1_needed_12] at h
    refine lv_iload_n C.x C.b dX1_needed_12 rfl (lv_at hl 3 rfl) ?_
    refine r_aload_n (x := some o) C.x C.b dX1_needed_13 rfl (lv_at hl 0 rfl) ?_
    refine cw_gR (r := some o) 0 0 C hw hI h (by decide) rfl in_X1 (by decide) (C.t _ q1172) (fun _ h9 => h9) dX1_needed_14 (fun v_1 h => ?_)
    refine cw_gR (r := v_1) 1 4 C hw hI h (by decide) rfl in_X4 (by decide) (C.t _ q851) (fun _ h9 => h9) dX1_needed_17 (fun v_2 h => ?_)
    refine cw_callV (y := yJ18_size) (bytes := cJ18_size) (maxL := 1) (r := v_2) (f := fun a_5 => m_J18_size a_5 σ) 9 (fun v => some (.int v)) [] C hw hR hI hl.1 h (by decide) rfl (fun aa vv ss ee => k_J18_size l g A aa σ vv ss ee) (cwV 0 C.t (lw_V q1339 q947 q948 q152 q949) rfl rfl rfl (by decide +kernel) ⟨Nat.le_trans (Nat.le_of_ble_eq_true rfl) hR.f, Nat.le_trans (Nat.le_of_ble_eq_true rfl) hR.lo⟩) rfl rfl (Nat.le_of_ble_eq_true rfl) dX1_needed_20 (fun v_3 σ_4 H locs h hI => ?_)
    refine lv_icmp_ge (tgt := 63) C.x C.b dX1_needed_23 (by decide) (fun c_6 => ?_) (fun c_6 => ?_)
    · have h := ip c_6 h
      refine lv_iload_n C.x C.b dX1_needed_63 rfl (lv_at hl 1 rfl) ?_
      exact cw_iret C hI h dX1_needed_64
    · have h := iN c_6 h
      refine lv_iload_n C.x C.b dX1_needed_26 rfl (lv_at hl 3 rfl) ?_
      refine lv_istore (i := 4) (lv' := [(4, .int x3), (0, .ref o), (1, .int x1), (2, .int x2), (3, .int x3)]) C.x C.b dX1_needed_27 hl (by decide) rfl (fun ls hl => ?_)
      refine lv_iload_n C.x C.b dX1_needed_29 rfl (lv_at hl 2 rfl) ?_
      refine r_aload_n (x := some o) C.x C.b dX1_needed_30 rfl (lv_at hl 1 rfl) ?_
      refine lv_iload C.x C.b dX1_needed_31 (lv_at hl 0 rfl) ?_
      refine cw_lamM (q := lq3) (st := [.int x3, .ref o, .int x1]) 3 [.int x3] C hw hR hI hnm lz3 lo3 h (by decide) (show (fits .int (.int x3) = true ∧ narrow .int (.int x3) = (.int x3)) ∧ True from ⟨⟨rfl, rfl⟩, trivial⟩) rfl hl.1 (Nat.le_of_ble_eq_true rfl) rfl (Nat.le_of_ble_eq_true rfl) dX1_needed_33 (fun q_7 σ_8 H locs h hI => ?_)
      refine cw_callV (y := yX1_after) (bytes := cX1_after) (maxL := 3) (r := some o) (f := fun a_11 => m_X1_after a_11 (some q_7) σ_8) 0 (fun v => some (va_rf v)) [.ref q_7] C hw hR hI hl.1 h (by decide) rfl (fun aa vv ss ee => k_X1_after l g A aa (some q_7) σ_8 vv ss ee) (cwV 1 C.t (lw_V q1355 q1357 qs27 q126 q1358) rfl rfl rfl (by decide +kernel) ⟨Nat.le_trans (Nat.le_of_ble_eq_true rfl) hR.f, Nat.le_trans (Nat.le_of_ble_eq_true rfl) hR.lo⟩) rfl rfl (Nat.le_of_ble_eq_true rfl) dX1_needed_38 (fun v_9 σ_10 H locs h hI => ?_)
      refine cw_callV (y := yX4_unsettled) (bytes := cX4_unsettled) (maxL := 1) (r := v_9) (f := fun a_14 => m_X4_unsettled a_14 σ_10) 1 (fun v => some (.int v)) [] C hw hR hI hl.1 h (by decide) rfl (fun aa vv ss ee => k_X4_unsettled l g A aa σ_10 vv ss ee) (cwV 0 C.t (lw_V q1335 q1336 q1337 q150 q1338) rfl rfl rfl (by decide +kernel) ⟨Nat.le_trans (Nat.le_of_ble_eq_true rfl) hR.f, Nat.le_trans (Nat.le_of_ble_eq_true rfl) hR.lo⟩) rfl rfl (Nat.le_of_ble_eq_true rfl) dX1_needed_41 (fun v_12 σ_13 H locs h hI => ?_)
      refine lv_iload_n C.x C.b dX1_needed_44 rfl (lv_at hl 3 rfl) ?_
      refine lv_icmp_le (tgt := 54) C.x C.b dX1_needed_45 (by decide) (fun c_15 => ?_) (fun c_15 => ?_)
      · have h := ip c_15 h
        refine lv_iconst (v := 0) C.x C.b dX1_needed_54 (by decide) ?_
        refine lv_ior C.x C.b dX1_needed_55 ?_
        refine tw_lt h (fun x1_16 h => ?_)
        refine lv_istore_n (i := 1) (lv' := [(1, .int x1_16), (4, .int x3), (0, .ref o), (2, .int x2), (3, .int x3)]) C.x C.b dX1_needed_56 rfl hl (by decide) rfl (fun ls hl => ?_)
        obtain ⟨x3_17, e_, h⟩ := nm_s h
        refine lv_iinc (v := x3_17) (lv' := [(3, .int x3_17), (1, .int x1_16), (4, .int x3), (0, .ref o), (2, .int x2)]) C.x C.b dX1_needed_57 hl (k := 4) rfl e_.symm (by decide) rfl (fun ls hl => ?_)
        refine lv_goto (tgt := 12) C.x C.b dX1_needed_60 (by decide) ?_
        exact ih x1_16 x2 x3_17 _ _ _ _ h hI (lv_sub hl [3, 1, 4, 0] rfl)
      · have h := iN c_15 h
        refine lv_iconst (v := 1) C.x C.b dX1_needed_48 (by decide) ?_
        refine lv_iload_n C.x C.b dX1_needed_49 rfl (lv_at hl 4 rfl) ?_
        refine lv_ishl C.x C.b dX1_needed_50 ?_
        refine lv_goto (tgt := 55) C.x C.b dX1_needed_51 (by decide) ?_
        refine lv_ior C.x C.b dX1_needed_55 ?_
        refine tw_lt h (fun x1_18 h => ?_)
        refine lv_istore_n (i := 1) (lv' := [(1, .int x1_18), (4, .int x3), (0, .ref o), (2, .int x2), (3, .int x3)]) C.x C.b dX1_needed_56 rfl hl (by decide) rfl (fun ls hl => ?_)
        obtain ⟨x3_19, e_, h⟩ := nm_s h
        refine lv_iinc (v := x3_19) (lv' := [(3, .int x3_19), (1, .int x1_18), (4, .int x3), (0, .ref o), (2, .int x2)]) C.x C.b dX1_needed_57 hl (k := 4) rfl e_.symm (by decide) rfl (fun ls hl => ?_)
        refine lv_goto (tgt := 12) C.x C.b dX1_needed_60 (by decide) ?_
        exact ih x1_18 x2 x3_19 _ _ _ _ h hI (lv_sub hl [3, 1, 4, 0] rfl)

theorem k_X1_needed (l : Launch) (g : cG) (A : Nat → Prop) (o : Nat) (σ : cS) (v : Int32) (σ1 : cS) (h : m_X1_needed o σ = some (v, σ1)) : Met l yX1_needed (ws_ yX1_needed cX1_needed 5 (Option.some Jvm.ClassFile.FieldType.int)) ({ frames := 261, cells := σ.2 3 - σ.2 0, slots := σ.2 4 - σ.2 1, locals := 6515 }) (CPc g A [.ref o] σ) (CQ g A (some (.int v)) σ1) (σ.2 3 - σ.2 0) (σ.2 4 - σ.2 1) A := by
  refine Met.ofW (cc := cX1_needed) (maxL := 5) (ret := (Option.some Jvm.ClassFile.FieldType.int)) (by decide) rfl ?_
  intro p e s m args below meth c s₁ B hml hv
  obtain ⟨rfl, hw, hσ⟩ := hv
  have hts := atoms_spec (ws := (ws_ yX1_needed cX1_needed 5 (Option.some Jvm.ClassFile.FieldType.int))) B.pre
  have C : CX p m meth c s ([.ref o] : List Value).toArray cX1_needed 5 (Option.some Jvm.ClassFile.FieldType.int) RX1 := ⟨⟨B.exec, B.bytes, hml, findClass_of_methodNamed B.named, fun w h => hts w (List.mem_cons_of_mem _ h)⟩, B.returns, B.notSynchronized⟩
  have hnm : s.methodNamed? yX1_needed = some m := B.named
  have e3 : σ.2 3 - σ.2 0 = g.2.2.1 3 - s.heap.size := by rw [hσ.1, hσ.2.2.2.1 3 (by decide)]
  have e4 : σ.2 4 - σ.2 1 = g.2.2.1 4 - hsl s.heap := by rw [hσ.2.1, hσ.2.2.2.1 4 (by decide)]
  have hR : RM g s (headSpec (ws_ yX1_needed cX1_needed 5 (Option.some Jvm.ClassFile.FieldType.int)) ({ frames := 261, cells := σ.2 3 - σ.2 0, slots := σ.2 4 - σ.2 1, locals := 6515 })).room (261) (6515) := ⟨⟨Nat.le_refl _, Nat.le_refl _⟩, Nat.le_of_eq e3.symm, Nat.le_of_eq e4.symm⟩
  generalize (headSpec (ws_ yX1_needed cX1_needed 5 (Option.some Jvm.ClassFile.FieldType.int)) ({ frames := 261, cells := σ.2 3 - σ.2 0, slots := σ.2 4 - σ.2 1, locals := 6515 })).room = R at hR ⊢
  rw [e3, e4]
  have hI : CI g A s σ s.heap [] := ⟨hσ, va_S.rf, Nat.le_refl _⟩
  have hl := lv_entry ([.ref o]) (n := 5) (Nat.le_of_ble_eq_true rfl)
  rw [lg_entry_eq]
  generalize (lg_sl ([.ref o]) ++ List.replicate (5 - (lg_sl ([.ref o])).length) Slot.unset).toArray = ls at hl ⊢
  have hl : lv_has ls 5 [(0, .ref o)] := hl
  obtain ⟨z, hz⟩ : ∃ z, z = (v, σ1) := ⟨_, rfl⟩
  rw [← hz] at h
  rw [show v = z.1 by rw [hz], show σ1 = z.2 by rw [hz]]
  clear hz v σ1
  refine W.narrow ?_
  unfold m_X1_needed at h
  refine lv_iconst (v := 0) C.x C.b dX1_needed_0 (by decide) ?_
  refine lv_istore_n (i := 1) (lv' := [(1, .int 0), (0, .ref o)]) C.x C.b dX1_needed_1 rfl hl (by decide) rfl (fun ls hl => ?_)
  refine r_aload_n (x := some o) C.x C.b dX1_needed_2 rfl (lv_at hl 1 rfl) ?_
  refine cw_gR (r := some o) 0 0 C hw hI h (by decide) rfl in_X1 (by decide) (C.t _ q1172) (fun _ h9 => h9) dX1_needed_3 (fun v_1 h => ?_)
  refine cw_callV (y := yX4_unsettled) (bytes := cX4_unsettled) (maxL := 1) (r := v_1) (f := fun a_4 => m_X4_unsettled a_4 σ) 1 (fun v => some (.int v)) [] C hw hR hI hl.1 h (by decide) rfl (fun aa vv ss ee => k_X4_unsettled l g A aa σ vv ss ee) (cwV 0 C.t (lw_V q1335 q1336 q1337 q150 q1338) rfl rfl rfl (by decide +kernel) ⟨Nat.le_trans (Nat.le_of_ble_eq_true rfl) hR.f, Nat.le_trans (Nat.le_of_ble_eq_true rfl) hR.lo⟩) rfl rfl (Nat.le_of_ble_eq_true rfl) dX1_needed_6 (fun v_2 σ_3 H locs h hI => ?_)
  refine lv_istore_n (i := 2) (lv' := [(2, .int v_2), (1, .int 0), (0, .ref o)]) C.x C.b dX1_needed_9 rfl hl (by decide) rfl (fun ls hl => ?_)
  refine lv_iconst (v := 0) C.x C.b dX1_needed_10 (by decide) ?_
  refine lv_istore_n (i := 3) (lv' := [(3, .int 0), (2, .int v_2), (1, .int 0), (0, .ref o)]) C.x C.b dX1_needed_11 rfl hl (by decide) rfl (fun ls hl => ?_)
  exact w_X1_needed_12 C hnm hw hR _ 0 v_2 0 _ _ _ _ h hI (lv_sub hl [3, 2, 1, 0] rfl)

theorem w_X1_idle_25 {z : Int32 × cS} {o : Nat} (C : CX p m meth c s args cX1_idle 5 (Option.some Jvm.ClassFile.FieldType.int) RX1) (hw : WKc g A s s.heap) (hR : RM g s R (259) (6471))  : ∀ (n : Nat) (x1 : Int32) (x2 : Int32) (x3 : Int32) (σ : cS) (H : Heap) (locs : List Loc) (ls : Array Slot), b_X1_idle_25 o n x1 x2 x3 σ = some z → CI g A s σ H locs → lv_has ls 5 [(0, .ref o), (1, .int x1), (2, .int x2), (3, .int x3)] → W p l e R s m args below meth c H locs (H.size - s.heap.size) (hsl H - hsl s.heap) (MQ below (CQ g A (some (.int z.1)) z.2) args s (g.2.2.1 3 - s.heap.size) (g.2.2.1 4 - hsl s.heap) A) (F0 m 25 ls []) := by
  intro n
  induction n with
  | zero =>
    intro x1 x2 x3 σ H locs ls h
    cases h
  | succ n ih =>
    intro x1 x2 x3 σ H locs ls h hI hl
    rw [b_X1_idle_25] at h
    refine lv_iload_n C.x C.b dX1_idle_25 rfl (lv_at hl 3 rfl) ?_
    refine lv_iload_n C.x C.b dX1_idle_26 rfl (lv_at hl 2 rfl) ?_
    refine lv_icmp_ge (tgt := 68) C.x C.b dX1_idle_27 (by decide) (fun c_1 => ?_) (fun c_1 => ?_)
    · have h := ip c_1 h
      refine lv_iload_n C.x C.b dX1_idle_68 rfl (lv_at hl 1 rfl) ?_
      exact cw_iret C hI h dX1_idle_69
    · have h := iN c_1 h
      refine r_aload_n (x := some o) C.x C.b dX1_idle_30 rfl (lv_at hl 0 rfl) ?_
      refine cw_gR (r := some o) 0 0 C hw hI h (by decide) rfl in_X1 (by decide) (C.t _ q1172) (fun _ h9 => h9) dX1_idle_31 (fun v_2 h => ?_)
      refine lv_iload_n C.x C.b dX1_idle_34 rfl (lv_at hl 3 rfl) ?_
      refine cw_callV (y := yX4_look) (bytes := cX4_look) (maxL := 2) (r := v_2) (f := fun a_5 => m_X4_look a_5 x3 σ) 1 (fun v => some (va_rf v)) [.int x3] C hw hR hI hl.1 h (by decide) rfl (fun aa vv ss ee => k_X4_look l g A aa x3 σ vv ss ee) (cwV 1 C.t (lw_V q1383 q1223 q1224 q150 q1225) rfl rfl rfl (by decide +kernel) ⟨Nat.le_trans (Nat.le_of_ble_eq_true rfl) hR.f, Nat.le_trans (Nat.le_of_ble_eq_true rfl) hR.lo⟩) rfl rfl (Nat.le_of_ble_eq_true rfl) dX1_idle_35 (fun v_3 σ_4 H locs h hI => ?_)
      refine cw_gI (r := v_3) 3 4 C hw hI h (by decide) rfl in_X11 (by decide) (C.t _ q1250) (fun _ h9 => h9) dX1_idle_38 (fun v_6 h => ?_)
      refine lv_istore (i := 4) (lv' := [(4, .int v_6), (0, .ref o), (1, .int x1), (2, .int x2), (3, .int x3)]) C.x C.b dX1_idle_41 hl (by decide) rfl (fun ls hl => ?_)
      refine lv_iload_n C.x C.b dX1_idle_43 rfl (lv_at hl 2 rfl) ?_
      refine lv_iload C.x C.b dX1_idle_44 (lv_at hl 0 rfl) ?_
      refine lv_iconst (v := -1) C.x C.b dX1_idle_46 (by decide) ?_
      refine lv_icmp_ne (tgt := 54) C.x C.b dX1_idle_47 (by decide) (fun c_7 => ?_) (fun c_7 => ?_)
      · have h := iN c_7 h
        refine lv_iconst (v := 1) C.x C.b dX1_idle_54 (by decide) ?_
        refine lv_iload C.x C.b dX1_idle_55 (lv_at hl 0 rfl) ?_
        refine lv_ishl C.x C.b dX1_idle_57 ?_
        refine lv_iconst (v := -1) C.x C.b dX1_idle_58 (by decide) ?_
        refine lv_ixor C.x C.b dX1_idle_59 ?_
        refine lv_iand C.x C.b dX1_idle_60 ?_
        refine tw_lt h (fun x1_8 h => ?_)
        refine lv_istore_n (i := 1) (lv' := [(1, .int x1_8), (4, .int v_6), (0, .ref o), (2, .int x2), (3, .int x3)]) C.x C.b dX1_idle_61 rfl hl (by decide) rfl (fun ls hl => ?_)
        obtain ⟨x3_9, e_, h⟩ := nm_s h
        refine lv_iinc (v := x3_9) (lv' := [(3, .int x3_9), (1, .int x1_8), (4, .int v_6), (0, .ref o), (2, .int x2)]) C.x C.b dX1_idle_62 hl (k := 4) rfl e_.symm (by decide) rfl (fun ls hl => ?_)
        refine lv_goto (tgt := 25) C.x C.b dX1_idle_65 (by decide) ?_
        exact ih x1_8 x2 x3_9 _ _ _ _ h hI (lv_sub hl [3, 1, 4, 0] rfl)
      · have h := ip c_7 h
        refine lv_iload_n C.x C.b dX1_idle_50 rfl (lv_at hl 2 rfl) ?_
        refine lv_goto (tgt := 60) C.x C.b dX1_idle_51 (by decide) ?_
        refine lv_iand C.x C.b dX1_idle_60 ?_
        refine tw_lt h (fun x1_10 h => ?_)
        refine lv_istore_n (i := 1) (lv' := [(1, .int x1_10), (4, .int v_6), (0, .ref o), (2, .int x2), (3, .int x3)]) C.x C.b dX1_idle_61 rfl hl (by decide) rfl (fun ls hl => ?_)
        obtain ⟨x3_11, e_, h⟩ := nm_s h
        refine lv_iinc (v := x3_11) (lv' := [(3, .int x3_11), (1, .int x1_10), (4, .int v_6), (0, .ref o), (2, .int x2)]) C.x C.b dX1_idle_62 hl (k := 4) rfl e_.symm (by decide) rfl (fun ls hl => ?_)
        refine lv_goto (tgt := 25) C.x C.b dX1_idle_65 (by decide) ?_
        exact ih x1_10 x2 x3_11 _ _ _ _ h hI (lv_sub hl [3, 1, 4, 0] rfl)

theorem k_X1_idle (l : Launch) (g : cG) (A : Nat → Prop) (o : Nat) (σ : cS) (v : Int32) (σ1 : cS) (h : m_X1_idle o σ = some (v, σ1)) : Met l yX1_idle (ws_ yX1_idle cX1_idle 5 (Option.some Jvm.ClassFile.FieldType.int)) ({ frames := 259, cells := σ.2 3 - σ.2 0, slots := σ.2 4 - σ.2 1, locals := 6471 }) (CPc g A [.ref o] σ) (CQ g A (some (.int v)) σ1) (σ.2 3 - σ.2 0) (σ.2 4 - σ.2 1) A := by
  refine Met.ofW (cc := cX1_idle) (maxL := 5) (ret := (Option.some Jvm.ClassFile.FieldType.int)) (by decide) rfl ?_
  intro p e s m args below meth c s₁ B hml hv
  obtain ⟨rfl, hw, hσ⟩ := hv
  have hts := atoms_spec (ws := (ws_ yX1_idle cX1_idle 5 (Option.some Jvm.ClassFile.FieldType.int))) B.pre
  have C : CX p m meth c s ([.ref o] : List Value).toArray cX1_idle 5 (Option.some Jvm.ClassFile.FieldType.int) RX1 := ⟨⟨B.exec, B.bytes, hml, findClass_of_methodNamed B.named, fun w h => hts w (List.mem_cons_of_mem _ h)⟩, B.returns, B.notSynchronized⟩
  have e3 : σ.2 3 - σ.2 0 = g.2.2.1 3 - s.heap.size := by rw [hσ.1, hσ.2.2.2.1 3 (by decide)]
  have e4 : σ.2 4 - σ.2 1 = g.2.2.1 4 - hsl s.heap := by rw [hσ.2.1, hσ.2.2.2.1 4 (by decide)]
  have hR : RM g s (headSpec (ws_ yX1_idle cX1_idle 5 (Option.some Jvm.ClassFile.FieldType.int)) ({ frames := 259, cells := σ.2 3 - σ.2 0, slots := σ.2 4 - σ.2 1, locals := 6471 })).room (259) (6471) := ⟨⟨Nat.le_refl _, Nat.le_refl _⟩, Nat.le_of_eq e3.symm, Nat.le_of_eq e4.symm⟩
  generalize (headSpec (ws_ yX1_idle cX1_idle 5 (Option.some Jvm.ClassFile.FieldType.int)) ({ frames := 259, cells := σ.2 3 - σ.2 0, slots := σ.2 4 - σ.2 1, locals := 6471 })).room = R at hR ⊢
  rw [e3, e4]
  have hI : CI g A s σ s.heap [] := ⟨hσ, va_S.rf, Nat.le_refl _⟩
  have hl := lv_entry ([.ref o]) (n := 5) (Nat.le_of_ble_eq_true rfl)
  rw [lg_entry_eq]
  generalize (lg_sl ([.ref o]) ++ List.replicate (5 - (lg_sl ([.ref o])).length) Slot.unset).toArray = ls at hl ⊢
  have hl : lv_has ls 5 [(0, .ref o)] := hl
  obtain ⟨z, hz⟩ : ∃ z, z = (v, σ1) := ⟨_, rfl⟩
  rw [← hz] at h
  rw [show v = z.1 by rw [hz], show σ1 = z.2 by rw [hz]]
  clear hz v σ1
  refine W.narrow ?_
  unfold m_X1_idle at h
  refine lv_iconst (v := 1) C.x C.b dX1_idle_0 (by decide) ?_
  refine r_aload_n (x := some o) C.x C.b dX1_idle_1 rfl (lv_at hl 0 rfl) ?_
  refine cw_gR (r := some o) 0 0 C hw hI h (by decide) rfl in_X1 (by decide) (C.t _ q1172) (fun _ h9 => h9) dX1_idle_2 (fun v_1 h => ?_)
  refine cw_gR (r := v_1) 1 4 C hw hI h (by decide) rfl in_X4 (by decide) (C.t _ q851) (fun _ h9 => h9) dX1_idle_5 (fun v_2 h => ?_)
  refine cw_callV (y := yJ18_size) (bytes := cJ18_size) (maxL := 1) (r := v_2) (f := fun a_5 => m_J18_size a_5 σ) 9 (fun v => some (.int v)) [] C hw hR hI hl.1 h (by decide) rfl (fun aa vv ss ee => k_J18_size l g A aa σ vv ss ee) (cwV 0 C.t (lw_V q1339 q947 q948 q152 q949) rfl rfl rfl (by decide +kernel) ⟨Nat.le_trans (Nat.le_of_ble_eq_true rfl) hR.f, Nat.le_trans (Nat.le_of_ble_eq_true rfl) hR.lo⟩) rfl rfl (Nat.le_of_ble_eq_true rfl) dX1_idle_8 (fun v_3 σ_4 H locs h hI => ?_)
  refine lv_ishl C.x C.b dX1_idle_11 ?_
  refine lv_iconst (v := 1) C.x C.b dX1_idle_12 (by decide) ?_
  refine lv_isub C.x C.b dX1_idle_13 ?_
  refine tw_lt h (fun x1_6 h => ?_)
  refine lv_istore_n (i := 1) (lv' := [(1, .int x1_6), (0, .ref o)]) C.x C.b dX1_idle_14 rfl hl (by decide) rfl (fun ls hl => ?_)
  refine r_aload_n (x := some o) C.x C.b dX1_idle_15 rfl (lv_at hl 1 rfl) ?_
  refine cw_gR (r := some o) 0 0 C hw hI h (by decide) rfl in_X1 (by decide) (C.t _ q1172) (fun _ h9 => h9) dX1_idle_16 (fun v_7 h => ?_)
  refine cw_callV (y := yX4_cases) (bytes := cX4_cases) (maxL := 3) (r := v_7) (f := fun a_10 => m_X4_cases a_10 σ_4) 1 (fun v => some (.int v)) [] C hw hR hI hl.1 h (by decide) rfl (fun aa vv ss ee => k_X4_cases l g A aa σ_4 vv ss ee) (cwV 0 C.t (lw_V q1382 q833 q834 q150 q835) rfl rfl rfl (by decide +kernel) ⟨Nat.le_trans (Nat.le_of_ble_eq_true rfl) hR.f, Nat.le_trans (Nat.le_of_ble_eq_true rfl) hR.lo⟩) rfl rfl (Nat.le_of_ble_eq_true rfl) dX1_idle_19 (fun v_8 σ_9 H locs h hI => ?_)
  refine lv_istore_n (i := 2) (lv' := [(2, .int v_8), (1, .int x1_6), (0, .ref o)]) C.x C.b dX1_idle_22 rfl hl (by decide) rfl (fun ls hl => ?_)
  refine lv_iconst (v := 0) C.x C.b dX1_idle_23 (by decide) ?_
  refine lv_istore_n (i := 3) (lv' := [(3, .int 0), (2, .int v_8), (1, .int x1_6), (0, .ref o)]) C.x C.b dX1_idle_24 rfl hl (by decide) rfl (fun ls hl => ?_)
  exact w_X1_idle_25 C hw hR _ x1_6 v_8 0 _ _ _ _ h hI (lv_sub hl [3, 2, 1, 0] rfl)

theorem w_X1_checkCase_15 {z : (cX (Int32)) × cS} {o : Nat} (C : CX p m meth c s args cX1_checkCase 2 (Option.none : Option Jvm.ClassFile.FieldType) RX1) (hx : ∀ x ∈ c.exceptionTable.toList, False) (hl0 : l.stackTraces = false) (hw : WKc g A s s.heap) (hR : RM g s R (8) (100))  : ∀ (σ : cS) (H : Heap) (locs : List Loc) (ls : Array Slot), b_X1_checkCase_15 o σ = some z → CI g A s σ H locs → lv_has ls 2 [(0, .ref o)] → W p l e R s m args below meth c H locs (H.size - s.heap.size) (hsl H - hsl s.heap) (UQ g A (fun _ => none) z args s (g.2.2.1 3 - s.heap.size) (g.2.2.1 4 - hsl s.heap) below) (F0 m 15 ls []) := by
  intro σ H locs ls h hI hl
  unfold b_X1_checkCase_15 at h
  exact cx_thr (names := ["java/lang/RuntimeException", "java/lang/Exception"]) 3 hl0 C hx hw hR hI hl.1 h (by decide) (by decide +kernel) (by decide +kernel) (C.t _ q1631) (C.t _ q165) (hat_3 C hw) (by decide +kernel) dX1_checkCase_15 dX1_checkCase_18 dX1_checkCase_19 dX1_checkCase_22 (Nat.le_of_ble_eq_true rfl) (Nat.lt_of_lt_of_le (Nat.lt_of_lt_of_le (Nat.lt_succ_self _) (Nat.le_of_ble_eq_true rfl)) hR.f) (Nat.le_trans (Nat.le_of_ble_eq_true rfl) hR.lo)

theorem k_X1_checkCase (l : Launch) (hl0 : l.stackTraces = false) (g : cG) (A : Nat → Prop) (o : Nat) (x1 : Int32) (σ : cS) (z : (cX (Int32)) × cS) (h : m_X1_checkCase o x1 σ = some z) : MetX l yX1_checkCase (ws_ yX1_checkCase cX1_checkCase 2 (Option.none : Option Jvm.ClassFile.FieldType)) ({ frames := 8, cells := σ.2 3 - σ.2 0, slots := σ.2 4 - σ.2 1, locals := 100 }) g A [.ref o, .int x1] σ (fun _ => none) z (σ.2 3 - σ.2 0) (σ.2 4 - σ.2 1) := by
  refine metx_of (cc := cX1_checkCase) (maxL := 2) (ret := (Option.none : Option Jvm.ClassFile.FieldType)) (by decide) rfl ?_
  intro p e s m args below meth c s₁ B hml hx hv
  obtain ⟨rfl, hw, hσ⟩ := hv
  have hts := atoms_spec (ws := (ws_ yX1_checkCase cX1_checkCase 2 (Option.none : Option Jvm.ClassFile.FieldType))) B.pre
  have C : CX p m meth c s ([.ref o, .int x1] : List Value).toArray cX1_checkCase 2 (Option.none : Option Jvm.ClassFile.FieldType) RX1 := ⟨⟨B.exec, B.bytes, hml, findClass_of_methodNamed B.named, fun w h => hts w (List.mem_cons_of_mem _ h)⟩, B.returns, B.notSynchronized⟩
  have e3 : σ.2 3 - σ.2 0 = g.2.2.1 3 - s.heap.size := by rw [hσ.1, hσ.2.2.2.1 3 (by decide)]
  have e4 : σ.2 4 - σ.2 1 = g.2.2.1 4 - hsl s.heap := by rw [hσ.2.1, hσ.2.2.2.1 4 (by decide)]
  have hR : RM g s (headSpec (ws_ yX1_checkCase cX1_checkCase 2 (Option.none : Option Jvm.ClassFile.FieldType)) ({ frames := 8, cells := σ.2 3 - σ.2 0, slots := σ.2 4 - σ.2 1, locals := 100 })).room (8) (100) := ⟨⟨Nat.le_refl _, Nat.le_refl _⟩, Nat.le_of_eq e3.symm, Nat.le_of_eq e4.symm⟩
  generalize (headSpec (ws_ yX1_checkCase cX1_checkCase 2 (Option.none : Option Jvm.ClassFile.FieldType)) ({ frames := 8, cells := σ.2 3 - σ.2 0, slots := σ.2 4 - σ.2 1, locals := 100 })).room = R at hR ⊢
  rw [e3, e4]
  have hI : CI g A s σ s.heap [] := ⟨hσ, va_S.rf, Nat.le_refl _⟩
  have hl := lv_entry ([.ref o, .int x1]) (n := 2) (Nat.le_of_ble_eq_true rfl)
  rw [lg_entry_eq]
  generalize (lg_sl ([.ref o, .int x1]) ++ List.replicate (2 - (lg_sl ([.ref o, .int x1])).length) Slot.unset).toArray = ls at hl ⊢
  have hl : lv_has ls 2 [(0, .ref o), (1, .int x1)] := hl
  refine W.narrow ?_
  unfold m_X1_checkCase at h
  refine lv_iload_n C.x C.b dX1_checkCase_0 rfl (lv_at hl 1 rfl) ?_
  refine lv_if_lt (tgt := 15) C.x C.b dX1_checkCase_1 (by decide) (fun c_1 => ?_) (fun c_1 => ?_)
  · have h := ip c_1 h
    exact w_X1_checkCase_15 C hx hl0 hw hR _ _ _ _ h hI (lv_sub hl [0] rfl)
  · have h := iN c_1 h
    refine lv_iload_n C.x C.b dX1_checkCase_4 rfl (lv_at hl 1 rfl) ?_
    refine r_aload_n (x := some o) C.x C.b dX1_checkCase_5 rfl (lv_at hl 0 rfl) ?_
    refine cw_gR (r := some o) 0 0 C hw hI h (by decide) rfl in_X1 (by decide) (C.t _ q1172) (fun _ h9 => h9) dX1_checkCase_6 (fun v_2 h => ?_)
    refine cw_callV (y := yX4_cases) (bytes := cX4_cases) (maxL := 3) (r := v_2) (f := fun a_5 => m_X4_cases a_5 σ) 1 (fun v => some (.int v)) [] C hw hR hI hl.1 h (by decide) rfl (fun aa vv ss ee => k_X4_cases l g A aa σ vv ss ee) (cwV 0 C.t (lw_V q1382 q833 q834 q150 q835) rfl rfl rfl (by decide +kernel) ⟨Nat.le_trans (Nat.le_of_ble_eq_true rfl) hR.f, Nat.le_trans (Nat.le_of_ble_eq_true rfl) hR.lo⟩) rfl rfl (Nat.le_of_ble_eq_true rfl) dX1_checkCase_9 (fun v_3 σ_4 H locs h hI => ?_)
    refine lv_icmp_lt (tgt := 23) C.x C.b dX1_checkCase_12 (by decide) (fun c_6 => ?_) (fun c_6 => ?_)
    · have h := ip c_6 h
      exact uq_l h (fun y h => cw_vret C hI h dX1_checkCase_23)
    · have h := iN c_6 h
      exact w_X1_checkCase_15 C hx hl0 hw hR _ _ _ _ h hI (lv_sub hl [0] rfl)

theorem w_X1_checkIndex_9 {z : (cX (Int32)) × cS} (C : CX p m meth c s args cX1_checkIndex 2 (Option.none : Option Jvm.ClassFile.FieldType) RX1) (hx : ∀ x ∈ c.exceptionTable.toList, False) (hl0 : l.stackTraces = false) (hw : WKc g A s s.heap) (hR : RM g s R (8) (100))  : ∀ (σ : cS) (H : Heap) (locs : List Loc) (ls : Array Slot), b_X1_checkIndex_9 σ = some z → CI g A s σ H locs → lv_has ls 2 [] → W p l e R s m args below meth c H locs (H.size - s.heap.size) (hsl H - hsl s.heap) (UQ g A (fun _ => none) z args s (g.2.2.1 3 - s.heap.size) (g.2.2.1 4 - hsl s.heap) below) (F0 m 9 ls []) := by
  intro σ H locs ls h hI hl
  unfold b_X1_checkIndex_9 at h
  exact cx_thr (names := ["java/lang/RuntimeException", "java/lang/Exception"]) 2 hl0 C hx hw hR hI hl.1 h (by decide) (by decide +kernel) (by decide +kernel) (C.t _ q1556) (C.t _ q160) (hat_2 C hw) (by decide +kernel) dX1_checkIndex_9 dX1_checkIndex_12 dX1_checkIndex_13 dX1_checkIndex_16 (Nat.le_of_ble_eq_true rfl) (Nat.lt_of_lt_of_le (Nat.lt_of_lt_of_le (Nat.lt_succ_self _) (Nat.le_of_ble_eq_true rfl)) hR.f) (Nat.le_trans (Nat.le_of_ble_eq_true rfl) hR.lo)

theorem k_X1_checkIndex (l : Launch) (hl0 : l.stackTraces = false) (g : cG) (A : Nat → Prop) (x0 : Int32) (x1 : Int32) (σ : cS) (z : (cX (Int32)) × cS) (h : m_X1_checkIndex x0 x1 σ = some z) : MetX l yX1_checkIndex (ws_ yX1_checkIndex cX1_checkIndex 2 (Option.none : Option Jvm.ClassFile.FieldType)) ({ frames := 8, cells := σ.2 3 - σ.2 0, slots := σ.2 4 - σ.2 1, locals := 100 }) g A [.int x0, .int x1] σ (fun _ => none) z (σ.2 3 - σ.2 0) (σ.2 4 - σ.2 1) := by
  refine metx_of (cc := cX1_checkIndex) (maxL := 2) (ret := (Option.none : Option Jvm.ClassFile.FieldType)) (by decide) rfl ?_
  intro p e s m args below meth c s₁ B hml hx hv
  obtain ⟨rfl, hw, hσ⟩ := hv
  have hts := atoms_spec (ws := (ws_ yX1_checkIndex cX1_checkIndex 2 (Option.none : Option Jvm.ClassFile.FieldType))) B.pre
  have C : CX p m meth c s ([.int x0, .int x1] : List Value).toArray cX1_checkIndex 2 (Option.none : Option Jvm.ClassFile.FieldType) RX1 := ⟨⟨B.exec, B.bytes, hml, findClass_of_methodNamed B.named, fun w h => hts w (List.mem_cons_of_mem _ h)⟩, B.returns, B.notSynchronized⟩
  have e3 : σ.2 3 - σ.2 0 = g.2.2.1 3 - s.heap.size := by rw [hσ.1, hσ.2.2.2.1 3 (by decide)]
  have e4 : σ.2 4 - σ.2 1 = g.2.2.1 4 - hsl s.heap := by rw [hσ.2.1, hσ.2.2.2.1 4 (by decide)]
  have hR : RM g s (headSpec (ws_ yX1_checkIndex cX1_checkIndex 2 (Option.none : Option Jvm.ClassFile.FieldType)) ({ frames := 8, cells := σ.2 3 - σ.2 0, slots := σ.2 4 - σ.2 1, locals := 100 })).room (8) (100) := ⟨⟨Nat.le_refl _, Nat.le_refl _⟩, Nat.le_of_eq e3.symm, Nat.le_of_eq e4.symm⟩
  generalize (headSpec (ws_ yX1_checkIndex cX1_checkIndex 2 (Option.none : Option Jvm.ClassFile.FieldType)) ({ frames := 8, cells := σ.2 3 - σ.2 0, slots := σ.2 4 - σ.2 1, locals := 100 })).room = R at hR ⊢
  rw [e3, e4]
  have hI : CI g A s σ s.heap [] := ⟨hσ, va_S.rf, Nat.le_refl _⟩
  have hl := lv_entry ([.int x0, .int x1]) (n := 2) (Nat.le_of_ble_eq_true rfl)
  rw [lg_entry_eq]
  generalize (lg_sl ([.int x0, .int x1]) ++ List.replicate (2 - (lg_sl ([.int x0, .int x1])).length) Slot.unset).toArray = ls at hl ⊢
  have hl : lv_has ls 2 [(0, .int x0), (1, .int x1)] := hl
  refine W.narrow ?_
  unfold m_X1_checkIndex at h
  refine lv_iload_n C.x C.b dX1_checkIndex_0 rfl (lv_at hl 0 rfl) ?_
  refine lv_if_lt (tgt := 9) C.x C.b dX1_checkIndex_1 (by decide) (fun c_1 => ?_) (fun c_1 => ?_)
  · have h := ip c_1 h
    exact w_X1_checkIndex_9 C hx hl0 hw hR _ _ _ _ h hI (lv_sub hl [] rfl)
  · have h := iN c_1 h
    refine lv_iload_n C.x C.b dX1_checkIndex_4 rfl (lv_at hl 0 rfl) ?_
    refine lv_iload_n C.x C.b dX1_checkIndex_5 rfl (lv_at hl 1 rfl) ?_
    refine lv_icmp_lt (tgt := 17) C.x C.b dX1_checkIndex_6 (by decide) (fun c_2 => ?_) (fun c_2 => ?_)
    · have h := ip c_2 h
      exact uq_l h (fun y h => cw_vret C hI h dX1_checkIndex_17)
    · have h := iN c_2 h
      exact w_X1_checkIndex_9 C hx hl0 hw hR _ _ _ _ h hI (lv_sub hl [] rfl)

end
