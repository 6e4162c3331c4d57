/-! THE CLASS' WALKS 2: printed by gencl.py -/
section
variable {p : Program} {l : Launch} {e : Env} {R : Room} {s : State} {m : MethodId} {args : Array Value} {below : List Frame} {meth : Method} {c : Code} {g : cG} {A : Nat → Prop}
set_option maxRecDepth 100000
theorem k_J18_grow (l : Launch) (g : cG) (A : Nat → Prop) (o : Nat) (σ : cS) (v : Option Nat) (σ1 : cS) (h : m_J18_grow o σ = some (v, σ1)) : Met l yJ18_grow (ws_ yJ18_grow cJ18_grow 1 (Option.some (Jvm.ClassFile.FieldType.array (Jvm.ClassFile.FieldType.object "java/lang/Object")))) ({ frames := 4, cells := σ.2 3 - σ.2 0, slots := σ.2 4 - σ.2 1, locals := 107 }) (CPc g A [.ref o] σ) (CQ g A (some (va_rf v)) σ1) (σ.2 3 - σ.2 0) (σ.2 4 - σ.2 1) A := by
  refine Met.ofW (cc := cJ18_grow) (maxL := 1) (ret := (Option.some (Jvm.ClassFile.FieldType.array (Jvm.ClassFile.FieldType.object "java/lang/Object")))) (by decide) rfl ?_
  intro p e s m args below meth c s₁ B hml hv
  obtain ⟨rfl, hw, hσ⟩ := hv
  have hts := atoms_spec (ws := (ws_ yJ18_grow cJ18_grow 1 (Option.some (Jvm.ClassFile.FieldType.array (Jvm.ClassFile.FieldType.object "java/lang/Object"))))) B.pre
  have C : CX p m meth c s ([.ref o] : List Value).toArray cJ18_grow 1 (Option.some (Jvm.ClassFile.FieldType.array (Jvm.ClassFile.FieldType.object "java/lang/Object"))) RJ18 := ⟨⟨B.exec, B.bytes, hml, findClass_of_methodNamed B.named, fun w h => hts w (List.mem_cons_of_mem _ h)⟩, B.returns, B.notSynchronized⟩
  have e3 : σ.2 3 - σ.2 0 = g.2.2.1 3 - s.heap.size := by rw [hσ.1, hσ.2.2.2.1 3 (by decide)]
  have e4 : σ.2 4 - σ.2 1 = g.2.2.1 4 - hsl s.heap := by rw [hσ.2.1, hσ.2.2.2.1 4 (by decide)]
  have hR : RM g s (headSpec (ws_ yJ18_grow cJ18_grow 1 (Option.some (Jvm.ClassFile.FieldType.array (Jvm.ClassFile.FieldType.object "java/lang/Object")))) ({ frames := 4, cells := σ.2 3 - σ.2 0, slots := σ.2 4 - σ.2 1, locals := 107 })).room (4) (107) := ⟨⟨Nat.le_refl _, Nat.le_refl _⟩, Nat.le_of_eq e3.symm, Nat.le_of_eq e4.symm⟩
  generalize (headSpec (ws_ yJ18_grow cJ18_grow 1 (Option.some (Jvm.ClassFile.FieldType.array (Jvm.ClassFile.FieldType.object "java/lang/Object")))) ({ frames := 4, cells := σ.2 3 - σ.2 0, slots := σ.2 4 - σ.2 1, locals := 107 })).room = R at hR ⊢
  rw [e3, e4]
  have hI : CI g A s σ s.heap [] := ⟨hσ, va_S.rf, Nat.le_refl _⟩
  have hl := lv_entry ([.ref o]) (n := 1) (Nat.le_of_ble_eq_true rfl)
  rw [lg_entry_eq]
  generalize (lg_sl ([.ref o]) ++ List.replicate (1 - (lg_sl ([.ref o])).length) Slot.unset).toArray = ls at hl ⊢
  have hl : lv_has ls 1 [(0, .ref o)] := hl
  obtain ⟨z, hz⟩ : ∃ z, z = (v, σ1) := ⟨_, rfl⟩
  rw [← hz] at h
  rw [show v = z.1 by rw [hz], show σ1 = z.2 by rw [hz]]
  clear hz v σ1
  refine W.narrow ?_
  unfold m_J18_grow at h
  refine r_aload_n (x := some o) C.x C.b dJ18_grow_0 rfl (lv_at hl 0 rfl) ?_
  refine r_aload_n (x := some o) C.x C.b dJ18_grow_1 rfl (lv_at hl 0 rfl) ?_
  refine cw_gI (r := some o) 9 2 C hw hI h (by decide) rfl in_J18 (by decide) (C.t _ q820) (fun _ h9 => h9) dJ18_grow_2 (fun v_1 h => ?_)
  refine lv_iconst (v := 1) C.x C.b dJ18_grow_5 (by decide) ?_
  refine lv_iadd C.x C.b dJ18_grow_6 ?_
  refine cw_callV (y := yJ18_grow_2) (bytes := cJ18_grow_2) (maxL := 4) (r := some o) (f := fun a_4 => m_J18_grow_2 a_4 (v_1 + 1) σ) 9 (fun v => some (va_rf v)) [.int (v_1 + 1)] C hw hR hI hl.1 h (by decide) rfl (fun aa vv ss ee => k_J18_grow_2 l g A aa (v_1 + 1) σ vv ss ee) (cwV 1 C.t (lw_V q1052 q1054 qs19 q152 q1055) rfl rfl rfl (by decide +kernel) ⟨Nat.le_trans (Nat.le_of_ble_eq_true rfl) hR.f, Nat.le_trans (Nat.le_of_ble_eq_true rfl) hR.lo⟩) rfl rfl (Nat.le_of_ble_eq_true rfl) dJ18_grow_7 (fun v_2 σ_3 H locs h hI => ?_)
  exact cw_aret (x := v_2) C (Or.inr ⟨_, rfl⟩) hI h dJ18_grow_10

theorem w_J18_add_2_11 {z : Int32 × cS} {o : Nat} (C : CX p m meth c s args cJ18_add_2 4 (Option.none : Option Jvm.ClassFile.FieldType) RJ18) (hw : WKc g A s s.heap) (hR : RM g s R (5) (127))  : ∀ (x1 : Option Nat) (x2 : Option Nat) (x3 : Int32) (σ : cS) (H : Heap) (locs : List Loc) (ls : Array Slot), b_J18_add_2_11 o x1 x2 x3 σ = some z → CI g A s σ H locs → lv_has ls 4 [(0, .ref o), (1, va_rf x1), (2, va_rf x2), (3, .int x3)] → W p l e R s m args below meth c H locs (H.size - s.heap.size) (hsl H - hsl s.heap) (MQ below (CQ g A (none) z.2) args s (g.2.2.1 3 - s.heap.size) (g.2.2.1 4 - hsl s.heap) A) (F0 m 11 ls []) := by
  intro x1 x2 x3 σ H locs ls h hI hl
  unfold b_J18_add_2_11 at h
  refine r_aload_n (x := x2) C.x C.b dJ18_add_2_11 rfl (lv_at hl 2 rfl) ?_
  refine lv_iload_n C.x C.b dJ18_add_2_12 rfl (lv_at hl 3 rfl) ?_
  refine r_aload_n (x := x1) C.x C.b dJ18_add_2_13 rfl (lv_at hl 1 rfl) ?_
  refine cw_rst (r := x2) (x := x1) C hw hI h dJ18_add_2_14 (fun σ_1 H locs h hI => ?_)
  refine r_aload_n (x := some o) C.x C.b dJ18_add_2_15 rfl (lv_at hl 0 rfl) ?_
  refine lv_iload_n C.x C.b dJ18_add_2_16 rfl (lv_at hl 3 rfl) ?_
  refine lv_iconst (v := 1) C.x C.b dJ18_add_2_17 (by decide) ?_
  refine lv_iadd C.x C.b dJ18_add_2_18 ?_
  refine cw_pO (r := some o) (v := (.int (x3 + 1))) (ty := .int) 9 2 C hw hI h (by decide) rfl in_J18 tyJ18 tyJ18_ok nmJ18 (by decide) (C.t _ q820) (fun _ h9 => h9) (Or.inl rfl) (by decide +kernel) rfl rfl dJ18_add_2_19 (fun σ_2 H locs h hI => ?_)
  exact cw_vret C hI h dJ18_add_2_22

theorem k_J18_add_2 (l : Launch) (g : cG) (A : Nat → Prop) (o : Nat) (x1 : Option Nat) (x2 : Option Nat) (x3 : Int32) (σ : cS) (v : Int32) (σ1 : cS) (h : m_J18_add_2 o x1 x2 x3 σ = some (v, σ1)) : Met l yJ18_add_2 (ws_ yJ18_add_2 cJ18_add_2 4 (Option.none : Option Jvm.ClassFile.FieldType)) ({ frames := 5, cells := σ.2 3 - σ.2 0, slots := σ.2 4 - σ.2 1, locals := 127 }) (CPc g A [.ref o, va_rf x1, va_rf x2, .int x3] σ) (CQ g A (none) σ1) (σ.2 3 - σ.2 0) (σ.2 4 - σ.2 1) A := by
  refine Met.ofW (cc := cJ18_add_2) (maxL := 4) (ret := (Option.none : Option Jvm.ClassFile.FieldType)) (by decide) rfl ?_
  intro p e s m args below meth c s₁ B hml hv
  obtain ⟨rfl, hw, hσ⟩ := hv
  have hts := atoms_spec (ws := (ws_ yJ18_add_2 cJ18_add_2 4 (Option.none : Option Jvm.ClassFile.FieldType))) B.pre
  have C : CX p m meth c s ([.ref o, va_rf x1, va_rf x2, .int x3] : List Value).toArray cJ18_add_2 4 (Option.none : Option Jvm.ClassFile.FieldType) RJ18 := ⟨⟨B.exec, B.bytes, hml, findClass_of_methodNamed B.named, fun w h => hts w (List.mem_cons_of_mem _ h)⟩, B.returns, B.notSynchronized⟩
  have e3 : σ.2 3 - σ.2 0 = g.2.2.1 3 - s.heap.size := by rw [hσ.1, hσ.2.2.2.1 3 (by decide)]
  have e4 : σ.2 4 - σ.2 1 = g.2.2.1 4 - hsl s.heap := by rw [hσ.2.1, hσ.2.2.2.1 4 (by decide)]
  have hR : RM g s (headSpec (ws_ yJ18_add_2 cJ18_add_2 4 (Option.none : Option Jvm.ClassFile.FieldType)) ({ frames := 5, cells := σ.2 3 - σ.2 0, slots := σ.2 4 - σ.2 1, locals := 127 })).room (5) (127) := ⟨⟨Nat.le_refl _, Nat.le_refl _⟩, Nat.le_of_eq e3.symm, Nat.le_of_eq e4.symm⟩
  generalize (headSpec (ws_ yJ18_add_2 cJ18_add_2 4 (Option.none : Option Jvm.ClassFile.FieldType)) ({ frames := 5, cells := σ.2 3 - σ.2 0, slots := σ.2 4 - σ.2 1, locals := 127 })).room = R at hR ⊢
  rw [e3, e4]
  have hI : CI g A s σ s.heap [] := ⟨hσ, va_S.rf, Nat.le_refl _⟩
  have hlen : (lg_sl ([.ref o, va_rf x1, va_rf x2, .int x3])).length ≤ 4 := by rcases x1 with _ | x1 <;> rcases x2 with _ | x2 <;> exact Nat.le_of_ble_eq_true rfl
  have hl := lv_entry ([.ref o, va_rf x1, va_rf x2, .int x3]) (n := 4) hlen
  rw [lg_entry_eq]
  generalize (lg_sl ([.ref o, va_rf x1, va_rf x2, .int x3]) ++ List.replicate (4 - (lg_sl ([.ref o, va_rf x1, va_rf x2, .int x3])).length) Slot.unset).toArray = ls at hl ⊢
  have hl : lv_has ls 4 [(0, .ref o), (1, va_rf x1), (2, va_rf x2), (3, .int x3)] := by clear hI hw h hσ e3 e4 hR C hts B; rcases x1 with _ | x1 <;> rcases x2 with _ | x2 <;> exact hl
  obtain ⟨z, hz⟩ : ∃ z, z = (v, σ1) := ⟨_, rfl⟩
  rw [← hz] at h
  rw [show σ1 = z.2 by rw [hz]]
  clear hz v σ1
  refine W.narrow ?_
  unfold m_J18_add_2 at h
  refine lv_iload_n C.x C.b dJ18_add_2_0 rfl (lv_at hl 3 rfl) ?_
  refine r_aload_n (x := x2) C.x C.b dJ18_add_2_1 rfl (lv_at hl 2 rfl) ?_
  refine cw_aL (r := x2) C hw hI h dJ18_add_2_2 (fun v_1 h => ?_)
  refine lv_icmp_ne (tgt := 11) C.x C.b dJ18_add_2_3 (by decide) (fun c_2 => ?_) (fun c_2 => ?_)
  · have h := iN c_2 h
    exact w_J18_add_2_11 C hw hR x1 x2 x3 _ _ _ _ h hI (lv_sub hl [0, 1, 2, 3] rfl)
  · have h := ip c_2 h
    refine r_aload_n (x := some o) C.x C.b dJ18_add_2_6 rfl (lv_at hl 0 rfl) ?_
    refine cw_callV (y := yJ18_grow) (bytes := cJ18_grow) (maxL := 1) (r := some o) (f := fun a_5 => m_J18_grow a_5 σ) 9 (fun v => some (va_rf v)) [] C hw hR hI hl.1 h (by decide) rfl (fun aa vv ss ee => k_J18_grow l g A aa σ vv ss ee) (cwV 0 C.t (lw_V q1048 q1050 qs18 q152 q1051) rfl rfl rfl (by decide +kernel) ⟨Nat.le_trans (Nat.le_of_ble_eq_true rfl) hR.f, Nat.le_trans (Nat.le_of_ble_eq_true rfl) hR.lo⟩) rfl rfl (Nat.le_of_ble_eq_true rfl) dJ18_add_2_7 (fun v_3 σ_4 H locs h hI => ?_)
    refine r_astore_n (i := 2) (x := v_3) (lv' := [(2, va_rf v_3), (0, .ref o), (1, va_rf x1), (3, .int x3)]) C.x C.b dJ18_add_2_10 rfl hl (by decide) (by first | (simp [List.filter, cat_rf, cat_i, cat_a, cat_n, cat_l, cat_f, cat_d]; done) | (simp [List.filter, cat_rf, cat_i, cat_a, cat_n, cat_l, cat_f, cat_d]; rfl)) (fun ls hl => ?_)
    exact w_J18_add_2_11 C hw hR x1 v_3 x3 _ _ _ _ h hI (lv_sub hl [1, 2, 0, 3] rfl)

theorem k_J18_add (l : Launch) (g : cG) (A : Nat → Prop) (o : Nat) (x1 : Option Nat) (σ : cS) (v : Int32) (σ1 : cS) (h : m_J18_add o x1 σ = some (v, σ1)) : Met l yJ18_add (ws_ yJ18_add cJ18_add 2 (Option.some Jvm.ClassFile.FieldType.boolean)) ({ frames := 6, cells := σ.2 3 - σ.2 0, slots := σ.2 4 - σ.2 1, locals := 150 }) (CPc g A [.ref o, va_rf x1] σ) (CQ g A (some (.int v)) σ1) (σ.2 3 - σ.2 0) (σ.2 4 - σ.2 1) A := by
  refine Met.ofW (cc := cJ18_add) (maxL := 2) (ret := (Option.some Jvm.ClassFile.FieldType.boolean)) (by decide) rfl ?_
  intro p e s m args below meth c s₁ B hml hv
  obtain ⟨rfl, hw, hσ⟩ := hv
  have hts := atoms_spec (ws := (ws_ yJ18_add cJ18_add 2 (Option.some Jvm.ClassFile.FieldType.boolean))) B.pre
  have C : CX p m meth c s ([.ref o, va_rf x1] : List Value).toArray cJ18_add 2 (Option.some Jvm.ClassFile.FieldType.boolean) RJ18 := ⟨⟨B.exec, B.bytes, hml, findClass_of_methodNamed B.named, fun w h => hts w (List.mem_cons_of_mem _ h)⟩, B.returns, B.notSynchronized⟩
  have e3 : σ.2 3 - σ.2 0 = g.2.2.1 3 - s.heap.size := by rw [hσ.1, hσ.2.2.2.1 3 (by decide)]
  have e4 : σ.2 4 - σ.2 1 = g.2.2.1 4 - hsl s.heap := by rw [hσ.2.1, hσ.2.2.2.1 4 (by decide)]
  have hR : RM g s (headSpec (ws_ yJ18_add cJ18_add 2 (Option.some Jvm.ClassFile.FieldType.boolean)) ({ frames := 6, cells := σ.2 3 - σ.2 0, slots := σ.2 4 - σ.2 1, locals := 150 })).room (6) (150) := ⟨⟨Nat.le_refl _, Nat.le_refl _⟩, Nat.le_of_eq e3.symm, Nat.le_of_eq e4.symm⟩
  generalize (headSpec (ws_ yJ18_add cJ18_add 2 (Option.some Jvm.ClassFile.FieldType.boolean)) ({ frames := 6, cells := σ.2 3 - σ.2 0, slots := σ.2 4 - σ.2 1, locals := 150 })).room = R at hR ⊢
  rw [e3, e4]
  have hI : CI g A s σ s.heap [] := ⟨hσ, va_S.rf, Nat.le_refl _⟩
  have hlen : (lg_sl ([.ref o, va_rf x1])).length ≤ 2 := by rcases x1 with _ | x1 <;> exact Nat.le_of_ble_eq_true rfl
  have hl := lv_entry ([.ref o, va_rf x1]) (n := 2) hlen
  rw [lg_entry_eq]
  generalize (lg_sl ([.ref o, va_rf x1]) ++ List.replicate (2 - (lg_sl ([.ref o, va_rf x1])).length) Slot.unset).toArray = ls at hl ⊢
  have hl : lv_has ls 2 [(0, .ref o), (1, va_rf x1)] := by clear hI hw h hσ e3 e4 hR C hts B; rcases x1 with _ | x1 <;> exact hl
  obtain ⟨z, hz⟩ : ∃ z, z = (v, σ1) := ⟨_, rfl⟩
  rw [← hz] at h
  rw [show v = z.1 by rw [hz], show σ1 = z.2 by rw [hz]]
  clear hz v σ1
  refine W.narrow ?_
  unfold m_J18_add at h
  refine r_aload_n (x := some o) C.x C.b dJ18_add_0 rfl (lv_at hl 0 rfl) ?_
  refine lv_dup C.x C.b dJ18_add_1 rfl ?_
  refine cw_gI (r := some o) 9 0 C hw hI h (by decide) rfl in_J18 (by decide) (C.t _ q822) (fun x9 h9 => u_same (C.t _ q823) x9 h9) dJ18_add_2 (fun v_1 h => ?_)
  refine lv_iconst (v := 1) C.x C.b dJ18_add_5 (by decide) ?_
  refine lv_iadd C.x C.b dJ18_add_6 ?_
  refine cw_pO (r := some o) (v := (.int (v_1 + 1))) (ty := .int) 9 0 C hw hI h (by decide) rfl in_J18 tyJ18 tyJ18_ok nmJ18 (by decide) (C.t _ q822) (fun x9 h9 => u_same (C.t _ q823) x9 h9) (Or.inl rfl) (by decide +kernel) rfl rfl dJ18_add_7 (fun σ_2 H locs h hI => ?_)
  refine r_aload_n (x := some o) C.x C.b dJ18_add_10 rfl (lv_at hl 0 rfl) ?_
  refine r_aload_n (x := x1) C.x C.b dJ18_add_11 rfl (lv_at hl 1 rfl) ?_
  refine r_aload_n (x := some o) C.x C.b dJ18_add_12 rfl (lv_at hl 0 rfl) ?_
  refine cw_gR (r := some o) 9 1 C hw hI h (by decide) rfl in_J18 (by decide) (C.t _ q819) (fun _ h9 => h9) dJ18_add_13 (fun v_3 h => ?_)
  refine r_aload_n (x := some o) C.x C.b dJ18_add_16 rfl (lv_at hl 0 rfl) ?_
  refine cw_gI (r := some o) 9 2 C hw hI h (by decide) rfl in_J18 (by decide) (C.t _ q820) (fun _ h9 => h9) dJ18_add_17 (fun v_4 h => ?_)
  refine cw_callV (y := yJ18_add_2) (bytes := cJ18_add_2) (maxL := 4) (r := some o) (f := fun a_6 => m_J18_add_2 a_6 x1 v_3 v_4 σ_2) 9 (fun _ => none) [va_rf x1, va_rf v_3, .int v_4] C hw hR hI hl.1 h (by decide) rfl (fun aa vv ss ee => k_J18_add_2 l g A aa x1 v_3 v_4 σ_2 vv ss ee) (cwV 3 C.t (lw_V q1044 q1046 qs17 q152 q1047) rfl rfl rfl (by decide +kernel) ⟨Nat.le_trans (Nat.le_of_ble_eq_true rfl) hR.f, Nat.le_trans (Nat.le_of_ble_eq_true rfl) hR.lo⟩) rfl rfl (Nat.le_of_ble_eq_true rfl) dJ18_add_20 (fun _ σ_5 H locs h hI => ?_)
  refine lv_iconst (v := 1) C.x C.b dJ18_add_23 (by decide) ?_
  exact cw_zret C hI h dJ18_add_24

theorem k_J18_elementData (l : Launch) (g : cG) (A : Nat → Prop) (o : Nat) (x1 : Int32) (σ : cS) (v : Option Nat) (σ1 : cS) (h : m_J18_elementData o x1 σ = some (v, σ1)) : Met l yJ18_elementData (ws_ yJ18_elementData cJ18_elementData 2 (Option.some (Jvm.ClassFile.FieldType.object "java/lang/Object"))) ({ frames := 1, cells := σ.2 3 - σ.2 0, slots := σ.2 4 - σ.2 1, locals := 40 }) (CPc g A [.ref o, .int x1] σ) (CQ g A (some (va_rf v)) σ1) (σ.2 3 - σ.2 0) (σ.2 4 - σ.2 1) A := by
  refine Met.ofW (cc := cJ18_elementData) (maxL := 2) (ret := (Option.some (Jvm.ClassFile.FieldType.object "java/lang/Object"))) (by decide) rfl ?_
  intro p e s m args below meth c s₁ B hml hv
  obtain ⟨rfl, hw, hσ⟩ := hv
  have hts := atoms_spec (ws := (ws_ yJ18_elementData cJ18_elementData 2 (Option.some (Jvm.ClassFile.FieldType.object "java/lang/Object")))) B.pre
  have C : CX p m meth c s ([.ref o, .int x1] : List Value).toArray cJ18_elementData 2 (Option.some (Jvm.ClassFile.FieldType.object "java/lang/Object")) RJ18 := ⟨⟨B.exec, B.bytes, hml, findClass_of_methodNamed B.named, fun w h => hts w (List.mem_cons_of_mem _ h)⟩, B.returns, B.notSynchronized⟩
  have e3 : σ.2 3 - σ.2 0 = g.2.2.1 3 - s.heap.size := by rw [hσ.1, hσ.2.2.2.1 3 (by decide)]
  have e4 : σ.2 4 - σ.2 1 = g.2.2.1 4 - hsl s.heap := by rw [hσ.2.1, hσ.2.2.2.1 4 (by decide)]
  have hR : RM g s (headSpec (ws_ yJ18_elementData cJ18_elementData 2 (Option.some (Jvm.ClassFile.FieldType.object "java/lang/Object"))) ({ frames := 1, cells := σ.2 3 - σ.2 0, slots := σ.2 4 - σ.2 1, locals := 40 })).room (1) (40) := ⟨⟨Nat.le_refl _, Nat.le_refl _⟩, Nat.le_of_eq e3.symm, Nat.le_of_eq e4.symm⟩
  generalize (headSpec (ws_ yJ18_elementData cJ18_elementData 2 (Option.some (Jvm.ClassFile.FieldType.object "java/lang/Object"))) ({ frames := 1, cells := σ.2 3 - σ.2 0, slots := σ.2 4 - σ.2 1, locals := 40 })).room = R at hR ⊢
  rw [e3, e4]
  have hI : CI g A s σ s.heap [] := ⟨hσ, va_S.rf, Nat.le_refl _⟩
  have hl := lv_entry ([.ref o, .int x1]) (n := 2) (Nat.le_of_ble_eq_true rfl)
  rw [lg_entry_eq]
  generalize (lg_sl ([.ref o, .int x1]) ++ List.replicate (2 - (lg_sl ([.ref o, .int x1])).length) Slot.unset).toArray = ls at hl ⊢
  have hl : lv_has ls 2 [(0, .ref o), (1, .int x1)] := hl
  obtain ⟨z, hz⟩ : ∃ z, z = (v, σ1) := ⟨_, rfl⟩
  rw [← hz] at h
  rw [show v = z.1 by rw [hz], show σ1 = z.2 by rw [hz]]
  clear hz v σ1
  refine W.narrow ?_
  unfold m_J18_elementData at h
  refine r_aload_n (x := some o) C.x C.b dJ18_elementData_0 rfl (lv_at hl 0 rfl) ?_
  refine cw_gR (r := some o) 9 1 C hw hI h (by decide) rfl in_J18 (by decide) (C.t _ q819) (fun _ h9 => h9) dJ18_elementData_1 (fun v_1 h => ?_)
  refine lv_iload_n C.x C.b dJ18_elementData_4 rfl (lv_at hl 1 rfl) ?_
  refine cw_rld (r := v_1) C hw hI h dJ18_elementData_5 (fun v_2 h => ?_)
  exact cw_aret (x := v_2) C (Or.inl ⟨_, rfl⟩) hI h dJ18_elementData_6

theorem k_J18_get (l : Launch) (g : cG) (A : Nat → Prop) (o : Nat) (x1 : Int32) (σ : cS) (v : Option Nat) (σ1 : cS) (h : m_J18_get o x1 σ = some (v, σ1)) : Met l yJ18_get (ws_ yJ18_get cJ18_get 2 (Option.some (Jvm.ClassFile.FieldType.object "java/lang/Object"))) ({ frames := 3, cells := σ.2 3 - σ.2 0, slots := σ.2 4 - σ.2 1, locals := 83 }) (CPc g A [.ref o, .int x1] σ) (CQ g A (some (va_rf v)) σ1) (σ.2 3 - σ.2 0) (σ.2 4 - σ.2 1) A := by
  refine Met.ofW (cc := cJ18_get) (maxL := 2) (ret := (Option.some (Jvm.ClassFile.FieldType.object "java/lang/Object"))) (by decide) rfl ?_
  intro p e s m args below meth c s₁ B hml hv
  obtain ⟨rfl, hw, hσ⟩ := hv
  have hts := atoms_spec (ws := (ws_ yJ18_get cJ18_get 2 (Option.some (Jvm.ClassFile.FieldType.object "java/lang/Object")))) B.pre
  have C : CX p m meth c s ([.ref o, .int x1] : List Value).toArray cJ18_get 2 (Option.some (Jvm.ClassFile.FieldType.object "java/lang/Object")) RJ18 := ⟨⟨B.exec, B.bytes, hml, findClass_of_methodNamed B.named, fun w h => hts w (List.mem_cons_of_mem _ h)⟩, B.returns, B.notSynchronized⟩
  have e3 : σ.2 3 - σ.2 0 = g.2.2.1 3 - s.heap.size := by rw [hσ.1, hσ.2.2.2.1 3 (by decide)]
  have e4 : σ.2 4 - σ.2 1 = g.2.2.1 4 - hsl s.heap := by rw [hσ.2.1, hσ.2.2.2.1 4 (by decide)]
  have hR : RM g s (headSpec (ws_ yJ18_get cJ18_get 2 (Option.some (Jvm.ClassFile.FieldType.object "java/lang/Object"))) ({ frames := 3, cells := σ.2 3 - σ.2 0, slots := σ.2 4 - σ.2 1, locals := 83 })).room (3) (83) := ⟨⟨Nat.le_refl _, Nat.le_refl _⟩, Nat.le_of_eq e3.symm, Nat.le_of_eq e4.symm⟩
  generalize (headSpec (ws_ yJ18_get cJ18_get 2 (Option.some (Jvm.ClassFile.FieldType.object "java/lang/Object"))) ({ frames := 3, cells := σ.2 3 - σ.2 0, slots := σ.2 4 - σ.2 1, locals := 83 })).room = R at hR ⊢
  rw [e3, e4]
  have hI : CI g A s σ s.heap [] := ⟨hσ, va_S.rf, Nat.le_refl _⟩
  have hl := lv_entry ([.ref o, .int x1]) (n := 2) (Nat.le_of_ble_eq_true rfl)
  rw [lg_entry_eq]
  generalize (lg_sl ([.ref o, .int x1]) ++ List.replicate (2 - (lg_sl ([.ref o, .int x1])).length) Slot.unset).toArray = ls at hl ⊢
  have hl : lv_has ls 2 [(0, .ref o), (1, .int x1)] := hl
  obtain ⟨z, hz⟩ : ∃ z, z = (v, σ1) := ⟨_, rfl⟩
  rw [← hz] at h
  rw [show v = z.1 by rw [hz], show σ1 = z.2 by rw [hz]]
  clear hz v σ1
  refine W.narrow ?_
  unfold m_J18_get at h
  refine lv_iload_n C.x C.b dJ18_get_0 rfl (lv_at hl 1 rfl) ?_
  refine r_aload_n (x := some o) C.x C.b dJ18_get_1 rfl (lv_at hl 0 rfl) ?_
  refine cw_gI (r := some o) 9 2 C hw hI h (by decide) rfl in_J18 (by decide) (C.t _ q820) (fun _ h9 => h9) dJ18_get_2 (fun v_1 h => ?_)
  refine cw_callS (y := yJ23_checkIndex) (bytes := cJ23_checkIndex) (maxL := 2) (fun v => some (.int v)) [.int x1, .int v_1] C hw hR hI hl.1 h (fun vv ss ee => k_J23_checkIndex l g A x1 v_1 σ vv ss ee) (va_cwS 2 C.t (lw_S q1267 q1268 q164 q1269) rfl rfl rfl (by decide +kernel) ⟨Nat.le_trans (Nat.le_of_ble_eq_true rfl) hR.f, Nat.le_trans (Nat.le_of_ble_eq_true rfl) hR.lo⟩) rfl rfl (Nat.le_of_ble_eq_true rfl) dJ18_get_5 (fun v_2 σ_3 H locs h hI => ?_)
  refine lv_pop C.x C.b dJ18_get_8 rfl ?_
  refine r_aload_n (x := some o) C.x C.b dJ18_get_9 rfl (lv_at hl 0 rfl) ?_
  refine lv_iload_n C.x C.b dJ18_get_10 rfl (lv_at hl 1 rfl) ?_
  refine cw_callV (y := yJ18_elementData) (bytes := cJ18_elementData) (maxL := 2) (r := some o) (f := fun a_6 => m_J18_elementData a_6 x1 σ_3) 9 (fun v => some (va_rf v)) [.int x1] C hw hR hI hl.1 h (by decide) rfl (fun aa vv ss ee => k_J18_elementData l g A aa x1 σ_3 vv ss ee) (cwV 1 C.t (lw_V q1271 q1272 q1273 q152 q1274) rfl rfl rfl (by decide +kernel) ⟨Nat.le_trans (Nat.le_of_ble_eq_true rfl) hR.f, Nat.le_trans (Nat.le_of_ble_eq_true rfl) hR.lo⟩) rfl rfl (Nat.le_of_ble_eq_true rfl) dJ18_get_11 (fun v_4 σ_5 H locs h hI => ?_)
  exact cw_aret (x := v_4) C (Or.inl ⟨_, rfl⟩) hI h dJ18_get_14

theorem w_J18_fastRemove_34 {z : Int32 × cS} {o : Nat} (C : CX p m meth c s args cJ18_fastRemove 4 (Option.none : Option Jvm.ClassFile.FieldType) RJ18) (hw : WKc g A s s.heap) (hR : RM g s R (1) (40))  : ∀ (x1 : Option Nat) (x3 : Int32) (σ : cS) (H : Heap) (locs : List Loc) (ls : Array Slot), b_J18_fastRemove_34 o x1 x3 σ = some z → CI g A s σ H locs → lv_has ls 4 [(0, .ref o), (1, va_rf x1), (3, .int x3)] → W p l e R s m args below meth c H locs (H.size - s.heap.size) (hsl H - hsl s.heap) (MQ below (CQ g A (none) z.2) args s (g.2.2.1 3 - s.heap.size) (g.2.2.1 4 - hsl s.heap) A) (F0 m 34 ls []) := by
  intro x1 x3 σ H locs ls h hI hl
  unfold b_J18_fastRemove_34 at h
  refine r_aload_n (x := x1) C.x C.b dJ18_fastRemove_34 rfl (lv_at hl 1 rfl) ?_
  refine r_aload_n (x := some o) C.x C.b dJ18_fastRemove_35 rfl (lv_at hl 0 rfl) ?_
  refine lv_iload_n C.x C.b dJ18_fastRemove_36 rfl (lv_at hl 2 rfl) ?_
  refine lv_dup_x1 C.x C.b dJ18_fastRemove_37 rfl rfl ?_
  refine cw_pO (r := some o) (v := (.int x3)) (ty := .int) 9 2 C hw hI h (by decide) rfl in_J18 tyJ18 tyJ18_ok nmJ18 (by decide) (C.t _ q820) (fun _ h9 => h9) (Or.inl rfl) (by decide +kernel) rfl rfl dJ18_fastRemove_38 (fun σ_1 H locs h hI => ?_)
  refine lv_null C.x C.b dJ18_fastRemove_41 ?_
  refine cw_rst (r := x1) (x := none) C hw hI h dJ18_fastRemove_42 (fun σ_2 H locs h hI => ?_)
  exact cw_vret C hI h dJ18_fastRemove_43

theorem k_J18_fastRemove (l : Launch) (g : cG) (A : Nat → Prop) (o : Nat) (x1 : Option Nat) (x2 : Int32) (σ : cS) (v : Int32) (σ1 : cS) (h : m_J18_fastRemove o x1 x2 σ = some (v, σ1)) : Met l yJ18_fastRemove (ws_ yJ18_fastRemove cJ18_fastRemove 4 (Option.none : Option Jvm.ClassFile.FieldType)) ({ frames := 1, cells := σ.2 3 - σ.2 0, slots := σ.2 4 - σ.2 1, locals := 40 }) (CPc g A [.ref o, va_rf x1, .int x2] σ) (CQ g A (none) σ1) (σ.2 3 - σ.2 0) (σ.2 4 - σ.2 1) A := by
  refine Met.ofW (cc := cJ18_fastRemove) (maxL := 4) (ret := (Option.none : Option Jvm.ClassFile.FieldType)) (by decide) rfl ?_
  intro p e s m args below meth c s₁ B hml hv
  obtain ⟨rfl, hw, hσ⟩ := hv
  have hts := atoms_spec (ws := (ws_ yJ18_fastRemove cJ18_fastRemove 4 (Option.none : Option Jvm.ClassFile.FieldType))) B.pre
  have C : CX p m meth c s ([.ref o, va_rf x1, .int x2] : List Value).toArray cJ18_fastRemove 4 (Option.none : Option Jvm.ClassFile.FieldType) RJ18 := ⟨⟨B.exec, B.bytes, hml, findClass_of_methodNamed B.named, fun w h => hts w (List.mem_cons_of_mem _ h)⟩, B.returns, B.notSynchronized⟩
  have e3 : σ.2 3 - σ.2 0 = g.2.2.1 3 - s.heap.size := by rw [hσ.1, hσ.2.2.2.1 3 (by decide)]
  have e4 : σ.2 4 - σ.2 1 = g.2.2.1 4 - hsl s.heap := by rw [hσ.2.1, hσ.2.2.2.1 4 (by decide)]
  have hR : RM g s (headSpec (ws_ yJ18_fastRemove cJ18_fastRemove 4 (Option.none : Option Jvm.ClassFile.FieldType)) ({ frames := 1, cells := σ.2 3 - σ.2 0, slots := σ.2 4 - σ.2 1, locals := 40 })).room (1) (40) := ⟨⟨Nat.le_refl _, Nat.le_refl _⟩, Nat.le_of_eq e3.symm, Nat.le_of_eq e4.symm⟩
  generalize (headSpec (ws_ yJ18_fastRemove cJ18_fastRemove 4 (Option.none : Option Jvm.ClassFile.FieldType)) ({ frames := 1, cells := σ.2 3 - σ.2 0, slots := σ.2 4 - σ.2 1, locals := 40 })).room = R at hR ⊢
  rw [e3, e4]
  have hI : CI g A s σ s.heap [] := ⟨hσ, va_S.rf, Nat.le_refl _⟩
  have hlen : (lg_sl ([.ref o, va_rf x1, .int x2])).length ≤ 4 := by rcases x1 with _ | x1 <;> exact Nat.le_of_ble_eq_true rfl
  have hl := lv_entry ([.ref o, va_rf x1, .int x2]) (n := 4) hlen
  rw [lg_entry_eq]
  generalize (lg_sl ([.ref o, va_rf x1, .int x2]) ++ List.replicate (4 - (lg_sl ([.ref o, va_rf x1, .int x2])).length) Slot.unset).toArray = ls at hl ⊢
  have hl : lv_has ls 4 [(0, .ref o), (1, va_rf x1), (2, .int x2)] := by clear hI hw h hσ e3 e4 hR C hts B; rcases x1 with _ | x1 <;> exact hl
  obtain ⟨z, hz⟩ : ∃ z, z = (v, σ1) := ⟨_, rfl⟩
  rw [← hz] at h
  rw [show σ1 = z.2 by rw [hz]]
  clear hz v σ1
  refine W.narrow ?_
  unfold m_J18_fastRemove at h
  refine r_aload_n (x := some o) C.x C.b dJ18_fastRemove_0 rfl (lv_at hl 0 rfl) ?_
  refine lv_dup C.x C.b dJ18_fastRemove_1 rfl ?_
  refine cw_gI (r := some o) 9 0 C hw hI h (by decide) rfl in_J18 (by decide) (C.t _ q822) (fun x9 h9 => u_same (C.t _ q823) x9 h9) dJ18_fastRemove_2 (fun v_1 h => ?_)
  refine lv_iconst (v := 1) C.x C.b dJ18_fastRemove_5 (by decide) ?_
  refine lv_iadd C.x C.b dJ18_fastRemove_6 ?_
  refine cw_pO (r := some o) (v := (.int (v_1 + 1))) (ty := .int) 9 0 C hw hI h (by decide) rfl in_J18 tyJ18 tyJ18_ok nmJ18 (by decide) (C.t _ q822) (fun x9 h9 => u_same (C.t _ q823) x9 h9) (Or.inl rfl) (by decide +kernel) rfl rfl dJ18_fastRemove_7 (fun σ_2 H locs h hI => ?_)
  refine r_aload_n (x := some o) C.x C.b dJ18_fastRemove_10 rfl (lv_at hl 0 rfl) ?_
  refine cw_gI (r := some o) 9 2 C hw hI h (by decide) rfl in_J18 (by decide) (C.t _ q820) (fun _ h9 => h9) dJ18_fastRemove_11 (fun v_3 h => ?_)
  refine lv_iconst (v := 1) C.x C.b dJ18_fastRemove_14 (by decide) ?_
  refine lv_isub C.x C.b dJ18_fastRemove_15 ?_
  refine tw_lt h (fun u_4 h => ?_)
  refine lv_dup C.x C.b dJ18_fastRemove_16 rfl ?_
  refine lv_istore_n (i := 3) (lv' := [(3, .int u_4), (0, .ref o), (1, va_rf x1), (2, .int x2)]) C.x C.b dJ18_fastRemove_17 rfl hl (by decide) (by first | (simp [List.filter, cat_rf, cat_i, cat_a, cat_n, cat_l, cat_f, cat_d]; done) | (simp [List.filter, cat_rf, cat_i, cat_a, cat_n, cat_l, cat_f, cat_d]; rfl)) (fun ls hl => ?_)
  refine lv_iload_n C.x C.b dJ18_fastRemove_18 rfl (lv_at hl 3 rfl) ?_
  refine lv_icmp_le (tgt := 34) C.x C.b dJ18_fastRemove_19 (by decide) (fun c_5 => ?_) (fun c_5 => ?_)
  · have h := ip c_5 h
    exact w_J18_fastRemove_34 C hw hR x1 u_4 _ _ _ _ h hI (lv_sub hl [1, 2, 0] rfl)
  · have h := iN c_5 h
    refine r_aload_n (x := x1) C.x C.b dJ18_fastRemove_22 rfl (lv_at hl 2 rfl) ?_
    refine lv_iload_n C.x C.b dJ18_fastRemove_23 rfl (lv_at hl 3 rfl) ?_
    refine lv_iconst (v := 1) C.x C.b dJ18_fastRemove_24 (by decide) ?_
    refine lv_iadd C.x C.b dJ18_fastRemove_25 ?_
    refine r_aload_n (x := x1) C.x C.b dJ18_fastRemove_26 rfl (lv_at hl 2 rfl) ?_
    refine lv_iload_n C.x C.b dJ18_fastRemove_27 rfl (lv_at hl 3 rfl) ?_
    refine lv_iload_n C.x C.b dJ18_fastRemove_28 rfl (lv_at hl 0 rfl) ?_
    refine lv_iload_n C.x C.b dJ18_fastRemove_29 rfl (lv_at hl 3 rfl) ?_
    refine lv_isub C.x C.b dJ18_fastRemove_30 ?_
    refine cw_cpR (src := x1) (dst := x1) C hw hR hI hl.1 h q1354 (by decide) (by decide) (Nat.le_of_ble_eq_true rfl) dJ18_fastRemove_31 (fun σ_6 H locs h hI => ?_)
    exact w_J18_fastRemove_34 C hw hR x1 u_4 _ _ _ _ h hI (lv_sub hl [1, 2, 0] rfl)

theorem k_J18_remove (l : Launch) (g : cG) (A : Nat → Prop) (o : Nat) (x1 : Int32) (σ : cS) (v : Option Nat) (σ1 : cS) (h : m_J18_remove o x1 σ = some (v, σ1)) : Met l yJ18_remove (ws_ yJ18_remove cJ18_remove 4 (Option.some (Jvm.ClassFile.FieldType.object "java/lang/Object"))) ({ frames := 3, cells := σ.2 3 - σ.2 0, slots := σ.2 4 - σ.2 1, locals := 83 }) (CPc g A [.ref o, .int x1] σ) (CQ g A (some (va_rf v)) σ1) (σ.2 3 - σ.2 0) (σ.2 4 - σ.2 1) A := by
  refine Met.ofW (cc := cJ18_remove) (maxL := 4) (ret := (Option.some (Jvm.ClassFile.FieldType.object "java/lang/Object"))) (by decide) rfl ?_
  intro p e s m args below meth c s₁ B hml hv
  obtain ⟨rfl, hw, hσ⟩ := hv
  have hts := atoms_spec (ws := (ws_ yJ18_remove cJ18_remove 4 (Option.some (Jvm.ClassFile.FieldType.object "java/lang/Object")))) B.pre
  have C : CX p m meth c s ([.ref o, .int x1] : List Value).toArray cJ18_remove 4 (Option.some (Jvm.ClassFile.FieldType.object "java/lang/Object")) RJ18 := ⟨⟨B.exec, B.bytes, hml, findClass_of_methodNamed B.named, fun w h => hts w (List.mem_cons_of_mem _ h)⟩, B.returns, B.notSynchronized⟩
  have e3 : σ.2 3 - σ.2 0 = g.2.2.1 3 - s.heap.size := by rw [hσ.1, hσ.2.2.2.1 3 (by decide)]
  have e4 : σ.2 4 - σ.2 1 = g.2.2.1 4 - hsl s.heap := by rw [hσ.2.1, hσ.2.2.2.1 4 (by decide)]
  have hR : RM g s (headSpec (ws_ yJ18_remove cJ18_remove 4 (Option.some (Jvm.ClassFile.FieldType.object "java/lang/Object"))) ({ frames := 3, cells := σ.2 3 - σ.2 0, slots := σ.2 4 - σ.2 1, locals := 83 })).room (3) (83) := ⟨⟨Nat.le_refl _, Nat.le_refl _⟩, Nat.le_of_eq e3.symm, Nat.le_of_eq e4.symm⟩
  generalize (headSpec (ws_ yJ18_remove cJ18_remove 4 (Option.some (Jvm.ClassFile.FieldType.object "java/lang/Object"))) ({ frames := 3, cells := σ.2 3 - σ.2 0, slots := σ.2 4 - σ.2 1, locals := 83 })).room = R at hR ⊢
  rw [e3, e4]
  have hI : CI g A s σ s.heap [] := ⟨hσ, va_S.rf, Nat.le_refl _⟩
  have hl := lv_entry ([.ref o, .int x1]) (n := 4) (Nat.le_of_ble_eq_true rfl)
  rw [lg_entry_eq]
  generalize (lg_sl ([.ref o, .int x1]) ++ List.replicate (4 - (lg_sl ([.ref o, .int x1])).length) Slot.unset).toArray = ls at hl ⊢
  have hl : lv_has ls 4 [(0, .ref o), (1, .int x1)] := hl
  obtain ⟨z, hz⟩ : ∃ z, z = (v, σ1) := ⟨_, rfl⟩
  rw [← hz] at h
  rw [show v = z.1 by rw [hz], show σ1 = z.2 by rw [hz]]
  clear hz v σ1
  refine W.narrow ?_
  unfold m_J18_remove at h
  refine lv_iload_n C.x C.b dJ18_remove_0 rfl (lv_at hl 1 rfl) ?_
  refine r_aload_n (x := some o) C.x C.b dJ18_remove_1 rfl (lv_at hl 0 rfl) ?_
  refine cw_gI (r := some o) 9 2 C hw hI h (by decide) rfl in_J18 (by decide) (C.t _ q820) (fun _ h9 => h9) dJ18_remove_2 (fun v_1 h => ?_)
  refine cw_callS (y := yJ23_checkIndex) (bytes := cJ23_checkIndex) (maxL := 2) (fun v => some (.int v)) [.int x1, .int v_1] C hw hR hI hl.1 h (fun vv ss ee => k_J23_checkIndex l g A x1 v_1 σ vv ss ee) (va_cwS 2 C.t (lw_S q1267 q1268 q164 q1269) rfl rfl rfl (by decide +kernel) ⟨Nat.le_trans (Nat.le_of_ble_eq_true rfl) hR.f, Nat.le_trans (Nat.le_of_ble_eq_true rfl) hR.lo⟩) rfl rfl (Nat.le_of_ble_eq_true rfl) dJ18_remove_5 (fun v_2 σ_3 H locs h hI => ?_)
  refine lv_pop C.x C.b dJ18_remove_8 rfl ?_
  refine r_aload_n (x := some o) C.x C.b dJ18_remove_9 rfl (lv_at hl 0 rfl) ?_
  refine cw_gR (r := some o) 9 1 C hw hI h (by decide) rfl in_J18 (by decide) (C.t _ q819) (fun _ h9 => h9) dJ18_remove_10 (fun v_4 h => ?_)
  refine r_astore_n (i := 2) (x := v_4) (lv' := [(2, va_rf v_4), (0, .ref o), (1, .int x1)]) C.x C.b dJ18_remove_13 rfl hl (by decide) (by rfl) (fun ls hl => ?_)
  refine r_aload_n (x := v_4) C.x C.b dJ18_remove_14 rfl (lv_at hl 0 rfl) ?_
  refine lv_iload_n C.x C.b dJ18_remove_15 rfl (lv_at hl 2 rfl) ?_
  refine cw_rld (r := v_4) C hw hI h dJ18_remove_16 (fun v_5 h => ?_)
  refine r_astore_n (i := 3) (x := v_5) (lv' := [(3, va_rf v_5), (2, va_rf v_4), (0, .ref o), (1, .int x1)]) C.x C.b dJ18_remove_17 rfl hl (by decide) (by first | (simp [List.filter, cat_rf, cat_i, cat_a, cat_n, cat_l, cat_f, cat_d]; done) | (simp [List.filter, cat_rf, cat_i, cat_a, cat_n, cat_l, cat_f, cat_d]; rfl)) (fun ls hl => ?_)
  refine r_aload_n (x := some o) C.x C.b dJ18_remove_18 rfl (lv_at hl 2 rfl) ?_
  refine r_aload_n (x := v_4) C.x C.b dJ18_remove_19 rfl (lv_at hl 1 rfl) ?_
  refine lv_iload_n C.x C.b dJ18_remove_20 rfl (lv_at hl 3 rfl) ?_
  refine cw_callV (y := yJ18_fastRemove) (bytes := cJ18_fastRemove) (maxL := 4) (r := some o) (f := fun a_7 => m_J18_fastRemove a_7 v_4 x1 σ_3) 9 (fun _ => none) [va_rf v_4, .int x1] C hw hR hI hl.1 h (by decide) rfl (fun aa vv ss ee => k_J18_fastRemove l g A aa v_4 x1 σ_3 vv ss ee) (cwV 2 C.t (lw_V q1350 q1352 qs26 q152 q1353) rfl rfl rfl (by decide +kernel) ⟨Nat.le_trans (Nat.le_of_ble_eq_true rfl) hR.f, Nat.le_trans (Nat.le_of_ble_eq_true rfl) hR.lo⟩) rfl rfl (Nat.le_of_ble_eq_true rfl) dJ18_remove_21 (fun _ σ_6 H locs h hI => ?_)
  refine r_aload_n (x := v_5) C.x C.b dJ18_remove_24 rfl (lv_at hl 0 rfl) ?_
  exact cw_aret (x := v_5) C (Or.inl ⟨_, rfl⟩) hI h dJ18_remove_25

theorem w_J14_numberOfTrailingZeros_62 {z : Int32 × cS} (C : CX p m meth c s args cJ14_numberOfTrailingZeros 2 (Option.some Jvm.ClassFile.FieldType.int) RJ14) (hw : WKc g A s s.heap) (hR : RM g s R (1) (40))  : ∀ (x0 : Int32) (x1 : Int32) (σ : cS) (H : Heap) (locs : List Loc) (ls : Array Slot), b_J14_numberOfTrailingZeros_62 x0 x1 σ = some z → CI g A s σ H locs → lv_has ls 2 [(0, .int x0), (1, .int x1)] → W p l e R s m args below meth c H locs (H.size - s.heap.size) (hsl H - hsl s.heap) (MQ below (CQ g A (some (.int z.1)) z.2) args s (g.2.2.1 3 - s.heap.size) (g.2.2.1 4 - hsl s.heap) A) (F0 m 62 ls []) := by
  intro x0 x1 σ H locs ls h hI hl
  unfold b_J14_numberOfTrailingZeros_62 at h
  refine lv_iload_n C.x C.b dJ14_numberOfTrailingZeros_62 rfl (lv_at hl 0 rfl) ?_
  refine lv_iconst (v := 4) C.x C.b dJ14_numberOfTrailingZeros_63 (by decide) ?_
  refine lv_icmp_le (tgt := 74) C.x C.b dJ14_numberOfTrailingZeros_64 (by decide) (fun c_1 => ?_) (fun c_1 => ?_)
  · have h := ip c_1 h
    refine lv_iload_n C.x C.b dJ14_numberOfTrailingZeros_74 rfl (lv_at hl 1 rfl) ?_
    refine lv_iload_n C.x C.b dJ14_numberOfTrailingZeros_75 rfl (lv_at hl 0 rfl) ?_
    refine lv_iconst (v := 1) C.x C.b dJ14_numberOfTrailingZeros_76 (by decide) ?_
    refine lv_iushr C.x C.b dJ14_numberOfTrailingZeros_77 rfl ?_
    refine lv_iadd C.x C.b dJ14_numberOfTrailingZeros_78 ?_
    exact cw_iret C hI h dJ14_numberOfTrailingZeros_79
  · have h := iN c_1 h
    obtain ⟨x1_2, e_, h⟩ := nm_s h
    refine lv_iinc (v := x1_2) (lv' := [(1, .int x1_2), (0, .int x0)]) C.x C.b dJ14_numberOfTrailingZeros_67 hl (k := 1) rfl e_.symm (by decide) rfl (fun ls hl => ?_)
    refine lv_iload_n C.x C.b dJ14_numberOfTrailingZeros_70 rfl (lv_at hl 1 rfl) ?_
    refine lv_iconst (v := 2) C.x C.b dJ14_numberOfTrailingZeros_71 (by decide) ?_
    refine lv_iushr C.x C.b dJ14_numberOfTrailingZeros_72 rfl ?_
    refine tw_lt h (fun x0_3 h => ?_)
    refine lv_istore_n (i := 0) (lv' := [(0, .int x0_3), (1, .int x1_2)]) C.x C.b dJ14_numberOfTrailingZeros_73 rfl hl (by decide) rfl (fun ls hl => ?_)
    refine lv_iload_n C.x C.b dJ14_numberOfTrailingZeros_74 rfl (lv_at hl 1 rfl) ?_
    refine lv_iload_n C.x C.b dJ14_numberOfTrailingZeros_75 rfl (lv_at hl 0 rfl) ?_
    refine lv_iconst (v := 1) C.x C.b dJ14_numberOfTrailingZeros_76 (by decide) ?_
    refine lv_iushr C.x C.b dJ14_numberOfTrailingZeros_77 rfl ?_
    refine lv_iadd C.x C.b dJ14_numberOfTrailingZeros_78 ?_
    exact cw_iret C hI h dJ14_numberOfTrailingZeros_79

theorem w_J14_numberOfTrailingZeros_49 {z : Int32 × cS} (C : CX p m meth c s args cJ14_numberOfTrailingZeros 2 (Option.some Jvm.ClassFile.FieldType.int) RJ14) (hw : WKc g A s s.heap) (hR : RM g s R (1) (40))  : ∀ (x0 : Int32) (x1 : Int32) (σ : cS) (H : Heap) (locs : List Loc) (ls : Array Slot), b_J14_numberOfTrailingZeros_49 x0 x1 σ = some z → CI g A s σ H locs → lv_has ls 2 [(0, .int x0), (1, .int x1)] → W p l e R s m args below meth c H locs (H.size - s.heap.size) (hsl H - hsl s.heap) (MQ below (CQ g A (some (.int z.1)) z.2) args s (g.2.2.1 3 - s.heap.size) (g.2.2.1 4 - hsl s.heap) A) (F0 m 49 ls []) := by
  intro x0 x1 σ H locs ls h hI hl
  unfold b_J14_numberOfTrailingZeros_49 at h
  refine lv_iload_n C.x C.b dJ14_numberOfTrailingZeros_49 rfl (lv_at hl 0 rfl) ?_
  refine lv_bipush (v := 16) C.x C.b dJ14_numberOfTrailingZeros_50 (by decide) ?_
  refine lv_icmp_le (tgt := 62) C.x C.b dJ14_numberOfTrailingZeros_52 (by decide) (fun c_1 => ?_) (fun c_1 => ?_)
  · have h := ip c_1 h
    exact w_J14_numberOfTrailingZeros_62 C hw hR x0 x1 _ _ _ _ h hI (lv_sub hl [0, 1] rfl)
  · have h := iN c_1 h
    obtain ⟨x1_2, e_, h⟩ := nm_s h
    refine lv_iinc (v := x1_2) (lv' := [(1, .int x1_2), (0, .int x0)]) C.x C.b dJ14_numberOfTrailingZeros_55 hl (k := 1) rfl e_.symm (by decide) rfl (fun ls hl => ?_)
    refine lv_iload_n C.x C.b dJ14_numberOfTrailingZeros_58 rfl (lv_at hl 1 rfl) ?_
    refine lv_iconst (v := 4) C.x C.b dJ14_numberOfTrailingZeros_59 (by decide) ?_
    refine lv_iushr C.x C.b dJ14_numberOfTrailingZeros_60 rfl ?_
    refine tw_lt h (fun x0_3 h => ?_)
    refine lv_istore_n (i := 0) (lv' := [(0, .int x0_3), (1, .int x1_2)]) C.x C.b dJ14_numberOfTrailingZeros_61 rfl hl (by decide) rfl (fun ls hl => ?_)
    exact w_J14_numberOfTrailingZeros_62 C hw hR x0_3 x1_2 _ _ _ _ h hI (lv_sub hl [0, 1] rfl)

theorem w_J14_numberOfTrailingZeros_34 {z : Int32 × cS} (C : CX p m meth c s args cJ14_numberOfTrailingZeros 2 (Option.some Jvm.ClassFile.FieldType.int) RJ14) (hw : WKc g A s s.heap) (hR : RM g s R (1) (40))  : ∀ (x0 : Int32) (x1 : Int32) (σ : cS) (H : Heap) (locs : List Loc) (ls : Array Slot), b_J14_numberOfTrailingZeros_34 x0 x1 σ = some z → CI g A s σ H locs → lv_has ls 2 [(0, .int x0), (1, .int x1)] → W p l e R s m args below meth c H locs (H.size - s.heap.size) (hsl H - hsl s.heap) (MQ below (CQ g A (some (.int z.1)) z.2) args s (g.2.2.1 3 - s.heap.size) (g.2.2.1 4 - hsl s.heap) A) (F0 m 34 ls []) := by
  intro x0 x1 σ H locs ls h hI hl
  unfold b_J14_numberOfTrailingZeros_34 at h
  refine lv_iload_n C.x C.b dJ14_numberOfTrailingZeros_34 rfl (lv_at hl 0 rfl) ?_
  refine lv_sipush (v := 256) C.x C.b dJ14_numberOfTrailingZeros_35 (by decide) ?_
  refine lv_icmp_le (tgt := 49) C.x C.b dJ14_numberOfTrailingZeros_38 (by decide) (fun c_1 => ?_) (fun c_1 => ?_)
  · have h := ip c_1 h
    exact w_J14_numberOfTrailingZeros_49 C hw hR x0 x1 _ _ _ _ h hI (lv_sub hl [0, 1] rfl)
  · have h := iN c_1 h
    obtain ⟨x1_2, e_, h⟩ := nm_s h
    refine lv_iinc (v := x1_2) (lv' := [(1, .int x1_2), (0, .int x0)]) C.x C.b dJ14_numberOfTrailingZeros_41 hl (k := 1) rfl e_.symm (by decide) rfl (fun ls hl => ?_)
    refine lv_iload_n C.x C.b dJ14_numberOfTrailingZeros_44 rfl (lv_at hl 1 rfl) ?_
    refine lv_bipush (v := 8) C.x C.b dJ14_numberOfTrailingZeros_45 (by decide) ?_
    refine lv_iushr C.x C.b dJ14_numberOfTrailingZeros_47 rfl ?_
    refine tw_lt h (fun x0_3 h => ?_)
    refine lv_istore_n (i := 0) (lv' := [(0, .int x0_3), (1, .int x1_2)]) C.x C.b dJ14_numberOfTrailingZeros_48 rfl hl (by decide) rfl (fun ls hl => ?_)
    exact w_J14_numberOfTrailingZeros_49 C hw hR x0_3 x1_2 _ _ _ _ h hI (lv_sub hl [0, 1] rfl)

theorem k_J14_numberOfTrailingZeros (l : Launch) (g : cG) (A : Nat → Prop) (x0 : Int32) (σ : cS) (v : Int32) (σ1 : cS) (h : m_J14_numberOfTrailingZeros x0 σ = some (v, σ1)) : Met l yJ14_numberOfTrailingZeros (ws_ yJ14_numberOfTrailingZeros cJ14_numberOfTrailingZeros 2 (Option.some Jvm.ClassFile.FieldType.int)) ({ frames := 1, cells := σ.2 3 - σ.2 0, slots := σ.2 4 - σ.2 1, locals := 40 }) (CPc g A [.int x0] σ) (CQ g A (some (.int v)) σ1) (σ.2 3 - σ.2 0) (σ.2 4 - σ.2 1) A := by
  refine Met.ofW (cc := cJ14_numberOfTrailingZeros) (maxL := 2) (ret := (Option.some Jvm.ClassFile.FieldType.int)) (by decide) rfl ?_
  intro p e s m args below meth c s₁ B hml hv
  obtain ⟨rfl, hw, hσ⟩ := hv
  have hts := atoms_spec (ws := (ws_ yJ14_numberOfTrailingZeros cJ14_numberOfTrailingZeros 2 (Option.some Jvm.ClassFile.FieldType.int))) B.pre
  have C : CX p m meth c s ([.int x0] : List Value).toArray cJ14_numberOfTrailingZeros 2 (Option.some Jvm.ClassFile.FieldType.int) RJ14 := ⟨⟨B.exec, B.bytes, hml, findClass_of_methodNamed B.named, fun w h => hts w (List.mem_cons_of_mem _ h)⟩, B.returns, B.notSynchronized⟩
  have e3 : σ.2 3 - σ.2 0 = g.2.2.1 3 - s.heap.size := by rw [hσ.1, hσ.2.2.2.1 3 (by decide)]
  have e4 : σ.2 4 - σ.2 1 = g.2.2.1 4 - hsl s.heap := by rw [hσ.2.1, hσ.2.2.2.1 4 (by decide)]
  have hR : RM g s (headSpec (ws_ yJ14_numberOfTrailingZeros cJ14_numberOfTrailingZeros 2 (Option.some Jvm.ClassFile.FieldType.int)) ({ frames := 1, cells := σ.2 3 - σ.2 0, slots := σ.2 4 - σ.2 1, locals := 40 })).room (1) (40) := ⟨⟨Nat.le_refl _, Nat.le_refl _⟩, Nat.le_of_eq e3.symm, Nat.le_of_eq e4.symm⟩
  generalize (headSpec (ws_ yJ14_numberOfTrailingZeros cJ14_numberOfTrailingZeros 2 (Option.some Jvm.ClassFile.FieldType.int)) ({ frames := 1, cells := σ.2 3 - σ.2 0, slots := σ.2 4 - σ.2 1, locals := 40 })).room = R at hR ⊢
  rw [e3, e4]
  have hI : CI g A s σ s.heap [] := ⟨hσ, va_S.rf, Nat.le_refl _⟩
  have hl := lv_entry ([.int x0]) (n := 2) (Nat.le_of_ble_eq_true rfl)
  rw [lg_entry_eq]
  generalize (lg_sl ([.int x0]) ++ List.replicate (2 - (lg_sl ([.int x0])).length) Slot.unset).toArray = ls at hl ⊢
  have hl : lv_has ls 2 [(0, .int x0)] := hl
  obtain ⟨z, hz⟩ : ∃ z, z = (v, σ1) := ⟨_, rfl⟩
  rw [← hz] at h
  rw [show v = z.1 by rw [hz], show σ1 = z.2 by rw [hz]]
  clear hz v σ1
  refine W.narrow ?_
  unfold m_J14_numberOfTrailingZeros at h
  refine lv_iload_n C.x C.b dJ14_numberOfTrailingZeros_0 rfl (lv_at hl 0 rfl) ?_
  refine lv_iconst (v := -1) C.x C.b dJ14_numberOfTrailingZeros_1 (by decide) ?_
  refine lv_ixor C.x C.b dJ14_numberOfTrailingZeros_2 ?_
  refine lv_iload_n C.x C.b dJ14_numberOfTrailingZeros_3 rfl (lv_at hl 0 rfl) ?_
  refine lv_iconst (v := 1) C.x C.b dJ14_numberOfTrailingZeros_4 (by decide) ?_
  refine lv_isub C.x C.b dJ14_numberOfTrailingZeros_5 ?_
  refine lv_iand C.x C.b dJ14_numberOfTrailingZeros_6 ?_
  refine tw_lt h (fun x0_1 h => ?_)
  refine lv_istore_n (i := 0) (lv' := [(0, .int x0_1)]) C.x C.b dJ14_numberOfTrailingZeros_7 rfl hl (by decide) rfl (fun ls hl => ?_)
  refine lv_iload_n C.x C.b dJ14_numberOfTrailingZeros_8 rfl (lv_at hl 0 rfl) ?_
  refine lv_if_gt (tgt := 17) C.x C.b dJ14_numberOfTrailingZeros_9 (by decide) (fun c_2 => ?_) (fun c_2 => ?_)
  · have h := ip c_2 h
    refine lv_iconst (v := 1) C.x C.b dJ14_numberOfTrailingZeros_17 (by decide) ?_
    refine lv_istore_n (i := 1) (lv' := [(1, .int 1), (0, .int x0_1)]) C.x C.b dJ14_numberOfTrailingZeros_18 rfl hl (by decide) rfl (fun ls hl => ?_)
    refine lv_iload_n C.x C.b dJ14_numberOfTrailingZeros_19 rfl (lv_at hl 1 rfl) ?_
    refine lv_ldcw C.x C.b C.o (C.t _ q1322) dJ14_numberOfTrailingZeros_20 ?_
    refine lv_icmp_le (tgt := 34) C.x C.b dJ14_numberOfTrailingZeros_23 (by decide) (fun c_3 => ?_) (fun c_3 => ?_)
    · have h := ip c_3 h
      exact w_J14_numberOfTrailingZeros_34 C hw hR x0_1 1 _ _ _ _ h hI (lv_sub hl [1, 0] rfl)
    · have h := iN c_3 h
      obtain ⟨x1_4, e_, h⟩ := nm_s h
      refine lv_iinc (v := x1_4) (lv' := [(1, .int x1_4), (0, .int x0_1)]) C.x C.b dJ14_numberOfTrailingZeros_26 hl (k := 0) rfl e_.symm (by decide) rfl (fun ls hl => ?_)
      refine lv_iload_n C.x C.b dJ14_numberOfTrailingZeros_29 rfl (lv_at hl 1 rfl) ?_
      refine lv_bipush (v := 16) C.x C.b dJ14_numberOfTrailingZeros_30 (by decide) ?_
      refine lv_iushr C.x C.b dJ14_numberOfTrailingZeros_32 rfl ?_
      refine tw_lt h (fun x0_5 h => ?_)
      refine lv_istore_n (i := 0) (lv' := [(0, .int x0_5), (1, .int x1_4)]) C.x C.b dJ14_numberOfTrailingZeros_33 rfl hl (by decide) rfl (fun ls hl => ?_)
      exact w_J14_numberOfTrailingZeros_34 C hw hR x0_5 x1_4 _ _ _ _ h hI (lv_sub hl [0, 1] rfl)
  · have h := iN c_2 h
    refine lv_iload_n C.x C.b dJ14_numberOfTrailingZeros_12 rfl (lv_at hl 0 rfl) ?_
    refine lv_bipush (v := 32) C.x C.b dJ14_numberOfTrailingZeros_13 (by decide) ?_
    refine lv_iand C.x C.b dJ14_numberOfTrailingZeros_15 ?_
    exact cw_iret C hI h dJ14_numberOfTrailingZeros_16

end
