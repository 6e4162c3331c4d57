/-! THE CLASS' WALKS 24: printed by gencl.py -/
section
variable {p : Program} {l : Launch} {e : Env} {R : Room} {s : State} {m : MethodId} {args : Array Value} {below : List Frame} {meth : Method} {c : Code} {g : cG} {A : Nat → Prop}
set_option maxRecDepth 100000
theorem w_X4_duplicate_50 {z : Option Nat × cS} {o : Nat} (C : CX p m meth c s args cX4_duplicate 3 (Option.some (Jvm.ClassFile.FieldType.object "HeirCases$Will")) RX4) (hw : WKc g A s s.heap) (hR : RM g s R (7) (171))  : ∀ (n : Nat) (x1 : Option Nat) (x2 : Int32) (σ : cS) (H : Heap) (locs : List Loc) (ls : Array Slot), b_X4_duplicate_50 o n x1 x2 σ = some z → CI g A s σ H locs → lv_has ls 3 [(0, .ref o), (1, va_rf x1), (2, .int x2)] → W p l e R s m args below meth c H locs (H.size - s.heap.size) (hsl H - hsl s.heap) (MQ below (CQ g A (some (va_rf z.1)) z.2) args s (g.2.2.1 3 - s.heap.size) (g.2.2.1 4 - hsl s.heap) A) (F0 m 50 ls []) := by
  intro n
  induction n with
  | zero =>
    intro x1 x2 σ H locs ls h
    cases h
  | succ n ih =>
    intro x1 x2 σ H locs ls h hI hl
    rw [b_X4_duplicate_50] at h
    refine lv_iload_n C.x C.b dX4_duplicate_50 rfl (lv_at hl 2 rfl) ?_
    refine r_aload_n (x := some o) C.x C.b dX4_duplicate_51 rfl (lv_at hl 0 rfl) ?_
    refine cw_gR (r := some o) 1 4 C hw hI h (by decide) rfl in_X4 (by decide) (C.t _ q850) (fun _ h9 => h9) dX4_duplicate_52 (fun v_1 h => ?_)
    refine cw_callV (y := yJ18_size) (bytes := cJ18_size) (maxL := 1) (r := v_1) (f := fun a_4 => m_J18_size a_4 σ) 9 (fun v => some (.int v)) [] C hw hR hI hl.1 h (by decide) rfl (fun aa vv ss ee => k_J18_size l g A aa σ vv ss ee) (cwV 0 C.t (lw_V q1262 q947 q948 q152 q949) rfl rfl rfl (by decide +kernel) ⟨Nat.le_trans (Nat.le_of_ble_eq_true rfl) hR.f, Nat.le_trans (Nat.le_of_ble_eq_true rfl) hR.lo⟩) rfl rfl (Nat.le_of_ble_eq_true rfl) dX4_duplicate_55 (fun v_2 σ_3 H locs h hI => ?_)
    refine lv_icmp_ge (tgt := 89) C.x C.b dX4_duplicate_58 (by decide) (fun c_5 => ?_) (fun c_5 => ?_)
    · have h := ip c_5 h
      refine r_aload_n (x := x1) C.x C.b dX4_duplicate_89 rfl (lv_at hl 1 rfl) ?_
      refine r_aload_n (x := some o) C.x C.b dX4_duplicate_90 rfl (lv_at hl 0 rfl) ?_
      refine cw_gI (r := some o) 1 7 C hw hI h (by decide) rfl in_X4 (by decide) (C.t _ q856) (fun _ h9 => h9) dX4_duplicate_91 (fun v_6 h => ?_)
      refine cw_pO (r := x1) (v := (.int v_6)) (ty := .int) 1 7 C hw hI h (by decide) rfl in_X4 tyX4 tyX4_ok nmX4 (by decide) (C.t _ q856) (fun _ h9 => h9) (Or.inl rfl) (by decide +kernel) rfl rfl dX4_duplicate_94 (fun σ_7 H locs h hI => ?_)
      refine r_aload_n (x := x1) C.x C.b dX4_duplicate_97 rfl (lv_at hl 1 rfl) ?_
      refine r_aload_n (x := some o) C.x C.b dX4_duplicate_98 rfl (lv_at hl 0 rfl) ?_
      refine cw_gI (r := some o) 1 8 C hw hI h (by decide) rfl in_X4 (by decide) (C.t _ q859) (fun _ h9 => h9) dX4_duplicate_99 (fun v_8 h => ?_)
      refine cw_pO (r := x1) (v := (.int v_8)) (ty := .int) 1 8 C hw hI h (by decide) rfl in_X4 tyX4 tyX4_ok nmX4 (by decide) (C.t _ q859) (fun _ h9 => h9) (Or.inl rfl) (by decide +kernel) rfl rfl dX4_duplicate_102 (fun σ_9 H locs h hI => ?_)
      refine r_aload_n (x := x1) C.x C.b dX4_duplicate_105 rfl (lv_at hl 1 rfl) ?_
      exact cw_aret (x := x1) C (Or.inl ⟨_, rfl⟩) hI h dX4_duplicate_106
    · have h := iN c_5 h
      refine r_aload_n (x := x1) C.x C.b dX4_duplicate_61 rfl (lv_at hl 1 rfl) ?_
      refine cw_gR (r := x1) 1 4 C hw hI h (by decide) rfl in_X4 (by decide) (C.t _ q850) (fun _ h9 => h9) dX4_duplicate_62 (fun v_10 h => ?_)
      refine r_aload_n (x := some o) C.x C.b dX4_duplicate_65 rfl (lv_at hl 0 rfl) ?_
      refine cw_gR (r := some o) 1 4 C hw hI h (by decide) rfl in_X4 (by decide) (C.t _ q850) (fun _ h9 => h9) dX4_duplicate_66 (fun v_11 h => ?_)
      refine lv_iload_n C.x C.b dX4_duplicate_69 rfl (lv_at hl 2 rfl) ?_
      refine cw_callV (y := yJ18_get) (bytes := cJ18_get) (maxL := 2) (r := v_11) (f := fun a_14 => m_J18_get a_14 x2 σ_3) 9 (fun v => some (va_rf v)) [.int x2] C hw hR hI hl.1 h (by decide) rfl (fun aa vv ss ee => k_J18_get l g A aa x2 σ_3 vv ss ee) (cwV 1 C.t (lw_V q1263 q1264 q1265 q152 q1266) rfl rfl rfl (by decide +kernel) ⟨Nat.le_trans (Nat.le_of_ble_eq_true rfl) hR.f, Nat.le_trans (Nat.le_of_ble_eq_true rfl) hR.lo⟩) rfl rfl (Nat.le_of_ble_eq_true rfl) dX4_duplicate_70 (fun v_12 σ_13 H locs h hI => ?_)
      refine cw_cast (r := v_12) 2 C hw hI h (by decide) rfl q1275 dX4_duplicate_73 (fun h => ?_)
      refine cw_callV (y := yX9_duplicate) (bytes := cX9_duplicate) (maxL := 2) (r := v_12) (f := fun a_17 => m_X9_duplicate a_17 σ_13) 2 (fun v => some (va_rf v)) [] C hw hR hI hl.1 h (by decide) rfl (fun aa vv ss ee => k_X9_duplicate l g A aa σ_13 vv ss ee) (cwV 0 C.t (lw_V q1366 q1367 q1368 q157 q1369) rfl rfl rfl (by decide +kernel) ⟨Nat.le_trans (Nat.le_of_ble_eq_true rfl) hR.f, Nat.le_trans (Nat.le_of_ble_eq_true rfl) hR.lo⟩) rfl rfl (Nat.le_of_ble_eq_true rfl) dX4_duplicate_76 (fun v_15 σ_16 H locs h hI => ?_)
      refine cw_callV (y := yJ18_add) (bytes := cJ18_add) (maxL := 2) (r := v_10) (f := fun a_20 => m_J18_add a_20 v_15 σ_16) 9 (fun v => some (.int v)) [va_rf v_15] C hw hR hI hl.1 h (by decide) rfl (fun aa vv ss ee => k_J18_add l g A aa v_15 σ_16 vv ss ee) (cwV 1 C.t (lw_V q1373 q1041 q1042 q152 q1043) rfl rfl rfl (by decide +kernel) ⟨Nat.le_trans (Nat.le_of_ble_eq_true rfl) hR.f, Nat.le_trans (Nat.le_of_ble_eq_true rfl) hR.lo⟩) rfl rfl (Nat.le_of_ble_eq_true rfl) dX4_duplicate_79 (fun v_18 σ_19 H locs h hI => ?_)
      refine lv_pop C.x C.b dX4_duplicate_82 rfl ?_
      obtain ⟨x2_21, e_, h⟩ := nm_s h
      refine lv_iinc (v := x2_21) (lv' := [(2, .int x2_21), (0, .ref o), (1, va_rf x1)]) C.x C.b dX4_duplicate_83 hl (k := 2) rfl e_.symm (by decide) (by first | (simp [List.filter, cat_rf, cat_i, cat_a, cat_n, cat_l, cat_f, cat_d]; done) | (simp [List.filter, cat_rf, cat_i, cat_a, cat_n, cat_l, cat_f, cat_d]; rfl)) (fun ls hl => ?_)
      refine lv_goto (tgt := 50) C.x C.b dX4_duplicate_86 (by decide) ?_
      exact ih x1 x2_21 _ _ _ _ h hI (lv_sub hl [1, 2, 0] rfl)

theorem k_X4_duplicate (l : Launch) (g : cG) (A : Nat → Prop) (o : Nat) (σ : cS) (v : Option Nat) (σ1 : cS) (h : m_X4_duplicate o σ = some (v, σ1)) : Met l yX4_duplicate (ws_ yX4_duplicate cX4_duplicate 3 (Option.some (Jvm.ClassFile.FieldType.object "HeirCases$Will"))) ({ frames := 7, cells := σ.2 3 - σ.2 0, slots := σ.2 4 - σ.2 1, locals := 171 }) (CPc g A [.ref o] σ) (CQ g A (some (va_rf v)) σ1) (σ.2 3 - σ.2 0) (σ.2 4 - σ.2 1) A := by
  refine Met.ofW (cc := cX4_duplicate) (maxL := 3) (ret := (Option.some (Jvm.ClassFile.FieldType.object "HeirCases$Will"))) (by decide) rfl ?_
  intro p e s m args below meth c s₁ B hml hv
  obtain ⟨rfl, hw, hσ⟩ := hv
  have hts := atoms_spec (ws := (ws_ yX4_duplicate cX4_duplicate 3 (Option.some (Jvm.ClassFile.FieldType.object "HeirCases$Will")))) B.pre
  have C : CX p m meth c s ([.ref o] : List Value).toArray cX4_duplicate 3 (Option.some (Jvm.ClassFile.FieldType.object "HeirCases$Will")) RX4 := ⟨⟨B.exec, B.bytes, hml, findClass_of_methodNamed B.named, fun w h => hts w (List.mem_cons_of_mem _ h)⟩, B.returns, B.notSynchronized⟩
  have e3 : σ.2 3 - σ.2 0 = g.2.2.1 3 - s.heap.size := by rw [hσ.1, hσ.2.2.2.1 3 (by decide)]
  have e4 : σ.2 4 - σ.2 1 = g.2.2.1 4 - hsl s.heap := by rw [hσ.2.1, hσ.2.2.2.1 4 (by decide)]
  have hR : RM g s (headSpec (ws_ yX4_duplicate cX4_duplicate 3 (Option.some (Jvm.ClassFile.FieldType.object "HeirCases$Will"))) ({ frames := 7, cells := σ.2 3 - σ.2 0, slots := σ.2 4 - σ.2 1, locals := 171 })).room (7) (171) := ⟨⟨Nat.le_refl _, Nat.le_refl _⟩, Nat.le_of_eq e3.symm, Nat.le_of_eq e4.symm⟩
  generalize (headSpec (ws_ yX4_duplicate cX4_duplicate 3 (Option.some (Jvm.ClassFile.FieldType.object "HeirCases$Will"))) ({ frames := 7, cells := σ.2 3 - σ.2 0, slots := σ.2 4 - σ.2 1, locals := 171 })).room = R at hR ⊢
  rw [e3, e4]
  have hI : CI g A s σ s.heap [] := ⟨hσ, va_S.rf, Nat.le_refl _⟩
  have hl := lv_entry ([.ref o]) (n := 3) (Nat.le_of_ble_eq_true rfl)
  rw [lg_entry_eq]
  generalize (lg_sl ([.ref o]) ++ List.replicate (3 - (lg_sl ([.ref o])).length) Slot.unset).toArray = ls at hl ⊢
  have hl : lv_has ls 3 [(0, .ref o)] := hl
  obtain ⟨z, hz⟩ : ∃ z, z = (v, σ1) := ⟨_, rfl⟩
  rw [← hz] at h
  rw [show v = z.1 by rw [hz], show σ1 = z.2 by rw [hz]]
  clear hz v σ1
  refine W.narrow ?_
  unfold m_X4_duplicate at h
  refine cw_new (T := TX4) (N := 9) 1 C hw hI hR.2.1 hR.2.2 h (by decide) rfl in_X4 tyX4 tyX4_ok (fun j hj => match j, hj with | 0, _ => rfl | 1, _ => rfl | 2, _ => rfl | 3, _ => rfl | 4, _ => rfl | 5, _ => rfl | 6, _ => rfl | 7, _ => rfl | 8, _ => rfl | j + 9, hj => absurd hj (Nat.not_lt_of_le (Nat.le_add_left _ _))) q1363 q803 q150 dX4_duplicate_0 (fun q_1 σ_2 H locs h hI => ?_)
  refine lv_dup C.x C.b dX4_duplicate_3 rfl ?_
  refine r_aload_n (x := some o) C.x C.b dX4_duplicate_4 rfl (lv_at hl 0 rfl) ?_
  refine cw_gR (r := some o) 1 0 C hw hI h (by decide) rfl in_X4 (by decide) (C.t _ q838) (fun _ h9 => h9) dX4_duplicate_5 (fun v_3 h => ?_)
  refine r_aload_n (x := some o) C.x C.b dX4_duplicate_8 rfl (lv_at hl 0 rfl) ?_
  refine cw_gI (r := some o) 1 1 C hw hI h (by decide) rfl in_X4 (by decide) (C.t _ q841) (fun _ h9 => h9) dX4_duplicate_9 (fun v_4 h => ?_)
  refine r_aload_n (x := some o) C.x C.b dX4_duplicate_12 rfl (lv_at hl 0 rfl) ?_
  refine cw_gI (r := some o) 1 6 C hw hI h (by decide) rfl in_X4 (by decide) (C.t _ q854) (fun _ h9 => h9) dX4_duplicate_13 (fun v_5 h => ?_)
  refine cw_callI (y := yX4_init) (bytes := cX4_init) (maxL := 4) (b := q_1) [va_rf v_3, .int v_4, .int v_5] C hw hR hI hl.1 h (fun vv ss ee => k_X4_init l g A q_1 v_3 v_4 v_5 σ_2 vv ss ee) (cwI 3 C.t (lw_meth q806) rfl rfl rfl (C.t _ q150) (C.t _ q1364) (C.t _ q805) rfl (by decide +kernel) ⟨Nat.le_trans (Nat.le_of_ble_eq_true rfl) hR.f, Nat.le_trans (Nat.le_of_ble_eq_true rfl) hR.lo⟩) rfl rfl (Nat.le_of_ble_eq_true rfl) dX4_duplicate_16 (fun σ_6 _ H locs h hI => ?_)
  refine r_astore_n (i := 1) (x := some q_1) (lv' := [(1, .ref q_1), (0, .ref o)]) C.x C.b dX4_duplicate_19 rfl hl (by decide) (by rfl) (fun ls hl => ?_)
  refine r_aload_n (x := some o) C.x C.b dX4_duplicate_20 rfl (lv_at hl 1 rfl) ?_
  refine cw_gR (r := some o) 1 2 C hw hI h (by decide) rfl in_X4 (by decide) (C.t _ q844) (fun _ h9 => h9) dX4_duplicate_21 (fun v_7 h => ?_)
  refine lv_iconst (v := 0) C.x C.b dX4_duplicate_24 (by decide) ?_
  refine r_aload_n (x := some q_1) C.x C.b dX4_duplicate_25 rfl (lv_at hl 0 rfl) ?_
  refine cw_gR (r := some q_1) 1 2 C hw hI h (by decide) rfl in_X4 (by decide) (C.t _ q844) (fun _ h9 => h9) dX4_duplicate_26 (fun v_8 h => ?_)
  refine lv_iconst (v := 0) C.x C.b dX4_duplicate_29 (by decide) ?_
  refine lv_iconst (v := 4) C.x C.b dX4_duplicate_30 (by decide) ?_
  refine cw_cpI (kind := 0) (ty := .int) (src := v_7) (dst := v_8) (Or.inl ⟨rfl, rfl⟩) C hw hR hI hl.1 h q1365 (by decide) (by decide) (Nat.le_of_ble_eq_true rfl) dX4_duplicate_31 (fun σ_9 H locs h hI => ?_)
  refine r_aload_n (x := some o) C.x C.b dX4_duplicate_34 rfl (lv_at hl 1 rfl) ?_
  refine cw_gR (r := some o) 1 3 C hw hI h (by decide) rfl in_X4 (by decide) (C.t _ q847) (fun _ h9 => h9) dX4_duplicate_35 (fun v_10 h => ?_)
  refine lv_iconst (v := 0) C.x C.b dX4_duplicate_38 (by decide) ?_
  refine r_aload_n (x := some q_1) C.x C.b dX4_duplicate_39 rfl (lv_at hl 0 rfl) ?_
  refine cw_gR (r := some q_1) 1 3 C hw hI h (by decide) rfl in_X4 (by decide) (C.t _ q847) (fun _ h9 => h9) dX4_duplicate_40 (fun v_11 h => ?_)
  refine lv_iconst (v := 0) C.x C.b dX4_duplicate_43 (by decide) ?_
  refine lv_iconst (v := 4) C.x C.b dX4_duplicate_44 (by decide) ?_
  refine cw_cpI (kind := 0) (ty := .int) (src := v_10) (dst := v_11) (Or.inl ⟨rfl, rfl⟩) C hw hR hI hl.1 h q1365 (by decide) (by decide) (Nat.le_of_ble_eq_true rfl) dX4_duplicate_45 (fun σ_12 H locs h hI => ?_)
  refine lv_iconst (v := 0) C.x C.b dX4_duplicate_48 (by decide) ?_
  refine lv_istore_n (i := 2) (lv' := [(2, .int 0), (1, .ref q_1), (0, .ref o)]) C.x C.b dX4_duplicate_49 rfl hl (by decide) rfl (fun ls hl => ?_)
  exact w_X4_duplicate_50 C hw hR _ (some q_1) 0 _ _ _ _ h hI (lv_sub hl [2, 1, 0] rfl)

theorem k_X4_partOf (l : Launch) (g : cG) (A : Nat → Prop) (o : Nat) (x1 : Option Nat) (x2 : Int32) (σ : cS) (v : Int32) (σ1 : cS) (h : m_X4_partOf o x1 x2 σ = some (v, σ1)) : Met l yX4_partOf (ws_ yX4_partOf cX4_partOf 3 (Option.some Jvm.ClassFile.FieldType.int)) ({ frames := 1, cells := σ.2 3 - σ.2 0, slots := σ.2 4 - σ.2 1, locals := 40 }) (CPc g A [.ref o, va_rf x1, .int x2] σ) (CQ g A (some (.int v)) σ1) (σ.2 3 - σ.2 0) (σ.2 4 - σ.2 1) A := by
  refine Met.ofW (cc := cX4_partOf) (maxL := 3) (ret := (Option.some Jvm.ClassFile.FieldType.int)) (by decide) rfl ?_
  intro p e s m args below meth c s₁ B hml hv
  obtain ⟨rfl, hw, hσ⟩ := hv
  have hts := atoms_spec (ws := (ws_ yX4_partOf cX4_partOf 3 (Option.some Jvm.ClassFile.FieldType.int))) B.pre
  have C : CX p m meth c s ([.ref o, va_rf x1, .int x2] : List Value).toArray cX4_partOf 3 (Option.some Jvm.ClassFile.FieldType.int) RX4 := ⟨⟨B.exec, B.bytes, hml, findClass_of_methodNamed B.named, fun w h => hts w (List.mem_cons_of_mem _ h)⟩, B.returns, B.notSynchronized⟩
  have e3 : σ.2 3 - σ.2 0 = g.2.2.1 3 - s.heap.size := by rw [hσ.1, hσ.2.2.2.1 3 (by decide)]
  have e4 : σ.2 4 - σ.2 1 = g.2.2.1 4 - hsl s.heap := by rw [hσ.2.1, hσ.2.2.2.1 4 (by decide)]
  have hR : RM g s (headSpec (ws_ yX4_partOf cX4_partOf 3 (Option.some Jvm.ClassFile.FieldType.int)) ({ frames := 1, cells := σ.2 3 - σ.2 0, slots := σ.2 4 - σ.2 1, locals := 40 })).room (1) (40) := ⟨⟨Nat.le_refl _, Nat.le_refl _⟩, Nat.le_of_eq e3.symm, Nat.le_of_eq e4.symm⟩
  generalize (headSpec (ws_ yX4_partOf cX4_partOf 3 (Option.some Jvm.ClassFile.FieldType.int)) ({ frames := 1, cells := σ.2 3 - σ.2 0, slots := σ.2 4 - σ.2 1, locals := 40 })).room = R at hR ⊢
  rw [e3, e4]
  have hI : CI g A s σ s.heap [] := ⟨hσ, va_S.rf, Nat.le_refl _⟩
  have hlen : (lg_sl ([.ref o, va_rf x1, .int x2])).length ≤ 3 := by rcases x1 with _ | x1 <;> exact Nat.le_of_ble_eq_true rfl
  have hl := lv_entry ([.ref o, va_rf x1, .int x2]) (n := 3) hlen
  rw [lg_entry_eq]
  generalize (lg_sl ([.ref o, va_rf x1, .int x2]) ++ List.replicate (3 - (lg_sl ([.ref o, va_rf x1, .int x2])).length) Slot.unset).toArray = ls at hl ⊢
  have hl : lv_has ls 3 [(0, .ref o), (1, va_rf x1), (2, .int x2)] := by clear hI hw h hσ e3 e4 hR C hts B; rcases x1 with _ | x1 <;> exact hl
  obtain ⟨z, hz⟩ : ∃ z, z = (v, σ1) := ⟨_, rfl⟩
  rw [← hz] at h
  rw [show v = z.1 by rw [hz], show σ1 = z.2 by rw [hz]]
  clear hz v σ1
  refine W.narrow ?_
  unfold m_X4_partOf at h
  refine r_aload_n (x := some o) C.x C.b dX4_partOf_0 rfl (lv_at hl 0 rfl) ?_
  refine cw_gI (r := some o) 1 7 C hw hI h (by decide) rfl in_X4 (by decide) (C.t _ q856) (fun _ h9 => h9) dX4_partOf_1 (fun v_1 h => ?_)
  refine lv_i2l C.x C.b dX4_partOf_4 rfl ?_
  refine r_aload_n (x := x1) C.x C.b dX4_partOf_5 rfl (lv_at hl 1 rfl) ?_
  refine cw_gR (r := x1) 2 2 C hw hI h (by decide) rfl in_X9 (by decide) (C.t _ q1107) (fun _ h9 => h9) dX4_partOf_6 (fun v_2 h => ?_)
  refine lv_iload_n C.x C.b dX4_partOf_9 rfl (lv_at hl 2 rfl) ?_
  refine cw_ild (r := v_2) C hw hI h dX4_partOf_10 (fun v_3 h => ?_)
  refine lv_i2l C.x C.b dX4_partOf_11 rfl ?_
  refine lv_lmul C.x C.b dX4_partOf_12 ?_
  refine lv_ldc2 C.x C.b C.o (C.t _ q1429) dX4_partOf_13 ?_
  have hz := gd_s h
  have h := hz.2
  refine lv_ldiv C.x C.b dX4_partOf_16 hz.1 ?_
  refine lv_l2i C.x C.b dX4_partOf_17 rfl ?_
  exact cw_iret C hI h dX4_partOf_18

theorem w_X4_gets_54 {z : Int32 × cS} {o : Nat} (C : CX p m meth c s args cX4_gets 7 (Option.some Jvm.ClassFile.FieldType.int) RX4) (hw : WKc g A s s.heap) (hR : RM g s R (259) (6471))  : ∀ (n : Nat) (x4 : Option Nat) (x5 : Int32) (x6 : Int32) (σ : cS) (H : Heap) (locs : List Loc) (ls : Array Slot), b_X4_gets_54 o n x4 x5 x6 σ = some z → CI g A s σ H locs → lv_has ls 7 [(0, .ref o), (4, va_rf x4), (5, .int x5), (6, .int x6)] → W p l e R s m args below meth c H locs (H.size - s.heap.size) (hsl H - hsl s.heap) (MQ below (CQ g A (some (.int z.1)) z.2) args s (g.2.2.1 3 - s.heap.size) (g.2.2.1 4 - hsl s.heap) A) (F0 m 54 ls []) := by
  intro n
  induction n with
  | zero =>
    intro x4 x5 x6 σ H locs ls h
    cases h
  | succ n ih =>
    intro x4 x5 x6 σ H locs ls h hI hl
    rw [b_X4_gets_54] at h
    refine lv_iload C.x C.b dX4_gets_54 (lv_at hl 3 rfl) ?_
    refine r_aload_n (x := some o) C.x C.b dX4_gets_56 rfl (lv_at hl 0 rfl) ?_
    refine cw_gI (r := some o) 1 1 C hw hI h (by decide) rfl in_X4 (by decide) (C.t _ q841) (fun _ h9 => h9) dX4_gets_57 (fun v_1 h => ?_)
    refine lv_icmp_ge (tgt := 95) C.x C.b dX4_gets_60 (by decide) (fun c_2 => ?_) (fun c_2 => ?_)
    · have h := ip c_2 h
      refine lv_iload C.x C.b dX4_gets_95 (lv_at hl 2 rfl) ?_
      exact cw_iret C hI h dX4_gets_97
    · have h := iN c_2 h
      refine lv_iload C.x C.b dX4_gets_63 (lv_at hl 2 rfl) ?_
      refine lv_iload C.x C.b dX4_gets_65 (lv_at hl 3 rfl) ?_
      refine r_aload_n (x := some o) C.x C.b dX4_gets_67 rfl (lv_at hl 0 rfl) ?_
      refine cw_gI (r := some o) 1 6 C hw hI h (by decide) rfl in_X4 (by decide) (C.t _ q854) (fun _ h9 => h9) dX4_gets_68 (fun v_3 h => ?_)
      refine lv_icmp_ne (tgt := 78) C.x C.b dX4_gets_71 (by decide) (fun c_4 => ?_) (fun c_4 => ?_)
      · have h := iN c_4 h
        refine r_aload_n (x := some o) C.x C.b dX4_gets_78 rfl (lv_at hl 0 rfl) ?_
        refine r_aload (x := x4) C.x C.b dX4_gets_79 (lv_at hl 1 rfl) ?_
        refine lv_iload C.x C.b dX4_gets_81 (lv_at hl 3 rfl) ?_
        refine cw_callV (y := yX4_partOf) (bytes := cX4_partOf) (maxL := 3) (r := some o) (f := fun a_7 => m_X4_partOf a_7 x4 x6 σ) 1 (fun v => some (.int v)) [va_rf x4, .int x6] C hw hR hI hl.1 h (by decide) rfl (fun aa vv ss ee => k_X4_partOf l g A aa x4 x6 σ vv ss ee) (cwV 2 C.t (lw_V q1425 q1427 qs32 q150 q1428) rfl rfl rfl (by decide +kernel) ⟨Nat.le_trans (Nat.le_of_ble_eq_true rfl) hR.f, Nat.le_trans (Nat.le_of_ble_eq_true rfl) hR.lo⟩) rfl rfl (Nat.le_of_ble_eq_true rfl) dX4_gets_83 (fun v_5 σ_6 H locs h hI => ?_)
        refine lv_isub C.x C.b dX4_gets_86 ?_
        refine tw_lt h (fun x5_8 h => ?_)
        refine lv_istore (i := 5) (lv' := [(5, .int x5_8), (0, .ref o), (4, va_rf x4), (6, .int x6)]) C.x C.b dX4_gets_87 hl (by decide) (by first | (simp [List.filter, cat_rf, cat_i, cat_a, cat_n, cat_l, cat_f, cat_d]; done) | (simp [List.filter, cat_rf, cat_i, cat_a, cat_n, cat_l, cat_f, cat_d]; rfl)) (fun ls hl => ?_)
        obtain ⟨x6_9, e_, h⟩ := nm_s h
        refine lv_iinc (v := x6_9) (lv' := [(6, .int x6_9), (5, .int x5_8), (0, .ref o), (4, va_rf x4)]) C.x C.b dX4_gets_89 hl (k := 3) rfl e_.symm (by decide) (by first | (simp [List.filter, cat_rf, cat_i, cat_a, cat_n, cat_l, cat_f, cat_d]; done) | (simp [List.filter, cat_rf, cat_i, cat_a, cat_n, cat_l, cat_f, cat_d]; rfl)) (fun ls hl => ?_)
        refine lv_goto (tgt := 54) C.x C.b dX4_gets_92 (by decide) ?_
        exact ih x4 x5_8 x6_9 _ _ _ _ h hI (lv_sub hl [2, 3, 1, 0] rfl)
      · have h := ip c_4 h
        refine lv_iconst (v := 0) C.x C.b dX4_gets_74 (by decide) ?_
        refine lv_goto (tgt := 86) C.x C.b dX4_gets_75 (by decide) ?_
        refine lv_isub C.x C.b dX4_gets_86 ?_
        refine tw_lt h (fun x5_10 h => ?_)
        refine lv_istore (i := 5) (lv' := [(5, .int x5_10), (0, .ref o), (4, va_rf x4), (6, .int x6)]) C.x C.b dX4_gets_87 hl (by decide) (by first | (simp [List.filter, cat_rf, cat_i, cat_a, cat_n, cat_l, cat_f, cat_d]; done) | (simp [List.filter, cat_rf, cat_i, cat_a, cat_n, cat_l, cat_f, cat_d]; rfl)) (fun ls hl => ?_)
        obtain ⟨x6_11, e_, h⟩ := nm_s h
        refine lv_iinc (v := x6_11) (lv' := [(6, .int x6_11), (5, .int x5_10), (0, .ref o), (4, va_rf x4)]) C.x C.b dX4_gets_89 hl (k := 3) rfl e_.symm (by decide) (by first | (simp [List.filter, cat_rf, cat_i, cat_a, cat_n, cat_l, cat_f, cat_d]; done) | (simp [List.filter, cat_rf, cat_i, cat_a, cat_n, cat_l, cat_f, cat_d]; rfl)) (fun ls hl => ?_)
        refine lv_goto (tgt := 54) C.x C.b dX4_gets_92 (by decide) ?_
        exact ih x4 x5_10 x6_11 _ _ _ _ h hI (lv_sub hl [2, 3, 1, 0] rfl)

theorem k_X4_gets (l : Launch) (g : cG) (A : Nat → Prop) (o : Nat) (x1 : Int32) (x2 : Int32) (σ : cS) (v : Int32) (σ1 : cS) (h : m_X4_gets o x1 x2 σ = some (v, σ1)) : Met l yX4_gets (ws_ yX4_gets cX4_gets 7 (Option.some Jvm.ClassFile.FieldType.int)) ({ frames := 259, cells := σ.2 3 - σ.2 0, slots := σ.2 4 - σ.2 1, locals := 6471 }) (CPc g A [.ref o, .int x1, .int x2] σ) (CQ g A (some (.int v)) σ1) (σ.2 3 - σ.2 0) (σ.2 4 - σ.2 1) A := by
  refine Met.ofW (cc := cX4_gets) (maxL := 7) (ret := (Option.some Jvm.ClassFile.FieldType.int)) (by decide) rfl ?_
  intro p e s m args below meth c s₁ B hml hv
  obtain ⟨rfl, hw, hσ⟩ := hv
  have hts := atoms_spec (ws := (ws_ yX4_gets cX4_gets 7 (Option.some Jvm.ClassFile.FieldType.int))) B.pre
  have C : CX p m meth c s ([.ref o, .int x1, .int x2] : List Value).toArray cX4_gets 7 (Option.some Jvm.ClassFile.FieldType.int) RX4 := ⟨⟨B.exec, B.bytes, hml, findClass_of_methodNamed B.named, fun w h => hts w (List.mem_cons_of_mem _ h)⟩, B.returns, B.notSynchronized⟩
  have e3 : σ.2 3 - σ.2 0 = g.2.2.1 3 - s.heap.size := by rw [hσ.1, hσ.2.2.2.1 3 (by decide)]
  have e4 : σ.2 4 - σ.2 1 = g.2.2.1 4 - hsl s.heap := by rw [hσ.2.1, hσ.2.2.2.1 4 (by decide)]
  have hR : RM g s (headSpec (ws_ yX4_gets cX4_gets 7 (Option.some Jvm.ClassFile.FieldType.int)) ({ frames := 259, cells := σ.2 3 - σ.2 0, slots := σ.2 4 - σ.2 1, locals := 6471 })).room (259) (6471) := ⟨⟨Nat.le_refl _, Nat.le_refl _⟩, Nat.le_of_eq e3.symm, Nat.le_of_eq e4.symm⟩
  generalize (headSpec (ws_ yX4_gets cX4_gets 7 (Option.some Jvm.ClassFile.FieldType.int)) ({ frames := 259, cells := σ.2 3 - σ.2 0, slots := σ.2 4 - σ.2 1, locals := 6471 })).room = R at hR ⊢
  rw [e3, e4]
  have hI : CI g A s σ s.heap [] := ⟨hσ, va_S.rf, Nat.le_refl _⟩
  have hl := lv_entry ([.ref o, .int x1, .int x2]) (n := 7) (Nat.le_of_ble_eq_true rfl)
  rw [lg_entry_eq]
  generalize (lg_sl ([.ref o, .int x1, .int x2]) ++ List.replicate (7 - (lg_sl ([.ref o, .int x1, .int x2])).length) Slot.unset).toArray = ls at hl ⊢
  have hl : lv_has ls 7 [(0, .ref o), (1, .int x1), (2, .int x2)] := hl
  obtain ⟨z, hz⟩ : ∃ z, z = (v, σ1) := ⟨_, rfl⟩
  rw [← hz] at h
  rw [show v = z.1 by rw [hz], show σ1 = z.2 by rw [hz]]
  clear hz v σ1
  refine W.narrow ?_
  unfold m_X4_gets at h
  refine r_aload_n (x := some o) C.x C.b dX4_gets_0 rfl (lv_at hl 0 rfl) ?_
  refine lv_iload_n C.x C.b dX4_gets_1 rfl (lv_at hl 1 rfl) ?_
  refine cw_callV (y := yX4_look) (bytes := cX4_look) (maxL := 2) (r := some o) (f := fun a_3 => m_X4_look a_3 x1 σ) 1 (fun v => some (va_rf v)) [.int x1] C hw hR hI hl.1 h (by decide) rfl (fun aa vv ss ee => k_X4_look l g A aa x1 σ vv ss ee) (cwV 1 C.t (lw_V q1222 q1223 q1224 q150 q1225) rfl rfl rfl (by decide +kernel) ⟨Nat.le_trans (Nat.le_of_ble_eq_true rfl) hR.f, Nat.le_trans (Nat.le_of_ble_eq_true rfl) hR.lo⟩) rfl rfl (Nat.le_of_ble_eq_true rfl) dX4_gets_2 (fun v_1 σ_2 H locs h hI => ?_)
  refine cw_gI (r := v_1) 3 4 C hw hI h (by decide) rfl in_X11 (by decide) (C.t _ q1249) (fun _ h9 => h9) dX4_gets_5 (fun v_4 h => ?_)
  refine lv_istore_n (i := 3) (lv' := [(3, .int v_4), (0, .ref o), (1, .int x1), (2, .int x2)]) C.x C.b dX4_gets_8 rfl hl (by decide) rfl (fun ls hl => ?_)
  refine lv_iload_n C.x C.b dX4_gets_9 rfl (lv_at hl 0 rfl) ?_
  refine lv_iconst (v := -1) C.x C.b dX4_gets_10 (by decide) ?_
  refine lv_icmp_ne (tgt := 16) C.x C.b dX4_gets_11 (by decide) (fun c_5 => ?_) (fun c_5 => ?_)
  · have h := iN c_5 h
    refine r_aload_n (x := some o) C.x C.b dX4_gets_16 rfl (lv_at hl 1 rfl) ?_
    refine cw_gR (r := some o) 1 4 C hw hI h (by decide) rfl in_X4 (by decide) (C.t _ q850) (fun _ h9 => h9) dX4_gets_17 (fun v_6 h => ?_)
    refine lv_iload_n C.x C.b dX4_gets_20 rfl (lv_at hl 0 rfl) ?_
    refine cw_callV (y := yJ18_get) (bytes := cJ18_get) (maxL := 2) (r := v_6) (f := fun a_9 => m_J18_get a_9 v_4 σ_2) 9 (fun v => some (va_rf v)) [.int v_4] C hw hR hI hl.1 h (by decide) rfl (fun aa vv ss ee => k_J18_get l g A aa v_4 σ_2 vv ss ee) (cwV 1 C.t (lw_V q1263 q1264 q1265 q152 q1266) rfl rfl rfl (by decide +kernel) ⟨Nat.le_trans (Nat.le_of_ble_eq_true rfl) hR.f, Nat.le_trans (Nat.le_of_ble_eq_true rfl) hR.lo⟩) rfl rfl (Nat.le_of_ble_eq_true rfl) dX4_gets_21 (fun v_7 σ_8 H locs h hI => ?_)
    refine cw_cast (r := v_7) 2 C hw hI h (by decide) rfl q1275 dX4_gets_24 (fun h => ?_)
    refine r_astore (i := 4) (x := v_7) (lv' := [(4, va_rf v_7), (3, .int v_4), (0, .ref o), (1, .int x1), (2, .int x2)]) C.x C.b dX4_gets_27 hl (by decide) (by rfl) (fun ls hl => ?_)
    refine lv_iload_n C.x C.b dX4_gets_29 rfl (lv_at hl 4 rfl) ?_
    refine r_aload_n (x := some o) C.x C.b dX4_gets_30 rfl (lv_at hl 2 rfl) ?_
    refine cw_gI (r := some o) 1 6 C hw hI h (by decide) rfl in_X4 (by decide) (C.t _ q854) (fun _ h9 => h9) dX4_gets_31 (fun v_10 h => ?_)
    refine lv_icmp_eq (tgt := 45) C.x C.b dX4_gets_34 (by decide) (fun c_11 => ?_) (fun c_11 => ?_)
    · have h := ip c_11 h
      refine r_aload_n (x := some o) C.x C.b dX4_gets_45 rfl (lv_at hl 2 rfl) ?_
      refine cw_gI (r := some o) 1 7 C hw hI h (by decide) rfl in_X4 (by decide) (C.t _ q856) (fun _ h9 => h9) dX4_gets_46 (fun v_12 h => ?_)
      refine lv_istore (i := 5) (lv' := [(5, .int v_12), (4, va_rf v_7), (3, .int v_4), (0, .ref o), (1, .int x1), (2, .int x2)]) C.x C.b dX4_gets_49 hl (by decide) (by first | (simp [List.filter, cat_rf, cat_i, cat_a, cat_n, cat_l, cat_f, cat_d]; done) | (simp [List.filter, cat_rf, cat_i, cat_a, cat_n, cat_l, cat_f, cat_d]; rfl)) (fun ls hl => ?_)
      refine lv_iconst (v := 0) C.x C.b dX4_gets_51 (by decide) ?_
      refine lv_istore (i := 6) (lv' := [(6, .int 0), (5, .int v_12), (4, va_rf v_7), (3, .int v_4), (0, .ref o), (1, .int x1), (2, .int x2)]) C.x C.b dX4_gets_52 hl (by decide) (by first | (simp [List.filter, cat_rf, cat_i, cat_a, cat_n, cat_l, cat_f, cat_d]; done) | (simp [List.filter, cat_rf, cat_i, cat_a, cat_n, cat_l, cat_f, cat_d]; rfl)) (fun ls hl => ?_)
      exact w_X4_gets_54 C hw hR _ v_7 v_12 0 _ _ _ _ h hI (lv_sub hl [4, 2, 1, 0] rfl)
    · have h := iN c_11 h
      refine r_aload_n (x := some o) C.x C.b dX4_gets_37 rfl (lv_at hl 2 rfl) ?_
      refine r_aload (x := v_7) C.x C.b dX4_gets_38 (lv_at hl 0 rfl) ?_
      refine lv_iload_n C.x C.b dX4_gets_40 rfl (lv_at hl 4 rfl) ?_
      refine cw_callV (y := yX4_partOf) (bytes := cX4_partOf) (maxL := 3) (r := some o) (f := fun a_15 => m_X4_partOf a_15 v_7 x2 σ_8) 1 (fun v => some (.int v)) [va_rf v_7, .int x2] C hw hR hI hl.1 h (by decide) rfl (fun aa vv ss ee => k_X4_partOf l g A aa v_7 x2 σ_8 vv ss ee) (cwV 2 C.t (lw_V q1425 q1427 qs32 q150 q1428) rfl rfl rfl (by decide +kernel) ⟨Nat.le_trans (Nat.le_of_ble_eq_true rfl) hR.f, Nat.le_trans (Nat.le_of_ble_eq_true rfl) hR.lo⟩) rfl rfl (Nat.le_of_ble_eq_true rfl) dX4_gets_41 (fun v_13 σ_14 H locs h hI => ?_)
      exact cw_iret C hI h dX4_gets_44
  · have h := ip c_5 h
    refine lv_iconst (v := 0) C.x C.b dX4_gets_14 (by decide) ?_
    exact cw_iret C hI h dX4_gets_15

theorem k_X4_duty (l : Launch) (g : cG) (A : Nat → Prop) (o : Nat) (x1 : Int32) (x2 : Int32) (σ : cS) (v : Int32) (σ1 : cS) (h : m_X4_duty o x1 x2 σ = some (v, σ1)) : Met l yX4_duty (ws_ yX4_duty cX4_duty 4 (Option.some Jvm.ClassFile.FieldType.int)) ({ frames := 260, cells := σ.2 3 - σ.2 0, slots := σ.2 4 - σ.2 1, locals := 6497 }) (CPc g A [.ref o, .int x1, .int x2] σ) (CQ g A (some (.int v)) σ1) (σ.2 3 - σ.2 0) (σ.2 4 - σ.2 1) A := by
  refine Met.ofW (cc := cX4_duty) (maxL := 4) (ret := (Option.some Jvm.ClassFile.FieldType.int)) (by decide) rfl ?_
  intro p e s m args below meth c s₁ B hml hv
  obtain ⟨rfl, hw, hσ⟩ := hv
  have hts := atoms_spec (ws := (ws_ yX4_duty cX4_duty 4 (Option.some Jvm.ClassFile.FieldType.int))) B.pre
  have C : CX p m meth c s ([.ref o, .int x1, .int x2] : List Value).toArray cX4_duty 4 (Option.some Jvm.ClassFile.FieldType.int) RX4 := ⟨⟨B.exec, B.bytes, hml, findClass_of_methodNamed B.named, fun w h => hts w (List.mem_cons_of_mem _ h)⟩, B.returns, B.notSynchronized⟩
  have e3 : σ.2 3 - σ.2 0 = g.2.2.1 3 - s.heap.size := by rw [hσ.1, hσ.2.2.2.1 3 (by decide)]
  have e4 : σ.2 4 - σ.2 1 = g.2.2.1 4 - hsl s.heap := by rw [hσ.2.1, hσ.2.2.2.1 4 (by decide)]
  have hR : RM g s (headSpec (ws_ yX4_duty cX4_duty 4 (Option.some Jvm.ClassFile.FieldType.int)) ({ frames := 260, cells := σ.2 3 - σ.2 0, slots := σ.2 4 - σ.2 1, locals := 6497 })).room (260) (6497) := ⟨⟨Nat.le_refl _, Nat.le_refl _⟩, Nat.le_of_eq e3.symm, Nat.le_of_eq e4.symm⟩
  generalize (headSpec (ws_ yX4_duty cX4_duty 4 (Option.some Jvm.ClassFile.FieldType.int)) ({ frames := 260, cells := σ.2 3 - σ.2 0, slots := σ.2 4 - σ.2 1, locals := 6497 })).room = R at hR ⊢
  rw [e3, e4]
  have hI : CI g A s σ s.heap [] := ⟨hσ, va_S.rf, Nat.le_refl _⟩
  have hl := lv_entry ([.ref o, .int x1, .int x2]) (n := 4) (Nat.le_of_ble_eq_true rfl)
  rw [lg_entry_eq]
  generalize (lg_sl ([.ref o, .int x1, .int x2]) ++ List.replicate (4 - (lg_sl ([.ref o, .int x1, .int x2])).length) Slot.unset).toArray = ls at hl ⊢
  have hl : lv_has ls 4 [(0, .ref o), (1, .int x1), (2, .int x2)] := hl
  obtain ⟨z, hz⟩ : ∃ z, z = (v, σ1) := ⟨_, rfl⟩
  rw [← hz] at h
  rw [show v = z.1 by rw [hz], show σ1 = z.2 by rw [hz]]
  clear hz v σ1
  refine W.narrow ?_
  unfold m_X4_duty at h
  refine r_aload_n (x := some o) C.x C.b dX4_duty_0 rfl (lv_at hl 0 rfl) ?_
  refine lv_iload_n C.x C.b dX4_duty_1 rfl (lv_at hl 1 rfl) ?_
  refine lv_iload_n C.x C.b dX4_duty_2 rfl (lv_at hl 2 rfl) ?_
  refine cw_callV (y := yX4_gets) (bytes := cX4_gets) (maxL := 7) (r := some o) (f := fun a_3 => m_X4_gets a_3 x1 x2 σ) 1 (fun v => some (.int v)) [.int x1, .int x2] C hw hR hI hl.1 h (by decide) rfl (fun aa vv ss ee => k_X4_gets l g A aa x1 x2 σ vv ss ee) (cwV 2 C.t (lw_V q1421 q1422 q1423 q150 q1424) rfl rfl rfl (by decide +kernel) ⟨Nat.le_trans (Nat.le_of_ble_eq_true rfl) hR.f, Nat.le_trans (Nat.le_of_ble_eq_true rfl) hR.lo⟩) rfl rfl (Nat.le_of_ble_eq_true rfl) dX4_duty_3 (fun v_1 σ_2 H locs h hI => ?_)
  refine r_aload_n (x := some o) C.x C.b dX4_duty_6 rfl (lv_at hl 0 rfl) ?_
  refine cw_gR (r := some o) 1 2 C hw hI h (by decide) rfl in_X4 (by decide) (C.t _ q844) (fun _ h9 => h9) dX4_duty_7 (fun v_4 h => ?_)
  refine lv_iload_n C.x C.b dX4_duty_10 rfl (lv_at hl 2 rfl) ?_
  refine cw_ild (r := v_4) C hw hI h dX4_duty_11 (fun v_5 h => ?_)
  refine lv_isub C.x C.b dX4_duty_12 ?_
  refine tw_lt h (fun x3_6 h => ?_)
  refine lv_istore_n (i := 3) (lv' := [(3, .int x3_6), (0, .ref o), (1, .int x1), (2, .int x2)]) C.x C.b dX4_duty_13 rfl hl (by decide) rfl (fun ls hl => ?_)
  refine lv_iload_n C.x C.b dX4_duty_14 rfl (lv_at hl 0 rfl) ?_
  refine lv_if_le (tgt := 32) C.x C.b dX4_duty_15 (by decide) (fun c_7 => ?_) (fun c_7 => ?_)
  · have h := ip c_7 h
    refine lv_iconst (v := 0) C.x C.b dX4_duty_32 (by decide) ?_
    exact cw_iret C hI h dX4_duty_33
  · have h := iN c_7 h
    refine lv_iload_n C.x C.b dX4_duty_18 rfl (lv_at hl 0 rfl) ?_
    refine r_aload_n (x := some o) C.x C.b dX4_duty_19 rfl (lv_at hl 1 rfl) ?_
    refine cw_gR (r := some o) 1 3 C hw hI h (by decide) rfl in_X4 (by decide) (C.t _ q847) (fun _ h9 => h9) dX4_duty_20 (fun v_8 h => ?_)
    refine lv_iload_n C.x C.b dX4_duty_23 rfl (lv_at hl 3 rfl) ?_
    refine cw_ild (r := v_8) C hw hI h dX4_duty_24 (fun v_9 h => ?_)
    refine lv_imul C.x C.b dX4_duty_25 ?_
    refine lv_bipush (v := 100) C.x C.b dX4_duty_26 (by decide) ?_
    refine lv_idiv C.x C.b dX4_duty_28 (by decide) ?_
    refine lv_goto (tgt := 33) C.x C.b dX4_duty_29 (by decide) ?_
    exact cw_iret C hI h dX4_duty_33

theorem w_X4_duties_4 {z : Int32 × cS} {o : Nat} (C : CX p m meth c s args cX4_duties 4 (Option.some Jvm.ClassFile.FieldType.int) RX4) (hw : WKc g A s s.heap) (hR : RM g s R (261) (6520))  : ∀ (n : Nat) (x1 : Int32) (x2 : Int32) (x3 : Int32) (σ : cS) (H : Heap) (locs : List Loc) (ls : Array Slot), b_X4_duties_4 o n x1 x2 x3 σ = some z → CI g A s σ H locs → lv_has ls 4 [(0, .ref o), (1, .int x1), (2, .int x2), (3, .int x3)] → W p l e R s m args below meth c H locs (H.size - s.heap.size) (hsl H - hsl s.heap) (MQ below (CQ g A (some (.int z.1)) z.2) args s (g.2.2.1 3 - s.heap.size) (g.2.2.1 4 - hsl s.heap) A) (F0 m 4 ls []) := by
  intro n
  induction n with
  | zero =>
    intro x1 x2 x3 σ H locs ls h
    cases h
  | succ n ih =>
    intro x1 x2 x3 σ H locs ls h hI hl
    rw [b_X4_duties_4] at h
    refine lv_iload_n C.x C.b dX4_duties_4 rfl (lv_at hl 3 rfl) ?_
    refine r_aload_n (x := some o) C.x C.b dX4_duties_5 rfl (lv_at hl 0 rfl) ?_
    refine cw_gI (r := some o) 1 1 C hw hI h (by decide) rfl in_X4 (by decide) (C.t _ q841) (fun _ h9 => h9) dX4_duties_6 (fun v_1 h => ?_)
    refine lv_icmp_ge (tgt := 27) C.x C.b dX4_duties_9 (by decide) (fun c_2 => ?_) (fun c_2 => ?_)
    · have h := ip c_2 h
      refine lv_iload_n C.x C.b dX4_duties_27 rfl (lv_at hl 2 rfl) ?_
      exact cw_iret C hI h dX4_duties_28
    · have h := iN c_2 h
      refine lv_iload_n C.x C.b dX4_duties_12 rfl (lv_at hl 2 rfl) ?_
      refine r_aload_n (x := some o) C.x C.b dX4_duties_13 rfl (lv_at hl 0 rfl) ?_
      refine lv_iload_n C.x C.b dX4_duties_14 rfl (lv_at hl 1 rfl) ?_
      refine lv_iload_n C.x C.b dX4_duties_15 rfl (lv_at hl 3 rfl) ?_
      refine cw_callV (y := yX4_duty) (bytes := cX4_duty) (maxL := 4) (r := some o) (f := fun a_5 => m_X4_duty a_5 x1 x3 σ) 1 (fun v => some (.int v)) [.int x1, .int x3] C hw hR hI hl.1 h (by decide) rfl (fun aa vv ss ee => k_X4_duty l g A aa x1 x3 σ vv ss ee) (cwV 2 C.t (lw_V q1417 q1418 q1419 q150 q1420) rfl rfl rfl (by decide +kernel) ⟨Nat.le_trans (Nat.le_of_ble_eq_true rfl) hR.f, Nat.le_trans (Nat.le_of_ble_eq_true rfl) hR.lo⟩) rfl rfl (Nat.le_of_ble_eq_true rfl) dX4_duties_16 (fun v_3 σ_4 H locs h hI => ?_)
      refine lv_iadd C.x C.b dX4_duties_19 ?_
      refine tw_lt h (fun x2_6 h => ?_)
      refine lv_istore_n (i := 2) (lv' := [(2, .int x2_6), (0, .ref o), (1, .int x1), (3, .int x3)]) C.x C.b dX4_duties_20 rfl hl (by decide) rfl (fun ls hl => ?_)
      obtain ⟨x3_7, e_, h⟩ := nm_s h
      refine lv_iinc (v := x3_7) (lv' := [(3, .int x3_7), (2, .int x2_6), (0, .ref o), (1, .int x1)]) C.x C.b dX4_duties_21 hl (k := 3) rfl e_.symm (by decide) rfl (fun ls hl => ?_)
      refine lv_goto (tgt := 4) C.x C.b dX4_duties_24 (by decide) ?_
      exact ih x1 x2_6 x3_7 _ _ _ _ h hI (lv_sub hl [2, 3, 1, 0] rfl)

theorem k_X4_duties (l : Launch) (g : cG) (A : Nat → Prop) (o : Nat) (x1 : Int32) (σ : cS) (v : Int32) (σ1 : cS) (h : m_X4_duties o x1 σ = some (v, σ1)) : Met l yX4_duties (ws_ yX4_duties cX4_duties 4 (Option.some Jvm.ClassFile.FieldType.int)) ({ frames := 261, cells := σ.2 3 - σ.2 0, slots := σ.2 4 - σ.2 1, locals := 6520 }) (CPc g A [.ref o, .int x1] σ) (CQ g A (some (.int v)) σ1) (σ.2 3 - σ.2 0) (σ.2 4 - σ.2 1) A := by
  refine Met.ofW (cc := cX4_duties) (maxL := 4) (ret := (Option.some Jvm.ClassFile.FieldType.int)) (by decide) rfl ?_
  intro p e s m args below meth c s₁ B hml hv
  obtain ⟨rfl, hw, hσ⟩ := hv
  have hts := atoms_spec (ws := (ws_ yX4_duties cX4_duties 4 (Option.some Jvm.ClassFile.FieldType.int))) B.pre
  have C : CX p m meth c s ([.ref o, .int x1] : List Value).toArray cX4_duties 4 (Option.some Jvm.ClassFile.FieldType.int) RX4 := ⟨⟨B.exec, B.bytes, hml, findClass_of_methodNamed B.named, fun w h => hts w (List.mem_cons_of_mem _ h)⟩, B.returns, B.notSynchronized⟩
  have e3 : σ.2 3 - σ.2 0 = g.2.2.1 3 - s.heap.size := by rw [hσ.1, hσ.2.2.2.1 3 (by decide)]
  have e4 : σ.2 4 - σ.2 1 = g.2.2.1 4 - hsl s.heap := by rw [hσ.2.1, hσ.2.2.2.1 4 (by decide)]
  have hR : RM g s (headSpec (ws_ yX4_duties cX4_duties 4 (Option.some Jvm.ClassFile.FieldType.int)) ({ frames := 261, cells := σ.2 3 - σ.2 0, slots := σ.2 4 - σ.2 1, locals := 6520 })).room (261) (6520) := ⟨⟨Nat.le_refl _, Nat.le_refl _⟩, Nat.le_of_eq e3.symm, Nat.le_of_eq e4.symm⟩
  generalize (headSpec (ws_ yX4_duties cX4_duties 4 (Option.some Jvm.ClassFile.FieldType.int)) ({ frames := 261, cells := σ.2 3 - σ.2 0, slots := σ.2 4 - σ.2 1, locals := 6520 })).room = R at hR ⊢
  rw [e3, e4]
  have hI : CI g A s σ s.heap [] := ⟨hσ, va_S.rf, Nat.le_refl _⟩
  have hl := lv_entry ([.ref o, .int x1]) (n := 4) (Nat.le_of_ble_eq_true rfl)
  rw [lg_entry_eq]
  generalize (lg_sl ([.ref o, .int x1]) ++ List.replicate (4 - (lg_sl ([.ref o, .int x1])).length) Slot.unset).toArray = ls at hl ⊢
  have hl : lv_has ls 4 [(0, .ref o), (1, .int x1)] := hl
  obtain ⟨z, hz⟩ : ∃ z, z = (v, σ1) := ⟨_, rfl⟩
  rw [← hz] at h
  rw [show v = z.1 by rw [hz], show σ1 = z.2 by rw [hz]]
  clear hz v σ1
  refine W.narrow ?_
  unfold m_X4_duties at h
  refine lv_iconst (v := 0) C.x C.b dX4_duties_0 (by decide) ?_
  refine lv_istore_n (i := 2) (lv' := [(2, .int 0), (0, .ref o), (1, .int x1)]) C.x C.b dX4_duties_1 rfl hl (by decide) rfl (fun ls hl => ?_)
  refine lv_iconst (v := 0) C.x C.b dX4_duties_2 (by decide) ?_
  refine lv_istore_n (i := 3) (lv' := [(3, .int 0), (2, .int 0), (0, .ref o), (1, .int x1)]) C.x C.b dX4_duties_3 rfl hl (by decide) rfl (fun ls hl => ?_)
  exact w_X4_duties_4 C hw hR _ x1 0 0 _ _ _ _ h hI (lv_sub hl [2, 3, 1, 0] rfl)

theorem w_X4_numberOf_10 {z : Int32 × cS} {o : Nat} (C : CX p m meth c s args cX4_numberOf 4 (Option.some Jvm.ClassFile.FieldType.int) RX4) (hw : WKc g A s s.heap) (hR : RM g s R (1) (40))  : ∀ (n : Nat) (x1 : Option Nat) (x2 : Int32) (x3 : Int32) (σ : cS) (H : Heap) (locs : List Loc) (ls : Array Slot), b_X4_numberOf_10 o n x1 x2 x3 σ = some z → CI g A s σ H locs → lv_has ls 4 [(0, .ref o), (1, va_rf x1), (2, .int x2), (3, .int x3)] → W p l e R s m args below meth c H locs (H.size - s.heap.size) (hsl H - hsl s.heap) (MQ below (CQ g A (some (.int z.1)) z.2) args s (g.2.2.1 3 - s.heap.size) (g.2.2.1 4 - hsl s.heap) A) (F0 m 10 ls []) := by
  intro n
  induction n with
  | zero =>
    intro x1 x2 x3 σ H locs ls h
    cases h
  | succ n ih =>
    intro x1 x2 x3 σ H locs ls h hI hl
    rw [b_X4_numberOf_10] at h
    refine lv_iload_n C.x C.b dX4_numberOf_10 rfl (lv_at hl 3 rfl) ?_
    refine lv_if_lt (tgt := 33) C.x C.b dX4_numberOf_11 (by decide) (fun c_1 => ?_) (fun c_1 => ?_)
    · have h := ip c_1 h
      refine lv_iload_n C.x C.b dX4_numberOf_33 rfl (lv_at hl 2 rfl) ?_
      exact cw_iret C hI h dX4_numberOf_34
    · have h := iN c_1 h
      refine lv_iload_n C.x C.b dX4_numberOf_14 rfl (lv_at hl 2 rfl) ?_
      refine r_aload_n (x := some o) C.x C.b dX4_numberOf_15 rfl (lv_at hl 0 rfl) ?_
      refine cw_gR (r := some o) 1 0 C hw hI h (by decide) rfl in_X4 (by decide) (C.t _ q838) (fun _ h9 => h9) dX4_numberOf_16 (fun v_2 h => ?_)
      refine lv_iload_n C.x C.b dX4_numberOf_19 rfl (lv_at hl 3 rfl) ?_
      refine cw_ild (r := v_2) C hw hI h dX4_numberOf_20 (fun v_3 h => ?_)
      refine lv_imul C.x C.b dX4_numberOf_21 ?_
      refine r_aload_n (x := x1) C.x C.b dX4_numberOf_22 rfl (lv_at hl 1 rfl) ?_
      refine lv_iload_n C.x C.b dX4_numberOf_23 rfl (lv_at hl 3 rfl) ?_
      refine cw_ild (r := x1) C hw hI h dX4_numberOf_24 (fun v_4 h => ?_)
      refine lv_iadd C.x C.b dX4_numberOf_25 ?_
      refine tw_lt h (fun x2_5 h => ?_)
      refine lv_istore_n (i := 2) (lv' := [(2, .int x2_5), (0, .ref o), (1, va_rf x1), (3, .int x3)]) C.x C.b dX4_numberOf_26 rfl hl (by decide) (by first | (simp [List.filter, cat_rf, cat_i, cat_a, cat_n, cat_l, cat_f, cat_d]; done) | (simp [List.filter, cat_rf, cat_i, cat_a, cat_n, cat_l, cat_f, cat_d]; rfl)) (fun ls hl => ?_)
      obtain ⟨x3_6, e_, h⟩ := nm_s h
      refine lv_iinc (v := x3_6) (lv' := [(3, .int x3_6), (2, .int x2_5), (0, .ref o), (1, va_rf x1)]) C.x C.b dX4_numberOf_27 hl (k := 3) rfl e_.symm (by decide) (by first | (simp [List.filter, cat_rf, cat_i, cat_a, cat_n, cat_l, cat_f, cat_d]; done) | (simp [List.filter, cat_rf, cat_i, cat_a, cat_n, cat_l, cat_f, cat_d]; rfl)) (fun ls hl => ?_)
      refine lv_goto (tgt := 10) C.x C.b dX4_numberOf_30 (by decide) ?_
      exact ih x1 x2_5 x3_6 _ _ _ _ h hI (lv_sub hl [2, 3, 1, 0] rfl)

theorem k_X4_numberOf (l : Launch) (g : cG) (A : Nat → Prop) (o : Nat) (x1 : Option Nat) (σ : cS) (v : Int32) (σ1 : cS) (h : m_X4_numberOf o x1 σ = some (v, σ1)) : Met l yX4_numberOf (ws_ yX4_numberOf cX4_numberOf 4 (Option.some Jvm.ClassFile.FieldType.int)) ({ frames := 1, cells := σ.2 3 - σ.2 0, slots := σ.2 4 - σ.2 1, locals := 40 }) (CPc g A [.ref o, va_rf x1] σ) (CQ g A (some (.int v)) σ1) (σ.2 3 - σ.2 0) (σ.2 4 - σ.2 1) A := by
  refine Met.ofW (cc := cX4_numberOf) (maxL := 4) (ret := (Option.some Jvm.ClassFile.FieldType.int)) (by decide) rfl ?_
  intro p e s m args below meth c s₁ B hml hv
  obtain ⟨rfl, hw, hσ⟩ := hv
  have hts := atoms_spec (ws := (ws_ yX4_numberOf cX4_numberOf 4 (Option.some Jvm.ClassFile.FieldType.int))) B.pre
  have C : CX p m meth c s ([.ref o, va_rf x1] : List Value).toArray cX4_numberOf 4 (Option.some Jvm.ClassFile.FieldType.int) RX4 := ⟨⟨B.exec, B.bytes, hml, findClass_of_methodNamed B.named, fun w h => hts w (List.mem_cons_of_mem _ h)⟩, B.returns, B.notSynchronized⟩
  have e3 : σ.2 3 - σ.2 0 = g.2.2.1 3 - s.heap.size := by rw [hσ.1, hσ.2.2.2.1 3 (by decide)]
  have e4 : σ.2 4 - σ.2 1 = g.2.2.1 4 - hsl s.heap := by rw [hσ.2.1, hσ.2.2.2.1 4 (by decide)]
  have hR : RM g s (headSpec (ws_ yX4_numberOf cX4_numberOf 4 (Option.some Jvm.ClassFile.FieldType.int)) ({ frames := 1, cells := σ.2 3 - σ.2 0, slots := σ.2 4 - σ.2 1, locals := 40 })).room (1) (40) := ⟨⟨Nat.le_refl _, Nat.le_refl _⟩, Nat.le_of_eq e3.symm, Nat.le_of_eq e4.symm⟩
  generalize (headSpec (ws_ yX4_numberOf cX4_numberOf 4 (Option.some Jvm.ClassFile.FieldType.int)) ({ frames := 1, cells := σ.2 3 - σ.2 0, slots := σ.2 4 - σ.2 1, locals := 40 })).room = R at hR ⊢
  rw [e3, e4]
  have hI : CI g A s σ s.heap [] := ⟨hσ, va_S.rf, Nat.le_refl _⟩
  have hlen : (lg_sl ([.ref o, va_rf x1])).length ≤ 4 := by rcases x1 with _ | x1 <;> exact Nat.le_of_ble_eq_true rfl
  have hl := lv_entry ([.ref o, va_rf x1]) (n := 4) hlen
  rw [lg_entry_eq]
  generalize (lg_sl ([.ref o, va_rf x1]) ++ List.replicate (4 - (lg_sl ([.ref o, va_rf x1])).length) Slot.unset).toArray = ls at hl ⊢
  have hl : lv_has ls 4 [(0, .ref o), (1, va_rf x1)] := by clear hI hw h hσ e3 e4 hR C hts B; rcases x1 with _ | x1 <;> exact hl
  obtain ⟨z, hz⟩ : ∃ z, z = (v, σ1) := ⟨_, rfl⟩
  rw [← hz] at h
  rw [show v = z.1 by rw [hz], show σ1 = z.2 by rw [hz]]
  clear hz v σ1
  refine W.narrow ?_
  unfold m_X4_numberOf at h
  refine lv_iconst (v := 0) C.x C.b dX4_numberOf_0 (by decide) ?_
  refine lv_istore_n (i := 2) (lv' := [(2, .int 0), (0, .ref o), (1, va_rf x1)]) C.x C.b dX4_numberOf_1 rfl hl (by decide) (by first | (simp [List.filter, cat_rf, cat_i, cat_a, cat_n, cat_l, cat_f, cat_d]; done) | (simp [List.filter, cat_rf, cat_i, cat_a, cat_n, cat_l, cat_f, cat_d]; rfl)) (fun ls hl => ?_)
  refine r_aload_n (x := some o) C.x C.b dX4_numberOf_2 rfl (lv_at hl 1 rfl) ?_
  refine cw_gR (r := some o) 1 0 C hw hI h (by decide) rfl in_X4 (by decide) (C.t _ q838) (fun _ h9 => h9) dX4_numberOf_3 (fun v_1 h => ?_)
  refine cw_aL (r := v_1) C hw hI h dX4_numberOf_6 (fun v_2 h => ?_)
  refine lv_iconst (v := 1) C.x C.b dX4_numberOf_7 (by decide) ?_
  refine lv_isub C.x C.b dX4_numberOf_8 ?_
  refine tw_lt h (fun x3_3 h => ?_)
  refine lv_istore_n (i := 3) (lv' := [(3, .int x3_3), (2, .int 0), (0, .ref o), (1, va_rf x1)]) C.x C.b dX4_numberOf_9 rfl hl (by decide) (by first | (simp [List.filter, cat_rf, cat_i, cat_a, cat_n, cat_l, cat_f, cat_d]; done) | (simp [List.filter, cat_rf, cat_i, cat_a, cat_n, cat_l, cat_f, cat_d]; rfl)) (fun ls hl => ?_)
  exact w_X4_numberOf_10 C hw hR _ x1 0 x3_3 _ _ _ _ h hI (lv_sub hl [2, 3, 1, 0] rfl)

end
