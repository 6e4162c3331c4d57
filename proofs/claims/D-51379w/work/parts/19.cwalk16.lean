/-! THE CLASS' WALKS 16: printed by gencl.py -/
section
variable {p : Program} {l : Launch} {e : Env} {R : Room} {s : State} {m : MethodId} {args : Array Value} {below : List Frame} {meth : Method} {c : Code} {g : cG} {A : Nat → Prop}
set_option maxRecDepth 100000
theorem k_X2_init (l : Launch) (g : cG) (A : Nat → Prop) (o : Nat) (x1 : Option Nat) (x2 : Int32) (σ : cS) (v : Int32) (σ1 : cS) (h : m_X2_init o x1 x2 σ = some (v, σ1)) : Met l yX2_init (ws_ yX2_init cX2_init 3 (Option.none : Option Jvm.ClassFile.FieldType)) ({ frames := 1, cells := σ.2 3 - σ.2 0, slots := σ.2 4 - σ.2 1, locals := 40 }) (CPc g A [.ref o, va_rf x1, .int x2] σ) (CQ g A (none) σ1) (σ.2 3 - σ.2 0) (σ.2 4 - σ.2 1) A := by
  refine Met.ofW (cc := cX2_init) (maxL := 3) (ret := (Option.none : Option Jvm.ClassFile.FieldType)) (by decide) rfl ?_
  intro p e s m args below meth c s₁ B hml hv
  obtain ⟨rfl, hw, hσ⟩ := hv
  have hts := atoms_spec (ws := (ws_ yX2_init cX2_init 3 (Option.none : Option Jvm.ClassFile.FieldType))) B.pre
  have C : CX p m meth c s ([.ref o, va_rf x1, .int x2] : List Value).toArray cX2_init 3 (Option.none : Option Jvm.ClassFile.FieldType) RX2 := ⟨⟨B.exec, B.bytes, hml, findClass_of_methodNamed B.named, fun w h => hts w (List.mem_cons_of_mem _ h)⟩, B.returns, B.notSynchronized⟩
  have hin : meth.name = "<init>" := (name_of_methodNamed B.named B.method).1
  have e3 : σ.2 3 - σ.2 0 = g.2.2.1 3 - s.heap.size := by rw [hσ.1, hσ.2.2.2.1 3 (by decide)]
  have e4 : σ.2 4 - σ.2 1 = g.2.2.1 4 - hsl s.heap := by rw [hσ.2.1, hσ.2.2.2.1 4 (by decide)]
  have hR : RM g s (headSpec (ws_ yX2_init cX2_init 3 (Option.none : Option Jvm.ClassFile.FieldType)) ({ frames := 1, cells := σ.2 3 - σ.2 0, slots := σ.2 4 - σ.2 1, locals := 40 })).room (1) (40) := ⟨⟨Nat.le_refl _, Nat.le_refl _⟩, Nat.le_of_eq e3.symm, Nat.le_of_eq e4.symm⟩
  generalize (headSpec (ws_ yX2_init cX2_init 3 (Option.none : Option Jvm.ClassFile.FieldType)) ({ frames := 1, cells := σ.2 3 - σ.2 0, slots := σ.2 4 - σ.2 1, locals := 40 })).room = R at hR ⊢
  rw [e3, e4]
  have hI : CI g A s σ s.heap [] := ⟨hσ, va_S.rf, Nat.le_refl _⟩
  have hlen : (lg_sl ([.ref o, va_rf x1, .int x2])).length ≤ 3 := by rcases x1 with _ | x1 <;> exact Nat.le_of_ble_eq_true rfl
  have hl := lv_entry ([.ref o, va_rf x1, .int x2]) (n := 3) hlen
  rw [lg_entry_eq]
  generalize (lg_sl ([.ref o, va_rf x1, .int x2]) ++ List.replicate (3 - (lg_sl ([.ref o, va_rf x1, .int x2])).length) Slot.unset).toArray = ls at hl ⊢
  have hl : lv_has ls 3 [(0, .ref o), (1, va_rf x1), (2, .int x2)] := by clear hI hw h hσ e3 e4 hR C hts B; rcases x1 with _ | x1 <;> exact hl
  obtain ⟨z, hz⟩ : ∃ z, z = (v, σ1) := ⟨_, rfl⟩
  rw [← hz] at h
  rw [show σ1 = z.2 by rw [hz]]
  clear hz v σ1
  refine W.narrow ?_
  unfold m_X2_init at h
  refine r_aload_n (x := some o) C.x C.b dX2_init_0 rfl (lv_at hl 0 rfl) ?_
  refine cw_obj C hR hl.1 q256 q173 q174 dX2_init_1 (by decide) (by decide) (Nat.le_of_ble_eq_true rfl) ?_
  refine r_aload_n (x := some o) C.x C.b dX2_init_4 rfl (lv_at hl 0 rfl) ?_
  refine cw_ldcS (tx := "") (k := 27) C hw hI (List.mem_of_getElem? (i := 12) rfl) (by decide) dX2_init_5 ?_
  refine cw_pO (r := some o) (v := (va_rf (some (σ.2 27)))) (ty := (.object "java/lang/String")) 8 6 C hw hI h (by decide) rfl in_X2 tyX2 tyX2_ok nmX2 (by decide) (C.t _ q264) (fun _ h9 => h9) (Or.inl rfl) (by decide +kernel) (nar_o _ _) (fits_o _ _) dX2_init_7 (fun σ_1 H locs h hI => ?_)
  refine r_aload_n (x := some o) C.x C.b dX2_init_10 rfl (lv_at hl 0 rfl) ?_
  refine r_aload_n (x := x1) C.x C.b dX2_init_11 rfl (lv_at hl 1 rfl) ?_
  refine cw_pO (r := some o) (v := (va_rf x1)) (ty := (.object "java/lang/CharSequence")) 8 0 C hw hI h (by decide) rfl in_X2 tyX2 tyX2_ok nmX2 (by decide) (C.t _ q258) (fun _ h9 => h9) (Or.inr ⟨rfl, rfl, hin⟩) (by decide +kernel) (nar_o _ _) (fits_o _ _) dX2_init_12 (fun σ_2 H locs h hI => ?_)
  refine r_aload_n (x := some o) C.x C.b dX2_init_15 rfl (lv_at hl 0 rfl) ?_
  refine lv_iload_n C.x C.b dX2_init_16 rfl (lv_at hl 2 rfl) ?_
  refine cw_pO (r := some o) (v := (.int x2)) (ty := .int) 8 1 C hw hI h (by decide) rfl in_X2 tyX2 tyX2_ok nmX2 (by decide) (C.t _ q259) (fun _ h9 => h9) (Or.inr ⟨rfl, rfl, hin⟩) (by decide +kernel) rfl rfl dX2_init_17 (fun σ_3 H locs h hI => ?_)
  exact cw_vret C hI h dX2_init_20

theorem k_X2_expect (l : Launch) (hl0 : l.stackTraces = false) (g : cG) (A : Nat → Prop) (o : Nat) (x1 : Option Nat) (σ : cS) (z : (cX (Int32)) × cS) (h : m_X2_expect o x1 σ = some z) : MetX l yX2_expect (ws_ yX2_expect cX2_expect 2 (Option.none : Option Jvm.ClassFile.FieldType)) ({ frames := 9, cells := σ.2 3 - σ.2 0, slots := σ.2 4 - σ.2 1, locals := 122 }) g A [.ref o, va_rf x1] σ (fun _ => none) z (σ.2 3 - σ.2 0) (σ.2 4 - σ.2 1) := by
  refine metx_of (cc := cX2_expect) (maxL := 2) (ret := (Option.none : Option Jvm.ClassFile.FieldType)) (by decide) rfl ?_
  intro p e s m args below meth c s₁ B hml hx hv
  obtain ⟨rfl, hw, hσ⟩ := hv
  have hts := atoms_spec (ws := (ws_ yX2_expect cX2_expect 2 (Option.none : Option Jvm.ClassFile.FieldType))) B.pre
  have C : CX p m meth c s ([.ref o, va_rf x1] : List Value).toArray cX2_expect 2 (Option.none : Option Jvm.ClassFile.FieldType) RX2 := ⟨⟨B.exec, B.bytes, hml, findClass_of_methodNamed B.named, fun w h => hts w (List.mem_cons_of_mem _ h)⟩, B.returns, B.notSynchronized⟩
  have e3 : σ.2 3 - σ.2 0 = g.2.2.1 3 - s.heap.size := by rw [hσ.1, hσ.2.2.2.1 3 (by decide)]
  have e4 : σ.2 4 - σ.2 1 = g.2.2.1 4 - hsl s.heap := by rw [hσ.2.1, hσ.2.2.2.1 4 (by decide)]
  have hR : RM g s (headSpec (ws_ yX2_expect cX2_expect 2 (Option.none : Option Jvm.ClassFile.FieldType)) ({ frames := 9, cells := σ.2 3 - σ.2 0, slots := σ.2 4 - σ.2 1, locals := 122 })).room (9) (122) := ⟨⟨Nat.le_refl _, Nat.le_refl _⟩, Nat.le_of_eq e3.symm, Nat.le_of_eq e4.symm⟩
  generalize (headSpec (ws_ yX2_expect cX2_expect 2 (Option.none : Option Jvm.ClassFile.FieldType)) ({ frames := 9, cells := σ.2 3 - σ.2 0, slots := σ.2 4 - σ.2 1, locals := 122 })).room = R at hR ⊢
  rw [e3, e4]
  have hI : CI g A s σ s.heap [] := ⟨hσ, va_S.rf, Nat.le_refl _⟩
  have hlen : (lg_sl ([.ref o, va_rf x1])).length ≤ 2 := by rcases x1 with _ | x1 <;> exact Nat.le_of_ble_eq_true rfl
  have hl := lv_entry ([.ref o, va_rf x1]) (n := 2) hlen
  rw [lg_entry_eq]
  generalize (lg_sl ([.ref o, va_rf x1]) ++ List.replicate (2 - (lg_sl ([.ref o, va_rf x1])).length) Slot.unset).toArray = ls at hl ⊢
  have hl : lv_has ls 2 [(0, .ref o), (1, va_rf x1)] := by clear hI hw h hσ e3 e4 hR C hts B; rcases x1 with _ | x1 <;> exact hl
  refine W.narrow ?_
  unfold m_X2_expect at h
  refine r_aload_n (x := some o) C.x C.b dX2_expect_0 rfl (lv_at hl 0 rfl) ?_
  refine cw_gR (r := some o) 8 5 C hw hI h (by decide) rfl in_X2 (by decide) (C.t _ q263) (fun _ h9 => h9) dX2_expect_1 (fun v_1 h => ?_)
  refine r_aload_n (x := x1) C.x C.b dX2_expect_4 rfl (lv_at hl 1 rfl) ?_
  refine lv_acmp_eq (rx := v_1) (ry := x1) (tgt := 21) C.x C.b dX2_expect_5 (by decide) (fun c_2 => ?_) (fun c_2 => ?_)
  · have h := ip c_2 h
    exact uq_l h (fun y h => cw_vret C hI h dX2_expect_21)
  · have h := iN c_2 h
    refine cw_newF C hw hI hR.2.1 hR.2.2 h q753 q754 q149 dX2_expect_8 (fun q_3 σ_4 H locs h hI => ?_)
    refine lv_dup C.x C.b dX2_expect_11 rfl ?_
    refine r_aload_n (x := some o) C.x C.b dX2_expect_12 rfl (lv_at hl 0 rfl) ?_
    refine cw_gI (r := some o) 8 4 C hw hI h (by decide) rfl in_X2 (by decide) (C.t _ q262) (fun _ h9 => h9) dX2_expect_13 (fun v_5 h => ?_)
    refine lv_iconst (v := 1) C.x C.b dX2_expect_16 (by decide) ?_
    refine cw_callI (y := yX3_init) (bytes := cX3_init) (maxL := 3) (b := q_3) [.int v_5, .int 1] C hw hR hI hl.1 h (fun vv ss ee => k_X3_init l hl0 g A q_3 v_5 1 σ_4 vv ss ee) (cwI 2 C.t (lw_meth q764) rfl rfl rfl (C.t _ q149) (C.t _ q762) (C.t _ q763) rfl (by decide +kernel) ⟨Nat.le_trans (Nat.le_of_ble_eq_true rfl) hR.f, Nat.le_trans (Nat.le_of_ble_eq_true rfl) hR.lo⟩) rfl rfl (Nat.le_of_ble_eq_true rfl) dX2_expect_17 (fun σ_6 _ H locs h hI => ?_)
    exact cx_athrow (r := some q_3) C hx hw hI h dX2_expect_20

theorem k_X2_within (l : Launch) (g : cG) (A : Nat → Prop) (o : Nat) (x1 : Int32) (x2 : Int32) (x3 : Int32) (σ : cS) (v : Int32) (σ1 : cS) (h : m_X2_within o x1 x2 x3 σ = some (v, σ1)) : Met l yX2_within (ws_ yX2_within cX2_within 4 (Option.some Jvm.ClassFile.FieldType.boolean)) ({ frames := 5, cells := σ.2 3 - σ.2 0, slots := σ.2 4 - σ.2 1, locals := 128 }) (CPc g A [.ref o, .int x1, .int x2, .int x3] σ) (CQ g A (some (.int v)) σ1) (σ.2 3 - σ.2 0) (σ.2 4 - σ.2 1) A := by
  refine Met.ofW (cc := cX2_within) (maxL := 4) (ret := (Option.some Jvm.ClassFile.FieldType.boolean)) (by decide) rfl ?_
  intro p e s m args below meth c s₁ B hml hv
  obtain ⟨rfl, hw, hσ⟩ := hv
  have hts := atoms_spec (ws := (ws_ yX2_within cX2_within 4 (Option.some Jvm.ClassFile.FieldType.boolean))) B.pre
  have C : CX p m meth c s ([.ref o, .int x1, .int x2, .int x3] : List Value).toArray cX2_within 4 (Option.some Jvm.ClassFile.FieldType.boolean) RX2 := ⟨⟨B.exec, B.bytes, hml, findClass_of_methodNamed B.named, fun w h => hts w (List.mem_cons_of_mem _ h)⟩, B.returns, B.notSynchronized⟩
  have e3 : σ.2 3 - σ.2 0 = g.2.2.1 3 - s.heap.size := by rw [hσ.1, hσ.2.2.2.1 3 (by decide)]
  have e4 : σ.2 4 - σ.2 1 = g.2.2.1 4 - hsl s.heap := by rw [hσ.2.1, hσ.2.2.2.1 4 (by decide)]
  have hR : RM g s (headSpec (ws_ yX2_within cX2_within 4 (Option.some Jvm.ClassFile.FieldType.boolean)) ({ frames := 5, cells := σ.2 3 - σ.2 0, slots := σ.2 4 - σ.2 1, locals := 128 })).room (5) (128) := ⟨⟨Nat.le_refl _, Nat.le_refl _⟩, Nat.le_of_eq e3.symm, Nat.le_of_eq e4.symm⟩
  generalize (headSpec (ws_ yX2_within cX2_within 4 (Option.some Jvm.ClassFile.FieldType.boolean)) ({ frames := 5, cells := σ.2 3 - σ.2 0, slots := σ.2 4 - σ.2 1, locals := 128 })).room = R at hR ⊢
  rw [e3, e4]
  have hI : CI g A s σ s.heap [] := ⟨hσ, va_S.rf, Nat.le_refl _⟩
  have hl := lv_entry ([.ref o, .int x1, .int x2, .int x3]) (n := 4) (Nat.le_of_ble_eq_true rfl)
  rw [lg_entry_eq]
  generalize (lg_sl ([.ref o, .int x1, .int x2, .int x3]) ++ List.replicate (4 - (lg_sl ([.ref o, .int x1, .int x2, .int x3])).length) Slot.unset).toArray = ls at hl ⊢
  have hl : lv_has ls 4 [(0, .ref o), (1, .int x1), (2, .int x2), (3, .int x3)] := hl
  obtain ⟨z, hz⟩ : ∃ z, z = (v, σ1) := ⟨_, rfl⟩
  rw [← hz] at h
  rw [show v = z.1 by rw [hz], show σ1 = z.2 by rw [hz]]
  clear hz v σ1
  refine W.narrow ?_
  unfold m_X2_within at h
  refine lv_iload_n C.x C.b dX2_within_0 rfl (lv_at hl 1 rfl) ?_
  refine r_aload_n (x := some o) C.x C.b dX2_within_1 rfl (lv_at hl 0 rfl) ?_
  refine cw_gI (r := some o) 8 1 C hw hI h (by decide) rfl in_X2 (by decide) (C.t _ q259) (fun _ h9 => h9) dX2_within_2 (fun v_1 h => ?_)
  refine lv_icmp_ge (tgt := 40) C.x C.b dX2_within_5 (by decide) (fun c_2 => ?_) (fun c_2 => ?_)
  · have h := ip c_2 h
    refine lv_iconst (v := 0) C.x C.b dX2_within_40 (by decide) ?_
    exact cw_zret C hI h dX2_within_41
  · have h := iN c_2 h
    refine r_aload_n (x := some o) C.x C.b dX2_within_8 rfl (lv_at hl 0 rfl) ?_
    refine cw_gR (r := some o) 8 0 C hw hI h (by decide) rfl in_X2 (by decide) (C.t _ q258) (fun _ h9 => h9) dX2_within_9 (fun v_3 h => ?_)
    refine lv_iload_n C.x C.b dX2_within_12 rfl (lv_at hl 1 rfl) ?_
    refine cw_callF (x := ⟨"java/lang/CharSequence", "charAt", "(I)C"⟩) (r := v_3) (f := fun a_6 => dsp σ [(12, m_J4_charAt a_6 x1 σ), (11, m_J3_charAt a_6 x1 σ)] a_6) (fun v => some (.int v)) [.int x1] C hw hR hI hl.1 h (fun aa vv ss ee => dsp_c ee (fun o1 e1 => ⟨12, o1, _, yJ4_charAt, cJ4_charAt, 2, (Option.some Jvm.ClassFile.FieldType.char), _, _, by decide, rfl, k_J4_charAt l g A aa x1 σ vv ss e1, Or.inl (va_cwF 1 C.t (lw_app (mem4 q298 q302 q304 q131) (lw_meth q306)) rfl rfl rfl (hw.2.2.2.2.2.2.2.2.2.1 _ (List.mem_of_getElem? (i := 0) rfl)) (by decide +kernel) ⟨Nat.le_trans (Nat.le_of_ble_eq_true rfl) hR.f, Nat.le_trans (Nat.le_of_ble_eq_true rfl) hR.lo⟩)⟩) (fun ee => dsp_c ee (fun o1 e1 => ⟨11, o1, _, yJ3_charAt, cJ3_charAt, 2, (Option.some Jvm.ClassFile.FieldType.char), _, _, by decide, rfl, k_J3_charAt l g A aa x1 σ vv ss e1, Or.inl (va_cwF 1 C.t (lw_app (mem4 q298 q342 q344 q130) (lw_meth q346)) rfl rfl rfl (hw.2.2.2.2.2.2.2.2.2.1 _ (List.mem_of_getElem? (i := 1) rfl)) (by decide +kernel) ⟨Nat.le_trans (Nat.le_of_ble_eq_true rfl) hR.f, Nat.le_trans (Nat.le_of_ble_eq_true rfl) hR.lo⟩)⟩) (fun ee => dsp_n ee))) rfl rfl (Nat.le_of_ble_eq_true rfl) dX2_within_13 (fun v_4 σ_5 H locs h hI => ?_)
    refine lv_iload_n C.x C.b dX2_within_18 rfl (lv_at hl 2 rfl) ?_
    refine lv_icmp_lt (tgt := 40) C.x C.b dX2_within_19 (by decide) (fun c_7 => ?_) (fun c_7 => ?_)
    · have h := ip c_7 h
      refine lv_iconst (v := 0) C.x C.b dX2_within_40 (by decide) ?_
      exact cw_zret C hI h dX2_within_41
    · have h := iN c_7 h
      refine r_aload_n (x := some o) C.x C.b dX2_within_22 rfl (lv_at hl 0 rfl) ?_
      refine cw_gR (r := some o) 8 0 C hw hI h (by decide) rfl in_X2 (by decide) (C.t _ q258) (fun _ h9 => h9) dX2_within_23 (fun v_8 h => ?_)
      refine lv_iload_n C.x C.b dX2_within_26 rfl (lv_at hl 1 rfl) ?_
      refine cw_callF (x := ⟨"java/lang/CharSequence", "charAt", "(I)C"⟩) (r := v_8) (f := fun a_11 => dsp σ_5 [(12, m_J4_charAt a_11 x1 σ_5), (11, m_J3_charAt a_11 x1 σ_5)] a_11) (fun v => some (.int v)) [.int x1] C hw hR hI hl.1 h (fun aa vv ss ee => dsp_c ee (fun o1 e1 => ⟨12, o1, _, yJ4_charAt, cJ4_charAt, 2, (Option.some Jvm.ClassFile.FieldType.char), _, _, by decide, rfl, k_J4_charAt l g A aa x1 σ_5 vv ss e1, Or.inl (va_cwF 1 C.t (lw_app (mem4 q298 q302 q304 q131) (lw_meth q306)) rfl rfl rfl (hw.2.2.2.2.2.2.2.2.2.1 _ (List.mem_of_getElem? (i := 0) rfl)) (by decide +kernel) ⟨Nat.le_trans (Nat.le_of_ble_eq_true rfl) hR.f, Nat.le_trans (Nat.le_of_ble_eq_true rfl) hR.lo⟩)⟩) (fun ee => dsp_c ee (fun o1 e1 => ⟨11, o1, _, yJ3_charAt, cJ3_charAt, 2, (Option.some Jvm.ClassFile.FieldType.char), _, _, by decide, rfl, k_J3_charAt l g A aa x1 σ_5 vv ss e1, Or.inl (va_cwF 1 C.t (lw_app (mem4 q298 q342 q344 q130) (lw_meth q346)) rfl rfl rfl (hw.2.2.2.2.2.2.2.2.2.1 _ (List.mem_of_getElem? (i := 1) rfl)) (by decide +kernel) ⟨Nat.le_trans (Nat.le_of_ble_eq_true rfl) hR.f, Nat.le_trans (Nat.le_of_ble_eq_true rfl) hR.lo⟩)⟩) (fun ee => dsp_n ee))) rfl rfl (Nat.le_of_ble_eq_true rfl) dX2_within_27 (fun v_9 σ_10 H locs h hI => ?_)
      refine lv_iload_n C.x C.b dX2_within_32 rfl (lv_at hl 3 rfl) ?_
      refine lv_icmp_gt (tgt := 40) C.x C.b dX2_within_33 (by decide) (fun c_12 => ?_) (fun c_12 => ?_)
      · have h := ip c_12 h
        refine lv_iconst (v := 0) C.x C.b dX2_within_40 (by decide) ?_
        exact cw_zret C hI h dX2_within_41
      · have h := iN c_12 h
        refine lv_iconst (v := 1) C.x C.b dX2_within_36 (by decide) ?_
        refine lv_goto (tgt := 41) C.x C.b dX2_within_37 (by decide) ?_
        exact cw_zret C hI h dX2_within_41

theorem w_X2_next_47 {z : Int32 × cS} {o : Nat} (C : CX p m meth c s args cX2_next 1 (Option.none : Option Jvm.ClassFile.FieldType) RX2) (hw : WKc g A s s.heap) (hR : RM g s R (9) (217)) {k0 : cS → Option (Int32 × cS)} (hk0 : ∀ (σ : cS) (H : Heap) (locs : List Loc) (ls : Array Slot), k0 σ = some z → CI g A s σ H locs → lv_has ls 1 [(0, .ref o)] → W p l e R s m args below meth c H locs (H.size - s.heap.size) (hsl H - hsl s.heap) (MQ below (CQ g A (none) z.2) args s (g.2.2.1 3 - s.heap.size) (g.2.2.1 4 - hsl s.heap) A) (F0 m 0 ls [])) : ∀ (σ : cS) (H : Heap) (locs : List Loc) (ls : Array Slot), b_X2_next_47 o k0 σ = some z → CI g A s σ H locs → lv_has ls 1 [(0, .ref o)] → W p l e R s m args below meth c H locs (H.size - s.heap.size) (hsl H - hsl s.heap) (MQ below (CQ g A (none) z.2) args s (g.2.2.1 3 - s.heap.size) (g.2.2.1 4 - hsl s.heap) A) (F0 m 47 ls []) := by
  intro σ H locs ls h hI hl
  unfold b_X2_next_47 at h
  refine r_aload_n (x := some o) C.x C.b dX2_next_47 rfl (lv_at hl 0 rfl) ?_
  refine lv_dup C.x C.b dX2_next_48 rfl ?_
  refine cw_gI (r := some o) 8 3 C hw hI h (by decide) rfl in_X2 (by decide) (C.t _ q261) (fun _ h9 => h9) dX2_next_49 (fun v_1 h => ?_)
  refine lv_iconst (v := 1) C.x C.b dX2_next_52 (by decide) ?_
  refine lv_iadd C.x C.b dX2_next_53 ?_
  refine cw_pO (r := some o) (v := (.int (v_1 + 1))) (ty := .int) 8 3 C hw hI h (by decide) rfl in_X2 tyX2 tyX2_ok nmX2 (by decide) (C.t _ q261) (fun _ h9 => h9) (Or.inl rfl) (by decide +kernel) rfl rfl dX2_next_54 (fun σ_2 H locs h hI => ?_)
  refine lv_goto (tgt := 0) C.x C.b dX2_next_57 (by decide) ?_
  exact hk0 _ _ _ _ h hI (lv_sub hl [0] rfl)

theorem w_X2_next_104 {z : Int32 × cS} {o : Nat} (C : CX p m meth c s args cX2_next 1 (Option.none : Option Jvm.ClassFile.FieldType) RX2) (hw : WKc g A s s.heap) (hR : RM g s R (9) (217))  : ∀ (n : Nat) (σ : cS) (H : Heap) (locs : List Loc) (ls : Array Slot), b_X2_next_104 o n σ = some z → CI g A s σ H locs → lv_has ls 1 [(0, .ref o)] → W p l e R s m args below meth c H locs (H.size - s.heap.size) (hsl H - hsl s.heap) (MQ below (CQ g A (none) z.2) args s (g.2.2.1 3 - s.heap.size) (g.2.2.1 4 - hsl s.heap) A) (F0 m 104 ls []) := by
  intro n
  induction n with
  | zero =>
    intro σ H locs ls h
    cases h
  | succ n ih =>
    intro σ H locs ls h hI hl
    rw [b_X2_next_104] at h
    refine r_aload_n (x := some o) C.x C.b dX2_next_104 rfl (lv_at hl 0 rfl) ?_
    refine r_aload_n (x := some o) C.x C.b dX2_next_105 rfl (lv_at hl 0 rfl) ?_
    refine cw_gI (r := some o) 8 3 C hw hI h (by decide) rfl in_X2 (by decide) (C.t _ q261) (fun _ h9 => h9) dX2_next_106 (fun v_1 h => ?_)
    refine lv_bipush (v := 97) C.x C.b dX2_next_109 (by decide) ?_
    refine lv_bipush (v := 122) C.x C.b dX2_next_111 (by decide) ?_
    refine cw_callV (y := yX2_within) (bytes := cX2_within) (maxL := 4) (r := some o) (f := fun a_4 => m_X2_within a_4 v_1 97 122 σ) 8 (fun v => some (.int v)) [.int v_1, .int 97, .int 122] C hw hR hI hl.1 h (by decide) rfl (fun aa vv ss ee => k_X2_within l g A aa v_1 97 122 σ vv ss ee) (cwV 3 C.t (lw_V q357 q359 qs2 q133 q360) rfl rfl rfl (by decide +kernel) ⟨Nat.le_trans (Nat.le_of_ble_eq_true rfl) hR.f, Nat.le_trans (Nat.le_of_ble_eq_true rfl) hR.lo⟩) rfl rfl (Nat.le_of_ble_eq_true rfl) dX2_next_113 (fun v_2 σ_3 H locs h hI => ?_)
    refine lv_if_eq (tgt := 132) C.x C.b dX2_next_116 (by decide) (fun c_5 => ?_) (fun c_5 => ?_)
    · have h := ip c_5 h
      refine r_aload_n (x := some o) C.x C.b dX2_next_132 rfl (lv_at hl 0 rfl) ?_
      refine r_aload_n (x := some o) C.x C.b dX2_next_133 rfl (lv_at hl 0 rfl) ?_
      refine cw_gR (r := some o) 8 0 C hw hI h (by decide) rfl in_X2 (by decide) (C.t _ q258) (fun _ h9 => h9) dX2_next_134 (fun v_6 h => ?_)
      refine r_aload_n (x := some o) C.x C.b dX2_next_137 rfl (lv_at hl 0 rfl) ?_
      refine cw_gI (r := some o) 8 4 C hw hI h (by decide) rfl in_X2 (by decide) (C.t _ q262) (fun _ h9 => h9) dX2_next_138 (fun v_7 h => ?_)
      refine r_aload_n (x := some o) C.x C.b dX2_next_141 rfl (lv_at hl 0 rfl) ?_
      refine cw_gI (r := some o) 8 3 C hw hI h (by decide) rfl in_X2 (by decide) (C.t _ q261) (fun _ h9 => h9) dX2_next_142 (fun v_8 h => ?_)
      refine cw_callF (x := ⟨"java/lang/CharSequence", "subSequence", "(II)Ljava/lang/CharSequence;"⟩) (r := v_6) (f := fun a_11 => dsp σ_3 [(12, m_J4_subSequence a_11 v_7 v_8 σ_3), (11, m_J3_subSequence a_11 v_7 v_8 σ_3)] a_11) (fun v => some (va_rf v)) [.int v_7, .int v_8] C hw hR hI hl.1 h (fun aa vv ss ee => dsp_c ee (fun o1 e1 => ⟨12, o1, _, yJ4_subSequence, cJ4_subSequence, 3, (Option.some (Jvm.ClassFile.FieldType.object "java/lang/CharSequence")), _, _, by decide, rfl, k_J4_subSequence l g A aa v_7 v_8 σ_3 vv ss e1, Or.inl (va_cwF 2 C.t (lw_app (mem4 q362 q365 q367 q131) (lw_meth q369)) rfl rfl rfl (hw.2.2.2.2.2.2.2.2.2.1 _ (List.mem_of_getElem? (i := 2) rfl)) (by decide +kernel) ⟨Nat.le_trans (Nat.le_of_ble_eq_true rfl) hR.f, Nat.le_trans (Nat.le_of_ble_eq_true rfl) hR.lo⟩)⟩) (fun ee => dsp_c ee (fun o1 e1 => ⟨11, o1, _, yJ3_subSequence, cJ3_subSequence, 3, (Option.some (Jvm.ClassFile.FieldType.object "java/lang/CharSequence")), _, _, by decide, rfl, k_J3_subSequence l g A aa v_7 v_8 σ_3 vv ss e1, Or.inl (va_cwF 2 C.t (lw_app (mem4 q362 q650 q652 q130) (lw_meth q654)) rfl rfl rfl (hw.2.2.2.2.2.2.2.2.2.1 _ (List.mem_of_getElem? (i := 3) rfl)) (by decide +kernel) ⟨Nat.le_trans (Nat.le_of_ble_eq_true rfl) hR.f, Nat.le_trans (Nat.le_of_ble_eq_true rfl) hR.lo⟩)⟩) (fun ee => dsp_n ee))) rfl rfl (Nat.le_of_ble_eq_true rfl) dX2_next_145 (fun v_9 σ_10 H locs h hI => ?_)
      refine cw_callF (x := ⟨"java/lang/CharSequence", "toString", "()Ljava/lang/String;"⟩) (r := v_9) (f := fun a_14 => dsp σ_10 [(12, m_J4_toString a_14 σ_10)] a_14) (fun v => some (va_rf v)) [] C hw hR hI hl.1 h (fun aa vv ss ee => dsp_c ee (fun o1 e1 => ⟨12, o1, _, yJ4_toString, cJ4_toString, 1, (Option.some (Jvm.ClassFile.FieldType.object "java/lang/String")), _, _, by decide, rfl, k_J4_toString l g A aa σ_10 vv ss e1, Or.inl (va_cwF 0 C.t (lw_app (mem4 q671 q674 q676 q131) (lw_meth q678)) rfl rfl rfl (hw.2.2.2.2.2.2.2.2.2.1 _ (List.mem_of_getElem? (i := 4) rfl)) (by decide +kernel) ⟨Nat.le_trans (Nat.le_of_ble_eq_true rfl) hR.f, Nat.le_trans (Nat.le_of_ble_eq_true rfl) hR.lo⟩)⟩) (fun ee => dsp_n ee)) rfl rfl (Nat.le_of_ble_eq_true rfl) dX2_next_150 (fun v_12 σ_13 H locs h hI => ?_)
      refine cw_pO (r := some o) (v := (va_rf v_12)) (ty := (.object "java/lang/String")) 8 6 C hw hI h (by decide) rfl in_X2 tyX2 tyX2_ok nmX2 (by decide) (C.t _ q264) (fun _ h9 => h9) (Or.inl rfl) (by decide +kernel) (nar_o _ _) (fits_o _ _) dX2_next_155 (fun σ_15 H locs h hI => ?_)
      refine r_aload_n (x := some o) C.x C.b dX2_next_158 rfl (lv_at hl 0 rfl) ?_
      refine cw_gst (Cn := "HeirCases$Token") (n := "WORD") (d := "LHeirCases$Token;") (k := 12) C hw hI (List.mem_of_getElem? (i := 2) rfl) (by decide) q682 rfl dX2_next_159 ?_
      refine cw_pO (r := some o) (v := (va_rf (some (σ_15.2 12)))) (ty := (.object "HeirCases$Token")) 8 5 C hw hI h (by decide) rfl in_X2 tyX2 tyX2_ok nmX2 (by decide) (C.t _ q263) (fun _ h9 => h9) (Or.inl rfl) (by decide +kernel) (nar_o _ _) (fits_o _ _) dX2_next_162 (fun σ_16 H locs h hI => ?_)
      refine lv_goto (tgt := 337) C.x C.b dX2_next_165 (by decide) ?_
      exact cw_vret C hI h dX2_next_337
    · have h := iN c_5 h
      refine r_aload_n (x := some o) C.x C.b dX2_next_119 rfl (lv_at hl 0 rfl) ?_
      refine lv_dup C.x C.b dX2_next_120 rfl ?_
      refine cw_gI (r := some o) 8 3 C hw hI h (by decide) rfl in_X2 (by decide) (C.t _ q261) (fun _ h9 => h9) dX2_next_121 (fun v_17 h => ?_)
      refine lv_iconst (v := 1) C.x C.b dX2_next_124 (by decide) ?_
      refine lv_iadd C.x C.b dX2_next_125 ?_
      refine cw_pO (r := some o) (v := (.int (v_17 + 1))) (ty := .int) 8 3 C hw hI h (by decide) rfl in_X2 tyX2 tyX2_ok nmX2 (by decide) (C.t _ q261) (fun _ h9 => h9) (Or.inl rfl) (by decide +kernel) rfl rfl dX2_next_126 (fun σ_18 H locs h hI => ?_)
      refine lv_goto (tgt := 104) C.x C.b dX2_next_129 (by decide) ?_
      exact ih _ _ _ _ h hI (lv_sub hl [0] rfl)

theorem w_X2_next_248 {z : Int32 × cS} {o : Nat} (C : CX p m meth c s args cX2_next 1 (Option.none : Option Jvm.ClassFile.FieldType) RX2) (hw : WKc g A s s.heap) (hR : RM g s R (9) (217)) {k188 : cS → Option (Int32 × cS)} (hk188 : ∀ (σ : cS) (H : Heap) (locs : List Loc) (ls : Array Slot), k188 σ = some z → CI g A s σ H locs → lv_has ls 1 [(0, .ref o)] → W p l e R s m args below meth c H locs (H.size - s.heap.size) (hsl H - hsl s.heap) (MQ below (CQ g A (none) z.2) args s (g.2.2.1 3 - s.heap.size) (g.2.2.1 4 - hsl s.heap) A) (F0 m 188 ls [])) : ∀ (s0 : Option Nat) (s1 : Int32) (σ : cS) (H : Heap) (locs : List Loc) (ls : Array Slot), b_X2_next_248 o k188 s0 s1 σ = some z → CI g A s σ H locs → lv_has ls 1 [(0, .ref o)] → W p l e R s m args below meth c H locs (H.size - s.heap.size) (hsl H - hsl s.heap) (MQ below (CQ g A (none) z.2) args s (g.2.2.1 3 - s.heap.size) (g.2.2.1 4 - hsl s.heap) A) (F0 m 248 ls [.int s1, va_rf s0]) := by
  intro s0 s1 σ H locs ls h hI hl
  unfold b_X2_next_248 at h
  refine cw_pO (r := s0) (v := (.int s1)) (ty := .int) 8 7 C hw hI h (by decide) rfl in_X2 tyX2 tyX2_ok nmX2 (by decide) (C.t _ q265) (fun _ h9 => h9) (Or.inl rfl) (by decide +kernel) rfl rfl dX2_next_248 (fun σ_1 H locs h hI => ?_)
  refine r_aload_n (x := some o) C.x C.b dX2_next_251 rfl (lv_at hl 0 rfl) ?_
  refine lv_dup C.x C.b dX2_next_252 rfl ?_
  refine cw_gI (r := some o) 8 3 C hw hI h (by decide) rfl in_X2 (by decide) (C.t _ q261) (fun _ h9 => h9) dX2_next_253 (fun v_2 h => ?_)
  refine lv_iconst (v := 1) C.x C.b dX2_next_256 (by decide) ?_
  refine lv_iadd C.x C.b dX2_next_257 ?_
  refine cw_pO (r := some o) (v := (.int (v_2 + 1))) (ty := .int) 8 3 C hw hI h (by decide) rfl in_X2 tyX2 tyX2_ok nmX2 (by decide) (C.t _ q261) (fun _ h9 => h9) (Or.inl rfl) (by decide +kernel) rfl rfl dX2_next_258 (fun σ_3 H locs h hI => ?_)
  refine lv_goto (tgt := 188) C.x C.b dX2_next_261 (by decide) ?_
  exact hk188 _ _ _ _ h hI (lv_sub hl [0] rfl)

theorem w_X2_next_287 {z : Int32 × cS} {o : Nat} (C : CX p m meth c s args cX2_next 1 (Option.none : Option Jvm.ClassFile.FieldType) RX2) (hw : WKc g A s s.heap) (hR : RM g s R (9) (217))  : ∀ (s0 : Option Nat) (s1 : Option Nat) (σ : cS) (H : Heap) (locs : List Loc) (ls : Array Slot), b_X2_next_287 o s0 s1 σ = some z → CI g A s σ H locs → lv_has ls 1 [(0, .ref o)] → W p l e R s m args below meth c H locs (H.size - s.heap.size) (hsl H - hsl s.heap) (MQ below (CQ g A (none) z.2) args s (g.2.2.1 3 - s.heap.size) (g.2.2.1 4 - hsl s.heap) A) (F0 m 287 ls [va_rf s1, va_rf s0]) := by
  intro s0 s1 σ H locs ls h hI hl
  unfold b_X2_next_287 at h
  refine cw_pO (r := s0) (v := (va_rf s1)) (ty := (.object "HeirCases$Token")) 8 5 C hw hI h (by decide) rfl in_X2 tyX2 tyX2_ok nmX2 (by decide) (C.t _ q263) (fun _ h9 => h9) (Or.inl rfl) (by decide +kernel) (nar_o _ _) (fits_o _ _) dX2_next_287 (fun σ_1 H locs h hI => ?_)
  refine lv_goto (tgt := 337) C.x C.b dX2_next_290 (by decide) ?_
  exact cw_vret C hI h dX2_next_337

theorem w_X2_next_188 {z : Int32 × cS} {o : Nat} (C : CX p m meth c s args cX2_next 1 (Option.none : Option Jvm.ClassFile.FieldType) RX2) (hw : WKc g A s s.heap) (hR : RM g s R (9) (217))  : ∀ (n : Nat) (σ : cS) (H : Heap) (locs : List Loc) (ls : Array Slot), b_X2_next_188 o n σ = some z → CI g A s σ H locs → lv_has ls 1 [(0, .ref o)] → W p l e R s m args below meth c H locs (H.size - s.heap.size) (hsl H - hsl s.heap) (MQ below (CQ g A (none) z.2) args s (g.2.2.1 3 - s.heap.size) (g.2.2.1 4 - hsl s.heap) A) (F0 m 188 ls []) := by
  intro n
  induction n with
  | zero =>
    intro σ H locs ls h
    cases h
  | succ n ih =>
    intro σ H locs ls h hI hl
    rw [b_X2_next_188] at h
    refine r_aload_n (x := some o) C.x C.b dX2_next_188 rfl (lv_at hl 0 rfl) ?_
    refine r_aload_n (x := some o) C.x C.b dX2_next_189 rfl (lv_at hl 0 rfl) ?_
    refine cw_gI (r := some o) 8 3 C hw hI h (by decide) rfl in_X2 (by decide) (C.t _ q261) (fun _ h9 => h9) dX2_next_190 (fun v_1 h => ?_)
    refine lv_bipush (v := 48) C.x C.b dX2_next_193 (by decide) ?_
    refine lv_bipush (v := 57) C.x C.b dX2_next_195 (by decide) ?_
    refine cw_callV (y := yX2_within) (bytes := cX2_within) (maxL := 4) (r := some o) (f := fun a_4 => m_X2_within a_4 v_1 48 57 σ) 8 (fun v => some (.int v)) [.int v_1, .int 48, .int 57] C hw hR hI hl.1 h (by decide) rfl (fun aa vv ss ee => k_X2_within l g A aa v_1 48 57 σ vv ss ee) (cwV 3 C.t (lw_V q357 q359 qs2 q133 q360) rfl rfl rfl (by decide +kernel) ⟨Nat.le_trans (Nat.le_of_ble_eq_true rfl) hR.f, Nat.le_trans (Nat.le_of_ble_eq_true rfl) hR.lo⟩) rfl rfl (Nat.le_of_ble_eq_true rfl) dX2_next_197 (fun v_2 σ_3 H locs h hI => ?_)
    refine lv_if_eq (tgt := 264) C.x C.b dX2_next_200 (by decide) (fun c_5 => ?_) (fun c_5 => ?_)
    · have h := ip c_5 h
      refine r_aload_n (x := some o) C.x C.b dX2_next_264 rfl (lv_at hl 0 rfl) ?_
      refine r_aload_n (x := some o) C.x C.b dX2_next_265 rfl (lv_at hl 0 rfl) ?_
      refine cw_gI (r := some o) 8 3 C hw hI h (by decide) rfl in_X2 (by decide) (C.t _ q261) (fun _ h9 => h9) dX2_next_266 (fun v_6 h => ?_)
      refine r_aload_n (x := some o) C.x C.b dX2_next_269 rfl (lv_at hl 0 rfl) ?_
      refine cw_gI (r := some o) 8 4 C hw hI h (by decide) rfl in_X2 (by decide) (C.t _ q262) (fun _ h9 => h9) dX2_next_270 (fun v_7 h => ?_)
      refine lv_isub C.x C.b dX2_next_273 ?_
      refine lv_iconst (v := 4) C.x C.b dX2_next_274 (by decide) ?_
      refine lv_icmp_le (tgt := 284) C.x C.b dX2_next_275 (by decide) (fun c_8 => ?_) (fun c_8 => ?_)
      · have h := ip c_8 h
        refine cw_gst (Cn := "HeirCases$Token") (n := "NUMBER") (d := "LHeirCases$Token;") (k := 13) C hw hI (List.mem_of_getElem? (i := 3) rfl) (by decide) q686 rfl dX2_next_284 ?_
        exact w_X2_next_287 C hw hR (some o) (some (σ_3.2 13)) _ _ _ _ h hI (lv_sub hl [0] rfl)
      · have h := iN c_8 h
        refine cw_gst (Cn := "HeirCases$Token") (n := "INVALID") (d := "LHeirCases$Token;") (k := 14) C hw hI (List.mem_of_getElem? (i := 4) rfl) (by decide) q684 rfl dX2_next_278 ?_
        refine lv_goto (tgt := 287) C.x C.b dX2_next_281 (by decide) ?_
        exact w_X2_next_287 C hw hR (some o) (some (σ_3.2 14)) _ _ _ _ h hI (lv_sub hl [0] rfl)
    · have h := iN c_5 h
      refine r_aload_n (x := some o) C.x C.b dX2_next_203 rfl (lv_at hl 0 rfl) ?_
      refine r_aload_n (x := some o) C.x C.b dX2_next_204 rfl (lv_at hl 0 rfl) ?_
      refine cw_gI (r := some o) 8 3 C hw hI h (by decide) rfl in_X2 (by decide) (C.t _ q261) (fun _ h9 => h9) dX2_next_205 (fun v_9 h => ?_)
      refine r_aload_n (x := some o) C.x C.b dX2_next_208 rfl (lv_at hl 0 rfl) ?_
      refine cw_gI (r := some o) 8 4 C hw hI h (by decide) rfl in_X2 (by decide) (C.t _ q262) (fun _ h9 => h9) dX2_next_209 (fun v_10 h => ?_)
      refine lv_isub C.x C.b dX2_next_212 ?_
      refine lv_iconst (v := 4) C.x C.b dX2_next_213 (by decide) ?_
      refine lv_icmp_ge (tgt := 244) C.x C.b dX2_next_214 (by decide) (fun c_11 => ?_) (fun c_11 => ?_)
      · have h := ip c_11 h
        refine r_aload_n (x := some o) C.x C.b dX2_next_244 rfl (lv_at hl 0 rfl) ?_
        refine cw_gI (r := some o) 8 7 C hw hI h (by decide) rfl in_X2 (by decide) (C.t _ q265) (fun _ h9 => h9) dX2_next_245 (fun v_12 h => ?_)
        exact w_X2_next_248 C hw hR (fun σ H locs ls h hI hl => ih σ H locs ls h hI hl) (some o) v_12 _ _ _ _ h hI (lv_sub hl [0] rfl)
      · have h := iN c_11 h
        refine lv_bipush (v := 10) C.x C.b dX2_next_217 (by decide) ?_
        refine r_aload_n (x := some o) C.x C.b dX2_next_219 rfl (lv_at hl 0 rfl) ?_
        refine cw_gI (r := some o) 8 7 C hw hI h (by decide) rfl in_X2 (by decide) (C.t _ q265) (fun _ h9 => h9) dX2_next_220 (fun v_13 h => ?_)
        refine lv_imul C.x C.b dX2_next_223 ?_
        refine r_aload_n (x := some o) C.x C.b dX2_next_224 rfl (lv_at hl 0 rfl) ?_
        refine cw_gR (r := some o) 8 0 C hw hI h (by decide) rfl in_X2 (by decide) (C.t _ q258) (fun _ h9 => h9) dX2_next_225 (fun v_14 h => ?_)
        refine r_aload_n (x := some o) C.x C.b dX2_next_228 rfl (lv_at hl 0 rfl) ?_
        refine cw_gI (r := some o) 8 3 C hw hI h (by decide) rfl in_X2 (by decide) (C.t _ q261) (fun _ h9 => h9) dX2_next_229 (fun v_15 h => ?_)
        refine cw_callF (x := ⟨"java/lang/CharSequence", "charAt", "(I)C"⟩) (r := v_14) (f := fun a_18 => dsp σ_3 [(12, m_J4_charAt a_18 v_15 σ_3), (11, m_J3_charAt a_18 v_15 σ_3)] a_18) (fun v => some (.int v)) [.int v_15] C hw hR hI hl.1 h (fun aa vv ss ee => dsp_c ee (fun o1 e1 => ⟨12, o1, _, yJ4_charAt, cJ4_charAt, 2, (Option.some Jvm.ClassFile.FieldType.char), _, _, by decide, rfl, k_J4_charAt l g A aa v_15 σ_3 vv ss e1, Or.inl (va_cwF 1 C.t (lw_app (mem4 q298 q302 q304 q131) (lw_meth q306)) rfl rfl rfl (hw.2.2.2.2.2.2.2.2.2.1 _ (List.mem_of_getElem? (i := 0) rfl)) (by decide +kernel) ⟨Nat.le_trans (Nat.le_of_ble_eq_true rfl) hR.f, Nat.le_trans (Nat.le_of_ble_eq_true rfl) hR.lo⟩)⟩) (fun ee => dsp_c ee (fun o1 e1 => ⟨11, o1, _, yJ3_charAt, cJ3_charAt, 2, (Option.some Jvm.ClassFile.FieldType.char), _, _, by decide, rfl, k_J3_charAt l g A aa v_15 σ_3 vv ss e1, Or.inl (va_cwF 1 C.t (lw_app (mem4 q298 q342 q344 q130) (lw_meth q346)) rfl rfl rfl (hw.2.2.2.2.2.2.2.2.2.1 _ (List.mem_of_getElem? (i := 1) rfl)) (by decide +kernel) ⟨Nat.le_trans (Nat.le_of_ble_eq_true rfl) hR.f, Nat.le_trans (Nat.le_of_ble_eq_true rfl) hR.lo⟩)⟩) (fun ee => dsp_n ee))) rfl rfl (Nat.le_of_ble_eq_true rfl) dX2_next_232 (fun v_16 σ_17 H locs h hI => ?_)
        refine lv_iadd C.x C.b dX2_next_237 ?_
        refine lv_bipush (v := 48) C.x C.b dX2_next_238 (by decide) ?_
        refine lv_isub C.x C.b dX2_next_240 ?_
        refine lv_goto (tgt := 248) C.x C.b dX2_next_241 (by decide) ?_
        exact w_X2_next_248 C hw hR (fun σ H locs ls h hI hl => ih σ H locs ls h hI hl) (some o) (((10 * v_13) + v_16) - 48) _ _ _ _ h hI (lv_sub hl [0] rfl)

theorem w_X2_next_324 {z : Int32 × cS} {o : Nat} (C : CX p m meth c s args cX2_next 1 (Option.none : Option Jvm.ClassFile.FieldType) RX2) (hw : WKc g A s s.heap) (hR : RM g s R (9) (217))  : ∀ (s0 : Option Nat) (s1 : Option Nat) (σ : cS) (H : Heap) (locs : List Loc) (ls : Array Slot), b_X2_next_324 o s0 s1 σ = some z → CI g A s σ H locs → lv_has ls 1 [(0, .ref o)] → W p l e R s m args below meth c H locs (H.size - s.heap.size) (hsl H - hsl s.heap) (MQ below (CQ g A (none) z.2) args s (g.2.2.1 3 - s.heap.size) (g.2.2.1 4 - hsl s.heap) A) (F0 m 324 ls [va_rf s1, va_rf s0]) := by
  intro s0 s1 σ H locs ls h hI hl
  unfold b_X2_next_324 at h
  refine cw_pO (r := s0) (v := (va_rf s1)) (ty := (.object "HeirCases$Token")) 8 5 C hw hI h (by decide) rfl in_X2 tyX2 tyX2_ok nmX2 (by decide) (C.t _ q263) (fun _ h9 => h9) (Or.inl rfl) (by decide +kernel) (nar_o _ _) (fits_o _ _) dX2_next_324 (fun σ_1 H locs h hI => ?_)
  refine r_aload_n (x := some o) C.x C.b dX2_next_327 rfl (lv_at hl 0 rfl) ?_
  refine lv_dup C.x C.b dX2_next_328 rfl ?_
  refine cw_gI (r := some o) 8 3 C hw hI h (by decide) rfl in_X2 (by decide) (C.t _ q261) (fun _ h9 => h9) dX2_next_329 (fun v_2 h => ?_)
  refine lv_iconst (v := 1) C.x C.b dX2_next_332 (by decide) ?_
  refine lv_iadd C.x C.b dX2_next_333 ?_
  refine cw_pO (r := some o) (v := (.int (v_2 + 1))) (ty := .int) 8 3 C hw hI h (by decide) rfl in_X2 tyX2 tyX2_ok nmX2 (by decide) (C.t _ q261) (fun _ h9 => h9) (Or.inl rfl) (by decide +kernel) rfl rfl dX2_next_334 (fun σ_3 H locs h hI => ?_)
  exact cw_vret C hI h dX2_next_337

theorem w_X2_next_60 {z : Int32 × cS} {o : Nat} (C : CX p m meth c s args cX2_next 1 (Option.none : Option Jvm.ClassFile.FieldType) RX2) (hw : WKc g A s s.heap) (hR : RM g s R (9) (217))  : ∀ (σ : cS) (H : Heap) (locs : List Loc) (ls : Array Slot), b_X2_next_60 o σ = some z → CI g A s σ H locs → lv_has ls 1 [(0, .ref o)] → W p l e R s m args below meth c H locs (H.size - s.heap.size) (hsl H - hsl s.heap) (MQ below (CQ g A (none) z.2) args s (g.2.2.1 3 - s.heap.size) (g.2.2.1 4 - hsl s.heap) A) (F0 m 60 ls []) := by
  intro σ H locs ls h hI hl
  unfold b_X2_next_60 at h
  refine r_aload_n (x := some o) C.x C.b dX2_next_60 rfl (lv_at hl 0 rfl) ?_
  refine r_aload_n (x := some o) C.x C.b dX2_next_61 rfl (lv_at hl 0 rfl) ?_
  refine cw_gI (r := some o) 8 3 C hw hI h (by decide) rfl in_X2 (by decide) (C.t _ q261) (fun _ h9 => h9) dX2_next_62 (fun v_1 h => ?_)
  refine cw_pO (r := some o) (v := (.int v_1)) (ty := .int) 8 4 C hw hI h (by decide) rfl in_X2 tyX2 tyX2_ok nmX2 (by decide) (C.t _ q262) (fun _ h9 => h9) (Or.inl rfl) (by decide +kernel) rfl rfl dX2_next_65 (fun σ_2 H locs h hI => ?_)
  refine r_aload_n (x := some o) C.x C.b dX2_next_68 rfl (lv_at hl 0 rfl) ?_
  refine cw_gI (r := some o) 8 3 C hw hI h (by decide) rfl in_X2 (by decide) (C.t _ q261) (fun _ h9 => h9) dX2_next_69 (fun v_3 h => ?_)
  refine r_aload_n (x := some o) C.x C.b dX2_next_72 rfl (lv_at hl 0 rfl) ?_
  refine cw_gI (r := some o) 8 1 C hw hI h (by decide) rfl in_X2 (by decide) (C.t _ q259) (fun _ h9 => h9) dX2_next_73 (fun v_4 h => ?_)
  refine lv_icmp_lt (tgt := 89) C.x C.b dX2_next_76 (by decide) (fun c_5 => ?_) (fun c_5 => ?_)
  · have h := ip c_5 h
    refine r_aload_n (x := some o) C.x C.b dX2_next_89 rfl (lv_at hl 0 rfl) ?_
    refine r_aload_n (x := some o) C.x C.b dX2_next_90 rfl (lv_at hl 0 rfl) ?_
    refine cw_gI (r := some o) 8 3 C hw hI h (by decide) rfl in_X2 (by decide) (C.t _ q261) (fun _ h9 => h9) dX2_next_91 (fun v_6 h => ?_)
    refine lv_bipush (v := 97) C.x C.b dX2_next_94 (by decide) ?_
    refine lv_bipush (v := 122) C.x C.b dX2_next_96 (by decide) ?_
    refine cw_callV (y := yX2_within) (bytes := cX2_within) (maxL := 4) (r := some o) (f := fun a_9 => m_X2_within a_9 v_6 97 122 σ_2) 8 (fun v => some (.int v)) [.int v_6, .int 97, .int 122] C hw hR hI hl.1 h (by decide) rfl (fun aa vv ss ee => k_X2_within l g A aa v_6 97 122 σ_2 vv ss ee) (cwV 3 C.t (lw_V q357 q359 qs2 q133 q360) rfl rfl rfl (by decide +kernel) ⟨Nat.le_trans (Nat.le_of_ble_eq_true rfl) hR.f, Nat.le_trans (Nat.le_of_ble_eq_true rfl) hR.lo⟩) rfl rfl (Nat.le_of_ble_eq_true rfl) dX2_next_98 (fun v_7 σ_8 H locs h hI => ?_)
    refine lv_if_eq (tgt := 168) C.x C.b dX2_next_101 (by decide) (fun c_10 => ?_) (fun c_10 => ?_)
    · have h := ip c_10 h
      refine r_aload_n (x := some o) C.x C.b dX2_next_168 rfl (lv_at hl 0 rfl) ?_
      refine r_aload_n (x := some o) C.x C.b dX2_next_169 rfl (lv_at hl 0 rfl) ?_
      refine cw_gI (r := some o) 8 3 C hw hI h (by decide) rfl in_X2 (by decide) (C.t _ q261) (fun _ h9 => h9) dX2_next_170 (fun v_11 h => ?_)
      refine lv_bipush (v := 48) C.x C.b dX2_next_173 (by decide) ?_
      refine lv_bipush (v := 57) C.x C.b dX2_next_175 (by decide) ?_
      refine cw_callV (y := yX2_within) (bytes := cX2_within) (maxL := 4) (r := some o) (f := fun a_14 => m_X2_within a_14 v_11 48 57 σ_8) 8 (fun v => some (.int v)) [.int v_11, .int 48, .int 57] C hw hR hI hl.1 h (by decide) rfl (fun aa vv ss ee => k_X2_within l g A aa v_11 48 57 σ_8 vv ss ee) (cwV 3 C.t (lw_V q357 q359 qs2 q133 q360) rfl rfl rfl (by decide +kernel) ⟨Nat.le_trans (Nat.le_of_ble_eq_true rfl) hR.f, Nat.le_trans (Nat.le_of_ble_eq_true rfl) hR.lo⟩) rfl rfl (Nat.le_of_ble_eq_true rfl) dX2_next_177 (fun v_12 σ_13 H locs h hI => ?_)
      refine lv_if_eq (tgt := 293) C.x C.b dX2_next_180 (by decide) (fun c_15 => ?_) (fun c_15 => ?_)
      · have h := ip c_15 h
        refine r_aload_n (x := some o) C.x C.b dX2_next_293 rfl (lv_at hl 0 rfl) ?_
        refine cw_ldcS (tx := ";,/()=<>") (k := 35) C hw hI (List.mem_of_getElem? (i := 16) rfl) (by decide) dX2_next_294 ?_
        refine r_aload_n (x := some o) C.x C.b dX2_next_296 rfl (lv_at hl 0 rfl) ?_
        refine cw_gR (r := some o) 8 0 C hw hI h (by decide) rfl in_X2 (by decide) (C.t _ q258) (fun _ h9 => h9) dX2_next_297 (fun v_16 h => ?_)
        refine r_aload_n (x := some o) C.x C.b dX2_next_300 rfl (lv_at hl 0 rfl) ?_
        refine cw_gI (r := some o) 8 3 C hw hI h (by decide) rfl in_X2 (by decide) (C.t _ q261) (fun _ h9 => h9) dX2_next_301 (fun v_17 h => ?_)
        refine cw_callF (x := ⟨"java/lang/CharSequence", "charAt", "(I)C"⟩) (r := v_16) (f := fun a_20 => dsp σ_13 [(12, m_J4_charAt a_20 v_17 σ_13), (11, m_J3_charAt a_20 v_17 σ_13)] a_20) (fun v => some (.int v)) [.int v_17] C hw hR hI hl.1 h (fun aa vv ss ee => dsp_c ee (fun o1 e1 => ⟨12, o1, _, yJ4_charAt, cJ4_charAt, 2, (Option.some Jvm.ClassFile.FieldType.char), _, _, by decide, rfl, k_J4_charAt l g A aa v_17 σ_13 vv ss e1, Or.inl (va_cwF 1 C.t (lw_app (mem4 q298 q302 q304 q131) (lw_meth q306)) rfl rfl rfl (hw.2.2.2.2.2.2.2.2.2.1 _ (List.mem_of_getElem? (i := 0) rfl)) (by decide +kernel) ⟨Nat.le_trans (Nat.le_of_ble_eq_true rfl) hR.f, Nat.le_trans (Nat.le_of_ble_eq_true rfl) hR.lo⟩)⟩) (fun ee => dsp_c ee (fun o1 e1 => ⟨11, o1, _, yJ3_charAt, cJ3_charAt, 2, (Option.some Jvm.ClassFile.FieldType.char), _, _, by decide, rfl, k_J3_charAt l g A aa v_17 σ_13 vv ss e1, Or.inl (va_cwF 1 C.t (lw_app (mem4 q298 q342 q344 q130) (lw_meth q346)) rfl rfl rfl (hw.2.2.2.2.2.2.2.2.2.1 _ (List.mem_of_getElem? (i := 1) rfl)) (by decide +kernel) ⟨Nat.le_trans (Nat.le_of_ble_eq_true rfl) hR.f, Nat.le_trans (Nat.le_of_ble_eq_true rfl) hR.lo⟩)⟩) (fun ee => dsp_n ee))) rfl rfl (Nat.le_of_ble_eq_true rfl) dX2_next_304 (fun v_18 σ_19 H locs h hI => ?_)
        refine cw_callV (y := yJ4_indexOf) (bytes := cJ4_indexOf) (maxL := 2) (r := some (σ_13.2 35)) (f := fun a_23 => m_J4_indexOf a_23 v_18 σ_19) 12 (fun v => some (.int v)) [.int v_18] C hw hR hI hl.1 h (by decide) rfl (fun aa vv ss ee => k_J4_indexOf l g A aa v_18 σ_19 vv ss ee) (cwV 1 C.t (lw_V q689 q690 q691 q131 q692) rfl rfl rfl (by decide +kernel) ⟨Nat.le_trans (Nat.le_of_ble_eq_true rfl) hR.f, Nat.le_trans (Nat.le_of_ble_eq_true rfl) hR.lo⟩) rfl rfl (Nat.le_of_ble_eq_true rfl) dX2_next_309 (fun v_21 σ_22 H locs h hI => ?_)
        refine lv_if_lt (tgt := 321) C.x C.b dX2_next_312 (by decide) (fun c_24 => ?_) (fun c_24 => ?_)
        · have h := ip c_24 h
          refine cw_gst (Cn := "HeirCases$Token") (n := "INVALID") (d := "LHeirCases$Token;") (k := 14) C hw hI (List.mem_of_getElem? (i := 4) rfl) (by decide) q684 rfl dX2_next_321 ?_
          exact w_X2_next_324 C hw hR (some o) (some (σ_22.2 14)) _ _ _ _ h hI (lv_sub hl [0] rfl)
        · have h := iN c_24 h
          refine cw_gst (Cn := "HeirCases$Token") (n := "SIGN") (d := "LHeirCases$Token;") (k := 11) C hw hI (List.mem_of_getElem? (i := 1) rfl) (by decide) q734 rfl dX2_next_315 ?_
          refine lv_goto (tgt := 324) C.x C.b dX2_next_318 (by decide) ?_
          exact w_X2_next_324 C hw hR (some o) (some (σ_22.2 11)) _ _ _ _ h hI (lv_sub hl [0] rfl)
      · have h := iN c_15 h
        refine r_aload_n (x := some o) C.x C.b dX2_next_183 rfl (lv_at hl 0 rfl) ?_
        refine lv_iconst (v := 0) C.x C.b dX2_next_184 (by decide) ?_
        refine cw_pO (r := some o) (v := (.int 0)) (ty := .int) 8 7 C hw hI h (by decide) rfl in_X2 tyX2 tyX2_ok nmX2 (by decide) (C.t _ q265) (fun _ h9 => h9) (Or.inl rfl) (by decide +kernel) rfl rfl dX2_next_185 (fun σ_25 H locs h hI => ?_)
        exact w_X2_next_188 C hw hR _ _ _ _ _ h hI (lv_sub hl [0] rfl)
    · have h := iN c_10 h
      exact w_X2_next_104 C hw hR _ _ _ _ _ h hI (lv_sub hl [0] rfl)
  · have h := iN c_5 h
    refine r_aload_n (x := some o) C.x C.b dX2_next_79 rfl (lv_at hl 0 rfl) ?_
    refine cw_gst (Cn := "HeirCases$Token") (n := "END") (d := "LHeirCases$Token;") (k := 10) C hw hI (List.mem_of_getElem? (i := 0) rfl) (by decide) q355 rfl dX2_next_80 ?_
    refine cw_pO (r := some o) (v := (va_rf (some (σ_2.2 10)))) (ty := (.object "HeirCases$Token")) 8 5 C hw hI h (by decide) rfl in_X2 tyX2 tyX2_ok nmX2 (by decide) (C.t _ q263) (fun _ h9 => h9) (Or.inl rfl) (by decide +kernel) (nar_o _ _) (fits_o _ _) dX2_next_83 (fun σ_26 H locs h hI => ?_)
    refine lv_goto (tgt := 337) C.x C.b dX2_next_86 (by decide) ?_
    exact cw_vret C hI h dX2_next_337

theorem w_X2_next_0 {z : Int32 × cS} {o : Nat} (C : CX p m meth c s args cX2_next 1 (Option.none : Option Jvm.ClassFile.FieldType) RX2) (hw : WKc g A s s.heap) (hR : RM g s R (9) (217))  : ∀ (n : Nat) (σ : cS) (H : Heap) (locs : List Loc) (ls : Array Slot), b_X2_next_0 o n σ = some z → CI g A s σ H locs → lv_has ls 1 [(0, .ref o)] → W p l e R s m args below meth c H locs (H.size - s.heap.size) (hsl H - hsl s.heap) (MQ below (CQ g A (none) z.2) args s (g.2.2.1 3 - s.heap.size) (g.2.2.1 4 - hsl s.heap) A) (F0 m 0 ls []) := by
  intro n
  induction n with
  | zero =>
    intro σ H locs ls h
    cases h
  | succ n ih =>
    intro σ H locs ls h hI hl
    rw [b_X2_next_0] at h
    refine r_aload_n (x := some o) C.x C.b dX2_next_0 rfl (lv_at hl 0 rfl) ?_
    refine cw_gI (r := some o) 8 3 C hw hI h (by decide) rfl in_X2 (by decide) (C.t _ q261) (fun _ h9 => h9) dX2_next_1 (fun v_1 h => ?_)
    refine r_aload_n (x := some o) C.x C.b dX2_next_4 rfl (lv_at hl 0 rfl) ?_
    refine cw_gI (r := some o) 8 1 C hw hI h (by decide) rfl in_X2 (by decide) (C.t _ q259) (fun _ h9 => h9) dX2_next_5 (fun v_2 h => ?_)
    refine lv_icmp_ge (tgt := 60) C.x C.b dX2_next_8 (by decide) (fun c_3 => ?_) (fun c_3 => ?_)
    · have h := ip c_3 h
      exact w_X2_next_60 C hw hR _ _ _ _ h hI (lv_sub hl [0] rfl)
    · have h := iN c_3 h
      refine r_aload_n (x := some o) C.x C.b dX2_next_11 rfl (lv_at hl 0 rfl) ?_
      refine cw_gR (r := some o) 8 0 C hw hI h (by decide) rfl in_X2 (by decide) (C.t _ q258) (fun _ h9 => h9) dX2_next_12 (fun v_4 h => ?_)
      refine r_aload_n (x := some o) C.x C.b dX2_next_15 rfl (lv_at hl 0 rfl) ?_
      refine cw_gI (r := some o) 8 3 C hw hI h (by decide) rfl in_X2 (by decide) (C.t _ q261) (fun _ h9 => h9) dX2_next_16 (fun v_5 h => ?_)
      refine cw_callF (x := ⟨"java/lang/CharSequence", "charAt", "(I)C"⟩) (r := v_4) (f := fun a_8 => dsp σ [(12, m_J4_charAt a_8 v_5 σ), (11, m_J3_charAt a_8 v_5 σ)] a_8) (fun v => some (.int v)) [.int v_5] C hw hR hI hl.1 h (fun aa vv ss ee => dsp_c ee (fun o1 e1 => ⟨12, o1, _, yJ4_charAt, cJ4_charAt, 2, (Option.some Jvm.ClassFile.FieldType.char), _, _, by decide, rfl, k_J4_charAt l g A aa v_5 σ vv ss e1, Or.inl (va_cwF 1 C.t (lw_app (mem4 q298 q302 q304 q131) (lw_meth q306)) rfl rfl rfl (hw.2.2.2.2.2.2.2.2.2.1 _ (List.mem_of_getElem? (i := 0) rfl)) (by decide +kernel) ⟨Nat.le_trans (Nat.le_of_ble_eq_true rfl) hR.f, Nat.le_trans (Nat.le_of_ble_eq_true rfl) hR.lo⟩)⟩) (fun ee => dsp_c ee (fun o1 e1 => ⟨11, o1, _, yJ3_charAt, cJ3_charAt, 2, (Option.some Jvm.ClassFile.FieldType.char), _, _, by decide, rfl, k_J3_charAt l g A aa v_5 σ vv ss e1, Or.inl (va_cwF 1 C.t (lw_app (mem4 q298 q342 q344 q130) (lw_meth q346)) rfl rfl rfl (hw.2.2.2.2.2.2.2.2.2.1 _ (List.mem_of_getElem? (i := 1) rfl)) (by decide +kernel) ⟨Nat.le_trans (Nat.le_of_ble_eq_true rfl) hR.f, Nat.le_trans (Nat.le_of_ble_eq_true rfl) hR.lo⟩)⟩) (fun ee => dsp_n ee))) rfl rfl (Nat.le_of_ble_eq_true rfl) dX2_next_19 (fun v_6 σ_7 H locs h hI => ?_)
      refine lv_bipush (v := 32) C.x C.b dX2_next_24 (by decide) ?_
      refine lv_icmp_eq (tgt := 47) C.x C.b dX2_next_26 (by decide) (fun c_9 => ?_) (fun c_9 => ?_)
      · have h := ip c_9 h
        exact w_X2_next_47 C hw hR (fun σ H locs ls h hI hl => ih σ H locs ls h hI hl) _ _ _ _ h hI (lv_sub hl [0] rfl)
      · have h := iN c_9 h
        refine r_aload_n (x := some o) C.x C.b dX2_next_29 rfl (lv_at hl 0 rfl) ?_
        refine cw_gR (r := some o) 8 0 C hw hI h (by decide) rfl in_X2 (by decide) (C.t _ q258) (fun _ h9 => h9) dX2_next_30 (fun v_10 h => ?_)
        refine r_aload_n (x := some o) C.x C.b dX2_next_33 rfl (lv_at hl 0 rfl) ?_
        refine cw_gI (r := some o) 8 3 C hw hI h (by decide) rfl in_X2 (by decide) (C.t _ q261) (fun _ h9 => h9) dX2_next_34 (fun v_11 h => ?_)
        refine cw_callF (x := ⟨"java/lang/CharSequence", "charAt", "(I)C"⟩) (r := v_10) (f := fun a_14 => dsp σ_7 [(12, m_J4_charAt a_14 v_11 σ_7), (11, m_J3_charAt a_14 v_11 σ_7)] a_14) (fun v => some (.int v)) [.int v_11] C hw hR hI hl.1 h (fun aa vv ss ee => dsp_c ee (fun o1 e1 => ⟨12, o1, _, yJ4_charAt, cJ4_charAt, 2, (Option.some Jvm.ClassFile.FieldType.char), _, _, by decide, rfl, k_J4_charAt l g A aa v_11 σ_7 vv ss e1, Or.inl (va_cwF 1 C.t (lw_app (mem4 q298 q302 q304 q131) (lw_meth q306)) rfl rfl rfl (hw.2.2.2.2.2.2.2.2.2.1 _ (List.mem_of_getElem? (i := 0) rfl)) (by decide +kernel) ⟨Nat.le_trans (Nat.le_of_ble_eq_true rfl) hR.f, Nat.le_trans (Nat.le_of_ble_eq_true rfl) hR.lo⟩)⟩) (fun ee => dsp_c ee (fun o1 e1 => ⟨11, o1, _, yJ3_charAt, cJ3_charAt, 2, (Option.some Jvm.ClassFile.FieldType.char), _, _, by decide, rfl, k_J3_charAt l g A aa v_11 σ_7 vv ss e1, Or.inl (va_cwF 1 C.t (lw_app (mem4 q298 q342 q344 q130) (lw_meth q346)) rfl rfl rfl (hw.2.2.2.2.2.2.2.2.2.1 _ (List.mem_of_getElem? (i := 1) rfl)) (by decide +kernel) ⟨Nat.le_trans (Nat.le_of_ble_eq_true rfl) hR.f, Nat.le_trans (Nat.le_of_ble_eq_true rfl) hR.lo⟩)⟩) (fun ee => dsp_n ee))) rfl rfl (Nat.le_of_ble_eq_true rfl) dX2_next_37 (fun v_12 σ_13 H locs h hI => ?_)
        refine lv_bipush (v := 10) C.x C.b dX2_next_42 (by decide) ?_
        refine lv_icmp_ne (tgt := 60) C.x C.b dX2_next_44 (by decide) (fun c_15 => ?_) (fun c_15 => ?_)
        · have h := iN c_15 h
          exact w_X2_next_60 C hw hR _ _ _ _ h hI (lv_sub hl [0] rfl)
        · have h := ip c_15 h
          exact w_X2_next_47 C hw hR (fun σ H locs ls h hI hl => ih σ H locs ls h hI hl) _ _ _ _ h hI (lv_sub hl [0] rfl)

theorem k_X2_next (l : Launch) (g : cG) (A : Nat → Prop) (o : Nat) (σ : cS) (v : Int32) (σ1 : cS) (h : m_X2_next o σ = some (v, σ1)) : Met l yX2_next (ws_ yX2_next cX2_next 1 (Option.none : Option Jvm.ClassFile.FieldType)) ({ frames := 9, cells := σ.2 3 - σ.2 0, slots := σ.2 4 - σ.2 1, locals := 217 }) (CPc g A [.ref o] σ) (CQ g A (none) σ1) (σ.2 3 - σ.2 0) (σ.2 4 - σ.2 1) A := by
  refine Met.ofW (cc := cX2_next) (maxL := 1) (ret := (Option.none : Option Jvm.ClassFile.FieldType)) (by decide) rfl ?_
  intro p e s m args below meth c s₁ B hml hv
  obtain ⟨rfl, hw, hσ⟩ := hv
  have hts := atoms_spec (ws := (ws_ yX2_next cX2_next 1 (Option.none : Option Jvm.ClassFile.FieldType))) B.pre
  have C : CX p m meth c s ([.ref o] : List Value).toArray cX2_next 1 (Option.none : Option Jvm.ClassFile.FieldType) RX2 := ⟨⟨B.exec, B.bytes, hml, findClass_of_methodNamed B.named, fun w h => hts w (List.mem_cons_of_mem _ h)⟩, B.returns, B.notSynchronized⟩
  have e3 : σ.2 3 - σ.2 0 = g.2.2.1 3 - s.heap.size := by rw [hσ.1, hσ.2.2.2.1 3 (by decide)]
  have e4 : σ.2 4 - σ.2 1 = g.2.2.1 4 - hsl s.heap := by rw [hσ.2.1, hσ.2.2.2.1 4 (by decide)]
  have hR : RM g s (headSpec (ws_ yX2_next cX2_next 1 (Option.none : Option Jvm.ClassFile.FieldType)) ({ frames := 9, cells := σ.2 3 - σ.2 0, slots := σ.2 4 - σ.2 1, locals := 217 })).room (9) (217) := ⟨⟨Nat.le_refl _, Nat.le_refl _⟩, Nat.le_of_eq e3.symm, Nat.le_of_eq e4.symm⟩
  generalize (headSpec (ws_ yX2_next cX2_next 1 (Option.none : Option Jvm.ClassFile.FieldType)) ({ frames := 9, cells := σ.2 3 - σ.2 0, slots := σ.2 4 - σ.2 1, locals := 217 })).room = R at hR ⊢
  rw [e3, e4]
  have hI : CI g A s σ s.heap [] := ⟨hσ, va_S.rf, Nat.le_refl _⟩
  have hl := lv_entry ([.ref o]) (n := 1) (Nat.le_of_ble_eq_true rfl)
  rw [lg_entry_eq]
  generalize (lg_sl ([.ref o]) ++ List.replicate (1 - (lg_sl ([.ref o])).length) Slot.unset).toArray = ls at hl ⊢
  have hl : lv_has ls 1 [(0, .ref o)] := hl
  obtain ⟨z, hz⟩ : ∃ z, z = (v, σ1) := ⟨_, rfl⟩
  rw [← hz] at h
  rw [show σ1 = z.2 by rw [hz]]
  clear hz v σ1
  refine W.narrow ?_
  unfold m_X2_next at h
  exact w_X2_next_0 C hw hR _ _ _ _ _ h hI (lv_sub hl [0] rfl)

end
