/-! THE CLASS' WALKS 13: printed by gencl.py -/
section
variable {p : Program} {l : Launch} {e : Env} {R : Room} {s : State} {m : MethodId} {args : Array Value} {below : List Frame} {meth : Method} {c : Code} {g : cG} {A : Nat → Prop}
set_option maxRecDepth 100000
theorem k_J6_hashCode (l : Launch) (g : cG) (A : Nat → Prop) (x0 : Option Nat) (σ : cS) (v : Int32) (σ1 : cS) (h : m_J6_hashCode x0 σ = some (v, σ1)) : Met l yJ6_hashCode (ws_ yJ6_hashCode cJ6_hashCode 1 (Option.some Jvm.ClassFile.FieldType.int)) ({ frames := 3, cells := σ.2 3 - σ.2 0, slots := σ.2 4 - σ.2 1, locals := 89 }) (CPc g A [va_rf x0] σ) (CQ g A (some (.int v)) σ1) (σ.2 3 - σ.2 0) (σ.2 4 - σ.2 1) A := by
  refine Met.ofW (cc := cJ6_hashCode) (maxL := 1) (ret := (Option.some Jvm.ClassFile.FieldType.int)) (by decide) rfl ?_
  intro p e s m args below meth c s₁ B hml hv
  obtain ⟨rfl, hw, hσ⟩ := hv
  have hts := atoms_spec (ws := (ws_ yJ6_hashCode cJ6_hashCode 1 (Option.some Jvm.ClassFile.FieldType.int))) B.pre
  have C : CX p m meth c s ([va_rf x0] : List Value).toArray cJ6_hashCode 1 (Option.some Jvm.ClassFile.FieldType.int) RJ6 := ⟨⟨B.exec, B.bytes, hml, findClass_of_methodNamed B.named, fun w h => hts w (List.mem_cons_of_mem _ h)⟩, B.returns, B.notSynchronized⟩
  have e3 : σ.2 3 - σ.2 0 = g.2.2.1 3 - s.heap.size := by rw [hσ.1, hσ.2.2.2.1 3 (by decide)]
  have e4 : σ.2 4 - σ.2 1 = g.2.2.1 4 - hsl s.heap := by rw [hσ.2.1, hσ.2.2.2.1 4 (by decide)]
  have hR : RM g s (headSpec (ws_ yJ6_hashCode cJ6_hashCode 1 (Option.some Jvm.ClassFile.FieldType.int)) ({ frames := 3, cells := σ.2 3 - σ.2 0, slots := σ.2 4 - σ.2 1, locals := 89 })).room (3) (89) := ⟨⟨Nat.le_refl _, Nat.le_refl _⟩, Nat.le_of_eq e3.symm, Nat.le_of_eq e4.symm⟩
  generalize (headSpec (ws_ yJ6_hashCode cJ6_hashCode 1 (Option.some Jvm.ClassFile.FieldType.int)) ({ frames := 3, cells := σ.2 3 - σ.2 0, slots := σ.2 4 - σ.2 1, locals := 89 })).room = R at hR ⊢
  rw [e3, e4]
  have hI : CI g A s σ s.heap [] := ⟨hσ, va_S.rf, Nat.le_refl _⟩
  have hlen : (lg_sl ([va_rf x0])).length ≤ 1 := by rcases x0 with _ | x0 <;> exact Nat.le_of_ble_eq_true rfl
  have hl := lv_entry ([va_rf x0]) (n := 1) hlen
  rw [lg_entry_eq]
  generalize (lg_sl ([va_rf x0]) ++ List.replicate (1 - (lg_sl ([va_rf x0])).length) Slot.unset).toArray = ls at hl ⊢
  have hl : lv_has ls 1 [(0, va_rf x0)] := by clear hI hw h hσ e3 e4 hR C hts B; rcases x0 with _ | x0 <;> exact hl
  obtain ⟨z, hz⟩ : ∃ z, z = (v, σ1) := ⟨_, rfl⟩
  rw [← hz] at h
  rw [show v = z.1 by rw [hz], show σ1 = z.2 by rw [hz]]
  clear hz v σ1
  refine W.narrow ?_
  unfold m_J6_hashCode at h
  refine r_aload_n (x := x0) C.x C.b dJ6_hashCode_0 rfl (lv_at hl 0 rfl) ?_
  refine cw_aL (r := x0) C hw hI h dJ6_hashCode_1 (fun v_1 h => ?_)
  by_cases c_2 : v_1 = 0
  · have h := ip c_2 h
    refine lv_lookup (off := 26) (tgt := 28) C.x C.b dJ6_hashCode_2 (by decide) (by rw [c_2]; rfl) (by decide) ?_
    refine lv_iconst (v := 0) C.x C.b dJ6_hashCode_28 (by decide) ?_
    refine lv_goto (tgt := 51) C.x C.b dJ6_hashCode_29 (by decide) ?_
    exact cw_iret C hI h dJ6_hashCode_51
  have h := iN c_2 h
  by_cases c_3 : v_1 = 1
  · have h := ip c_3 h
    refine lv_lookup (off := 30) (tgt := 32) C.x C.b dJ6_hashCode_2 (by decide) (by rw [c_3]; rfl) (by decide) ?_
    refine r_aload_n (x := x0) C.x C.b dJ6_hashCode_32 rfl (lv_at hl 0 rfl) ?_
    refine lv_iconst (v := 0) C.x C.b dJ6_hashCode_33 (by decide) ?_
    refine cw_bld (r := x0) C hw hI h dJ6_hashCode_34 (fun v_4 h => ?_)
    refine lv_sipush (v := 255) C.x C.b dJ6_hashCode_35 (by decide) ?_
    refine lv_iand C.x C.b dJ6_hashCode_38 ?_
    refine lv_goto (tgt := 51) C.x C.b dJ6_hashCode_39 (by decide) ?_
    exact cw_iret C hI h dJ6_hashCode_51
  have h := iN c_3 h
  refine lv_lookup (off := 40) (tgt := 42) C.x C.b dJ6_hashCode_2 (by decide) (by show Op.lookupswitch.offset [(0, 26), (1, 30)] 40 _ = _; rw [lv_osw c_2 (by decide), lv_osw c_3 (by decide)]; rfl) (by decide) ?_
  refine r_aload_n (x := x0) C.x C.b dJ6_hashCode_42 rfl (lv_at hl 0 rfl) ?_
  refine lv_iconst (v := 0) C.x C.b dJ6_hashCode_43 (by decide) ?_
  refine r_aload_n (x := x0) C.x C.b dJ6_hashCode_44 rfl (lv_at hl 0 rfl) ?_
  refine cw_aL (r := x0) C hw hI h dJ6_hashCode_45 (fun v_5 h => ?_)
  refine lv_iconst (v := 0) C.x C.b dJ6_hashCode_46 (by decide) ?_
  refine lv_iconst (v := 4) C.x C.b dJ6_hashCode_47 (by decide) ?_
  refine cw_callS (y := yJ15_vectorizedHashCode) (bytes := cJ15_vectorizedHashCode) (maxL := 5) (fun v => some (.int v)) [va_rf x0, .int 0, .int v_5, .int 0, .int 4] C hw hR hI hl.1 h (fun vv ss ee => k_J15_vectorizedHashCode l g A x0 0 v_5 0 4 σ vv ss ee) (va_cwS 5 C.t (lw_S q891 q892 q146 q893) rfl rfl rfl (by decide +kernel) ⟨Nat.le_trans (Nat.le_of_ble_eq_true rfl) hR.f, Nat.le_trans (Nat.le_of_ble_eq_true rfl) hR.lo⟩) rfl rfl (Nat.le_of_ble_eq_true rfl) dJ6_hashCode_48 (fun v_6 σ_7 H locs h hI => ?_)
  exact cw_iret C hI h dJ6_hashCode_51

theorem w_J4_hashCode_40 {z : Int32 × cS} {o : Nat} (C : CX p m meth c s args cJ4_hashCode 2 (Option.some Jvm.ClassFile.FieldType.int) RJ4) (hw : WKc g A s s.heap) (hR : RM g s R (4) (109))  : ∀ (s0 : Int32) (σ : cS) (H : Heap) (locs : List Loc) (ls : Array Slot), b_J4_hashCode_40 o s0 σ = some z → CI g A s σ H locs → lv_has ls 2 [(0, .ref o)] → W p l e R s m args below meth c H locs (H.size - s.heap.size) (hsl H - hsl s.heap) (MQ below (CQ g A (some (.int z.1)) z.2) args s (g.2.2.1 3 - s.heap.size) (g.2.2.1 4 - hsl s.heap) A) (F0 m 40 ls [.int s0]) := by
  intro s0 σ H locs ls h hI hl
  unfold b_J4_hashCode_40 at h
  refine lv_istore_n (i := 1) (lv' := [(1, .int s0), (0, .ref o)]) C.x C.b dJ4_hashCode_40 rfl hl (by decide) rfl (fun ls hl => ?_)
  refine lv_iload_n C.x C.b dJ4_hashCode_41 rfl (lv_at hl 0 rfl) ?_
  refine lv_if_ne (tgt := 53) C.x C.b dJ4_hashCode_42 (by decide) (fun c_1 => ?_) (fun c_1 => ?_)
  · have h := iN c_1 h
    refine r_aload_n (x := some o) C.x C.b dJ4_hashCode_53 rfl (lv_at hl 1 rfl) ?_
    refine lv_iload_n C.x C.b dJ4_hashCode_54 rfl (lv_at hl 0 rfl) ?_
    refine cw_pO (r := some o) (v := (.int s0)) (ty := .int) 12 2 C hw hI h (by decide) rfl in_J4 tyJ4 tyJ4_ok nmJ4 (by decide) (C.t _ q602) (fun _ h9 => h9) (Or.inl rfl) (by decide +kernel) rfl rfl dJ4_hashCode_55 (fun σ_2 H locs h hI => ?_)
    refine lv_iload_n C.x C.b dJ4_hashCode_58 rfl (lv_at hl 0 rfl) ?_
    exact cw_iret C hI h dJ4_hashCode_59
  · have h := ip c_1 h
    refine r_aload_n (x := some o) C.x C.b dJ4_hashCode_45 rfl (lv_at hl 1 rfl) ?_
    refine lv_iconst (v := 1) C.x C.b dJ4_hashCode_46 (by decide) ?_
    have hz := gd_s h
    have h := hz.2
    refine cw_pO (r := some o) (v := (.int 1)) (ty := .boolean) 12 3 C hw hI h (by decide) rfl in_J4 tyJ4 tyJ4_ok nmJ4 (by decide) (C.t _ q603) (fun _ h9 => h9) (Or.inl rfl) (by decide +kernel) (nar_z hz.1) (fit_z hz.1) dJ4_hashCode_47 (fun σ_3 H locs h hI => ?_)
    refine lv_goto (tgt := 58) C.x C.b dJ4_hashCode_50 (by decide) ?_
    refine lv_iload_n C.x C.b dJ4_hashCode_58 rfl (lv_at hl 0 rfl) ?_
    exact cw_iret C hI h dJ4_hashCode_59

theorem k_J4_hashCode (l : Launch) (g : cG) (A : Nat → Prop) (o : Nat) (σ : cS) (v : Int32) (σ1 : cS) (h : m_J4_hashCode o σ = some (v, σ1)) : Met l yJ4_hashCode (ws_ yJ4_hashCode cJ4_hashCode 2 (Option.some Jvm.ClassFile.FieldType.int)) ({ frames := 4, cells := σ.2 3 - σ.2 0, slots := σ.2 4 - σ.2 1, locals := 109 }) (CPc g A [.ref o] σ) (CQ g A (some (.int v)) σ1) (σ.2 3 - σ.2 0) (σ.2 4 - σ.2 1) A := by
  refine Met.ofW (cc := cJ4_hashCode) (maxL := 2) (ret := (Option.some Jvm.ClassFile.FieldType.int)) (by decide) rfl ?_
  intro p e s m args below meth c s₁ B hml hv
  obtain ⟨rfl, hw, hσ⟩ := hv
  have hts := atoms_spec (ws := (ws_ yJ4_hashCode cJ4_hashCode 2 (Option.some Jvm.ClassFile.FieldType.int))) B.pre
  have C : CX p m meth c s ([.ref o] : List Value).toArray cJ4_hashCode 2 (Option.some Jvm.ClassFile.FieldType.int) RJ4 := ⟨⟨B.exec, B.bytes, hml, findClass_of_methodNamed B.named, fun w h => hts w (List.mem_cons_of_mem _ h)⟩, B.returns, B.notSynchronized⟩
  have e3 : σ.2 3 - σ.2 0 = g.2.2.1 3 - s.heap.size := by rw [hσ.1, hσ.2.2.2.1 3 (by decide)]
  have e4 : σ.2 4 - σ.2 1 = g.2.2.1 4 - hsl s.heap := by rw [hσ.2.1, hσ.2.2.2.1 4 (by decide)]
  have hR : RM g s (headSpec (ws_ yJ4_hashCode cJ4_hashCode 2 (Option.some Jvm.ClassFile.FieldType.int)) ({ frames := 4, cells := σ.2 3 - σ.2 0, slots := σ.2 4 - σ.2 1, locals := 109 })).room (4) (109) := ⟨⟨Nat.le_refl _, Nat.le_refl _⟩, Nat.le_of_eq e3.symm, Nat.le_of_eq e4.symm⟩
  generalize (headSpec (ws_ yJ4_hashCode cJ4_hashCode 2 (Option.some Jvm.ClassFile.FieldType.int)) ({ frames := 4, cells := σ.2 3 - σ.2 0, slots := σ.2 4 - σ.2 1, locals := 109 })).room = R at hR ⊢
  rw [e3, e4]
  have hI : CI g A s σ s.heap [] := ⟨hσ, va_S.rf, Nat.le_refl _⟩
  have hl := lv_entry ([.ref o]) (n := 2) (Nat.le_of_ble_eq_true rfl)
  rw [lg_entry_eq]
  generalize (lg_sl ([.ref o]) ++ List.replicate (2 - (lg_sl ([.ref o])).length) Slot.unset).toArray = ls at hl ⊢
  have hl : lv_has ls 2 [(0, .ref o)] := hl
  obtain ⟨z, hz⟩ : ∃ z, z = (v, σ1) := ⟨_, rfl⟩
  rw [← hz] at h
  rw [show v = z.1 by rw [hz], show σ1 = z.2 by rw [hz]]
  clear hz v σ1
  refine W.narrow ?_
  unfold m_J4_hashCode at h
  refine r_aload_n (x := some o) C.x C.b dJ4_hashCode_0 rfl (lv_at hl 0 rfl) ?_
  refine cw_gI (r := some o) 12 2 C hw hI h (by decide) rfl in_J4 (by decide) (C.t _ q602) (fun _ h9 => h9) dJ4_hashCode_1 (fun v_1 h => ?_)
  refine lv_istore_n (i := 1) (lv' := [(1, .int v_1), (0, .ref o)]) C.x C.b dJ4_hashCode_4 rfl hl (by decide) rfl (fun ls hl => ?_)
  refine lv_iload_n C.x C.b dJ4_hashCode_5 rfl (lv_at hl 0 rfl) ?_
  refine lv_if_ne (tgt := 58) C.x C.b dJ4_hashCode_6 (by decide) (fun c_2 => ?_) (fun c_2 => ?_)
  · have h := iN c_2 h
    refine lv_iload_n C.x C.b dJ4_hashCode_58 rfl (lv_at hl 0 rfl) ?_
    exact cw_iret C hI h dJ4_hashCode_59
  · have h := ip c_2 h
    refine r_aload_n (x := some o) C.x C.b dJ4_hashCode_9 rfl (lv_at hl 1 rfl) ?_
    refine cw_gI (r := some o) 12 3 C hw hI h (by decide) rfl in_J4 (by decide) (C.t _ q603) (fun _ h9 => h9) dJ4_hashCode_10 (fun v_3 h => ?_)
    refine lv_if_ne (tgt := 58) C.x C.b dJ4_hashCode_13 (by decide) (fun c_4 => ?_) (fun c_4 => ?_)
    · have h := iN c_4 h
      refine lv_iload_n C.x C.b dJ4_hashCode_58 rfl (lv_at hl 0 rfl) ?_
      exact cw_iret C hI h dJ4_hashCode_59
    · have h := ip c_4 h
      refine r_aload_n (x := some o) C.x C.b dJ4_hashCode_16 rfl (lv_at hl 1 rfl) ?_
      refine cw_callV (y := yJ4_isLatin1) (bytes := cJ4_isLatin1) (maxL := 1) (r := some o) (f := fun a_7 => m_J4_isLatin1 a_7 σ) 12 (fun v => some (.int v)) [] C hw hR hI hl.1 h (by decide) rfl (fun aa vv ss ee => k_J4_isLatin1 l g A aa σ vv ss ee) (cwV 0 C.t (lw_V q307 q308 q309 q131 q310) rfl rfl rfl (by decide +kernel) ⟨Nat.le_trans (Nat.le_of_ble_eq_true rfl) hR.f, Nat.le_trans (Nat.le_of_ble_eq_true rfl) hR.lo⟩) rfl rfl (Nat.le_of_ble_eq_true rfl) dJ4_hashCode_17 (fun v_5 σ_6 H locs h hI => ?_)
      refine lv_if_eq (tgt := 33) C.x C.b dJ4_hashCode_20 (by decide) (fun c_8 => ?_) (fun c_8 => ?_)
      · have h := ip c_8 h
        refine r_aload_n (x := some o) C.x C.b dJ4_hashCode_33 rfl (lv_at hl 1 rfl) ?_
        refine cw_gR (r := some o) 12 0 C hw hI h (by decide) rfl in_J4 (by decide) (C.t _ q600) (fun _ h9 => h9) dJ4_hashCode_34 (fun v_9 h => ?_)
        cases h
      · have h := iN c_8 h
        refine r_aload_n (x := some o) C.x C.b dJ4_hashCode_23 rfl (lv_at hl 1 rfl) ?_
        refine cw_gR (r := some o) 12 0 C hw hI h (by decide) rfl in_J4 (by decide) (C.t _ q600) (fun _ h9 => h9) dJ4_hashCode_24 (fun v_10 h => ?_)
        refine cw_callS (y := yJ6_hashCode) (bytes := cJ6_hashCode) (maxL := 1) (fun v => some (.int v)) [va_rf v_10] C hw hR hI hl.1 h (fun vv ss ee => k_J6_hashCode l g A v_10 σ_6 vv ss ee) (va_cwS 1 C.t (lw_S q888 q889 q134 q890) rfl rfl rfl (by decide +kernel) ⟨Nat.le_trans (Nat.le_of_ble_eq_true rfl) hR.f, Nat.le_trans (Nat.le_of_ble_eq_true rfl) hR.lo⟩) rfl rfl (Nat.le_of_ble_eq_true rfl) dJ4_hashCode_27 (fun v_11 σ_12 H locs h hI => ?_)
        refine lv_goto (tgt := 40) C.x C.b dJ4_hashCode_30 (by decide) ?_
        exact w_J4_hashCode_40 C hw hR v_11 _ _ _ _ h hI (lv_sub hl [1] rfl)

theorem k_J14_toString (l : Launch) (g : cG) (A : Nat → Prop) (x0 : Int32) (σ : cS) (v : Option Nat) (σ1 : cS) (h : m_J14_toString x0 σ = some (v, σ1)) : Met l yJ14_toString (ws_ yJ14_toString cJ14_toString 3 (Option.some (Jvm.ClassFile.FieldType.object "java/lang/String"))) ({ frames := 2, cells := σ.2 3 - σ.2 0, slots := σ.2 4 - σ.2 1, locals := 66 }) (CPc g A [.int x0] σ) (CQ g A (some (va_rf v)) σ1) (σ.2 3 - σ.2 0) (σ.2 4 - σ.2 1) A := by
  refine Met.ofW (cc := cJ14_toString) (maxL := 3) (ret := (Option.some (Jvm.ClassFile.FieldType.object "java/lang/String"))) (by decide) rfl ?_
  intro p e s m args below meth c s₁ B hml hv
  obtain ⟨rfl, hw, hσ⟩ := hv
  have hts := atoms_spec (ws := (ws_ yJ14_toString cJ14_toString 3 (Option.some (Jvm.ClassFile.FieldType.object "java/lang/String")))) B.pre
  have C : CX p m meth c s ([.int x0] : List Value).toArray cJ14_toString 3 (Option.some (Jvm.ClassFile.FieldType.object "java/lang/String")) RJ14 := ⟨⟨B.exec, B.bytes, hml, findClass_of_methodNamed B.named, fun w h => hts w (List.mem_cons_of_mem _ h)⟩, B.returns, B.notSynchronized⟩
  have e3 : σ.2 3 - σ.2 0 = g.2.2.1 3 - s.heap.size := by rw [hσ.1, hσ.2.2.2.1 3 (by decide)]
  have e4 : σ.2 4 - σ.2 1 = g.2.2.1 4 - hsl s.heap := by rw [hσ.2.1, hσ.2.2.2.1 4 (by decide)]
  have hR : RM g s (headSpec (ws_ yJ14_toString cJ14_toString 3 (Option.some (Jvm.ClassFile.FieldType.object "java/lang/String"))) ({ frames := 2, cells := σ.2 3 - σ.2 0, slots := σ.2 4 - σ.2 1, locals := 66 })).room (2) (66) := ⟨⟨Nat.le_refl _, Nat.le_refl _⟩, Nat.le_of_eq e3.symm, Nat.le_of_eq e4.symm⟩
  generalize (headSpec (ws_ yJ14_toString cJ14_toString 3 (Option.some (Jvm.ClassFile.FieldType.object "java/lang/String"))) ({ frames := 2, cells := σ.2 3 - σ.2 0, slots := σ.2 4 - σ.2 1, locals := 66 })).room = R at hR ⊢
  rw [e3, e4]
  have hI : CI g A s σ s.heap [] := ⟨hσ, va_S.rf, Nat.le_refl _⟩
  have hl := lv_entry ([.int x0]) (n := 3) (Nat.le_of_ble_eq_true rfl)
  rw [lg_entry_eq]
  generalize (lg_sl ([.int x0]) ++ List.replicate (3 - (lg_sl ([.int x0])).length) Slot.unset).toArray = ls at hl ⊢
  have hl : lv_has ls 3 [(0, .int x0)] := hl
  obtain ⟨z, hz⟩ : ∃ z, z = (v, σ1) := ⟨_, rfl⟩
  rw [← hz] at h
  rw [show v = z.1 by rw [hz], show σ1 = z.2 by rw [hz]]
  clear hz v σ1
  refine W.narrow ?_
  unfold m_J14_toString at h
  refine lv_iload_n C.x C.b dJ14_toString_0 rfl (lv_at hl 0 rfl) ?_
  refine cw_callS (y := yJ14_stringSize) (bytes := cJ14_stringSize) (maxL := 4) (fun v => some (.int v)) [.int x0] C hw hR hI hl.1 h (fun vv ss ee => k_J14_stringSize l g A x0 σ vv ss ee) (va_cwS 1 C.t (lw_S q1467 q451 q145 q452) rfl rfl rfl (by decide +kernel) ⟨Nat.le_trans (Nat.le_of_ble_eq_true rfl) hR.f, Nat.le_trans (Nat.le_of_ble_eq_true rfl) hR.lo⟩) rfl rfl (Nat.le_of_ble_eq_true rfl) dJ14_toString_1 (fun v_1 σ_2 H locs h hI => ?_)
  refine lv_istore_n (i := 1) (lv' := [(1, .int v_1), (0, .int x0)]) C.x C.b dJ14_toString_4 rfl hl (by decide) rfl (fun ls hl => ?_)
  refine va_gets C.x C.b hw.2.1.1 hI.2.1 C.o (C.t _ q1468) (fun _ h9 => h9) dJ14_toString_5 ?_
  refine lv_if_eq (tgt := 32) C.x C.b dJ14_toString_8 (by decide) (fun c_3 => ?_) (fun c_3 => ?_)
  · have h := ip c_3 h
    refine lv_iload_n C.x C.b dJ14_toString_32 rfl (lv_at hl 0 rfl) ?_
    refine lv_iconst (v := 2) C.x C.b dJ14_toString_33 (by decide) ?_
    refine lv_imul C.x C.b dJ14_toString_34 ?_
    refine cw_nAb C hw hR hI h dJ14_toString_35 (fun q_4 σ_5 H locs h hI => ?_)
    refine r_astore_n (i := 2) (x := some q_4) (lv' := [(2, .ref q_4), (1, .int v_1), (0, .int x0)]) C.x C.b dJ14_toString_37 rfl hl (by decide) (by rfl) (fun ls hl => ?_)
    refine lv_iload_n C.x C.b dJ14_toString_38 rfl (lv_at hl 2 rfl) ?_
    refine lv_iload_n C.x C.b dJ14_toString_39 rfl (lv_at hl 1 rfl) ?_
    refine r_aload_n (x := some q_4) C.x C.b dJ14_toString_40 rfl (lv_at hl 0 rfl) ?_
    cases h
  · have h := iN c_3 h
    refine lv_iload_n C.x C.b dJ14_toString_11 rfl (lv_at hl 0 rfl) ?_
    refine cw_nAb C hw hR hI h dJ14_toString_12 (fun q_6 σ_7 H locs h hI => ?_)
    refine r_astore_n (i := 2) (x := some q_6) (lv' := [(2, .ref q_6), (1, .int v_1), (0, .int x0)]) C.x C.b dJ14_toString_14 rfl hl (by decide) (by rfl) (fun ls hl => ?_)
    refine lv_iload_n C.x C.b dJ14_toString_15 rfl (lv_at hl 2 rfl) ?_
    refine lv_iload_n C.x C.b dJ14_toString_16 rfl (lv_at hl 1 rfl) ?_
    refine r_aload_n (x := some q_6) C.x C.b dJ14_toString_17 rfl (lv_at hl 0 rfl) ?_
    refine cw_callS (y := yJ14_getChars) (bytes := cJ14_getChars) (maxL := 7) (fun v => some (.int v)) [.int x0, .int v_1, .ref q_6] C hw hR hI hl.1 h (fun vv ss ee => k_J14_getChars l g A x0 v_1 (some q_6) σ_7 vv ss ee) (va_cwS 3 C.t (lw_S q1469 q492 q145 q493) rfl rfl rfl (by decide +kernel) ⟨Nat.le_trans (Nat.le_of_ble_eq_true rfl) hR.f, Nat.le_trans (Nat.le_of_ble_eq_true rfl) hR.lo⟩) rfl rfl (Nat.le_of_ble_eq_true rfl) dJ14_toString_18 (fun v_8 σ_9 H locs h hI => ?_)
    refine lv_pop C.x C.b dJ14_toString_21 rfl ?_
    refine cw_new (T := TJ4) (N := 4) 12 C hw hI hR.2.1 hR.2.2 h (by decide) rfl in_J4 tyJ4 tyJ4_ok (fun j hj => match j, hj with | 0, _ => rfl | 1, _ => rfl | 2, _ => rfl | 3, _ => rfl | j + 4, hj => absurd hj (Nat.not_lt_of_le (Nat.le_add_left _ _))) q1470 q386 q131 dJ14_toString_22 (fun q_10 σ_11 H locs h hI => ?_)
    refine lv_dup C.x C.b dJ14_toString_25 rfl ?_
    refine r_aload_n (x := some q_6) C.x C.b dJ14_toString_26 rfl (lv_at hl 0 rfl) ?_
    refine lv_iconst (v := 0) C.x C.b dJ14_toString_27 (by decide) ?_
    refine cw_callI (y := yJ4_init_3) (bytes := cJ4_init_3) (maxL := 3) (b := q_10) [.ref q_6, .int 0] C hw hR hI hl.1 h (fun vv ss ee => k_J4_init_3 l g A q_10 (some q_6) 0 σ_11 vv ss ee) (cwI 2 C.t (lw_meth q640) rfl rfl rfl (C.t _ q131) (C.t _ q1471) (C.t _ q639) rfl (by decide +kernel) ⟨Nat.le_trans (Nat.le_of_ble_eq_true rfl) hR.f, Nat.le_trans (Nat.le_of_ble_eq_true rfl) hR.lo⟩) rfl rfl (Nat.le_of_ble_eq_true rfl) dJ14_toString_28 (fun σ_12 _ H locs h hI => ?_)
    exact cw_aret (x := some q_10) C (Or.inl ⟨_, rfl⟩) hI h dJ14_toString_31

theorem k_J4_valueOf (l : Launch) (g : cG) (A : Nat → Prop) (x0 : Int32) (σ : cS) (v : Option Nat) (σ1 : cS) (h : m_J4_valueOf x0 σ = some (v, σ1)) : Met l yJ4_valueOf (ws_ yJ4_valueOf cJ4_valueOf 1 (Option.some (Jvm.ClassFile.FieldType.object "java/lang/String"))) ({ frames := 3, cells := σ.2 3 - σ.2 0, slots := σ.2 4 - σ.2 1, locals := 88 }) (CPc g A [.int x0] σ) (CQ g A (some (va_rf v)) σ1) (σ.2 3 - σ.2 0) (σ.2 4 - σ.2 1) A := by
  refine Met.ofW (cc := cJ4_valueOf) (maxL := 1) (ret := (Option.some (Jvm.ClassFile.FieldType.object "java/lang/String"))) (by decide) rfl ?_
  intro p e s m args below meth c s₁ B hml hv
  obtain ⟨rfl, hw, hσ⟩ := hv
  have hts := atoms_spec (ws := (ws_ yJ4_valueOf cJ4_valueOf 1 (Option.some (Jvm.ClassFile.FieldType.object "java/lang/String")))) B.pre
  have C : CX p m meth c s ([.int x0] : List Value).toArray cJ4_valueOf 1 (Option.some (Jvm.ClassFile.FieldType.object "java/lang/String")) RJ4 := ⟨⟨B.exec, B.bytes, hml, findClass_of_methodNamed B.named, fun w h => hts w (List.mem_cons_of_mem _ h)⟩, B.returns, B.notSynchronized⟩
  have e3 : σ.2 3 - σ.2 0 = g.2.2.1 3 - s.heap.size := by rw [hσ.1, hσ.2.2.2.1 3 (by decide)]
  have e4 : σ.2 4 - σ.2 1 = g.2.2.1 4 - hsl s.heap := by rw [hσ.2.1, hσ.2.2.2.1 4 (by decide)]
  have hR : RM g s (headSpec (ws_ yJ4_valueOf cJ4_valueOf 1 (Option.some (Jvm.ClassFile.FieldType.object "java/lang/String"))) ({ frames := 3, cells := σ.2 3 - σ.2 0, slots := σ.2 4 - σ.2 1, locals := 88 })).room (3) (88) := ⟨⟨Nat.le_refl _, Nat.le_refl _⟩, Nat.le_of_eq e3.symm, Nat.le_of_eq e4.symm⟩
  generalize (headSpec (ws_ yJ4_valueOf cJ4_valueOf 1 (Option.some (Jvm.ClassFile.FieldType.object "java/lang/String"))) ({ frames := 3, cells := σ.2 3 - σ.2 0, slots := σ.2 4 - σ.2 1, locals := 88 })).room = R at hR ⊢
  rw [e3, e4]
  have hI : CI g A s σ s.heap [] := ⟨hσ, va_S.rf, Nat.le_refl _⟩
  have hl := lv_entry ([.int x0]) (n := 1) (Nat.le_of_ble_eq_true rfl)
  rw [lg_entry_eq]
  generalize (lg_sl ([.int x0]) ++ List.replicate (1 - (lg_sl ([.int x0])).length) Slot.unset).toArray = ls at hl ⊢
  have hl : lv_has ls 1 [(0, .int x0)] := hl
  obtain ⟨z, hz⟩ : ∃ z, z = (v, σ1) := ⟨_, rfl⟩
  rw [← hz] at h
  rw [show v = z.1 by rw [hz], show σ1 = z.2 by rw [hz]]
  clear hz v σ1
  refine W.narrow ?_
  unfold m_J4_valueOf at h
  refine lv_iload_n C.x C.b dJ4_valueOf_0 rfl (lv_at hl 0 rfl) ?_
  refine cw_callS (y := yJ14_toString) (bytes := cJ14_toString) (maxL := 3) (fun v => some (va_rf v)) [.int x0] C hw hR hI hl.1 h (fun vv ss ee => k_J14_toString l g A x0 σ vv ss ee) (va_cwS 1 C.t (lw_S q1464 q1465 q145 q1466) rfl rfl rfl (by decide +kernel) ⟨Nat.le_trans (Nat.le_of_ble_eq_true rfl) hR.f, Nat.le_trans (Nat.le_of_ble_eq_true rfl) hR.lo⟩) rfl rfl (Nat.le_of_ble_eq_true rfl) dJ4_valueOf_1 (fun v_1 σ_2 H locs h hI => ?_)
  exact cw_aret (x := v_1) C (Or.inl ⟨_, rfl⟩) hI h dJ4_valueOf_4

theorem w_J15_utf16hashCode_8 {z : Int32 × cS} (C : CX p m meth c s args cJ15_utf16hashCode 6 (Option.some Jvm.ClassFile.FieldType.int) RJ15) (hw : WKc g A s s.heap) (hR : RM g s R (1) (40))  : ∀ (n : Nat) (x0 : Int32) (x1 : Option Nat) (x4 : Int32) (x5 : Int32) (σ : cS) (H : Heap) (locs : List Loc) (ls : Array Slot), b_J15_utf16hashCode_8 n x0 x1 x4 x5 σ = some z → CI g A s σ H locs → lv_has ls 6 [(0, .int x0), (1, va_rf x1), (4, .int x4), (5, .int x5)] → W p l e R s m args below meth c H locs (H.size - s.heap.size) (hsl H - hsl s.heap) (MQ below (CQ g A (some (.int z.1)) z.2) args s (g.2.2.1 3 - s.heap.size) (g.2.2.1 4 - hsl s.heap) A) (F0 m 8 ls []) := by
  intro n
  induction n with
  | zero =>
    intro x0 x1 x4 x5 σ H locs ls h
    cases h
  | succ n ih =>
    intro x0 x1 x4 x5 σ H locs ls h hI hl
    rw [b_J15_utf16hashCode_8] at h
    refine lv_iload C.x C.b dJ15_utf16hashCode_8 (lv_at hl 3 rfl) ?_
    refine lv_iload C.x C.b dJ15_utf16hashCode_10 (lv_at hl 2 rfl) ?_
    refine lv_icmp_ge (tgt := 38) C.x C.b dJ15_utf16hashCode_12 (by decide) (fun c_1 => ?_) (fun c_1 => ?_)
    · have h := ip c_1 h
      refine lv_iload_n C.x C.b dJ15_utf16hashCode_38 rfl (lv_at hl 0 rfl) ?_
      exact cw_iret C hI h dJ15_utf16hashCode_39
    · have h := iN c_1 h
      refine lv_bipush (v := 31) C.x C.b dJ15_utf16hashCode_15 (by decide) ?_
      refine lv_iload_n C.x C.b dJ15_utf16hashCode_17 rfl (lv_at hl 0 rfl) ?_
      refine lv_imul C.x C.b dJ15_utf16hashCode_18 ?_
      cases h

theorem k_J15_utf16hashCode (l : Launch) (g : cG) (A : Nat → Prop) (x0 : Int32) (x1 : Option Nat) (x2 : Int32) (x3 : Int32) (σ : cS) (v : Int32) (σ1 : cS) (h : m_J15_utf16hashCode x0 x1 x2 x3 σ = some (v, σ1)) : Met l yJ15_utf16hashCode (ws_ yJ15_utf16hashCode cJ15_utf16hashCode 6 (Option.some Jvm.ClassFile.FieldType.int)) ({ frames := 1, cells := σ.2 3 - σ.2 0, slots := σ.2 4 - σ.2 1, locals := 40 }) (CPc g A [.int x0, va_rf x1, .int x2, .int x3] σ) (CQ g A (some (.int v)) σ1) (σ.2 3 - σ.2 0) (σ.2 4 - σ.2 1) A := by
  refine Met.ofW (cc := cJ15_utf16hashCode) (maxL := 6) (ret := (Option.some Jvm.ClassFile.FieldType.int)) (by decide) rfl ?_
  intro p e s m args below meth c s₁ B hml hv
  obtain ⟨rfl, hw, hσ⟩ := hv
  have hts := atoms_spec (ws := (ws_ yJ15_utf16hashCode cJ15_utf16hashCode 6 (Option.some Jvm.ClassFile.FieldType.int))) B.pre
  have C : CX p m meth c s ([.int x0, va_rf x1, .int x2, .int x3] : List Value).toArray cJ15_utf16hashCode 6 (Option.some Jvm.ClassFile.FieldType.int) RJ15 := ⟨⟨B.exec, B.bytes, hml, findClass_of_methodNamed B.named, fun w h => hts w (List.mem_cons_of_mem _ h)⟩, B.returns, B.notSynchronized⟩
  have e3 : σ.2 3 - σ.2 0 = g.2.2.1 3 - s.heap.size := by rw [hσ.1, hσ.2.2.2.1 3 (by decide)]
  have e4 : σ.2 4 - σ.2 1 = g.2.2.1 4 - hsl s.heap := by rw [hσ.2.1, hσ.2.2.2.1 4 (by decide)]
  have hR : RM g s (headSpec (ws_ yJ15_utf16hashCode cJ15_utf16hashCode 6 (Option.some Jvm.ClassFile.FieldType.int)) ({ frames := 1, cells := σ.2 3 - σ.2 0, slots := σ.2 4 - σ.2 1, locals := 40 })).room (1) (40) := ⟨⟨Nat.le_refl _, Nat.le_refl _⟩, Nat.le_of_eq e3.symm, Nat.le_of_eq e4.symm⟩
  generalize (headSpec (ws_ yJ15_utf16hashCode cJ15_utf16hashCode 6 (Option.some Jvm.ClassFile.FieldType.int)) ({ frames := 1, cells := σ.2 3 - σ.2 0, slots := σ.2 4 - σ.2 1, locals := 40 })).room = R at hR ⊢
  rw [e3, e4]
  have hI : CI g A s σ s.heap [] := ⟨hσ, va_S.rf, Nat.le_refl _⟩
  have hlen : (lg_sl ([.int x0, va_rf x1, .int x2, .int x3])).length ≤ 6 := by rcases x1 with _ | x1 <;> exact Nat.le_of_ble_eq_true rfl
  have hl := lv_entry ([.int x0, va_rf x1, .int x2, .int x3]) (n := 6) hlen
  rw [lg_entry_eq]
  generalize (lg_sl ([.int x0, va_rf x1, .int x2, .int x3]) ++ List.replicate (6 - (lg_sl ([.int x0, va_rf x1, .int x2, .int x3])).length) Slot.unset).toArray = ls at hl ⊢
  have hl : lv_has ls 6 [(0, .int x0), (1, va_rf x1), (2, .int x2), (3, .int x3)] := by clear hI hw h hσ e3 e4 hR C hts B; rcases x1 with _ | x1 <;> exact hl
  obtain ⟨z, hz⟩ : ∃ z, z = (v, σ1) := ⟨_, rfl⟩
  rw [← hz] at h
  rw [show v = z.1 by rw [hz], show σ1 = z.2 by rw [hz]]
  clear hz v σ1
  refine W.narrow ?_
  unfold m_J15_utf16hashCode at h
  refine lv_iload_n C.x C.b dJ15_utf16hashCode_0 rfl (lv_at hl 2 rfl) ?_
  refine lv_iload_n C.x C.b dJ15_utf16hashCode_1 rfl (lv_at hl 3 rfl) ?_
  refine lv_iadd C.x C.b dJ15_utf16hashCode_2 ?_
  refine tw_lt h (fun x4_1 h => ?_)
  refine lv_istore (i := 4) (lv' := [(4, .int x4_1), (0, .int x0), (1, va_rf x1), (2, .int x2), (3, .int x3)]) C.x C.b dJ15_utf16hashCode_3 hl (by decide) (by first | (simp [List.filter, cat_rf, cat_i, cat_a, cat_n, cat_l, cat_f, cat_d]; done) | (simp [List.filter, cat_rf, cat_i, cat_a, cat_n, cat_l, cat_f, cat_d]; rfl)) (fun ls hl => ?_)
  refine lv_iload_n C.x C.b dJ15_utf16hashCode_5 rfl (lv_at hl 3 rfl) ?_
  refine lv_istore (i := 5) (lv' := [(5, .int x2), (4, .int x4_1), (0, .int x0), (1, va_rf x1), (2, .int x2), (3, .int x3)]) C.x C.b dJ15_utf16hashCode_6 hl (by decide) (by first | (simp [List.filter, cat_rf, cat_i, cat_a, cat_n, cat_l, cat_f, cat_d]; done) | (simp [List.filter, cat_rf, cat_i, cat_a, cat_n, cat_l, cat_f, cat_d]; rfl)) (fun ls hl => ?_)
  exact w_J15_utf16hashCode_8 C hw hR _ x0 x1 x4_1 x2 _ _ _ _ h hI (lv_sub hl [2, 3, 1, 0] rfl)

theorem w_J15_hashCode_8 {z : Int32 × cS} (C : CX p m meth c s args cJ15_hashCode 6 (Option.some Jvm.ClassFile.FieldType.int) RJ15) (hw : WKc g A s s.heap) (hR : RM g s R (1) (40))  : ∀ (n : Nat) (x0 : Int32) (x1 : Option Nat) (x4 : Int32) (x5 : Int32) (σ : cS) (H : Heap) (locs : List Loc) (ls : Array Slot), b_J15_hashCode_8 n x0 x1 x4 x5 σ = some z → CI g A s σ H locs → lv_has ls 6 [(0, .int x0), (1, va_rf x1), (4, .int x4), (5, .int x5)] → W p l e R s m args below meth c H locs (H.size - s.heap.size) (hsl H - hsl s.heap) (MQ below (CQ g A (some (.int z.1)) z.2) args s (g.2.2.1 3 - s.heap.size) (g.2.2.1 4 - hsl s.heap) A) (F0 m 8 ls []) := by
  intro n
  induction n with
  | zero =>
    intro x0 x1 x4 x5 σ H locs ls h
    cases h
  | succ n ih =>
    intro x0 x1 x4 x5 σ H locs ls h hI hl
    rw [b_J15_hashCode_8] at h
    refine lv_iload C.x C.b dJ15_hashCode_8 (lv_at hl 3 rfl) ?_
    refine lv_iload C.x C.b dJ15_hashCode_10 (lv_at hl 2 rfl) ?_
    refine lv_icmp_ge (tgt := 31) C.x C.b dJ15_hashCode_12 (by decide) (fun c_1 => ?_) (fun c_1 => ?_)
    · have h := ip c_1 h
      refine lv_iload_n C.x C.b dJ15_hashCode_31 rfl (lv_at hl 0 rfl) ?_
      exact cw_iret C hI h dJ15_hashCode_32
    · have h := iN c_1 h
      refine lv_bipush (v := 31) C.x C.b dJ15_hashCode_15 (by decide) ?_
      refine lv_iload_n C.x C.b dJ15_hashCode_17 rfl (lv_at hl 0 rfl) ?_
      refine lv_imul C.x C.b dJ15_hashCode_18 ?_
      refine r_aload_n (x := x1) C.x C.b dJ15_hashCode_19 rfl (lv_at hl 1 rfl) ?_
      refine lv_iload C.x C.b dJ15_hashCode_20 (lv_at hl 3 rfl) ?_
      cases h

theorem k_J15_hashCode (l : Launch) (g : cG) (A : Nat → Prop) (x0 : Int32) (x1 : Option Nat) (x2 : Int32) (x3 : Int32) (σ : cS) (v : Int32) (σ1 : cS) (h : m_J15_hashCode x0 x1 x2 x3 σ = some (v, σ1)) : Met l yJ15_hashCode (ws_ yJ15_hashCode cJ15_hashCode 6 (Option.some Jvm.ClassFile.FieldType.int)) ({ frames := 1, cells := σ.2 3 - σ.2 0, slots := σ.2 4 - σ.2 1, locals := 40 }) (CPc g A [.int x0, va_rf x1, .int x2, .int x3] σ) (CQ g A (some (.int v)) σ1) (σ.2 3 - σ.2 0) (σ.2 4 - σ.2 1) A := by
  refine Met.ofW (cc := cJ15_hashCode) (maxL := 6) (ret := (Option.some Jvm.ClassFile.FieldType.int)) (by decide) rfl ?_
  intro p e s m args below meth c s₁ B hml hv
  obtain ⟨rfl, hw, hσ⟩ := hv
  have hts := atoms_spec (ws := (ws_ yJ15_hashCode cJ15_hashCode 6 (Option.some Jvm.ClassFile.FieldType.int))) B.pre
  have C : CX p m meth c s ([.int x0, va_rf x1, .int x2, .int x3] : List Value).toArray cJ15_hashCode 6 (Option.some Jvm.ClassFile.FieldType.int) RJ15 := ⟨⟨B.exec, B.bytes, hml, findClass_of_methodNamed B.named, fun w h => hts w (List.mem_cons_of_mem _ h)⟩, B.returns, B.notSynchronized⟩
  have e3 : σ.2 3 - σ.2 0 = g.2.2.1 3 - s.heap.size := by rw [hσ.1, hσ.2.2.2.1 3 (by decide)]
  have e4 : σ.2 4 - σ.2 1 = g.2.2.1 4 - hsl s.heap := by rw [hσ.2.1, hσ.2.2.2.1 4 (by decide)]
  have hR : RM g s (headSpec (ws_ yJ15_hashCode cJ15_hashCode 6 (Option.some Jvm.ClassFile.FieldType.int)) ({ frames := 1, cells := σ.2 3 - σ.2 0, slots := σ.2 4 - σ.2 1, locals := 40 })).room (1) (40) := ⟨⟨Nat.le_refl _, Nat.le_refl _⟩, Nat.le_of_eq e3.symm, Nat.le_of_eq e4.symm⟩
  generalize (headSpec (ws_ yJ15_hashCode cJ15_hashCode 6 (Option.some Jvm.ClassFile.FieldType.int)) ({ frames := 1, cells := σ.2 3 - σ.2 0, slots := σ.2 4 - σ.2 1, locals := 40 })).room = R at hR ⊢
  rw [e3, e4]
  have hI : CI g A s σ s.heap [] := ⟨hσ, va_S.rf, Nat.le_refl _⟩
  have hlen : (lg_sl ([.int x0, va_rf x1, .int x2, .int x3])).length ≤ 6 := by rcases x1 with _ | x1 <;> exact Nat.le_of_ble_eq_true rfl
  have hl := lv_entry ([.int x0, va_rf x1, .int x2, .int x3]) (n := 6) hlen
  rw [lg_entry_eq]
  generalize (lg_sl ([.int x0, va_rf x1, .int x2, .int x3]) ++ List.replicate (6 - (lg_sl ([.int x0, va_rf x1, .int x2, .int x3])).length) Slot.unset).toArray = ls at hl ⊢
  have hl : lv_has ls 6 [(0, .int x0), (1, va_rf x1), (2, .int x2), (3, .int x3)] := by clear hI hw h hσ e3 e4 hR C hts B; rcases x1 with _ | x1 <;> exact hl
  obtain ⟨z, hz⟩ : ∃ z, z = (v, σ1) := ⟨_, rfl⟩
  rw [← hz] at h
  rw [show v = z.1 by rw [hz], show σ1 = z.2 by rw [hz]]
  clear hz v σ1
  refine W.narrow ?_
  unfold m_J15_hashCode at h
  refine lv_iload_n C.x C.b dJ15_hashCode_0 rfl (lv_at hl 2 rfl) ?_
  refine lv_iload_n C.x C.b dJ15_hashCode_1 rfl (lv_at hl 3 rfl) ?_
  refine lv_iadd C.x C.b dJ15_hashCode_2 ?_
  refine tw_lt h (fun x4_1 h => ?_)
  refine lv_istore (i := 4) (lv' := [(4, .int x4_1), (0, .int x0), (1, va_rf x1), (2, .int x2), (3, .int x3)]) C.x C.b dJ15_hashCode_3 hl (by decide) (by first | (simp [List.filter, cat_rf, cat_i, cat_a, cat_n, cat_l, cat_f, cat_d]; done) | (simp [List.filter, cat_rf, cat_i, cat_a, cat_n, cat_l, cat_f, cat_d]; rfl)) (fun ls hl => ?_)
  refine lv_iload_n C.x C.b dJ15_hashCode_5 rfl (lv_at hl 3 rfl) ?_
  refine lv_istore (i := 5) (lv' := [(5, .int x2), (4, .int x4_1), (0, .int x0), (1, va_rf x1), (2, .int x2), (3, .int x3)]) C.x C.b dJ15_hashCode_6 hl (by decide) (by first | (simp [List.filter, cat_rf, cat_i, cat_a, cat_n, cat_l, cat_f, cat_d]; done) | (simp [List.filter, cat_rf, cat_i, cat_a, cat_n, cat_l, cat_f, cat_d]; rfl)) (fun ls hl => ?_)
  exact w_J15_hashCode_8 C hw hR _ x0 x1 x4_1 x2 _ _ _ _ h hI (lv_sub hl [2, 3, 1, 0] rfl)

theorem w_J15_hashCode_4_8 {z : Int32 × cS} (C : CX p m meth c s args cJ15_hashCode_4 6 (Option.some Jvm.ClassFile.FieldType.int) RJ15) (hw : WKc g A s s.heap) (hR : RM g s R (1) (40))  : ∀ (n : Nat) (x0 : Int32) (x1 : Option Nat) (x4 : Int32) (x5 : Int32) (σ : cS) (H : Heap) (locs : List Loc) (ls : Array Slot), b_J15_hashCode_4_8 n x0 x1 x4 x5 σ = some z → CI g A s σ H locs → lv_has ls 6 [(0, .int x0), (1, va_rf x1), (4, .int x4), (5, .int x5)] → W p l e R s m args below meth c H locs (H.size - s.heap.size) (hsl H - hsl s.heap) (MQ below (CQ g A (some (.int z.1)) z.2) args s (g.2.2.1 3 - s.heap.size) (g.2.2.1 4 - hsl s.heap) A) (F0 m 8 ls []) := by
  intro n
  induction n with
  | zero =>
    intro x0 x1 x4 x5 σ H locs ls h
    cases h
  | succ n ih =>
    intro x0 x1 x4 x5 σ H locs ls h hI hl
    rw [b_J15_hashCode_4_8] at h
    refine lv_iload C.x C.b dJ15_hashCode_4_8 (lv_at hl 3 rfl) ?_
    refine lv_iload C.x C.b dJ15_hashCode_4_10 (lv_at hl 2 rfl) ?_
    refine lv_icmp_ge (tgt := 31) C.x C.b dJ15_hashCode_4_12 (by decide) (fun c_1 => ?_) (fun c_1 => ?_)
    · have h := ip c_1 h
      refine lv_iload_n C.x C.b dJ15_hashCode_4_31 rfl (lv_at hl 0 rfl) ?_
      exact cw_iret C hI h dJ15_hashCode_4_32
    · have h := iN c_1 h
      refine lv_bipush (v := 31) C.x C.b dJ15_hashCode_4_15 (by decide) ?_
      refine lv_iload_n C.x C.b dJ15_hashCode_4_17 rfl (lv_at hl 0 rfl) ?_
      refine lv_imul C.x C.b dJ15_hashCode_4_18 ?_
      refine r_aload_n (x := x1) C.x C.b dJ15_hashCode_4_19 rfl (lv_at hl 1 rfl) ?_
      refine lv_iload C.x C.b dJ15_hashCode_4_20 (lv_at hl 3 rfl) ?_
      refine cw_ild (r := x1) C hw hI h dJ15_hashCode_4_22 (fun v_2 h => ?_)
      refine lv_iadd C.x C.b dJ15_hashCode_4_23 ?_
      refine tw_lt h (fun x0_3 h => ?_)
      refine lv_istore_n (i := 0) (lv' := [(0, .int x0_3), (1, va_rf x1), (4, .int x4), (5, .int x5)]) C.x C.b dJ15_hashCode_4_24 rfl hl (by decide) (by first | (simp [List.filter, cat_rf, cat_i, cat_a, cat_n, cat_l, cat_f, cat_d]; done) | (simp [List.filter, cat_rf, cat_i, cat_a, cat_n, cat_l, cat_f, cat_d]; rfl)) (fun ls hl => ?_)
      obtain ⟨x5_4, e_, h⟩ := nm_s h
      refine lv_iinc (v := x5_4) (lv' := [(5, .int x5_4), (0, .int x0_3), (1, va_rf x1), (4, .int x4)]) C.x C.b dJ15_hashCode_4_25 hl (k := 3) rfl e_.symm (by decide) (by first | (simp [List.filter, cat_rf, cat_i, cat_a, cat_n, cat_l, cat_f, cat_d]; done) | (simp [List.filter, cat_rf, cat_i, cat_a, cat_n, cat_l, cat_f, cat_d]; rfl)) (fun ls hl => ?_)
      refine lv_goto (tgt := 8) C.x C.b dJ15_hashCode_4_28 (by decide) ?_
      exact ih x0_3 x1 x4 x5_4 _ _ _ _ h hI (lv_sub hl [1, 2, 3, 0] rfl)

theorem k_J15_hashCode_4 (l : Launch) (g : cG) (A : Nat → Prop) (x0 : Int32) (x1 : Option Nat) (x2 : Int32) (x3 : Int32) (σ : cS) (v : Int32) (σ1 : cS) (h : m_J15_hashCode_4 x0 x1 x2 x3 σ = some (v, σ1)) : Met l yJ15_hashCode_4 (ws_ yJ15_hashCode_4 cJ15_hashCode_4 6 (Option.some Jvm.ClassFile.FieldType.int)) ({ frames := 1, cells := σ.2 3 - σ.2 0, slots := σ.2 4 - σ.2 1, locals := 40 }) (CPc g A [.int x0, va_rf x1, .int x2, .int x3] σ) (CQ g A (some (.int v)) σ1) (σ.2 3 - σ.2 0) (σ.2 4 - σ.2 1) A := by
  refine Met.ofW (cc := cJ15_hashCode_4) (maxL := 6) (ret := (Option.some Jvm.ClassFile.FieldType.int)) (by decide) rfl ?_
  intro p e s m args below meth c s₁ B hml hv
  obtain ⟨rfl, hw, hσ⟩ := hv
  have hts := atoms_spec (ws := (ws_ yJ15_hashCode_4 cJ15_hashCode_4 6 (Option.some Jvm.ClassFile.FieldType.int))) B.pre
  have C : CX p m meth c s ([.int x0, va_rf x1, .int x2, .int x3] : List Value).toArray cJ15_hashCode_4 6 (Option.some Jvm.ClassFile.FieldType.int) RJ15 := ⟨⟨B.exec, B.bytes, hml, findClass_of_methodNamed B.named, fun w h => hts w (List.mem_cons_of_mem _ h)⟩, B.returns, B.notSynchronized⟩
  have e3 : σ.2 3 - σ.2 0 = g.2.2.1 3 - s.heap.size := by rw [hσ.1, hσ.2.2.2.1 3 (by decide)]
  have e4 : σ.2 4 - σ.2 1 = g.2.2.1 4 - hsl s.heap := by rw [hσ.2.1, hσ.2.2.2.1 4 (by decide)]
  have hR : RM g s (headSpec (ws_ yJ15_hashCode_4 cJ15_hashCode_4 6 (Option.some Jvm.ClassFile.FieldType.int)) ({ frames := 1, cells := σ.2 3 - σ.2 0, slots := σ.2 4 - σ.2 1, locals := 40 })).room (1) (40) := ⟨⟨Nat.le_refl _, Nat.le_refl _⟩, Nat.le_of_eq e3.symm, Nat.le_of_eq e4.symm⟩
  generalize (headSpec (ws_ yJ15_hashCode_4 cJ15_hashCode_4 6 (Option.some Jvm.ClassFile.FieldType.int)) ({ frames := 1, cells := σ.2 3 - σ.2 0, slots := σ.2 4 - σ.2 1, locals := 40 })).room = R at hR ⊢
  rw [e3, e4]
  have hI : CI g A s σ s.heap [] := ⟨hσ, va_S.rf, Nat.le_refl _⟩
  have hlen : (lg_sl ([.int x0, va_rf x1, .int x2, .int x3])).length ≤ 6 := by rcases x1 with _ | x1 <;> exact Nat.le_of_ble_eq_true rfl
  have hl := lv_entry ([.int x0, va_rf x1, .int x2, .int x3]) (n := 6) hlen
  rw [lg_entry_eq]
  generalize (lg_sl ([.int x0, va_rf x1, .int x2, .int x3]) ++ List.replicate (6 - (lg_sl ([.int x0, va_rf x1, .int x2, .int x3])).length) Slot.unset).toArray = ls at hl ⊢
  have hl : lv_has ls 6 [(0, .int x0), (1, va_rf x1), (2, .int x2), (3, .int x3)] := by clear hI hw h hσ e3 e4 hR C hts B; rcases x1 with _ | x1 <;> exact hl
  obtain ⟨z, hz⟩ : ∃ z, z = (v, σ1) := ⟨_, rfl⟩
  rw [← hz] at h
  rw [show v = z.1 by rw [hz], show σ1 = z.2 by rw [hz]]
  clear hz v σ1
  refine W.narrow ?_
  unfold m_J15_hashCode_4 at h
  refine lv_iload_n C.x C.b dJ15_hashCode_4_0 rfl (lv_at hl 2 rfl) ?_
  refine lv_iload_n C.x C.b dJ15_hashCode_4_1 rfl (lv_at hl 3 rfl) ?_
  refine lv_iadd C.x C.b dJ15_hashCode_4_2 ?_
  refine tw_lt h (fun x4_1 h => ?_)
  refine lv_istore (i := 4) (lv' := [(4, .int x4_1), (0, .int x0), (1, va_rf x1), (2, .int x2), (3, .int x3)]) C.x C.b dJ15_hashCode_4_3 hl (by decide) (by first | (simp [List.filter, cat_rf, cat_i, cat_a, cat_n, cat_l, cat_f, cat_d]; done) | (simp [List.filter, cat_rf, cat_i, cat_a, cat_n, cat_l, cat_f, cat_d]; rfl)) (fun ls hl => ?_)
  refine lv_iload_n C.x C.b dJ15_hashCode_4_5 rfl (lv_at hl 3 rfl) ?_
  refine lv_istore (i := 5) (lv' := [(5, .int x2), (4, .int x4_1), (0, .int x0), (1, va_rf x1), (2, .int x2), (3, .int x3)]) C.x C.b dJ15_hashCode_4_6 hl (by decide) (by first | (simp [List.filter, cat_rf, cat_i, cat_a, cat_n, cat_l, cat_f, cat_d]; done) | (simp [List.filter, cat_rf, cat_i, cat_a, cat_n, cat_l, cat_f, cat_d]; rfl)) (fun ls hl => ?_)
  exact w_J15_hashCode_4_8 C hw hR _ x0 x1 x4_1 x2 _ _ _ _ h hI (lv_sub hl [2, 3, 1, 0] rfl)

end
