/-! THE CLASS' WALKS 38: printed by gencl.py -/
section
variable {p : Program} {l : Launch} {e : Env} {R : Room} {s : State} {m : MethodId} {args : Array Value} {below : List Frame} {meth : Method} {c : Code} {g : cG} {A : Nat → Prop}
set_option maxRecDepth 100000
theorem k_X1_restoreSnapshot (l : Launch) (hl0 : l.stackTraces = false) (g : cG) (A : Nat → Prop) (o : Nat) (x1 : Int32) (σ : cS) (z : (cX (Int32)) × cS) (h : m_X1_restoreSnapshot o x1 σ = some z) : MetX l yX1_restoreSnapshot (ws_ yX1_restoreSnapshot cX1_restoreSnapshot 2 (Option.some Jvm.ClassFile.FieldType.int)) ({ frames := 9, cells := σ.2 3 - σ.2 0, slots := σ.2 4 - σ.2 1, locals := 193 }) g A [.ref o, .int x1] σ (fun v => some (.int v)) z (σ.2 3 - σ.2 0) (σ.2 4 - σ.2 1) := by
  refine metx_of (cc := cX1_restoreSnapshot) (maxL := 2) (ret := (Option.some Jvm.ClassFile.FieldType.int)) (by decide) rfl ?_
  intro p e s m args below meth c s₁ B hml hx hv
  obtain ⟨rfl, hw, hσ⟩ := hv
  have hts := atoms_spec (ws := (ws_ yX1_restoreSnapshot cX1_restoreSnapshot 2 (Option.some Jvm.ClassFile.FieldType.int))) B.pre
  have C : CX p m meth c s ([.ref o, .int x1] : List Value).toArray cX1_restoreSnapshot 2 (Option.some Jvm.ClassFile.FieldType.int) RX1 := ⟨⟨B.exec, B.bytes, hml, findClass_of_methodNamed B.named, fun w h => hts w (List.mem_cons_of_mem _ h)⟩, B.returns, B.notSynchronized⟩
  have e3 : σ.2 3 - σ.2 0 = g.2.2.1 3 - s.heap.size := by rw [hσ.1, hσ.2.2.2.1 3 (by decide)]
  have e4 : σ.2 4 - σ.2 1 = g.2.2.1 4 - hsl s.heap := by rw [hσ.2.1, hσ.2.2.2.1 4 (by decide)]
  have hR : RM g s (headSpec (ws_ yX1_restoreSnapshot cX1_restoreSnapshot 2 (Option.some Jvm.ClassFile.FieldType.int)) ({ frames := 9, cells := σ.2 3 - σ.2 0, slots := σ.2 4 - σ.2 1, locals := 193 })).room (9) (193) := ⟨⟨Nat.le_refl _, Nat.le_refl _⟩, Nat.le_of_eq e3.symm, Nat.le_of_eq e4.symm⟩
  generalize (headSpec (ws_ yX1_restoreSnapshot cX1_restoreSnapshot 2 (Option.some Jvm.ClassFile.FieldType.int)) ({ frames := 9, cells := σ.2 3 - σ.2 0, slots := σ.2 4 - σ.2 1, locals := 193 })).room = R at hR ⊢
  rw [e3, e4]
  have hI : CI g A s σ s.heap [] := ⟨hσ, va_S.rf, Nat.le_refl _⟩
  have hl := lv_entry ([.ref o, .int x1]) (n := 2) (Nat.le_of_ble_eq_true rfl)
  rw [lg_entry_eq]
  generalize (lg_sl ([.ref o, .int x1]) ++ List.replicate (2 - (lg_sl ([.ref o, .int x1])).length) Slot.unset).toArray = ls at hl ⊢
  have hl : lv_has ls 2 [(0, .ref o), (1, .int x1)] := hl
  refine W.narrow ?_
  unfold m_X1_restoreSnapshot at h
  refine lv_iload_n C.x C.b dX1_restoreSnapshot_0 rfl (lv_at hl 1 rfl) ?_
  refine lv_iconst (v := 0) C.x C.b dX1_restoreSnapshot_1 (by decide) ?_
  refine lv_iconst (v := 1) C.x C.b dX1_restoreSnapshot_2 (by decide) ?_
  refine cx_callS (y := yX1_check) (bytes := cX1_check) (maxL := 3) (fun _ => none) [.int x1, .int 0, .int 1] C hx hw hR hI hl.1 h (fun uu ee => k_X1_check l hl0 g A x1 0 1 σ uu ee) (va_cwS 3 C.t (lw_S q1537 q1538 q126 q1539) rfl rfl rfl (by decide +kernel) ⟨Nat.le_trans (Nat.le_of_ble_eq_true rfl) hR.f, Nat.le_trans (Nat.le_of_ble_eq_true rfl) hR.lo⟩) rfl rfl (Nat.le_of_ble_eq_true rfl) dX1_restoreSnapshot_3 (fun _ σ_1 H locs h hI => ?_)
  refine r_aload_n (x := some o) C.x C.b dX1_restoreSnapshot_6 rfl (lv_at hl 0 rfl) ?_
  refine cw_gR (r := some o) 0 2 C hw hI h (by decide) rfl in_X1 (by decide) (C.t _ q1174) (fun _ h9 => h9) dX1_restoreSnapshot_7 (fun v_2 h => ?_)
  refine lv_iload_n C.x C.b dX1_restoreSnapshot_10 rfl (lv_at hl 1 rfl) ?_
  refine cw_rld (r := v_2) C hw hI h dX1_restoreSnapshot_11 (fun v_3 h => ?_)
  refine r_ifnonnull (x := v_3) (tgt := 23) C.x C.b dX1_restoreSnapshot_12 (by decide) (fun c_4 => ?_) (fun c_4 => ?_)
  · have h := iN c_4 h
    refine r_aload_n (x := some o) C.x C.b dX1_restoreSnapshot_23 rfl (lv_at hl 0 rfl) ?_
    refine r_aload_n (x := some o) C.x C.b dX1_restoreSnapshot_24 rfl (lv_at hl 0 rfl) ?_
    refine cw_gR (r := some o) 0 2 C hw hI h (by decide) rfl in_X1 (by decide) (C.t _ q1174) (fun _ h9 => h9) dX1_restoreSnapshot_25 (fun v_5 h => ?_)
    refine lv_iload_n C.x C.b dX1_restoreSnapshot_28 rfl (lv_at hl 1 rfl) ?_
    refine cw_rld (r := v_5) C hw hI h dX1_restoreSnapshot_29 (fun v_6 h => ?_)
    refine cw_callV (y := yX4_duplicate) (bytes := cX4_duplicate) (maxL := 3) (r := v_6) (f := fun a_9 => m_X4_duplicate a_9 σ_1) 1 (fun v => some (va_rf v)) [] C hw hR hI hl.1 h (by decide) rfl (fun aa vv ss ee => k_X4_duplicate l g A aa σ_1 vv ss ee) (cwV 0 C.t (lw_V q1359 q1360 q1361 q150 q1362) rfl rfl rfl (by decide +kernel) ⟨Nat.le_trans (Nat.le_of_ble_eq_true rfl) hR.f, Nat.le_trans (Nat.le_of_ble_eq_true rfl) hR.lo⟩) rfl rfl (Nat.le_of_ble_eq_true rfl) dX1_restoreSnapshot_30 (fun v_7 σ_8 H locs h hI => ?_)
    refine cw_pO (r := some o) (v := (va_rf v_7)) (ty := (.object "HeirCases$Will")) 0 0 C hw hI h (by decide) rfl in_X1 tyX1 tyX1_ok nmX1 (by decide) (C.t _ q1172) (fun _ h9 => h9) (Or.inl rfl) (by decide +kernel) (nar_o _ _) (fits_o _ _) dX1_restoreSnapshot_33 (fun σ_10 H locs h hI => ?_)
    refine r_aload_n (x := some o) C.x C.b dX1_restoreSnapshot_36 rfl (lv_at hl 0 rfl) ?_
    refine cw_gR (r := some o) 0 1 C hw hI h (by decide) rfl in_X1 (by decide) (C.t _ q1173) (fun _ h9 => h9) dX1_restoreSnapshot_37 (fun v_11 h => ?_)
    refine cw_callV (y := yJ1_clear) (bytes := cJ1_clear) (maxL := 1) (r := v_11) (f := fun a_13 => m_J1_clear a_13 σ_10) 10 (fun _ => none) [] C hw hR hI hl.1 h (by decide) rfl (fun aa vv ss ee => k_J1_clear l g A aa σ_10 vv ss ee) (cwV 0 C.t (lw_V q1149 q1150 q1151 q128 q1152) rfl rfl rfl (by decide +kernel) ⟨Nat.le_trans (Nat.le_of_ble_eq_true rfl) hR.f, Nat.le_trans (Nat.le_of_ble_eq_true rfl) hR.lo⟩) rfl rfl (Nat.le_of_ble_eq_true rfl) dX1_restoreSnapshot_40 (fun _ σ_12 H locs h hI => ?_)
    refine r_aload_n (x := some o) C.x C.b dX1_restoreSnapshot_43 rfl (lv_at hl 0 rfl) ?_
    refine cw_gR (r := some o) 0 0 C hw hI h (by decide) rfl in_X1 (by decide) (C.t _ q1172) (fun _ h9 => h9) dX1_restoreSnapshot_44 (fun v_14 h => ?_)
    refine cw_gR (r := v_14) 1 4 C hw hI h (by decide) rfl in_X4 (by decide) (C.t _ q851) (fun _ h9 => h9) dX1_restoreSnapshot_47 (fun v_15 h => ?_)
    refine cw_callV (y := yJ18_size) (bytes := cJ18_size) (maxL := 1) (r := v_15) (f := fun a_18 => m_J18_size a_18 σ_12) 9 (fun v => some (.int v)) [] C hw hR hI hl.1 h (by decide) rfl (fun aa vv ss ee => k_J18_size l g A aa σ_12 vv ss ee) (cwV 0 C.t (lw_V q1339 q947 q948 q152 q949) rfl rfl rfl (by decide +kernel) ⟨Nat.le_trans (Nat.le_of_ble_eq_true rfl) hR.f, Nat.le_trans (Nat.le_of_ble_eq_true rfl) hR.lo⟩) rfl rfl (Nat.le_of_ble_eq_true rfl) dX1_restoreSnapshot_50 (fun v_16 σ_17 H locs h hI => ?_)
    exact uq_l h (fun y h => cw_iret C hI h dX1_restoreSnapshot_53)
  · have h := ip c_4 h
    exact cx_thr (names := ["java/lang/RuntimeException", "java/lang/Exception"]) 4 hl0 C hx hw hR hI hl.1 h (by decide) (by decide +kernel) (by decide +kernel) (C.t _ q1156) (C.t _ q158) (hat_4 C hw) (by decide +kernel) dX1_restoreSnapshot_15 dX1_restoreSnapshot_18 dX1_restoreSnapshot_19 dX1_restoreSnapshot_22 (Nat.le_of_ble_eq_true rfl) (Nat.lt_of_lt_of_le (Nat.lt_of_lt_of_le (Nat.lt_succ_self _) (Nat.le_of_ble_eq_true rfl)) hR.f) (Nat.le_trans (Nat.le_of_ble_eq_true rfl) hR.lo)

end
