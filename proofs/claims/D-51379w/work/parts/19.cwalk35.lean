/-! THE CLASS' WALKS 35: printed by gencl.py -/
section
variable {p : Program} {l : Launch} {e : Env} {R : Room} {s : State} {m : MethodId} {args : Array Value} {below : List Frame} {meth : Method} {c : Code} {g : cG} {A : Nat → Prop}
set_option maxRecDepth 100000
theorem k_X1_gapsWithout (l : Launch) (hl0 : l.stackTraces = false) (g : cG) (A : Nat → Prop) (o : Nat) (x1 : Int32) (σ : cS) (z : (cX (Int32)) × cS) (h : m_X1_gapsWithout o x1 σ = some z) : MetX l yX1_gapsWithout (ws_ yX1_gapsWithout cX1_gapsWithout 2 (Option.some Jvm.ClassFile.FieldType.int)) ({ frames := 261, cells := σ.2 3 - σ.2 0, slots := σ.2 4 - σ.2 1, locals := 6515 }) g A [.ref o, .int x1] σ (fun v => some (.int v)) z (σ.2 3 - σ.2 0) (σ.2 4 - σ.2 1) := by
  refine metx_of (cc := cX1_gapsWithout) (maxL := 2) (ret := (Option.some Jvm.ClassFile.FieldType.int)) (by decide) rfl ?_
  intro p e s m args below meth c s₁ B hml hx hv
  obtain ⟨rfl, hw, hσ⟩ := hv
  have hts := atoms_spec (ws := (ws_ yX1_gapsWithout cX1_gapsWithout 2 (Option.some Jvm.ClassFile.FieldType.int))) B.pre
  have C : CX p m meth c s ([.ref o, .int x1] : List Value).toArray cX1_gapsWithout 2 (Option.some Jvm.ClassFile.FieldType.int) RX1 := ⟨⟨B.exec, B.bytes, hml, findClass_of_methodNamed B.named, fun w h => hts w (List.mem_cons_of_mem _ h)⟩, B.returns, B.notSynchronized⟩
  have hnm : s.methodNamed? yX1_gapsWithout = some m := B.named
  have e3 : σ.2 3 - σ.2 0 = g.2.2.1 3 - s.heap.size := by rw [hσ.1, hσ.2.2.2.1 3 (by decide)]
  have e4 : σ.2 4 - σ.2 1 = g.2.2.1 4 - hsl s.heap := by rw [hσ.2.1, hσ.2.2.2.1 4 (by decide)]
  have hR : RM g s (headSpec (ws_ yX1_gapsWithout cX1_gapsWithout 2 (Option.some Jvm.ClassFile.FieldType.int)) ({ frames := 261, cells := σ.2 3 - σ.2 0, slots := σ.2 4 - σ.2 1, locals := 6515 })).room (261) (6515) := ⟨⟨Nat.le_refl _, Nat.le_refl _⟩, Nat.le_of_eq e3.symm, Nat.le_of_eq e4.symm⟩
  generalize (headSpec (ws_ yX1_gapsWithout cX1_gapsWithout 2 (Option.some Jvm.ClassFile.FieldType.int)) ({ frames := 261, cells := σ.2 3 - σ.2 0, slots := σ.2 4 - σ.2 1, locals := 6515 })).room = R at hR ⊢
  rw [e3, e4]
  have hI : CI g A s σ s.heap [] := ⟨hσ, va_S.rf, Nat.le_refl _⟩
  have hl := lv_entry ([.ref o, .int x1]) (n := 2) (Nat.le_of_ble_eq_true rfl)
  rw [lg_entry_eq]
  generalize (lg_sl ([.ref o, .int x1]) ++ List.replicate (2 - (lg_sl ([.ref o, .int x1])).length) Slot.unset).toArray = ls at hl ⊢
  have hl : lv_has ls 2 [(0, .ref o), (1, .int x1)] := hl
  refine W.narrow ?_
  unfold m_X1_gapsWithout at h
  refine r_aload_n (x := some o) C.x C.b dX1_gapsWithout_0 rfl (lv_at hl 0 rfl) ?_
  refine lv_iload_n C.x C.b dX1_gapsWithout_1 rfl (lv_at hl 1 rfl) ?_
  refine cx_callV (y := yX1_ruleAt) (bytes := cX1_ruleAt) (maxL := 2) (r := some o) (f := fun a_3 => m_X1_ruleAt a_3 x1 σ) 0 (fun v => some (va_rf v)) [.int x1] C hx hw hR hI hl.1 h (by decide) rfl (fun aa uu ee => k_X1_ruleAt l hl0 g A aa x1 σ uu ee) (cwV 1 C.t (lw_V q1582 q1584 qs39 q126 q1585) rfl rfl rfl (by decide +kernel) ⟨Nat.le_trans (Nat.le_of_ble_eq_true rfl) hR.f, Nat.le_trans (Nat.le_of_ble_eq_true rfl) hR.lo⟩) rfl rfl (Nat.le_of_ble_eq_true rfl) dX1_gapsWithout_2 (fun v_1 σ_2 H locs h hI => ?_)
  refine lv_pop C.x C.b dX1_gapsWithout_5 (cat_rf _) ?_
  refine r_aload_n (x := some o) C.x C.b dX1_gapsWithout_6 rfl (lv_at hl 0 rfl) ?_
  refine lv_iload_n C.x C.b dX1_gapsWithout_7 rfl (lv_at hl 1 rfl) ?_
  refine cw_lamM (q := lq15) (st := [.int x1, .ref o]) 15 [.int x1] C hw hR hI hnm lz15 lo15 h (by decide) (show (fits .int (.int x1) = true ∧ narrow .int (.int x1) = (.int x1)) ∧ True from ⟨⟨rfl, rfl⟩, trivial⟩) rfl hl.1 (Nat.le_of_ble_eq_true rfl) rfl (Nat.le_of_ble_eq_true rfl) dX1_gapsWithout_8 (fun q_4 σ_5 H locs h hI => ?_)
  refine cw_callV (y := yX1_after) (bytes := cX1_after) (maxL := 3) (r := some o) (f := fun a_8 => m_X1_after a_8 (some q_4) σ_5) 0 (fun v => some (va_rf v)) [.ref q_4] C hw hR hI hl.1 h (by decide) rfl (fun aa vv ss ee => k_X1_after l g A aa (some q_4) σ_5 vv ss ee) (cwV 1 C.t (lw_V q1355 q1357 qs27 q126 q1358) rfl rfl rfl (by decide +kernel) ⟨Nat.le_trans (Nat.le_of_ble_eq_true rfl) hR.f, Nat.le_trans (Nat.le_of_ble_eq_true rfl) hR.lo⟩) rfl rfl (Nat.le_of_ble_eq_true rfl) dX1_gapsWithout_13 (fun v_6 σ_7 H locs h hI => ?_)
  refine cw_callV (y := yX4_gaps) (bytes := cX4_gaps) (maxL := 1) (r := v_6) (f := fun a_11 => m_X4_gaps a_11 σ_7) 1 (fun v => some (.int v)) [] C hw hR hI hl.1 h (by decide) rfl (fun aa vv ss ee => k_X4_gaps l g A aa σ_7 vv ss ee) (cwV 0 C.t (lw_V q1214 q1215 q1216 q150 q1217) rfl rfl rfl (by decide +kernel) ⟨Nat.le_trans (Nat.le_of_ble_eq_true rfl) hR.f, Nat.le_trans (Nat.le_of_ble_eq_true rfl) hR.lo⟩) rfl rfl (Nat.le_of_ble_eq_true rfl) dX1_gapsWithout_16 (fun v_9 σ_10 H locs h hI => ?_)
  exact uq_l h (fun y h => cw_iret C hI h dX1_gapsWithout_19)

theorem w_X1_clashesIf_24 {z : (cX (Int32)) × cS} {o : Nat} (C : CX p m meth c s args cX1_clashesIf 4 (Option.some Jvm.ClassFile.FieldType.int) RX1) (hnm : s.methodNamed? yX1_clashesIf = some m) (hx : ∀ x ∈ c.exceptionTable.toList, False) (hl0 : l.stackTraces = false) (hw : WKc g A s s.heap) (hR : RM g s R (260) (6495))  : ∀ (x1 : Int32) (s0 : Int32) (σ : cS) (H : Heap) (locs : List Loc) (ls : Array Slot), b_X1_clashesIf_24 o x1 s0 σ = some z → CI g A s σ H locs → lv_has ls 4 [(0, .ref o), (1, .int x1)] → W p l e R s m args below meth c H locs (H.size - s.heap.size) (hsl H - hsl s.heap) (UQ g A (fun v => some (.int v)) z args s (g.2.2.1 3 - s.heap.size) (g.2.2.1 4 - hsl s.heap) below) (F0 m 24 ls [.int s0]) := by
  intro x1 s0 σ H locs ls h hI hl
  unfold b_X1_clashesIf_24 at h
  refine lv_istore_n (i := 3) (lv' := [(3, .int s0), (0, .ref o), (1, .int x1)]) C.x C.b dX1_clashesIf_24 rfl hl (by decide) rfl (fun ls hl => ?_)
  refine r_aload_n (x := some o) C.x C.b dX1_clashesIf_25 rfl (lv_at hl 1 rfl) ?_
  refine lv_iload_n C.x C.b dX1_clashesIf_26 rfl (lv_at hl 2 rfl) ?_
  refine lv_iload_n C.x C.b dX1_clashesIf_27 rfl (lv_at hl 0 rfl) ?_
  refine cw_lamM (q := lq16) (st := [.int s0, .int x1, .ref o]) 16 [.int x1, .int s0] C hw hR hI hnm lz16 lo16 h (by decide) (show (fits .int (.int x1) = true ∧ narrow .int (.int x1) = (.int x1)) ∧ (fits .int (.int s0) = true ∧ narrow .int (.int s0) = (.int s0)) ∧ True from ⟨⟨rfl, rfl⟩, ⟨⟨rfl, rfl⟩, trivial⟩⟩) rfl hl.1 (Nat.le_of_ble_eq_true rfl) rfl (Nat.le_of_ble_eq_true rfl) dX1_clashesIf_28 (fun q_1 σ_2 H locs h hI => ?_)
  refine cw_callV (y := yX1_after) (bytes := cX1_after) (maxL := 3) (r := some o) (f := fun a_5 => m_X1_after a_5 (some q_1) σ_2) 0 (fun v => some (va_rf v)) [.ref q_1] C hw hR hI hl.1 h (by decide) rfl (fun aa vv ss ee => k_X1_after l g A aa (some q_1) σ_2 vv ss ee) (cwV 1 C.t (lw_V q1355 q1357 qs27 q126 q1358) rfl rfl rfl (by decide +kernel) ⟨Nat.le_trans (Nat.le_of_ble_eq_true rfl) hR.f, Nat.le_trans (Nat.le_of_ble_eq_true rfl) hR.lo⟩) rfl rfl (Nat.le_of_ble_eq_true rfl) dX1_clashesIf_33 (fun v_3 σ_4 H locs h hI => ?_)
  refine lv_iconst (v := 3) C.x C.b dX1_clashesIf_36 (by decide) ?_
  refine cw_callV (y := yX4_withVerdict) (bytes := cX4_withVerdict) (maxL := 5) (r := v_3) (f := fun a_8 => m_X4_withVerdict a_8 3 σ_4) 1 (fun v => some (.int v)) [.int 3] C hw hR hI hl.1 h (by decide) rfl (fun aa vv ss ee => k_X4_withVerdict l g A aa 3 σ_4 vv ss ee) (cwV 1 C.t (lw_V q1446 q1219 q1220 q150 q1221) rfl rfl rfl (by decide +kernel) ⟨Nat.le_trans (Nat.le_of_ble_eq_true rfl) hR.f, Nat.le_trans (Nat.le_of_ble_eq_true rfl) hR.lo⟩) rfl rfl (Nat.le_of_ble_eq_true rfl) dX1_clashesIf_37 (fun v_6 σ_7 H locs h hI => ?_)
  exact uq_l h (fun y h => cw_iret C hI h dX1_clashesIf_40)

theorem k_X1_clashesIf (l : Launch) (hl0 : l.stackTraces = false) (g : cG) (A : Nat → Prop) (o : Nat) (x1 : Int32) (x2 : Int32) (σ : cS) (z : (cX (Int32)) × cS) (h : m_X1_clashesIf o x1 x2 σ = some z) : MetX l yX1_clashesIf (ws_ yX1_clashesIf cX1_clashesIf 4 (Option.some Jvm.ClassFile.FieldType.int)) ({ frames := 260, cells := σ.2 3 - σ.2 0, slots := σ.2 4 - σ.2 1, locals := 6495 }) g A [.ref o, .int x1, .int x2] σ (fun v => some (.int v)) z (σ.2 3 - σ.2 0) (σ.2 4 - σ.2 1) := by
  refine metx_of (cc := cX1_clashesIf) (maxL := 4) (ret := (Option.some Jvm.ClassFile.FieldType.int)) (by decide) rfl ?_
  intro p e s m args below meth c s₁ B hml hx hv
  obtain ⟨rfl, hw, hσ⟩ := hv
  have hts := atoms_spec (ws := (ws_ yX1_clashesIf cX1_clashesIf 4 (Option.some Jvm.ClassFile.FieldType.int))) B.pre
  have C : CX p m meth c s ([.ref o, .int x1, .int x2] : List Value).toArray cX1_clashesIf 4 (Option.some Jvm.ClassFile.FieldType.int) RX1 := ⟨⟨B.exec, B.bytes, hml, findClass_of_methodNamed B.named, fun w h => hts w (List.mem_cons_of_mem _ h)⟩, B.returns, B.notSynchronized⟩
  have hnm : s.methodNamed? yX1_clashesIf = some m := B.named
  have e3 : σ.2 3 - σ.2 0 = g.2.2.1 3 - s.heap.size := by rw [hσ.1, hσ.2.2.2.1 3 (by decide)]
  have e4 : σ.2 4 - σ.2 1 = g.2.2.1 4 - hsl s.heap := by rw [hσ.2.1, hσ.2.2.2.1 4 (by decide)]
  have hR : RM g s (headSpec (ws_ yX1_clashesIf cX1_clashesIf 4 (Option.some Jvm.ClassFile.FieldType.int)) ({ frames := 260, cells := σ.2 3 - σ.2 0, slots := σ.2 4 - σ.2 1, locals := 6495 })).room (260) (6495) := ⟨⟨Nat.le_refl _, Nat.le_refl _⟩, Nat.le_of_eq e3.symm, Nat.le_of_eq e4.symm⟩
  generalize (headSpec (ws_ yX1_clashesIf cX1_clashesIf 4 (Option.some Jvm.ClassFile.FieldType.int)) ({ frames := 260, cells := σ.2 3 - σ.2 0, slots := σ.2 4 - σ.2 1, locals := 6495 })).room = R at hR ⊢
  rw [e3, e4]
  have hI : CI g A s σ s.heap [] := ⟨hσ, va_S.rf, Nat.le_refl _⟩
  have hl := lv_entry ([.ref o, .int x1, .int x2]) (n := 4) (Nat.le_of_ble_eq_true rfl)
  rw [lg_entry_eq]
  generalize (lg_sl ([.ref o, .int x1, .int x2]) ++ List.replicate (4 - (lg_sl ([.ref o, .int x1, .int x2])).length) Slot.unset).toArray = ls at hl ⊢
  have hl : lv_has ls 4 [(0, .ref o), (1, .int x1), (2, .int x2)] := hl
  refine W.narrow ?_
  unfold m_X1_clashesIf at h
  refine r_aload_n (x := some o) C.x C.b dX1_clashesIf_0 rfl (lv_at hl 0 rfl) ?_
  refine lv_iload_n C.x C.b dX1_clashesIf_1 rfl (lv_at hl 1 rfl) ?_
  refine cx_callV (y := yX1_ruleAt) (bytes := cX1_ruleAt) (maxL := 2) (r := some o) (f := fun a_3 => m_X1_ruleAt a_3 x1 σ) 0 (fun v => some (va_rf v)) [.int x1] C hx hw hR hI hl.1 h (by decide) rfl (fun aa uu ee => k_X1_ruleAt l hl0 g A aa x1 σ uu ee) (cwV 1 C.t (lw_V q1582 q1584 qs39 q126 q1585) rfl rfl rfl (by decide +kernel) ⟨Nat.le_trans (Nat.le_of_ble_eq_true rfl) hR.f, Nat.le_trans (Nat.le_of_ble_eq_true rfl) hR.lo⟩) rfl rfl (Nat.le_of_ble_eq_true rfl) dX1_clashesIf_2 (fun v_1 σ_2 H locs h hI => ?_)
  refine lv_pop C.x C.b dX1_clashesIf_5 (cat_rf _) ?_
  refine r_aload_n (x := some o) C.x C.b dX1_clashesIf_6 rfl (lv_at hl 0 rfl) ?_
  refine lv_iload_n C.x C.b dX1_clashesIf_7 rfl (lv_at hl 2 rfl) ?_
  refine cx_callV (y := yX1_ruleAt) (bytes := cX1_ruleAt) (maxL := 2) (r := some o) (f := fun a_6 => m_X1_ruleAt a_6 x2 σ_2) 0 (fun v => some (va_rf v)) [.int x2] C hx hw hR hI hl.1 h (by decide) rfl (fun aa uu ee => k_X1_ruleAt l hl0 g A aa x2 σ_2 uu ee) (cwV 1 C.t (lw_V q1582 q1584 qs39 q126 q1585) rfl rfl rfl (by decide +kernel) ⟨Nat.le_trans (Nat.le_of_ble_eq_true rfl) hR.f, Nat.le_trans (Nat.le_of_ble_eq_true rfl) hR.lo⟩) rfl rfl (Nat.le_of_ble_eq_true rfl) dX1_clashesIf_8 (fun v_4 σ_5 H locs h hI => ?_)
  refine lv_pop C.x C.b dX1_clashesIf_11 (cat_rf _) ?_
  refine lv_iload_n C.x C.b dX1_clashesIf_12 rfl (lv_at hl 1 rfl) ?_
  refine lv_iload_n C.x C.b dX1_clashesIf_13 rfl (lv_at hl 2 rfl) ?_
  refine lv_icmp_ne (tgt := 21) C.x C.b dX1_clashesIf_14 (by decide) (fun c_7 => ?_) (fun c_7 => ?_)
  · have h := iN c_7 h
    refine lv_iconst (v := 1) C.x C.b dX1_clashesIf_21 (by decide) ?_
    refine lv_iload_n C.x C.b dX1_clashesIf_22 rfl (lv_at hl 2 rfl) ?_
    refine lv_ishl C.x C.b dX1_clashesIf_23 ?_
    exact w_X1_clashesIf_24 C hnm hx hl0 hw hR x1 (1 <<< (x2 &&& 31)) _ _ _ _ h hI (lv_sub hl [0, 1] rfl)
  · have h := ip c_7 h
    refine lv_iconst (v := 0) C.x C.b dX1_clashesIf_17 (by decide) ?_
    refine lv_goto (tgt := 24) C.x C.b dX1_clashesIf_18 (by decide) ?_
    exact w_X1_clashesIf_24 C hnm hx hl0 hw hR x1 0 _ _ _ _ h hI (lv_sub hl [0, 1] rfl)

theorem w_X1_distance_31 {z : Int32 × cS} {o : Nat} (C : CX p m meth c s args cX1_distance 7 (Option.some Jvm.ClassFile.FieldType.int) RX1) (hw : WKc g A s s.heap) (hR : RM g s R (259) (6471))  : ∀ (n : Nat) (x3 : Int32) (x4 : Option Nat) (x5 : Option Nat) (x6 : Int32) (σ : cS) (H : Heap) (locs : List Loc) (ls : Array Slot), b_X1_distance_31 o n x3 x4 x5 x6 σ = some z → CI g A s σ H locs → lv_has ls 7 [(0, .ref o), (3, .int x3), (4, va_rf x4), (5, va_rf x5), (6, .int x6)] → W p l e R s m args below meth c H locs (H.size - s.heap.size) (hsl H - hsl s.heap) (MQ below (CQ g A (some (.int z.1)) z.2) args s (g.2.2.1 3 - s.heap.size) (g.2.2.1 4 - hsl s.heap) A) (F0 m 31 ls []) := by
  intro n
  induction n with
  | zero =>
    intro x3 x4 x5 x6 σ H locs ls h
    cases h
  | succ n ih =>
    intro x3 x4 x5 x6 σ H locs ls h hI hl
    rw [b_X1_distance_31] at h
    refine lv_iload C.x C.b dX1_distance_31 (lv_at hl 4 rfl) ?_
    refine r_aload (x := x4) C.x C.b dX1_distance_33 (lv_at hl 2 rfl) ?_
    refine cw_aL (r := x4) C hw hI h dX1_distance_35 (fun v_1 h => ?_)
    refine lv_icmp_ge (tgt := 66) C.x C.b dX1_distance_36 (by decide) (fun c_2 => ?_) (fun c_2 => ?_)
    · have h := ip c_2 h
      refine lv_iload_n C.x C.b dX1_distance_66 rfl (lv_at hl 1 rfl) ?_
      exact cw_iret C hI h dX1_distance_67
    · have h := iN c_2 h
      refine lv_iload_n C.x C.b dX1_distance_39 rfl (lv_at hl 1 rfl) ?_
      refine r_aload (x := x4) C.x C.b dX1_distance_40 (lv_at hl 2 rfl) ?_
      refine lv_iload C.x C.b dX1_distance_42 (lv_at hl 4 rfl) ?_
      refine cw_ild (r := x4) C hw hI h dX1_distance_44 (fun v_3 h => ?_)
      refine r_aload (x := x5) C.x C.b dX1_distance_45 (lv_at hl 3 rfl) ?_
      refine lv_iload C.x C.b dX1_distance_47 (lv_at hl 4 rfl) ?_
      refine cw_ild (r := x5) C hw hI h dX1_distance_49 (fun v_4 h => ?_)
      refine lv_icmp_ne (tgt := 57) C.x C.b dX1_distance_50 (by decide) (fun c_5 => ?_) (fun c_5 => ?_)
      · have h := iN c_5 h
        refine lv_iconst (v := 1) C.x C.b dX1_distance_57 (by decide) ?_
        refine lv_iadd C.x C.b dX1_distance_58 ?_
        refine tw_lt h (fun x3_6 h => ?_)
        refine lv_istore_n (i := 3) (lv' := [(3, .int x3_6), (0, .ref o), (4, va_rf x4), (5, va_rf x5), (6, .int x6)]) C.x C.b dX1_distance_59 rfl hl (by decide) (by first | (simp [List.filter, cat_rf, cat_i, cat_a, cat_n, cat_l, cat_f, cat_d]; done) | (simp [List.filter, cat_rf, cat_i, cat_a, cat_n, cat_l, cat_f, cat_d]; rfl)) (fun ls hl => ?_)
        obtain ⟨x6_7, e_, h⟩ := nm_s h
        refine lv_iinc (v := x6_7) (lv' := [(6, .int x6_7), (3, .int x3_6), (0, .ref o), (4, va_rf x4), (5, va_rf x5)]) C.x C.b dX1_distance_60 hl (k := 4) rfl e_.symm (by decide) (by first | (simp [List.filter, cat_rf, cat_i, cat_a, cat_n, cat_l, cat_f, cat_d]; done) | (simp [List.filter, cat_rf, cat_i, cat_a, cat_n, cat_l, cat_f, cat_d]; rfl)) (fun ls hl => ?_)
        refine lv_goto (tgt := 31) C.x C.b dX1_distance_63 (by decide) ?_
        exact ih x3_6 x4 x5 x6_7 _ _ _ _ h hI (lv_sub hl [2, 1, 3, 4, 0] rfl)
      · have h := ip c_5 h
        refine lv_iconst (v := 0) C.x C.b dX1_distance_53 (by decide) ?_
        refine lv_goto (tgt := 58) C.x C.b dX1_distance_54 (by decide) ?_
        refine lv_iadd C.x C.b dX1_distance_58 ?_
        refine tw_lt h (fun x3_8 h => ?_)
        refine lv_istore_n (i := 3) (lv' := [(3, .int x3_8), (0, .ref o), (4, va_rf x4), (5, va_rf x5), (6, .int x6)]) C.x C.b dX1_distance_59 rfl hl (by decide) (by first | (simp [List.filter, cat_rf, cat_i, cat_a, cat_n, cat_l, cat_f, cat_d]; done) | (simp [List.filter, cat_rf, cat_i, cat_a, cat_n, cat_l, cat_f, cat_d]; rfl)) (fun ls hl => ?_)
        obtain ⟨x6_9, e_, h⟩ := nm_s h
        refine lv_iinc (v := x6_9) (lv' := [(6, .int x6_9), (3, .int x3_8), (0, .ref o), (4, va_rf x4), (5, va_rf x5)]) C.x C.b dX1_distance_60 hl (k := 4) rfl e_.symm (by decide) (by first | (simp [List.filter, cat_rf, cat_i, cat_a, cat_n, cat_l, cat_f, cat_d]; done) | (simp [List.filter, cat_rf, cat_i, cat_a, cat_n, cat_l, cat_f, cat_d]; rfl)) (fun ls hl => ?_)
        refine lv_goto (tgt := 31) C.x C.b dX1_distance_63 (by decide) ?_
        exact ih x3_8 x4 x5 x6_9 _ _ _ _ h hI (lv_sub hl [2, 1, 3, 4, 0] rfl)

theorem k_X1_distance (l : Launch) (g : cG) (A : Nat → Prop) (o : Nat) (x1 : Int32) (x2 : Int32) (σ : cS) (v : Int32) (σ1 : cS) (h : m_X1_distance o x1 x2 σ = some (v, σ1)) : Met l yX1_distance (ws_ yX1_distance cX1_distance 7 (Option.some Jvm.ClassFile.FieldType.int)) ({ frames := 259, cells := σ.2 3 - σ.2 0, slots := σ.2 4 - σ.2 1, locals := 6471 }) (CPc g A [.ref o, .int x1, .int x2] σ) (CQ g A (some (.int v)) σ1) (σ.2 3 - σ.2 0) (σ.2 4 - σ.2 1) A := by
  refine Met.ofW (cc := cX1_distance) (maxL := 7) (ret := (Option.some Jvm.ClassFile.FieldType.int)) (by decide) rfl ?_
  intro p e s m args below meth c s₁ B hml hv
  obtain ⟨rfl, hw, hσ⟩ := hv
  have hts := atoms_spec (ws := (ws_ yX1_distance cX1_distance 7 (Option.some Jvm.ClassFile.FieldType.int))) B.pre
  have C : CX p m meth c s ([.ref o, .int x1, .int x2] : List Value).toArray cX1_distance 7 (Option.some Jvm.ClassFile.FieldType.int) RX1 := ⟨⟨B.exec, B.bytes, hml, findClass_of_methodNamed B.named, fun w h => hts w (List.mem_cons_of_mem _ h)⟩, B.returns, B.notSynchronized⟩
  have e3 : σ.2 3 - σ.2 0 = g.2.2.1 3 - s.heap.size := by rw [hσ.1, hσ.2.2.2.1 3 (by decide)]
  have e4 : σ.2 4 - σ.2 1 = g.2.2.1 4 - hsl s.heap := by rw [hσ.2.1, hσ.2.2.2.1 4 (by decide)]
  have hR : RM g s (headSpec (ws_ yX1_distance cX1_distance 7 (Option.some Jvm.ClassFile.FieldType.int)) ({ frames := 259, cells := σ.2 3 - σ.2 0, slots := σ.2 4 - σ.2 1, locals := 6471 })).room (259) (6471) := ⟨⟨Nat.le_refl _, Nat.le_refl _⟩, Nat.le_of_eq e3.symm, Nat.le_of_eq e4.symm⟩
  generalize (headSpec (ws_ yX1_distance cX1_distance 7 (Option.some Jvm.ClassFile.FieldType.int)) ({ frames := 259, cells := σ.2 3 - σ.2 0, slots := σ.2 4 - σ.2 1, locals := 6471 })).room = R at hR ⊢
  rw [e3, e4]
  have hI : CI g A s σ s.heap [] := ⟨hσ, va_S.rf, Nat.le_refl _⟩
  have hl := lv_entry ([.ref o, .int x1, .int x2]) (n := 7) (Nat.le_of_ble_eq_true rfl)
  rw [lg_entry_eq]
  generalize (lg_sl ([.ref o, .int x1, .int x2]) ++ List.replicate (7 - (lg_sl ([.ref o, .int x1, .int x2])).length) Slot.unset).toArray = ls at hl ⊢
  have hl : lv_has ls 7 [(0, .ref o), (1, .int x1), (2, .int x2)] := hl
  obtain ⟨z, hz⟩ : ∃ z, z = (v, σ1) := ⟨_, rfl⟩
  rw [← hz] at h
  rw [show v = z.1 by rw [hz], show σ1 = z.2 by rw [hz]]
  clear hz v σ1
  refine W.narrow ?_
  unfold m_X1_distance at h
  refine lv_iconst (v := 0) C.x C.b dX1_distance_0 (by decide) ?_
  refine lv_istore_n (i := 3) (lv' := [(3, .int 0), (0, .ref o), (1, .int x1), (2, .int x2)]) C.x C.b dX1_distance_1 rfl hl (by decide) rfl (fun ls hl => ?_)
  refine r_aload_n (x := some o) C.x C.b dX1_distance_2 rfl (lv_at hl 1 rfl) ?_
  refine cw_gR (r := some o) 0 0 C hw hI h (by decide) rfl in_X1 (by decide) (C.t _ q1172) (fun _ h9 => h9) dX1_distance_3 (fun v_1 h => ?_)
  refine lv_iload_n C.x C.b dX1_distance_6 rfl (lv_at hl 2 rfl) ?_
  refine cw_callV (y := yX4_look) (bytes := cX4_look) (maxL := 2) (r := v_1) (f := fun a_4 => m_X4_look a_4 x1 σ) 1 (fun v => some (va_rf v)) [.int x1] C hw hR hI hl.1 h (by decide) rfl (fun aa vv ss ee => k_X4_look l g A aa x1 σ vv ss ee) (cwV 1 C.t (lw_V q1383 q1223 q1224 q150 q1225) rfl rfl rfl (by decide +kernel) ⟨Nat.le_trans (Nat.le_of_ble_eq_true rfl) hR.f, Nat.le_trans (Nat.le_of_ble_eq_true rfl) hR.lo⟩) rfl rfl (Nat.le_of_ble_eq_true rfl) dX1_distance_7 (fun v_2 σ_3 H locs h hI => ?_)
  refine cw_gR (r := v_2) 3 0 C hw hI h (by decide) rfl in_X11 (by decide) (C.t _ q1241) (fun _ h9 => h9) dX1_distance_10 (fun v_5 h => ?_)
  refine r_astore (i := 4) (x := v_5) (lv' := [(4, va_rf v_5), (3, .int 0), (0, .ref o), (1, .int x1), (2, .int x2)]) C.x C.b dX1_distance_13 hl (by decide) (by rfl) (fun ls hl => ?_)
  refine r_aload_n (x := some o) C.x C.b dX1_distance_15 rfl (lv_at hl 2 rfl) ?_
  refine cw_gR (r := some o) 0 0 C hw hI h (by decide) rfl in_X1 (by decide) (C.t _ q1172) (fun _ h9 => h9) dX1_distance_16 (fun v_6 h => ?_)
  refine lv_iload_n C.x C.b dX1_distance_19 rfl (lv_at hl 4 rfl) ?_
  refine cw_callV (y := yX4_look) (bytes := cX4_look) (maxL := 2) (r := v_6) (f := fun a_9 => m_X4_look a_9 x2 σ_3) 1 (fun v => some (va_rf v)) [.int x2] C hw hR hI hl.1 h (by decide) rfl (fun aa vv ss ee => k_X4_look l g A aa x2 σ_3 vv ss ee) (cwV 1 C.t (lw_V q1383 q1223 q1224 q150 q1225) rfl rfl rfl (by decide +kernel) ⟨Nat.le_trans (Nat.le_of_ble_eq_true rfl) hR.f, Nat.le_trans (Nat.le_of_ble_eq_true rfl) hR.lo⟩) rfl rfl (Nat.le_of_ble_eq_true rfl) dX1_distance_20 (fun v_7 σ_8 H locs h hI => ?_)
  refine cw_gR (r := v_7) 3 0 C hw hI h (by decide) rfl in_X11 (by decide) (C.t _ q1241) (fun _ h9 => h9) dX1_distance_23 (fun v_10 h => ?_)
  refine r_astore (i := 5) (x := v_10) (lv' := [(5, va_rf v_10), (4, va_rf v_5), (3, .int 0), (0, .ref o), (1, .int x1), (2, .int x2)]) C.x C.b dX1_distance_26 hl (by decide) (by first | (simp [List.filter, cat_rf, cat_i, cat_a, cat_n, cat_l, cat_f, cat_d]; done) | (simp [List.filter, cat_rf, cat_i, cat_a, cat_n, cat_l, cat_f, cat_d]; rfl)) (fun ls hl => ?_)
  refine lv_iconst (v := 0) C.x C.b dX1_distance_28 (by decide) ?_
  refine lv_istore (i := 6) (lv' := [(6, .int 0), (5, va_rf v_10), (4, va_rf v_5), (3, .int 0), (0, .ref o), (1, .int x1), (2, .int x2)]) C.x C.b dX1_distance_29 hl (by decide) (by first | (simp [List.filter, cat_rf, cat_i, cat_a, cat_n, cat_l, cat_f, cat_d]; done) | (simp [List.filter, cat_rf, cat_i, cat_a, cat_n, cat_l, cat_f, cat_d]; rfl)) (fun ls hl => ?_)
  exact w_X1_distance_31 C hw hR _ 0 v_5 v_10 0 _ _ _ _ h hI (lv_sub hl [4, 3, 2, 1, 0] rfl)

theorem w_X1_farFrom_19 {z : (cX (Int32)) × cS} {o : Nat} (C : CX p m meth c s args cX1_farFrom 6 (Option.some Jvm.ClassFile.FieldType.int) RX1) (hx : ∀ x ∈ c.exceptionTable.toList, False) (hl0 : l.stackTraces = false) (hw : WKc g A s s.heap) (hR : RM g s R (260) (6497))  : ∀ (n : Nat) (x1 : Int32) (x2 : Int32) (x3 : Int32) (x4 : Int32) (σ : cS) (H : Heap) (locs : List Loc) (ls : Array Slot), b_X1_farFrom_19 o n x1 x2 x3 x4 σ = some z → CI g A s σ H locs → lv_has ls 6 [(0, .ref o), (1, .int x1), (2, .int x2), (3, .int x3), (4, .int x4)] → W p l e R s m args below meth c H locs (H.size - s.heap.size) (hsl H - hsl s.heap) (UQ g A (fun v => some (.int v)) z args s (g.2.2.1 3 - s.heap.size) (g.2.2.1 4 - hsl s.heap) below) (F0 m 19 ls []) := by
  intro n
  induction n with
  | zero =>
    intro x1 x2 x3 x4 σ H locs ls h
    cases h
  | succ n ih =>
    intro x1 x2 x3 x4 σ H locs ls h hI hl
    rw [b_X1_farFrom_19] at h
    refine lv_iload C.x C.b dX1_farFrom_19 (lv_at hl 4 rfl) ?_
    refine lv_iload_n C.x C.b dX1_farFrom_21 rfl (lv_at hl 3 rfl) ?_
    refine lv_icmp_ge (tgt := 79) C.x C.b dX1_farFrom_22 (by decide) (fun c_1 => ?_) (fun c_1 => ?_)
    · have h := ip c_1 h
      refine lv_iload_n C.x C.b dX1_farFrom_79 rfl (lv_at hl 2 rfl) ?_
      exact uq_l h (fun y h => cw_iret C hI h dX1_farFrom_80)
    · have h := iN c_1 h
      refine r_aload_n (x := some o) C.x C.b dX1_farFrom_25 rfl (lv_at hl 0 rfl) ?_
      refine cw_gR (r := some o) 0 0 C hw hI h (by decide) rfl in_X1 (by decide) (C.t _ q1172) (fun _ h9 => h9) dX1_farFrom_26 (fun v_2 h => ?_)
      refine lv_iload C.x C.b dX1_farFrom_29 (lv_at hl 4 rfl) ?_
      refine cw_callV (y := yX4_look) (bytes := cX4_look) (maxL := 2) (r := v_2) (f := fun a_5 => m_X4_look a_5 x4 σ) 1 (fun v => some (va_rf v)) [.int x4] C hw hR hI hl.1 h (by decide) rfl (fun aa vv ss ee => k_X4_look l g A aa x4 σ vv ss ee) (cwV 1 C.t (lw_V q1383 q1223 q1224 q150 q1225) rfl rfl rfl (by decide +kernel) ⟨Nat.le_trans (Nat.le_of_ble_eq_true rfl) hR.f, Nat.le_trans (Nat.le_of_ble_eq_true rfl) hR.lo⟩) rfl rfl (Nat.le_of_ble_eq_true rfl) dX1_farFrom_31 (fun v_3 σ_4 H locs h hI => ?_)
      refine cw_gI (r := v_3) 3 4 C hw hI h (by decide) rfl in_X11 (by decide) (C.t _ q1250) (fun _ h9 => h9) dX1_farFrom_34 (fun v_6 h => ?_)
      refine lv_iload_n C.x C.b dX1_farFrom_37 rfl (lv_at hl 1 rfl) ?_
      refine lv_icmp_ne (tgt := 73) C.x C.b dX1_farFrom_38 (by decide) (fun c_7 => ?_) (fun c_7 => ?_)
      · have h := iN c_7 h
        obtain ⟨x4_8, e_, h⟩ := nm_s h
        refine lv_iinc (v := x4_8) (lv' := [(4, .int x4_8), (0, .ref o), (1, .int x1), (2, .int x2), (3, .int x3)]) C.x C.b dX1_farFrom_73 hl (k := 4) rfl e_.symm (by decide) rfl (fun ls hl => ?_)
        refine lv_goto (tgt := 19) C.x C.b dX1_farFrom_76 (by decide) ?_
        exact ih x1 x2 x3 x4_8 _ _ _ _ h hI (lv_sub hl [1, 2, 3, 4, 0] rfl)
      · have h := ip c_7 h
        refine r_aload_n (x := some o) C.x C.b dX1_farFrom_41 rfl (lv_at hl 0 rfl) ?_
        refine r_aload_n (x := some o) C.x C.b dX1_farFrom_42 rfl (lv_at hl 0 rfl) ?_
        refine cw_gR (r := some o) 0 0 C hw hI h (by decide) rfl in_X1 (by decide) (C.t _ q1172) (fun _ h9 => h9) dX1_farFrom_43 (fun v_9 h => ?_)
        refine cw_gI (r := v_9) 1 8 C hw hI h (by decide) rfl in_X4 (by decide) (C.t _ q860) (fun _ h9 => h9) dX1_farFrom_46 (fun v_10 h => ?_)
        refine lv_iload C.x C.b dX1_farFrom_49 (lv_at hl 4 rfl) ?_
        refine cw_callV (y := yX1_distance) (bytes := cX1_distance) (maxL := 7) (r := some o) (f := fun a_13 => m_X1_distance a_13 v_10 x4 σ_4) 0 (fun v => some (.int v)) [.int v_10, .int x4] C hw hR hI hl.1 h (by decide) rfl (fun aa vv ss ee => k_X1_distance l g A aa v_10 x4 σ_4 vv ss ee) (cwV 2 C.t (lw_V q1854 q1856 qs48 q126 q1857) rfl rfl rfl (by decide +kernel) ⟨Nat.le_trans (Nat.le_of_ble_eq_true rfl) hR.f, Nat.le_trans (Nat.le_of_ble_eq_true rfl) hR.lo⟩) rfl rfl (Nat.le_of_ble_eq_true rfl) dX1_farFrom_51 (fun v_11 σ_12 H locs h hI => ?_)
        refine lv_istore (i := 5) (lv' := [(5, .int v_11), (0, .ref o), (1, .int x1), (2, .int x2), (3, .int x3), (4, .int x4)]) C.x C.b dX1_farFrom_54 hl (by decide) rfl (fun ls hl => ?_)
        refine lv_iload_n C.x C.b dX1_farFrom_56 rfl (lv_at hl 3 rfl) ?_
        refine lv_iconst (v := -1) C.x C.b dX1_farFrom_57 (by decide) ?_
        refine lv_icmp_ne (tgt := 66) C.x C.b dX1_farFrom_58 (by decide) (fun c_14 => ?_) (fun c_14 => ?_)
        · have h := iN c_14 h
          refine lv_iload_n C.x C.b dX1_farFrom_66 rfl (lv_at hl 3 rfl) ?_
          refine lv_iload C.x C.b dX1_farFrom_67 (lv_at hl 0 rfl) ?_
          refine va_mmin C.x C.b (C.n.trans hl.1.symm) C.o (C.t _ q1858) (C.t _ q351) (C.t _ q136) (C.t _ q352) (Nat.le_trans (Nat.le_of_ble_eq_true rfl) hR.f) (Nat.le_trans (Nat.add_le_add_right (room_of (Nat.le_of_ble_eq_true rfl)) 13) (Nat.le_trans (Nat.le_of_ble_eq_true rfl) hR.lo)) (hR.cur hI).1 (hR.cur hI).2 dX1_farFrom_69 ?_
          refine tw_lt h (fun u_15 h => ?_)
          refine lv_istore_n (i := 2) (lv' := [(2, .int u_15), (5, .int v_11), (0, .ref o), (1, .int x1), (3, .int x3), (4, .int x4)]) C.x C.b dX1_farFrom_72 rfl hl (by decide) rfl (fun ls hl => ?_)
          obtain ⟨x4_16, e_, h⟩ := nm_s h
          refine lv_iinc (v := x4_16) (lv' := [(4, .int x4_16), (2, .int u_15), (5, .int v_11), (0, .ref o), (1, .int x1), (3, .int x3)]) C.x C.b dX1_farFrom_73 hl (k := 5) rfl e_.symm (by decide) rfl (fun ls hl => ?_)
          refine lv_goto (tgt := 19) C.x C.b dX1_farFrom_76 (by decide) ?_
          exact ih x1 u_15 x3 x4_16 _ _ _ _ h hI (lv_sub hl [3, 4, 1, 5, 0] rfl)
        · have h := ip c_14 h
          refine lv_iload C.x C.b dX1_farFrom_61 (lv_at hl 0 rfl) ?_
          refine lv_goto (tgt := 72) C.x C.b dX1_farFrom_63 (by decide) ?_
          refine lv_istore_n (i := 2) (lv' := [(2, .int v_11), (5, .int v_11), (0, .ref o), (1, .int x1), (3, .int x3), (4, .int x4)]) C.x C.b dX1_farFrom_72 rfl hl (by decide) rfl (fun ls hl => ?_)
          obtain ⟨x4_17, e_, h⟩ := nm_s h
          refine lv_iinc (v := x4_17) (lv' := [(4, .int x4_17), (2, .int v_11), (5, .int v_11), (0, .ref o), (1, .int x1), (3, .int x3)]) C.x C.b dX1_farFrom_73 hl (k := 5) rfl e_.symm (by decide) rfl (fun ls hl => ?_)
          refine lv_goto (tgt := 19) C.x C.b dX1_farFrom_76 (by decide) ?_
          exact ih x1 v_11 x3 x4_17 _ _ _ _ h hI (lv_sub hl [3, 4, 1, 5, 0] rfl)

theorem k_X1_farFrom (l : Launch) (hl0 : l.stackTraces = false) (g : cG) (A : Nat → Prop) (o : Nat) (x1 : Int32) (σ : cS) (z : (cX (Int32)) × cS) (h : m_X1_farFrom o x1 σ = some z) : MetX l yX1_farFrom (ws_ yX1_farFrom cX1_farFrom 6 (Option.some Jvm.ClassFile.FieldType.int)) ({ frames := 260, cells := σ.2 3 - σ.2 0, slots := σ.2 4 - σ.2 1, locals := 6497 }) g A [.ref o, .int x1] σ (fun v => some (.int v)) z (σ.2 3 - σ.2 0) (σ.2 4 - σ.2 1) := by
  refine metx_of (cc := cX1_farFrom) (maxL := 6) (ret := (Option.some Jvm.ClassFile.FieldType.int)) (by decide) rfl ?_
  intro p e s m args below meth c s₁ B hml hx hv
  obtain ⟨rfl, hw, hσ⟩ := hv
  have hts := atoms_spec (ws := (ws_ yX1_farFrom cX1_farFrom 6 (Option.some Jvm.ClassFile.FieldType.int))) B.pre
  have C : CX p m meth c s ([.ref o, .int x1] : List Value).toArray cX1_farFrom 6 (Option.some Jvm.ClassFile.FieldType.int) RX1 := ⟨⟨B.exec, B.bytes, hml, findClass_of_methodNamed B.named, fun w h => hts w (List.mem_cons_of_mem _ h)⟩, B.returns, B.notSynchronized⟩
  have e3 : σ.2 3 - σ.2 0 = g.2.2.1 3 - s.heap.size := by rw [hσ.1, hσ.2.2.2.1 3 (by decide)]
  have e4 : σ.2 4 - σ.2 1 = g.2.2.1 4 - hsl s.heap := by rw [hσ.2.1, hσ.2.2.2.1 4 (by decide)]
  have hR : RM g s (headSpec (ws_ yX1_farFrom cX1_farFrom 6 (Option.some Jvm.ClassFile.FieldType.int)) ({ frames := 260, cells := σ.2 3 - σ.2 0, slots := σ.2 4 - σ.2 1, locals := 6497 })).room (260) (6497) := ⟨⟨Nat.le_refl _, Nat.le_refl _⟩, Nat.le_of_eq e3.symm, Nat.le_of_eq e4.symm⟩
  generalize (headSpec (ws_ yX1_farFrom cX1_farFrom 6 (Option.some Jvm.ClassFile.FieldType.int)) ({ frames := 260, cells := σ.2 3 - σ.2 0, slots := σ.2 4 - σ.2 1, locals := 6497 })).room = R at hR ⊢
  rw [e3, e4]
  have hI : CI g A s σ s.heap [] := ⟨hσ, va_S.rf, Nat.le_refl _⟩
  have hl := lv_entry ([.ref o, .int x1]) (n := 6) (Nat.le_of_ble_eq_true rfl)
  rw [lg_entry_eq]
  generalize (lg_sl ([.ref o, .int x1]) ++ List.replicate (6 - (lg_sl ([.ref o, .int x1])).length) Slot.unset).toArray = ls at hl ⊢
  have hl : lv_has ls 6 [(0, .ref o), (1, .int x1)] := hl
  refine W.narrow ?_
  unfold m_X1_farFrom at h
  refine r_aload_n (x := some o) C.x C.b dX1_farFrom_0 rfl (lv_at hl 0 rfl) ?_
  refine lv_iload_n C.x C.b dX1_farFrom_1 rfl (lv_at hl 1 rfl) ?_
  refine cx_callV (y := yX1_ruleAt) (bytes := cX1_ruleAt) (maxL := 2) (r := some o) (f := fun a_3 => m_X1_ruleAt a_3 x1 σ) 0 (fun v => some (va_rf v)) [.int x1] C hx hw hR hI hl.1 h (by decide) rfl (fun aa uu ee => k_X1_ruleAt l hl0 g A aa x1 σ uu ee) (cwV 1 C.t (lw_V q1582 q1584 qs39 q126 q1585) rfl rfl rfl (by decide +kernel) ⟨Nat.le_trans (Nat.le_of_ble_eq_true rfl) hR.f, Nat.le_trans (Nat.le_of_ble_eq_true rfl) hR.lo⟩) rfl rfl (Nat.le_of_ble_eq_true rfl) dX1_farFrom_2 (fun v_1 σ_2 H locs h hI => ?_)
  refine lv_pop C.x C.b dX1_farFrom_5 (cat_rf _) ?_
  refine lv_iconst (v := -1) C.x C.b dX1_farFrom_6 (by decide) ?_
  refine lv_istore_n (i := 2) (lv' := [(2, .int (-1)), (0, .ref o), (1, .int x1)]) C.x C.b dX1_farFrom_7 rfl hl (by decide) rfl (fun ls hl => ?_)
  refine r_aload_n (x := some o) C.x C.b dX1_farFrom_8 rfl (lv_at hl 1 rfl) ?_
  refine cw_gR (r := some o) 0 0 C hw hI h (by decide) rfl in_X1 (by decide) (C.t _ q1172) (fun _ h9 => h9) dX1_farFrom_9 (fun v_4 h => ?_)
  refine cw_callV (y := yX4_cases) (bytes := cX4_cases) (maxL := 3) (r := v_4) (f := fun a_7 => m_X4_cases a_7 σ_2) 1 (fun v => some (.int v)) [] C hw hR hI hl.1 h (by decide) rfl (fun aa vv ss ee => k_X4_cases l g A aa σ_2 vv ss ee) (cwV 0 C.t (lw_V q1382 q833 q834 q150 q835) rfl rfl rfl (by decide +kernel) ⟨Nat.le_trans (Nat.le_of_ble_eq_true rfl) hR.f, Nat.le_trans (Nat.le_of_ble_eq_true rfl) hR.lo⟩) rfl rfl (Nat.le_of_ble_eq_true rfl) dX1_farFrom_12 (fun v_5 σ_6 H locs h hI => ?_)
  refine lv_istore_n (i := 3) (lv' := [(3, .int v_5), (2, .int (-1)), (0, .ref o), (1, .int x1)]) C.x C.b dX1_farFrom_15 rfl hl (by decide) rfl (fun ls hl => ?_)
  refine lv_iconst (v := 0) C.x C.b dX1_farFrom_16 (by decide) ?_
  refine lv_istore (i := 4) (lv' := [(4, .int 0), (3, .int v_5), (2, .int (-1)), (0, .ref o), (1, .int x1)]) C.x C.b dX1_farFrom_17 hl (by decide) rfl (fun ls hl => ?_)
  exact w_X1_farFrom_19 C hx hl0 hw hR _ x1 (-1) v_5 0 _ _ _ _ h hI (lv_sub hl [3, 4, 2, 1, 0] rfl)

theorem k_X1_gets (l : Launch) (hl0 : l.stackTraces = false) (g : cG) (A : Nat → Prop) (o : Nat) (x1 : Int32) (x2 : Int32) (x3 : Int32) (σ : cS) (z : (cX (Int32)) × cS) (h : m_X1_gets o x1 x2 x3 σ = some z) : MetX l yX1_gets (ws_ yX1_gets cX1_gets 4 (Option.some Jvm.ClassFile.FieldType.int)) ({ frames := 261, cells := σ.2 3 - σ.2 0, slots := σ.2 4 - σ.2 1, locals := 6520 }) g A [.ref o, .int x1, .int x2, .int x3] σ (fun v => some (.int v)) z (σ.2 3 - σ.2 0) (σ.2 4 - σ.2 1) := by
  refine metx_of (cc := cX1_gets) (maxL := 4) (ret := (Option.some Jvm.ClassFile.FieldType.int)) (by decide) rfl ?_
  intro p e s m args below meth c s₁ B hml hx hv
  obtain ⟨rfl, hw, hσ⟩ := hv
  have hts := atoms_spec (ws := (ws_ yX1_gets cX1_gets 4 (Option.some Jvm.ClassFile.FieldType.int))) B.pre
  have C : CX p m meth c s ([.ref o, .int x1, .int x2, .int x3] : List Value).toArray cX1_gets 4 (Option.some Jvm.ClassFile.FieldType.int) RX1 := ⟨⟨B.exec, B.bytes, hml, findClass_of_methodNamed B.named, fun w h => hts w (List.mem_cons_of_mem _ h)⟩, B.returns, B.notSynchronized⟩
  have e3 : σ.2 3 - σ.2 0 = g.2.2.1 3 - s.heap.size := by rw [hσ.1, hσ.2.2.2.1 3 (by decide)]
  have e4 : σ.2 4 - σ.2 1 = g.2.2.1 4 - hsl s.heap := by rw [hσ.2.1, hσ.2.2.2.1 4 (by decide)]
  have hR : RM g s (headSpec (ws_ yX1_gets cX1_gets 4 (Option.some Jvm.ClassFile.FieldType.int)) ({ frames := 261, cells := σ.2 3 - σ.2 0, slots := σ.2 4 - σ.2 1, locals := 6520 })).room (261) (6520) := ⟨⟨Nat.le_refl _, Nat.le_refl _⟩, Nat.le_of_eq e3.symm, Nat.le_of_eq e4.symm⟩
  generalize (headSpec (ws_ yX1_gets cX1_gets 4 (Option.some Jvm.ClassFile.FieldType.int)) ({ frames := 261, cells := σ.2 3 - σ.2 0, slots := σ.2 4 - σ.2 1, locals := 6520 })).room = R at hR ⊢
  rw [e3, e4]
  have hI : CI g A s σ s.heap [] := ⟨hσ, va_S.rf, Nat.le_refl _⟩
  have hl := lv_entry ([.ref o, .int x1, .int x2, .int x3]) (n := 4) (Nat.le_of_ble_eq_true rfl)
  rw [lg_entry_eq]
  generalize (lg_sl ([.ref o, .int x1, .int x2, .int x3]) ++ List.replicate (4 - (lg_sl ([.ref o, .int x1, .int x2, .int x3])).length) Slot.unset).toArray = ls at hl ⊢
  have hl : lv_has ls 4 [(0, .ref o), (1, .int x1), (2, .int x2), (3, .int x3)] := hl
  refine W.narrow ?_
  unfold m_X1_gets at h
  refine r_aload_n (x := some o) C.x C.b dX1_gets_0 rfl (lv_at hl 0 rfl) ?_
  refine lv_iload_n C.x C.b dX1_gets_1 rfl (lv_at hl 1 rfl) ?_
  refine cx_callV (y := yX1_checkCase) (bytes := cX1_checkCase) (maxL := 2) (r := some o) (f := fun a_2 => m_X1_checkCase a_2 x1 σ) 0 (fun _ => none) [.int x1] C hx hw hR hI hl.1 h (by decide) rfl (fun aa uu ee => k_X1_checkCase l hl0 g A aa x1 σ uu ee) (cwV 1 C.t (lw_V q1627 q1629 qs44 q126 q1630) rfl rfl rfl (by decide +kernel) ⟨Nat.le_trans (Nat.le_of_ble_eq_true rfl) hR.f, Nat.le_trans (Nat.le_of_ble_eq_true rfl) hR.lo⟩) rfl rfl (Nat.le_of_ble_eq_true rfl) dX1_gets_2 (fun _ σ_1 H locs h hI => ?_)
  refine r_aload_n (x := some o) C.x C.b dX1_gets_5 rfl (lv_at hl 0 rfl) ?_
  refine lv_iload_n C.x C.b dX1_gets_6 rfl (lv_at hl 2 rfl) ?_
  refine cx_callV (y := yX1_checkHeir) (bytes := cX1_checkHeir) (maxL := 2) (r := some o) (f := fun a_4 => m_X1_checkHeir a_4 x2 σ_1) 0 (fun _ => none) [.int x2] C hx hw hR hI hl.1 h (by decide) rfl (fun aa uu ee => k_X1_checkHeir l hl0 g A aa x2 σ_1 uu ee) (cwV 1 C.t (lw_V q1549 q1551 qs36 q126 q1552) rfl rfl rfl (by decide +kernel) ⟨Nat.le_trans (Nat.le_of_ble_eq_true rfl) hR.f, Nat.le_trans (Nat.le_of_ble_eq_true rfl) hR.lo⟩) rfl rfl (Nat.le_of_ble_eq_true rfl) dX1_gets_7 (fun _ σ_3 H locs h hI => ?_)
  refine lv_iload_n C.x C.b dX1_gets_10 rfl (lv_at hl 3 rfl) ?_
  refine lv_iconst (v := 0) C.x C.b dX1_gets_11 (by decide) ?_
  refine lv_iconst (v := 1) C.x C.b dX1_gets_12 (by decide) ?_
  refine cx_callS (y := yX1_check) (bytes := cX1_check) (maxL := 3) (fun _ => none) [.int x3, .int 0, .int 1] C hx hw hR hI hl.1 h (fun uu ee => k_X1_check l hl0 g A x3 0 1 σ_3 uu ee) (va_cwS 3 C.t (lw_S q1537 q1538 q126 q1539) rfl rfl rfl (by decide +kernel) ⟨Nat.le_trans (Nat.le_of_ble_eq_true rfl) hR.f, Nat.le_trans (Nat.le_of_ble_eq_true rfl) hR.lo⟩) rfl rfl (Nat.le_of_ble_eq_true rfl) dX1_gets_13 (fun _ σ_5 H locs h hI => ?_)
  refine lv_iload_n C.x C.b dX1_gets_16 rfl (lv_at hl 3 rfl) ?_
  refine lv_if_ne (tgt := 32) C.x C.b dX1_gets_17 (by decide) (fun c_6 => ?_) (fun c_6 => ?_)
  · have h := iN c_6 h
    refine r_aload_n (x := some o) C.x C.b dX1_gets_32 rfl (lv_at hl 0 rfl) ?_
    refine cw_gR (r := some o) 0 0 C hw hI h (by decide) rfl in_X1 (by decide) (C.t _ q1172) (fun _ h9 => h9) dX1_gets_33 (fun v_7 h => ?_)
    refine lv_iload_n C.x C.b dX1_gets_36 rfl (lv_at hl 1 rfl) ?_
    refine lv_iload_n C.x C.b dX1_gets_37 rfl (lv_at hl 2 rfl) ?_
    refine cw_callV (y := yX4_duty) (bytes := cX4_duty) (maxL := 4) (r := v_7) (f := fun a_10 => m_X4_duty a_10 x1 x2 σ_5) 1 (fun v => some (.int v)) [.int x1, .int x2] C hw hR hI hl.1 h (by decide) rfl (fun aa vv ss ee => k_X4_duty l g A aa x1 x2 σ_5 vv ss ee) (cwV 2 C.t (lw_V q1571 q1418 q1419 q150 q1420) rfl rfl rfl (by decide +kernel) ⟨Nat.le_trans (Nat.le_of_ble_eq_true rfl) hR.f, Nat.le_trans (Nat.le_of_ble_eq_true rfl) hR.lo⟩) rfl rfl (Nat.le_of_ble_eq_true rfl) dX1_gets_38 (fun v_8 σ_9 H locs h hI => ?_)
    exact uq_l h (fun y h => cw_iret C hI h dX1_gets_41)
  · have h := ip c_6 h
    refine r_aload_n (x := some o) C.x C.b dX1_gets_20 rfl (lv_at hl 0 rfl) ?_
    refine cw_gR (r := some o) 0 0 C hw hI h (by decide) rfl in_X1 (by decide) (C.t _ q1172) (fun _ h9 => h9) dX1_gets_21 (fun v_11 h => ?_)
    refine lv_iload_n C.x C.b dX1_gets_24 rfl (lv_at hl 1 rfl) ?_
    refine lv_iload_n C.x C.b dX1_gets_25 rfl (lv_at hl 2 rfl) ?_
    refine cw_callV (y := yX4_gets) (bytes := cX4_gets) (maxL := 7) (r := v_11) (f := fun a_14 => m_X4_gets a_14 x1 x2 σ_5) 1 (fun v => some (.int v)) [.int x1, .int x2] C hw hR hI hl.1 h (by decide) rfl (fun aa vv ss ee => k_X4_gets l g A aa x1 x2 σ_5 vv ss ee) (cwV 2 C.t (lw_V q1441 q1422 q1423 q150 q1424) rfl rfl rfl (by decide +kernel) ⟨Nat.le_trans (Nat.le_of_ble_eq_true rfl) hR.f, Nat.le_trans (Nat.le_of_ble_eq_true rfl) hR.lo⟩) rfl rfl (Nat.le_of_ble_eq_true rfl) dX1_gets_26 (fun v_12 σ_13 H locs h hI => ?_)
    refine lv_goto (tgt := 41) C.x C.b dX1_gets_29 (by decide) ?_
    exact uq_l h (fun y h => cw_iret C hI h dX1_gets_41)

theorem k_X1_duties (l : Launch) (hl0 : l.stackTraces = false) (g : cG) (A : Nat → Prop) (o : Nat) (x1 : Int32) (σ : cS) (z : (cX (Int32)) × cS) (h : m_X1_duties o x1 σ = some z) : MetX l yX1_duties (ws_ yX1_duties cX1_duties 2 (Option.some Jvm.ClassFile.FieldType.int)) ({ frames := 262, cells := σ.2 3 - σ.2 0, slots := σ.2 4 - σ.2 1, locals := 6543 }) g A [.ref o, .int x1] σ (fun v => some (.int v)) z (σ.2 3 - σ.2 0) (σ.2 4 - σ.2 1) := by
  refine metx_of (cc := cX1_duties) (maxL := 2) (ret := (Option.some Jvm.ClassFile.FieldType.int)) (by decide) rfl ?_
  intro p e s m args below meth c s₁ B hml hx hv
  obtain ⟨rfl, hw, hσ⟩ := hv
  have hts := atoms_spec (ws := (ws_ yX1_duties cX1_duties 2 (Option.some Jvm.ClassFile.FieldType.int))) B.pre
  have C : CX p m meth c s ([.ref o, .int x1] : List Value).toArray cX1_duties 2 (Option.some Jvm.ClassFile.FieldType.int) RX1 := ⟨⟨B.exec, B.bytes, hml, findClass_of_methodNamed B.named, fun w h => hts w (List.mem_cons_of_mem _ h)⟩, B.returns, B.notSynchronized⟩
  have e3 : σ.2 3 - σ.2 0 = g.2.2.1 3 - s.heap.size := by rw [hσ.1, hσ.2.2.2.1 3 (by decide)]
  have e4 : σ.2 4 - σ.2 1 = g.2.2.1 4 - hsl s.heap := by rw [hσ.2.1, hσ.2.2.2.1 4 (by decide)]
  have hR : RM g s (headSpec (ws_ yX1_duties cX1_duties 2 (Option.some Jvm.ClassFile.FieldType.int)) ({ frames := 262, cells := σ.2 3 - σ.2 0, slots := σ.2 4 - σ.2 1, locals := 6543 })).room (262) (6543) := ⟨⟨Nat.le_refl _, Nat.le_refl _⟩, Nat.le_of_eq e3.symm, Nat.le_of_eq e4.symm⟩
  generalize (headSpec (ws_ yX1_duties cX1_duties 2 (Option.some Jvm.ClassFile.FieldType.int)) ({ frames := 262, cells := σ.2 3 - σ.2 0, slots := σ.2 4 - σ.2 1, locals := 6543 })).room = R at hR ⊢
  rw [e3, e4]
  have hI : CI g A s σ s.heap [] := ⟨hσ, va_S.rf, Nat.le_refl _⟩
  have hl := lv_entry ([.ref o, .int x1]) (n := 2) (Nat.le_of_ble_eq_true rfl)
  rw [lg_entry_eq]
  generalize (lg_sl ([.ref o, .int x1]) ++ List.replicate (2 - (lg_sl ([.ref o, .int x1])).length) Slot.unset).toArray = ls at hl ⊢
  have hl : lv_has ls 2 [(0, .ref o), (1, .int x1)] := hl
  refine W.narrow ?_
  unfold m_X1_duties at h
  refine r_aload_n (x := some o) C.x C.b dX1_duties_0 rfl (lv_at hl 0 rfl) ?_
  refine lv_iload_n C.x C.b dX1_duties_1 rfl (lv_at hl 1 rfl) ?_
  refine cx_callV (y := yX1_checkCase) (bytes := cX1_checkCase) (maxL := 2) (r := some o) (f := fun a_2 => m_X1_checkCase a_2 x1 σ) 0 (fun _ => none) [.int x1] C hx hw hR hI hl.1 h (by decide) rfl (fun aa uu ee => k_X1_checkCase l hl0 g A aa x1 σ uu ee) (cwV 1 C.t (lw_V q1627 q1629 qs44 q126 q1630) rfl rfl rfl (by decide +kernel) ⟨Nat.le_trans (Nat.le_of_ble_eq_true rfl) hR.f, Nat.le_trans (Nat.le_of_ble_eq_true rfl) hR.lo⟩) rfl rfl (Nat.le_of_ble_eq_true rfl) dX1_duties_2 (fun _ σ_1 H locs h hI => ?_)
  refine r_aload_n (x := some o) C.x C.b dX1_duties_5 rfl (lv_at hl 0 rfl) ?_
  refine cw_gR (r := some o) 0 0 C hw hI h (by decide) rfl in_X1 (by decide) (C.t _ q1172) (fun _ h9 => h9) dX1_duties_6 (fun v_3 h => ?_)
  refine lv_iload_n C.x C.b dX1_duties_9 rfl (lv_at hl 1 rfl) ?_
  refine cw_callV (y := yX4_duties) (bytes := cX4_duties) (maxL := 4) (r := v_3) (f := fun a_6 => m_X4_duties a_6 x1 σ_1) 1 (fun v => some (.int v)) [.int x1] C hw hR hI hl.1 h (by decide) rfl (fun aa vv ss ee => k_X4_duties l g A aa x1 σ_1 vv ss ee) (cwV 1 C.t (lw_V q1413 q1414 q1415 q150 q1416) rfl rfl rfl (by decide +kernel) ⟨Nat.le_trans (Nat.le_of_ble_eq_true rfl) hR.f, Nat.le_trans (Nat.le_of_ble_eq_true rfl) hR.lo⟩) rfl rfl (Nat.le_of_ble_eq_true rfl) dX1_duties_10 (fun v_4 σ_5 H locs h hI => ?_)
  exact uq_l h (fun y h => cw_iret C hI h dX1_duties_13)

end
