/-! THE CLASS' WALKS 31: printed by gencl.py -/
section
variable {p : Program} {l : Launch} {e : Env} {R : Room} {s : State} {m : MethodId} {args : Array Value} {below : List Frame} {meth : Method} {c : Code} {g : cG} {A : Nat → Prop}
set_option maxRecDepth 100000
theorem k_X1_heir (l : Launch) (hl0 : l.stackTraces = false) (g : cG) (A : Nat → Prop) (o : Nat) (x1 : Int32) (x2 : Int32) (σ : cS) (z : (cX (Int32)) × cS) (h : m_X1_heir o x1 x2 σ = some z) : MetX l yX1_heir (ws_ yX1_heir cX1_heir 3 (Option.some Jvm.ClassFile.FieldType.int)) ({ frames := 268, cells := σ.2 3 - σ.2 0, slots := σ.2 4 - σ.2 1, locals := 6690 }) g A [.ref o, .int x1, .int x2] σ (fun v => some (.int v)) z (σ.2 3 - σ.2 0) (σ.2 4 - σ.2 1) := by
  refine metx_of (cc := cX1_heir) (maxL := 3) (ret := (Option.some Jvm.ClassFile.FieldType.int)) (by decide) rfl ?_
  intro p e s m args below meth c s₁ B hml hx hv
  obtain ⟨rfl, hw, hσ⟩ := hv
  have hts := atoms_spec (ws := (ws_ yX1_heir cX1_heir 3 (Option.some Jvm.ClassFile.FieldType.int))) B.pre
  have C : CX p m meth c s ([.ref o, .int x1, .int x2] : List Value).toArray cX1_heir 3 (Option.some Jvm.ClassFile.FieldType.int) RX1 := ⟨⟨B.exec, B.bytes, hml, findClass_of_methodNamed B.named, fun w h => hts w (List.mem_cons_of_mem _ h)⟩, B.returns, B.notSynchronized⟩
  have hnm : s.methodNamed? yX1_heir = some m := B.named
  have e3 : σ.2 3 - σ.2 0 = g.2.2.1 3 - s.heap.size := by rw [hσ.1, hσ.2.2.2.1 3 (by decide)]
  have e4 : σ.2 4 - σ.2 1 = g.2.2.1 4 - hsl s.heap := by rw [hσ.2.1, hσ.2.2.2.1 4 (by decide)]
  have hR : RM g s (headSpec (ws_ yX1_heir cX1_heir 3 (Option.some Jvm.ClassFile.FieldType.int)) ({ frames := 268, cells := σ.2 3 - σ.2 0, slots := σ.2 4 - σ.2 1, locals := 6690 })).room (268) (6690) := ⟨⟨Nat.le_refl _, Nat.le_refl _⟩, Nat.le_of_eq e3.symm, Nat.le_of_eq e4.symm⟩
  generalize (headSpec (ws_ yX1_heir cX1_heir 3 (Option.some Jvm.ClassFile.FieldType.int)) ({ frames := 268, cells := σ.2 3 - σ.2 0, slots := σ.2 4 - σ.2 1, locals := 6690 })).room = R at hR ⊢
  rw [e3, e4]
  have hI : CI g A s σ s.heap [] := ⟨hσ, va_S.rf, Nat.le_refl _⟩
  have hl := lv_entry ([.ref o, .int x1, .int x2]) (n := 3) (Nat.le_of_ble_eq_true rfl)
  rw [lg_entry_eq]
  generalize (lg_sl ([.ref o, .int x1, .int x2]) ++ List.replicate (3 - (lg_sl ([.ref o, .int x1, .int x2])).length) Slot.unset).toArray = ls at hl ⊢
  have hl : lv_has ls 3 [(0, .ref o), (1, .int x1), (2, .int x2)] := hl
  refine W.narrow ?_
  unfold m_X1_heir at h
  refine r_aload_n (x := some o) C.x C.b dX1_heir_0 rfl (lv_at hl 0 rfl) ?_
  refine lv_iload_n C.x C.b dX1_heir_1 rfl (lv_at hl 1 rfl) ?_
  refine cx_callV (y := yX1_checkHeir) (bytes := cX1_checkHeir) (maxL := 2) (r := some o) (f := fun a_2 => m_X1_checkHeir a_2 x1 σ) 0 (fun _ => none) [.int x1] C hx hw hR hI hl.1 h (by decide) rfl (fun aa uu ee => k_X1_checkHeir l hl0 g A aa x1 σ uu ee) (cwV 1 C.t (lw_V q1549 q1551 qs36 q126 q1552) rfl rfl rfl (by decide +kernel) ⟨Nat.le_trans (Nat.le_of_ble_eq_true rfl) hR.f, Nat.le_trans (Nat.le_of_ble_eq_true rfl) hR.lo⟩) rfl rfl (Nat.le_of_ble_eq_true rfl) dX1_heir_2 (fun _ σ_1 H locs h hI => ?_)
  refine lv_iload_n C.x C.b dX1_heir_5 rfl (lv_at hl 2 rfl) ?_
  refine lv_iconst (v := 0) C.x C.b dX1_heir_6 (by decide) ?_
  refine lv_bipush (v := 6) C.x C.b dX1_heir_7 (by decide) ?_
  refine cx_callS (y := yX1_check) (bytes := cX1_check) (maxL := 3) (fun _ => none) [.int x2, .int 0, .int 6] C hx hw hR hI hl.1 h (fun uu ee => k_X1_check l hl0 g A x2 0 6 σ_1 uu ee) (va_cwS 3 C.t (lw_S q1537 q1538 q126 q1539) rfl rfl rfl (by decide +kernel) ⟨Nat.le_trans (Nat.le_of_ble_eq_true rfl) hR.f, Nat.le_trans (Nat.le_of_ble_eq_true rfl) hR.lo⟩) rfl rfl (Nat.le_of_ble_eq_true rfl) dX1_heir_9 (fun _ σ_3 H locs h hI => ?_)
  refine lv_iload_n C.x C.b dX1_heir_12 rfl (lv_at hl 2 rfl) ?_
  by_cases c_4 : x2 = 0
  · have h := ip c_4 h
    refine lv_tableIn (off := 39) (tgt := 52) C.x C.b dX1_heir_13 (by rw [c_4]; decide) (by rw [c_4]; decide) (by rw [c_4]; rfl) (by decide) ?_
    refine r_aload_n (x := some o) C.x C.b dX1_heir_52 rfl (lv_at hl 0 rfl) ?_
    refine cw_gR (r := some o) 0 0 C hw hI h (by decide) rfl in_X1 (by decide) (C.t _ q1172) (fun _ h9 => h9) dX1_heir_53 (fun v_5 h => ?_)
    refine cw_gR (r := v_5) 1 2 C hw hI h (by decide) rfl in_X4 (by decide) (C.t _ q846) (fun _ h9 => h9) dX1_heir_56 (fun v_6 h => ?_)
    refine lv_iload_n C.x C.b dX1_heir_59 rfl (lv_at hl 1 rfl) ?_
    refine cw_ild (r := v_6) C hw hI h dX1_heir_60 (fun v_7 h => ?_)
    refine lv_goto (tgt := 158) C.x C.b dX1_heir_61 (by decide) ?_
    exact uq_l h (fun y h => cw_iret C hI h dX1_heir_158)
  have h := iN c_4 h
  by_cases c_8 : x2 = 1
  · have h := ip c_8 h
    refine lv_tableIn (off := 51) (tgt := 64) C.x C.b dX1_heir_13 (by rw [c_8]; decide) (by rw [c_8]; decide) (by rw [c_8]; rfl) (by decide) ?_
    refine r_aload_n (x := some o) C.x C.b dX1_heir_64 rfl (lv_at hl 0 rfl) ?_
    refine cw_gR (r := some o) 0 0 C hw hI h (by decide) rfl in_X1 (by decide) (C.t _ q1172) (fun _ h9 => h9) dX1_heir_65 (fun v_9 h => ?_)
    refine cw_gR (r := v_9) 1 3 C hw hI h (by decide) rfl in_X4 (by decide) (C.t _ q849) (fun _ h9 => h9) dX1_heir_68 (fun v_10 h => ?_)
    refine lv_iload_n C.x C.b dX1_heir_71 rfl (lv_at hl 1 rfl) ?_
    refine cw_ild (r := v_10) C hw hI h dX1_heir_72 (fun v_11 h => ?_)
    refine lv_goto (tgt := 158) C.x C.b dX1_heir_73 (by decide) ?_
    exact uq_l h (fun y h => cw_iret C hI h dX1_heir_158)
  have h := iN c_8 h
  by_cases c_12 : x2 = 2
  · have h := ip c_12 h
    refine lv_tableIn (off := 63) (tgt := 76) C.x C.b dX1_heir_13 (by rw [c_12]; decide) (by rw [c_12]; decide) (by rw [c_12]; rfl) (by decide) ?_
    refine r_aload_n (x := some o) C.x C.b dX1_heir_76 rfl (lv_at hl 0 rfl) ?_
    refine cw_gR (r := some o) 0 0 C hw hI h (by decide) rfl in_X1 (by decide) (C.t _ q1172) (fun _ h9 => h9) dX1_heir_77 (fun v_13 h => ?_)
    refine cw_gI (r := v_13) 1 6 C hw hI h (by decide) rfl in_X4 (by decide) (C.t _ q855) (fun _ h9 => h9) dX1_heir_80 (fun v_14 h => ?_)
    refine lv_iload_n C.x C.b dX1_heir_83 rfl (lv_at hl 1 rfl) ?_
    refine lv_icmp_ne (tgt := 91) C.x C.b dX1_heir_84 (by decide) (fun c_15 => ?_) (fun c_15 => ?_)
    · have h := iN c_15 h
      refine lv_iconst (v := 0) C.x C.b dX1_heir_91 (by decide) ?_
      refine lv_goto (tgt := 158) C.x C.b dX1_heir_92 (by decide) ?_
      exact uq_l h (fun y h => cw_iret C hI h dX1_heir_158)
    · have h := ip c_15 h
      refine lv_iconst (v := 1) C.x C.b dX1_heir_87 (by decide) ?_
      refine lv_goto (tgt := 158) C.x C.b dX1_heir_88 (by decide) ?_
      exact uq_l h (fun y h => cw_iret C hI h dX1_heir_158)
  have h := iN c_12 h
  by_cases c_16 : x2 = 3
  · have h := ip c_16 h
    refine lv_tableIn (off := 82) (tgt := 95) C.x C.b dX1_heir_13 (by rw [c_16]; decide) (by rw [c_16]; decide) (by rw [c_16]; rfl) (by decide) ?_
    refine r_aload_n (x := some o) C.x C.b dX1_heir_95 rfl (lv_at hl 0 rfl) ?_
    refine cw_gR (r := some o) 0 0 C hw hI h (by decide) rfl in_X1 (by decide) (C.t _ q1172) (fun _ h9 => h9) dX1_heir_96 (fun v_17 h => ?_)
    refine r_aload_n (x := some o) C.x C.b dX1_heir_99 rfl (lv_at hl 0 rfl) ?_
    refine cw_gR (r := some o) 0 0 C hw hI h (by decide) rfl in_X1 (by decide) (C.t _ q1172) (fun _ h9 => h9) dX1_heir_100 (fun v_18 h => ?_)
    refine cw_gI (r := v_18) 1 8 C hw hI h (by decide) rfl in_X4 (by decide) (C.t _ q860) (fun _ h9 => h9) dX1_heir_103 (fun v_19 h => ?_)
    refine lv_iload_n C.x C.b dX1_heir_106 rfl (lv_at hl 1 rfl) ?_
    refine cw_callV (y := yX4_gets) (bytes := cX4_gets) (maxL := 7) (r := v_17) (f := fun a_22 => m_X4_gets a_22 v_19 x1 σ_3) 1 (fun v => some (.int v)) [.int v_19, .int x1] C hw hR hI hl.1 h (by decide) rfl (fun aa vv ss ee => k_X4_gets l g A aa v_19 x1 σ_3 vv ss ee) (cwV 2 C.t (lw_V q1441 q1422 q1423 q150 q1424) rfl rfl rfl (by decide +kernel) ⟨Nat.le_trans (Nat.le_of_ble_eq_true rfl) hR.f, Nat.le_trans (Nat.le_of_ble_eq_true rfl) hR.lo⟩) rfl rfl (Nat.le_of_ble_eq_true rfl) dX1_heir_107 (fun v_20 σ_21 H locs h hI => ?_)
    refine lv_goto (tgt := 158) C.x C.b dX1_heir_110 (by decide) ?_
    exact uq_l h (fun y h => cw_iret C hI h dX1_heir_158)
  have h := iN c_16 h
  by_cases c_23 : x2 = 4
  · have h := ip c_23 h
    refine lv_tableIn (off := 100) (tgt := 113) C.x C.b dX1_heir_13 (by rw [c_23]; decide) (by rw [c_23]; decide) (by rw [c_23]; rfl) (by decide) ?_
    refine r_aload_n (x := some o) C.x C.b dX1_heir_113 rfl (lv_at hl 0 rfl) ?_
    refine cw_gR (r := some o) 0 0 C hw hI h (by decide) rfl in_X1 (by decide) (C.t _ q1172) (fun _ h9 => h9) dX1_heir_114 (fun v_24 h => ?_)
    refine r_aload_n (x := some o) C.x C.b dX1_heir_117 rfl (lv_at hl 0 rfl) ?_
    refine cw_gR (r := some o) 0 0 C hw hI h (by decide) rfl in_X1 (by decide) (C.t _ q1172) (fun _ h9 => h9) dX1_heir_118 (fun v_25 h => ?_)
    refine cw_gI (r := v_25) 1 8 C hw hI h (by decide) rfl in_X4 (by decide) (C.t _ q860) (fun _ h9 => h9) dX1_heir_121 (fun v_26 h => ?_)
    refine lv_iload_n C.x C.b dX1_heir_124 rfl (lv_at hl 1 rfl) ?_
    refine cw_callV (y := yX4_duty) (bytes := cX4_duty) (maxL := 4) (r := v_24) (f := fun a_29 => m_X4_duty a_29 v_26 x1 σ_3) 1 (fun v => some (.int v)) [.int v_26, .int x1] C hw hR hI hl.1 h (by decide) rfl (fun aa vv ss ee => k_X4_duty l g A aa v_26 x1 σ_3 vv ss ee) (cwV 2 C.t (lw_V q1571 q1418 q1419 q150 q1420) rfl rfl rfl (by decide +kernel) ⟨Nat.le_trans (Nat.le_of_ble_eq_true rfl) hR.f, Nat.le_trans (Nat.le_of_ble_eq_true rfl) hR.lo⟩) rfl rfl (Nat.le_of_ble_eq_true rfl) dX1_heir_125 (fun v_27 σ_28 H locs h hI => ?_)
    refine lv_goto (tgt := 158) C.x C.b dX1_heir_128 (by decide) ?_
    exact uq_l h (fun y h => cw_iret C hI h dX1_heir_158)
  have h := iN c_23 h
  by_cases c_30 : x2 = 5
  · have h := ip c_30 h
    refine lv_tableIn (off := 118) (tgt := 131) C.x C.b dX1_heir_13 (by rw [c_30]; decide) (by rw [c_30]; decide) (by rw [c_30]; rfl) (by decide) ?_
    refine r_aload_n (x := some o) C.x C.b dX1_heir_131 rfl (lv_at hl 0 rfl) ?_
    refine r_aload_n (x := some o) C.x C.b dX1_heir_132 rfl (lv_at hl 0 rfl) ?_
    refine lv_iload_n C.x C.b dX1_heir_133 rfl (lv_at hl 1 rfl) ?_
    refine cw_lamM (q := lq8) (st := [.int x1, .ref o, .ref o]) 8 [.ref o, .int x1] C hw hR hI hnm lz8 lo8 h (by decide) (show (fits (.object "HeirCases") (va_rf (some o)) = true ∧ narrow (.object "HeirCases") (va_rf (some o)) = (va_rf (some o))) ∧ (fits .int (.int x1) = true ∧ narrow .int (.int x1) = (.int x1)) ∧ True from ⟨⟨fits_o _ (some o), nar_o _ (some o)⟩, ⟨⟨rfl, rfl⟩, trivial⟩⟩) rfl hl.1 (Nat.le_of_ble_eq_true rfl) rfl (Nat.le_of_ble_eq_true rfl) dX1_heir_134 (fun q_31 σ_32 H locs h hI => ?_)
    refine lv_iconst (v := -1) C.x C.b dX1_heir_139 (by decide) ?_
    refine cx_callV (y := yX1_overSettled) (bytes := cX1_overSettled) (maxL := 7) (r := some o) (f := fun a_35 => m_X1_overSettled a_35 (some q_31) (-1) σ_32) 0 (fun v => some (.int v)) [.ref q_31, .int (-1)] C hx hw hR hI hl.1 h (by decide) rfl (fun aa uu ee => k_X1_overSettled l hl0 g A aa (some q_31) (-1) σ_32 uu ee) (cwV 2 C.t (lw_V q1430 q1432 qs33 q126 q1433) rfl rfl rfl (by decide +kernel) ⟨Nat.le_trans (Nat.le_of_ble_eq_true rfl) hR.f, Nat.le_trans (Nat.le_of_ble_eq_true rfl) hR.lo⟩) rfl rfl (Nat.le_of_ble_eq_true rfl) dX1_heir_140 (fun v_33 σ_34 H locs h hI => ?_)
    refine lv_goto (tgt := 158) C.x C.b dX1_heir_143 (by decide) ?_
    exact uq_l h (fun y h => cw_iret C hI h dX1_heir_158)
  have h := iN c_30 h
  refine tw_tabD (tgt := 146) C.x C.b dX1_heir_13 (by decide) (fun j hj => match j, hj with | 0, _ => Or.inr (lv_neT c_4 (by decide)) | 1, _ => Or.inr (lv_neT c_8 (by decide)) | 2, _ => Or.inr (lv_neT c_12 (by decide)) | 3, _ => Or.inr (lv_neT c_16 (by decide)) | 4, _ => Or.inr (lv_neT c_23 (by decide)) | 5, _ => Or.inr (lv_neT c_30 (by decide)) | j + 6, hj => absurd hj (Nat.not_lt_of_le (Nat.le_add_left _ _))) (by decide) ?_
  refine r_aload_n (x := some o) C.x C.b dX1_heir_146 rfl (lv_at hl 0 rfl) ?_
  refine r_aload_n (x := some o) C.x C.b dX1_heir_147 rfl (lv_at hl 0 rfl) ?_
  refine lv_iload_n C.x C.b dX1_heir_148 rfl (lv_at hl 1 rfl) ?_
  refine cw_lamM (q := lq9) (st := [.int x1, .ref o, .ref o]) 9 [.ref o, .int x1] C hw hR hI hnm lz9 lo9 h (by decide) (show (fits (.object "HeirCases") (va_rf (some o)) = true ∧ narrow (.object "HeirCases") (va_rf (some o)) = (va_rf (some o))) ∧ (fits .int (.int x1) = true ∧ narrow .int (.int x1) = (.int x1)) ∧ True from ⟨⟨fits_o _ (some o), nar_o _ (some o)⟩, ⟨⟨rfl, rfl⟩, trivial⟩⟩) rfl hl.1 (Nat.le_of_ble_eq_true rfl) rfl (Nat.le_of_ble_eq_true rfl) dX1_heir_149 (fun q_36 σ_37 H locs h hI => ?_)
  refine lv_iconst (v := 1) C.x C.b dX1_heir_154 (by decide) ?_
  refine cx_callV (y := yX1_overSettled) (bytes := cX1_overSettled) (maxL := 7) (r := some o) (f := fun a_40 => m_X1_overSettled a_40 (some q_36) 1 σ_37) 0 (fun v => some (.int v)) [.ref q_36, .int 1] C hx hw hR hI hl.1 h (by decide) rfl (fun aa uu ee => k_X1_overSettled l hl0 g A aa (some q_36) 1 σ_37 uu ee) (cwV 2 C.t (lw_V q1430 q1432 qs33 q126 q1433) rfl rfl rfl (by decide +kernel) ⟨Nat.le_trans (Nat.le_of_ble_eq_true rfl) hR.f, Nat.le_trans (Nat.le_of_ble_eq_true rfl) hR.lo⟩) rfl rfl (Nat.le_of_ble_eq_true rfl) dX1_heir_155 (fun v_38 σ_39 H locs h hI => ?_)
  exact uq_l h (fun y h => cw_iret C hI h dX1_heir_158)

theorem w_X1_beaters_4 {z : Int32 × cS} {o : Nat} (C : CX p m meth c s args cX1_beaters 4 (Option.some Jvm.ClassFile.FieldType.int) RX1) (hw : WKc g A s s.heap) (hR : RM g s R (4) (104))  : ∀ (n : Nat) (x1 : Int32) (x2 : Int32) (x3 : Int32) (σ : cS) (H : Heap) (locs : List Loc) (ls : Array Slot), b_X1_beaters_4 o n x1 x2 x3 σ = some z → CI g A s σ H locs → lv_has ls 4 [(0, .ref o), (1, .int x1), (2, .int x2), (3, .int x3)] → W p l e R s m args below meth c H locs (H.size - s.heap.size) (hsl H - hsl s.heap) (MQ below (CQ g A (some (.int z.1)) z.2) args s (g.2.2.1 3 - s.heap.size) (g.2.2.1 4 - hsl s.heap) A) (F0 m 4 ls []) := by
  intro n
  induction n with
  | zero =>
    intro x1 x2 x3 σ H locs ls h
    cases h
  | succ n ih =>
    intro x1 x2 x3 σ H locs ls h hI hl
    rw [b_X1_beaters_4] at h
    refine lv_iload_n C.x C.b dX1_beaters_4 rfl (lv_at hl 3 rfl) ?_
    refine r_aload_n (x := some o) C.x C.b dX1_beaters_5 rfl (lv_at hl 0 rfl) ?_
    refine cw_gR (r := some o) 0 0 C hw hI h (by decide) rfl in_X1 (by decide) (C.t _ q1172) (fun _ h9 => h9) dX1_beaters_6 (fun v_1 h => ?_)
    refine cw_gR (r := v_1) 1 4 C hw hI h (by decide) rfl in_X4 (by decide) (C.t _ q851) (fun _ h9 => h9) dX1_beaters_9 (fun v_2 h => ?_)
    refine cw_callV (y := yJ18_size) (bytes := cJ18_size) (maxL := 1) (r := v_2) (f := fun a_5 => m_J18_size a_5 σ) 9 (fun v => some (.int v)) [] C hw hR hI hl.1 h (by decide) rfl (fun aa vv ss ee => k_J18_size l g A aa σ vv ss ee) (cwV 0 C.t (lw_V q1339 q947 q948 q152 q949) rfl rfl rfl (by decide +kernel) ⟨Nat.le_trans (Nat.le_of_ble_eq_true rfl) hR.f, Nat.le_trans (Nat.le_of_ble_eq_true rfl) hR.lo⟩) rfl rfl (Nat.le_of_ble_eq_true rfl) dX1_beaters_12 (fun v_3 σ_4 H locs h hI => ?_)
    refine lv_icmp_ge (tgt := 55) C.x C.b dX1_beaters_15 (by decide) (fun c_6 => ?_) (fun c_6 => ?_)
    · have h := ip c_6 h
      refine lv_iload_n C.x C.b dX1_beaters_55 rfl (lv_at hl 2 rfl) ?_
      exact cw_iret C hI h dX1_beaters_56
    · have h := iN c_6 h
      refine lv_iload_n C.x C.b dX1_beaters_18 rfl (lv_at hl 2 rfl) ?_
      refine r_aload_n (x := some o) C.x C.b dX1_beaters_19 rfl (lv_at hl 0 rfl) ?_
      refine cw_gR (r := some o) 0 0 C hw hI h (by decide) rfl in_X1 (by decide) (C.t _ q1172) (fun _ h9 => h9) dX1_beaters_20 (fun v_7 h => ?_)
      refine cw_gR (r := v_7) 1 4 C hw hI h (by decide) rfl in_X4 (by decide) (C.t _ q851) (fun _ h9 => h9) dX1_beaters_23 (fun v_8 h => ?_)
      refine lv_iload_n C.x C.b dX1_beaters_26 rfl (lv_at hl 3 rfl) ?_
      refine cw_callV (y := yJ18_get) (bytes := cJ18_get) (maxL := 2) (r := v_8) (f := fun a_11 => m_J18_get a_11 x3 σ_4) 9 (fun v => some (va_rf v)) [.int x3] C hw hR hI hl.1 h (by decide) rfl (fun aa vv ss ee => k_J18_get l g A aa x3 σ_4 vv ss ee) (cwV 1 C.t (lw_V q1586 q1264 q1265 q152 q1266) rfl rfl rfl (by decide +kernel) ⟨Nat.le_trans (Nat.le_of_ble_eq_true rfl) hR.f, Nat.le_trans (Nat.le_of_ble_eq_true rfl) hR.lo⟩) rfl rfl (Nat.le_of_ble_eq_true rfl) dX1_beaters_27 (fun v_9 σ_10 H locs h hI => ?_)
      refine cw_cast (r := v_9) 2 C hw hI h (by decide) rfl q1587 dX1_beaters_30 (fun h => ?_)
      refine lv_iload_n C.x C.b dX1_beaters_33 rfl (lv_at hl 1 rfl) ?_
      refine cw_callV (y := yX9_isOver) (bytes := cX9_isOver) (maxL := 2) (r := v_9) (f := fun a_14 => m_X9_isOver a_14 x1 σ_10) 2 (fun v => some (.int v)) [.int x1] C hw hR hI hl.1 h (by decide) rfl (fun aa vv ss ee => k_X9_isOver l g A aa x1 σ_10 vv ss ee) (cwV 1 C.t (lw_V q1604 q1605 q1606 q157 q1607) rfl rfl rfl (by decide +kernel) ⟨Nat.le_trans (Nat.le_of_ble_eq_true rfl) hR.f, Nat.le_trans (Nat.le_of_ble_eq_true rfl) hR.lo⟩) rfl rfl (Nat.le_of_ble_eq_true rfl) dX1_beaters_34 (fun v_12 σ_13 H locs h hI => ?_)
      refine lv_if_eq (tgt := 46) C.x C.b dX1_beaters_37 (by decide) (fun c_15 => ?_) (fun c_15 => ?_)
      · have h := ip c_15 h
        refine lv_iconst (v := 0) C.x C.b dX1_beaters_46 (by decide) ?_
        refine lv_ior C.x C.b dX1_beaters_47 ?_
        refine tw_lt h (fun x2_16 h => ?_)
        refine lv_istore_n (i := 2) (lv' := [(2, .int x2_16), (0, .ref o), (1, .int x1), (3, .int x3)]) C.x C.b dX1_beaters_48 rfl hl (by decide) rfl (fun ls hl => ?_)
        obtain ⟨x3_17, e_, h⟩ := nm_s h
        refine lv_iinc (v := x3_17) (lv' := [(3, .int x3_17), (2, .int x2_16), (0, .ref o), (1, .int x1)]) C.x C.b dX1_beaters_49 hl (k := 3) rfl e_.symm (by decide) rfl (fun ls hl => ?_)
        refine lv_goto (tgt := 4) C.x C.b dX1_beaters_52 (by decide) ?_
        exact ih x1 x2_16 x3_17 _ _ _ _ h hI (lv_sub hl [2, 3, 1, 0] rfl)
      · have h := iN c_15 h
        refine lv_iconst (v := 1) C.x C.b dX1_beaters_40 (by decide) ?_
        refine lv_iload_n C.x C.b dX1_beaters_41 rfl (lv_at hl 3 rfl) ?_
        refine lv_ishl C.x C.b dX1_beaters_42 ?_
        refine lv_goto (tgt := 47) C.x C.b dX1_beaters_43 (by decide) ?_
        refine lv_ior C.x C.b dX1_beaters_47 ?_
        refine tw_lt h (fun x2_18 h => ?_)
        refine lv_istore_n (i := 2) (lv' := [(2, .int x2_18), (0, .ref o), (1, .int x1), (3, .int x3)]) C.x C.b dX1_beaters_48 rfl hl (by decide) rfl (fun ls hl => ?_)
        obtain ⟨x3_19, e_, h⟩ := nm_s h
        refine lv_iinc (v := x3_19) (lv' := [(3, .int x3_19), (2, .int x2_18), (0, .ref o), (1, .int x1)]) C.x C.b dX1_beaters_49 hl (k := 3) rfl e_.symm (by decide) rfl (fun ls hl => ?_)
        refine lv_goto (tgt := 4) C.x C.b dX1_beaters_52 (by decide) ?_
        exact ih x1 x2_18 x3_19 _ _ _ _ h hI (lv_sub hl [2, 3, 1, 0] rfl)

theorem k_X1_beaters (l : Launch) (g : cG) (A : Nat → Prop) (o : Nat) (x1 : Int32) (σ : cS) (v : Int32) (σ1 : cS) (h : m_X1_beaters o x1 σ = some (v, σ1)) : Met l yX1_beaters (ws_ yX1_beaters cX1_beaters 4 (Option.some Jvm.ClassFile.FieldType.int)) ({ frames := 4, cells := σ.2 3 - σ.2 0, slots := σ.2 4 - σ.2 1, locals := 104 }) (CPc g A [.ref o, .int x1] σ) (CQ g A (some (.int v)) σ1) (σ.2 3 - σ.2 0) (σ.2 4 - σ.2 1) A := by
  refine Met.ofW (cc := cX1_beaters) (maxL := 4) (ret := (Option.some Jvm.ClassFile.FieldType.int)) (by decide) rfl ?_
  intro p e s m args below meth c s₁ B hml hv
  obtain ⟨rfl, hw, hσ⟩ := hv
  have hts := atoms_spec (ws := (ws_ yX1_beaters cX1_beaters 4 (Option.some Jvm.ClassFile.FieldType.int))) B.pre
  have C : CX p m meth c s ([.ref o, .int x1] : List Value).toArray cX1_beaters 4 (Option.some Jvm.ClassFile.FieldType.int) RX1 := ⟨⟨B.exec, B.bytes, hml, findClass_of_methodNamed B.named, fun w h => hts w (List.mem_cons_of_mem _ h)⟩, B.returns, B.notSynchronized⟩
  have e3 : σ.2 3 - σ.2 0 = g.2.2.1 3 - s.heap.size := by rw [hσ.1, hσ.2.2.2.1 3 (by decide)]
  have e4 : σ.2 4 - σ.2 1 = g.2.2.1 4 - hsl s.heap := by rw [hσ.2.1, hσ.2.2.2.1 4 (by decide)]
  have hR : RM g s (headSpec (ws_ yX1_beaters cX1_beaters 4 (Option.some Jvm.ClassFile.FieldType.int)) ({ frames := 4, cells := σ.2 3 - σ.2 0, slots := σ.2 4 - σ.2 1, locals := 104 })).room (4) (104) := ⟨⟨Nat.le_refl _, Nat.le_refl _⟩, Nat.le_of_eq e3.symm, Nat.le_of_eq e4.symm⟩
  generalize (headSpec (ws_ yX1_beaters cX1_beaters 4 (Option.some Jvm.ClassFile.FieldType.int)) ({ frames := 4, cells := σ.2 3 - σ.2 0, slots := σ.2 4 - σ.2 1, locals := 104 })).room = R at hR ⊢
  rw [e3, e4]
  have hI : CI g A s σ s.heap [] := ⟨hσ, va_S.rf, Nat.le_refl _⟩
  have hl := lv_entry ([.ref o, .int x1]) (n := 4) (Nat.le_of_ble_eq_true rfl)
  rw [lg_entry_eq]
  generalize (lg_sl ([.ref o, .int x1]) ++ List.replicate (4 - (lg_sl ([.ref o, .int x1])).length) Slot.unset).toArray = ls at hl ⊢
  have hl : lv_has ls 4 [(0, .ref o), (1, .int x1)] := hl
  obtain ⟨z, hz⟩ : ∃ z, z = (v, σ1) := ⟨_, rfl⟩
  rw [← hz] at h
  rw [show v = z.1 by rw [hz], show σ1 = z.2 by rw [hz]]
  clear hz v σ1
  refine W.narrow ?_
  unfold m_X1_beaters at h
  refine lv_iconst (v := 0) C.x C.b dX1_beaters_0 (by decide) ?_
  refine lv_istore_n (i := 2) (lv' := [(2, .int 0), (0, .ref o), (1, .int x1)]) C.x C.b dX1_beaters_1 rfl hl (by decide) rfl (fun ls hl => ?_)
  refine lv_iconst (v := 0) C.x C.b dX1_beaters_2 (by decide) ?_
  refine lv_istore_n (i := 3) (lv' := [(3, .int 0), (2, .int 0), (0, .ref o), (1, .int x1)]) C.x C.b dX1_beaters_3 rfl hl (by decide) rfl (fun ls hl => ?_)
  exact w_X1_beaters_4 C hw hR _ x1 0 0 _ _ _ _ h hI (lv_sub hl [2, 3, 1, 0] rfl)

theorem k_X1_rule (l : Launch) (hl0 : l.stackTraces = false) (g : cG) (A : Nat → Prop) (o : Nat) (x1 : Int32) (x2 : Int32) (σ : cS) (z : (cX (Int32)) × cS) (h : m_X1_rule o x1 x2 σ = some z) : MetX l yX1_rule (ws_ yX1_rule cX1_rule 4 (Option.some Jvm.ClassFile.FieldType.int)) ({ frames := 268, cells := σ.2 3 - σ.2 0, slots := σ.2 4 - σ.2 1, locals := 6688 }) g A [.ref o, .int x1, .int x2] σ (fun v => some (.int v)) z (σ.2 3 - σ.2 0) (σ.2 4 - σ.2 1) := by
  refine metx_of (cc := cX1_rule) (maxL := 4) (ret := (Option.some Jvm.ClassFile.FieldType.int)) (by decide) rfl ?_
  intro p e s m args below meth c s₁ B hml hx hv
  obtain ⟨rfl, hw, hσ⟩ := hv
  have hts := atoms_spec (ws := (ws_ yX1_rule cX1_rule 4 (Option.some Jvm.ClassFile.FieldType.int))) B.pre
  have C : CX p m meth c s ([.ref o, .int x1, .int x2] : List Value).toArray cX1_rule 4 (Option.some Jvm.ClassFile.FieldType.int) RX1 := ⟨⟨B.exec, B.bytes, hml, findClass_of_methodNamed B.named, fun w h => hts w (List.mem_cons_of_mem _ h)⟩, B.returns, B.notSynchronized⟩
  have hnm : s.methodNamed? yX1_rule = some m := B.named
  have e3 : σ.2 3 - σ.2 0 = g.2.2.1 3 - s.heap.size := by rw [hσ.1, hσ.2.2.2.1 3 (by decide)]
  have e4 : σ.2 4 - σ.2 1 = g.2.2.1 4 - hsl s.heap := by rw [hσ.2.1, hσ.2.2.2.1 4 (by decide)]
  have hR : RM g s (headSpec (ws_ yX1_rule cX1_rule 4 (Option.some Jvm.ClassFile.FieldType.int)) ({ frames := 268, cells := σ.2 3 - σ.2 0, slots := σ.2 4 - σ.2 1, locals := 6688 })).room (268) (6688) := ⟨⟨Nat.le_refl _, Nat.le_refl _⟩, Nat.le_of_eq e3.symm, Nat.le_of_eq e4.symm⟩
  generalize (headSpec (ws_ yX1_rule cX1_rule 4 (Option.some Jvm.ClassFile.FieldType.int)) ({ frames := 268, cells := σ.2 3 - σ.2 0, slots := σ.2 4 - σ.2 1, locals := 6688 })).room = R at hR ⊢
  rw [e3, e4]
  have hI : CI g A s σ s.heap [] := ⟨hσ, va_S.rf, Nat.le_refl _⟩
  have hl := lv_entry ([.ref o, .int x1, .int x2]) (n := 4) (Nat.le_of_ble_eq_true rfl)
  rw [lg_entry_eq]
  generalize (lg_sl ([.ref o, .int x1, .int x2]) ++ List.replicate (4 - (lg_sl ([.ref o, .int x1, .int x2])).length) Slot.unset).toArray = ls at hl ⊢
  have hl : lv_has ls 4 [(0, .ref o), (1, .int x1), (2, .int x2)] := hl
  refine W.narrow ?_
  unfold m_X1_rule at h
  refine r_aload_n (x := some o) C.x C.b dX1_rule_0 rfl (lv_at hl 0 rfl) ?_
  refine lv_iload_n C.x C.b dX1_rule_1 rfl (lv_at hl 1 rfl) ?_
  refine cx_callV (y := yX1_ruleAt) (bytes := cX1_ruleAt) (maxL := 2) (r := some o) (f := fun a_3 => m_X1_ruleAt a_3 x1 σ) 0 (fun v => some (va_rf v)) [.int x1] C hx hw hR hI hl.1 h (by decide) rfl (fun aa uu ee => k_X1_ruleAt l hl0 g A aa x1 σ uu ee) (cwV 1 C.t (lw_V q1582 q1584 qs39 q126 q1585) rfl rfl rfl (by decide +kernel) ⟨Nat.le_trans (Nat.le_of_ble_eq_true rfl) hR.f, Nat.le_trans (Nat.le_of_ble_eq_true rfl) hR.lo⟩) rfl rfl (Nat.le_of_ble_eq_true rfl) dX1_rule_2 (fun v_1 σ_2 H locs h hI => ?_)
  refine r_astore_n (i := 3) (x := v_1) (lv' := [(3, va_rf v_1), (0, .ref o), (1, .int x1), (2, .int x2)]) C.x C.b dX1_rule_5 rfl hl (by decide) (by rfl) (fun ls hl => ?_)
  refine lv_iload_n C.x C.b dX1_rule_6 rfl (lv_at hl 3 rfl) ?_
  refine lv_iconst (v := 0) C.x C.b dX1_rule_7 (by decide) ?_
  refine lv_iconst (v := 5) C.x C.b dX1_rule_8 (by decide) ?_
  refine cx_callS (y := yX1_check) (bytes := cX1_check) (maxL := 3) (fun _ => none) [.int x2, .int 0, .int 5] C hx hw hR hI hl.1 h (fun uu ee => k_X1_check l hl0 g A x2 0 5 σ_2 uu ee) (va_cwS 3 C.t (lw_S q1537 q1538 q126 q1539) rfl rfl rfl (by decide +kernel) ⟨Nat.le_trans (Nat.le_of_ble_eq_true rfl) hR.f, Nat.le_trans (Nat.le_of_ble_eq_true rfl) hR.lo⟩) rfl rfl (Nat.le_of_ble_eq_true rfl) dX1_rule_9 (fun _ σ_4 H locs h hI => ?_)
  refine lv_iload_n C.x C.b dX1_rule_12 rfl (lv_at hl 3 rfl) ?_
  by_cases c_5 : x2 = 0
  · have h := ip c_5 h
    refine lv_tableIn (off := 35) (tgt := 48) C.x C.b dX1_rule_13 (by rw [c_5]; decide) (by rw [c_5]; decide) (by rw [c_5]; rfl) (by decide) ?_
    refine r_aload_n (x := some o) C.x C.b dX1_rule_48 rfl (lv_at hl 1 rfl) ?_
    refine r_aload_n (x := some o) C.x C.b dX1_rule_49 rfl (lv_at hl 1 rfl) ?_
    refine lv_iload_n C.x C.b dX1_rule_50 rfl (lv_at hl 2 rfl) ?_
    refine cw_lamM (q := lq10) (st := [.int x1, .ref o, .ref o]) 10 [.ref o, .int x1] C hw hR hI hnm lz10 lo10 h (by decide) (show (fits (.object "HeirCases") (va_rf (some o)) = true ∧ narrow (.object "HeirCases") (va_rf (some o)) = (va_rf (some o))) ∧ (fits .int (.int x1) = true ∧ narrow .int (.int x1) = (.int x1)) ∧ True from ⟨⟨fits_o _ (some o), nar_o _ (some o)⟩, ⟨⟨rfl, rfl⟩, trivial⟩⟩) rfl hl.1 (Nat.le_of_ble_eq_true rfl) rfl (Nat.le_of_ble_eq_true rfl) dX1_rule_51 (fun q_6 σ_7 H locs h hI => ?_)
    refine cx_callV (y := yX1_sum) (bytes := cX1_sum) (maxL := 5) (r := some o) (f := fun a_10 => m_X1_sum a_10 (some q_6) σ_7) 0 (fun v => some (.int v)) [.ref q_6] C hx hw hR hI hl.1 h (by decide) rfl (fun aa uu ee => k_X1_sum l hl0 g A aa (some q_6) σ_7 uu ee) (cwV 1 C.t (lw_V q1398 q1400 qs30 q126 q1401) rfl rfl rfl (by decide +kernel) ⟨Nat.le_trans (Nat.le_of_ble_eq_true rfl) hR.f, Nat.le_trans (Nat.le_of_ble_eq_true rfl) hR.lo⟩) rfl rfl (Nat.le_of_ble_eq_true rfl) dX1_rule_56 (fun v_8 σ_9 H locs h hI => ?_)
    refine lv_goto (tgt := 109) C.x C.b dX1_rule_59 (by decide) ?_
    exact uq_l h (fun y h => cw_iret C hI h dX1_rule_109)
  have h := iN c_5 h
  by_cases c_11 : x2 = 1
  · have h := ip c_11 h
    refine lv_tableIn (off := 49) (tgt := 62) C.x C.b dX1_rule_13 (by rw [c_11]; decide) (by rw [c_11]; decide) (by rw [c_11]; rfl) (by decide) ?_
    refine r_aload_n (x := some o) C.x C.b dX1_rule_62 rfl (lv_at hl 1 rfl) ?_
    refine r_aload_n (x := some o) C.x C.b dX1_rule_63 rfl (lv_at hl 1 rfl) ?_
    refine lv_iload_n C.x C.b dX1_rule_64 rfl (lv_at hl 2 rfl) ?_
    refine cw_lamM (q := lq11) (st := [.int x1, .ref o, .ref o]) 11 [.ref o, .int x1] C hw hR hI hnm lz11 lo11 h (by decide) (show (fits (.object "HeirCases") (va_rf (some o)) = true ∧ narrow (.object "HeirCases") (va_rf (some o)) = (va_rf (some o))) ∧ (fits .int (.int x1) = true ∧ narrow .int (.int x1) = (.int x1)) ∧ True from ⟨⟨fits_o _ (some o), nar_o _ (some o)⟩, ⟨⟨rfl, rfl⟩, trivial⟩⟩) rfl hl.1 (Nat.le_of_ble_eq_true rfl) rfl (Nat.le_of_ble_eq_true rfl) dX1_rule_65 (fun q_12 σ_13 H locs h hI => ?_)
    refine cx_callV (y := yX1_sum) (bytes := cX1_sum) (maxL := 5) (r := some o) (f := fun a_16 => m_X1_sum a_16 (some q_12) σ_13) 0 (fun v => some (.int v)) [.ref q_12] C hx hw hR hI hl.1 h (by decide) rfl (fun aa uu ee => k_X1_sum l hl0 g A aa (some q_12) σ_13 uu ee) (cwV 1 C.t (lw_V q1398 q1400 qs30 q126 q1401) rfl rfl rfl (by decide +kernel) ⟨Nat.le_trans (Nat.le_of_ble_eq_true rfl) hR.f, Nat.le_trans (Nat.le_of_ble_eq_true rfl) hR.lo⟩) rfl rfl (Nat.le_of_ble_eq_true rfl) dX1_rule_70 (fun v_14 σ_15 H locs h hI => ?_)
    refine lv_goto (tgt := 109) C.x C.b dX1_rule_73 (by decide) ?_
    exact uq_l h (fun y h => cw_iret C hI h dX1_rule_109)
  have h := iN c_11 h
  by_cases c_17 : x2 = 2
  · have h := ip c_17 h
    refine lv_tableIn (off := 63) (tgt := 76) C.x C.b dX1_rule_13 (by rw [c_17]; decide) (by rw [c_17]; decide) (by rw [c_17]; rfl) (by decide) ?_
    refine r_aload_n (x := some o) C.x C.b dX1_rule_76 rfl (lv_at hl 1 rfl) ?_
    refine r_aload_n (x := some o) C.x C.b dX1_rule_77 rfl (lv_at hl 1 rfl) ?_
    refine lv_iload_n C.x C.b dX1_rule_78 rfl (lv_at hl 2 rfl) ?_
    refine cw_lamM (q := lq12) (st := [.int x1, .ref o, .ref o]) 12 [.ref o, .int x1] C hw hR hI hnm lz12 lo12 h (by decide) (show (fits (.object "HeirCases") (va_rf (some o)) = true ∧ narrow (.object "HeirCases") (va_rf (some o)) = (va_rf (some o))) ∧ (fits .int (.int x1) = true ∧ narrow .int (.int x1) = (.int x1)) ∧ True from ⟨⟨fits_o _ (some o), nar_o _ (some o)⟩, ⟨⟨rfl, rfl⟩, trivial⟩⟩) rfl hl.1 (Nat.le_of_ble_eq_true rfl) rfl (Nat.le_of_ble_eq_true rfl) dX1_rule_79 (fun q_18 σ_19 H locs h hI => ?_)
    refine cx_callV (y := yX1_sum) (bytes := cX1_sum) (maxL := 5) (r := some o) (f := fun a_22 => m_X1_sum a_22 (some q_18) σ_19) 0 (fun v => some (.int v)) [.ref q_18] C hx hw hR hI hl.1 h (by decide) rfl (fun aa uu ee => k_X1_sum l hl0 g A aa (some q_18) σ_19 uu ee) (cwV 1 C.t (lw_V q1398 q1400 qs30 q126 q1401) rfl rfl rfl (by decide +kernel) ⟨Nat.le_trans (Nat.le_of_ble_eq_true rfl) hR.f, Nat.le_trans (Nat.le_of_ble_eq_true rfl) hR.lo⟩) rfl rfl (Nat.le_of_ble_eq_true rfl) dX1_rule_84 (fun v_20 σ_21 H locs h hI => ?_)
    refine lv_goto (tgt := 109) C.x C.b dX1_rule_87 (by decide) ?_
    exact uq_l h (fun y h => cw_iret C hI h dX1_rule_109)
  have h := iN c_17 h
  by_cases c_23 : x2 = 3
  · have h := ip c_23 h
    refine lv_tableIn (off := 77) (tgt := 90) C.x C.b dX1_rule_13 (by rw [c_23]; decide) (by rw [c_23]; decide) (by rw [c_23]; rfl) (by decide) ?_
    refine r_aload_n (x := v_1) C.x C.b dX1_rule_90 rfl (lv_at hl 0 rfl) ?_
    refine cw_gI (r := v_1) 2 1 C hw hI h (by decide) rfl in_X9 (by decide) (C.t _ q1105) (fun _ h9 => h9) dX1_rule_91 (fun v_24 h => ?_)
    refine lv_goto (tgt := 109) C.x C.b dX1_rule_94 (by decide) ?_
    exact uq_l h (fun y h => cw_iret C hI h dX1_rule_109)
  have h := iN c_23 h
  by_cases c_25 : x2 = 4
  · have h := ip c_25 h
    refine lv_tableIn (off := 84) (tgt := 97) C.x C.b dX1_rule_13 (by rw [c_25]; decide) (by rw [c_25]; decide) (by rw [c_25]; rfl) (by decide) ?_
    refine r_aload_n (x := v_1) C.x C.b dX1_rule_97 rfl (lv_at hl 0 rfl) ?_
    refine cw_gI (r := v_1) 2 3 C hw hI h (by decide) rfl in_X9 (by decide) (C.t _ q1112) (fun _ h9 => h9) dX1_rule_98 (fun v_26 h => ?_)
    refine lv_goto (tgt := 109) C.x C.b dX1_rule_101 (by decide) ?_
    exact uq_l h (fun y h => cw_iret C hI h dX1_rule_109)
  have h := iN c_25 h
  refine tw_tabD (tgt := 104) C.x C.b dX1_rule_13 (by decide) (fun j hj => match j, hj with | 0, _ => Or.inr (lv_neT c_5 (by decide)) | 1, _ => Or.inr (lv_neT c_11 (by decide)) | 2, _ => Or.inr (lv_neT c_17 (by decide)) | 3, _ => Or.inr (lv_neT c_23 (by decide)) | 4, _ => Or.inr (lv_neT c_25 (by decide)) | j + 5, hj => absurd hj (Nat.not_lt_of_le (Nat.le_add_left _ _))) (by decide) ?_
  refine r_aload_n (x := some o) C.x C.b dX1_rule_104 rfl (lv_at hl 1 rfl) ?_
  refine lv_iload_n C.x C.b dX1_rule_105 rfl (lv_at hl 2 rfl) ?_
  refine cw_callV (y := yX1_beaters) (bytes := cX1_beaters) (maxL := 4) (r := some o) (f := fun a_29 => m_X1_beaters a_29 x1 σ_4) 0 (fun v => some (.int v)) [.int x1] C hw hR hI hl.1 h (by decide) rfl (fun aa vv ss ee => k_X1_beaters l g A aa x1 σ_4 vv ss ee) (cwV 1 C.t (lw_V q1600 q1602 qs43 q126 q1603) rfl rfl rfl (by decide +kernel) ⟨Nat.le_trans (Nat.le_of_ble_eq_true rfl) hR.f, Nat.le_trans (Nat.le_of_ble_eq_true rfl) hR.lo⟩) rfl rfl (Nat.le_of_ble_eq_true rfl) dX1_rule_106 (fun v_27 σ_28 H locs h hI => ?_)
  exact uq_l h (fun y h => cw_iret C hI h dX1_rule_109)

theorem k_X1_settledBy (l : Launch) (hl0 : l.stackTraces = false) (g : cG) (A : Nat → Prop) (o : Nat) (x1 : Int32) (σ : cS) (z : (cX (Int32)) × cS) (h : m_X1_settledBy o x1 σ = some z) : MetX l yX1_settledBy (ws_ yX1_settledBy cX1_settledBy 2 (Option.some Jvm.ClassFile.FieldType.int)) ({ frames := 259, cells := σ.2 3 - σ.2 0, slots := σ.2 4 - σ.2 1, locals := 6471 }) g A [.ref o, .int x1] σ (fun v => some (.int v)) z (σ.2 3 - σ.2 0) (σ.2 4 - σ.2 1) := by
  refine metx_of (cc := cX1_settledBy) (maxL := 2) (ret := (Option.some Jvm.ClassFile.FieldType.int)) (by decide) rfl ?_
  intro p e s m args below meth c s₁ B hml hx hv
  obtain ⟨rfl, hw, hσ⟩ := hv
  have hts := atoms_spec (ws := (ws_ yX1_settledBy cX1_settledBy 2 (Option.some Jvm.ClassFile.FieldType.int))) B.pre
  have C : CX p m meth c s ([.ref o, .int x1] : List Value).toArray cX1_settledBy 2 (Option.some Jvm.ClassFile.FieldType.int) RX1 := ⟨⟨B.exec, B.bytes, hml, findClass_of_methodNamed B.named, fun w h => hts w (List.mem_cons_of_mem _ h)⟩, B.returns, B.notSynchronized⟩
  have e3 : σ.2 3 - σ.2 0 = g.2.2.1 3 - s.heap.size := by rw [hσ.1, hσ.2.2.2.1 3 (by decide)]
  have e4 : σ.2 4 - σ.2 1 = g.2.2.1 4 - hsl s.heap := by rw [hσ.2.1, hσ.2.2.2.1 4 (by decide)]
  have hR : RM g s (headSpec (ws_ yX1_settledBy cX1_settledBy 2 (Option.some Jvm.ClassFile.FieldType.int)) ({ frames := 259, cells := σ.2 3 - σ.2 0, slots := σ.2 4 - σ.2 1, locals := 6471 })).room (259) (6471) := ⟨⟨Nat.le_refl _, Nat.le_refl _⟩, Nat.le_of_eq e3.symm, Nat.le_of_eq e4.symm⟩
  generalize (headSpec (ws_ yX1_settledBy cX1_settledBy 2 (Option.some Jvm.ClassFile.FieldType.int)) ({ frames := 259, cells := σ.2 3 - σ.2 0, slots := σ.2 4 - σ.2 1, locals := 6471 })).room = R at hR ⊢
  rw [e3, e4]
  have hI : CI g A s σ s.heap [] := ⟨hσ, va_S.rf, Nat.le_refl _⟩
  have hl := lv_entry ([.ref o, .int x1]) (n := 2) (Nat.le_of_ble_eq_true rfl)
  rw [lg_entry_eq]
  generalize (lg_sl ([.ref o, .int x1]) ++ List.replicate (2 - (lg_sl ([.ref o, .int x1])).length) Slot.unset).toArray = ls at hl ⊢
  have hl : lv_has ls 2 [(0, .ref o), (1, .int x1)] := hl
  refine W.narrow ?_
  unfold m_X1_settledBy at h
  refine r_aload_n (x := some o) C.x C.b dX1_settledBy_0 rfl (lv_at hl 0 rfl) ?_
  refine lv_iload_n C.x C.b dX1_settledBy_1 rfl (lv_at hl 1 rfl) ?_
  refine cx_callV (y := yX1_checkCase) (bytes := cX1_checkCase) (maxL := 2) (r := some o) (f := fun a_2 => m_X1_checkCase a_2 x1 σ) 0 (fun _ => none) [.int x1] C hx hw hR hI hl.1 h (by decide) rfl (fun aa uu ee => k_X1_checkCase l hl0 g A aa x1 σ uu ee) (cwV 1 C.t (lw_V q1627 q1629 qs44 q126 q1630) rfl rfl rfl (by decide +kernel) ⟨Nat.le_trans (Nat.le_of_ble_eq_true rfl) hR.f, Nat.le_trans (Nat.le_of_ble_eq_true rfl) hR.lo⟩) rfl rfl (Nat.le_of_ble_eq_true rfl) dX1_settledBy_2 (fun _ σ_1 H locs h hI => ?_)
  refine r_aload_n (x := some o) C.x C.b dX1_settledBy_5 rfl (lv_at hl 0 rfl) ?_
  refine cw_gR (r := some o) 0 0 C hw hI h (by decide) rfl in_X1 (by decide) (C.t _ q1172) (fun _ h9 => h9) dX1_settledBy_6 (fun v_3 h => ?_)
  refine lv_iload_n C.x C.b dX1_settledBy_9 rfl (lv_at hl 1 rfl) ?_
  refine cw_callV (y := yX4_look) (bytes := cX4_look) (maxL := 2) (r := v_3) (f := fun a_6 => m_X4_look a_6 x1 σ_1) 1 (fun v => some (va_rf v)) [.int x1] C hw hR hI hl.1 h (by decide) rfl (fun aa vv ss ee => k_X4_look l g A aa x1 σ_1 vv ss ee) (cwV 1 C.t (lw_V q1383 q1223 q1224 q150 q1225) rfl rfl rfl (by decide +kernel) ⟨Nat.le_trans (Nat.le_of_ble_eq_true rfl) hR.f, Nat.le_trans (Nat.le_of_ble_eq_true rfl) hR.lo⟩) rfl rfl (Nat.le_of_ble_eq_true rfl) dX1_settledBy_10 (fun v_4 σ_5 H locs h hI => ?_)
  refine cw_gI (r := v_4) 3 4 C hw hI h (by decide) rfl in_X11 (by decide) (C.t _ q1250) (fun _ h9 => h9) dX1_settledBy_13 (fun v_7 h => ?_)
  exact uq_l h (fun y h => cw_iret C hI h dX1_settledBy_16)

theorem k_X1_share (l : Launch) (hl0 : l.stackTraces = false) (g : cG) (A : Nat → Prop) (o : Nat) (x1 : Int32) (x2 : Int32) (x3 : Int32) (σ : cS) (z : (cX (Int32)) × cS) (h : m_X1_share o x1 x2 x3 σ = some z) : MetX l yX1_share (ws_ yX1_share cX1_share 5 (Option.some Jvm.ClassFile.FieldType.int)) ({ frames := 10, cells := σ.2 3 - σ.2 0, slots := σ.2 4 - σ.2 1, locals := 142 }) g A [.ref o, .int x1, .int x2, .int x3] σ (fun v => some (.int v)) z (σ.2 3 - σ.2 0) (σ.2 4 - σ.2 1) := by
  refine metx_of (cc := cX1_share) (maxL := 5) (ret := (Option.some Jvm.ClassFile.FieldType.int)) (by decide) rfl ?_
  intro p e s m args below meth c s₁ B hml hx hv
  obtain ⟨rfl, hw, hσ⟩ := hv
  have hts := atoms_spec (ws := (ws_ yX1_share cX1_share 5 (Option.some Jvm.ClassFile.FieldType.int))) B.pre
  have C : CX p m meth c s ([.ref o, .int x1, .int x2, .int x3] : List Value).toArray cX1_share 5 (Option.some Jvm.ClassFile.FieldType.int) RX1 := ⟨⟨B.exec, B.bytes, hml, findClass_of_methodNamed B.named, fun w h => hts w (List.mem_cons_of_mem _ h)⟩, B.returns, B.notSynchronized⟩
  have e3 : σ.2 3 - σ.2 0 = g.2.2.1 3 - s.heap.size := by rw [hσ.1, hσ.2.2.2.1 3 (by decide)]
  have e4 : σ.2 4 - σ.2 1 = g.2.2.1 4 - hsl s.heap := by rw [hσ.2.1, hσ.2.2.2.1 4 (by decide)]
  have hR : RM g s (headSpec (ws_ yX1_share cX1_share 5 (Option.some Jvm.ClassFile.FieldType.int)) ({ frames := 10, cells := σ.2 3 - σ.2 0, slots := σ.2 4 - σ.2 1, locals := 142 })).room (10) (142) := ⟨⟨Nat.le_refl _, Nat.le_refl _⟩, Nat.le_of_eq e3.symm, Nat.le_of_eq e4.symm⟩
  generalize (headSpec (ws_ yX1_share cX1_share 5 (Option.some Jvm.ClassFile.FieldType.int)) ({ frames := 10, cells := σ.2 3 - σ.2 0, slots := σ.2 4 - σ.2 1, locals := 142 })).room = R at hR ⊢
  rw [e3, e4]
  have hI : CI g A s σ s.heap [] := ⟨hσ, va_S.rf, Nat.le_refl _⟩
  have hl := lv_entry ([.ref o, .int x1, .int x2, .int x3]) (n := 5) (Nat.le_of_ble_eq_true rfl)
  rw [lg_entry_eq]
  generalize (lg_sl ([.ref o, .int x1, .int x2, .int x3]) ++ List.replicate (5 - (lg_sl ([.ref o, .int x1, .int x2, .int x3])).length) Slot.unset).toArray = ls at hl ⊢
  have hl : lv_has ls 5 [(0, .ref o), (1, .int x1), (2, .int x2), (3, .int x3)] := hl
  refine W.narrow ?_
  unfold m_X1_share at h
  refine r_aload_n (x := some o) C.x C.b dX1_share_0 rfl (lv_at hl 0 rfl) ?_
  refine lv_iload_n C.x C.b dX1_share_1 rfl (lv_at hl 1 rfl) ?_
  refine cx_callV (y := yX1_ruleAt) (bytes := cX1_ruleAt) (maxL := 2) (r := some o) (f := fun a_3 => m_X1_ruleAt a_3 x1 σ) 0 (fun v => some (va_rf v)) [.int x1] C hx hw hR hI hl.1 h (by decide) rfl (fun aa uu ee => k_X1_ruleAt l hl0 g A aa x1 σ uu ee) (cwV 1 C.t (lw_V q1582 q1584 qs39 q126 q1585) rfl rfl rfl (by decide +kernel) ⟨Nat.le_trans (Nat.le_of_ble_eq_true rfl) hR.f, Nat.le_trans (Nat.le_of_ble_eq_true rfl) hR.lo⟩) rfl rfl (Nat.le_of_ble_eq_true rfl) dX1_share_2 (fun v_1 σ_2 H locs h hI => ?_)
  refine r_astore (i := 4) (x := v_1) (lv' := [(4, va_rf v_1), (0, .ref o), (1, .int x1), (2, .int x2), (3, .int x3)]) C.x C.b dX1_share_5 hl (by decide) (by rfl) (fun ls hl => ?_)
  refine r_aload_n (x := some o) C.x C.b dX1_share_7 rfl (lv_at hl 1 rfl) ?_
  refine lv_iload_n C.x C.b dX1_share_8 rfl (lv_at hl 3 rfl) ?_
  refine cx_callV (y := yX1_checkHeir) (bytes := cX1_checkHeir) (maxL := 2) (r := some o) (f := fun a_5 => m_X1_checkHeir a_5 x2 σ_2) 0 (fun _ => none) [.int x2] C hx hw hR hI hl.1 h (by decide) rfl (fun aa uu ee => k_X1_checkHeir l hl0 g A aa x2 σ_2 uu ee) (cwV 1 C.t (lw_V q1549 q1551 qs36 q126 q1552) rfl rfl rfl (by decide +kernel) ⟨Nat.le_trans (Nat.le_of_ble_eq_true rfl) hR.f, Nat.le_trans (Nat.le_of_ble_eq_true rfl) hR.lo⟩) rfl rfl (Nat.le_of_ble_eq_true rfl) dX1_share_9 (fun _ σ_4 H locs h hI => ?_)
  refine lv_iload_n C.x C.b dX1_share_12 rfl (lv_at hl 4 rfl) ?_
  refine lv_if_eq (tgt := 25) C.x C.b dX1_share_13 (by decide) (fun c_6 => ?_) (fun c_6 => ?_)
  · have h := ip c_6 h
    refine r_aload (x := v_1) C.x C.b dX1_share_25 (lv_at hl 0 rfl) ?_
    refine lv_iload_n C.x C.b dX1_share_27 rfl (lv_at hl 3 rfl) ?_
    refine cw_callV (y := yX9_above) (bytes := cX9_above) (maxL := 2) (r := v_1) (f := fun a_9 => m_X9_above a_9 x2 σ_4) 2 (fun v => some (.int v)) [.int x2] C hw hR hI hl.1 h (by decide) rfl (fun aa vv ss ee => k_X9_above l g A aa x2 σ_4 vv ss ee) (cwV 1 C.t (lw_V q1619 q1620 q1621 q157 q1622) rfl rfl rfl (by decide +kernel) ⟨Nat.le_trans (Nat.le_of_ble_eq_true rfl) hR.f, Nat.le_trans (Nat.le_of_ble_eq_true rfl) hR.lo⟩) rfl rfl (Nat.le_of_ble_eq_true rfl) dX1_share_28 (fun v_7 σ_8 H locs h hI => ?_)
    exact uq_l h (fun y h => cw_iret C hI h dX1_share_31)
  · have h := iN c_6 h
    refine r_aload (x := v_1) C.x C.b dX1_share_16 (lv_at hl 0 rfl) ?_
    refine lv_iload_n C.x C.b dX1_share_18 rfl (lv_at hl 3 rfl) ?_
    refine cw_callV (y := yX9_below) (bytes := cX9_below) (maxL := 2) (r := v_1) (f := fun a_12 => m_X9_below a_12 x2 σ_4) 2 (fun v => some (.int v)) [.int x2] C hw hR hI hl.1 h (by decide) rfl (fun aa vv ss ee => k_X9_below l g A aa x2 σ_4 vv ss ee) (cwV 1 C.t (lw_V q1612 q1613 q1614 q157 q1615) rfl rfl rfl (by decide +kernel) ⟨Nat.le_trans (Nat.le_of_ble_eq_true rfl) hR.f, Nat.le_trans (Nat.le_of_ble_eq_true rfl) hR.lo⟩) rfl rfl (Nat.le_of_ble_eq_true rfl) dX1_share_19 (fun v_10 σ_11 H locs h hI => ?_)
    refine lv_goto (tgt := 31) C.x C.b dX1_share_22 (by decide) ?_
    exact uq_l h (fun y h => cw_iret C hI h dX1_share_31)

end
