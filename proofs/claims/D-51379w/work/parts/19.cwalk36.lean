/-! THE CLASS' WALKS 36: printed by gencl.py -/
section
variable {p : Program} {l : Launch} {e : Env} {R : Room} {s : State} {m : MethodId} {args : Array Value} {below : List Frame} {meth : Method} {c : Code} {g : cG} {A : Nat → Prop}
set_option maxRecDepth 100000
theorem w_X1_writeParts_41 {z : Int32 × cS} {o : Nat} (C : CX p m meth c s args cX1_writeParts 4 (Option.none : Option Jvm.ClassFile.FieldType) RX1) (hw : WKc g A s s.heap) (hR : RM g s R (7) (175)) {k4 : Option Nat → Int32 → Int32 → cS → Option (Int32 × cS)} (hk4 : ∀ (x1 : Option Nat) (x2 : Int32) (x3 : Int32) (σ : cS) (H : Heap) (locs : List Loc) (ls : Array Slot), k4 x1 x2 x3 σ = some z → CI g A s σ H locs → lv_has ls 4 [(0, .ref o), (1, va_rf x1), (2, .int x2), (3, .int x3)] → W p l e R s m args below meth c H locs (H.size - s.heap.size) (hsl H - hsl s.heap) (MQ below (CQ g A (none) z.2) args s (g.2.2.1 3 - s.heap.size) (g.2.2.1 4 - hsl s.heap) A) (F0 m 4 ls [])) : ∀ (x1 : Option Nat) (x3 : Int32) (s0 : Option Nat) (s1 : Option Nat) (σ : cS) (H : Heap) (locs : List Loc) (ls : Array Slot), b_X1_writeParts_41 o k4 x1 x3 s0 s1 σ = some z → CI g A s σ H locs → lv_has ls 4 [(0, .ref o), (1, va_rf x1), (3, .int x3)] → W p l e R s m args below meth c H locs (H.size - s.heap.size) (hsl H - hsl s.heap) (MQ below (CQ g A (none) z.2) args s (g.2.2.1 3 - s.heap.size) (g.2.2.1 4 - hsl s.heap) A) (F0 m 41 ls [va_rf s1, va_rf s0]) := by
  intro x1 x3 s0 s1 σ H locs ls h hI hl
  unfold b_X1_writeParts_41 at h
  refine cw_callV (y := yJ3_append_2) (bytes := cJ3_append_2) (maxL := 2) (r := s0) (f := fun a_3 => m_J3_append_2 a_3 s1 σ) 11 (fun v => some (va_rf v)) [va_rf s1] C hw hR hI hl.1 h (by decide) rfl (fun aa vv ss ee => k_J3_append_2 l g A aa s1 σ vv ss ee) (cwV 1 C.t (lw_V q1475 q515 q516 q130 q517) rfl rfl rfl (by decide +kernel) ⟨Nat.le_trans (Nat.le_of_ble_eq_true rfl) hR.f, Nat.le_trans (Nat.le_of_ble_eq_true rfl) hR.lo⟩) rfl rfl (Nat.le_of_ble_eq_true rfl) dX1_writeParts_41 (fun v_1 σ_2 H locs h hI => ?_)
  refine lv_iload_n C.x C.b dX1_writeParts_44 rfl (lv_at hl 2 rfl) ?_
  refine cw_callV (y := yJ3_append) (bytes := cJ3_append) (maxL := 2) (r := v_1) (f := fun a_6 => m_J3_append a_6 x3 σ_2) 11 (fun v => some (va_rf v)) [.int x3] C hw hR hI hl.1 h (by decide) rfl (fun aa vv ss ee => k_J3_append l g A aa x3 σ_2 vv ss ee) (cwV 1 C.t (lw_V q1949 q444 q445 q130 q446) rfl rfl rfl (by decide +kernel) ⟨Nat.le_trans (Nat.le_of_ble_eq_true rfl) hR.f, Nat.le_trans (Nat.le_of_ble_eq_true rfl) hR.lo⟩) rfl rfl (Nat.le_of_ble_eq_true rfl) dX1_writeParts_45 (fun v_4 σ_5 H locs h hI => ?_)
  refine lv_bipush (v := 32) C.x C.b dX1_writeParts_48 (by decide) ?_
  refine cw_callV (y := yJ3_append_3) (bytes := cJ3_append_3) (maxL := 2) (r := v_4) (f := fun a_9 => m_J3_append_3 a_9 32 σ_5) 11 (fun v => some (va_rf v)) [.int 32] C hw hR hI hl.1 h (by decide) rfl (fun aa vv ss ee => k_J3_append_3 l g A aa 32 σ_5 vv ss ee) (cwV 1 C.t (lw_V q1197 q1198 q1199 q130 q1200) rfl rfl rfl (by decide +kernel) ⟨Nat.le_trans (Nat.le_of_ble_eq_true rfl) hR.f, Nat.le_trans (Nat.le_of_ble_eq_true rfl) hR.lo⟩) rfl rfl (Nat.le_of_ble_eq_true rfl) dX1_writeParts_50 (fun v_7 σ_8 H locs h hI => ?_)
  refine r_aload_n (x := x1) C.x C.b dX1_writeParts_53 rfl (lv_at hl 1 rfl) ?_
  refine lv_iload_n C.x C.b dX1_writeParts_54 rfl (lv_at hl 2 rfl) ?_
  refine cw_callV (y := yX9_above) (bytes := cX9_above) (maxL := 2) (r := x1) (f := fun a_12 => m_X9_above a_12 x3 σ_8) 2 (fun v => some (.int v)) [.int x3] C hw hR hI hl.1 h (by decide) rfl (fun aa vv ss ee => k_X9_above l g A aa x3 σ_8 vv ss ee) (cwV 1 C.t (lw_V q1619 q1620 q1621 q157 q1622) rfl rfl rfl (by decide +kernel) ⟨Nat.le_trans (Nat.le_of_ble_eq_true rfl) hR.f, Nat.le_trans (Nat.le_of_ble_eq_true rfl) hR.lo⟩) rfl rfl (Nat.le_of_ble_eq_true rfl) dX1_writeParts_55 (fun v_10 σ_11 H locs h hI => ?_)
  refine cw_callV (y := yJ3_append) (bytes := cJ3_append) (maxL := 2) (r := v_7) (f := fun a_15 => m_J3_append a_15 v_10 σ_11) 11 (fun v => some (va_rf v)) [.int v_10] C hw hR hI hl.1 h (by decide) rfl (fun aa vv ss ee => k_J3_append l g A aa v_10 σ_11 vv ss ee) (cwV 1 C.t (lw_V q1949 q444 q445 q130 q446) rfl rfl rfl (by decide +kernel) ⟨Nat.le_trans (Nat.le_of_ble_eq_true rfl) hR.f, Nat.le_trans (Nat.le_of_ble_eq_true rfl) hR.lo⟩) rfl rfl (Nat.le_of_ble_eq_true rfl) dX1_writeParts_58 (fun v_13 σ_14 H locs h hI => ?_)
  refine lv_bipush (v := 47) C.x C.b dX1_writeParts_61 (by decide) ?_
  refine cw_callV (y := yJ3_append_3) (bytes := cJ3_append_3) (maxL := 2) (r := v_13) (f := fun a_18 => m_J3_append_3 a_18 47 σ_14) 11 (fun v => some (va_rf v)) [.int 47] C hw hR hI hl.1 h (by decide) rfl (fun aa vv ss ee => k_J3_append_3 l g A aa 47 σ_14 vv ss ee) (cwV 1 C.t (lw_V q1197 q1198 q1199 q130 q1200) rfl rfl rfl (by decide +kernel) ⟨Nat.le_trans (Nat.le_of_ble_eq_true rfl) hR.f, Nat.le_trans (Nat.le_of_ble_eq_true rfl) hR.lo⟩) rfl rfl (Nat.le_of_ble_eq_true rfl) dX1_writeParts_63 (fun v_16 σ_17 H locs h hI => ?_)
  refine r_aload_n (x := x1) C.x C.b dX1_writeParts_66 rfl (lv_at hl 1 rfl) ?_
  refine lv_iload_n C.x C.b dX1_writeParts_67 rfl (lv_at hl 2 rfl) ?_
  refine cw_callV (y := yX9_below) (bytes := cX9_below) (maxL := 2) (r := x1) (f := fun a_21 => m_X9_below a_21 x3 σ_17) 2 (fun v => some (.int v)) [.int x3] C hw hR hI hl.1 h (by decide) rfl (fun aa vv ss ee => k_X9_below l g A aa x3 σ_17 vv ss ee) (cwV 1 C.t (lw_V q1612 q1613 q1614 q157 q1615) rfl rfl rfl (by decide +kernel) ⟨Nat.le_trans (Nat.le_of_ble_eq_true rfl) hR.f, Nat.le_trans (Nat.le_of_ble_eq_true rfl) hR.lo⟩) rfl rfl (Nat.le_of_ble_eq_true rfl) dX1_writeParts_68 (fun v_19 σ_20 H locs h hI => ?_)
  refine cw_callV (y := yJ3_append) (bytes := cJ3_append) (maxL := 2) (r := v_16) (f := fun a_24 => m_J3_append a_24 v_19 σ_20) 11 (fun v => some (va_rf v)) [.int v_19] C hw hR hI hl.1 h (by decide) rfl (fun aa vv ss ee => k_J3_append l g A aa v_19 σ_20 vv ss ee) (cwV 1 C.t (lw_V q1949 q444 q445 q130 q446) rfl rfl rfl (by decide +kernel) ⟨Nat.le_trans (Nat.le_of_ble_eq_true rfl) hR.f, Nat.le_trans (Nat.le_of_ble_eq_true rfl) hR.lo⟩) rfl rfl (Nat.le_of_ble_eq_true rfl) dX1_writeParts_71 (fun v_22 σ_23 H locs h hI => ?_)
  refine lv_pop C.x C.b dX1_writeParts_74 (cat_rf _) ?_
  refine lv_iconst (v := 0) C.x C.b dX1_writeParts_75 (by decide) ?_
  refine lv_istore_n (i := 2) (lv' := [(2, .int 0), (0, .ref o), (1, va_rf x1), (3, .int x3)]) C.x C.b dX1_writeParts_76 rfl hl (by decide) (by first | (simp [List.filter, cat_rf, cat_i, cat_a, cat_n, cat_l, cat_f, cat_d]; done) | (simp [List.filter, cat_rf, cat_i, cat_a, cat_n, cat_l, cat_f, cat_d]; rfl)) (fun ls hl => ?_)
  obtain ⟨x3_25, e_, h⟩ := nm_s h
  refine lv_iinc (v := x3_25) (lv' := [(3, .int x3_25), (2, .int 0), (0, .ref o), (1, va_rf x1)]) C.x C.b dX1_writeParts_77 hl (k := 3) rfl e_.symm (by decide) (by first | (simp [List.filter, cat_rf, cat_i, cat_a, cat_n, cat_l, cat_f, cat_d]; done) | (simp [List.filter, cat_rf, cat_i, cat_a, cat_n, cat_l, cat_f, cat_d]; rfl)) (fun ls hl => ?_)
  refine lv_goto (tgt := 4) C.x C.b dX1_writeParts_80 (by decide) ?_
  exact hk4 x1 0 x3_25 _ _ _ _ h hI (lv_sub hl [2, 3, 1, 0] rfl)

theorem w_X1_writeParts_100 {z : Int32 × cS} {o : Nat} (C : CX p m meth c s args cX1_writeParts 4 (Option.none : Option Jvm.ClassFile.FieldType) RX1) (hw : WKc g A s s.heap) (hR : RM g s R (7) (175))  : ∀ (s0 : Option Nat) (s1 : Option Nat) (σ : cS) (H : Heap) (locs : List Loc) (ls : Array Slot), b_X1_writeParts_100 o s0 s1 σ = some z → CI g A s σ H locs → lv_has ls 4 [(0, .ref o)] → W p l e R s m args below meth c H locs (H.size - s.heap.size) (hsl H - hsl s.heap) (MQ below (CQ g A (none) z.2) args s (g.2.2.1 3 - s.heap.size) (g.2.2.1 4 - hsl s.heap) A) (F0 m 100 ls [va_rf s1, va_rf s0]) := by
  intro s0 s1 σ H locs ls h hI hl
  unfold b_X1_writeParts_100 at h
  refine cw_callV (y := yJ3_append_2) (bytes := cJ3_append_2) (maxL := 2) (r := s0) (f := fun a_3 => m_J3_append_2 a_3 s1 σ) 11 (fun v => some (va_rf v)) [va_rf s1] C hw hR hI hl.1 h (by decide) rfl (fun aa vv ss ee => k_J3_append_2 l g A aa s1 σ vv ss ee) (cwV 1 C.t (lw_V q1475 q515 q516 q130 q517) rfl rfl rfl (by decide +kernel) ⟨Nat.le_trans (Nat.le_of_ble_eq_true rfl) hR.f, Nat.le_trans (Nat.le_of_ble_eq_true rfl) hR.lo⟩) rfl rfl (Nat.le_of_ble_eq_true rfl) dX1_writeParts_100 (fun v_1 σ_2 H locs h hI => ?_)
  refine lv_pop C.x C.b dX1_writeParts_103 (cat_rf _) ?_
  exact cw_vret C hI h dX1_writeParts_104

theorem w_X1_writeParts_4 {z : Int32 × cS} {o : Nat} (C : CX p m meth c s args cX1_writeParts 4 (Option.none : Option Jvm.ClassFile.FieldType) RX1) (hw : WKc g A s s.heap) (hR : RM g s R (7) (175))  : ∀ (n : Nat) (x1 : Option Nat) (x2 : Int32) (x3 : Int32) (σ : cS) (H : Heap) (locs : List Loc) (ls : Array Slot), b_X1_writeParts_4 o n x1 x2 x3 σ = some z → CI g A s σ H locs → lv_has ls 4 [(0, .ref o), (1, va_rf x1), (2, .int x2), (3, .int x3)] → W p l e R s m args below meth c H locs (H.size - s.heap.size) (hsl H - hsl s.heap) (MQ below (CQ g A (none) z.2) args s (g.2.2.1 3 - s.heap.size) (g.2.2.1 4 - hsl s.heap) A) (F0 m 4 ls []) := by
  intro n
  induction n with
  | zero =>
    intro x1 x2 x3 σ H locs ls h
    cases h
  | succ n ih =>
    intro x1 x2 x3 σ H locs ls h hI hl
    rw [b_X1_writeParts_4] at h
    refine lv_iload_n C.x C.b dX1_writeParts_4 rfl (lv_at hl 3 rfl) ?_
    refine r_aload_n (x := some o) C.x C.b dX1_writeParts_5 rfl (lv_at hl 0 rfl) ?_
    refine cw_gR (r := some o) 0 0 C hw hI h (by decide) rfl in_X1 (by decide) (C.t _ q1172) (fun _ h9 => h9) dX1_writeParts_6 (fun v_1 h => ?_)
    refine cw_gI (r := v_1) 1 1 C hw hI h (by decide) rfl in_X4 (by decide) (C.t _ q842) (fun _ h9 => h9) dX1_writeParts_9 (fun v_2 h => ?_)
    refine lv_icmp_ge (tgt := 83) C.x C.b dX1_writeParts_12 (by decide) (fun c_3 => ?_) (fun c_3 => ?_)
    · have h := ip c_3 h
      refine r_aload_n (x := some o) C.x C.b dX1_writeParts_83 rfl (lv_at hl 0 rfl) ?_
      refine cw_gR (r := some o) 0 4 C hw hI h (by decide) rfl in_X1 (by decide) (C.t _ q1176) (fun _ h9 => h9) dX1_writeParts_84 (fun v_4 h => ?_)
      refine lv_iload_n C.x C.b dX1_writeParts_87 rfl (lv_at hl 2 rfl) ?_
      refine lv_if_eq (tgt := 97) C.x C.b dX1_writeParts_88 (by decide) (fun c_5 => ?_) (fun c_5 => ?_)
      · have h := ip c_5 h
        refine cw_ldcwS (tx := "") (k := 27) C hw hI (List.mem_of_getElem? (i := 7) rfl) (by decide) dX1_writeParts_97 ?_
        exact w_X1_writeParts_100 C hw hR v_4 (some (σ.2 27)) _ _ _ _ h hI (lv_sub hl [0] rfl)
      · have h := iN c_5 h
        refine cw_ldcwS (tx := " nothing") (k := 26) C hw hI (List.mem_of_getElem? (i := 6) rfl) (by decide) dX1_writeParts_91 ?_
        refine lv_goto (tgt := 100) C.x C.b dX1_writeParts_94 (by decide) ?_
        exact w_X1_writeParts_100 C hw hR v_4 (some (σ.2 26)) _ _ _ _ h hI (lv_sub hl [0] rfl)
    · have h := iN c_3 h
      refine r_aload_n (x := x1) C.x C.b dX1_writeParts_15 rfl (lv_at hl 1 rfl) ?_
      refine cw_gR (r := x1) 2 2 C hw hI h (by decide) rfl in_X9 (by decide) (C.t _ q1108) (fun _ h9 => h9) dX1_writeParts_16 (fun v_6 h => ?_)
      refine lv_iload_n C.x C.b dX1_writeParts_19 rfl (lv_at hl 3 rfl) ?_
      refine cw_ild (r := v_6) C hw hI h dX1_writeParts_20 (fun v_7 h => ?_)
      refine lv_if_le (tgt := 77) C.x C.b dX1_writeParts_21 (by decide) (fun c_8 => ?_) (fun c_8 => ?_)
      · have h := ip c_8 h
        obtain ⟨x3_9, e_, h⟩ := nm_s h
        refine lv_iinc (v := x3_9) (lv' := [(3, .int x3_9), (0, .ref o), (1, va_rf x1), (2, .int x2)]) C.x C.b dX1_writeParts_77 hl (k := 3) rfl e_.symm (by decide) (by first | (simp [List.filter, cat_rf, cat_i, cat_a, cat_n, cat_l, cat_f, cat_d]; done) | (simp [List.filter, cat_rf, cat_i, cat_a, cat_n, cat_l, cat_f, cat_d]; rfl)) (fun ls hl => ?_)
        refine lv_goto (tgt := 4) C.x C.b dX1_writeParts_80 (by decide) ?_
        exact ih x1 x2 x3_9 _ _ _ _ h hI (lv_sub hl [1, 2, 3, 0] rfl)
      · have h := iN c_8 h
        refine r_aload_n (x := some o) C.x C.b dX1_writeParts_24 rfl (lv_at hl 0 rfl) ?_
        refine cw_gR (r := some o) 0 4 C hw hI h (by decide) rfl in_X1 (by decide) (C.t _ q1176) (fun _ h9 => h9) dX1_writeParts_25 (fun v_10 h => ?_)
        refine lv_iload_n C.x C.b dX1_writeParts_28 rfl (lv_at hl 2 rfl) ?_
        refine lv_if_eq (tgt := 38) C.x C.b dX1_writeParts_29 (by decide) (fun c_11 => ?_) (fun c_11 => ?_)
        · have h := ip c_11 h
          refine cw_ldcwS (tx := ", ") (k := 25) C hw hI (List.mem_of_getElem? (i := 5) rfl) (by decide) dX1_writeParts_38 ?_
          exact w_X1_writeParts_41 C hw hR (fun y0 y1 y2 σ H locs ls h hI hl => ih y0 y1 y2 σ H locs ls h hI hl) x1 x3 v_10 (some (σ.2 25)) _ _ _ _ h hI (lv_sub hl [0, 1, 3] rfl)
        · have h := iN c_11 h
          refine cw_ldcwS (tx := " ") (k := 24) C hw hI (List.mem_of_getElem? (i := 4) rfl) (by decide) dX1_writeParts_32 ?_
          refine lv_goto (tgt := 41) C.x C.b dX1_writeParts_35 (by decide) ?_
          exact w_X1_writeParts_41 C hw hR (fun y0 y1 y2 σ H locs ls h hI hl => ih y0 y1 y2 σ H locs ls h hI hl) x1 x3 v_10 (some (σ.2 24)) _ _ _ _ h hI (lv_sub hl [0, 1, 3] rfl)

theorem k_X1_writeParts (l : Launch) (g : cG) (A : Nat → Prop) (o : Nat) (x1 : Option Nat) (σ : cS) (v : Int32) (σ1 : cS) (h : m_X1_writeParts o x1 σ = some (v, σ1)) : Met l yX1_writeParts (ws_ yX1_writeParts cX1_writeParts 4 (Option.none : Option Jvm.ClassFile.FieldType)) ({ frames := 7, cells := σ.2 3 - σ.2 0, slots := σ.2 4 - σ.2 1, locals := 175 }) (CPc g A [.ref o, va_rf x1] σ) (CQ g A (none) σ1) (σ.2 3 - σ.2 0) (σ.2 4 - σ.2 1) A := by
  refine Met.ofW (cc := cX1_writeParts) (maxL := 4) (ret := (Option.none : Option Jvm.ClassFile.FieldType)) (by decide) rfl ?_
  intro p e s m args below meth c s₁ B hml hv
  obtain ⟨rfl, hw, hσ⟩ := hv
  have hts := atoms_spec (ws := (ws_ yX1_writeParts cX1_writeParts 4 (Option.none : Option Jvm.ClassFile.FieldType))) B.pre
  have C : CX p m meth c s ([.ref o, va_rf x1] : List Value).toArray cX1_writeParts 4 (Option.none : Option Jvm.ClassFile.FieldType) RX1 := ⟨⟨B.exec, B.bytes, hml, findClass_of_methodNamed B.named, fun w h => hts w (List.mem_cons_of_mem _ h)⟩, B.returns, B.notSynchronized⟩
  have e3 : σ.2 3 - σ.2 0 = g.2.2.1 3 - s.heap.size := by rw [hσ.1, hσ.2.2.2.1 3 (by decide)]
  have e4 : σ.2 4 - σ.2 1 = g.2.2.1 4 - hsl s.heap := by rw [hσ.2.1, hσ.2.2.2.1 4 (by decide)]
  have hR : RM g s (headSpec (ws_ yX1_writeParts cX1_writeParts 4 (Option.none : Option Jvm.ClassFile.FieldType)) ({ frames := 7, cells := σ.2 3 - σ.2 0, slots := σ.2 4 - σ.2 1, locals := 175 })).room (7) (175) := ⟨⟨Nat.le_refl _, Nat.le_refl _⟩, Nat.le_of_eq e3.symm, Nat.le_of_eq e4.symm⟩
  generalize (headSpec (ws_ yX1_writeParts cX1_writeParts 4 (Option.none : Option Jvm.ClassFile.FieldType)) ({ frames := 7, cells := σ.2 3 - σ.2 0, slots := σ.2 4 - σ.2 1, locals := 175 })).room = R at hR ⊢
  rw [e3, e4]
  have hI : CI g A s σ s.heap [] := ⟨hσ, va_S.rf, Nat.le_refl _⟩
  have hlen : (lg_sl ([.ref o, va_rf x1])).length ≤ 4 := by rcases x1 with _ | x1 <;> exact Nat.le_of_ble_eq_true rfl
  have hl := lv_entry ([.ref o, va_rf x1]) (n := 4) hlen
  rw [lg_entry_eq]
  generalize (lg_sl ([.ref o, va_rf x1]) ++ List.replicate (4 - (lg_sl ([.ref o, va_rf x1])).length) Slot.unset).toArray = ls at hl ⊢
  have hl : lv_has ls 4 [(0, .ref o), (1, va_rf x1)] := by clear hI hw h hσ e3 e4 hR C hts B; rcases x1 with _ | x1 <;> exact hl
  obtain ⟨z, hz⟩ : ∃ z, z = (v, σ1) := ⟨_, rfl⟩
  rw [← hz] at h
  rw [show σ1 = z.2 by rw [hz]]
  clear hz v σ1
  refine W.narrow ?_
  unfold m_X1_writeParts at h
  refine lv_iconst (v := 1) C.x C.b dX1_writeParts_0 (by decide) ?_
  refine lv_istore_n (i := 2) (lv' := [(2, .int 1), (0, .ref o), (1, va_rf x1)]) C.x C.b dX1_writeParts_1 rfl hl (by decide) (by first | (simp [List.filter, cat_rf, cat_i, cat_a, cat_n, cat_l, cat_f, cat_d]; done) | (simp [List.filter, cat_rf, cat_i, cat_a, cat_n, cat_l, cat_f, cat_d]; rfl)) (fun ls hl => ?_)
  refine lv_iconst (v := 0) C.x C.b dX1_writeParts_2 (by decide) ?_
  refine lv_istore_n (i := 3) (lv' := [(3, .int 0), (2, .int 1), (0, .ref o), (1, va_rf x1)]) C.x C.b dX1_writeParts_3 rfl hl (by decide) (by first | (simp [List.filter, cat_rf, cat_i, cat_a, cat_n, cat_l, cat_f, cat_d]; done) | (simp [List.filter, cat_rf, cat_i, cat_a, cat_n, cat_l, cat_f, cat_d]; rfl)) (fun ls hl => ?_)
  exact w_X1_writeParts_4 C hw hR _ x1 1 0 _ _ _ _ h hI (lv_sub hl [2, 3, 1, 0] rfl)

theorem w_X1_writeRule_72 {z : (cX (Int32)) × cS} {o : Nat} (C : CX p m meth c s args cX1_writeRule 4 (Option.some Jvm.ClassFile.FieldType.int) RX1) (hx : ∀ x ∈ c.exceptionTable.toList, False) (hl0 : l.stackTraces = false) (hw : WKc g A s s.heap) (hR : RM g s R (449) (19227))  : ∀ (n : Nat) (x2 : Option Nat) (x3 : Int32) (σ : cS) (H : Heap) (locs : List Loc) (ls : Array Slot), b_X1_writeRule_72 o n x2 x3 σ = some z → CI g A s σ H locs → lv_has ls 4 [(0, .ref o), (2, va_rf x2), (3, .int x3)] → W p l e R s m args below meth c H locs (H.size - s.heap.size) (hsl H - hsl s.heap) (UQ g A (fun v => some (.int v)) z args s (g.2.2.1 3 - s.heap.size) (g.2.2.1 4 - hsl s.heap) below) (F0 m 72 ls []) := by
  intro n
  induction n with
  | zero =>
    intro x2 x3 σ H locs ls h
    cases h
  | succ n ih =>
    intro x2 x3 σ H locs ls h hI hl
    rw [b_X1_writeRule_72] at h
    refine lv_iload_n C.x C.b dX1_writeRule_72 rfl (lv_at hl 2 rfl) ?_
    refine r_aload_n (x := some o) C.x C.b dX1_writeRule_73 rfl (lv_at hl 0 rfl) ?_
    refine cw_gR (r := some o) 0 0 C hw hI h (by decide) rfl in_X1 (by decide) (C.t _ q1172) (fun _ h9 => h9) dX1_writeRule_74 (fun v_1 h => ?_)
    refine cw_gR (r := v_1) 1 4 C hw hI h (by decide) rfl in_X4 (by decide) (C.t _ q851) (fun _ h9 => h9) dX1_writeRule_77 (fun v_2 h => ?_)
    refine cw_callV (y := yJ18_size) (bytes := cJ18_size) (maxL := 1) (r := v_2) (f := fun a_5 => m_J18_size a_5 σ) 9 (fun v => some (.int v)) [] C hw hR hI hl.1 h (by decide) rfl (fun aa vv ss ee => k_J18_size l g A aa σ vv ss ee) (cwV 0 C.t (lw_V q1339 q947 q948 q152 q949) rfl rfl rfl (by decide +kernel) ⟨Nat.le_trans (Nat.le_of_ble_eq_true rfl) hR.f, Nat.le_trans (Nat.le_of_ble_eq_true rfl) hR.lo⟩) rfl rfl (Nat.le_of_ble_eq_true rfl) dX1_writeRule_80 (fun v_3 σ_4 H locs h hI => ?_)
    refine lv_icmp_ge (tgt := 114) C.x C.b dX1_writeRule_83 (by decide) (fun c_6 => ?_) (fun c_6 => ?_)
    · have h := ip c_6 h
      refine r_aload_n (x := some o) C.x C.b dX1_writeRule_114 rfl (lv_at hl 0 rfl) ?_
      refine cw_gR (r := some o) 0 4 C hw hI h (by decide) rfl in_X1 (by decide) (C.t _ q1176) (fun _ h9 => h9) dX1_writeRule_115 (fun v_7 h => ?_)
      refine cw_callV (y := yJ3_length) (bytes := cJ3_length) (maxL := 1) (r := v_7) (f := fun a_10 => m_J3_length a_10 σ_4) 11 (fun v => some (.int v)) [] C hw hR hI hl.1 h (by decide) rfl (fun aa vv ss ee => k_J3_length l g A aa σ_4 vv ss ee) (cwV 0 C.t (lw_V q1192 q584 q2704 q130 q585) rfl rfl rfl (by decide +kernel) ⟨Nat.le_trans (Nat.le_of_ble_eq_true rfl) hR.f, Nat.le_trans (Nat.le_of_ble_eq_true rfl) hR.lo⟩) rfl rfl (Nat.le_of_ble_eq_true rfl) dX1_writeRule_118 (fun v_8 σ_9 H locs h hI => ?_)
      exact uq_l h (fun y h => cw_iret C hI h dX1_writeRule_121)
    · have h := iN c_6 h
      refine r_aload_n (x := x2) C.x C.b dX1_writeRule_86 rfl (lv_at hl 1 rfl) ?_
      refine lv_iload_n C.x C.b dX1_writeRule_87 rfl (lv_at hl 2 rfl) ?_
      refine cw_callV (y := yX9_isOver) (bytes := cX9_isOver) (maxL := 2) (r := x2) (f := fun a_13 => m_X9_isOver a_13 x3 σ_4) 2 (fun v => some (.int v)) [.int x3] C hw hR hI hl.1 h (by decide) rfl (fun aa vv ss ee => k_X9_isOver l g A aa x3 σ_4 vv ss ee) (cwV 1 C.t (lw_V q1604 q1605 q1606 q157 q1607) rfl rfl rfl (by decide +kernel) ⟨Nat.le_trans (Nat.le_of_ble_eq_true rfl) hR.f, Nat.le_trans (Nat.le_of_ble_eq_true rfl) hR.lo⟩) rfl rfl (Nat.le_of_ble_eq_true rfl) dX1_writeRule_88 (fun v_11 σ_12 H locs h hI => ?_)
      refine lv_if_eq (tgt := 108) C.x C.b dX1_writeRule_91 (by decide) (fun c_14 => ?_) (fun c_14 => ?_)
      · have h := ip c_14 h
        obtain ⟨x3_15, e_, h⟩ := nm_s h
        refine lv_iinc (v := x3_15) (lv' := [(3, .int x3_15), (0, .ref o), (2, va_rf x2)]) C.x C.b dX1_writeRule_108 hl (k := 2) rfl e_.symm (by decide) (by first | (simp [List.filter, cat_rf, cat_i, cat_a, cat_n, cat_l, cat_f, cat_d]; done) | (simp [List.filter, cat_rf, cat_i, cat_a, cat_n, cat_l, cat_f, cat_d]; rfl)) (fun ls hl => ?_)
        refine lv_goto (tgt := 72) C.x C.b dX1_writeRule_111 (by decide) ?_
        exact ih x2 x3_15 _ _ _ _ h hI (lv_sub hl [1, 2, 0] rfl)
      · have h := iN c_14 h
        refine r_aload_n (x := some o) C.x C.b dX1_writeRule_94 rfl (lv_at hl 0 rfl) ?_
        refine cw_gR (r := some o) 0 4 C hw hI h (by decide) rfl in_X1 (by decide) (C.t _ q1176) (fun _ h9 => h9) dX1_writeRule_95 (fun v_16 h => ?_)
        refine lv_bipush (v := 32) C.x C.b dX1_writeRule_98 (by decide) ?_
        refine cw_callV (y := yJ3_append_3) (bytes := cJ3_append_3) (maxL := 2) (r := v_16) (f := fun a_19 => m_J3_append_3 a_19 32 σ_12) 11 (fun v => some (va_rf v)) [.int 32] C hw hR hI hl.1 h (by decide) rfl (fun aa vv ss ee => k_J3_append_3 l g A aa 32 σ_12 vv ss ee) (cwV 1 C.t (lw_V q1197 q1198 q1199 q130 q1200) rfl rfl rfl (by decide +kernel) ⟨Nat.le_trans (Nat.le_of_ble_eq_true rfl) hR.f, Nat.le_trans (Nat.le_of_ble_eq_true rfl) hR.lo⟩) rfl rfl (Nat.le_of_ble_eq_true rfl) dX1_writeRule_100 (fun v_17 σ_18 H locs h hI => ?_)
        refine lv_iload_n C.x C.b dX1_writeRule_103 rfl (lv_at hl 2 rfl) ?_
        refine cw_callV (y := yJ3_append) (bytes := cJ3_append) (maxL := 2) (r := v_17) (f := fun a_22 => m_J3_append a_22 x3 σ_18) 11 (fun v => some (va_rf v)) [.int x3] C hw hR hI hl.1 h (by decide) rfl (fun aa vv ss ee => k_J3_append l g A aa x3 σ_18 vv ss ee) (cwV 1 C.t (lw_V q1949 q444 q445 q130 q446) rfl rfl rfl (by decide +kernel) ⟨Nat.le_trans (Nat.le_of_ble_eq_true rfl) hR.f, Nat.le_trans (Nat.le_of_ble_eq_true rfl) hR.lo⟩) rfl rfl (Nat.le_of_ble_eq_true rfl) dX1_writeRule_104 (fun v_20 σ_21 H locs h hI => ?_)
        refine lv_pop C.x C.b dX1_writeRule_107 (cat_rf _) ?_
        obtain ⟨x3_23, e_, h⟩ := nm_s h
        refine lv_iinc (v := x3_23) (lv' := [(3, .int x3_23), (0, .ref o), (2, va_rf x2)]) C.x C.b dX1_writeRule_108 hl (k := 2) rfl e_.symm (by decide) (by first | (simp [List.filter, cat_rf, cat_i, cat_a, cat_n, cat_l, cat_f, cat_d]; done) | (simp [List.filter, cat_rf, cat_i, cat_a, cat_n, cat_l, cat_f, cat_d]; rfl)) (fun ls hl => ?_)
        refine lv_goto (tgt := 72) C.x C.b dX1_writeRule_111 (by decide) ?_
        exact ih x2 x3_23 _ _ _ _ h hI (lv_sub hl [1, 2, 0] rfl)

theorem w_X1_writeRule_66 {z : (cX (Int32)) × cS} {o : Nat} (C : CX p m meth c s args cX1_writeRule 4 (Option.some Jvm.ClassFile.FieldType.int) RX1) (hx : ∀ x ∈ c.exceptionTable.toList, False) (hl0 : l.stackTraces = false) (hw : WKc g A s s.heap) (hR : RM g s R (449) (19227))  : ∀ (x2 : Option Nat) (s0 : Option Nat) (s1 : Option Nat) (σ : cS) (H : Heap) (locs : List Loc) (ls : Array Slot), b_X1_writeRule_66 o x2 s0 s1 σ = some z → CI g A s σ H locs → lv_has ls 4 [(0, .ref o), (2, va_rf x2)] → W p l e R s m args below meth c H locs (H.size - s.heap.size) (hsl H - hsl s.heap) (UQ g A (fun v => some (.int v)) z args s (g.2.2.1 3 - s.heap.size) (g.2.2.1 4 - hsl s.heap) below) (F0 m 66 ls [va_rf s1, va_rf s0]) := by
  intro x2 s0 s1 σ H locs ls h hI hl
  unfold b_X1_writeRule_66 at h
  refine cw_callV (y := yJ3_append_2) (bytes := cJ3_append_2) (maxL := 2) (r := s0) (f := fun a_3 => m_J3_append_2 a_3 s1 σ) 11 (fun v => some (va_rf v)) [va_rf s1] C hw hR hI hl.1 h (by decide) rfl (fun aa vv ss ee => k_J3_append_2 l g A aa s1 σ vv ss ee) (cwV 1 C.t (lw_V q1475 q515 q516 q130 q517) rfl rfl rfl (by decide +kernel) ⟨Nat.le_trans (Nat.le_of_ble_eq_true rfl) hR.f, Nat.le_trans (Nat.le_of_ble_eq_true rfl) hR.lo⟩) rfl rfl (Nat.le_of_ble_eq_true rfl) dX1_writeRule_66 (fun v_1 σ_2 H locs h hI => ?_)
  refine lv_pop C.x C.b dX1_writeRule_69 (cat_rf _) ?_
  refine lv_iconst (v := 0) C.x C.b dX1_writeRule_70 (by decide) ?_
  refine lv_istore_n (i := 3) (lv' := [(3, .int 0), (0, .ref o), (2, va_rf x2)]) C.x C.b dX1_writeRule_71 rfl hl (by decide) (by first | (simp [List.filter, cat_rf, cat_i, cat_a, cat_n, cat_l, cat_f, cat_d]; done) | (simp [List.filter, cat_rf, cat_i, cat_a, cat_n, cat_l, cat_f, cat_d]; rfl)) (fun ls hl => ?_)
  exact w_X1_writeRule_72 C hx hl0 hw hR _ x2 0 _ _ _ _ h hI (lv_sub hl [1, 2, 0] rfl)

theorem k_X1_writeRule (l : Launch) (hl0 : l.stackTraces = false) (g : cG) (A : Nat → Prop) (o : Nat) (x1 : Int32) (σ : cS) (z : (cX (Int32)) × cS) (h : m_X1_writeRule o x1 σ = some z) : MetX l yX1_writeRule (ws_ yX1_writeRule cX1_writeRule 4 (Option.some Jvm.ClassFile.FieldType.int)) ({ frames := 449, cells := σ.2 3 - σ.2 0, slots := σ.2 4 - σ.2 1, locals := 19227 }) g A [.ref o, .int x1] σ (fun v => some (.int v)) z (σ.2 3 - σ.2 0) (σ.2 4 - σ.2 1) := by
  refine metx_of (cc := cX1_writeRule) (maxL := 4) (ret := (Option.some Jvm.ClassFile.FieldType.int)) (by decide) rfl ?_
  intro p e s m args below meth c s₁ B hml hx hv
  obtain ⟨rfl, hw, hσ⟩ := hv
  have hts := atoms_spec (ws := (ws_ yX1_writeRule cX1_writeRule 4 (Option.some Jvm.ClassFile.FieldType.int))) B.pre
  have C : CX p m meth c s ([.ref o, .int x1] : List Value).toArray cX1_writeRule 4 (Option.some Jvm.ClassFile.FieldType.int) RX1 := ⟨⟨B.exec, B.bytes, hml, findClass_of_methodNamed B.named, fun w h => hts w (List.mem_cons_of_mem _ h)⟩, B.returns, B.notSynchronized⟩
  have e3 : σ.2 3 - σ.2 0 = g.2.2.1 3 - s.heap.size := by rw [hσ.1, hσ.2.2.2.1 3 (by decide)]
  have e4 : σ.2 4 - σ.2 1 = g.2.2.1 4 - hsl s.heap := by rw [hσ.2.1, hσ.2.2.2.1 4 (by decide)]
  have hR : RM g s (headSpec (ws_ yX1_writeRule cX1_writeRule 4 (Option.some Jvm.ClassFile.FieldType.int)) ({ frames := 449, cells := σ.2 3 - σ.2 0, slots := σ.2 4 - σ.2 1, locals := 19227 })).room (449) (19227) := ⟨⟨Nat.le_refl _, Nat.le_refl _⟩, Nat.le_of_eq e3.symm, Nat.le_of_eq e4.symm⟩
  generalize (headSpec (ws_ yX1_writeRule cX1_writeRule 4 (Option.some Jvm.ClassFile.FieldType.int)) ({ frames := 449, cells := σ.2 3 - σ.2 0, slots := σ.2 4 - σ.2 1, locals := 19227 })).room = R at hR ⊢
  rw [e3, e4]
  have hI : CI g A s σ s.heap [] := ⟨hσ, va_S.rf, Nat.le_refl _⟩
  have hl := lv_entry ([.ref o, .int x1]) (n := 4) (Nat.le_of_ble_eq_true rfl)
  rw [lg_entry_eq]
  generalize (lg_sl ([.ref o, .int x1]) ++ List.replicate (4 - (lg_sl ([.ref o, .int x1])).length) Slot.unset).toArray = ls at hl ⊢
  have hl : lv_has ls 4 [(0, .ref o), (1, .int x1)] := hl
  refine W.narrow ?_
  unfold m_X1_writeRule at h
  refine r_aload_n (x := some o) C.x C.b dX1_writeRule_0 rfl (lv_at hl 0 rfl) ?_
  refine lv_iload_n C.x C.b dX1_writeRule_1 rfl (lv_at hl 1 rfl) ?_
  refine cx_callV (y := yX1_ruleAt) (bytes := cX1_ruleAt) (maxL := 2) (r := some o) (f := fun a_3 => m_X1_ruleAt a_3 x1 σ) 0 (fun v => some (va_rf v)) [.int x1] C hx hw hR hI hl.1 h (by decide) rfl (fun aa uu ee => k_X1_ruleAt l hl0 g A aa x1 σ uu ee) (cwV 1 C.t (lw_V q1582 q1584 qs39 q126 q1585) rfl rfl rfl (by decide +kernel) ⟨Nat.le_trans (Nat.le_of_ble_eq_true rfl) hR.f, Nat.le_trans (Nat.le_of_ble_eq_true rfl) hR.lo⟩) rfl rfl (Nat.le_of_ble_eq_true rfl) dX1_writeRule_2 (fun v_1 σ_2 H locs h hI => ?_)
  refine r_astore_n (i := 2) (x := v_1) (lv' := [(2, va_rf v_1), (0, .ref o), (1, .int x1)]) C.x C.b dX1_writeRule_5 rfl hl (by decide) (by rfl) (fun ls hl => ?_)
  refine r_aload_n (x := some o) C.x C.b dX1_writeRule_6 rfl (lv_at hl 1 rfl) ?_
  refine cw_new (T := TJ3) (N := 4) 11 C hw hI hR.2.1 hR.2.2 h (by decide) rfl in_J3 tyJ3 tyJ3_ok (fun j hj => match j, hj with | 0, _ => rfl | 1, _ => rfl | 2, _ => rfl | 3, _ => rfl | j + 4, hj => absurd hj (Nat.not_lt_of_le (Nat.le_add_left _ _))) q198 q199 q130 dX1_writeRule_7 (fun q_4 σ_5 H locs h hI => ?_)
  refine lv_dup C.x C.b dX1_writeRule_10 rfl ?_
  refine cw_callI (y := yJ3_init) (bytes := cJ3_init) (maxL := 1) (b := q_4) [] C hw hR hI hl.1 h (fun vv ss ee => k_J3_init l g A q_4 σ_5 vv ss ee) (cwI 0 C.t (lw_meth q202) rfl rfl rfl (C.t _ q130) (C.t _ q200) (C.t _ q201) rfl (by decide +kernel) ⟨Nat.le_trans (Nat.le_of_ble_eq_true rfl) hR.f, Nat.le_trans (Nat.le_of_ble_eq_true rfl) hR.lo⟩) rfl rfl (Nat.le_of_ble_eq_true rfl) dX1_writeRule_11 (fun σ_6 _ H locs h hI => ?_)
  refine cw_pO (r := some o) (v := (va_rf (some q_4))) (ty := (.object "java/lang/StringBuilder")) 0 4 C hw hI h (by decide) rfl in_X1 tyX1 tyX1_ok nmX1 (by decide) (C.t _ q1176) (fun _ h9 => h9) (Or.inl rfl) (by decide +kernel) (nar_o _ _) (fits_o _ _) dX1_writeRule_14 (fun σ_7 H locs h hI => ?_)
  refine r_aload_n (x := v_1) C.x C.b dX1_writeRule_17 rfl (lv_at hl 0 rfl) ?_
  refine cw_gR (r := v_1) 2 0 C hw hI h (by decide) rfl in_X9 (by decide) (C.t _ q1103) (fun _ h9 => h9) dX1_writeRule_18 (fun v_8 h => ?_)
  refine r_aload_n (x := some o) C.x C.b dX1_writeRule_21 rfl (lv_at hl 1 rfl) ?_
  refine cw_gR (r := some o) 0 4 C hw hI h (by decide) rfl in_X1 (by decide) (C.t _ q1176) (fun _ h9 => h9) dX1_writeRule_22 (fun v_9 h => ?_)
  refine cw_callF (x := ⟨"HeirCases$Guard", "write", "(Ljava/lang/StringBuilder;)V"⟩) (r := v_8) (f := fun a_11 => dv_write DPC a_11 v_9 σ_7) (fun _ => none) [va_rf v_9] C hw hR hI hl.1 h (fun aa vv ss ee => (kd_writeD l g A aa v_9 σ_7 vv ss ee).elim (fun qq => ⟨4, qq.1, _, yX7_write, cX7_write, 2, (Option.none : Option Jvm.ClassFile.FieldType), _, _, by decide, rfl, qq.2, Or.inl (va_cwF 1 C.t (lw_app (mem4 q1881 q1921 q1923 q155) (lw_meth q1925)) rfl rfl rfl (hw.2.2.2.2.2.2.2.2.2.1 _ (List.mem_of_getElem? (i := 6) rfl)) (by decide +kernel) ⟨Nat.le_trans (Nat.le_of_ble_eq_true rfl) hR.f, Nat.le_trans (Nat.le_of_ble_eq_true rfl) hR.lo⟩)⟩) (fun hh => hh.elim (fun qq => ⟨5, qq.1, _, yX8_write, cX8_write, 3, (Option.none : Option Jvm.ClassFile.FieldType), _, _, by decide, rfl, qq.2, Or.inl (va_cwF 1 C.t (lw_app (mem4 q1881 q1930 q1932 q156) (lw_meth q1934)) rfl rfl rfl (hw.2.2.2.2.2.2.2.2.2.1 _ (List.mem_of_getElem? (i := 8) rfl)) (by decide +kernel) ⟨Nat.le_trans (Nat.le_of_ble_eq_true rfl) hR.f, Nat.le_trans (Nat.le_of_ble_eq_true rfl) hR.lo⟩)⟩) (fun hh => hh.elim (fun qq => ⟨6, qq.1, _, yX5_write, cX5_write, 2, (Option.none : Option Jvm.ClassFile.FieldType), _, _, by decide, rfl, qq.2, Or.inl (va_cwF 1 C.t (lw_app (mem4 q1881 q1891 q1893 q153) (lw_meth q1895)) rfl rfl rfl (hw.2.2.2.2.2.2.2.2.2.1 _ (List.mem_of_getElem? (i := 10) rfl)) (by decide +kernel) ⟨Nat.le_trans (Nat.le_of_ble_eq_true rfl) hR.f, Nat.le_trans (Nat.le_of_ble_eq_true rfl) hR.lo⟩)⟩) (fun qq => ⟨7, qq.1, _, yX6_write, cX6_write, 2, (Option.none : Option Jvm.ClassFile.FieldType), _, _, by decide, rfl, qq.2, Or.inl (va_cwF 1 C.t (lw_app (mem4 q1881 q1884 q1886 q154) (lw_meth q1888)) rfl rfl rfl (hw.2.2.2.2.2.2.2.2.2.1 _ (List.mem_of_getElem? (i := 12) rfl)) (by decide +kernel) ⟨Nat.le_trans (Nat.le_of_ble_eq_true rfl) hR.f, Nat.le_trans (Nat.le_of_ble_eq_true rfl) hR.lo⟩)⟩)))) rfl rfl (Nat.le_of_ble_eq_true rfl) dX1_writeRule_25 (fun _ σ_10 H locs h hI => ?_)
  refine r_aload_n (x := some o) C.x C.b dX1_writeRule_30 rfl (lv_at hl 1 rfl) ?_
  refine cw_gR (r := some o) 0 4 C hw hI h (by decide) rfl in_X1 (by decide) (C.t _ q1176) (fun _ h9 => h9) dX1_writeRule_31 (fun v_12 h => ?_)
  refine cw_ldcwS (tx := " gives") (k := 28) C hw hI (List.mem_of_getElem? (i := 8) rfl) (by decide) dX1_writeRule_34 ?_
  refine cw_callV (y := yJ3_append_2) (bytes := cJ3_append_2) (maxL := 2) (r := v_12) (f := fun a_15 => m_J3_append_2 a_15 (some (σ_10.2 28)) σ_10) 11 (fun v => some (va_rf v)) [.ref (σ_10.2 28)] C hw hR hI hl.1 h (by decide) rfl (fun aa vv ss ee => k_J3_append_2 l g A aa (some (σ_10.2 28)) σ_10 vv ss ee) (cwV 1 C.t (lw_V q1475 q515 q516 q130 q517) rfl rfl rfl (by decide +kernel) ⟨Nat.le_trans (Nat.le_of_ble_eq_true rfl) hR.f, Nat.le_trans (Nat.le_of_ble_eq_true rfl) hR.lo⟩) rfl rfl (Nat.le_of_ble_eq_true rfl) dX1_writeRule_37 (fun v_13 σ_14 H locs h hI => ?_)
  refine lv_pop C.x C.b dX1_writeRule_40 (cat_rf _) ?_
  refine r_aload_n (x := some o) C.x C.b dX1_writeRule_41 rfl (lv_at hl 1 rfl) ?_
  refine r_aload_n (x := v_1) C.x C.b dX1_writeRule_42 rfl (lv_at hl 0 rfl) ?_
  refine cw_callV (y := yX1_writeParts) (bytes := cX1_writeParts) (maxL := 4) (r := some o) (f := fun a_17 => m_X1_writeParts a_17 v_1 σ_14) 0 (fun _ => none) [va_rf v_1] C hw hR hI hl.1 h (by decide) rfl (fun aa vv ss ee => k_X1_writeParts l g A aa v_1 σ_14 vv ss ee) (cwV 1 C.t (lw_V q1943 q1945 qs49 q126 q1946) rfl rfl rfl (by decide +kernel) ⟨Nat.le_trans (Nat.le_of_ble_eq_true rfl) hR.f, Nat.le_trans (Nat.le_of_ble_eq_true rfl) hR.lo⟩) rfl rfl (Nat.le_of_ble_eq_true rfl) dX1_writeRule_43 (fun _ σ_16 H locs h hI => ?_)
  refine r_aload_n (x := some o) C.x C.b dX1_writeRule_46 rfl (lv_at hl 1 rfl) ?_
  refine cw_gR (r := some o) 0 4 C hw hI h (by decide) rfl in_X1 (by decide) (C.t _ q1176) (fun _ h9 => h9) dX1_writeRule_47 (fun v_18 h => ?_)
  refine r_aload_n (x := v_1) C.x C.b dX1_writeRule_50 rfl (lv_at hl 0 rfl) ?_
  refine cw_gI (r := v_1) 2 3 C hw hI h (by decide) rfl in_X9 (by decide) (C.t _ q1112) (fun _ h9 => h9) dX1_writeRule_51 (fun v_19 h => ?_)
  refine lv_if_ne (tgt := 63) C.x C.b dX1_writeRule_54 (by decide) (fun c_20 => ?_) (fun c_20 => ?_)
  · have h := iN c_20 h
    refine cw_ldcwS (tx := " over") (k := 29) C hw hI (List.mem_of_getElem? (i := 9) rfl) (by decide) dX1_writeRule_63 ?_
    exact w_X1_writeRule_66 C hx hl0 hw hR v_1 v_18 (some (σ_16.2 29)) _ _ _ _ h hI (lv_sub hl [1, 0] rfl)
  · have h := ip c_20 h
    refine cw_ldcwS (tx := "") (k := 27) C hw hI (List.mem_of_getElem? (i := 7) rfl) (by decide) dX1_writeRule_57 ?_
    refine lv_goto (tgt := 66) C.x C.b dX1_writeRule_60 (by decide) ?_
    exact w_X1_writeRule_66 C hx hl0 hw hR v_1 v_18 (some (σ_16.2 27)) _ _ _ _ h hI (lv_sub hl [1, 0] rfl)

theorem k_X1_keep (l : Launch) (g : cG) (A : Nat → Prop) (o : Nat) (x1 : Option Nat) (σ : cS) (v : Int32) (σ1 : cS) (h : m_X1_keep o x1 σ = some (v, σ1)) : Met l yX1_keep (ws_ yX1_keep cX1_keep 2 (Option.none : Option Jvm.ClassFile.FieldType)) ({ frames := 5, cells := σ.2 3 - σ.2 0, slots := σ.2 4 - σ.2 1, locals := 134 }) (CPc g A [.ref o, va_rf x1] σ) (CQ g A (none) σ1) (σ.2 3 - σ.2 0) (σ.2 4 - σ.2 1) A := by
  refine Met.ofW (cc := cX1_keep) (maxL := 2) (ret := (Option.none : Option Jvm.ClassFile.FieldType)) (by decide) rfl ?_
  intro p e s m args below meth c s₁ B hml hv
  obtain ⟨rfl, hw, hσ⟩ := hv
  have hts := atoms_spec (ws := (ws_ yX1_keep cX1_keep 2 (Option.none : Option Jvm.ClassFile.FieldType))) B.pre
  have C : CX p m meth c s ([.ref o, va_rf x1] : List Value).toArray cX1_keep 2 (Option.none : Option Jvm.ClassFile.FieldType) RX1 := ⟨⟨B.exec, B.bytes, hml, findClass_of_methodNamed B.named, fun w h => hts w (List.mem_cons_of_mem _ h)⟩, B.returns, B.notSynchronized⟩
  have e3 : σ.2 3 - σ.2 0 = g.2.2.1 3 - s.heap.size := by rw [hσ.1, hσ.2.2.2.1 3 (by decide)]
  have e4 : σ.2 4 - σ.2 1 = g.2.2.1 4 - hsl s.heap := by rw [hσ.2.1, hσ.2.2.2.1 4 (by decide)]
  have hR : RM g s (headSpec (ws_ yX1_keep cX1_keep 2 (Option.none : Option Jvm.ClassFile.FieldType)) ({ frames := 5, cells := σ.2 3 - σ.2 0, slots := σ.2 4 - σ.2 1, locals := 134 })).room (5) (134) := ⟨⟨Nat.le_refl _, Nat.le_refl _⟩, Nat.le_of_eq e3.symm, Nat.le_of_eq e4.symm⟩
  generalize (headSpec (ws_ yX1_keep cX1_keep 2 (Option.none : Option Jvm.ClassFile.FieldType)) ({ frames := 5, cells := σ.2 3 - σ.2 0, slots := σ.2 4 - σ.2 1, locals := 134 })).room = R at hR ⊢
  rw [e3, e4]
  have hI : CI g A s σ s.heap [] := ⟨hσ, va_S.rf, Nat.le_refl _⟩
  have hlen : (lg_sl ([.ref o, va_rf x1])).length ≤ 2 := by rcases x1 with _ | x1 <;> exact Nat.le_of_ble_eq_true rfl
  have hl := lv_entry ([.ref o, va_rf x1]) (n := 2) hlen
  rw [lg_entry_eq]
  generalize (lg_sl ([.ref o, va_rf x1]) ++ List.replicate (2 - (lg_sl ([.ref o, va_rf x1])).length) Slot.unset).toArray = ls at hl ⊢
  have hl : lv_has ls 2 [(0, .ref o), (1, va_rf x1)] := by clear hI hw h hσ e3 e4 hR C hts B; rcases x1 with _ | x1 <;> exact hl
  obtain ⟨z, hz⟩ : ∃ z, z = (v, σ1) := ⟨_, rfl⟩
  rw [← hz] at h
  rw [show σ1 = z.2 by rw [hz]]
  clear hz v σ1
  refine W.narrow ?_
  unfold m_X1_keep at h
  refine r_aload_n (x := some o) C.x C.b dX1_keep_0 rfl (lv_at hl 0 rfl) ?_
  refine cw_gR (r := some o) 0 1 C hw hI h (by decide) rfl in_X1 (by decide) (C.t _ q1173) (fun _ h9 => h9) dX1_keep_1 (fun v_1 h => ?_)
  refine r_aload_n (x := x1) C.x C.b dX1_keep_4 rfl (lv_at hl 1 rfl) ?_
  refine cw_callV (y := yJ1_addLast) (bytes := cJ1_addLast) (maxL := 3) (r := v_1) (f := fun a_3 => m_J1_addLast a_3 x1 σ) 10 (fun _ => none) [va_rf x1] C hw hR hI hl.1 h (by decide) rfl (fun aa vv ss ee => k_J1_addLast l g A aa x1 σ vv ss ee) (cwV 1 C.t (lw_V q1968 q1969 q1970 q128 q1971) rfl rfl rfl (by decide +kernel) ⟨Nat.le_trans (Nat.le_of_ble_eq_true rfl) hR.f, Nat.le_trans (Nat.le_of_ble_eq_true rfl) hR.lo⟩) rfl rfl (Nat.le_of_ble_eq_true rfl) dX1_keep_5 (fun _ σ_2 H locs h hI => ?_)
  refine r_aload_n (x := some o) C.x C.b dX1_keep_8 rfl (lv_at hl 0 rfl) ?_
  refine cw_gR (r := some o) 0 1 C hw hI h (by decide) rfl in_X1 (by decide) (C.t _ q1173) (fun _ h9 => h9) dX1_keep_9 (fun v_4 h => ?_)
  refine cw_callV (y := yJ1_size) (bytes := cJ1_size) (maxL := 1) (r := v_4) (f := fun a_7 => m_J1_size a_7 σ_2) 10 (fun v => some (.int v)) [] C hw hR hI hl.1 h (by decide) rfl (fun aa vv ss ee => k_J1_size l g A aa σ_2 vv ss ee) (cwV 0 C.t (lw_V q1521 q1522 q1523 q128 q1524) rfl rfl rfl (by decide +kernel) ⟨Nat.le_trans (Nat.le_of_ble_eq_true rfl) hR.f, Nat.le_trans (Nat.le_of_ble_eq_true rfl) hR.lo⟩) rfl rfl (Nat.le_of_ble_eq_true rfl) dX1_keep_12 (fun v_5 σ_6 H locs h hI => ?_)
  refine lv_bipush (v := 8) C.x C.b dX1_keep_15 (by decide) ?_
  refine lv_icmp_le (tgt := 28) C.x C.b dX1_keep_17 (by decide) (fun c_8 => ?_) (fun c_8 => ?_)
  · have h := ip c_8 h
    exact cw_vret C hI h dX1_keep_28
  · have h := iN c_8 h
    refine r_aload_n (x := some o) C.x C.b dX1_keep_20 rfl (lv_at hl 0 rfl) ?_
    refine cw_gR (r := some o) 0 1 C hw hI h (by decide) rfl in_X1 (by decide) (C.t _ q1173) (fun _ h9 => h9) dX1_keep_21 (fun v_9 h => ?_)
    refine cw_callV (y := yJ1_removeFirst) (bytes := cJ1_removeFirst) (maxL := 2) (r := v_9) (f := fun a_12 => m_J1_removeFirst a_12 σ_6) 10 (fun v => some (va_rf v)) [] C hw hR hI hl.1 h (by decide) rfl (fun aa vv ss ee => k_J1_removeFirst l g A aa σ_6 vv ss ee) (cwV 0 C.t (lw_V q1990 q1991 q1992 q128 q1993) rfl rfl rfl (by decide +kernel) ⟨Nat.le_trans (Nat.le_of_ble_eq_true rfl) hR.f, Nat.le_trans (Nat.le_of_ble_eq_true rfl) hR.lo⟩) rfl rfl (Nat.le_of_ble_eq_true rfl) dX1_keep_24 (fun v_10 σ_11 H locs h hI => ?_)
    refine lv_pop C.x C.b dX1_keep_27 (cat_rf _) ?_
    exact cw_vret C hI h dX1_keep_28

theorem k_X1_addRule (l : Launch) (hl0 : l.stackTraces = false) (g : cG) (A : Nat → Prop) (o : Nat) (x1 : Int32) (σ : cS) (z : (cX (Int32)) × cS) (h : m_X1_addRule o x1 σ = some z) : MetX l yX1_addRule (wsW_ yX1_addRule cX1_addRule 6 (Option.some Jvm.ClassFile.FieldType.int) [(20, 38, 100, 73), (48, 90, 100, 73), (20, 38, 118, 0), (48, 90, 118, 0), (100, 107, 118, 0), (118, 120, 118, 0)]) ({ frames := 430, cells := σ.2 3 - σ.2 0, slots := σ.2 4 - σ.2 1, locals := 100998 }) g A [.ref o, .int x1] σ (fun v => some (.int v)) z (σ.2 3 - σ.2 0) (σ.2 4 - σ.2 1) := by
  refine metx_ofH (cc := cX1_addRule) (maxL := 6) (ret := (Option.some Jvm.ClassFile.FieldType.int)) (by decide) rfl ?_
  intro p e s m args below meth c s₁ B hml hv
  obtain ⟨rfl, hw, hσ⟩ := hv
  have hts := atoms_spec (ws := (wsW_ yX1_addRule cX1_addRule 6 (Option.some Jvm.ClassFile.FieldType.int) [(20, 38, 100, 73), (48, 90, 100, 73), (20, 38, 118, 0), (48, 90, 118, 0), (100, 107, 118, 0), (118, 120, 118, 0)])) B.pre
  have C : CX p m meth c s ([.ref o, .int x1] : List Value).toArray cX1_addRule 6 (Option.some Jvm.ClassFile.FieldType.int) RX1 := ⟨⟨B.exec, B.bytes, hml, findClass_of_methodNamed B.named, fun w h => hts w (List.mem_cons_of_mem _ h)⟩, B.returns, B.notSynchronized⟩
  have hxT := vx_table (x := yX1_addRule) B (hts _ List.mem_cons_self)
  have e3 : σ.2 3 - σ.2 0 = g.2.2.1 3 - s.heap.size := by rw [hσ.1, hσ.2.2.2.1 3 (by decide)]
  have e4 : σ.2 4 - σ.2 1 = g.2.2.1 4 - hsl s.heap := by rw [hσ.2.1, hσ.2.2.2.1 4 (by decide)]
  have hR : RM g s (headSpec (wsW_ yX1_addRule cX1_addRule 6 (Option.some Jvm.ClassFile.FieldType.int) [(20, 38, 100, 73), (48, 90, 100, 73), (20, 38, 118, 0), (48, 90, 118, 0), (100, 107, 118, 0), (118, 120, 118, 0)]) ({ frames := 430, cells := σ.2 3 - σ.2 0, slots := σ.2 4 - σ.2 1, locals := 100998 })).room (430) (100998) := ⟨⟨Nat.le_refl _, Nat.le_refl _⟩, Nat.le_of_eq e3.symm, Nat.le_of_eq e4.symm⟩
  generalize (headSpec (wsW_ yX1_addRule cX1_addRule 6 (Option.some Jvm.ClassFile.FieldType.int) [(20, 38, 100, 73), (48, 90, 100, 73), (20, 38, 118, 0), (48, 90, 118, 0), (100, 107, 118, 0), (118, 120, 118, 0)]) ({ frames := 430, cells := σ.2 3 - σ.2 0, slots := σ.2 4 - σ.2 1, locals := 100998 })).room = R at hR ⊢
  rw [e3, e4]
  have hI : CI g A s σ s.heap [] := ⟨hσ, va_S.rf, Nat.le_refl _⟩
  have hl := lv_entry ([.ref o, .int x1]) (n := 6) (Nat.le_of_ble_eq_true rfl)
  rw [lg_entry_eq]
  generalize (lg_sl ([.ref o, .int x1]) ++ List.replicate (6 - (lg_sl ([.ref o, .int x1])).length) Slot.unset).toArray = ls at hl ⊢
  have hl : lv_has ls 6 [(0, .ref o), (1, .int x1)] := hl
  refine W.narrow ?_
  unfold m_X1_addRule at h
  refine lv_iload_n C.x C.b dX1_addRule_0 rfl (lv_at hl 1 rfl) ?_
  refine lv_iconst (v := 0) C.x C.b dX1_addRule_1 (by decide) ?_
  refine r_aload_n (x := some o) C.x C.b dX1_addRule_2 rfl (lv_at hl 0 rfl) ?_
  refine cw_gR (r := some o) 0 3 C hw hI h (by decide) rfl in_X1 (by decide) (C.t _ q1175) (fun _ h9 => h9) dX1_addRule_3 (fun v_1 h => ?_)
  refine cw_callV (y := yJ3_length) (bytes := cJ3_length) (maxL := 1) (r := v_1) (f := fun a_4 => m_J3_length a_4 σ) 11 (fun v => some (.int v)) [] C hw hR hI hl.1 h (by decide) rfl (fun aa vv ss ee => k_J3_length l g A aa σ vv ss ee) (cwV 0 C.t (lw_V q1192 q584 q2704 q130 q585) rfl rfl rfl (by decide +kernel) ⟨Nat.le_trans (Nat.le_of_ble_eq_true rfl) hR.f, Nat.le_trans (Nat.le_of_ble_eq_true rfl) hR.lo⟩) rfl rfl (Nat.le_of_ble_eq_true rfl) dX1_addRule_6 (fun v_2 σ_3 H locs h hI => ?_)
  refine cx_callSP (y := yX1_check) (bytes := cX1_check) (maxL := 3) (fun _ => none) [.int x1, .int 0, .int v_2] C (outside_of_table hxT (by decide)) hw hR hI hl.1 h (fun uu ee => k_X1_check l hl0 g A x1 0 v_2 σ_3 uu ee) (va_cwS 3 C.t (lw_S q1537 q1538 q126 q1539) rfl rfl rfl (by decide +kernel) ⟨Nat.le_trans (Nat.le_of_ble_eq_true rfl) hR.f, Nat.le_trans (Nat.le_of_ble_eq_true rfl) hR.lo⟩) rfl rfl (Nat.le_of_ble_eq_true rfl) dX1_addRule_9 (fun _ σ_5 H locs h hI => ?_)
  refine r_aload_n (x := some o) C.x C.b dX1_addRule_12 rfl (lv_at hl 0 rfl) ?_
  refine cw_gR (r := some o) 0 0 C hw hI h (by decide) rfl in_X1 (by decide) (C.t _ q1172) (fun _ h9 => h9) dX1_addRule_13 (fun v_6 h => ?_)
  refine cw_callV (y := yX4_duplicate) (bytes := cX4_duplicate) (maxL := 3) (r := v_6) (f := fun a_9 => m_X4_duplicate a_9 σ_5) 1 (fun v => some (va_rf v)) [] C hw hR hI hl.1 h (by decide) rfl (fun aa vv ss ee => k_X4_duplicate l g A aa σ_5 vv ss ee) (cwV 0 C.t (lw_V q1359 q1360 q1361 q150 q1362) rfl rfl rfl (by decide +kernel) ⟨Nat.le_trans (Nat.le_of_ble_eq_true rfl) hR.f, Nat.le_trans (Nat.le_of_ble_eq_true rfl) hR.lo⟩) rfl rfl (Nat.le_of_ble_eq_true rfl) dX1_addRule_16 (fun v_7 σ_8 H locs h hI => ?_)
  refine r_astore_n (i := 2) (x := v_7) (lv' := [(2, va_rf v_7), (0, .ref o), (1, .int x1)]) C.x C.b dX1_addRule_19 rfl hl (by decide) (by rfl) (fun ls hl => ?_)
  refine r_aload_n (x := some o) C.x C.b dX1_addRule_20 rfl (lv_at hl 1 rfl) ?_
  refine cw_gR (r := some o) 0 0 C hw hI h (by decide) rfl in_X1 (by decide) (C.t _ q1172) (fun _ h9 => h9) dX1_addRule_21 (fun v_10 h => ?_)
  refine cw_gR (r := v_10) 1 4 C hw hI h (by decide) rfl in_X4 (by decide) (C.t _ q851) (fun _ h9 => h9) dX1_addRule_24 (fun v_11 h => ?_)
  refine cw_callV (y := yJ18_size) (bytes := cJ18_size) (maxL := 1) (r := v_11) (f := fun a_14 => m_J18_size a_14 σ_8) 9 (fun v => some (.int v)) [] C hw hR hI hl.1 h (by decide) rfl (fun aa vv ss ee => k_J18_size l g A aa σ_8 vv ss ee) (cwV 0 C.t (lw_V q1339 q947 q948 q152 q949) rfl rfl rfl (by decide +kernel) ⟨Nat.le_trans (Nat.le_of_ble_eq_true rfl) hR.f, Nat.le_trans (Nat.le_of_ble_eq_true rfl) hR.lo⟩) rfl rfl (Nat.le_of_ble_eq_true rfl) dX1_addRule_27 (fun v_12 σ_13 H locs h hI => ?_)
  refine lv_bipush (v := 10) C.x C.b dX1_addRule_30 (by decide) ?_
  refine lv_icmp_ne (tgt := 48) C.x C.b dX1_addRule_32 (by decide) (fun c_15 => ?_) (fun c_15 => ?_)
  · have h := iN c_15 h
    refine cw_new (T := TX2) (N := 10) 8 C hw hI hR.2.1 hR.2.2 h (by decide) rfl in_X2 tyX2 tyX2_ok (fun j hj => match j, hj with | 0, _ => rfl | 1, _ => rfl | 2, _ => rfl | 3, _ => rfl | 4, _ => rfl | 5, _ => rfl | 6, _ => rfl | 7, _ => rfl | 8, _ => rfl | 9, _ => rfl | j + 10, hj => absurd hj (Nat.not_lt_of_le (Nat.le_add_left _ _))) q242 q243 q133 dX1_addRule_48 (fun q_16 σ_17 H locs h hI => ?_)
    refine lv_dup C.x C.b dX1_addRule_51 rfl ?_
    refine r_aload_n (x := some o) C.x C.b dX1_addRule_52 rfl (lv_at hl 1 rfl) ?_
    refine cw_gR (r := some o) 0 3 C hw hI h (by decide) rfl in_X1 (by decide) (C.t _ q1175) (fun _ h9 => h9) dX1_addRule_53 (fun v_18 h => ?_)
    refine lv_iload_n C.x C.b dX1_addRule_56 rfl (lv_at hl 2 rfl) ?_
    refine cw_callI (y := yX2_init) (bytes := cX2_init) (maxL := 3) (b := q_16) [va_rf v_18, .int x1] C hw hR hI hl.1 h (fun vv ss ee => k_X2_init l g A q_16 v_18 x1 σ_17 vv ss ee) (cwI 2 C.t (lw_meth q255) rfl rfl rfl (C.t _ q133) (C.t _ q253) (C.t _ q254) rfl (by decide +kernel) ⟨Nat.le_trans (Nat.le_of_ble_eq_true rfl) hR.f, Nat.le_trans (Nat.le_of_ble_eq_true rfl) hR.lo⟩) rfl rfl (Nat.le_of_ble_eq_true rfl) dX1_addRule_57 (fun σ_19 _ H locs h hI => ?_)
    refine r_aload_n (x := v_7) C.x C.b dX1_addRule_60 rfl (lv_at hl 0 rfl) ?_
    refine cx_callVC (y := yX2_readRule) (bytes := cX2_readRule) (maxL := 2) (r := some q_16) (f := fun a_21 => m_X2_readRule a_21 v_7 σ_19) (st0 := 48) (en := 90) (hpc := 100) (ct := 73) 8 (fun _ => none) [va_rf v_7] [⟨20, 38, 100, 73⟩] [⟨20, 38, 118, 0⟩, ⟨48, 90, 118, 0⟩, ⟨100, 107, 118, 0⟩, ⟨118, 120, 118, 0⟩] C hxT (by decide) (by decide) (by decide) (C.t _ q235) hw hR hI hl.1 h (by decide) rfl (fun aa uu ee => k_X2_readRule l hl0 g A aa v_7 σ_19 uu ee) (cwV 1 C.t (lw_V q1960 q1961 q1962 q133 q1963) rfl rfl rfl (by decide +kernel) ⟨Nat.le_trans (Nat.le_of_ble_eq_true rfl) hR.f, Nat.le_trans (Nat.le_of_ble_eq_true rfl) hR.lo⟩) rfl rfl (Nat.le_of_ble_eq_true rfl) dX1_addRule_61 (fun _ σ_20 H locs h hI => ?_) (fun q_22 σ_23 H locs h hI => ?_)
    · refine r_aload_n (x := some o) C.x C.b dX1_addRule_64 rfl (lv_at hl 1 rfl) ?_
      refine r_aload_n (x := some o) C.x C.b dX1_addRule_65 rfl (lv_at hl 1 rfl) ?_
      refine cw_gR (r := some o) 0 0 C hw hI h (by decide) rfl in_X1 (by decide) (C.t _ q1172) (fun _ h9 => h9) dX1_addRule_66 (fun v_24 h => ?_)
      refine cw_callV (y := yX1_keep) (bytes := cX1_keep) (maxL := 2) (r := some o) (f := fun a_26 => m_X1_keep a_26 v_24 σ_20) 0 (fun _ => none) [va_rf v_24] C hw hR hI hl.1 h (by decide) rfl (fun aa vv ss ee => k_X1_keep l g A aa v_24 σ_20 vv ss ee) (cwV 1 C.t (lw_V q1964 q1966 qs50 q126 q1967) rfl rfl rfl (by decide +kernel) ⟨Nat.le_trans (Nat.le_of_ble_eq_true rfl) hR.f, Nat.le_trans (Nat.le_of_ble_eq_true rfl) hR.lo⟩) rfl rfl (Nat.le_of_ble_eq_true rfl) dX1_addRule_69 (fun _ σ_25 H locs h hI => ?_)
      refine r_aload_n (x := some o) C.x C.b dX1_addRule_72 rfl (lv_at hl 1 rfl) ?_
      refine r_aload_n (x := v_7) C.x C.b dX1_addRule_73 rfl (lv_at hl 0 rfl) ?_
      refine cw_pO (r := some o) (v := (va_rf v_7)) (ty := (.object "HeirCases$Will")) 0 0 C hw hI h (by decide) rfl in_X1 tyX1 tyX1_ok nmX1 (by decide) (C.t _ q1172) (fun _ h9 => h9) (Or.inl rfl) (by decide +kernel) (nar_o _ _) (fits_o _ _) dX1_addRule_74 (fun σ_27 H locs h hI => ?_)
      refine r_aload_n (x := some o) C.x C.b dX1_addRule_77 rfl (lv_at hl 1 rfl) ?_
      refine cw_gR (r := some o) 0 0 C hw hI h (by decide) rfl in_X1 (by decide) (C.t _ q1172) (fun _ h9 => h9) dX1_addRule_78 (fun v_28 h => ?_)
      refine cw_gR (r := v_28) 1 4 C hw hI h (by decide) rfl in_X4 (by decide) (C.t _ q851) (fun _ h9 => h9) dX1_addRule_81 (fun v_29 h => ?_)
      refine cw_callV (y := yJ18_size) (bytes := cJ18_size) (maxL := 1) (r := v_29) (f := fun a_32 => m_J18_size a_32 σ_27) 9 (fun v => some (.int v)) [] C hw hR hI hl.1 h (by decide) rfl (fun aa vv ss ee => k_J18_size l g A aa σ_27 vv ss ee) (cwV 0 C.t (lw_V q1339 q947 q948 q152 q949) rfl rfl rfl (by decide +kernel) ⟨Nat.le_trans (Nat.le_of_ble_eq_true rfl) hR.f, Nat.le_trans (Nat.le_of_ble_eq_true rfl) hR.lo⟩) rfl rfl (Nat.le_of_ble_eq_true rfl) dX1_addRule_84 (fun v_30 σ_31 H locs h hI => ?_)
      refine lv_iconst (v := 1) C.x C.b dX1_addRule_87 (by decide) ?_
      refine lv_isub C.x C.b dX1_addRule_88 ?_
      refine tw_lt h (fun x3_33 h => ?_)
      refine lv_istore_n (i := 3) (lv' := [(3, .int x3_33), (2, va_rf v_7), (0, .ref o), (1, .int x1)]) C.x C.b dX1_addRule_89 rfl hl (by decide) (by first | (simp [List.filter, cat_rf, cat_i, cat_a, cat_n, cat_l, cat_f, cat_d]; done) | (simp [List.filter, cat_rf, cat_i, cat_a, cat_n, cat_l, cat_f, cat_d]; rfl)) (fun ls hl => ?_)
      refine r_aload_n (x := some o) C.x C.b dX1_addRule_90 rfl (lv_at hl 2 rfl) ?_
      refine cw_gR (r := some o) 0 3 C hw hI h (by decide) rfl in_X1 (by decide) (C.t _ q1175) (fun _ h9 => h9) dX1_addRule_91 (fun v_34 h => ?_)
      refine lv_iconst (v := 0) C.x C.b dX1_addRule_94 (by decide) ?_
      refine cw_callV (y := yJ3_setLength) (bytes := cJ3_setLength) (maxL := 2) (r := v_34) (f := fun a_36 => m_J3_setLength a_36 0 σ_31) 11 (fun _ => none) [.int 0] C hw hR hI hl.1 h (by decide) rfl (fun aa vv ss ee => k_J3_setLength l g A aa 0 σ_31 vv ss ee) (cwV 1 C.t (lw_V q1645 q1646 q1647 q130 q1648) rfl rfl rfl (by decide +kernel) ⟨Nat.le_trans (Nat.le_of_ble_eq_true rfl) hR.f, Nat.le_trans (Nat.le_of_ble_eq_true rfl) hR.lo⟩) rfl rfl (Nat.le_of_ble_eq_true rfl) dX1_addRule_95 (fun _ σ_35 H locs h hI => ?_)
      refine lv_iload_n C.x C.b dX1_addRule_98 rfl (lv_at hl 0 rfl) ?_
      exact uq_l h (fun y h => cw_iret C hI h dX1_addRule_99)
    · refine r_astore_n (i := 3) (x := some q_22) (lv' := [(3, .ref q_22), (2, va_rf v_7), (0, .ref o), (1, .int x1)]) C.x C.b dX1_addRule_100 rfl hl (by decide) (by first | (simp [List.filter, cat_rf, cat_i, cat_a, cat_n, cat_l, cat_f, cat_d]; done) | (simp [List.filter, cat_rf, cat_i, cat_a, cat_n, cat_l, cat_f, cat_d]; rfl)) (fun ls hl => ?_)
      refine r_aload_n (x := some q_22) C.x C.b dX1_addRule_101 rfl (lv_at hl 0 rfl) ?_
      refine cw_callS (y := yX1_answer) (bytes := cX1_answer) (maxL := 1) (fun v => some (.int v)) [.ref q_22] C hw hR hI hl.1 h (fun vv ss ee => k_X1_answer l g A (some q_22) σ_23 vv ss ee) (va_cwS 1 C.t (lw_S q1713 q1714 q126 q1715) rfl rfl rfl (by decide +kernel) ⟨Nat.le_trans (Nat.le_of_ble_eq_true rfl) hR.f, Nat.le_trans (Nat.le_of_ble_eq_true rfl) hR.lo⟩) rfl rfl (Nat.le_of_ble_eq_true rfl) dX1_addRule_102 (fun v_37 σ_38 H locs h hI => ?_)
      refine lv_istore (i := 4) (lv' := [(4, .int v_37), (3, .ref q_22), (2, va_rf v_7), (0, .ref o), (1, .int x1)]) C.x C.b dX1_addRule_105 hl (by decide) (by first | (simp [List.filter, cat_rf, cat_i, cat_a, cat_n, cat_l, cat_f, cat_d]; done) | (simp [List.filter, cat_rf, cat_i, cat_a, cat_n, cat_l, cat_f, cat_d]; rfl)) (fun ls hl => ?_)
      refine r_aload_n (x := some o) C.x C.b dX1_addRule_107 rfl (lv_at hl 3 rfl) ?_
      refine cw_gR (r := some o) 0 3 C hw hI h (by decide) rfl in_X1 (by decide) (C.t _ q1175) (fun _ h9 => h9) dX1_addRule_108 (fun v_39 h => ?_)
      refine lv_iconst (v := 0) C.x C.b dX1_addRule_111 (by decide) ?_
      refine cw_callV (y := yJ3_setLength) (bytes := cJ3_setLength) (maxL := 2) (r := v_39) (f := fun a_41 => m_J3_setLength a_41 0 σ_38) 11 (fun _ => none) [.int 0] C hw hR hI hl.1 h (by decide) rfl (fun aa vv ss ee => k_J3_setLength l g A aa 0 σ_38 vv ss ee) (cwV 1 C.t (lw_V q1645 q1646 q1647 q130 q1648) rfl rfl rfl (by decide +kernel) ⟨Nat.le_trans (Nat.le_of_ble_eq_true rfl) hR.f, Nat.le_trans (Nat.le_of_ble_eq_true rfl) hR.lo⟩) rfl rfl (Nat.le_of_ble_eq_true rfl) dX1_addRule_112 (fun _ σ_40 H locs h hI => ?_)
      refine lv_iload C.x C.b dX1_addRule_115 (lv_at hl 0 rfl) ?_
      exact uq_l h (fun y h => cw_iret C hI h dX1_addRule_117)
  · have h := ip c_15 h
    refine lv_bipush (v := -6) C.x C.b dX1_addRule_35 (by decide) ?_
    refine lv_istore_n (i := 3) (lv' := [(3, .int (-6)), (2, va_rf v_7), (0, .ref o), (1, .int x1)]) C.x C.b dX1_addRule_37 rfl hl (by decide) (by first | (simp [List.filter, cat_rf, cat_i, cat_a, cat_n, cat_l, cat_f, cat_d]; done) | (simp [List.filter, cat_rf, cat_i, cat_a, cat_n, cat_l, cat_f, cat_d]; rfl)) (fun ls hl => ?_)
    refine r_aload_n (x := some o) C.x C.b dX1_addRule_38 rfl (lv_at hl 2 rfl) ?_
    refine cw_gR (r := some o) 0 3 C hw hI h (by decide) rfl in_X1 (by decide) (C.t _ q1175) (fun _ h9 => h9) dX1_addRule_39 (fun v_42 h => ?_)
    refine lv_iconst (v := 0) C.x C.b dX1_addRule_42 (by decide) ?_
    refine cw_callV (y := yJ3_setLength) (bytes := cJ3_setLength) (maxL := 2) (r := v_42) (f := fun a_44 => m_J3_setLength a_44 0 σ_13) 11 (fun _ => none) [.int 0] C hw hR hI hl.1 h (by decide) rfl (fun aa vv ss ee => k_J3_setLength l g A aa 0 σ_13 vv ss ee) (cwV 1 C.t (lw_V q1645 q1646 q1647 q130 q1648) rfl rfl rfl (by decide +kernel) ⟨Nat.le_trans (Nat.le_of_ble_eq_true rfl) hR.f, Nat.le_trans (Nat.le_of_ble_eq_true rfl) hR.lo⟩) rfl rfl (Nat.le_of_ble_eq_true rfl) dX1_addRule_43 (fun _ σ_43 H locs h hI => ?_)
    refine lv_iload_n C.x C.b dX1_addRule_46 rfl (lv_at hl 0 rfl) ?_
    exact uq_l h (fun y h => cw_iret C hI h dX1_addRule_47)

theorem k_X1_remember (l : Launch) (g : cG) (A : Nat → Prop) (o : Nat) (σ : cS) (v : Int32) (σ1 : cS) (h : m_X1_remember o σ = some (v, σ1)) : Met l yX1_remember (ws_ yX1_remember cX1_remember 1 (Option.none : Option Jvm.ClassFile.FieldType)) ({ frames := 8, cells := σ.2 3 - σ.2 0, slots := σ.2 4 - σ.2 1, locals := 193 }) (CPc g A [.ref o] σ) (CQ g A (none) σ1) (σ.2 3 - σ.2 0) (σ.2 4 - σ.2 1) A := by
  refine Met.ofW (cc := cX1_remember) (maxL := 1) (ret := (Option.none : Option Jvm.ClassFile.FieldType)) (by decide) rfl ?_
  intro p e s m args below meth c s₁ B hml hv
  obtain ⟨rfl, hw, hσ⟩ := hv
  have hts := atoms_spec (ws := (ws_ yX1_remember cX1_remember 1 (Option.none : Option Jvm.ClassFile.FieldType))) B.pre
  have C : CX p m meth c s ([.ref o] : List Value).toArray cX1_remember 1 (Option.none : Option Jvm.ClassFile.FieldType) RX1 := ⟨⟨B.exec, B.bytes, hml, findClass_of_methodNamed B.named, fun w h => hts w (List.mem_cons_of_mem _ h)⟩, B.returns, B.notSynchronized⟩
  have e3 : σ.2 3 - σ.2 0 = g.2.2.1 3 - s.heap.size := by rw [hσ.1, hσ.2.2.2.1 3 (by decide)]
  have e4 : σ.2 4 - σ.2 1 = g.2.2.1 4 - hsl s.heap := by rw [hσ.2.1, hσ.2.2.2.1 4 (by decide)]
  have hR : RM g s (headSpec (ws_ yX1_remember cX1_remember 1 (Option.none : Option Jvm.ClassFile.FieldType)) ({ frames := 8, cells := σ.2 3 - σ.2 0, slots := σ.2 4 - σ.2 1, locals := 193 })).room (8) (193) := ⟨⟨Nat.le_refl _, Nat.le_refl _⟩, Nat.le_of_eq e3.symm, Nat.le_of_eq e4.symm⟩
  generalize (headSpec (ws_ yX1_remember cX1_remember 1 (Option.none : Option Jvm.ClassFile.FieldType)) ({ frames := 8, cells := σ.2 3 - σ.2 0, slots := σ.2 4 - σ.2 1, locals := 193 })).room = R at hR ⊢
  rw [e3, e4]
  have hI : CI g A s σ s.heap [] := ⟨hσ, va_S.rf, Nat.le_refl _⟩
  have hl := lv_entry ([.ref o]) (n := 1) (Nat.le_of_ble_eq_true rfl)
  rw [lg_entry_eq]
  generalize (lg_sl ([.ref o]) ++ List.replicate (1 - (lg_sl ([.ref o])).length) Slot.unset).toArray = ls at hl ⊢
  have hl : lv_has ls 1 [(0, .ref o)] := hl
  obtain ⟨z, hz⟩ : ∃ z, z = (v, σ1) := ⟨_, rfl⟩
  rw [← hz] at h
  rw [show σ1 = z.2 by rw [hz]]
  clear hz v σ1
  refine W.narrow ?_
  unfold m_X1_remember at h
  refine r_aload_n (x := some o) C.x C.b dX1_remember_0 rfl (lv_at hl 0 rfl) ?_
  refine r_aload_n (x := some o) C.x C.b dX1_remember_1 rfl (lv_at hl 0 rfl) ?_
  refine cw_gR (r := some o) 0 0 C hw hI h (by decide) rfl in_X1 (by decide) (C.t _ q1172) (fun _ h9 => h9) dX1_remember_2 (fun v_1 h => ?_)
  refine cw_callV (y := yX4_duplicate) (bytes := cX4_duplicate) (maxL := 3) (r := v_1) (f := fun a_4 => m_X4_duplicate a_4 σ) 1 (fun v => some (va_rf v)) [] C hw hR hI hl.1 h (by decide) rfl (fun aa vv ss ee => k_X4_duplicate l g A aa σ vv ss ee) (cwV 0 C.t (lw_V q1359 q1360 q1361 q150 q1362) rfl rfl rfl (by decide +kernel) ⟨Nat.le_trans (Nat.le_of_ble_eq_true rfl) hR.f, Nat.le_trans (Nat.le_of_ble_eq_true rfl) hR.lo⟩) rfl rfl (Nat.le_of_ble_eq_true rfl) dX1_remember_5 (fun v_2 σ_3 H locs h hI => ?_)
  refine cw_callV (y := yX1_keep) (bytes := cX1_keep) (maxL := 2) (r := some o) (f := fun a_6 => m_X1_keep a_6 v_2 σ_3) 0 (fun _ => none) [va_rf v_2] C hw hR hI hl.1 h (by decide) rfl (fun aa vv ss ee => k_X1_keep l g A aa v_2 σ_3 vv ss ee) (cwV 1 C.t (lw_V q1964 q1966 qs50 q126 q1967) rfl rfl rfl (by decide +kernel) ⟨Nat.le_trans (Nat.le_of_ble_eq_true rfl) hR.f, Nat.le_trans (Nat.le_of_ble_eq_true rfl) hR.lo⟩) rfl rfl (Nat.le_of_ble_eq_true rfl) dX1_remember_8 (fun _ σ_5 H locs h hI => ?_)
  exact cw_vret C hI h dX1_remember_11

theorem k_X1_dropRule (l : Launch) (hl0 : l.stackTraces = false) (g : cG) (A : Nat → Prop) (o : Nat) (x1 : Int32) (σ : cS) (z : (cX (Int32)) × cS) (h : m_X1_dropRule o x1 σ = some z) : MetX l yX1_dropRule (ws_ yX1_dropRule cX1_dropRule 2 (Option.some Jvm.ClassFile.FieldType.int)) ({ frames := 10, cells := σ.2 3 - σ.2 0, slots := σ.2 4 - σ.2 1, locals := 213 }) g A [.ref o, .int x1] σ (fun v => some (.int v)) z (σ.2 3 - σ.2 0) (σ.2 4 - σ.2 1) := by
  refine metx_of (cc := cX1_dropRule) (maxL := 2) (ret := (Option.some Jvm.ClassFile.FieldType.int)) (by decide) rfl ?_
  intro p e s m args below meth c s₁ B hml hx hv
  obtain ⟨rfl, hw, hσ⟩ := hv
  have hts := atoms_spec (ws := (ws_ yX1_dropRule cX1_dropRule 2 (Option.some Jvm.ClassFile.FieldType.int))) B.pre
  have C : CX p m meth c s ([.ref o, .int x1] : List Value).toArray cX1_dropRule 2 (Option.some Jvm.ClassFile.FieldType.int) RX1 := ⟨⟨B.exec, B.bytes, hml, findClass_of_methodNamed B.named, fun w h => hts w (List.mem_cons_of_mem _ h)⟩, B.returns, B.notSynchronized⟩
  have e3 : σ.2 3 - σ.2 0 = g.2.2.1 3 - s.heap.size := by rw [hσ.1, hσ.2.2.2.1 3 (by decide)]
  have e4 : σ.2 4 - σ.2 1 = g.2.2.1 4 - hsl s.heap := by rw [hσ.2.1, hσ.2.2.2.1 4 (by decide)]
  have hR : RM g s (headSpec (ws_ yX1_dropRule cX1_dropRule 2 (Option.some Jvm.ClassFile.FieldType.int)) ({ frames := 10, cells := σ.2 3 - σ.2 0, slots := σ.2 4 - σ.2 1, locals := 213 })).room (10) (213) := ⟨⟨Nat.le_refl _, Nat.le_refl _⟩, Nat.le_of_eq e3.symm, Nat.le_of_eq e4.symm⟩
  generalize (headSpec (ws_ yX1_dropRule cX1_dropRule 2 (Option.some Jvm.ClassFile.FieldType.int)) ({ frames := 10, cells := σ.2 3 - σ.2 0, slots := σ.2 4 - σ.2 1, locals := 213 })).room = R at hR ⊢
  rw [e3, e4]
  have hI : CI g A s σ s.heap [] := ⟨hσ, va_S.rf, Nat.le_refl _⟩
  have hl := lv_entry ([.ref o, .int x1]) (n := 2) (Nat.le_of_ble_eq_true rfl)
  rw [lg_entry_eq]
  generalize (lg_sl ([.ref o, .int x1]) ++ List.replicate (2 - (lg_sl ([.ref o, .int x1])).length) Slot.unset).toArray = ls at hl ⊢
  have hl : lv_has ls 2 [(0, .ref o), (1, .int x1)] := hl
  refine W.narrow ?_
  unfold m_X1_dropRule at h
  refine r_aload_n (x := some o) C.x C.b dX1_dropRule_0 rfl (lv_at hl 0 rfl) ?_
  refine lv_iload_n C.x C.b dX1_dropRule_1 rfl (lv_at hl 1 rfl) ?_
  refine cx_callV (y := yX1_ruleAt) (bytes := cX1_ruleAt) (maxL := 2) (r := some o) (f := fun a_3 => m_X1_ruleAt a_3 x1 σ) 0 (fun v => some (va_rf v)) [.int x1] C hx hw hR hI hl.1 h (by decide) rfl (fun aa uu ee => k_X1_ruleAt l hl0 g A aa x1 σ uu ee) (cwV 1 C.t (lw_V q1582 q1584 qs39 q126 q1585) rfl rfl rfl (by decide +kernel) ⟨Nat.le_trans (Nat.le_of_ble_eq_true rfl) hR.f, Nat.le_trans (Nat.le_of_ble_eq_true rfl) hR.lo⟩) rfl rfl (Nat.le_of_ble_eq_true rfl) dX1_dropRule_2 (fun v_1 σ_2 H locs h hI => ?_)
  refine lv_pop C.x C.b dX1_dropRule_5 (cat_rf _) ?_
  refine r_aload_n (x := some o) C.x C.b dX1_dropRule_6 rfl (lv_at hl 0 rfl) ?_
  refine cw_callV (y := yX1_remember) (bytes := cX1_remember) (maxL := 1) (r := some o) (f := fun a_5 => m_X1_remember a_5 σ_2) 0 (fun _ => none) [] C hw hR hI hl.1 h (by decide) rfl (fun aa vv ss ee => k_X1_remember l g A aa σ_2 vv ss ee) (cwV 0 C.t (lw_V q2005 q2007 qs53 q126 q2008) rfl rfl rfl (by decide +kernel) ⟨Nat.le_trans (Nat.le_of_ble_eq_true rfl) hR.f, Nat.le_trans (Nat.le_of_ble_eq_true rfl) hR.lo⟩) rfl rfl (Nat.le_of_ble_eq_true rfl) dX1_dropRule_7 (fun _ σ_4 H locs h hI => ?_)
  refine r_aload_n (x := some o) C.x C.b dX1_dropRule_10 rfl (lv_at hl 0 rfl) ?_
  refine cw_gR (r := some o) 0 0 C hw hI h (by decide) rfl in_X1 (by decide) (C.t _ q1172) (fun _ h9 => h9) dX1_dropRule_11 (fun v_6 h => ?_)
  refine lv_iload_n C.x C.b dX1_dropRule_14 rfl (lv_at hl 1 rfl) ?_
  refine cw_callV (y := yX4_drop) (bytes := cX4_drop) (maxL := 5) (r := v_6) (f := fun a_8 => m_X4_drop a_8 x1 σ_4) 1 (fun _ => none) [.int x1] C hw hR hI hl.1 h (by decide) rfl (fun aa vv ss ee => k_X4_drop l g A aa x1 σ_4 vv ss ee) (cwV 1 C.t (lw_V q1342 q1343 q1344 q150 q1345) rfl rfl rfl (by decide +kernel) ⟨Nat.le_trans (Nat.le_of_ble_eq_true rfl) hR.f, Nat.le_trans (Nat.le_of_ble_eq_true rfl) hR.lo⟩) rfl rfl (Nat.le_of_ble_eq_true rfl) dX1_dropRule_15 (fun _ σ_7 H locs h hI => ?_)
  refine r_aload_n (x := some o) C.x C.b dX1_dropRule_18 rfl (lv_at hl 0 rfl) ?_
  refine cw_gR (r := some o) 0 0 C hw hI h (by decide) rfl in_X1 (by decide) (C.t _ q1172) (fun _ h9 => h9) dX1_dropRule_19 (fun v_9 h => ?_)
  refine cw_gR (r := v_9) 1 4 C hw hI h (by decide) rfl in_X4 (by decide) (C.t _ q851) (fun _ h9 => h9) dX1_dropRule_22 (fun v_10 h => ?_)
  refine cw_callV (y := yJ18_size) (bytes := cJ18_size) (maxL := 1) (r := v_10) (f := fun a_13 => m_J18_size a_13 σ_7) 9 (fun v => some (.int v)) [] C hw hR hI hl.1 h (by decide) rfl (fun aa vv ss ee => k_J18_size l g A aa σ_7 vv ss ee) (cwV 0 C.t (lw_V q1339 q947 q948 q152 q949) rfl rfl rfl (by decide +kernel) ⟨Nat.le_trans (Nat.le_of_ble_eq_true rfl) hR.f, Nat.le_trans (Nat.le_of_ble_eq_true rfl) hR.lo⟩) rfl rfl (Nat.le_of_ble_eq_true rfl) dX1_dropRule_25 (fun v_11 σ_12 H locs h hI => ?_)
  exact uq_l h (fun y h => cw_iret C hI h dX1_dropRule_28)

end
