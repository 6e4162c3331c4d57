/-! THE CLASS' WALKS 23: printed by gencl.py -/
section
variable {p : Program} {l : Launch} {e : Env} {R : Room} {s : State} {m : MethodId} {args : Array Value} {below : List Frame} {meth : Method} {c : Code} {g : cG} {A : Nat → Prop}
set_option maxRecDepth 100000
theorem w_X4_find_64 {z : Option Nat × cS} {o : Nat} (C : CX p m meth c s args cX4_find 4 (Option.some (Jvm.ClassFile.FieldType.object "HeirCases$Finding")) RX4) (hw : WKc g A s s.heap) (hR : RM g s R (257) (6427)) {k15 : Option Nat → Int32 → cS → Option (Option Nat × cS)} (hk15 : ∀ (x2 : Option Nat) (x3 : Int32) (σ : cS) (H : Heap) (locs : List Loc) (ls : Array Slot), k15 x2 x3 σ = some z → CI g A s σ H locs → lv_has ls 4 [(0, .ref o), (2, va_rf x2), (3, .int x3)] → W p l e R s m args below meth c H locs (H.size - s.heap.size) (hsl H - hsl s.heap) (MQ below (CQ g A (some (va_rf z.1)) z.2) args s (g.2.2.1 3 - s.heap.size) (g.2.2.1 4 - hsl s.heap) A) (F0 m 15 ls [])) : ∀ (x2 : Option Nat) (x3 : Int32) (s0 : Option Nat) (s1 : Int32) (s2 : Int32) (σ : cS) (H : Heap) (locs : List Loc) (ls : Array Slot), b_X4_find_64 o k15 x2 x3 s0 s1 s2 σ = some z → CI g A s σ H locs → lv_has ls 4 [(0, .ref o), (2, va_rf x2), (3, .int x3)] → W p l e R s m args below meth c H locs (H.size - s.heap.size) (hsl H - hsl s.heap) (MQ below (CQ g A (some (va_rf z.1)) z.2) args s (g.2.2.1 3 - s.heap.size) (g.2.2.1 4 - hsl s.heap) A) (F0 m 64 ls [.int s2, .int s1, va_rf s0]) := by
  intro x2 x3 s0 s1 s2 σ H locs ls h hI hl
  unfold b_X4_find_64 at h
  refine lv_ior C.x C.b dX4_find_64 ?_
  refine cw_pO (r := s0) (v := (.int (s1 ||| s2))) (ty := .int) 3 1 C hw hI h (by decide) rfl in_X11 tyX11 tyX11_ok nmX11 (by decide) (C.t _ q1242) (fun _ h9 => h9) (Or.inl rfl) (by decide +kernel) rfl rfl dX4_find_65 (fun σ_1 H locs h hI => ?_)
  obtain ⟨x3_2, e_, h⟩ := nm_s h
  refine lv_iinc (v := x3_2) (lv' := [(3, .int x3_2), (0, .ref o), (2, va_rf x2)]) C.x C.b dX4_find_68 hl (k := 2) rfl e_.symm (by decide) (by first | (simp [List.filter, cat_rf, cat_i, cat_a, cat_n, cat_l, cat_f, cat_d]; done) | (simp [List.filter, cat_rf, cat_i, cat_a, cat_n, cat_l, cat_f, cat_d]; rfl)) (fun ls hl => ?_)
  refine lv_goto (tgt := 15) C.x C.b dX4_find_71 (by decide) ?_
  exact hk15 x2 x3_2 _ _ _ _ h hI (lv_sub hl [1, 2, 0] rfl)

theorem w_X4_find_84 {z : Option Nat × cS} {o : Nat} (C : CX p m meth c s args cX4_find 4 (Option.some (Jvm.ClassFile.FieldType.object "HeirCases$Finding")) RX4) (hw : WKc g A s s.heap) (hR : RM g s R (257) (6427))  : ∀ (n : Nat) (x2 : Option Nat) (x3 : Int32) (σ : cS) (H : Heap) (locs : List Loc) (ls : Array Slot), b_X4_find_84 o n x2 x3 σ = some z → CI g A s σ H locs → lv_has ls 4 [(0, .ref o), (2, va_rf x2), (3, .int x3)] → W p l e R s m args below meth c H locs (H.size - s.heap.size) (hsl H - hsl s.heap) (MQ below (CQ g A (some (va_rf z.1)) z.2) args s (g.2.2.1 3 - s.heap.size) (g.2.2.1 4 - hsl s.heap) A) (F0 m 84 ls []) := by
  intro n
  induction n with
  | zero =>
    intro x2 x3 σ H locs ls h
    cases h
  | succ n ih =>
    intro x2 x3 σ H locs ls h hI hl
    rw [b_X4_find_84] at h
    refine lv_iload_n C.x C.b dX4_find_84 rfl (lv_at hl 2 rfl) ?_
    refine r_aload_n (x := some o) C.x C.b dX4_find_85 rfl (lv_at hl 0 rfl) ?_
    refine cw_gR (r := some o) 1 4 C hw hI h (by decide) rfl in_X4 (by decide) (C.t _ q850) (fun _ h9 => h9) dX4_find_86 (fun v_1 h => ?_)
    refine cw_callV (y := yJ18_size) (bytes := cJ18_size) (maxL := 1) (r := v_1) (f := fun a_4 => m_J18_size a_4 σ) 9 (fun v => some (.int v)) [] C hw hR hI hl.1 h (by decide) rfl (fun aa vv ss ee => k_J18_size l g A aa σ vv ss ee) (cwV 0 C.t (lw_V q1262 q947 q948 q152 q949) rfl rfl rfl (by decide +kernel) ⟨Nat.le_trans (Nat.le_of_ble_eq_true rfl) hR.f, Nat.le_trans (Nat.le_of_ble_eq_true rfl) hR.lo⟩) rfl rfl (Nat.le_of_ble_eq_true rfl) dX4_find_89 (fun v_2 σ_3 H locs h hI => ?_)
    refine lv_icmp_ge (tgt := 138) C.x C.b dX4_find_92 (by decide) (fun c_5 => ?_) (fun c_5 => ?_)
    · have h := ip c_5 h
      refine r_aload_n (x := some o) C.x C.b dX4_find_138 rfl (lv_at hl 0 rfl) ?_
      refine r_aload_n (x := x2) C.x C.b dX4_find_139 rfl (lv_at hl 1 rfl) ?_
      refine cw_callV (y := yX4_judge) (bytes := cX4_judge) (maxL := 3) (r := some o) (f := fun a_7 => m_X4_judge a_7 x2 σ_3) 1 (fun _ => none) [va_rf x2] C hw hR hI hl.1 h (by decide) rfl (fun aa vv ss ee => k_X4_judge l g A aa x2 σ_3 vv ss ee) (cwV 1 C.t (lw_V q1315 q1317 qs25 q150 q1318) rfl rfl rfl (by decide +kernel) ⟨Nat.le_trans (Nat.le_of_ble_eq_true rfl) hR.f, Nat.le_trans (Nat.le_of_ble_eq_true rfl) hR.lo⟩) rfl rfl (Nat.le_of_ble_eq_true rfl) dX4_find_140 (fun _ σ_6 H locs h hI => ?_)
      refine r_aload_n (x := x2) C.x C.b dX4_find_143 rfl (lv_at hl 1 rfl) ?_
      exact cw_aret (x := x2) C (Or.inl ⟨_, rfl⟩) hI h dX4_find_144
    · have h := iN c_5 h
      refine r_aload_n (x := x2) C.x C.b dX4_find_95 rfl (lv_at hl 1 rfl) ?_
      refine cw_gI (r := x2) 3 1 C hw hI h (by decide) rfl in_X11 (by decide) (C.t _ q1242) (fun _ h9 => h9) dX4_find_96 (fun v_8 h => ?_)
      refine lv_iload_n C.x C.b dX4_find_99 rfl (lv_at hl 2 rfl) ?_
      refine lv_ishr C.x C.b dX4_find_100 ?_
      refine lv_iconst (v := 1) C.x C.b dX4_find_101 (by decide) ?_
      refine lv_iand C.x C.b dX4_find_102 ?_
      refine lv_iconst (v := 1) C.x C.b dX4_find_103 (by decide) ?_
      refine lv_icmp_ne (tgt := 132) C.x C.b dX4_find_104 (by decide) (fun c_9 => ?_) (fun c_9 => ?_)
      · have h := iN c_9 h
        obtain ⟨x3_10, e_, h⟩ := nm_s h
        refine lv_iinc (v := x3_10) (lv' := [(3, .int x3_10), (0, .ref o), (2, va_rf x2)]) C.x C.b dX4_find_132 hl (k := 2) rfl e_.symm (by decide) (by first | (simp [List.filter, cat_rf, cat_i, cat_a, cat_n, cat_l, cat_f, cat_d]; done) | (simp [List.filter, cat_rf, cat_i, cat_a, cat_n, cat_l, cat_f, cat_d]; rfl)) (fun ls hl => ?_)
        refine lv_goto (tgt := 84) C.x C.b dX4_find_135 (by decide) ?_
        exact ih x2 x3_10 _ _ _ _ h hI (lv_sub hl [1, 2, 0] rfl)
      · have h := ip c_9 h
        refine r_aload_n (x := x2) C.x C.b dX4_find_107 rfl (lv_at hl 1 rfl) ?_
        refine lv_dup C.x C.b dX4_find_108 (cat_rf _) ?_
        refine cw_gI (r := x2) 3 2 C hw hI h (by decide) rfl in_X11 (by decide) (C.t _ q1244) (fun _ h9 => h9) dX4_find_109 (fun v_11 h => ?_)
        refine r_aload_n (x := some o) C.x C.b dX4_find_112 rfl (lv_at hl 0 rfl) ?_
        refine cw_gR (r := some o) 1 4 C hw hI h (by decide) rfl in_X4 (by decide) (C.t _ q850) (fun _ h9 => h9) dX4_find_113 (fun v_12 h => ?_)
        refine lv_iload_n C.x C.b dX4_find_116 rfl (lv_at hl 2 rfl) ?_
        refine cw_callV (y := yJ18_get) (bytes := cJ18_get) (maxL := 2) (r := v_12) (f := fun a_15 => m_J18_get a_15 x3 σ_3) 9 (fun v => some (va_rf v)) [.int x3] C hw hR hI hl.1 h (by decide) rfl (fun aa vv ss ee => k_J18_get l g A aa x3 σ_3 vv ss ee) (cwV 1 C.t (lw_V q1263 q1264 q1265 q152 q1266) rfl rfl rfl (by decide +kernel) ⟨Nat.le_trans (Nat.le_of_ble_eq_true rfl) hR.f, Nat.le_trans (Nat.le_of_ble_eq_true rfl) hR.lo⟩) rfl rfl (Nat.le_of_ble_eq_true rfl) dX4_find_117 (fun v_13 σ_14 H locs h hI => ?_)
        refine cw_cast (r := v_13) 2 C hw hI h (by decide) rfl q1275 dX4_find_120 (fun h => ?_)
        refine cw_gI (r := v_13) 2 3 C hw hI h (by decide) rfl in_X9 (by decide) (C.t _ q1110) (fun _ h9 => h9) dX4_find_123 (fun v_16 h => ?_)
        refine lv_iconst (v := -1) C.x C.b dX4_find_126 (by decide) ?_
        refine lv_ixor C.x C.b dX4_find_127 ?_
        refine lv_iand C.x C.b dX4_find_128 ?_
        refine cw_pO (r := x2) (v := (.int (v_11 &&& (v_16 ^^^ (-1))))) (ty := .int) 3 2 C hw hI h (by decide) rfl in_X11 tyX11 tyX11_ok nmX11 (by decide) (C.t _ q1244) (fun _ h9 => h9) (Or.inl rfl) (by decide +kernel) rfl rfl dX4_find_129 (fun σ_17 H locs h hI => ?_)
        obtain ⟨x3_18, e_, h⟩ := nm_s h
        refine lv_iinc (v := x3_18) (lv' := [(3, .int x3_18), (0, .ref o), (2, va_rf x2)]) C.x C.b dX4_find_132 hl (k := 2) rfl e_.symm (by decide) (by first | (simp [List.filter, cat_rf, cat_i, cat_a, cat_n, cat_l, cat_f, cat_d]; done) | (simp [List.filter, cat_rf, cat_i, cat_a, cat_n, cat_l, cat_f, cat_d]; rfl)) (fun ls hl => ?_)
        refine lv_goto (tgt := 84) C.x C.b dX4_find_135 (by decide) ?_
        exact ih x2 x3_18 _ _ _ _ h hI (lv_sub hl [1, 2, 0] rfl)

theorem w_X4_find_15 {z : Option Nat × cS} {o : Nat} (C : CX p m meth c s args cX4_find 4 (Option.some (Jvm.ClassFile.FieldType.object "HeirCases$Finding")) RX4) (hw : WKc g A s s.heap) (hR : RM g s R (257) (6427))  : ∀ (n : Nat) (x2 : Option Nat) (x3 : Int32) (σ : cS) (H : Heap) (locs : List Loc) (ls : Array Slot), b_X4_find_15 o n x2 x3 σ = some z → CI g A s σ H locs → lv_has ls 4 [(0, .ref o), (2, va_rf x2), (3, .int x3)] → W p l e R s m args below meth c H locs (H.size - s.heap.size) (hsl H - hsl s.heap) (MQ below (CQ g A (some (va_rf z.1)) z.2) args s (g.2.2.1 3 - s.heap.size) (g.2.2.1 4 - hsl s.heap) A) (F0 m 15 ls []) := by
  intro n
  induction n with
  | zero =>
    intro x2 x3 σ H locs ls h
    cases h
  | succ n ih =>
    intro x2 x3 σ H locs ls h hI hl
    rw [b_X4_find_15] at h
    refine lv_iload_n C.x C.b dX4_find_15 rfl (lv_at hl 2 rfl) ?_
    refine r_aload_n (x := some o) C.x C.b dX4_find_16 rfl (lv_at hl 0 rfl) ?_
    refine cw_gR (r := some o) 1 4 C hw hI h (by decide) rfl in_X4 (by decide) (C.t _ q850) (fun _ h9 => h9) dX4_find_17 (fun v_1 h => ?_)
    refine cw_callV (y := yJ18_size) (bytes := cJ18_size) (maxL := 1) (r := v_1) (f := fun a_4 => m_J18_size a_4 σ) 9 (fun v => some (.int v)) [] C hw hR hI hl.1 h (by decide) rfl (fun aa vv ss ee => k_J18_size l g A aa σ vv ss ee) (cwV 0 C.t (lw_V q1262 q947 q948 q152 q949) rfl rfl rfl (by decide +kernel) ⟨Nat.le_trans (Nat.le_of_ble_eq_true rfl) hR.f, Nat.le_trans (Nat.le_of_ble_eq_true rfl) hR.lo⟩) rfl rfl (Nat.le_of_ble_eq_true rfl) dX4_find_20 (fun v_2 σ_3 H locs h hI => ?_)
    refine lv_icmp_ge (tgt := 74) C.x C.b dX4_find_23 (by decide) (fun c_5 => ?_) (fun c_5 => ?_)
    · have h := ip c_5 h
      refine r_aload_n (x := x2) C.x C.b dX4_find_74 rfl (lv_at hl 1 rfl) ?_
      refine r_aload_n (x := x2) C.x C.b dX4_find_75 rfl (lv_at hl 1 rfl) ?_
      refine cw_gI (r := x2) 3 1 C hw hI h (by decide) rfl in_X11 (by decide) (C.t _ q1242) (fun _ h9 => h9) dX4_find_76 (fun v_6 h => ?_)
      refine cw_pO (r := x2) (v := (.int v_6)) (ty := .int) 3 2 C hw hI h (by decide) rfl in_X11 tyX11 tyX11_ok nmX11 (by decide) (C.t _ q1244) (fun _ h9 => h9) (Or.inl rfl) (by decide +kernel) rfl rfl dX4_find_79 (fun σ_7 H locs h hI => ?_)
      refine lv_iconst (v := 0) C.x C.b dX4_find_82 (by decide) ?_
      refine lv_istore_n (i := 3) (lv' := [(3, .int 0), (0, .ref o), (2, va_rf x2)]) C.x C.b dX4_find_83 rfl hl (by decide) (by first | (simp [List.filter, cat_rf, cat_i, cat_a, cat_n, cat_l, cat_f, cat_d]; done) | (simp [List.filter, cat_rf, cat_i, cat_a, cat_n, cat_l, cat_f, cat_d]; rfl)) (fun ls hl => ?_)
      exact w_X4_find_84 C hw hR _ x2 0 _ _ _ _ h hI (lv_sub hl [1, 2, 0] rfl)
    · have h := iN c_5 h
      refine r_aload_n (x := x2) C.x C.b dX4_find_26 rfl (lv_at hl 1 rfl) ?_
      refine lv_dup C.x C.b dX4_find_27 (cat_rf _) ?_
      refine cw_gI (r := x2) 3 1 C hw hI h (by decide) rfl in_X11 (by decide) (C.t _ q1242) (fun _ h9 => h9) dX4_find_28 (fun v_8 h => ?_)
      refine r_aload_n (x := some o) C.x C.b dX4_find_31 rfl (lv_at hl 0 rfl) ?_
      refine cw_gR (r := some o) 1 4 C hw hI h (by decide) rfl in_X4 (by decide) (C.t _ q850) (fun _ h9 => h9) dX4_find_32 (fun v_9 h => ?_)
      refine lv_iload_n C.x C.b dX4_find_35 rfl (lv_at hl 2 rfl) ?_
      refine cw_callV (y := yJ18_get) (bytes := cJ18_get) (maxL := 2) (r := v_9) (f := fun a_12 => m_J18_get a_12 x3 σ_3) 9 (fun v => some (va_rf v)) [.int x3] C hw hR hI hl.1 h (by decide) rfl (fun aa vv ss ee => k_J18_get l g A aa x3 σ_3 vv ss ee) (cwV 1 C.t (lw_V q1263 q1264 q1265 q152 q1266) rfl rfl rfl (by decide +kernel) ⟨Nat.le_trans (Nat.le_of_ble_eq_true rfl) hR.f, Nat.le_trans (Nat.le_of_ble_eq_true rfl) hR.lo⟩) rfl rfl (Nat.le_of_ble_eq_true rfl) dX4_find_36 (fun v_10 σ_11 H locs h hI => ?_)
      refine cw_cast (r := v_10) 2 C hw hI h (by decide) rfl q1275 dX4_find_39 (fun h => ?_)
      refine cw_gR (r := v_10) 2 0 C hw hI h (by decide) rfl in_X9 (by decide) (C.t _ q1102) (fun _ h9 => h9) dX4_find_42 (fun v_13 h => ?_)
      refine r_aload_n (x := x2) C.x C.b dX4_find_45 rfl (lv_at hl 1 rfl) ?_
      refine cw_gR (r := x2) 3 0 C hw hI h (by decide) rfl in_X11 (by decide) (C.t _ q1240) (fun _ h9 => h9) dX4_find_46 (fun v_14 h => ?_)
      refine cw_callF (x := ⟨"HeirCases$Guard", "holds", "([I)Z"⟩) (r := v_13) (f := fun a_17 => dv_holds DPC a_17 v_14 σ_11) (fun v => some (.int v)) [va_rf v_14] C hw hR hI hl.1 h (fun aa vv ss ee => (kd_holdsD l g A aa v_14 σ_11 vv ss ee).elim (fun qq => ⟨4, qq.1, _, yX7_holds, cX7_holds, 2, (Option.some Jvm.ClassFile.FieldType.boolean), _, _, by decide, rfl, qq.2, Or.inl (va_cwF 1 C.t (lw_app (mem4 q1277 q1295 q1297 q155) (lw_meth q1299)) rfl rfl rfl (hw.2.2.2.2.2.2.2.2.2.1 _ (List.mem_of_getElem? (i := 5) rfl)) (by decide +kernel) ⟨Nat.le_trans (Nat.le_of_ble_eq_true rfl) hR.f, Nat.le_trans (Nat.le_of_ble_eq_true rfl) hR.lo⟩)⟩) (fun hh => hh.elim (fun qq => ⟨5, qq.1, _, yX8_holds, cX8_holds, 4, (Option.some Jvm.ClassFile.FieldType.boolean), _, _, by decide, rfl, qq.2, Or.inl (va_cwF 1 C.t (lw_app (mem4 q1277 q1305 q1307 q156) (lw_meth q1309)) rfl rfl rfl (hw.2.2.2.2.2.2.2.2.2.1 _ (List.mem_of_getElem? (i := 7) rfl)) (by decide +kernel) ⟨Nat.le_trans (Nat.le_of_ble_eq_true rfl) hR.f, Nat.le_trans (Nat.le_of_ble_eq_true rfl) hR.lo⟩)⟩) (fun hh => hh.elim (fun qq => ⟨6, qq.1, _, yX5_holds, cX5_holds, 2, (Option.some Jvm.ClassFile.FieldType.boolean), _, _, by decide, rfl, qq.2, Or.inl (va_cwF 1 C.t (lw_app (mem4 q1277 q1287 q1289 q153) (lw_meth q1291)) rfl rfl rfl (hw.2.2.2.2.2.2.2.2.2.1 _ (List.mem_of_getElem? (i := 9) rfl)) (by decide +kernel) ⟨Nat.le_trans (Nat.le_of_ble_eq_true rfl) hR.f, Nat.le_trans (Nat.le_of_ble_eq_true rfl) hR.lo⟩)⟩) (fun qq => ⟨7, qq.1, _, yX6_holds, cX6_holds, 2, (Option.some Jvm.ClassFile.FieldType.boolean), _, _, by decide, rfl, qq.2, Or.inl (va_cwF 1 C.t (lw_app (mem4 q1277 q1281 q1283 q154) (lw_meth q1285)) rfl rfl rfl (hw.2.2.2.2.2.2.2.2.2.1 _ (List.mem_of_getElem? (i := 11) rfl)) (by decide +kernel) ⟨Nat.le_trans (Nat.le_of_ble_eq_true rfl) hR.f, Nat.le_trans (Nat.le_of_ble_eq_true rfl) hR.lo⟩)⟩)))) rfl rfl (Nat.le_of_ble_eq_true rfl) dX4_find_49 (fun v_15 σ_16 H locs h hI => ?_)
      refine lv_if_eq (tgt := 63) C.x C.b dX4_find_54 (by decide) (fun c_18 => ?_) (fun c_18 => ?_)
      · have h := ip c_18 h
        refine lv_iconst (v := 0) C.x C.b dX4_find_63 (by decide) ?_
        exact w_X4_find_64 C hw hR (fun y0 y1 σ H locs ls h hI hl => ih y0 y1 σ H locs ls h hI hl) x2 x3 x2 v_8 0 _ _ _ _ h hI (lv_sub hl [0, 1, 2] rfl)
      · have h := iN c_18 h
        refine lv_iconst (v := 1) C.x C.b dX4_find_57 (by decide) ?_
        refine lv_iload_n C.x C.b dX4_find_58 rfl (lv_at hl 2 rfl) ?_
        refine lv_ishl C.x C.b dX4_find_59 ?_
        refine lv_goto (tgt := 64) C.x C.b dX4_find_60 (by decide) ?_
        exact w_X4_find_64 C hw hR (fun y0 y1 σ H locs ls h hI hl => ih y0 y1 σ H locs ls h hI hl) x2 x3 x2 v_8 (1 <<< (x3 &&& 31)) _ _ _ _ h hI (lv_sub hl [0, 1, 2] rfl)

theorem k_X4_find (l : Launch) (g : cG) (A : Nat → Prop) (o : Nat) (x1 : Int32) (σ : cS) (v : Option Nat) (σ1 : cS) (h : m_X4_find o x1 σ = some (v, σ1)) : Met l yX4_find (ws_ yX4_find cX4_find 4 (Option.some (Jvm.ClassFile.FieldType.object "HeirCases$Finding"))) ({ frames := 257, cells := σ.2 3 - σ.2 0, slots := σ.2 4 - σ.2 1, locals := 6427 }) (CPc g A [.ref o, .int x1] σ) (CQ g A (some (va_rf v)) σ1) (σ.2 3 - σ.2 0) (σ.2 4 - σ.2 1) A := by
  refine Met.ofW (cc := cX4_find) (maxL := 4) (ret := (Option.some (Jvm.ClassFile.FieldType.object "HeirCases$Finding"))) (by decide) rfl ?_
  intro p e s m args below meth c s₁ B hml hv
  obtain ⟨rfl, hw, hσ⟩ := hv
  have hts := atoms_spec (ws := (ws_ yX4_find cX4_find 4 (Option.some (Jvm.ClassFile.FieldType.object "HeirCases$Finding")))) B.pre
  have C : CX p m meth c s ([.ref o, .int x1] : List Value).toArray cX4_find 4 (Option.some (Jvm.ClassFile.FieldType.object "HeirCases$Finding")) RX4 := ⟨⟨B.exec, B.bytes, hml, findClass_of_methodNamed B.named, fun w h => hts w (List.mem_cons_of_mem _ h)⟩, B.returns, B.notSynchronized⟩
  have e3 : σ.2 3 - σ.2 0 = g.2.2.1 3 - s.heap.size := by rw [hσ.1, hσ.2.2.2.1 3 (by decide)]
  have e4 : σ.2 4 - σ.2 1 = g.2.2.1 4 - hsl s.heap := by rw [hσ.2.1, hσ.2.2.2.1 4 (by decide)]
  have hR : RM g s (headSpec (ws_ yX4_find cX4_find 4 (Option.some (Jvm.ClassFile.FieldType.object "HeirCases$Finding"))) ({ frames := 257, cells := σ.2 3 - σ.2 0, slots := σ.2 4 - σ.2 1, locals := 6427 })).room (257) (6427) := ⟨⟨Nat.le_refl _, Nat.le_refl _⟩, Nat.le_of_eq e3.symm, Nat.le_of_eq e4.symm⟩
  generalize (headSpec (ws_ yX4_find cX4_find 4 (Option.some (Jvm.ClassFile.FieldType.object "HeirCases$Finding"))) ({ frames := 257, cells := σ.2 3 - σ.2 0, slots := σ.2 4 - σ.2 1, locals := 6427 })).room = R at hR ⊢
  rw [e3, e4]
  have hI : CI g A s σ s.heap [] := ⟨hσ, va_S.rf, Nat.le_refl _⟩
  have hl := lv_entry ([.ref o, .int x1]) (n := 4) (Nat.le_of_ble_eq_true rfl)
  rw [lg_entry_eq]
  generalize (lg_sl ([.ref o, .int x1]) ++ List.replicate (4 - (lg_sl ([.ref o, .int x1])).length) Slot.unset).toArray = ls at hl ⊢
  have hl : lv_has ls 4 [(0, .ref o), (1, .int x1)] := hl
  obtain ⟨z, hz⟩ : ∃ z, z = (v, σ1) := ⟨_, rfl⟩
  rw [← hz] at h
  rw [show v = z.1 by rw [hz], show σ1 = z.2 by rw [hz]]
  clear hz v σ1
  refine W.narrow ?_
  unfold m_X4_find at h
  refine cw_new (T := TX11) (N := 5) 3 C hw hI hR.2.1 hR.2.2 h (by decide) rfl in_X11 tyX11 tyX11_ok (fun j hj => match j, hj with | 0, _ => rfl | 1, _ => rfl | 2, _ => rfl | 3, _ => rfl | 4, _ => rfl | j + 5, hj => absurd hj (Nat.not_lt_of_le (Nat.le_add_left _ _))) q836 q1230 q163 dX4_find_0 (fun q_1 σ_2 H locs h hI => ?_)
  refine lv_dup C.x C.b dX4_find_3 rfl ?_
  refine r_aload_n (x := some o) C.x C.b dX4_find_4 rfl (lv_at hl 0 rfl) ?_
  refine lv_iload_n C.x C.b dX4_find_5 rfl (lv_at hl 1 rfl) ?_
  refine cw_callV (y := yX4_valuesOf) (bytes := cX4_valuesOf) (maxL := 5) (r := some o) (f := fun a_5 => m_X4_valuesOf a_5 x1 σ_2) 1 (fun v => some (va_rf v)) [.int x1] C hw hR hI hl.1 h (by decide) rfl (fun aa vv ss ee => k_X4_valuesOf l g A aa x1 σ_2 vv ss ee) (cwV 1 C.t (lw_V q1231 q1232 q1233 q150 q1234) rfl rfl rfl (by decide +kernel) ⟨Nat.le_trans (Nat.le_of_ble_eq_true rfl) hR.f, Nat.le_trans (Nat.le_of_ble_eq_true rfl) hR.lo⟩) rfl rfl (Nat.le_of_ble_eq_true rfl) dX4_find_6 (fun v_3 σ_4 H locs h hI => ?_)
  refine cw_callI (y := yX11_init) (bytes := cX11_init) (maxL := 2) (b := q_1) [va_rf v_3] C hw hR hI hl.1 h (fun vv ss ee => k_X11_init l g A q_1 v_3 σ_4 vv ss ee) (cwI 1 C.t (lw_meth q1237) rfl rfl rfl (C.t _ q163) (C.t _ q1235) (C.t _ q1236) rfl (by decide +kernel) ⟨Nat.le_trans (Nat.le_of_ble_eq_true rfl) hR.f, Nat.le_trans (Nat.le_of_ble_eq_true rfl) hR.lo⟩) rfl rfl (Nat.le_of_ble_eq_true rfl) dX4_find_9 (fun σ_6 _ H locs h hI => ?_)
  refine r_astore_n (i := 2) (x := some q_1) (lv' := [(2, .ref q_1), (0, .ref o), (1, .int x1)]) C.x C.b dX4_find_12 rfl hl (by decide) (by rfl) (fun ls hl => ?_)
  refine lv_iconst (v := 0) C.x C.b dX4_find_13 (by decide) ?_
  refine lv_istore_n (i := 3) (lv' := [(3, .int 0), (2, .ref q_1), (0, .ref o), (1, .int x1)]) C.x C.b dX4_find_14 rfl hl (by decide) rfl (fun ls hl => ?_)
  exact w_X4_find_15 C hw hR _ (some q_1) 0 _ _ _ _ h hI (lv_sub hl [2, 1, 0] rfl)

theorem w_X4_look_20 {z : Option Nat × cS} {o : Nat} (C : CX p m meth c s args cX4_look 2 (Option.some (Jvm.ClassFile.FieldType.object "HeirCases$Finding")) RX4) (hw : WKc g A s s.heap) (hR : RM g s R (258) (6450))  : ∀ (x1 : Int32) (σ : cS) (H : Heap) (locs : List Loc) (ls : Array Slot), b_X4_look_20 o x1 σ = some z → CI g A s σ H locs → lv_has ls 2 [(0, .ref o), (1, .int x1)] → W p l e R s m args below meth c H locs (H.size - s.heap.size) (hsl H - hsl s.heap) (MQ below (CQ g A (some (va_rf z.1)) z.2) args s (g.2.2.1 3 - s.heap.size) (g.2.2.1 4 - hsl s.heap) A) (F0 m 20 ls []) := by
  intro x1 σ H locs ls h hI hl
  unfold b_X4_look_20 at h
  refine r_aload_n (x := some o) C.x C.b dX4_look_20 rfl (lv_at hl 0 rfl) ?_
  refine cw_gR (r := some o) 1 5 C hw hI h (by decide) rfl in_X4 (by decide) (C.t _ q853) (fun _ h9 => h9) dX4_look_21 (fun v_1 h => ?_)
  refine lv_iload_n C.x C.b dX4_look_24 rfl (lv_at hl 1 rfl) ?_
  refine cw_rld (r := v_1) C hw hI h dX4_look_25 (fun v_2 h => ?_)
  exact cw_aret (x := v_2) C (Or.inl ⟨_, rfl⟩) hI h dX4_look_26

theorem k_X4_look (l : Launch) (g : cG) (A : Nat → Prop) (o : Nat) (x1 : Int32) (σ : cS) (v : Option Nat) (σ1 : cS) (h : m_X4_look o x1 σ = some (v, σ1)) : Met l yX4_look (ws_ yX4_look cX4_look 2 (Option.some (Jvm.ClassFile.FieldType.object "HeirCases$Finding"))) ({ frames := 258, cells := σ.2 3 - σ.2 0, slots := σ.2 4 - σ.2 1, locals := 6450 }) (CPc g A [.ref o, .int x1] σ) (CQ g A (some (va_rf v)) σ1) (σ.2 3 - σ.2 0) (σ.2 4 - σ.2 1) A := by
  refine Met.ofW (cc := cX4_look) (maxL := 2) (ret := (Option.some (Jvm.ClassFile.FieldType.object "HeirCases$Finding"))) (by decide) rfl ?_
  intro p e s m args below meth c s₁ B hml hv
  obtain ⟨rfl, hw, hσ⟩ := hv
  have hts := atoms_spec (ws := (ws_ yX4_look cX4_look 2 (Option.some (Jvm.ClassFile.FieldType.object "HeirCases$Finding")))) B.pre
  have C : CX p m meth c s ([.ref o, .int x1] : List Value).toArray cX4_look 2 (Option.some (Jvm.ClassFile.FieldType.object "HeirCases$Finding")) RX4 := ⟨⟨B.exec, B.bytes, hml, findClass_of_methodNamed B.named, fun w h => hts w (List.mem_cons_of_mem _ h)⟩, B.returns, B.notSynchronized⟩
  have e3 : σ.2 3 - σ.2 0 = g.2.2.1 3 - s.heap.size := by rw [hσ.1, hσ.2.2.2.1 3 (by decide)]
  have e4 : σ.2 4 - σ.2 1 = g.2.2.1 4 - hsl s.heap := by rw [hσ.2.1, hσ.2.2.2.1 4 (by decide)]
  have hR : RM g s (headSpec (ws_ yX4_look cX4_look 2 (Option.some (Jvm.ClassFile.FieldType.object "HeirCases$Finding"))) ({ frames := 258, cells := σ.2 3 - σ.2 0, slots := σ.2 4 - σ.2 1, locals := 6450 })).room (258) (6450) := ⟨⟨Nat.le_refl _, Nat.le_refl _⟩, Nat.le_of_eq e3.symm, Nat.le_of_eq e4.symm⟩
  generalize (headSpec (ws_ yX4_look cX4_look 2 (Option.some (Jvm.ClassFile.FieldType.object "HeirCases$Finding"))) ({ frames := 258, cells := σ.2 3 - σ.2 0, slots := σ.2 4 - σ.2 1, locals := 6450 })).room = R at hR ⊢
  rw [e3, e4]
  have hI : CI g A s σ s.heap [] := ⟨hσ, va_S.rf, Nat.le_refl _⟩
  have hl := lv_entry ([.ref o, .int x1]) (n := 2) (Nat.le_of_ble_eq_true rfl)
  rw [lg_entry_eq]
  generalize (lg_sl ([.ref o, .int x1]) ++ List.replicate (2 - (lg_sl ([.ref o, .int x1])).length) Slot.unset).toArray = ls at hl ⊢
  have hl : lv_has ls 2 [(0, .ref o), (1, .int x1)] := hl
  obtain ⟨z, hz⟩ : ∃ z, z = (v, σ1) := ⟨_, rfl⟩
  rw [← hz] at h
  rw [show v = z.1 by rw [hz], show σ1 = z.2 by rw [hz]]
  clear hz v σ1
  refine W.narrow ?_
  unfold m_X4_look at h
  refine r_aload_n (x := some o) C.x C.b dX4_look_0 rfl (lv_at hl 0 rfl) ?_
  refine cw_gR (r := some o) 1 5 C hw hI h (by decide) rfl in_X4 (by decide) (C.t _ q853) (fun _ h9 => h9) dX4_look_1 (fun v_1 h => ?_)
  refine lv_iload_n C.x C.b dX4_look_4 rfl (lv_at hl 1 rfl) ?_
  refine cw_rld (r := v_1) C hw hI h dX4_look_5 (fun v_2 h => ?_)
  refine r_ifnonnull (x := v_2) (tgt := 20) C.x C.b dX4_look_6 (by decide) (fun c_3 => ?_) (fun c_3 => ?_)
  · have h := iN c_3 h
    exact w_X4_look_20 C hw hR x1 _ _ _ _ h hI (lv_sub hl [0, 1] rfl)
  · have h := ip c_3 h
    refine r_aload_n (x := some o) C.x C.b dX4_look_9 rfl (lv_at hl 0 rfl) ?_
    refine cw_gR (r := some o) 1 5 C hw hI h (by decide) rfl in_X4 (by decide) (C.t _ q853) (fun _ h9 => h9) dX4_look_10 (fun v_4 h => ?_)
    refine lv_iload_n C.x C.b dX4_look_13 rfl (lv_at hl 1 rfl) ?_
    refine r_aload_n (x := some o) C.x C.b dX4_look_14 rfl (lv_at hl 0 rfl) ?_
    refine lv_iload_n C.x C.b dX4_look_15 rfl (lv_at hl 1 rfl) ?_
    refine cw_callV (y := yX4_find) (bytes := cX4_find) (maxL := 4) (r := some o) (f := fun a_7 => m_X4_find a_7 x1 σ) 1 (fun v => some (va_rf v)) [.int x1] C hw hR hI hl.1 h (by decide) rfl (fun aa vv ss ee => k_X4_find l g A aa x1 σ vv ss ee) (cwV 1 C.t (lw_V q1226 q1228 qs24 q150 q1229) rfl rfl rfl (by decide +kernel) ⟨Nat.le_trans (Nat.le_of_ble_eq_true rfl) hR.f, Nat.le_trans (Nat.le_of_ble_eq_true rfl) hR.lo⟩) rfl rfl (Nat.le_of_ble_eq_true rfl) dX4_look_16 (fun v_5 σ_6 H locs h hI => ?_)
    refine cw_rst (r := v_4) (x := v_5) C hw hI h dX4_look_19 (fun σ_8 H locs h hI => ?_)
    exact w_X4_look_20 C hw hR x1 _ _ _ _ h hI (lv_sub hl [0, 1] rfl)

theorem w_X4_withVerdict_10 {z : Int32 × cS} {o : Nat} (C : CX p m meth c s args cX4_withVerdict 5 (Option.some Jvm.ClassFile.FieldType.int) RX4) (hw : WKc g A s s.heap) (hR : RM g s R (259) (6471))  : ∀ (n : Nat) (x1 : Int32) (x2 : Int32) (x3 : Int32) (x4 : Int32) (σ : cS) (H : Heap) (locs : List Loc) (ls : Array Slot), b_X4_withVerdict_10 o n x1 x2 x3 x4 σ = some z → CI g A s σ H locs → lv_has ls 5 [(0, .ref o), (1, .int x1), (2, .int x2), (3, .int x3), (4, .int x4)] → W p l e R s m args below meth c H locs (H.size - s.heap.size) (hsl H - hsl s.heap) (MQ below (CQ g A (some (.int z.1)) z.2) args s (g.2.2.1 3 - s.heap.size) (g.2.2.1 4 - hsl s.heap) A) (F0 m 10 ls []) := by
  intro n
  induction n with
  | zero =>
    intro x1 x2 x3 x4 σ H locs ls h
    cases h
  | succ n ih =>
    intro x1 x2 x3 x4 σ H locs ls h hI hl
    rw [b_X4_withVerdict_10] at h
    refine lv_iload C.x C.b dX4_withVerdict_10 (lv_at hl 4 rfl) ?_
    refine lv_iload_n C.x C.b dX4_withVerdict_12 rfl (lv_at hl 3 rfl) ?_
    refine lv_icmp_ge (tgt := 43) C.x C.b dX4_withVerdict_13 (by decide) (fun c_1 => ?_) (fun c_1 => ?_)
    · have h := ip c_1 h
      refine lv_iload_n C.x C.b dX4_withVerdict_43 rfl (lv_at hl 2 rfl) ?_
      exact cw_iret C hI h dX4_withVerdict_44
    · have h := iN c_1 h
      refine lv_iload_n C.x C.b dX4_withVerdict_16 rfl (lv_at hl 2 rfl) ?_
      refine r_aload_n (x := some o) C.x C.b dX4_withVerdict_17 rfl (lv_at hl 0 rfl) ?_
      refine lv_iload C.x C.b dX4_withVerdict_18 (lv_at hl 4 rfl) ?_
      refine cw_callV (y := yX4_look) (bytes := cX4_look) (maxL := 2) (r := some o) (f := fun a_4 => m_X4_look a_4 x4 σ) 1 (fun v => some (va_rf v)) [.int x4] C hw hR hI hl.1 h (by decide) rfl (fun aa vv ss ee => k_X4_look l g A aa x4 σ vv ss ee) (cwV 1 C.t (lw_V q1222 q1223 q1224 q150 q1225) rfl rfl rfl (by decide +kernel) ⟨Nat.le_trans (Nat.le_of_ble_eq_true rfl) hR.f, Nat.le_trans (Nat.le_of_ble_eq_true rfl) hR.lo⟩) rfl rfl (Nat.le_of_ble_eq_true rfl) dX4_withVerdict_20 (fun v_2 σ_3 H locs h hI => ?_)
      refine cw_gI (r := v_2) 3 3 C hw hI h (by decide) rfl in_X11 (by decide) (C.t _ q1246) (fun _ h9 => h9) dX4_withVerdict_23 (fun v_5 h => ?_)
      refine lv_iload_n C.x C.b dX4_withVerdict_26 rfl (lv_at hl 1 rfl) ?_
      refine lv_icmp_ne (tgt := 34) C.x C.b dX4_withVerdict_27 (by decide) (fun c_6 => ?_) (fun c_6 => ?_)
      · have h := iN c_6 h
        refine lv_iconst (v := 0) C.x C.b dX4_withVerdict_34 (by decide) ?_
        refine lv_iadd C.x C.b dX4_withVerdict_35 ?_
        refine tw_lt h (fun x2_7 h => ?_)
        refine lv_istore_n (i := 2) (lv' := [(2, .int x2_7), (0, .ref o), (1, .int x1), (3, .int x3), (4, .int x4)]) C.x C.b dX4_withVerdict_36 rfl hl (by decide) rfl (fun ls hl => ?_)
        obtain ⟨x4_8, e_, h⟩ := nm_s h
        refine lv_iinc (v := x4_8) (lv' := [(4, .int x4_8), (2, .int x2_7), (0, .ref o), (1, .int x1), (3, .int x3)]) C.x C.b dX4_withVerdict_37 hl (k := 4) rfl e_.symm (by decide) rfl (fun ls hl => ?_)
        refine lv_goto (tgt := 10) C.x C.b dX4_withVerdict_40 (by decide) ?_
        exact ih x1 x2_7 x3 x4_8 _ _ _ _ h hI (lv_sub hl [2, 3, 1, 4, 0] rfl)
      · have h := ip c_6 h
        refine lv_iconst (v := 1) C.x C.b dX4_withVerdict_30 (by decide) ?_
        refine lv_goto (tgt := 35) C.x C.b dX4_withVerdict_31 (by decide) ?_
        refine lv_iadd C.x C.b dX4_withVerdict_35 ?_
        refine tw_lt h (fun x2_9 h => ?_)
        refine lv_istore_n (i := 2) (lv' := [(2, .int x2_9), (0, .ref o), (1, .int x1), (3, .int x3), (4, .int x4)]) C.x C.b dX4_withVerdict_36 rfl hl (by decide) rfl (fun ls hl => ?_)
        obtain ⟨x4_10, e_, h⟩ := nm_s h
        refine lv_iinc (v := x4_10) (lv' := [(4, .int x4_10), (2, .int x2_9), (0, .ref o), (1, .int x1), (3, .int x3)]) C.x C.b dX4_withVerdict_37 hl (k := 4) rfl e_.symm (by decide) rfl (fun ls hl => ?_)
        refine lv_goto (tgt := 10) C.x C.b dX4_withVerdict_40 (by decide) ?_
        exact ih x1 x2_9 x3 x4_10 _ _ _ _ h hI (lv_sub hl [2, 3, 1, 4, 0] rfl)

theorem k_X4_withVerdict (l : Launch) (g : cG) (A : Nat → Prop) (o : Nat) (x1 : Int32) (σ : cS) (v : Int32) (σ1 : cS) (h : m_X4_withVerdict o x1 σ = some (v, σ1)) : Met l yX4_withVerdict (ws_ yX4_withVerdict cX4_withVerdict 5 (Option.some Jvm.ClassFile.FieldType.int)) ({ frames := 259, cells := σ.2 3 - σ.2 0, slots := σ.2 4 - σ.2 1, locals := 6471 }) (CPc g A [.ref o, .int x1] σ) (CQ g A (some (.int v)) σ1) (σ.2 3 - σ.2 0) (σ.2 4 - σ.2 1) A := by
  refine Met.ofW (cc := cX4_withVerdict) (maxL := 5) (ret := (Option.some Jvm.ClassFile.FieldType.int)) (by decide) rfl ?_
  intro p e s m args below meth c s₁ B hml hv
  obtain ⟨rfl, hw, hσ⟩ := hv
  have hts := atoms_spec (ws := (ws_ yX4_withVerdict cX4_withVerdict 5 (Option.some Jvm.ClassFile.FieldType.int))) B.pre
  have C : CX p m meth c s ([.ref o, .int x1] : List Value).toArray cX4_withVerdict 5 (Option.some Jvm.ClassFile.FieldType.int) RX4 := ⟨⟨B.exec, B.bytes, hml, findClass_of_methodNamed B.named, fun w h => hts w (List.mem_cons_of_mem _ h)⟩, B.returns, B.notSynchronized⟩
  have e3 : σ.2 3 - σ.2 0 = g.2.2.1 3 - s.heap.size := by rw [hσ.1, hσ.2.2.2.1 3 (by decide)]
  have e4 : σ.2 4 - σ.2 1 = g.2.2.1 4 - hsl s.heap := by rw [hσ.2.1, hσ.2.2.2.1 4 (by decide)]
  have hR : RM g s (headSpec (ws_ yX4_withVerdict cX4_withVerdict 5 (Option.some Jvm.ClassFile.FieldType.int)) ({ frames := 259, cells := σ.2 3 - σ.2 0, slots := σ.2 4 - σ.2 1, locals := 6471 })).room (259) (6471) := ⟨⟨Nat.le_refl _, Nat.le_refl _⟩, Nat.le_of_eq e3.symm, Nat.le_of_eq e4.symm⟩
  generalize (headSpec (ws_ yX4_withVerdict cX4_withVerdict 5 (Option.some Jvm.ClassFile.FieldType.int)) ({ frames := 259, cells := σ.2 3 - σ.2 0, slots := σ.2 4 - σ.2 1, locals := 6471 })).room = R at hR ⊢
  rw [e3, e4]
  have hI : CI g A s σ s.heap [] := ⟨hσ, va_S.rf, Nat.le_refl _⟩
  have hl := lv_entry ([.ref o, .int x1]) (n := 5) (Nat.le_of_ble_eq_true rfl)
  rw [lg_entry_eq]
  generalize (lg_sl ([.ref o, .int x1]) ++ List.replicate (5 - (lg_sl ([.ref o, .int x1])).length) Slot.unset).toArray = ls at hl ⊢
  have hl : lv_has ls 5 [(0, .ref o), (1, .int x1)] := hl
  obtain ⟨z, hz⟩ : ∃ z, z = (v, σ1) := ⟨_, rfl⟩
  rw [← hz] at h
  rw [show v = z.1 by rw [hz], show σ1 = z.2 by rw [hz]]
  clear hz v σ1
  refine W.narrow ?_
  unfold m_X4_withVerdict at h
  refine lv_iconst (v := 0) C.x C.b dX4_withVerdict_0 (by decide) ?_
  refine lv_istore_n (i := 2) (lv' := [(2, .int 0), (0, .ref o), (1, .int x1)]) C.x C.b dX4_withVerdict_1 rfl hl (by decide) rfl (fun ls hl => ?_)
  refine r_aload_n (x := some o) C.x C.b dX4_withVerdict_2 rfl (lv_at hl 1 rfl) ?_
  refine cw_callV (y := yX4_cases) (bytes := cX4_cases) (maxL := 3) (r := some o) (f := fun a_3 => m_X4_cases a_3 σ) 1 (fun v => some (.int v)) [] C hw hR hI hl.1 h (by decide) rfl (fun aa vv ss ee => k_X4_cases l g A aa σ vv ss ee) (cwV 0 C.t (lw_V q832 q833 q834 q150 q835) rfl rfl rfl (by decide +kernel) ⟨Nat.le_trans (Nat.le_of_ble_eq_true rfl) hR.f, Nat.le_trans (Nat.le_of_ble_eq_true rfl) hR.lo⟩) rfl rfl (Nat.le_of_ble_eq_true rfl) dX4_withVerdict_3 (fun v_1 σ_2 H locs h hI => ?_)
  refine lv_istore_n (i := 3) (lv' := [(3, .int v_1), (2, .int 0), (0, .ref o), (1, .int x1)]) C.x C.b dX4_withVerdict_6 rfl hl (by decide) rfl (fun ls hl => ?_)
  refine lv_iconst (v := 0) C.x C.b dX4_withVerdict_7 (by decide) ?_
  refine lv_istore (i := 4) (lv' := [(4, .int 0), (3, .int v_1), (2, .int 0), (0, .ref o), (1, .int x1)]) C.x C.b dX4_withVerdict_8 hl (by decide) rfl (fun ls hl => ?_)
  exact w_X4_withVerdict_10 C hw hR _ x1 0 v_1 0 _ _ _ _ h hI (lv_sub hl [3, 4, 2, 1, 0] rfl)

theorem k_X4_gaps (l : Launch) (g : cG) (A : Nat → Prop) (o : Nat) (σ : cS) (v : Int32) (σ1 : cS) (h : m_X4_gaps o σ = some (v, σ1)) : Met l yX4_gaps (ws_ yX4_gaps cX4_gaps 1 (Option.some Jvm.ClassFile.FieldType.int)) ({ frames := 260, cells := σ.2 3 - σ.2 0, slots := σ.2 4 - σ.2 1, locals := 6495 }) (CPc g A [.ref o] σ) (CQ g A (some (.int v)) σ1) (σ.2 3 - σ.2 0) (σ.2 4 - σ.2 1) A := by
  refine Met.ofW (cc := cX4_gaps) (maxL := 1) (ret := (Option.some Jvm.ClassFile.FieldType.int)) (by decide) rfl ?_
  intro p e s m args below meth c s₁ B hml hv
  obtain ⟨rfl, hw, hσ⟩ := hv
  have hts := atoms_spec (ws := (ws_ yX4_gaps cX4_gaps 1 (Option.some Jvm.ClassFile.FieldType.int))) B.pre
  have C : CX p m meth c s ([.ref o] : List Value).toArray cX4_gaps 1 (Option.some Jvm.ClassFile.FieldType.int) RX4 := ⟨⟨B.exec, B.bytes, hml, findClass_of_methodNamed B.named, fun w h => hts w (List.mem_cons_of_mem _ h)⟩, B.returns, B.notSynchronized⟩
  have e3 : σ.2 3 - σ.2 0 = g.2.2.1 3 - s.heap.size := by rw [hσ.1, hσ.2.2.2.1 3 (by decide)]
  have e4 : σ.2 4 - σ.2 1 = g.2.2.1 4 - hsl s.heap := by rw [hσ.2.1, hσ.2.2.2.1 4 (by decide)]
  have hR : RM g s (headSpec (ws_ yX4_gaps cX4_gaps 1 (Option.some Jvm.ClassFile.FieldType.int)) ({ frames := 260, cells := σ.2 3 - σ.2 0, slots := σ.2 4 - σ.2 1, locals := 6495 })).room (260) (6495) := ⟨⟨Nat.le_refl _, Nat.le_refl _⟩, Nat.le_of_eq e3.symm, Nat.le_of_eq e4.symm⟩
  generalize (headSpec (ws_ yX4_gaps cX4_gaps 1 (Option.some Jvm.ClassFile.FieldType.int)) ({ frames := 260, cells := σ.2 3 - σ.2 0, slots := σ.2 4 - σ.2 1, locals := 6495 })).room = R at hR ⊢
  rw [e3, e4]
  have hI : CI g A s σ s.heap [] := ⟨hσ, va_S.rf, Nat.le_refl _⟩
  have hl := lv_entry ([.ref o]) (n := 1) (Nat.le_of_ble_eq_true rfl)
  rw [lg_entry_eq]
  generalize (lg_sl ([.ref o]) ++ List.replicate (1 - (lg_sl ([.ref o])).length) Slot.unset).toArray = ls at hl ⊢
  have hl : lv_has ls 1 [(0, .ref o)] := hl
  obtain ⟨z, hz⟩ : ∃ z, z = (v, σ1) := ⟨_, rfl⟩
  rw [← hz] at h
  rw [show v = z.1 by rw [hz], show σ1 = z.2 by rw [hz]]
  clear hz v σ1
  refine W.narrow ?_
  unfold m_X4_gaps at h
  refine r_aload_n (x := some o) C.x C.b dX4_gaps_0 rfl (lv_at hl 0 rfl) ?_
  refine lv_iconst (v := 1) C.x C.b dX4_gaps_1 (by decide) ?_
  refine cw_callV (y := yX4_withVerdict) (bytes := cX4_withVerdict) (maxL := 5) (r := some o) (f := fun a_3 => m_X4_withVerdict a_3 1 σ) 1 (fun v => some (.int v)) [.int 1] C hw hR hI hl.1 h (by decide) rfl (fun aa vv ss ee => k_X4_withVerdict l g A aa 1 σ vv ss ee) (cwV 1 C.t (lw_V q1218 q1219 q1220 q150 q1221) rfl rfl rfl (by decide +kernel) ⟨Nat.le_trans (Nat.le_of_ble_eq_true rfl) hR.f, Nat.le_trans (Nat.le_of_ble_eq_true rfl) hR.lo⟩) rfl rfl (Nat.le_of_ble_eq_true rfl) dX4_gaps_2 (fun v_1 σ_2 H locs h hI => ?_)
  refine r_aload_n (x := some o) C.x C.b dX4_gaps_5 rfl (lv_at hl 0 rfl) ?_
  refine lv_iconst (v := 2) C.x C.b dX4_gaps_6 (by decide) ?_
  refine cw_callV (y := yX4_withVerdict) (bytes := cX4_withVerdict) (maxL := 5) (r := some o) (f := fun a_6 => m_X4_withVerdict a_6 2 σ_2) 1 (fun v => some (.int v)) [.int 2] C hw hR hI hl.1 h (by decide) rfl (fun aa vv ss ee => k_X4_withVerdict l g A aa 2 σ_2 vv ss ee) (cwV 1 C.t (lw_V q1218 q1219 q1220 q150 q1221) rfl rfl rfl (by decide +kernel) ⟨Nat.le_trans (Nat.le_of_ble_eq_true rfl) hR.f, Nat.le_trans (Nat.le_of_ble_eq_true rfl) hR.lo⟩) rfl rfl (Nat.le_of_ble_eq_true rfl) dX4_gaps_7 (fun v_4 σ_5 H locs h hI => ?_)
  refine lv_iadd C.x C.b dX4_gaps_10 ?_
  exact cw_iret C hI h dX4_gaps_11

theorem k_X4_unsettled (l : Launch) (g : cG) (A : Nat → Prop) (o : Nat) (σ : cS) (v : Int32) (σ1 : cS) (h : m_X4_unsettled o σ = some (v, σ1)) : Met l yX4_unsettled (ws_ yX4_unsettled cX4_unsettled 1 (Option.some Jvm.ClassFile.FieldType.int)) ({ frames := 260, cells := σ.2 3 - σ.2 0, slots := σ.2 4 - σ.2 1, locals := 6495 }) (CPc g A [.ref o] σ) (CQ g A (some (.int v)) σ1) (σ.2 3 - σ.2 0) (σ.2 4 - σ.2 1) A := by
  refine Met.ofW (cc := cX4_unsettled) (maxL := 1) (ret := (Option.some Jvm.ClassFile.FieldType.int)) (by decide) rfl ?_
  intro p e s m args below meth c s₁ B hml hv
  obtain ⟨rfl, hw, hσ⟩ := hv
  have hts := atoms_spec (ws := (ws_ yX4_unsettled cX4_unsettled 1 (Option.some Jvm.ClassFile.FieldType.int))) B.pre
  have C : CX p m meth c s ([.ref o] : List Value).toArray cX4_unsettled 1 (Option.some Jvm.ClassFile.FieldType.int) RX4 := ⟨⟨B.exec, B.bytes, hml, findClass_of_methodNamed B.named, fun w h => hts w (List.mem_cons_of_mem _ h)⟩, B.returns, B.notSynchronized⟩
  have e3 : σ.2 3 - σ.2 0 = g.2.2.1 3 - s.heap.size := by rw [hσ.1, hσ.2.2.2.1 3 (by decide)]
  have e4 : σ.2 4 - σ.2 1 = g.2.2.1 4 - hsl s.heap := by rw [hσ.2.1, hσ.2.2.2.1 4 (by decide)]
  have hR : RM g s (headSpec (ws_ yX4_unsettled cX4_unsettled 1 (Option.some Jvm.ClassFile.FieldType.int)) ({ frames := 260, cells := σ.2 3 - σ.2 0, slots := σ.2 4 - σ.2 1, locals := 6495 })).room (260) (6495) := ⟨⟨Nat.le_refl _, Nat.le_refl _⟩, Nat.le_of_eq e3.symm, Nat.le_of_eq e4.symm⟩
  generalize (headSpec (ws_ yX4_unsettled cX4_unsettled 1 (Option.some Jvm.ClassFile.FieldType.int)) ({ frames := 260, cells := σ.2 3 - σ.2 0, slots := σ.2 4 - σ.2 1, locals := 6495 })).room = R at hR ⊢
  rw [e3, e4]
  have hI : CI g A s σ s.heap [] := ⟨hσ, va_S.rf, Nat.le_refl _⟩
  have hl := lv_entry ([.ref o]) (n := 1) (Nat.le_of_ble_eq_true rfl)
  rw [lg_entry_eq]
  generalize (lg_sl ([.ref o]) ++ List.replicate (1 - (lg_sl ([.ref o])).length) Slot.unset).toArray = ls at hl ⊢
  have hl : lv_has ls 1 [(0, .ref o)] := hl
  obtain ⟨z, hz⟩ : ∃ z, z = (v, σ1) := ⟨_, rfl⟩
  rw [← hz] at h
  rw [show v = z.1 by rw [hz], show σ1 = z.2 by rw [hz]]
  clear hz v σ1
  refine W.narrow ?_
  unfold m_X4_unsettled at h
  refine r_aload_n (x := some o) C.x C.b dX4_unsettled_0 rfl (lv_at hl 0 rfl) ?_
  refine cw_callV (y := yX4_cases) (bytes := cX4_cases) (maxL := 3) (r := some o) (f := fun a_3 => m_X4_cases a_3 σ) 1 (fun v => some (.int v)) [] C hw hR hI hl.1 h (by decide) rfl (fun aa vv ss ee => k_X4_cases l g A aa σ vv ss ee) (cwV 0 C.t (lw_V q832 q833 q834 q150 q835) rfl rfl rfl (by decide +kernel) ⟨Nat.le_trans (Nat.le_of_ble_eq_true rfl) hR.f, Nat.le_trans (Nat.le_of_ble_eq_true rfl) hR.lo⟩) rfl rfl (Nat.le_of_ble_eq_true rfl) dX4_unsettled_1 (fun v_1 σ_2 H locs h hI => ?_)
  refine r_aload_n (x := some o) C.x C.b dX4_unsettled_4 rfl (lv_at hl 0 rfl) ?_
  refine lv_iconst (v := 0) C.x C.b dX4_unsettled_5 (by decide) ?_
  refine cw_callV (y := yX4_withVerdict) (bytes := cX4_withVerdict) (maxL := 5) (r := some o) (f := fun a_6 => m_X4_withVerdict a_6 0 σ_2) 1 (fun v => some (.int v)) [.int 0] C hw hR hI hl.1 h (by decide) rfl (fun aa vv ss ee => k_X4_withVerdict l g A aa 0 σ_2 vv ss ee) (cwV 1 C.t (lw_V q1218 q1219 q1220 q150 q1221) rfl rfl rfl (by decide +kernel) ⟨Nat.le_trans (Nat.le_of_ble_eq_true rfl) hR.f, Nat.le_trans (Nat.le_of_ble_eq_true rfl) hR.lo⟩) rfl rfl (Nat.le_of_ble_eq_true rfl) dX4_unsettled_6 (fun v_4 σ_5 H locs h hI => ?_)
  refine lv_isub C.x C.b dX4_unsettled_9 ?_
  exact cw_iret C hI h dX4_unsettled_10

theorem w_X4_drop_21 {z : Int32 × cS} {o : Nat} (C : CX p m meth c s args cX4_drop 5 (Option.none : Option Jvm.ClassFile.FieldType) RX4) (hw : WKc g A s s.heap) (hR : RM g s R (4) (106))  : ∀ (n : Nat) (x2 : Int32) (x3 : Int32) (σ : cS) (H : Heap) (locs : List Loc) (ls : Array Slot), b_X4_drop_21 o n x2 x3 σ = some z → CI g A s σ H locs → lv_has ls 5 [(0, .ref o), (2, .int x2), (3, .int x3)] → W p l e R s m args below meth c H locs (H.size - s.heap.size) (hsl H - hsl s.heap) (MQ below (CQ g A (none) z.2) args s (g.2.2.1 3 - s.heap.size) (g.2.2.1 4 - hsl s.heap) A) (F0 m 21 ls []) := by
  intro n
  induction n with
  | zero =>
    intro x2 x3 σ H locs ls h
    cases h
  | succ n ih =>
    intro x2 x3 σ H locs ls h hI hl
    rw [b_X4_drop_21] at h
    refine lv_iload_n C.x C.b dX4_drop_21 rfl (lv_at hl 2 rfl) ?_
    refine r_aload_n (x := some o) C.x C.b dX4_drop_22 rfl (lv_at hl 0 rfl) ?_
    refine cw_gR (r := some o) 1 4 C hw hI h (by decide) rfl in_X4 (by decide) (C.t _ q850) (fun _ h9 => h9) dX4_drop_23 (fun v_1 h => ?_)
    refine cw_callV (y := yJ18_size) (bytes := cJ18_size) (maxL := 1) (r := v_1) (f := fun a_4 => m_J18_size a_4 σ) 9 (fun v => some (.int v)) [] C hw hR hI hl.1 h (by decide) rfl (fun aa vv ss ee => k_J18_size l g A aa σ vv ss ee) (cwV 0 C.t (lw_V q1262 q947 q948 q152 q949) rfl rfl rfl (by decide +kernel) ⟨Nat.le_trans (Nat.le_of_ble_eq_true rfl) hR.f, Nat.le_trans (Nat.le_of_ble_eq_true rfl) hR.lo⟩) rfl rfl (Nat.le_of_ble_eq_true rfl) dX4_drop_26 (fun v_2 σ_3 H locs h hI => ?_)
    refine lv_icmp_ge (tgt := 75) C.x C.b dX4_drop_29 (by decide) (fun c_5 => ?_) (fun c_5 => ?_)
    · have h := ip c_5 h
      exact cw_vret C hI h dX4_drop_75
    · have h := iN c_5 h
      refine r_aload_n (x := some o) C.x C.b dX4_drop_32 rfl (lv_at hl 0 rfl) ?_
      refine cw_gR (r := some o) 1 4 C hw hI h (by decide) rfl in_X4 (by decide) (C.t _ q850) (fun _ h9 => h9) dX4_drop_33 (fun v_6 h => ?_)
      refine lv_iload_n C.x C.b dX4_drop_36 rfl (lv_at hl 2 rfl) ?_
      refine cw_callV (y := yJ18_get) (bytes := cJ18_get) (maxL := 2) (r := v_6) (f := fun a_9 => m_J18_get a_9 x3 σ_3) 9 (fun v => some (va_rf v)) [.int x3] C hw hR hI hl.1 h (by decide) rfl (fun aa vv ss ee => k_J18_get l g A aa x3 σ_3 vv ss ee) (cwV 1 C.t (lw_V q1263 q1264 q1265 q152 q1266) rfl rfl rfl (by decide +kernel) ⟨Nat.le_trans (Nat.le_of_ble_eq_true rfl) hR.f, Nat.le_trans (Nat.le_of_ble_eq_true rfl) hR.lo⟩) rfl rfl (Nat.le_of_ble_eq_true rfl) dX4_drop_37 (fun v_7 σ_8 H locs h hI => ?_)
      refine cw_cast (r := v_7) 2 C hw hI h (by decide) rfl q1275 dX4_drop_40 (fun h => ?_)
      refine r_astore (i := 4) (x := v_7) (lv' := [(4, va_rf v_7), (0, .ref o), (2, .int x2), (3, .int x3)]) C.x C.b dX4_drop_43 hl (by decide) (by rfl) (fun ls hl => ?_)
      refine r_aload (x := v_7) C.x C.b dX4_drop_45 (lv_at hl 0 rfl) ?_
      refine r_aload (x := v_7) C.x C.b dX4_drop_47 (lv_at hl 0 rfl) ?_
      refine cw_gI (r := v_7) 2 3 C hw hI h (by decide) rfl in_X9 (by decide) (C.t _ q1110) (fun _ h9 => h9) dX4_drop_49 (fun v_10 h => ?_)
      refine lv_iload_n C.x C.b dX4_drop_52 rfl (lv_at hl 2 rfl) ?_
      refine lv_iand C.x C.b dX4_drop_53 ?_
      refine r_aload (x := v_7) C.x C.b dX4_drop_54 (lv_at hl 0 rfl) ?_
      refine cw_gI (r := v_7) 2 3 C hw hI h (by decide) rfl in_X9 (by decide) (C.t _ q1110) (fun _ h9 => h9) dX4_drop_56 (fun v_11 h => ?_)
      refine lv_iconst (v := 1) C.x C.b dX4_drop_59 (by decide) ?_
      refine lv_ishr C.x C.b dX4_drop_60 ?_
      refine lv_iload_n C.x C.b dX4_drop_61 rfl (lv_at hl 2 rfl) ?_
      refine lv_iconst (v := -1) C.x C.b dX4_drop_62 (by decide) ?_
      refine lv_ixor C.x C.b dX4_drop_63 ?_
      refine lv_iand C.x C.b dX4_drop_64 ?_
      refine lv_ior C.x C.b dX4_drop_65 ?_
      refine cw_pO (r := v_7) (v := (.int ((v_10 &&& x2) ||| ((v_11 >>> (1 &&& 31)) &&& (x2 ^^^ (-1)))))) (ty := .int) 2 3 C hw hI h (by decide) rfl in_X9 tyX9 tyX9_ok nmX9 (by decide) (C.t _ q1110) (fun _ h9 => h9) (Or.inl rfl) (by decide +kernel) rfl rfl dX4_drop_66 (fun σ_12 H locs h hI => ?_)
      obtain ⟨x3_13, e_, h⟩ := nm_s h
      refine lv_iinc (v := x3_13) (lv' := [(3, .int x3_13), (4, va_rf v_7), (0, .ref o), (2, .int x2)]) C.x C.b dX4_drop_69 hl (k := 3) rfl e_.symm (by decide) (by first | (simp [List.filter, cat_rf, cat_i, cat_a, cat_n, cat_l, cat_f, cat_d]; done) | (simp [List.filter, cat_rf, cat_i, cat_a, cat_n, cat_l, cat_f, cat_d]; rfl)) (fun ls hl => ?_)
      refine lv_goto (tgt := 21) C.x C.b dX4_drop_72 (by decide) ?_
      exact ih x2 x3_13 _ _ _ _ h hI (lv_sub hl [2, 3, 0] rfl)

theorem k_X4_drop (l : Launch) (g : cG) (A : Nat → Prop) (o : Nat) (x1 : Int32) (σ : cS) (v : Int32) (σ1 : cS) (h : m_X4_drop o x1 σ = some (v, σ1)) : Met l yX4_drop (ws_ yX4_drop cX4_drop 5 (Option.none : Option Jvm.ClassFile.FieldType)) ({ frames := 4, cells := σ.2 3 - σ.2 0, slots := σ.2 4 - σ.2 1, locals := 106 }) (CPc g A [.ref o, .int x1] σ) (CQ g A (none) σ1) (σ.2 3 - σ.2 0) (σ.2 4 - σ.2 1) A := by
  refine Met.ofW (cc := cX4_drop) (maxL := 5) (ret := (Option.none : Option Jvm.ClassFile.FieldType)) (by decide) rfl ?_
  intro p e s m args below meth c s₁ B hml hv
  obtain ⟨rfl, hw, hσ⟩ := hv
  have hts := atoms_spec (ws := (ws_ yX4_drop cX4_drop 5 (Option.none : Option Jvm.ClassFile.FieldType))) B.pre
  have C : CX p m meth c s ([.ref o, .int x1] : List Value).toArray cX4_drop 5 (Option.none : Option Jvm.ClassFile.FieldType) RX4 := ⟨⟨B.exec, B.bytes, hml, findClass_of_methodNamed B.named, fun w h => hts w (List.mem_cons_of_mem _ h)⟩, B.returns, B.notSynchronized⟩
  have e3 : σ.2 3 - σ.2 0 = g.2.2.1 3 - s.heap.size := by rw [hσ.1, hσ.2.2.2.1 3 (by decide)]
  have e4 : σ.2 4 - σ.2 1 = g.2.2.1 4 - hsl s.heap := by rw [hσ.2.1, hσ.2.2.2.1 4 (by decide)]
  have hR : RM g s (headSpec (ws_ yX4_drop cX4_drop 5 (Option.none : Option Jvm.ClassFile.FieldType)) ({ frames := 4, cells := σ.2 3 - σ.2 0, slots := σ.2 4 - σ.2 1, locals := 106 })).room (4) (106) := ⟨⟨Nat.le_refl _, Nat.le_refl _⟩, Nat.le_of_eq e3.symm, Nat.le_of_eq e4.symm⟩
  generalize (headSpec (ws_ yX4_drop cX4_drop 5 (Option.none : Option Jvm.ClassFile.FieldType)) ({ frames := 4, cells := σ.2 3 - σ.2 0, slots := σ.2 4 - σ.2 1, locals := 106 })).room = R at hR ⊢
  rw [e3, e4]
  have hI : CI g A s σ s.heap [] := ⟨hσ, va_S.rf, Nat.le_refl _⟩
  have hl := lv_entry ([.ref o, .int x1]) (n := 5) (Nat.le_of_ble_eq_true rfl)
  rw [lg_entry_eq]
  generalize (lg_sl ([.ref o, .int x1]) ++ List.replicate (5 - (lg_sl ([.ref o, .int x1])).length) Slot.unset).toArray = ls at hl ⊢
  have hl : lv_has ls 5 [(0, .ref o), (1, .int x1)] := hl
  obtain ⟨z, hz⟩ : ∃ z, z = (v, σ1) := ⟨_, rfl⟩
  rw [← hz] at h
  rw [show σ1 = z.2 by rw [hz]]
  clear hz v σ1
  refine W.narrow ?_
  unfold m_X4_drop at h
  refine r_aload_n (x := some o) C.x C.b dX4_drop_0 rfl (lv_at hl 0 rfl) ?_
  refine cw_callV (y := yX4_forget) (bytes := cX4_forget) (maxL := 2) (r := some o) (f := fun a_2 => m_X4_forget a_2 σ) 1 (fun _ => none) [] C hw hR hI hl.1 h (by decide) rfl (fun aa vv ss ee => k_X4_forget l g A aa σ vv ss ee) (cwV 0 C.t (lw_V q1136 q1137 q1138 q150 q1139) rfl rfl rfl (by decide +kernel) ⟨Nat.le_trans (Nat.le_of_ble_eq_true rfl) hR.f, Nat.le_trans (Nat.le_of_ble_eq_true rfl) hR.lo⟩) rfl rfl (Nat.le_of_ble_eq_true rfl) dX4_drop_1 (fun _ σ_1 H locs h hI => ?_)
  refine r_aload_n (x := some o) C.x C.b dX4_drop_4 rfl (lv_at hl 0 rfl) ?_
  refine cw_gR (r := some o) 1 4 C hw hI h (by decide) rfl in_X4 (by decide) (C.t _ q850) (fun _ h9 => h9) dX4_drop_5 (fun v_3 h => ?_)
  refine lv_iload_n C.x C.b dX4_drop_8 rfl (lv_at hl 1 rfl) ?_
  refine cw_callV (y := yJ18_remove) (bytes := cJ18_remove) (maxL := 4) (r := v_3) (f := fun a_6 => m_J18_remove a_6 x1 σ_1) 9 (fun v => some (va_rf v)) [.int x1] C hw hR hI hl.1 h (by decide) rfl (fun aa vv ss ee => k_J18_remove l g A aa x1 σ_1 vv ss ee) (cwV 1 C.t (lw_V q1346 q1347 q1348 q152 q1349) rfl rfl rfl (by decide +kernel) ⟨Nat.le_trans (Nat.le_of_ble_eq_true rfl) hR.f, Nat.le_trans (Nat.le_of_ble_eq_true rfl) hR.lo⟩) rfl rfl (Nat.le_of_ble_eq_true rfl) dX4_drop_9 (fun v_4 σ_5 H locs h hI => ?_)
  refine lv_pop C.x C.b dX4_drop_12 (cat_rf _) ?_
  refine lv_iconst (v := 1) C.x C.b dX4_drop_13 (by decide) ?_
  refine lv_iload_n C.x C.b dX4_drop_14 rfl (lv_at hl 1 rfl) ?_
  refine lv_ishl C.x C.b dX4_drop_15 ?_
  refine lv_iconst (v := 1) C.x C.b dX4_drop_16 (by decide) ?_
  refine lv_isub C.x C.b dX4_drop_17 ?_
  refine tw_lt h (fun x2_7 h => ?_)
  refine lv_istore_n (i := 2) (lv' := [(2, .int x2_7), (0, .ref o), (1, .int x1)]) C.x C.b dX4_drop_18 rfl hl (by decide) rfl (fun ls hl => ?_)
  refine lv_iconst (v := 0) C.x C.b dX4_drop_19 (by decide) ?_
  refine lv_istore_n (i := 3) (lv' := [(3, .int 0), (2, .int x2_7), (0, .ref o), (1, .int x1)]) C.x C.b dX4_drop_20 rfl hl (by decide) rfl (fun ls hl => ?_)
  exact w_X4_drop_21 C hw hR _ x2_7 0 _ _ _ _ h hI (lv_sub hl [2, 1, 0] rfl)

end
