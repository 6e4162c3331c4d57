/-! THE CLASS' WALKS 19: printed by gencl.py -/
section
variable {p : Program} {l : Launch} {e : Env} {R : Room} {s : State} {m : MethodId} {args : Array Value} {below : List Frame} {meth : Method} {c : Code} {g : cG} {A : Nat → Prop}
set_option maxRecDepth 100000
theorem w_X2_simple_152 {z : (cX (Option Nat)) × cS} {o : Nat} (C : CX p m meth c s args cX2_simple 4 (Option.some (Jvm.ClassFile.FieldType.object "HeirCases$Guard")) RX2) (hx : ∀ x ∈ c.exceptionTable.toList, False) (hl0 : l.stackTraces = false) (hw : WKc g A s s.heap) (hR : RM g s R (12) (3123))  : ∀ (x2 : Int32) (s0 : Int32) (σ : cS) (H : Heap) (locs : List Loc) (ls : Array Slot), b_X2_simple_152 o x2 s0 σ = some z → CI g A s σ H locs → lv_has ls 4 [(0, .ref o), (2, .int x2)] → W p l e R s m args below meth c H locs (H.size - s.heap.size) (hsl H - hsl s.heap) (UQ g A (fun v => some (va_rf v)) z args s (g.2.2.1 3 - s.heap.size) (g.2.2.1 4 - hsl s.heap) below) (F0 m 152 ls [.int s0]) := by
  intro x2 s0 σ H locs ls h hI hl
  unfold b_X2_simple_152 at h
  refine lv_istore_n (i := 3) (lv' := [(3, .int s0), (0, .ref o), (2, .int x2)]) C.x C.b dX2_simple_152 rfl hl (by decide) rfl (fun ls hl => ?_)
  refine cw_ldcS (tx := "=<>") (k := 48) C hw hI (List.mem_of_getElem? (i := 29) rfl) (by decide) dX2_simple_153 ?_
  refine lv_iload_n C.x C.b dX2_simple_155 rfl (lv_at hl 0 rfl) ?_
  refine cw_callV (y := yJ4_indexOf) (bytes := cJ4_indexOf) (maxL := 2) (r := some (σ.2 48)) (f := fun a_3 => m_J4_indexOf a_3 s0 σ) 12 (fun v => some (.int v)) [.int s0] C hw hR hI hl.1 h (by decide) rfl (fun aa vv ss ee => k_J4_indexOf l g A aa s0 σ vv ss ee) (cwV 1 C.t (lw_V q689 q690 q691 q131 q692) rfl rfl rfl (by decide +kernel) ⟨Nat.le_trans (Nat.le_of_ble_eq_true rfl) hR.f, Nat.le_trans (Nat.le_of_ble_eq_true rfl) hR.lo⟩) rfl rfl (Nat.le_of_ble_eq_true rfl) dX2_simple_156 (fun v_1 σ_2 H locs h hI => ?_)
  refine lv_if_ge (tgt := 175) C.x C.b dX2_simple_159 (by decide) (fun c_4 => ?_) (fun c_4 => ?_)
  · have h := ip c_4 h
    refine r_aload_n (x := some o) C.x C.b dX2_simple_175 rfl (lv_at hl 1 rfl) ?_
    refine cw_callV (y := yX2_next) (bytes := cX2_next) (maxL := 1) (r := some o) (f := fun a_6 => m_X2_next a_6 σ_2) 8 (fun _ => none) [] C hw hR hI hl.1 h (by decide) rfl (fun aa vv ss ee => k_X2_next l g A aa σ_2 vv ss ee) (cwV 0 C.t (lw_V q293 q295 qs1 q133 q296) rfl rfl rfl (by decide +kernel) ⟨Nat.le_trans (Nat.le_of_ble_eq_true rfl) hR.f, Nat.le_trans (Nat.le_of_ble_eq_true rfl) hR.lo⟩) rfl rfl (Nat.le_of_ble_eq_true rfl) dX2_simple_176 (fun _ σ_5 H locs h hI => ?_)
    refine cw_new (T := TX7) (N := 4) 4 C hw hI hR.2.1 hR.2.2 h (by decide) rfl in_X7 tyX7 tyX7_ok (fun j hj => match j, hj with | 0, _ => rfl | 1, _ => rfl | 2, _ => rfl | 3, _ => rfl | j + 4, hj => absurd hj (Nat.not_lt_of_le (Nat.le_add_left _ _))) q998 q999 q155 dX2_simple_179 (fun q_7 σ_8 H locs h hI => ?_)
    refine lv_dup C.x C.b dX2_simple_182 rfl ?_
    refine lv_iload_n C.x C.b dX2_simple_183 rfl (lv_at hl 2 rfl) ?_
    refine lv_iload_n C.x C.b dX2_simple_184 rfl (lv_at hl 0 rfl) ?_
    refine r_aload_n (x := some o) C.x C.b dX2_simple_185 rfl (lv_at hl 1 rfl) ?_
    refine lv_iconst (v := 0) C.x C.b dX2_simple_186 (by decide) ?_
    refine r_aload_n (x := some o) C.x C.b dX2_simple_187 rfl (lv_at hl 1 rfl) ?_
    refine cw_gR (r := some o) 8 2 C hw hI h (by decide) rfl in_X2 (by decide) (C.t _ q260) (fun _ h9 => h9) dX2_simple_188 (fun v_9 h => ?_)
    refine cw_gR (r := v_9) 1 0 C hw hI h (by decide) rfl in_X4 (by decide) (C.t _ q840) (fun _ h9 => h9) dX2_simple_191 (fun v_10 h => ?_)
    refine lv_iload_n C.x C.b dX2_simple_194 rfl (lv_at hl 2 rfl) ?_
    refine cw_ild (r := v_10) C hw hI h dX2_simple_195 (fun v_11 h => ?_)
    refine lv_iconst (v := 1) C.x C.b dX2_simple_196 (by decide) ?_
    refine lv_isub C.x C.b dX2_simple_197 ?_
    refine cx_callV (y := yX2_number) (bytes := cX2_number) (maxL := 4) (r := some o) (f := fun a_14 => m_X2_number a_14 0 (v_11 - 1) σ_8) 8 (fun v => some (.int v)) [.int 0, .int (v_11 - 1)] C hx hw hR hI hl.1 h (by decide) rfl (fun aa uu ee => k_X2_number l hl0 g A aa 0 (v_11 - 1) σ_8 uu ee) (cwV 2 C.t (lw_V q797 q799 qs10 q133 q800) rfl rfl rfl (by decide +kernel) ⟨Nat.le_trans (Nat.le_of_ble_eq_true rfl) hR.f, Nat.le_trans (Nat.le_of_ble_eq_true rfl) hR.lo⟩) rfl rfl (Nat.le_of_ble_eq_true rfl) dX2_simple_198 (fun v_12 σ_13 H locs h hI => ?_)
    refine cw_callI (y := yX7_init) (bytes := cX7_init) (maxL := 4) (b := q_7) [.int x2, .int s0, .int v_12] C hw hR hI hl.1 h (fun vv ss ee => k_X7_init l g A q_7 x2 s0 v_12 σ_13 vv ss ee) (cwI 3 C.t (lw_meth q1002) rfl rfl rfl (C.t _ q155) (C.t _ q1000) (C.t _ q1001) rfl (by decide +kernel) ⟨Nat.le_trans (Nat.le_of_ble_eq_true rfl) hR.f, Nat.le_trans (Nat.le_of_ble_eq_true rfl) hR.lo⟩) rfl rfl (Nat.le_of_ble_eq_true rfl) dX2_simple_201 (fun σ_15 _ H locs h hI => ?_)
    exact uq_l h (fun y h => cw_aret (x := some q_7) C (Or.inl ⟨_, rfl⟩) hI h dX2_simple_204)
  · have h := iN c_4 h
    refine cw_newF C hw hI hR.2.1 hR.2.2 h q753 q754 q149 dX2_simple_162 (fun q_16 σ_17 H locs h hI => ?_)
    refine lv_dup C.x C.b dX2_simple_165 rfl ?_
    refine r_aload_n (x := some o) C.x C.b dX2_simple_166 rfl (lv_at hl 1 rfl) ?_
    refine cw_gI (r := some o) 8 4 C hw hI h (by decide) rfl in_X2 (by decide) (C.t _ q262) (fun _ h9 => h9) dX2_simple_167 (fun v_18 h => ?_)
    refine lv_iconst (v := 1) C.x C.b dX2_simple_170 (by decide) ?_
    refine cw_callI (y := yX3_init) (bytes := cX3_init) (maxL := 3) (b := q_16) [.int v_18, .int 1] C hw hR hI hl.1 h (fun vv ss ee => k_X3_init l hl0 g A q_16 v_18 1 σ_17 vv ss ee) (cwI 2 C.t (lw_meth q764) rfl rfl rfl (C.t _ q149) (C.t _ q762) (C.t _ q763) rfl (by decide +kernel) ⟨Nat.le_trans (Nat.le_of_ble_eq_true rfl) hR.f, Nat.le_trans (Nat.le_of_ble_eq_true rfl) hR.lo⟩) rfl rfl (Nat.le_of_ble_eq_true rfl) dX2_simple_171 (fun σ_19 _ H locs h hI => ?_)
    exact cx_athrow (r := some q_16) C hx hw hI h dX2_simple_174

theorem w_X2_simple_80 {z : (cX (Option Nat)) × cS} {o : Nat} (C : CX p m meth c s args cX2_simple 4 (Option.some (Jvm.ClassFile.FieldType.object "HeirCases$Guard")) RX2) (hx : ∀ x ∈ c.exceptionTable.toList, False) (hl0 : l.stackTraces = false) (hw : WKc g A s s.heap) (hR : RM g s R (12) (3123))  : ∀ (x1 : Int32) (x2 : Int32) (σ : cS) (H : Heap) (locs : List Loc) (ls : Array Slot), b_X2_simple_80 o x1 x2 σ = some z → CI g A s σ H locs → lv_has ls 4 [(0, .ref o), (1, .int x1), (2, .int x2)] → W p l e R s m args below meth c H locs (H.size - s.heap.size) (hsl H - hsl s.heap) (UQ g A (fun v => some (va_rf v)) z args s (g.2.2.1 3 - s.heap.size) (g.2.2.1 4 - hsl s.heap) below) (F0 m 80 ls []) := by
  intro x1 x2 σ H locs ls h hI hl
  unfold b_X2_simple_80 at h
  refine r_aload_n (x := some o) C.x C.b dX2_simple_80 rfl (lv_at hl 0 rfl) ?_
  refine cw_gI (r := some o) 8 8 C hw hI h (by decide) rfl in_X2 (by decide) (C.t _ q266) (fun _ h9 => h9) dX2_simple_81 (fun v_1 h => ?_)
  refine lv_bipush (v := 12) C.x C.b dX2_simple_84 (by decide) ?_
  refine lv_icmp_ne (tgt := 102) C.x C.b dX2_simple_86 (by decide) (fun c_2 => ?_) (fun c_2 => ?_)
  · have h := iN c_2 h
    refine r_aload_n (x := some o) C.x C.b dX2_simple_102 rfl (lv_at hl 0 rfl) ?_
    refine lv_dup C.x C.b dX2_simple_103 rfl ?_
    refine cw_gI (r := some o) 8 8 C hw hI h (by decide) rfl in_X2 (by decide) (C.t _ q266) (fun _ h9 => h9) dX2_simple_104 (fun v_3 h => ?_)
    refine lv_iconst (v := 1) C.x C.b dX2_simple_107 (by decide) ?_
    refine lv_iadd C.x C.b dX2_simple_108 ?_
    refine cw_pO (r := some o) (v := (.int (v_3 + 1))) (ty := .int) 8 8 C hw hI h (by decide) rfl in_X2 tyX2 tyX2_ok nmX2 (by decide) (C.t _ q266) (fun _ h9 => h9) (Or.inl rfl) (by decide +kernel) rfl rfl dX2_simple_109 (fun σ_4 H locs h hI => ?_)
    refine r_aload_n (x := some o) C.x C.b dX2_simple_112 rfl (lv_at hl 0 rfl) ?_
    refine cw_callV (y := yX2_next) (bytes := cX2_next) (maxL := 1) (r := some o) (f := fun a_6 => m_X2_next a_6 σ_4) 8 (fun _ => none) [] C hw hR hI hl.1 h (by decide) rfl (fun aa vv ss ee => k_X2_next l g A aa σ_4 vv ss ee) (cwV 0 C.t (lw_V q293 q295 qs1 q133 q296) rfl rfl rfl (by decide +kernel) ⟨Nat.le_trans (Nat.le_of_ble_eq_true rfl) hR.f, Nat.le_trans (Nat.le_of_ble_eq_true rfl) hR.lo⟩) rfl rfl (Nat.le_of_ble_eq_true rfl) dX2_simple_113 (fun _ σ_5 H locs h hI => ?_)
    refine lv_iload_n C.x C.b dX2_simple_116 rfl (lv_at hl 1 rfl) ?_
    refine lv_if_eq (tgt := 124) C.x C.b dX2_simple_117 (by decide) (fun c_7 => ?_) (fun c_7 => ?_)
    · have h := ip c_7 h
      refine r_aload_n (x := some o) C.x C.b dX2_simple_124 rfl (lv_at hl 0 rfl) ?_
      refine cw_gR (r := some o) 8 5 C hw hI h (by decide) rfl in_X2 (by decide) (C.t _ q263) (fun _ h9 => h9) dX2_simple_125 (fun v_8 h => ?_)
      refine cw_gst (Cn := "HeirCases$Token") (n := "SIGN") (d := "LHeirCases$Token;") (k := 11) C hw hI (List.mem_of_getElem? (i := 1) rfl) (by decide) q734 rfl dX2_simple_128 ?_
      refine lv_acmp_ne (rx := v_8) (ry := some (σ_5.2 11)) (tgt := 150) C.x C.b dX2_simple_131 (by decide) (fun c_9 => ?_) (fun c_9 => ?_)
      · have h := iN c_9 h
        refine lv_bipush (v := 59) C.x C.b dX2_simple_150 (by decide) ?_
        exact w_X2_simple_152 C hx hl0 hw hR x2 59 _ _ _ _ h hI (lv_sub hl [0, 2] rfl)
      · have h := ip c_9 h
        refine r_aload_n (x := some o) C.x C.b dX2_simple_134 rfl (lv_at hl 0 rfl) ?_
        refine cw_gR (r := some o) 8 0 C hw hI h (by decide) rfl in_X2 (by decide) (C.t _ q258) (fun _ h9 => h9) dX2_simple_135 (fun v_10 h => ?_)
        refine r_aload_n (x := some o) C.x C.b dX2_simple_138 rfl (lv_at hl 0 rfl) ?_
        refine cw_gI (r := some o) 8 4 C hw hI h (by decide) rfl in_X2 (by decide) (C.t _ q262) (fun _ h9 => h9) dX2_simple_139 (fun v_11 h => ?_)
        refine cw_callF (x := ⟨"java/lang/CharSequence", "charAt", "(I)C"⟩) (r := v_10) (f := fun a_14 => dsp σ_5 [(12, m_J4_charAt a_14 v_11 σ_5), (11, m_J3_charAt a_14 v_11 σ_5)] a_14) (fun v => some (.int v)) [.int v_11] C hw hR hI hl.1 h (fun aa vv ss ee => dsp_c ee (fun o1 e1 => ⟨12, o1, _, yJ4_charAt, cJ4_charAt, 2, (Option.some Jvm.ClassFile.FieldType.char), _, _, by decide, rfl, k_J4_charAt l g A aa v_11 σ_5 vv ss e1, Or.inl (va_cwF 1 C.t (lw_app (mem4 q298 q302 q304 q131) (lw_meth q306)) rfl rfl rfl (hw.2.2.2.2.2.2.2.2.2.1 _ (List.mem_of_getElem? (i := 0) rfl)) (by decide +kernel) ⟨Nat.le_trans (Nat.le_of_ble_eq_true rfl) hR.f, Nat.le_trans (Nat.le_of_ble_eq_true rfl) hR.lo⟩)⟩) (fun ee => dsp_c ee (fun o1 e1 => ⟨11, o1, _, yJ3_charAt, cJ3_charAt, 2, (Option.some Jvm.ClassFile.FieldType.char), _, _, by decide, rfl, k_J3_charAt l g A aa v_11 σ_5 vv ss e1, Or.inl (va_cwF 1 C.t (lw_app (mem4 q298 q342 q344 q130) (lw_meth q346)) rfl rfl rfl (hw.2.2.2.2.2.2.2.2.2.1 _ (List.mem_of_getElem? (i := 1) rfl)) (by decide +kernel) ⟨Nat.le_trans (Nat.le_of_ble_eq_true rfl) hR.f, Nat.le_trans (Nat.le_of_ble_eq_true rfl) hR.lo⟩)⟩) (fun ee => dsp_n ee))) rfl rfl (Nat.le_of_ble_eq_true rfl) dX2_simple_142 (fun v_12 σ_13 H locs h hI => ?_)
        refine lv_goto (tgt := 152) C.x C.b dX2_simple_147 (by decide) ?_
        exact w_X2_simple_152 C hx hl0 hw hR x2 v_12 _ _ _ _ h hI (lv_sub hl [0, 2] rfl)
    · have h := iN c_7 h
      refine cw_callSN (y := yX1_always) (bytes := cX1_always) (maxL := 0) (host := "HeirCases") (fun v => some (va_rf v)) [] C hw hR hI hl.1 h (fun vv ss ee => k_X1_always l g A σ_5 vv ss ee) (cw_nest 0 C hw (List.mem_of_getElem? (i := 1) rfl) q989 rfl rfl q126 q988 (by decide +kernel) ⟨Nat.le_trans (Nat.le_of_ble_eq_true rfl) hR.f, Nat.le_trans (Nat.le_of_ble_eq_true rfl) hR.lo⟩) rfl rfl (Nat.le_of_ble_eq_true rfl) dX2_simple_120 (fun v_15 σ_16 H locs h hI => ?_)
      exact uq_l h (fun y h => cw_aret (x := v_15) C (Or.inl ⟨_, rfl⟩) hI h dX2_simple_123)
  · have h := ip c_2 h
    refine cw_newF C hw hI hR.2.1 hR.2.2 h q753 q754 q149 dX2_simple_89 (fun q_17 σ_18 H locs h hI => ?_)
    refine lv_dup C.x C.b dX2_simple_92 rfl ?_
    refine r_aload_n (x := some o) C.x C.b dX2_simple_93 rfl (lv_at hl 0 rfl) ?_
    refine cw_gI (r := some o) 8 4 C hw hI h (by decide) rfl in_X2 (by decide) (C.t _ q262) (fun _ h9 => h9) dX2_simple_94 (fun v_19 h => ?_)
    refine lv_iconst (v := 4) C.x C.b dX2_simple_97 (by decide) ?_
    refine cw_callI (y := yX3_init) (bytes := cX3_init) (maxL := 3) (b := q_17) [.int v_19, .int 4] C hw hR hI hl.1 h (fun vv ss ee => k_X3_init l hl0 g A q_17 v_19 4 σ_18 vv ss ee) (cwI 2 C.t (lw_meth q764) rfl rfl rfl (C.t _ q149) (C.t _ q762) (C.t _ q763) rfl (by decide +kernel) ⟨Nat.le_trans (Nat.le_of_ble_eq_true rfl) hR.f, Nat.le_trans (Nat.le_of_ble_eq_true rfl) hR.lo⟩) rfl rfl (Nat.le_of_ble_eq_true rfl) dX2_simple_98 (fun σ_20 _ H locs h hI => ?_)
    exact cx_athrow (r := some q_17) C hx hw hI h dX2_simple_101

theorem w_X2_simple_50 {z : (cX (Option Nat)) × cS} {o : Nat} (C : CX p m meth c s args cX2_simple 4 (Option.some (Jvm.ClassFile.FieldType.object "HeirCases$Guard")) RX2) (hx : ∀ x ∈ c.exceptionTable.toList, False) (hl0 : l.stackTraces = false) (hw : WKc g A s s.heap) (hR : RM g s R (12) (3123))  : ∀ (x1 : Int32) (s0 : Int32) (σ : cS) (H : Heap) (locs : List Loc) (ls : Array Slot), b_X2_simple_50 o x1 s0 σ = some z → CI g A s σ H locs → lv_has ls 4 [(0, .ref o), (1, .int x1)] → W p l e R s m args below meth c H locs (H.size - s.heap.size) (hsl H - hsl s.heap) (UQ g A (fun v => some (va_rf v)) z args s (g.2.2.1 3 - s.heap.size) (g.2.2.1 4 - hsl s.heap) below) (F0 m 50 ls [.int s0]) := by
  intro x1 s0 σ H locs ls h hI hl
  unfold b_X2_simple_50 at h
  refine lv_istore_n (i := 2) (lv' := [(2, .int s0), (0, .ref o), (1, .int x1)]) C.x C.b dX2_simple_50 rfl hl (by decide) rfl (fun ls hl => ?_)
  refine lv_iload_n C.x C.b dX2_simple_51 rfl (lv_at hl 2 rfl) ?_
  refine lv_if_ne (tgt := 80) C.x C.b dX2_simple_52 (by decide) (fun c_1 => ?_) (fun c_1 => ?_)
  · have h := iN c_1 h
    exact w_X2_simple_80 C hx hl0 hw hR x1 s0 _ _ _ _ h hI (lv_sub hl [1, 2, 0] rfl)
  · have h := ip c_1 h
    refine lv_iload_n C.x C.b dX2_simple_55 rfl (lv_at hl 0 rfl) ?_
    refine r_aload_n (x := some o) C.x C.b dX2_simple_56 rfl (lv_at hl 1 rfl) ?_
    refine cw_gR (r := some o) 8 2 C hw hI h (by decide) rfl in_X2 (by decide) (C.t _ q260) (fun _ h9 => h9) dX2_simple_57 (fun v_2 h => ?_)
    refine cw_gR (r := v_2) 1 0 C hw hI h (by decide) rfl in_X4 (by decide) (C.t _ q840) (fun _ h9 => h9) dX2_simple_60 (fun v_3 h => ?_)
    refine cw_aL (r := v_3) C hw hI h dX2_simple_63 (fun v_4 h => ?_)
    refine lv_icmp_lt (tgt := 80) C.x C.b dX2_simple_64 (by decide) (fun c_5 => ?_) (fun c_5 => ?_)
    · have h := ip c_5 h
      exact w_X2_simple_80 C hx hl0 hw hR x1 s0 _ _ _ _ h hI (lv_sub hl [1, 2, 0] rfl)
    · have h := iN c_5 h
      refine cw_newF C hw hI hR.2.1 hR.2.2 h q753 q754 q149 dX2_simple_67 (fun q_6 σ_7 H locs h hI => ?_)
      refine lv_dup C.x C.b dX2_simple_70 rfl ?_
      refine r_aload_n (x := some o) C.x C.b dX2_simple_71 rfl (lv_at hl 1 rfl) ?_
      refine cw_gI (r := some o) 8 4 C hw hI h (by decide) rfl in_X2 (by decide) (C.t _ q262) (fun _ h9 => h9) dX2_simple_72 (fun v_8 h => ?_)
      refine lv_iconst (v := 1) C.x C.b dX2_simple_75 (by decide) ?_
      refine cw_callI (y := yX3_init) (bytes := cX3_init) (maxL := 3) (b := q_6) [.int v_8, .int 1] C hw hR hI hl.1 h (fun vv ss ee => k_X3_init l hl0 g A q_6 v_8 1 σ_7 vv ss ee) (cwI 2 C.t (lw_meth q764) rfl rfl rfl (C.t _ q149) (C.t _ q762) (C.t _ q763) rfl (by decide +kernel) ⟨Nat.le_trans (Nat.le_of_ble_eq_true rfl) hR.f, Nat.le_trans (Nat.le_of_ble_eq_true rfl) hR.lo⟩) rfl rfl (Nat.le_of_ble_eq_true rfl) dX2_simple_76 (fun σ_9 _ H locs h hI => ?_)
      exact cx_athrow (r := some q_6) C hx hw hI h dX2_simple_79

theorem k_X2_simple (l : Launch) (hl0 : l.stackTraces = false) (g : cG) (A : Nat → Prop) (o : Nat) (σ : cS) (z : (cX (Option Nat)) × cS) (h : m_X2_simple o σ = some z) : MetX l yX2_simple (ws_ yX2_simple cX2_simple 4 (Option.some (Jvm.ClassFile.FieldType.object "HeirCases$Guard"))) ({ frames := 12, cells := σ.2 3 - σ.2 0, slots := σ.2 4 - σ.2 1, locals := 3123 }) g A [.ref o] σ (fun v => some (va_rf v)) z (σ.2 3 - σ.2 0) (σ.2 4 - σ.2 1) := by
  refine metx_of (cc := cX2_simple) (maxL := 4) (ret := (Option.some (Jvm.ClassFile.FieldType.object "HeirCases$Guard"))) (by decide) rfl ?_
  intro p e s m args below meth c s₁ B hml hx hv
  obtain ⟨rfl, hw, hσ⟩ := hv
  have hts := atoms_spec (ws := (ws_ yX2_simple cX2_simple 4 (Option.some (Jvm.ClassFile.FieldType.object "HeirCases$Guard")))) B.pre
  have C : CX p m meth c s ([.ref o] : List Value).toArray cX2_simple 4 (Option.some (Jvm.ClassFile.FieldType.object "HeirCases$Guard")) RX2 := ⟨⟨B.exec, B.bytes, hml, findClass_of_methodNamed B.named, fun w h => hts w (List.mem_cons_of_mem _ h)⟩, B.returns, B.notSynchronized⟩
  have e3 : σ.2 3 - σ.2 0 = g.2.2.1 3 - s.heap.size := by rw [hσ.1, hσ.2.2.2.1 3 (by decide)]
  have e4 : σ.2 4 - σ.2 1 = g.2.2.1 4 - hsl s.heap := by rw [hσ.2.1, hσ.2.2.2.1 4 (by decide)]
  have hR : RM g s (headSpec (ws_ yX2_simple cX2_simple 4 (Option.some (Jvm.ClassFile.FieldType.object "HeirCases$Guard"))) ({ frames := 12, cells := σ.2 3 - σ.2 0, slots := σ.2 4 - σ.2 1, locals := 3123 })).room (12) (3123) := ⟨⟨Nat.le_refl _, Nat.le_refl _⟩, Nat.le_of_eq e3.symm, Nat.le_of_eq e4.symm⟩
  generalize (headSpec (ws_ yX2_simple cX2_simple 4 (Option.some (Jvm.ClassFile.FieldType.object "HeirCases$Guard"))) ({ frames := 12, cells := σ.2 3 - σ.2 0, slots := σ.2 4 - σ.2 1, locals := 3123 })).room = R at hR ⊢
  rw [e3, e4]
  have hI : CI g A s σ s.heap [] := ⟨hσ, va_S.rf, Nat.le_refl _⟩
  have hl := lv_entry ([.ref o]) (n := 4) (Nat.le_of_ble_eq_true rfl)
  rw [lg_entry_eq]
  generalize (lg_sl ([.ref o]) ++ List.replicate (4 - (lg_sl ([.ref o])).length) Slot.unset).toArray = ls at hl ⊢
  have hl : lv_has ls 4 [(0, .ref o)] := hl
  refine W.narrow ?_
  unfold m_X2_simple at h
  refine r_aload_n (x := some o) C.x C.b dX2_simple_0 rfl (lv_at hl 0 rfl) ?_
  refine cw_gst (Cn := "HeirCases$Token") (n := "WORD") (d := "LHeirCases$Token;") (k := 12) C hw hI (List.mem_of_getElem? (i := 2) rfl) (by decide) q682 rfl dX2_simple_1 ?_
  refine cx_callV (y := yX2_expect) (bytes := cX2_expect) (maxL := 2) (r := some o) (f := fun a_2 => m_X2_expect a_2 (some (σ.2 12)) σ) 8 (fun _ => none) [.ref (σ.2 12)] C hx hw hR hI hl.1 h (by decide) rfl (fun aa uu ee => k_X2_expect l hl0 g A aa (some (σ.2 12)) σ uu ee) (cwV 1 C.t (lw_V q783 q785 qs7 q133 q786) rfl rfl rfl (by decide +kernel) ⟨Nat.le_trans (Nat.le_of_ble_eq_true rfl) hR.f, Nat.le_trans (Nat.le_of_ble_eq_true rfl) hR.lo⟩) rfl rfl (Nat.le_of_ble_eq_true rfl) dX2_simple_4 (fun _ σ_1 H locs h hI => ?_)
  refine r_aload_n (x := some o) C.x C.b dX2_simple_7 rfl (lv_at hl 0 rfl) ?_
  refine cw_gR (r := some o) 8 6 C hw hI h (by decide) rfl in_X2 (by decide) (C.t _ q264) (fun _ h9 => h9) dX2_simple_8 (fun v_3 h => ?_)
  refine cw_ldcS (tx := "always") (k := 47) C hw hI (List.mem_of_getElem? (i := 28) rfl) (by decide) dX2_simple_11 ?_
  refine cw_callV (y := yJ4_equals) (bytes := cJ4_equals) (maxL := 3) (r := v_3) (f := fun a_6 => m_J4_equals a_6 (some (σ_1.2 47)) σ_1) 12 (fun v => some (.int v)) [.ref (σ_1.2 47)] C hw hR hI hl.1 h (by decide) rfl (fun aa vv ss ee => k_J4_equals l g A aa (some (σ_1.2 47)) σ_1 vv ss ee) (cwV 1 C.t (lw_V q745 q746 q747 q131 q748) rfl rfl rfl (by decide +kernel) ⟨Nat.le_trans (Nat.le_of_ble_eq_true rfl) hR.f, Nat.le_trans (Nat.le_of_ble_eq_true rfl) hR.lo⟩) rfl rfl (Nat.le_of_ble_eq_true rfl) dX2_simple_13 (fun v_4 σ_5 H locs h hI => ?_)
  refine lv_istore_n (i := 1) (lv' := [(1, .int v_4), (0, .ref o)]) C.x C.b dX2_simple_16 rfl hl (by decide) rfl (fun ls hl => ?_)
  refine r_aload_n (x := some o) C.x C.b dX2_simple_17 rfl (lv_at hl 1 rfl) ?_
  refine cw_gR (r := some o) 8 6 C hw hI h (by decide) rfl in_X2 (by decide) (C.t _ q264) (fun _ h9 => h9) dX2_simple_18 (fun v_7 h => ?_)
  refine cw_callV (y := yJ4_length) (bytes := cJ4_length) (maxL := 1) (r := v_7) (f := fun a_10 => m_J4_length a_10 σ_5) 12 (fun v => some (.int v)) [] C hw hR hI hl.1 h (by decide) rfl (fun aa vv ss ee => k_J4_length l g A aa σ_5 vv ss ee) (cwV 0 C.t (lw_V q985 q245 q246 q131 q247) rfl rfl rfl (by decide +kernel) ⟨Nat.le_trans (Nat.le_of_ble_eq_true rfl) hR.f, Nat.le_trans (Nat.le_of_ble_eq_true rfl) hR.lo⟩) rfl rfl (Nat.le_of_ble_eq_true rfl) dX2_simple_21 (fun v_8 σ_9 H locs h hI => ?_)
  refine lv_iconst (v := 1) C.x C.b dX2_simple_24 (by decide) ?_
  refine lv_icmp_ne (tgt := 42) C.x C.b dX2_simple_25 (by decide) (fun c_11 => ?_) (fun c_11 => ?_)
  · have h := iN c_11 h
    refine r_aload_n (x := some o) C.x C.b dX2_simple_42 rfl (lv_at hl 1 rfl) ?_
    refine cw_gR (r := some o) 8 2 C hw hI h (by decide) rfl in_X2 (by decide) (C.t _ q260) (fun _ h9 => h9) dX2_simple_43 (fun v_12 h => ?_)
    refine cw_gR (r := v_12) 1 0 C hw hI h (by decide) rfl in_X4 (by decide) (C.t _ q840) (fun _ h9 => h9) dX2_simple_46 (fun v_13 h => ?_)
    refine cw_aL (r := v_13) C hw hI h dX2_simple_49 (fun v_14 h => ?_)
    exact w_X2_simple_50 C hx hl0 hw hR v_4 v_14 _ _ _ _ h hI (lv_sub hl [1, 0] rfl)
  · have h := ip c_11 h
    refine r_aload_n (x := some o) C.x C.b dX2_simple_28 rfl (lv_at hl 1 rfl) ?_
    refine cw_gR (r := some o) 8 6 C hw hI h (by decide) rfl in_X2 (by decide) (C.t _ q264) (fun _ h9 => h9) dX2_simple_29 (fun v_15 h => ?_)
    refine lv_iconst (v := 0) C.x C.b dX2_simple_32 (by decide) ?_
    refine cw_callV (y := yJ4_charAt) (bytes := cJ4_charAt) (maxL := 2) (r := v_15) (f := fun a_18 => m_J4_charAt a_18 0 σ_9) 12 (fun v => some (.int v)) [.int 0] C hw hR hI hl.1 h (by decide) rfl (fun aa vv ss ee => k_J4_charAt l g A aa 0 σ_9 vv ss ee) (cwV 1 C.t (lw_V q986 q304 q2703 q131 q306) rfl rfl rfl (by decide +kernel) ⟨Nat.le_trans (Nat.le_of_ble_eq_true rfl) hR.f, Nat.le_trans (Nat.le_of_ble_eq_true rfl) hR.lo⟩) rfl rfl (Nat.le_of_ble_eq_true rfl) dX2_simple_33 (fun v_16 σ_17 H locs h hI => ?_)
    refine lv_bipush (v := 97) C.x C.b dX2_simple_36 (by decide) ?_
    refine lv_isub C.x C.b dX2_simple_38 ?_
    refine lv_goto (tgt := 50) C.x C.b dX2_simple_39 (by decide) ?_
    exact w_X2_simple_50 C hx hl0 hw hR v_4 (v_16 - 97) _ _ _ _ h hI (lv_sub hl [1, 0] rfl)

theorem k_X1_not (l : Launch) (g : cG) (A : Nat → Prop) (x0 : Option Nat) (σ : cS) (v : Option Nat) (σ1 : cS) (h : m_X1_not x0 σ = some (v, σ1)) : Met l yX1_not (ws_ yX1_not cX1_not 1 (Option.some (Jvm.ClassFile.FieldType.object "HeirCases$Guard"))) ({ frames := 2, cells := σ.2 3 - σ.2 0, slots := σ.2 4 - σ.2 1, locals := 61 }) (CPc g A [va_rf x0] σ) (CQ g A (some (va_rf v)) σ1) (σ.2 3 - σ.2 0) (σ.2 4 - σ.2 1) A := by
  refine Met.ofW (cc := cX1_not) (maxL := 1) (ret := (Option.some (Jvm.ClassFile.FieldType.object "HeirCases$Guard"))) (by decide) rfl ?_
  intro p e s m args below meth c s₁ B hml hv
  obtain ⟨rfl, hw, hσ⟩ := hv
  have hts := atoms_spec (ws := (ws_ yX1_not cX1_not 1 (Option.some (Jvm.ClassFile.FieldType.object "HeirCases$Guard")))) B.pre
  have C : CX p m meth c s ([va_rf x0] : List Value).toArray cX1_not 1 (Option.some (Jvm.ClassFile.FieldType.object "HeirCases$Guard")) RX1 := ⟨⟨B.exec, B.bytes, hml, findClass_of_methodNamed B.named, fun w h => hts w (List.mem_cons_of_mem _ h)⟩, B.returns, B.notSynchronized⟩
  have e3 : σ.2 3 - σ.2 0 = g.2.2.1 3 - s.heap.size := by rw [hσ.1, hσ.2.2.2.1 3 (by decide)]
  have e4 : σ.2 4 - σ.2 1 = g.2.2.1 4 - hsl s.heap := by rw [hσ.2.1, hσ.2.2.2.1 4 (by decide)]
  have hR : RM g s (headSpec (ws_ yX1_not cX1_not 1 (Option.some (Jvm.ClassFile.FieldType.object "HeirCases$Guard"))) ({ frames := 2, cells := σ.2 3 - σ.2 0, slots := σ.2 4 - σ.2 1, locals := 61 })).room (2) (61) := ⟨⟨Nat.le_refl _, Nat.le_refl _⟩, Nat.le_of_eq e3.symm, Nat.le_of_eq e4.symm⟩
  generalize (headSpec (ws_ yX1_not cX1_not 1 (Option.some (Jvm.ClassFile.FieldType.object "HeirCases$Guard"))) ({ frames := 2, cells := σ.2 3 - σ.2 0, slots := σ.2 4 - σ.2 1, locals := 61 })).room = R at hR ⊢
  rw [e3, e4]
  have hI : CI g A s σ s.heap [] := ⟨hσ, va_S.rf, Nat.le_refl _⟩
  have hlen : (lg_sl ([va_rf x0])).length ≤ 1 := by rcases x0 with _ | x0 <;> exact Nat.le_of_ble_eq_true rfl
  have hl := lv_entry ([va_rf x0]) (n := 1) hlen
  rw [lg_entry_eq]
  generalize (lg_sl ([va_rf x0]) ++ List.replicate (1 - (lg_sl ([va_rf x0])).length) Slot.unset).toArray = ls at hl ⊢
  have hl : lv_has ls 1 [(0, va_rf x0)] := by clear hI hw h hσ e3 e4 hR C hts B; rcases x0 with _ | x0 <;> exact hl
  obtain ⟨z, hz⟩ : ∃ z, z = (v, σ1) := ⟨_, rfl⟩
  rw [← hz] at h
  rw [show v = z.1 by rw [hz], show σ1 = z.2 by rw [hz]]
  clear hz v σ1
  refine W.narrow ?_
  unfold m_X1_not at h
  refine cw_new (T := TX5) (N := 1) 6 C hw hI hR.2.1 hR.2.2 h (by decide) rfl in_X5 tyX5 tyX5_ok (fun j hj => match j, hj with | 0, _ => rfl | j + 1, hj => absurd hj (Nat.not_lt_of_le (Nat.le_add_left _ _))) q970 q971 q153 dX1_not_0 (fun q_1 σ_2 H locs h hI => ?_)
  refine lv_dup C.x C.b dX1_not_3 rfl ?_
  refine r_aload_n (x := x0) C.x C.b dX1_not_4 rfl (lv_at hl 0 rfl) ?_
  refine cw_callI (y := yX5_init) (bytes := cX5_init) (maxL := 2) (b := q_1) [va_rf x0] C hw hR hI hl.1 h (fun vv ss ee => k_X5_init l g A q_1 x0 σ_2 vv ss ee) (cwI 1 C.t (lw_meth q974) rfl rfl rfl (C.t _ q153) (C.t _ q972) (C.t _ q973) rfl (by decide +kernel) ⟨Nat.le_trans (Nat.le_of_ble_eq_true rfl) hR.f, Nat.le_trans (Nat.le_of_ble_eq_true rfl) hR.lo⟩) rfl rfl (Nat.le_of_ble_eq_true rfl) dX1_not_5 (fun σ_3 _ H locs h hI => ?_)
  exact cw_aret (x := some q_1) C (Or.inl ⟨_, rfl⟩) hI h dX1_not_8

theorem kO_X2_factor (l : Launch) (hl0 : l.stackTraces = false) (g : cG) (A : Nat → Prop) {F : Nat → Int32 → cS → Option (cX (Option Nat) × cS)} {fF lF : Nat} (hF : HF_factor l g A F fF lF) (o : Nat) (x1 : Int32) (σ : cS) (z : (cX (Option Nat)) × cS) (h : mO_X2_factor F o x1 σ = some z) : MetX l yX2_factor (ws_ yX2_factor cX2_factor 3 (Option.some (Jvm.ClassFile.FieldType.object "HeirCases$Guard"))) ({ frames := fF + 13, cells := σ.2 3 - σ.2 0, slots := σ.2 4 - σ.2 1, locals := lF + 3146 }) g A [.ref o, .int x1] σ (fun v => some (va_rf v)) z (σ.2 3 - σ.2 0) (σ.2 4 - σ.2 1) := by
  refine metx_of (cc := cX2_factor) (maxL := 3) (ret := (Option.some (Jvm.ClassFile.FieldType.object "HeirCases$Guard"))) (by decide) rfl ?_
  intro p e s m args below meth c s₁ B hml hx hv
  obtain ⟨rfl, hw, hσ⟩ := hv
  have hts := atoms_spec (ws := (ws_ yX2_factor cX2_factor 3 (Option.some (Jvm.ClassFile.FieldType.object "HeirCases$Guard")))) B.pre
  have C : CX p m meth c s ([.ref o, .int x1] : List Value).toArray cX2_factor 3 (Option.some (Jvm.ClassFile.FieldType.object "HeirCases$Guard")) RX2 := ⟨⟨B.exec, B.bytes, hml, findClass_of_methodNamed B.named, fun w h => hts w (List.mem_cons_of_mem _ h)⟩, B.returns, B.notSynchronized⟩
  have e3 : σ.2 3 - σ.2 0 = g.2.2.1 3 - s.heap.size := by rw [hσ.1, hσ.2.2.2.1 3 (by decide)]
  have e4 : σ.2 4 - σ.2 1 = g.2.2.1 4 - hsl s.heap := by rw [hσ.2.1, hσ.2.2.2.1 4 (by decide)]
  have hR : RM g s (headSpec (ws_ yX2_factor cX2_factor 3 (Option.some (Jvm.ClassFile.FieldType.object "HeirCases$Guard"))) ({ frames := fF + 13, cells := σ.2 3 - σ.2 0, slots := σ.2 4 - σ.2 1, locals := lF + 3146 })).room (fF + 13) (lF + 3146) := ⟨⟨Nat.le_refl _, Nat.le_refl _⟩, Nat.le_of_eq e3.symm, Nat.le_of_eq e4.symm⟩
  generalize (headSpec (ws_ yX2_factor cX2_factor 3 (Option.some (Jvm.ClassFile.FieldType.object "HeirCases$Guard"))) ({ frames := fF + 13, cells := σ.2 3 - σ.2 0, slots := σ.2 4 - σ.2 1, locals := lF + 3146 })).room = R at hR ⊢
  rw [e3, e4]
  have hI : CI g A s σ s.heap [] := ⟨hσ, va_S.rf, Nat.le_refl _⟩
  have hl := lv_entry ([.ref o, .int x1]) (n := 3) (Nat.le_of_ble_eq_true rfl)
  rw [lg_entry_eq]
  generalize (lg_sl ([.ref o, .int x1]) ++ List.replicate (3 - (lg_sl ([.ref o, .int x1])).length) Slot.unset).toArray = ls at hl ⊢
  have hl : lv_has ls 3 [(0, .ref o), (1, .int x1)] := hl
  refine W.narrow ?_
  unfold mO_X2_factor at h
  refine r_aload_n (x := some o) C.x C.b dX2_factor_0 rfl (lv_at hl 0 rfl) ?_
  refine lv_bipush (v := 40) C.x C.b dX2_factor_1 (by decide) ?_
  refine cw_callV (y := yX2_isSign) (bytes := cX2_isSign) (maxL := 2) (r := some o) (f := fun a_3 => m_X2_isSign a_3 40 σ) 8 (fun v => some (.int v)) [.int 40] C hw hR hI hl.1 h (by decide) rfl (fun aa vv ss ee => k_X2_isSign l g A aa 40 σ vv ss ee) (cwV 1 C.t (lw_V q791 q793 qs9 q133 q794) rfl rfl rfl (by decide +kernel) ⟨Nat.le_trans (Nat.le_add_left_of_le (Nat.le_of_ble_eq_true rfl)) hR.f, Nat.le_trans (Nat.le_add_left_of_le (Nat.le_of_ble_eq_true rfl)) hR.lo⟩) rfl rfl (Nat.le_of_ble_eq_true rfl) dX2_factor_3 (fun v_1 σ_2 H locs h hI => ?_)
  refine lv_if_eq (tgt := 47) C.x C.b dX2_factor_6 (by decide) (fun c_4 => ?_) (fun c_4 => ?_)
  · have h := ip c_4 h
    refine r_aload_n (x := some o) C.x C.b dX2_factor_47 rfl (lv_at hl 0 rfl) ?_
    refine cw_ldcS (tx := "not") (k := 46) C hw hI (List.mem_of_getElem? (i := 27) rfl) (by decide) dX2_factor_48 ?_
    refine cw_callV (y := yX2_isWord) (bytes := cX2_isWord) (maxL := 2) (r := some o) (f := fun a_7 => m_X2_isWord a_7 (some (σ_2.2 46)) σ_2) 8 (fun v => some (.int v)) [.ref (σ_2.2 46)] C hw hR hI hl.1 h (by decide) rfl (fun aa vv ss ee => k_X2_isWord l g A aa (some (σ_2.2 46)) σ_2 vv ss ee) (cwV 1 C.t (lw_V q741 q743 qs5 q133 q744) rfl rfl rfl (by decide +kernel) ⟨Nat.le_trans (Nat.le_add_left_of_le (Nat.le_of_ble_eq_true rfl)) hR.f, Nat.le_trans (Nat.le_add_left_of_le (Nat.le_of_ble_eq_true rfl)) hR.lo⟩) rfl rfl (Nat.le_of_ble_eq_true rfl) dX2_factor_50 (fun v_5 σ_6 H locs h hI => ?_)
    refine lv_if_eq (tgt := 100) C.x C.b dX2_factor_53 (by decide) (fun c_8 => ?_) (fun c_8 => ?_)
    · have h := ip c_8 h
      refine r_aload_n (x := some o) C.x C.b dX2_factor_100 rfl (lv_at hl 0 rfl) ?_
      refine cx_callV (y := yX2_simple) (bytes := cX2_simple) (maxL := 4) (r := some o) (f := fun a_11 => m_X2_simple a_11 σ_6) 8 (fun v => some (va_rf v)) [] C hx hw hR hI hl.1 h (by decide) rfl (fun aa uu ee => k_X2_simple l hl0 g A aa σ_6 uu ee) (cwV 0 C.t (lw_V q980 q982 qs16 q133 q983) rfl rfl rfl (by decide +kernel) ⟨Nat.le_trans (Nat.le_add_left_of_le (Nat.le_of_ble_eq_true rfl)) hR.f, Nat.le_trans (Nat.le_add_left_of_le (Nat.le_of_ble_eq_true rfl)) hR.lo⟩) rfl rfl (Nat.le_of_ble_eq_true rfl) dX2_factor_101 (fun v_9 σ_10 H locs h hI => ?_)
      exact uq_l h (fun y h => cw_aret (x := v_9) C (Or.inl ⟨_, rfl⟩) hI h dX2_factor_104)
    · have h := iN c_8 h
      refine r_aload_n (x := some o) C.x C.b dX2_factor_56 rfl (lv_at hl 0 rfl) ?_
      refine cw_gI (r := some o) 8 9 C hw hI h (by decide) rfl in_X2 (by decide) (C.t _ q267) (fun _ h9 => h9) dX2_factor_57 (fun v_12 h => ?_)
      refine lv_iconst (v := 5) C.x C.b dX2_factor_60 (by decide) ?_
      refine lv_icmp_ne (tgt := 77) C.x C.b dX2_factor_61 (by decide) (fun c_13 => ?_) (fun c_13 => ?_)
      · have h := iN c_13 h
        refine r_aload_n (x := some o) C.x C.b dX2_factor_77 rfl (lv_at hl 0 rfl) ?_
        refine lv_dup C.x C.b dX2_factor_78 rfl ?_
        refine cw_gI (r := some o) 8 9 C hw hI h (by decide) rfl in_X2 (by decide) (C.t _ q267) (fun _ h9 => h9) dX2_factor_79 (fun v_14 h => ?_)
        refine lv_iconst (v := 1) C.x C.b dX2_factor_82 (by decide) ?_
        refine lv_iadd C.x C.b dX2_factor_83 ?_
        refine cw_pO (r := some o) (v := (.int (v_14 + 1))) (ty := .int) 8 9 C hw hI h (by decide) rfl in_X2 tyX2 tyX2_ok nmX2 (by decide) (C.t _ q267) (fun _ h9 => h9) (Or.inl rfl) (by decide +kernel) rfl rfl dX2_factor_84 (fun σ_15 H locs h hI => ?_)
        refine r_aload_n (x := some o) C.x C.b dX2_factor_87 rfl (lv_at hl 0 rfl) ?_
        refine cw_callV (y := yX2_next) (bytes := cX2_next) (maxL := 1) (r := some o) (f := fun a_17 => m_X2_next a_17 σ_15) 8 (fun _ => none) [] C hw hR hI hl.1 h (by decide) rfl (fun aa vv ss ee => k_X2_next l g A aa σ_15 vv ss ee) (cwV 0 C.t (lw_V q293 q295 qs1 q133 q296) rfl rfl rfl (by decide +kernel) ⟨Nat.le_trans (Nat.le_add_left_of_le (Nat.le_of_ble_eq_true rfl)) hR.f, Nat.le_trans (Nat.le_add_left_of_le (Nat.le_of_ble_eq_true rfl)) hR.lo⟩) rfl rfl (Nat.le_of_ble_eq_true rfl) dX2_factor_88 (fun _ σ_16 H locs h hI => ?_)
        refine r_aload_n (x := some o) C.x C.b dX2_factor_91 rfl (lv_at hl 0 rfl) ?_
        refine lv_iload_n C.x C.b dX2_factor_92 rfl (lv_at hl 1 rfl) ?_
        refine cx_callV (y := yX2_factor) (bytes := cX2_factor) (maxL := 3) (r := some o) (f := fun a_20 => F a_20 x1 σ_16) 8 (fun v => some (va_rf v)) [.int x1] C hx hw hR hI hl.1 h (by decide) rfl (fun aa uu ee => hF aa x1 σ_16 uu ee) (cwV 1 C.t (lw_V q962 q964 qs15 q133 q965) rfl rfl rfl (by decide +kernel) ⟨Nat.le_trans (by show fF + 1 ≤ fF + 13; omega) hR.f, Nat.le_trans (by show 8 + (3 + 11) + lF ≤ lF + 3146; omega) hR.lo⟩) rfl rfl (Nat.le_of_ble_eq_true rfl) dX2_factor_93 (fun v_18 σ_19 H locs h hI => ?_)
        refine cw_callSN (y := yX1_not) (bytes := cX1_not) (maxL := 1) (host := "HeirCases") (fun v => some (va_rf v)) [va_rf v_18] C hw hR hI hl.1 h (fun vv ss ee => k_X1_not l g A v_18 σ_19 vv ss ee) (cw_nest 1 C hw (List.mem_of_getElem? (i := 0) rfl) q969 rfl rfl q126 q968 (by decide +kernel) ⟨Nat.le_trans (Nat.le_add_left_of_le (Nat.le_of_ble_eq_true rfl)) hR.f, Nat.le_trans (Nat.le_add_left_of_le (Nat.le_of_ble_eq_true rfl)) hR.lo⟩) rfl rfl (Nat.le_of_ble_eq_true rfl) dX2_factor_96 (fun v_21 σ_22 H locs h hI => ?_)
        exact uq_l h (fun y h => cw_aret (x := v_21) C (Or.inl ⟨_, rfl⟩) hI h dX2_factor_99)
      · have h := ip c_13 h
        refine cw_newF C hw hI hR.2.1 hR.2.2 h q753 q754 q149 dX2_factor_64 (fun q_23 σ_24 H locs h hI => ?_)
        refine lv_dup C.x C.b dX2_factor_67 rfl ?_
        refine r_aload_n (x := some o) C.x C.b dX2_factor_68 rfl (lv_at hl 0 rfl) ?_
        refine cw_gI (r := some o) 8 4 C hw hI h (by decide) rfl in_X2 (by decide) (C.t _ q262) (fun _ h9 => h9) dX2_factor_69 (fun v_25 h => ?_)
        refine lv_iconst (v := 4) C.x C.b dX2_factor_72 (by decide) ?_
        refine cw_callI (y := yX3_init) (bytes := cX3_init) (maxL := 3) (b := q_23) [.int v_25, .int 4] C hw hR hI hl.1 h (fun vv ss ee => k_X3_init l hl0 g A q_23 v_25 4 σ_24 vv ss ee) (cwI 2 C.t (lw_meth q764) rfl rfl rfl (C.t _ q149) (C.t _ q762) (C.t _ q763) rfl (by decide +kernel) ⟨Nat.le_trans (Nat.le_add_left_of_le (Nat.le_of_ble_eq_true rfl)) hR.f, Nat.le_trans (Nat.le_add_left_of_le (Nat.le_of_ble_eq_true rfl)) hR.lo⟩) rfl rfl (Nat.le_of_ble_eq_true rfl) dX2_factor_73 (fun σ_26 _ H locs h hI => ?_)
        exact cx_athrow (r := some q_23) C hx hw hI h dX2_factor_76
  · have h := iN c_4 h
    refine lv_iload_n C.x C.b dX2_factor_9 rfl (lv_at hl 1 rfl) ?_
    refine lv_iconst (v := 5) C.x C.b dX2_factor_10 (by decide) ?_
    refine lv_icmp_ne (tgt := 27) C.x C.b dX2_factor_11 (by decide) (fun c_27 => ?_) (fun c_27 => ?_)
    · have h := iN c_27 h
      refine r_aload_n (x := some o) C.x C.b dX2_factor_27 rfl (lv_at hl 0 rfl) ?_
      refine cw_callV (y := yX2_next) (bytes := cX2_next) (maxL := 1) (r := some o) (f := fun a_29 => m_X2_next a_29 σ_2) 8 (fun _ => none) [] C hw hR hI hl.1 h (by decide) rfl (fun aa vv ss ee => k_X2_next l g A aa σ_2 vv ss ee) (cwV 0 C.t (lw_V q293 q295 qs1 q133 q296) rfl rfl rfl (by decide +kernel) ⟨Nat.le_trans (Nat.le_add_left_of_le (Nat.le_of_ble_eq_true rfl)) hR.f, Nat.le_trans (Nat.le_add_left_of_le (Nat.le_of_ble_eq_true rfl)) hR.lo⟩) rfl rfl (Nat.le_of_ble_eq_true rfl) dX2_factor_28 (fun _ σ_28 H locs h hI => ?_)
      refine r_aload_n (x := some o) C.x C.b dX2_factor_31 rfl (lv_at hl 0 rfl) ?_
      refine lv_iload_n C.x C.b dX2_factor_32 rfl (lv_at hl 1 rfl) ?_
      refine lv_iconst (v := 1) C.x C.b dX2_factor_33 (by decide) ?_
      refine lv_iadd C.x C.b dX2_factor_34 ?_
      refine cx_callV (y := yX2_guard) (bytes := cX2_guard) (maxL := 4) (r := some o) (f := fun a_32 => m_X2_guard F a_32 (x1 + 1) σ_28) 8 (fun v => some (va_rf v)) [.int (x1 + 1)] C hx hw hR hI hl.1 h (by decide) rfl (fun aa uu ee => k_X2_guard l hl0 g A hF aa (x1 + 1) σ_28 uu ee) (cwV 1 C.t (lw_V q954 q956 qs13 q133 q957) rfl rfl rfl (by decide +kernel) ⟨Nat.le_trans (by show fF + 11 + 1 ≤ fF + 13; omega) hR.f, Nat.le_trans (by show 8 + (4 + 11) + (lF + 260) ≤ lF + 3146; omega) hR.lo⟩) rfl rfl (Nat.le_of_ble_eq_true rfl) dX2_factor_35 (fun v_30 σ_31 H locs h hI => ?_)
      refine r_astore_n (i := 2) (x := v_30) (lv' := [(2, va_rf v_30), (0, .ref o), (1, .int x1)]) C.x C.b dX2_factor_38 rfl hl (by decide) (by rfl) (fun ls hl => ?_)
      refine r_aload_n (x := some o) C.x C.b dX2_factor_39 rfl (lv_at hl 1 rfl) ?_
      refine lv_bipush (v := 41) C.x C.b dX2_factor_40 (by decide) ?_
      refine cx_callV (y := yX2_sign) (bytes := cX2_sign) (maxL := 2) (r := some o) (f := fun a_34 => m_X2_sign a_34 41 σ_31) 8 (fun _ => none) [.int 41] C hx hw hR hI hl.1 h (by decide) rfl (fun aa uu ee => k_X2_sign l hl0 g A aa 41 σ_31 uu ee) (cwV 1 C.t (lw_V q787 q789 qs8 q133 q790) rfl rfl rfl (by decide +kernel) ⟨Nat.le_trans (Nat.le_add_left_of_le (Nat.le_of_ble_eq_true rfl)) hR.f, Nat.le_trans (Nat.le_add_left_of_le (Nat.le_of_ble_eq_true rfl)) hR.lo⟩) rfl rfl (Nat.le_of_ble_eq_true rfl) dX2_factor_42 (fun _ σ_33 H locs h hI => ?_)
      refine r_aload_n (x := v_30) C.x C.b dX2_factor_45 rfl (lv_at hl 0 rfl) ?_
      exact uq_l h (fun y h => cw_aret (x := v_30) C (Or.inl ⟨_, rfl⟩) hI h dX2_factor_46)
    · have h := ip c_27 h
      refine cw_newF C hw hI hR.2.1 hR.2.2 h q753 q754 q149 dX2_factor_14 (fun q_35 σ_36 H locs h hI => ?_)
      refine lv_dup C.x C.b dX2_factor_17 rfl ?_
      refine r_aload_n (x := some o) C.x C.b dX2_factor_18 rfl (lv_at hl 0 rfl) ?_
      refine cw_gI (r := some o) 8 4 C hw hI h (by decide) rfl in_X2 (by decide) (C.t _ q262) (fun _ h9 => h9) dX2_factor_19 (fun v_37 h => ?_)
      refine lv_iconst (v := 4) C.x C.b dX2_factor_22 (by decide) ?_
      refine cw_callI (y := yX3_init) (bytes := cX3_init) (maxL := 3) (b := q_35) [.int v_37, .int 4] C hw hR hI hl.1 h (fun vv ss ee => k_X3_init l hl0 g A q_35 v_37 4 σ_36 vv ss ee) (cwI 2 C.t (lw_meth q764) rfl rfl rfl (C.t _ q149) (C.t _ q762) (C.t _ q763) rfl (by decide +kernel) ⟨Nat.le_trans (Nat.le_add_left_of_le (Nat.le_of_ble_eq_true rfl)) hR.f, Nat.le_trans (Nat.le_add_left_of_le (Nat.le_of_ble_eq_true rfl)) hR.lo⟩) rfl rfl (Nat.le_of_ble_eq_true rfl) dX2_factor_23 (fun σ_38 _ H locs h hI => ?_)
      exact cx_athrow (r := some q_35) C hx hw hI h dX2_factor_26

theorem k_X2_factor (l : Launch) (hl0 : l.stackTraces = false) (g : cG) (A : Nat → Prop) : ∀ d, HF_factor l g A (m_X2_factor d) (13 * d) (3146 * d) := by
  intro d
  induction d with
  | zero => intro o x1 σ z h; cases h
  | succ d ih =>
    intro o x1 σ z h
    exact kO_X2_factor l hl0 g A ih o x1 σ z h
theorem k_X2_factorD (l : Launch) (hl0 : l.stackTraces = false) (g : cG) (A : Nat → Prop) : HF_factor l g A (m_X2_factor DPC) 416 100672 := k_X2_factor l hl0 g A DPC

theorem w_X2_rule_86 {z : (cX (Int32)) × cS} {o : Nat} (C : CX p m meth c s args cX2_rule 3 (Option.none : Option Jvm.ClassFile.FieldType) RX2) (hx : ∀ x ∈ c.exceptionTable.toList, False) (hl0 : l.stackTraces = false) (hw : WKc g A s s.heap) (hR : RM g s R (428) (100955)) {k69 : Option Nat → cS → Option ((cX (Int32)) × cS)} (hk69 : ∀ (x2 : Option Nat) (σ : cS) (H : Heap) (locs : List Loc) (ls : Array Slot), k69 x2 σ = some z → CI g A s σ H locs → lv_has ls 3 [(0, .ref o), (2, va_rf x2)] → W p l e R s m args below meth c H locs (H.size - s.heap.size) (hsl H - hsl s.heap) (UQ g A (fun _ => none) z args s (g.2.2.1 3 - s.heap.size) (g.2.2.1 4 - hsl s.heap) below) (F0 m 69 ls [])) : ∀ (x2 : Option Nat) (σ : cS) (H : Heap) (locs : List Loc) (ls : Array Slot), b_X2_rule_86 o k69 x2 σ = some z → CI g A s σ H locs → lv_has ls 3 [(0, .ref o), (2, va_rf x2)] → W p l e R s m args below meth c H locs (H.size - s.heap.size) (hsl H - hsl s.heap) (UQ g A (fun _ => none) z args s (g.2.2.1 3 - s.heap.size) (g.2.2.1 4 - hsl s.heap) below) (F0 m 86 ls []) := by
  intro x2 σ H locs ls h hI hl
  unfold b_X2_rule_86 at h
  refine r_aload_n (x := x2) C.x C.b dX2_rule_86 rfl (lv_at hl 1 rfl) ?_
  refine lv_dup C.x C.b dX2_rule_87 (cat_rf _) ?_
  refine cw_gI (r := x2) 2 3 C hw hI h (by decide) rfl in_X9 (by decide) (C.t _ q1111) (fun _ h9 => h9) dX2_rule_88 (fun v_1 h => ?_)
  refine lv_iconst (v := 1) C.x C.b dX2_rule_91 (by decide) ?_
  refine r_aload_n (x := some o) C.x C.b dX2_rule_92 rfl (lv_at hl 0 rfl) ?_
  refine r_aload_n (x := x2) C.x C.b dX2_rule_93 rfl (lv_at hl 1 rfl) ?_
  refine cw_gI (r := x2) 2 3 C hw hI h (by decide) rfl in_X9 (by decide) (C.t _ q1111) (fun _ h9 => h9) dX2_rule_94 (fun v_2 h => ?_)
  refine r_aload_n (x := some o) C.x C.b dX2_rule_97 rfl (lv_at hl 0 rfl) ?_
  refine cw_gR (r := some o) 8 2 C hw hI h (by decide) rfl in_X2 (by decide) (C.t _ q260) (fun _ h9 => h9) dX2_rule_98 (fun v_3 h => ?_)
  refine cw_gR (r := v_3) 1 4 C hw hI h (by decide) rfl in_X4 (by decide) (C.t _ q852) (fun _ h9 => h9) dX2_rule_101 (fun v_4 h => ?_)
  refine cw_callV8 (y := yJ18_size) (bytes := cJ18_size) (maxL := 1) (r := v_4) (f := fun a_7 => m_J18_size a_7 σ) 9 (fun v => some (.int v)) [] C hw hR hI hl.1 h (by decide) rfl (fun aa vv ss ee => k_J18_size l g A aa σ vv ss ee) (cwV 0 C.t (lw_V q946 q947 q948 q152 q949) rfl rfl rfl (by decide +kernel) ⟨Nat.le_trans (Nat.le_of_ble_eq_true rfl) hR.f, Nat.le_trans (Nat.le_of_ble_eq_true rfl) hR.lo⟩) rfl rfl (by simp [cat_rf, cat_i, cat_a]) dX2_rule_104 (fun v_5 σ_6 H locs h hI => ?_)
  refine lv_iconst (v := 1) C.x C.b dX2_rule_107 (by decide) ?_
  refine lv_isub C.x C.b dX2_rule_108 ?_
  refine cx_callV (y := yX2_newIn) (bytes := cX2_newIn) (maxL := 4) (r := some o) (f := fun a_10 => m_X2_newIn a_10 v_2 (v_5 - 1) σ_6) 8 (fun v => some (.int v)) [.int v_2, .int (v_5 - 1)] C hx hw hR hI hl.1 h (by decide) rfl (fun aa uu ee => k_X2_newIn l hl0 g A aa v_2 (v_5 - 1) σ_6 uu ee) (cwV 2 C.t (lw_V q1128 q1130 qs21 q133 q1131) rfl rfl rfl (by decide +kernel) ⟨Nat.le_trans (Nat.le_of_ble_eq_true rfl) hR.f, Nat.le_trans (Nat.le_of_ble_eq_true rfl) hR.lo⟩) rfl rfl (Nat.le_of_ble_eq_true rfl) dX2_rule_109 (fun v_8 σ_9 H locs h hI => ?_)
  refine lv_ishl C.x C.b dX2_rule_112 ?_
  refine lv_ior C.x C.b dX2_rule_113 ?_
  refine cw_pO (r := x2) (v := (.int (v_1 ||| (1 <<< (v_8 &&& 31))))) (ty := .int) 2 3 C hw hI h (by decide) rfl in_X9 tyX9 tyX9_ok nmX9 (by decide) (C.t _ q1111) (fun _ h9 => h9) (Or.inl rfl) (by decide +kernel) rfl rfl dX2_rule_114 (fun σ_11 H locs h hI => ?_)
  refine lv_goto (tgt := 69) C.x C.b dX2_rule_117 (by decide) ?_
  exact hk69 x2 _ _ _ _ h hI (lv_sub hl [0, 1] rfl)

theorem w_X2_rule_120 {z : (cX (Int32)) × cS} {o : Nat} (C : CX p m meth c s args cX2_rule 3 (Option.none : Option Jvm.ClassFile.FieldType) RX2) (hx : ∀ x ∈ c.exceptionTable.toList, False) (hl0 : l.stackTraces = false) (hw : WKc g A s s.heap) (hR : RM g s R (428) (100955))  : ∀ (x2 : Option Nat) (σ : cS) (H : Heap) (locs : List Loc) (ls : Array Slot), b_X2_rule_120 o x2 σ = some z → CI g A s σ H locs → lv_has ls 3 [(0, .ref o), (2, va_rf x2)] → W p l e R s m args below meth c H locs (H.size - s.heap.size) (hsl H - hsl s.heap) (UQ g A (fun _ => none) z args s (g.2.2.1 3 - s.heap.size) (g.2.2.1 4 - hsl s.heap) below) (F0 m 120 ls []) := by
  intro x2 σ H locs ls h hI hl
  unfold b_X2_rule_120 at h
  refine r_aload_n (x := some o) C.x C.b dX2_rule_120 rfl (lv_at hl 0 rfl) ?_
  refine cw_gR (r := some o) 8 2 C hw hI h (by decide) rfl in_X2 (by decide) (C.t _ q260) (fun _ h9 => h9) dX2_rule_121 (fun v_1 h => ?_)
  refine cw_gR (r := v_1) 1 4 C hw hI h (by decide) rfl in_X4 (by decide) (C.t _ q852) (fun _ h9 => h9) dX2_rule_124 (fun v_2 h => ?_)
  refine r_aload_n (x := x2) C.x C.b dX2_rule_127 rfl (lv_at hl 1 rfl) ?_
  refine cw_callV (y := yJ18_add) (bytes := cJ18_add) (maxL := 2) (r := v_2) (f := fun a_5 => m_J18_add a_5 x2 σ) 9 (fun v => some (.int v)) [va_rf x2] C hw hR hI hl.1 h (by decide) rfl (fun aa vv ss ee => k_J18_add l g A aa x2 σ vv ss ee) (cwV 1 C.t (lw_V q1040 q1041 q1042 q152 q1043) rfl rfl rfl (by decide +kernel) ⟨Nat.le_trans (Nat.le_of_ble_eq_true rfl) hR.f, Nat.le_trans (Nat.le_of_ble_eq_true rfl) hR.lo⟩) rfl rfl (Nat.le_of_ble_eq_true rfl) dX2_rule_128 (fun v_3 σ_4 H locs h hI => ?_)
  refine lv_pop C.x C.b dX2_rule_131 rfl ?_
  exact uq_l h (fun y h => cw_vret C hI h dX2_rule_132)

theorem w_X2_rule_69 {z : (cX (Int32)) × cS} {o : Nat} (C : CX p m meth c s args cX2_rule 3 (Option.none : Option Jvm.ClassFile.FieldType) RX2) (hx : ∀ x ∈ c.exceptionTable.toList, False) (hl0 : l.stackTraces = false) (hw : WKc g A s s.heap) (hR : RM g s R (428) (100955))  : ∀ (n : Nat) (x2 : Option Nat) (σ : cS) (H : Heap) (locs : List Loc) (ls : Array Slot), b_X2_rule_69 o n x2 σ = some z → CI g A s σ H locs → lv_has ls 3 [(0, .ref o), (2, va_rf x2)] → W p l e R s m args below meth c H locs (H.size - s.heap.size) (hsl H - hsl s.heap) (UQ g A (fun _ => none) z args s (g.2.2.1 3 - s.heap.size) (g.2.2.1 4 - hsl s.heap) below) (F0 m 69 ls []) := by
  intro n
  induction n with
  | zero =>
    intro x2 σ H locs ls h
    cases h
  | succ n ih =>
    intro x2 σ H locs ls h hI hl
    rw [b_X2_rule_69] at h
    refine r_aload_n (x := x2) C.x C.b dX2_rule_69 rfl (lv_at hl 1 rfl) ?_
    refine cw_gI (r := x2) 2 3 C hw hI h (by decide) rfl in_X9 (by decide) (C.t _ q1111) (fun _ h9 => h9) dX2_rule_70 (fun v_1 h => ?_)
    refine lv_if_eq (tgt := 86) C.x C.b dX2_rule_73 (by decide) (fun c_2 => ?_) (fun c_2 => ?_)
    · have h := ip c_2 h
      exact w_X2_rule_86 C hx hl0 hw hR (fun y0 σ H locs ls h hI hl => ih y0 σ H locs ls h hI hl) x2 _ _ _ _ h hI (lv_sub hl [0, 1] rfl)
    · have h := iN c_2 h
      refine r_aload_n (x := some o) C.x C.b dX2_rule_76 rfl (lv_at hl 0 rfl) ?_
      refine cw_gR (r := some o) 8 5 C hw hI h (by decide) rfl in_X2 (by decide) (C.t _ q263) (fun _ h9 => h9) dX2_rule_77 (fun v_3 h => ?_)
      refine cw_gst (Cn := "HeirCases$Token") (n := "NUMBER") (d := "LHeirCases$Token;") (k := 13) C hw hI (List.mem_of_getElem? (i := 3) rfl) (by decide) q686 rfl dX2_rule_80 ?_
      refine lv_acmp_ne (rx := v_3) (ry := some (σ.2 13)) (tgt := 120) C.x C.b dX2_rule_83 (by decide) (fun c_4 => ?_) (fun c_4 => ?_)
      · have h := iN c_4 h
        exact w_X2_rule_120 C hx hl0 hw hR x2 _ _ _ _ h hI (lv_sub hl [0, 1] rfl)
      · have h := ip c_4 h
        exact w_X2_rule_86 C hx hl0 hw hR (fun y0 σ H locs ls h hI hl => ih y0 σ H locs ls h hI hl) x2 _ _ _ _ h hI (lv_sub hl [0, 1] rfl)

theorem w_X2_rule_56 {z : (cX (Int32)) × cS} {o : Nat} (C : CX p m meth c s args cX2_rule 3 (Option.none : Option Jvm.ClassFile.FieldType) RX2) (hx : ∀ x ∈ c.exceptionTable.toList, False) (hl0 : l.stackTraces = false) (hw : WKc g A s s.heap) (hR : RM g s R (428) (100955))  : ∀ (x2 : Option Nat) (σ : cS) (H : Heap) (locs : List Loc) (ls : Array Slot), b_X2_rule_56 o x2 σ = some z → CI g A s σ H locs → lv_has ls 3 [(0, .ref o), (2, va_rf x2)] → W p l e R s m args below meth c H locs (H.size - s.heap.size) (hsl H - hsl s.heap) (UQ g A (fun _ => none) z args s (g.2.2.1 3 - s.heap.size) (g.2.2.1 4 - hsl s.heap) below) (F0 m 56 ls []) := by
  intro x2 σ H locs ls h hI hl
  unfold b_X2_rule_56 at h
  refine r_aload_n (x := some o) C.x C.b dX2_rule_56 rfl (lv_at hl 0 rfl) ?_
  refine cw_ldcS (tx := "over") (k := 43) C hw hI (List.mem_of_getElem? (i := 24) rfl) (by decide) dX2_rule_57 ?_
  refine cw_callV (y := yX2_isWord) (bytes := cX2_isWord) (maxL := 2) (r := some o) (f := fun a_3 => m_X2_isWord a_3 (some (σ.2 43)) σ) 8 (fun v => some (.int v)) [.ref (σ.2 43)] C hw hR hI hl.1 h (by decide) rfl (fun aa vv ss ee => k_X2_isWord l g A aa (some (σ.2 43)) σ vv ss ee) (cwV 1 C.t (lw_V q741 q743 qs5 q133 q744) rfl rfl rfl (by decide +kernel) ⟨Nat.le_trans (Nat.le_of_ble_eq_true rfl) hR.f, Nat.le_trans (Nat.le_of_ble_eq_true rfl) hR.lo⟩) rfl rfl (Nat.le_of_ble_eq_true rfl) dX2_rule_59 (fun v_1 σ_2 H locs h hI => ?_)
  refine lv_if_eq (tgt := 120) C.x C.b dX2_rule_62 (by decide) (fun c_4 => ?_) (fun c_4 => ?_)
  · have h := ip c_4 h
    exact w_X2_rule_120 C hx hl0 hw hR x2 _ _ _ _ h hI (lv_sub hl [0, 1] rfl)
  · have h := iN c_4 h
    refine r_aload_n (x := some o) C.x C.b dX2_rule_65 rfl (lv_at hl 0 rfl) ?_
    refine cw_callV (y := yX2_next) (bytes := cX2_next) (maxL := 1) (r := some o) (f := fun a_6 => m_X2_next a_6 σ_2) 8 (fun _ => none) [] C hw hR hI hl.1 h (by decide) rfl (fun aa vv ss ee => k_X2_next l g A aa σ_2 vv ss ee) (cwV 0 C.t (lw_V q293 q295 qs1 q133 q296) rfl rfl rfl (by decide +kernel) ⟨Nat.le_trans (Nat.le_of_ble_eq_true rfl) hR.f, Nat.le_trans (Nat.le_of_ble_eq_true rfl) hR.lo⟩) rfl rfl (Nat.le_of_ble_eq_true rfl) dX2_rule_66 (fun _ σ_5 H locs h hI => ?_)
    exact w_X2_rule_69 C hx hl0 hw hR _ x2 _ _ _ _ h hI (lv_sub hl [0, 1] rfl)

theorem k_X2_rule (l : Launch) (hl0 : l.stackTraces = false) (g : cG) (A : Nat → Prop) (o : Nat) (σ : cS) (z : (cX (Int32)) × cS) (h : m_X2_rule o σ = some z) : MetX l yX2_rule (ws_ yX2_rule cX2_rule 3 (Option.none : Option Jvm.ClassFile.FieldType)) ({ frames := 428, cells := σ.2 3 - σ.2 0, slots := σ.2 4 - σ.2 1, locals := 100955 }) g A [.ref o] σ (fun _ => none) z (σ.2 3 - σ.2 0) (σ.2 4 - σ.2 1) := by
  refine metx_of (cc := cX2_rule) (maxL := 3) (ret := (Option.none : Option Jvm.ClassFile.FieldType)) (by decide) rfl ?_
  intro p e s m args below meth c s₁ B hml hx hv
  obtain ⟨rfl, hw, hσ⟩ := hv
  have hts := atoms_spec (ws := (ws_ yX2_rule cX2_rule 3 (Option.none : Option Jvm.ClassFile.FieldType))) B.pre
  have C : CX p m meth c s ([.ref o] : List Value).toArray cX2_rule 3 (Option.none : Option Jvm.ClassFile.FieldType) RX2 := ⟨⟨B.exec, B.bytes, hml, findClass_of_methodNamed B.named, fun w h => hts w (List.mem_cons_of_mem _ h)⟩, B.returns, B.notSynchronized⟩
  have e3 : σ.2 3 - σ.2 0 = g.2.2.1 3 - s.heap.size := by rw [hσ.1, hσ.2.2.2.1 3 (by decide)]
  have e4 : σ.2 4 - σ.2 1 = g.2.2.1 4 - hsl s.heap := by rw [hσ.2.1, hσ.2.2.2.1 4 (by decide)]
  have hR : RM g s (headSpec (ws_ yX2_rule cX2_rule 3 (Option.none : Option Jvm.ClassFile.FieldType)) ({ frames := 428, cells := σ.2 3 - σ.2 0, slots := σ.2 4 - σ.2 1, locals := 100955 })).room (428) (100955) := ⟨⟨Nat.le_refl _, Nat.le_refl _⟩, Nat.le_of_eq e3.symm, Nat.le_of_eq e4.symm⟩
  generalize (headSpec (ws_ yX2_rule cX2_rule 3 (Option.none : Option Jvm.ClassFile.FieldType)) ({ frames := 428, cells := σ.2 3 - σ.2 0, slots := σ.2 4 - σ.2 1, locals := 100955 })).room = R at hR ⊢
  rw [e3, e4]
  have hI : CI g A s σ s.heap [] := ⟨hσ, va_S.rf, Nat.le_refl _⟩
  have hl := lv_entry ([.ref o]) (n := 3) (Nat.le_of_ble_eq_true rfl)
  rw [lg_entry_eq]
  generalize (lg_sl ([.ref o]) ++ List.replicate (3 - (lg_sl ([.ref o])).length) Slot.unset).toArray = ls at hl ⊢
  have hl : lv_has ls 3 [(0, .ref o)] := hl
  refine W.narrow ?_
  unfold m_X2_rule at h
  refine r_aload_n (x := some o) C.x C.b dX2_rule_0 rfl (lv_at hl 0 rfl) ?_
  refine lv_iconst (v := 0) C.x C.b dX2_rule_1 (by decide) ?_
  refine cw_pO (r := some o) (v := (.int 0)) (ty := .int) 8 8 C hw hI h (by decide) rfl in_X2 tyX2 tyX2_ok nmX2 (by decide) (C.t _ q266) (fun _ h9 => h9) (Or.inl rfl) (by decide +kernel) rfl rfl dX2_rule_2 (fun σ_1 H locs h hI => ?_)
  refine r_aload_n (x := some o) C.x C.b dX2_rule_5 rfl (lv_at hl 0 rfl) ?_
  refine lv_iconst (v := 0) C.x C.b dX2_rule_6 (by decide) ?_
  refine cw_pO (r := some o) (v := (.int 0)) (ty := .int) 8 9 C hw hI h (by decide) rfl in_X2 tyX2 tyX2_ok nmX2 (by decide) (C.t _ q267) (fun _ h9 => h9) (Or.inl rfl) (by decide +kernel) rfl rfl dX2_rule_7 (fun σ_2 H locs h hI => ?_)
  refine r_aload_n (x := some o) C.x C.b dX2_rule_10 rfl (lv_at hl 0 rfl) ?_
  refine lv_iconst (v := 0) C.x C.b dX2_rule_11 (by decide) ?_
  refine cx_callV (y := yX2_guard) (bytes := cX2_guard) (maxL := 4) (r := some o) (f := fun a_5 => m_X2_guard (m_X2_factor DPC) a_5 0 σ_2) 8 (fun v => some (va_rf v)) [.int 0] C hx hw hR hI hl.1 h (by decide) rfl (fun aa uu ee => k_X2_guard l hl0 g A (k_X2_factorD l hl0 g A) aa 0 σ_2 uu ee) (cwV 1 C.t (lw_V q954 q956 qs13 q133 q957) rfl rfl rfl (by decide +kernel) ⟨Nat.le_trans (Nat.le_of_ble_eq_true rfl) hR.f, Nat.le_trans (Nat.le_of_ble_eq_true rfl) hR.lo⟩) rfl rfl (Nat.le_of_ble_eq_true rfl) dX2_rule_12 (fun v_3 σ_4 H locs h hI => ?_)
  refine r_astore_n (i := 1) (x := v_3) (lv' := [(1, va_rf v_3), (0, .ref o)]) C.x C.b dX2_rule_15 rfl hl (by decide) (by rfl) (fun ls hl => ?_)
  refine cw_new (T := TX9) (N := 4) 2 C hw hI hR.2.1 hR.2.2 h (by decide) rfl in_X9 tyX9 tyX9_ok (fun j hj => match j, hj with | 0, _ => rfl | 1, _ => rfl | 2, _ => rfl | 3, _ => rfl | j + 4, hj => absurd hj (Nat.not_lt_of_le (Nat.le_add_left _ _))) q1095 q1096 q157 dX2_rule_16 (fun q_6 σ_7 H locs h hI => ?_)
  refine lv_dup C.x C.b dX2_rule_19 rfl ?_
  refine r_aload_n (x := v_3) C.x C.b dX2_rule_20 rfl (lv_at hl 0 rfl) ?_
  refine r_aload_n (x := some o) C.x C.b dX2_rule_21 rfl (lv_at hl 1 rfl) ?_
  refine cw_gI (r := some o) 8 8 C hw hI h (by decide) rfl in_X2 (by decide) (C.t _ q266) (fun _ h9 => h9) dX2_rule_22 (fun v_8 h => ?_)
  refine cw_callI (y := yX9_init) (bytes := cX9_init) (maxL := 3) (b := q_6) [va_rf v_3, .int v_8] C hw hR hI hl.1 h (fun vv ss ee => k_X9_init l g A q_6 v_3 v_8 σ_7 vv ss ee) (cwI 2 C.t (lw_meth q1099) rfl rfl rfl (C.t _ q157) (C.t _ q1097) (C.t _ q1098) rfl (by decide +kernel) ⟨Nat.le_trans (Nat.le_of_ble_eq_true rfl) hR.f, Nat.le_trans (Nat.le_of_ble_eq_true rfl) hR.lo⟩) rfl rfl (Nat.le_of_ble_eq_true rfl) dX2_rule_25 (fun σ_9 _ H locs h hI => ?_)
  refine r_astore_n (i := 2) (x := some q_6) (lv' := [(2, .ref q_6), (1, va_rf v_3), (0, .ref o)]) C.x C.b dX2_rule_28 rfl hl (by decide) (by first | (simp [List.filter, cat_rf, cat_i, cat_a, cat_n, cat_l, cat_f, cat_d]; done) | (simp [List.filter, cat_rf, cat_i, cat_a, cat_n, cat_l, cat_f, cat_d]; rfl)) (fun ls hl => ?_)
  refine r_aload_n (x := some o) C.x C.b dX2_rule_29 rfl (lv_at hl 2 rfl) ?_
  refine cw_ldcS (tx := "gives") (k := 41) C hw hI (List.mem_of_getElem? (i := 22) rfl) (by decide) dX2_rule_30 ?_
  refine cx_callV (y := yX2_word) (bytes := cX2_word) (maxL := 2) (r := some o) (f := fun a_11 => m_X2_word a_11 (some (σ_9.2 41)) σ_9) 8 (fun _ => none) [.ref (σ_9.2 41)] C hx hw hR hI hl.1 h (by decide) rfl (fun aa uu ee => k_X2_word l hl0 g A aa (some (σ_9.2 41)) σ_9 uu ee) (cwV 1 C.t (lw_V q737 q739 qs4 q133 q740) rfl rfl rfl (by decide +kernel) ⟨Nat.le_trans (Nat.le_of_ble_eq_true rfl) hR.f, Nat.le_trans (Nat.le_of_ble_eq_true rfl) hR.lo⟩) rfl rfl (Nat.le_of_ble_eq_true rfl) dX2_rule_32 (fun _ σ_10 H locs h hI => ?_)
  refine r_aload_n (x := some o) C.x C.b dX2_rule_35 rfl (lv_at hl 2 rfl) ?_
  refine cw_ldcS (tx := "nothing") (k := 42) C hw hI (List.mem_of_getElem? (i := 23) rfl) (by decide) dX2_rule_36 ?_
  refine cw_callV (y := yX2_isWord) (bytes := cX2_isWord) (maxL := 2) (r := some o) (f := fun a_14 => m_X2_isWord a_14 (some (σ_10.2 42)) σ_10) 8 (fun v => some (.int v)) [.ref (σ_10.2 42)] C hw hR hI hl.1 h (by decide) rfl (fun aa vv ss ee => k_X2_isWord l g A aa (some (σ_10.2 42)) σ_10 vv ss ee) (cwV 1 C.t (lw_V q741 q743 qs5 q133 q744) rfl rfl rfl (by decide +kernel) ⟨Nat.le_trans (Nat.le_of_ble_eq_true rfl) hR.f, Nat.le_trans (Nat.le_of_ble_eq_true rfl) hR.lo⟩) rfl rfl (Nat.le_of_ble_eq_true rfl) dX2_rule_38 (fun v_12 σ_13 H locs h hI => ?_)
  refine lv_if_eq (tgt := 51) C.x C.b dX2_rule_41 (by decide) (fun c_15 => ?_) (fun c_15 => ?_)
  · have h := ip c_15 h
    refine r_aload_n (x := some o) C.x C.b dX2_rule_51 rfl (lv_at hl 2 rfl) ?_
    refine r_aload_n (x := some q_6) C.x C.b dX2_rule_52 rfl (lv_at hl 0 rfl) ?_
    refine cx_callV (y := yX2_parts) (bytes := cX2_parts) (maxL := 7) (r := some o) (f := fun a_17 => m_X2_parts a_17 (some q_6) σ_13) 8 (fun _ => none) [.ref q_6] C hx hw hR hI hl.1 h (by decide) rfl (fun aa uu ee => k_X2_parts l hl0 g A aa (some q_6) σ_13 uu ee) (cwV 1 C.t (lw_V q1124 q1126 qs20 q133 q1127) rfl rfl rfl (by decide +kernel) ⟨Nat.le_trans (Nat.le_of_ble_eq_true rfl) hR.f, Nat.le_trans (Nat.le_of_ble_eq_true rfl) hR.lo⟩) rfl rfl (Nat.le_of_ble_eq_true rfl) dX2_rule_53 (fun _ σ_16 H locs h hI => ?_)
    exact w_X2_rule_56 C hx hl0 hw hR (some q_6) _ _ _ _ h hI (lv_sub hl [2, 0] rfl)
  · have h := iN c_15 h
    refine r_aload_n (x := some o) C.x C.b dX2_rule_44 rfl (lv_at hl 2 rfl) ?_
    refine cw_callV (y := yX2_next) (bytes := cX2_next) (maxL := 1) (r := some o) (f := fun a_19 => m_X2_next a_19 σ_13) 8 (fun _ => none) [] C hw hR hI hl.1 h (by decide) rfl (fun aa vv ss ee => k_X2_next l g A aa σ_13 vv ss ee) (cwV 0 C.t (lw_V q293 q295 qs1 q133 q296) rfl rfl rfl (by decide +kernel) ⟨Nat.le_trans (Nat.le_of_ble_eq_true rfl) hR.f, Nat.le_trans (Nat.le_of_ble_eq_true rfl) hR.lo⟩) rfl rfl (Nat.le_of_ble_eq_true rfl) dX2_rule_45 (fun _ σ_18 H locs h hI => ?_)
    refine lv_goto (tgt := 56) C.x C.b dX2_rule_48 (by decide) ?_
    exact w_X2_rule_56 C hx hl0 hw hR (some q_6) _ _ _ _ h hI (lv_sub hl [2, 0] rfl)

end
