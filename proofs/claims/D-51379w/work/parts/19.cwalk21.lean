/-! THE CLASS' WALKS 21: printed by gencl.py -/
section
variable {p : Program} {l : Launch} {e : Env} {R : Room} {s : State} {m : MethodId} {args : Array Value} {below : List Frame} {meth : Method} {c : Code} {g : cG} {A : Nat → Prop}
set_option maxRecDepth 100000
theorem w_X2_read_30 {z : (cX (Option Nat)) × cS} {o : Nat} (C : CX p m meth c s args cX2_read 5 (Option.some (Jvm.ClassFile.FieldType.object "HeirCases$Will")) RX2) (hx : ∀ x ∈ c.exceptionTable.toList, False) (hl0 : l.stackTraces = false) (hw : WKc g A s s.heap) (hR : RM g s R (430) (101000)) {k16 : Option Nat → Int32 → cS → Option ((cX (Option Nat)) × cS)} (hk16 : ∀ (x1 : Option Nat) (x2 : Int32) (σ : cS) (H : Heap) (locs : List Loc) (ls : Array Slot), k16 x1 x2 σ = some z → CI g A s σ H locs → lv_has ls 5 [(0, .ref o), (1, va_rf x1), (2, .int x2)] → W p l e R s m args below meth c H locs (H.size - s.heap.size) (hsl H - hsl s.heap) (UQ g A (fun v => some (va_rf v)) z args s (g.2.2.1 3 - s.heap.size) (g.2.2.1 4 - hsl s.heap) below) (F0 m 16 ls [])) : ∀ (x1 : Option Nat) (x2 : Int32) (σ : cS) (H : Heap) (locs : List Loc) (ls : Array Slot), b_X2_read_30 o k16 x1 x2 σ = some z → CI g A s σ H locs → lv_has ls 5 [(0, .ref o), (1, va_rf x1), (2, .int x2)] → W p l e R s m args below meth c H locs (H.size - s.heap.size) (hsl H - hsl s.heap) (UQ g A (fun v => some (va_rf v)) z args s (g.2.2.1 3 - s.heap.size) (g.2.2.1 4 - hsl s.heap) below) (F0 m 30 ls []) := by
  intro x1 x2 σ H locs ls h hI hl
  unfold b_X2_read_30 at h
  refine r_aload_n (x := some o) C.x C.b dX2_read_30 rfl (lv_at hl 0 rfl) ?_
  refine lv_iconst (v := 2) C.x C.b dX2_read_31 (by decide) ?_
  refine lv_iconst (v := 4) C.x C.b dX2_read_32 (by decide) ?_
  refine cx_callV (y := yX2_look) (bytes := cX2_look) (maxL := 3) (r := some o) (f := fun a_3 => m_X2_look a_3 2 4 σ) 8 (fun v => some (.int v)) [.int 2, .int 4] C hx hw hR hI hl.1 h (by decide) rfl (fun aa uu ee => k_X2_look l hl0 g A aa 2 4 σ uu ee) (cwV 2 C.t (lw_V q779 q781 qs6 q133 q782) rfl rfl rfl (by decide +kernel) ⟨Nat.le_trans (Nat.le_of_ble_eq_true rfl) hR.f, Nat.le_trans (Nat.le_of_ble_eq_true rfl) hR.lo⟩) rfl rfl (Nat.le_of_ble_eq_true rfl) dX2_read_33 (fun v_1 σ_2 H locs h hI => ?_)
  refine lv_istore_n (i := 3) (lv' := [(3, .int v_1), (0, .ref o), (1, va_rf x1), (2, .int x2)]) C.x C.b dX2_read_36 rfl hl (by decide) (by first | (simp [List.filter, cat_rf, cat_i, cat_a, cat_n, cat_l, cat_f, cat_d]; done) | (simp [List.filter, cat_rf, cat_i, cat_a, cat_n, cat_l, cat_f, cat_d]; rfl)) (fun ls hl => ?_)
  refine lv_iload_n C.x C.b dX2_read_37 rfl (lv_at hl 3 rfl) ?_
  refine lv_iconst (v := 4) C.x C.b dX2_read_38 (by decide) ?_
  refine lv_icmp_ne (tgt := 55) C.x C.b dX2_read_39 (by decide) (fun c_4 => ?_) (fun c_4 => ?_)
  · have h := iN c_4 h
    refine r_aload_n (x := x1) C.x C.b dX2_read_55 rfl (lv_at hl 2 rfl) ?_
    refine lv_iload_n C.x C.b dX2_read_56 rfl (lv_at hl 3 rfl) ?_
    refine lv_iload_n C.x C.b dX2_read_57 rfl (lv_at hl 0 rfl) ?_
    refine cw_ist (r := x1) C hw hI h dX2_read_58 (fun σ_5 H locs h hI => ?_)
    obtain ⟨x2_6, e_, h⟩ := nm_s h
    refine lv_iinc (v := x2_6) (lv' := [(2, .int x2_6), (3, .int v_1), (0, .ref o), (1, va_rf x1)]) C.x C.b dX2_read_59 hl (k := 3) rfl e_.symm (by decide) (by first | (simp [List.filter, cat_rf, cat_i, cat_a, cat_n, cat_l, cat_f, cat_d]; done) | (simp [List.filter, cat_rf, cat_i, cat_a, cat_n, cat_l, cat_f, cat_d]; rfl)) (fun ls hl => ?_)
    refine r_aload_n (x := some o) C.x C.b dX2_read_62 rfl (lv_at hl 2 rfl) ?_
    refine cw_callV (y := yX2_next) (bytes := cX2_next) (maxL := 1) (r := some o) (f := fun a_8 => m_X2_next a_8 σ_5) 8 (fun _ => none) [] C hw hR hI hl.1 h (by decide) rfl (fun aa vv ss ee => k_X2_next l g A aa σ_5 vv ss ee) (cwV 0 C.t (lw_V q293 q295 qs1 q133 q296) rfl rfl rfl (by decide +kernel) ⟨Nat.le_trans (Nat.le_of_ble_eq_true rfl) hR.f, Nat.le_trans (Nat.le_of_ble_eq_true rfl) hR.lo⟩) rfl rfl (Nat.le_of_ble_eq_true rfl) dX2_read_63 (fun _ σ_7 H locs h hI => ?_)
    refine lv_goto (tgt := 16) C.x C.b dX2_read_66 (by decide) ?_
    exact hk16 x1 x2_6 _ _ _ _ h hI (lv_sub hl [2, 3, 0] rfl)
  · have h := ip c_4 h
    refine cw_newF C hw hI hR.2.1 hR.2.2 h q753 q754 q149 dX2_read_42 (fun q_9 σ_10 H locs h hI => ?_)
    refine lv_dup C.x C.b dX2_read_45 rfl ?_
    refine r_aload_n (x := some o) C.x C.b dX2_read_46 rfl (lv_at hl 1 rfl) ?_
    refine cw_gI (r := some o) 8 4 C hw hI h (by decide) rfl in_X2 (by decide) (C.t _ q262) (fun _ h9 => h9) dX2_read_47 (fun v_11 h => ?_)
    refine lv_iconst (v := 4) C.x C.b dX2_read_50 (by decide) ?_
    refine cw_callI (y := yX3_init) (bytes := cX3_init) (maxL := 3) (b := q_9) [.int v_11, .int 4] C hw hR hI hl.1 h (fun vv ss ee => k_X3_init l hl0 g A q_9 v_11 4 σ_10 vv ss ee) (cwI 2 C.t (lw_meth q764) rfl rfl rfl (C.t _ q149) (C.t _ q762) (C.t _ q763) rfl (by decide +kernel) ⟨Nat.le_trans (Nat.le_of_ble_eq_true rfl) hR.f, Nat.le_trans (Nat.le_of_ble_eq_true rfl) hR.lo⟩) rfl rfl (Nat.le_of_ble_eq_true rfl) dX2_read_51 (fun σ_12 _ H locs h hI => ?_)
    exact cx_athrow (r := some q_9) C hx hw hI h dX2_read_54

theorem w_X2_read_136 {z : (cX (Option Nat)) × cS} {o : Nat} (C : CX p m meth c s args cX2_read 5 (Option.some (Jvm.ClassFile.FieldType.object "HeirCases$Will")) RX2) (hx : ∀ x ∈ c.exceptionTable.toList, False) (hl0 : l.stackTraces = false) (hw : WKc g A s s.heap) (hR : RM g s R (430) (101000))  : ∀ (n : Nat) (σ : cS) (H : Heap) (locs : List Loc) (ls : Array Slot), b_X2_read_136 o n σ = some z → CI g A s σ H locs → lv_has ls 5 [(0, .ref o)] → W p l e R s m args below meth c H locs (H.size - s.heap.size) (hsl H - hsl s.heap) (UQ g A (fun v => some (va_rf v)) z args s (g.2.2.1 3 - s.heap.size) (g.2.2.1 4 - hsl s.heap) below) (F0 m 136 ls []) := by
  intro n
  induction n with
  | zero =>
    intro σ H locs ls h
    cases h
  | succ n ih =>
    intro σ H locs ls h hI hl
    rw [b_X2_read_136] at h
    refine r_aload_n (x := some o) C.x C.b dX2_read_136 rfl (lv_at hl 0 rfl) ?_
    refine cw_gR (r := some o) 8 5 C hw hI h (by decide) rfl in_X2 (by decide) (C.t _ q263) (fun _ h9 => h9) dX2_read_137 (fun v_1 h => ?_)
    refine cw_gst (Cn := "HeirCases$Token") (n := "END") (d := "LHeirCases$Token;") (k := 10) C hw hI (List.mem_of_getElem? (i := 0) rfl) (by decide) q355 rfl dX2_read_140 ?_
    refine lv_acmp_eq (rx := v_1) (ry := some (σ.2 10)) (tgt := 159) C.x C.b dX2_read_143 (by decide) (fun c_2 => ?_) (fun c_2 => ?_)
    · have h := ip c_2 h
      refine r_aload_n (x := some o) C.x C.b dX2_read_159 rfl (lv_at hl 0 rfl) ?_
      refine cw_gR (r := some o) 8 2 C hw hI h (by decide) rfl in_X2 (by decide) (C.t _ q260) (fun _ h9 => h9) dX2_read_160 (fun v_3 h => ?_)
      exact uq_l h (fun y h => cw_aret (x := v_3) C (Or.inl ⟨_, rfl⟩) hI h dX2_read_163)
    · have h := iN c_2 h
      refine r_aload_n (x := some o) C.x C.b dX2_read_146 rfl (lv_at hl 0 rfl) ?_
      refine cx_callV (y := yX2_line) (bytes := cX2_line) (maxL := 4) (r := some o) (f := fun a_5 => m_X2_line a_5 σ) 8 (fun _ => none) [] C hx hw hR hI hl.1 h (by decide) rfl (fun aa uu ee => k_X2_line l hl0 g A aa σ uu ee) (cwV 0 C.t (lw_V q880 q882 qs11 q133 q883) rfl rfl rfl (by decide +kernel) ⟨Nat.le_trans (Nat.le_of_ble_eq_true rfl) hR.f, Nat.le_trans (Nat.le_of_ble_eq_true rfl) hR.lo⟩) rfl rfl (Nat.le_of_ble_eq_true rfl) dX2_read_147 (fun _ σ_4 H locs h hI => ?_)
      refine r_aload_n (x := some o) C.x C.b dX2_read_150 rfl (lv_at hl 0 rfl) ?_
      refine lv_bipush (v := 59) C.x C.b dX2_read_151 (by decide) ?_
      refine cx_callV (y := yX2_sign) (bytes := cX2_sign) (maxL := 2) (r := some o) (f := fun a_7 => m_X2_sign a_7 59 σ_4) 8 (fun _ => none) [.int 59] C hx hw hR hI hl.1 h (by decide) rfl (fun aa uu ee => k_X2_sign l hl0 g A aa 59 σ_4 uu ee) (cwV 1 C.t (lw_V q787 q789 qs8 q133 q790) rfl rfl rfl (by decide +kernel) ⟨Nat.le_trans (Nat.le_of_ble_eq_true rfl) hR.f, Nat.le_trans (Nat.le_of_ble_eq_true rfl) hR.lo⟩) rfl rfl (Nat.le_of_ble_eq_true rfl) dX2_read_153 (fun _ σ_6 H locs h hI => ?_)
      refine lv_goto (tgt := 136) C.x C.b dX2_read_156 (by decide) ?_
      exact ih _ _ _ _ h hI (lv_sub hl [0] rfl)

theorem w_X2_read_16 {z : (cX (Option Nat)) × cS} {o : Nat} (C : CX p m meth c s args cX2_read 5 (Option.some (Jvm.ClassFile.FieldType.object "HeirCases$Will")) RX2) (hx : ∀ x ∈ c.exceptionTable.toList, False) (hl0 : l.stackTraces = false) (hw : WKc g A s s.heap) (hR : RM g s R (430) (101000))  : ∀ (n : Nat) (x1 : Option Nat) (x2 : Int32) (σ : cS) (H : Heap) (locs : List Loc) (ls : Array Slot), b_X2_read_16 o n x1 x2 σ = some z → CI g A s σ H locs → lv_has ls 5 [(0, .ref o), (1, va_rf x1), (2, .int x2)] → W p l e R s m args below meth c H locs (H.size - s.heap.size) (hsl H - hsl s.heap) (UQ g A (fun v => some (va_rf v)) z args s (g.2.2.1 3 - s.heap.size) (g.2.2.1 4 - hsl s.heap) below) (F0 m 16 ls []) := by
  intro n
  induction n with
  | zero =>
    intro x1 x2 σ H locs ls h
    cases h
  | succ n ih =>
    intro x1 x2 σ H locs ls h hI hl
    rw [b_X2_read_16] at h
    refine lv_iload_n C.x C.b dX2_read_16 rfl (lv_at hl 2 rfl) ?_
    refine lv_if_eq (tgt := 30) C.x C.b dX2_read_17 (by decide) (fun c_1 => ?_) (fun c_1 => ?_)
    · have h := ip c_1 h
      exact w_X2_read_30 C hx hl0 hw hR (fun y0 y1 σ H locs ls h hI hl => ih y0 y1 σ H locs ls h hI hl) x1 x2 _ _ _ _ h hI (lv_sub hl [0, 1, 2] rfl)
    · have h := iN c_1 h
      refine r_aload_n (x := some o) C.x C.b dX2_read_20 rfl (lv_at hl 0 rfl) ?_
      refine cw_gR (r := some o) 8 5 C hw hI h (by decide) rfl in_X2 (by decide) (C.t _ q263) (fun _ h9 => h9) dX2_read_21 (fun v_2 h => ?_)
      refine cw_gst (Cn := "HeirCases$Token") (n := "NUMBER") (d := "LHeirCases$Token;") (k := 13) C hw hI (List.mem_of_getElem? (i := 3) rfl) (by decide) q686 rfl dX2_read_24 ?_
      refine lv_acmp_ne (rx := v_2) (ry := some (σ.2 13)) (tgt := 69) C.x C.b dX2_read_27 (by decide) (fun c_3 => ?_) (fun c_3 => ?_)
      · have h := iN c_3 h
        refine r_aload_n (x := some o) C.x C.b dX2_read_69 rfl (lv_at hl 0 rfl) ?_
        refine lv_bipush (v := 59) C.x C.b dX2_read_70 (by decide) ?_
        refine cx_callV (y := yX2_sign) (bytes := cX2_sign) (maxL := 2) (r := some o) (f := fun a_5 => m_X2_sign a_5 59 σ) 8 (fun _ => none) [.int 59] C hx hw hR hI hl.1 h (by decide) rfl (fun aa uu ee => k_X2_sign l hl0 g A aa 59 σ uu ee) (cwV 1 C.t (lw_V q787 q789 qs8 q133 q790) rfl rfl rfl (by decide +kernel) ⟨Nat.le_trans (Nat.le_of_ble_eq_true rfl) hR.f, Nat.le_trans (Nat.le_of_ble_eq_true rfl) hR.lo⟩) rfl rfl (Nat.le_of_ble_eq_true rfl) dX2_read_72 (fun _ σ_4 H locs h hI => ?_)
        refine lv_iload_n C.x C.b dX2_read_75 rfl (lv_at hl 2 rfl) ?_
        refine cw_nAi C hw hR hI h dX2_read_76 (fun q_6 σ_7 H locs h hI => ?_)
        refine r_astore_n (i := 3) (x := some q_6) (lv' := [(3, .ref q_6), (0, .ref o), (1, va_rf x1), (2, .int x2)]) C.x C.b dX2_read_78 rfl hl (by decide) (by first | (simp [List.filter, cat_rf, cat_i, cat_a, cat_n, cat_l, cat_f, cat_d]; done) | (simp [List.filter, cat_rf, cat_i, cat_a, cat_n, cat_l, cat_f, cat_d]; rfl)) (fun ls hl => ?_)
        refine r_aload_n (x := x1) C.x C.b dX2_read_79 rfl (lv_at hl 2 rfl) ?_
        refine lv_iconst (v := 0) C.x C.b dX2_read_80 (by decide) ?_
        refine r_aload_n (x := some q_6) C.x C.b dX2_read_81 rfl (lv_at hl 0 rfl) ?_
        refine lv_iconst (v := 0) C.x C.b dX2_read_82 (by decide) ?_
        refine lv_iload_n C.x C.b dX2_read_83 rfl (lv_at hl 3 rfl) ?_
        refine cw_cpI (kind := 0) (ty := .int) (src := x1) (dst := some q_6) (Or.inl ⟨rfl, rfl⟩) C hw hR hI hl.1 h q795 (by decide) (by decide) (Nat.le_of_ble_eq_true rfl) dX2_read_84 (fun σ_8 H locs h hI => ?_)
        refine r_aload_n (x := some o) C.x C.b dX2_read_87 rfl (lv_at hl 1 rfl) ?_
        refine cw_ldcS (tx := "heirs") (k := 33) C hw hI (List.mem_of_getElem? (i := 14) rfl) (by decide) dX2_read_88 ?_
        refine cx_callV (y := yX2_word) (bytes := cX2_word) (maxL := 2) (r := some o) (f := fun a_10 => m_X2_word a_10 (some (σ_8.2 33)) σ_8) 8 (fun _ => none) [.ref (σ_8.2 33)] C hx hw hR hI hl.1 h (by decide) rfl (fun aa uu ee => k_X2_word l hl0 g A aa (some (σ_8.2 33)) σ_8 uu ee) (cwV 1 C.t (lw_V q737 q739 qs4 q133 q740) rfl rfl rfl (by decide +kernel) ⟨Nat.le_trans (Nat.le_of_ble_eq_true rfl) hR.f, Nat.le_trans (Nat.le_of_ble_eq_true rfl) hR.lo⟩) rfl rfl (Nat.le_of_ble_eq_true rfl) dX2_read_90 (fun _ σ_9 H locs h hI => ?_)
        refine r_aload_n (x := some o) C.x C.b dX2_read_93 rfl (lv_at hl 1 rfl) ?_
        refine lv_iconst (v := 1) C.x C.b dX2_read_94 (by decide) ?_
        refine lv_iconst (v := 4) C.x C.b dX2_read_95 (by decide) ?_
        refine cx_callV (y := yX2_number) (bytes := cX2_number) (maxL := 4) (r := some o) (f := fun a_13 => m_X2_number a_13 1 4 σ_9) 8 (fun v => some (.int v)) [.int 1, .int 4] C hx hw hR hI hl.1 h (by decide) rfl (fun aa uu ee => k_X2_number l hl0 g A aa 1 4 σ_9 uu ee) (cwV 2 C.t (lw_V q797 q799 qs10 q133 q800) rfl rfl rfl (by decide +kernel) ⟨Nat.le_trans (Nat.le_of_ble_eq_true rfl) hR.f, Nat.le_trans (Nat.le_of_ble_eq_true rfl) hR.lo⟩) rfl rfl (Nat.le_of_ble_eq_true rfl) dX2_read_96 (fun v_11 σ_12 H locs h hI => ?_)
        refine lv_istore (i := 4) (lv' := [(4, .int v_11), (3, .ref q_6), (0, .ref o), (1, va_rf x1), (2, .int x2)]) C.x C.b dX2_read_99 hl (by decide) (by first | (simp [List.filter, cat_rf, cat_i, cat_a, cat_n, cat_l, cat_f, cat_d]; done) | (simp [List.filter, cat_rf, cat_i, cat_a, cat_n, cat_l, cat_f, cat_d]; rfl)) (fun ls hl => ?_)
        refine r_aload_n (x := some o) C.x C.b dX2_read_101 rfl (lv_at hl 2 rfl) ?_
        refine cw_ldcS (tx := "rest") (k := 34) C hw hI (List.mem_of_getElem? (i := 15) rfl) (by decide) dX2_read_102 ?_
        refine cx_callV (y := yX2_word) (bytes := cX2_word) (maxL := 2) (r := some o) (f := fun a_15 => m_X2_word a_15 (some (σ_12.2 34)) σ_12) 8 (fun _ => none) [.ref (σ_12.2 34)] C hx hw hR hI hl.1 h (by decide) rfl (fun aa uu ee => k_X2_word l hl0 g A aa (some (σ_12.2 34)) σ_12 uu ee) (cwV 1 C.t (lw_V q737 q739 qs4 q133 q740) rfl rfl rfl (by decide +kernel) ⟨Nat.le_trans (Nat.le_of_ble_eq_true rfl) hR.f, Nat.le_trans (Nat.le_of_ble_eq_true rfl) hR.lo⟩) rfl rfl (Nat.le_of_ble_eq_true rfl) dX2_read_104 (fun _ σ_14 H locs h hI => ?_)
        refine r_aload_n (x := some o) C.x C.b dX2_read_107 rfl (lv_at hl 2 rfl) ?_
        refine cw_new (T := TX4) (N := 9) 1 C hw hI hR.2.1 hR.2.2 h (by decide) rfl in_X4 tyX4 tyX4_ok (fun j hj => match j, hj with | 0, _ => rfl | 1, _ => rfl | 2, _ => rfl | 3, _ => rfl | 4, _ => rfl | 5, _ => rfl | 6, _ => rfl | 7, _ => rfl | 8, _ => rfl | j + 9, hj => absurd hj (Nat.not_lt_of_le (Nat.le_add_left _ _))) q802 q803 q150 dX2_read_108 (fun q_16 σ_17 H locs h hI => ?_)
        refine lv_dup C.x C.b dX2_read_111 rfl ?_
        refine r_aload_n (x := some q_6) C.x C.b dX2_read_112 rfl (lv_at hl 1 rfl) ?_
        refine lv_iload C.x C.b dX2_read_113 (lv_at hl 0 rfl) ?_
        refine r_aload_n (x := some o) C.x C.b dX2_read_115 rfl (lv_at hl 2 rfl) ?_
        refine lv_iconst (v := 0) C.x C.b dX2_read_116 (by decide) ?_
        refine lv_iload C.x C.b dX2_read_117 (lv_at hl 0 rfl) ?_
        refine lv_iconst (v := 1) C.x C.b dX2_read_119 (by decide) ?_
        refine lv_isub C.x C.b dX2_read_120 ?_
        refine cx_callV8 (y := yX2_number) (bytes := cX2_number) (maxL := 4) (r := some o) (f := fun a_20 => m_X2_number a_20 0 (v_11 - 1) σ_17) 8 (fun v => some (.int v)) [.int 0, .int (v_11 - 1)] C hx hw hR hI hl.1 h (by decide) rfl (fun aa uu ee => k_X2_number l hl0 g A aa 0 (v_11 - 1) σ_17 uu ee) (cwV 2 C.t (lw_V q797 q799 qs10 q133 q800) rfl rfl rfl (by decide +kernel) ⟨Nat.le_trans (Nat.le_of_ble_eq_true rfl) hR.f, Nat.le_trans (Nat.le_of_ble_eq_true rfl) hR.lo⟩) rfl rfl (by simp [cat_rf, cat_i, cat_a]) dX2_read_121 (fun v_18 σ_19 H locs h hI => ?_)
        refine cw_callI (y := yX4_init) (bytes := cX4_init) (maxL := 4) (b := q_16) [.ref q_6, .int v_11, .int v_18] C hw hR hI hl.1 h (fun vv ss ee => k_X4_init l g A q_16 (some q_6) v_11 v_18 σ_19 vv ss ee) (cwI 3 C.t (lw_meth q806) rfl rfl rfl (C.t _ q150) (C.t _ q804) (C.t _ q805) rfl (by decide +kernel) ⟨Nat.le_trans (Nat.le_of_ble_eq_true rfl) hR.f, Nat.le_trans (Nat.le_of_ble_eq_true rfl) hR.lo⟩) rfl rfl (Nat.le_of_ble_eq_true rfl) dX2_read_124 (fun σ_21 _ H locs h hI => ?_)
        refine cw_pO (r := some o) (v := (va_rf (some q_16))) (ty := (.object "HeirCases$Will")) 8 2 C hw hI h (by decide) rfl in_X2 tyX2 tyX2_ok nmX2 (by decide) (C.t _ q260) (fun _ h9 => h9) (Or.inl rfl) (by decide +kernel) (nar_o _ _) (fits_o _ _) dX2_read_127 (fun σ_22 H locs h hI => ?_)
        refine r_aload_n (x := some o) C.x C.b dX2_read_130 rfl (lv_at hl 2 rfl) ?_
        refine lv_bipush (v := 59) C.x C.b dX2_read_131 (by decide) ?_
        refine cx_callV (y := yX2_sign) (bytes := cX2_sign) (maxL := 2) (r := some o) (f := fun a_24 => m_X2_sign a_24 59 σ_22) 8 (fun _ => none) [.int 59] C hx hw hR hI hl.1 h (by decide) rfl (fun aa uu ee => k_X2_sign l hl0 g A aa 59 σ_22 uu ee) (cwV 1 C.t (lw_V q787 q789 qs8 q133 q790) rfl rfl rfl (by decide +kernel) ⟨Nat.le_trans (Nat.le_of_ble_eq_true rfl) hR.f, Nat.le_trans (Nat.le_of_ble_eq_true rfl) hR.lo⟩) rfl rfl (Nat.le_of_ble_eq_true rfl) dX2_read_133 (fun _ σ_23 H locs h hI => ?_)
        exact w_X2_read_136 C hx hl0 hw hR _ _ _ _ _ h hI (lv_sub hl [2] rfl)
      · have h := ip c_3 h
        exact w_X2_read_30 C hx hl0 hw hR (fun y0 y1 σ H locs ls h hI hl => ih y0 y1 σ H locs ls h hI hl) x1 x2 _ _ _ _ h hI (lv_sub hl [0, 1, 2] rfl)

theorem k_X2_read (l : Launch) (hl0 : l.stackTraces = false) (g : cG) (A : Nat → Prop) (o : Nat) (σ : cS) (z : (cX (Option Nat)) × cS) (h : m_X2_read o σ = some z) : MetX l yX2_read (ws_ yX2_read cX2_read 5 (Option.some (Jvm.ClassFile.FieldType.object "HeirCases$Will"))) ({ frames := 430, cells := σ.2 3 - σ.2 0, slots := σ.2 4 - σ.2 1, locals := 101000 }) g A [.ref o] σ (fun v => some (va_rf v)) z (σ.2 3 - σ.2 0) (σ.2 4 - σ.2 1) := by
  refine metx_of (cc := cX2_read) (maxL := 5) (ret := (Option.some (Jvm.ClassFile.FieldType.object "HeirCases$Will"))) (by decide) rfl ?_
  intro p e s m args below meth c s₁ B hml hx hv
  obtain ⟨rfl, hw, hσ⟩ := hv
  have hts := atoms_spec (ws := (ws_ yX2_read cX2_read 5 (Option.some (Jvm.ClassFile.FieldType.object "HeirCases$Will")))) B.pre
  have C : CX p m meth c s ([.ref o] : List Value).toArray cX2_read 5 (Option.some (Jvm.ClassFile.FieldType.object "HeirCases$Will")) RX2 := ⟨⟨B.exec, B.bytes, hml, findClass_of_methodNamed B.named, fun w h => hts w (List.mem_cons_of_mem _ h)⟩, B.returns, B.notSynchronized⟩
  have e3 : σ.2 3 - σ.2 0 = g.2.2.1 3 - s.heap.size := by rw [hσ.1, hσ.2.2.2.1 3 (by decide)]
  have e4 : σ.2 4 - σ.2 1 = g.2.2.1 4 - hsl s.heap := by rw [hσ.2.1, hσ.2.2.2.1 4 (by decide)]
  have hR : RM g s (headSpec (ws_ yX2_read cX2_read 5 (Option.some (Jvm.ClassFile.FieldType.object "HeirCases$Will"))) ({ frames := 430, cells := σ.2 3 - σ.2 0, slots := σ.2 4 - σ.2 1, locals := 101000 })).room (430) (101000) := ⟨⟨Nat.le_refl _, Nat.le_refl _⟩, Nat.le_of_eq e3.symm, Nat.le_of_eq e4.symm⟩
  generalize (headSpec (ws_ yX2_read cX2_read 5 (Option.some (Jvm.ClassFile.FieldType.object "HeirCases$Will"))) ({ frames := 430, cells := σ.2 3 - σ.2 0, slots := σ.2 4 - σ.2 1, locals := 101000 })).room = R at hR ⊢
  rw [e3, e4]
  have hI : CI g A s σ s.heap [] := ⟨hσ, va_S.rf, Nat.le_refl _⟩
  have hl := lv_entry ([.ref o]) (n := 5) (Nat.le_of_ble_eq_true rfl)
  rw [lg_entry_eq]
  generalize (lg_sl ([.ref o]) ++ List.replicate (5 - (lg_sl ([.ref o])).length) Slot.unset).toArray = ls at hl ⊢
  have hl : lv_has ls 5 [(0, .ref o)] := hl
  refine W.narrow ?_
  unfold m_X2_read at h
  refine r_aload_n (x := some o) C.x C.b dX2_read_0 rfl (lv_at hl 0 rfl) ?_
  refine cw_callV (y := yX2_next) (bytes := cX2_next) (maxL := 1) (r := some o) (f := fun a_2 => m_X2_next a_2 σ) 8 (fun _ => none) [] C hw hR hI hl.1 h (by decide) rfl (fun aa vv ss ee => k_X2_next l g A aa σ vv ss ee) (cwV 0 C.t (lw_V q293 q295 qs1 q133 q296) rfl rfl rfl (by decide +kernel) ⟨Nat.le_trans (Nat.le_of_ble_eq_true rfl) hR.f, Nat.le_trans (Nat.le_of_ble_eq_true rfl) hR.lo⟩) rfl rfl (Nat.le_of_ble_eq_true rfl) dX2_read_1 (fun _ σ_1 H locs h hI => ?_)
  refine r_aload_n (x := some o) C.x C.b dX2_read_4 rfl (lv_at hl 0 rfl) ?_
  refine cw_ldcS (tx := "facts") (k := 32) C hw hI (List.mem_of_getElem? (i := 13) rfl) (by decide) dX2_read_5 ?_
  refine cx_callV (y := yX2_word) (bytes := cX2_word) (maxL := 2) (r := some o) (f := fun a_4 => m_X2_word a_4 (some (σ_1.2 32)) σ_1) 8 (fun _ => none) [.ref (σ_1.2 32)] C hx hw hR hI hl.1 h (by decide) rfl (fun aa uu ee => k_X2_word l hl0 g A aa (some (σ_1.2 32)) σ_1 uu ee) (cwV 1 C.t (lw_V q737 q739 qs4 q133 q740) rfl rfl rfl (by decide +kernel) ⟨Nat.le_trans (Nat.le_of_ble_eq_true rfl) hR.f, Nat.le_trans (Nat.le_of_ble_eq_true rfl) hR.lo⟩) rfl rfl (Nat.le_of_ble_eq_true rfl) dX2_read_7 (fun _ σ_3 H locs h hI => ?_)
  refine lv_iconst (v := 4) C.x C.b dX2_read_10 (by decide) ?_
  refine cw_nAi C hw hR hI h dX2_read_11 (fun q_5 σ_6 H locs h hI => ?_)
  refine r_astore_n (i := 1) (x := some q_5) (lv' := [(1, .ref q_5), (0, .ref o)]) C.x C.b dX2_read_13 rfl hl (by decide) (by rfl) (fun ls hl => ?_)
  refine lv_iconst (v := 0) C.x C.b dX2_read_14 (by decide) ?_
  refine lv_istore_n (i := 2) (lv' := [(2, .int 0), (1, .ref q_5), (0, .ref o)]) C.x C.b dX2_read_15 rfl hl (by decide) rfl (fun ls hl => ?_)
  exact w_X2_read_16 C hx hl0 hw hR _ (some q_5) 0 _ _ _ _ h hI (lv_sub hl [2, 1, 0] rfl)

theorem k_X2_readRule (l : Launch) (hl0 : l.stackTraces = false) (g : cG) (A : Nat → Prop) (o : Nat) (x1 : Option Nat) (σ : cS) (z : (cX (Int32)) × cS) (h : m_X2_readRule o x1 σ = some z) : MetX l yX2_readRule (ws_ yX2_readRule cX2_readRule 2 (Option.none : Option Jvm.ClassFile.FieldType)) ({ frames := 429, cells := σ.2 3 - σ.2 0, slots := σ.2 4 - σ.2 1, locals := 100977 }) g A [.ref o, va_rf x1] σ (fun _ => none) z (σ.2 3 - σ.2 0) (σ.2 4 - σ.2 1) := by
  refine metx_of (cc := cX2_readRule) (maxL := 2) (ret := (Option.none : Option Jvm.ClassFile.FieldType)) (by decide) rfl ?_
  intro p e s m args below meth c s₁ B hml hx hv
  obtain ⟨rfl, hw, hσ⟩ := hv
  have hts := atoms_spec (ws := (ws_ yX2_readRule cX2_readRule 2 (Option.none : Option Jvm.ClassFile.FieldType))) B.pre
  have C : CX p m meth c s ([.ref o, va_rf x1] : List Value).toArray cX2_readRule 2 (Option.none : Option Jvm.ClassFile.FieldType) RX2 := ⟨⟨B.exec, B.bytes, hml, findClass_of_methodNamed B.named, fun w h => hts w (List.mem_cons_of_mem _ h)⟩, B.returns, B.notSynchronized⟩
  have e3 : σ.2 3 - σ.2 0 = g.2.2.1 3 - s.heap.size := by rw [hσ.1, hσ.2.2.2.1 3 (by decide)]
  have e4 : σ.2 4 - σ.2 1 = g.2.2.1 4 - hsl s.heap := by rw [hσ.2.1, hσ.2.2.2.1 4 (by decide)]
  have hR : RM g s (headSpec (ws_ yX2_readRule cX2_readRule 2 (Option.none : Option Jvm.ClassFile.FieldType)) ({ frames := 429, cells := σ.2 3 - σ.2 0, slots := σ.2 4 - σ.2 1, locals := 100977 })).room (429) (100977) := ⟨⟨Nat.le_refl _, Nat.le_refl _⟩, Nat.le_of_eq e3.symm, Nat.le_of_eq e4.symm⟩
  generalize (headSpec (ws_ yX2_readRule cX2_readRule 2 (Option.none : Option Jvm.ClassFile.FieldType)) ({ frames := 429, cells := σ.2 3 - σ.2 0, slots := σ.2 4 - σ.2 1, locals := 100977 })).room = R at hR ⊢
  rw [e3, e4]
  have hI : CI g A s σ s.heap [] := ⟨hσ, va_S.rf, Nat.le_refl _⟩
  have hlen : (lg_sl ([.ref o, va_rf x1])).length ≤ 2 := by rcases x1 with _ | x1 <;> exact Nat.le_of_ble_eq_true rfl
  have hl := lv_entry ([.ref o, va_rf x1]) (n := 2) hlen
  rw [lg_entry_eq]
  generalize (lg_sl ([.ref o, va_rf x1]) ++ List.replicate (2 - (lg_sl ([.ref o, va_rf x1])).length) Slot.unset).toArray = ls at hl ⊢
  have hl : lv_has ls 2 [(0, .ref o), (1, va_rf x1)] := by clear hI hw h hσ e3 e4 hR C hts B; rcases x1 with _ | x1 <;> exact hl
  refine W.narrow ?_
  unfold m_X2_readRule at h
  refine r_aload_n (x := some o) C.x C.b dX2_readRule_0 rfl (lv_at hl 0 rfl) ?_
  refine r_aload_n (x := x1) C.x C.b dX2_readRule_1 rfl (lv_at hl 1 rfl) ?_
  refine cw_pO (r := some o) (v := (va_rf x1)) (ty := (.object "HeirCases$Will")) 8 2 C hw hI h (by decide) rfl in_X2 tyX2 tyX2_ok nmX2 (by decide) (C.t _ q260) (fun _ h9 => h9) (Or.inl rfl) (by decide +kernel) (nar_o _ _) (fits_o _ _) dX2_readRule_2 (fun σ_1 H locs h hI => ?_)
  refine r_aload_n (x := some o) C.x C.b dX2_readRule_5 rfl (lv_at hl 0 rfl) ?_
  refine cw_callV (y := yX2_next) (bytes := cX2_next) (maxL := 1) (r := some o) (f := fun a_3 => m_X2_next a_3 σ_1) 8 (fun _ => none) [] C hw hR hI hl.1 h (by decide) rfl (fun aa vv ss ee => k_X2_next l g A aa σ_1 vv ss ee) (cwV 0 C.t (lw_V q293 q295 qs1 q133 q296) rfl rfl rfl (by decide +kernel) ⟨Nat.le_trans (Nat.le_of_ble_eq_true rfl) hR.f, Nat.le_trans (Nat.le_of_ble_eq_true rfl) hR.lo⟩) rfl rfl (Nat.le_of_ble_eq_true rfl) dX2_readRule_6 (fun _ σ_2 H locs h hI => ?_)
  refine r_aload_n (x := some o) C.x C.b dX2_readRule_9 rfl (lv_at hl 0 rfl) ?_
  refine cx_callV (y := yX2_rule) (bytes := cX2_rule) (maxL := 3) (r := some o) (f := fun a_5 => m_X2_rule a_5 σ_2) 8 (fun _ => none) [] C hx hw hR hI hl.1 h (by decide) rfl (fun aa uu ee => k_X2_rule l hl0 g A aa σ_2 uu ee) (cwV 0 C.t (lw_V q950 q952 qs12 q133 q953) rfl rfl rfl (by decide +kernel) ⟨Nat.le_trans (Nat.le_of_ble_eq_true rfl) hR.f, Nat.le_trans (Nat.le_of_ble_eq_true rfl) hR.lo⟩) rfl rfl (Nat.le_of_ble_eq_true rfl) dX2_readRule_10 (fun _ σ_4 H locs h hI => ?_)
  refine r_aload_n (x := some o) C.x C.b dX2_readRule_13 rfl (lv_at hl 0 rfl) ?_
  refine cw_gst (Cn := "HeirCases$Token") (n := "END") (d := "LHeirCases$Token;") (k := 10) C hw hI (List.mem_of_getElem? (i := 0) rfl) (by decide) q355 rfl dX2_readRule_14 ?_
  refine cx_callV (y := yX2_expect) (bytes := cX2_expect) (maxL := 2) (r := some o) (f := fun a_7 => m_X2_expect a_7 (some (σ_4.2 10)) σ_4) 8 (fun _ => none) [.ref (σ_4.2 10)] C hx hw hR hI hl.1 h (by decide) rfl (fun aa uu ee => k_X2_expect l hl0 g A aa (some (σ_4.2 10)) σ_4 uu ee) (cwV 1 C.t (lw_V q783 q785 qs7 q133 q786) rfl rfl rfl (by decide +kernel) ⟨Nat.le_trans (Nat.le_of_ble_eq_true rfl) hR.f, Nat.le_trans (Nat.le_of_ble_eq_true rfl) hR.lo⟩) rfl rfl (Nat.le_of_ble_eq_true rfl) dX2_readRule_17 (fun _ σ_6 H locs h hI => ?_)
  exact uq_l h (fun y h => cw_vret C hI h dX2_readRule_20)

theorem k_X11_init (l : Launch) (g : cG) (A : Nat → Prop) (o : Nat) (x1 : Option Nat) (σ : cS) (v : Int32) (σ1 : cS) (h : m_X11_init o x1 σ = some (v, σ1)) : Met l yX11_init (ws_ yX11_init cX11_init 2 (Option.none : Option Jvm.ClassFile.FieldType)) ({ frames := 1, cells := σ.2 3 - σ.2 0, slots := σ.2 4 - σ.2 1, locals := 40 }) (CPc g A [.ref o, va_rf x1] σ) (CQ g A (none) σ1) (σ.2 3 - σ.2 0) (σ.2 4 - σ.2 1) A := by
  refine Met.ofW (cc := cX11_init) (maxL := 2) (ret := (Option.none : Option Jvm.ClassFile.FieldType)) (by decide) rfl ?_
  intro p e s m args below meth c s₁ B hml hv
  obtain ⟨rfl, hw, hσ⟩ := hv
  have hts := atoms_spec (ws := (ws_ yX11_init cX11_init 2 (Option.none : Option Jvm.ClassFile.FieldType))) B.pre
  have C : CX p m meth c s ([.ref o, va_rf x1] : List Value).toArray cX11_init 2 (Option.none : Option Jvm.ClassFile.FieldType) RX11 := ⟨⟨B.exec, B.bytes, hml, findClass_of_methodNamed B.named, fun w h => hts w (List.mem_cons_of_mem _ h)⟩, B.returns, B.notSynchronized⟩
  have hin : meth.name = "<init>" := (name_of_methodNamed B.named B.method).1
  have e3 : σ.2 3 - σ.2 0 = g.2.2.1 3 - s.heap.size := by rw [hσ.1, hσ.2.2.2.1 3 (by decide)]
  have e4 : σ.2 4 - σ.2 1 = g.2.2.1 4 - hsl s.heap := by rw [hσ.2.1, hσ.2.2.2.1 4 (by decide)]
  have hR : RM g s (headSpec (ws_ yX11_init cX11_init 2 (Option.none : Option Jvm.ClassFile.FieldType)) ({ frames := 1, cells := σ.2 3 - σ.2 0, slots := σ.2 4 - σ.2 1, locals := 40 })).room (1) (40) := ⟨⟨Nat.le_refl _, Nat.le_refl _⟩, Nat.le_of_eq e3.symm, Nat.le_of_eq e4.symm⟩
  generalize (headSpec (ws_ yX11_init cX11_init 2 (Option.none : Option Jvm.ClassFile.FieldType)) ({ frames := 1, cells := σ.2 3 - σ.2 0, slots := σ.2 4 - σ.2 1, locals := 40 })).room = R at hR ⊢
  rw [e3, e4]
  have hI : CI g A s σ s.heap [] := ⟨hσ, va_S.rf, Nat.le_refl _⟩
  have hlen : (lg_sl ([.ref o, va_rf x1])).length ≤ 2 := by rcases x1 with _ | x1 <;> exact Nat.le_of_ble_eq_true rfl
  have hl := lv_entry ([.ref o, va_rf x1]) (n := 2) hlen
  rw [lg_entry_eq]
  generalize (lg_sl ([.ref o, va_rf x1]) ++ List.replicate (2 - (lg_sl ([.ref o, va_rf x1])).length) Slot.unset).toArray = ls at hl ⊢
  have hl : lv_has ls 2 [(0, .ref o), (1, va_rf x1)] := by clear hI hw h hσ e3 e4 hR C hts B; rcases x1 with _ | x1 <;> exact hl
  obtain ⟨z, hz⟩ : ∃ z, z = (v, σ1) := ⟨_, rfl⟩
  rw [← hz] at h
  rw [show σ1 = z.2 by rw [hz]]
  clear hz v σ1
  refine W.narrow ?_
  unfold m_X11_init at h
  refine r_aload_n (x := some o) C.x C.b dX11_init_0 rfl (lv_at hl 0 rfl) ?_
  refine cw_obj C hR hl.1 q1238 q173 q174 dX11_init_1 (by decide) (by decide) (Nat.le_of_ble_eq_true rfl) ?_
  refine r_aload_n (x := some o) C.x C.b dX11_init_4 rfl (lv_at hl 0 rfl) ?_
  refine lv_iconst (v := -1) C.x C.b dX11_init_5 (by decide) ?_
  refine cw_pO (r := some o) (v := (.int (-1))) (ty := .int) 3 4 C hw hI h (by decide) rfl in_X11 tyX11 tyX11_ok nmX11 (by decide) (C.t _ q1248) (fun _ h9 => h9) (Or.inl rfl) (by decide +kernel) rfl rfl dX11_init_6 (fun σ_1 H locs h hI => ?_)
  refine r_aload_n (x := some o) C.x C.b dX11_init_9 rfl (lv_at hl 0 rfl) ?_
  refine r_aload_n (x := x1) C.x C.b dX11_init_10 rfl (lv_at hl 1 rfl) ?_
  refine cw_pO (r := some o) (v := (va_rf x1)) (ty := (.array .int)) 3 0 C hw hI h (by decide) rfl in_X11 tyX11 tyX11_ok nmX11 (by decide) (C.t _ q1239) (fun _ h9 => h9) (Or.inr ⟨rfl, rfl, hin⟩) (by decide +kernel) (nar_a _ _) (fits_a _ _) dX11_init_11 (fun σ_2 H locs h hI => ?_)
  exact cw_vret C hI h dX11_init_14

theorem w_X9_givesLike_4 {z : Int32 × cS} {o : Nat} (C : CX p m meth c s args cX9_givesLike 4 (Option.some Jvm.ClassFile.FieldType.boolean) RX9) (hw : WKc g A s s.heap) (hR : RM g s R (1) (40))  : ∀ (n : Nat) (x1 : Option Nat) (x2 : Int32) (x3 : Int32) (σ : cS) (H : Heap) (locs : List Loc) (ls : Array Slot), b_X9_givesLike_4 o n x1 x2 x3 σ = some z → CI g A s σ H locs → lv_has ls 4 [(0, .ref o), (1, va_rf x1), (2, .int x2), (3, .int x3)] → W p l e R s m args below meth c H locs (H.size - s.heap.size) (hsl H - hsl s.heap) (MQ below (CQ g A (some (.int z.1)) z.2) args s (g.2.2.1 3 - s.heap.size) (g.2.2.1 4 - hsl s.heap) A) (F0 m 4 ls []) := by
  intro n
  induction n with
  | zero =>
    intro x1 x2 x3 σ H locs ls h
    cases h
  | succ n ih =>
    intro x1 x2 x3 σ H locs ls h hI hl
    rw [b_X9_givesLike_4] at h
    refine lv_iload_n C.x C.b dX9_givesLike_4 rfl (lv_at hl 3 rfl) ?_
    refine lv_iconst (v := 4) C.x C.b dX9_givesLike_5 (by decide) ?_
    refine lv_icmp_ge (tgt := 38) C.x C.b dX9_givesLike_6 (by decide) (fun c_1 => ?_) (fun c_1 => ?_)
    · have h := ip c_1 h
      refine lv_iload_n C.x C.b dX9_givesLike_38 rfl (lv_at hl 2 rfl) ?_
      exact cw_zret C hI h dX9_givesLike_39
    · have h := iN c_1 h
      refine lv_iload_n C.x C.b dX9_givesLike_9 rfl (lv_at hl 2 rfl) ?_
      refine r_aload_n (x := some o) C.x C.b dX9_givesLike_10 rfl (lv_at hl 0 rfl) ?_
      refine cw_gR (r := some o) 2 2 C hw hI h (by decide) rfl in_X9 (by decide) (C.t _ q1106) (fun _ h9 => h9) dX9_givesLike_11 (fun v_2 h => ?_)
      refine lv_iload_n C.x C.b dX9_givesLike_14 rfl (lv_at hl 3 rfl) ?_
      refine cw_ild (r := v_2) C hw hI h dX9_givesLike_15 (fun v_3 h => ?_)
      refine r_aload_n (x := x1) C.x C.b dX9_givesLike_16 rfl (lv_at hl 1 rfl) ?_
      refine cw_gR (r := x1) 2 2 C hw hI h (by decide) rfl in_X9 (by decide) (C.t _ q1106) (fun _ h9 => h9) dX9_givesLike_17 (fun v_4 h => ?_)
      refine lv_iload_n C.x C.b dX9_givesLike_20 rfl (lv_at hl 3 rfl) ?_
      refine cw_ild (r := v_4) C hw hI h dX9_givesLike_21 (fun v_5 h => ?_)
      refine lv_icmp_ne (tgt := 29) C.x C.b dX9_givesLike_22 (by decide) (fun c_6 => ?_) (fun c_6 => ?_)
      · have h := iN c_6 h
        refine lv_iconst (v := 0) C.x C.b dX9_givesLike_29 (by decide) ?_
        refine lv_iand C.x C.b dX9_givesLike_30 ?_
        refine tw_lt h (fun x2_7 h => ?_)
        refine lv_istore_n (i := 2) (lv' := [(2, .int x2_7), (0, .ref o), (1, va_rf x1), (3, .int x3)]) C.x C.b dX9_givesLike_31 rfl hl (by decide) (by first | (simp [List.filter, cat_rf, cat_i, cat_a, cat_n, cat_l, cat_f, cat_d]; done) | (simp [List.filter, cat_rf, cat_i, cat_a, cat_n, cat_l, cat_f, cat_d]; rfl)) (fun ls hl => ?_)
        obtain ⟨x3_8, e_, h⟩ := nm_s h
        refine lv_iinc (v := x3_8) (lv' := [(3, .int x3_8), (2, .int x2_7), (0, .ref o), (1, va_rf x1)]) C.x C.b dX9_givesLike_32 hl (k := 3) rfl e_.symm (by decide) (by first | (simp [List.filter, cat_rf, cat_i, cat_a, cat_n, cat_l, cat_f, cat_d]; done) | (simp [List.filter, cat_rf, cat_i, cat_a, cat_n, cat_l, cat_f, cat_d]; rfl)) (fun ls hl => ?_)
        refine lv_goto (tgt := 4) C.x C.b dX9_givesLike_35 (by decide) ?_
        exact ih x1 x2_7 x3_8 _ _ _ _ h hI (lv_sub hl [2, 3, 1, 0] rfl)
      · have h := ip c_6 h
        refine lv_iconst (v := 1) C.x C.b dX9_givesLike_25 (by decide) ?_
        refine lv_goto (tgt := 30) C.x C.b dX9_givesLike_26 (by decide) ?_
        refine lv_iand C.x C.b dX9_givesLike_30 ?_
        refine tw_lt h (fun x2_9 h => ?_)
        refine lv_istore_n (i := 2) (lv' := [(2, .int x2_9), (0, .ref o), (1, va_rf x1), (3, .int x3)]) C.x C.b dX9_givesLike_31 rfl hl (by decide) (by first | (simp [List.filter, cat_rf, cat_i, cat_a, cat_n, cat_l, cat_f, cat_d]; done) | (simp [List.filter, cat_rf, cat_i, cat_a, cat_n, cat_l, cat_f, cat_d]; rfl)) (fun ls hl => ?_)
        obtain ⟨x3_10, e_, h⟩ := nm_s h
        refine lv_iinc (v := x3_10) (lv' := [(3, .int x3_10), (2, .int x2_9), (0, .ref o), (1, va_rf x1)]) C.x C.b dX9_givesLike_32 hl (k := 3) rfl e_.symm (by decide) (by first | (simp [List.filter, cat_rf, cat_i, cat_a, cat_n, cat_l, cat_f, cat_d]; done) | (simp [List.filter, cat_rf, cat_i, cat_a, cat_n, cat_l, cat_f, cat_d]; rfl)) (fun ls hl => ?_)
        refine lv_goto (tgt := 4) C.x C.b dX9_givesLike_35 (by decide) ?_
        exact ih x1 x2_9 x3_10 _ _ _ _ h hI (lv_sub hl [2, 3, 1, 0] rfl)

theorem k_X9_givesLike (l : Launch) (g : cG) (A : Nat → Prop) (o : Nat) (x1 : Option Nat) (σ : cS) (v : Int32) (σ1 : cS) (h : m_X9_givesLike o x1 σ = some (v, σ1)) : Met l yX9_givesLike (ws_ yX9_givesLike cX9_givesLike 4 (Option.some Jvm.ClassFile.FieldType.boolean)) ({ frames := 1, cells := σ.2 3 - σ.2 0, slots := σ.2 4 - σ.2 1, locals := 40 }) (CPc g A [.ref o, va_rf x1] σ) (CQ g A (some (.int v)) σ1) (σ.2 3 - σ.2 0) (σ.2 4 - σ.2 1) A := by
  refine Met.ofW (cc := cX9_givesLike) (maxL := 4) (ret := (Option.some Jvm.ClassFile.FieldType.boolean)) (by decide) rfl ?_
  intro p e s m args below meth c s₁ B hml hv
  obtain ⟨rfl, hw, hσ⟩ := hv
  have hts := atoms_spec (ws := (ws_ yX9_givesLike cX9_givesLike 4 (Option.some Jvm.ClassFile.FieldType.boolean))) B.pre
  have C : CX p m meth c s ([.ref o, va_rf x1] : List Value).toArray cX9_givesLike 4 (Option.some Jvm.ClassFile.FieldType.boolean) RX9 := ⟨⟨B.exec, B.bytes, hml, findClass_of_methodNamed B.named, fun w h => hts w (List.mem_cons_of_mem _ h)⟩, B.returns, B.notSynchronized⟩
  have e3 : σ.2 3 - σ.2 0 = g.2.2.1 3 - s.heap.size := by rw [hσ.1, hσ.2.2.2.1 3 (by decide)]
  have e4 : σ.2 4 - σ.2 1 = g.2.2.1 4 - hsl s.heap := by rw [hσ.2.1, hσ.2.2.2.1 4 (by decide)]
  have hR : RM g s (headSpec (ws_ yX9_givesLike cX9_givesLike 4 (Option.some Jvm.ClassFile.FieldType.boolean)) ({ frames := 1, cells := σ.2 3 - σ.2 0, slots := σ.2 4 - σ.2 1, locals := 40 })).room (1) (40) := ⟨⟨Nat.le_refl _, Nat.le_refl _⟩, Nat.le_of_eq e3.symm, Nat.le_of_eq e4.symm⟩
  generalize (headSpec (ws_ yX9_givesLike cX9_givesLike 4 (Option.some Jvm.ClassFile.FieldType.boolean)) ({ frames := 1, cells := σ.2 3 - σ.2 0, slots := σ.2 4 - σ.2 1, locals := 40 })).room = R at hR ⊢
  rw [e3, e4]
  have hI : CI g A s σ s.heap [] := ⟨hσ, va_S.rf, Nat.le_refl _⟩
  have hlen : (lg_sl ([.ref o, va_rf x1])).length ≤ 4 := by rcases x1 with _ | x1 <;> exact Nat.le_of_ble_eq_true rfl
  have hl := lv_entry ([.ref o, va_rf x1]) (n := 4) hlen
  rw [lg_entry_eq]
  generalize (lg_sl ([.ref o, va_rf x1]) ++ List.replicate (4 - (lg_sl ([.ref o, va_rf x1])).length) Slot.unset).toArray = ls at hl ⊢
  have hl : lv_has ls 4 [(0, .ref o), (1, va_rf x1)] := by clear hI hw h hσ e3 e4 hR C hts B; rcases x1 with _ | x1 <;> exact hl
  obtain ⟨z, hz⟩ : ∃ z, z = (v, σ1) := ⟨_, rfl⟩
  rw [← hz] at h
  rw [show v = z.1 by rw [hz], show σ1 = z.2 by rw [hz]]
  clear hz v σ1
  refine W.narrow ?_
  unfold m_X9_givesLike at h
  refine lv_iconst (v := 1) C.x C.b dX9_givesLike_0 (by decide) ?_
  refine lv_istore_n (i := 2) (lv' := [(2, .int 1), (0, .ref o), (1, va_rf x1)]) C.x C.b dX9_givesLike_1 rfl hl (by decide) (by first | (simp [List.filter, cat_rf, cat_i, cat_a, cat_n, cat_l, cat_f, cat_d]; done) | (simp [List.filter, cat_rf, cat_i, cat_a, cat_n, cat_l, cat_f, cat_d]; rfl)) (fun ls hl => ?_)
  refine lv_iconst (v := 0) C.x C.b dX9_givesLike_2 (by decide) ?_
  refine lv_istore_n (i := 3) (lv' := [(3, .int 0), (2, .int 1), (0, .ref o), (1, va_rf x1)]) C.x C.b dX9_givesLike_3 rfl hl (by decide) (by first | (simp [List.filter, cat_rf, cat_i, cat_a, cat_n, cat_l, cat_f, cat_d]; done) | (simp [List.filter, cat_rf, cat_i, cat_a, cat_n, cat_l, cat_f, cat_d]; rfl)) (fun ls hl => ?_)
  exact w_X9_givesLike_4 C hw hR _ x1 1 0 _ _ _ _ h hI (lv_sub hl [2, 3, 1, 0] rfl)

theorem k_X9_duplicate (l : Launch) (g : cG) (A : Nat → Prop) (o : Nat) (σ : cS) (v : Option Nat) (σ1 : cS) (h : m_X9_duplicate o σ = some (v, σ1)) : Met l yX9_duplicate (ws_ yX9_duplicate cX9_duplicate 2 (Option.some (Jvm.ClassFile.FieldType.object "HeirCases$Rule"))) ({ frames := 2, cells := σ.2 3 - σ.2 0, slots := σ.2 4 - σ.2 1, locals := 62 }) (CPc g A [.ref o] σ) (CQ g A (some (va_rf v)) σ1) (σ.2 3 - σ.2 0) (σ.2 4 - σ.2 1) A := by
  refine Met.ofW (cc := cX9_duplicate) (maxL := 2) (ret := (Option.some (Jvm.ClassFile.FieldType.object "HeirCases$Rule"))) (by decide) rfl ?_
  intro p e s m args below meth c s₁ B hml hv
  obtain ⟨rfl, hw, hσ⟩ := hv
  have hts := atoms_spec (ws := (ws_ yX9_duplicate cX9_duplicate 2 (Option.some (Jvm.ClassFile.FieldType.object "HeirCases$Rule")))) B.pre
  have C : CX p m meth c s ([.ref o] : List Value).toArray cX9_duplicate 2 (Option.some (Jvm.ClassFile.FieldType.object "HeirCases$Rule")) RX9 := ⟨⟨B.exec, B.bytes, hml, findClass_of_methodNamed B.named, fun w h => hts w (List.mem_cons_of_mem _ h)⟩, B.returns, B.notSynchronized⟩
  have e3 : σ.2 3 - σ.2 0 = g.2.2.1 3 - s.heap.size := by rw [hσ.1, hσ.2.2.2.1 3 (by decide)]
  have e4 : σ.2 4 - σ.2 1 = g.2.2.1 4 - hsl s.heap := by rw [hσ.2.1, hσ.2.2.2.1 4 (by decide)]
  have hR : RM g s (headSpec (ws_ yX9_duplicate cX9_duplicate 2 (Option.some (Jvm.ClassFile.FieldType.object "HeirCases$Rule"))) ({ frames := 2, cells := σ.2 3 - σ.2 0, slots := σ.2 4 - σ.2 1, locals := 62 })).room (2) (62) := ⟨⟨Nat.le_refl _, Nat.le_refl _⟩, Nat.le_of_eq e3.symm, Nat.le_of_eq e4.symm⟩
  generalize (headSpec (ws_ yX9_duplicate cX9_duplicate 2 (Option.some (Jvm.ClassFile.FieldType.object "HeirCases$Rule"))) ({ frames := 2, cells := σ.2 3 - σ.2 0, slots := σ.2 4 - σ.2 1, locals := 62 })).room = R at hR ⊢
  rw [e3, e4]
  have hI : CI g A s σ s.heap [] := ⟨hσ, va_S.rf, Nat.le_refl _⟩
  have hl := lv_entry ([.ref o]) (n := 2) (Nat.le_of_ble_eq_true rfl)
  rw [lg_entry_eq]
  generalize (lg_sl ([.ref o]) ++ List.replicate (2 - (lg_sl ([.ref o])).length) Slot.unset).toArray = ls at hl ⊢
  have hl : lv_has ls 2 [(0, .ref o)] := hl
  obtain ⟨z, hz⟩ : ∃ z, z = (v, σ1) := ⟨_, rfl⟩
  rw [← hz] at h
  rw [show v = z.1 by rw [hz], show σ1 = z.2 by rw [hz]]
  clear hz v σ1
  refine W.narrow ?_
  unfold m_X9_duplicate at h
  refine cw_new (T := TX9) (N := 4) 2 C hw hI hR.2.1 hR.2.2 h (by decide) rfl in_X9 tyX9 tyX9_ok (fun j hj => match j, hj with | 0, _ => rfl | 1, _ => rfl | 2, _ => rfl | 3, _ => rfl | j + 4, hj => absurd hj (Nat.not_lt_of_le (Nat.le_add_left _ _))) q1370 q1096 q157 dX9_duplicate_0 (fun q_1 σ_2 H locs h hI => ?_)
  refine lv_dup C.x C.b dX9_duplicate_3 rfl ?_
  refine r_aload_n (x := some o) C.x C.b dX9_duplicate_4 rfl (lv_at hl 0 rfl) ?_
  refine cw_gR (r := some o) 2 0 C hw hI h (by decide) rfl in_X9 (by decide) (C.t _ q1101) (fun _ h9 => h9) dX9_duplicate_5 (fun v_3 h => ?_)
  refine r_aload_n (x := some o) C.x C.b dX9_duplicate_8 rfl (lv_at hl 0 rfl) ?_
  refine cw_gI (r := some o) 2 1 C hw hI h (by decide) rfl in_X9 (by decide) (C.t _ q1104) (fun _ h9 => h9) dX9_duplicate_9 (fun v_4 h => ?_)
  refine cw_callI (y := yX9_init) (bytes := cX9_init) (maxL := 3) (b := q_1) [va_rf v_3, .int v_4] C hw hR hI hl.1 h (fun vv ss ee => k_X9_init l g A q_1 v_3 v_4 σ_2 vv ss ee) (cwI 2 C.t (lw_meth q1099) rfl rfl rfl (C.t _ q157) (C.t _ q1371) (C.t _ q1098) rfl (by decide +kernel) ⟨Nat.le_trans (Nat.le_of_ble_eq_true rfl) hR.f, Nat.le_trans (Nat.le_of_ble_eq_true rfl) hR.lo⟩) rfl rfl (Nat.le_of_ble_eq_true rfl) dX9_duplicate_12 (fun σ_5 _ H locs h hI => ?_)
  refine r_astore_n (i := 1) (x := some q_1) (lv' := [(1, .ref q_1), (0, .ref o)]) C.x C.b dX9_duplicate_15 rfl hl (by decide) (by rfl) (fun ls hl => ?_)
  refine r_aload_n (x := some o) C.x C.b dX9_duplicate_16 rfl (lv_at hl 1 rfl) ?_
  refine cw_gR (r := some o) 2 2 C hw hI h (by decide) rfl in_X9 (by decide) (C.t _ q1106) (fun _ h9 => h9) dX9_duplicate_17 (fun v_6 h => ?_)
  refine lv_iconst (v := 0) C.x C.b dX9_duplicate_20 (by decide) ?_
  refine r_aload_n (x := some q_1) C.x C.b dX9_duplicate_21 rfl (lv_at hl 0 rfl) ?_
  refine cw_gR (r := some q_1) 2 2 C hw hI h (by decide) rfl in_X9 (by decide) (C.t _ q1106) (fun _ h9 => h9) dX9_duplicate_22 (fun v_7 h => ?_)
  refine lv_iconst (v := 0) C.x C.b dX9_duplicate_25 (by decide) ?_
  refine lv_iconst (v := 4) C.x C.b dX9_duplicate_26 (by decide) ?_
  refine cw_cpI (kind := 0) (ty := .int) (src := v_6) (dst := v_7) (Or.inl ⟨rfl, rfl⟩) C hw hR hI hl.1 h q1372 (by decide) (by decide) (Nat.le_of_ble_eq_true rfl) dX9_duplicate_27 (fun σ_8 H locs h hI => ?_)
  refine r_aload_n (x := some q_1) C.x C.b dX9_duplicate_30 rfl (lv_at hl 0 rfl) ?_
  refine r_aload_n (x := some o) C.x C.b dX9_duplicate_31 rfl (lv_at hl 1 rfl) ?_
  refine cw_gI (r := some o) 2 3 C hw hI h (by decide) rfl in_X9 (by decide) (C.t _ q1109) (fun _ h9 => h9) dX9_duplicate_32 (fun v_9 h => ?_)
  refine cw_pO (r := some q_1) (v := (.int v_9)) (ty := .int) 2 3 C hw hI h (by decide) rfl in_X9 tyX9 tyX9_ok nmX9 (by decide) (C.t _ q1109) (fun _ h9 => h9) (Or.inl rfl) (by decide +kernel) rfl rfl dX9_duplicate_35 (fun σ_10 H locs h hI => ?_)
  refine r_aload_n (x := some q_1) C.x C.b dX9_duplicate_38 rfl (lv_at hl 0 rfl) ?_
  exact cw_aret (x := some q_1) C (Or.inl ⟨_, rfl⟩) hI h dX9_duplicate_39

theorem k_X9_isOver (l : Launch) (g : cG) (A : Nat → Prop) (o : Nat) (x1 : Int32) (σ : cS) (v : Int32) (σ1 : cS) (h : m_X9_isOver o x1 σ = some (v, σ1)) : Met l yX9_isOver (ws_ yX9_isOver cX9_isOver 2 (Option.some Jvm.ClassFile.FieldType.boolean)) ({ frames := 1, cells := σ.2 3 - σ.2 0, slots := σ.2 4 - σ.2 1, locals := 40 }) (CPc g A [.ref o, .int x1] σ) (CQ g A (some (.int v)) σ1) (σ.2 3 - σ.2 0) (σ.2 4 - σ.2 1) A := by
  refine Met.ofW (cc := cX9_isOver) (maxL := 2) (ret := (Option.some Jvm.ClassFile.FieldType.boolean)) (by decide) rfl ?_
  intro p e s m args below meth c s₁ B hml hv
  obtain ⟨rfl, hw, hσ⟩ := hv
  have hts := atoms_spec (ws := (ws_ yX9_isOver cX9_isOver 2 (Option.some Jvm.ClassFile.FieldType.boolean))) B.pre
  have C : CX p m meth c s ([.ref o, .int x1] : List Value).toArray cX9_isOver 2 (Option.some Jvm.ClassFile.FieldType.boolean) RX9 := ⟨⟨B.exec, B.bytes, hml, findClass_of_methodNamed B.named, fun w h => hts w (List.mem_cons_of_mem _ h)⟩, B.returns, B.notSynchronized⟩
  have e3 : σ.2 3 - σ.2 0 = g.2.2.1 3 - s.heap.size := by rw [hσ.1, hσ.2.2.2.1 3 (by decide)]
  have e4 : σ.2 4 - σ.2 1 = g.2.2.1 4 - hsl s.heap := by rw [hσ.2.1, hσ.2.2.2.1 4 (by decide)]
  have hR : RM g s (headSpec (ws_ yX9_isOver cX9_isOver 2 (Option.some Jvm.ClassFile.FieldType.boolean)) ({ frames := 1, cells := σ.2 3 - σ.2 0, slots := σ.2 4 - σ.2 1, locals := 40 })).room (1) (40) := ⟨⟨Nat.le_refl _, Nat.le_refl _⟩, Nat.le_of_eq e3.symm, Nat.le_of_eq e4.symm⟩
  generalize (headSpec (ws_ yX9_isOver cX9_isOver 2 (Option.some Jvm.ClassFile.FieldType.boolean)) ({ frames := 1, cells := σ.2 3 - σ.2 0, slots := σ.2 4 - σ.2 1, locals := 40 })).room = R at hR ⊢
  rw [e3, e4]
  have hI : CI g A s σ s.heap [] := ⟨hσ, va_S.rf, Nat.le_refl _⟩
  have hl := lv_entry ([.ref o, .int x1]) (n := 2) (Nat.le_of_ble_eq_true rfl)
  rw [lg_entry_eq]
  generalize (lg_sl ([.ref o, .int x1]) ++ List.replicate (2 - (lg_sl ([.ref o, .int x1])).length) Slot.unset).toArray = ls at hl ⊢
  have hl : lv_has ls 2 [(0, .ref o), (1, .int x1)] := hl
  obtain ⟨z, hz⟩ : ∃ z, z = (v, σ1) := ⟨_, rfl⟩
  rw [← hz] at h
  rw [show v = z.1 by rw [hz], show σ1 = z.2 by rw [hz]]
  clear hz v σ1
  refine W.narrow ?_
  unfold m_X9_isOver at h
  refine r_aload_n (x := some o) C.x C.b dX9_isOver_0 rfl (lv_at hl 0 rfl) ?_
  refine cw_gI (r := some o) 2 3 C hw hI h (by decide) rfl in_X9 (by decide) (C.t _ q1109) (fun _ h9 => h9) dX9_isOver_1 (fun v_1 h => ?_)
  refine lv_iload_n C.x C.b dX9_isOver_4 rfl (lv_at hl 1 rfl) ?_
  refine lv_ishr C.x C.b dX9_isOver_5 ?_
  refine lv_iconst (v := 1) C.x C.b dX9_isOver_6 (by decide) ?_
  refine lv_iand C.x C.b dX9_isOver_7 ?_
  refine lv_iconst (v := 1) C.x C.b dX9_isOver_8 (by decide) ?_
  refine lv_icmp_ne (tgt := 16) C.x C.b dX9_isOver_9 (by decide) (fun c_2 => ?_) (fun c_2 => ?_)
  · have h := iN c_2 h
    refine lv_iconst (v := 0) C.x C.b dX9_isOver_16 (by decide) ?_
    exact cw_zret C hI h dX9_isOver_17
  · have h := ip c_2 h
    refine lv_iconst (v := 1) C.x C.b dX9_isOver_12 (by decide) ?_
    refine lv_goto (tgt := 17) C.x C.b dX9_isOver_13 (by decide) ?_
    exact cw_zret C hI h dX9_isOver_17

end
