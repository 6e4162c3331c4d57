/-! THE CLASS' WALKS 33: printed by gencl.py -/
section
variable {p : Program} {l : Launch} {e : Env} {R : Room} {s : State} {m : MethodId} {args : Array Value} {below : List Frame} {meth : Method} {c : Code} {g : cG} {A : Nat → Prop}
set_option maxRecDepth 100000
theorem w_X1_checksum_45 {z : (cX (Int64)) × cS} {o : Nat} (C : CX p m meth c s args cX1_checksum 5 (Option.some Jvm.ClassFile.FieldType.long) RX1) (hx : ∀ x ∈ c.exceptionTable.toList, False) (hl0 : l.stackTraces = false) (hw : WKc g A s s.heap) (hR : RM g s R (269) (6712)) {k31 : Int64 → Int32 → cS → Option ((cX (Int64)) × cS)} (hk31 : ∀ (x1 : Int64) (x3 : Int32) (σ : cS) (H : Heap) (locs : List Loc) (ls : Array Slot), k31 x1 x3 σ = some z → CI g A s σ H locs → lv_has ls 5 [(0, .ref o), (1, .long x1), (3, .int x3)] → W p l e R s m args below meth c H locs (H.size - s.heap.size) (hsl H - hsl s.heap) (UQ g A (fun v => some (.long v)) z args s (g.2.2.1 3 - s.heap.size) (g.2.2.1 4 - hsl s.heap) below) (F0 m 31 ls [])) : ∀ (n : Nat) (x1 : Int64) (x3 : Int32) (x4 : Int32) (σ : cS) (H : Heap) (locs : List Loc) (ls : Array Slot), b_X1_checksum_45 o k31 n x1 x3 x4 σ = some z → CI g A s σ H locs → lv_has ls 5 [(0, .ref o), (1, .long x1), (3, .int x3), (4, .int x4)] → W p l e R s m args below meth c H locs (H.size - s.heap.size) (hsl H - hsl s.heap) (UQ g A (fun v => some (.long v)) z args s (g.2.2.1 3 - s.heap.size) (g.2.2.1 4 - hsl s.heap) below) (F0 m 45 ls []) := by
  intro n
  induction n with
  | zero =>
    intro x1 x3 x4 σ H locs ls h
    cases h
  | succ n ih =>
    intro x1 x3 x4 σ H locs ls h hI hl
    rw [b_X1_checksum_45] at h
    refine lv_iload C.x C.b dX1_checksum_45 (lv_at hl 3 rfl) ?_
    refine lv_bipush (v := 6) C.x C.b dX1_checksum_47 (by decide) ?_
    refine lv_icmp_gt (tgt := 73) C.x C.b dX1_checksum_49 (by decide) (fun c_1 => ?_) (fun c_1 => ?_)
    · have h := ip c_1 h
      obtain ⟨x3_2, e_, h⟩ := nm_s h
      refine lv_iinc (v := x3_2) (lv' := [(3, .int x3_2), (0, .ref o), (1, .long x1), (4, .int x4)]) C.x C.b dX1_checksum_73 hl (k := 2) rfl e_.symm (by decide) rfl (fun ls hl => ?_)
      refine lv_goto (tgt := 31) C.x C.b dX1_checksum_76 (by decide) ?_
      exact hk31 x1 x3_2 _ _ _ _ h hI (lv_sub hl [1, 2, 0] rfl)
    · have h := iN c_1 h
      refine lv_ldc2 C.x C.b C.o (C.t _ q1532) dX1_checksum_52 ?_
      refine lv_lload_n C.x C.b dX1_checksum_55 rfl (lv_at hl 1 rfl) ?_
      refine lv_lmul C.x C.b dX1_checksum_56 ?_
      refine r_aload_n (x := some o) C.x C.b dX1_checksum_57 rfl (lv_at hl 0 rfl) ?_
      refine lv_iload_n C.x C.b dX1_checksum_58 rfl (lv_at hl 2 rfl) ?_
      refine lv_iload C.x C.b dX1_checksum_59 (lv_at hl 3 rfl) ?_
      refine cx_callV (y := yX1_heir) (bytes := cX1_heir) (maxL := 3) (r := some o) (f := fun a_5 => m_X1_heir a_5 x3 x4 σ) 0 (fun v => some (.int v)) [.int x3, .int x4] C hx hw hR hI hl.1 h (by decide) rfl (fun aa uu ee => k_X1_heir l hl0 g A aa x3 x4 σ uu ee) (cwV 2 C.t (lw_V q1545 q1546 q1547 q126 q1548) rfl rfl rfl (by decide +kernel) ⟨Nat.le_trans (Nat.le_of_ble_eq_true rfl) hR.f, Nat.le_trans (Nat.le_of_ble_eq_true rfl) hR.lo⟩) rfl rfl (Nat.le_of_ble_eq_true rfl) dX1_checksum_61 (fun v_3 σ_4 H locs h hI => ?_)
      refine lv_i2l C.x C.b dX1_checksum_64 rfl ?_
      refine lv_ladd C.x C.b dX1_checksum_65 ?_
      refine tw_ltL h (fun x1_6 h => ?_)
      refine lv_lstore_n (i := 1) (lv' := [(1, .long x1_6), (0, .ref o), (3, .int x3), (4, .int x4)]) C.x C.b dX1_checksum_66 rfl hl (by decide) rfl (fun ls hl => ?_)
      obtain ⟨x4_7, e_, h⟩ := nm_s h
      refine lv_iinc (v := x4_7) (lv' := [(4, .int x4_7), (1, .long x1_6), (0, .ref o), (3, .int x3)]) C.x C.b dX1_checksum_67 hl (k := 3) rfl e_.symm (by decide) rfl (fun ls hl => ?_)
      refine lv_goto (tgt := 45) C.x C.b dX1_checksum_70 (by decide) ?_
      exact ih x1_6 x3 x4_7 _ _ _ _ h hI (lv_sub hl [2, 1, 3, 0] rfl)

theorem w_X1_checksum_128 {z : (cX (Int64)) × cS} {o : Nat} (C : CX p m meth c s args cX1_checksum 5 (Option.some Jvm.ClassFile.FieldType.long) RX1) (hx : ∀ x ∈ c.exceptionTable.toList, False) (hl0 : l.stackTraces = false) (hw : WKc g A s s.heap) (hR : RM g s R (269) (6712)) {k81 : Int64 → Int32 → cS → Option ((cX (Int64)) × cS)} (hk81 : ∀ (x1 : Int64) (x3 : Int32) (σ : cS) (H : Heap) (locs : List Loc) (ls : Array Slot), k81 x1 x3 σ = some z → CI g A s σ H locs → lv_has ls 5 [(0, .ref o), (1, .long x1), (3, .int x3)] → W p l e R s m args below meth c H locs (H.size - s.heap.size) (hsl H - hsl s.heap) (UQ g A (fun v => some (.long v)) z args s (g.2.2.1 3 - s.heap.size) (g.2.2.1 4 - hsl s.heap) below) (F0 m 81 ls [])) : ∀ (n : Nat) (x1 : Int64) (x3 : Int32) (x4 : Int32) (σ : cS) (H : Heap) (locs : List Loc) (ls : Array Slot), b_X1_checksum_128 o k81 n x1 x3 x4 σ = some z → CI g A s σ H locs → lv_has ls 5 [(0, .ref o), (1, .long x1), (3, .int x3), (4, .int x4)] → W p l e R s m args below meth c H locs (H.size - s.heap.size) (hsl H - hsl s.heap) (UQ g A (fun v => some (.long v)) z args s (g.2.2.1 3 - s.heap.size) (g.2.2.1 4 - hsl s.heap) below) (F0 m 128 ls []) := by
  intro n
  induction n with
  | zero =>
    intro x1 x3 x4 σ H locs ls h
    cases h
  | succ n ih =>
    intro x1 x3 x4 σ H locs ls h hI hl
    rw [b_X1_checksum_128] at h
    refine lv_iload C.x C.b dX1_checksum_128 (lv_at hl 3 rfl) ?_
    refine r_aload_n (x := some o) C.x C.b dX1_checksum_130 rfl (lv_at hl 0 rfl) ?_
    refine cw_gR (r := some o) 0 0 C hw hI h (by decide) rfl in_X1 (by decide) (C.t _ q1172) (fun _ h9 => h9) dX1_checksum_131 (fun v_1 h => ?_)
    refine cw_gI (r := v_1) 1 1 C hw hI h (by decide) rfl in_X4 (by decide) (C.t _ q842) (fun _ h9 => h9) dX1_checksum_134 (fun v_2 h => ?_)
    refine lv_icmp_ge (tgt := 178) C.x C.b dX1_checksum_137 (by decide) (fun c_3 => ?_) (fun c_3 => ?_)
    · have h := ip c_3 h
      obtain ⟨x3_4, e_, h⟩ := nm_s h
      refine lv_iinc (v := x3_4) (lv' := [(3, .int x3_4), (0, .ref o), (1, .long x1), (4, .int x4)]) C.x C.b dX1_checksum_178 hl (k := 2) rfl e_.symm (by decide) rfl (fun ls hl => ?_)
      refine lv_goto (tgt := 81) C.x C.b dX1_checksum_181 (by decide) ?_
      exact hk81 x1 x3_4 _ _ _ _ h hI (lv_sub hl [1, 2, 0] rfl)
    · have h := iN c_3 h
      refine lv_ldc2 C.x C.b C.o (C.t _ q1532) dX1_checksum_140 ?_
      refine lv_lload_n C.x C.b dX1_checksum_143 rfl (lv_at hl 1 rfl) ?_
      refine lv_lmul C.x C.b dX1_checksum_144 ?_
      refine r_aload_n (x := some o) C.x C.b dX1_checksum_145 rfl (lv_at hl 0 rfl) ?_
      refine lv_iload_n C.x C.b dX1_checksum_146 rfl (lv_at hl 2 rfl) ?_
      refine lv_iload C.x C.b dX1_checksum_147 (lv_at hl 3 rfl) ?_
      refine lv_iconst (v := 0) C.x C.b dX1_checksum_149 (by decide) ?_
      refine cx_callV (y := yX1_share) (bytes := cX1_share) (maxL := 5) (r := some o) (f := fun a_7 => m_X1_share a_7 x3 x4 0 σ) 0 (fun v => some (.int v)) [.int x3, .int x4, .int 0] C hx hw hR hI hl.1 h (by decide) rfl (fun aa uu ee => k_X1_share l hl0 g A aa x3 x4 0 σ uu ee) (cwV 3 C.t (lw_V q1608 q1609 q1610 q126 q1611) rfl rfl rfl (by decide +kernel) ⟨Nat.le_trans (Nat.le_of_ble_eq_true rfl) hR.f, Nat.le_trans (Nat.le_of_ble_eq_true rfl) hR.lo⟩) rfl rfl (Nat.le_of_ble_eq_true rfl) dX1_checksum_150 (fun v_5 σ_6 H locs h hI => ?_)
      refine lv_i2l C.x C.b dX1_checksum_153 rfl ?_
      refine lv_ladd C.x C.b dX1_checksum_154 ?_
      refine tw_ltL h (fun x1_8 h => ?_)
      refine lv_lstore_n (i := 1) (lv' := [(1, .long x1_8), (0, .ref o), (3, .int x3), (4, .int x4)]) C.x C.b dX1_checksum_155 rfl hl (by decide) rfl (fun ls hl => ?_)
      refine lv_ldc2 C.x C.b C.o (C.t _ q1532) dX1_checksum_156 ?_
      refine lv_lload_n C.x C.b dX1_checksum_159 rfl (lv_at hl 0 rfl) ?_
      refine lv_lmul C.x C.b dX1_checksum_160 ?_
      refine r_aload_n (x := some o) C.x C.b dX1_checksum_161 rfl (lv_at hl 1 rfl) ?_
      refine lv_iload_n C.x C.b dX1_checksum_162 rfl (lv_at hl 2 rfl) ?_
      refine lv_iload C.x C.b dX1_checksum_163 (lv_at hl 3 rfl) ?_
      refine lv_iconst (v := 1) C.x C.b dX1_checksum_165 (by decide) ?_
      refine cx_callV (y := yX1_share) (bytes := cX1_share) (maxL := 5) (r := some o) (f := fun a_11 => m_X1_share a_11 x3 x4 1 σ_6) 0 (fun v => some (.int v)) [.int x3, .int x4, .int 1] C hx hw hR hI hl.1 h (by decide) rfl (fun aa uu ee => k_X1_share l hl0 g A aa x3 x4 1 σ_6 uu ee) (cwV 3 C.t (lw_V q1608 q1609 q1610 q126 q1611) rfl rfl rfl (by decide +kernel) ⟨Nat.le_trans (Nat.le_of_ble_eq_true rfl) hR.f, Nat.le_trans (Nat.le_of_ble_eq_true rfl) hR.lo⟩) rfl rfl (Nat.le_of_ble_eq_true rfl) dX1_checksum_166 (fun v_9 σ_10 H locs h hI => ?_)
      refine lv_i2l C.x C.b dX1_checksum_169 rfl ?_
      refine lv_ladd C.x C.b dX1_checksum_170 ?_
      refine tw_ltL h (fun x1_12 h => ?_)
      refine lv_lstore_n (i := 1) (lv' := [(1, .long x1_12), (0, .ref o), (3, .int x3), (4, .int x4)]) C.x C.b dX1_checksum_171 rfl hl (by decide) rfl (fun ls hl => ?_)
      obtain ⟨x4_13, e_, h⟩ := nm_s h
      refine lv_iinc (v := x4_13) (lv' := [(4, .int x4_13), (1, .long x1_12), (0, .ref o), (3, .int x3)]) C.x C.b dX1_checksum_172 hl (k := 3) rfl e_.symm (by decide) rfl (fun ls hl => ?_)
      refine lv_goto (tgt := 128) C.x C.b dX1_checksum_175 (by decide) ?_
      exact ih x1_12 x3 x4_13 _ _ _ _ h hI (lv_sub hl [2, 1, 3, 0] rfl)

theorem w_X1_checksum_98 {z : (cX (Int64)) × cS} {o : Nat} (C : CX p m meth c s args cX1_checksum 5 (Option.some Jvm.ClassFile.FieldType.long) RX1) (hx : ∀ x ∈ c.exceptionTable.toList, False) (hl0 : l.stackTraces = false) (hw : WKc g A s s.heap) (hR : RM g s R (269) (6712)) {k81 : Int64 → Int32 → cS → Option ((cX (Int64)) × cS)} (hk81 : ∀ (x1 : Int64) (x3 : Int32) (σ : cS) (H : Heap) (locs : List Loc) (ls : Array Slot), k81 x1 x3 σ = some z → CI g A s σ H locs → lv_has ls 5 [(0, .ref o), (1, .long x1), (3, .int x3)] → W p l e R s m args below meth c H locs (H.size - s.heap.size) (hsl H - hsl s.heap) (UQ g A (fun v => some (.long v)) z args s (g.2.2.1 3 - s.heap.size) (g.2.2.1 4 - hsl s.heap) below) (F0 m 81 ls [])) : ∀ (n : Nat) (x1 : Int64) (x3 : Int32) (x4 : Int32) (σ : cS) (H : Heap) (locs : List Loc) (ls : Array Slot), b_X1_checksum_98 o k81 n x1 x3 x4 σ = some z → CI g A s σ H locs → lv_has ls 5 [(0, .ref o), (1, .long x1), (3, .int x3), (4, .int x4)] → W p l e R s m args below meth c H locs (H.size - s.heap.size) (hsl H - hsl s.heap) (UQ g A (fun v => some (.long v)) z args s (g.2.2.1 3 - s.heap.size) (g.2.2.1 4 - hsl s.heap) below) (F0 m 98 ls []) := by
  intro n
  induction n with
  | zero =>
    intro x1 x3 x4 σ H locs ls h
    cases h
  | succ n ih =>
    intro x1 x3 x4 σ H locs ls h hI hl
    rw [b_X1_checksum_98] at h
    refine lv_iload C.x C.b dX1_checksum_98 (lv_at hl 3 rfl) ?_
    refine lv_iconst (v := 5) C.x C.b dX1_checksum_100 (by decide) ?_
    refine lv_icmp_gt (tgt := 125) C.x C.b dX1_checksum_101 (by decide) (fun c_1 => ?_) (fun c_1 => ?_)
    · have h := ip c_1 h
      refine lv_iconst (v := 0) C.x C.b dX1_checksum_125 (by decide) ?_
      refine lv_istore (i := 4) (lv' := [(4, .int 0), (0, .ref o), (1, .long x1), (3, .int x3)]) C.x C.b dX1_checksum_126 hl (by decide) rfl (fun ls hl => ?_)
      exact w_X1_checksum_128 C hx hl0 hw hR hk81 _ x1 x3 0 _ _ _ _ h hI (lv_sub hl [1, 2, 3, 0] rfl)
    · have h := iN c_1 h
      refine lv_ldc2 C.x C.b C.o (C.t _ q1532) dX1_checksum_104 ?_
      refine lv_lload_n C.x C.b dX1_checksum_107 rfl (lv_at hl 1 rfl) ?_
      refine lv_lmul C.x C.b dX1_checksum_108 ?_
      refine r_aload_n (x := some o) C.x C.b dX1_checksum_109 rfl (lv_at hl 0 rfl) ?_
      refine lv_iload_n C.x C.b dX1_checksum_110 rfl (lv_at hl 2 rfl) ?_
      refine lv_iload C.x C.b dX1_checksum_111 (lv_at hl 3 rfl) ?_
      refine cx_callV (y := yX1_rule) (bytes := cX1_rule) (maxL := 4) (r := some o) (f := fun a_4 => m_X1_rule a_4 x3 x4 σ) 0 (fun v => some (.int v)) [.int x3, .int x4] C hx hw hR hI hl.1 h (by decide) rfl (fun aa uu ee => k_X1_rule l hl0 g A aa x3 x4 σ uu ee) (cwV 2 C.t (lw_V q1578 q1579 q1580 q126 q1581) rfl rfl rfl (by decide +kernel) ⟨Nat.le_trans (Nat.le_of_ble_eq_true rfl) hR.f, Nat.le_trans (Nat.le_of_ble_eq_true rfl) hR.lo⟩) rfl rfl (Nat.le_of_ble_eq_true rfl) dX1_checksum_113 (fun v_2 σ_3 H locs h hI => ?_)
      refine lv_i2l C.x C.b dX1_checksum_116 rfl ?_
      refine lv_ladd C.x C.b dX1_checksum_117 ?_
      refine tw_ltL h (fun x1_5 h => ?_)
      refine lv_lstore_n (i := 1) (lv' := [(1, .long x1_5), (0, .ref o), (3, .int x3), (4, .int x4)]) C.x C.b dX1_checksum_118 rfl hl (by decide) rfl (fun ls hl => ?_)
      obtain ⟨x4_6, e_, h⟩ := nm_s h
      refine lv_iinc (v := x4_6) (lv' := [(4, .int x4_6), (1, .long x1_5), (0, .ref o), (3, .int x3)]) C.x C.b dX1_checksum_119 hl (k := 3) rfl e_.symm (by decide) rfl (fun ls hl => ?_)
      refine lv_goto (tgt := 98) C.x C.b dX1_checksum_122 (by decide) ?_
      exact ih x1_5 x3 x4_6 _ _ _ _ h hI (lv_sub hl [2, 1, 3, 0] rfl)

theorem w_X1_checksum_195 {z : (cX (Int64)) × cS} {o : Nat} (C : CX p m meth c s args cX1_checksum 5 (Option.some Jvm.ClassFile.FieldType.long) RX1) (hx : ∀ x ∈ c.exceptionTable.toList, False) (hl0 : l.stackTraces = false) (hw : WKc g A s s.heap) (hR : RM g s R (269) (6712))  : ∀ (n : Nat) (x1 : Int64) (x3 : Int32) (x4 : Int32) (σ : cS) (H : Heap) (locs : List Loc) (ls : Array Slot), b_X1_checksum_195 o n x1 x3 x4 σ = some z → CI g A s σ H locs → lv_has ls 5 [(0, .ref o), (1, .long x1), (3, .int x3), (4, .int x4)] → W p l e R s m args below meth c H locs (H.size - s.heap.size) (hsl H - hsl s.heap) (UQ g A (fun v => some (.long v)) z args s (g.2.2.1 3 - s.heap.size) (g.2.2.1 4 - hsl s.heap) below) (F0 m 195 ls []) := by
  intro n
  induction n with
  | zero =>
    intro x1 x3 x4 σ H locs ls h
    cases h
  | succ n ih =>
    intro x1 x3 x4 σ H locs ls h hI hl
    rw [b_X1_checksum_195] at h
    refine lv_iload C.x C.b dX1_checksum_195 (lv_at hl 3 rfl) ?_
    refine lv_iload_n C.x C.b dX1_checksum_197 rfl (lv_at hl 2 rfl) ?_
    refine lv_icmp_ge (tgt := 235) C.x C.b dX1_checksum_198 (by decide) (fun c_1 => ?_) (fun c_1 => ?_)
    · have h := ip c_1 h
      refine lv_lload_n C.x C.b dX1_checksum_235 rfl (lv_at hl 1 rfl) ?_
      exact uq_l h (fun y h => cw_lret C hI h dX1_checksum_236)
    · have h := iN c_1 h
      refine lv_ldc2 C.x C.b C.o (C.t _ q1532) dX1_checksum_201 ?_
      refine lv_lload_n C.x C.b dX1_checksum_204 rfl (lv_at hl 1 rfl) ?_
      refine lv_lmul C.x C.b dX1_checksum_205 ?_
      refine r_aload_n (x := some o) C.x C.b dX1_checksum_206 rfl (lv_at hl 0 rfl) ?_
      refine lv_iload C.x C.b dX1_checksum_207 (lv_at hl 3 rfl) ?_
      refine cx_callV (y := yX1_verdict) (bytes := cX1_verdict) (maxL := 2) (r := some o) (f := fun a_4 => m_X1_verdict a_4 x4 σ) 0 (fun v => some (.int v)) [.int x4] C hx hw hR hI hl.1 h (by decide) rfl (fun aa uu ee => k_X1_verdict l hl0 g A aa x4 σ uu ee) (cwV 1 C.t (lw_V q1623 q1624 q1625 q126 q1626) rfl rfl rfl (by decide +kernel) ⟨Nat.le_trans (Nat.le_of_ble_eq_true rfl) hR.f, Nat.le_trans (Nat.le_of_ble_eq_true rfl) hR.lo⟩) rfl rfl (Nat.le_of_ble_eq_true rfl) dX1_checksum_209 (fun v_2 σ_3 H locs h hI => ?_)
      refine lv_i2l C.x C.b dX1_checksum_212 rfl ?_
      refine lv_ladd C.x C.b dX1_checksum_213 ?_
      refine tw_ltL h (fun x1_5 h => ?_)
      refine lv_lstore_n (i := 1) (lv' := [(1, .long x1_5), (0, .ref o), (3, .int x3), (4, .int x4)]) C.x C.b dX1_checksum_214 rfl hl (by decide) rfl (fun ls hl => ?_)
      refine lv_ldc2 C.x C.b C.o (C.t _ q1532) dX1_checksum_215 ?_
      refine lv_lload_n C.x C.b dX1_checksum_218 rfl (lv_at hl 0 rfl) ?_
      refine lv_lmul C.x C.b dX1_checksum_219 ?_
      refine r_aload_n (x := some o) C.x C.b dX1_checksum_220 rfl (lv_at hl 1 rfl) ?_
      refine lv_iload C.x C.b dX1_checksum_221 (lv_at hl 3 rfl) ?_
      refine cx_callV (y := yX1_settledBy) (bytes := cX1_settledBy) (maxL := 2) (r := some o) (f := fun a_8 => m_X1_settledBy a_8 x4 σ_3) 0 (fun v => some (.int v)) [.int x4] C hx hw hR hI hl.1 h (by decide) rfl (fun aa uu ee => k_X1_settledBy l hl0 g A aa x4 σ_3 uu ee) (cwV 1 C.t (lw_V q1633 q1634 q1635 q126 q1636) rfl rfl rfl (by decide +kernel) ⟨Nat.le_trans (Nat.le_of_ble_eq_true rfl) hR.f, Nat.le_trans (Nat.le_of_ble_eq_true rfl) hR.lo⟩) rfl rfl (Nat.le_of_ble_eq_true rfl) dX1_checksum_223 (fun v_6 σ_7 H locs h hI => ?_)
      refine lv_i2l C.x C.b dX1_checksum_226 rfl ?_
      refine lv_ladd C.x C.b dX1_checksum_227 ?_
      refine tw_ltL h (fun x1_9 h => ?_)
      refine lv_lstore_n (i := 1) (lv' := [(1, .long x1_9), (0, .ref o), (3, .int x3), (4, .int x4)]) C.x C.b dX1_checksum_228 rfl hl (by decide) rfl (fun ls hl => ?_)
      obtain ⟨x4_10, e_, h⟩ := nm_s h
      refine lv_iinc (v := x4_10) (lv' := [(4, .int x4_10), (1, .long x1_9), (0, .ref o), (3, .int x3)]) C.x C.b dX1_checksum_229 hl (k := 3) rfl e_.symm (by decide) rfl (fun ls hl => ?_)
      refine lv_goto (tgt := 195) C.x C.b dX1_checksum_232 (by decide) ?_
      exact ih x1_9 x3 x4_10 _ _ _ _ h hI (lv_sub hl [2, 1, 3, 0] rfl)

theorem w_X1_checksum_81 {z : (cX (Int64)) × cS} {o : Nat} (C : CX p m meth c s args cX1_checksum 5 (Option.some Jvm.ClassFile.FieldType.long) RX1) (hx : ∀ x ∈ c.exceptionTable.toList, False) (hl0 : l.stackTraces = false) (hw : WKc g A s s.heap) (hR : RM g s R (269) (6712))  : ∀ (n : Nat) (x1 : Int64) (x3 : Int32) (σ : cS) (H : Heap) (locs : List Loc) (ls : Array Slot), b_X1_checksum_81 o n x1 x3 σ = some z → CI g A s σ H locs → lv_has ls 5 [(0, .ref o), (1, .long x1), (3, .int x3)] → W p l e R s m args below meth c H locs (H.size - s.heap.size) (hsl H - hsl s.heap) (UQ g A (fun v => some (.long v)) z args s (g.2.2.1 3 - s.heap.size) (g.2.2.1 4 - hsl s.heap) below) (F0 m 81 ls []) := by
  intro n
  induction n with
  | zero =>
    intro x1 x3 σ H locs ls h
    cases h
  | succ n ih =>
    intro x1 x3 σ H locs ls h hI hl
    rw [b_X1_checksum_81] at h
    refine lv_iload_n C.x C.b dX1_checksum_81 rfl (lv_at hl 2 rfl) ?_
    refine r_aload_n (x := some o) C.x C.b dX1_checksum_82 rfl (lv_at hl 0 rfl) ?_
    refine cw_gR (r := some o) 0 0 C hw hI h (by decide) rfl in_X1 (by decide) (C.t _ q1172) (fun _ h9 => h9) dX1_checksum_83 (fun v_1 h => ?_)
    refine cw_gR (r := v_1) 1 4 C hw hI h (by decide) rfl in_X4 (by decide) (C.t _ q851) (fun _ h9 => h9) dX1_checksum_86 (fun v_2 h => ?_)
    refine cw_callV (y := yJ18_size) (bytes := cJ18_size) (maxL := 1) (r := v_2) (f := fun a_5 => m_J18_size a_5 σ) 9 (fun v => some (.int v)) [] C hw hR hI hl.1 h (by decide) rfl (fun aa vv ss ee => k_J18_size l g A aa σ vv ss ee) (cwV 0 C.t (lw_V q1339 q947 q948 q152 q949) rfl rfl rfl (by decide +kernel) ⟨Nat.le_trans (Nat.le_of_ble_eq_true rfl) hR.f, Nat.le_trans (Nat.le_of_ble_eq_true rfl) hR.lo⟩) rfl rfl (Nat.le_of_ble_eq_true rfl) dX1_checksum_89 (fun v_3 σ_4 H locs h hI => ?_)
    refine lv_icmp_ge (tgt := 184) C.x C.b dX1_checksum_92 (by decide) (fun c_6 => ?_) (fun c_6 => ?_)
    · have h := ip c_6 h
      refine r_aload_n (x := some o) C.x C.b dX1_checksum_184 rfl (lv_at hl 0 rfl) ?_
      refine cw_gR (r := some o) 0 0 C hw hI h (by decide) rfl in_X1 (by decide) (C.t _ q1172) (fun _ h9 => h9) dX1_checksum_185 (fun v_7 h => ?_)
      refine cw_callV (y := yX4_cases) (bytes := cX4_cases) (maxL := 3) (r := v_7) (f := fun a_10 => m_X4_cases a_10 σ_4) 1 (fun v => some (.int v)) [] C hw hR hI hl.1 h (by decide) rfl (fun aa vv ss ee => k_X4_cases l g A aa σ_4 vv ss ee) (cwV 0 C.t (lw_V q1382 q833 q834 q150 q835) rfl rfl rfl (by decide +kernel) ⟨Nat.le_trans (Nat.le_of_ble_eq_true rfl) hR.f, Nat.le_trans (Nat.le_of_ble_eq_true rfl) hR.lo⟩) rfl rfl (Nat.le_of_ble_eq_true rfl) dX1_checksum_188 (fun v_8 σ_9 H locs h hI => ?_)
      refine lv_istore_n (i := 3) (lv' := [(3, .int v_8), (0, .ref o), (1, .long x1)]) C.x C.b dX1_checksum_191 rfl hl (by decide) rfl (fun ls hl => ?_)
      refine lv_iconst (v := 0) C.x C.b dX1_checksum_192 (by decide) ?_
      refine lv_istore (i := 4) (lv' := [(4, .int 0), (3, .int v_8), (0, .ref o), (1, .long x1)]) C.x C.b dX1_checksum_193 hl (by decide) rfl (fun ls hl => ?_)
      exact w_X1_checksum_195 C hx hl0 hw hR _ x1 v_8 0 _ _ _ _ h hI (lv_sub hl [2, 3, 1, 0] rfl)
    · have h := iN c_6 h
      refine lv_iconst (v := 0) C.x C.b dX1_checksum_95 (by decide) ?_
      refine lv_istore (i := 4) (lv' := [(4, .int 0), (0, .ref o), (1, .long x1), (3, .int x3)]) C.x C.b dX1_checksum_96 hl (by decide) rfl (fun ls hl => ?_)
      exact w_X1_checksum_98 C hx hl0 hw hR (fun y0 y1 σ H locs ls h hI hl => ih y0 y1 σ H locs ls h hI hl) _ x1 x3 0 _ _ _ _ h hI (lv_sub hl [1, 2, 3, 0] rfl)

theorem w_X1_checksum_31 {z : (cX (Int64)) × cS} {o : Nat} (C : CX p m meth c s args cX1_checksum 5 (Option.some Jvm.ClassFile.FieldType.long) RX1) (hx : ∀ x ∈ c.exceptionTable.toList, False) (hl0 : l.stackTraces = false) (hw : WKc g A s s.heap) (hR : RM g s R (269) (6712))  : ∀ (n : Nat) (x1 : Int64) (x3 : Int32) (σ : cS) (H : Heap) (locs : List Loc) (ls : Array Slot), b_X1_checksum_31 o n x1 x3 σ = some z → CI g A s σ H locs → lv_has ls 5 [(0, .ref o), (1, .long x1), (3, .int x3)] → W p l e R s m args below meth c H locs (H.size - s.heap.size) (hsl H - hsl s.heap) (UQ g A (fun v => some (.long v)) z args s (g.2.2.1 3 - s.heap.size) (g.2.2.1 4 - hsl s.heap) below) (F0 m 31 ls []) := by
  intro n
  induction n with
  | zero =>
    intro x1 x3 σ H locs ls h
    cases h
  | succ n ih =>
    intro x1 x3 σ H locs ls h hI hl
    rw [b_X1_checksum_31] at h
    refine lv_iload_n C.x C.b dX1_checksum_31 rfl (lv_at hl 2 rfl) ?_
    refine r_aload_n (x := some o) C.x C.b dX1_checksum_32 rfl (lv_at hl 0 rfl) ?_
    refine cw_gR (r := some o) 0 0 C hw hI h (by decide) rfl in_X1 (by decide) (C.t _ q1172) (fun _ h9 => h9) dX1_checksum_33 (fun v_1 h => ?_)
    refine cw_gI (r := v_1) 1 1 C hw hI h (by decide) rfl in_X4 (by decide) (C.t _ q842) (fun _ h9 => h9) dX1_checksum_36 (fun v_2 h => ?_)
    refine lv_icmp_ge (tgt := 79) C.x C.b dX1_checksum_39 (by decide) (fun c_3 => ?_) (fun c_3 => ?_)
    · have h := ip c_3 h
      refine lv_iconst (v := 0) C.x C.b dX1_checksum_79 (by decide) ?_
      refine lv_istore_n (i := 3) (lv' := [(3, .int 0), (0, .ref o), (1, .long x1)]) C.x C.b dX1_checksum_80 rfl hl (by decide) rfl (fun ls hl => ?_)
      exact w_X1_checksum_81 C hx hl0 hw hR _ x1 0 _ _ _ _ h hI (lv_sub hl [1, 2, 0] rfl)
    · have h := iN c_3 h
      refine lv_iconst (v := 0) C.x C.b dX1_checksum_42 (by decide) ?_
      refine lv_istore (i := 4) (lv' := [(4, .int 0), (0, .ref o), (1, .long x1), (3, .int x3)]) C.x C.b dX1_checksum_43 hl (by decide) rfl (fun ls hl => ?_)
      exact w_X1_checksum_45 C hx hl0 hw hR (fun y0 y1 σ H locs ls h hI hl => ih y0 y1 σ H locs ls h hI hl) _ x1 x3 0 _ _ _ _ h hI (lv_sub hl [1, 2, 3, 0] rfl)

theorem w_X1_checksum_4 {z : (cX (Int64)) × cS} {o : Nat} (C : CX p m meth c s args cX1_checksum 5 (Option.some Jvm.ClassFile.FieldType.long) RX1) (hx : ∀ x ∈ c.exceptionTable.toList, False) (hl0 : l.stackTraces = false) (hw : WKc g A s s.heap) (hR : RM g s R (269) (6712))  : ∀ (n : Nat) (x1 : Int64) (x3 : Int32) (σ : cS) (H : Heap) (locs : List Loc) (ls : Array Slot), b_X1_checksum_4 o n x1 x3 σ = some z → CI g A s σ H locs → lv_has ls 5 [(0, .ref o), (1, .long x1), (3, .int x3)] → W p l e R s m args below meth c H locs (H.size - s.heap.size) (hsl H - hsl s.heap) (UQ g A (fun v => some (.long v)) z args s (g.2.2.1 3 - s.heap.size) (g.2.2.1 4 - hsl s.heap) below) (F0 m 4 ls []) := by
  intro n
  induction n with
  | zero =>
    intro x1 x3 σ H locs ls h
    cases h
  | succ n ih =>
    intro x1 x3 σ H locs ls h hI hl
    rw [b_X1_checksum_4] at h
    refine lv_iload_n C.x C.b dX1_checksum_4 rfl (lv_at hl 2 rfl) ?_
    refine lv_bipush (v := 10) C.x C.b dX1_checksum_5 (by decide) ?_
    refine lv_icmp_gt (tgt := 29) C.x C.b dX1_checksum_7 (by decide) (fun c_1 => ?_) (fun c_1 => ?_)
    · have h := ip c_1 h
      refine lv_iconst (v := 0) C.x C.b dX1_checksum_29 (by decide) ?_
      refine lv_istore_n (i := 3) (lv' := [(3, .int 0), (0, .ref o), (1, .long x1)]) C.x C.b dX1_checksum_30 rfl hl (by decide) rfl (fun ls hl => ?_)
      exact w_X1_checksum_31 C hx hl0 hw hR _ x1 0 _ _ _ _ h hI (lv_sub hl [1, 2, 0] rfl)
    · have h := iN c_1 h
      refine lv_ldc2 C.x C.b C.o (C.t _ q1532) dX1_checksum_10 ?_
      refine lv_lload_n C.x C.b dX1_checksum_13 rfl (lv_at hl 1 rfl) ?_
      refine lv_lmul C.x C.b dX1_checksum_14 ?_
      refine r_aload_n (x := some o) C.x C.b dX1_checksum_15 rfl (lv_at hl 0 rfl) ?_
      refine lv_iload_n C.x C.b dX1_checksum_16 rfl (lv_at hl 2 rfl) ?_
      refine cx_callV (y := yX1_size) (bytes := cX1_size) (maxL := 2) (r := some o) (f := fun a_4 => m_X1_size a_4 x3 σ) 0 (fun v => some (.int v)) [.int x3] C hx hw hR hI hl.1 h (by decide) rfl (fun aa uu ee => k_X1_size l hl0 g A aa x3 σ uu ee) (cwV 1 C.t (lw_V q1533 q1534 q1535 q126 q1536) rfl rfl rfl (by decide +kernel) ⟨Nat.le_trans (Nat.le_of_ble_eq_true rfl) hR.f, Nat.le_trans (Nat.le_of_ble_eq_true rfl) hR.lo⟩) rfl rfl (Nat.le_of_ble_eq_true rfl) dX1_checksum_17 (fun v_2 σ_3 H locs h hI => ?_)
      refine lv_i2l C.x C.b dX1_checksum_20 rfl ?_
      refine lv_ladd C.x C.b dX1_checksum_21 ?_
      refine tw_ltL h (fun x1_5 h => ?_)
      refine lv_lstore_n (i := 1) (lv' := [(1, .long x1_5), (0, .ref o), (3, .int x3)]) C.x C.b dX1_checksum_22 rfl hl (by decide) rfl (fun ls hl => ?_)
      obtain ⟨x3_6, e_, h⟩ := nm_s h
      refine lv_iinc (v := x3_6) (lv' := [(3, .int x3_6), (1, .long x1_5), (0, .ref o)]) C.x C.b dX1_checksum_23 hl (k := 2) rfl e_.symm (by decide) rfl (fun ls hl => ?_)
      refine lv_goto (tgt := 4) C.x C.b dX1_checksum_26 (by decide) ?_
      exact ih x1_5 x3_6 _ _ _ _ h hI (lv_sub hl [2, 1, 0] rfl)

theorem k_X1_checksum (l : Launch) (hl0 : l.stackTraces = false) (g : cG) (A : Nat → Prop) (o : Nat) (σ : cS) (z : (cX (Int64)) × cS) (h : m_X1_checksum o σ = some z) : MetX l yX1_checksum (ws_ yX1_checksum cX1_checksum 5 (Option.some Jvm.ClassFile.FieldType.long)) ({ frames := 269, cells := σ.2 3 - σ.2 0, slots := σ.2 4 - σ.2 1, locals := 6712 }) g A [.ref o] σ (fun v => some (.long v)) z (σ.2 3 - σ.2 0) (σ.2 4 - σ.2 1) := by
  refine metx_of (cc := cX1_checksum) (maxL := 5) (ret := (Option.some Jvm.ClassFile.FieldType.long)) (by decide) rfl ?_
  intro p e s m args below meth c s₁ B hml hx hv
  obtain ⟨rfl, hw, hσ⟩ := hv
  have hts := atoms_spec (ws := (ws_ yX1_checksum cX1_checksum 5 (Option.some Jvm.ClassFile.FieldType.long))) B.pre
  have C : CX p m meth c s ([.ref o] : List Value).toArray cX1_checksum 5 (Option.some Jvm.ClassFile.FieldType.long) RX1 := ⟨⟨B.exec, B.bytes, hml, findClass_of_methodNamed B.named, fun w h => hts w (List.mem_cons_of_mem _ h)⟩, B.returns, B.notSynchronized⟩
  have e3 : σ.2 3 - σ.2 0 = g.2.2.1 3 - s.heap.size := by rw [hσ.1, hσ.2.2.2.1 3 (by decide)]
  have e4 : σ.2 4 - σ.2 1 = g.2.2.1 4 - hsl s.heap := by rw [hσ.2.1, hσ.2.2.2.1 4 (by decide)]
  have hR : RM g s (headSpec (ws_ yX1_checksum cX1_checksum 5 (Option.some Jvm.ClassFile.FieldType.long)) ({ frames := 269, cells := σ.2 3 - σ.2 0, slots := σ.2 4 - σ.2 1, locals := 6712 })).room (269) (6712) := ⟨⟨Nat.le_refl _, Nat.le_refl _⟩, Nat.le_of_eq e3.symm, Nat.le_of_eq e4.symm⟩
  generalize (headSpec (ws_ yX1_checksum cX1_checksum 5 (Option.some Jvm.ClassFile.FieldType.long)) ({ frames := 269, cells := σ.2 3 - σ.2 0, slots := σ.2 4 - σ.2 1, locals := 6712 })).room = R at hR ⊢
  rw [e3, e4]
  have hI : CI g A s σ s.heap [] := ⟨hσ, va_S.rf, Nat.le_refl _⟩
  have hl := lv_entry ([.ref o]) (n := 5) (Nat.le_of_ble_eq_true rfl)
  rw [lg_entry_eq]
  generalize (lg_sl ([.ref o]) ++ List.replicate (5 - (lg_sl ([.ref o])).length) Slot.unset).toArray = ls at hl ⊢
  have hl : lv_has ls 5 [(0, .ref o)] := hl
  refine W.narrow ?_
  unfold m_X1_checksum at h
  refine lv_lconst (v := 0) C.x C.b dX1_checksum_0 (by decide) ?_
  refine lv_lstore_n (i := 1) (lv' := [(1, .long 0), (0, .ref o)]) C.x C.b dX1_checksum_1 rfl hl (by decide) rfl (fun ls hl => ?_)
  refine lv_iconst (v := 0) C.x C.b dX1_checksum_2 (by decide) ?_
  refine lv_istore_n (i := 3) (lv' := [(3, .int 0), (1, .long 0), (0, .ref o)]) C.x C.b dX1_checksum_3 rfl hl (by decide) rfl (fun ls hl => ?_)
  exact w_X1_checksum_4 C hx hl0 hw hR _ 0 0 _ _ _ _ h hI (lv_sub hl [2, 1, 0] rfl)

theorem k_X1_answer (l : Launch) (g : cG) (A : Nat → Prop) (x0 : Option Nat) (σ : cS) (v : Int32) (σ1 : cS) (h : m_X1_answer x0 σ = some (v, σ1)) : Met l yX1_answer (ws_ yX1_answer cX1_answer 1 (Option.some Jvm.ClassFile.FieldType.int)) ({ frames := 1, cells := σ.2 3 - σ.2 0, slots := σ.2 4 - σ.2 1, locals := 40 }) (CPc g A [va_rf x0] σ) (CQ g A (some (.int v)) σ1) (σ.2 3 - σ.2 0) (σ.2 4 - σ.2 1) A := by
  refine Met.ofW (cc := cX1_answer) (maxL := 1) (ret := (Option.some Jvm.ClassFile.FieldType.int)) (by decide) rfl ?_
  intro p e s m args below meth c s₁ B hml hv
  obtain ⟨rfl, hw, hσ⟩ := hv
  have hts := atoms_spec (ws := (ws_ yX1_answer cX1_answer 1 (Option.some Jvm.ClassFile.FieldType.int))) B.pre
  have C : CX p m meth c s ([va_rf x0] : List Value).toArray cX1_answer 1 (Option.some Jvm.ClassFile.FieldType.int) RX1 := ⟨⟨B.exec, B.bytes, hml, findClass_of_methodNamed B.named, fun w h => hts w (List.mem_cons_of_mem _ h)⟩, B.returns, B.notSynchronized⟩
  have e3 : σ.2 3 - σ.2 0 = g.2.2.1 3 - s.heap.size := by rw [hσ.1, hσ.2.2.2.1 3 (by decide)]
  have e4 : σ.2 4 - σ.2 1 = g.2.2.1 4 - hsl s.heap := by rw [hσ.2.1, hσ.2.2.2.1 4 (by decide)]
  have hR : RM g s (headSpec (ws_ yX1_answer cX1_answer 1 (Option.some Jvm.ClassFile.FieldType.int)) ({ frames := 1, cells := σ.2 3 - σ.2 0, slots := σ.2 4 - σ.2 1, locals := 40 })).room (1) (40) := ⟨⟨Nat.le_refl _, Nat.le_refl _⟩, Nat.le_of_eq e3.symm, Nat.le_of_eq e4.symm⟩
  generalize (headSpec (ws_ yX1_answer cX1_answer 1 (Option.some Jvm.ClassFile.FieldType.int)) ({ frames := 1, cells := σ.2 3 - σ.2 0, slots := σ.2 4 - σ.2 1, locals := 40 })).room = R at hR ⊢
  rw [e3, e4]
  have hI : CI g A s σ s.heap [] := ⟨hσ, va_S.rf, Nat.le_refl _⟩
  have hlen : (lg_sl ([va_rf x0])).length ≤ 1 := by rcases x0 with _ | x0 <;> exact Nat.le_of_ble_eq_true rfl
  have hl := lv_entry ([va_rf x0]) (n := 1) hlen
  rw [lg_entry_eq]
  generalize (lg_sl ([va_rf x0]) ++ List.replicate (1 - (lg_sl ([va_rf x0])).length) Slot.unset).toArray = ls at hl ⊢
  have hl : lv_has ls 1 [(0, va_rf x0)] := by clear hI hw h hσ e3 e4 hR C hts B; rcases x0 with _ | x0 <;> exact hl
  obtain ⟨z, hz⟩ : ∃ z, z = (v, σ1) := ⟨_, rfl⟩
  rw [← hz] at h
  rw [show v = z.1 by rw [hz], show σ1 = z.2 by rw [hz]]
  clear hz v σ1
  refine W.narrow ?_
  unfold m_X1_answer at h
  refine lv_bipush (v := -2) C.x C.b dX1_answer_0 (by decide) ?_
  refine lv_bipush (v := 8) C.x C.b dX1_answer_2 (by decide) ?_
  refine r_aload_n (x := x0) C.x C.b dX1_answer_4 rfl (lv_at hl 0 rfl) ?_
  refine cw_gI (r := x0) 14 0 C hw hI h (by decide) rfl in_XF (by decide) (C.t _ q770) (fun _ h9 => h9) dX1_answer_5 (fun v_1 h => ?_)
  refine lv_imul C.x C.b dX1_answer_8 ?_
  refine r_aload_n (x := x0) C.x C.b dX1_answer_9 rfl (lv_at hl 0 rfl) ?_
  refine cw_gI (r := x0) 14 1 C hw hI h (by decide) rfl in_XF (by decide) (C.t _ q772) (fun _ h9 => h9) dX1_answer_10 (fun v_2 h => ?_)
  refine lv_iadd C.x C.b dX1_answer_13 ?_
  refine lv_isub C.x C.b dX1_answer_14 ?_
  exact cw_iret C hI h dX1_answer_15

theorem k_X1_parse (l : Launch) (hl0 : l.stackTraces = false) (g : cG) (A : Nat → Prop) (o : Nat) (x1 : Int32) (σ : cS) (z : (cX (Int32)) × cS) (h : m_X1_parse o x1 σ = some z) : MetX l yX1_parse (wsW_ yX1_parse cX1_parse 5 (Option.some Jvm.ClassFile.FieldType.int) [(12, 42, 52, 73), (12, 42, 68, 0), (52, 58, 68, 0), (68, 70, 68, 0)]) ({ frames := 431, cells := σ.2 3 - σ.2 0, slots := σ.2 4 - σ.2 1, locals := 101024 }) g A [.ref o, .int x1] σ (fun v => some (.int v)) z (σ.2 3 - σ.2 0) (σ.2 4 - σ.2 1) := by
  refine metx_ofH (cc := cX1_parse) (maxL := 5) (ret := (Option.some Jvm.ClassFile.FieldType.int)) (by decide) rfl ?_
  intro p e s m args below meth c s₁ B hml hv
  obtain ⟨rfl, hw, hσ⟩ := hv
  have hts := atoms_spec (ws := (wsW_ yX1_parse cX1_parse 5 (Option.some Jvm.ClassFile.FieldType.int) [(12, 42, 52, 73), (12, 42, 68, 0), (52, 58, 68, 0), (68, 70, 68, 0)])) B.pre
  have C : CX p m meth c s ([.ref o, .int x1] : List Value).toArray cX1_parse 5 (Option.some Jvm.ClassFile.FieldType.int) RX1 := ⟨⟨B.exec, B.bytes, hml, findClass_of_methodNamed B.named, fun w h => hts w (List.mem_cons_of_mem _ h)⟩, B.returns, B.notSynchronized⟩
  have hxT := vx_table (x := yX1_parse) B (hts _ List.mem_cons_self)
  have e3 : σ.2 3 - σ.2 0 = g.2.2.1 3 - s.heap.size := by rw [hσ.1, hσ.2.2.2.1 3 (by decide)]
  have e4 : σ.2 4 - σ.2 1 = g.2.2.1 4 - hsl s.heap := by rw [hσ.2.1, hσ.2.2.2.1 4 (by decide)]
  have hR : RM g s (headSpec (wsW_ yX1_parse cX1_parse 5 (Option.some Jvm.ClassFile.FieldType.int) [(12, 42, 52, 73), (12, 42, 68, 0), (52, 58, 68, 0), (68, 70, 68, 0)]) ({ frames := 431, cells := σ.2 3 - σ.2 0, slots := σ.2 4 - σ.2 1, locals := 101024 })).room (431) (101024) := ⟨⟨Nat.le_refl _, Nat.le_refl _⟩, Nat.le_of_eq e3.symm, Nat.le_of_eq e4.symm⟩
  generalize (headSpec (wsW_ yX1_parse cX1_parse 5 (Option.some Jvm.ClassFile.FieldType.int) [(12, 42, 52, 73), (12, 42, 68, 0), (52, 58, 68, 0), (68, 70, 68, 0)]) ({ frames := 431, cells := σ.2 3 - σ.2 0, slots := σ.2 4 - σ.2 1, locals := 101024 })).room = R at hR ⊢
  rw [e3, e4]
  have hI : CI g A s σ s.heap [] := ⟨hσ, va_S.rf, Nat.le_refl _⟩
  have hl := lv_entry ([.ref o, .int x1]) (n := 5) (Nat.le_of_ble_eq_true rfl)
  rw [lg_entry_eq]
  generalize (lg_sl ([.ref o, .int x1]) ++ List.replicate (5 - (lg_sl ([.ref o, .int x1])).length) Slot.unset).toArray = ls at hl ⊢
  have hl : lv_has ls 5 [(0, .ref o), (1, .int x1)] := hl
  refine W.narrow ?_
  unfold m_X1_parse at h
  refine lv_iload_n C.x C.b dX1_parse_0 rfl (lv_at hl 1 rfl) ?_
  refine lv_iconst (v := 0) C.x C.b dX1_parse_1 (by decide) ?_
  refine r_aload_n (x := some o) C.x C.b dX1_parse_2 rfl (lv_at hl 0 rfl) ?_
  refine cw_gR (r := some o) 0 3 C hw hI h (by decide) rfl in_X1 (by decide) (C.t _ q1175) (fun _ h9 => h9) dX1_parse_3 (fun v_1 h => ?_)
  refine cw_callV (y := yJ3_length) (bytes := cJ3_length) (maxL := 1) (r := v_1) (f := fun a_4 => m_J3_length a_4 σ) 11 (fun v => some (.int v)) [] C hw hR hI hl.1 h (by decide) rfl (fun aa vv ss ee => k_J3_length l g A aa σ vv ss ee) (cwV 0 C.t (lw_V q1192 q584 q2704 q130 q585) rfl rfl rfl (by decide +kernel) ⟨Nat.le_trans (Nat.le_of_ble_eq_true rfl) hR.f, Nat.le_trans (Nat.le_of_ble_eq_true rfl) hR.lo⟩) rfl rfl (Nat.le_of_ble_eq_true rfl) dX1_parse_6 (fun v_2 σ_3 H locs h hI => ?_)
  refine cx_callSP (y := yX1_check) (bytes := cX1_check) (maxL := 3) (fun _ => none) [.int x1, .int 0, .int v_2] C (outside_of_table hxT (by decide)) hw hR hI hl.1 h (fun uu ee => k_X1_check l hl0 g A x1 0 v_2 σ_3 uu ee) (va_cwS 3 C.t (lw_S q1537 q1538 q126 q1539) rfl rfl rfl (by decide +kernel) ⟨Nat.le_trans (Nat.le_of_ble_eq_true rfl) hR.f, Nat.le_trans (Nat.le_of_ble_eq_true rfl) hR.lo⟩) rfl rfl (Nat.le_of_ble_eq_true rfl) dX1_parse_9 (fun _ σ_5 H locs h hI => ?_)
  refine r_aload_n (x := some o) C.x C.b dX1_parse_12 rfl (lv_at hl 0 rfl) ?_
  refine cw_new (T := TX2) (N := 10) 8 C hw hI hR.2.1 hR.2.2 h (by decide) rfl in_X2 tyX2 tyX2_ok (fun j hj => match j, hj with | 0, _ => rfl | 1, _ => rfl | 2, _ => rfl | 3, _ => rfl | 4, _ => rfl | 5, _ => rfl | 6, _ => rfl | 7, _ => rfl | 8, _ => rfl | 9, _ => rfl | j + 10, hj => absurd hj (Nat.not_lt_of_le (Nat.le_add_left _ _))) q242 q243 q133 dX1_parse_13 (fun q_6 σ_7 H locs h hI => ?_)
  refine lv_dup C.x C.b dX1_parse_16 rfl ?_
  refine r_aload_n (x := some o) C.x C.b dX1_parse_17 rfl (lv_at hl 0 rfl) ?_
  refine cw_gR (r := some o) 0 3 C hw hI h (by decide) rfl in_X1 (by decide) (C.t _ q1175) (fun _ h9 => h9) dX1_parse_18 (fun v_8 h => ?_)
  refine lv_iload_n C.x C.b dX1_parse_21 rfl (lv_at hl 1 rfl) ?_
  refine cw_callI (y := yX2_init) (bytes := cX2_init) (maxL := 3) (b := q_6) [va_rf v_8, .int x1] C hw hR hI hl.1 h (fun vv ss ee => k_X2_init l g A q_6 v_8 x1 σ_7 vv ss ee) (cwI 2 C.t (lw_meth q255) rfl rfl rfl (C.t _ q133) (C.t _ q253) (C.t _ q254) rfl (by decide +kernel) ⟨Nat.le_trans (Nat.le_of_ble_eq_true rfl) hR.f, Nat.le_trans (Nat.le_of_ble_eq_true rfl) hR.lo⟩) rfl rfl (Nat.le_of_ble_eq_true rfl) dX1_parse_22 (fun σ_9 _ H locs h hI => ?_)
  refine cx_callVC (y := yX2_read) (bytes := cX2_read) (maxL := 5) (r := some q_6) (f := fun a_12 => m_X2_read a_12 σ_9) (st0 := 12) (en := 42) (hpc := 52) (ct := 73) 8 (fun v => some (va_rf v)) [] [] [⟨12, 42, 68, 0⟩, ⟨52, 58, 68, 0⟩, ⟨68, 70, 68, 0⟩] C hxT (by decide) (by decide) (by decide) (C.t _ q235) hw hR hI hl.1 h (by decide) rfl (fun aa uu ee => k_X2_read l hl0 g A aa σ_9 uu ee) (cwV 0 C.t (lw_V q289 q290 q291 q133 q292) rfl rfl rfl (by decide +kernel) ⟨Nat.le_trans (Nat.le_of_ble_eq_true rfl) hR.f, Nat.le_trans (Nat.le_of_ble_eq_true rfl) hR.lo⟩) rfl rfl (Nat.le_of_ble_eq_true rfl) dX1_parse_25 (fun v_10 σ_11 H locs h hI => ?_) (fun q_13 σ_14 H locs h hI => ?_)
  · refine cw_callV (y := yX1_replaceAll) (bytes := cX1_replaceAll) (maxL := 2) (r := some o) (f := fun a_16 => m_X1_replaceAll a_16 v_10 σ_11) 0 (fun _ => none) [va_rf v_10] C hw hR hI hl.1 h (by decide) rfl (fun aa vv ss ee => k_X1_replaceAll l g A aa v_10 σ_11 vv ss ee) (cwV 1 C.t (lw_V q1145 q1147 qs22 q126 q1148) rfl rfl rfl (by decide +kernel) ⟨Nat.le_trans (Nat.le_of_ble_eq_true rfl) hR.f, Nat.le_trans (Nat.le_of_ble_eq_true rfl) hR.lo⟩) rfl rfl (Nat.le_of_ble_eq_true rfl) dX1_parse_28 (fun _ σ_15 H locs h hI => ?_)
    refine r_aload_n (x := some o) C.x C.b dX1_parse_31 rfl (lv_at hl 0 rfl) ?_
    refine cw_gR (r := some o) 0 0 C hw hI h (by decide) rfl in_X1 (by decide) (C.t _ q1172) (fun _ h9 => h9) dX1_parse_32 (fun v_17 h => ?_)
    refine cw_gR (r := v_17) 1 4 C hw hI h (by decide) rfl in_X4 (by decide) (C.t _ q851) (fun _ h9 => h9) dX1_parse_35 (fun v_18 h => ?_)
    refine cw_callV (y := yJ18_size) (bytes := cJ18_size) (maxL := 1) (r := v_18) (f := fun a_21 => m_J18_size a_21 σ_15) 9 (fun v => some (.int v)) [] C hw hR hI hl.1 h (by decide) rfl (fun aa vv ss ee => k_J18_size l g A aa σ_15 vv ss ee) (cwV 0 C.t (lw_V q1339 q947 q948 q152 q949) rfl rfl rfl (by decide +kernel) ⟨Nat.le_trans (Nat.le_of_ble_eq_true rfl) hR.f, Nat.le_trans (Nat.le_of_ble_eq_true rfl) hR.lo⟩) rfl rfl (Nat.le_of_ble_eq_true rfl) dX1_parse_38 (fun v_19 σ_20 H locs h hI => ?_)
    refine lv_istore_n (i := 2) (lv' := [(2, .int v_19), (0, .ref o), (1, .int x1)]) C.x C.b dX1_parse_41 rfl hl (by decide) rfl (fun ls hl => ?_)
    refine r_aload_n (x := some o) C.x C.b dX1_parse_42 rfl (lv_at hl 1 rfl) ?_
    refine cw_gR (r := some o) 0 3 C hw hI h (by decide) rfl in_X1 (by decide) (C.t _ q1175) (fun _ h9 => h9) dX1_parse_43 (fun v_22 h => ?_)
    refine lv_iconst (v := 0) C.x C.b dX1_parse_46 (by decide) ?_
    refine cw_callV (y := yJ3_setLength) (bytes := cJ3_setLength) (maxL := 2) (r := v_22) (f := fun a_24 => m_J3_setLength a_24 0 σ_20) 11 (fun _ => none) [.int 0] C hw hR hI hl.1 h (by decide) rfl (fun aa vv ss ee => k_J3_setLength l g A aa 0 σ_20 vv ss ee) (cwV 1 C.t (lw_V q1645 q1646 q1647 q130 q1648) rfl rfl rfl (by decide +kernel) ⟨Nat.le_trans (Nat.le_of_ble_eq_true rfl) hR.f, Nat.le_trans (Nat.le_of_ble_eq_true rfl) hR.lo⟩) rfl rfl (Nat.le_of_ble_eq_true rfl) dX1_parse_47 (fun _ σ_23 H locs h hI => ?_)
    refine lv_iload_n C.x C.b dX1_parse_50 rfl (lv_at hl 0 rfl) ?_
    exact uq_l h (fun y h => cw_iret C hI h dX1_parse_51)
  · refine r_astore_n (i := 2) (x := some q_13) (lv' := [(2, .ref q_13), (0, .ref o), (1, .int x1)]) C.x C.b dX1_parse_52 rfl hl (by decide) (by rfl) (fun ls hl => ?_)
    refine r_aload_n (x := some q_13) C.x C.b dX1_parse_53 rfl (lv_at hl 0 rfl) ?_
    refine cw_callS (y := yX1_answer) (bytes := cX1_answer) (maxL := 1) (fun v => some (.int v)) [.ref q_13] C hw hR hI hl.1 h (fun vv ss ee => k_X1_answer l g A (some q_13) σ_14 vv ss ee) (va_cwS 1 C.t (lw_S q1713 q1714 q126 q1715) rfl rfl rfl (by decide +kernel) ⟨Nat.le_trans (Nat.le_of_ble_eq_true rfl) hR.f, Nat.le_trans (Nat.le_of_ble_eq_true rfl) hR.lo⟩) rfl rfl (Nat.le_of_ble_eq_true rfl) dX1_parse_54 (fun v_25 σ_26 H locs h hI => ?_)
    refine lv_istore_n (i := 3) (lv' := [(3, .int v_25), (2, .ref q_13), (0, .ref o), (1, .int x1)]) C.x C.b dX1_parse_57 rfl hl (by decide) rfl (fun ls hl => ?_)
    refine r_aload_n (x := some o) C.x C.b dX1_parse_58 rfl (lv_at hl 2 rfl) ?_
    refine cw_gR (r := some o) 0 3 C hw hI h (by decide) rfl in_X1 (by decide) (C.t _ q1175) (fun _ h9 => h9) dX1_parse_59 (fun v_27 h => ?_)
    refine lv_iconst (v := 0) C.x C.b dX1_parse_62 (by decide) ?_
    refine cw_callV (y := yJ3_setLength) (bytes := cJ3_setLength) (maxL := 2) (r := v_27) (f := fun a_29 => m_J3_setLength a_29 0 σ_26) 11 (fun _ => none) [.int 0] C hw hR hI hl.1 h (by decide) rfl (fun aa vv ss ee => k_J3_setLength l g A aa 0 σ_26 vv ss ee) (cwV 1 C.t (lw_V q1645 q1646 q1647 q130 q1648) rfl rfl rfl (by decide +kernel) ⟨Nat.le_trans (Nat.le_of_ble_eq_true rfl) hR.f, Nat.le_trans (Nat.le_of_ble_eq_true rfl) hR.lo⟩) rfl rfl (Nat.le_of_ble_eq_true rfl) dX1_parse_63 (fun _ σ_28 H locs h hI => ?_)
    refine lv_iload_n C.x C.b dX1_parse_66 rfl (lv_at hl 0 rfl) ?_
    exact uq_l h (fun y h => cw_iret C hI h dX1_parse_67)

theorem k_X1_load (l : Launch) (hl0 : l.stackTraces = false) (g : cG) (A : Nat → Prop) (o : Nat) (x1 : Int32) (σ : cS) (z : (cX (Int32)) × cS) (h : m_X1_load o x1 σ = some z) : MetX l yX1_load (ws_ yX1_load cX1_load 2 (Option.some Jvm.ClassFile.FieldType.int)) ({ frames := 432, cells := σ.2 3 - σ.2 0, slots := σ.2 4 - σ.2 1, locals := 101047 }) g A [.ref o, .int x1] σ (fun v => some (.int v)) z (σ.2 3 - σ.2 0) (σ.2 4 - σ.2 1) := by
  refine metx_of (cc := cX1_load) (maxL := 2) (ret := (Option.some Jvm.ClassFile.FieldType.int)) (by decide) rfl ?_
  intro p e s m args below meth c s₁ B hml hx hv
  obtain ⟨rfl, hw, hσ⟩ := hv
  have hts := atoms_spec (ws := (ws_ yX1_load cX1_load 2 (Option.some Jvm.ClassFile.FieldType.int))) B.pre
  have C : CX p m meth c s ([.ref o, .int x1] : List Value).toArray cX1_load 2 (Option.some Jvm.ClassFile.FieldType.int) RX1 := ⟨⟨B.exec, B.bytes, hml, findClass_of_methodNamed B.named, fun w h => hts w (List.mem_cons_of_mem _ h)⟩, B.returns, B.notSynchronized⟩
  have e3 : σ.2 3 - σ.2 0 = g.2.2.1 3 - s.heap.size := by rw [hσ.1, hσ.2.2.2.1 3 (by decide)]
  have e4 : σ.2 4 - σ.2 1 = g.2.2.1 4 - hsl s.heap := by rw [hσ.2.1, hσ.2.2.2.1 4 (by decide)]
  have hR : RM g s (headSpec (ws_ yX1_load cX1_load 2 (Option.some Jvm.ClassFile.FieldType.int)) ({ frames := 432, cells := σ.2 3 - σ.2 0, slots := σ.2 4 - σ.2 1, locals := 101047 })).room (432) (101047) := ⟨⟨Nat.le_refl _, Nat.le_refl _⟩, Nat.le_of_eq e3.symm, Nat.le_of_eq e4.symm⟩
  generalize (headSpec (ws_ yX1_load cX1_load 2 (Option.some Jvm.ClassFile.FieldType.int)) ({ frames := 432, cells := σ.2 3 - σ.2 0, slots := σ.2 4 - σ.2 1, locals := 101047 })).room = R at hR ⊢
  rw [e3, e4]
  have hI : CI g A s σ s.heap [] := ⟨hσ, va_S.rf, Nat.le_refl _⟩
  have hl := lv_entry ([.ref o, .int x1]) (n := 2) (Nat.le_of_ble_eq_true rfl)
  rw [lg_entry_eq]
  generalize (lg_sl ([.ref o, .int x1]) ++ List.replicate (2 - (lg_sl ([.ref o, .int x1])).length) Slot.unset).toArray = ls at hl ⊢
  have hl : lv_has ls 2 [(0, .ref o), (1, .int x1)] := hl
  refine W.narrow ?_
  unfold m_X1_load at h
  refine lv_iload_n C.x C.b dX1_load_0 rfl (lv_at hl 1 rfl) ?_
  refine lv_iconst (v := 0) C.x C.b dX1_load_1 (by decide) ?_
  refine lv_iconst (v := 2) C.x C.b dX1_load_2 (by decide) ?_
  refine cx_callS (y := yX1_check) (bytes := cX1_check) (maxL := 3) (fun _ => none) [.int x1, .int 0, .int 2] C hx hw hR hI hl.1 h (fun uu ee => k_X1_check l hl0 g A x1 0 2 σ uu ee) (va_cwS 3 C.t (lw_S q1537 q1538 q126 q1539) rfl rfl rfl (by decide +kernel) ⟨Nat.le_trans (Nat.le_of_ble_eq_true rfl) hR.f, Nat.le_trans (Nat.le_of_ble_eq_true rfl) hR.lo⟩) rfl rfl (Nat.le_of_ble_eq_true rfl) dX1_load_3 (fun _ σ_1 H locs h hI => ?_)
  refine r_aload_n (x := some o) C.x C.b dX1_load_6 rfl (lv_at hl 0 rfl) ?_
  refine lv_iload_n C.x C.b dX1_load_7 rfl (lv_at hl 1 rfl) ?_
  refine cw_callVW (y := yX1_start) (bytes := cX1_start) (maxL := 4) (hh := [(5, 24, 27, 73)]) (r := some o) (f := fun a_3 => m_X1_start a_3 x1 σ_1) 0 (fun _ => none) [.int x1] C hw hR hI hl.1 h (by decide) rfl (fun aa vv ss ee => k_X1_start l hl0 g A aa x1 σ_1 vv ss ee) (vx_cwVW 1 C.t (lw_VW q231 q233 qs0 q126 q234) rfl rfl rfl (by decide +kernel) ⟨Nat.le_trans (Nat.le_of_ble_eq_true rfl) hR.f, Nat.le_trans (Nat.le_of_ble_eq_true rfl) hR.lo⟩) rfl rfl (Nat.le_of_ble_eq_true rfl) dX1_load_8 (fun _ σ_2 H locs h hI => ?_)
  refine r_aload_n (x := some o) C.x C.b dX1_load_11 rfl (lv_at hl 0 rfl) ?_
  refine cw_gR (r := some o) 0 0 C hw hI h (by decide) rfl in_X1 (by decide) (C.t _ q1172) (fun _ h9 => h9) dX1_load_12 (fun v_4 h => ?_)
  refine cw_gR (r := v_4) 1 4 C hw hI h (by decide) rfl in_X4 (by decide) (C.t _ q851) (fun _ h9 => h9) dX1_load_15 (fun v_5 h => ?_)
  refine cw_callV (y := yJ18_size) (bytes := cJ18_size) (maxL := 1) (r := v_5) (f := fun a_8 => m_J18_size a_8 σ_2) 9 (fun v => some (.int v)) [] C hw hR hI hl.1 h (by decide) rfl (fun aa vv ss ee => k_J18_size l g A aa σ_2 vv ss ee) (cwV 0 C.t (lw_V q1339 q947 q948 q152 q949) rfl rfl rfl (by decide +kernel) ⟨Nat.le_trans (Nat.le_of_ble_eq_true rfl) hR.f, Nat.le_trans (Nat.le_of_ble_eq_true rfl) hR.lo⟩) rfl rfl (Nat.le_of_ble_eq_true rfl) dX1_load_18 (fun v_6 σ_7 H locs h hI => ?_)
  exact uq_l h (fun y h => cw_iret C hI h dX1_load_21)

theorem k_X1_checkFact (l : Launch) (hl0 : l.stackTraces = false) (g : cG) (A : Nat → Prop) (o : Nat) (x1 : Int32) (σ : cS) (z : (cX (Int32)) × cS) (h : m_X1_checkFact o x1 σ = some z) : MetX l yX1_checkFact (ws_ yX1_checkFact cX1_checkFact 2 (Option.none : Option Jvm.ClassFile.FieldType)) ({ frames := 9, cells := σ.2 3 - σ.2 0, slots := σ.2 4 - σ.2 1, locals := 121 }) g A [.ref o, .int x1] σ (fun _ => none) z (σ.2 3 - σ.2 0) (σ.2 4 - σ.2 1) := by
  refine metx_of (cc := cX1_checkFact) (maxL := 2) (ret := (Option.none : Option Jvm.ClassFile.FieldType)) (by decide) rfl ?_
  intro p e s m args below meth c s₁ B hml hx hv
  obtain ⟨rfl, hw, hσ⟩ := hv
  have hts := atoms_spec (ws := (ws_ yX1_checkFact cX1_checkFact 2 (Option.none : Option Jvm.ClassFile.FieldType))) B.pre
  have C : CX p m meth c s ([.ref o, .int x1] : List Value).toArray cX1_checkFact 2 (Option.none : Option Jvm.ClassFile.FieldType) RX1 := ⟨⟨B.exec, B.bytes, hml, findClass_of_methodNamed B.named, fun w h => hts w (List.mem_cons_of_mem _ h)⟩, B.returns, B.notSynchronized⟩
  have e3 : σ.2 3 - σ.2 0 = g.2.2.1 3 - s.heap.size := by rw [hσ.1, hσ.2.2.2.1 3 (by decide)]
  have e4 : σ.2 4 - σ.2 1 = g.2.2.1 4 - hsl s.heap := by rw [hσ.2.1, hσ.2.2.2.1 4 (by decide)]
  have hR : RM g s (headSpec (ws_ yX1_checkFact cX1_checkFact 2 (Option.none : Option Jvm.ClassFile.FieldType)) ({ frames := 9, cells := σ.2 3 - σ.2 0, slots := σ.2 4 - σ.2 1, locals := 121 })).room (9) (121) := ⟨⟨Nat.le_refl _, Nat.le_refl _⟩, Nat.le_of_eq e3.symm, Nat.le_of_eq e4.symm⟩
  generalize (headSpec (ws_ yX1_checkFact cX1_checkFact 2 (Option.none : Option Jvm.ClassFile.FieldType)) ({ frames := 9, cells := σ.2 3 - σ.2 0, slots := σ.2 4 - σ.2 1, locals := 121 })).room = R at hR ⊢
  rw [e3, e4]
  have hI : CI g A s σ s.heap [] := ⟨hσ, va_S.rf, Nat.le_refl _⟩
  have hl := lv_entry ([.ref o, .int x1]) (n := 2) (Nat.le_of_ble_eq_true rfl)
  rw [lg_entry_eq]
  generalize (lg_sl ([.ref o, .int x1]) ++ List.replicate (2 - (lg_sl ([.ref o, .int x1])).length) Slot.unset).toArray = ls at hl ⊢
  have hl : lv_has ls 2 [(0, .ref o), (1, .int x1)] := hl
  refine W.narrow ?_
  unfold m_X1_checkFact at h
  refine lv_iload_n C.x C.b dX1_checkFact_0 rfl (lv_at hl 1 rfl) ?_
  refine r_aload_n (x := some o) C.x C.b dX1_checkFact_1 rfl (lv_at hl 0 rfl) ?_
  refine cw_gR (r := some o) 0 0 C hw hI h (by decide) rfl in_X1 (by decide) (C.t _ q1172) (fun _ h9 => h9) dX1_checkFact_2 (fun v_1 h => ?_)
  refine cw_gR (r := v_1) 1 0 C hw hI h (by decide) rfl in_X4 (by decide) (C.t _ q839) (fun _ h9 => h9) dX1_checkFact_5 (fun v_2 h => ?_)
  refine cw_aL (r := v_2) C hw hI h dX1_checkFact_8 (fun v_3 h => ?_)
  refine cx_callS (y := yX1_checkIndex) (bytes := cX1_checkIndex) (maxL := 2) (fun _ => none) [.int x1, .int v_3] C hx hw hR hI hl.1 h (fun uu ee => k_X1_checkIndex l hl0 g A x1 v_3 σ uu ee) (va_cwS 2 C.t (lw_S q1553 q1554 q126 q1555) rfl rfl rfl (by decide +kernel) ⟨Nat.le_trans (Nat.le_of_ble_eq_true rfl) hR.f, Nat.le_trans (Nat.le_of_ble_eq_true rfl) hR.lo⟩) rfl rfl (Nat.le_of_ble_eq_true rfl) dX1_checkFact_9 (fun _ σ_4 H locs h hI => ?_)
  exact uq_l h (fun y h => cw_vret C hI h dX1_checkFact_12)

end
