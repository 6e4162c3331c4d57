/-! THE CLASS' WALKS 20: printed by gencl.py -/
section
variable {p : Program} {l : Launch} {e : Env} {R : Room} {s : State} {m : MethodId} {args : Array Value} {below : List Frame} {meth : Method} {c : Code} {g : cG} {A : Nat → Prop}
set_option maxRecDepth 100000
theorem w_X2_line_91 {z : (cX (Int32)) × cS} {o : Nat} (C : CX p m meth c s args cX2_line 4 (Option.none : Option Jvm.ClassFile.FieldType) RX2) (hx : ∀ x ∈ c.exceptionTable.toList, False) (hl0 : l.stackTraces = false) (hw : WKc g A s s.heap) (hR : RM g s R (429) (100977))  : ∀ (x2 : Int32) (σ : cS) (H : Heap) (locs : List Loc) (ls : Array Slot), b_X2_line_91 o x2 σ = some z → CI g A s σ H locs → lv_has ls 4 [(0, .ref o), (2, .int x2)] → W p l e R s m args below meth c H locs (H.size - s.heap.size) (hsl H - hsl s.heap) (UQ g A (fun _ => none) z args s (g.2.2.1 3 - s.heap.size) (g.2.2.1 4 - hsl s.heap) below) (F0 m 91 ls []) := by
  intro x2 σ H locs ls h hI hl
  unfold b_X2_line_91 at h
  refine lv_iload_n C.x C.b dX2_line_91 rfl (lv_at hl 1 rfl) ?_
  by_cases c_1 : x2 = 0
  · have h := ip c_1 h
    refine lv_tableIn (off := 28) (tgt := 120) C.x C.b dX2_line_92 (by rw [c_1]; decide) (by rw [c_1]; decide) (by rw [c_1]; rfl) (by decide) ?_
    refine r_aload_n (x := some o) C.x C.b dX2_line_120 rfl (lv_at hl 0 rfl) ?_
    refine cw_callV (y := yX2_next) (bytes := cX2_next) (maxL := 1) (r := some o) (f := fun a_3 => m_X2_next a_3 σ) 8 (fun _ => none) [] C hw hR hI hl.1 h (by decide) rfl (fun aa vv ss ee => k_X2_next l g A aa σ vv ss ee) (cwV 0 C.t (lw_V q293 q295 qs1 q133 q296) rfl rfl rfl (by decide +kernel) ⟨Nat.le_trans (Nat.le_of_ble_eq_true rfl) hR.f, Nat.le_trans (Nat.le_of_ble_eq_true rfl) hR.lo⟩) rfl rfl (Nat.le_of_ble_eq_true rfl) dX2_line_121 (fun _ σ_2 H locs h hI => ?_)
    refine r_aload_n (x := some o) C.x C.b dX2_line_124 rfl (lv_at hl 0 rfl) ?_
    refine cw_gR (r := some o) 8 2 C hw hI h (by decide) rfl in_X2 (by decide) (C.t _ q260) (fun _ h9 => h9) dX2_line_125 (fun v_4 h => ?_)
    refine r_aload_n (x := some o) C.x C.b dX2_line_128 rfl (lv_at hl 0 rfl) ?_
    refine lv_iconst (v := 0) C.x C.b dX2_line_129 (by decide) ?_
    refine lv_sipush (v := 9999) C.x C.b dX2_line_130 (by decide) ?_
    refine cx_callV (y := yX2_number) (bytes := cX2_number) (maxL := 4) (r := some o) (f := fun a_7 => m_X2_number a_7 0 9999 σ_2) 8 (fun v => some (.int v)) [.int 0, .int 9999] C hx hw hR hI hl.1 h (by decide) rfl (fun aa uu ee => k_X2_number l hl0 g A aa 0 9999 σ_2 uu ee) (cwV 2 C.t (lw_V q797 q799 qs10 q133 q800) rfl rfl rfl (by decide +kernel) ⟨Nat.le_trans (Nat.le_of_ble_eq_true rfl) hR.f, Nat.le_trans (Nat.le_of_ble_eq_true rfl) hR.lo⟩) rfl rfl (Nat.le_of_ble_eq_true rfl) dX2_line_133 (fun v_5 σ_6 H locs h hI => ?_)
    refine cw_pO (r := v_4) (v := (.int v_5)) (ty := .int) 1 7 C hw hI h (by decide) rfl in_X4 tyX4 tyX4_ok nmX4 (by decide) (C.t _ q857) (fun _ h9 => h9) (Or.inl rfl) (by decide +kernel) rfl rfl dX2_line_136 (fun σ_8 H locs h hI => ?_)
    refine lv_goto (tgt := 261) C.x C.b dX2_line_139 (by decide) ?_
    exact uq_l h (fun y h => cw_vret C hI h dX2_line_261)
  have h := iN c_1 h
  by_cases c_9 : x2 = 1
  · have h := ip c_9 h
    refine lv_tableIn (off := 50) (tgt := 142) C.x C.b dX2_line_92 (by rw [c_9]; decide) (by rw [c_9]; decide) (by rw [c_9]; rfl) (by decide) ?_
    refine r_aload_n (x := some o) C.x C.b dX2_line_142 rfl (lv_at hl 0 rfl) ?_
    refine cw_callV (y := yX2_next) (bytes := cX2_next) (maxL := 1) (r := some o) (f := fun a_11 => m_X2_next a_11 σ) 8 (fun _ => none) [] C hw hR hI hl.1 h (by decide) rfl (fun aa vv ss ee => k_X2_next l g A aa σ vv ss ee) (cwV 0 C.t (lw_V q293 q295 qs1 q133 q296) rfl rfl rfl (by decide +kernel) ⟨Nat.le_trans (Nat.le_of_ble_eq_true rfl) hR.f, Nat.le_trans (Nat.le_of_ble_eq_true rfl) hR.lo⟩) rfl rfl (Nat.le_of_ble_eq_true rfl) dX2_line_143 (fun _ σ_10 H locs h hI => ?_)
    refine r_aload_n (x := some o) C.x C.b dX2_line_146 rfl (lv_at hl 0 rfl) ?_
    refine lv_iconst (v := 0) C.x C.b dX2_line_147 (by decide) ?_
    refine r_aload_n (x := some o) C.x C.b dX2_line_148 rfl (lv_at hl 0 rfl) ?_
    refine cw_gR (r := some o) 8 2 C hw hI h (by decide) rfl in_X2 (by decide) (C.t _ q260) (fun _ h9 => h9) dX2_line_149 (fun v_12 h => ?_)
    refine cw_gI (r := v_12) 1 1 C hw hI h (by decide) rfl in_X4 (by decide) (C.t _ q843) (fun _ h9 => h9) dX2_line_152 (fun v_13 h => ?_)
    refine lv_iconst (v := 1) C.x C.b dX2_line_155 (by decide) ?_
    refine lv_isub C.x C.b dX2_line_156 ?_
    refine cx_callV (y := yX2_number) (bytes := cX2_number) (maxL := 4) (r := some o) (f := fun a_16 => m_X2_number a_16 0 (v_13 - 1) σ_10) 8 (fun v => some (.int v)) [.int 0, .int (v_13 - 1)] C hx hw hR hI hl.1 h (by decide) rfl (fun aa uu ee => k_X2_number l hl0 g A aa 0 (v_13 - 1) σ_10 uu ee) (cwV 2 C.t (lw_V q797 q799 qs10 q133 q800) rfl rfl rfl (by decide +kernel) ⟨Nat.le_trans (Nat.le_of_ble_eq_true rfl) hR.f, Nat.le_trans (Nat.le_of_ble_eq_true rfl) hR.lo⟩) rfl rfl (Nat.le_of_ble_eq_true rfl) dX2_line_157 (fun v_14 σ_15 H locs h hI => ?_)
    refine lv_istore_n (i := 3) (lv' := [(3, .int v_14), (0, .ref o), (2, .int x2)]) C.x C.b dX2_line_160 rfl hl (by decide) rfl (fun ls hl => ?_)
    refine r_aload_n (x := some o) C.x C.b dX2_line_161 rfl (lv_at hl 1 rfl) ?_
    refine cw_ldcS (tx := "free") (k := 39) C hw hI (List.mem_of_getElem? (i := 20) rfl) (by decide) dX2_line_162 ?_
    refine cx_callV (y := yX2_word) (bytes := cX2_word) (maxL := 2) (r := some o) (f := fun a_18 => m_X2_word a_18 (some (σ_15.2 39)) σ_15) 8 (fun _ => none) [.ref (σ_15.2 39)] C hx hw hR hI hl.1 h (by decide) rfl (fun aa uu ee => k_X2_word l hl0 g A aa (some (σ_15.2 39)) σ_15 uu ee) (cwV 1 C.t (lw_V q737 q739 qs4 q133 q740) rfl rfl rfl (by decide +kernel) ⟨Nat.le_trans (Nat.le_of_ble_eq_true rfl) hR.f, Nat.le_trans (Nat.le_of_ble_eq_true rfl) hR.lo⟩) rfl rfl (Nat.le_of_ble_eq_true rfl) dX2_line_164 (fun _ σ_17 H locs h hI => ?_)
    refine r_aload_n (x := some o) C.x C.b dX2_line_167 rfl (lv_at hl 1 rfl) ?_
    refine cw_gR (r := some o) 8 2 C hw hI h (by decide) rfl in_X2 (by decide) (C.t _ q260) (fun _ h9 => h9) dX2_line_168 (fun v_19 h => ?_)
    refine cw_gR (r := v_19) 1 2 C hw hI h (by decide) rfl in_X4 (by decide) (C.t _ q845) (fun _ h9 => h9) dX2_line_171 (fun v_20 h => ?_)
    refine lv_iload_n C.x C.b dX2_line_174 rfl (lv_at hl 0 rfl) ?_
    refine r_aload_n (x := some o) C.x C.b dX2_line_175 rfl (lv_at hl 1 rfl) ?_
    refine lv_iconst (v := 0) C.x C.b dX2_line_176 (by decide) ?_
    refine lv_sipush (v := 9999) C.x C.b dX2_line_177 (by decide) ?_
    refine cx_callV (y := yX2_number) (bytes := cX2_number) (maxL := 4) (r := some o) (f := fun a_23 => m_X2_number a_23 0 9999 σ_17) 8 (fun v => some (.int v)) [.int 0, .int 9999] C hx hw hR hI hl.1 h (by decide) rfl (fun aa uu ee => k_X2_number l hl0 g A aa 0 9999 σ_17 uu ee) (cwV 2 C.t (lw_V q797 q799 qs10 q133 q800) rfl rfl rfl (by decide +kernel) ⟨Nat.le_trans (Nat.le_of_ble_eq_true rfl) hR.f, Nat.le_trans (Nat.le_of_ble_eq_true rfl) hR.lo⟩) rfl rfl (Nat.le_of_ble_eq_true rfl) dX2_line_180 (fun v_21 σ_22 H locs h hI => ?_)
    refine cw_ist (r := v_20) C hw hI h dX2_line_183 (fun σ_24 H locs h hI => ?_)
    refine r_aload_n (x := some o) C.x C.b dX2_line_184 rfl (lv_at hl 1 rfl) ?_
    refine cw_ldcS (tx := "rate") (k := 40) C hw hI (List.mem_of_getElem? (i := 21) rfl) (by decide) dX2_line_185 ?_
    refine cx_callV (y := yX2_word) (bytes := cX2_word) (maxL := 2) (r := some o) (f := fun a_26 => m_X2_word a_26 (some (σ_24.2 40)) σ_24) 8 (fun _ => none) [.ref (σ_24.2 40)] C hx hw hR hI hl.1 h (by decide) rfl (fun aa uu ee => k_X2_word l hl0 g A aa (some (σ_24.2 40)) σ_24 uu ee) (cwV 1 C.t (lw_V q737 q739 qs4 q133 q740) rfl rfl rfl (by decide +kernel) ⟨Nat.le_trans (Nat.le_of_ble_eq_true rfl) hR.f, Nat.le_trans (Nat.le_of_ble_eq_true rfl) hR.lo⟩) rfl rfl (Nat.le_of_ble_eq_true rfl) dX2_line_187 (fun _ σ_25 H locs h hI => ?_)
    refine r_aload_n (x := some o) C.x C.b dX2_line_190 rfl (lv_at hl 1 rfl) ?_
    refine cw_gR (r := some o) 8 2 C hw hI h (by decide) rfl in_X2 (by decide) (C.t _ q260) (fun _ h9 => h9) dX2_line_191 (fun v_27 h => ?_)
    refine cw_gR (r := v_27) 1 3 C hw hI h (by decide) rfl in_X4 (by decide) (C.t _ q848) (fun _ h9 => h9) dX2_line_194 (fun v_28 h => ?_)
    refine lv_iload_n C.x C.b dX2_line_197 rfl (lv_at hl 0 rfl) ?_
    refine r_aload_n (x := some o) C.x C.b dX2_line_198 rfl (lv_at hl 1 rfl) ?_
    refine lv_iconst (v := 0) C.x C.b dX2_line_199 (by decide) ?_
    refine lv_bipush (v := 60) C.x C.b dX2_line_200 (by decide) ?_
    refine cx_callV (y := yX2_number) (bytes := cX2_number) (maxL := 4) (r := some o) (f := fun a_31 => m_X2_number a_31 0 60 σ_25) 8 (fun v => some (.int v)) [.int 0, .int 60] C hx hw hR hI hl.1 h (by decide) rfl (fun aa uu ee => k_X2_number l hl0 g A aa 0 60 σ_25 uu ee) (cwV 2 C.t (lw_V q797 q799 qs10 q133 q800) rfl rfl rfl (by decide +kernel) ⟨Nat.le_trans (Nat.le_of_ble_eq_true rfl) hR.f, Nat.le_trans (Nat.le_of_ble_eq_true rfl) hR.lo⟩) rfl rfl (Nat.le_of_ble_eq_true rfl) dX2_line_202 (fun v_29 σ_30 H locs h hI => ?_)
    refine cw_ist (r := v_28) C hw hI h dX2_line_205 (fun σ_32 H locs h hI => ?_)
    refine lv_goto (tgt := 261) C.x C.b dX2_line_206 (by decide) ?_
    exact uq_l h (fun y h => cw_vret C hI h dX2_line_261)
  have h := iN c_9 h
  by_cases c_33 : x2 = 2
  · have h := ip c_33 h
    refine lv_tableIn (off := 117) (tgt := 209) C.x C.b dX2_line_92 (by rw [c_33]; decide) (by rw [c_33]; decide) (by rw [c_33]; rfl) (by decide) ?_
    refine r_aload_n (x := some o) C.x C.b dX2_line_209 rfl (lv_at hl 0 rfl) ?_
    refine cw_gR (r := some o) 8 2 C hw hI h (by decide) rfl in_X2 (by decide) (C.t _ q260) (fun _ h9 => h9) dX2_line_210 (fun v_34 h => ?_)
    refine cw_gR (r := v_34) 1 4 C hw hI h (by decide) rfl in_X4 (by decide) (C.t _ q852) (fun _ h9 => h9) dX2_line_213 (fun v_35 h => ?_)
    refine cw_callV (y := yJ18_size) (bytes := cJ18_size) (maxL := 1) (r := v_35) (f := fun a_38 => m_J18_size a_38 σ) 9 (fun v => some (.int v)) [] C hw hR hI hl.1 h (by decide) rfl (fun aa vv ss ee => k_J18_size l g A aa σ vv ss ee) (cwV 0 C.t (lw_V q946 q947 q948 q152 q949) rfl rfl rfl (by decide +kernel) ⟨Nat.le_trans (Nat.le_of_ble_eq_true rfl) hR.f, Nat.le_trans (Nat.le_of_ble_eq_true rfl) hR.lo⟩) rfl rfl (Nat.le_of_ble_eq_true rfl) dX2_line_216 (fun v_36 σ_37 H locs h hI => ?_)
    refine lv_bipush (v := 10) C.x C.b dX2_line_219 (by decide) ?_
    refine lv_icmp_ne (tgt := 237) C.x C.b dX2_line_221 (by decide) (fun c_39 => ?_) (fun c_39 => ?_)
    · have h := iN c_39 h
      refine r_aload_n (x := some o) C.x C.b dX2_line_237 rfl (lv_at hl 0 rfl) ?_
      refine cw_callV (y := yX2_next) (bytes := cX2_next) (maxL := 1) (r := some o) (f := fun a_41 => m_X2_next a_41 σ_37) 8 (fun _ => none) [] C hw hR hI hl.1 h (by decide) rfl (fun aa vv ss ee => k_X2_next l g A aa σ_37 vv ss ee) (cwV 0 C.t (lw_V q293 q295 qs1 q133 q296) rfl rfl rfl (by decide +kernel) ⟨Nat.le_trans (Nat.le_of_ble_eq_true rfl) hR.f, Nat.le_trans (Nat.le_of_ble_eq_true rfl) hR.lo⟩) rfl rfl (Nat.le_of_ble_eq_true rfl) dX2_line_238 (fun _ σ_40 H locs h hI => ?_)
      refine r_aload_n (x := some o) C.x C.b dX2_line_241 rfl (lv_at hl 0 rfl) ?_
      refine cx_callV (y := yX2_rule) (bytes := cX2_rule) (maxL := 3) (r := some o) (f := fun a_43 => m_X2_rule a_43 σ_40) 8 (fun _ => none) [] C hx hw hR hI hl.1 h (by decide) rfl (fun aa uu ee => k_X2_rule l hl0 g A aa σ_40 uu ee) (cwV 0 C.t (lw_V q950 q952 qs12 q133 q953) rfl rfl rfl (by decide +kernel) ⟨Nat.le_trans (Nat.le_of_ble_eq_true rfl) hR.f, Nat.le_trans (Nat.le_of_ble_eq_true rfl) hR.lo⟩) rfl rfl (Nat.le_of_ble_eq_true rfl) dX2_line_242 (fun _ σ_42 H locs h hI => ?_)
      refine lv_goto (tgt := 261) C.x C.b dX2_line_245 (by decide) ?_
      exact uq_l h (fun y h => cw_vret C hI h dX2_line_261)
    · have h := ip c_39 h
      refine cw_newF C hw hI hR.2.1 hR.2.2 h q753 q754 q149 dX2_line_224 (fun q_44 σ_45 H locs h hI => ?_)
      refine lv_dup C.x C.b dX2_line_227 rfl ?_
      refine r_aload_n (x := some o) C.x C.b dX2_line_228 rfl (lv_at hl 0 rfl) ?_
      refine cw_gI (r := some o) 8 4 C hw hI h (by decide) rfl in_X2 (by decide) (C.t _ q262) (fun _ h9 => h9) dX2_line_229 (fun v_46 h => ?_)
      refine lv_iconst (v := 4) C.x C.b dX2_line_232 (by decide) ?_
      refine cw_callI (y := yX3_init) (bytes := cX3_init) (maxL := 3) (b := q_44) [.int v_46, .int 4] C hw hR hI hl.1 h (fun vv ss ee => k_X3_init l hl0 g A q_44 v_46 4 σ_45 vv ss ee) (cwI 2 C.t (lw_meth q764) rfl rfl rfl (C.t _ q149) (C.t _ q762) (C.t _ q763) rfl (by decide +kernel) ⟨Nat.le_trans (Nat.le_of_ble_eq_true rfl) hR.f, Nat.le_trans (Nat.le_of_ble_eq_true rfl) hR.lo⟩) rfl rfl (Nat.le_of_ble_eq_true rfl) dX2_line_233 (fun σ_47 _ H locs h hI => ?_)
      exact cx_athrow (r := some q_44) C hx hw hI h dX2_line_236
  have h := iN c_33 h
  refine tw_tabD (tgt := 248) C.x C.b dX2_line_92 (by decide) (fun j hj => match j, hj with | 0, _ => Or.inr (lv_neT c_1 (by decide)) | 1, _ => Or.inr (lv_neT c_9 (by decide)) | 2, _ => Or.inr (lv_neT c_33 (by decide)) | j + 3, hj => absurd hj (Nat.not_lt_of_le (Nat.le_add_left _ _))) (by decide) ?_
  refine cw_newF C hw hI hR.2.1 hR.2.2 h q753 q754 q149 dX2_line_248 (fun q_48 σ_49 H locs h hI => ?_)
  refine lv_dup C.x C.b dX2_line_251 rfl ?_
  refine r_aload_n (x := some o) C.x C.b dX2_line_252 rfl (lv_at hl 0 rfl) ?_
  refine cw_gI (r := some o) 8 4 C hw hI h (by decide) rfl in_X2 (by decide) (C.t _ q262) (fun _ h9 => h9) dX2_line_253 (fun v_50 h => ?_)
  refine lv_iconst (v := 1) C.x C.b dX2_line_256 (by decide) ?_
  refine cw_callI (y := yX3_init) (bytes := cX3_init) (maxL := 3) (b := q_48) [.int v_50, .int 1] C hw hR hI hl.1 h (fun vv ss ee => k_X3_init l hl0 g A q_48 v_50 1 σ_49 vv ss ee) (cwI 2 C.t (lw_meth q764) rfl rfl rfl (C.t _ q149) (C.t _ q762) (C.t _ q763) rfl (by decide +kernel) ⟨Nat.le_trans (Nat.le_of_ble_eq_true rfl) hR.f, Nat.le_trans (Nat.le_of_ble_eq_true rfl) hR.lo⟩) rfl rfl (Nat.le_of_ble_eq_true rfl) dX2_line_257 (fun σ_51 _ H locs h hI => ?_)
  exact cx_athrow (r := some q_48) C hx hw hI h dX2_line_260

theorem k_X2_line (l : Launch) (hl0 : l.stackTraces = false) (g : cG) (A : Nat → Prop) (o : Nat) (σ : cS) (z : (cX (Int32)) × cS) (h : m_X2_line o σ = some z) : MetX l yX2_line (ws_ yX2_line cX2_line 4 (Option.none : Option Jvm.ClassFile.FieldType)) ({ frames := 429, cells := σ.2 3 - σ.2 0, slots := σ.2 4 - σ.2 1, locals := 100977 }) g A [.ref o] σ (fun _ => none) z (σ.2 3 - σ.2 0) (σ.2 4 - σ.2 1) := by
  refine metx_of (cc := cX2_line) (maxL := 4) (ret := (Option.none : Option Jvm.ClassFile.FieldType)) (by decide) rfl ?_
  intro p e s m args below meth c s₁ B hml hx hv
  obtain ⟨rfl, hw, hσ⟩ := hv
  have hts := atoms_spec (ws := (ws_ yX2_line cX2_line 4 (Option.none : Option Jvm.ClassFile.FieldType))) B.pre
  have C : CX p m meth c s ([.ref o] : List Value).toArray cX2_line 4 (Option.none : Option Jvm.ClassFile.FieldType) RX2 := ⟨⟨B.exec, B.bytes, hml, findClass_of_methodNamed B.named, fun w h => hts w (List.mem_cons_of_mem _ h)⟩, B.returns, B.notSynchronized⟩
  have e3 : σ.2 3 - σ.2 0 = g.2.2.1 3 - s.heap.size := by rw [hσ.1, hσ.2.2.2.1 3 (by decide)]
  have e4 : σ.2 4 - σ.2 1 = g.2.2.1 4 - hsl s.heap := by rw [hσ.2.1, hσ.2.2.2.1 4 (by decide)]
  have hR : RM g s (headSpec (ws_ yX2_line cX2_line 4 (Option.none : Option Jvm.ClassFile.FieldType)) ({ frames := 429, cells := σ.2 3 - σ.2 0, slots := σ.2 4 - σ.2 1, locals := 100977 })).room (429) (100977) := ⟨⟨Nat.le_refl _, Nat.le_refl _⟩, Nat.le_of_eq e3.symm, Nat.le_of_eq e4.symm⟩
  generalize (headSpec (ws_ yX2_line cX2_line 4 (Option.none : Option Jvm.ClassFile.FieldType)) ({ frames := 429, cells := σ.2 3 - σ.2 0, slots := σ.2 4 - σ.2 1, locals := 100977 })).room = R at hR ⊢
  rw [e3, e4]
  have hI : CI g A s σ s.heap [] := ⟨hσ, va_S.rf, Nat.le_refl _⟩
  have hl := lv_entry ([.ref o]) (n := 4) (Nat.le_of_ble_eq_true rfl)
  rw [lg_entry_eq]
  generalize (lg_sl ([.ref o]) ++ List.replicate (4 - (lg_sl ([.ref o])).length) Slot.unset).toArray = ls at hl ⊢
  have hl : lv_has ls 4 [(0, .ref o)] := hl
  refine W.narrow ?_
  unfold m_X2_line at h
  refine r_aload_n (x := some o) C.x C.b dX2_line_0 rfl (lv_at hl 0 rfl) ?_
  refine cw_gst (Cn := "HeirCases$Token") (n := "WORD") (d := "LHeirCases$Token;") (k := 12) C hw hI (List.mem_of_getElem? (i := 2) rfl) (by decide) q682 rfl dX2_line_1 ?_
  refine cx_callV (y := yX2_expect) (bytes := cX2_expect) (maxL := 2) (r := some o) (f := fun a_2 => m_X2_expect a_2 (some (σ.2 12)) σ) 8 (fun _ => none) [.ref (σ.2 12)] C hx hw hR hI hl.1 h (by decide) rfl (fun aa uu ee => k_X2_expect l hl0 g A aa (some (σ.2 12)) σ uu ee) (cwV 1 C.t (lw_V q783 q785 qs7 q133 q786) rfl rfl rfl (by decide +kernel) ⟨Nat.le_trans (Nat.le_of_ble_eq_true rfl) hR.f, Nat.le_trans (Nat.le_of_ble_eq_true rfl) hR.lo⟩) rfl rfl (Nat.le_of_ble_eq_true rfl) dX2_line_4 (fun _ σ_1 H locs h hI => ?_)
  refine r_aload_n (x := some o) C.x C.b dX2_line_7 rfl (lv_at hl 0 rfl) ?_
  refine cw_gR (r := some o) 8 6 C hw hI h (by decide) rfl in_X2 (by decide) (C.t _ q264) (fun _ h9 => h9) dX2_line_8 (fun v_3 h => ?_)
  refine r_astore_n (i := 1) (x := v_3) (lv' := [(1, va_rf v_3), (0, .ref o)]) C.x C.b dX2_line_11 rfl hl (by decide) (by rfl) (fun ls hl => ?_)
  refine lv_iconst (v := -1) C.x C.b dX2_line_12 (by decide) ?_
  refine lv_istore_n (i := 2) (lv' := [(2, .int (-1)), (1, va_rf v_3), (0, .ref o)]) C.x C.b dX2_line_13 rfl hl (by decide) (by first | (simp [List.filter, cat_rf, cat_i, cat_a, cat_n, cat_l, cat_f, cat_d]; done) | (simp [List.filter, cat_rf, cat_i, cat_a, cat_n, cat_l, cat_f, cat_d]; rfl)) (fun ls hl => ?_)
  refine r_aload_n (x := v_3) C.x C.b dX2_line_14 rfl (lv_at hl 1 rfl) ?_
  refine cw_callV (y := yJ4_hashCode) (bytes := cJ4_hashCode) (maxL := 2) (r := v_3) (f := fun a_6 => m_J4_hashCode a_6 σ_1) 12 (fun v => some (.int v)) [] C hw hR hI hl.1 h (by decide) rfl (fun aa vv ss ee => k_J4_hashCode l g A aa σ_1 vv ss ee) (cwV 0 C.t (lw_V q884 q885 q886 q131 q887) rfl rfl rfl (by decide +kernel) ⟨Nat.le_trans (Nat.le_of_ble_eq_true rfl) hR.f, Nat.le_trans (Nat.le_of_ble_eq_true rfl) hR.lo⟩) rfl rfl (Nat.le_of_ble_eq_true rfl) dX2_line_15 (fun v_4 σ_5 H locs h hI => ?_)
  by_cases c_7 : v_4 = (-1293665460)
  · have h := ip c_7 h
    refine lv_lookup (off := 34) (tgt := 52) C.x C.b dX2_line_18 (by decide) (by rw [c_7]; rfl) (by decide) ?_
    refine r_aload_n (x := v_3) C.x C.b dX2_line_52 rfl (lv_at hl 1 rfl) ?_
    refine cw_ldcS (tx := "estate") (k := 36) C hw hI (List.mem_of_getElem? (i := 17) rfl) (by decide) dX2_line_53 ?_
    refine cw_callV (y := yJ4_equals) (bytes := cJ4_equals) (maxL := 3) (r := v_3) (f := fun a_10 => m_J4_equals a_10 (some (σ_5.2 36)) σ_5) 12 (fun v => some (.int v)) [.ref (σ_5.2 36)] C hw hR hI hl.1 h (by decide) rfl (fun aa vv ss ee => k_J4_equals l g A aa (some (σ_5.2 36)) σ_5 vv ss ee) (cwV 1 C.t (lw_V q745 q746 q747 q131 q748) rfl rfl rfl (by decide +kernel) ⟨Nat.le_trans (Nat.le_of_ble_eq_true rfl) hR.f, Nat.le_trans (Nat.le_of_ble_eq_true rfl) hR.lo⟩) rfl rfl (Nat.le_of_ble_eq_true rfl) dX2_line_55 (fun v_8 σ_9 H locs h hI => ?_)
    refine lv_if_eq (tgt := 91) C.x C.b dX2_line_58 (by decide) (fun c_11 => ?_) (fun c_11 => ?_)
    · have h := ip c_11 h
      exact w_X2_line_91 C hx hl0 hw hR (-1) _ _ _ _ h hI (lv_sub hl [2, 0] rfl)
    · have h := iN c_11 h
      refine lv_iconst (v := 0) C.x C.b dX2_line_61 (by decide) ?_
      refine lv_istore_n (i := 2) (lv' := [(2, .int 0), (1, va_rf v_3), (0, .ref o)]) C.x C.b dX2_line_62 rfl hl (by decide) (by first | (simp [List.filter, cat_rf, cat_i, cat_a, cat_n, cat_l, cat_f, cat_d]; done) | (simp [List.filter, cat_rf, cat_i, cat_a, cat_n, cat_l, cat_f, cat_d]; rfl)) (fun ls hl => ?_)
      refine lv_goto (tgt := 91) C.x C.b dX2_line_63 (by decide) ?_
      exact w_X2_line_91 C hx hl0 hw hR 0 _ _ _ _ h hI (lv_sub hl [2, 0] rfl)
  have h := iN c_7 h
  by_cases c_12 : v_4 = 3198694
  · have h := ip c_12 h
    refine lv_lookup (off := 48) (tgt := 66) C.x C.b dX2_line_18 (by decide) (by rw [c_12]; rfl) (by decide) ?_
    refine r_aload_n (x := v_3) C.x C.b dX2_line_66 rfl (lv_at hl 1 rfl) ?_
    refine cw_ldcS (tx := "heir") (k := 37) C hw hI (List.mem_of_getElem? (i := 18) rfl) (by decide) dX2_line_67 ?_
    refine cw_callV (y := yJ4_equals) (bytes := cJ4_equals) (maxL := 3) (r := v_3) (f := fun a_15 => m_J4_equals a_15 (some (σ_5.2 37)) σ_5) 12 (fun v => some (.int v)) [.ref (σ_5.2 37)] C hw hR hI hl.1 h (by decide) rfl (fun aa vv ss ee => k_J4_equals l g A aa (some (σ_5.2 37)) σ_5 vv ss ee) (cwV 1 C.t (lw_V q745 q746 q747 q131 q748) rfl rfl rfl (by decide +kernel) ⟨Nat.le_trans (Nat.le_of_ble_eq_true rfl) hR.f, Nat.le_trans (Nat.le_of_ble_eq_true rfl) hR.lo⟩) rfl rfl (Nat.le_of_ble_eq_true rfl) dX2_line_69 (fun v_13 σ_14 H locs h hI => ?_)
    refine lv_if_eq (tgt := 91) C.x C.b dX2_line_72 (by decide) (fun c_16 => ?_) (fun c_16 => ?_)
    · have h := ip c_16 h
      exact w_X2_line_91 C hx hl0 hw hR (-1) _ _ _ _ h hI (lv_sub hl [2, 0] rfl)
    · have h := iN c_16 h
      refine lv_iconst (v := 1) C.x C.b dX2_line_75 (by decide) ?_
      refine lv_istore_n (i := 2) (lv' := [(2, .int 1), (1, va_rf v_3), (0, .ref o)]) C.x C.b dX2_line_76 rfl hl (by decide) (by first | (simp [List.filter, cat_rf, cat_i, cat_a, cat_n, cat_l, cat_f, cat_d]; done) | (simp [List.filter, cat_rf, cat_i, cat_a, cat_n, cat_l, cat_f, cat_d]; rfl)) (fun ls hl => ?_)
      refine lv_goto (tgt := 91) C.x C.b dX2_line_77 (by decide) ?_
      exact w_X2_line_91 C hx hl0 hw hR 1 _ _ _ _ h hI (lv_sub hl [2, 0] rfl)
  have h := iN c_12 h
  by_cases c_17 : v_4 = 3512060
  · have h := ip c_17 h
    refine lv_lookup (off := 62) (tgt := 80) C.x C.b dX2_line_18 (by decide) (by rw [c_17]; rfl) (by decide) ?_
    refine r_aload_n (x := v_3) C.x C.b dX2_line_80 rfl (lv_at hl 1 rfl) ?_
    refine cw_ldcS (tx := "rule") (k := 38) C hw hI (List.mem_of_getElem? (i := 19) rfl) (by decide) dX2_line_81 ?_
    refine cw_callV (y := yJ4_equals) (bytes := cJ4_equals) (maxL := 3) (r := v_3) (f := fun a_20 => m_J4_equals a_20 (some (σ_5.2 38)) σ_5) 12 (fun v => some (.int v)) [.ref (σ_5.2 38)] C hw hR hI hl.1 h (by decide) rfl (fun aa vv ss ee => k_J4_equals l g A aa (some (σ_5.2 38)) σ_5 vv ss ee) (cwV 1 C.t (lw_V q745 q746 q747 q131 q748) rfl rfl rfl (by decide +kernel) ⟨Nat.le_trans (Nat.le_of_ble_eq_true rfl) hR.f, Nat.le_trans (Nat.le_of_ble_eq_true rfl) hR.lo⟩) rfl rfl (Nat.le_of_ble_eq_true rfl) dX2_line_83 (fun v_18 σ_19 H locs h hI => ?_)
    refine lv_if_eq (tgt := 91) C.x C.b dX2_line_86 (by decide) (fun c_21 => ?_) (fun c_21 => ?_)
    · have h := ip c_21 h
      exact w_X2_line_91 C hx hl0 hw hR (-1) _ _ _ _ h hI (lv_sub hl [2, 0] rfl)
    · have h := iN c_21 h
      refine lv_iconst (v := 2) C.x C.b dX2_line_89 (by decide) ?_
      refine lv_istore_n (i := 2) (lv' := [(2, .int 2), (1, va_rf v_3), (0, .ref o)]) C.x C.b dX2_line_90 rfl hl (by decide) (by first | (simp [List.filter, cat_rf, cat_i, cat_a, cat_n, cat_l, cat_f, cat_d]; done) | (simp [List.filter, cat_rf, cat_i, cat_a, cat_n, cat_l, cat_f, cat_d]; rfl)) (fun ls hl => ?_)
      exact w_X2_line_91 C hx hl0 hw hR 2 _ _ _ _ h hI (lv_sub hl [2, 0] rfl)
  have h := iN c_17 h
  refine lv_lookup (off := 73) (tgt := 91) C.x C.b dX2_line_18 (by decide) (by show Op.lookupswitch.offset [(-1293665460, 34), (3198694, 48), (3512060, 62)] 73 _ = _; rw [lv_osw c_7 (by decide), lv_osw c_12 (by decide), lv_osw c_17 (by decide)]; rfl) (by decide) ?_
  exact w_X2_line_91 C hx hl0 hw hR (-1) _ _ _ _ h hI (lv_sub hl [2, 0] rfl)

theorem w_X4_cases_4 {z : Int32 × cS} {o : Nat} (C : CX p m meth c s args cX4_cases 3 (Option.some Jvm.ClassFile.FieldType.int) RX4) (hw : WKc g A s s.heap) (hR : RM g s R (1) (40))  : ∀ (n : Nat) (x1 : Int32) (x2 : Int32) (σ : cS) (H : Heap) (locs : List Loc) (ls : Array Slot), b_X4_cases_4 o n x1 x2 σ = some z → CI g A s σ H locs → lv_has ls 3 [(0, .ref o), (1, .int x1), (2, .int x2)] → W p l e R s m args below meth c H locs (H.size - s.heap.size) (hsl H - hsl s.heap) (MQ below (CQ g A (some (.int z.1)) z.2) args s (g.2.2.1 3 - s.heap.size) (g.2.2.1 4 - hsl s.heap) A) (F0 m 4 ls []) := by
  intro n
  induction n with
  | zero =>
    intro x1 x2 σ H locs ls h
    cases h
  | succ n ih =>
    intro x1 x2 σ H locs ls h hI hl
    rw [b_X4_cases_4] at h
    refine lv_iload_n C.x C.b dX4_cases_4 rfl (lv_at hl 2 rfl) ?_
    refine r_aload_n (x := some o) C.x C.b dX4_cases_5 rfl (lv_at hl 0 rfl) ?_
    refine cw_gR (r := some o) 1 0 C hw hI h (by decide) rfl in_X4 (by decide) (C.t _ q838) (fun _ h9 => h9) dX4_cases_6 (fun v_1 h => ?_)
    refine cw_aL (r := v_1) C hw hI h dX4_cases_9 (fun v_2 h => ?_)
    refine lv_icmp_ge (tgt := 28) C.x C.b dX4_cases_10 (by decide) (fun c_3 => ?_) (fun c_3 => ?_)
    · have h := ip c_3 h
      refine lv_iload_n C.x C.b dX4_cases_28 rfl (lv_at hl 1 rfl) ?_
      exact cw_iret C hI h dX4_cases_29
    · have h := iN c_3 h
      refine lv_iload_n C.x C.b dX4_cases_13 rfl (lv_at hl 1 rfl) ?_
      refine r_aload_n (x := some o) C.x C.b dX4_cases_14 rfl (lv_at hl 0 rfl) ?_
      refine cw_gR (r := some o) 1 0 C hw hI h (by decide) rfl in_X4 (by decide) (C.t _ q838) (fun _ h9 => h9) dX4_cases_15 (fun v_4 h => ?_)
      refine lv_iload_n C.x C.b dX4_cases_18 rfl (lv_at hl 2 rfl) ?_
      refine cw_ild (r := v_4) C hw hI h dX4_cases_19 (fun v_5 h => ?_)
      refine lv_imul C.x C.b dX4_cases_20 ?_
      refine tw_lt h (fun x1_6 h => ?_)
      refine lv_istore_n (i := 1) (lv' := [(1, .int x1_6), (0, .ref o), (2, .int x2)]) C.x C.b dX4_cases_21 rfl hl (by decide) rfl (fun ls hl => ?_)
      obtain ⟨x2_7, e_, h⟩ := nm_s h
      refine lv_iinc (v := x2_7) (lv' := [(2, .int x2_7), (1, .int x1_6), (0, .ref o)]) C.x C.b dX4_cases_22 hl (k := 2) rfl e_.symm (by decide) rfl (fun ls hl => ?_)
      refine lv_goto (tgt := 4) C.x C.b dX4_cases_25 (by decide) ?_
      exact ih x1_6 x2_7 _ _ _ _ h hI (lv_sub hl [2, 1, 0] rfl)

theorem k_X4_cases (l : Launch) (g : cG) (A : Nat → Prop) (o : Nat) (σ : cS) (v : Int32) (σ1 : cS) (h : m_X4_cases o σ = some (v, σ1)) : Met l yX4_cases (ws_ yX4_cases cX4_cases 3 (Option.some Jvm.ClassFile.FieldType.int)) ({ frames := 1, cells := σ.2 3 - σ.2 0, slots := σ.2 4 - σ.2 1, locals := 40 }) (CPc g A [.ref o] σ) (CQ g A (some (.int v)) σ1) (σ.2 3 - σ.2 0) (σ.2 4 - σ.2 1) A := by
  refine Met.ofW (cc := cX4_cases) (maxL := 3) (ret := (Option.some Jvm.ClassFile.FieldType.int)) (by decide) rfl ?_
  intro p e s m args below meth c s₁ B hml hv
  obtain ⟨rfl, hw, hσ⟩ := hv
  have hts := atoms_spec (ws := (ws_ yX4_cases cX4_cases 3 (Option.some Jvm.ClassFile.FieldType.int))) B.pre
  have C : CX p m meth c s ([.ref o] : List Value).toArray cX4_cases 3 (Option.some Jvm.ClassFile.FieldType.int) RX4 := ⟨⟨B.exec, B.bytes, hml, findClass_of_methodNamed B.named, fun w h => hts w (List.mem_cons_of_mem _ h)⟩, B.returns, B.notSynchronized⟩
  have e3 : σ.2 3 - σ.2 0 = g.2.2.1 3 - s.heap.size := by rw [hσ.1, hσ.2.2.2.1 3 (by decide)]
  have e4 : σ.2 4 - σ.2 1 = g.2.2.1 4 - hsl s.heap := by rw [hσ.2.1, hσ.2.2.2.1 4 (by decide)]
  have hR : RM g s (headSpec (ws_ yX4_cases cX4_cases 3 (Option.some Jvm.ClassFile.FieldType.int)) ({ frames := 1, cells := σ.2 3 - σ.2 0, slots := σ.2 4 - σ.2 1, locals := 40 })).room (1) (40) := ⟨⟨Nat.le_refl _, Nat.le_refl _⟩, Nat.le_of_eq e3.symm, Nat.le_of_eq e4.symm⟩
  generalize (headSpec (ws_ yX4_cases cX4_cases 3 (Option.some Jvm.ClassFile.FieldType.int)) ({ frames := 1, cells := σ.2 3 - σ.2 0, slots := σ.2 4 - σ.2 1, locals := 40 })).room = R at hR ⊢
  rw [e3, e4]
  have hI : CI g A s σ s.heap [] := ⟨hσ, va_S.rf, Nat.le_refl _⟩
  have hl := lv_entry ([.ref o]) (n := 3) (Nat.le_of_ble_eq_true rfl)
  rw [lg_entry_eq]
  generalize (lg_sl ([.ref o]) ++ List.replicate (3 - (lg_sl ([.ref o])).length) Slot.unset).toArray = ls at hl ⊢
  have hl : lv_has ls 3 [(0, .ref o)] := hl
  obtain ⟨z, hz⟩ : ∃ z, z = (v, σ1) := ⟨_, rfl⟩
  rw [← hz] at h
  rw [show v = z.1 by rw [hz], show σ1 = z.2 by rw [hz]]
  clear hz v σ1
  refine W.narrow ?_
  unfold m_X4_cases at h
  refine lv_iconst (v := 1) C.x C.b dX4_cases_0 (by decide) ?_
  refine lv_istore_n (i := 1) (lv' := [(1, .int 1), (0, .ref o)]) C.x C.b dX4_cases_1 rfl hl (by decide) rfl (fun ls hl => ?_)
  refine lv_iconst (v := 0) C.x C.b dX4_cases_2 (by decide) ?_
  refine lv_istore_n (i := 2) (lv' := [(2, .int 0), (1, .int 1), (0, .ref o)]) C.x C.b dX4_cases_3 rfl hl (by decide) rfl (fun ls hl => ?_)
  exact w_X4_cases_4 C hw hR _ 1 0 _ _ _ _ h hI (lv_sub hl [2, 1, 0] rfl)

theorem k_X4_init (l : Launch) (g : cG) (A : Nat → Prop) (o : Nat) (x1 : Option Nat) (x2 : Int32) (x3 : Int32) (σ : cS) (v : Int32) (σ1 : cS) (h : m_X4_init o x1 x2 x3 σ = some (v, σ1)) : Met l yX4_init (ws_ yX4_init cX4_init 4 (Option.none : Option Jvm.ClassFile.FieldType)) ({ frames := 4, cells := σ.2 3 - σ.2 0, slots := σ.2 4 - σ.2 1, locals := 100 }) (CPc g A [.ref o, va_rf x1, .int x2, .int x3] σ) (CQ g A (none) σ1) (σ.2 3 - σ.2 0) (σ.2 4 - σ.2 1) A := by
  refine Met.ofW (cc := cX4_init) (maxL := 4) (ret := (Option.none : Option Jvm.ClassFile.FieldType)) (by decide) rfl ?_
  intro p e s m args below meth c s₁ B hml hv
  obtain ⟨rfl, hw, hσ⟩ := hv
  have hts := atoms_spec (ws := (ws_ yX4_init cX4_init 4 (Option.none : Option Jvm.ClassFile.FieldType))) B.pre
  have C : CX p m meth c s ([.ref o, va_rf x1, .int x2, .int x3] : List Value).toArray cX4_init 4 (Option.none : Option Jvm.ClassFile.FieldType) RX4 := ⟨⟨B.exec, B.bytes, hml, findClass_of_methodNamed B.named, fun w h => hts w (List.mem_cons_of_mem _ h)⟩, B.returns, B.notSynchronized⟩
  have hin : meth.name = "<init>" := (name_of_methodNamed B.named B.method).1
  have e3 : σ.2 3 - σ.2 0 = g.2.2.1 3 - s.heap.size := by rw [hσ.1, hσ.2.2.2.1 3 (by decide)]
  have e4 : σ.2 4 - σ.2 1 = g.2.2.1 4 - hsl s.heap := by rw [hσ.2.1, hσ.2.2.2.1 4 (by decide)]
  have hR : RM g s (headSpec (ws_ yX4_init cX4_init 4 (Option.none : Option Jvm.ClassFile.FieldType)) ({ frames := 4, cells := σ.2 3 - σ.2 0, slots := σ.2 4 - σ.2 1, locals := 100 })).room (4) (100) := ⟨⟨Nat.le_refl _, Nat.le_refl _⟩, Nat.le_of_eq e3.symm, Nat.le_of_eq e4.symm⟩
  generalize (headSpec (ws_ yX4_init cX4_init 4 (Option.none : Option Jvm.ClassFile.FieldType)) ({ frames := 4, cells := σ.2 3 - σ.2 0, slots := σ.2 4 - σ.2 1, locals := 100 })).room = R at hR ⊢
  rw [e3, e4]
  have hI : CI g A s σ s.heap [] := ⟨hσ, va_S.rf, Nat.le_refl _⟩
  have hlen : (lg_sl ([.ref o, va_rf x1, .int x2, .int x3])).length ≤ 4 := by rcases x1 with _ | x1 <;> exact Nat.le_of_ble_eq_true rfl
  have hl := lv_entry ([.ref o, va_rf x1, .int x2, .int x3]) (n := 4) hlen
  rw [lg_entry_eq]
  generalize (lg_sl ([.ref o, va_rf x1, .int x2, .int x3]) ++ List.replicate (4 - (lg_sl ([.ref o, va_rf x1, .int x2, .int x3])).length) Slot.unset).toArray = ls at hl ⊢
  have hl : lv_has ls 4 [(0, .ref o), (1, va_rf x1), (2, .int x2), (3, .int x3)] := by clear hI hw h hσ e3 e4 hR C hts B; rcases x1 with _ | x1 <;> exact hl
  obtain ⟨z, hz⟩ : ∃ z, z = (v, σ1) := ⟨_, rfl⟩
  rw [← hz] at h
  rw [show σ1 = z.2 by rw [hz]]
  clear hz v σ1
  refine W.narrow ?_
  unfold m_X4_init at h
  refine r_aload_n (x := some o) C.x C.b dX4_init_0 rfl (lv_at hl 0 rfl) ?_
  refine cw_obj C hR hl.1 q807 q173 q174 dX4_init_1 (by decide) (by decide) (Nat.le_of_ble_eq_true rfl) ?_
  refine r_aload_n (x := some o) C.x C.b dX4_init_4 rfl (lv_at hl 0 rfl) ?_
  refine lv_iconst (v := 4) C.x C.b dX4_init_5 (by decide) ?_
  refine cw_nAi C hw hR hI h dX4_init_6 (fun q_1 σ_2 H locs h hI => ?_)
  refine cw_pO (r := some o) (v := (va_rf (some q_1))) (ty := (.array .int)) 1 2 C hw hI h (by decide) rfl in_X4 tyX4 tyX4_ok nmX4 (by decide) (C.t _ q844) (fun _ h9 => h9) (Or.inr ⟨rfl, rfl, hin⟩) (by decide +kernel) (nar_a _ _) (fits_a _ _) dX4_init_8 (fun σ_3 H locs h hI => ?_)
  refine r_aload_n (x := some o) C.x C.b dX4_init_11 rfl (lv_at hl 0 rfl) ?_
  refine lv_iconst (v := 4) C.x C.b dX4_init_12 (by decide) ?_
  refine cw_nAi C hw hR hI h dX4_init_13 (fun q_4 σ_5 H locs h hI => ?_)
  refine lv_dup C.x C.b dX4_init_15 rfl ?_
  refine lv_iconst (v := 0) C.x C.b dX4_init_16 (by decide) ?_
  refine lv_bipush (v := 10) C.x C.b dX4_init_17 (by decide) ?_
  refine cw_ist (r := some q_4) C hw hI h dX4_init_19 (fun σ_6 H locs h hI => ?_)
  refine lv_dup C.x C.b dX4_init_20 rfl ?_
  refine lv_iconst (v := 1) C.x C.b dX4_init_21 (by decide) ?_
  refine lv_bipush (v := 10) C.x C.b dX4_init_22 (by decide) ?_
  refine cw_ist (r := some q_4) C hw hI h dX4_init_24 (fun σ_7 H locs h hI => ?_)
  refine lv_dup C.x C.b dX4_init_25 rfl ?_
  refine lv_iconst (v := 2) C.x C.b dX4_init_26 (by decide) ?_
  refine lv_bipush (v := 10) C.x C.b dX4_init_27 (by decide) ?_
  refine cw_ist (r := some q_4) C hw hI h dX4_init_29 (fun σ_8 H locs h hI => ?_)
  refine lv_dup C.x C.b dX4_init_30 rfl ?_
  refine lv_iconst (v := 3) C.x C.b dX4_init_31 (by decide) ?_
  refine lv_bipush (v := 10) C.x C.b dX4_init_32 (by decide) ?_
  refine cw_ist (r := some q_4) C hw hI h dX4_init_34 (fun σ_9 H locs h hI => ?_)
  refine cw_pO (r := some o) (v := (va_rf (some q_4))) (ty := (.array .int)) 1 3 C hw hI h (by decide) rfl in_X4 tyX4 tyX4_ok nmX4 (by decide) (C.t _ q847) (fun _ h9 => h9) (Or.inr ⟨rfl, rfl, hin⟩) (by decide +kernel) (nar_a _ _) (fits_a _ _) dX4_init_35 (fun σ_10 H locs h hI => ?_)
  refine r_aload_n (x := some o) C.x C.b dX4_init_38 rfl (lv_at hl 0 rfl) ?_
  refine cw_new (T := TJ18) (N := 3) 9 C hw hI hR.2.1 hR.2.2 h (by decide) rfl in_J18 tyJ18 tyJ18_ok (fun j hj => match j, hj with | 0, _ => rfl | 1, _ => rfl | 2, _ => rfl | j + 3, hj => absurd hj (Nat.not_lt_of_le (Nat.le_add_left _ _))) q808 q809 q152 dX4_init_39 (fun q_11 σ_12 H locs h hI => ?_)
  refine lv_dup C.x C.b dX4_init_42 rfl ?_
  refine cw_callI (y := yJ18_init) (bytes := cJ18_init) (maxL := 1) (b := q_11) [] C hw hR hI hl.1 h (fun vv ss ee => k_J18_init l g A q_11 σ_12 vv ss ee) (cwI 0 C.t (lw_meth q812) rfl rfl rfl (C.t _ q152) (C.t _ q810) (C.t _ q811) rfl (by decide +kernel) ⟨Nat.le_trans (Nat.le_of_ble_eq_true rfl) hR.f, Nat.le_trans (Nat.le_of_ble_eq_true rfl) hR.lo⟩) rfl rfl (Nat.le_of_ble_eq_true rfl) dX4_init_43 (fun σ_13 _ H locs h hI => ?_)
  refine cw_pO (r := some o) (v := (va_rf (some q_11))) (ty := (.object "java/util/ArrayList")) 1 4 C hw hI h (by decide) rfl in_X4 tyX4 tyX4_ok nmX4 (by decide) (C.t _ q850) (fun _ h9 => h9) (Or.inr ⟨rfl, rfl, hin⟩) (by decide +kernel) (nar_o _ _) (fits_o _ _) dX4_init_46 (fun σ_14 H locs h hI => ?_)
  refine r_aload_n (x := some o) C.x C.b dX4_init_49 rfl (lv_at hl 0 rfl) ?_
  refine lv_sipush (v := 1000) C.x C.b dX4_init_50 (by decide) ?_
  refine cw_pO (r := some o) (v := (.int 1000)) (ty := .int) 1 7 C hw hI h (by decide) rfl in_X4 tyX4 tyX4_ok nmX4 (by decide) (C.t _ q856) (fun _ h9 => h9) (Or.inl rfl) (by decide +kernel) rfl rfl dX4_init_53 (fun σ_15 H locs h hI => ?_)
  refine r_aload_n (x := some o) C.x C.b dX4_init_56 rfl (lv_at hl 0 rfl) ?_
  refine r_aload_n (x := x1) C.x C.b dX4_init_57 rfl (lv_at hl 1 rfl) ?_
  refine cw_pO (r := some o) (v := (va_rf x1)) (ty := (.array .int)) 1 0 C hw hI h (by decide) rfl in_X4 tyX4 tyX4_ok nmX4 (by decide) (C.t _ q838) (fun _ h9 => h9) (Or.inr ⟨rfl, rfl, hin⟩) (by decide +kernel) (nar_a _ _) (fits_a _ _) dX4_init_58 (fun σ_16 H locs h hI => ?_)
  refine r_aload_n (x := some o) C.x C.b dX4_init_61 rfl (lv_at hl 0 rfl) ?_
  refine lv_iload_n C.x C.b dX4_init_62 rfl (lv_at hl 2 rfl) ?_
  refine cw_pO (r := some o) (v := (.int x2)) (ty := .int) 1 1 C hw hI h (by decide) rfl in_X4 tyX4 tyX4_ok nmX4 (by decide) (C.t _ q841) (fun _ h9 => h9) (Or.inr ⟨rfl, rfl, hin⟩) (by decide +kernel) rfl rfl dX4_init_63 (fun σ_17 H locs h hI => ?_)
  refine r_aload_n (x := some o) C.x C.b dX4_init_66 rfl (lv_at hl 0 rfl) ?_
  refine lv_iload_n C.x C.b dX4_init_67 rfl (lv_at hl 3 rfl) ?_
  refine cw_pO (r := some o) (v := (.int x3)) (ty := .int) 1 6 C hw hI h (by decide) rfl in_X4 tyX4 tyX4_ok nmX4 (by decide) (C.t _ q854) (fun _ h9 => h9) (Or.inl rfl) (by decide +kernel) rfl rfl dX4_init_68 (fun σ_18 H locs h hI => ?_)
  refine r_aload_n (x := some o) C.x C.b dX4_init_71 rfl (lv_at hl 0 rfl) ?_
  refine r_aload_n (x := some o) C.x C.b dX4_init_72 rfl (lv_at hl 0 rfl) ?_
  refine cw_callV (y := yX4_cases) (bytes := cX4_cases) (maxL := 3) (r := some o) (f := fun a_21 => m_X4_cases a_21 σ_18) 1 (fun v => some (.int v)) [] C hw hR hI hl.1 h (by decide) rfl (fun aa vv ss ee => k_X4_cases l g A aa σ_18 vv ss ee) (cwV 0 C.t (lw_V q832 q833 q834 q150 q835) rfl rfl rfl (by decide +kernel) ⟨Nat.le_trans (Nat.le_of_ble_eq_true rfl) hR.f, Nat.le_trans (Nat.le_of_ble_eq_true rfl) hR.lo⟩) rfl rfl (Nat.le_of_ble_eq_true rfl) dX4_init_73 (fun v_19 σ_20 H locs h hI => ?_)
  refine cw_nAr (kind := 4) (E := "HeirCases$Finding") C hw hR hI h (by decide) rfl (by simp) q836 dX4_init_76 (fun q_22 σ_23 H locs h hI => ?_)
  refine cw_pO (r := some o) (v := (va_rf (some q_22))) (ty := (.array (.object "HeirCases$Finding"))) 1 5 C hw hI h (by decide) rfl in_X4 tyX4 tyX4_ok nmX4 (by decide) (C.t _ q853) (fun _ h9 => h9) (Or.inr ⟨rfl, rfl, hin⟩) (by decide +kernel) (nar_a _ _) (fits_a _ _) dX4_init_79 (fun σ_24 H locs h hI => ?_)
  exact cw_vret C hI h dX4_init_82

end
