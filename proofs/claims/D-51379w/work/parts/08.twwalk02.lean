/-! THE TWIN's WALKS 2: printed by gentw.py -/
section
variable {p : Program} {l : Launch} {e : Env} {R : Room} {s : State} {m : MethodId} {args : Array Value} {below : List Frame} {meth : Method} {c : Code} {g : twG} {A : Nat → Prop}
set_option maxRecDepth 100000
theorem wT_takes_2 {z : Int32 × twS} (C : CX p m meth c s args cX10_takes 3 none RX10) (hw : WKt twL g A s s.heap) (hRf : 1 ≤ R.frames) (hRl : 24 ≤ R.locals) : ∀ (n : Nat) (x1 : Int32) (x2 : Int32) (σ : twS) (H : Heap) (locs : List Loc) (ls : Array Slot), bT_takes_2 n x1 x2 σ = some z → TI g A σ H → va_S A s.heap H locs → lv_has ls 3 [(0, .ref g.2.2.2.1), (1, .int x1), (2, .int x2)] → W p l e R s m args below meth c H locs 0 0 (MQ below (TQ g A (none) z.2) args s 0 0 A) (F0 m 2 ls []) := by
  intro n
  induction n with
  | zero =>
    intro x1 x2 σ H locs ls h
    cases h
  | succ n ih =>
    intro x1 x2 σ H locs ls h hσ hS hl
    rw [bT_takes_2] at h
    refine lv_iload_n C.x C.b dX10_takes_2 rfl (lv_at hl 2 rfl) ?_
    refine lv_iload_n C.x C.b dX10_takes_3 rfl (lv_at hl 1 rfl) ?_
    refine lv_icmp_ge (tgt := 25) C.x C.b dX10_takes_4 (by decide) (fun c_1 => ?_) (fun c_1 => ?_)
    · have h := ip c_1 h
      refine lv_aload_n C.x C.b dX10_takes_25 rfl (lv_at hl 0 rfl) ?_
      refine lv_iload_n C.x C.b dX10_takes_26 rfl (lv_at hl 1 rfl) ?_
      refine tw_pf10 C hw hσ hS q2225 dX10_takes_27 (fun H locs hσ hS => ?_)
      obtain ⟨σ_2, e_, h⟩ := nm_s h
      rw [← e_] at hσ
      clear e_
      refine lv_aload_n C.x C.b dX10_takes_30 rfl (lv_at hl 0 rfl) ?_
      refine lv_iconst (v := 0) C.x C.b dX10_takes_31 (by decide) ?_
      refine tw_pf9 C hw hσ hS q2224 dX10_takes_32 (fun H locs hσ hS => ?_)
      obtain ⟨σ_3, e_, h⟩ := nm_s h
      rw [← e_] at hσ
      clear e_
      exact tw_vret C hσ hS h dX10_takes_35
    · have h := iN c_1 h
      refine lv_aload_n C.x C.b dX10_takes_7 rfl (lv_at hl 0 rfl) ?_
      refine tw_gf8 C hw hσ q2223 dX10_takes_8 ?_
      refine lv_iload_n C.x C.b dX10_takes_11 rfl (lv_at hl 2 rfl) ?_
      refine lv_aload_n C.x C.b dX10_takes_12 rfl (lv_at hl 0 rfl) ?_
      refine tw_gf7 C hw hσ q2222 dX10_takes_13 ?_
      refine lv_iload_n C.x C.b dX10_takes_16 rfl (lv_at hl 2 rfl) ?_
      refine tw_ld7 C hw hσ h dX10_takes_17 (fun v_4 h => ?_)
      refine tw_st8 C hw hσ hS h dX10_takes_18 (fun σ_5 H locs h hσ hS => ?_)
      obtain ⟨x2_6, e_, h⟩ := nm_s h
      refine lv_iinc (v := x2_6) (lv' := [(2, .int x2_6), (0, .ref g.2.2.2.1), (1, .int x1)]) C.x C.b dX10_takes_19 hl (k := 2) rfl e_.symm (by decide) rfl (fun ls hl => ?_)
      refine lv_goto (tgt := 2) C.x C.b dX10_takes_22 (by decide) ?_
      exact ih _ _ _ _ _ _ h hσ hS (lv_sub hl [1, 2, 0] rfl)

theorem kT_takes (l : Launch) (g : twG) (A : Nat → Prop) (x1 : Int32) (σ : twS) (v : Int32) (σ1 : twS) (h : mT_takes x1 σ = some (v, σ1)) : Met l yX10_takes (ws_ yX10_takes cX10_takes 3 none) ({ frames := 1, cells := 0, slots := 0, locals := 24 }) (TPc twL g A [.ref g.2.2.2.1, .int x1] (fun _ => True) σ) (TQ g A (none) σ1) 0 0 A := by
  refine Met.ofW (cc := cX10_takes) (maxL := 3) (ret := none) (by decide) rfl ?_
  intro p e s m args below meth c s₁ B hml hv
  obtain ⟨rfl, hw, hX, hσ⟩ := hv
  have hts := atoms_spec (ws := (ws_ yX10_takes cX10_takes 3 none)) B.pre
  have C : CX p m meth c s ([.ref g.2.2.2.1, .int x1] : List Value).toArray cX10_takes 3 none RX10 := ⟨⟨B.exec, B.bytes, hml, findClass_of_methodNamed B.named, fun w h => hts w (List.mem_cons_of_mem _ h)⟩, B.returns, B.notSynchronized⟩
  have hRf : 1 ≤ (headSpec (ws_ yX10_takes cX10_takes 3 none) ({ frames := 1, cells := 0, slots := 0, locals := 24 })).room.frames := Nat.le_refl _
  have hRl : 24 ≤ (headSpec (ws_ yX10_takes cX10_takes 3 none) ({ frames := 1, cells := 0, slots := 0, locals := 24 })).room.locals := Nat.le_refl _
  generalize (headSpec (ws_ yX10_takes cX10_takes 3 none) ({ frames := 1, cells := 0, slots := 0, locals := 24 })).room = R at hRf hRl ⊢
  have hS : va_S A s.heap s.heap [] := va_S.rf
  have hl := lv_entry ([.ref g.2.2.2.1, .int x1]) (n := 3) (Nat.le_of_ble_eq_true rfl)
  rw [lg_entry_eq]
  generalize (lg_sl ([.ref g.2.2.2.1, .int x1]) ++ List.replicate (3 - (lg_sl ([.ref g.2.2.2.1, .int x1])).length) Slot.unset).toArray = ls at hl ⊢
  have hl : lv_has ls 3 [(0, .ref g.2.2.2.1), (1, .int x1)] := hl
  obtain ⟨z, hz⟩ : ∃ z, z = (v, σ1) := ⟨_, rfl⟩
  rw [← hz] at h
  rw [show σ1 = z.2 by rw [hz]]
  clear hz v σ1
  unfold mT_takes at h
  refine lv_iconst (v := 0) C.x C.b dX10_takes_0 (by decide) ?_
  refine lv_istore_n (lv' := [(2, .int 0), (0, .ref g.2.2.2.1), (1, .int x1)]) C.x C.b dX10_takes_1 rfl hl (by decide) rfl (fun ls hl => ?_)
  exact wT_takes_2 C hw hRf hRl _ _ _ _ _ _ _ h hσ hS (lv_sub hl [1, 2, 0] rfl)

theorem wT_parse_18 {z : Int32 × twS} (C : CX p m meth c s args cX10_parse 2 (some .int) RX10) (hw : WKt twL g A s s.heap) (hRf : 524 ≤ R.frames) (hRl : 13992 ≤ R.locals) : ∀ (x1 : Int32) (s1 : Int32) (σ : twS) (H : Heap) (locs : List Loc) (ls : Array Slot), bT_parse_18 x1 s1 σ = some z → TI g A σ H → va_S A s.heap H locs → lv_has ls 2 [(0, .ref g.2.2.2.1), (1, .int x1)] → W p l e R s m args below meth c H locs 0 0 (MQ below (TQ g A (some (.int z.1)) z.2) args s 0 0 A) (F0 m 18 ls [.int s1, .ref g.2.2.2.1]) := by
  intro x1 s1 σ H locs ls h hσ hS hl
  unfold bT_parse_18 at h
  refine tw_call (y := yX10_throwsOne) (bytes := cX10_throwsOne) (maxL := 2) (fun v => some (.int v)) [.int s1] (fun _ => True)  C hw XB.tt (fun _ _ _ => trivial) hσ hS hl.1 h (fun vv ss ee => kT_throwsOne l g A s1 σ vv ss ee) (cwV 1 C.t (lw_V q2314 q2316 qs79 q159 q2317) rfl rfl rfl (by decide +kernel) ⟨Nat.le_trans (Nat.le_of_ble_eq_true rfl) hRf, Nat.le_trans (Nat.le_of_ble_eq_true rfl) hRl⟩) rfl rfl (Nat.le_of_ble_eq_true rfl) dX10_parse_18 (fun v_1 σ_2 H locs h hσ hS => ?_)
  refine lv_if_eq (tgt := 26) C.x C.b dX10_parse_21 (by decide) (fun c_3 => ?_) (fun c_3 => ?_)
  · have h := ip c_3 h
    refine lv_aload_n C.x C.b dX10_parse_26 rfl (lv_at hl 0 rfl) ?_
    refine lv_iload_n C.x C.b dX10_parse_27 rfl (lv_at hl 1 rfl) ?_
    refine tw_call (y := yX10_takes) (bytes := cX10_takes) (maxL := 3) (fun _ => none) [.int x1] (fun _ => True)  C hw XB.tt (fun _ _ _ => trivial) hσ hS hl.1 h (fun vv ss ee => kT_takes l g A x1 σ_2 vv ss ee) (cwV 1 C.t (lw_V q2318 q2320 qs80 q159 q2321) rfl rfl rfl (by decide +kernel) ⟨Nat.le_trans (Nat.le_of_ble_eq_true rfl) hRf, Nat.le_trans (Nat.le_of_ble_eq_true rfl) hRl⟩) rfl rfl (Nat.le_of_ble_eq_true rfl) dX10_parse_28 (fun _ σ_4 H locs h hσ hS => ?_)
    refine lv_aload_n C.x C.b dX10_parse_31 rfl (lv_at hl 0 rfl) ?_
    refine tw_call (y := yX10_parseAll) (bytes := cX10_parseAll) (maxL := 2) (fun v => some (.int v)) [] (fun _ => True)  C hw XB.tt (fun _ _ _ => trivial) hσ hS hl.1 h (fun vv ss ee => kT_parseAll l g A σ_4 vv ss ee) (cwV 0 C.t (lw_V q2100 q2102 qs56 q159 q2103) rfl rfl rfl (by decide +kernel) ⟨Nat.le_trans (Nat.le_of_ble_eq_true rfl) hRf, Nat.le_trans (Nat.le_of_ble_eq_true rfl) hRl⟩) rfl rfl (Nat.le_of_ble_eq_true rfl) dX10_parse_32 (fun v_5 σ_6 H locs h hσ hS => ?_)
    refine lv_if_eq (tgt := 48) C.x C.b dX10_parse_35 (by decide) (fun c_7 => ?_) (fun c_7 => ?_)
    · have h := ip c_7 h
      refine lv_bipush (v := -2) C.x C.b dX10_parse_48 (by decide) ?_
      refine lv_aload_n C.x C.b dX10_parse_50 rfl (lv_at hl 0 rfl) ?_
      refine tw_gf20 C hw hσ q2235 dX10_parse_51 ?_
      refine lv_isub C.x C.b dX10_parse_54 ?_
      exact tw_iret C hσ hS h dX10_parse_55
    · have h := iN c_7 h
      refine lv_aload_n C.x C.b dX10_parse_38 rfl (lv_at hl 0 rfl) ?_
      refine tw_gf0 C hw hσ q2215 dX10_parse_39 ?_
      refine lv_bipush (v := 17) C.x C.b dX10_parse_42 (by decide) ?_
      refine tw_ld0 C hw hσ h dX10_parse_44 (fun v_8 h => ?_)
      refine lv_goto (tgt := 55) C.x C.b dX10_parse_45 (by decide) ?_
      exact tw_iret C hσ hS h dX10_parse_55
  · have h := iN c_3 h
    refine lv_iconst (v := 0) C.x C.b dX10_parse_24 (by decide) ?_
    exact tw_iret C hσ hS h dX10_parse_25

theorem kT_parse (l : Launch) (g : twG) (A : Nat → Prop) (x1 : Int32) (σ : twS) (v : Int32) (σ1 : twS) (h : mT_parse x1 σ = some (v, σ1)) : Met l yX10_parse (ws_ yX10_parse cX10_parse 2 (some .int)) ({ frames := 524, cells := 0, slots := 0, locals := 13992 }) (TPc twL g A [.ref g.2.2.2.1, .int x1] (fun _ => True) σ) (TQ g A (some (.int v)) σ1) 0 0 A := by
  refine Met.ofW (cc := cX10_parse) (maxL := 2) (ret := (some .int)) (by decide) rfl ?_
  intro p e s m args below meth c s₁ B hml hv
  obtain ⟨rfl, hw, hX, hσ⟩ := hv
  have hts := atoms_spec (ws := (ws_ yX10_parse cX10_parse 2 (some .int))) B.pre
  have C : CX p m meth c s ([.ref g.2.2.2.1, .int x1] : List Value).toArray cX10_parse 2 (some .int) RX10 := ⟨⟨B.exec, B.bytes, hml, findClass_of_methodNamed B.named, fun w h => hts w (List.mem_cons_of_mem _ h)⟩, B.returns, B.notSynchronized⟩
  have hRf : 524 ≤ (headSpec (ws_ yX10_parse cX10_parse 2 (some .int)) ({ frames := 524, cells := 0, slots := 0, locals := 13992 })).room.frames := Nat.le_refl _
  have hRl : 13992 ≤ (headSpec (ws_ yX10_parse cX10_parse 2 (some .int)) ({ frames := 524, cells := 0, slots := 0, locals := 13992 })).room.locals := Nat.le_refl _
  generalize (headSpec (ws_ yX10_parse cX10_parse 2 (some .int)) ({ frames := 524, cells := 0, slots := 0, locals := 13992 })).room = R at hRf hRl ⊢
  have hS : va_S A s.heap s.heap [] := va_S.rf
  have hl := lv_entry ([.ref g.2.2.2.1, .int x1]) (n := 2) (Nat.le_of_ble_eq_true rfl)
  rw [lg_entry_eq]
  generalize (lg_sl ([.ref g.2.2.2.1, .int x1]) ++ List.replicate (2 - (lg_sl ([.ref g.2.2.2.1, .int x1])).length) Slot.unset).toArray = ls at hl ⊢
  have hl : lv_has ls 2 [(0, .ref g.2.2.2.1), (1, .int x1)] := hl
  obtain ⟨z, hz⟩ : ∃ z, z = (v, σ1) := ⟨_, rfl⟩
  rw [← hz] at h
  rw [show v = z.1 by rw [hz], show σ1 = z.2 by rw [hz]]
  clear hz v σ1
  unfold mT_parse at h
  refine lv_aload_n C.x C.b dX10_parse_0 rfl (lv_at hl 0 rfl) ?_
  refine lv_iload_n C.x C.b dX10_parse_1 rfl (lv_at hl 1 rfl) ?_
  refine lv_iconst (v := 0) C.x C.b dX10_parse_2 (by decide) ?_
  refine lv_aload_n C.x C.b dX10_parse_3 rfl (lv_at hl 0 rfl) ?_
  refine tw_gf9 C hw hσ q2224 dX10_parse_4 ?_
  refine tw_callS (y := yX10_in) (bytes := cX10_in) (maxL := 3) (fun v => some (.int v)) [.int x1, .int 0, .int (σ.2 9)] C hw hσ hS hl.1 h (fun vv ss ee => kT_in l g A x1 0 (σ.2 9) σ vv ss ee) (va_cwS 3 C.t (lw_S q2136 q2137 q159 q2138) rfl rfl rfl (by decide +kernel) ⟨Nat.le_trans (Nat.le_of_ble_eq_true rfl) hRf, Nat.le_trans (Nat.le_of_ble_eq_true rfl) hRl⟩) rfl rfl (Nat.le_of_ble_eq_true rfl) dX10_parse_7 (fun v_1 σ_2 H locs h hσ hS => ?_)
  refine lv_if_ne (tgt := 17) C.x C.b dX10_parse_10 (by decide) (fun c_3 => ?_) (fun c_3 => ?_)
  · have h := iN c_3 h
    refine lv_iconst (v := 0) C.x C.b dX10_parse_17 (by decide) ?_
    exact wT_parse_18 C hw hRf hRl _ _ _ _ _ _ h hσ hS (lv_sub hl [0, 1] rfl)
  · have h := ip c_3 h
    refine lv_iconst (v := 1) C.x C.b dX10_parse_13 (by decide) ?_
    refine lv_goto (tgt := 18) C.x C.b dX10_parse_14 (by decide) ?_
    exact wT_parse_18 C hw hRf hRl _ _ _ _ _ _ h hσ hS (lv_sub hl [0, 1] rfl)

theorem wT_load_15 {z : Int32 × twS} (C : CX p m meth c s args cX10_load 2 (some .int) RX10) (hw : WKt twL g A s s.heap) (hRf : 525 ≤ R.frames) (hRl : 14013 ≤ R.locals) : ∀ (x1 : Int32) (s1 : Int32) (σ : twS) (H : Heap) (locs : List Loc) (ls : Array Slot), bT_load_15 x1 s1 σ = some z → TI g A σ H → va_S A s.heap H locs → lv_has ls 2 [(0, .ref g.2.2.2.1), (1, .int x1)] → W p l e R s m args below meth c H locs 0 0 (MQ below (TQ g A (some (.int z.1)) z.2) args s 0 0 A) (F0 m 15 ls [.int s1, .ref g.2.2.2.1]) := by
  intro x1 s1 σ H locs ls h hσ hS hl
  unfold bT_load_15 at h
  refine tw_call (y := yX10_throwsOne) (bytes := cX10_throwsOne) (maxL := 2) (fun v => some (.int v)) [.int s1] (fun _ => True)  C hw XB.tt (fun _ _ _ => trivial) hσ hS hl.1 h (fun vv ss ee => kT_throwsOne l g A s1 σ vv ss ee) (cwV 1 C.t (lw_V q2314 q2316 qs79 q159 q2317) rfl rfl rfl (by decide +kernel) ⟨Nat.le_trans (Nat.le_of_ble_eq_true rfl) hRf, Nat.le_trans (Nat.le_of_ble_eq_true rfl) hRl⟩) rfl rfl (Nat.le_of_ble_eq_true rfl) dX10_load_15 (fun v_1 σ_2 H locs h hσ hS => ?_)
  refine lv_if_eq (tgt := 23) C.x C.b dX10_load_18 (by decide) (fun c_3 => ?_) (fun c_3 => ?_)
  · have h := ip c_3 h
    refine lv_aload_n C.x C.b dX10_load_23 rfl (lv_at hl 0 rfl) ?_
    refine lv_iload_n C.x C.b dX10_load_24 rfl (lv_at hl 1 rfl) ?_
    refine tw_call (y := yX10_lay) (bytes := cX10_lay) (maxL := 2) (fun _ => none) [.int x1] (fun _ => True)  C hw XB.tt (fun _ _ _ => trivial) hσ hS hl.1 h (fun vv ss ee => kT_lay l g A x1 σ_2 vv ss ee) (cwV 1 C.t (lw_V q2086 q2088 qs54 q159 q2089) rfl rfl rfl (by decide +kernel) ⟨Nat.le_trans (Nat.le_of_ble_eq_true rfl) hRf, Nat.le_trans (Nat.le_of_ble_eq_true rfl) hRl⟩) rfl rfl (Nat.le_of_ble_eq_true rfl) dX10_load_25 (fun _ σ_4 H locs h hσ hS => ?_)
    refine lv_aload_n C.x C.b dX10_load_28 rfl (lv_at hl 0 rfl) ?_
    refine tw_gf0 C hw hσ q2215 dX10_load_29 ?_
    refine lv_bipush (v := 17) C.x C.b dX10_load_32 (by decide) ?_
    refine tw_ld0 C hw hσ h dX10_load_34 (fun v_5 h => ?_)
    exact tw_iret C hσ hS h dX10_load_35
  · have h := iN c_3 h
    refine lv_iconst (v := 0) C.x C.b dX10_load_21 (by decide) ?_
    exact tw_iret C hσ hS h dX10_load_22

theorem kT_load (l : Launch) (g : twG) (A : Nat → Prop) (x1 : Int32) (σ : twS) (v : Int32) (σ1 : twS) (h : mT_load x1 σ = some (v, σ1)) : Met l yX10_load (ws_ yX10_load cX10_load 2 (some .int)) ({ frames := 525, cells := 0, slots := 0, locals := 14013 }) (TPc twL g A [.ref g.2.2.2.1, .int x1] (fun _ => True) σ) (TQ g A (some (.int v)) σ1) 0 0 A := by
  refine Met.ofW (cc := cX10_load) (maxL := 2) (ret := (some .int)) (by decide) rfl ?_
  intro p e s m args below meth c s₁ B hml hv
  obtain ⟨rfl, hw, hX, hσ⟩ := hv
  have hts := atoms_spec (ws := (ws_ yX10_load cX10_load 2 (some .int))) B.pre
  have C : CX p m meth c s ([.ref g.2.2.2.1, .int x1] : List Value).toArray cX10_load 2 (some .int) RX10 := ⟨⟨B.exec, B.bytes, hml, findClass_of_methodNamed B.named, fun w h => hts w (List.mem_cons_of_mem _ h)⟩, B.returns, B.notSynchronized⟩
  have hRf : 525 ≤ (headSpec (ws_ yX10_load cX10_load 2 (some .int)) ({ frames := 525, cells := 0, slots := 0, locals := 14013 })).room.frames := Nat.le_refl _
  have hRl : 14013 ≤ (headSpec (ws_ yX10_load cX10_load 2 (some .int)) ({ frames := 525, cells := 0, slots := 0, locals := 14013 })).room.locals := Nat.le_refl _
  generalize (headSpec (ws_ yX10_load cX10_load 2 (some .int)) ({ frames := 525, cells := 0, slots := 0, locals := 14013 })).room = R at hRf hRl ⊢
  have hS : va_S A s.heap s.heap [] := va_S.rf
  have hl := lv_entry ([.ref g.2.2.2.1, .int x1]) (n := 2) (Nat.le_of_ble_eq_true rfl)
  rw [lg_entry_eq]
  generalize (lg_sl ([.ref g.2.2.2.1, .int x1]) ++ List.replicate (2 - (lg_sl ([.ref g.2.2.2.1, .int x1])).length) Slot.unset).toArray = ls at hl ⊢
  have hl : lv_has ls 2 [(0, .ref g.2.2.2.1), (1, .int x1)] := hl
  obtain ⟨z, hz⟩ : ∃ z, z = (v, σ1) := ⟨_, rfl⟩
  rw [← hz] at h
  rw [show v = z.1 by rw [hz], show σ1 = z.2 by rw [hz]]
  clear hz v σ1
  unfold mT_load at h
  refine lv_aload_n C.x C.b dX10_load_0 rfl (lv_at hl 0 rfl) ?_
  refine lv_iload_n C.x C.b dX10_load_1 rfl (lv_at hl 1 rfl) ?_
  refine lv_iconst (v := 0) C.x C.b dX10_load_2 (by decide) ?_
  refine lv_iconst (v := 2) C.x C.b dX10_load_3 (by decide) ?_
  refine tw_callS (y := yX10_in) (bytes := cX10_in) (maxL := 3) (fun v => some (.int v)) [.int x1, .int 0, .int 2] C hw hσ hS hl.1 h (fun vv ss ee => kT_in l g A x1 0 2 σ vv ss ee) (va_cwS 3 C.t (lw_S q2136 q2137 q159 q2138) rfl rfl rfl (by decide +kernel) ⟨Nat.le_trans (Nat.le_of_ble_eq_true rfl) hRf, Nat.le_trans (Nat.le_of_ble_eq_true rfl) hRl⟩) rfl rfl (Nat.le_of_ble_eq_true rfl) dX10_load_4 (fun v_1 σ_2 H locs h hσ hS => ?_)
  refine lv_if_ne (tgt := 14) C.x C.b dX10_load_7 (by decide) (fun c_3 => ?_) (fun c_3 => ?_)
  · have h := iN c_3 h
    refine lv_iconst (v := 0) C.x C.b dX10_load_14 (by decide) ?_
    exact wT_load_15 C hw hRf hRl _ _ _ _ _ _ h hσ hS (lv_sub hl [0, 1] rfl)
  · have h := ip c_3 h
    refine lv_iconst (v := 1) C.x C.b dX10_load_10 (by decide) ?_
    refine lv_goto (tgt := 15) C.x C.b dX10_load_11 (by decide) ?_
    exact wT_load_15 C hw hRf hRl _ _ _ _ _ _ h hσ hS (lv_sub hl [0, 1] rfl)

theorem wT_cases_4 {z : Int32 × twS} (C : CX p m meth c s args cX10_cases 3 (some .int) RX10) (hw : WKt twL g A s s.heap) (hRf : 1 ≤ R.frames) (hRl : 24 ≤ R.locals) : ∀ (n : Nat) (x1 : Int32) (x2 : Int32) (σ : twS) (H : Heap) (locs : List Loc) (ls : Array Slot), bT_cases_4 n x1 x2 σ = some z → TI g A σ H → va_S A s.heap H locs → lv_has ls 3 [(0, .ref g.2.2.2.1), (1, .int x1), (2, .int x2)] → W p l e R s m args below meth c H locs 0 0 (MQ below (TQ g A (some (.int z.1)) z.2) args s 0 0 A) (F0 m 4 ls []) := by
  intro n
  induction n with
  | zero =>
    intro x1 x2 σ H locs ls h
    cases h
  | succ n ih =>
    intro x1 x2 σ H locs ls h hσ hS hl
    rw [bT_cases_4] at h
    refine lv_iload_n C.x C.b dX10_cases_4 rfl (lv_at hl 2 rfl) ?_
    refine lv_aload_n C.x C.b dX10_cases_5 rfl (lv_at hl 0 rfl) ?_
    refine tw_gf0 C hw hσ q2215 dX10_cases_6 ?_
    refine lv_iconst (v := 0) C.x C.b dX10_cases_9 (by decide) ?_
    refine tw_ld0 C hw hσ h dX10_cases_10 (fun v_1 h => ?_)
    refine lv_icmp_ge (tgt := 31) C.x C.b dX10_cases_11 (by decide) (fun c_2 => ?_) (fun c_2 => ?_)
    · have h := ip c_2 h
      refine lv_iload_n C.x C.b dX10_cases_31 rfl (lv_at hl 1 rfl) ?_
      exact tw_iret C hσ hS h dX10_cases_32
    · have h := iN c_2 h
      refine lv_iload_n C.x C.b dX10_cases_14 rfl (lv_at hl 1 rfl) ?_
      refine lv_aload_n C.x C.b dX10_cases_15 rfl (lv_at hl 0 rfl) ?_
      refine tw_gf0 C hw hσ q2215 dX10_cases_16 ?_
      refine lv_iconst (v := 1) C.x C.b dX10_cases_19 (by decide) ?_
      refine lv_iload_n C.x C.b dX10_cases_20 rfl (lv_at hl 2 rfl) ?_
      refine lv_iadd C.x C.b dX10_cases_21 ?_
      refine tw_ld0 C hw hσ h dX10_cases_22 (fun v_3 h => ?_)
      refine lv_imul C.x C.b dX10_cases_23 ?_
      refine tw_lt h (fun x1_4 h => ?_)
      refine lv_istore_n (lv' := [(1, .int x1_4), (0, .ref g.2.2.2.1), (2, .int x2)]) C.x C.b dX10_cases_24 rfl hl (by decide) rfl (fun ls hl => ?_)
      obtain ⟨x2_5, e_, h⟩ := nm_s h
      refine lv_iinc (v := x2_5) (lv' := [(2, .int x2_5), (1, .int x1_4), (0, .ref g.2.2.2.1)]) C.x C.b dX10_cases_25 hl (k := 2) rfl e_.symm (by decide) rfl (fun ls hl => ?_)
      refine lv_goto (tgt := 4) C.x C.b dX10_cases_28 (by decide) ?_
      exact ih _ _ _ _ _ _ h hσ hS (lv_sub hl [2, 1, 0] rfl)

theorem kT_cases (l : Launch) (g : twG) (A : Nat → Prop) (σ : twS) (v : Int32) (σ1 : twS) (h : mT_cases σ = some (v, σ1)) : Met l yX10_cases (ws_ yX10_cases cX10_cases 3 (some .int)) ({ frames := 1, cells := 0, slots := 0, locals := 24 }) (TPc twL g A [.ref g.2.2.2.1] (fun _ => True) σ) (TQ g A (some (.int v)) σ1) 0 0 A := by
  refine Met.ofW (cc := cX10_cases) (maxL := 3) (ret := (some .int)) (by decide) rfl ?_
  intro p e s m args below meth c s₁ B hml hv
  obtain ⟨rfl, hw, hX, hσ⟩ := hv
  have hts := atoms_spec (ws := (ws_ yX10_cases cX10_cases 3 (some .int))) B.pre
  have C : CX p m meth c s ([.ref g.2.2.2.1] : List Value).toArray cX10_cases 3 (some .int) RX10 := ⟨⟨B.exec, B.bytes, hml, findClass_of_methodNamed B.named, fun w h => hts w (List.mem_cons_of_mem _ h)⟩, B.returns, B.notSynchronized⟩
  have hRf : 1 ≤ (headSpec (ws_ yX10_cases cX10_cases 3 (some .int)) ({ frames := 1, cells := 0, slots := 0, locals := 24 })).room.frames := Nat.le_refl _
  have hRl : 24 ≤ (headSpec (ws_ yX10_cases cX10_cases 3 (some .int)) ({ frames := 1, cells := 0, slots := 0, locals := 24 })).room.locals := Nat.le_refl _
  generalize (headSpec (ws_ yX10_cases cX10_cases 3 (some .int)) ({ frames := 1, cells := 0, slots := 0, locals := 24 })).room = R at hRf hRl ⊢
  have hS : va_S A s.heap s.heap [] := va_S.rf
  have hl := lv_entry ([.ref g.2.2.2.1]) (n := 3) (Nat.le_of_ble_eq_true rfl)
  rw [lg_entry_eq]
  generalize (lg_sl ([.ref g.2.2.2.1]) ++ List.replicate (3 - (lg_sl ([.ref g.2.2.2.1])).length) Slot.unset).toArray = ls at hl ⊢
  have hl : lv_has ls 3 [(0, .ref g.2.2.2.1)] := hl
  obtain ⟨z, hz⟩ : ∃ z, z = (v, σ1) := ⟨_, rfl⟩
  rw [← hz] at h
  rw [show v = z.1 by rw [hz], show σ1 = z.2 by rw [hz]]
  clear hz v σ1
  unfold mT_cases at h
  refine lv_iconst (v := 1) C.x C.b dX10_cases_0 (by decide) ?_
  refine lv_istore_n (lv' := [(1, .int 1), (0, .ref g.2.2.2.1)]) C.x C.b dX10_cases_1 rfl hl (by decide) rfl (fun ls hl => ?_)
  refine lv_iconst (v := 0) C.x C.b dX10_cases_2 (by decide) ?_
  refine lv_istore_n (lv' := [(2, .int 0), (1, .int 1), (0, .ref g.2.2.2.1)]) C.x C.b dX10_cases_3 rfl hl (by decide) rfl (fun ls hl => ?_)
  exact wT_cases_4 C hw hRf hRl _ _ _ _ _ _ _ h hσ hS (lv_sub hl [2, 1, 0] rfl)

theorem kT_of (l : Launch) (g : twG) (A : Nat → Prop) (x1 : Int32) (x2 : Int32) (σ : twS) (v : Int32) (σ1 : twS) (h : mT_of x1 x2 σ = some (v, σ1)) : Met l yX10_of (ws_ yX10_of cX10_of 3 (some .int)) ({ frames := 2, cells := 0, slots := 0, locals := 44 }) (TPc twL g A [.ref g.2.2.2.1, .int x1, .int x2] (fun _ => True) σ) (TQ g A (some (.int v)) σ1) 0 0 A := by
  refine Met.ofW (cc := cX10_of) (maxL := 3) (ret := (some .int)) (by decide) rfl ?_
  intro p e s m args below meth c s₁ B hml hv
  obtain ⟨rfl, hw, hX, hσ⟩ := hv
  have hts := atoms_spec (ws := (ws_ yX10_of cX10_of 3 (some .int))) B.pre
  have C : CX p m meth c s ([.ref g.2.2.2.1, .int x1, .int x2] : List Value).toArray cX10_of 3 (some .int) RX10 := ⟨⟨B.exec, B.bytes, hml, findClass_of_methodNamed B.named, fun w h => hts w (List.mem_cons_of_mem _ h)⟩, B.returns, B.notSynchronized⟩
  have hRf : 2 ≤ (headSpec (ws_ yX10_of cX10_of 3 (some .int)) ({ frames := 2, cells := 0, slots := 0, locals := 44 })).room.frames := Nat.le_refl _
  have hRl : 44 ≤ (headSpec (ws_ yX10_of cX10_of 3 (some .int)) ({ frames := 2, cells := 0, slots := 0, locals := 44 })).room.locals := Nat.le_refl _
  generalize (headSpec (ws_ yX10_of cX10_of 3 (some .int)) ({ frames := 2, cells := 0, slots := 0, locals := 44 })).room = R at hRf hRl ⊢
  have hS : va_S A s.heap s.heap [] := va_S.rf
  have hl := lv_entry ([.ref g.2.2.2.1, .int x1, .int x2]) (n := 3) (Nat.le_of_ble_eq_true rfl)
  rw [lg_entry_eq]
  generalize (lg_sl ([.ref g.2.2.2.1, .int x1, .int x2]) ++ List.replicate (3 - (lg_sl ([.ref g.2.2.2.1, .int x1, .int x2])).length) Slot.unset).toArray = ls at hl ⊢
  have hl : lv_has ls 3 [(0, .ref g.2.2.2.1), (1, .int x1), (2, .int x2)] := hl
  obtain ⟨z, hz⟩ : ∃ z, z = (v, σ1) := ⟨_, rfl⟩
  rw [← hz] at h
  rw [show v = z.1 by rw [hz], show σ1 = z.2 by rw [hz]]
  clear hz v σ1
  unfold mT_of at h
  refine lv_aload_n C.x C.b dX10_of_0 rfl (lv_at hl 0 rfl) ?_
  refine tw_gf0 C hw hσ q2215 dX10_of_1 ?_
  refine lv_iload_n C.x C.b dX10_of_4 rfl (lv_at hl 1 rfl) ?_
  refine tw_callS (y := yX10_rule0) (bytes := cX10_rule0) (maxL := 1) (fun v => some (.int v)) [.int x1] C hw hσ hS hl.1 h (fun vv ss ee => kT_rule0 l g A x1 σ vv ss ee) (va_cwS 1 C.t (lw_S q2158 q2159 q159 q2160) rfl rfl rfl (by decide +kernel) ⟨Nat.le_trans (Nat.le_of_ble_eq_true rfl) hRf, Nat.le_trans (Nat.le_of_ble_eq_true rfl) hRl⟩) rfl rfl (Nat.le_of_ble_eq_true rfl) dX10_of_5 (fun v_1 σ_2 H locs h hσ hS => ?_)
  refine lv_iload_n C.x C.b dX10_of_8 rfl (lv_at hl 2 rfl) ?_
  refine lv_iadd C.x C.b dX10_of_9 ?_
  refine tw_ld0 C hw hσ h dX10_of_10 (fun v_3 h => ?_)
  exact tw_iret C hσ hS h dX10_of_11

theorem wT_valueOf_5 {z : Int32 × twS} (C : CX p m meth c s args cX10_valueOf 5 (some .int) RX10) (hw : WKt twL g A s s.heap) (hRf : 1 ≤ R.frames) (hRl : 24 ≤ R.locals) : ∀ (n : Nat) (x2 : Int32) (x3 : Int32) (x4 : Int32) (σ : twS) (H : Heap) (locs : List Loc) (ls : Array Slot), bT_valueOf_5 n x2 x3 x4 σ = some z → TI g A σ H → va_S A s.heap H locs → lv_has ls 5 [(0, .ref g.2.2.2.1), (2, .int x2), (3, .int x3), (4, .int x4)] → W p l e R s m args below meth c H locs 0 0 (MQ below (TQ g A (some (.int z.1)) z.2) args s 0 0 A) (F0 m 5 ls []) := by
  intro n
  induction n with
  | zero =>
    intro x2 x3 x4 σ H locs ls h
    cases h
  | succ n ih =>
    intro x2 x3 x4 σ H locs ls h hσ hS hl
    rw [bT_valueOf_5] at h
    refine lv_iload C.x C.b dX10_valueOf_5 (lv_at hl 3 rfl) ?_
    refine lv_iload_n C.x C.b dX10_valueOf_7 rfl (lv_at hl 1 rfl) ?_
    refine lv_icmp_ge (tgt := 29) C.x C.b dX10_valueOf_8 (by decide) (fun c_1 => ?_) (fun c_1 => ?_)
    · have h := ip c_1 h
      refine lv_iload_n C.x C.b dX10_valueOf_29 rfl (lv_at hl 2 rfl) ?_
      refine lv_aload_n C.x C.b dX10_valueOf_30 rfl (lv_at hl 0 rfl) ?_
      refine tw_gf0 C hw hσ q2215 dX10_valueOf_31 ?_
      refine lv_iconst (v := 1) C.x C.b dX10_valueOf_34 (by decide) ?_
      refine lv_iload_n C.x C.b dX10_valueOf_35 rfl (lv_at hl 1 rfl) ?_
      refine lv_iadd C.x C.b dX10_valueOf_36 ?_
      refine tw_ld0 C hw hσ h dX10_valueOf_37 (fun v_2 h => ?_)
      have hz := nz_s h
      have h := hz.2
      refine lv_irem C.x C.b dX10_valueOf_38 hz.1 ?_
      exact tw_iret C hσ hS h dX10_valueOf_39
    · have h := iN c_1 h
      refine lv_iload_n C.x C.b dX10_valueOf_11 rfl (lv_at hl 2 rfl) ?_
      refine lv_aload_n C.x C.b dX10_valueOf_12 rfl (lv_at hl 0 rfl) ?_
      refine tw_gf0 C hw hσ q2215 dX10_valueOf_13 ?_
      refine lv_iconst (v := 1) C.x C.b dX10_valueOf_16 (by decide) ?_
      refine lv_iload C.x C.b dX10_valueOf_17 (lv_at hl 3 rfl) ?_
      refine lv_iadd C.x C.b dX10_valueOf_19 ?_
      refine tw_ld0 C hw hσ h dX10_valueOf_20 (fun v_3 h => ?_)
      have hz := nz_s h
      have h := hz.2
      refine lv_idiv C.x C.b dX10_valueOf_21 hz.1 ?_
      refine tw_lt h (fun x3_4 h => ?_)
      refine lv_istore_n (lv' := [(3, .int x3_4), (0, .ref g.2.2.2.1), (2, .int x2), (4, .int x4)]) C.x C.b dX10_valueOf_22 rfl hl (by decide) rfl (fun ls hl => ?_)
      obtain ⟨x4_5, e_, h⟩ := nm_s h
      refine lv_iinc (v := x4_5) (lv' := [(4, .int x4_5), (3, .int x3_4), (0, .ref g.2.2.2.1), (2, .int x2)]) C.x C.b dX10_valueOf_23 hl (k := 3) rfl e_.symm (by decide) rfl (fun ls hl => ?_)
      refine lv_goto (tgt := 5) C.x C.b dX10_valueOf_26 (by decide) ?_
      exact ih _ _ _ _ _ _ _ h hσ hS (lv_sub hl [2, 3, 1, 0] rfl)

theorem kT_valueOf (l : Launch) (g : twG) (A : Nat → Prop) (x1 : Int32) (x2 : Int32) (σ : twS) (v : Int32) (σ1 : twS) (h : mT_valueOf x1 x2 σ = some (v, σ1)) : Met l yX10_valueOf (ws_ yX10_valueOf cX10_valueOf 5 (some .int)) ({ frames := 1, cells := 0, slots := 0, locals := 24 }) (TPc twL g A [.ref g.2.2.2.1, .int x1, .int x2] (fun _ => True) σ) (TQ g A (some (.int v)) σ1) 0 0 A := by
  refine Met.ofW (cc := cX10_valueOf) (maxL := 5) (ret := (some .int)) (by decide) rfl ?_
  intro p e s m args below meth c s₁ B hml hv
  obtain ⟨rfl, hw, hX, hσ⟩ := hv
  have hts := atoms_spec (ws := (ws_ yX10_valueOf cX10_valueOf 5 (some .int))) B.pre
  have C : CX p m meth c s ([.ref g.2.2.2.1, .int x1, .int x2] : List Value).toArray cX10_valueOf 5 (some .int) RX10 := ⟨⟨B.exec, B.bytes, hml, findClass_of_methodNamed B.named, fun w h => hts w (List.mem_cons_of_mem _ h)⟩, B.returns, B.notSynchronized⟩
  have hRf : 1 ≤ (headSpec (ws_ yX10_valueOf cX10_valueOf 5 (some .int)) ({ frames := 1, cells := 0, slots := 0, locals := 24 })).room.frames := Nat.le_refl _
  have hRl : 24 ≤ (headSpec (ws_ yX10_valueOf cX10_valueOf 5 (some .int)) ({ frames := 1, cells := 0, slots := 0, locals := 24 })).room.locals := Nat.le_refl _
  generalize (headSpec (ws_ yX10_valueOf cX10_valueOf 5 (some .int)) ({ frames := 1, cells := 0, slots := 0, locals := 24 })).room = R at hRf hRl ⊢
  have hS : va_S A s.heap s.heap [] := va_S.rf
  have hl := lv_entry ([.ref g.2.2.2.1, .int x1, .int x2]) (n := 5) (Nat.le_of_ble_eq_true rfl)
  rw [lg_entry_eq]
  generalize (lg_sl ([.ref g.2.2.2.1, .int x1, .int x2]) ++ List.replicate (5 - (lg_sl ([.ref g.2.2.2.1, .int x1, .int x2])).length) Slot.unset).toArray = ls at hl ⊢
  have hl : lv_has ls 5 [(0, .ref g.2.2.2.1), (1, .int x1), (2, .int x2)] := hl
  obtain ⟨z, hz⟩ : ∃ z, z = (v, σ1) := ⟨_, rfl⟩
  rw [← hz] at h
  rw [show v = z.1 by rw [hz], show σ1 = z.2 by rw [hz]]
  clear hz v σ1
  unfold mT_valueOf at h
  refine lv_iload_n C.x C.b dX10_valueOf_0 rfl (lv_at hl 1 rfl) ?_
  refine lv_istore_n (lv' := [(3, .int x1), (0, .ref g.2.2.2.1), (1, .int x1), (2, .int x2)]) C.x C.b dX10_valueOf_1 rfl hl (by decide) rfl (fun ls hl => ?_)
  refine lv_iconst (v := 0) C.x C.b dX10_valueOf_2 (by decide) ?_
  refine lv_istore (lv' := [(4, .int 0), (3, .int x1), (0, .ref g.2.2.2.1), (1, .int x1), (2, .int x2)]) C.x C.b dX10_valueOf_3 hl (by decide) rfl (fun ls hl => ?_)
  exact wT_valueOf_5 C hw hRf hRl _ _ _ _ _ _ _ _ h hσ hS (lv_sub hl [2, 4, 1, 0] rfl)

theorem kT_compares (l : Launch) (g : twG) (A : Nat → Prop) (x1 : Int32) (x2 : Int32) (σ : twS) (v : Int32) (σ1 : twS) (h : mT_compares x1 x2 σ = some (v, σ1)) : Met l yX10_compares (ws_ yX10_compares cX10_compares 7 (some .int)) ({ frames := 2, cells := 0, slots := 0, locals := 48 }) (TPc twL g A [.ref g.2.2.2.1, .int x1, .int x2] (fun _ => True) σ) (TQ g A (some (.int v)) σ1) 0 0 A := by
  refine Met.ofW (cc := cX10_compares) (maxL := 7) (ret := (some .int)) (by decide) rfl ?_
  intro p e s m args below meth c s₁ B hml hv
  obtain ⟨rfl, hw, hX, hσ⟩ := hv
  have hts := atoms_spec (ws := (ws_ yX10_compares cX10_compares 7 (some .int))) B.pre
  have C : CX p m meth c s ([.ref g.2.2.2.1, .int x1, .int x2] : List Value).toArray cX10_compares 7 (some .int) RX10 := ⟨⟨B.exec, B.bytes, hml, findClass_of_methodNamed B.named, fun w h => hts w (List.mem_cons_of_mem _ h)⟩, B.returns, B.notSynchronized⟩
  have hRf : 2 ≤ (headSpec (ws_ yX10_compares cX10_compares 7 (some .int)) ({ frames := 2, cells := 0, slots := 0, locals := 48 })).room.frames := Nat.le_refl _
  have hRl : 48 ≤ (headSpec (ws_ yX10_compares cX10_compares 7 (some .int)) ({ frames := 2, cells := 0, slots := 0, locals := 48 })).room.locals := Nat.le_refl _
  generalize (headSpec (ws_ yX10_compares cX10_compares 7 (some .int)) ({ frames := 2, cells := 0, slots := 0, locals := 48 })).room = R at hRf hRl ⊢
  have hS : va_S A s.heap s.heap [] := va_S.rf
  have hl := lv_entry ([.ref g.2.2.2.1, .int x1, .int x2]) (n := 7) (Nat.le_of_ble_eq_true rfl)
  rw [lg_entry_eq]
  generalize (lg_sl ([.ref g.2.2.2.1, .int x1, .int x2]) ++ List.replicate (7 - (lg_sl ([.ref g.2.2.2.1, .int x1, .int x2])).length) Slot.unset).toArray = ls at hl ⊢
  have hl : lv_has ls 7 [(0, .ref g.2.2.2.1), (1, .int x1), (2, .int x2)] := hl
  obtain ⟨z, hz⟩ : ∃ z, z = (v, σ1) := ⟨_, rfl⟩
  rw [← hz] at h
  rw [show v = z.1 by rw [hz], show σ1 = z.2 by rw [hz]]
  clear hz v σ1
  unfold mT_compares at h
  refine lv_iload_n C.x C.b dX10_compares_0 rfl (lv_at hl 1 rfl) ?_
  refine lv_bipush (v := 10) C.x C.b dX10_compares_1 (by decide) ?_
  refine lv_isub C.x C.b dX10_compares_3 ?_
  refine tw_lt h (fun x3_1 h => ?_)
  refine lv_istore_n (lv' := [(3, .int x3_1), (0, .ref g.2.2.2.1), (1, .int x1), (2, .int x2)]) C.x C.b dX10_compares_4 rfl hl (by decide) rfl (fun ls hl => ?_)
  refine lv_aload_n C.x C.b dX10_compares_5 rfl (lv_at hl 1 rfl) ?_
  refine lv_iload_n C.x C.b dX10_compares_6 rfl (lv_at hl 3 rfl) ?_
  refine lv_iload_n C.x C.b dX10_compares_7 rfl (lv_at hl 0 rfl) ?_
  refine lv_bipush (v := 16) C.x C.b dX10_compares_8 (by decide) ?_
  refine lv_idiv C.x C.b dX10_compares_10 (by decide) ?_
  refine tw_call (y := yX10_valueOf) (bytes := cX10_valueOf) (maxL := 5) (fun v => some (.int v)) [.int x2, .int (x3_1 / 16)] (fun _ => True)  C hw XB.tt (fun _ _ _ => trivial) hσ hS hl.1 h (fun vv ss ee => kT_valueOf l g A x2 (x3_1 / 16) σ vv ss ee) (cwV 2 C.t (lw_V q2355 q2357 qs87 q159 q2358) rfl rfl rfl (by decide +kernel) ⟨Nat.le_trans (Nat.le_of_ble_eq_true rfl) hRf, Nat.le_trans (Nat.le_of_ble_eq_true rfl) hRl⟩) rfl rfl (Nat.le_of_ble_eq_true rfl) dX10_compares_11 (fun v_2 σ_3 H locs h hσ hS => ?_)
  refine lv_istore (lv' := [(4, .int v_2), (3, .int x3_1), (0, .ref g.2.2.2.1), (1, .int x1), (2, .int x2)]) C.x C.b dX10_compares_14 hl (by decide) rfl (fun ls hl => ?_)
  refine lv_iload_n C.x C.b dX10_compares_16 rfl (lv_at hl 1 rfl) ?_
  refine lv_iconst (v := 4) C.x C.b dX10_compares_17 (by decide) ?_
  refine lv_irem C.x C.b dX10_compares_18 (by decide) ?_
  refine tw_lt h (fun x5_4 h => ?_)
  refine lv_istore (lv' := [(5, .int x5_4), (4, .int v_2), (3, .int x3_1), (0, .ref g.2.2.2.1), (1, .int x1), (2, .int x2)]) C.x C.b dX10_compares_19 hl (by decide) rfl (fun ls hl => ?_)
  refine lv_iload_n C.x C.b dX10_compares_21 rfl (lv_at hl 2 rfl) ?_
  refine lv_iconst (v := 4) C.x C.b dX10_compares_22 (by decide) ?_
  refine lv_idiv C.x C.b dX10_compares_23 (by decide) ?_
  refine lv_iconst (v := 4) C.x C.b dX10_compares_24 (by decide) ?_
  refine lv_irem C.x C.b dX10_compares_25 (by decide) ?_
  refine tw_lt h (fun x6_5 h => ?_)
  refine lv_istore (lv' := [(6, .int x6_5), (5, .int x5_4), (4, .int v_2), (3, .int x3_1), (0, .ref g.2.2.2.1), (1, .int x1), (2, .int x2)]) C.x C.b dX10_compares_26 hl (by decide) rfl (fun ls hl => ?_)
  refine lv_iload C.x C.b dX10_compares_28 (lv_at hl 0 rfl) ?_
  refine lv_if_ne (tgt := 43) C.x C.b dX10_compares_30 (by decide) (fun c_6 => ?_) (fun c_6 => ?_)
  · have h := iN c_6 h
    refine lv_iload C.x C.b dX10_compares_43 (lv_at hl 0 rfl) ?_
    refine lv_iconst (v := 1) C.x C.b dX10_compares_45 (by decide) ?_
    refine lv_icmp_ne (tgt := 59) C.x C.b dX10_compares_46 (by decide) (fun c_7 => ?_) (fun c_7 => ?_)
    · have h := iN c_7 h
      refine lv_iload C.x C.b dX10_compares_59 (lv_at hl 2 rfl) ?_
      refine lv_iload C.x C.b dX10_compares_61 (lv_at hl 1 rfl) ?_
      refine lv_icmp_le (tgt := 70) C.x C.b dX10_compares_63 (by decide) (fun c_8 => ?_) (fun c_8 => ?_)
      · have h := ip c_8 h
        refine lv_iconst (v := 0) C.x C.b dX10_compares_70 (by decide) ?_
        exact tw_iret C hσ hS h dX10_compares_71
      · have h := iN c_8 h
        refine lv_iconst (v := 1) C.x C.b dX10_compares_66 (by decide) ?_
        refine lv_goto (tgt := 71) C.x C.b dX10_compares_67 (by decide) ?_
        exact tw_iret C hσ hS h dX10_compares_71
    · have h := ip c_7 h
      refine lv_iload C.x C.b dX10_compares_49 (lv_at hl 2 rfl) ?_
      refine lv_iload C.x C.b dX10_compares_51 (lv_at hl 1 rfl) ?_
      refine lv_icmp_ge (tgt := 70) C.x C.b dX10_compares_53 (by decide) (fun c_9 => ?_) (fun c_9 => ?_)
      · have h := ip c_9 h
        refine lv_iconst (v := 0) C.x C.b dX10_compares_70 (by decide) ?_
        exact tw_iret C hσ hS h dX10_compares_71
      · have h := iN c_9 h
        refine lv_goto (tgt := 66) C.x C.b dX10_compares_56 (by decide) ?_
        refine lv_iconst (v := 1) C.x C.b dX10_compares_66 (by decide) ?_
        refine lv_goto (tgt := 71) C.x C.b dX10_compares_67 (by decide) ?_
        exact tw_iret C hσ hS h dX10_compares_71
  · have h := ip c_6 h
    refine lv_iload C.x C.b dX10_compares_33 (lv_at hl 2 rfl) ?_
    refine lv_iload C.x C.b dX10_compares_35 (lv_at hl 1 rfl) ?_
    refine lv_icmp_ne (tgt := 70) C.x C.b dX10_compares_37 (by decide) (fun c_10 => ?_) (fun c_10 => ?_)
    · have h := iN c_10 h
      refine lv_iconst (v := 0) C.x C.b dX10_compares_70 (by decide) ?_
      exact tw_iret C hσ hS h dX10_compares_71
    · have h := ip c_10 h
      refine lv_goto (tgt := 66) C.x C.b dX10_compares_40 (by decide) ?_
      refine lv_iconst (v := 1) C.x C.b dX10_compares_66 (by decide) ?_
      refine lv_goto (tgt := 71) C.x C.b dX10_compares_67 (by decide) ?_
      exact tw_iret C hσ hS h dX10_compares_71

theorem wT_holds_159 {z : Int32 × twS} (C : CX p m meth c s args cX10_holds 6 (some .boolean) RX10) (hw : WKt twL g A s s.heap) (hRf : 3 ≤ R.frames) (hRl : 74 ≤ R.locals) {k5 : Int32 → Int32 → Int32 → Int32 → twS → Option (Int32 × twS)} (hk5 : ∀ (x1 : Int32) (x2 : Int32) (x3 : Int32) (x4 : Int32) (σ : twS) (H : Heap) (locs : List Loc) (ls : Array Slot), k5 x1 x2 x3 x4 σ = some z → TI g A σ H → va_S A s.heap H locs → lv_has ls 6 [(0, .ref g.2.2.2.1), (1, .int x1), (2, .int x2), (3, .int x3), (4, .int x4)] → W p l e R s m args below meth c H locs 0 0 (MQ below (TQ g A (some (.int z.1)) z.2) args s 0 0 A) (F0 m 5 ls [])) : ∀ (x1 : Int32) (x2 : Int32) (x3 : Int32) (x4 : Int32) (s1 : Int32) (s2 : Int32) (σ : twS) (H : Heap) (locs : List Loc) (ls : Array Slot), bT_holds_159 k5 x1 x2 x3 x4 s1 s2 σ = some z → TI g A σ H → va_S A s.heap H locs → lv_has ls 6 [(0, .ref g.2.2.2.1), (1, .int x1), (2, .int x2), (3, .int x3), (4, .int x4)] → W p l e R s m args below meth c H locs 0 0 (MQ below (TQ g A (some (.int z.1)) z.2) args s 0 0 A) (F0 m 159 ls [.int s2, .int s1, .ref (g.2.2.2.2 14)]) := by
  intro x1 x2 x3 x4 s1 s2 σ H locs ls h hσ hS hl
  unfold bT_holds_159 at h
  refine tw_st14 C hw hσ hS h dX10_holds_159 (fun σ_1 H locs h hσ hS => ?_)
  obtain ⟨x3_2, e_, h⟩ := nm_s h
  refine lv_iinc (v := x3_2) (lv' := [(3, .int x3_2), (0, .ref g.2.2.2.1), (1, .int x1), (2, .int x2), (4, .int x4)]) C.x C.b dX10_holds_160 hl (k := 3) rfl e_.symm (by decide) rfl (fun ls hl => ?_)
  obtain ⟨x4_3, e_, h⟩ := nm_s h
  refine lv_iinc (v := x4_3) (lv' := [(4, .int x4_3), (3, .int x3_2), (0, .ref g.2.2.2.1), (1, .int x1), (2, .int x2)]) C.x C.b dX10_holds_163 hl (k := 4) rfl e_.symm (by decide) rfl (fun ls hl => ?_)
  refine lv_goto (tgt := 5) C.x C.b dX10_holds_166 (by decide) ?_
  exact hk5 _ _ _ _ _ _ _ _ h hσ hS (lv_sub hl [2, 3, 4, 1, 0] rfl)

theorem wT_holds_5 {z : Int32 × twS} (C : CX p m meth c s args cX10_holds 6 (some .boolean) RX10) (hw : WKt twL g A s s.heap) (hRf : 3 ≤ R.frames) (hRl : 74 ≤ R.locals) : ∀ (n : Nat) (x1 : Int32) (x2 : Int32) (x3 : Int32) (x4 : Int32) (σ : twS) (H : Heap) (locs : List Loc) (ls : Array Slot), bT_holds_5 n x1 x2 x3 x4 σ = some z → TI g A σ H → va_S A s.heap H locs → lv_has ls 6 [(0, .ref g.2.2.2.1), (1, .int x1), (2, .int x2), (3, .int x3), (4, .int x4)] → W p l e R s m args below meth c H locs 0 0 (MQ below (TQ g A (some (.int z.1)) z.2) args s 0 0 A) (F0 m 5 ls []) := by
  intro n
  induction n with
  | zero =>
    intro x1 x2 x3 x4 σ H locs ls h
    cases h
  | succ n ih =>
    intro x1 x2 x3 x4 σ H locs ls h hσ hS hl
    rw [bT_holds_5] at h
    refine lv_iload C.x C.b dX10_holds_5 (lv_at hl 4 rfl) ?_
    refine lv_aload_n C.x C.b dX10_holds_7 rfl (lv_at hl 0 rfl) ?_
    refine lv_iload_n C.x C.b dX10_holds_8 rfl (lv_at hl 1 rfl) ?_
    refine lv_iconst (v := 0) C.x C.b dX10_holds_9 (by decide) ?_
    refine tw_call (y := yX10_of) (bytes := cX10_of) (maxL := 3) (fun v => some (.int v)) [.int x1, .int 0] (fun _ => True)  C hw XB.tt (fun _ _ _ => trivial) hσ hS hl.1 h (fun vv ss ee => kT_of l g A x1 0 σ vv ss ee) (cwV 2 C.t (lw_V q2346 q2348 qs85 q159 q2349) rfl rfl rfl (by decide +kernel) ⟨Nat.le_trans (Nat.le_of_ble_eq_true rfl) hRf, Nat.le_trans (Nat.le_of_ble_eq_true rfl) hRl⟩) rfl rfl (Nat.le_of_ble_eq_true rfl) dX10_holds_10 (fun v_1 σ_2 H locs h hσ hS => ?_)
    refine lv_icmp_ge (tgt := 169) C.x C.b dX10_holds_13 (by decide) (fun c_3 => ?_) (fun c_3 => ?_)
    · have h := ip c_3 h
      refine lv_aload_n C.x C.b dX10_holds_169 rfl (lv_at hl 0 rfl) ?_
      refine tw_gf14 C hw hσ q2229 dX10_holds_170 ?_
      refine lv_iconst (v := 0) C.x C.b dX10_holds_173 (by decide) ?_
      refine tw_ld14 C hw hσ h dX10_holds_174 (fun v_4 h => ?_)
      refine lv_iconst (v := 1) C.x C.b dX10_holds_175 (by decide) ?_
      refine lv_icmp_ne (tgt := 183) C.x C.b dX10_holds_176 (by decide) (fun c_5 => ?_) (fun c_5 => ?_)
      · have h := iN c_5 h
        refine lv_iconst (v := 0) C.x C.b dX10_holds_183 (by decide) ?_
        exact tw_zret C hσ hS h dX10_holds_184
      · have h := ip c_5 h
        refine lv_iconst (v := 1) C.x C.b dX10_holds_179 (by decide) ?_
        refine lv_goto (tgt := 184) C.x C.b dX10_holds_180 (by decide) ?_
        exact tw_zret C hσ hS h dX10_holds_184
    · have h := iN c_3 h
      refine lv_aload_n C.x C.b dX10_holds_16 rfl (lv_at hl 0 rfl) ?_
      refine lv_iload_n C.x C.b dX10_holds_17 rfl (lv_at hl 1 rfl) ?_
      refine lv_iconst (v := 1) C.x C.b dX10_holds_18 (by decide) ?_
      refine lv_iload C.x C.b dX10_holds_19 (lv_at hl 4 rfl) ?_
      refine lv_iadd C.x C.b dX10_holds_21 ?_
      refine tw_call (y := yX10_of) (bytes := cX10_of) (maxL := 3) (fun v => some (.int v)) [.int x1, .int (1 + x4)] (fun _ => True)  C hw XB.tt (fun _ _ _ => trivial) hσ hS hl.1 h (fun vv ss ee => kT_of l g A x1 (1 + x4) σ_2 vv ss ee) (cwV 2 C.t (lw_V q2346 q2348 qs85 q159 q2349) rfl rfl rfl (by decide +kernel) ⟨Nat.le_trans (Nat.le_of_ble_eq_true rfl) hRf, Nat.le_trans (Nat.le_of_ble_eq_true rfl) hRl⟩) rfl rfl (Nat.le_of_ble_eq_true rfl) dX10_holds_22 (fun v_6 σ_7 H locs h hσ hS => ?_)
      refine lv_istore (lv' := [(5, .int v_6), (0, .ref g.2.2.2.1), (1, .int x1), (2, .int x2), (3, .int x3), (4, .int x4)]) C.x C.b dX10_holds_25 hl (by decide) rfl (fun ls hl => ?_)
      refine lv_iload C.x C.b dX10_holds_27 (lv_at hl 0 rfl) ?_
      by_cases c_8 : v_6 = 1
      · have h := ip c_8 h
        refine lv_tableIn (off := 27) (tgt := 56) C.x C.b dX10_holds_29 (by rw [c_8]; decide) (by rw [c_8]; decide) (by rw [c_8]; rfl) (by decide) ?_
        refine lv_aload_n C.x C.b dX10_holds_56 rfl (lv_at hl 1 rfl) ?_
        refine tw_gf14 C hw hσ q2229 dX10_holds_57 ?_
        refine lv_iload_n C.x C.b dX10_holds_60 rfl (lv_at hl 4 rfl) ?_
        refine lv_iconst (v := 1) C.x C.b dX10_holds_61 (by decide) ?_
        refine lv_isub C.x C.b dX10_holds_62 ?_
        refine lv_iconst (v := 1) C.x C.b dX10_holds_63 (by decide) ?_
        refine lv_aload_n C.x C.b dX10_holds_64 rfl (lv_at hl 1 rfl) ?_
        refine tw_gf14 C hw hσ q2229 dX10_holds_65 ?_
        refine lv_iload_n C.x C.b dX10_holds_68 rfl (lv_at hl 4 rfl) ?_
        refine lv_iconst (v := 1) C.x C.b dX10_holds_69 (by decide) ?_
        refine lv_isub C.x C.b dX10_holds_70 ?_
        refine tw_ld14 C hw hσ h dX10_holds_71 (fun v_9 h => ?_)
        refine lv_isub C.x C.b dX10_holds_72 ?_
        refine tw_st14 C hw hσ hS h dX10_holds_73 (fun σ_10 H locs h hσ hS => ?_)
        refine lv_goto (tgt := 163) C.x C.b dX10_holds_74 (by decide) ?_
        obtain ⟨x4_11, e_, h⟩ := nm_s h
        refine lv_iinc (v := x4_11) (lv' := [(4, .int x4_11), (5, .int v_6), (0, .ref g.2.2.2.1), (1, .int x1), (2, .int x2), (3, .int x3)]) C.x C.b dX10_holds_163 hl (k := 5) rfl e_.symm (by decide) rfl (fun ls hl => ?_)
        refine lv_goto (tgt := 5) C.x C.b dX10_holds_166 (by decide) ?_
        exact ih _ _ _ _ _ _ _ _ h hσ hS (lv_sub hl [2, 3, 4, 5, 0] rfl)
      have h := iN c_8 h
      by_cases c_12 : v_6 = 2
      · have h := ip c_12 h
        refine lv_tableIn (off := 48) (tgt := 77) C.x C.b dX10_holds_29 (by rw [c_12]; decide) (by rw [c_12]; decide) (by rw [c_12]; rfl) (by decide) ?_
        obtain ⟨x3_13, e_, h⟩ := nm_s h
        refine lv_iinc (v := x3_13) (lv' := [(3, .int x3_13), (5, .int v_6), (0, .ref g.2.2.2.1), (1, .int x1), (2, .int x2), (4, .int x4)]) C.x C.b dX10_holds_77 hl (k := 4) rfl e_.symm (by decide) rfl (fun ls hl => ?_)
        refine lv_aload_n C.x C.b dX10_holds_80 rfl (lv_at hl 2 rfl) ?_
        refine tw_gf14 C hw hσ q2229 dX10_holds_81 ?_
        refine lv_iload_n C.x C.b dX10_holds_84 rfl (lv_at hl 0 rfl) ?_
        refine lv_iconst (v := 1) C.x C.b dX10_holds_85 (by decide) ?_
        refine lv_isub C.x C.b dX10_holds_86 ?_
        refine lv_aload_n C.x C.b dX10_holds_87 rfl (lv_at hl 2 rfl) ?_
        refine tw_gf14 C hw hσ q2229 dX10_holds_88 ?_
        refine lv_iload_n C.x C.b dX10_holds_91 rfl (lv_at hl 0 rfl) ?_
        refine lv_iconst (v := 1) C.x C.b dX10_holds_92 (by decide) ?_
        refine lv_isub C.x C.b dX10_holds_93 ?_
        refine tw_ld14 C hw hσ h dX10_holds_94 (fun v_14 h => ?_)
        refine lv_aload_n C.x C.b dX10_holds_95 rfl (lv_at hl 2 rfl) ?_
        refine tw_gf14 C hw hσ q2229 dX10_holds_96 ?_
        refine lv_iload_n C.x C.b dX10_holds_99 rfl (lv_at hl 0 rfl) ?_
        refine tw_ld14 C hw hσ h dX10_holds_100 (fun v_15 h => ?_)
        refine lv_imul C.x C.b dX10_holds_101 ?_
        refine tw_st14 C hw hσ hS h dX10_holds_102 (fun σ_16 H locs h hσ hS => ?_)
        refine lv_goto (tgt := 163) C.x C.b dX10_holds_103 (by decide) ?_
        obtain ⟨x4_17, e_, h⟩ := nm_s h
        refine lv_iinc (v := x4_17) (lv' := [(4, .int x4_17), (3, .int x3_13), (5, .int v_6), (0, .ref g.2.2.2.1), (1, .int x1), (2, .int x2)]) C.x C.b dX10_holds_163 hl (k := 5) rfl e_.symm (by decide) rfl (fun ls hl => ?_)
        refine lv_goto (tgt := 5) C.x C.b dX10_holds_166 (by decide) ?_
        exact ih _ _ _ _ _ _ _ _ h hσ hS (lv_sub hl [3, 4, 5, 1, 0] rfl)
      have h := iN c_12 h
      by_cases c_18 : v_6 = 3
      · have h := ip c_18 h
        refine lv_tableIn (off := 77) (tgt := 106) C.x C.b dX10_holds_29 (by rw [c_18]; decide) (by rw [c_18]; decide) (by rw [c_18]; rfl) (by decide) ?_
        obtain ⟨x3_19, e_, h⟩ := nm_s h
        refine lv_iinc (v := x3_19) (lv' := [(3, .int x3_19), (5, .int v_6), (0, .ref g.2.2.2.1), (1, .int x1), (2, .int x2), (4, .int x4)]) C.x C.b dX10_holds_106 hl (k := 4) rfl e_.symm (by decide) rfl (fun ls hl => ?_)
        refine lv_aload_n C.x C.b dX10_holds_109 rfl (lv_at hl 2 rfl) ?_
        refine tw_gf14 C hw hσ q2229 dX10_holds_110 ?_
        refine lv_iload_n C.x C.b dX10_holds_113 rfl (lv_at hl 0 rfl) ?_
        refine lv_iconst (v := 1) C.x C.b dX10_holds_114 (by decide) ?_
        refine lv_isub C.x C.b dX10_holds_115 ?_
        refine lv_aload_n C.x C.b dX10_holds_116 rfl (lv_at hl 2 rfl) ?_
        refine tw_gf14 C hw hσ q2229 dX10_holds_117 ?_
        refine lv_iload_n C.x C.b dX10_holds_120 rfl (lv_at hl 0 rfl) ?_
        refine lv_iconst (v := 1) C.x C.b dX10_holds_121 (by decide) ?_
        refine lv_isub C.x C.b dX10_holds_122 ?_
        refine tw_ld14 C hw hσ h dX10_holds_123 (fun v_20 h => ?_)
        refine lv_aload_n C.x C.b dX10_holds_124 rfl (lv_at hl 2 rfl) ?_
        refine tw_gf14 C hw hσ q2229 dX10_holds_125 ?_
        refine lv_iload_n C.x C.b dX10_holds_128 rfl (lv_at hl 0 rfl) ?_
        refine tw_ld14 C hw hσ h dX10_holds_129 (fun v_21 h => ?_)
        refine va_mmax C.x C.b (C.n.trans hl.1.symm) C.o (C.t _ q2350) (C.t _ q465) (C.t _ q136) (C.t _ q466) (Nat.le_trans (Nat.le_of_ble_eq_true rfl) hRf) (Nat.le_trans (Nat.le_of_ble_eq_true rfl) hRl) (Nat.zero_le _) (Nat.zero_le _) dX10_holds_130 ?_
        refine tw_lt h (fun u_22 h => ?_)
        refine tw_st14 C hw hσ hS h dX10_holds_133 (fun σ_23 H locs h hσ hS => ?_)
        refine lv_goto (tgt := 163) C.x C.b dX10_holds_134 (by decide) ?_
        obtain ⟨x4_24, e_, h⟩ := nm_s h
        refine lv_iinc (v := x4_24) (lv' := [(4, .int x4_24), (3, .int x3_19), (5, .int v_6), (0, .ref g.2.2.2.1), (1, .int x1), (2, .int x2)]) C.x C.b dX10_holds_163 hl (k := 5) rfl e_.symm (by decide) rfl (fun ls hl => ?_)
        refine lv_goto (tgt := 5) C.x C.b dX10_holds_166 (by decide) ?_
        exact ih _ _ _ _ _ _ _ _ h hσ hS (lv_sub hl [3, 4, 5, 1, 0] rfl)
      have h := iN c_18 h
      refine tw_tabD (tgt := 137) C.x C.b dX10_holds_29 (by decide) (fun j hj => match j, hj with | 0, _ => Or.inr (lv_neT c_8 (by decide)) | 1, _ => Or.inr (lv_neT c_12 (by decide)) | 2, _ => Or.inr (lv_neT c_18 (by decide)) | j + 3, hj => absurd hj (Nat.not_lt_of_le (Nat.le_add_left _ _))) (by decide) ?_
      refine lv_aload_n C.x C.b dX10_holds_137 rfl (lv_at hl 1 rfl) ?_
      refine tw_gf14 C hw hσ q2229 dX10_holds_138 ?_
      refine lv_iload_n C.x C.b dX10_holds_141 rfl (lv_at hl 4 rfl) ?_
      refine lv_iload C.x C.b dX10_holds_142 (lv_at hl 0 rfl) ?_
      refine lv_iconst (v := 4) C.x C.b dX10_holds_144 (by decide) ?_
      refine lv_icmp_ne (tgt := 152) C.x C.b dX10_holds_145 (by decide) (fun c_25 => ?_) (fun c_25 => ?_)
      · have h := iN c_25 h
        refine lv_aload_n C.x C.b dX10_holds_152 rfl (lv_at hl 1 rfl) ?_
        refine lv_iload C.x C.b dX10_holds_153 (lv_at hl 0 rfl) ?_
        refine lv_iload_n C.x C.b dX10_holds_155 rfl (lv_at hl 3 rfl) ?_
        refine tw_call (y := yX10_compares) (bytes := cX10_compares) (maxL := 7) (fun v => some (.int v)) [.int v_6, .int x2] (fun _ => True)  C hw XB.tt (fun _ _ _ => trivial) hσ hS hl.1 h (fun vv ss ee => kT_compares l g A v_6 x2 σ_7 vv ss ee) (cwV 2 C.t (lw_V q2351 q2353 qs86 q159 q2354) rfl rfl rfl (by decide +kernel) ⟨Nat.le_trans (Nat.le_of_ble_eq_true rfl) hRf, Nat.le_trans (Nat.le_of_ble_eq_true rfl) hRl⟩) rfl rfl (Nat.le_of_ble_eq_true rfl) dX10_holds_156 (fun v_26 σ_27 H locs h hσ hS => ?_)
        exact wT_holds_159 C hw hRf hRl (fun y0 y1 y2 y3 σ H locs ls h hσ hS hl => ih y0 y1 y2 y3 σ H locs ls h hσ hS hl) _ _ _ _ _ _ _ _ _ _ h hσ hS (lv_sub hl [1, 2, 3, 4, 5] rfl)
      · have h := ip c_25 h
        refine lv_iconst (v := 1) C.x C.b dX10_holds_148 (by decide) ?_
        refine lv_goto (tgt := 159) C.x C.b dX10_holds_149 (by decide) ?_
        exact wT_holds_159 C hw hRf hRl (fun y0 y1 y2 y3 σ H locs ls h hσ hS hl => ih y0 y1 y2 y3 σ H locs ls h hσ hS hl) _ _ _ _ _ _ _ _ _ _ h hσ hS (lv_sub hl [1, 2, 3, 4, 5] rfl)

theorem kT_holds (l : Launch) (g : twG) (A : Nat → Prop) (x1 : Int32) (x2 : Int32) (σ : twS) (v : Int32) (σ1 : twS) (h : mT_holds x1 x2 σ = some (v, σ1)) : Met l yX10_holds (ws_ yX10_holds cX10_holds 6 (some .boolean)) ({ frames := 3, cells := 0, slots := 0, locals := 74 }) (TPc twL g A [.ref g.2.2.2.1, .int x1, .int x2] (fun _ => True) σ) (TQ g A (some (.int v)) σ1) 0 0 A := by
  refine Met.ofW (cc := cX10_holds) (maxL := 6) (ret := (some .boolean)) (by decide) rfl ?_
  intro p e s m args below meth c s₁ B hml hv
  obtain ⟨rfl, hw, hX, hσ⟩ := hv
  have hts := atoms_spec (ws := (ws_ yX10_holds cX10_holds 6 (some .boolean))) B.pre
  have C : CX p m meth c s ([.ref g.2.2.2.1, .int x1, .int x2] : List Value).toArray cX10_holds 6 (some .boolean) RX10 := ⟨⟨B.exec, B.bytes, hml, findClass_of_methodNamed B.named, fun w h => hts w (List.mem_cons_of_mem _ h)⟩, B.returns, B.notSynchronized⟩
  have hRf : 3 ≤ (headSpec (ws_ yX10_holds cX10_holds 6 (some .boolean)) ({ frames := 3, cells := 0, slots := 0, locals := 74 })).room.frames := Nat.le_refl _
  have hRl : 74 ≤ (headSpec (ws_ yX10_holds cX10_holds 6 (some .boolean)) ({ frames := 3, cells := 0, slots := 0, locals := 74 })).room.locals := Nat.le_refl _
  generalize (headSpec (ws_ yX10_holds cX10_holds 6 (some .boolean)) ({ frames := 3, cells := 0, slots := 0, locals := 74 })).room = R at hRf hRl ⊢
  have hS : va_S A s.heap s.heap [] := va_S.rf
  have hl := lv_entry ([.ref g.2.2.2.1, .int x1, .int x2]) (n := 6) (Nat.le_of_ble_eq_true rfl)
  rw [lg_entry_eq]
  generalize (lg_sl ([.ref g.2.2.2.1, .int x1, .int x2]) ++ List.replicate (6 - (lg_sl ([.ref g.2.2.2.1, .int x1, .int x2])).length) Slot.unset).toArray = ls at hl ⊢
  have hl : lv_has ls 6 [(0, .ref g.2.2.2.1), (1, .int x1), (2, .int x2)] := hl
  obtain ⟨z, hz⟩ : ∃ z, z = (v, σ1) := ⟨_, rfl⟩
  rw [← hz] at h
  rw [show v = z.1 by rw [hz], show σ1 = z.2 by rw [hz]]
  clear hz v σ1
  unfold mT_holds at h
  refine lv_iconst (v := 0) C.x C.b dX10_holds_0 (by decide) ?_
  refine lv_istore_n (lv' := [(3, .int 0), (0, .ref g.2.2.2.1), (1, .int x1), (2, .int x2)]) C.x C.b dX10_holds_1 rfl hl (by decide) rfl (fun ls hl => ?_)
  refine lv_iconst (v := 0) C.x C.b dX10_holds_2 (by decide) ?_
  refine lv_istore (lv' := [(4, .int 0), (3, .int 0), (0, .ref g.2.2.2.1), (1, .int x1), (2, .int x2)]) C.x C.b dX10_holds_3 hl (by decide) rfl (fun ls hl => ?_)
  exact wT_holds_5 C hw hRf hRl _ _ _ _ _ _ _ _ _ h hσ hS (lv_sub hl [2, 3, 4, 1, 0] rfl)

theorem wT_setsOut_55 {z : Int32 × twS} (C : CX p m meth c s args cX10_setsOut 4 none RX10) (hw : WKt twL g A s s.heap) (hRf : 4 ≤ R.frames) (hRl : 99 ≤ R.locals) {k7 : Int32 → Int32 → twS → Option (Int32 × twS)} (hk7 : ∀ (x1 : Int32) (x2 : Int32) (σ : twS) (H : Heap) (locs : List Loc) (ls : Array Slot), k7 x1 x2 σ = some z → TI g A σ H → va_S A s.heap H locs → lv_has ls 4 [(0, .ref g.2.2.2.1), (1, .int x1), (2, .int x2)] → W p l e R s m args below meth c H locs 0 0 (MQ below (TQ g A (none) z.2) args s 0 0 A) (F0 m 7 ls [])) {k21 : Int32 → Int32 → Int32 → twS → Option (Int32 × twS)} (hk21 : ∀ (x1 : Int32) (x2 : Int32) (x3 : Int32) (σ : twS) (H : Heap) (locs : List Loc) (ls : Array Slot), k21 x1 x2 x3 σ = some z → TI g A σ H → va_S A s.heap H locs → lv_has ls 4 [(0, .ref g.2.2.2.1), (1, .int x1), (2, .int x2), (3, .int x3)] → W p l e R s m args below meth c H locs 0 0 (MQ below (TQ g A (none) z.2) args s 0 0 A) (F0 m 21 ls [])) : ∀ (x1 : Int32) (x2 : Int32) (x3 : Int32) (s1 : Int32) (s2 : Int32) (s3 : Int32) (σ : twS) (H : Heap) (locs : List Loc) (ls : Array Slot), bT_setsOut_55 k7 k21 x1 x2 x3 s1 s2 s3 σ = some z → TI g A σ H → va_S A s.heap H locs → lv_has ls 4 [(0, .ref g.2.2.2.1), (1, .int x1), (2, .int x2), (3, .int x3)] → W p l e R s m args below meth c H locs 0 0 (MQ below (TQ g A (none) z.2) args s 0 0 A) (F0 m 55 ls [.int s3, .int s2, .int s1, .ref (g.2.2.2.2 15)]) := by
  intro x1 x2 x3 s1 s2 s3 σ H locs ls h hσ hS hl
  unfold bT_setsOut_55 at h
  refine lv_ior C.x C.b dX10_setsOut_55 ?_
  refine tw_st15 C hw hσ hS h dX10_setsOut_56 (fun σ_1 H locs h hσ hS => ?_)
  obtain ⟨x3_2, e_, h⟩ := nm_s h
  refine lv_iinc (v := x3_2) (lv' := [(3, .int x3_2), (0, .ref g.2.2.2.1), (1, .int x1), (2, .int x2)]) C.x C.b dX10_setsOut_57 hl (k := 3) rfl e_.symm (by decide) rfl (fun ls hl => ?_)
  refine lv_goto (tgt := 21) C.x C.b dX10_setsOut_60 (by decide) ?_
  exact hk21 _ _ _ _ _ _ _ h hσ hS (lv_sub hl [1, 2, 3, 0] rfl)

theorem wT_setsOut_21 {z : Int32 × twS} (C : CX p m meth c s args cX10_setsOut 4 none RX10) (hw : WKt twL g A s s.heap) (hRf : 4 ≤ R.frames) (hRl : 99 ≤ R.locals) {k7 : Int32 → Int32 → twS → Option (Int32 × twS)} (hk7 : ∀ (x1 : Int32) (x2 : Int32) (σ : twS) (H : Heap) (locs : List Loc) (ls : Array Slot), k7 x1 x2 σ = some z → TI g A σ H → va_S A s.heap H locs → lv_has ls 4 [(0, .ref g.2.2.2.1), (1, .int x1), (2, .int x2)] → W p l e R s m args below meth c H locs 0 0 (MQ below (TQ g A (none) z.2) args s 0 0 A) (F0 m 7 ls [])) : ∀ (n : Nat) (x1 : Int32) (x2 : Int32) (x3 : Int32) (σ : twS) (H : Heap) (locs : List Loc) (ls : Array Slot), bT_setsOut_21 k7 n x1 x2 x3 σ = some z → TI g A σ H → va_S A s.heap H locs → lv_has ls 4 [(0, .ref g.2.2.2.1), (1, .int x1), (2, .int x2), (3, .int x3)] → W p l e R s m args below meth c H locs 0 0 (MQ below (TQ g A (none) z.2) args s 0 0 A) (F0 m 21 ls []) := by
  intro n
  induction n with
  | zero =>
    intro x1 x2 x3 σ H locs ls h
    cases h
  | succ n ih =>
    intro x1 x2 x3 σ H locs ls h hσ hS hl
    rw [bT_setsOut_21] at h
    refine lv_iload_n C.x C.b dX10_setsOut_21 rfl (lv_at hl 3 rfl) ?_
    refine lv_aload_n C.x C.b dX10_setsOut_22 rfl (lv_at hl 0 rfl) ?_
    refine tw_gf0 C hw hσ q2215 dX10_setsOut_23 ?_
    refine lv_bipush (v := 17) C.x C.b dX10_setsOut_26 (by decide) ?_
    refine tw_ld0 C hw hσ h dX10_setsOut_28 (fun v_1 h => ?_)
    refine lv_icmp_ge (tgt := 63) C.x C.b dX10_setsOut_29 (by decide) (fun c_2 => ?_) (fun c_2 => ?_)
    · have h := ip c_2 h
      obtain ⟨x2_3, e_, h⟩ := nm_s h
      refine lv_iinc (v := x2_3) (lv' := [(2, .int x2_3), (0, .ref g.2.2.2.1), (1, .int x1), (3, .int x3)]) C.x C.b dX10_setsOut_63 hl (k := 2) rfl e_.symm (by decide) rfl (fun ls hl => ?_)
      refine lv_goto (tgt := 7) C.x C.b dX10_setsOut_66 (by decide) ?_
      exact hk7 _ _ _ _ _ _ h hσ hS (lv_sub hl [1, 2, 0] rfl)
    · have h := iN c_2 h
      refine lv_aload_n C.x C.b dX10_setsOut_32 rfl (lv_at hl 0 rfl) ?_
      refine tw_gf15 C hw hσ q2230 dX10_setsOut_33 ?_
      refine lv_iload_n C.x C.b dX10_setsOut_36 rfl (lv_at hl 2 rfl) ?_
      refine lv_dup2_11 C.x C.b dX10_setsOut_37 rfl rfl ?_
      refine tw_ld15 C hw hσ h dX10_setsOut_38 (fun v_4 h => ?_)
      refine lv_aload_n C.x C.b dX10_setsOut_39 rfl (lv_at hl 0 rfl) ?_
      refine lv_iload_n C.x C.b dX10_setsOut_40 rfl (lv_at hl 3 rfl) ?_
      refine lv_iload_n C.x C.b dX10_setsOut_41 rfl (lv_at hl 2 rfl) ?_
      refine tw_call (y := yX10_holds) (bytes := cX10_holds) (maxL := 6) (fun v => some (.int v)) [.int x3, .int x2] (fun _ => True)  C hw XB.tt (fun _ _ _ => trivial) hσ hS hl.1 h (fun vv ss ee => kT_holds l g A x3 x2 σ vv ss ee) (cwV 2 C.t (lw_V q2342 q2344 qs84 q159 q2345) rfl rfl rfl (by decide +kernel) ⟨Nat.le_trans (Nat.le_of_ble_eq_true rfl) hRf, Nat.le_trans (Nat.le_of_ble_eq_true rfl) hRl⟩) rfl rfl (Nat.le_of_ble_eq_true rfl) dX10_setsOut_42 (fun v_5 σ_6 H locs h hσ hS => ?_)
      refine lv_if_eq (tgt := 54) C.x C.b dX10_setsOut_45 (by decide) (fun c_7 => ?_) (fun c_7 => ?_)
      · have h := ip c_7 h
        refine lv_iconst (v := 0) C.x C.b dX10_setsOut_54 (by decide) ?_
        exact wT_setsOut_55 C hw hRf hRl hk7 (fun y0 y1 y2 σ H locs ls h hσ hS hl => ih y0 y1 y2 σ H locs ls h hσ hS hl) _ _ _ _ _ _ _ _ _ _ h hσ hS (lv_sub hl [0, 1, 2, 3] rfl)
      · have h := iN c_7 h
        refine lv_iconst (v := 1) C.x C.b dX10_setsOut_48 (by decide) ?_
        refine lv_iload_n C.x C.b dX10_setsOut_49 rfl (lv_at hl 3 rfl) ?_
        refine lv_ishl C.x C.b dX10_setsOut_50 ?_
        refine lv_goto (tgt := 55) C.x C.b dX10_setsOut_51 (by decide) ?_
        exact wT_setsOut_55 C hw hRf hRl hk7 (fun y0 y1 y2 σ H locs ls h hσ hS hl => ih y0 y1 y2 σ H locs ls h hσ hS hl) _ _ _ _ _ _ _ _ _ _ h hσ hS (lv_sub hl [0, 1, 2, 3] rfl)

theorem wT_setsOut_7 {z : Int32 × twS} (C : CX p m meth c s args cX10_setsOut 4 none RX10) (hw : WKt twL g A s s.heap) (hRf : 4 ≤ R.frames) (hRl : 99 ≤ R.locals) : ∀ (n : Nat) (x1 : Int32) (x2 : Int32) (σ : twS) (H : Heap) (locs : List Loc) (ls : Array Slot), bT_setsOut_7 n x1 x2 σ = some z → TI g A σ H → va_S A s.heap H locs → lv_has ls 4 [(0, .ref g.2.2.2.1), (1, .int x1), (2, .int x2)] → W p l e R s m args below meth c H locs 0 0 (MQ below (TQ g A (none) z.2) args s 0 0 A) (F0 m 7 ls []) := by
  intro n
  induction n with
  | zero =>
    intro x1 x2 σ H locs ls h
    cases h
  | succ n ih =>
    intro x1 x2 σ H locs ls h hσ hS hl
    rw [bT_setsOut_7] at h
    refine lv_iload_n C.x C.b dX10_setsOut_7 rfl (lv_at hl 2 rfl) ?_
    refine lv_iload_n C.x C.b dX10_setsOut_8 rfl (lv_at hl 1 rfl) ?_
    refine lv_icmp_ge (tgt := 69) C.x C.b dX10_setsOut_9 (by decide) (fun c_1 => ?_) (fun c_1 => ?_)
    · have h := ip c_1 h
      exact tw_vret C hσ hS h dX10_setsOut_69
    · have h := iN c_1 h
      refine lv_aload_n C.x C.b dX10_setsOut_12 rfl (lv_at hl 0 rfl) ?_
      refine tw_gf15 C hw hσ q2230 dX10_setsOut_13 ?_
      refine lv_iload_n C.x C.b dX10_setsOut_16 rfl (lv_at hl 2 rfl) ?_
      refine lv_iconst (v := 0) C.x C.b dX10_setsOut_17 (by decide) ?_
      refine tw_st15 C hw hσ hS h dX10_setsOut_18 (fun σ_2 H locs h hσ hS => ?_)
      refine lv_iconst (v := 0) C.x C.b dX10_setsOut_19 (by decide) ?_
      refine lv_istore_n (lv' := [(3, .int 0), (0, .ref g.2.2.2.1), (1, .int x1), (2, .int x2)]) C.x C.b dX10_setsOut_20 rfl hl (by decide) rfl (fun ls hl => ?_)
      exact wT_setsOut_21 C hw hRf hRl (fun y0 y1 σ H locs ls h hσ hS hl => ih y0 y1 σ H locs ls h hσ hS hl) _ _ _ _ _ _ _ _ h hσ hS (lv_sub hl [1, 2, 3, 0] rfl)

theorem kT_setsOut (l : Launch) (g : twG) (A : Nat → Prop) (σ : twS) (v : Int32) (σ1 : twS) (h : mT_setsOut σ = some (v, σ1)) : Met l yX10_setsOut (ws_ yX10_setsOut cX10_setsOut 4 none) ({ frames := 4, cells := 0, slots := 0, locals := 99 }) (TPc twL g A [.ref g.2.2.2.1] (fun _ => True) σ) (TQ g A (none) σ1) 0 0 A := by
  refine Met.ofW (cc := cX10_setsOut) (maxL := 4) (ret := none) (by decide) rfl ?_
  intro p e s m args below meth c s₁ B hml hv
  obtain ⟨rfl, hw, hX, hσ⟩ := hv
  have hts := atoms_spec (ws := (ws_ yX10_setsOut cX10_setsOut 4 none)) B.pre
  have C : CX p m meth c s ([.ref g.2.2.2.1] : List Value).toArray cX10_setsOut 4 none RX10 := ⟨⟨B.exec, B.bytes, hml, findClass_of_methodNamed B.named, fun w h => hts w (List.mem_cons_of_mem _ h)⟩, B.returns, B.notSynchronized⟩
  have hRf : 4 ≤ (headSpec (ws_ yX10_setsOut cX10_setsOut 4 none) ({ frames := 4, cells := 0, slots := 0, locals := 99 })).room.frames := Nat.le_refl _
  have hRl : 99 ≤ (headSpec (ws_ yX10_setsOut cX10_setsOut 4 none) ({ frames := 4, cells := 0, slots := 0, locals := 99 })).room.locals := Nat.le_refl _
  generalize (headSpec (ws_ yX10_setsOut cX10_setsOut 4 none) ({ frames := 4, cells := 0, slots := 0, locals := 99 })).room = R at hRf hRl ⊢
  have hS : va_S A s.heap s.heap [] := va_S.rf
  have hl := lv_entry ([.ref g.2.2.2.1]) (n := 4) (Nat.le_of_ble_eq_true rfl)
  rw [lg_entry_eq]
  generalize (lg_sl ([.ref g.2.2.2.1]) ++ List.replicate (4 - (lg_sl ([.ref g.2.2.2.1])).length) Slot.unset).toArray = ls at hl ⊢
  have hl : lv_has ls 4 [(0, .ref g.2.2.2.1)] := hl
  obtain ⟨z, hz⟩ : ∃ z, z = (v, σ1) := ⟨_, rfl⟩
  rw [← hz] at h
  rw [show σ1 = z.2 by rw [hz]]
  clear hz v σ1
  unfold mT_setsOut at h
  refine lv_aload_n C.x C.b dX10_setsOut_0 rfl (lv_at hl 0 rfl) ?_
  refine tw_call (y := yX10_cases) (bytes := cX10_cases) (maxL := 3) (fun v => some (.int v)) [] (fun _ => True)  C hw XB.tt (fun _ _ _ => trivial) hσ hS hl.1 h (fun vv ss ee => kT_cases l g A σ vv ss ee) (cwV 0 C.t (lw_V q2334 q2336 qs82 q159 q2337) rfl rfl rfl (by decide +kernel) ⟨Nat.le_trans (Nat.le_of_ble_eq_true rfl) hRf, Nat.le_trans (Nat.le_of_ble_eq_true rfl) hRl⟩) rfl rfl (Nat.le_of_ble_eq_true rfl) dX10_setsOut_1 (fun v_1 σ_2 H locs h hσ hS => ?_)
  refine lv_istore_n (lv' := [(1, .int v_1), (0, .ref g.2.2.2.1)]) C.x C.b dX10_setsOut_4 rfl hl (by decide) rfl (fun ls hl => ?_)
  refine lv_iconst (v := 0) C.x C.b dX10_setsOut_5 (by decide) ?_
  refine lv_istore_n (lv' := [(2, .int 0), (1, .int v_1), (0, .ref g.2.2.2.1)]) C.x C.b dX10_setsOut_6 rfl hl (by decide) rfl (fun ls hl => ?_)
  exact wT_setsOut_7 C hw hRf hRl _ _ _ _ _ _ _ h hσ hS (lv_sub hl [2, 1, 0] rfl)

theorem wT_unbeaten_4 {z : Int32 × twS} (C : CX p m meth c s args cX10_unbeaten 4 (some .int) RX10) (hw : WKt twL g A s s.heap) (hRf : 3 ≤ R.frames) (hRl : 66 ≤ R.locals) : ∀ (n : Nat) (x1 : Int32) (x2 : Int32) (x3 : Int32) (σ : twS) (H : Heap) (locs : List Loc) (ls : Array Slot), bT_unbeaten_4 n x1 x2 x3 σ = some z → TI g A σ H → va_S A s.heap H locs → lv_has ls 4 [(0, .ref g.2.2.2.1), (1, .int x1), (2, .int x2), (3, .int x3)] → W p l e R s m args below meth c H locs 0 0 (MQ below (TQ g A (some (.int z.1)) z.2) args s 0 0 A) (F0 m 4 ls []) := by
  intro n
  induction n with
  | zero =>
    intro x1 x2 x3 σ H locs ls h
    cases h
  | succ n ih =>
    intro x1 x2 x3 σ H locs ls h hσ hS hl
    rw [bT_unbeaten_4] at h
    refine lv_iload_n C.x C.b dX10_unbeaten_4 rfl (lv_at hl 3 rfl) ?_
    refine lv_aload_n C.x C.b dX10_unbeaten_5 rfl (lv_at hl 0 rfl) ?_
    refine tw_gf0 C hw hσ q2215 dX10_unbeaten_6 ?_
    refine lv_bipush (v := 17) C.x C.b dX10_unbeaten_9 (by decide) ?_
    refine tw_ld0 C hw hσ h dX10_unbeaten_11 (fun v_1 h => ?_)
    refine lv_icmp_ge (tgt := 43) C.x C.b dX10_unbeaten_12 (by decide) (fun c_2 => ?_) (fun c_2 => ?_)
    · have h := ip c_2 h
      refine lv_iload_n C.x C.b dX10_unbeaten_43 rfl (lv_at hl 1 rfl) ?_
      refine lv_iload_n C.x C.b dX10_unbeaten_44 rfl (lv_at hl 2 rfl) ?_
      refine lv_iconst (v := -1) C.x C.b dX10_unbeaten_45 (by decide) ?_
      refine lv_ixor C.x C.b dX10_unbeaten_46 ?_
      refine lv_iand C.x C.b dX10_unbeaten_47 ?_
      exact tw_iret C hσ hS h dX10_unbeaten_48
    · have h := iN c_2 h
      refine lv_iload_n C.x C.b dX10_unbeaten_15 rfl (lv_at hl 2 rfl) ?_
      refine lv_iload_n C.x C.b dX10_unbeaten_16 rfl (lv_at hl 1 rfl) ?_
      refine lv_iload_n C.x C.b dX10_unbeaten_17 rfl (lv_at hl 3 rfl) ?_
      refine tw_callS (y := yX10_has) (bytes := cX10_has) (maxL := 2) (fun v => some (.int v)) [.int x1, .int x3] C hw hσ hS hl.1 h (fun vv ss ee => kT_has l g A x1 x3 σ vv ss ee) (va_cwS 2 C.t (lw_S q2199 q2200 q159 q2201) rfl rfl rfl (by decide +kernel) ⟨Nat.le_trans (Nat.le_of_ble_eq_true rfl) hRf, Nat.le_trans (Nat.le_of_ble_eq_true rfl) hRl⟩) rfl rfl (Nat.le_of_ble_eq_true rfl) dX10_unbeaten_18 (fun v_3 σ_4 H locs h hσ hS => ?_)
      refine lv_if_eq (tgt := 34) C.x C.b dX10_unbeaten_21 (by decide) (fun c_5 => ?_) (fun c_5 => ?_)
      · have h := ip c_5 h
        refine lv_iconst (v := 0) C.x C.b dX10_unbeaten_34 (by decide) ?_
        refine lv_ior C.x C.b dX10_unbeaten_35 ?_
        refine tw_lt h (fun x2_6 h => ?_)
        refine lv_istore_n (lv' := [(2, .int x2_6), (0, .ref g.2.2.2.1), (1, .int x1), (3, .int x3)]) C.x C.b dX10_unbeaten_36 rfl hl (by decide) rfl (fun ls hl => ?_)
        obtain ⟨x3_7, e_, h⟩ := nm_s h
        refine lv_iinc (v := x3_7) (lv' := [(3, .int x3_7), (2, .int x2_6), (0, .ref g.2.2.2.1), (1, .int x1)]) C.x C.b dX10_unbeaten_37 hl (k := 3) rfl e_.symm (by decide) rfl (fun ls hl => ?_)
        refine lv_goto (tgt := 4) C.x C.b dX10_unbeaten_40 (by decide) ?_
        exact ih _ _ _ _ _ _ _ h hσ hS (lv_sub hl [2, 3, 1, 0] rfl)
      · have h := iN c_5 h
        refine lv_aload_n C.x C.b dX10_unbeaten_24 rfl (lv_at hl 0 rfl) ?_
        refine lv_iload_n C.x C.b dX10_unbeaten_25 rfl (lv_at hl 3 rfl) ?_
        refine lv_bipush (v := 33) C.x C.b dX10_unbeaten_26 (by decide) ?_
        refine tw_call (y := yX10_of) (bytes := cX10_of) (maxL := 3) (fun v => some (.int v)) [.int x3, .int 33] (fun _ => True)  C hw XB.tt (fun _ _ _ => trivial) hσ hS hl.1 h (fun vv ss ee => kT_of l g A x3 33 σ_4 vv ss ee) (cwV 2 C.t (lw_V q2346 q2348 qs85 q159 q2349) rfl rfl rfl (by decide +kernel) ⟨Nat.le_trans (Nat.le_of_ble_eq_true rfl) hRf, Nat.le_trans (Nat.le_of_ble_eq_true rfl) hRl⟩) rfl rfl (Nat.le_of_ble_eq_true rfl) dX10_unbeaten_28 (fun v_8 σ_9 H locs h hσ hS => ?_)
        refine lv_goto (tgt := 35) C.x C.b dX10_unbeaten_31 (by decide) ?_
        refine lv_ior C.x C.b dX10_unbeaten_35 ?_
        refine tw_lt h (fun x2_10 h => ?_)
        refine lv_istore_n (lv' := [(2, .int x2_10), (0, .ref g.2.2.2.1), (1, .int x1), (3, .int x3)]) C.x C.b dX10_unbeaten_36 rfl hl (by decide) rfl (fun ls hl => ?_)
        obtain ⟨x3_11, e_, h⟩ := nm_s h
        refine lv_iinc (v := x3_11) (lv' := [(3, .int x3_11), (2, .int x2_10), (0, .ref g.2.2.2.1), (1, .int x1)]) C.x C.b dX10_unbeaten_37 hl (k := 3) rfl e_.symm (by decide) rfl (fun ls hl => ?_)
        refine lv_goto (tgt := 4) C.x C.b dX10_unbeaten_40 (by decide) ?_
        exact ih _ _ _ _ _ _ _ h hσ hS (lv_sub hl [2, 3, 1, 0] rfl)

theorem kT_unbeaten (l : Launch) (g : twG) (A : Nat → Prop) (x1 : Int32) (σ : twS) (v : Int32) (σ1 : twS) (h : mT_unbeaten x1 σ = some (v, σ1)) : Met l yX10_unbeaten (ws_ yX10_unbeaten cX10_unbeaten 4 (some .int)) ({ frames := 3, cells := 0, slots := 0, locals := 66 }) (TPc twL g A [.ref g.2.2.2.1, .int x1] (fun _ => True) σ) (TQ g A (some (.int v)) σ1) 0 0 A := by
  refine Met.ofW (cc := cX10_unbeaten) (maxL := 4) (ret := (some .int)) (by decide) rfl ?_
  intro p e s m args below meth c s₁ B hml hv
  obtain ⟨rfl, hw, hX, hσ⟩ := hv
  have hts := atoms_spec (ws := (ws_ yX10_unbeaten cX10_unbeaten 4 (some .int))) B.pre
  have C : CX p m meth c s ([.ref g.2.2.2.1, .int x1] : List Value).toArray cX10_unbeaten 4 (some .int) RX10 := ⟨⟨B.exec, B.bytes, hml, findClass_of_methodNamed B.named, fun w h => hts w (List.mem_cons_of_mem _ h)⟩, B.returns, B.notSynchronized⟩
  have hRf : 3 ≤ (headSpec (ws_ yX10_unbeaten cX10_unbeaten 4 (some .int)) ({ frames := 3, cells := 0, slots := 0, locals := 66 })).room.frames := Nat.le_refl _
  have hRl : 66 ≤ (headSpec (ws_ yX10_unbeaten cX10_unbeaten 4 (some .int)) ({ frames := 3, cells := 0, slots := 0, locals := 66 })).room.locals := Nat.le_refl _
  generalize (headSpec (ws_ yX10_unbeaten cX10_unbeaten 4 (some .int)) ({ frames := 3, cells := 0, slots := 0, locals := 66 })).room = R at hRf hRl ⊢
  have hS : va_S A s.heap s.heap [] := va_S.rf
  have hl := lv_entry ([.ref g.2.2.2.1, .int x1]) (n := 4) (Nat.le_of_ble_eq_true rfl)
  rw [lg_entry_eq]
  generalize (lg_sl ([.ref g.2.2.2.1, .int x1]) ++ List.replicate (4 - (lg_sl ([.ref g.2.2.2.1, .int x1])).length) Slot.unset).toArray = ls at hl ⊢
  have hl : lv_has ls 4 [(0, .ref g.2.2.2.1), (1, .int x1)] := hl
  obtain ⟨z, hz⟩ : ∃ z, z = (v, σ1) := ⟨_, rfl⟩
  rw [← hz] at h
  rw [show v = z.1 by rw [hz], show σ1 = z.2 by rw [hz]]
  clear hz v σ1
  unfold mT_unbeaten at h
  refine lv_iconst (v := 0) C.x C.b dX10_unbeaten_0 (by decide) ?_
  refine lv_istore_n (lv' := [(2, .int 0), (0, .ref g.2.2.2.1), (1, .int x1)]) C.x C.b dX10_unbeaten_1 rfl hl (by decide) rfl (fun ls hl => ?_)
  refine lv_iconst (v := 0) C.x C.b dX10_unbeaten_2 (by decide) ?_
  refine lv_istore_n (lv' := [(3, .int 0), (2, .int 0), (0, .ref g.2.2.2.1), (1, .int x1)]) C.x C.b dX10_unbeaten_3 rfl hl (by decide) rfl (fun ls hl => ?_)
  exact wT_unbeaten_4 C hw hRf hRl _ _ _ _ _ _ _ _ h hσ hS (lv_sub hl [2, 3, 1, 0] rfl)

theorem wT_least_2 {z : Int32 × twS} (C : CX p m meth c s args cX10_least 2 (some .int) RX10) (hw : WKt twL g A s s.heap) (hRf : 2 ≤ R.frames) (hRl : 45 ≤ R.locals) : ∀ (n : Nat) (x0 : Int32) (x1 : Int32) (σ : twS) (H : Heap) (locs : List Loc) (ls : Array Slot), bT_least_2 n x0 x1 σ = some z → TI g A σ H → va_S A s.heap H locs → lv_has ls 2 [(0, .int x0), (1, .int x1)] → W p l e R s m args below meth c H locs 0 0 (MQ below (TQ g A (some (.int z.1)) z.2) args s 0 0 A) (F0 m 2 ls []) := by
  intro n
  induction n with
  | zero =>
    intro x0 x1 σ H locs ls h
    cases h
  | succ n ih =>
    intro x0 x1 σ H locs ls h hσ hS hl
    rw [bT_least_2] at h
    refine lv_iload_n C.x C.b dX10_least_2 rfl (lv_at hl 1 rfl) ?_
    refine lv_bipush (v := 31) C.x C.b dX10_least_3 (by decide) ?_
    refine lv_icmp_ge (tgt := 24) C.x C.b dX10_least_5 (by decide) (fun c_1 => ?_) (fun c_1 => ?_)
    · have h := ip c_1 h
      refine lv_iconst (v := -1) C.x C.b dX10_least_24 (by decide) ?_
      exact tw_iret C hσ hS h dX10_least_25
    · have h := iN c_1 h
      refine lv_iload_n C.x C.b dX10_least_8 rfl (lv_at hl 0 rfl) ?_
      refine lv_iload_n C.x C.b dX10_least_9 rfl (lv_at hl 1 rfl) ?_
      refine tw_callS (y := yX10_has) (bytes := cX10_has) (maxL := 2) (fun v => some (.int v)) [.int x0, .int x1] C hw hσ hS hl.1 h (fun vv ss ee => kT_has l g A x0 x1 σ vv ss ee) (va_cwS 2 C.t (lw_S q2199 q2200 q159 q2201) rfl rfl rfl (by decide +kernel) ⟨Nat.le_trans (Nat.le_of_ble_eq_true rfl) hRf, Nat.le_trans (Nat.le_of_ble_eq_true rfl) hRl⟩) rfl rfl (Nat.le_of_ble_eq_true rfl) dX10_least_10 (fun v_2 σ_3 H locs h hσ hS => ?_)
      refine lv_if_eq (tgt := 18) C.x C.b dX10_least_13 (by decide) (fun c_4 => ?_) (fun c_4 => ?_)
      · have h := ip c_4 h
        obtain ⟨x1_5, e_, h⟩ := nm_s h
        refine lv_iinc (v := x1_5) (lv' := [(1, .int x1_5), (0, .int x0)]) C.x C.b dX10_least_18 hl (k := 1) rfl e_.symm (by decide) rfl (fun ls hl => ?_)
        refine lv_goto (tgt := 2) C.x C.b dX10_least_21 (by decide) ?_
        exact ih _ _ _ _ _ _ h hσ hS (lv_sub hl [1, 0] rfl)
      · have h := iN c_4 h
        refine lv_iload_n C.x C.b dX10_least_16 rfl (lv_at hl 1 rfl) ?_
        exact tw_iret C hσ hS h dX10_least_17

theorem kT_least (l : Launch) (g : twG) (A : Nat → Prop) (x0 : Int32) (σ : twS) (v : Int32) (σ1 : twS) (h : mT_least x0 σ = some (v, σ1)) : Met l yX10_least (ws_ yX10_least cX10_least 2 (some .int)) ({ frames := 2, cells := 0, slots := 0, locals := 45 }) (TPc twL g A [.int x0] (fun _ => True) σ) (TQ g A (some (.int v)) σ1) 0 0 A := by
  refine Met.ofW (cc := cX10_least) (maxL := 2) (ret := (some .int)) (by decide) rfl ?_
  intro p e s m args below meth c s₁ B hml hv
  obtain ⟨rfl, hw, hX, hσ⟩ := hv
  have hts := atoms_spec (ws := (ws_ yX10_least cX10_least 2 (some .int))) B.pre
  have C : CX p m meth c s ([.int x0] : List Value).toArray cX10_least 2 (some .int) RX10 := ⟨⟨B.exec, B.bytes, hml, findClass_of_methodNamed B.named, fun w h => hts w (List.mem_cons_of_mem _ h)⟩, B.returns, B.notSynchronized⟩
  have hRf : 2 ≤ (headSpec (ws_ yX10_least cX10_least 2 (some .int)) ({ frames := 2, cells := 0, slots := 0, locals := 45 })).room.frames := Nat.le_refl _
  have hRl : 45 ≤ (headSpec (ws_ yX10_least cX10_least 2 (some .int)) ({ frames := 2, cells := 0, slots := 0, locals := 45 })).room.locals := Nat.le_refl _
  generalize (headSpec (ws_ yX10_least cX10_least 2 (some .int)) ({ frames := 2, cells := 0, slots := 0, locals := 45 })).room = R at hRf hRl ⊢
  have hS : va_S A s.heap s.heap [] := va_S.rf
  have hl := lv_entry ([.int x0]) (n := 2) (Nat.le_of_ble_eq_true rfl)
  rw [lg_entry_eq]
  generalize (lg_sl ([.int x0]) ++ List.replicate (2 - (lg_sl ([.int x0])).length) Slot.unset).toArray = ls at hl ⊢
  have hl : lv_has ls 2 [(0, .int x0)] := hl
  obtain ⟨z, hz⟩ : ∃ z, z = (v, σ1) := ⟨_, rfl⟩
  rw [← hz] at h
  rw [show v = z.1 by rw [hz], show σ1 = z.2 by rw [hz]]
  clear hz v σ1
  unfold mT_least at h
  refine lv_iconst (v := 0) C.x C.b dX10_least_0 (by decide) ?_
  refine lv_istore_n (lv' := [(1, .int 0), (0, .int x0)]) C.x C.b dX10_least_1 rfl hl (by decide) rfl (fun ls hl => ?_)
  exact wT_least_2 C hw hRf hRl _ _ _ _ _ _ _ h hσ hS (lv_sub hl [1, 0] rfl)

theorem wT_isSame_5 {z : Int32 × twS} (C : CX p m meth c s args cX10_isSame 5 (some .boolean) RX10) (hw : WKt twL g A s s.heap) (hRf : 3 ≤ R.frames) (hRl : 66 ≤ R.locals) : ∀ (n : Nat) (x1 : Int32) (x2 : Int32) (x3 : Int32) (x4 : Int32) (σ : twS) (H : Heap) (locs : List Loc) (ls : Array Slot), bT_isSame_5 n x1 x2 x3 x4 σ = some z → TI g A σ H → va_S A s.heap H locs → lv_has ls 5 [(0, .ref g.2.2.2.1), (1, .int x1), (2, .int x2), (3, .int x3), (4, .int x4)] → W p l e R s m args below meth c H locs 0 0 (MQ below (TQ g A (some (.int z.1)) z.2) args s 0 0 A) (F0 m 5 ls []) := by
  intro n
  induction n with
  | zero =>
    intro x1 x2 x3 x4 σ H locs ls h
    cases h
  | succ n ih =>
    intro x1 x2 x3 x4 σ H locs ls h hσ hS hl
    rw [bT_isSame_5] at h
    refine lv_iload C.x C.b dX10_isSame_5 (lv_at hl 4 rfl) ?_
    refine lv_iconst (v := 4) C.x C.b dX10_isSame_7 (by decide) ?_
    refine lv_icmp_ge (tgt := 50) C.x C.b dX10_isSame_8 (by decide) (fun c_1 => ?_) (fun c_1 => ?_)
    · have h := ip c_1 h
      refine lv_iload_n C.x C.b dX10_isSame_50 rfl (lv_at hl 3 rfl) ?_
      exact tw_zret C hσ hS h dX10_isSame_51
    · have h := iN c_1 h
      refine lv_iload_n C.x C.b dX10_isSame_11 rfl (lv_at hl 3 rfl) ?_
      refine lv_if_eq (tgt := 42) C.x C.b dX10_isSame_12 (by decide) (fun c_2 => ?_) (fun c_2 => ?_)
      · have h := ip c_2 h
        refine lv_iconst (v := 0) C.x C.b dX10_isSame_42 (by decide) ?_
        refine lv_istore_n (lv' := [(3, .int 0), (0, .ref g.2.2.2.1), (1, .int x1), (2, .int x2), (4, .int x4)]) C.x C.b dX10_isSame_43 rfl hl (by decide) rfl (fun ls hl => ?_)
        obtain ⟨x4_3, e_, h⟩ := nm_s h
        refine lv_iinc (v := x4_3) (lv' := [(4, .int x4_3), (3, .int 0), (0, .ref g.2.2.2.1), (1, .int x1), (2, .int x2)]) C.x C.b dX10_isSame_44 hl (k := 4) rfl e_.symm (by decide) rfl (fun ls hl => ?_)
        refine lv_goto (tgt := 5) C.x C.b dX10_isSame_47 (by decide) ?_
        exact ih _ _ _ _ _ _ _ _ h hσ hS (lv_sub hl [2, 3, 4, 1, 0] rfl)
      · have h := iN c_2 h
        refine lv_aload_n C.x C.b dX10_isSame_15 rfl (lv_at hl 0 rfl) ?_
        refine lv_iload_n C.x C.b dX10_isSame_16 rfl (lv_at hl 1 rfl) ?_
        refine lv_bipush (v := 29) C.x C.b dX10_isSame_17 (by decide) ?_
        refine lv_iload C.x C.b dX10_isSame_19 (lv_at hl 4 rfl) ?_
        refine lv_iadd C.x C.b dX10_isSame_21 ?_
        refine tw_call (y := yX10_of) (bytes := cX10_of) (maxL := 3) (fun v => some (.int v)) [.int x1, .int (29 + x4)] (fun _ => True)  C hw XB.tt (fun _ _ _ => trivial) hσ hS hl.1 h (fun vv ss ee => kT_of l g A x1 (29 + x4) σ vv ss ee) (cwV 2 C.t (lw_V q2346 q2348 qs85 q159 q2349) rfl rfl rfl (by decide +kernel) ⟨Nat.le_trans (Nat.le_of_ble_eq_true rfl) hRf, Nat.le_trans (Nat.le_of_ble_eq_true rfl) hRl⟩) rfl rfl (Nat.le_of_ble_eq_true rfl) dX10_isSame_22 (fun v_4 σ_5 H locs h hσ hS => ?_)
        refine lv_aload_n C.x C.b dX10_isSame_25 rfl (lv_at hl 0 rfl) ?_
        refine lv_iload_n C.x C.b dX10_isSame_26 rfl (lv_at hl 2 rfl) ?_
        refine lv_bipush (v := 29) C.x C.b dX10_isSame_27 (by decide) ?_
        refine lv_iload C.x C.b dX10_isSame_29 (lv_at hl 4 rfl) ?_
        refine lv_iadd C.x C.b dX10_isSame_31 ?_
        refine tw_call (y := yX10_of) (bytes := cX10_of) (maxL := 3) (fun v => some (.int v)) [.int x2, .int (29 + x4)] (fun _ => True)  C hw XB.tt (fun _ _ _ => trivial) hσ hS hl.1 h (fun vv ss ee => kT_of l g A x2 (29 + x4) σ_5 vv ss ee) (cwV 2 C.t (lw_V q2346 q2348 qs85 q159 q2349) rfl rfl rfl (by decide +kernel) ⟨Nat.le_trans (Nat.le_of_ble_eq_true rfl) hRf, Nat.le_trans (Nat.le_of_ble_eq_true rfl) hRl⟩) rfl rfl (Nat.le_of_ble_eq_true rfl) dX10_isSame_32 (fun v_6 σ_7 H locs h hσ hS => ?_)
        refine lv_icmp_ne (tgt := 42) C.x C.b dX10_isSame_35 (by decide) (fun c_8 => ?_) (fun c_8 => ?_)
        · have h := iN c_8 h
          refine lv_iconst (v := 0) C.x C.b dX10_isSame_42 (by decide) ?_
          refine lv_istore_n (lv' := [(3, .int 0), (0, .ref g.2.2.2.1), (1, .int x1), (2, .int x2), (4, .int x4)]) C.x C.b dX10_isSame_43 rfl hl (by decide) rfl (fun ls hl => ?_)
          obtain ⟨x4_9, e_, h⟩ := nm_s h
          refine lv_iinc (v := x4_9) (lv' := [(4, .int x4_9), (3, .int 0), (0, .ref g.2.2.2.1), (1, .int x1), (2, .int x2)]) C.x C.b dX10_isSame_44 hl (k := 4) rfl e_.symm (by decide) rfl (fun ls hl => ?_)
          refine lv_goto (tgt := 5) C.x C.b dX10_isSame_47 (by decide) ?_
          exact ih _ _ _ _ _ _ _ _ h hσ hS (lv_sub hl [2, 3, 4, 1, 0] rfl)
        · have h := ip c_8 h
          refine lv_iconst (v := 1) C.x C.b dX10_isSame_38 (by decide) ?_
          refine lv_goto (tgt := 43) C.x C.b dX10_isSame_39 (by decide) ?_
          refine lv_istore_n (lv' := [(3, .int 1), (0, .ref g.2.2.2.1), (1, .int x1), (2, .int x2), (4, .int x4)]) C.x C.b dX10_isSame_43 rfl hl (by decide) rfl (fun ls hl => ?_)
          obtain ⟨x4_10, e_, h⟩ := nm_s h
          refine lv_iinc (v := x4_10) (lv' := [(4, .int x4_10), (3, .int 1), (0, .ref g.2.2.2.1), (1, .int x1), (2, .int x2)]) C.x C.b dX10_isSame_44 hl (k := 4) rfl e_.symm (by decide) rfl (fun ls hl => ?_)
          refine lv_goto (tgt := 5) C.x C.b dX10_isSame_47 (by decide) ?_
          exact ih _ _ _ _ _ _ _ _ h hσ hS (lv_sub hl [2, 3, 4, 1, 0] rfl)

theorem kT_isSame (l : Launch) (g : twG) (A : Nat → Prop) (x1 : Int32) (x2 : Int32) (σ : twS) (v : Int32) (σ1 : twS) (h : mT_isSame x1 x2 σ = some (v, σ1)) : Met l yX10_isSame (ws_ yX10_isSame cX10_isSame 5 (some .boolean)) ({ frames := 3, cells := 0, slots := 0, locals := 66 }) (TPc twL g A [.ref g.2.2.2.1, .int x1, .int x2] (fun _ => True) σ) (TQ g A (some (.int v)) σ1) 0 0 A := by
  refine Met.ofW (cc := cX10_isSame) (maxL := 5) (ret := (some .boolean)) (by decide) rfl ?_
  intro p e s m args below meth c s₁ B hml hv
  obtain ⟨rfl, hw, hX, hσ⟩ := hv
  have hts := atoms_spec (ws := (ws_ yX10_isSame cX10_isSame 5 (some .boolean))) B.pre
  have C : CX p m meth c s ([.ref g.2.2.2.1, .int x1, .int x2] : List Value).toArray cX10_isSame 5 (some .boolean) RX10 := ⟨⟨B.exec, B.bytes, hml, findClass_of_methodNamed B.named, fun w h => hts w (List.mem_cons_of_mem _ h)⟩, B.returns, B.notSynchronized⟩
  have hRf : 3 ≤ (headSpec (ws_ yX10_isSame cX10_isSame 5 (some .boolean)) ({ frames := 3, cells := 0, slots := 0, locals := 66 })).room.frames := Nat.le_refl _
  have hRl : 66 ≤ (headSpec (ws_ yX10_isSame cX10_isSame 5 (some .boolean)) ({ frames := 3, cells := 0, slots := 0, locals := 66 })).room.locals := Nat.le_refl _
  generalize (headSpec (ws_ yX10_isSame cX10_isSame 5 (some .boolean)) ({ frames := 3, cells := 0, slots := 0, locals := 66 })).room = R at hRf hRl ⊢
  have hS : va_S A s.heap s.heap [] := va_S.rf
  have hl := lv_entry ([.ref g.2.2.2.1, .int x1, .int x2]) (n := 5) (Nat.le_of_ble_eq_true rfl)
  rw [lg_entry_eq]
  generalize (lg_sl ([.ref g.2.2.2.1, .int x1, .int x2]) ++ List.replicate (5 - (lg_sl ([.ref g.2.2.2.1, .int x1, .int x2])).length) Slot.unset).toArray = ls at hl ⊢
  have hl : lv_has ls 5 [(0, .ref g.2.2.2.1), (1, .int x1), (2, .int x2)] := hl
  obtain ⟨z, hz⟩ : ∃ z, z = (v, σ1) := ⟨_, rfl⟩
  rw [← hz] at h
  rw [show v = z.1 by rw [hz], show σ1 = z.2 by rw [hz]]
  clear hz v σ1
  unfold mT_isSame at h
  refine lv_iconst (v := 1) C.x C.b dX10_isSame_0 (by decide) ?_
  refine lv_istore_n (lv' := [(3, .int 1), (0, .ref g.2.2.2.1), (1, .int x1), (2, .int x2)]) C.x C.b dX10_isSame_1 rfl hl (by decide) rfl (fun ls hl => ?_)
  refine lv_iconst (v := 0) C.x C.b dX10_isSame_2 (by decide) ?_
  refine lv_istore (lv' := [(4, .int 0), (3, .int 1), (0, .ref g.2.2.2.1), (1, .int x1), (2, .int x2)]) C.x C.b dX10_isSame_3 hl (by decide) rfl (fun ls hl => ?_)
  exact wT_isSame_5 C hw hRf hRl _ _ _ _ _ _ _ _ _ h hσ hS (lv_sub hl [2, 3, 4, 1, 0] rfl)

theorem wT_other_2 {z : Int32 × twS} (C : CX p m meth c s args cX10_other 4 (some .int) RX10) (hw : WKt twL g A s s.heap) (hRf : 4 ≤ R.frames) (hRl : 90 ≤ R.locals) : ∀ (n : Nat) (x1 : Int32) (x2 : Int32) (x3 : Int32) (σ : twS) (H : Heap) (locs : List Loc) (ls : Array Slot), bT_other_2 n x1 x2 x3 σ = some z → TI g A σ H → va_S A s.heap H locs → lv_has ls 4 [(0, .ref g.2.2.2.1), (1, .int x1), (2, .int x2), (3, .int x3)] → W p l e R s m args below meth c H locs 0 0 (MQ below (TQ g A (some (.int z.1)) z.2) args s 0 0 A) (F0 m 2 ls []) := by
  intro n
  induction n with
  | zero =>
    intro x1 x2 x3 σ H locs ls h
    cases h
  | succ n ih =>
    intro x1 x2 x3 σ H locs ls h hσ hS hl
    rw [bT_other_2] at h
    refine lv_iload_n C.x C.b dX10_other_2 rfl (lv_at hl 3 rfl) ?_
    refine lv_aload_n C.x C.b dX10_other_3 rfl (lv_at hl 0 rfl) ?_
    refine tw_gf0 C hw hσ q2215 dX10_other_4 ?_
    refine lv_bipush (v := 17) C.x C.b dX10_other_7 (by decide) ?_
    refine tw_ld0 C hw hσ h dX10_other_9 (fun v_1 h => ?_)
    refine lv_icmp_ge (tgt := 38) C.x C.b dX10_other_10 (by decide) (fun c_2 => ?_) (fun c_2 => ?_)
    · have h := ip c_2 h
      refine lv_iconst (v := -1) C.x C.b dX10_other_38 (by decide) ?_
      exact tw_iret C hσ hS h dX10_other_39
    · have h := iN c_2 h
      refine lv_iload_n C.x C.b dX10_other_13 rfl (lv_at hl 1 rfl) ?_
      refine lv_iload_n C.x C.b dX10_other_14 rfl (lv_at hl 3 rfl) ?_
      refine tw_callS (y := yX10_has) (bytes := cX10_has) (maxL := 2) (fun v => some (.int v)) [.int x1, .int x3] C hw hσ hS hl.1 h (fun vv ss ee => kT_has l g A x1 x3 σ vv ss ee) (va_cwS 2 C.t (lw_S q2199 q2200 q159 q2201) rfl rfl rfl (by decide +kernel) ⟨Nat.le_trans (Nat.le_of_ble_eq_true rfl) hRf, Nat.le_trans (Nat.le_of_ble_eq_true rfl) hRl⟩) rfl rfl (Nat.le_of_ble_eq_true rfl) dX10_other_15 (fun v_3 σ_4 H locs h hσ hS => ?_)
      refine lv_if_eq (tgt := 32) C.x C.b dX10_other_18 (by decide) (fun c_5 => ?_) (fun c_5 => ?_)
      · have h := ip c_5 h
        obtain ⟨x3_6, e_, h⟩ := nm_s h
        refine lv_iinc (v := x3_6) (lv' := [(3, .int x3_6), (0, .ref g.2.2.2.1), (1, .int x1), (2, .int x2)]) C.x C.b dX10_other_32 hl (k := 3) rfl e_.symm (by decide) rfl (fun ls hl => ?_)
        refine lv_goto (tgt := 2) C.x C.b dX10_other_35 (by decide) ?_
        exact ih _ _ _ _ _ _ _ h hσ hS (lv_sub hl [1, 2, 3, 0] rfl)
      · have h := iN c_5 h
        refine lv_aload_n C.x C.b dX10_other_21 rfl (lv_at hl 0 rfl) ?_
        refine lv_iload_n C.x C.b dX10_other_22 rfl (lv_at hl 3 rfl) ?_
        refine lv_iload_n C.x C.b dX10_other_23 rfl (lv_at hl 2 rfl) ?_
        refine tw_call (y := yX10_isSame) (bytes := cX10_isSame) (maxL := 5) (fun v => some (.int v)) [.int x3, .int x2] (fun _ => True)  C hw XB.tt (fun _ _ _ => trivial) hσ hS hl.1 h (fun vv ss ee => kT_isSame l g A x3 x2 σ_4 vv ss ee) (cwV 2 C.t (lw_V q2378 q2380 qs92 q159 q2381) rfl rfl rfl (by decide +kernel) ⟨Nat.le_trans (Nat.le_of_ble_eq_true rfl) hRf, Nat.le_trans (Nat.le_of_ble_eq_true rfl) hRl⟩) rfl rfl (Nat.le_of_ble_eq_true rfl) dX10_other_24 (fun v_7 σ_8 H locs h hσ hS => ?_)
        refine lv_if_ne (tgt := 32) C.x C.b dX10_other_27 (by decide) (fun c_9 => ?_) (fun c_9 => ?_)
        · have h := iN c_9 h
          obtain ⟨x3_10, e_, h⟩ := nm_s h
          refine lv_iinc (v := x3_10) (lv' := [(3, .int x3_10), (0, .ref g.2.2.2.1), (1, .int x1), (2, .int x2)]) C.x C.b dX10_other_32 hl (k := 3) rfl e_.symm (by decide) rfl (fun ls hl => ?_)
          refine lv_goto (tgt := 2) C.x C.b dX10_other_35 (by decide) ?_
          exact ih _ _ _ _ _ _ _ h hσ hS (lv_sub hl [1, 2, 3, 0] rfl)
        · have h := ip c_9 h
          refine lv_iload_n C.x C.b dX10_other_30 rfl (lv_at hl 3 rfl) ?_
          exact tw_iret C hσ hS h dX10_other_31

theorem kT_other (l : Launch) (g : twG) (A : Nat → Prop) (x1 : Int32) (x2 : Int32) (σ : twS) (v : Int32) (σ1 : twS) (h : mT_other x1 x2 σ = some (v, σ1)) : Met l yX10_other (ws_ yX10_other cX10_other 4 (some .int)) ({ frames := 4, cells := 0, slots := 0, locals := 90 }) (TPc twL g A [.ref g.2.2.2.1, .int x1, .int x2] (fun _ => True) σ) (TQ g A (some (.int v)) σ1) 0 0 A := by
  refine Met.ofW (cc := cX10_other) (maxL := 4) (ret := (some .int)) (by decide) rfl ?_
  intro p e s m args below meth c s₁ B hml hv
  obtain ⟨rfl, hw, hX, hσ⟩ := hv
  have hts := atoms_spec (ws := (ws_ yX10_other cX10_other 4 (some .int))) B.pre
  have C : CX p m meth c s ([.ref g.2.2.2.1, .int x1, .int x2] : List Value).toArray cX10_other 4 (some .int) RX10 := ⟨⟨B.exec, B.bytes, hml, findClass_of_methodNamed B.named, fun w h => hts w (List.mem_cons_of_mem _ h)⟩, B.returns, B.notSynchronized⟩
  have hRf : 4 ≤ (headSpec (ws_ yX10_other cX10_other 4 (some .int)) ({ frames := 4, cells := 0, slots := 0, locals := 90 })).room.frames := Nat.le_refl _
  have hRl : 90 ≤ (headSpec (ws_ yX10_other cX10_other 4 (some .int)) ({ frames := 4, cells := 0, slots := 0, locals := 90 })).room.locals := Nat.le_refl _
  generalize (headSpec (ws_ yX10_other cX10_other 4 (some .int)) ({ frames := 4, cells := 0, slots := 0, locals := 90 })).room = R at hRf hRl ⊢
  have hS : va_S A s.heap s.heap [] := va_S.rf
  have hl := lv_entry ([.ref g.2.2.2.1, .int x1, .int x2]) (n := 4) (Nat.le_of_ble_eq_true rfl)
  rw [lg_entry_eq]
  generalize (lg_sl ([.ref g.2.2.2.1, .int x1, .int x2]) ++ List.replicate (4 - (lg_sl ([.ref g.2.2.2.1, .int x1, .int x2])).length) Slot.unset).toArray = ls at hl ⊢
  have hl : lv_has ls 4 [(0, .ref g.2.2.2.1), (1, .int x1), (2, .int x2)] := hl
  obtain ⟨z, hz⟩ : ∃ z, z = (v, σ1) := ⟨_, rfl⟩
  rw [← hz] at h
  rw [show v = z.1 by rw [hz], show σ1 = z.2 by rw [hz]]
  clear hz v σ1
  unfold mT_other at h
  refine lv_iconst (v := 0) C.x C.b dX10_other_0 (by decide) ?_
  refine lv_istore_n (lv' := [(3, .int 0), (0, .ref g.2.2.2.1), (1, .int x1), (2, .int x2)]) C.x C.b dX10_other_1 rfl hl (by decide) rfl (fun ls hl => ?_)
  exact wT_other_2 C hw hRf hRl _ _ _ _ _ _ _ _ h hσ hS (lv_sub hl [1, 2, 3, 0] rfl)

theorem wT_verdictOf_14 {z : Int32 × twS} (C : CX p m meth c s args cX10_verdictOf 3 (some .int) RX10) (hw : WKt twL g A s s.heap) (hRf : 5 ≤ R.frames) (hRl : 113 ≤ R.locals) : ∀ (x1 : Int32) (σ : twS) (H : Heap) (locs : List Loc) (ls : Array Slot), bT_verdictOf_14 x1 σ = some z → TI g A σ H → va_S A s.heap H locs → lv_has ls 3 [(0, .ref g.2.2.2.1), (1, .int x1)] → W p l e R s m args below meth c H locs 0 0 (MQ below (TQ g A (some (.int z.1)) z.2) args s 0 0 A) (F0 m 14 ls []) := by
  intro x1 σ H locs ls h hσ hS hl
  unfold bT_verdictOf_14 at h
  refine lv_iload_n C.x C.b dX10_verdictOf_14 rfl (lv_at hl 1 rfl) ?_
  refine lv_if_ne (tgt := 22) C.x C.b dX10_verdictOf_15 (by decide) (fun c_1 => ?_) (fun c_1 => ?_)
  · have h := iN c_1 h
    refine lv_iconst (v := 2) C.x C.b dX10_verdictOf_22 (by decide) ?_
    exact tw_iret C hσ hS h dX10_verdictOf_23
  · have h := ip c_1 h
    refine lv_iconst (v := 1) C.x C.b dX10_verdictOf_18 (by decide) ?_
    refine lv_goto (tgt := 23) C.x C.b dX10_verdictOf_19 (by decide) ?_
    exact tw_iret C hσ hS h dX10_verdictOf_23

theorem kT_verdictOf (l : Launch) (g : twG) (A : Nat → Prop) (x1 : Int32) (σ : twS) (v : Int32) (σ1 : twS) (h : mT_verdictOf x1 σ = some (v, σ1)) : Met l yX10_verdictOf (ws_ yX10_verdictOf cX10_verdictOf 3 (some .int)) ({ frames := 5, cells := 0, slots := 0, locals := 113 }) (TPc twL g A [.ref g.2.2.2.1, .int x1] (fun _ => True) σ) (TQ g A (some (.int v)) σ1) 0 0 A := by
  refine Met.ofW (cc := cX10_verdictOf) (maxL := 3) (ret := (some .int)) (by decide) rfl ?_
  intro p e s m args below meth c s₁ B hml hv
  obtain ⟨rfl, hw, hX, hσ⟩ := hv
  have hts := atoms_spec (ws := (ws_ yX10_verdictOf cX10_verdictOf 3 (some .int))) B.pre
  have C : CX p m meth c s ([.ref g.2.2.2.1, .int x1] : List Value).toArray cX10_verdictOf 3 (some .int) RX10 := ⟨⟨B.exec, B.bytes, hml, findClass_of_methodNamed B.named, fun w h => hts w (List.mem_cons_of_mem _ h)⟩, B.returns, B.notSynchronized⟩
  have hRf : 5 ≤ (headSpec (ws_ yX10_verdictOf cX10_verdictOf 3 (some .int)) ({ frames := 5, cells := 0, slots := 0, locals := 113 })).room.frames := Nat.le_refl _
  have hRl : 113 ≤ (headSpec (ws_ yX10_verdictOf cX10_verdictOf 3 (some .int)) ({ frames := 5, cells := 0, slots := 0, locals := 113 })).room.locals := Nat.le_refl _
  generalize (headSpec (ws_ yX10_verdictOf cX10_verdictOf 3 (some .int)) ({ frames := 5, cells := 0, slots := 0, locals := 113 })).room = R at hRf hRl ⊢
  have hS : va_S A s.heap s.heap [] := va_S.rf
  have hl := lv_entry ([.ref g.2.2.2.1, .int x1]) (n := 3) (Nat.le_of_ble_eq_true rfl)
  rw [lg_entry_eq]
  generalize (lg_sl ([.ref g.2.2.2.1, .int x1]) ++ List.replicate (3 - (lg_sl ([.ref g.2.2.2.1, .int x1])).length) Slot.unset).toArray = ls at hl ⊢
  have hl : lv_has ls 3 [(0, .ref g.2.2.2.1), (1, .int x1)] := hl
  obtain ⟨z, hz⟩ : ∃ z, z = (v, σ1) := ⟨_, rfl⟩
  rw [← hz] at h
  rw [show v = z.1 by rw [hz], show σ1 = z.2 by rw [hz]]
  clear hz v σ1
  unfold mT_verdictOf at h
  refine lv_aload_n C.x C.b dX10_verdictOf_0 rfl (lv_at hl 0 rfl) ?_
  refine lv_iload_n C.x C.b dX10_verdictOf_1 rfl (lv_at hl 1 rfl) ?_
  refine tw_call (y := yX10_unbeaten) (bytes := cX10_unbeaten) (maxL := 4) (fun v => some (.int v)) [.int x1] (fun _ => True)  C hw XB.tt (fun _ _ _ => trivial) hσ hS hl.1 h (fun vv ss ee => kT_unbeaten l g A x1 σ vv ss ee) (cwV 1 C.t (lw_V q2367 q2369 qs90 q159 q2370) rfl rfl rfl (by decide +kernel) ⟨Nat.le_trans (Nat.le_of_ble_eq_true rfl) hRf, Nat.le_trans (Nat.le_of_ble_eq_true rfl) hRl⟩) rfl rfl (Nat.le_of_ble_eq_true rfl) dX10_verdictOf_2 (fun v_1 σ_2 H locs h hσ hS => ?_)
  refine lv_istore_n (lv' := [(2, .int v_1), (0, .ref g.2.2.2.1), (1, .int x1)]) C.x C.b dX10_verdictOf_5 rfl hl (by decide) rfl (fun ls hl => ?_)
  refine lv_iload_n C.x C.b dX10_verdictOf_6 rfl (lv_at hl 2 rfl) ?_
  refine lv_if_eq (tgt := 14) C.x C.b dX10_verdictOf_7 (by decide) (fun c_3 => ?_) (fun c_3 => ?_)
  · have h := ip c_3 h
    exact wT_verdictOf_14 C hw hRf hRl _ _ _ _ _ h hσ hS (lv_sub hl [1, 2] rfl)
  · have h := iN c_3 h
    refine lv_iload_n C.x C.b dX10_verdictOf_10 rfl (lv_at hl 0 rfl) ?_
    refine lv_if_ne (tgt := 24) C.x C.b dX10_verdictOf_11 (by decide) (fun c_4 => ?_) (fun c_4 => ?_)
    · have h := iN c_4 h
      refine lv_aload_n C.x C.b dX10_verdictOf_24 rfl (lv_at hl 1 rfl) ?_
      refine lv_iload_n C.x C.b dX10_verdictOf_25 rfl (lv_at hl 0 rfl) ?_
      refine lv_iload_n C.x C.b dX10_verdictOf_26 rfl (lv_at hl 0 rfl) ?_
      refine tw_callS (y := yX10_least) (bytes := cX10_least) (maxL := 2) (fun v => some (.int v)) [.int v_1] C hw hσ hS hl.1 h (fun vv ss ee => kT_least l g A v_1 σ_2 vv ss ee) (va_cwS 1 C.t (lw_S q2371 q2372 q159 q2373) rfl rfl rfl (by decide +kernel) ⟨Nat.le_trans (Nat.le_of_ble_eq_true rfl) hRf, Nat.le_trans (Nat.le_of_ble_eq_true rfl) hRl⟩) rfl rfl (Nat.le_of_ble_eq_true rfl) dX10_verdictOf_27 (fun v_5 σ_6 H locs h hσ hS => ?_)
      refine tw_call (y := yX10_other) (bytes := cX10_other) (maxL := 4) (fun v => some (.int v)) [.int v_1, .int v_5] (fun _ => True)  C hw XB.tt (fun _ _ _ => trivial) hσ hS hl.1 h (fun vv ss ee => kT_other l g A v_1 v_5 σ_6 vv ss ee) (cwV 2 C.t (lw_V q2374 q2376 qs91 q159 q2377) rfl rfl rfl (by decide +kernel) ⟨Nat.le_trans (Nat.le_of_ble_eq_true rfl) hRf, Nat.le_trans (Nat.le_of_ble_eq_true rfl) hRl⟩) rfl rfl (Nat.le_of_ble_eq_true rfl) dX10_verdictOf_30 (fun v_7 σ_8 H locs h hσ hS => ?_)
      refine lv_iconst (v := -1) C.x C.b dX10_verdictOf_33 (by decide) ?_
      refine lv_icmp_ne (tgt := 41) C.x C.b dX10_verdictOf_34 (by decide) (fun c_9 => ?_) (fun c_9 => ?_)
      · have h := iN c_9 h
        refine lv_iconst (v := 3) C.x C.b dX10_verdictOf_41 (by decide) ?_
        exact tw_iret C hσ hS h dX10_verdictOf_42
      · have h := ip c_9 h
        refine lv_iconst (v := 0) C.x C.b dX10_verdictOf_37 (by decide) ?_
        refine lv_goto (tgt := 42) C.x C.b dX10_verdictOf_38 (by decide) ?_
        exact tw_iret C hσ hS h dX10_verdictOf_42
    · have h := ip c_4 h
      exact wT_verdictOf_14 C hw hRf hRl _ _ _ _ _ h hσ hS (lv_sub hl [1, 2] rfl)

theorem wT_many_46 {z : Int32 × twS} (C : CX p m meth c s args cX10_many 7 (some .int) RX10) (hw : WKt twL g A s s.heap) (hRf : 6 ≤ R.frames) (hRl : 135 ≤ R.locals) {k11 : Int32 → Int32 → Int32 → Int32 → Int32 → twS → Option (Int32 × twS)} (hk11 : ∀ (x1 : Int32) (x2 : Int32) (x3 : Int32) (x4 : Int32) (x5 : Int32) (σ : twS) (H : Heap) (locs : List Loc) (ls : Array Slot), k11 x1 x2 x3 x4 x5 σ = some z → TI g A σ H → va_S A s.heap H locs → lv_has ls 7 [(0, .ref g.2.2.2.1), (1, .int x1), (2, .int x2), (3, .int x3), (4, .int x4), (5, .int x5)] → W p l e R s m args below meth c H locs 0 0 (MQ below (TQ g A (some (.int z.1)) z.2) args s 0 0 A) (F0 m 11 ls [])) : ∀ (x1 : Int32) (x2 : Int32) (x3 : Int32) (x4 : Int32) (x5 : Int32) (s0 : Int32) (σ : twS) (H : Heap) (locs : List Loc) (ls : Array Slot), bT_many_46 k11 x1 x2 x3 x4 x5 s0 σ = some z → TI g A σ H → va_S A s.heap H locs → lv_has ls 7 [(0, .ref g.2.2.2.1), (1, .int x1), (2, .int x2), (3, .int x3), (4, .int x4), (5, .int x5)] → W p l e R s m args below meth c H locs 0 0 (MQ below (TQ g A (some (.int z.1)) z.2) args s 0 0 A) (F0 m 46 ls [.int s0]) := by
  intro x1 x2 x3 x4 x5 s0 σ H locs ls h hσ hS hl
  unfold bT_many_46 at h
  refine lv_istore (lv' := [(6, .int s0), (0, .ref g.2.2.2.1), (1, .int x1), (2, .int x2), (3, .int x3), (4, .int x4), (5, .int x5)]) C.x C.b dX10_many_46 hl (by decide) rfl (fun ls hl => ?_)
  refine lv_iload_n C.x C.b dX10_many_48 rfl (lv_at hl 4 rfl) ?_
  refine lv_aload_n C.x C.b dX10_many_49 rfl (lv_at hl 1 rfl) ?_
  refine lv_iload C.x C.b dX10_many_50 (lv_at hl 0 rfl) ?_
  refine tw_call (y := yX10_verdictOf) (bytes := cX10_verdictOf) (maxL := 3) (fun v => some (.int v)) [.int s0] (fun _ => True)  C hw XB.tt (fun _ _ _ => trivial) hσ hS hl.1 h (fun vv ss ee => kT_verdictOf l g A s0 σ vv ss ee) (cwV 1 C.t (lw_V q2363 q2365 qs89 q159 q2366) rfl rfl rfl (by decide +kernel) ⟨Nat.le_trans (Nat.le_of_ble_eq_true rfl) hRf, Nat.le_trans (Nat.le_of_ble_eq_true rfl) hRl⟩) rfl rfl (Nat.le_of_ble_eq_true rfl) dX10_many_52 (fun v_1 σ_2 H locs h hσ hS => ?_)
  refine lv_iload_n C.x C.b dX10_many_55 rfl (lv_at hl 2 rfl) ?_
  refine lv_icmp_ne (tgt := 63) C.x C.b dX10_many_56 (by decide) (fun c_3 => ?_) (fun c_3 => ?_)
  · have h := iN c_3 h
    refine lv_iconst (v := 0) C.x C.b dX10_many_63 (by decide) ?_
    refine lv_iadd C.x C.b dX10_many_64 ?_
    refine tw_lt h (fun x3_4 h => ?_)
    refine lv_istore_n (lv' := [(3, .int x3_4), (6, .int s0), (0, .ref g.2.2.2.1), (1, .int x1), (2, .int x2), (4, .int x4), (5, .int x5)]) C.x C.b dX10_many_65 rfl hl (by decide) rfl (fun ls hl => ?_)
    obtain ⟨x5_5, e_, h⟩ := nm_s h
    refine lv_iinc (v := x5_5) (lv' := [(5, .int x5_5), (3, .int x3_4), (6, .int s0), (0, .ref g.2.2.2.1), (1, .int x1), (2, .int x2), (4, .int x4)]) C.x C.b dX10_many_66 hl (k := 6) rfl e_.symm (by decide) rfl (fun ls hl => ?_)
    refine lv_goto (tgt := 11) C.x C.b dX10_many_69 (by decide) ?_
    exact hk11 _ _ _ _ _ _ _ _ _ h hσ hS (lv_sub hl [3, 4, 5, 1, 6, 0] rfl)
  · have h := ip c_3 h
    refine lv_iconst (v := 1) C.x C.b dX10_many_59 (by decide) ?_
    refine lv_goto (tgt := 64) C.x C.b dX10_many_60 (by decide) ?_
    refine lv_iadd C.x C.b dX10_many_64 ?_
    refine tw_lt h (fun x3_6 h => ?_)
    refine lv_istore_n (lv' := [(3, .int x3_6), (6, .int s0), (0, .ref g.2.2.2.1), (1, .int x1), (2, .int x2), (4, .int x4), (5, .int x5)]) C.x C.b dX10_many_65 rfl hl (by decide) rfl (fun ls hl => ?_)
    obtain ⟨x5_7, e_, h⟩ := nm_s h
    refine lv_iinc (v := x5_7) (lv' := [(5, .int x5_7), (3, .int x3_6), (6, .int s0), (0, .ref g.2.2.2.1), (1, .int x1), (2, .int x2), (4, .int x4)]) C.x C.b dX10_many_66 hl (k := 6) rfl e_.symm (by decide) rfl (fun ls hl => ?_)
    refine lv_goto (tgt := 11) C.x C.b dX10_many_69 (by decide) ?_
    exact hk11 _ _ _ _ _ _ _ _ _ h hσ hS (lv_sub hl [3, 4, 5, 1, 6, 0] rfl)

theorem wT_many_11 {z : Int32 × twS} (C : CX p m meth c s args cX10_many 7 (some .int) RX10) (hw : WKt twL g A s s.heap) (hRf : 6 ≤ R.frames) (hRl : 135 ≤ R.locals) : ∀ (n : Nat) (x1 : Int32) (x2 : Int32) (x3 : Int32) (x4 : Int32) (x5 : Int32) (σ : twS) (H : Heap) (locs : List Loc) (ls : Array Slot), bT_many_11 n x1 x2 x3 x4 x5 σ = some z → TI g A σ H → va_S A s.heap H locs → lv_has ls 7 [(0, .ref g.2.2.2.1), (1, .int x1), (2, .int x2), (3, .int x3), (4, .int x4), (5, .int x5)] → W p l e R s m args below meth c H locs 0 0 (MQ below (TQ g A (some (.int z.1)) z.2) args s 0 0 A) (F0 m 11 ls []) := by
  intro n
  induction n with
  | zero =>
    intro x1 x2 x3 x4 x5 σ H locs ls h
    cases h
  | succ n ih =>
    intro x1 x2 x3 x4 x5 σ H locs ls h hσ hS hl
    rw [bT_many_11] at h
    refine lv_iload C.x C.b dX10_many_11 (lv_at hl 5 rfl) ?_
    refine lv_iload C.x C.b dX10_many_13 (lv_at hl 4 rfl) ?_
    refine lv_icmp_ge (tgt := 72) C.x C.b dX10_many_15 (by decide) (fun c_1 => ?_) (fun c_1 => ?_)
    · have h := ip c_1 h
      refine lv_iload_n C.x C.b dX10_many_72 rfl (lv_at hl 3 rfl) ?_
      exact tw_iret C hσ hS h dX10_many_73
    · have h := iN c_1 h
      refine lv_iload_n C.x C.b dX10_many_18 rfl (lv_at hl 2 rfl) ?_
      refine lv_iconst (v := -1) C.x C.b dX10_many_19 (by decide) ?_
      refine lv_icmp_ne (tgt := 33) C.x C.b dX10_many_20 (by decide) (fun c_2 => ?_) (fun c_2 => ?_)
      · have h := iN c_2 h
        refine lv_aload_n C.x C.b dX10_many_33 rfl (lv_at hl 0 rfl) ?_
        refine tw_gf15 C hw hσ q2230 dX10_many_34 ?_
        refine lv_iload C.x C.b dX10_many_37 (lv_at hl 5 rfl) ?_
        refine tw_ld15 C hw hσ h dX10_many_39 (fun v_3 h => ?_)
        refine lv_iconst (v := 1) C.x C.b dX10_many_40 (by decide) ?_
        refine lv_iload_n C.x C.b dX10_many_41 rfl (lv_at hl 2 rfl) ?_
        refine lv_ishl C.x C.b dX10_many_42 ?_
        refine lv_iconst (v := -1) C.x C.b dX10_many_43 (by decide) ?_
        refine lv_ixor C.x C.b dX10_many_44 ?_
        refine lv_iand C.x C.b dX10_many_45 ?_
        exact wT_many_46 C hw hRf hRl (fun y0 y1 y2 y3 y4 σ H locs ls h hσ hS hl => ih y0 y1 y2 y3 y4 σ H locs ls h hσ hS hl) _ _ _ _ _ _ _ _ _ _ h hσ hS (lv_sub hl [0, 1, 2, 3, 4, 5] rfl)
      · have h := ip c_2 h
        refine lv_aload_n C.x C.b dX10_many_23 rfl (lv_at hl 0 rfl) ?_
        refine tw_gf15 C hw hσ q2230 dX10_many_24 ?_
        refine lv_iload C.x C.b dX10_many_27 (lv_at hl 5 rfl) ?_
        refine tw_ld15 C hw hσ h dX10_many_29 (fun v_4 h => ?_)
        refine lv_goto (tgt := 46) C.x C.b dX10_many_30 (by decide) ?_
        exact wT_many_46 C hw hRf hRl (fun y0 y1 y2 y3 y4 σ H locs ls h hσ hS hl => ih y0 y1 y2 y3 y4 σ H locs ls h hσ hS hl) _ _ _ _ _ _ _ _ _ _ h hσ hS (lv_sub hl [0, 1, 2, 3, 4, 5] rfl)

theorem kT_many (l : Launch) (g : twG) (A : Nat → Prop) (x1 : Int32) (x2 : Int32) (σ : twS) (v : Int32) (σ1 : twS) (h : mT_many x1 x2 σ = some (v, σ1)) : Met l yX10_many (ws_ yX10_many cX10_many 7 (some .int)) ({ frames := 6, cells := 0, slots := 0, locals := 135 }) (TPc twL g A [.ref g.2.2.2.1, .int x1, .int x2] (fun _ => True) σ) (TQ g A (some (.int v)) σ1) 0 0 A := by
  refine Met.ofW (cc := cX10_many) (maxL := 7) (ret := (some .int)) (by decide) rfl ?_
  intro p e s m args below meth c s₁ B hml hv
  obtain ⟨rfl, hw, hX, hσ⟩ := hv
  have hts := atoms_spec (ws := (ws_ yX10_many cX10_many 7 (some .int))) B.pre
  have C : CX p m meth c s ([.ref g.2.2.2.1, .int x1, .int x2] : List Value).toArray cX10_many 7 (some .int) RX10 := ⟨⟨B.exec, B.bytes, hml, findClass_of_methodNamed B.named, fun w h => hts w (List.mem_cons_of_mem _ h)⟩, B.returns, B.notSynchronized⟩
  have hRf : 6 ≤ (headSpec (ws_ yX10_many cX10_many 7 (some .int)) ({ frames := 6, cells := 0, slots := 0, locals := 135 })).room.frames := Nat.le_refl _
  have hRl : 135 ≤ (headSpec (ws_ yX10_many cX10_many 7 (some .int)) ({ frames := 6, cells := 0, slots := 0, locals := 135 })).room.locals := Nat.le_refl _
  generalize (headSpec (ws_ yX10_many cX10_many 7 (some .int)) ({ frames := 6, cells := 0, slots := 0, locals := 135 })).room = R at hRf hRl ⊢
  have hS : va_S A s.heap s.heap [] := va_S.rf
  have hl := lv_entry ([.ref g.2.2.2.1, .int x1, .int x2]) (n := 7) (Nat.le_of_ble_eq_true rfl)
  rw [lg_entry_eq]
  generalize (lg_sl ([.ref g.2.2.2.1, .int x1, .int x2]) ++ List.replicate (7 - (lg_sl ([.ref g.2.2.2.1, .int x1, .int x2])).length) Slot.unset).toArray = ls at hl ⊢
  have hl : lv_has ls 7 [(0, .ref g.2.2.2.1), (1, .int x1), (2, .int x2)] := hl
  obtain ⟨z, hz⟩ : ∃ z, z = (v, σ1) := ⟨_, rfl⟩
  rw [← hz] at h
  rw [show v = z.1 by rw [hz], show σ1 = z.2 by rw [hz]]
  clear hz v σ1
  unfold mT_many at h
  refine lv_iconst (v := 0) C.x C.b dX10_many_0 (by decide) ?_
  refine lv_istore_n (lv' := [(3, .int 0), (0, .ref g.2.2.2.1), (1, .int x1), (2, .int x2)]) C.x C.b dX10_many_1 rfl hl (by decide) rfl (fun ls hl => ?_)
  refine lv_aload_n C.x C.b dX10_many_2 rfl (lv_at hl 1 rfl) ?_
  refine tw_call (y := yX10_cases) (bytes := cX10_cases) (maxL := 3) (fun v => some (.int v)) [] (fun _ => True)  C hw XB.tt (fun _ _ _ => trivial) hσ hS hl.1 h (fun vv ss ee => kT_cases l g A σ vv ss ee) (cwV 0 C.t (lw_V q2334 q2336 qs82 q159 q2337) rfl rfl rfl (by decide +kernel) ⟨Nat.le_trans (Nat.le_of_ble_eq_true rfl) hRf, Nat.le_trans (Nat.le_of_ble_eq_true rfl) hRl⟩) rfl rfl (Nat.le_of_ble_eq_true rfl) dX10_many_3 (fun v_1 σ_2 H locs h hσ hS => ?_)
  refine lv_istore (lv' := [(4, .int v_1), (3, .int 0), (0, .ref g.2.2.2.1), (1, .int x1), (2, .int x2)]) C.x C.b dX10_many_6 hl (by decide) rfl (fun ls hl => ?_)
  refine lv_iconst (v := 0) C.x C.b dX10_many_8 (by decide) ?_
  refine lv_istore (lv' := [(5, .int 0), (4, .int v_1), (3, .int 0), (0, .ref g.2.2.2.1), (1, .int x1), (2, .int x2)]) C.x C.b dX10_many_9 hl (by decide) rfl (fun ls hl => ?_)
  exact wT_many_11 C hw hRf hRl _ _ _ _ _ _ _ _ _ _ h hσ hS (lv_sub hl [3, 4, 5, 2, 1, 0] rfl)

theorem wT_sizeOf_138 {z : Int32 × twS} (C : CX p m meth c s args cX10_sizeOf 2 (some .int) RX10) (hw : WKt twL g A s s.heap) (hRf : 7 ≤ R.frames) (hRl : 161 ≤ R.locals) : ∀ (x1 : Int32) (σ : twS) (H : Heap) (locs : List Loc) (ls : Array Slot), bT_sizeOf_138 x1 σ = some z → TI g A σ H → va_S A s.heap H locs → lv_has ls 2 [(0, .ref g.2.2.2.1), (1, .int x1)] → W p l e R s m args below meth c H locs 0 0 (MQ below (TQ g A (some (.int z.1)) z.2) args s 0 0 A) (F0 m 138 ls []) := by
  intro x1 σ H locs ls h hσ hS hl
  unfold bT_sizeOf_138 at h
  refine lv_aload_n C.x C.b dX10_sizeOf_138 rfl (lv_at hl 0 rfl) ?_
  refine tw_call (y := yX10_setsOut) (bytes := cX10_setsOut) (maxL := 4) (fun _ => none) [] (fun _ => True)  C hw XB.tt (fun _ _ _ => trivial) hσ hS hl.1 h (fun vv ss ee => kT_setsOut l g A σ vv ss ee) (cwV 0 C.t (lw_V q2338 q2340 qs83 q159 q2341) rfl rfl rfl (by decide +kernel) ⟨Nat.le_trans (Nat.le_of_ble_eq_true rfl) hRf, Nat.le_trans (Nat.le_of_ble_eq_true rfl) hRl⟩) rfl rfl (Nat.le_of_ble_eq_true rfl) dX10_sizeOf_139 (fun _ σ_1 H locs h hσ hS => ?_)
  refine lv_aload_n C.x C.b dX10_sizeOf_142 rfl (lv_at hl 0 rfl) ?_
  refine lv_iload_n C.x C.b dX10_sizeOf_143 rfl (lv_at hl 1 rfl) ?_
  refine lv_bipush (v := 7) C.x C.b dX10_sizeOf_144 (by decide) ?_
  refine lv_isub C.x C.b dX10_sizeOf_146 ?_
  refine lv_iconst (v := -1) C.x C.b dX10_sizeOf_147 (by decide) ?_
  refine tw_call (y := yX10_many) (bytes := cX10_many) (maxL := 7) (fun v => some (.int v)) [.int (x1 - 7), .int (-1)] (fun _ => True)  C hw XB.tt (fun _ _ _ => trivial) hσ hS hl.1 h (fun vv ss ee => kT_many l g A (x1 - 7) (-1) σ_1 vv ss ee) (cwV 2 C.t (lw_V q2359 q2361 qs88 q159 q2362) rfl rfl rfl (by decide +kernel) ⟨Nat.le_trans (Nat.le_of_ble_eq_true rfl) hRf, Nat.le_trans (Nat.le_of_ble_eq_true rfl) hRl⟩) rfl rfl (Nat.le_of_ble_eq_true rfl) dX10_sizeOf_148 (fun v_2 σ_3 H locs h hσ hS => ?_)
  exact tw_iret C hσ hS h dX10_sizeOf_151

theorem kT_sizeOf (l : Launch) (g : twG) (A : Nat → Prop) (x1 : Int32) (σ : twS) (v : Int32) (σ1 : twS) (h : mT_sizeOf x1 σ = some (v, σ1)) : Met l yX10_sizeOf (ws_ yX10_sizeOf cX10_sizeOf 2 (some .int)) ({ frames := 7, cells := 0, slots := 0, locals := 161 }) (TPc twL g A [.ref g.2.2.2.1, .int x1] (fun _ => True) σ) (TQ g A (some (.int v)) σ1) 0 0 A := by
  refine Met.ofW (cc := cX10_sizeOf) (maxL := 2) (ret := (some .int)) (by decide) rfl ?_
  intro p e s m args below meth c s₁ B hml hv
  obtain ⟨rfl, hw, hX, hσ⟩ := hv
  have hts := atoms_spec (ws := (ws_ yX10_sizeOf cX10_sizeOf 2 (some .int))) B.pre
  have C : CX p m meth c s ([.ref g.2.2.2.1, .int x1] : List Value).toArray cX10_sizeOf 2 (some .int) RX10 := ⟨⟨B.exec, B.bytes, hml, findClass_of_methodNamed B.named, fun w h => hts w (List.mem_cons_of_mem _ h)⟩, B.returns, B.notSynchronized⟩
  have hRf : 7 ≤ (headSpec (ws_ yX10_sizeOf cX10_sizeOf 2 (some .int)) ({ frames := 7, cells := 0, slots := 0, locals := 161 })).room.frames := Nat.le_refl _
  have hRl : 161 ≤ (headSpec (ws_ yX10_sizeOf cX10_sizeOf 2 (some .int)) ({ frames := 7, cells := 0, slots := 0, locals := 161 })).room.locals := Nat.le_refl _
  generalize (headSpec (ws_ yX10_sizeOf cX10_sizeOf 2 (some .int)) ({ frames := 7, cells := 0, slots := 0, locals := 161 })).room = R at hRf hRl ⊢
  have hS : va_S A s.heap s.heap [] := va_S.rf
  have hl := lv_entry ([.ref g.2.2.2.1, .int x1]) (n := 2) (Nat.le_of_ble_eq_true rfl)
  rw [lg_entry_eq]
  generalize (lg_sl ([.ref g.2.2.2.1, .int x1]) ++ List.replicate (2 - (lg_sl ([.ref g.2.2.2.1, .int x1])).length) Slot.unset).toArray = ls at hl ⊢
  have hl : lv_has ls 2 [(0, .ref g.2.2.2.1), (1, .int x1)] := hl
  obtain ⟨z, hz⟩ : ∃ z, z = (v, σ1) := ⟨_, rfl⟩
  rw [← hz] at h
  rw [show v = z.1 by rw [hz], show σ1 = z.2 by rw [hz]]
  clear hz v σ1
  unfold mT_sizeOf at h
  refine lv_iload_n C.x C.b dX10_sizeOf_0 rfl (lv_at hl 1 rfl) ?_
  by_cases c_1 : x1 = 0
  · have h := ip c_1 h
    refine lv_tableIn (off := 71) (tgt := 72) C.x C.b dX10_sizeOf_1 (by rw [c_1]; decide) (by rw [c_1]; decide) (by rw [c_1]; rfl) (by decide) ?_
    refine lv_aload_n C.x C.b dX10_sizeOf_72 rfl (lv_at hl 0 rfl) ?_
    refine tw_gf0 C hw hσ q2215 dX10_sizeOf_73 ?_
    refine lv_iconst (v := 0) C.x C.b dX10_sizeOf_76 (by decide) ?_
    refine tw_ld0 C hw hσ h dX10_sizeOf_77 (fun v_2 h => ?_)
    exact tw_iret C hσ hS h dX10_sizeOf_78
  have h := iN c_1 h
  by_cases c_3 : x1 = 1
  · have h := ip c_3 h
    refine lv_tableIn (off := 78) (tgt := 79) C.x C.b dX10_sizeOf_1 (by rw [c_3]; decide) (by rw [c_3]; decide) (by rw [c_3]; rfl) (by decide) ?_
    refine lv_aload_n C.x C.b dX10_sizeOf_79 rfl (lv_at hl 0 rfl) ?_
    refine tw_gf0 C hw hσ q2215 dX10_sizeOf_80 ?_
    refine lv_iconst (v := 5) C.x C.b dX10_sizeOf_83 (by decide) ?_
    refine tw_ld0 C hw hσ h dX10_sizeOf_84 (fun v_4 h => ?_)
    exact tw_iret C hσ hS h dX10_sizeOf_85
  have h := iN c_3 h
  by_cases c_5 : x1 = 2
  · have h := ip c_5 h
    refine lv_tableIn (off := 85) (tgt := 86) C.x C.b dX10_sizeOf_1 (by rw [c_5]; decide) (by rw [c_5]; decide) (by rw [c_5]; rfl) (by decide) ?_
    refine lv_aload_n C.x C.b dX10_sizeOf_86 rfl (lv_at hl 0 rfl) ?_
    refine tw_gf0 C hw hσ q2215 dX10_sizeOf_87 ?_
    refine lv_bipush (v := 17) C.x C.b dX10_sizeOf_90 (by decide) ?_
    refine tw_ld0 C hw hσ h dX10_sizeOf_92 (fun v_6 h => ?_)
    exact tw_iret C hσ hS h dX10_sizeOf_93
  have h := iN c_5 h
  by_cases c_7 : x1 = 3
  · have h := ip c_7 h
    refine lv_tableIn (off := 93) (tgt := 94) C.x C.b dX10_sizeOf_1 (by rw [c_7]; decide) (by rw [c_7]; decide) (by rw [c_7]; rfl) (by decide) ?_
    refine lv_aload_n C.x C.b dX10_sizeOf_94 rfl (lv_at hl 0 rfl) ?_
    refine tw_call (y := yX10_cases) (bytes := cX10_cases) (maxL := 3) (fun v => some (.int v)) [] (fun _ => True)  C hw XB.tt (fun _ _ _ => trivial) hσ hS hl.1 h (fun vv ss ee => kT_cases l g A σ vv ss ee) (cwV 0 C.t (lw_V q2334 q2336 qs82 q159 q2337) rfl rfl rfl (by decide +kernel) ⟨Nat.le_trans (Nat.le_of_ble_eq_true rfl) hRf, Nat.le_trans (Nat.le_of_ble_eq_true rfl) hRl⟩) rfl rfl (Nat.le_of_ble_eq_true rfl) dX10_sizeOf_95 (fun v_8 σ_9 H locs h hσ hS => ?_)
    exact tw_iret C hσ hS h dX10_sizeOf_98
  have h := iN c_7 h
  by_cases c_10 : x1 = 4
  · have h := ip c_10 h
    refine lv_tableIn (off := 98) (tgt := 99) C.x C.b dX10_sizeOf_1 (by rw [c_10]; decide) (by rw [c_10]; decide) (by rw [c_10]; rfl) (by decide) ?_
    refine lv_aload_n C.x C.b dX10_sizeOf_99 rfl (lv_at hl 0 rfl) ?_
    refine tw_gf0 C hw hσ q2215 dX10_sizeOf_100 ?_
    refine lv_bipush (v := 6) C.x C.b dX10_sizeOf_103 (by decide) ?_
    refine tw_ld0 C hw hσ h dX10_sizeOf_105 (fun v_11 h => ?_)
    exact tw_iret C hσ hS h dX10_sizeOf_106
  have h := iN c_10 h
  by_cases c_12 : x1 = 5
  · have h := ip c_12 h
    refine lv_tableIn (off := 106) (tgt := 107) C.x C.b dX10_sizeOf_1 (by rw [c_12]; decide) (by rw [c_12]; decide) (by rw [c_12]; rfl) (by decide) ?_
    refine lv_aload_n C.x C.b dX10_sizeOf_107 rfl (lv_at hl 0 rfl) ?_
    refine tw_gf0 C hw hσ q2215 dX10_sizeOf_108 ?_
    refine lv_bipush (v := 7) C.x C.b dX10_sizeOf_111 (by decide) ?_
    refine tw_ld0 C hw hσ h dX10_sizeOf_113 (fun v_13 h => ?_)
    exact tw_iret C hσ hS h dX10_sizeOf_114
  have h := iN c_12 h
  by_cases c_14 : x1 = 6
  · have h := ip c_14 h
    refine lv_tableIn (off := 114) (tgt := 115) C.x C.b dX10_sizeOf_1 (by rw [c_14]; decide) (by rw [c_14]; decide) (by rw [c_14]; rfl) (by decide) ?_
    refine lv_aload_n C.x C.b dX10_sizeOf_115 rfl (lv_at hl 0 rfl) ?_
    refine tw_gf0 C hw hσ q2215 dX10_sizeOf_116 ?_
    refine lv_bipush (v := 8) C.x C.b dX10_sizeOf_119 (by decide) ?_
    refine tw_ld0 C hw hσ h dX10_sizeOf_121 (fun v_15 h => ?_)
    exact tw_iret C hσ hS h dX10_sizeOf_122
  have h := iN c_14 h
  by_cases c_16 : x1 = 11
  · have h := ip c_16 h
    refine lv_tableIn (off := 122) (tgt := 123) C.x C.b dX10_sizeOf_1 (by rw [c_16]; decide) (by rw [c_16]; decide) (by rw [c_16]; rfl) (by decide) ?_
    refine lv_aload_n C.x C.b dX10_sizeOf_123 rfl (lv_at hl 0 rfl) ?_
    refine tw_gf5 C hw hσ q2220 dX10_sizeOf_124 ?_
    exact tw_iret C hσ hS h dX10_sizeOf_127
  have h := iN c_16 h
  by_cases c_17 : x1 = 12
  · have h := ip c_17 h
    refine lv_tableIn (off := 127) (tgt := 128) C.x C.b dX10_sizeOf_1 (by rw [c_17]; decide) (by rw [c_17]; decide) (by rw [c_17]; rfl) (by decide) ?_
    refine lv_aload_n C.x C.b dX10_sizeOf_128 rfl (lv_at hl 0 rfl) ?_
    refine tw_gf9 C hw hσ q2224 dX10_sizeOf_129 ?_
    exact tw_iret C hσ hS h dX10_sizeOf_132
  have h := iN c_17 h
  by_cases c_18 : x1 = 13
  · have h := ip c_18 h
    refine lv_tableIn (off := 132) (tgt := 133) C.x C.b dX10_sizeOf_1 (by rw [c_18]; decide) (by rw [c_18]; decide) (by rw [c_18]; rfl) (by decide) ?_
    refine lv_aload_n C.x C.b dX10_sizeOf_133 rfl (lv_at hl 0 rfl) ?_
    refine tw_gf12 C hw hσ q2227 dX10_sizeOf_134 ?_
    exact tw_iret C hσ hS h dX10_sizeOf_137
  have h := iN c_18 h
  refine tw_tabD (tgt := 138) C.x C.b dX10_sizeOf_1 (by decide) (fun j hj => match j, hj with | 0, _ => Or.inr (lv_neT c_1 (by decide)) | 1, _ => Or.inr (lv_neT c_3 (by decide)) | 2, _ => Or.inr (lv_neT c_5 (by decide)) | 3, _ => Or.inr (lv_neT c_7 (by decide)) | 4, _ => Or.inr (lv_neT c_10 (by decide)) | 5, _ => Or.inr (lv_neT c_12 (by decide)) | 6, _ => Or.inr (lv_neT c_14 (by decide)) | 7, _ => Or.inl rfl | 8, _ => Or.inl rfl | 9, _ => Or.inl rfl | 10, _ => Or.inl rfl | 11, _ => Or.inr (lv_neT c_16 (by decide)) | 12, _ => Or.inr (lv_neT c_17 (by decide)) | 13, _ => Or.inr (lv_neT c_18 (by decide)) | j + 14, hj => absurd hj (Nat.not_lt_of_le (Nat.le_add_left _ _))) (by decide) ?_
  exact wT_sizeOf_138 C hw hRf hRl _ _ _ _ _ h hσ hS (lv_sub hl [0, 1] rfl)

theorem wT_size_16 {z : Int32 × twS} (C : CX p m meth c s args cX10_size 2 (some .int) RX10) (hw : WKt twL g A s s.heap) (hRf : 8 ≤ R.frames) (hRl : 182 ≤ R.locals) : ∀ (x1 : Int32) (s1 : Int32) (σ : twS) (H : Heap) (locs : List Loc) (ls : Array Slot), bT_size_16 x1 s1 σ = some z → TI g A σ H → va_S A s.heap H locs → lv_has ls 2 [(0, .ref g.2.2.2.1), (1, .int x1)] → W p l e R s m args below meth c H locs 0 0 (MQ below (TQ g A (some (.int z.1)) z.2) args s 0 0 A) (F0 m 16 ls [.int s1, .ref g.2.2.2.1]) := by
  intro x1 s1 σ H locs ls h hσ hS hl
  unfold bT_size_16 at h
  refine tw_call (y := yX10_throwsOne) (bytes := cX10_throwsOne) (maxL := 2) (fun v => some (.int v)) [.int s1] (fun _ => True)  C hw XB.tt (fun _ _ _ => trivial) hσ hS hl.1 h (fun vv ss ee => kT_throwsOne l g A s1 σ vv ss ee) (cwV 1 C.t (lw_V q2314 q2316 qs79 q159 q2317) rfl rfl rfl (by decide +kernel) ⟨Nat.le_trans (Nat.le_of_ble_eq_true rfl) hRf, Nat.le_trans (Nat.le_of_ble_eq_true rfl) hRl⟩) rfl rfl (Nat.le_of_ble_eq_true rfl) dX10_size_16 (fun v_1 σ_2 H locs h hσ hS => ?_)
  refine lv_if_eq (tgt := 26) C.x C.b dX10_size_19 (by decide) (fun c_3 => ?_) (fun c_3 => ?_)
  · have h := ip c_3 h
    refine lv_aload_n C.x C.b dX10_size_26 rfl (lv_at hl 0 rfl) ?_
    refine lv_iload_n C.x C.b dX10_size_27 rfl (lv_at hl 1 rfl) ?_
    refine tw_call (y := yX10_sizeOf) (bytes := cX10_sizeOf) (maxL := 2) (fun v => some (.int v)) [.int x1] (fun _ => True)  C hw XB.tt (fun _ _ _ => trivial) hσ hS hl.1 h (fun vv ss ee => kT_sizeOf l g A x1 σ_2 vv ss ee) (cwV 1 C.t (lw_V q2330 q2332 qs81 q159 q2333) rfl rfl rfl (by decide +kernel) ⟨Nat.le_trans (Nat.le_of_ble_eq_true rfl) hRf, Nat.le_trans (Nat.le_of_ble_eq_true rfl) hRl⟩) rfl rfl (Nat.le_of_ble_eq_true rfl) dX10_size_28 (fun v_4 σ_5 H locs h hσ hS => ?_)
    exact tw_iret C hσ hS h dX10_size_31
  · have h := iN c_3 h
    refine lv_iconst (v := 0) C.x C.b dX10_size_22 (by decide) ?_
    refine lv_goto (tgt := 31) C.x C.b dX10_size_23 (by decide) ?_
    exact tw_iret C hσ hS h dX10_size_31

theorem kT_size (l : Launch) (g : twG) (A : Nat → Prop) (x1 : Int32) (σ : twS) (v : Int32) (σ1 : twS) (h : mT_size x1 σ = some (v, σ1)) : Met l yX10_size (ws_ yX10_size cX10_size 2 (some .int)) ({ frames := 8, cells := 0, slots := 0, locals := 182 }) (TPc twL g A [.ref g.2.2.2.1, .int x1] (fun _ => True) σ) (TQ g A (some (.int v)) σ1) 0 0 A := by
  refine Met.ofW (cc := cX10_size) (maxL := 2) (ret := (some .int)) (by decide) rfl ?_
  intro p e s m args below meth c s₁ B hml hv
  obtain ⟨rfl, hw, hX, hσ⟩ := hv
  have hts := atoms_spec (ws := (ws_ yX10_size cX10_size 2 (some .int))) B.pre
  have C : CX p m meth c s ([.ref g.2.2.2.1, .int x1] : List Value).toArray cX10_size 2 (some .int) RX10 := ⟨⟨B.exec, B.bytes, hml, findClass_of_methodNamed B.named, fun w h => hts w (List.mem_cons_of_mem _ h)⟩, B.returns, B.notSynchronized⟩
  have hRf : 8 ≤ (headSpec (ws_ yX10_size cX10_size 2 (some .int)) ({ frames := 8, cells := 0, slots := 0, locals := 182 })).room.frames := Nat.le_refl _
  have hRl : 182 ≤ (headSpec (ws_ yX10_size cX10_size 2 (some .int)) ({ frames := 8, cells := 0, slots := 0, locals := 182 })).room.locals := Nat.le_refl _
  generalize (headSpec (ws_ yX10_size cX10_size 2 (some .int)) ({ frames := 8, cells := 0, slots := 0, locals := 182 })).room = R at hRf hRl ⊢
  have hS : va_S A s.heap s.heap [] := va_S.rf
  have hl := lv_entry ([.ref g.2.2.2.1, .int x1]) (n := 2) (Nat.le_of_ble_eq_true rfl)
  rw [lg_entry_eq]
  generalize (lg_sl ([.ref g.2.2.2.1, .int x1]) ++ List.replicate (2 - (lg_sl ([.ref g.2.2.2.1, .int x1])).length) Slot.unset).toArray = ls at hl ⊢
  have hl : lv_has ls 2 [(0, .ref g.2.2.2.1), (1, .int x1)] := hl
  obtain ⟨z, hz⟩ : ∃ z, z = (v, σ1) := ⟨_, rfl⟩
  rw [← hz] at h
  rw [show v = z.1 by rw [hz], show σ1 = z.2 by rw [hz]]
  clear hz v σ1
  unfold mT_size at h
  refine lv_aload_n C.x C.b dX10_size_0 rfl (lv_at hl 0 rfl) ?_
  refine lv_iload_n C.x C.b dX10_size_1 rfl (lv_at hl 1 rfl) ?_
  refine lv_iconst (v := 0) C.x C.b dX10_size_2 (by decide) ?_
  refine lv_bipush (v := 13) C.x C.b dX10_size_3 (by decide) ?_
  refine tw_callS (y := yX10_in) (bytes := cX10_in) (maxL := 3) (fun v => some (.int v)) [.int x1, .int 0, .int 13] C hw hσ hS hl.1 h (fun vv ss ee => kT_in l g A x1 0 13 σ vv ss ee) (va_cwS 3 C.t (lw_S q2136 q2137 q159 q2138) rfl rfl rfl (by decide +kernel) ⟨Nat.le_trans (Nat.le_of_ble_eq_true rfl) hRf, Nat.le_trans (Nat.le_of_ble_eq_true rfl) hRl⟩) rfl rfl (Nat.le_of_ble_eq_true rfl) dX10_size_5 (fun v_1 σ_2 H locs h hσ hS => ?_)
  refine lv_if_ne (tgt := 15) C.x C.b dX10_size_8 (by decide) (fun c_3 => ?_) (fun c_3 => ?_)
  · have h := iN c_3 h
    refine lv_iconst (v := 0) C.x C.b dX10_size_15 (by decide) ?_
    exact wT_size_16 C hw hRf hRl _ _ _ _ _ _ h hσ hS (lv_sub hl [0, 1] rfl)
  · have h := ip c_3 h
    refine lv_iconst (v := 1) C.x C.b dX10_size_11 (by decide) ?_
    refine lv_goto (tgt := 16) C.x C.b dX10_size_12 (by decide) ?_
    exact wT_size_16 C hw hRf hRl _ _ _ _ _ _ h hσ hS (lv_sub hl [0, 1] rfl)

theorem wT_values_14 {z : Int32 × twS} (C : CX p m meth c s args cX10_values 2 (some .int) RX10) (hw : WKt twL g A s s.heap) (hRf : 3 ≤ R.frames) (hRl : 67 ≤ R.locals) : ∀ (x1 : Int32) (s1 : Int32) (σ : twS) (H : Heap) (locs : List Loc) (ls : Array Slot), bT_values_14 x1 s1 σ = some z → TI g A σ H → va_S A s.heap H locs → lv_has ls 2 [(0, .ref g.2.2.2.1), (1, .int x1)] → W p l e R s m args below meth c H locs 0 0 (MQ below (TQ g A (some (.int z.1)) z.2) args s 0 0 A) (F0 m 14 ls [.int s1, .ref g.2.2.2.1]) := by
  intro x1 s1 σ H locs ls h hσ hS hl
  unfold bT_values_14 at h
  refine tw_call (y := yX10_throwsOne) (bytes := cX10_throwsOne) (maxL := 2) (fun v => some (.int v)) [.int s1] (fun _ => True)  C hw XB.tt (fun _ _ _ => trivial) hσ hS hl.1 h (fun vv ss ee => kT_throwsOne l g A s1 σ vv ss ee) (cwV 1 C.t (lw_V q2314 q2316 qs79 q159 q2317) rfl rfl rfl (by decide +kernel) ⟨Nat.le_trans (Nat.le_of_ble_eq_true rfl) hRf, Nat.le_trans (Nat.le_of_ble_eq_true rfl) hRl⟩) rfl rfl (Nat.le_of_ble_eq_true rfl) dX10_values_14 (fun v_1 σ_2 H locs h hσ hS => ?_)
  refine lv_if_eq (tgt := 24) C.x C.b dX10_values_17 (by decide) (fun c_3 => ?_) (fun c_3 => ?_)
  · have h := ip c_3 h
    refine lv_aload_n C.x C.b dX10_values_24 rfl (lv_at hl 0 rfl) ?_
    refine tw_gf0 C hw hσ q2215 dX10_values_25 ?_
    refine lv_iconst (v := 1) C.x C.b dX10_values_28 (by decide) ?_
    refine lv_iload_n C.x C.b dX10_values_29 rfl (lv_at hl 1 rfl) ?_
    refine lv_iadd C.x C.b dX10_values_30 ?_
    refine tw_ld0 C hw hσ h dX10_values_31 (fun v_4 h => ?_)
    exact tw_iret C hσ hS h dX10_values_32
  · have h := iN c_3 h
    refine lv_iconst (v := 0) C.x C.b dX10_values_20 (by decide) ?_
    refine lv_goto (tgt := 32) C.x C.b dX10_values_21 (by decide) ?_
    exact tw_iret C hσ hS h dX10_values_32

theorem kT_values (l : Launch) (g : twG) (A : Nat → Prop) (x1 : Int32) (σ : twS) (v : Int32) (σ1 : twS) (h : mT_values x1 σ = some (v, σ1)) : Met l yX10_values (ws_ yX10_values cX10_values 2 (some .int)) ({ frames := 3, cells := 0, slots := 0, locals := 67 }) (TPc twL g A [.ref g.2.2.2.1, .int x1] (fun _ => True) σ) (TQ g A (some (.int v)) σ1) 0 0 A := by
  refine Met.ofW (cc := cX10_values) (maxL := 2) (ret := (some .int)) (by decide) rfl ?_
  intro p e s m args below meth c s₁ B hml hv
  obtain ⟨rfl, hw, hX, hσ⟩ := hv
  have hts := atoms_spec (ws := (ws_ yX10_values cX10_values 2 (some .int))) B.pre
  have C : CX p m meth c s ([.ref g.2.2.2.1, .int x1] : List Value).toArray cX10_values 2 (some .int) RX10 := ⟨⟨B.exec, B.bytes, hml, findClass_of_methodNamed B.named, fun w h => hts w (List.mem_cons_of_mem _ h)⟩, B.returns, B.notSynchronized⟩
  have hRf : 3 ≤ (headSpec (ws_ yX10_values cX10_values 2 (some .int)) ({ frames := 3, cells := 0, slots := 0, locals := 67 })).room.frames := Nat.le_refl _
  have hRl : 67 ≤ (headSpec (ws_ yX10_values cX10_values 2 (some .int)) ({ frames := 3, cells := 0, slots := 0, locals := 67 })).room.locals := Nat.le_refl _
  generalize (headSpec (ws_ yX10_values cX10_values 2 (some .int)) ({ frames := 3, cells := 0, slots := 0, locals := 67 })).room = R at hRf hRl ⊢
  have hS : va_S A s.heap s.heap [] := va_S.rf
  have hl := lv_entry ([.ref g.2.2.2.1, .int x1]) (n := 2) (Nat.le_of_ble_eq_true rfl)
  rw [lg_entry_eq]
  generalize (lg_sl ([.ref g.2.2.2.1, .int x1]) ++ List.replicate (2 - (lg_sl ([.ref g.2.2.2.1, .int x1])).length) Slot.unset).toArray = ls at hl ⊢
  have hl : lv_has ls 2 [(0, .ref g.2.2.2.1), (1, .int x1)] := hl
  obtain ⟨z, hz⟩ : ∃ z, z = (v, σ1) := ⟨_, rfl⟩
  rw [← hz] at h
  rw [show v = z.1 by rw [hz], show σ1 = z.2 by rw [hz]]
  clear hz v σ1
  unfold mT_values at h
  refine lv_aload_n C.x C.b dX10_values_0 rfl (lv_at hl 0 rfl) ?_
  refine lv_aload_n C.x C.b dX10_values_1 rfl (lv_at hl 0 rfl) ?_
  refine lv_iload_n C.x C.b dX10_values_2 rfl (lv_at hl 1 rfl) ?_
  refine tw_call (y := yX10_isFact) (bytes := cX10_isFact) (maxL := 2) (fun v => some (.int v)) [.int x1] (fun _ => True)  C hw XB.tt (fun _ _ _ => trivial) hσ hS hl.1 h (fun vv ss ee => kT_isFact l g A x1 σ vv ss ee) (cwV 1 C.t (lw_V q2183 q2185 qs73 q159 q2186) rfl rfl rfl (by decide +kernel) ⟨Nat.le_trans (Nat.le_of_ble_eq_true rfl) hRf, Nat.le_trans (Nat.le_of_ble_eq_true rfl) hRl⟩) rfl rfl (Nat.le_of_ble_eq_true rfl) dX10_values_3 (fun v_1 σ_2 H locs h hσ hS => ?_)
  refine lv_if_ne (tgt := 13) C.x C.b dX10_values_6 (by decide) (fun c_3 => ?_) (fun c_3 => ?_)
  · have h := iN c_3 h
    refine lv_iconst (v := 0) C.x C.b dX10_values_13 (by decide) ?_
    exact wT_values_14 C hw hRf hRl _ _ _ _ _ _ h hσ hS (lv_sub hl [0, 1] rfl)
  · have h := ip c_3 h
    refine lv_iconst (v := 1) C.x C.b dX10_values_9 (by decide) ?_
    refine lv_goto (tgt := 14) C.x C.b dX10_values_10 (by decide) ?_
    exact wT_values_14 C hw hRf hRl _ _ _ _ _ _ h hσ hS (lv_sub hl [0, 1] rfl)

theorem kT_isCase (l : Launch) (g : twG) (A : Nat → Prop) (x1 : Int32) (σ : twS) (v : Int32) (σ1 : twS) (h : mT_isCase x1 σ = some (v, σ1)) : Met l yX10_isCase (ws_ yX10_isCase cX10_isCase 2 (some .boolean)) ({ frames := 2, cells := 0, slots := 0, locals := 46 }) (TPc twL g A [.ref g.2.2.2.1, .int x1] (fun _ => True) σ) (TQ g A (some (.int v)) σ1) 0 0 A := by
  refine Met.ofW (cc := cX10_isCase) (maxL := 2) (ret := (some .boolean)) (by decide) rfl ?_
  intro p e s m args below meth c s₁ B hml hv
  obtain ⟨rfl, hw, hX, hσ⟩ := hv
  have hts := atoms_spec (ws := (ws_ yX10_isCase cX10_isCase 2 (some .boolean))) B.pre
  have C : CX p m meth c s ([.ref g.2.2.2.1, .int x1] : List Value).toArray cX10_isCase 2 (some .boolean) RX10 := ⟨⟨B.exec, B.bytes, hml, findClass_of_methodNamed B.named, fun w h => hts w (List.mem_cons_of_mem _ h)⟩, B.returns, B.notSynchronized⟩
  have hRf : 2 ≤ (headSpec (ws_ yX10_isCase cX10_isCase 2 (some .boolean)) ({ frames := 2, cells := 0, slots := 0, locals := 46 })).room.frames := Nat.le_refl _
  have hRl : 46 ≤ (headSpec (ws_ yX10_isCase cX10_isCase 2 (some .boolean)) ({ frames := 2, cells := 0, slots := 0, locals := 46 })).room.locals := Nat.le_refl _
  generalize (headSpec (ws_ yX10_isCase cX10_isCase 2 (some .boolean)) ({ frames := 2, cells := 0, slots := 0, locals := 46 })).room = R at hRf hRl ⊢
  have hS : va_S A s.heap s.heap [] := va_S.rf
  have hl := lv_entry ([.ref g.2.2.2.1, .int x1]) (n := 2) (Nat.le_of_ble_eq_true rfl)
  rw [lg_entry_eq]
  generalize (lg_sl ([.ref g.2.2.2.1, .int x1]) ++ List.replicate (2 - (lg_sl ([.ref g.2.2.2.1, .int x1])).length) Slot.unset).toArray = ls at hl ⊢
  have hl : lv_has ls 2 [(0, .ref g.2.2.2.1), (1, .int x1)] := hl
  obtain ⟨z, hz⟩ : ∃ z, z = (v, σ1) := ⟨_, rfl⟩
  rw [← hz] at h
  rw [show v = z.1 by rw [hz], show σ1 = z.2 by rw [hz]]
  clear hz v σ1
  unfold mT_isCase at h
  refine lv_iload_n C.x C.b dX10_isCase_0 rfl (lv_at hl 1 rfl) ?_
  refine lv_iconst (v := 0) C.x C.b dX10_isCase_1 (by decide) ?_
  refine lv_aload_n C.x C.b dX10_isCase_2 rfl (lv_at hl 0 rfl) ?_
  refine tw_call (y := yX10_cases) (bytes := cX10_cases) (maxL := 3) (fun v => some (.int v)) [] (fun _ => True)  C hw XB.tt (fun _ _ _ => trivial) hσ hS hl.1 h (fun vv ss ee => kT_cases l g A σ vv ss ee) (cwV 0 C.t (lw_V q2334 q2336 qs82 q159 q2337) rfl rfl rfl (by decide +kernel) ⟨Nat.le_trans (Nat.le_of_ble_eq_true rfl) hRf, Nat.le_trans (Nat.le_of_ble_eq_true rfl) hRl⟩) rfl rfl (Nat.le_of_ble_eq_true rfl) dX10_isCase_3 (fun v_1 σ_2 H locs h hσ hS => ?_)
  refine lv_iconst (v := 1) C.x C.b dX10_isCase_6 (by decide) ?_
  refine lv_isub C.x C.b dX10_isCase_7 ?_
  refine tw_callS (y := yX10_in) (bytes := cX10_in) (maxL := 3) (fun v => some (.int v)) [.int x1, .int 0, .int (v_1 - 1)] C hw hσ hS hl.1 h (fun vv ss ee => kT_in l g A x1 0 (v_1 - 1) σ_2 vv ss ee) (va_cwS 3 C.t (lw_S q2136 q2137 q159 q2138) rfl rfl rfl (by decide +kernel) ⟨Nat.le_trans (Nat.le_of_ble_eq_true rfl) hRf, Nat.le_trans (Nat.le_of_ble_eq_true rfl) hRl⟩) rfl rfl (Nat.le_of_ble_eq_true rfl) dX10_isCase_8 (fun v_3 σ_4 H locs h hσ hS => ?_)
  exact tw_zret C hσ hS h dX10_isCase_11

theorem wT_throwsOne_2_18 {z : Int32 × twS} (C : CX p m meth c s args cX10_throwsOne_2 3 (some .boolean) RX10) (hw : WKt twL g A s s.heap) (hRf : 1 ≤ R.frames) (hRl : 24 ≤ R.locals) : ∀ (x1 : Int32) (x2 : Int32) (s1 : Int32) (σ : twS) (H : Heap) (locs : List Loc) (ls : Array Slot), bT_throwsOne_2_18 x1 x2 s1 σ = some z → TI g A σ H → va_S A s.heap H locs → lv_has ls 3 [(0, .ref g.2.2.2.1), (1, .int x1), (2, .int x2)] → W p l e R s m args below meth c H locs 0 0 (MQ below (TQ g A (some (.int z.1)) z.2) args s 0 0 A) (F0 m 18 ls [.int s1, .ref g.2.2.2.1]) := by
  intro x1 x2 s1 σ H locs ls h hσ hS hl
  unfold bT_throwsOne_2_18 at h
  refine tw_pf13 C hw hσ hS q2228 dX10_throwsOne_2_18 (fun H locs hσ hS => ?_)
  obtain ⟨σ_1, e_, h⟩ := nm_s h
  rw [← e_] at hσ
  clear e_
  refine lv_iload_n C.x C.b dX10_throwsOne_2_21 rfl (lv_at hl 1 rfl) ?_
  refine lv_if_ne (tgt := 29) C.x C.b dX10_throwsOne_2_22 (by decide) (fun c_2 => ?_) (fun c_2 => ?_)
  · have h := iN c_2 h
    refine lv_iconst (v := 1) C.x C.b dX10_throwsOne_2_29 (by decide) ?_
    refine lv_goto (tgt := 34) C.x C.b dX10_throwsOne_2_30 (by decide) ?_
    exact tw_zret C hσ hS h dX10_throwsOne_2_34
  · have h := ip c_2 h
    refine lv_iload_n C.x C.b dX10_throwsOne_2_25 rfl (lv_at hl 2 rfl) ?_
    refine lv_if_eq (tgt := 33) C.x C.b dX10_throwsOne_2_26 (by decide) (fun c_3 => ?_) (fun c_3 => ?_)
    · have h := ip c_3 h
      refine lv_iconst (v := 0) C.x C.b dX10_throwsOne_2_33 (by decide) ?_
      exact tw_zret C hσ hS h dX10_throwsOne_2_34
    · have h := iN c_3 h
      refine lv_iconst (v := 1) C.x C.b dX10_throwsOne_2_29 (by decide) ?_
      refine lv_goto (tgt := 34) C.x C.b dX10_throwsOne_2_30 (by decide) ?_
      exact tw_zret C hσ hS h dX10_throwsOne_2_34

theorem kT_throwsOne_2 (l : Launch) (g : twG) (A : Nat → Prop) (x1 : Int32) (x2 : Int32) (σ : twS) (v : Int32) (σ1 : twS) (h : mT_throwsOne_2 x1 x2 σ = some (v, σ1)) : Met l yX10_throwsOne_2 (ws_ yX10_throwsOne_2 cX10_throwsOne_2 3 (some .boolean)) ({ frames := 1, cells := 0, slots := 0, locals := 24 }) (TPc twL g A [.ref g.2.2.2.1, .int x1, .int x2] (fun _ => True) σ) (TQ g A (some (.int v)) σ1) 0 0 A := by
  refine Met.ofW (cc := cX10_throwsOne_2) (maxL := 3) (ret := (some .boolean)) (by decide) rfl ?_
  intro p e s m args below meth c s₁ B hml hv
  obtain ⟨rfl, hw, hX, hσ⟩ := hv
  have hts := atoms_spec (ws := (ws_ yX10_throwsOne_2 cX10_throwsOne_2 3 (some .boolean))) B.pre
  have C : CX p m meth c s ([.ref g.2.2.2.1, .int x1, .int x2] : List Value).toArray cX10_throwsOne_2 3 (some .boolean) RX10 := ⟨⟨B.exec, B.bytes, hml, findClass_of_methodNamed B.named, fun w h => hts w (List.mem_cons_of_mem _ h)⟩, B.returns, B.notSynchronized⟩
  have hRf : 1 ≤ (headSpec (ws_ yX10_throwsOne_2 cX10_throwsOne_2 3 (some .boolean)) ({ frames := 1, cells := 0, slots := 0, locals := 24 })).room.frames := Nat.le_refl _
  have hRl : 24 ≤ (headSpec (ws_ yX10_throwsOne_2 cX10_throwsOne_2 3 (some .boolean)) ({ frames := 1, cells := 0, slots := 0, locals := 24 })).room.locals := Nat.le_refl _
  generalize (headSpec (ws_ yX10_throwsOne_2 cX10_throwsOne_2 3 (some .boolean)) ({ frames := 1, cells := 0, slots := 0, locals := 24 })).room = R at hRf hRl ⊢
  have hS : va_S A s.heap s.heap [] := va_S.rf
  have hl := lv_entry ([.ref g.2.2.2.1, .int x1, .int x2]) (n := 3) (Nat.le_of_ble_eq_true rfl)
  rw [lg_entry_eq]
  generalize (lg_sl ([.ref g.2.2.2.1, .int x1, .int x2]) ++ List.replicate (3 - (lg_sl ([.ref g.2.2.2.1, .int x1, .int x2])).length) Slot.unset).toArray = ls at hl ⊢
  have hl : lv_has ls 3 [(0, .ref g.2.2.2.1), (1, .int x1), (2, .int x2)] := hl
  obtain ⟨z, hz⟩ : ∃ z, z = (v, σ1) := ⟨_, rfl⟩
  rw [← hz] at h
  rw [show v = z.1 by rw [hz], show σ1 = z.2 by rw [hz]]
  clear hz v σ1
  unfold mT_throwsOne_2 at h
  refine lv_aload_n C.x C.b dX10_throwsOne_2_0 rfl (lv_at hl 0 rfl) ?_
  refine lv_iload_n C.x C.b dX10_throwsOne_2_1 rfl (lv_at hl 1 rfl) ?_
  refine lv_if_eq (tgt := 9) C.x C.b dX10_throwsOne_2_2 (by decide) (fun c_1 => ?_) (fun c_1 => ?_)
  · have h := ip c_1 h
    refine lv_iload_n C.x C.b dX10_throwsOne_2_9 rfl (lv_at hl 2 rfl) ?_
    refine lv_if_eq (tgt := 17) C.x C.b dX10_throwsOne_2_10 (by decide) (fun c_2 => ?_) (fun c_2 => ?_)
    · have h := ip c_2 h
      refine lv_iconst (v := 0) C.x C.b dX10_throwsOne_2_17 (by decide) ?_
      exact wT_throwsOne_2_18 C hw hRf hRl _ _ _ _ _ _ _ h hσ hS (lv_sub hl [0, 1, 2] rfl)
    · have h := iN c_2 h
      refine lv_iconst (v := 2) C.x C.b dX10_throwsOne_2_13 (by decide) ?_
      refine lv_goto (tgt := 18) C.x C.b dX10_throwsOne_2_14 (by decide) ?_
      exact wT_throwsOne_2_18 C hw hRf hRl _ _ _ _ _ _ _ h hσ hS (lv_sub hl [0, 1, 2] rfl)
  · have h := iN c_1 h
    refine lv_iconst (v := 1) C.x C.b dX10_throwsOne_2_5 (by decide) ?_
    refine lv_goto (tgt := 18) C.x C.b dX10_throwsOne_2_6 (by decide) ?_
    exact wT_throwsOne_2_18 C hw hRf hRl _ _ _ _ _ _ _ h hσ hS (lv_sub hl [0, 1, 2] rfl)

theorem wT_valueIn_27 {z : Int32 × twS} (C : CX p m meth c s args cX10_valueIn 3 (some .int) RX10) (hw : WKt twL g A s s.heap) (hRf : 3 ≤ R.frames) (hRl : 67 ≤ R.locals) : ∀ (x1 : Int32) (x2 : Int32) (s1 : Int32) (s2 : Int32) (σ : twS) (H : Heap) (locs : List Loc) (ls : Array Slot), bT_valueIn_27 x1 x2 s1 s2 σ = some z → TI g A σ H → va_S A s.heap H locs → lv_has ls 3 [(0, .ref g.2.2.2.1), (1, .int x1), (2, .int x2)] → W p l e R s m args below meth c H locs 0 0 (MQ below (TQ g A (some (.int z.1)) z.2) args s 0 0 A) (F0 m 27 ls [.int s2, .int s1, .ref g.2.2.2.1]) := by
  intro x1 x2 s1 s2 σ H locs ls h hσ hS hl
  unfold bT_valueIn_27 at h
  refine tw_call (y := yX10_throwsOne_2) (bytes := cX10_throwsOne_2) (maxL := 3) (fun v => some (.int v)) [.int s1, .int s2] (fun _ => True)  C hw XB.tt (fun _ _ _ => trivial) hσ hS hl.1 h (fun vv ss ee => kT_throwsOne_2 l g A s1 s2 σ vv ss ee) (cwV 2 C.t (lw_V q2394 q2396 qs94 q159 q2397) rfl rfl rfl (by decide +kernel) ⟨Nat.le_trans (Nat.le_of_ble_eq_true rfl) hRf, Nat.le_trans (Nat.le_of_ble_eq_true rfl) hRl⟩) rfl rfl (Nat.le_of_ble_eq_true rfl) dX10_valueIn_27 (fun v_1 σ_2 H locs h hσ hS => ?_)
  refine lv_if_eq (tgt := 37) C.x C.b dX10_valueIn_30 (by decide) (fun c_3 => ?_) (fun c_3 => ?_)
  · have h := ip c_3 h
    refine lv_aload_n C.x C.b dX10_valueIn_37 rfl (lv_at hl 0 rfl) ?_
    refine lv_iload_n C.x C.b dX10_valueIn_38 rfl (lv_at hl 1 rfl) ?_
    refine lv_iload_n C.x C.b dX10_valueIn_39 rfl (lv_at hl 2 rfl) ?_
    refine tw_call (y := yX10_valueOf) (bytes := cX10_valueOf) (maxL := 5) (fun v => some (.int v)) [.int x1, .int x2] (fun _ => True)  C hw XB.tt (fun _ _ _ => trivial) hσ hS hl.1 h (fun vv ss ee => kT_valueOf l g A x1 x2 σ_2 vv ss ee) (cwV 2 C.t (lw_V q2355 q2357 qs87 q159 q2358) rfl rfl rfl (by decide +kernel) ⟨Nat.le_trans (Nat.le_of_ble_eq_true rfl) hRf, Nat.le_trans (Nat.le_of_ble_eq_true rfl) hRl⟩) rfl rfl (Nat.le_of_ble_eq_true rfl) dX10_valueIn_40 (fun v_4 σ_5 H locs h hσ hS => ?_)
    exact tw_iret C hσ hS h dX10_valueIn_43
  · have h := iN c_3 h
    refine lv_iconst (v := 0) C.x C.b dX10_valueIn_33 (by decide) ?_
    refine lv_goto (tgt := 43) C.x C.b dX10_valueIn_34 (by decide) ?_
    exact tw_iret C hσ hS h dX10_valueIn_43

theorem wT_valueIn_14 {z : Int32 × twS} (C : CX p m meth c s args cX10_valueIn 3 (some .int) RX10) (hw : WKt twL g A s s.heap) (hRf : 3 ≤ R.frames) (hRl : 67 ≤ R.locals) : ∀ (x1 : Int32) (x2 : Int32) (s1 : Int32) (σ : twS) (H : Heap) (locs : List Loc) (ls : Array Slot), bT_valueIn_14 x1 x2 s1 σ = some z → TI g A σ H → va_S A s.heap H locs → lv_has ls 3 [(0, .ref g.2.2.2.1), (1, .int x1), (2, .int x2)] → W p l e R s m args below meth c H locs 0 0 (MQ below (TQ g A (some (.int z.1)) z.2) args s 0 0 A) (F0 m 14 ls [.int s1, .ref g.2.2.2.1]) := by
  intro x1 x2 s1 σ H locs ls h hσ hS hl
  unfold bT_valueIn_14 at h
  refine lv_aload_n C.x C.b dX10_valueIn_14 rfl (lv_at hl 0 rfl) ?_
  refine lv_iload_n C.x C.b dX10_valueIn_15 rfl (lv_at hl 2 rfl) ?_
  refine tw_call (y := yX10_isFact) (bytes := cX10_isFact) (maxL := 2) (fun v => some (.int v)) [.int x2] (fun _ => True)  C hw XB.tt (fun _ _ _ => trivial) hσ hS hl.1 h (fun vv ss ee => kT_isFact l g A x2 σ vv ss ee) (cwV 1 C.t (lw_V q2183 q2185 qs73 q159 q2186) rfl rfl rfl (by decide +kernel) ⟨Nat.le_trans (Nat.le_of_ble_eq_true rfl) hRf, Nat.le_trans (Nat.le_of_ble_eq_true rfl) hRl⟩) rfl rfl (Nat.le_of_ble_eq_true rfl) dX10_valueIn_16 (fun v_1 σ_2 H locs h hσ hS => ?_)
  refine lv_if_ne (tgt := 26) C.x C.b dX10_valueIn_19 (by decide) (fun c_3 => ?_) (fun c_3 => ?_)
  · have h := iN c_3 h
    refine lv_iconst (v := 0) C.x C.b dX10_valueIn_26 (by decide) ?_
    exact wT_valueIn_27 C hw hRf hRl _ _ _ _ _ _ _ _ h hσ hS (lv_sub hl [0, 1, 2] rfl)
  · have h := ip c_3 h
    refine lv_iconst (v := 1) C.x C.b dX10_valueIn_22 (by decide) ?_
    refine lv_goto (tgt := 27) C.x C.b dX10_valueIn_23 (by decide) ?_
    exact wT_valueIn_27 C hw hRf hRl _ _ _ _ _ _ _ _ h hσ hS (lv_sub hl [0, 1, 2] rfl)

theorem kT_valueIn (l : Launch) (g : twG) (A : Nat → Prop) (x1 : Int32) (x2 : Int32) (σ : twS) (v : Int32) (σ1 : twS) (h : mT_valueIn x1 x2 σ = some (v, σ1)) : Met l yX10_valueIn (ws_ yX10_valueIn cX10_valueIn 3 (some .int)) ({ frames := 3, cells := 0, slots := 0, locals := 67 }) (TPc twL g A [.ref g.2.2.2.1, .int x1, .int x2] (fun _ => True) σ) (TQ g A (some (.int v)) σ1) 0 0 A := by
  refine Met.ofW (cc := cX10_valueIn) (maxL := 3) (ret := (some .int)) (by decide) rfl ?_
  intro p e s m args below meth c s₁ B hml hv
  obtain ⟨rfl, hw, hX, hσ⟩ := hv
  have hts := atoms_spec (ws := (ws_ yX10_valueIn cX10_valueIn 3 (some .int))) B.pre
  have C : CX p m meth c s ([.ref g.2.2.2.1, .int x1, .int x2] : List Value).toArray cX10_valueIn 3 (some .int) RX10 := ⟨⟨B.exec, B.bytes, hml, findClass_of_methodNamed B.named, fun w h => hts w (List.mem_cons_of_mem _ h)⟩, B.returns, B.notSynchronized⟩
  have hRf : 3 ≤ (headSpec (ws_ yX10_valueIn cX10_valueIn 3 (some .int)) ({ frames := 3, cells := 0, slots := 0, locals := 67 })).room.frames := Nat.le_refl _
  have hRl : 67 ≤ (headSpec (ws_ yX10_valueIn cX10_valueIn 3 (some .int)) ({ frames := 3, cells := 0, slots := 0, locals := 67 })).room.locals := Nat.le_refl _
  generalize (headSpec (ws_ yX10_valueIn cX10_valueIn 3 (some .int)) ({ frames := 3, cells := 0, slots := 0, locals := 67 })).room = R at hRf hRl ⊢
  have hS : va_S A s.heap s.heap [] := va_S.rf
  have hl := lv_entry ([.ref g.2.2.2.1, .int x1, .int x2]) (n := 3) (Nat.le_of_ble_eq_true rfl)
  rw [lg_entry_eq]
  generalize (lg_sl ([.ref g.2.2.2.1, .int x1, .int x2]) ++ List.replicate (3 - (lg_sl ([.ref g.2.2.2.1, .int x1, .int x2])).length) Slot.unset).toArray = ls at hl ⊢
  have hl : lv_has ls 3 [(0, .ref g.2.2.2.1), (1, .int x1), (2, .int x2)] := hl
  obtain ⟨z, hz⟩ : ∃ z, z = (v, σ1) := ⟨_, rfl⟩
  rw [← hz] at h
  rw [show v = z.1 by rw [hz], show σ1 = z.2 by rw [hz]]
  clear hz v σ1
  unfold mT_valueIn at h
  refine lv_aload_n C.x C.b dX10_valueIn_0 rfl (lv_at hl 0 rfl) ?_
  refine lv_aload_n C.x C.b dX10_valueIn_1 rfl (lv_at hl 0 rfl) ?_
  refine lv_iload_n C.x C.b dX10_valueIn_2 rfl (lv_at hl 1 rfl) ?_
  refine tw_call (y := yX10_isCase) (bytes := cX10_isCase) (maxL := 2) (fun v => some (.int v)) [.int x1] (fun _ => True)  C hw XB.tt (fun _ _ _ => trivial) hσ hS hl.1 h (fun vv ss ee => kT_isCase l g A x1 σ vv ss ee) (cwV 1 C.t (lw_V q2390 q2392 qs93 q159 q2393) rfl rfl rfl (by decide +kernel) ⟨Nat.le_trans (Nat.le_of_ble_eq_true rfl) hRf, Nat.le_trans (Nat.le_of_ble_eq_true rfl) hRl⟩) rfl rfl (Nat.le_of_ble_eq_true rfl) dX10_valueIn_3 (fun v_1 σ_2 H locs h hσ hS => ?_)
  refine lv_if_ne (tgt := 13) C.x C.b dX10_valueIn_6 (by decide) (fun c_3 => ?_) (fun c_3 => ?_)
  · have h := iN c_3 h
    refine lv_iconst (v := 0) C.x C.b dX10_valueIn_13 (by decide) ?_
    exact wT_valueIn_14 C hw hRf hRl _ _ _ _ _ _ _ h hσ hS (lv_sub hl [0, 1, 2] rfl)
  · have h := ip c_3 h
    refine lv_iconst (v := 1) C.x C.b dX10_valueIn_9 (by decide) ?_
    refine lv_goto (tgt := 14) C.x C.b dX10_valueIn_10 (by decide) ?_
    exact wT_valueIn_14 C hw hRf hRl _ _ _ _ _ _ _ h hσ hS (lv_sub hl [0, 1, 2] rfl)

theorem kT_isHeir (l : Launch) (g : twG) (A : Nat → Prop) (x1 : Int32) (σ : twS) (v : Int32) (σ1 : twS) (h : mT_isHeir x1 σ = some (v, σ1)) : Met l yX10_isHeir (ws_ yX10_isHeir cX10_isHeir 2 (some .boolean)) ({ frames := 2, cells := 0, slots := 0, locals := 46 }) (TPc twL g A [.ref g.2.2.2.1, .int x1] (fun _ => True) σ) (TQ g A (some (.int v)) σ1) 0 0 A := by
  refine Met.ofW (cc := cX10_isHeir) (maxL := 2) (ret := (some .boolean)) (by decide) rfl ?_
  intro p e s m args below meth c s₁ B hml hv
  obtain ⟨rfl, hw, hX, hσ⟩ := hv
  have hts := atoms_spec (ws := (ws_ yX10_isHeir cX10_isHeir 2 (some .boolean))) B.pre
  have C : CX p m meth c s ([.ref g.2.2.2.1, .int x1] : List Value).toArray cX10_isHeir 2 (some .boolean) RX10 := ⟨⟨B.exec, B.bytes, hml, findClass_of_methodNamed B.named, fun w h => hts w (List.mem_cons_of_mem _ h)⟩, B.returns, B.notSynchronized⟩
  have hRf : 2 ≤ (headSpec (ws_ yX10_isHeir cX10_isHeir 2 (some .boolean)) ({ frames := 2, cells := 0, slots := 0, locals := 46 })).room.frames := Nat.le_refl _
  have hRl : 46 ≤ (headSpec (ws_ yX10_isHeir cX10_isHeir 2 (some .boolean)) ({ frames := 2, cells := 0, slots := 0, locals := 46 })).room.locals := Nat.le_refl _
  generalize (headSpec (ws_ yX10_isHeir cX10_isHeir 2 (some .boolean)) ({ frames := 2, cells := 0, slots := 0, locals := 46 })).room = R at hRf hRl ⊢
  have hS : va_S A s.heap s.heap [] := va_S.rf
  have hl := lv_entry ([.ref g.2.2.2.1, .int x1]) (n := 2) (Nat.le_of_ble_eq_true rfl)
  rw [lg_entry_eq]
  generalize (lg_sl ([.ref g.2.2.2.1, .int x1]) ++ List.replicate (2 - (lg_sl ([.ref g.2.2.2.1, .int x1])).length) Slot.unset).toArray = ls at hl ⊢
  have hl : lv_has ls 2 [(0, .ref g.2.2.2.1), (1, .int x1)] := hl
  obtain ⟨z, hz⟩ : ∃ z, z = (v, σ1) := ⟨_, rfl⟩
  rw [← hz] at h
  rw [show v = z.1 by rw [hz], show σ1 = z.2 by rw [hz]]
  clear hz v σ1
  unfold mT_isHeir at h
  refine lv_iload_n C.x C.b dX10_isHeir_0 rfl (lv_at hl 1 rfl) ?_
  refine lv_iconst (v := 0) C.x C.b dX10_isHeir_1 (by decide) ?_
  refine lv_aload_n C.x C.b dX10_isHeir_2 rfl (lv_at hl 0 rfl) ?_
  refine tw_gf0 C hw hσ q2215 dX10_isHeir_3 ?_
  refine lv_iconst (v := 5) C.x C.b dX10_isHeir_6 (by decide) ?_
  refine tw_ld0 C hw hσ h dX10_isHeir_7 (fun v_1 h => ?_)
  refine lv_iconst (v := 1) C.x C.b dX10_isHeir_8 (by decide) ?_
  refine lv_isub C.x C.b dX10_isHeir_9 ?_
  refine tw_callS (y := yX10_in) (bytes := cX10_in) (maxL := 3) (fun v => some (.int v)) [.int x1, .int 0, .int (v_1 - 1)] C hw hσ hS hl.1 h (fun vv ss ee => kT_in l g A x1 0 (v_1 - 1) σ vv ss ee) (va_cwS 3 C.t (lw_S q2136 q2137 q159 q2138) rfl rfl rfl (by decide +kernel) ⟨Nat.le_trans (Nat.le_of_ble_eq_true rfl) hRf, Nat.le_trans (Nat.le_of_ble_eq_true rfl) hRl⟩) rfl rfl (Nat.le_of_ble_eq_true rfl) dX10_isHeir_10 (fun v_2 σ_3 H locs h hσ hS => ?_)
  exact tw_zret C hσ hS h dX10_isHeir_13

theorem wT_setOf_4 {z : Int32 × twS} (C : CX p m meth c s args cX10_setOf 4 (some .int) RX10) (hw : WKt twL g A s s.heap) (hRf : 4 ≤ R.frames) (hRl : 99 ≤ R.locals) : ∀ (n : Nat) (x1 : Int32) (x2 : Int32) (x3 : Int32) (σ : twS) (H : Heap) (locs : List Loc) (ls : Array Slot), bT_setOf_4 n x1 x2 x3 σ = some z → TI g A σ H → va_S A s.heap H locs → lv_has ls 4 [(0, .ref g.2.2.2.1), (1, .int x1), (2, .int x2), (3, .int x3)] → W p l e R s m args below meth c H locs 0 0 (MQ below (TQ g A (some (.int z.1)) z.2) args s 0 0 A) (F0 m 4 ls []) := by
  intro n
  induction n with
  | zero =>
    intro x1 x2 x3 σ H locs ls h
    cases h
  | succ n ih =>
    intro x1 x2 x3 σ H locs ls h hσ hS hl
    rw [bT_setOf_4] at h
    refine lv_iload_n C.x C.b dX10_setOf_4 rfl (lv_at hl 3 rfl) ?_
    refine lv_aload_n C.x C.b dX10_setOf_5 rfl (lv_at hl 0 rfl) ?_
    refine tw_gf0 C hw hσ q2215 dX10_setOf_6 ?_
    refine lv_bipush (v := 17) C.x C.b dX10_setOf_9 (by decide) ?_
    refine tw_ld0 C hw hσ h dX10_setOf_11 (fun v_1 h => ?_)
    refine lv_icmp_ge (tgt := 40) C.x C.b dX10_setOf_12 (by decide) (fun c_2 => ?_) (fun c_2 => ?_)
    · have h := ip c_2 h
      refine lv_iload_n C.x C.b dX10_setOf_40 rfl (lv_at hl 2 rfl) ?_
      exact tw_iret C hσ hS h dX10_setOf_41
    · have h := iN c_2 h
      refine lv_iload_n C.x C.b dX10_setOf_15 rfl (lv_at hl 2 rfl) ?_
      refine lv_aload_n C.x C.b dX10_setOf_16 rfl (lv_at hl 0 rfl) ?_
      refine lv_iload_n C.x C.b dX10_setOf_17 rfl (lv_at hl 3 rfl) ?_
      refine lv_iload_n C.x C.b dX10_setOf_18 rfl (lv_at hl 1 rfl) ?_
      refine tw_call (y := yX10_holds) (bytes := cX10_holds) (maxL := 6) (fun v => some (.int v)) [.int x3, .int x1] (fun _ => True)  C hw XB.tt (fun _ _ _ => trivial) hσ hS hl.1 h (fun vv ss ee => kT_holds l g A x3 x1 σ vv ss ee) (cwV 2 C.t (lw_V q2342 q2344 qs84 q159 q2345) rfl rfl rfl (by decide +kernel) ⟨Nat.le_trans (Nat.le_of_ble_eq_true rfl) hRf, Nat.le_trans (Nat.le_of_ble_eq_true rfl) hRl⟩) rfl rfl (Nat.le_of_ble_eq_true rfl) dX10_setOf_19 (fun v_3 σ_4 H locs h hσ hS => ?_)
      refine lv_if_eq (tgt := 31) C.x C.b dX10_setOf_22 (by decide) (fun c_5 => ?_) (fun c_5 => ?_)
      · have h := ip c_5 h
        refine lv_iconst (v := 0) C.x C.b dX10_setOf_31 (by decide) ?_
        refine lv_ior C.x C.b dX10_setOf_32 ?_
        refine tw_lt h (fun x2_6 h => ?_)
        refine lv_istore_n (lv' := [(2, .int x2_6), (0, .ref g.2.2.2.1), (1, .int x1), (3, .int x3)]) C.x C.b dX10_setOf_33 rfl hl (by decide) rfl (fun ls hl => ?_)
        obtain ⟨x3_7, e_, h⟩ := nm_s h
        refine lv_iinc (v := x3_7) (lv' := [(3, .int x3_7), (2, .int x2_6), (0, .ref g.2.2.2.1), (1, .int x1)]) C.x C.b dX10_setOf_34 hl (k := 3) rfl e_.symm (by decide) rfl (fun ls hl => ?_)
        refine lv_goto (tgt := 4) C.x C.b dX10_setOf_37 (by decide) ?_
        exact ih _ _ _ _ _ _ _ h hσ hS (lv_sub hl [2, 3, 1, 0] rfl)
      · have h := iN c_5 h
        refine lv_iconst (v := 1) C.x C.b dX10_setOf_25 (by decide) ?_
        refine lv_iload_n C.x C.b dX10_setOf_26 rfl (lv_at hl 3 rfl) ?_
        refine lv_ishl C.x C.b dX10_setOf_27 ?_
        refine lv_goto (tgt := 32) C.x C.b dX10_setOf_28 (by decide) ?_
        refine lv_ior C.x C.b dX10_setOf_32 ?_
        refine tw_lt h (fun x2_8 h => ?_)
        refine lv_istore_n (lv' := [(2, .int x2_8), (0, .ref g.2.2.2.1), (1, .int x1), (3, .int x3)]) C.x C.b dX10_setOf_33 rfl hl (by decide) rfl (fun ls hl => ?_)
        obtain ⟨x3_9, e_, h⟩ := nm_s h
        refine lv_iinc (v := x3_9) (lv' := [(3, .int x3_9), (2, .int x2_8), (0, .ref g.2.2.2.1), (1, .int x1)]) C.x C.b dX10_setOf_34 hl (k := 3) rfl e_.symm (by decide) rfl (fun ls hl => ?_)
        refine lv_goto (tgt := 4) C.x C.b dX10_setOf_37 (by decide) ?_
        exact ih _ _ _ _ _ _ _ h hσ hS (lv_sub hl [2, 3, 1, 0] rfl)

theorem kT_setOf (l : Launch) (g : twG) (A : Nat → Prop) (x1 : Int32) (σ : twS) (v : Int32) (σ1 : twS) (h : mT_setOf x1 σ = some (v, σ1)) : Met l yX10_setOf (ws_ yX10_setOf cX10_setOf 4 (some .int)) ({ frames := 4, cells := 0, slots := 0, locals := 99 }) (TPc twL g A [.ref g.2.2.2.1, .int x1] (fun _ => True) σ) (TQ g A (some (.int v)) σ1) 0 0 A := by
  refine Met.ofW (cc := cX10_setOf) (maxL := 4) (ret := (some .int)) (by decide) rfl ?_
  intro p e s m args below meth c s₁ B hml hv
  obtain ⟨rfl, hw, hX, hσ⟩ := hv
  have hts := atoms_spec (ws := (ws_ yX10_setOf cX10_setOf 4 (some .int))) B.pre
  have C : CX p m meth c s ([.ref g.2.2.2.1, .int x1] : List Value).toArray cX10_setOf 4 (some .int) RX10 := ⟨⟨B.exec, B.bytes, hml, findClass_of_methodNamed B.named, fun w h => hts w (List.mem_cons_of_mem _ h)⟩, B.returns, B.notSynchronized⟩
  have hRf : 4 ≤ (headSpec (ws_ yX10_setOf cX10_setOf 4 (some .int)) ({ frames := 4, cells := 0, slots := 0, locals := 99 })).room.frames := Nat.le_refl _
  have hRl : 99 ≤ (headSpec (ws_ yX10_setOf cX10_setOf 4 (some .int)) ({ frames := 4, cells := 0, slots := 0, locals := 99 })).room.locals := Nat.le_refl _
  generalize (headSpec (ws_ yX10_setOf cX10_setOf 4 (some .int)) ({ frames := 4, cells := 0, slots := 0, locals := 99 })).room = R at hRf hRl ⊢
  have hS : va_S A s.heap s.heap [] := va_S.rf
  have hl := lv_entry ([.ref g.2.2.2.1, .int x1]) (n := 4) (Nat.le_of_ble_eq_true rfl)
  rw [lg_entry_eq]
  generalize (lg_sl ([.ref g.2.2.2.1, .int x1]) ++ List.replicate (4 - (lg_sl ([.ref g.2.2.2.1, .int x1])).length) Slot.unset).toArray = ls at hl ⊢
  have hl : lv_has ls 4 [(0, .ref g.2.2.2.1), (1, .int x1)] := hl
  obtain ⟨z, hz⟩ : ∃ z, z = (v, σ1) := ⟨_, rfl⟩
  rw [← hz] at h
  rw [show v = z.1 by rw [hz], show σ1 = z.2 by rw [hz]]
  clear hz v σ1
  unfold mT_setOf at h
  refine lv_iconst (v := 0) C.x C.b dX10_setOf_0 (by decide) ?_
  refine lv_istore_n (lv' := [(2, .int 0), (0, .ref g.2.2.2.1), (1, .int x1)]) C.x C.b dX10_setOf_1 rfl hl (by decide) rfl (fun ls hl => ?_)
  refine lv_iconst (v := 0) C.x C.b dX10_setOf_2 (by decide) ?_
  refine lv_istore_n (lv' := [(3, .int 0), (2, .int 0), (0, .ref g.2.2.2.1), (1, .int x1)]) C.x C.b dX10_setOf_3 rfl hl (by decide) rfl (fun ls hl => ?_)
  exact wT_setOf_4 C hw hRf hRl _ _ _ _ _ _ _ _ h hσ hS (lv_sub hl [2, 3, 1, 0] rfl)

theorem kT_settles (l : Launch) (g : twG) (A : Nat → Prop) (x1 : Int32) (σ : twS) (v : Int32) (σ1 : twS) (h : mT_settles x1 σ = some (v, σ1)) : Met l yX10_settles (ws_ yX10_settles cX10_settles 2 (some .int)) ({ frames := 6, cells := 0, slots := 0, locals := 135 }) (TPc twL g A [.ref g.2.2.2.1, .int x1] (fun _ => True) σ) (TQ g A (some (.int v)) σ1) 0 0 A := by
  refine Met.ofW (cc := cX10_settles) (maxL := 2) (ret := (some .int)) (by decide) rfl ?_
  intro p e s m args below meth c s₁ B hml hv
  obtain ⟨rfl, hw, hX, hσ⟩ := hv
  have hts := atoms_spec (ws := (ws_ yX10_settles cX10_settles 2 (some .int))) B.pre
  have C : CX p m meth c s ([.ref g.2.2.2.1, .int x1] : List Value).toArray cX10_settles 2 (some .int) RX10 := ⟨⟨B.exec, B.bytes, hml, findClass_of_methodNamed B.named, fun w h => hts w (List.mem_cons_of_mem _ h)⟩, B.returns, B.notSynchronized⟩
  have hRf : 6 ≤ (headSpec (ws_ yX10_settles cX10_settles 2 (some .int)) ({ frames := 6, cells := 0, slots := 0, locals := 135 })).room.frames := Nat.le_refl _
  have hRl : 135 ≤ (headSpec (ws_ yX10_settles cX10_settles 2 (some .int)) ({ frames := 6, cells := 0, slots := 0, locals := 135 })).room.locals := Nat.le_refl _
  generalize (headSpec (ws_ yX10_settles cX10_settles 2 (some .int)) ({ frames := 6, cells := 0, slots := 0, locals := 135 })).room = R at hRf hRl ⊢
  have hS : va_S A s.heap s.heap [] := va_S.rf
  have hl := lv_entry ([.ref g.2.2.2.1, .int x1]) (n := 2) (Nat.le_of_ble_eq_true rfl)
  rw [lg_entry_eq]
  generalize (lg_sl ([.ref g.2.2.2.1, .int x1]) ++ List.replicate (2 - (lg_sl ([.ref g.2.2.2.1, .int x1])).length) Slot.unset).toArray = ls at hl ⊢
  have hl : lv_has ls 2 [(0, .ref g.2.2.2.1), (1, .int x1)] := hl
  obtain ⟨z, hz⟩ : ∃ z, z = (v, σ1) := ⟨_, rfl⟩
  rw [← hz] at h
  rw [show v = z.1 by rw [hz], show σ1 = z.2 by rw [hz]]
  clear hz v σ1
  unfold mT_settles at h
  refine lv_aload_n C.x C.b dX10_settles_0 rfl (lv_at hl 0 rfl) ?_
  refine lv_iload_n C.x C.b dX10_settles_1 rfl (lv_at hl 1 rfl) ?_
  refine tw_call (y := yX10_verdictOf) (bytes := cX10_verdictOf) (maxL := 3) (fun v => some (.int v)) [.int x1] (fun _ => True)  C hw XB.tt (fun _ _ _ => trivial) hσ hS hl.1 h (fun vv ss ee => kT_verdictOf l g A x1 σ vv ss ee) (cwV 1 C.t (lw_V q2363 q2365 qs89 q159 q2366) rfl rfl rfl (by decide +kernel) ⟨Nat.le_trans (Nat.le_of_ble_eq_true rfl) hRf, Nat.le_trans (Nat.le_of_ble_eq_true rfl) hRl⟩) rfl rfl (Nat.le_of_ble_eq_true rfl) dX10_settles_2 (fun v_1 σ_2 H locs h hσ hS => ?_)
  refine lv_if_ne (tgt := 19) C.x C.b dX10_settles_5 (by decide) (fun c_3 => ?_) (fun c_3 => ?_)
  · have h := iN c_3 h
    refine lv_iconst (v := -1) C.x C.b dX10_settles_19 (by decide) ?_
    exact tw_iret C hσ hS h dX10_settles_20
  · have h := ip c_3 h
    refine lv_aload_n C.x C.b dX10_settles_8 rfl (lv_at hl 0 rfl) ?_
    refine lv_iload_n C.x C.b dX10_settles_9 rfl (lv_at hl 1 rfl) ?_
    refine tw_call (y := yX10_unbeaten) (bytes := cX10_unbeaten) (maxL := 4) (fun v => some (.int v)) [.int x1] (fun _ => True)  C hw XB.tt (fun _ _ _ => trivial) hσ hS hl.1 h (fun vv ss ee => kT_unbeaten l g A x1 σ_2 vv ss ee) (cwV 1 C.t (lw_V q2367 q2369 qs90 q159 q2370) rfl rfl rfl (by decide +kernel) ⟨Nat.le_trans (Nat.le_of_ble_eq_true rfl) hRf, Nat.le_trans (Nat.le_of_ble_eq_true rfl) hRl⟩) rfl rfl (Nat.le_of_ble_eq_true rfl) dX10_settles_10 (fun v_4 σ_5 H locs h hσ hS => ?_)
    refine tw_callS (y := yX10_least) (bytes := cX10_least) (maxL := 2) (fun v => some (.int v)) [.int v_4] C hw hσ hS hl.1 h (fun vv ss ee => kT_least l g A v_4 σ_5 vv ss ee) (va_cwS 1 C.t (lw_S q2371 q2372 q159 q2373) rfl rfl rfl (by decide +kernel) ⟨Nat.le_trans (Nat.le_of_ble_eq_true rfl) hRf, Nat.le_trans (Nat.le_of_ble_eq_true rfl) hRl⟩) rfl rfl (Nat.le_of_ble_eq_true rfl) dX10_settles_13 (fun v_6 σ_7 H locs h hσ hS => ?_)
    refine lv_goto (tgt := 20) C.x C.b dX10_settles_16 (by decide) ?_
    exact tw_iret C hσ hS h dX10_settles_20

theorem wT_part_51 {z : Int32 × twS} (C : CX p m meth c s args cX10_part 5 (some .int) RX10) (hw : WKt twL g A s s.heap) (hRf : 3 ≤ R.frames) (hRl : 66 ≤ R.locals) : ∀ (n : Nat) (x1 : Int32) (x2 : Int32) (x3 : Int32) (x4 : Int32) (σ : twS) (H : Heap) (locs : List Loc) (ls : Array Slot), bT_part_51 n x1 x2 x3 x4 σ = some z → TI g A σ H → va_S A s.heap H locs → lv_has ls 5 [(0, .ref g.2.2.2.1), (1, .int x1), (2, .int x2), (3, .int x3), (4, .int x4)] → W p l e R s m args below meth c H locs 0 0 (MQ below (TQ g A (some (.int z.1)) z.2) args s 0 0 A) (F0 m 51 ls []) := by
  intro n
  induction n with
  | zero =>
    intro x1 x2 x3 x4 σ H locs ls h
    cases h
  | succ n ih =>
    intro x1 x2 x3 x4 σ H locs ls h hσ hS hl
    rw [bT_part_51] at h
    refine lv_iload C.x C.b dX10_part_51 (lv_at hl 4 rfl) ?_
    refine lv_aload_n C.x C.b dX10_part_53 rfl (lv_at hl 0 rfl) ?_
    refine tw_gf0 C hw hσ q2215 dX10_part_54 ?_
    refine lv_iconst (v := 5) C.x C.b dX10_part_57 (by decide) ?_
    refine tw_ld0 C hw hσ h dX10_part_58 (fun v_1 h => ?_)
    refine lv_icmp_ge (tgt := 103) C.x C.b dX10_part_59 (by decide) (fun c_2 => ?_) (fun c_2 => ?_)
    · have h := ip c_2 h
      refine lv_iload_n C.x C.b dX10_part_103 rfl (lv_at hl 3 rfl) ?_
      exact tw_iret C hσ hS h dX10_part_104
    · have h := iN c_2 h
      refine lv_iload_n C.x C.b dX10_part_62 rfl (lv_at hl 3 rfl) ?_
      refine lv_iload C.x C.b dX10_part_63 (lv_at hl 4 rfl) ?_
      refine lv_iload_n C.x C.b dX10_part_65 rfl (lv_at hl 2 rfl) ?_
      refine lv_icmp_ne (tgt := 73) C.x C.b dX10_part_66 (by decide) (fun c_3 => ?_) (fun c_3 => ?_)
      · have h := iN c_3 h
        refine lv_aload_n C.x C.b dX10_part_73 rfl (lv_at hl 0 rfl) ?_
        refine tw_gf0 C hw hσ q2215 dX10_part_74 ?_
        refine lv_bipush (v := 7) C.x C.b dX10_part_77 (by decide) ?_
        refine tw_ld0 C hw hσ h dX10_part_79 (fun v_4 h => ?_)
        refine lv_aload_n C.x C.b dX10_part_80 rfl (lv_at hl 0 rfl) ?_
        refine lv_iload_n C.x C.b dX10_part_81 rfl (lv_at hl 1 rfl) ?_
        refine lv_bipush (v := 29) C.x C.b dX10_part_82 (by decide) ?_
        refine lv_iload C.x C.b dX10_part_84 (lv_at hl 4 rfl) ?_
        refine lv_iadd C.x C.b dX10_part_86 ?_
        refine tw_call (y := yX10_of) (bytes := cX10_of) (maxL := 3) (fun v => some (.int v)) [.int x1, .int (29 + x4)] (fun _ => True)  C hw XB.tt (fun _ _ _ => trivial) hσ hS hl.1 h (fun vv ss ee => kT_of l g A x1 (29 + x4) σ vv ss ee) (cwV 2 C.t (lw_V q2346 q2348 qs85 q159 q2349) rfl rfl rfl (by decide +kernel) ⟨Nat.le_trans (Nat.le_of_ble_eq_true rfl) hRf, Nat.le_trans (Nat.le_of_ble_eq_true rfl) hRl⟩) rfl rfl (Nat.le_of_ble_eq_true rfl) dX10_part_87 (fun v_5 σ_6 H locs h hσ hS => ?_)
        refine lv_imul C.x C.b dX10_part_90 ?_
        refine lv_sipush (v := 27720) C.x C.b dX10_part_91 (by decide) ?_
        refine lv_idiv C.x C.b dX10_part_94 (by decide) ?_
        refine lv_isub C.x C.b dX10_part_95 ?_
        refine tw_lt h (fun x3_7 h => ?_)
        refine lv_istore_n (lv' := [(3, .int x3_7), (0, .ref g.2.2.2.1), (1, .int x1), (2, .int x2), (4, .int x4)]) C.x C.b dX10_part_96 rfl hl (by decide) rfl (fun ls hl => ?_)
        obtain ⟨x4_8, e_, h⟩ := nm_s h
        refine lv_iinc (v := x4_8) (lv' := [(4, .int x4_8), (3, .int x3_7), (0, .ref g.2.2.2.1), (1, .int x1), (2, .int x2)]) C.x C.b dX10_part_97 hl (k := 4) rfl e_.symm (by decide) rfl (fun ls hl => ?_)
        refine lv_goto (tgt := 51) C.x C.b dX10_part_100 (by decide) ?_
        exact ih _ _ _ _ _ _ _ _ h hσ hS (lv_sub hl [2, 3, 4, 1, 0] rfl)
      · have h := ip c_3 h
        refine lv_iconst (v := 0) C.x C.b dX10_part_69 (by decide) ?_
        refine lv_goto (tgt := 95) C.x C.b dX10_part_70 (by decide) ?_
        refine lv_isub C.x C.b dX10_part_95 ?_
        refine tw_lt h (fun x3_9 h => ?_)
        refine lv_istore_n (lv' := [(3, .int x3_9), (0, .ref g.2.2.2.1), (1, .int x1), (2, .int x2), (4, .int x4)]) C.x C.b dX10_part_96 rfl hl (by decide) rfl (fun ls hl => ?_)
        obtain ⟨x4_10, e_, h⟩ := nm_s h
        refine lv_iinc (v := x4_10) (lv' := [(4, .int x4_10), (3, .int x3_9), (0, .ref g.2.2.2.1), (1, .int x1), (2, .int x2)]) C.x C.b dX10_part_97 hl (k := 4) rfl e_.symm (by decide) rfl (fun ls hl => ?_)
        refine lv_goto (tgt := 51) C.x C.b dX10_part_100 (by decide) ?_
        exact ih _ _ _ _ _ _ _ _ h hσ hS (lv_sub hl [2, 3, 4, 1, 0] rfl)

theorem kT_part (l : Launch) (g : twG) (A : Nat → Prop) (x1 : Int32) (x2 : Int32) (σ : twS) (v : Int32) (σ1 : twS) (h : mT_part x1 x2 σ = some (v, σ1)) : Met l yX10_part (ws_ yX10_part cX10_part 5 (some .int)) ({ frames := 3, cells := 0, slots := 0, locals := 66 }) (TPc twL g A [.ref g.2.2.2.1, .int x1, .int x2] (fun _ => True) σ) (TQ g A (some (.int v)) σ1) 0 0 A := by
  refine Met.ofW (cc := cX10_part) (maxL := 5) (ret := (some .int)) (by decide) rfl ?_
  intro p e s m args below meth c s₁ B hml hv
  obtain ⟨rfl, hw, hX, hσ⟩ := hv
  have hts := atoms_spec (ws := (ws_ yX10_part cX10_part 5 (some .int))) B.pre
  have C : CX p m meth c s ([.ref g.2.2.2.1, .int x1, .int x2] : List Value).toArray cX10_part 5 (some .int) RX10 := ⟨⟨B.exec, B.bytes, hml, findClass_of_methodNamed B.named, fun w h => hts w (List.mem_cons_of_mem _ h)⟩, B.returns, B.notSynchronized⟩
  have hRf : 3 ≤ (headSpec (ws_ yX10_part cX10_part 5 (some .int)) ({ frames := 3, cells := 0, slots := 0, locals := 66 })).room.frames := Nat.le_refl _
  have hRl : 66 ≤ (headSpec (ws_ yX10_part cX10_part 5 (some .int)) ({ frames := 3, cells := 0, slots := 0, locals := 66 })).room.locals := Nat.le_refl _
  generalize (headSpec (ws_ yX10_part cX10_part 5 (some .int)) ({ frames := 3, cells := 0, slots := 0, locals := 66 })).room = R at hRf hRl ⊢
  have hS : va_S A s.heap s.heap [] := va_S.rf
  have hl := lv_entry ([.ref g.2.2.2.1, .int x1, .int x2]) (n := 5) (Nat.le_of_ble_eq_true rfl)
  rw [lg_entry_eq]
  generalize (lg_sl ([.ref g.2.2.2.1, .int x1, .int x2]) ++ List.replicate (5 - (lg_sl ([.ref g.2.2.2.1, .int x1, .int x2])).length) Slot.unset).toArray = ls at hl ⊢
  have hl : lv_has ls 5 [(0, .ref g.2.2.2.1), (1, .int x1), (2, .int x2)] := hl
  obtain ⟨z, hz⟩ : ∃ z, z = (v, σ1) := ⟨_, rfl⟩
  rw [← hz] at h
  rw [show v = z.1 by rw [hz], show σ1 = z.2 by rw [hz]]
  clear hz v σ1
  unfold mT_part at h
  refine lv_iload_n C.x C.b dX10_part_0 rfl (lv_at hl 1 rfl) ?_
  refine lv_iconst (v := -1) C.x C.b dX10_part_1 (by decide) ?_
  refine lv_icmp_ne (tgt := 7) C.x C.b dX10_part_2 (by decide) (fun c_1 => ?_) (fun c_1 => ?_)
  · have h := iN c_1 h
    refine lv_iload_n C.x C.b dX10_part_7 rfl (lv_at hl 2 rfl) ?_
    refine lv_aload_n C.x C.b dX10_part_8 rfl (lv_at hl 0 rfl) ?_
    refine tw_gf0 C hw hσ q2215 dX10_part_9 ?_
    refine lv_bipush (v := 6) C.x C.b dX10_part_12 (by decide) ?_
    refine tw_ld0 C hw hσ h dX10_part_14 (fun v_2 h => ?_)
    refine lv_icmp_eq (tgt := 40) C.x C.b dX10_part_15 (by decide) (fun c_3 => ?_) (fun c_3 => ?_)
    · have h := ip c_3 h
      refine lv_aload_n C.x C.b dX10_part_40 rfl (lv_at hl 0 rfl) ?_
      refine tw_gf0 C hw hσ q2215 dX10_part_41 ?_
      refine lv_bipush (v := 7) C.x C.b dX10_part_44 (by decide) ?_
      refine tw_ld0 C hw hσ h dX10_part_46 (fun v_4 h => ?_)
      refine lv_istore_n (lv' := [(3, .int v_4), (0, .ref g.2.2.2.1), (1, .int x1), (2, .int x2)]) C.x C.b dX10_part_47 rfl hl (by decide) rfl (fun ls hl => ?_)
      refine lv_iconst (v := 0) C.x C.b dX10_part_48 (by decide) ?_
      refine lv_istore (lv' := [(4, .int 0), (3, .int v_4), (0, .ref g.2.2.2.1), (1, .int x1), (2, .int x2)]) C.x C.b dX10_part_49 hl (by decide) rfl (fun ls hl => ?_)
      exact wT_part_51 C hw hRf hRl _ _ _ _ _ _ _ _ _ h hσ hS (lv_sub hl [2, 3, 4, 1, 0] rfl)
    · have h := iN c_3 h
      refine lv_aload_n C.x C.b dX10_part_18 rfl (lv_at hl 0 rfl) ?_
      refine tw_gf0 C hw hσ q2215 dX10_part_19 ?_
      refine lv_bipush (v := 7) C.x C.b dX10_part_22 (by decide) ?_
      refine tw_ld0 C hw hσ h dX10_part_24 (fun v_5 h => ?_)
      refine lv_aload_n C.x C.b dX10_part_25 rfl (lv_at hl 0 rfl) ?_
      refine lv_iload_n C.x C.b dX10_part_26 rfl (lv_at hl 1 rfl) ?_
      refine lv_bipush (v := 29) C.x C.b dX10_part_27 (by decide) ?_
      refine lv_iload_n C.x C.b dX10_part_29 rfl (lv_at hl 2 rfl) ?_
      refine lv_iadd C.x C.b dX10_part_30 ?_
      refine tw_call (y := yX10_of) (bytes := cX10_of) (maxL := 3) (fun v => some (.int v)) [.int x1, .int (29 + x2)] (fun _ => True)  C hw XB.tt (fun _ _ _ => trivial) hσ hS hl.1 h (fun vv ss ee => kT_of l g A x1 (29 + x2) σ vv ss ee) (cwV 2 C.t (lw_V q2346 q2348 qs85 q159 q2349) rfl rfl rfl (by decide +kernel) ⟨Nat.le_trans (Nat.le_of_ble_eq_true rfl) hRf, Nat.le_trans (Nat.le_of_ble_eq_true rfl) hRl⟩) rfl rfl (Nat.le_of_ble_eq_true rfl) dX10_part_31 (fun v_6 σ_7 H locs h hσ hS => ?_)
      refine lv_imul C.x C.b dX10_part_34 ?_
      refine lv_sipush (v := 27720) C.x C.b dX10_part_35 (by decide) ?_
      refine lv_idiv C.x C.b dX10_part_38 (by decide) ?_
      exact tw_iret C hσ hS h dX10_part_39
  · have h := ip c_1 h
    refine lv_iconst (v := 0) C.x C.b dX10_part_5 (by decide) ?_
    exact tw_iret C hσ hS h dX10_part_6

theorem kT_duty (l : Launch) (g : twG) (A : Nat → Prop) (x1 : Int32) (x2 : Int32) (σ : twS) (v : Int32) (σ1 : twS) (h : mT_duty x1 x2 σ = some (v, σ1)) : Met l yX10_duty (ws_ yX10_duty cX10_duty 4 (some .int)) ({ frames := 4, cells := 0, slots := 0, locals := 90 }) (TPc twL g A [.ref g.2.2.2.1, .int x1, .int x2] (fun _ => True) σ) (TQ g A (some (.int v)) σ1) 0 0 A := by
  refine Met.ofW (cc := cX10_duty) (maxL := 4) (ret := (some .int)) (by decide) rfl ?_
  intro p e s m args below meth c s₁ B hml hv
  obtain ⟨rfl, hw, hX, hσ⟩ := hv
  have hts := atoms_spec (ws := (ws_ yX10_duty cX10_duty 4 (some .int))) B.pre
  have C : CX p m meth c s ([.ref g.2.2.2.1, .int x1, .int x2] : List Value).toArray cX10_duty 4 (some .int) RX10 := ⟨⟨B.exec, B.bytes, hml, findClass_of_methodNamed B.named, fun w h => hts w (List.mem_cons_of_mem _ h)⟩, B.returns, B.notSynchronized⟩
  have hRf : 4 ≤ (headSpec (ws_ yX10_duty cX10_duty 4 (some .int)) ({ frames := 4, cells := 0, slots := 0, locals := 90 })).room.frames := Nat.le_refl _
  have hRl : 90 ≤ (headSpec (ws_ yX10_duty cX10_duty 4 (some .int)) ({ frames := 4, cells := 0, slots := 0, locals := 90 })).room.locals := Nat.le_refl _
  generalize (headSpec (ws_ yX10_duty cX10_duty 4 (some .int)) ({ frames := 4, cells := 0, slots := 0, locals := 90 })).room = R at hRf hRl ⊢
  have hS : va_S A s.heap s.heap [] := va_S.rf
  have hl := lv_entry ([.ref g.2.2.2.1, .int x1, .int x2]) (n := 4) (Nat.le_of_ble_eq_true rfl)
  rw [lg_entry_eq]
  generalize (lg_sl ([.ref g.2.2.2.1, .int x1, .int x2]) ++ List.replicate (4 - (lg_sl ([.ref g.2.2.2.1, .int x1, .int x2])).length) Slot.unset).toArray = ls at hl ⊢
  have hl : lv_has ls 4 [(0, .ref g.2.2.2.1), (1, .int x1), (2, .int x2)] := hl
  obtain ⟨z, hz⟩ : ∃ z, z = (v, σ1) := ⟨_, rfl⟩
  rw [← hz] at h
  rw [show v = z.1 by rw [hz], show σ1 = z.2 by rw [hz]]
  clear hz v σ1
  unfold mT_duty at h
  refine lv_aload_n C.x C.b dX10_duty_0 rfl (lv_at hl 0 rfl) ?_
  refine lv_iload_n C.x C.b dX10_duty_1 rfl (lv_at hl 1 rfl) ?_
  refine lv_iload_n C.x C.b dX10_duty_2 rfl (lv_at hl 2 rfl) ?_
  refine tw_call (y := yX10_part) (bytes := cX10_part) (maxL := 5) (fun v => some (.int v)) [.int x1, .int x2] (fun _ => True)  C hw XB.tt (fun _ _ _ => trivial) hσ hS hl.1 h (fun vv ss ee => kT_part l g A x1 x2 σ vv ss ee) (cwV 2 C.t (lw_V q2418 q2420 qs99 q159 q2421) rfl rfl rfl (by decide +kernel) ⟨Nat.le_trans (Nat.le_of_ble_eq_true rfl) hRf, Nat.le_trans (Nat.le_of_ble_eq_true rfl) hRl⟩) rfl rfl (Nat.le_of_ble_eq_true rfl) dX10_duty_3 (fun v_1 σ_2 H locs h hσ hS => ?_)
  refine lv_aload_n C.x C.b dX10_duty_6 rfl (lv_at hl 0 rfl) ?_
  refine tw_gf0 C hw hσ q2215 dX10_duty_7 ?_
  refine lv_bipush (v := 9) C.x C.b dX10_duty_10 (by decide) ?_
  refine lv_iconst (v := 2) C.x C.b dX10_duty_12 (by decide) ?_
  refine lv_iload_n C.x C.b dX10_duty_13 rfl (lv_at hl 2 rfl) ?_
  refine lv_imul C.x C.b dX10_duty_14 ?_
  refine lv_iadd C.x C.b dX10_duty_15 ?_
  refine tw_ld0 C hw hσ h dX10_duty_16 (fun v_3 h => ?_)
  refine lv_isub C.x C.b dX10_duty_17 ?_
  refine tw_lt h (fun x3_4 h => ?_)
  refine lv_istore_n (lv' := [(3, .int x3_4), (0, .ref g.2.2.2.1), (1, .int x1), (2, .int x2)]) C.x C.b dX10_duty_18 rfl hl (by decide) rfl (fun ls hl => ?_)
  refine lv_iload_n C.x C.b dX10_duty_19 rfl (lv_at hl 0 rfl) ?_
  refine lv_if_le (tgt := 44) C.x C.b dX10_duty_20 (by decide) (fun c_5 => ?_) (fun c_5 => ?_)
  · have h := ip c_5 h
    refine lv_iconst (v := 0) C.x C.b dX10_duty_44 (by decide) ?_
    exact tw_iret C hσ hS h dX10_duty_45
  · have h := iN c_5 h
    refine lv_iload_n C.x C.b dX10_duty_23 rfl (lv_at hl 0 rfl) ?_
    refine lv_aload_n C.x C.b dX10_duty_24 rfl (lv_at hl 1 rfl) ?_
    refine tw_gf0 C hw hσ q2215 dX10_duty_25 ?_
    refine lv_bipush (v := 9) C.x C.b dX10_duty_28 (by decide) ?_
    refine lv_iconst (v := 2) C.x C.b dX10_duty_30 (by decide) ?_
    refine lv_iload_n C.x C.b dX10_duty_31 rfl (lv_at hl 3 rfl) ?_
    refine lv_imul C.x C.b dX10_duty_32 ?_
    refine lv_iadd C.x C.b dX10_duty_33 ?_
    refine lv_iconst (v := 1) C.x C.b dX10_duty_34 (by decide) ?_
    refine lv_iadd C.x C.b dX10_duty_35 ?_
    refine tw_ld0 C hw hσ h dX10_duty_36 (fun v_6 h => ?_)
    refine lv_imul C.x C.b dX10_duty_37 ?_
    refine lv_bipush (v := 100) C.x C.b dX10_duty_38 (by decide) ?_
    refine lv_idiv C.x C.b dX10_duty_40 (by decide) ?_
    refine lv_goto (tgt := 45) C.x C.b dX10_duty_41 (by decide) ?_
    exact tw_iret C hσ hS h dX10_duty_45

theorem wT_extreme_15 {z : Int32 × twS} (C : CX p m meth c s args cX10_extreme 8 (some .int) RX10) (hw : WKt twL g A s s.heap) (hRf : 7 ≤ R.frames) (hRl : 156 ≤ R.locals) : ∀ (n : Nat) (x1 : Int32) (x2 : Int32) (x3 : Int32) (x4 : Int32) (x5 : Int32) (σ : twS) (H : Heap) (locs : List Loc) (ls : Array Slot), bT_extreme_15 n x1 x2 x3 x4 x5 σ = some z → TI g A σ H → va_S A s.heap H locs → lv_has ls 8 [(0, .ref g.2.2.2.1), (1, .int x1), (2, .int x2), (3, .int x3), (4, .int x4), (5, .int x5)] → W p l e R s m args below meth c H locs 0 0 (MQ below (TQ g A (some (.int z.1)) z.2) args s 0 0 A) (F0 m 15 ls []) := by
  intro n
  induction n with
  | zero =>
    intro x1 x2 x3 x4 x5 σ H locs ls h
    cases h
  | succ n ih =>
    intro x1 x2 x3 x4 x5 σ H locs ls h hσ hS hl
    rw [bT_extreme_15] at h
    refine lv_iload C.x C.b dX10_extreme_15 (lv_at hl 5 rfl) ?_
    refine lv_iload C.x C.b dX10_extreme_17 (lv_at hl 4 rfl) ?_
    refine lv_icmp_ge (tgt := 89) C.x C.b dX10_extreme_19 (by decide) (fun c_1 => ?_) (fun c_1 => ?_)
    · have h := ip c_1 h
      refine lv_iload_n C.x C.b dX10_extreme_89 rfl (lv_at hl 3 rfl) ?_
      exact tw_iret C hσ hS h dX10_extreme_90
    · have h := iN c_1 h
      refine lv_aload_n C.x C.b dX10_extreme_22 rfl (lv_at hl 0 rfl) ?_
      refine lv_aload_n C.x C.b dX10_extreme_23 rfl (lv_at hl 0 rfl) ?_
      refine tw_gf15 C hw hσ q2230 dX10_extreme_24 ?_
      refine lv_iload C.x C.b dX10_extreme_27 (lv_at hl 5 rfl) ?_
      refine tw_ld15 C hw hσ h dX10_extreme_29 (fun v_2 h => ?_)
      refine tw_call (y := yX10_settles) (bytes := cX10_settles) (maxL := 2) (fun v => some (.int v)) [.int v_2] (fun _ => True)  C hw XB.tt (fun _ _ _ => trivial) hσ hS hl.1 h (fun vv ss ee => kT_settles l g A v_2 σ vv ss ee) (cwV 1 C.t (lw_V q2414 q2416 qs98 q159 q2417) rfl rfl rfl (by decide +kernel) ⟨Nat.le_trans (Nat.le_of_ble_eq_true rfl) hRf, Nat.le_trans (Nat.le_of_ble_eq_true rfl) hRl⟩) rfl rfl (Nat.le_of_ble_eq_true rfl) dX10_extreme_30 (fun v_3 σ_4 H locs h hσ hS => ?_)
      refine lv_istore (lv' := [(6, .int v_3), (0, .ref g.2.2.2.1), (1, .int x1), (2, .int x2), (3, .int x3), (4, .int x4), (5, .int x5)]) C.x C.b dX10_extreme_33 hl (by decide) rfl (fun ls hl => ?_)
      refine lv_iload C.x C.b dX10_extreme_35 (lv_at hl 0 rfl) ?_
      refine lv_iconst (v := -1) C.x C.b dX10_extreme_37 (by decide) ?_
      refine lv_icmp_ne (tgt := 44) C.x C.b dX10_extreme_38 (by decide) (fun c_5 => ?_) (fun c_5 => ?_)
      · have h := iN c_5 h
        refine lv_aload_n C.x C.b dX10_extreme_44 rfl (lv_at hl 1 rfl) ?_
        refine lv_iload C.x C.b dX10_extreme_45 (lv_at hl 0 rfl) ?_
        refine lv_iload_n C.x C.b dX10_extreme_47 rfl (lv_at hl 2 rfl) ?_
        refine tw_call (y := yX10_part) (bytes := cX10_part) (maxL := 5) (fun v => some (.int v)) [.int v_3, .int x1] (fun _ => True)  C hw XB.tt (fun _ _ _ => trivial) hσ hS hl.1 h (fun vv ss ee => kT_part l g A v_3 x1 σ_4 vv ss ee) (cwV 2 C.t (lw_V q2418 q2420 qs99 q159 q2421) rfl rfl rfl (by decide +kernel) ⟨Nat.le_trans (Nat.le_of_ble_eq_true rfl) hRf, Nat.le_trans (Nat.le_of_ble_eq_true rfl) hRl⟩) rfl rfl (Nat.le_of_ble_eq_true rfl) dX10_extreme_48 (fun v_6 σ_7 H locs h hσ hS => ?_)
        refine lv_istore (lv' := [(7, .int v_6), (6, .int v_3), (0, .ref g.2.2.2.1), (1, .int x1), (2, .int x2), (3, .int x3), (4, .int x4), (5, .int x5)]) C.x C.b dX10_extreme_51 hl (by decide) rfl (fun ls hl => ?_)
        refine lv_iload_n C.x C.b dX10_extreme_53 rfl (lv_at hl 5 rfl) ?_
        refine lv_iconst (v := -1) C.x C.b dX10_extreme_54 (by decide) ?_
        refine lv_icmp_ne (tgt := 63) C.x C.b dX10_extreme_55 (by decide) (fun c_8 => ?_) (fun c_8 => ?_)
        · have h := iN c_8 h
          refine lv_iload_n C.x C.b dX10_extreme_63 rfl (lv_at hl 4 rfl) ?_
          refine lv_if_eq (tgt := 76) C.x C.b dX10_extreme_64 (by decide) (fun c_9 => ?_) (fun c_9 => ?_)
          · have h := ip c_9 h
            refine lv_iload_n C.x C.b dX10_extreme_76 rfl (lv_at hl 5 rfl) ?_
            refine lv_iload C.x C.b dX10_extreme_77 (lv_at hl 0 rfl) ?_
            refine va_mmin C.x C.b (C.n.trans hl.1.symm) C.o (C.t _ q2430) (C.t _ q351) (C.t _ q136) (C.t _ q352) (Nat.le_trans (Nat.le_of_ble_eq_true rfl) hRf) (Nat.le_trans (Nat.le_of_ble_eq_true rfl) hRl) (Nat.zero_le _) (Nat.zero_le _) dX10_extreme_79 ?_
            refine tw_lt h (fun u_10 h => ?_)
            refine lv_istore_n (lv' := [(3, .int u_10), (7, .int v_6), (6, .int v_3), (0, .ref g.2.2.2.1), (1, .int x1), (2, .int x2), (4, .int x4), (5, .int x5)]) C.x C.b dX10_extreme_82 rfl hl (by decide) rfl (fun ls hl => ?_)
            obtain ⟨x5_11, e_, h⟩ := nm_s h
            refine lv_iinc (v := x5_11) (lv' := [(5, .int x5_11), (3, .int u_10), (7, .int v_6), (6, .int v_3), (0, .ref g.2.2.2.1), (1, .int x1), (2, .int x2), (4, .int x4)]) C.x C.b dX10_extreme_83 hl (k := 7) rfl e_.symm (by decide) rfl (fun ls hl => ?_)
            refine lv_goto (tgt := 15) C.x C.b dX10_extreme_86 (by decide) ?_
            exact ih _ _ _ _ _ _ _ _ _ h hσ hS (lv_sub hl [4, 5, 6, 1, 7, 0] rfl)
          · have h := iN c_9 h
            refine lv_iload_n C.x C.b dX10_extreme_67 rfl (lv_at hl 5 rfl) ?_
            refine lv_iload C.x C.b dX10_extreme_68 (lv_at hl 0 rfl) ?_
            refine va_mmax C.x C.b (C.n.trans hl.1.symm) C.o (C.t _ q2350) (C.t _ q465) (C.t _ q136) (C.t _ q466) (Nat.le_trans (Nat.le_of_ble_eq_true rfl) hRf) (Nat.le_trans (Nat.le_of_ble_eq_true rfl) hRl) (Nat.zero_le _) (Nat.zero_le _) dX10_extreme_70 ?_
            refine tw_lt h (fun u_12 h => ?_)
            refine lv_goto (tgt := 82) C.x C.b dX10_extreme_73 (by decide) ?_
            refine lv_istore_n (lv' := [(3, .int u_12), (7, .int v_6), (6, .int v_3), (0, .ref g.2.2.2.1), (1, .int x1), (2, .int x2), (4, .int x4), (5, .int x5)]) C.x C.b dX10_extreme_82 rfl hl (by decide) rfl (fun ls hl => ?_)
            obtain ⟨x5_13, e_, h⟩ := nm_s h
            refine lv_iinc (v := x5_13) (lv' := [(5, .int x5_13), (3, .int u_12), (7, .int v_6), (6, .int v_3), (0, .ref g.2.2.2.1), (1, .int x1), (2, .int x2), (4, .int x4)]) C.x C.b dX10_extreme_83 hl (k := 7) rfl e_.symm (by decide) rfl (fun ls hl => ?_)
            refine lv_goto (tgt := 15) C.x C.b dX10_extreme_86 (by decide) ?_
            exact ih _ _ _ _ _ _ _ _ _ h hσ hS (lv_sub hl [4, 5, 6, 1, 7, 0] rfl)
        · have h := ip c_8 h
          refine lv_iload C.x C.b dX10_extreme_58 (lv_at hl 0 rfl) ?_
          refine lv_goto (tgt := 82) C.x C.b dX10_extreme_60 (by decide) ?_
          refine lv_istore_n (lv' := [(3, .int v_6), (7, .int v_6), (6, .int v_3), (0, .ref g.2.2.2.1), (1, .int x1), (2, .int x2), (4, .int x4), (5, .int x5)]) C.x C.b dX10_extreme_82 rfl hl (by decide) rfl (fun ls hl => ?_)
          obtain ⟨x5_14, e_, h⟩ := nm_s h
          refine lv_iinc (v := x5_14) (lv' := [(5, .int x5_14), (3, .int v_6), (7, .int v_6), (6, .int v_3), (0, .ref g.2.2.2.1), (1, .int x1), (2, .int x2), (4, .int x4)]) C.x C.b dX10_extreme_83 hl (k := 7) rfl e_.symm (by decide) rfl (fun ls hl => ?_)
          refine lv_goto (tgt := 15) C.x C.b dX10_extreme_86 (by decide) ?_
          exact ih _ _ _ _ _ _ _ _ _ h hσ hS (lv_sub hl [4, 5, 6, 1, 7, 0] rfl)
      · have h := ip c_5 h
        refine lv_goto (tgt := 83) C.x C.b dX10_extreme_41 (by decide) ?_
        obtain ⟨x5_15, e_, h⟩ := nm_s h
        refine lv_iinc (v := x5_15) (lv' := [(5, .int x5_15), (6, .int v_3), (0, .ref g.2.2.2.1), (1, .int x1), (2, .int x2), (3, .int x3), (4, .int x4)]) C.x C.b dX10_extreme_83 hl (k := 6) rfl e_.symm (by decide) rfl (fun ls hl => ?_)
        refine lv_goto (tgt := 15) C.x C.b dX10_extreme_86 (by decide) ?_
        exact ih _ _ _ _ _ _ _ _ _ h hσ hS (lv_sub hl [2, 3, 4, 5, 6, 0] rfl)

theorem kT_extreme (l : Launch) (g : twG) (A : Nat → Prop) (x1 : Int32) (x2 : Int32) (σ : twS) (v : Int32) (σ1 : twS) (h : mT_extreme x1 x2 σ = some (v, σ1)) : Met l yX10_extreme (ws_ yX10_extreme cX10_extreme 8 (some .int)) ({ frames := 7, cells := 0, slots := 0, locals := 156 }) (TPc twL g A [.ref g.2.2.2.1, .int x1, .int x2] (fun _ => True) σ) (TQ g A (some (.int v)) σ1) 0 0 A := by
  refine Met.ofW (cc := cX10_extreme) (maxL := 8) (ret := (some .int)) (by decide) rfl ?_
  intro p e s m args below meth c s₁ B hml hv
  obtain ⟨rfl, hw, hX, hσ⟩ := hv
  have hts := atoms_spec (ws := (ws_ yX10_extreme cX10_extreme 8 (some .int))) B.pre
  have C : CX p m meth c s ([.ref g.2.2.2.1, .int x1, .int x2] : List Value).toArray cX10_extreme 8 (some .int) RX10 := ⟨⟨B.exec, B.bytes, hml, findClass_of_methodNamed B.named, fun w h => hts w (List.mem_cons_of_mem _ h)⟩, B.returns, B.notSynchronized⟩
  have hRf : 7 ≤ (headSpec (ws_ yX10_extreme cX10_extreme 8 (some .int)) ({ frames := 7, cells := 0, slots := 0, locals := 156 })).room.frames := Nat.le_refl _
  have hRl : 156 ≤ (headSpec (ws_ yX10_extreme cX10_extreme 8 (some .int)) ({ frames := 7, cells := 0, slots := 0, locals := 156 })).room.locals := Nat.le_refl _
  generalize (headSpec (ws_ yX10_extreme cX10_extreme 8 (some .int)) ({ frames := 7, cells := 0, slots := 0, locals := 156 })).room = R at hRf hRl ⊢
  have hS : va_S A s.heap s.heap [] := va_S.rf
  have hl := lv_entry ([.ref g.2.2.2.1, .int x1, .int x2]) (n := 8) (Nat.le_of_ble_eq_true rfl)
  rw [lg_entry_eq]
  generalize (lg_sl ([.ref g.2.2.2.1, .int x1, .int x2]) ++ List.replicate (8 - (lg_sl ([.ref g.2.2.2.1, .int x1, .int x2])).length) Slot.unset).toArray = ls at hl ⊢
  have hl : lv_has ls 8 [(0, .ref g.2.2.2.1), (1, .int x1), (2, .int x2)] := hl
  obtain ⟨z, hz⟩ : ∃ z, z = (v, σ1) := ⟨_, rfl⟩
  rw [← hz] at h
  rw [show v = z.1 by rw [hz], show σ1 = z.2 by rw [hz]]
  clear hz v σ1
  unfold mT_extreme at h
  refine lv_aload_n C.x C.b dX10_extreme_0 rfl (lv_at hl 0 rfl) ?_
  refine tw_call (y := yX10_setsOut) (bytes := cX10_setsOut) (maxL := 4) (fun _ => none) [] (fun _ => True)  C hw XB.tt (fun _ _ _ => trivial) hσ hS hl.1 h (fun vv ss ee => kT_setsOut l g A σ vv ss ee) (cwV 0 C.t (lw_V q2338 q2340 qs83 q159 q2341) rfl rfl rfl (by decide +kernel) ⟨Nat.le_trans (Nat.le_of_ble_eq_true rfl) hRf, Nat.le_trans (Nat.le_of_ble_eq_true rfl) hRl⟩) rfl rfl (Nat.le_of_ble_eq_true rfl) dX10_extreme_1 (fun _ σ_1 H locs h hσ hS => ?_)
  refine lv_iconst (v := -1) C.x C.b dX10_extreme_4 (by decide) ?_
  refine lv_istore_n (lv' := [(3, .int (-1)), (0, .ref g.2.2.2.1), (1, .int x1), (2, .int x2)]) C.x C.b dX10_extreme_5 rfl hl (by decide) rfl (fun ls hl => ?_)
  refine lv_aload_n C.x C.b dX10_extreme_6 rfl (lv_at hl 1 rfl) ?_
  refine tw_call (y := yX10_cases) (bytes := cX10_cases) (maxL := 3) (fun v => some (.int v)) [] (fun _ => True)  C hw XB.tt (fun _ _ _ => trivial) hσ hS hl.1 h (fun vv ss ee => kT_cases l g A σ_1 vv ss ee) (cwV 0 C.t (lw_V q2334 q2336 qs82 q159 q2337) rfl rfl rfl (by decide +kernel) ⟨Nat.le_trans (Nat.le_of_ble_eq_true rfl) hRf, Nat.le_trans (Nat.le_of_ble_eq_true rfl) hRl⟩) rfl rfl (Nat.le_of_ble_eq_true rfl) dX10_extreme_7 (fun v_2 σ_3 H locs h hσ hS => ?_)
  refine lv_istore (lv' := [(4, .int v_2), (3, .int (-1)), (0, .ref g.2.2.2.1), (1, .int x1), (2, .int x2)]) C.x C.b dX10_extreme_10 hl (by decide) rfl (fun ls hl => ?_)
  refine lv_iconst (v := 0) C.x C.b dX10_extreme_12 (by decide) ?_
  refine lv_istore (lv' := [(5, .int 0), (4, .int v_2), (3, .int (-1)), (0, .ref g.2.2.2.1), (1, .int x1), (2, .int x2)]) C.x C.b dX10_extreme_13 hl (by decide) rfl (fun ls hl => ?_)
  exact wT_extreme_15 C hw hRf hRl _ _ _ _ _ _ _ _ _ _ h hσ hS (lv_sub hl [3, 4, 5, 2, 1, 0] rfl)

theorem wT_heirTold_36 {z : Int32 × twS} (C : CX p m meth c s args cX10_heirTold 3 (some .int) RX10) (hw : WKt twL g A s s.heap) (hRf : 8 ≤ R.frames) (hRl : 183 ≤ R.locals) : ∀ (x1 : Int32) (x2 : Int32) (σ : twS) (H : Heap) (locs : List Loc) (ls : Array Slot), bT_heirTold_36 x1 x2 σ = some z → TI g A σ H → va_S A s.heap H locs → lv_has ls 3 [(0, .ref g.2.2.2.1), (1, .int x1), (2, .int x2)] → W p l e R s m args below meth c H locs 0 0 (MQ below (TQ g A (some (.int z.1)) z.2) args s 0 0 A) (F0 m 36 ls []) := by
  intro x1 x2 σ H locs ls h hσ hS hl
  unfold bT_heirTold_36 at h
  refine lv_aload_n C.x C.b dX10_heirTold_36 rfl (lv_at hl 0 rfl) ?_
  refine tw_gf0 C hw hσ q2215 dX10_heirTold_37 ?_
  refine lv_bipush (v := 9) C.x C.b dX10_heirTold_40 (by decide) ?_
  refine lv_iconst (v := 2) C.x C.b dX10_heirTold_42 (by decide) ?_
  refine lv_iload_n C.x C.b dX10_heirTold_43 rfl (lv_at hl 1 rfl) ?_
  refine lv_imul C.x C.b dX10_heirTold_44 ?_
  refine lv_iadd C.x C.b dX10_heirTold_45 ?_
  refine lv_iload_n C.x C.b dX10_heirTold_46 rfl (lv_at hl 2 rfl) ?_
  refine lv_iadd C.x C.b dX10_heirTold_47 ?_
  refine tw_ld0 C hw hσ h dX10_heirTold_48 (fun v_1 h => ?_)
  exact tw_iret C hσ hS h dX10_heirTold_49

theorem wT_heirTold_145 {z : Int32 × twS} (C : CX p m meth c s args cX10_heirTold 3 (some .int) RX10) (hw : WKt twL g A s s.heap) (hRf : 8 ≤ R.frames) (hRl : 183 ≤ R.locals) : ∀ (s1 : Int32) (s2 : Int32) (σ : twS) (H : Heap) (locs : List Loc) (ls : Array Slot), bT_heirTold_145 s1 s2 σ = some z → TI g A σ H → va_S A s.heap H locs → lv_has ls 3 [(0, .ref g.2.2.2.1)] → W p l e R s m args below meth c H locs 0 0 (MQ below (TQ g A (some (.int z.1)) z.2) args s 0 0 A) (F0 m 145 ls [.int s2, .int s1, .ref g.2.2.2.1]) := by
  intro s1 s2 σ H locs ls h hσ hS hl
  unfold bT_heirTold_145 at h
  refine tw_call (y := yX10_extreme) (bytes := cX10_extreme) (maxL := 8) (fun v => some (.int v)) [.int s1, .int s2] (fun _ => True)  C hw XB.tt (fun _ _ _ => trivial) hσ hS hl.1 h (fun vv ss ee => kT_extreme l g A s1 s2 σ vv ss ee) (cwV 2 C.t (lw_V q2426 q2428 qs101 q159 q2429) rfl rfl rfl (by decide +kernel) ⟨Nat.le_trans (Nat.le_of_ble_eq_true rfl) hRf, Nat.le_trans (Nat.le_of_ble_eq_true rfl) hRl⟩) rfl rfl (Nat.le_of_ble_eq_true rfl) dX10_heirTold_145 (fun v_1 σ_2 H locs h hσ hS => ?_)
  exact tw_iret C hσ hS h dX10_heirTold_148

theorem kT_heirTold (l : Launch) (g : twG) (A : Nat → Prop) (x1 : Int32) (x2 : Int32) (σ : twS) (v : Int32) (σ1 : twS) (h : mT_heirTold x1 x2 σ = some (v, σ1)) : Met l yX10_heirTold (ws_ yX10_heirTold cX10_heirTold 3 (some .int)) ({ frames := 8, cells := 0, slots := 0, locals := 183 }) (TPc twL g A [.ref g.2.2.2.1, .int x1, .int x2] (fun _ => True) σ) (TQ g A (some (.int v)) σ1) 0 0 A := by
  refine Met.ofW (cc := cX10_heirTold) (maxL := 3) (ret := (some .int)) (by decide) rfl ?_
  intro p e s m args below meth c s₁ B hml hv
  obtain ⟨rfl, hw, hX, hσ⟩ := hv
  have hts := atoms_spec (ws := (ws_ yX10_heirTold cX10_heirTold 3 (some .int))) B.pre
  have C : CX p m meth c s ([.ref g.2.2.2.1, .int x1, .int x2] : List Value).toArray cX10_heirTold 3 (some .int) RX10 := ⟨⟨B.exec, B.bytes, hml, findClass_of_methodNamed B.named, fun w h => hts w (List.mem_cons_of_mem _ h)⟩, B.returns, B.notSynchronized⟩
  have hRf : 8 ≤ (headSpec (ws_ yX10_heirTold cX10_heirTold 3 (some .int)) ({ frames := 8, cells := 0, slots := 0, locals := 183 })).room.frames := Nat.le_refl _
  have hRl : 183 ≤ (headSpec (ws_ yX10_heirTold cX10_heirTold 3 (some .int)) ({ frames := 8, cells := 0, slots := 0, locals := 183 })).room.locals := Nat.le_refl _
  generalize (headSpec (ws_ yX10_heirTold cX10_heirTold 3 (some .int)) ({ frames := 8, cells := 0, slots := 0, locals := 183 })).room = R at hRf hRl ⊢
  have hS : va_S A s.heap s.heap [] := va_S.rf
  have hl := lv_entry ([.ref g.2.2.2.1, .int x1, .int x2]) (n := 3) (Nat.le_of_ble_eq_true rfl)
  rw [lg_entry_eq]
  generalize (lg_sl ([.ref g.2.2.2.1, .int x1, .int x2]) ++ List.replicate (3 - (lg_sl ([.ref g.2.2.2.1, .int x1, .int x2])).length) Slot.unset).toArray = ls at hl ⊢
  have hl : lv_has ls 3 [(0, .ref g.2.2.2.1), (1, .int x1), (2, .int x2)] := hl
  obtain ⟨z, hz⟩ : ∃ z, z = (v, σ1) := ⟨_, rfl⟩
  rw [← hz] at h
  rw [show v = z.1 by rw [hz], show σ1 = z.2 by rw [hz]]
  clear hz v σ1
  unfold mT_heirTold at h
  refine lv_iload_n C.x C.b dX10_heirTold_0 rfl (lv_at hl 2 rfl) ?_
  by_cases c_1 : x2 = 0
  · have h := ip c_1 h
    refine lv_tableIn (off := 35) (tgt := 36) C.x C.b dX10_heirTold_1 (by rw [c_1]; decide) (by rw [c_1]; decide) (by rw [c_1]; rfl) (by decide) ?_
    exact wT_heirTold_36 C hw hRf hRl _ _ _ _ _ _ h hσ hS (lv_sub hl [0, 1, 2] rfl)
  have h := iN c_1 h
  by_cases c_2 : x2 = 1
  · have h := ip c_2 h
    refine lv_tableIn (off := 35) (tgt := 36) C.x C.b dX10_heirTold_1 (by rw [c_2]; decide) (by rw [c_2]; decide) (by rw [c_2]; rfl) (by decide) ?_
    exact wT_heirTold_36 C hw hRf hRl _ _ _ _ _ _ h hσ hS (lv_sub hl [0, 1, 2] rfl)
  have h := iN c_2 h
  by_cases c_3 : x2 = 2
  · have h := ip c_3 h
    refine lv_tableIn (off := 49) (tgt := 50) C.x C.b dX10_heirTold_1 (by rw [c_3]; decide) (by rw [c_3]; decide) (by rw [c_3]; rfl) (by decide) ?_
    refine lv_aload_n C.x C.b dX10_heirTold_50 rfl (lv_at hl 0 rfl) ?_
    refine tw_gf0 C hw hσ q2215 dX10_heirTold_51 ?_
    refine lv_bipush (v := 6) C.x C.b dX10_heirTold_54 (by decide) ?_
    refine tw_ld0 C hw hσ h dX10_heirTold_56 (fun v_4 h => ?_)
    refine lv_iload_n C.x C.b dX10_heirTold_57 rfl (lv_at hl 1 rfl) ?_
    refine lv_icmp_ne (tgt := 65) C.x C.b dX10_heirTold_58 (by decide) (fun c_5 => ?_) (fun c_5 => ?_)
    · have h := iN c_5 h
      refine lv_iconst (v := 0) C.x C.b dX10_heirTold_65 (by decide) ?_
      exact tw_iret C hσ hS h dX10_heirTold_66
    · have h := ip c_5 h
      refine lv_iconst (v := 1) C.x C.b dX10_heirTold_61 (by decide) ?_
      refine lv_goto (tgt := 66) C.x C.b dX10_heirTold_62 (by decide) ?_
      exact tw_iret C hσ hS h dX10_heirTold_66
  have h := iN c_3 h
  by_cases c_6 : x2 = 3
  · have h := ip c_6 h
    refine lv_tableIn (off := 66) (tgt := 67) C.x C.b dX10_heirTold_1 (by rw [c_6]; decide) (by rw [c_6]; decide) (by rw [c_6]; rfl) (by decide) ?_
    refine lv_aload_n C.x C.b dX10_heirTold_67 rfl (lv_at hl 0 rfl) ?_
    refine lv_aload_n C.x C.b dX10_heirTold_68 rfl (lv_at hl 0 rfl) ?_
    refine lv_aload_n C.x C.b dX10_heirTold_69 rfl (lv_at hl 0 rfl) ?_
    refine lv_aload_n C.x C.b dX10_heirTold_70 rfl (lv_at hl 0 rfl) ?_
    refine tw_gf0 C hw hσ q2215 dX10_heirTold_71 ?_
    refine lv_bipush (v := 8) C.x C.b dX10_heirTold_74 (by decide) ?_
    refine tw_ld0 C hw hσ h dX10_heirTold_76 (fun v_7 h => ?_)
    refine tw_call (y := yX10_setOf) (bytes := cX10_setOf) (maxL := 4) (fun v => some (.int v)) [.int v_7] (fun _ => True)  C hw XB.tt (fun _ _ _ => trivial) hσ hS hl.1 h (fun vv ss ee => kT_setOf l g A v_7 σ vv ss ee) (cwV 1 C.t (lw_V q2410 q2412 qs97 q159 q2413) rfl rfl rfl (by decide +kernel) ⟨Nat.le_trans (Nat.le_of_ble_eq_true rfl) hRf, Nat.le_trans (Nat.le_of_ble_eq_true rfl) hRl⟩) rfl rfl (Nat.le_of_ble_eq_true rfl) dX10_heirTold_77 (fun v_8 σ_9 H locs h hσ hS => ?_)
    refine tw_call (y := yX10_settles) (bytes := cX10_settles) (maxL := 2) (fun v => some (.int v)) [.int v_8] (fun _ => True)  C hw XB.tt (fun _ _ _ => trivial) hσ hS hl.1 h (fun vv ss ee => kT_settles l g A v_8 σ_9 vv ss ee) (cwV 1 C.t (lw_V q2414 q2416 qs98 q159 q2417) rfl rfl rfl (by decide +kernel) ⟨Nat.le_trans (Nat.le_of_ble_eq_true rfl) hRf, Nat.le_trans (Nat.le_of_ble_eq_true rfl) hRl⟩) rfl rfl (Nat.le_of_ble_eq_true rfl) dX10_heirTold_80 (fun v_10 σ_11 H locs h hσ hS => ?_)
    refine lv_iload_n C.x C.b dX10_heirTold_83 rfl (lv_at hl 1 rfl) ?_
    refine tw_call (y := yX10_part) (bytes := cX10_part) (maxL := 5) (fun v => some (.int v)) [.int v_10, .int x1] (fun _ => True)  C hw XB.tt (fun _ _ _ => trivial) hσ hS hl.1 h (fun vv ss ee => kT_part l g A v_10 x1 σ_11 vv ss ee) (cwV 2 C.t (lw_V q2418 q2420 qs99 q159 q2421) rfl rfl rfl (by decide +kernel) ⟨Nat.le_trans (Nat.le_of_ble_eq_true rfl) hRf, Nat.le_trans (Nat.le_of_ble_eq_true rfl) hRl⟩) rfl rfl (Nat.le_of_ble_eq_true rfl) dX10_heirTold_84 (fun v_12 σ_13 H locs h hσ hS => ?_)
    exact tw_iret C hσ hS h dX10_heirTold_87
  have h := iN c_6 h
  by_cases c_14 : x2 = 4
  · have h := ip c_14 h
    refine lv_tableIn (off := 87) (tgt := 88) C.x C.b dX10_heirTold_1 (by rw [c_14]; decide) (by rw [c_14]; decide) (by rw [c_14]; rfl) (by decide) ?_
    refine lv_aload_n C.x C.b dX10_heirTold_88 rfl (lv_at hl 0 rfl) ?_
    refine lv_aload_n C.x C.b dX10_heirTold_89 rfl (lv_at hl 0 rfl) ?_
    refine lv_aload_n C.x C.b dX10_heirTold_90 rfl (lv_at hl 0 rfl) ?_
    refine tw_gf0 C hw hσ q2215 dX10_heirTold_91 ?_
    refine lv_bipush (v := 8) C.x C.b dX10_heirTold_94 (by decide) ?_
    refine tw_ld0 C hw hσ h dX10_heirTold_96 (fun v_15 h => ?_)
    refine tw_call (y := yX10_setOf) (bytes := cX10_setOf) (maxL := 4) (fun v => some (.int v)) [.int v_15] (fun _ => True)  C hw XB.tt (fun _ _ _ => trivial) hσ hS hl.1 h (fun vv ss ee => kT_setOf l g A v_15 σ vv ss ee) (cwV 1 C.t (lw_V q2410 q2412 qs97 q159 q2413) rfl rfl rfl (by decide +kernel) ⟨Nat.le_trans (Nat.le_of_ble_eq_true rfl) hRf, Nat.le_trans (Nat.le_of_ble_eq_true rfl) hRl⟩) rfl rfl (Nat.le_of_ble_eq_true rfl) dX10_heirTold_97 (fun v_16 σ_17 H locs h hσ hS => ?_)
    refine tw_call (y := yX10_settles) (bytes := cX10_settles) (maxL := 2) (fun v => some (.int v)) [.int v_16] (fun _ => True)  C hw XB.tt (fun _ _ _ => trivial) hσ hS hl.1 h (fun vv ss ee => kT_settles l g A v_16 σ_17 vv ss ee) (cwV 1 C.t (lw_V q2414 q2416 qs98 q159 q2417) rfl rfl rfl (by decide +kernel) ⟨Nat.le_trans (Nat.le_of_ble_eq_true rfl) hRf, Nat.le_trans (Nat.le_of_ble_eq_true rfl) hRl⟩) rfl rfl (Nat.le_of_ble_eq_true rfl) dX10_heirTold_100 (fun v_18 σ_19 H locs h hσ hS => ?_)
    refine lv_iconst (v := -1) C.x C.b dX10_heirTold_103 (by decide) ?_
    refine lv_icmp_ne (tgt := 111) C.x C.b dX10_heirTold_104 (by decide) (fun c_20 => ?_) (fun c_20 => ?_)
    · have h := iN c_20 h
      refine lv_aload_n C.x C.b dX10_heirTold_111 rfl (lv_at hl 0 rfl) ?_
      refine lv_aload_n C.x C.b dX10_heirTold_112 rfl (lv_at hl 0 rfl) ?_
      refine lv_aload_n C.x C.b dX10_heirTold_113 rfl (lv_at hl 0 rfl) ?_
      refine lv_aload_n C.x C.b dX10_heirTold_114 rfl (lv_at hl 0 rfl) ?_
      refine tw_gf0 C hw hσ q2215 dX10_heirTold_115 ?_
      refine lv_bipush (v := 8) C.x C.b dX10_heirTold_118 (by decide) ?_
      refine tw_ld0 C hw hσ h dX10_heirTold_120 (fun v_21 h => ?_)
      refine tw_call (y := yX10_setOf) (bytes := cX10_setOf) (maxL := 4) (fun v => some (.int v)) [.int v_21] (fun _ => True)  C hw XB.tt (fun _ _ _ => trivial) hσ hS hl.1 h (fun vv ss ee => kT_setOf l g A v_21 σ_19 vv ss ee) (cwV 1 C.t (lw_V q2410 q2412 qs97 q159 q2413) rfl rfl rfl (by decide +kernel) ⟨Nat.le_trans (Nat.le_of_ble_eq_true rfl) hRf, Nat.le_trans (Nat.le_of_ble_eq_true rfl) hRl⟩) rfl rfl (Nat.le_of_ble_eq_true rfl) dX10_heirTold_121 (fun v_22 σ_23 H locs h hσ hS => ?_)
      refine tw_call (y := yX10_settles) (bytes := cX10_settles) (maxL := 2) (fun v => some (.int v)) [.int v_22] (fun _ => True)  C hw XB.tt (fun _ _ _ => trivial) hσ hS hl.1 h (fun vv ss ee => kT_settles l g A v_22 σ_23 vv ss ee) (cwV 1 C.t (lw_V q2414 q2416 qs98 q159 q2417) rfl rfl rfl (by decide +kernel) ⟨Nat.le_trans (Nat.le_of_ble_eq_true rfl) hRf, Nat.le_trans (Nat.le_of_ble_eq_true rfl) hRl⟩) rfl rfl (Nat.le_of_ble_eq_true rfl) dX10_heirTold_124 (fun v_24 σ_25 H locs h hσ hS => ?_)
      refine lv_iload_n C.x C.b dX10_heirTold_127 rfl (lv_at hl 1 rfl) ?_
      refine tw_call (y := yX10_duty) (bytes := cX10_duty) (maxL := 4) (fun v => some (.int v)) [.int v_24, .int x1] (fun _ => True)  C hw XB.tt (fun _ _ _ => trivial) hσ hS hl.1 h (fun vv ss ee => kT_duty l g A v_24 x1 σ_25 vv ss ee) (cwV 2 C.t (lw_V q2422 q2424 qs100 q159 q2425) rfl rfl rfl (by decide +kernel) ⟨Nat.le_trans (Nat.le_of_ble_eq_true rfl) hRf, Nat.le_trans (Nat.le_of_ble_eq_true rfl) hRl⟩) rfl rfl (Nat.le_of_ble_eq_true rfl) dX10_heirTold_128 (fun v_26 σ_27 H locs h hσ hS => ?_)
      exact tw_iret C hσ hS h dX10_heirTold_131
    · have h := ip c_20 h
      refine lv_iconst (v := 0) C.x C.b dX10_heirTold_107 (by decide) ?_
      refine lv_goto (tgt := 131) C.x C.b dX10_heirTold_108 (by decide) ?_
      exact tw_iret C hσ hS h dX10_heirTold_131
  have h := iN c_14 h
  refine tw_tabD (tgt := 132) C.x C.b dX10_heirTold_1 (by decide) (fun j hj => match j, hj with | 0, _ => Or.inr (lv_neT c_1 (by decide)) | 1, _ => Or.inr (lv_neT c_2 (by decide)) | 2, _ => Or.inr (lv_neT c_3 (by decide)) | 3, _ => Or.inr (lv_neT c_6 (by decide)) | 4, _ => Or.inr (lv_neT c_14 (by decide)) | j + 5, hj => absurd hj (Nat.not_lt_of_le (Nat.le_add_left _ _))) (by decide) ?_
  refine lv_aload_n C.x C.b dX10_heirTold_132 rfl (lv_at hl 0 rfl) ?_
  refine lv_iload_n C.x C.b dX10_heirTold_133 rfl (lv_at hl 1 rfl) ?_
  refine lv_iload_n C.x C.b dX10_heirTold_134 rfl (lv_at hl 2 rfl) ?_
  refine lv_bipush (v := 6) C.x C.b dX10_heirTold_135 (by decide) ?_
  refine lv_icmp_ne (tgt := 144) C.x C.b dX10_heirTold_137 (by decide) (fun c_28 => ?_) (fun c_28 => ?_)
  · have h := iN c_28 h
    refine lv_iconst (v := 0) C.x C.b dX10_heirTold_144 (by decide) ?_
    exact wT_heirTold_145 C hw hRf hRl _ _ _ _ _ _ h hσ hS (lv_sub hl [0] rfl)
  · have h := ip c_28 h
    refine lv_iconst (v := 1) C.x C.b dX10_heirTold_140 (by decide) ?_
    refine lv_goto (tgt := 145) C.x C.b dX10_heirTold_141 (by decide) ?_
    exact wT_heirTold_145 C hw hRf hRl _ _ _ _ _ _ h hσ hS (lv_sub hl [0] rfl)

theorem wT_heir_29 {z : Int32 × twS} (C : CX p m meth c s args cX10_heir 3 (some .int) RX10) (hw : WKt twL g A s s.heap) (hRf : 9 ≤ R.frames) (hRl : 205 ≤ R.locals) : ∀ (x1 : Int32) (x2 : Int32) (s1 : Int32) (s2 : Int32) (σ : twS) (H : Heap) (locs : List Loc) (ls : Array Slot), bT_heir_29 x1 x2 s1 s2 σ = some z → TI g A σ H → va_S A s.heap H locs → lv_has ls 3 [(0, .ref g.2.2.2.1), (1, .int x1), (2, .int x2)] → W p l e R s m args below meth c H locs 0 0 (MQ below (TQ g A (some (.int z.1)) z.2) args s 0 0 A) (F0 m 29 ls [.int s2, .int s1, .ref g.2.2.2.1]) := by
  intro x1 x2 s1 s2 σ H locs ls h hσ hS hl
  unfold bT_heir_29 at h
  refine tw_call (y := yX10_throwsOne_2) (bytes := cX10_throwsOne_2) (maxL := 3) (fun v => some (.int v)) [.int s1, .int s2] (fun _ => True)  C hw XB.tt (fun _ _ _ => trivial) hσ hS hl.1 h (fun vv ss ee => kT_throwsOne_2 l g A s1 s2 σ vv ss ee) (cwV 2 C.t (lw_V q2394 q2396 qs94 q159 q2397) rfl rfl rfl (by decide +kernel) ⟨Nat.le_trans (Nat.le_of_ble_eq_true rfl) hRf, Nat.le_trans (Nat.le_of_ble_eq_true rfl) hRl⟩) rfl rfl (Nat.le_of_ble_eq_true rfl) dX10_heir_29 (fun v_1 σ_2 H locs h hσ hS => ?_)
  refine lv_if_eq (tgt := 39) C.x C.b dX10_heir_32 (by decide) (fun c_3 => ?_) (fun c_3 => ?_)
  · have h := ip c_3 h
    refine lv_aload_n C.x C.b dX10_heir_39 rfl (lv_at hl 0 rfl) ?_
    refine lv_iload_n C.x C.b dX10_heir_40 rfl (lv_at hl 1 rfl) ?_
    refine lv_iload_n C.x C.b dX10_heir_41 rfl (lv_at hl 2 rfl) ?_
    refine tw_call (y := yX10_heirTold) (bytes := cX10_heirTold) (maxL := 3) (fun v => some (.int v)) [.int x1, .int x2] (fun _ => True)  C hw XB.tt (fun _ _ _ => trivial) hσ hS hl.1 h (fun vv ss ee => kT_heirTold l g A x1 x2 σ_2 vv ss ee) (cwV 2 C.t (lw_V q2406 q2408 qs96 q159 q2409) rfl rfl rfl (by decide +kernel) ⟨Nat.le_trans (Nat.le_of_ble_eq_true rfl) hRf, Nat.le_trans (Nat.le_of_ble_eq_true rfl) hRl⟩) rfl rfl (Nat.le_of_ble_eq_true rfl) dX10_heir_42 (fun v_4 σ_5 H locs h hσ hS => ?_)
    exact tw_iret C hσ hS h dX10_heir_45
  · have h := iN c_3 h
    refine lv_iconst (v := 0) C.x C.b dX10_heir_35 (by decide) ?_
    refine lv_goto (tgt := 45) C.x C.b dX10_heir_36 (by decide) ?_
    exact tw_iret C hσ hS h dX10_heir_45

theorem wT_heir_14 {z : Int32 × twS} (C : CX p m meth c s args cX10_heir 3 (some .int) RX10) (hw : WKt twL g A s s.heap) (hRf : 9 ≤ R.frames) (hRl : 205 ≤ R.locals) : ∀ (x1 : Int32) (x2 : Int32) (s1 : Int32) (σ : twS) (H : Heap) (locs : List Loc) (ls : Array Slot), bT_heir_14 x1 x2 s1 σ = some z → TI g A σ H → va_S A s.heap H locs → lv_has ls 3 [(0, .ref g.2.2.2.1), (1, .int x1), (2, .int x2)] → W p l e R s m args below meth c H locs 0 0 (MQ below (TQ g A (some (.int z.1)) z.2) args s 0 0 A) (F0 m 14 ls [.int s1, .ref g.2.2.2.1]) := by
  intro x1 x2 s1 σ H locs ls h hσ hS hl
  unfold bT_heir_14 at h
  refine lv_iload_n C.x C.b dX10_heir_14 rfl (lv_at hl 2 rfl) ?_
  refine lv_iconst (v := 0) C.x C.b dX10_heir_15 (by decide) ?_
  refine lv_bipush (v := 6) C.x C.b dX10_heir_16 (by decide) ?_
  refine tw_callS (y := yX10_in) (bytes := cX10_in) (maxL := 3) (fun v => some (.int v)) [.int x2, .int 0, .int 6] C hw hσ hS hl.1 h (fun vv ss ee => kT_in l g A x2 0 6 σ vv ss ee) (va_cwS 3 C.t (lw_S q2136 q2137 q159 q2138) rfl rfl rfl (by decide +kernel) ⟨Nat.le_trans (Nat.le_of_ble_eq_true rfl) hRf, Nat.le_trans (Nat.le_of_ble_eq_true rfl) hRl⟩) rfl rfl (Nat.le_of_ble_eq_true rfl) dX10_heir_18 (fun v_1 σ_2 H locs h hσ hS => ?_)
  refine lv_if_ne (tgt := 28) C.x C.b dX10_heir_21 (by decide) (fun c_3 => ?_) (fun c_3 => ?_)
  · have h := iN c_3 h
    refine lv_iconst (v := 0) C.x C.b dX10_heir_28 (by decide) ?_
    exact wT_heir_29 C hw hRf hRl _ _ _ _ _ _ _ _ h hσ hS (lv_sub hl [0, 1, 2] rfl)
  · have h := ip c_3 h
    refine lv_iconst (v := 1) C.x C.b dX10_heir_24 (by decide) ?_
    refine lv_goto (tgt := 29) C.x C.b dX10_heir_25 (by decide) ?_
    exact wT_heir_29 C hw hRf hRl _ _ _ _ _ _ _ _ h hσ hS (lv_sub hl [0, 1, 2] rfl)

theorem kT_heir (l : Launch) (g : twG) (A : Nat → Prop) (x1 : Int32) (x2 : Int32) (σ : twS) (v : Int32) (σ1 : twS) (h : mT_heir x1 x2 σ = some (v, σ1)) : Met l yX10_heir (ws_ yX10_heir cX10_heir 3 (some .int)) ({ frames := 9, cells := 0, slots := 0, locals := 205 }) (TPc twL g A [.ref g.2.2.2.1, .int x1, .int x2] (fun _ => True) σ) (TQ g A (some (.int v)) σ1) 0 0 A := by
  refine Met.ofW (cc := cX10_heir) (maxL := 3) (ret := (some .int)) (by decide) rfl ?_
  intro p e s m args below meth c s₁ B hml hv
  obtain ⟨rfl, hw, hX, hσ⟩ := hv
  have hts := atoms_spec (ws := (ws_ yX10_heir cX10_heir 3 (some .int))) B.pre
  have C : CX p m meth c s ([.ref g.2.2.2.1, .int x1, .int x2] : List Value).toArray cX10_heir 3 (some .int) RX10 := ⟨⟨B.exec, B.bytes, hml, findClass_of_methodNamed B.named, fun w h => hts w (List.mem_cons_of_mem _ h)⟩, B.returns, B.notSynchronized⟩
  have hRf : 9 ≤ (headSpec (ws_ yX10_heir cX10_heir 3 (some .int)) ({ frames := 9, cells := 0, slots := 0, locals := 205 })).room.frames := Nat.le_refl _
  have hRl : 205 ≤ (headSpec (ws_ yX10_heir cX10_heir 3 (some .int)) ({ frames := 9, cells := 0, slots := 0, locals := 205 })).room.locals := Nat.le_refl _
  generalize (headSpec (ws_ yX10_heir cX10_heir 3 (some .int)) ({ frames := 9, cells := 0, slots := 0, locals := 205 })).room = R at hRf hRl ⊢
  have hS : va_S A s.heap s.heap [] := va_S.rf
  have hl := lv_entry ([.ref g.2.2.2.1, .int x1, .int x2]) (n := 3) (Nat.le_of_ble_eq_true rfl)
  rw [lg_entry_eq]
  generalize (lg_sl ([.ref g.2.2.2.1, .int x1, .int x2]) ++ List.replicate (3 - (lg_sl ([.ref g.2.2.2.1, .int x1, .int x2])).length) Slot.unset).toArray = ls at hl ⊢
  have hl : lv_has ls 3 [(0, .ref g.2.2.2.1), (1, .int x1), (2, .int x2)] := hl
  obtain ⟨z, hz⟩ : ∃ z, z = (v, σ1) := ⟨_, rfl⟩
  rw [← hz] at h
  rw [show v = z.1 by rw [hz], show σ1 = z.2 by rw [hz]]
  clear hz v σ1
  unfold mT_heir at h
  refine lv_aload_n C.x C.b dX10_heir_0 rfl (lv_at hl 0 rfl) ?_
  refine lv_aload_n C.x C.b dX10_heir_1 rfl (lv_at hl 0 rfl) ?_
  refine lv_iload_n C.x C.b dX10_heir_2 rfl (lv_at hl 1 rfl) ?_
  refine tw_call (y := yX10_isHeir) (bytes := cX10_isHeir) (maxL := 2) (fun v => some (.int v)) [.int x1] (fun _ => True)  C hw XB.tt (fun _ _ _ => trivial) hσ hS hl.1 h (fun vv ss ee => kT_isHeir l g A x1 σ vv ss ee) (cwV 1 C.t (lw_V q2402 q2404 qs95 q159 q2405) rfl rfl rfl (by decide +kernel) ⟨Nat.le_trans (Nat.le_of_ble_eq_true rfl) hRf, Nat.le_trans (Nat.le_of_ble_eq_true rfl) hRl⟩) rfl rfl (Nat.le_of_ble_eq_true rfl) dX10_heir_3 (fun v_1 σ_2 H locs h hσ hS => ?_)
  refine lv_if_ne (tgt := 13) C.x C.b dX10_heir_6 (by decide) (fun c_3 => ?_) (fun c_3 => ?_)
  · have h := iN c_3 h
    refine lv_iconst (v := 0) C.x C.b dX10_heir_13 (by decide) ?_
    exact wT_heir_14 C hw hRf hRl _ _ _ _ _ _ _ h hσ hS (lv_sub hl [0, 1, 2] rfl)
  · have h := ip c_3 h
    refine lv_iconst (v := 1) C.x C.b dX10_heir_9 (by decide) ?_
    refine lv_goto (tgt := 14) C.x C.b dX10_heir_10 (by decide) ?_
    exact wT_heir_14 C hw hRf hRl _ _ _ _ _ _ _ h hσ hS (lv_sub hl [0, 1, 2] rfl)

theorem kT_isRule (l : Launch) (g : twG) (A : Nat → Prop) (x1 : Int32) (σ : twS) (v : Int32) (σ1 : twS) (h : mT_isRule x1 σ = some (v, σ1)) : Met l yX10_isRule (ws_ yX10_isRule cX10_isRule 2 (some .boolean)) ({ frames := 2, cells := 0, slots := 0, locals := 46 }) (TPc twL g A [.ref g.2.2.2.1, .int x1] (fun _ => True) σ) (TQ g A (some (.int v)) σ1) 0 0 A := by
  refine Met.ofW (cc := cX10_isRule) (maxL := 2) (ret := (some .boolean)) (by decide) rfl ?_
  intro p e s m args below meth c s₁ B hml hv
  obtain ⟨rfl, hw, hX, hσ⟩ := hv
  have hts := atoms_spec (ws := (ws_ yX10_isRule cX10_isRule 2 (some .boolean))) B.pre
  have C : CX p m meth c s ([.ref g.2.2.2.1, .int x1] : List Value).toArray cX10_isRule 2 (some .boolean) RX10 := ⟨⟨B.exec, B.bytes, hml, findClass_of_methodNamed B.named, fun w h => hts w (List.mem_cons_of_mem _ h)⟩, B.returns, B.notSynchronized⟩
  have hRf : 2 ≤ (headSpec (ws_ yX10_isRule cX10_isRule 2 (some .boolean)) ({ frames := 2, cells := 0, slots := 0, locals := 46 })).room.frames := Nat.le_refl _
  have hRl : 46 ≤ (headSpec (ws_ yX10_isRule cX10_isRule 2 (some .boolean)) ({ frames := 2, cells := 0, slots := 0, locals := 46 })).room.locals := Nat.le_refl _
  generalize (headSpec (ws_ yX10_isRule cX10_isRule 2 (some .boolean)) ({ frames := 2, cells := 0, slots := 0, locals := 46 })).room = R at hRf hRl ⊢
  have hS : va_S A s.heap s.heap [] := va_S.rf
  have hl := lv_entry ([.ref g.2.2.2.1, .int x1]) (n := 2) (Nat.le_of_ble_eq_true rfl)
  rw [lg_entry_eq]
  generalize (lg_sl ([.ref g.2.2.2.1, .int x1]) ++ List.replicate (2 - (lg_sl ([.ref g.2.2.2.1, .int x1])).length) Slot.unset).toArray = ls at hl ⊢
  have hl : lv_has ls 2 [(0, .ref g.2.2.2.1), (1, .int x1)] := hl
  obtain ⟨z, hz⟩ : ∃ z, z = (v, σ1) := ⟨_, rfl⟩
  rw [← hz] at h
  rw [show v = z.1 by rw [hz], show σ1 = z.2 by rw [hz]]
  clear hz v σ1
  unfold mT_isRule at h
  refine lv_iload_n C.x C.b dX10_isRule_0 rfl (lv_at hl 1 rfl) ?_
  refine lv_iconst (v := 0) C.x C.b dX10_isRule_1 (by decide) ?_
  refine lv_aload_n C.x C.b dX10_isRule_2 rfl (lv_at hl 0 rfl) ?_
  refine tw_gf0 C hw hσ q2215 dX10_isRule_3 ?_
  refine lv_bipush (v := 17) C.x C.b dX10_isRule_6 (by decide) ?_
  refine tw_ld0 C hw hσ h dX10_isRule_8 (fun v_1 h => ?_)
  refine lv_iconst (v := 1) C.x C.b dX10_isRule_9 (by decide) ?_
  refine lv_isub C.x C.b dX10_isRule_10 ?_
  refine tw_callS (y := yX10_in) (bytes := cX10_in) (maxL := 3) (fun v => some (.int v)) [.int x1, .int 0, .int (v_1 - 1)] C hw hσ hS hl.1 h (fun vv ss ee => kT_in l g A x1 0 (v_1 - 1) σ vv ss ee) (va_cwS 3 C.t (lw_S q2136 q2137 q159 q2138) rfl rfl rfl (by decide +kernel) ⟨Nat.le_trans (Nat.le_of_ble_eq_true rfl) hRf, Nat.le_trans (Nat.le_of_ble_eq_true rfl) hRl⟩) rfl rfl (Nat.le_of_ble_eq_true rfl) dX10_isRule_11 (fun v_2 σ_3 H locs h hσ hS => ?_)
  exact tw_zret C hσ hS h dX10_isRule_14

theorem wT_comparisons_4 {z : Int32 × twS} (C : CX p m meth c s args cX10_comparisons 4 (some .int) RX10) (hw : WKt twL g A s s.heap) (hRf : 3 ≤ R.frames) (hRl : 66 ≤ R.locals) : ∀ (n : Nat) (x1 : Int32) (x2 : Int32) (x3 : Int32) (σ : twS) (H : Heap) (locs : List Loc) (ls : Array Slot), bT_comparisons_4 n x1 x2 x3 σ = some z → TI g A σ H → va_S A s.heap H locs → lv_has ls 4 [(0, .ref g.2.2.2.1), (1, .int x1), (2, .int x2), (3, .int x3)] → W p l e R s m args below meth c H locs 0 0 (MQ below (TQ g A (some (.int z.1)) z.2) args s 0 0 A) (F0 m 4 ls []) := by
  intro n
  induction n with
  | zero =>
    intro x1 x2 x3 σ H locs ls h
    cases h
  | succ n ih =>
    intro x1 x2 x3 σ H locs ls h hσ hS hl
    rw [bT_comparisons_4] at h
    refine lv_iload_n C.x C.b dX10_comparisons_4 rfl (lv_at hl 3 rfl) ?_
    refine lv_aload_n C.x C.b dX10_comparisons_5 rfl (lv_at hl 0 rfl) ?_
    refine lv_iload_n C.x C.b dX10_comparisons_6 rfl (lv_at hl 1 rfl) ?_
    refine lv_iconst (v := 0) C.x C.b dX10_comparisons_7 (by decide) ?_
    refine tw_call (y := yX10_of) (bytes := cX10_of) (maxL := 3) (fun v => some (.int v)) [.int x1, .int 0] (fun _ => True)  C hw XB.tt (fun _ _ _ => trivial) hσ hS hl.1 h (fun vv ss ee => kT_of l g A x1 0 σ vv ss ee) (cwV 2 C.t (lw_V q2346 q2348 qs85 q159 q2349) rfl rfl rfl (by decide +kernel) ⟨Nat.le_trans (Nat.le_of_ble_eq_true rfl) hRf, Nat.le_trans (Nat.le_of_ble_eq_true rfl) hRl⟩) rfl rfl (Nat.le_of_ble_eq_true rfl) dX10_comparisons_8 (fun v_1 σ_2 H locs h hσ hS => ?_)
    refine lv_icmp_ge (tgt := 40) C.x C.b dX10_comparisons_11 (by decide) (fun c_3 => ?_) (fun c_3 => ?_)
    · have h := ip c_3 h
      refine lv_iload_n C.x C.b dX10_comparisons_40 rfl (lv_at hl 2 rfl) ?_
      exact tw_iret C hσ hS h dX10_comparisons_41
    · have h := iN c_3 h
      refine lv_iload_n C.x C.b dX10_comparisons_14 rfl (lv_at hl 2 rfl) ?_
      refine lv_aload_n C.x C.b dX10_comparisons_15 rfl (lv_at hl 0 rfl) ?_
      refine lv_iload_n C.x C.b dX10_comparisons_16 rfl (lv_at hl 1 rfl) ?_
      refine lv_iconst (v := 1) C.x C.b dX10_comparisons_17 (by decide) ?_
      refine lv_iload_n C.x C.b dX10_comparisons_18 rfl (lv_at hl 3 rfl) ?_
      refine lv_iadd C.x C.b dX10_comparisons_19 ?_
      refine tw_call (y := yX10_of) (bytes := cX10_of) (maxL := 3) (fun v => some (.int v)) [.int x1, .int (1 + x3)] (fun _ => True)  C hw XB.tt (fun _ _ _ => trivial) hσ hS hl.1 h (fun vv ss ee => kT_of l g A x1 (1 + x3) σ_2 vv ss ee) (cwV 2 C.t (lw_V q2346 q2348 qs85 q159 q2349) rfl rfl rfl (by decide +kernel) ⟨Nat.le_trans (Nat.le_of_ble_eq_true rfl) hRf, Nat.le_trans (Nat.le_of_ble_eq_true rfl) hRl⟩) rfl rfl (Nat.le_of_ble_eq_true rfl) dX10_comparisons_20 (fun v_4 σ_5 H locs h hσ hS => ?_)
      refine lv_iconst (v := 4) C.x C.b dX10_comparisons_23 (by decide) ?_
      refine lv_icmp_lt (tgt := 31) C.x C.b dX10_comparisons_24 (by decide) (fun c_6 => ?_) (fun c_6 => ?_)
      · have h := ip c_6 h
        refine lv_iconst (v := 0) C.x C.b dX10_comparisons_31 (by decide) ?_
        refine lv_iadd C.x C.b dX10_comparisons_32 ?_
        refine tw_lt h (fun x2_7 h => ?_)
        refine lv_istore_n (lv' := [(2, .int x2_7), (0, .ref g.2.2.2.1), (1, .int x1), (3, .int x3)]) C.x C.b dX10_comparisons_33 rfl hl (by decide) rfl (fun ls hl => ?_)
        obtain ⟨x3_8, e_, h⟩ := nm_s h
        refine lv_iinc (v := x3_8) (lv' := [(3, .int x3_8), (2, .int x2_7), (0, .ref g.2.2.2.1), (1, .int x1)]) C.x C.b dX10_comparisons_34 hl (k := 3) rfl e_.symm (by decide) rfl (fun ls hl => ?_)
        refine lv_goto (tgt := 4) C.x C.b dX10_comparisons_37 (by decide) ?_
        exact ih _ _ _ _ _ _ _ h hσ hS (lv_sub hl [2, 3, 1, 0] rfl)
      · have h := iN c_6 h
        refine lv_iconst (v := 1) C.x C.b dX10_comparisons_27 (by decide) ?_
        refine lv_goto (tgt := 32) C.x C.b dX10_comparisons_28 (by decide) ?_
        refine lv_iadd C.x C.b dX10_comparisons_32 ?_
        refine tw_lt h (fun x2_9 h => ?_)
        refine lv_istore_n (lv' := [(2, .int x2_9), (0, .ref g.2.2.2.1), (1, .int x1), (3, .int x3)]) C.x C.b dX10_comparisons_33 rfl hl (by decide) rfl (fun ls hl => ?_)
        obtain ⟨x3_10, e_, h⟩ := nm_s h
        refine lv_iinc (v := x3_10) (lv' := [(3, .int x3_10), (2, .int x2_9), (0, .ref g.2.2.2.1), (1, .int x1)]) C.x C.b dX10_comparisons_34 hl (k := 3) rfl e_.symm (by decide) rfl (fun ls hl => ?_)
        refine lv_goto (tgt := 4) C.x C.b dX10_comparisons_37 (by decide) ?_
        exact ih _ _ _ _ _ _ _ h hσ hS (lv_sub hl [2, 3, 1, 0] rfl)

theorem kT_comparisons (l : Launch) (g : twG) (A : Nat → Prop) (x1 : Int32) (σ : twS) (v : Int32) (σ1 : twS) (h : mT_comparisons x1 σ = some (v, σ1)) : Met l yX10_comparisons (ws_ yX10_comparisons cX10_comparisons 4 (some .int)) ({ frames := 3, cells := 0, slots := 0, locals := 66 }) (TPc twL g A [.ref g.2.2.2.1, .int x1] (fun _ => True) σ) (TQ g A (some (.int v)) σ1) 0 0 A := by
  refine Met.ofW (cc := cX10_comparisons) (maxL := 4) (ret := (some .int)) (by decide) rfl ?_
  intro p e s m args below meth c s₁ B hml hv
  obtain ⟨rfl, hw, hX, hσ⟩ := hv
  have hts := atoms_spec (ws := (ws_ yX10_comparisons cX10_comparisons 4 (some .int))) B.pre
  have C : CX p m meth c s ([.ref g.2.2.2.1, .int x1] : List Value).toArray cX10_comparisons 4 (some .int) RX10 := ⟨⟨B.exec, B.bytes, hml, findClass_of_methodNamed B.named, fun w h => hts w (List.mem_cons_of_mem _ h)⟩, B.returns, B.notSynchronized⟩
  have hRf : 3 ≤ (headSpec (ws_ yX10_comparisons cX10_comparisons 4 (some .int)) ({ frames := 3, cells := 0, slots := 0, locals := 66 })).room.frames := Nat.le_refl _
  have hRl : 66 ≤ (headSpec (ws_ yX10_comparisons cX10_comparisons 4 (some .int)) ({ frames := 3, cells := 0, slots := 0, locals := 66 })).room.locals := Nat.le_refl _
  generalize (headSpec (ws_ yX10_comparisons cX10_comparisons 4 (some .int)) ({ frames := 3, cells := 0, slots := 0, locals := 66 })).room = R at hRf hRl ⊢
  have hS : va_S A s.heap s.heap [] := va_S.rf
  have hl := lv_entry ([.ref g.2.2.2.1, .int x1]) (n := 4) (Nat.le_of_ble_eq_true rfl)
  rw [lg_entry_eq]
  generalize (lg_sl ([.ref g.2.2.2.1, .int x1]) ++ List.replicate (4 - (lg_sl ([.ref g.2.2.2.1, .int x1])).length) Slot.unset).toArray = ls at hl ⊢
  have hl : lv_has ls 4 [(0, .ref g.2.2.2.1), (1, .int x1)] := hl
  obtain ⟨z, hz⟩ : ∃ z, z = (v, σ1) := ⟨_, rfl⟩
  rw [← hz] at h
  rw [show v = z.1 by rw [hz], show σ1 = z.2 by rw [hz]]
  clear hz v σ1
  unfold mT_comparisons at h
  refine lv_iconst (v := 0) C.x C.b dX10_comparisons_0 (by decide) ?_
  refine lv_istore_n (lv' := [(2, .int 0), (0, .ref g.2.2.2.1), (1, .int x1)]) C.x C.b dX10_comparisons_1 rfl hl (by decide) rfl (fun ls hl => ?_)
  refine lv_iconst (v := 0) C.x C.b dX10_comparisons_2 (by decide) ?_
  refine lv_istore_n (lv' := [(3, .int 0), (2, .int 0), (0, .ref g.2.2.2.1), (1, .int x1)]) C.x C.b dX10_comparisons_3 rfl hl (by decide) rfl (fun ls hl => ?_)
  exact wT_comparisons_4 C hw hRf hRl _ _ _ _ _ _ _ _ h hσ hS (lv_sub hl [2, 3, 1, 0] rfl)

theorem wT_overIt_4 {z : Int32 × twS} (C : CX p m meth c s args cX10_overIt 4 (some .int) RX10) (hw : WKt twL g A s s.heap) (hRf : 3 ≤ R.frames) (hRl : 66 ≤ R.locals) : ∀ (n : Nat) (x1 : Int32) (x2 : Int32) (x3 : Int32) (σ : twS) (H : Heap) (locs : List Loc) (ls : Array Slot), bT_overIt_4 n x1 x2 x3 σ = some z → TI g A σ H → va_S A s.heap H locs → lv_has ls 4 [(0, .ref g.2.2.2.1), (1, .int x1), (2, .int x2), (3, .int x3)] → W p l e R s m args below meth c H locs 0 0 (MQ below (TQ g A (some (.int z.1)) z.2) args s 0 0 A) (F0 m 4 ls []) := by
  intro n
  induction n with
  | zero =>
    intro x1 x2 x3 σ H locs ls h
    cases h
  | succ n ih =>
    intro x1 x2 x3 σ H locs ls h hσ hS hl
    rw [bT_overIt_4] at h
    refine lv_iload_n C.x C.b dX10_overIt_4 rfl (lv_at hl 3 rfl) ?_
    refine lv_aload_n C.x C.b dX10_overIt_5 rfl (lv_at hl 0 rfl) ?_
    refine tw_gf0 C hw hσ q2215 dX10_overIt_6 ?_
    refine lv_bipush (v := 17) C.x C.b dX10_overIt_9 (by decide) ?_
    refine tw_ld0 C hw hσ h dX10_overIt_11 (fun v_1 h => ?_)
    refine lv_icmp_ge (tgt := 45) C.x C.b dX10_overIt_12 (by decide) (fun c_2 => ?_) (fun c_2 => ?_)
    · have h := ip c_2 h
      refine lv_iload_n C.x C.b dX10_overIt_45 rfl (lv_at hl 2 rfl) ?_
      exact tw_iret C hσ hS h dX10_overIt_46
    · have h := iN c_2 h
      refine lv_iload_n C.x C.b dX10_overIt_15 rfl (lv_at hl 2 rfl) ?_
      refine lv_aload_n C.x C.b dX10_overIt_16 rfl (lv_at hl 0 rfl) ?_
      refine lv_iload_n C.x C.b dX10_overIt_17 rfl (lv_at hl 3 rfl) ?_
      refine lv_bipush (v := 33) C.x C.b dX10_overIt_18 (by decide) ?_
      refine tw_call (y := yX10_of) (bytes := cX10_of) (maxL := 3) (fun v => some (.int v)) [.int x3, .int 33] (fun _ => True)  C hw XB.tt (fun _ _ _ => trivial) hσ hS hl.1 h (fun vv ss ee => kT_of l g A x3 33 σ vv ss ee) (cwV 2 C.t (lw_V q2346 q2348 qs85 q159 q2349) rfl rfl rfl (by decide +kernel) ⟨Nat.le_trans (Nat.le_of_ble_eq_true rfl) hRf, Nat.le_trans (Nat.le_of_ble_eq_true rfl) hRl⟩) rfl rfl (Nat.le_of_ble_eq_true rfl) dX10_overIt_20 (fun v_3 σ_4 H locs h hσ hS => ?_)
      refine lv_iload_n C.x C.b dX10_overIt_23 rfl (lv_at hl 1 rfl) ?_
      refine tw_callS (y := yX10_has) (bytes := cX10_has) (maxL := 2) (fun v => some (.int v)) [.int v_3, .int x1] C hw hσ hS hl.1 h (fun vv ss ee => kT_has l g A v_3 x1 σ_4 vv ss ee) (va_cwS 2 C.t (lw_S q2199 q2200 q159 q2201) rfl rfl rfl (by decide +kernel) ⟨Nat.le_trans (Nat.le_of_ble_eq_true rfl) hRf, Nat.le_trans (Nat.le_of_ble_eq_true rfl) hRl⟩) rfl rfl (Nat.le_of_ble_eq_true rfl) dX10_overIt_24 (fun v_5 σ_6 H locs h hσ hS => ?_)
      refine lv_if_eq (tgt := 36) C.x C.b dX10_overIt_27 (by decide) (fun c_7 => ?_) (fun c_7 => ?_)
      · have h := ip c_7 h
        refine lv_iconst (v := 0) C.x C.b dX10_overIt_36 (by decide) ?_
        refine lv_ior C.x C.b dX10_overIt_37 ?_
        refine tw_lt h (fun x2_8 h => ?_)
        refine lv_istore_n (lv' := [(2, .int x2_8), (0, .ref g.2.2.2.1), (1, .int x1), (3, .int x3)]) C.x C.b dX10_overIt_38 rfl hl (by decide) rfl (fun ls hl => ?_)
        obtain ⟨x3_9, e_, h⟩ := nm_s h
        refine lv_iinc (v := x3_9) (lv' := [(3, .int x3_9), (2, .int x2_8), (0, .ref g.2.2.2.1), (1, .int x1)]) C.x C.b dX10_overIt_39 hl (k := 3) rfl e_.symm (by decide) rfl (fun ls hl => ?_)
        refine lv_goto (tgt := 4) C.x C.b dX10_overIt_42 (by decide) ?_
        exact ih _ _ _ _ _ _ _ h hσ hS (lv_sub hl [2, 3, 1, 0] rfl)
      · have h := iN c_7 h
        refine lv_iconst (v := 1) C.x C.b dX10_overIt_30 (by decide) ?_
        refine lv_iload_n C.x C.b dX10_overIt_31 rfl (lv_at hl 3 rfl) ?_
        refine lv_ishl C.x C.b dX10_overIt_32 ?_
        refine lv_goto (tgt := 37) C.x C.b dX10_overIt_33 (by decide) ?_
        refine lv_ior C.x C.b dX10_overIt_37 ?_
        refine tw_lt h (fun x2_10 h => ?_)
        refine lv_istore_n (lv' := [(2, .int x2_10), (0, .ref g.2.2.2.1), (1, .int x1), (3, .int x3)]) C.x C.b dX10_overIt_38 rfl hl (by decide) rfl (fun ls hl => ?_)
        obtain ⟨x3_11, e_, h⟩ := nm_s h
        refine lv_iinc (v := x3_11) (lv' := [(3, .int x3_11), (2, .int x2_10), (0, .ref g.2.2.2.1), (1, .int x1)]) C.x C.b dX10_overIt_39 hl (k := 3) rfl e_.symm (by decide) rfl (fun ls hl => ?_)
        refine lv_goto (tgt := 4) C.x C.b dX10_overIt_42 (by decide) ?_
        exact ih _ _ _ _ _ _ _ h hσ hS (lv_sub hl [2, 3, 1, 0] rfl)

theorem kT_overIt (l : Launch) (g : twG) (A : Nat → Prop) (x1 : Int32) (σ : twS) (v : Int32) (σ1 : twS) (h : mT_overIt x1 σ = some (v, σ1)) : Met l yX10_overIt (ws_ yX10_overIt cX10_overIt 4 (some .int)) ({ frames := 3, cells := 0, slots := 0, locals := 66 }) (TPc twL g A [.ref g.2.2.2.1, .int x1] (fun _ => True) σ) (TQ g A (some (.int v)) σ1) 0 0 A := by
  refine Met.ofW (cc := cX10_overIt) (maxL := 4) (ret := (some .int)) (by decide) rfl ?_
  intro p e s m args below meth c s₁ B hml hv
  obtain ⟨rfl, hw, hX, hσ⟩ := hv
  have hts := atoms_spec (ws := (ws_ yX10_overIt cX10_overIt 4 (some .int))) B.pre
  have C : CX p m meth c s ([.ref g.2.2.2.1, .int x1] : List Value).toArray cX10_overIt 4 (some .int) RX10 := ⟨⟨B.exec, B.bytes, hml, findClass_of_methodNamed B.named, fun w h => hts w (List.mem_cons_of_mem _ h)⟩, B.returns, B.notSynchronized⟩
  have hRf : 3 ≤ (headSpec (ws_ yX10_overIt cX10_overIt 4 (some .int)) ({ frames := 3, cells := 0, slots := 0, locals := 66 })).room.frames := Nat.le_refl _
  have hRl : 66 ≤ (headSpec (ws_ yX10_overIt cX10_overIt 4 (some .int)) ({ frames := 3, cells := 0, slots := 0, locals := 66 })).room.locals := Nat.le_refl _
  generalize (headSpec (ws_ yX10_overIt cX10_overIt 4 (some .int)) ({ frames := 3, cells := 0, slots := 0, locals := 66 })).room = R at hRf hRl ⊢
  have hS : va_S A s.heap s.heap [] := va_S.rf
  have hl := lv_entry ([.ref g.2.2.2.1, .int x1]) (n := 4) (Nat.le_of_ble_eq_true rfl)
  rw [lg_entry_eq]
  generalize (lg_sl ([.ref g.2.2.2.1, .int x1]) ++ List.replicate (4 - (lg_sl ([.ref g.2.2.2.1, .int x1])).length) Slot.unset).toArray = ls at hl ⊢
  have hl : lv_has ls 4 [(0, .ref g.2.2.2.1), (1, .int x1)] := hl
  obtain ⟨z, hz⟩ : ∃ z, z = (v, σ1) := ⟨_, rfl⟩
  rw [← hz] at h
  rw [show v = z.1 by rw [hz], show σ1 = z.2 by rw [hz]]
  clear hz v σ1
  unfold mT_overIt at h
  refine lv_iconst (v := 0) C.x C.b dX10_overIt_0 (by decide) ?_
  refine lv_istore_n (lv' := [(2, .int 0), (0, .ref g.2.2.2.1), (1, .int x1)]) C.x C.b dX10_overIt_1 rfl hl (by decide) rfl (fun ls hl => ?_)
  refine lv_iconst (v := 0) C.x C.b dX10_overIt_2 (by decide) ?_
  refine lv_istore_n (lv' := [(3, .int 0), (2, .int 0), (0, .ref g.2.2.2.1), (1, .int x1)]) C.x C.b dX10_overIt_3 rfl hl (by decide) rfl (fun ls hl => ?_)
  exact wT_overIt_4 C hw hRf hRl _ _ _ _ _ _ _ _ h hσ hS (lv_sub hl [2, 3, 1, 0] rfl)

theorem wT_manyOf_94 {z : Int32 × twS} (C : CX p m meth c s args cX10_manyOf 8 (some .int) RX10) (hw : WKt twL g A s s.heap) (hRf : 7 ≤ R.frames) (hRl : 156 ≤ R.locals) {k15 : Int32 → Int32 → Int32 → Int32 → Int32 → twS → Option (Int32 × twS)} (hk15 : ∀ (x1 : Int32) (x2 : Int32) (x3 : Int32) (x4 : Int32) (x5 : Int32) (σ : twS) (H : Heap) (locs : List Loc) (ls : Array Slot), k15 x1 x2 x3 x4 x5 σ = some z → TI g A σ H → va_S A s.heap H locs → lv_has ls 8 [(0, .ref g.2.2.2.1), (1, .int x1), (2, .int x2), (3, .int x3), (4, .int x4), (5, .int x5)] → W p l e R s m args below meth c H locs 0 0 (MQ below (TQ g A (some (.int z.1)) z.2) args s 0 0 A) (F0 m 15 ls [])) : ∀ (x1 : Int32) (x2 : Int32) (x3 : Int32) (x4 : Int32) (x5 : Int32) (s0 : Int32) (σ : twS) (H : Heap) (locs : List Loc) (ls : Array Slot), bT_manyOf_94 k15 x1 x2 x3 x4 x5 s0 σ = some z → TI g A σ H → va_S A s.heap H locs → lv_has ls 8 [(0, .ref g.2.2.2.1), (1, .int x1), (2, .int x2), (3, .int x3), (4, .int x4), (5, .int x5)] → W p l e R s m args below meth c H locs 0 0 (MQ below (TQ g A (some (.int z.1)) z.2) args s 0 0 A) (F0 m 94 ls [.int s0]) := by
  intro x1 x2 x3 x4 x5 s0 σ H locs ls h hσ hS hl
  unfold bT_manyOf_94 at h
  refine lv_istore (lv' := [(7, .int s0), (0, .ref g.2.2.2.1), (1, .int x1), (2, .int x2), (3, .int x3), (4, .int x4), (5, .int x5)]) C.x C.b dX10_manyOf_94 hl (by decide) rfl (fun ls hl => ?_)
  refine lv_iload_n C.x C.b dX10_manyOf_96 rfl (lv_at hl 4 rfl) ?_
  refine lv_iload C.x C.b dX10_manyOf_97 (lv_at hl 0 rfl) ?_
  refine lv_if_eq (tgt := 106) C.x C.b dX10_manyOf_99 (by decide) (fun c_1 => ?_) (fun c_1 => ?_)
  · have h := ip c_1 h
    refine lv_iconst (v := 0) C.x C.b dX10_manyOf_106 (by decide) ?_
    refine lv_iadd C.x C.b dX10_manyOf_107 ?_
    refine tw_lt h (fun x3_2 h => ?_)
    refine lv_istore_n (lv' := [(3, .int x3_2), (7, .int s0), (0, .ref g.2.2.2.1), (1, .int x1), (2, .int x2), (4, .int x4), (5, .int x5)]) C.x C.b dX10_manyOf_108 rfl hl (by decide) rfl (fun ls hl => ?_)
    obtain ⟨x5_3, e_, h⟩ := nm_s h
    refine lv_iinc (v := x5_3) (lv' := [(5, .int x5_3), (3, .int x3_2), (7, .int s0), (0, .ref g.2.2.2.1), (1, .int x1), (2, .int x2), (4, .int x4)]) C.x C.b dX10_manyOf_109 hl (k := 6) rfl e_.symm (by decide) rfl (fun ls hl => ?_)
    refine lv_goto (tgt := 15) C.x C.b dX10_manyOf_112 (by decide) ?_
    exact hk15 _ _ _ _ _ _ _ _ _ h hσ hS (lv_sub hl [3, 4, 5, 1, 6, 0] rfl)
  · have h := iN c_1 h
    refine lv_iconst (v := 1) C.x C.b dX10_manyOf_102 (by decide) ?_
    refine lv_goto (tgt := 107) C.x C.b dX10_manyOf_103 (by decide) ?_
    refine lv_iadd C.x C.b dX10_manyOf_107 ?_
    refine tw_lt h (fun x3_4 h => ?_)
    refine lv_istore_n (lv' := [(3, .int x3_4), (7, .int s0), (0, .ref g.2.2.2.1), (1, .int x1), (2, .int x2), (4, .int x4), (5, .int x5)]) C.x C.b dX10_manyOf_108 rfl hl (by decide) rfl (fun ls hl => ?_)
    obtain ⟨x5_5, e_, h⟩ := nm_s h
    refine lv_iinc (v := x5_5) (lv' := [(5, .int x5_5), (3, .int x3_4), (7, .int s0), (0, .ref g.2.2.2.1), (1, .int x1), (2, .int x2), (4, .int x4)]) C.x C.b dX10_manyOf_109 hl (k := 6) rfl e_.symm (by decide) rfl (fun ls hl => ?_)
    refine lv_goto (tgt := 15) C.x C.b dX10_manyOf_112 (by decide) ?_
    exact hk15 _ _ _ _ _ _ _ _ _ h hσ hS (lv_sub hl [3, 4, 5, 1, 6, 0] rfl)

theorem wT_manyOf_93 {z : Int32 × twS} (C : CX p m meth c s args cX10_manyOf 8 (some .int) RX10) (hw : WKt twL g A s s.heap) (hRf : 7 ≤ R.frames) (hRl : 156 ≤ R.locals) {k15 : Int32 → Int32 → Int32 → Int32 → Int32 → twS → Option (Int32 × twS)} (hk15 : ∀ (x1 : Int32) (x2 : Int32) (x3 : Int32) (x4 : Int32) (x5 : Int32) (σ : twS) (H : Heap) (locs : List Loc) (ls : Array Slot), k15 x1 x2 x3 x4 x5 σ = some z → TI g A σ H → va_S A s.heap H locs → lv_has ls 8 [(0, .ref g.2.2.2.1), (1, .int x1), (2, .int x2), (3, .int x3), (4, .int x4), (5, .int x5)] → W p l e R s m args below meth c H locs 0 0 (MQ below (TQ g A (some (.int z.1)) z.2) args s 0 0 A) (F0 m 15 ls [])) : ∀ (x1 : Int32) (x2 : Int32) (x3 : Int32) (x4 : Int32) (x5 : Int32) (σ : twS) (H : Heap) (locs : List Loc) (ls : Array Slot), bT_manyOf_93 k15 x1 x2 x3 x4 x5 σ = some z → TI g A σ H → va_S A s.heap H locs → lv_has ls 8 [(0, .ref g.2.2.2.1), (1, .int x1), (2, .int x2), (3, .int x3), (4, .int x4), (5, .int x5)] → W p l e R s m args below meth c H locs 0 0 (MQ below (TQ g A (some (.int z.1)) z.2) args s 0 0 A) (F0 m 93 ls []) := by
  intro x1 x2 x3 x4 x5 σ H locs ls h hσ hS hl
  unfold bT_manyOf_93 at h
  refine lv_iconst (v := 0) C.x C.b dX10_manyOf_93 (by decide) ?_
  exact wT_manyOf_94 C hw hRf hRl hk15 _ _ _ _ _ _ _ _ _ _ h hσ hS (lv_sub hl [0, 1, 2, 3, 4, 5] rfl)

theorem wT_manyOf_15 {z : Int32 × twS} (C : CX p m meth c s args cX10_manyOf 8 (some .int) RX10) (hw : WKt twL g A s s.heap) (hRf : 7 ≤ R.frames) (hRl : 156 ≤ R.locals) : ∀ (n : Nat) (x1 : Int32) (x2 : Int32) (x3 : Int32) (x4 : Int32) (x5 : Int32) (σ : twS) (H : Heap) (locs : List Loc) (ls : Array Slot), bT_manyOf_15 n x1 x2 x3 x4 x5 σ = some z → TI g A σ H → va_S A s.heap H locs → lv_has ls 8 [(0, .ref g.2.2.2.1), (1, .int x1), (2, .int x2), (3, .int x3), (4, .int x4), (5, .int x5)] → W p l e R s m args below meth c H locs 0 0 (MQ below (TQ g A (some (.int z.1)) z.2) args s 0 0 A) (F0 m 15 ls []) := by
  intro n
  induction n with
  | zero =>
    intro x1 x2 x3 x4 x5 σ H locs ls h
    cases h
  | succ n ih =>
    intro x1 x2 x3 x4 x5 σ H locs ls h hσ hS hl
    rw [bT_manyOf_15] at h
    refine lv_iload C.x C.b dX10_manyOf_15 (lv_at hl 5 rfl) ?_
    refine lv_iload C.x C.b dX10_manyOf_17 (lv_at hl 4 rfl) ?_
    refine lv_icmp_ge (tgt := 115) C.x C.b dX10_manyOf_19 (by decide) (fun c_1 => ?_) (fun c_1 => ?_)
    · have h := ip c_1 h
      refine lv_iload_n C.x C.b dX10_manyOf_115 rfl (lv_at hl 3 rfl) ?_
      exact tw_iret C hσ hS h dX10_manyOf_116
    · have h := iN c_1 h
      refine lv_aload_n C.x C.b dX10_manyOf_22 rfl (lv_at hl 0 rfl) ?_
      refine tw_gf15 C hw hσ q2230 dX10_manyOf_23 ?_
      refine lv_iload C.x C.b dX10_manyOf_26 (lv_at hl 5 rfl) ?_
      refine tw_ld15 C hw hσ h dX10_manyOf_28 (fun v_2 h => ?_)
      refine lv_istore (lv' := [(6, .int v_2), (0, .ref g.2.2.2.1), (1, .int x1), (2, .int x2), (3, .int x3), (4, .int x4), (5, .int x5)]) C.x C.b dX10_manyOf_29 hl (by decide) rfl (fun ls hl => ?_)
      refine lv_iload_n C.x C.b dX10_manyOf_31 rfl (lv_at hl 3 rfl) ?_
      refine lv_if_ne (tgt := 44) C.x C.b dX10_manyOf_32 (by decide) (fun c_3 => ?_) (fun c_3 => ?_)
      · have h := iN c_3 h
        refine lv_iload_n C.x C.b dX10_manyOf_44 rfl (lv_at hl 3 rfl) ?_
        refine lv_iconst (v := 1) C.x C.b dX10_manyOf_45 (by decide) ?_
        refine lv_icmp_ne (tgt := 67) C.x C.b dX10_manyOf_46 (by decide) (fun c_4 => ?_) (fun c_4 => ?_)
        · have h := iN c_4 h
          refine lv_iload C.x C.b dX10_manyOf_67 (lv_at hl 0 rfl) ?_
          refine lv_iload_n C.x C.b dX10_manyOf_69 rfl (lv_at hl 2 rfl) ?_
          refine tw_callS (y := yX10_has) (bytes := cX10_has) (maxL := 2) (fun v => some (.int v)) [.int v_2, .int x1] C hw hσ hS hl.1 h (fun vv ss ee => kT_has l g A v_2 x1 σ vv ss ee) (va_cwS 2 C.t (lw_S q2199 q2200 q159 q2201) rfl rfl rfl (by decide +kernel) ⟨Nat.le_trans (Nat.le_of_ble_eq_true rfl) hRf, Nat.le_trans (Nat.le_of_ble_eq_true rfl) hRl⟩) rfl rfl (Nat.le_of_ble_eq_true rfl) dX10_manyOf_70 (fun v_5 σ_6 H locs h hσ hS => ?_)
          refine lv_if_eq (tgt := 93) C.x C.b dX10_manyOf_73 (by decide) (fun c_7 => ?_) (fun c_7 => ?_)
          · have h := ip c_7 h
            exact wT_manyOf_93 C hw hRf hRl (fun y0 y1 y2 y3 y4 σ H locs ls h hσ hS hl => ih y0 y1 y2 y3 y4 σ H locs ls h hσ hS hl) _ _ _ _ _ _ _ _ _ h hσ hS (lv_sub hl [1, 2, 3, 4, 5, 6] rfl)
          · have h := iN c_7 h
            refine lv_aload_n C.x C.b dX10_manyOf_76 rfl (lv_at hl 1 rfl) ?_
            refine lv_iload C.x C.b dX10_manyOf_77 (lv_at hl 0 rfl) ?_
            refine tw_call (y := yX10_unbeaten) (bytes := cX10_unbeaten) (maxL := 4) (fun v => some (.int v)) [.int v_2] (fun _ => True)  C hw XB.tt (fun _ _ _ => trivial) hσ hS hl.1 h (fun vv ss ee => kT_unbeaten l g A v_2 σ_6 vv ss ee) (cwV 1 C.t (lw_V q2367 q2369 qs90 q159 q2370) rfl rfl rfl (by decide +kernel) ⟨Nat.le_trans (Nat.le_of_ble_eq_true rfl) hRf, Nat.le_trans (Nat.le_of_ble_eq_true rfl) hRl⟩) rfl rfl (Nat.le_of_ble_eq_true rfl) dX10_manyOf_79 (fun v_8 σ_9 H locs h hσ hS => ?_)
            refine lv_iload_n C.x C.b dX10_manyOf_82 rfl (lv_at hl 2 rfl) ?_
            refine tw_callS (y := yX10_has) (bytes := cX10_has) (maxL := 2) (fun v => some (.int v)) [.int v_8, .int x1] C hw hσ hS hl.1 h (fun vv ss ee => kT_has l g A v_8 x1 σ_9 vv ss ee) (va_cwS 2 C.t (lw_S q2199 q2200 q159 q2201) rfl rfl rfl (by decide +kernel) ⟨Nat.le_trans (Nat.le_of_ble_eq_true rfl) hRf, Nat.le_trans (Nat.le_of_ble_eq_true rfl) hRl⟩) rfl rfl (Nat.le_of_ble_eq_true rfl) dX10_manyOf_83 (fun v_10 σ_11 H locs h hσ hS => ?_)
            refine lv_if_ne (tgt := 93) C.x C.b dX10_manyOf_86 (by decide) (fun c_12 => ?_) (fun c_12 => ?_)
            · have h := iN c_12 h
              exact wT_manyOf_93 C hw hRf hRl (fun y0 y1 y2 y3 y4 σ H locs ls h hσ hS hl => ih y0 y1 y2 y3 y4 σ H locs ls h hσ hS hl) _ _ _ _ _ _ _ _ _ h hσ hS (lv_sub hl [1, 2, 3, 4, 5, 6] rfl)
            · have h := ip c_12 h
              refine lv_iconst (v := 1) C.x C.b dX10_manyOf_89 (by decide) ?_
              refine lv_goto (tgt := 94) C.x C.b dX10_manyOf_90 (by decide) ?_
              exact wT_manyOf_94 C hw hRf hRl (fun y0 y1 y2 y3 y4 σ H locs ls h hσ hS hl => ih y0 y1 y2 y3 y4 σ H locs ls h hσ hS hl) _ _ _ _ _ _ _ _ _ _ h hσ hS (lv_sub hl [1, 2, 3, 4, 5, 6] rfl)
        · have h := ip c_4 h
          refine lv_aload_n C.x C.b dX10_manyOf_49 rfl (lv_at hl 1 rfl) ?_
          refine lv_iload C.x C.b dX10_manyOf_50 (lv_at hl 0 rfl) ?_
          refine tw_call (y := yX10_settles) (bytes := cX10_settles) (maxL := 2) (fun v => some (.int v)) [.int v_2] (fun _ => True)  C hw XB.tt (fun _ _ _ => trivial) hσ hS hl.1 h (fun vv ss ee => kT_settles l g A v_2 σ vv ss ee) (cwV 1 C.t (lw_V q2414 q2416 qs98 q159 q2417) rfl rfl rfl (by decide +kernel) ⟨Nat.le_trans (Nat.le_of_ble_eq_true rfl) hRf, Nat.le_trans (Nat.le_of_ble_eq_true rfl) hRl⟩) rfl rfl (Nat.le_of_ble_eq_true rfl) dX10_manyOf_52 (fun v_13 σ_14 H locs h hσ hS => ?_)
          refine lv_iload_n C.x C.b dX10_manyOf_55 rfl (lv_at hl 2 rfl) ?_
          refine lv_icmp_ne (tgt := 63) C.x C.b dX10_manyOf_56 (by decide) (fun c_15 => ?_) (fun c_15 => ?_)
          · have h := iN c_15 h
            refine lv_iconst (v := 0) C.x C.b dX10_manyOf_63 (by decide) ?_
            refine lv_goto (tgt := 94) C.x C.b dX10_manyOf_64 (by decide) ?_
            exact wT_manyOf_94 C hw hRf hRl (fun y0 y1 y2 y3 y4 σ H locs ls h hσ hS hl => ih y0 y1 y2 y3 y4 σ H locs ls h hσ hS hl) _ _ _ _ _ _ _ _ _ _ h hσ hS (lv_sub hl [1, 2, 3, 4, 5, 6] rfl)
          · have h := ip c_15 h
            refine lv_iconst (v := 1) C.x C.b dX10_manyOf_59 (by decide) ?_
            refine lv_goto (tgt := 94) C.x C.b dX10_manyOf_60 (by decide) ?_
            exact wT_manyOf_94 C hw hRf hRl (fun y0 y1 y2 y3 y4 σ H locs ls h hσ hS hl => ih y0 y1 y2 y3 y4 σ H locs ls h hσ hS hl) _ _ _ _ _ _ _ _ _ _ h hσ hS (lv_sub hl [1, 2, 3, 4, 5, 6] rfl)
      · have h := ip c_3 h
        refine lv_iload C.x C.b dX10_manyOf_35 (lv_at hl 0 rfl) ?_
        refine lv_iload_n C.x C.b dX10_manyOf_37 rfl (lv_at hl 2 rfl) ?_
        refine tw_callS (y := yX10_has) (bytes := cX10_has) (maxL := 2) (fun v => some (.int v)) [.int v_2, .int x1] C hw hσ hS hl.1 h (fun vv ss ee => kT_has l g A v_2 x1 σ vv ss ee) (va_cwS 2 C.t (lw_S q2199 q2200 q159 q2201) rfl rfl rfl (by decide +kernel) ⟨Nat.le_trans (Nat.le_of_ble_eq_true rfl) hRf, Nat.le_trans (Nat.le_of_ble_eq_true rfl) hRl⟩) rfl rfl (Nat.le_of_ble_eq_true rfl) dX10_manyOf_38 (fun v_16 σ_17 H locs h hσ hS => ?_)
        refine lv_goto (tgt := 94) C.x C.b dX10_manyOf_41 (by decide) ?_
        exact wT_manyOf_94 C hw hRf hRl (fun y0 y1 y2 y3 y4 σ H locs ls h hσ hS hl => ih y0 y1 y2 y3 y4 σ H locs ls h hσ hS hl) _ _ _ _ _ _ _ _ _ _ h hσ hS (lv_sub hl [1, 2, 3, 4, 5, 6] rfl)

theorem kT_manyOf (l : Launch) (g : twG) (A : Nat → Prop) (x1 : Int32) (x2 : Int32) (σ : twS) (v : Int32) (σ1 : twS) (h : mT_manyOf x1 x2 σ = some (v, σ1)) : Met l yX10_manyOf (ws_ yX10_manyOf cX10_manyOf 8 (some .int)) ({ frames := 7, cells := 0, slots := 0, locals := 156 }) (TPc twL g A [.ref g.2.2.2.1, .int x1, .int x2] (fun _ => True) σ) (TQ g A (some (.int v)) σ1) 0 0 A := by
  refine Met.ofW (cc := cX10_manyOf) (maxL := 8) (ret := (some .int)) (by decide) rfl ?_
  intro p e s m args below meth c s₁ B hml hv
  obtain ⟨rfl, hw, hX, hσ⟩ := hv
  have hts := atoms_spec (ws := (ws_ yX10_manyOf cX10_manyOf 8 (some .int))) B.pre
  have C : CX p m meth c s ([.ref g.2.2.2.1, .int x1, .int x2] : List Value).toArray cX10_manyOf 8 (some .int) RX10 := ⟨⟨B.exec, B.bytes, hml, findClass_of_methodNamed B.named, fun w h => hts w (List.mem_cons_of_mem _ h)⟩, B.returns, B.notSynchronized⟩
  have hRf : 7 ≤ (headSpec (ws_ yX10_manyOf cX10_manyOf 8 (some .int)) ({ frames := 7, cells := 0, slots := 0, locals := 156 })).room.frames := Nat.le_refl _
  have hRl : 156 ≤ (headSpec (ws_ yX10_manyOf cX10_manyOf 8 (some .int)) ({ frames := 7, cells := 0, slots := 0, locals := 156 })).room.locals := Nat.le_refl _
  generalize (headSpec (ws_ yX10_manyOf cX10_manyOf 8 (some .int)) ({ frames := 7, cells := 0, slots := 0, locals := 156 })).room = R at hRf hRl ⊢
  have hS : va_S A s.heap s.heap [] := va_S.rf
  have hl := lv_entry ([.ref g.2.2.2.1, .int x1, .int x2]) (n := 8) (Nat.le_of_ble_eq_true rfl)
  rw [lg_entry_eq]
  generalize (lg_sl ([.ref g.2.2.2.1, .int x1, .int x2]) ++ List.replicate (8 - (lg_sl ([.ref g.2.2.2.1, .int x1, .int x2])).length) Slot.unset).toArray = ls at hl ⊢
  have hl : lv_has ls 8 [(0, .ref g.2.2.2.1), (1, .int x1), (2, .int x2)] := hl
  obtain ⟨z, hz⟩ : ∃ z, z = (v, σ1) := ⟨_, rfl⟩
  rw [← hz] at h
  rw [show v = z.1 by rw [hz], show σ1 = z.2 by rw [hz]]
  clear hz v σ1
  unfold mT_manyOf at h
  refine lv_aload_n C.x C.b dX10_manyOf_0 rfl (lv_at hl 0 rfl) ?_
  refine tw_call (y := yX10_setsOut) (bytes := cX10_setsOut) (maxL := 4) (fun _ => none) [] (fun _ => True)  C hw XB.tt (fun _ _ _ => trivial) hσ hS hl.1 h (fun vv ss ee => kT_setsOut l g A σ vv ss ee) (cwV 0 C.t (lw_V q2338 q2340 qs83 q159 q2341) rfl rfl rfl (by decide +kernel) ⟨Nat.le_trans (Nat.le_of_ble_eq_true rfl) hRf, Nat.le_trans (Nat.le_of_ble_eq_true rfl) hRl⟩) rfl rfl (Nat.le_of_ble_eq_true rfl) dX10_manyOf_1 (fun _ σ_1 H locs h hσ hS => ?_)
  refine lv_iconst (v := 0) C.x C.b dX10_manyOf_4 (by decide) ?_
  refine lv_istore_n (lv' := [(3, .int 0), (0, .ref g.2.2.2.1), (1, .int x1), (2, .int x2)]) C.x C.b dX10_manyOf_5 rfl hl (by decide) rfl (fun ls hl => ?_)
  refine lv_aload_n C.x C.b dX10_manyOf_6 rfl (lv_at hl 1 rfl) ?_
  refine tw_call (y := yX10_cases) (bytes := cX10_cases) (maxL := 3) (fun v => some (.int v)) [] (fun _ => True)  C hw XB.tt (fun _ _ _ => trivial) hσ hS hl.1 h (fun vv ss ee => kT_cases l g A σ_1 vv ss ee) (cwV 0 C.t (lw_V q2334 q2336 qs82 q159 q2337) rfl rfl rfl (by decide +kernel) ⟨Nat.le_trans (Nat.le_of_ble_eq_true rfl) hRf, Nat.le_trans (Nat.le_of_ble_eq_true rfl) hRl⟩) rfl rfl (Nat.le_of_ble_eq_true rfl) dX10_manyOf_7 (fun v_2 σ_3 H locs h hσ hS => ?_)
  refine lv_istore (lv' := [(4, .int v_2), (3, .int 0), (0, .ref g.2.2.2.1), (1, .int x1), (2, .int x2)]) C.x C.b dX10_manyOf_10 hl (by decide) rfl (fun ls hl => ?_)
  refine lv_iconst (v := 0) C.x C.b dX10_manyOf_12 (by decide) ?_
  refine lv_istore (lv' := [(5, .int 0), (4, .int v_2), (3, .int 0), (0, .ref g.2.2.2.1), (1, .int x1), (2, .int x2)]) C.x C.b dX10_manyOf_13 hl (by decide) rfl (fun ls hl => ?_)
  exact wT_manyOf_15 C hw hRf hRl _ _ _ _ _ _ _ _ _ _ h hσ hS (lv_sub hl [3, 4, 5, 2, 1, 0] rfl)

theorem kT_ruleTold (l : Launch) (g : twG) (A : Nat → Prop) (x1 : Int32) (x2 : Int32) (σ : twS) (v : Int32) (σ1 : twS) (h : mT_ruleTold x1 x2 σ = some (v, σ1)) : Met l yX10_ruleTold (ws_ yX10_ruleTold cX10_ruleTold 3 (some .int)) ({ frames := 8, cells := 0, slots := 0, locals := 183 }) (TPc twL g A [.ref g.2.2.2.1, .int x1, .int x2] (fun _ => True) σ) (TQ g A (some (.int v)) σ1) 0 0 A := by
  refine Met.ofW (cc := cX10_ruleTold) (maxL := 3) (ret := (some .int)) (by decide) rfl ?_
  intro p e s m args below meth c s₁ B hml hv
  obtain ⟨rfl, hw, hX, hσ⟩ := hv
  have hts := atoms_spec (ws := (ws_ yX10_ruleTold cX10_ruleTold 3 (some .int))) B.pre
  have C : CX p m meth c s ([.ref g.2.2.2.1, .int x1, .int x2] : List Value).toArray cX10_ruleTold 3 (some .int) RX10 := ⟨⟨B.exec, B.bytes, hml, findClass_of_methodNamed B.named, fun w h => hts w (List.mem_cons_of_mem _ h)⟩, B.returns, B.notSynchronized⟩
  have hRf : 8 ≤ (headSpec (ws_ yX10_ruleTold cX10_ruleTold 3 (some .int)) ({ frames := 8, cells := 0, slots := 0, locals := 183 })).room.frames := Nat.le_refl _
  have hRl : 183 ≤ (headSpec (ws_ yX10_ruleTold cX10_ruleTold 3 (some .int)) ({ frames := 8, cells := 0, slots := 0, locals := 183 })).room.locals := Nat.le_refl _
  generalize (headSpec (ws_ yX10_ruleTold cX10_ruleTold 3 (some .int)) ({ frames := 8, cells := 0, slots := 0, locals := 183 })).room = R at hRf hRl ⊢
  have hS : va_S A s.heap s.heap [] := va_S.rf
  have hl := lv_entry ([.ref g.2.2.2.1, .int x1, .int x2]) (n := 3) (Nat.le_of_ble_eq_true rfl)
  rw [lg_entry_eq]
  generalize (lg_sl ([.ref g.2.2.2.1, .int x1, .int x2]) ++ List.replicate (3 - (lg_sl ([.ref g.2.2.2.1, .int x1, .int x2])).length) Slot.unset).toArray = ls at hl ⊢
  have hl : lv_has ls 3 [(0, .ref g.2.2.2.1), (1, .int x1), (2, .int x2)] := hl
  obtain ⟨z, hz⟩ : ∃ z, z = (v, σ1) := ⟨_, rfl⟩
  rw [← hz] at h
  rw [show v = z.1 by rw [hz], show σ1 = z.2 by rw [hz]]
  clear hz v σ1
  unfold mT_ruleTold at h
  refine lv_iload_n C.x C.b dX10_ruleTold_0 rfl (lv_at hl 2 rfl) ?_
  by_cases c_1 : x2 = 3
  · have h := ip c_1 h
    refine lv_tableIn (off := 27) (tgt := 28) C.x C.b dX10_ruleTold_1 (by rw [c_1]; decide) (by rw [c_1]; decide) (by rw [c_1]; rfl) (by decide) ?_
    refine lv_aload_n C.x C.b dX10_ruleTold_28 rfl (lv_at hl 0 rfl) ?_
    refine lv_iload_n C.x C.b dX10_ruleTold_29 rfl (lv_at hl 1 rfl) ?_
    refine tw_call (y := yX10_comparisons) (bytes := cX10_comparisons) (maxL := 4) (fun v => some (.int v)) [.int x1] (fun _ => True)  C hw XB.tt (fun _ _ _ => trivial) hσ hS hl.1 h (fun vv ss ee => kT_comparisons l g A x1 σ vv ss ee) (cwV 1 C.t (lw_V q2443 q2445 qs104 q159 q2446) rfl rfl rfl (by decide +kernel) ⟨Nat.le_trans (Nat.le_of_ble_eq_true rfl) hRf, Nat.le_trans (Nat.le_of_ble_eq_true rfl) hRl⟩) rfl rfl (Nat.le_of_ble_eq_true rfl) dX10_ruleTold_30 (fun v_2 σ_3 H locs h hσ hS => ?_)
    exact tw_iret C hσ hS h dX10_ruleTold_33
  have h := iN c_1 h
  by_cases c_4 : x2 = 4
  · have h := ip c_4 h
    refine lv_tableIn (off := 33) (tgt := 34) C.x C.b dX10_ruleTold_1 (by rw [c_4]; decide) (by rw [c_4]; decide) (by rw [c_4]; rfl) (by decide) ?_
    refine lv_aload_n C.x C.b dX10_ruleTold_34 rfl (lv_at hl 0 rfl) ?_
    refine lv_iload_n C.x C.b dX10_ruleTold_35 rfl (lv_at hl 1 rfl) ?_
    refine lv_bipush (v := 33) C.x C.b dX10_ruleTold_36 (by decide) ?_
    refine tw_call (y := yX10_of) (bytes := cX10_of) (maxL := 3) (fun v => some (.int v)) [.int x1, .int 33] (fun _ => True)  C hw XB.tt (fun _ _ _ => trivial) hσ hS hl.1 h (fun vv ss ee => kT_of l g A x1 33 σ vv ss ee) (cwV 2 C.t (lw_V q2346 q2348 qs85 q159 q2349) rfl rfl rfl (by decide +kernel) ⟨Nat.le_trans (Nat.le_of_ble_eq_true rfl) hRf, Nat.le_trans (Nat.le_of_ble_eq_true rfl) hRl⟩) rfl rfl (Nat.le_of_ble_eq_true rfl) dX10_ruleTold_38 (fun v_5 σ_6 H locs h hσ hS => ?_)
    exact tw_iret C hσ hS h dX10_ruleTold_41
  have h := iN c_4 h
  by_cases c_7 : x2 = 5
  · have h := ip c_7 h
    refine lv_tableIn (off := 41) (tgt := 42) C.x C.b dX10_ruleTold_1 (by rw [c_7]; decide) (by rw [c_7]; decide) (by rw [c_7]; rfl) (by decide) ?_
    refine lv_aload_n C.x C.b dX10_ruleTold_42 rfl (lv_at hl 0 rfl) ?_
    refine lv_iload_n C.x C.b dX10_ruleTold_43 rfl (lv_at hl 1 rfl) ?_
    refine tw_call (y := yX10_overIt) (bytes := cX10_overIt) (maxL := 4) (fun v => some (.int v)) [.int x1] (fun _ => True)  C hw XB.tt (fun _ _ _ => trivial) hσ hS hl.1 h (fun vv ss ee => kT_overIt l g A x1 σ vv ss ee) (cwV 1 C.t (lw_V q2447 q2449 qs105 q159 q2450) rfl rfl rfl (by decide +kernel) ⟨Nat.le_trans (Nat.le_of_ble_eq_true rfl) hRf, Nat.le_trans (Nat.le_of_ble_eq_true rfl) hRl⟩) rfl rfl (Nat.le_of_ble_eq_true rfl) dX10_ruleTold_44 (fun v_8 σ_9 H locs h hσ hS => ?_)
    exact tw_iret C hσ hS h dX10_ruleTold_47
  have h := iN c_7 h
  refine tw_tabD (tgt := 48) C.x C.b dX10_ruleTold_1 (by decide) (fun j hj => match j, hj with | 0, _ => Or.inr (lv_neT c_1 (by decide)) | 1, _ => Or.inr (lv_neT c_4 (by decide)) | 2, _ => Or.inr (lv_neT c_7 (by decide)) | j + 3, hj => absurd hj (Nat.not_lt_of_le (Nat.le_add_left _ _))) (by decide) ?_
  refine lv_aload_n C.x C.b dX10_ruleTold_48 rfl (lv_at hl 0 rfl) ?_
  refine lv_iload_n C.x C.b dX10_ruleTold_49 rfl (lv_at hl 1 rfl) ?_
  refine lv_iload_n C.x C.b dX10_ruleTold_50 rfl (lv_at hl 2 rfl) ?_
  refine tw_call (y := yX10_manyOf) (bytes := cX10_manyOf) (maxL := 8) (fun v => some (.int v)) [.int x1, .int x2] (fun _ => True)  C hw XB.tt (fun _ _ _ => trivial) hσ hS hl.1 h (fun vv ss ee => kT_manyOf l g A x1 x2 σ vv ss ee) (cwV 2 C.t (lw_V q2451 q2453 qs106 q159 q2454) rfl rfl rfl (by decide +kernel) ⟨Nat.le_trans (Nat.le_of_ble_eq_true rfl) hRf, Nat.le_trans (Nat.le_of_ble_eq_true rfl) hRl⟩) rfl rfl (Nat.le_of_ble_eq_true rfl) dX10_ruleTold_51 (fun v_10 σ_11 H locs h hσ hS => ?_)
  exact tw_iret C hσ hS h dX10_ruleTold_54

theorem wT_rule_28 {z : Int32 × twS} (C : CX p m meth c s args cX10_rule 3 (some .int) RX10) (hw : WKt twL g A s s.heap) (hRf : 9 ≤ R.frames) (hRl : 205 ≤ R.locals) : ∀ (x1 : Int32) (x2 : Int32) (s1 : Int32) (s2 : Int32) (σ : twS) (H : Heap) (locs : List Loc) (ls : Array Slot), bT_rule_28 x1 x2 s1 s2 σ = some z → TI g A σ H → va_S A s.heap H locs → lv_has ls 3 [(0, .ref g.2.2.2.1), (1, .int x1), (2, .int x2)] → W p l e R s m args below meth c H locs 0 0 (MQ below (TQ g A (some (.int z.1)) z.2) args s 0 0 A) (F0 m 28 ls [.int s2, .int s1, .ref g.2.2.2.1]) := by
  intro x1 x2 s1 s2 σ H locs ls h hσ hS hl
  unfold bT_rule_28 at h
  refine tw_call (y := yX10_throwsOne_2) (bytes := cX10_throwsOne_2) (maxL := 3) (fun v => some (.int v)) [.int s1, .int s2] (fun _ => True)  C hw XB.tt (fun _ _ _ => trivial) hσ hS hl.1 h (fun vv ss ee => kT_throwsOne_2 l g A s1 s2 σ vv ss ee) (cwV 2 C.t (lw_V q2394 q2396 qs94 q159 q2397) rfl rfl rfl (by decide +kernel) ⟨Nat.le_trans (Nat.le_of_ble_eq_true rfl) hRf, Nat.le_trans (Nat.le_of_ble_eq_true rfl) hRl⟩) rfl rfl (Nat.le_of_ble_eq_true rfl) dX10_rule_28 (fun v_1 σ_2 H locs h hσ hS => ?_)
  refine lv_if_eq (tgt := 38) C.x C.b dX10_rule_31 (by decide) (fun c_3 => ?_) (fun c_3 => ?_)
  · have h := ip c_3 h
    refine lv_aload_n C.x C.b dX10_rule_38 rfl (lv_at hl 0 rfl) ?_
    refine lv_iload_n C.x C.b dX10_rule_39 rfl (lv_at hl 1 rfl) ?_
    refine lv_iload_n C.x C.b dX10_rule_40 rfl (lv_at hl 2 rfl) ?_
    refine tw_call (y := yX10_ruleTold) (bytes := cX10_ruleTold) (maxL := 3) (fun v => some (.int v)) [.int x1, .int x2] (fun _ => True)  C hw XB.tt (fun _ _ _ => trivial) hσ hS hl.1 h (fun vv ss ee => kT_ruleTold l g A x1 x2 σ_2 vv ss ee) (cwV 2 C.t (lw_V q2439 q2441 qs103 q159 q2442) rfl rfl rfl (by decide +kernel) ⟨Nat.le_trans (Nat.le_of_ble_eq_true rfl) hRf, Nat.le_trans (Nat.le_of_ble_eq_true rfl) hRl⟩) rfl rfl (Nat.le_of_ble_eq_true rfl) dX10_rule_41 (fun v_4 σ_5 H locs h hσ hS => ?_)
    exact tw_iret C hσ hS h dX10_rule_44
  · have h := iN c_3 h
    refine lv_iconst (v := 0) C.x C.b dX10_rule_34 (by decide) ?_
    refine lv_goto (tgt := 44) C.x C.b dX10_rule_35 (by decide) ?_
    exact tw_iret C hσ hS h dX10_rule_44

theorem wT_rule_14 {z : Int32 × twS} (C : CX p m meth c s args cX10_rule 3 (some .int) RX10) (hw : WKt twL g A s s.heap) (hRf : 9 ≤ R.frames) (hRl : 205 ≤ R.locals) : ∀ (x1 : Int32) (x2 : Int32) (s1 : Int32) (σ : twS) (H : Heap) (locs : List Loc) (ls : Array Slot), bT_rule_14 x1 x2 s1 σ = some z → TI g A σ H → va_S A s.heap H locs → lv_has ls 3 [(0, .ref g.2.2.2.1), (1, .int x1), (2, .int x2)] → W p l e R s m args below meth c H locs 0 0 (MQ below (TQ g A (some (.int z.1)) z.2) args s 0 0 A) (F0 m 14 ls [.int s1, .ref g.2.2.2.1]) := by
  intro x1 x2 s1 σ H locs ls h hσ hS hl
  unfold bT_rule_14 at h
  refine lv_iload_n C.x C.b dX10_rule_14 rfl (lv_at hl 2 rfl) ?_
  refine lv_iconst (v := 0) C.x C.b dX10_rule_15 (by decide) ?_
  refine lv_iconst (v := 5) C.x C.b dX10_rule_16 (by decide) ?_
  refine tw_callS (y := yX10_in) (bytes := cX10_in) (maxL := 3) (fun v => some (.int v)) [.int x2, .int 0, .int 5] C hw hσ hS hl.1 h (fun vv ss ee => kT_in l g A x2 0 5 σ vv ss ee) (va_cwS 3 C.t (lw_S q2136 q2137 q159 q2138) rfl rfl rfl (by decide +kernel) ⟨Nat.le_trans (Nat.le_of_ble_eq_true rfl) hRf, Nat.le_trans (Nat.le_of_ble_eq_true rfl) hRl⟩) rfl rfl (Nat.le_of_ble_eq_true rfl) dX10_rule_17 (fun v_1 σ_2 H locs h hσ hS => ?_)
  refine lv_if_ne (tgt := 27) C.x C.b dX10_rule_20 (by decide) (fun c_3 => ?_) (fun c_3 => ?_)
  · have h := iN c_3 h
    refine lv_iconst (v := 0) C.x C.b dX10_rule_27 (by decide) ?_
    exact wT_rule_28 C hw hRf hRl _ _ _ _ _ _ _ _ h hσ hS (lv_sub hl [0, 1, 2] rfl)
  · have h := ip c_3 h
    refine lv_iconst (v := 1) C.x C.b dX10_rule_23 (by decide) ?_
    refine lv_goto (tgt := 28) C.x C.b dX10_rule_24 (by decide) ?_
    exact wT_rule_28 C hw hRf hRl _ _ _ _ _ _ _ _ h hσ hS (lv_sub hl [0, 1, 2] rfl)

theorem kT_rule (l : Launch) (g : twG) (A : Nat → Prop) (x1 : Int32) (x2 : Int32) (σ : twS) (v : Int32) (σ1 : twS) (h : mT_rule x1 x2 σ = some (v, σ1)) : Met l yX10_rule (ws_ yX10_rule cX10_rule 3 (some .int)) ({ frames := 9, cells := 0, slots := 0, locals := 205 }) (TPc twL g A [.ref g.2.2.2.1, .int x1, .int x2] (fun _ => True) σ) (TQ g A (some (.int v)) σ1) 0 0 A := by
  refine Met.ofW (cc := cX10_rule) (maxL := 3) (ret := (some .int)) (by decide) rfl ?_
  intro p e s m args below meth c s₁ B hml hv
  obtain ⟨rfl, hw, hX, hσ⟩ := hv
  have hts := atoms_spec (ws := (ws_ yX10_rule cX10_rule 3 (some .int))) B.pre
  have C : CX p m meth c s ([.ref g.2.2.2.1, .int x1, .int x2] : List Value).toArray cX10_rule 3 (some .int) RX10 := ⟨⟨B.exec, B.bytes, hml, findClass_of_methodNamed B.named, fun w h => hts w (List.mem_cons_of_mem _ h)⟩, B.returns, B.notSynchronized⟩
  have hRf : 9 ≤ (headSpec (ws_ yX10_rule cX10_rule 3 (some .int)) ({ frames := 9, cells := 0, slots := 0, locals := 205 })).room.frames := Nat.le_refl _
  have hRl : 205 ≤ (headSpec (ws_ yX10_rule cX10_rule 3 (some .int)) ({ frames := 9, cells := 0, slots := 0, locals := 205 })).room.locals := Nat.le_refl _
  generalize (headSpec (ws_ yX10_rule cX10_rule 3 (some .int)) ({ frames := 9, cells := 0, slots := 0, locals := 205 })).room = R at hRf hRl ⊢
  have hS : va_S A s.heap s.heap [] := va_S.rf
  have hl := lv_entry ([.ref g.2.2.2.1, .int x1, .int x2]) (n := 3) (Nat.le_of_ble_eq_true rfl)
  rw [lg_entry_eq]
  generalize (lg_sl ([.ref g.2.2.2.1, .int x1, .int x2]) ++ List.replicate (3 - (lg_sl ([.ref g.2.2.2.1, .int x1, .int x2])).length) Slot.unset).toArray = ls at hl ⊢
  have hl : lv_has ls 3 [(0, .ref g.2.2.2.1), (1, .int x1), (2, .int x2)] := hl
  obtain ⟨z, hz⟩ : ∃ z, z = (v, σ1) := ⟨_, rfl⟩
  rw [← hz] at h
  rw [show v = z.1 by rw [hz], show σ1 = z.2 by rw [hz]]
  clear hz v σ1
  unfold mT_rule at h
  refine lv_aload_n C.x C.b dX10_rule_0 rfl (lv_at hl 0 rfl) ?_
  refine lv_aload_n C.x C.b dX10_rule_1 rfl (lv_at hl 0 rfl) ?_
  refine lv_iload_n C.x C.b dX10_rule_2 rfl (lv_at hl 1 rfl) ?_
  refine tw_call (y := yX10_isRule) (bytes := cX10_isRule) (maxL := 2) (fun v => some (.int v)) [.int x1] (fun _ => True)  C hw XB.tt (fun _ _ _ => trivial) hσ hS hl.1 h (fun vv ss ee => kT_isRule l g A x1 σ vv ss ee) (cwV 1 C.t (lw_V q2435 q2437 qs102 q159 q2438) rfl rfl rfl (by decide +kernel) ⟨Nat.le_trans (Nat.le_of_ble_eq_true rfl) hRf, Nat.le_trans (Nat.le_of_ble_eq_true rfl) hRl⟩) rfl rfl (Nat.le_of_ble_eq_true rfl) dX10_rule_3 (fun v_1 σ_2 H locs h hσ hS => ?_)
  refine lv_if_ne (tgt := 13) C.x C.b dX10_rule_6 (by decide) (fun c_3 => ?_) (fun c_3 => ?_)
  · have h := iN c_3 h
    refine lv_iconst (v := 0) C.x C.b dX10_rule_13 (by decide) ?_
    exact wT_rule_14 C hw hRf hRl _ _ _ _ _ _ _ h hσ hS (lv_sub hl [0, 1, 2] rfl)
  · have h := ip c_3 h
    refine lv_iconst (v := 1) C.x C.b dX10_rule_9 (by decide) ?_
    refine lv_goto (tgt := 14) C.x C.b dX10_rule_10 (by decide) ?_
    exact wT_rule_14 C hw hRf hRl _ _ _ _ _ _ _ h hσ hS (lv_sub hl [0, 1, 2] rfl)

theorem kO_divisor (l : Launch) (g : twG) (A : Nat → Prop) {F : Int32 → Int32 → twS → Option (Int32 × twS)} {fF lF : Nat} (hF : ∀ (y0 : Int32) (y1 : Int32) (σ : twS) (v : Int32) (σ1 : twS), F y0 y1 σ = some (v, σ1) → Met l yX10_divisor (ws_ yX10_divisor cX10_divisor 2 (some .int)) ({ frames := fF, cells := 0, slots := 0, locals := lF }) (TPc twL g A [.int y0, .int y1] (fun _ => True) σ) (TQ g A (some (.int v)) σ1) 0 0 A) (x0 : Int32) (x1 : Int32) (σ : twS) (v : Int32) (σ1 : twS) (h : mO_divisor F x0 x1 σ = some (v, σ1)) : Met l yX10_divisor (ws_ yX10_divisor cX10_divisor 2 (some .int)) ({ frames := fF + 1, cells := 0, slots := 0, locals := lF + 24 }) (TPc twL g A [.int x0, .int x1] (fun _ => True) σ) (TQ g A (some (.int v)) σ1) 0 0 A := by
  refine Met.ofW (cc := cX10_divisor) (maxL := 2) (ret := (some .int)) (by decide) rfl ?_
  intro p e s m args below meth c s₁ B hml hv
  obtain ⟨rfl, hw, hX, hσ⟩ := hv
  have hts := atoms_spec (ws := (ws_ yX10_divisor cX10_divisor 2 (some .int))) B.pre
  have C : CX p m meth c s ([.int x0, .int x1] : List Value).toArray cX10_divisor 2 (some .int) RX10 := ⟨⟨B.exec, B.bytes, hml, findClass_of_methodNamed B.named, fun w h => hts w (List.mem_cons_of_mem _ h)⟩, B.returns, B.notSynchronized⟩
  have hRf : fF + 1 ≤ (headSpec (ws_ yX10_divisor cX10_divisor 2 (some .int)) ({ frames := fF + 1, cells := 0, slots := 0, locals := lF + 24 })).room.frames := Nat.le_refl _
  have hRl : lF + 24 ≤ (headSpec (ws_ yX10_divisor cX10_divisor 2 (some .int)) ({ frames := fF + 1, cells := 0, slots := 0, locals := lF + 24 })).room.locals := Nat.le_refl _
  generalize (headSpec (ws_ yX10_divisor cX10_divisor 2 (some .int)) ({ frames := fF + 1, cells := 0, slots := 0, locals := lF + 24 })).room = R at hRf hRl ⊢
  have hS : va_S A s.heap s.heap [] := va_S.rf
  have hl := lv_entry ([.int x0, .int x1]) (n := 2) (Nat.le_of_ble_eq_true rfl)
  rw [lg_entry_eq]
  generalize (lg_sl ([.int x0, .int x1]) ++ List.replicate (2 - (lg_sl ([.int x0, .int x1])).length) Slot.unset).toArray = ls at hl ⊢
  have hl : lv_has ls 2 [(0, .int x0), (1, .int x1)] := hl
  obtain ⟨z, hz⟩ : ∃ z, z = (v, σ1) := ⟨_, rfl⟩
  rw [← hz] at h
  rw [show v = z.1 by rw [hz], show σ1 = z.2 by rw [hz]]
  clear hz v σ1
  unfold mO_divisor at h
  refine lv_iload_n C.x C.b dX10_divisor_0 rfl (lv_at hl 1 rfl) ?_
  refine lv_if_ne (tgt := 8) C.x C.b dX10_divisor_1 (by decide) (fun c_1 => ?_) (fun c_1 => ?_)
  · have h := iN c_1 h
    refine lv_iload_n C.x C.b dX10_divisor_8 rfl (lv_at hl 1 rfl) ?_
    refine lv_iload_n C.x C.b dX10_divisor_9 rfl (lv_at hl 0 rfl) ?_
    refine lv_iload_n C.x C.b dX10_divisor_10 rfl (lv_at hl 1 rfl) ?_
    have hz := nz_s h
    have h := hz.2
    refine lv_irem C.x C.b dX10_divisor_11 hz.1 ?_
    refine tw_callS (y := yX10_divisor) (bytes := cX10_divisor) (maxL := 2) (fun v => some (.int v)) [.int x1, .int (x0 - x0 / x1 * x1)] C hw hσ hS hl.1 h (fun vv ss ee => hF x1 (x0 - x0 / x1 * x1) σ vv ss ee) (va_cwS 2 C.t (lw_S q2463 q2464 q159 q2465) rfl rfl rfl (by decide +kernel) ⟨Nat.le_trans (show fF + 1 ≤ fF + 1 by omega) hRf, Nat.le_trans (show 8 + (2 + 11) + (lF) ≤ lF + 24 by omega) hRl⟩) rfl rfl (Nat.le_of_ble_eq_true rfl) dX10_divisor_12 (fun v_2 σ_3 H locs h hσ hS => ?_)
    exact tw_iret C hσ hS h dX10_divisor_15
  · have h := ip c_1 h
    refine lv_iload_n C.x C.b dX10_divisor_4 rfl (lv_at hl 0 rfl) ?_
    refine lv_goto (tgt := 15) C.x C.b dX10_divisor_5 (by decide) ?_
    exact tw_iret C hσ hS h dX10_divisor_15

theorem kT_divisor (l : Launch) (g : twG) (A : Nat → Prop) : ∀ (d : Nat) (x0 : Int32) (x1 : Int32) (σ : twS) (v : Int32) (σ1 : twS) (h : mT_divisor d x0 x1 σ = some (v, σ1)), Met l yX10_divisor (ws_ yX10_divisor cX10_divisor 2 (some .int)) ({ frames := 1 * d, cells := 0, slots := 0, locals := 24 * d }) (TPc twL g A [.int x0, .int x1] (fun _ => True) σ) (TQ g A (some (.int v)) σ1) 0 0 A := by
  intro d
  induction d with
  | zero =>
    intro x0 x1 σ v σ1 h
    cases h
  | succ d ih =>
    intro x0 x1 σ v σ1 h
    exact kO_divisor l g A (F := mT_divisor d) (fF := 1 * d) (lF := 24 * d) ih x0 x1 σ v σ1 h

theorem wT_shareTold_23 {z : Int32 × twS} (C : CX p m meth c s args cX10_shareTold 5 (some .int) RX10) (hw : WKt twL g A s s.heap) (hRf : 65 ≤ R.frames) (hRl : 1557 ≤ R.locals) : ∀ (x4 : Int32) (s0 : Int32) (σ : twS) (H : Heap) (locs : List Loc) (ls : Array Slot), bT_shareTold_23 x4 s0 σ = some z → TI g A σ H → va_S A s.heap H locs → lv_has ls 5 [(0, .ref g.2.2.2.1), (4, .int x4)] → W p l e R s m args below meth c H locs 0 0 (MQ below (TQ g A (some (.int z.1)) z.2) args s 0 0 A) (F0 m 23 ls [.int s0]) := by
  intro x4 s0 σ H locs ls h hσ hS hl
  unfold bT_shareTold_23 at h
  refine lv_sipush (v := 27720) C.x C.b dX10_shareTold_23 (by decide) ?_
  refine lv_iload C.x C.b dX10_shareTold_26 (lv_at hl 1 rfl) ?_
  refine tw_callS (y := yX10_divisor) (bytes := cX10_divisor) (maxL := 2) (fun v => some (.int v)) [.int 27720, .int x4] C hw hσ hS hl.1 h (fun vv ss ee => kT_divisor l g A DP 27720 x4 σ vv ss ee) (va_cwS 2 C.t (lw_S q2463 q2464 q159 q2465) rfl rfl rfl (by decide +kernel) ⟨Nat.le_trans (Nat.le_of_ble_eq_true rfl) hRf, Nat.le_trans (Nat.le_of_ble_eq_true rfl) hRl⟩) rfl rfl (Nat.le_of_ble_eq_true rfl) dX10_shareTold_28 (fun v_1 σ_2 H locs h hσ hS => ?_)
  have hz := nz_s h
  have h := hz.2
  refine lv_idiv C.x C.b dX10_shareTold_31 hz.1 ?_
  exact tw_iret C hσ hS h dX10_shareTold_32

theorem kT_shareTold (l : Launch) (g : twG) (A : Nat → Prop) (x1 : Int32) (x2 : Int32) (x3 : Int32) (σ : twS) (v : Int32) (σ1 : twS) (h : mT_shareTold x1 x2 x3 σ = some (v, σ1)) : Met l yX10_shareTold (ws_ yX10_shareTold cX10_shareTold 5 (some .int)) ({ frames := 65, cells := 0, slots := 0, locals := 1557 }) (TPc twL g A [.ref g.2.2.2.1, .int x1, .int x2, .int x3] (fun _ => True) σ) (TQ g A (some (.int v)) σ1) 0 0 A := by
  refine Met.ofW (cc := cX10_shareTold) (maxL := 5) (ret := (some .int)) (by decide) rfl ?_
  intro p e s m args below meth c s₁ B hml hv
  obtain ⟨rfl, hw, hX, hσ⟩ := hv
  have hts := atoms_spec (ws := (ws_ yX10_shareTold cX10_shareTold 5 (some .int))) B.pre
  have C : CX p m meth c s ([.ref g.2.2.2.1, .int x1, .int x2, .int x3] : List Value).toArray cX10_shareTold 5 (some .int) RX10 := ⟨⟨B.exec, B.bytes, hml, findClass_of_methodNamed B.named, fun w h => hts w (List.mem_cons_of_mem _ h)⟩, B.returns, B.notSynchronized⟩
  have hRf : 65 ≤ (headSpec (ws_ yX10_shareTold cX10_shareTold 5 (some .int)) ({ frames := 65, cells := 0, slots := 0, locals := 1557 })).room.frames := Nat.le_refl _
  have hRl : 1557 ≤ (headSpec (ws_ yX10_shareTold cX10_shareTold 5 (some .int)) ({ frames := 65, cells := 0, slots := 0, locals := 1557 })).room.locals := Nat.le_refl _
  generalize (headSpec (ws_ yX10_shareTold cX10_shareTold 5 (some .int)) ({ frames := 65, cells := 0, slots := 0, locals := 1557 })).room = R at hRf hRl ⊢
  have hS : va_S A s.heap s.heap [] := va_S.rf
  have hl := lv_entry ([.ref g.2.2.2.1, .int x1, .int x2, .int x3]) (n := 5) (Nat.le_of_ble_eq_true rfl)
  rw [lg_entry_eq]
  generalize (lg_sl ([.ref g.2.2.2.1, .int x1, .int x2, .int x3]) ++ List.replicate (5 - (lg_sl ([.ref g.2.2.2.1, .int x1, .int x2, .int x3])).length) Slot.unset).toArray = ls at hl ⊢
  have hl : lv_has ls 5 [(0, .ref g.2.2.2.1), (1, .int x1), (2, .int x2), (3, .int x3)] := hl
  obtain ⟨z, hz⟩ : ∃ z, z = (v, σ1) := ⟨_, rfl⟩
  rw [← hz] at h
  rw [show v = z.1 by rw [hz], show σ1 = z.2 by rw [hz]]
  clear hz v σ1
  unfold mT_shareTold at h
  refine lv_aload_n C.x C.b dX10_shareTold_0 rfl (lv_at hl 0 rfl) ?_
  refine lv_iload_n C.x C.b dX10_shareTold_1 rfl (lv_at hl 1 rfl) ?_
  refine lv_bipush (v := 29) C.x C.b dX10_shareTold_2 (by decide) ?_
  refine lv_iload_n C.x C.b dX10_shareTold_4 rfl (lv_at hl 2 rfl) ?_
  refine lv_iadd C.x C.b dX10_shareTold_5 ?_
  refine tw_call (y := yX10_of) (bytes := cX10_of) (maxL := 3) (fun v => some (.int v)) [.int x1, .int (29 + x2)] (fun _ => True)  C hw XB.tt (fun _ _ _ => trivial) hσ hS hl.1 h (fun vv ss ee => kT_of l g A x1 (29 + x2) σ vv ss ee) (cwV 2 C.t (lw_V q2346 q2348 qs85 q159 q2349) rfl rfl rfl (by decide +kernel) ⟨Nat.le_trans (Nat.le_of_ble_eq_true rfl) hRf, Nat.le_trans (Nat.le_of_ble_eq_true rfl) hRl⟩) rfl rfl (Nat.le_of_ble_eq_true rfl) dX10_shareTold_6 (fun v_1 σ_2 H locs h hσ hS => ?_)
  refine lv_istore (lv' := [(4, .int v_1), (0, .ref g.2.2.2.1), (1, .int x1), (2, .int x2), (3, .int x3)]) C.x C.b dX10_shareTold_9 hl (by decide) rfl (fun ls hl => ?_)
  refine lv_iload_n C.x C.b dX10_shareTold_11 rfl (lv_at hl 4 rfl) ?_
  refine lv_if_eq (tgt := 21) C.x C.b dX10_shareTold_12 (by decide) (fun c_3 => ?_) (fun c_3 => ?_)
  · have h := ip c_3 h
    refine lv_iload C.x C.b dX10_shareTold_21 (lv_at hl 0 rfl) ?_
    exact wT_shareTold_23 C hw hRf hRl _ _ _ _ _ _ h hσ hS (lv_sub hl [1, 0] rfl)
  · have h := iN c_3 h
    refine lv_sipush (v := 27720) C.x C.b dX10_shareTold_15 (by decide) ?_
    refine lv_goto (tgt := 23) C.x C.b dX10_shareTold_18 (by decide) ?_
    exact wT_shareTold_23 C hw hRf hRl _ _ _ _ _ _ h hσ hS (lv_sub hl [1, 0] rfl)

theorem wT_share_22 {z : Int32 × twS} (C : CX p m meth c s args cX10_share 4 (some .int) RX10) (hw : WKt twL g A s s.heap) (hRf : 66 ≤ R.frames) (hRl : 1581 ≤ R.locals) : ∀ (x1 : Int32) (x2 : Int32) (x3 : Int32) (s1 : Int32) (σ : twS) (H : Heap) (locs : List Loc) (ls : Array Slot), bT_share_22 x1 x2 x3 s1 σ = some z → TI g A σ H → va_S A s.heap H locs → lv_has ls 4 [(0, .ref g.2.2.2.1), (1, .int x1), (2, .int x2), (3, .int x3)] → W p l e R s m args below meth c H locs 0 0 (MQ below (TQ g A (some (.int z.1)) z.2) args s 0 0 A) (F0 m 22 ls [.int s1, .ref g.2.2.2.1]) := by
  intro x1 x2 x3 s1 σ H locs ls h hσ hS hl
  unfold bT_share_22 at h
  refine tw_call (y := yX10_throwsOne) (bytes := cX10_throwsOne) (maxL := 2) (fun v => some (.int v)) [.int s1] (fun _ => True)  C hw XB.tt (fun _ _ _ => trivial) hσ hS hl.1 h (fun vv ss ee => kT_throwsOne l g A s1 σ vv ss ee) (cwV 1 C.t (lw_V q2314 q2316 qs79 q159 q2317) rfl rfl rfl (by decide +kernel) ⟨Nat.le_trans (Nat.le_of_ble_eq_true rfl) hRf, Nat.le_trans (Nat.le_of_ble_eq_true rfl) hRl⟩) rfl rfl (Nat.le_of_ble_eq_true rfl) dX10_share_22 (fun v_1 σ_2 H locs h hσ hS => ?_)
  refine lv_if_eq (tgt := 32) C.x C.b dX10_share_25 (by decide) (fun c_3 => ?_) (fun c_3 => ?_)
  · have h := ip c_3 h
    refine lv_aload_n C.x C.b dX10_share_32 rfl (lv_at hl 0 rfl) ?_
    refine lv_iload_n C.x C.b dX10_share_33 rfl (lv_at hl 1 rfl) ?_
    refine lv_iload_n C.x C.b dX10_share_34 rfl (lv_at hl 2 rfl) ?_
    refine lv_iload_n C.x C.b dX10_share_35 rfl (lv_at hl 3 rfl) ?_
    refine tw_call (y := yX10_shareTold) (bytes := cX10_shareTold) (maxL := 5) (fun v => some (.int v)) [.int x1, .int x2, .int x3] (fun _ => True)  C hw XB.tt (fun _ _ _ => trivial) hσ hS hl.1 h (fun vv ss ee => kT_shareTold l g A x1 x2 x3 σ_2 vv ss ee) (cwV 3 C.t (lw_V q2459 q2461 qs107 q159 q2462) rfl rfl rfl (by decide +kernel) ⟨Nat.le_trans (Nat.le_of_ble_eq_true rfl) hRf, Nat.le_trans (Nat.le_of_ble_eq_true rfl) hRl⟩) rfl rfl (Nat.le_of_ble_eq_true rfl) dX10_share_36 (fun v_4 σ_5 H locs h hσ hS => ?_)
    exact tw_iret C hσ hS h dX10_share_39
  · have h := iN c_3 h
    refine lv_iconst (v := 0) C.x C.b dX10_share_28 (by decide) ?_
    refine lv_goto (tgt := 39) C.x C.b dX10_share_29 (by decide) ?_
    exact tw_iret C hσ hS h dX10_share_39

theorem kT_share (l : Launch) (g : twG) (A : Nat → Prop) (x1 : Int32) (x2 : Int32) (x3 : Int32) (σ : twS) (v : Int32) (σ1 : twS) (h : mT_share x1 x2 x3 σ = some (v, σ1)) : Met l yX10_share (ws_ yX10_share cX10_share 4 (some .int)) ({ frames := 66, cells := 0, slots := 0, locals := 1581 }) (TPc twL g A [.ref g.2.2.2.1, .int x1, .int x2, .int x3] (fun _ => True) σ) (TQ g A (some (.int v)) σ1) 0 0 A := by
  refine Met.ofW (cc := cX10_share) (maxL := 4) (ret := (some .int)) (by decide) rfl ?_
  intro p e s m args below meth c s₁ B hml hv
  obtain ⟨rfl, hw, hX, hσ⟩ := hv
  have hts := atoms_spec (ws := (ws_ yX10_share cX10_share 4 (some .int))) B.pre
  have C : CX p m meth c s ([.ref g.2.2.2.1, .int x1, .int x2, .int x3] : List Value).toArray cX10_share 4 (some .int) RX10 := ⟨⟨B.exec, B.bytes, hml, findClass_of_methodNamed B.named, fun w h => hts w (List.mem_cons_of_mem _ h)⟩, B.returns, B.notSynchronized⟩
  have hRf : 66 ≤ (headSpec (ws_ yX10_share cX10_share 4 (some .int)) ({ frames := 66, cells := 0, slots := 0, locals := 1581 })).room.frames := Nat.le_refl _
  have hRl : 1581 ≤ (headSpec (ws_ yX10_share cX10_share 4 (some .int)) ({ frames := 66, cells := 0, slots := 0, locals := 1581 })).room.locals := Nat.le_refl _
  generalize (headSpec (ws_ yX10_share cX10_share 4 (some .int)) ({ frames := 66, cells := 0, slots := 0, locals := 1581 })).room = R at hRf hRl ⊢
  have hS : va_S A s.heap s.heap [] := va_S.rf
  have hl := lv_entry ([.ref g.2.2.2.1, .int x1, .int x2, .int x3]) (n := 4) (Nat.le_of_ble_eq_true rfl)
  rw [lg_entry_eq]
  generalize (lg_sl ([.ref g.2.2.2.1, .int x1, .int x2, .int x3]) ++ List.replicate (4 - (lg_sl ([.ref g.2.2.2.1, .int x1, .int x2, .int x3])).length) Slot.unset).toArray = ls at hl ⊢
  have hl : lv_has ls 4 [(0, .ref g.2.2.2.1), (1, .int x1), (2, .int x2), (3, .int x3)] := hl
  obtain ⟨z, hz⟩ : ∃ z, z = (v, σ1) := ⟨_, rfl⟩
  rw [← hz] at h
  rw [show v = z.1 by rw [hz], show σ1 = z.2 by rw [hz]]
  clear hz v σ1
  unfold mT_share at h
  refine lv_aload_n C.x C.b dX10_share_0 rfl (lv_at hl 0 rfl) ?_
  refine lv_aload_n C.x C.b dX10_share_1 rfl (lv_at hl 0 rfl) ?_
  refine lv_iload_n C.x C.b dX10_share_2 rfl (lv_at hl 1 rfl) ?_
  refine tw_call (y := yX10_isRule) (bytes := cX10_isRule) (maxL := 2) (fun v => some (.int v)) [.int x1] (fun _ => True)  C hw XB.tt (fun _ _ _ => trivial) hσ hS hl.1 h (fun vv ss ee => kT_isRule l g A x1 σ vv ss ee) (cwV 1 C.t (lw_V q2435 q2437 qs102 q159 q2438) rfl rfl rfl (by decide +kernel) ⟨Nat.le_trans (Nat.le_of_ble_eq_true rfl) hRf, Nat.le_trans (Nat.le_of_ble_eq_true rfl) hRl⟩) rfl rfl (Nat.le_of_ble_eq_true rfl) dX10_share_3 (fun v_1 σ_2 H locs h hσ hS => ?_)
  refine lv_if_eq (tgt := 17) C.x C.b dX10_share_6 (by decide) (fun c_3 => ?_) (fun c_3 => ?_)
  · have h := ip c_3 h
    refine lv_iconst (v := 1) C.x C.b dX10_share_17 (by decide) ?_
    refine lv_goto (tgt := 22) C.x C.b dX10_share_18 (by decide) ?_
    exact wT_share_22 C hw hRf hRl _ _ _ _ _ _ _ _ h hσ hS (lv_sub hl [0, 1, 2, 3] rfl)
  · have h := iN c_3 h
    refine lv_aload_n C.x C.b dX10_share_9 rfl (lv_at hl 0 rfl) ?_
    refine lv_iload_n C.x C.b dX10_share_10 rfl (lv_at hl 2 rfl) ?_
    refine tw_call (y := yX10_isHeir) (bytes := cX10_isHeir) (maxL := 2) (fun v => some (.int v)) [.int x2] (fun _ => True)  C hw XB.tt (fun _ _ _ => trivial) hσ hS hl.1 h (fun vv ss ee => kT_isHeir l g A x2 σ_2 vv ss ee) (cwV 1 C.t (lw_V q2402 q2404 qs95 q159 q2405) rfl rfl rfl (by decide +kernel) ⟨Nat.le_trans (Nat.le_of_ble_eq_true rfl) hRf, Nat.le_trans (Nat.le_of_ble_eq_true rfl) hRl⟩) rfl rfl (Nat.le_of_ble_eq_true rfl) dX10_share_11 (fun v_4 σ_5 H locs h hσ hS => ?_)
    refine lv_if_ne (tgt := 21) C.x C.b dX10_share_14 (by decide) (fun c_6 => ?_) (fun c_6 => ?_)
    · have h := iN c_6 h
      refine lv_iconst (v := 0) C.x C.b dX10_share_21 (by decide) ?_
      exact wT_share_22 C hw hRf hRl _ _ _ _ _ _ _ _ h hσ hS (lv_sub hl [0, 1, 2, 3] rfl)
    · have h := ip c_6 h
      refine lv_iconst (v := 1) C.x C.b dX10_share_17 (by decide) ?_
      refine lv_goto (tgt := 22) C.x C.b dX10_share_18 (by decide) ?_
      exact wT_share_22 C hw hRf hRl _ _ _ _ _ _ _ _ h hσ hS (lv_sub hl [0, 1, 2, 3] rfl)

end
