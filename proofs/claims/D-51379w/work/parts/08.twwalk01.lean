/-! THE TWIN's WALKS 1: printed by gentw.py -/
section
variable {p : Program} {l : Launch} {e : Env} {R : Room} {s : State} {m : MethodId} {args : Array Value} {below : List Frame} {meth : Method} {c : Code} {g : twG} {A : Nat → Prop}
set_option maxRecDepth 100000
theorem wT_tell_2 {z : Int32 × twS} (C : CX p m meth c s args cX10_tell 3 none RX10) (hw : WKt twL g A s s.heap) (hRf : 5 ≤ R.frames) (hRl : 152 ≤ R.locals) {t1 : List Int32} {a1 : Nat} (k1 : StrC A t1 a1 s s.heap) : ∀ (n : Nat) (x2 : Int32) (σ : twS) (H : Heap) (locs : List Loc) (ls : Array Slot), bT_tell_2 t1 n x2 σ = some z → TI g A σ H → va_S A s.heap H locs → lv_has ls 3 [(0, .ref g.2.2.2.1), (1, .ref a1), (2, .int x2)] → W p l e R s m args below meth c H locs 0 0 (MQ below (TQ g A (none) z.2) args s 0 0 A) (F0 m 2 ls []) := by
  intro n
  induction n with
  | zero =>
    intro x2 σ H locs ls h
    cases h
  | succ n ih =>
    intro x2 σ H locs ls h hσ hS hl
    rw [bT_tell_2] at h
    refine lv_iload_n C.x C.b dX10_tell_2 rfl (lv_at hl 2 rfl) ?_
    refine lv_aload_n C.x C.b dX10_tell_3 rfl (lv_at hl 1 rfl) ?_
    refine tw_slen C hw hS k1 hl.1 q2095 (Nat.le_trans (Nat.le_of_ble_eq_true rfl) hRf) (Nat.le_trans (Nat.le_of_ble_eq_true rfl) hRl) (Nat.le_of_ble_eq_true rfl) dX10_tell_4 (fun locs hS => ?_)
    refine lv_icmp_ge (tgt := 40) C.x C.b dX10_tell_7 (by decide) (fun c_1 => ?_) (fun c_1 => ?_)
    · have h := ip c_1 h
      exact tw_vret C hσ hS h dX10_tell_40
    · have h := iN c_1 h
      refine lv_aload_n C.x C.b dX10_tell_10 rfl (lv_at hl 0 rfl) ?_
      refine tw_gf8 C hw hσ q2223 dX10_tell_11 ?_
      refine lv_aload_n C.x C.b dX10_tell_14 rfl (lv_at hl 0 rfl) ?_
      refine tw_gf10 C hw hσ q2225 dX10_tell_15 ?_
      refine lv_aload_n C.x C.b dX10_tell_18 rfl (lv_at hl 1 rfl) ?_
      refine lv_iload_n C.x C.b dX10_tell_19 rfl (lv_at hl 2 rfl) ?_
      refine tw_chA C hw hS k1 hl.1 h q2096 (Nat.le_trans (Nat.le_of_ble_eq_true rfl) hRf) (Nat.le_trans (Nat.le_of_ble_eq_true rfl) hRl) (Nat.le_of_ble_eq_true rfl) dX10_tell_20 (fun v_2 locs h hS => ?_)
      refine tw_st8 C hw hσ hS h dX10_tell_23 (fun σ_3 H locs h hσ hS => ?_)
      refine lv_aload_n C.x C.b dX10_tell_24 rfl (lv_at hl 0 rfl) ?_
      refine lv_dup C.x C.b dX10_tell_25 rfl ?_
      refine tw_gf10 C hw hσ q2225 dX10_tell_26 ?_
      refine lv_iconst (v := 1) C.x C.b dX10_tell_29 (by decide) ?_
      refine lv_iadd C.x C.b dX10_tell_30 ?_
      refine tw_pf10 C hw hσ hS q2225 dX10_tell_31 (fun H locs hσ hS => ?_)
      obtain ⟨σ_4, e_, h⟩ := nm_s h
      rw [← e_] at hσ
      clear e_
      obtain ⟨x2_5, e_, h⟩ := nm_s h
      refine lv_iinc (v := x2_5) (lv' := [(2, .int x2_5), (0, .ref g.2.2.2.1), (1, .ref a1)]) C.x C.b dX10_tell_34 hl (k := 2) rfl e_.symm (by decide) rfl (fun ls hl => ?_)
      refine lv_goto (tgt := 2) C.x C.b dX10_tell_37 (by decide) ?_
      exact ih _ _ _ _ _ h hσ hS (lv_sub hl [1, 2, 0] rfl)

theorem kT_tell (l : Launch) (g : twG) (A : Nat → Prop) (t1 : List Int32) (a1 : Nat) (σ : twS) (v : Int32) (σ1 : twS) (h : mT_tell t1 σ = some (v, σ1)) : Met l yX10_tell (ws_ yX10_tell cX10_tell 3 none) ({ frames := 5, cells := 0, slots := 0, locals := 152 }) (TPc twL g A [.ref g.2.2.2.1, .ref a1] (fun U => StrC A t1 a1 U U.heap) σ) (TQ g A (none) σ1) 0 0 A := by
  refine Met.ofW (cc := cX10_tell) (maxL := 3) (ret := none) (by decide) rfl ?_
  intro p e s m args below meth c s₁ B hml hv
  obtain ⟨rfl, hw, hX, hσ⟩ := hv
  have hts := atoms_spec (ws := (ws_ yX10_tell cX10_tell 3 none)) B.pre
  have C : CX p m meth c s ([.ref g.2.2.2.1, .ref a1] : List Value).toArray cX10_tell 3 none RX10 := ⟨⟨B.exec, B.bytes, hml, findClass_of_methodNamed B.named, fun w h => hts w (List.mem_cons_of_mem _ h)⟩, B.returns, B.notSynchronized⟩
  have hRf : 5 ≤ (headSpec (ws_ yX10_tell cX10_tell 3 none) ({ frames := 5, cells := 0, slots := 0, locals := 152 })).room.frames := Nat.le_refl _
  have hRl : 152 ≤ (headSpec (ws_ yX10_tell cX10_tell 3 none) ({ frames := 5, cells := 0, slots := 0, locals := 152 })).room.locals := Nat.le_refl _
  generalize (headSpec (ws_ yX10_tell cX10_tell 3 none) ({ frames := 5, cells := 0, slots := 0, locals := 152 })).room = R at hRf hRl ⊢
  have hS : va_S A s.heap s.heap [] := va_S.rf
  have hl := lv_entry ([.ref g.2.2.2.1, .ref a1]) (n := 3) (Nat.le_of_ble_eq_true rfl)
  rw [lg_entry_eq]
  generalize (lg_sl ([.ref g.2.2.2.1, .ref a1]) ++ List.replicate (3 - (lg_sl ([.ref g.2.2.2.1, .ref a1])).length) Slot.unset).toArray = ls at hl ⊢
  have hl : lv_has ls 3 [(0, .ref g.2.2.2.1), (1, .ref a1)] := hl
  have k1 := hX
  obtain ⟨z, hz⟩ : ∃ z, z = (v, σ1) := ⟨_, rfl⟩
  rw [← hz] at h
  rw [show σ1 = z.2 by rw [hz]]
  clear hz v σ1
  unfold mT_tell at h
  refine lv_iconst (v := 0) C.x C.b dX10_tell_0 (by decide) ?_
  refine lv_istore_n (lv' := [(2, .int 0), (0, .ref g.2.2.2.1), (1, .ref a1)]) C.x C.b dX10_tell_1 rfl hl (by decide) rfl (fun ls hl => ?_)
  exact wT_tell_2 C hw hRf hRl k1 _ _ _ _ _ _ h hσ hS (lv_sub hl [1, 2, 0] rfl)

theorem wT_sortOf_28 {z : Int32 × twS} (C : CX p m meth c s args cX10_sortOf 1 (some .int) RX10) (hw : WKt twL g A s s.heap) (hRf : 1 ≤ R.frames) (hRl : 24 ≤ R.locals) : ∀ (x0 : Int32) (σ : twS) (H : Heap) (locs : List Loc) (ls : Array Slot), bT_sortOf_28 x0 σ = some z → TI g A σ H → va_S A s.heap H locs → lv_has ls 1 [(0, .int x0)] → W p l e R s m args below meth c H locs 0 0 (MQ below (TQ g A (some (.int z.1)) z.2) args s 0 0 A) (F0 m 28 ls []) := by
  intro x0 σ H locs ls h hσ hS hl
  unfold bT_sortOf_28 at h
  refine lv_iload_n C.x C.b dX10_sortOf_28 rfl (lv_at hl 0 rfl) ?_
  refine lv_bipush (v := 59) C.x C.b dX10_sortOf_29 (by decide) ?_
  refine lv_icmp_eq (tgt := 76) C.x C.b dX10_sortOf_31 (by decide) (fun c_1 => ?_) (fun c_1 => ?_)
  · have h := ip c_1 h
    refine lv_iload_n C.x C.b dX10_sortOf_76 rfl (lv_at hl 0 rfl) ?_
    refine lv_goto (tgt := 81) C.x C.b dX10_sortOf_77 (by decide) ?_
    exact tw_iret C hσ hS h dX10_sortOf_81
  · have h := iN c_1 h
    refine lv_iload_n C.x C.b dX10_sortOf_34 rfl (lv_at hl 0 rfl) ?_
    refine lv_bipush (v := 44) C.x C.b dX10_sortOf_35 (by decide) ?_
    refine lv_icmp_eq (tgt := 76) C.x C.b dX10_sortOf_37 (by decide) (fun c_2 => ?_) (fun c_2 => ?_)
    · have h := ip c_2 h
      refine lv_iload_n C.x C.b dX10_sortOf_76 rfl (lv_at hl 0 rfl) ?_
      refine lv_goto (tgt := 81) C.x C.b dX10_sortOf_77 (by decide) ?_
      exact tw_iret C hσ hS h dX10_sortOf_81
    · have h := iN c_2 h
      refine lv_iload_n C.x C.b dX10_sortOf_40 rfl (lv_at hl 0 rfl) ?_
      refine lv_bipush (v := 47) C.x C.b dX10_sortOf_41 (by decide) ?_
      refine lv_icmp_eq (tgt := 76) C.x C.b dX10_sortOf_43 (by decide) (fun c_3 => ?_) (fun c_3 => ?_)
      · have h := ip c_3 h
        refine lv_iload_n C.x C.b dX10_sortOf_76 rfl (lv_at hl 0 rfl) ?_
        refine lv_goto (tgt := 81) C.x C.b dX10_sortOf_77 (by decide) ?_
        exact tw_iret C hσ hS h dX10_sortOf_81
      · have h := iN c_3 h
        refine lv_iload_n C.x C.b dX10_sortOf_46 rfl (lv_at hl 0 rfl) ?_
        refine lv_bipush (v := 40) C.x C.b dX10_sortOf_47 (by decide) ?_
        refine lv_icmp_eq (tgt := 76) C.x C.b dX10_sortOf_49 (by decide) (fun c_4 => ?_) (fun c_4 => ?_)
        · have h := ip c_4 h
          refine lv_iload_n C.x C.b dX10_sortOf_76 rfl (lv_at hl 0 rfl) ?_
          refine lv_goto (tgt := 81) C.x C.b dX10_sortOf_77 (by decide) ?_
          exact tw_iret C hσ hS h dX10_sortOf_81
        · have h := iN c_4 h
          refine lv_iload_n C.x C.b dX10_sortOf_52 rfl (lv_at hl 0 rfl) ?_
          refine lv_bipush (v := 41) C.x C.b dX10_sortOf_53 (by decide) ?_
          refine lv_icmp_eq (tgt := 76) C.x C.b dX10_sortOf_55 (by decide) (fun c_5 => ?_) (fun c_5 => ?_)
          · have h := ip c_5 h
            refine lv_iload_n C.x C.b dX10_sortOf_76 rfl (lv_at hl 0 rfl) ?_
            refine lv_goto (tgt := 81) C.x C.b dX10_sortOf_77 (by decide) ?_
            exact tw_iret C hσ hS h dX10_sortOf_81
          · have h := iN c_5 h
            refine lv_iload_n C.x C.b dX10_sortOf_58 rfl (lv_at hl 0 rfl) ?_
            refine lv_bipush (v := 61) C.x C.b dX10_sortOf_59 (by decide) ?_
            refine lv_icmp_eq (tgt := 76) C.x C.b dX10_sortOf_61 (by decide) (fun c_6 => ?_) (fun c_6 => ?_)
            · have h := ip c_6 h
              refine lv_iload_n C.x C.b dX10_sortOf_76 rfl (lv_at hl 0 rfl) ?_
              refine lv_goto (tgt := 81) C.x C.b dX10_sortOf_77 (by decide) ?_
              exact tw_iret C hσ hS h dX10_sortOf_81
            · have h := iN c_6 h
              refine lv_iload_n C.x C.b dX10_sortOf_64 rfl (lv_at hl 0 rfl) ?_
              refine lv_bipush (v := 60) C.x C.b dX10_sortOf_65 (by decide) ?_
              refine lv_icmp_eq (tgt := 76) C.x C.b dX10_sortOf_67 (by decide) (fun c_7 => ?_) (fun c_7 => ?_)
              · have h := ip c_7 h
                refine lv_iload_n C.x C.b dX10_sortOf_76 rfl (lv_at hl 0 rfl) ?_
                refine lv_goto (tgt := 81) C.x C.b dX10_sortOf_77 (by decide) ?_
                exact tw_iret C hσ hS h dX10_sortOf_81
              · have h := iN c_7 h
                refine lv_iload_n C.x C.b dX10_sortOf_70 rfl (lv_at hl 0 rfl) ?_
                refine lv_bipush (v := 62) C.x C.b dX10_sortOf_71 (by decide) ?_
                refine lv_icmp_ne (tgt := 80) C.x C.b dX10_sortOf_73 (by decide) (fun c_8 => ?_) (fun c_8 => ?_)
                · have h := iN c_8 h
                  refine lv_iconst (v := 3) C.x C.b dX10_sortOf_80 (by decide) ?_
                  exact tw_iret C hσ hS h dX10_sortOf_81
                · have h := ip c_8 h
                  refine lv_iload_n C.x C.b dX10_sortOf_76 rfl (lv_at hl 0 rfl) ?_
                  refine lv_goto (tgt := 81) C.x C.b dX10_sortOf_77 (by decide) ?_
                  exact tw_iret C hσ hS h dX10_sortOf_81

theorem wT_sortOf_14 {z : Int32 × twS} (C : CX p m meth c s args cX10_sortOf 1 (some .int) RX10) (hw : WKt twL g A s s.heap) (hRf : 1 ≤ R.frames) (hRl : 24 ≤ R.locals) : ∀ (x0 : Int32) (σ : twS) (H : Heap) (locs : List Loc) (ls : Array Slot), bT_sortOf_14 x0 σ = some z → TI g A σ H → va_S A s.heap H locs → lv_has ls 1 [(0, .int x0)] → W p l e R s m args below meth c H locs 0 0 (MQ below (TQ g A (some (.int z.1)) z.2) args s 0 0 A) (F0 m 14 ls []) := by
  intro x0 σ H locs ls h hσ hS hl
  unfold bT_sortOf_14 at h
  refine lv_iload_n C.x C.b dX10_sortOf_14 rfl (lv_at hl 0 rfl) ?_
  refine lv_bipush (v := 48) C.x C.b dX10_sortOf_15 (by decide) ?_
  refine lv_icmp_lt (tgt := 28) C.x C.b dX10_sortOf_17 (by decide) (fun c_1 => ?_) (fun c_1 => ?_)
  · have h := ip c_1 h
    exact wT_sortOf_28 C hw hRf hRl _ _ _ _ _ h hσ hS (lv_sub hl [0] rfl)
  · have h := iN c_1 h
    refine lv_iload_n C.x C.b dX10_sortOf_20 rfl (lv_at hl 0 rfl) ?_
    refine lv_bipush (v := 57) C.x C.b dX10_sortOf_21 (by decide) ?_
    refine lv_icmp_gt (tgt := 28) C.x C.b dX10_sortOf_23 (by decide) (fun c_2 => ?_) (fun c_2 => ?_)
    · have h := ip c_2 h
      exact wT_sortOf_28 C hw hRf hRl _ _ _ _ _ h hσ hS (lv_sub hl [0] rfl)
    · have h := iN c_2 h
      refine lv_iconst (v := 2) C.x C.b dX10_sortOf_26 (by decide) ?_
      exact tw_iret C hσ hS h dX10_sortOf_27

theorem kT_sortOf (l : Launch) (g : twG) (A : Nat → Prop) (x0 : Int32) (σ : twS) (v : Int32) (σ1 : twS) (h : mT_sortOf x0 σ = some (v, σ1)) : Met l yX10_sortOf (ws_ yX10_sortOf cX10_sortOf 1 (some .int)) ({ frames := 1, cells := 0, slots := 0, locals := 24 }) (TPc twL g A [.int x0] (fun _ => True) σ) (TQ g A (some (.int v)) σ1) 0 0 A := by
  refine Met.ofW (cc := cX10_sortOf) (maxL := 1) (ret := (some .int)) (by decide) rfl ?_
  intro p e s m args below meth c s₁ B hml hv
  obtain ⟨rfl, hw, hX, hσ⟩ := hv
  have hts := atoms_spec (ws := (ws_ yX10_sortOf cX10_sortOf 1 (some .int))) B.pre
  have C : CX p m meth c s ([.int x0] : List Value).toArray cX10_sortOf 1 (some .int) RX10 := ⟨⟨B.exec, B.bytes, hml, findClass_of_methodNamed B.named, fun w h => hts w (List.mem_cons_of_mem _ h)⟩, B.returns, B.notSynchronized⟩
  have hRf : 1 ≤ (headSpec (ws_ yX10_sortOf cX10_sortOf 1 (some .int)) ({ frames := 1, cells := 0, slots := 0, locals := 24 })).room.frames := Nat.le_refl _
  have hRl : 24 ≤ (headSpec (ws_ yX10_sortOf cX10_sortOf 1 (some .int)) ({ frames := 1, cells := 0, slots := 0, locals := 24 })).room.locals := Nat.le_refl _
  generalize (headSpec (ws_ yX10_sortOf cX10_sortOf 1 (some .int)) ({ frames := 1, cells := 0, slots := 0, locals := 24 })).room = R at hRf hRl ⊢
  have hS : va_S A s.heap s.heap [] := va_S.rf
  have hl := lv_entry ([.int x0]) (n := 1) (Nat.le_of_ble_eq_true rfl)
  rw [lg_entry_eq]
  generalize (lg_sl ([.int x0]) ++ List.replicate (1 - (lg_sl ([.int x0])).length) Slot.unset).toArray = ls at hl ⊢
  have hl : lv_has ls 1 [(0, .int x0)] := hl
  obtain ⟨z, hz⟩ : ∃ z, z = (v, σ1) := ⟨_, rfl⟩
  rw [← hz] at h
  rw [show v = z.1 by rw [hz], show σ1 = z.2 by rw [hz]]
  clear hz v σ1
  unfold mT_sortOf at h
  refine lv_iload_n C.x C.b dX10_sortOf_0 rfl (lv_at hl 0 rfl) ?_
  refine lv_bipush (v := 97) C.x C.b dX10_sortOf_1 (by decide) ?_
  refine lv_icmp_lt (tgt := 14) C.x C.b dX10_sortOf_3 (by decide) (fun c_1 => ?_) (fun c_1 => ?_)
  · have h := ip c_1 h
    exact wT_sortOf_14 C hw hRf hRl _ _ _ _ _ h hσ hS (lv_sub hl [0] rfl)
  · have h := iN c_1 h
    refine lv_iload_n C.x C.b dX10_sortOf_6 rfl (lv_at hl 0 rfl) ?_
    refine lv_bipush (v := 122) C.x C.b dX10_sortOf_7 (by decide) ?_
    refine lv_icmp_gt (tgt := 14) C.x C.b dX10_sortOf_9 (by decide) (fun c_2 => ?_) (fun c_2 => ?_)
    · have h := ip c_2 h
      exact wT_sortOf_14 C hw hRf hRl _ _ _ _ _ h hσ hS (lv_sub hl [0] rfl)
    · have h := iN c_2 h
      refine lv_iconst (v := 1) C.x C.b dX10_sortOf_12 (by decide) ?_
      exact tw_iret C hσ hS h dX10_sortOf_13

theorem wT_next_47 {z : Int32 × twS} (C : CX p m meth c s args cX10_next 2 none RX10) (hw : WKt twL g A s s.heap) (hRf : 2 ≤ R.frames) (hRl : 44 ≤ R.locals) {k8 : twS → Option (Int32 × twS)} (hk8 : ∀ (σ : twS) (H : Heap) (locs : List Loc) (ls : Array Slot), k8 σ = some z → TI g A σ H → va_S A s.heap H locs → lv_has ls 2 [(0, .ref g.2.2.2.1)] → W p l e R s m args below meth c H locs 0 0 (MQ below (TQ g A (none) z.2) args s 0 0 A) (F0 m 8 ls [])) : ∀ (σ : twS) (H : Heap) (locs : List Loc) (ls : Array Slot), bT_next_47 k8 σ = some z → TI g A σ H → va_S A s.heap H locs → lv_has ls 2 [(0, .ref g.2.2.2.1)] → W p l e R s m args below meth c H locs 0 0 (MQ below (TQ g A (none) z.2) args s 0 0 A) (F0 m 47 ls []) := by
  intro σ H locs ls h hσ hS hl
  unfold bT_next_47 at h
  refine lv_aload_n C.x C.b dX10_next_47 rfl (lv_at hl 0 rfl) ?_
  refine lv_dup C.x C.b dX10_next_48 rfl ?_
  refine tw_gf17 C hw hσ q2232 dX10_next_49 ?_
  refine lv_iconst (v := 1) C.x C.b dX10_next_52 (by decide) ?_
  refine lv_iadd C.x C.b dX10_next_53 ?_
  refine tw_pf17 C hw hσ hS q2232 dX10_next_54 (fun H locs hσ hS => ?_)
  obtain ⟨σ_1, e_, h⟩ := nm_s h
  rw [← e_] at hσ
  clear e_
  refine lv_goto (tgt := 8) C.x C.b dX10_next_57 (by decide) ?_
  exact hk8 _ _ _ _ h hσ hS (lv_sub hl [0] rfl)

theorem wT_next_206 {z : Int32 × twS} (C : CX p m meth c s args cX10_next 2 none RX10) (hw : WKt twL g A s s.heap) (hRf : 2 ≤ R.frames) (hRl : 44 ≤ R.locals) : ∀ (n : Nat) (x1 : Int32) (σ : twS) (H : Heap) (locs : List Loc) (ls : Array Slot), bT_next_206 n x1 σ = some z → TI g A σ H → va_S A s.heap H locs → lv_has ls 2 [(0, .ref g.2.2.2.1), (1, .int x1)] → W p l e R s m args below meth c H locs 0 0 (MQ below (TQ g A (none) z.2) args s 0 0 A) (F0 m 206 ls []) := by
  intro n
  induction n with
  | zero =>
    intro x1 σ H locs ls h
    cases h
  | succ n ih =>
    intro x1 σ H locs ls h hσ hS hl
    rw [bT_next_206] at h
    refine lv_iload_n C.x C.b dX10_next_206 rfl (lv_at hl 1 rfl) ?_
    refine lv_aload_n C.x C.b dX10_next_207 rfl (lv_at hl 0 rfl) ?_
    refine tw_gf18 C hw hσ q2233 dX10_next_208 ?_
    refine lv_icmp_ge (tgt := 249) C.x C.b dX10_next_211 (by decide) (fun c_1 => ?_) (fun c_1 => ?_)
    · have h := ip c_1 h
      exact tw_vret C hσ hS h dX10_next_249
    · have h := iN c_1 h
      refine lv_aload_n C.x C.b dX10_next_214 rfl (lv_at hl 0 rfl) ?_
      refine tw_gf16 C hw hσ q2231 dX10_next_215 ?_
      refine lv_iconst (v := 2) C.x C.b dX10_next_218 (by decide) ?_
      refine lv_icmp_ne (tgt := 249) C.x C.b dX10_next_219 (by decide) (fun c_2 => ?_) (fun c_2 => ?_)
      · have h := iN c_2 h
        exact tw_vret C hσ hS h dX10_next_249
      · have h := ip c_2 h
        refine lv_aload_n C.x C.b dX10_next_222 rfl (lv_at hl 0 rfl) ?_
        refine lv_bipush (v := 10) C.x C.b dX10_next_223 (by decide) ?_
        refine lv_aload_n C.x C.b dX10_next_225 rfl (lv_at hl 0 rfl) ?_
        refine tw_gf19 C hw hσ q2234 dX10_next_226 ?_
        refine lv_imul C.x C.b dX10_next_229 ?_
        refine lv_aload_n C.x C.b dX10_next_230 rfl (lv_at hl 0 rfl) ?_
        refine tw_gf8 C hw hσ q2223 dX10_next_231 ?_
        refine lv_iload_n C.x C.b dX10_next_234 rfl (lv_at hl 1 rfl) ?_
        refine tw_ld8 C hw hσ h dX10_next_235 (fun v_3 h => ?_)
        refine lv_iadd C.x C.b dX10_next_236 ?_
        refine lv_bipush (v := 48) C.x C.b dX10_next_237 (by decide) ?_
        refine lv_isub C.x C.b dX10_next_239 ?_
        refine tw_pf19 C hw hσ hS q2234 dX10_next_240 (fun H locs hσ hS => ?_)
        obtain ⟨σ_4, e_, h⟩ := nm_s h
        rw [← e_] at hσ
        clear e_
        obtain ⟨x1_5, e_, h⟩ := nm_s h
        refine lv_iinc (v := x1_5) (lv' := [(1, .int x1_5), (0, .ref g.2.2.2.1)]) C.x C.b dX10_next_243 hl (k := 1) rfl e_.symm (by decide) rfl (fun ls hl => ?_)
        refine lv_goto (tgt := 206) C.x C.b dX10_next_246 (by decide) ?_
        exact ih _ _ _ _ _ h hσ hS (lv_sub hl [1, 0] rfl)

theorem wT_next_196 {z : Int32 × twS} (C : CX p m meth c s args cX10_next 2 none RX10) (hw : WKt twL g A s s.heap) (hRf : 2 ≤ R.frames) (hRl : 44 ≤ R.locals) : ∀ (σ : twS) (H : Heap) (locs : List Loc) (ls : Array Slot), bT_next_196 σ = some z → TI g A σ H → va_S A s.heap H locs → lv_has ls 2 [(0, .ref g.2.2.2.1)] → W p l e R s m args below meth c H locs 0 0 (MQ below (TQ g A (none) z.2) args s 0 0 A) (F0 m 196 ls []) := by
  intro σ H locs ls h hσ hS hl
  unfold bT_next_196 at h
  refine lv_aload_n C.x C.b dX10_next_196 rfl (lv_at hl 0 rfl) ?_
  refine lv_iconst (v := 0) C.x C.b dX10_next_197 (by decide) ?_
  refine tw_pf19 C hw hσ hS q2234 dX10_next_198 (fun H locs hσ hS => ?_)
  obtain ⟨σ_1, e_, h⟩ := nm_s h
  rw [← e_] at hσ
  clear e_
  refine lv_aload_n C.x C.b dX10_next_201 rfl (lv_at hl 0 rfl) ?_
  refine tw_gf17 C hw hσ q2232 dX10_next_202 ?_
  refine tw_lt h (fun x1_2 h => ?_)
  refine lv_istore_n (lv' := [(1, .int x1_2), (0, .ref g.2.2.2.1)]) C.x C.b dX10_next_205 rfl hl (by decide) rfl (fun ls hl => ?_)
  exact wT_next_206 C hw hRf hRl _ _ _ _ _ _ h hσ hS (lv_sub hl [1, 0] rfl)

theorem wT_next_170 {z : Int32 × twS} (C : CX p m meth c s args cX10_next 2 none RX10) (hw : WKt twL g A s s.heap) (hRf : 2 ≤ R.frames) (hRl : 44 ≤ R.locals) : ∀ (σ : twS) (H : Heap) (locs : List Loc) (ls : Array Slot), bT_next_170 σ = some z → TI g A σ H → va_S A s.heap H locs → lv_has ls 2 [(0, .ref g.2.2.2.1)] → W p l e R s m args below meth c H locs 0 0 (MQ below (TQ g A (none) z.2) args s 0 0 A) (F0 m 170 ls []) := by
  intro σ H locs ls h hσ hS hl
  unfold bT_next_170 at h
  refine lv_aload_n C.x C.b dX10_next_170 rfl (lv_at hl 0 rfl) ?_
  refine tw_gf16 C hw hσ q2231 dX10_next_171 ?_
  refine lv_iconst (v := 2) C.x C.b dX10_next_174 (by decide) ?_
  refine lv_icmp_ne (tgt := 196) C.x C.b dX10_next_175 (by decide) (fun c_1 => ?_) (fun c_1 => ?_)
  · have h := iN c_1 h
    exact wT_next_196 C hw hRf hRl _ _ _ _ h hσ hS (lv_sub hl [0] rfl)
  · have h := ip c_1 h
    refine lv_aload_n C.x C.b dX10_next_178 rfl (lv_at hl 0 rfl) ?_
    refine tw_gf18 C hw hσ q2233 dX10_next_179 ?_
    refine lv_aload_n C.x C.b dX10_next_182 rfl (lv_at hl 0 rfl) ?_
    refine tw_gf17 C hw hσ q2232 dX10_next_183 ?_
    refine lv_isub C.x C.b dX10_next_186 ?_
    refine lv_iconst (v := 4) C.x C.b dX10_next_187 (by decide) ?_
    refine lv_icmp_le (tgt := 196) C.x C.b dX10_next_188 (by decide) (fun c_2 => ?_) (fun c_2 => ?_)
    · have h := ip c_2 h
      exact wT_next_196 C hw hRf hRl _ _ _ _ h hσ hS (lv_sub hl [0] rfl)
    · have h := iN c_2 h
      refine lv_aload_n C.x C.b dX10_next_191 rfl (lv_at hl 0 rfl) ?_
      refine lv_iconst (v := 3) C.x C.b dX10_next_192 (by decide) ?_
      refine tw_pf16 C hw hσ hS q2231 dX10_next_193 (fun H locs hσ hS => ?_)
      obtain ⟨σ_3, e_, h⟩ := nm_s h
      rw [← e_] at hσ
      clear e_
      exact wT_next_196 C hw hRf hRl _ _ _ _ h hσ hS (lv_sub hl [0] rfl)

theorem wT_next_127 {z : Int32 × twS} (C : CX p m meth c s args cX10_next 2 none RX10) (hw : WKt twL g A s s.heap) (hRf : 2 ≤ R.frames) (hRl : 44 ≤ R.locals) {k111 : twS → Option (Int32 × twS)} (hk111 : ∀ (σ : twS) (H : Heap) (locs : List Loc) (ls : Array Slot), k111 σ = some z → TI g A σ H → va_S A s.heap H locs → lv_has ls 2 [(0, .ref g.2.2.2.1)] → W p l e R s m args below meth c H locs 0 0 (MQ below (TQ g A (none) z.2) args s 0 0 A) (F0 m 111 ls [])) : ∀ (σ : twS) (H : Heap) (locs : List Loc) (ls : Array Slot), bT_next_127 k111 σ = some z → TI g A σ H → va_S A s.heap H locs → lv_has ls 2 [(0, .ref g.2.2.2.1)] → W p l e R s m args below meth c H locs 0 0 (MQ below (TQ g A (none) z.2) args s 0 0 A) (F0 m 127 ls []) := by
  intro σ H locs ls h hσ hS hl
  unfold bT_next_127 at h
  refine lv_aload_n C.x C.b dX10_next_127 rfl (lv_at hl 0 rfl) ?_
  refine tw_gf18 C hw hσ q2233 dX10_next_128 ?_
  refine lv_aload_n C.x C.b dX10_next_131 rfl (lv_at hl 0 rfl) ?_
  refine tw_gf10 C hw hσ q2225 dX10_next_132 ?_
  refine lv_icmp_ge (tgt := 170) C.x C.b dX10_next_135 (by decide) (fun c_1 => ?_) (fun c_1 => ?_)
  · have h := ip c_1 h
    exact wT_next_170 C hw hRf hRl _ _ _ _ h hσ hS (lv_sub hl [0] rfl)
  · have h := iN c_1 h
    refine lv_aload_n C.x C.b dX10_next_138 rfl (lv_at hl 0 rfl) ?_
    refine tw_gf8 C hw hσ q2223 dX10_next_139 ?_
    refine lv_aload_n C.x C.b dX10_next_142 rfl (lv_at hl 0 rfl) ?_
    refine tw_gf18 C hw hσ q2233 dX10_next_143 ?_
    refine tw_ld8 C hw hσ h dX10_next_146 (fun v_2 h => ?_)
    refine tw_callS (y := yX10_sortOf) (bytes := cX10_sortOf) (maxL := 1) (fun v => some (.int v)) [.int v_2] C hw hσ hS hl.1 h (fun vv ss ee => kT_sortOf l g A v_2 σ vv ss ee) (va_cwS 1 C.t (lw_S q2108 q2109 q159 q2110) rfl rfl rfl (by decide +kernel) ⟨Nat.le_trans (Nat.le_of_ble_eq_true rfl) hRf, Nat.le_trans (Nat.le_of_ble_eq_true rfl) hRl⟩) rfl rfl (Nat.le_of_ble_eq_true rfl) dX10_next_147 (fun v_3 σ_4 H locs h hσ hS => ?_)
    refine lv_aload_n C.x C.b dX10_next_150 rfl (lv_at hl 0 rfl) ?_
    refine tw_gf16 C hw hσ q2231 dX10_next_151 ?_
    refine lv_icmp_ne (tgt := 170) C.x C.b dX10_next_154 (by decide) (fun c_5 => ?_) (fun c_5 => ?_)
    · have h := iN c_5 h
      exact wT_next_170 C hw hRf hRl _ _ _ _ h hσ hS (lv_sub hl [0] rfl)
    · have h := ip c_5 h
      refine lv_aload_n C.x C.b dX10_next_157 rfl (lv_at hl 0 rfl) ?_
      refine lv_dup C.x C.b dX10_next_158 rfl ?_
      refine tw_gf18 C hw hσ q2233 dX10_next_159 ?_
      refine lv_iconst (v := 1) C.x C.b dX10_next_162 (by decide) ?_
      refine lv_iadd C.x C.b dX10_next_163 ?_
      refine tw_pf18 C hw hσ hS q2233 dX10_next_164 (fun H locs hσ hS => ?_)
      obtain ⟨σ_6, e_, h⟩ := nm_s h
      rw [← e_] at hσ
      clear e_
      refine lv_goto (tgt := 111) C.x C.b dX10_next_167 (by decide) ?_
      exact hk111 _ _ _ _ h hσ hS (lv_sub hl [0] rfl)

theorem wT_next_111 {z : Int32 × twS} (C : CX p m meth c s args cX10_next 2 none RX10) (hw : WKt twL g A s s.heap) (hRf : 2 ≤ R.frames) (hRl : 44 ≤ R.locals) : ∀ (n : Nat) (σ : twS) (H : Heap) (locs : List Loc) (ls : Array Slot), bT_next_111 n σ = some z → TI g A σ H → va_S A s.heap H locs → lv_has ls 2 [(0, .ref g.2.2.2.1)] → W p l e R s m args below meth c H locs 0 0 (MQ below (TQ g A (none) z.2) args s 0 0 A) (F0 m 111 ls []) := by
  intro n
  induction n with
  | zero =>
    intro σ H locs ls h
    cases h
  | succ n ih =>
    intro σ H locs ls h hσ hS hl
    rw [bT_next_111] at h
    refine lv_aload_n C.x C.b dX10_next_111 rfl (lv_at hl 0 rfl) ?_
    refine tw_gf16 C hw hσ q2231 dX10_next_112 ?_
    refine lv_iconst (v := 1) C.x C.b dX10_next_115 (by decide) ?_
    refine lv_icmp_eq (tgt := 127) C.x C.b dX10_next_116 (by decide) (fun c_1 => ?_) (fun c_1 => ?_)
    · have h := ip c_1 h
      exact wT_next_127 C hw hRf hRl (fun σ H locs ls h hσ hS hl => ih σ H locs ls h hσ hS hl) _ _ _ _ h hσ hS (lv_sub hl [0] rfl)
    · have h := iN c_1 h
      refine lv_aload_n C.x C.b dX10_next_119 rfl (lv_at hl 0 rfl) ?_
      refine tw_gf16 C hw hσ q2231 dX10_next_120 ?_
      refine lv_iconst (v := 2) C.x C.b dX10_next_123 (by decide) ?_
      refine lv_icmp_ne (tgt := 170) C.x C.b dX10_next_124 (by decide) (fun c_2 => ?_) (fun c_2 => ?_)
      · have h := iN c_2 h
        exact wT_next_170 C hw hRf hRl _ _ _ _ h hσ hS (lv_sub hl [0] rfl)
      · have h := ip c_2 h
        exact wT_next_127 C hw hRf hRl (fun σ H locs ls h hσ hS hl => ih σ H locs ls h hσ hS hl) _ _ _ _ h hσ hS (lv_sub hl [0] rfl)

theorem wT_next_60 {z : Int32 × twS} (C : CX p m meth c s args cX10_next 2 none RX10) (hw : WKt twL g A s s.heap) (hRf : 2 ≤ R.frames) (hRl : 44 ≤ R.locals) : ∀ (σ : twS) (H : Heap) (locs : List Loc) (ls : Array Slot), bT_next_60 σ = some z → TI g A σ H → va_S A s.heap H locs → lv_has ls 2 [(0, .ref g.2.2.2.1)] → W p l e R s m args below meth c H locs 0 0 (MQ below (TQ g A (none) z.2) args s 0 0 A) (F0 m 60 ls []) := by
  intro σ H locs ls h hσ hS hl
  unfold bT_next_60 at h
  refine lv_aload_n C.x C.b dX10_next_60 rfl (lv_at hl 0 rfl) ?_
  refine lv_aload_n C.x C.b dX10_next_61 rfl (lv_at hl 0 rfl) ?_
  refine tw_gf17 C hw hσ q2232 dX10_next_62 ?_
  refine tw_pf18 C hw hσ hS q2233 dX10_next_65 (fun H locs hσ hS => ?_)
  obtain ⟨σ_1, e_, h⟩ := nm_s h
  rw [← e_] at hσ
  clear e_
  refine lv_aload_n C.x C.b dX10_next_68 rfl (lv_at hl 0 rfl) ?_
  refine tw_gf17 C hw hσ q2232 dX10_next_69 ?_
  refine lv_aload_n C.x C.b dX10_next_72 rfl (lv_at hl 0 rfl) ?_
  refine tw_gf10 C hw hσ q2225 dX10_next_73 ?_
  refine lv_icmp_ne (tgt := 85) C.x C.b dX10_next_76 (by decide) (fun c_2 => ?_) (fun c_2 => ?_)
  · have h := iN c_2 h
    refine lv_aload_n C.x C.b dX10_next_85 rfl (lv_at hl 0 rfl) ?_
    refine lv_aload_n C.x C.b dX10_next_86 rfl (lv_at hl 0 rfl) ?_
    refine tw_gf8 C hw hσ q2223 dX10_next_87 ?_
    refine lv_aload_n C.x C.b dX10_next_90 rfl (lv_at hl 0 rfl) ?_
    refine tw_gf17 C hw hσ q2232 dX10_next_91 ?_
    refine tw_ld8 C hw hσ h dX10_next_94 (fun v_3 h => ?_)
    refine tw_callS (y := yX10_sortOf) (bytes := cX10_sortOf) (maxL := 1) (fun v => some (.int v)) [.int v_3] C hw hσ hS hl.1 h (fun vv ss ee => kT_sortOf l g A v_3 σ_1 vv ss ee) (va_cwS 1 C.t (lw_S q2108 q2109 q159 q2110) rfl rfl rfl (by decide +kernel) ⟨Nat.le_trans (Nat.le_of_ble_eq_true rfl) hRf, Nat.le_trans (Nat.le_of_ble_eq_true rfl) hRl⟩) rfl rfl (Nat.le_of_ble_eq_true rfl) dX10_next_95 (fun v_4 σ_5 H locs h hσ hS => ?_)
    refine tw_pf16 C hw hσ hS q2231 dX10_next_98 (fun H locs hσ hS => ?_)
    obtain ⟨σ_6, e_, h⟩ := nm_s h
    rw [← e_] at hσ
    clear e_
    refine lv_aload_n C.x C.b dX10_next_101 rfl (lv_at hl 0 rfl) ?_
    refine lv_dup C.x C.b dX10_next_102 rfl ?_
    refine tw_gf18 C hw hσ q2233 dX10_next_103 ?_
    refine lv_iconst (v := 1) C.x C.b dX10_next_106 (by decide) ?_
    refine lv_iadd C.x C.b dX10_next_107 ?_
    refine tw_pf18 C hw hσ hS q2233 dX10_next_108 (fun H locs hσ hS => ?_)
    obtain ⟨σ_7, e_, h⟩ := nm_s h
    rw [← e_] at hσ
    clear e_
    exact wT_next_111 C hw hRf hRl _ _ _ _ _ h hσ hS (lv_sub hl [0] rfl)
  · have h := ip c_2 h
    refine lv_aload_n C.x C.b dX10_next_79 rfl (lv_at hl 0 rfl) ?_
    refine lv_iconst (v := 0) C.x C.b dX10_next_80 (by decide) ?_
    refine tw_pf16 C hw hσ hS q2231 dX10_next_81 (fun H locs hσ hS => ?_)
    obtain ⟨σ_8, e_, h⟩ := nm_s h
    rw [← e_] at hσ
    clear e_
    exact tw_vret C hσ hS h dX10_next_84

theorem wT_next_8 {z : Int32 × twS} (C : CX p m meth c s args cX10_next 2 none RX10) (hw : WKt twL g A s s.heap) (hRf : 2 ≤ R.frames) (hRl : 44 ≤ R.locals) : ∀ (n : Nat) (σ : twS) (H : Heap) (locs : List Loc) (ls : Array Slot), bT_next_8 n σ = some z → TI g A σ H → va_S A s.heap H locs → lv_has ls 2 [(0, .ref g.2.2.2.1)] → W p l e R s m args below meth c H locs 0 0 (MQ below (TQ g A (none) z.2) args s 0 0 A) (F0 m 8 ls []) := by
  intro n
  induction n with
  | zero =>
    intro σ H locs ls h
    cases h
  | succ n ih =>
    intro σ H locs ls h hσ hS hl
    rw [bT_next_8] at h
    refine lv_aload_n C.x C.b dX10_next_8 rfl (lv_at hl 0 rfl) ?_
    refine tw_gf17 C hw hσ q2232 dX10_next_9 ?_
    refine lv_aload_n C.x C.b dX10_next_12 rfl (lv_at hl 0 rfl) ?_
    refine tw_gf10 C hw hσ q2225 dX10_next_13 ?_
    refine lv_icmp_ge (tgt := 60) C.x C.b dX10_next_16 (by decide) (fun c_1 => ?_) (fun c_1 => ?_)
    · have h := ip c_1 h
      exact wT_next_60 C hw hRf hRl _ _ _ _ h hσ hS (lv_sub hl [0] rfl)
    · have h := iN c_1 h
      refine lv_aload_n C.x C.b dX10_next_19 rfl (lv_at hl 0 rfl) ?_
      refine tw_gf8 C hw hσ q2223 dX10_next_20 ?_
      refine lv_aload_n C.x C.b dX10_next_23 rfl (lv_at hl 0 rfl) ?_
      refine tw_gf17 C hw hσ q2232 dX10_next_24 ?_
      refine tw_ld8 C hw hσ h dX10_next_27 (fun v_2 h => ?_)
      refine lv_bipush (v := 32) C.x C.b dX10_next_28 (by decide) ?_
      refine lv_icmp_eq (tgt := 47) C.x C.b dX10_next_30 (by decide) (fun c_3 => ?_) (fun c_3 => ?_)
      · have h := ip c_3 h
        exact wT_next_47 C hw hRf hRl (fun σ H locs ls h hσ hS hl => ih σ H locs ls h hσ hS hl) _ _ _ _ h hσ hS (lv_sub hl [0] rfl)
      · have h := iN c_3 h
        refine lv_aload_n C.x C.b dX10_next_33 rfl (lv_at hl 0 rfl) ?_
        refine tw_gf8 C hw hσ q2223 dX10_next_34 ?_
        refine lv_aload_n C.x C.b dX10_next_37 rfl (lv_at hl 0 rfl) ?_
        refine tw_gf17 C hw hσ q2232 dX10_next_38 ?_
        refine tw_ld8 C hw hσ h dX10_next_41 (fun v_4 h => ?_)
        refine lv_bipush (v := 10) C.x C.b dX10_next_42 (by decide) ?_
        refine lv_icmp_ne (tgt := 60) C.x C.b dX10_next_44 (by decide) (fun c_5 => ?_) (fun c_5 => ?_)
        · have h := iN c_5 h
          exact wT_next_60 C hw hRf hRl _ _ _ _ h hσ hS (lv_sub hl [0] rfl)
        · have h := ip c_5 h
          exact wT_next_47 C hw hRf hRl (fun σ H locs ls h hσ hS hl => ih σ H locs ls h hσ hS hl) _ _ _ _ h hσ hS (lv_sub hl [0] rfl)

theorem kT_next (l : Launch) (g : twG) (A : Nat → Prop) (σ : twS) (v : Int32) (σ1 : twS) (h : mT_next σ = some (v, σ1)) : Met l yX10_next (ws_ yX10_next cX10_next 2 none) ({ frames := 2, cells := 0, slots := 0, locals := 44 }) (TPc twL g A [.ref g.2.2.2.1] (fun _ => True) σ) (TQ g A (none) σ1) 0 0 A := by
  refine Met.ofW (cc := cX10_next) (maxL := 2) (ret := none) (by decide) rfl ?_
  intro p e s m args below meth c s₁ B hml hv
  obtain ⟨rfl, hw, hX, hσ⟩ := hv
  have hts := atoms_spec (ws := (ws_ yX10_next cX10_next 2 none)) B.pre
  have C : CX p m meth c s ([.ref g.2.2.2.1] : List Value).toArray cX10_next 2 none RX10 := ⟨⟨B.exec, B.bytes, hml, findClass_of_methodNamed B.named, fun w h => hts w (List.mem_cons_of_mem _ h)⟩, B.returns, B.notSynchronized⟩
  have hRf : 2 ≤ (headSpec (ws_ yX10_next cX10_next 2 none) ({ frames := 2, cells := 0, slots := 0, locals := 44 })).room.frames := Nat.le_refl _
  have hRl : 44 ≤ (headSpec (ws_ yX10_next cX10_next 2 none) ({ frames := 2, cells := 0, slots := 0, locals := 44 })).room.locals := Nat.le_refl _
  generalize (headSpec (ws_ yX10_next cX10_next 2 none) ({ frames := 2, cells := 0, slots := 0, locals := 44 })).room = R at hRf hRl ⊢
  have hS : va_S A s.heap s.heap [] := va_S.rf
  have hl := lv_entry ([.ref g.2.2.2.1]) (n := 2) (Nat.le_of_ble_eq_true rfl)
  rw [lg_entry_eq]
  generalize (lg_sl ([.ref g.2.2.2.1]) ++ List.replicate (2 - (lg_sl ([.ref g.2.2.2.1])).length) Slot.unset).toArray = ls at hl ⊢
  have hl : lv_has ls 2 [(0, .ref g.2.2.2.1)] := hl
  obtain ⟨z, hz⟩ : ∃ z, z = (v, σ1) := ⟨_, rfl⟩
  rw [← hz] at h
  rw [show σ1 = z.2 by rw [hz]]
  clear hz v σ1
  unfold mT_next at h
  refine lv_aload_n C.x C.b dX10_next_0 rfl (lv_at hl 0 rfl) ?_
  refine lv_aload_n C.x C.b dX10_next_1 rfl (lv_at hl 0 rfl) ?_
  refine tw_gf18 C hw hσ q2233 dX10_next_2 ?_
  refine tw_pf17 C hw hσ hS q2232 dX10_next_5 (fun H locs hσ hS => ?_)
  obtain ⟨σ_1, e_, h⟩ := nm_s h
  rw [← e_] at hσ
  clear e_
  exact wT_next_8 C hw hRf hRl _ _ _ _ _ h hσ hS (lv_sub hl [0] rfl)

theorem wT_says_28 {z : Int32 × twS} (C : CX p m meth c s args cX10_says 3 (some .boolean) RX10) (hw : WKt twL g A s s.heap) (hRf : 5 ≤ R.frames) (hRl : 152 ≤ R.locals) {t1 : List Int32} {a1 : Nat} (k1 : StrC A t1 a1 s s.heap) : ∀ (n : Nat) (x2 : Int32) (σ : twS) (H : Heap) (locs : List Loc) (ls : Array Slot), bT_says_28 t1 n x2 σ = some z → TI g A σ H → va_S A s.heap H locs → lv_has ls 3 [(0, .ref g.2.2.2.1), (1, .ref a1), (2, .int x2)] → W p l e R s m args below meth c H locs 0 0 (MQ below (TQ g A (some (.int z.1)) z.2) args s 0 0 A) (F0 m 28 ls []) := by
  intro n
  induction n with
  | zero =>
    intro x2 σ H locs ls h
    cases h
  | succ n ih =>
    intro x2 σ H locs ls h hσ hS hl
    rw [bT_says_28] at h
    refine lv_iload_n C.x C.b dX10_says_28 rfl (lv_at hl 2 rfl) ?_
    refine lv_aload_n C.x C.b dX10_says_29 rfl (lv_at hl 1 rfl) ?_
    refine tw_slen C hw hS k1 hl.1 q2095 (Nat.le_trans (Nat.le_of_ble_eq_true rfl) hRf) (Nat.le_trans (Nat.le_of_ble_eq_true rfl) hRl) (Nat.le_of_ble_eq_true rfl) dX10_says_30 (fun locs hS => ?_)
    refine lv_icmp_ge (tgt := 63) C.x C.b dX10_says_33 (by decide) (fun c_1 => ?_) (fun c_1 => ?_)
    · have h := ip c_1 h
      refine lv_iconst (v := 1) C.x C.b dX10_says_63 (by decide) ?_
      exact tw_zret C hσ hS h dX10_says_64
    · have h := iN c_1 h
      refine lv_aload_n C.x C.b dX10_says_36 rfl (lv_at hl 0 rfl) ?_
      refine tw_gf8 C hw hσ q2223 dX10_says_37 ?_
      refine lv_aload_n C.x C.b dX10_says_40 rfl (lv_at hl 0 rfl) ?_
      refine tw_gf17 C hw hσ q2232 dX10_says_41 ?_
      refine lv_iload_n C.x C.b dX10_says_44 rfl (lv_at hl 2 rfl) ?_
      refine lv_iadd C.x C.b dX10_says_45 ?_
      refine tw_ld8 C hw hσ h dX10_says_46 (fun v_2 h => ?_)
      refine lv_aload_n C.x C.b dX10_says_47 rfl (lv_at hl 1 rfl) ?_
      refine lv_iload_n C.x C.b dX10_says_48 rfl (lv_at hl 2 rfl) ?_
      refine tw_chA C hw hS k1 hl.1 h q2096 (Nat.le_trans (Nat.le_of_ble_eq_true rfl) hRf) (Nat.le_trans (Nat.le_of_ble_eq_true rfl) hRl) (Nat.le_of_ble_eq_true rfl) dX10_says_49 (fun v_3 locs h hS => ?_)
      refine lv_icmp_eq (tgt := 57) C.x C.b dX10_says_52 (by decide) (fun c_4 => ?_) (fun c_4 => ?_)
      · have h := ip c_4 h
        obtain ⟨x2_5, e_, h⟩ := nm_s h
        refine lv_iinc (v := x2_5) (lv' := [(2, .int x2_5), (0, .ref g.2.2.2.1), (1, .ref a1)]) C.x C.b dX10_says_57 hl (k := 2) rfl e_.symm (by decide) rfl (fun ls hl => ?_)
        refine lv_goto (tgt := 28) C.x C.b dX10_says_60 (by decide) ?_
        exact ih _ _ _ _ _ h hσ hS (lv_sub hl [1, 2, 0] rfl)
      · have h := iN c_4 h
        refine lv_iconst (v := 0) C.x C.b dX10_says_55 (by decide) ?_
        exact tw_zret C hσ hS h dX10_says_56

theorem kT_says (l : Launch) (g : twG) (A : Nat → Prop) (t1 : List Int32) (a1 : Nat) (σ : twS) (v : Int32) (σ1 : twS) (h : mT_says t1 σ = some (v, σ1)) : Met l yX10_says (ws_ yX10_says cX10_says 3 (some .boolean)) ({ frames := 5, cells := 0, slots := 0, locals := 152 }) (TPc twL g A [.ref g.2.2.2.1, .ref a1] (fun U => StrC A t1 a1 U U.heap) σ) (TQ g A (some (.int v)) σ1) 0 0 A := by
  refine Met.ofW (cc := cX10_says) (maxL := 3) (ret := (some .boolean)) (by decide) rfl ?_
  intro p e s m args below meth c s₁ B hml hv
  obtain ⟨rfl, hw, hX, hσ⟩ := hv
  have hts := atoms_spec (ws := (ws_ yX10_says cX10_says 3 (some .boolean))) B.pre
  have C : CX p m meth c s ([.ref g.2.2.2.1, .ref a1] : List Value).toArray cX10_says 3 (some .boolean) RX10 := ⟨⟨B.exec, B.bytes, hml, findClass_of_methodNamed B.named, fun w h => hts w (List.mem_cons_of_mem _ h)⟩, B.returns, B.notSynchronized⟩
  have hRf : 5 ≤ (headSpec (ws_ yX10_says cX10_says 3 (some .boolean)) ({ frames := 5, cells := 0, slots := 0, locals := 152 })).room.frames := Nat.le_refl _
  have hRl : 152 ≤ (headSpec (ws_ yX10_says cX10_says 3 (some .boolean)) ({ frames := 5, cells := 0, slots := 0, locals := 152 })).room.locals := Nat.le_refl _
  generalize (headSpec (ws_ yX10_says cX10_says 3 (some .boolean)) ({ frames := 5, cells := 0, slots := 0, locals := 152 })).room = R at hRf hRl ⊢
  have hS : va_S A s.heap s.heap [] := va_S.rf
  have hl := lv_entry ([.ref g.2.2.2.1, .ref a1]) (n := 3) (Nat.le_of_ble_eq_true rfl)
  rw [lg_entry_eq]
  generalize (lg_sl ([.ref g.2.2.2.1, .ref a1]) ++ List.replicate (3 - (lg_sl ([.ref g.2.2.2.1, .ref a1])).length) Slot.unset).toArray = ls at hl ⊢
  have hl : lv_has ls 3 [(0, .ref g.2.2.2.1), (1, .ref a1)] := hl
  have k1 := hX
  obtain ⟨z, hz⟩ : ∃ z, z = (v, σ1) := ⟨_, rfl⟩
  rw [← hz] at h
  rw [show v = z.1 by rw [hz], show σ1 = z.2 by rw [hz]]
  clear hz v σ1
  unfold mT_says at h
  refine lv_aload_n C.x C.b dX10_says_0 rfl (lv_at hl 0 rfl) ?_
  refine tw_gf16 C hw hσ q2231 dX10_says_1 ?_
  refine lv_iconst (v := 1) C.x C.b dX10_says_4 (by decide) ?_
  refine lv_icmp_ne (tgt := 24) C.x C.b dX10_says_5 (by decide) (fun c_1 => ?_) (fun c_1 => ?_)
  · have h := iN c_1 h
    refine lv_iconst (v := 0) C.x C.b dX10_says_24 (by decide) ?_
    exact tw_zret C hσ hS h dX10_says_25
  · have h := ip c_1 h
    refine lv_aload_n C.x C.b dX10_says_8 rfl (lv_at hl 0 rfl) ?_
    refine tw_gf18 C hw hσ q2233 dX10_says_9 ?_
    refine lv_aload_n C.x C.b dX10_says_12 rfl (lv_at hl 0 rfl) ?_
    refine tw_gf17 C hw hσ q2232 dX10_says_13 ?_
    refine lv_isub C.x C.b dX10_says_16 ?_
    refine lv_aload_n C.x C.b dX10_says_17 rfl (lv_at hl 1 rfl) ?_
    refine tw_slen C hw hS k1 hl.1 q2095 (Nat.le_trans (Nat.le_of_ble_eq_true rfl) hRf) (Nat.le_trans (Nat.le_of_ble_eq_true rfl) hRl) (Nat.le_of_ble_eq_true rfl) dX10_says_18 (fun locs hS => ?_)
    refine lv_icmp_eq (tgt := 26) C.x C.b dX10_says_21 (by decide) (fun c_2 => ?_) (fun c_2 => ?_)
    · have h := ip c_2 h
      refine lv_iconst (v := 0) C.x C.b dX10_says_26 (by decide) ?_
      refine lv_istore_n (lv' := [(2, .int 0), (0, .ref g.2.2.2.1), (1, .ref a1)]) C.x C.b dX10_says_27 rfl hl (by decide) rfl (fun ls hl => ?_)
      exact wT_says_28 C hw hRf hRl k1 _ _ _ _ _ _ h hσ hS (lv_sub hl [1, 2, 0] rfl)
    · have h := iN c_2 h
      refine lv_iconst (v := 0) C.x C.b dX10_says_24 (by decide) ?_
      exact tw_zret C hσ hS h dX10_says_25

theorem kT_fail (l : Launch) (g : twG) (A : Nat → Prop) (x1 : Int32) (σ : twS) (v : Int32) (σ1 : twS) (h : mT_fail x1 σ = some (v, σ1)) : Met l yX10_fail (ws_ yX10_fail cX10_fail 2 (some .boolean)) ({ frames := 1, cells := 0, slots := 0, locals := 24 }) (TPc twL g A [.ref g.2.2.2.1, .int x1] (fun _ => True) σ) (TQ g A (some (.int v)) σ1) 0 0 A := by
  refine Met.ofW (cc := cX10_fail) (maxL := 2) (ret := (some .boolean)) (by decide) rfl ?_
  intro p e s m args below meth c s₁ B hml hv
  obtain ⟨rfl, hw, hX, hσ⟩ := hv
  have hts := atoms_spec (ws := (ws_ yX10_fail cX10_fail 2 (some .boolean))) B.pre
  have C : CX p m meth c s ([.ref g.2.2.2.1, .int x1] : List Value).toArray cX10_fail 2 (some .boolean) RX10 := ⟨⟨B.exec, B.bytes, hml, findClass_of_methodNamed B.named, fun w h => hts w (List.mem_cons_of_mem _ h)⟩, B.returns, B.notSynchronized⟩
  have hRf : 1 ≤ (headSpec (ws_ yX10_fail cX10_fail 2 (some .boolean)) ({ frames := 1, cells := 0, slots := 0, locals := 24 })).room.frames := Nat.le_refl _
  have hRl : 24 ≤ (headSpec (ws_ yX10_fail cX10_fail 2 (some .boolean)) ({ frames := 1, cells := 0, slots := 0, locals := 24 })).room.locals := Nat.le_refl _
  generalize (headSpec (ws_ yX10_fail cX10_fail 2 (some .boolean)) ({ frames := 1, cells := 0, slots := 0, locals := 24 })).room = R at hRf hRl ⊢
  have hS : va_S A s.heap s.heap [] := va_S.rf
  have hl := lv_entry ([.ref g.2.2.2.1, .int x1]) (n := 2) (Nat.le_of_ble_eq_true rfl)
  rw [lg_entry_eq]
  generalize (lg_sl ([.ref g.2.2.2.1, .int x1]) ++ List.replicate (2 - (lg_sl ([.ref g.2.2.2.1, .int x1])).length) Slot.unset).toArray = ls at hl ⊢
  have hl : lv_has ls 2 [(0, .ref g.2.2.2.1), (1, .int x1)] := hl
  obtain ⟨z, hz⟩ : ∃ z, z = (v, σ1) := ⟨_, rfl⟩
  rw [← hz] at h
  rw [show v = z.1 by rw [hz], show σ1 = z.2 by rw [hz]]
  clear hz v σ1
  unfold mT_fail at h
  refine lv_aload_n C.x C.b dX10_fail_0 rfl (lv_at hl 0 rfl) ?_
  refine tw_gf20 C hw hσ q2235 dX10_fail_1 ?_
  refine lv_if_ne (tgt := 20) C.x C.b dX10_fail_4 (by decide) (fun c_1 => ?_) (fun c_1 => ?_)
  · have h := iN c_1 h
    refine lv_iconst (v := 0) C.x C.b dX10_fail_20 (by decide) ?_
    exact tw_zret C hσ hS h dX10_fail_21
  · have h := ip c_1 h
    refine lv_aload_n C.x C.b dX10_fail_7 rfl (lv_at hl 0 rfl) ?_
    refine lv_bipush (v := 8) C.x C.b dX10_fail_8 (by decide) ?_
    refine lv_aload_n C.x C.b dX10_fail_10 rfl (lv_at hl 0 rfl) ?_
    refine tw_gf17 C hw hσ q2232 dX10_fail_11 ?_
    refine lv_imul C.x C.b dX10_fail_14 ?_
    refine lv_iload_n C.x C.b dX10_fail_15 rfl (lv_at hl 1 rfl) ?_
    refine lv_iadd C.x C.b dX10_fail_16 ?_
    refine tw_pf20 C hw hσ hS q2235 dX10_fail_17 (fun H locs hσ hS => ?_)
    obtain ⟨σ_2, e_, h⟩ := nm_s h
    rw [← e_] at hσ
    clear e_
    refine lv_iconst (v := 0) C.x C.b dX10_fail_20 (by decide) ?_
    exact tw_zret C hσ hS h dX10_fail_21

theorem kT_word (l : Launch) (g : twG) (A : Nat → Prop) (t1 : List Int32) (a1 : Nat) (σ : twS) (v : Int32) (σ1 : twS) (h : mT_word t1 σ = some (v, σ1)) : Met l yX10_word (ws_ yX10_word cX10_word 2 (some .boolean)) ({ frames := 6, cells := 0, slots := 0, locals := 174 }) (TPc twL g A [.ref g.2.2.2.1, .ref a1] (fun U => StrC A t1 a1 U U.heap) σ) (TQ g A (some (.int v)) σ1) 0 0 A := by
  refine Met.ofW (cc := cX10_word) (maxL := 2) (ret := (some .boolean)) (by decide) rfl ?_
  intro p e s m args below meth c s₁ B hml hv
  obtain ⟨rfl, hw, hX, hσ⟩ := hv
  have hts := atoms_spec (ws := (ws_ yX10_word cX10_word 2 (some .boolean))) B.pre
  have C : CX p m meth c s ([.ref g.2.2.2.1, .ref a1] : List Value).toArray cX10_word 2 (some .boolean) RX10 := ⟨⟨B.exec, B.bytes, hml, findClass_of_methodNamed B.named, fun w h => hts w (List.mem_cons_of_mem _ h)⟩, B.returns, B.notSynchronized⟩
  have hRf : 6 ≤ (headSpec (ws_ yX10_word cX10_word 2 (some .boolean)) ({ frames := 6, cells := 0, slots := 0, locals := 174 })).room.frames := Nat.le_refl _
  have hRl : 174 ≤ (headSpec (ws_ yX10_word cX10_word 2 (some .boolean)) ({ frames := 6, cells := 0, slots := 0, locals := 174 })).room.locals := Nat.le_refl _
  generalize (headSpec (ws_ yX10_word cX10_word 2 (some .boolean)) ({ frames := 6, cells := 0, slots := 0, locals := 174 })).room = R at hRf hRl ⊢
  have hS : va_S A s.heap s.heap [] := va_S.rf
  have hl := lv_entry ([.ref g.2.2.2.1, .ref a1]) (n := 2) (Nat.le_of_ble_eq_true rfl)
  rw [lg_entry_eq]
  generalize (lg_sl ([.ref g.2.2.2.1, .ref a1]) ++ List.replicate (2 - (lg_sl ([.ref g.2.2.2.1, .ref a1])).length) Slot.unset).toArray = ls at hl ⊢
  have hl : lv_has ls 2 [(0, .ref g.2.2.2.1), (1, .ref a1)] := hl
  have k1 := hX
  obtain ⟨z, hz⟩ : ∃ z, z = (v, σ1) := ⟨_, rfl⟩
  rw [← hz] at h
  rw [show v = z.1 by rw [hz], show σ1 = z.2 by rw [hz]]
  clear hz v σ1
  unfold mT_word at h
  refine lv_aload_n C.x C.b dX10_word_0 rfl (lv_at hl 0 rfl) ?_
  refine lv_aload_n C.x C.b dX10_word_1 rfl (lv_at hl 1 rfl) ?_
  refine tw_call (y := yX10_says) (bytes := cX10_says) (maxL := 3) (fun v => some (.int v)) [.ref a1] (fun U => StrC A t1 a1 U U.heap)  C hw (XB.str A _ _) (fun U hU hW => StrC.at k1 hS hU hW) hσ hS hl.1 h (fun vv ss ee => kT_says l g A t1 a1 σ vv ss ee) (cwV 1 C.t (lw_V q2124 q2126 qs61 q159 q2127) rfl rfl rfl (by decide +kernel) ⟨Nat.le_trans (Nat.le_of_ble_eq_true rfl) hRf, Nat.le_trans (Nat.le_of_ble_eq_true rfl) hRl⟩) rfl rfl (Nat.le_of_ble_eq_true rfl) dX10_word_2 (fun v_1 σ_2 H locs h hσ hS => ?_)
  refine lv_if_ne (tgt := 14) C.x C.b dX10_word_5 (by decide) (fun c_3 => ?_) (fun c_3 => ?_)
  · have h := iN c_3 h
    refine lv_aload_n C.x C.b dX10_word_14 rfl (lv_at hl 0 rfl) ?_
    refine tw_call (y := yX10_next) (bytes := cX10_next) (maxL := 2) (fun _ => none) [] (fun _ => True)  C hw XB.tt (fun _ _ _ => trivial) hσ hS hl.1 h (fun vv ss ee => kT_next l g A σ_2 vv ss ee) (cwV 0 C.t (lw_V q2104 q2106 qs57 q159 q2107) rfl rfl rfl (by decide +kernel) ⟨Nat.le_trans (Nat.le_of_ble_eq_true rfl) hRf, Nat.le_trans (Nat.le_of_ble_eq_true rfl) hRl⟩) rfl rfl (Nat.le_of_ble_eq_true rfl) dX10_word_15 (fun _ σ_4 H locs h hσ hS => ?_)
    refine lv_iconst (v := 1) C.x C.b dX10_word_18 (by decide) ?_
    exact tw_zret C hσ hS h dX10_word_19
  · have h := ip c_3 h
    refine lv_aload_n C.x C.b dX10_word_8 rfl (lv_at hl 0 rfl) ?_
    refine lv_iconst (v := 1) C.x C.b dX10_word_9 (by decide) ?_
    refine tw_call (y := yX10_fail) (bytes := cX10_fail) (maxL := 2) (fun v => some (.int v)) [.int 1] (fun _ => True)  C hw XB.tt (fun _ _ _ => trivial) hσ hS hl.1 h (fun vv ss ee => kT_fail l g A 1 σ_2 vv ss ee) (cwV 1 C.t (lw_V q2128 q2130 qs62 q159 q2131) rfl rfl rfl (by decide +kernel) ⟨Nat.le_trans (Nat.le_of_ble_eq_true rfl) hRf, Nat.le_trans (Nat.le_of_ble_eq_true rfl) hRl⟩) rfl rfl (Nat.le_of_ble_eq_true rfl) dX10_word_10 (fun v_5 σ_6 H locs h hσ hS => ?_)
    exact tw_zret C hσ hS h dX10_word_13

theorem kT_in (l : Launch) (g : twG) (A : Nat → Prop) (x0 : Int32) (x1 : Int32) (x2 : Int32) (σ : twS) (v : Int32) (σ1 : twS) (h : mT_in x0 x1 x2 σ = some (v, σ1)) : Met l yX10_in (ws_ yX10_in cX10_in 3 (some .boolean)) ({ frames := 1, cells := 0, slots := 0, locals := 24 }) (TPc twL g A [.int x0, .int x1, .int x2] (fun _ => True) σ) (TQ g A (some (.int v)) σ1) 0 0 A := by
  refine Met.ofW (cc := cX10_in) (maxL := 3) (ret := (some .boolean)) (by decide) rfl ?_
  intro p e s m args below meth c s₁ B hml hv
  obtain ⟨rfl, hw, hX, hσ⟩ := hv
  have hts := atoms_spec (ws := (ws_ yX10_in cX10_in 3 (some .boolean))) B.pre
  have C : CX p m meth c s ([.int x0, .int x1, .int x2] : List Value).toArray cX10_in 3 (some .boolean) RX10 := ⟨⟨B.exec, B.bytes, hml, findClass_of_methodNamed B.named, fun w h => hts w (List.mem_cons_of_mem _ h)⟩, B.returns, B.notSynchronized⟩
  have hRf : 1 ≤ (headSpec (ws_ yX10_in cX10_in 3 (some .boolean)) ({ frames := 1, cells := 0, slots := 0, locals := 24 })).room.frames := Nat.le_refl _
  have hRl : 24 ≤ (headSpec (ws_ yX10_in cX10_in 3 (some .boolean)) ({ frames := 1, cells := 0, slots := 0, locals := 24 })).room.locals := Nat.le_refl _
  generalize (headSpec (ws_ yX10_in cX10_in 3 (some .boolean)) ({ frames := 1, cells := 0, slots := 0, locals := 24 })).room = R at hRf hRl ⊢
  have hS : va_S A s.heap s.heap [] := va_S.rf
  have hl := lv_entry ([.int x0, .int x1, .int x2]) (n := 3) (Nat.le_of_ble_eq_true rfl)
  rw [lg_entry_eq]
  generalize (lg_sl ([.int x0, .int x1, .int x2]) ++ List.replicate (3 - (lg_sl ([.int x0, .int x1, .int x2])).length) Slot.unset).toArray = ls at hl ⊢
  have hl : lv_has ls 3 [(0, .int x0), (1, .int x1), (2, .int x2)] := hl
  obtain ⟨z, hz⟩ : ∃ z, z = (v, σ1) := ⟨_, rfl⟩
  rw [← hz] at h
  rw [show v = z.1 by rw [hz], show σ1 = z.2 by rw [hz]]
  clear hz v σ1
  unfold mT_in at h
  refine lv_iload_n C.x C.b dX10_in_0 rfl (lv_at hl 0 rfl) ?_
  refine lv_iload_n C.x C.b dX10_in_1 rfl (lv_at hl 1 rfl) ?_
  refine lv_icmp_lt (tgt := 14) C.x C.b dX10_in_2 (by decide) (fun c_1 => ?_) (fun c_1 => ?_)
  · have h := ip c_1 h
    refine lv_iconst (v := 0) C.x C.b dX10_in_14 (by decide) ?_
    exact tw_zret C hσ hS h dX10_in_15
  · have h := iN c_1 h
    refine lv_iload_n C.x C.b dX10_in_5 rfl (lv_at hl 0 rfl) ?_
    refine lv_iload_n C.x C.b dX10_in_6 rfl (lv_at hl 2 rfl) ?_
    refine lv_icmp_gt (tgt := 14) C.x C.b dX10_in_7 (by decide) (fun c_2 => ?_) (fun c_2 => ?_)
    · have h := ip c_2 h
      refine lv_iconst (v := 0) C.x C.b dX10_in_14 (by decide) ?_
      exact tw_zret C hσ hS h dX10_in_15
    · have h := iN c_2 h
      refine lv_iconst (v := 1) C.x C.b dX10_in_10 (by decide) ?_
      refine lv_goto (tgt := 15) C.x C.b dX10_in_11 (by decide) ?_
      exact tw_zret C hσ hS h dX10_in_15

theorem kT_isNumber (l : Launch) (g : twG) (A : Nat → Prop) (x1 : Int32) (x2 : Int32) (σ : twS) (v : Int32) (σ1 : twS) (h : mT_isNumber x1 x2 σ = some (v, σ1)) : Met l yX10_isNumber (ws_ yX10_isNumber cX10_isNumber 3 (some .boolean)) ({ frames := 2, cells := 0, slots := 0, locals := 46 }) (TPc twL g A [.ref g.2.2.2.1, .int x1, .int x2] (fun _ => True) σ) (TQ g A (some (.int v)) σ1) 0 0 A := by
  refine Met.ofW (cc := cX10_isNumber) (maxL := 3) (ret := (some .boolean)) (by decide) rfl ?_
  intro p e s m args below meth c s₁ B hml hv
  obtain ⟨rfl, hw, hX, hσ⟩ := hv
  have hts := atoms_spec (ws := (ws_ yX10_isNumber cX10_isNumber 3 (some .boolean))) B.pre
  have C : CX p m meth c s ([.ref g.2.2.2.1, .int x1, .int x2] : List Value).toArray cX10_isNumber 3 (some .boolean) RX10 := ⟨⟨B.exec, B.bytes, hml, findClass_of_methodNamed B.named, fun w h => hts w (List.mem_cons_of_mem _ h)⟩, B.returns, B.notSynchronized⟩
  have hRf : 2 ≤ (headSpec (ws_ yX10_isNumber cX10_isNumber 3 (some .boolean)) ({ frames := 2, cells := 0, slots := 0, locals := 46 })).room.frames := Nat.le_refl _
  have hRl : 46 ≤ (headSpec (ws_ yX10_isNumber cX10_isNumber 3 (some .boolean)) ({ frames := 2, cells := 0, slots := 0, locals := 46 })).room.locals := Nat.le_refl _
  generalize (headSpec (ws_ yX10_isNumber cX10_isNumber 3 (some .boolean)) ({ frames := 2, cells := 0, slots := 0, locals := 46 })).room = R at hRf hRl ⊢
  have hS : va_S A s.heap s.heap [] := va_S.rf
  have hl := lv_entry ([.ref g.2.2.2.1, .int x1, .int x2]) (n := 3) (Nat.le_of_ble_eq_true rfl)
  rw [lg_entry_eq]
  generalize (lg_sl ([.ref g.2.2.2.1, .int x1, .int x2]) ++ List.replicate (3 - (lg_sl ([.ref g.2.2.2.1, .int x1, .int x2])).length) Slot.unset).toArray = ls at hl ⊢
  have hl : lv_has ls 3 [(0, .ref g.2.2.2.1), (1, .int x1), (2, .int x2)] := hl
  obtain ⟨z, hz⟩ : ∃ z, z = (v, σ1) := ⟨_, rfl⟩
  rw [← hz] at h
  rw [show v = z.1 by rw [hz], show σ1 = z.2 by rw [hz]]
  clear hz v σ1
  unfold mT_isNumber at h
  refine lv_aload_n C.x C.b dX10_isNumber_0 rfl (lv_at hl 0 rfl) ?_
  refine tw_gf16 C hw hσ q2231 dX10_isNumber_1 ?_
  refine lv_iconst (v := 2) C.x C.b dX10_isNumber_4 (by decide) ?_
  refine lv_icmp_eq (tgt := 14) C.x C.b dX10_isNumber_5 (by decide) (fun c_1 => ?_) (fun c_1 => ?_)
  · have h := ip c_1 h
    refine lv_aload_n C.x C.b dX10_isNumber_14 rfl (lv_at hl 0 rfl) ?_
    refine tw_gf19 C hw hσ q2234 dX10_isNumber_15 ?_
    refine lv_iload_n C.x C.b dX10_isNumber_18 rfl (lv_at hl 1 rfl) ?_
    refine lv_iload_n C.x C.b dX10_isNumber_19 rfl (lv_at hl 2 rfl) ?_
    refine tw_callS (y := yX10_in) (bytes := cX10_in) (maxL := 3) (fun v => some (.int v)) [.int (σ.2 19), .int x1, .int x2] C hw hσ hS hl.1 h (fun vv ss ee => kT_in l g A (σ.2 19) x1 x2 σ vv ss ee) (va_cwS 3 C.t (lw_S q2136 q2137 q159 q2138) rfl rfl rfl (by decide +kernel) ⟨Nat.le_trans (Nat.le_of_ble_eq_true rfl) hRf, Nat.le_trans (Nat.le_of_ble_eq_true rfl) hRl⟩) rfl rfl (Nat.le_of_ble_eq_true rfl) dX10_isNumber_20 (fun v_2 σ_3 H locs h hσ hS => ?_)
    refine lv_if_ne (tgt := 32) C.x C.b dX10_isNumber_23 (by decide) (fun c_4 => ?_) (fun c_4 => ?_)
    · have h := iN c_4 h
      refine lv_aload_n C.x C.b dX10_isNumber_32 rfl (lv_at hl 0 rfl) ?_
      refine lv_aload_n C.x C.b dX10_isNumber_33 rfl (lv_at hl 0 rfl) ?_
      refine tw_gf19 C hw hσ q2234 dX10_isNumber_34 ?_
      refine tw_pf21 C hw hσ hS q2236 dX10_isNumber_37 (fun H locs hσ hS => ?_)
      obtain ⟨σ_5, e_, h⟩ := nm_s h
      rw [← e_] at hσ
      clear e_
      refine lv_iconst (v := 1) C.x C.b dX10_isNumber_40 (by decide) ?_
      exact tw_zret C hσ hS h dX10_isNumber_41
    · have h := ip c_4 h
      refine lv_aload_n C.x C.b dX10_isNumber_26 rfl (lv_at hl 0 rfl) ?_
      refine lv_iconst (v := 2) C.x C.b dX10_isNumber_27 (by decide) ?_
      refine tw_call (y := yX10_fail) (bytes := cX10_fail) (maxL := 2) (fun v => some (.int v)) [.int 2] (fun _ => True)  C hw XB.tt (fun _ _ _ => trivial) hσ hS hl.1 h (fun vv ss ee => kT_fail l g A 2 σ_3 vv ss ee) (cwV 1 C.t (lw_V q2128 q2130 qs62 q159 q2131) rfl rfl rfl (by decide +kernel) ⟨Nat.le_trans (Nat.le_of_ble_eq_true rfl) hRf, Nat.le_trans (Nat.le_of_ble_eq_true rfl) hRl⟩) rfl rfl (Nat.le_of_ble_eq_true rfl) dX10_isNumber_28 (fun v_6 σ_7 H locs h hσ hS => ?_)
      exact tw_zret C hσ hS h dX10_isNumber_31
  · have h := iN c_1 h
    refine lv_aload_n C.x C.b dX10_isNumber_8 rfl (lv_at hl 0 rfl) ?_
    refine lv_iconst (v := 1) C.x C.b dX10_isNumber_9 (by decide) ?_
    refine tw_call (y := yX10_fail) (bytes := cX10_fail) (maxL := 2) (fun v => some (.int v)) [.int 1] (fun _ => True)  C hw XB.tt (fun _ _ _ => trivial) hσ hS hl.1 h (fun vv ss ee => kT_fail l g A 1 σ vv ss ee) (cwV 1 C.t (lw_V q2128 q2130 qs62 q159 q2131) rfl rfl rfl (by decide +kernel) ⟨Nat.le_trans (Nat.le_of_ble_eq_true rfl) hRf, Nat.le_trans (Nat.le_of_ble_eq_true rfl) hRl⟩) rfl rfl (Nat.le_of_ble_eq_true rfl) dX10_isNumber_10 (fun v_8 σ_9 H locs h hσ hS => ?_)
    exact tw_zret C hσ hS h dX10_isNumber_13

theorem kT_sign (l : Launch) (g : twG) (A : Nat → Prop) (x1 : Int32) (σ : twS) (v : Int32) (σ1 : twS) (h : mT_sign x1 σ = some (v, σ1)) : Met l yX10_sign (ws_ yX10_sign cX10_sign 2 (some .boolean)) ({ frames := 3, cells := 0, slots := 0, locals := 65 }) (TPc twL g A [.ref g.2.2.2.1, .int x1] (fun _ => True) σ) (TQ g A (some (.int v)) σ1) 0 0 A := by
  refine Met.ofW (cc := cX10_sign) (maxL := 2) (ret := (some .boolean)) (by decide) rfl ?_
  intro p e s m args below meth c s₁ B hml hv
  obtain ⟨rfl, hw, hX, hσ⟩ := hv
  have hts := atoms_spec (ws := (ws_ yX10_sign cX10_sign 2 (some .boolean))) B.pre
  have C : CX p m meth c s ([.ref g.2.2.2.1, .int x1] : List Value).toArray cX10_sign 2 (some .boolean) RX10 := ⟨⟨B.exec, B.bytes, hml, findClass_of_methodNamed B.named, fun w h => hts w (List.mem_cons_of_mem _ h)⟩, B.returns, B.notSynchronized⟩
  have hRf : 3 ≤ (headSpec (ws_ yX10_sign cX10_sign 2 (some .boolean)) ({ frames := 3, cells := 0, slots := 0, locals := 65 })).room.frames := Nat.le_refl _
  have hRl : 65 ≤ (headSpec (ws_ yX10_sign cX10_sign 2 (some .boolean)) ({ frames := 3, cells := 0, slots := 0, locals := 65 })).room.locals := Nat.le_refl _
  generalize (headSpec (ws_ yX10_sign cX10_sign 2 (some .boolean)) ({ frames := 3, cells := 0, slots := 0, locals := 65 })).room = R at hRf hRl ⊢
  have hS : va_S A s.heap s.heap [] := va_S.rf
  have hl := lv_entry ([.ref g.2.2.2.1, .int x1]) (n := 2) (Nat.le_of_ble_eq_true rfl)
  rw [lg_entry_eq]
  generalize (lg_sl ([.ref g.2.2.2.1, .int x1]) ++ List.replicate (2 - (lg_sl ([.ref g.2.2.2.1, .int x1])).length) Slot.unset).toArray = ls at hl ⊢
  have hl : lv_has ls 2 [(0, .ref g.2.2.2.1), (1, .int x1)] := hl
  obtain ⟨z, hz⟩ : ∃ z, z = (v, σ1) := ⟨_, rfl⟩
  rw [← hz] at h
  rw [show v = z.1 by rw [hz], show σ1 = z.2 by rw [hz]]
  clear hz v σ1
  unfold mT_sign at h
  refine lv_aload_n C.x C.b dX10_sign_0 rfl (lv_at hl 0 rfl) ?_
  refine tw_gf16 C hw hσ q2231 dX10_sign_1 ?_
  refine lv_iload_n C.x C.b dX10_sign_4 rfl (lv_at hl 1 rfl) ?_
  refine lv_icmp_eq (tgt := 14) C.x C.b dX10_sign_5 (by decide) (fun c_1 => ?_) (fun c_1 => ?_)
  · have h := ip c_1 h
    refine lv_aload_n C.x C.b dX10_sign_14 rfl (lv_at hl 0 rfl) ?_
    refine tw_call (y := yX10_next) (bytes := cX10_next) (maxL := 2) (fun _ => none) [] (fun _ => True)  C hw XB.tt (fun _ _ _ => trivial) hσ hS hl.1 h (fun vv ss ee => kT_next l g A σ vv ss ee) (cwV 0 C.t (lw_V q2104 q2106 qs57 q159 q2107) rfl rfl rfl (by decide +kernel) ⟨Nat.le_trans (Nat.le_of_ble_eq_true rfl) hRf, Nat.le_trans (Nat.le_of_ble_eq_true rfl) hRl⟩) rfl rfl (Nat.le_of_ble_eq_true rfl) dX10_sign_15 (fun _ σ_2 H locs h hσ hS => ?_)
    refine lv_iconst (v := 1) C.x C.b dX10_sign_18 (by decide) ?_
    exact tw_zret C hσ hS h dX10_sign_19
  · have h := iN c_1 h
    refine lv_aload_n C.x C.b dX10_sign_8 rfl (lv_at hl 0 rfl) ?_
    refine lv_iconst (v := 1) C.x C.b dX10_sign_9 (by decide) ?_
    refine tw_call (y := yX10_fail) (bytes := cX10_fail) (maxL := 2) (fun v => some (.int v)) [.int 1] (fun _ => True)  C hw XB.tt (fun _ _ _ => trivial) hσ hS hl.1 h (fun vv ss ee => kT_fail l g A 1 σ vv ss ee) (cwV 1 C.t (lw_V q2128 q2130 qs62 q159 q2131) rfl rfl rfl (by decide +kernel) ⟨Nat.le_trans (Nat.le_of_ble_eq_true rfl) hRf, Nat.le_trans (Nat.le_of_ble_eq_true rfl) hRl⟩) rfl rfl (Nat.le_of_ble_eq_true rfl) dX10_sign_10 (fun v_3 σ_4 H locs h hσ hS => ?_)
    exact tw_zret C hσ hS h dX10_sign_13

theorem kT_number (l : Launch) (g : twG) (A : Nat → Prop) (x1 : Int32) (x2 : Int32) (σ : twS) (v : Int32) (σ1 : twS) (h : mT_number x1 x2 σ = some (v, σ1)) : Met l yX10_number (ws_ yX10_number cX10_number 3 (some .boolean)) ({ frames := 3, cells := 0, slots := 0, locals := 68 }) (TPc twL g A [.ref g.2.2.2.1, .int x1, .int x2] (fun _ => True) σ) (TQ g A (some (.int v)) σ1) 0 0 A := by
  refine Met.ofW (cc := cX10_number) (maxL := 3) (ret := (some .boolean)) (by decide) rfl ?_
  intro p e s m args below meth c s₁ B hml hv
  obtain ⟨rfl, hw, hX, hσ⟩ := hv
  have hts := atoms_spec (ws := (ws_ yX10_number cX10_number 3 (some .boolean))) B.pre
  have C : CX p m meth c s ([.ref g.2.2.2.1, .int x1, .int x2] : List Value).toArray cX10_number 3 (some .boolean) RX10 := ⟨⟨B.exec, B.bytes, hml, findClass_of_methodNamed B.named, fun w h => hts w (List.mem_cons_of_mem _ h)⟩, B.returns, B.notSynchronized⟩
  have hRf : 3 ≤ (headSpec (ws_ yX10_number cX10_number 3 (some .boolean)) ({ frames := 3, cells := 0, slots := 0, locals := 68 })).room.frames := Nat.le_refl _
  have hRl : 68 ≤ (headSpec (ws_ yX10_number cX10_number 3 (some .boolean)) ({ frames := 3, cells := 0, slots := 0, locals := 68 })).room.locals := Nat.le_refl _
  generalize (headSpec (ws_ yX10_number cX10_number 3 (some .boolean)) ({ frames := 3, cells := 0, slots := 0, locals := 68 })).room = R at hRf hRl ⊢
  have hS : va_S A s.heap s.heap [] := va_S.rf
  have hl := lv_entry ([.ref g.2.2.2.1, .int x1, .int x2]) (n := 3) (Nat.le_of_ble_eq_true rfl)
  rw [lg_entry_eq]
  generalize (lg_sl ([.ref g.2.2.2.1, .int x1, .int x2]) ++ List.replicate (3 - (lg_sl ([.ref g.2.2.2.1, .int x1, .int x2])).length) Slot.unset).toArray = ls at hl ⊢
  have hl : lv_has ls 3 [(0, .ref g.2.2.2.1), (1, .int x1), (2, .int x2)] := hl
  obtain ⟨z, hz⟩ : ∃ z, z = (v, σ1) := ⟨_, rfl⟩
  rw [← hz] at h
  rw [show v = z.1 by rw [hz], show σ1 = z.2 by rw [hz]]
  clear hz v σ1
  unfold mT_number at h
  refine lv_aload_n C.x C.b dX10_number_0 rfl (lv_at hl 0 rfl) ?_
  refine lv_iload_n C.x C.b dX10_number_1 rfl (lv_at hl 1 rfl) ?_
  refine lv_iload_n C.x C.b dX10_number_2 rfl (lv_at hl 2 rfl) ?_
  refine tw_call (y := yX10_isNumber) (bytes := cX10_isNumber) (maxL := 3) (fun v => some (.int v)) [.int x1, .int x2] (fun _ => True)  C hw XB.tt (fun _ _ _ => trivial) hσ hS hl.1 h (fun vv ss ee => kT_isNumber l g A x1 x2 σ vv ss ee) (cwV 2 C.t (lw_V q2132 q2134 qs63 q159 q2135) rfl rfl rfl (by decide +kernel) ⟨Nat.le_trans (Nat.le_of_ble_eq_true rfl) hRf, Nat.le_trans (Nat.le_of_ble_eq_true rfl) hRl⟩) rfl rfl (Nat.le_of_ble_eq_true rfl) dX10_number_3 (fun v_1 σ_2 H locs h hσ hS => ?_)
  refine lv_if_ne (tgt := 11) C.x C.b dX10_number_6 (by decide) (fun c_3 => ?_) (fun c_3 => ?_)
  · have h := iN c_3 h
    refine lv_aload_n C.x C.b dX10_number_11 rfl (lv_at hl 0 rfl) ?_
    refine tw_call (y := yX10_next) (bytes := cX10_next) (maxL := 2) (fun _ => none) [] (fun _ => True)  C hw XB.tt (fun _ _ _ => trivial) hσ hS hl.1 h (fun vv ss ee => kT_next l g A σ_2 vv ss ee) (cwV 0 C.t (lw_V q2104 q2106 qs57 q159 q2107) rfl rfl rfl (by decide +kernel) ⟨Nat.le_trans (Nat.le_of_ble_eq_true rfl) hRf, Nat.le_trans (Nat.le_of_ble_eq_true rfl) hRl⟩) rfl rfl (Nat.le_of_ble_eq_true rfl) dX10_number_12 (fun _ σ_4 H locs h hσ hS => ?_)
    refine lv_iconst (v := 1) C.x C.b dX10_number_15 (by decide) ?_
    exact tw_zret C hσ hS h dX10_number_16
  · have h := ip c_3 h
    refine lv_iconst (v := 0) C.x C.b dX10_number_9 (by decide) ?_
    exact tw_zret C hσ hS h dX10_number_10

theorem wT_readsFacts_13 {z : Int32 × twS} (C : CX p m meth c s args cX10_readsFacts 2 (some .boolean) RX10) (hw : WKt twL g A s s.heap) (hRf : 7 ≤ R.frames) (hRl : 195 ≤ R.locals) : ∀ (n : Nat) (x1 : Int32) (σ : twS) (H : Heap) (locs : List Loc) (ls : Array Slot), bT_readsFacts_13 n x1 σ = some z → TI g A σ H → va_S A s.heap H locs → lv_has ls 2 [(0, .ref g.2.2.2.1), (1, .int x1)] → W p l e R s m args below meth c H locs 0 0 (MQ below (TQ g A (some (.int z.1)) z.2) args s 0 0 A) (F0 m 13 ls []) := by
  intro n
  induction n with
  | zero =>
    intro x1 σ H locs ls h
    cases h
  | succ n ih =>
    intro x1 σ H locs ls h hσ hS hl
    rw [bT_readsFacts_13] at h
    refine lv_iload_n C.x C.b dX10_readsFacts_13 rfl (lv_at hl 1 rfl) ?_
    refine lv_if_eq (tgt := 92) C.x C.b dX10_readsFacts_14 (by decide) (fun c_1 => ?_) (fun c_1 => ?_)
    · have h := ip c_1 h
      refine lv_aload_n C.x C.b dX10_readsFacts_92 rfl (lv_at hl 0 rfl) ?_
      refine lv_bipush (v := 59) C.x C.b dX10_readsFacts_93 (by decide) ?_
      refine tw_call (y := yX10_sign) (bytes := cX10_sign) (maxL := 2) (fun v => some (.int v)) [.int 59] (fun _ => True)  C hw XB.tt (fun _ _ _ => trivial) hσ hS hl.1 h (fun vv ss ee => kT_sign l g A 59 σ vv ss ee) (cwV 1 C.t (lw_V q2139 q2141 qs64 q159 q2142) rfl rfl rfl (by decide +kernel) ⟨Nat.le_trans (Nat.le_of_ble_eq_true rfl) hRf, Nat.le_trans (Nat.le_of_ble_eq_true rfl) hRl⟩) rfl rfl (Nat.le_of_ble_eq_true rfl) dX10_readsFacts_95 (fun v_2 σ_3 H locs h hσ hS => ?_)
      refine lv_if_eq (tgt := 119) C.x C.b dX10_readsFacts_98 (by decide) (fun c_4 => ?_) (fun c_4 => ?_)
      · have h := ip c_4 h
        refine lv_iconst (v := 0) C.x C.b dX10_readsFacts_119 (by decide) ?_
        exact tw_zret C hσ hS h dX10_readsFacts_120
      · have h := iN c_4 h
        refine lv_aload_n C.x C.b dX10_readsFacts_101 rfl (lv_at hl 0 rfl) ?_
        obtain ⟨aS_255, rS_255, kS_255⟩ := hw.2.2 _ (List.mem_of_getElem? (i := 17) (rfl : twL[17]? = some (255, "heirs", tS_255)))
        refine va_ldcS C.x C.b C.o rS_255 dX10_readsFacts_102 ?_
        refine tw_call (y := yX10_word) (bytes := cX10_word) (maxL := 2) (fun v => some (.int v)) [.ref aS_255] (fun U => StrC A tS_255 aS_255 U U.heap)  C hw (XB.str A _ _) (fun U hU hW => StrC.at kS_255 hS hU hW) hσ hS hl.1 h (fun vv ss ee => kT_word l g A tS_255 aS_255 σ_3 vv ss ee) (cwV 1 C.t (lw_V q2120 q2122 qs60 q159 q2123) rfl rfl rfl (by decide +kernel) ⟨Nat.le_trans (Nat.le_of_ble_eq_true rfl) hRf, Nat.le_trans (Nat.le_of_ble_eq_true rfl) hRl⟩) rfl rfl (Nat.le_of_ble_eq_true rfl) dX10_readsFacts_104 (fun v_5 σ_6 H locs h hσ hS => ?_)
        refine lv_if_eq (tgt := 119) C.x C.b dX10_readsFacts_107 (by decide) (fun c_7 => ?_) (fun c_7 => ?_)
        · have h := ip c_7 h
          refine lv_iconst (v := 0) C.x C.b dX10_readsFacts_119 (by decide) ?_
          exact tw_zret C hσ hS h dX10_readsFacts_120
        · have h := iN c_7 h
          refine lv_aload_n C.x C.b dX10_readsFacts_110 rfl (lv_at hl 0 rfl) ?_
          refine lv_iconst (v := 1) C.x C.b dX10_readsFacts_111 (by decide) ?_
          refine lv_iconst (v := 4) C.x C.b dX10_readsFacts_112 (by decide) ?_
          refine tw_call (y := yX10_number) (bytes := cX10_number) (maxL := 3) (fun v => some (.int v)) [.int 1, .int 4] (fun _ => True)  C hw XB.tt (fun _ _ _ => trivial) hσ hS hl.1 h (fun vv ss ee => kT_number l g A 1 4 σ_6 vv ss ee) (cwV 2 C.t (lw_V q2144 q2146 qs65 q159 q2147) rfl rfl rfl (by decide +kernel) ⟨Nat.le_trans (Nat.le_of_ble_eq_true rfl) hRf, Nat.le_trans (Nat.le_of_ble_eq_true rfl) hRl⟩) rfl rfl (Nat.le_of_ble_eq_true rfl) dX10_readsFacts_113 (fun v_8 σ_9 H locs h hσ hS => ?_)
          refine lv_if_ne (tgt := 121) C.x C.b dX10_readsFacts_116 (by decide) (fun c_10 => ?_) (fun c_10 => ?_)
          · have h := iN c_10 h
            refine lv_aload_n C.x C.b dX10_readsFacts_121 rfl (lv_at hl 0 rfl) ?_
            refine tw_gf0 C hw hσ q2215 dX10_readsFacts_122 ?_
            refine lv_iconst (v := 5) C.x C.b dX10_readsFacts_125 (by decide) ?_
            refine lv_aload_n C.x C.b dX10_readsFacts_126 rfl (lv_at hl 0 rfl) ?_
            refine tw_gf21 C hw hσ q2236 dX10_readsFacts_127 ?_
            refine tw_st0 C hw hσ hS h dX10_readsFacts_130 (fun σ_11 H locs h hσ hS => ?_)
            refine lv_aload_n C.x C.b dX10_readsFacts_131 rfl (lv_at hl 0 rfl) ?_
            obtain ⟨aS_257, rS_257, kS_257⟩ := hw.2.2 _ (List.mem_of_getElem? (i := 18) (rfl : twL[18]? = some (257, "rest", tS_257)))
            refine tw_ldcwS C.x C.b C.o rS_257 dX10_readsFacts_132 ?_
            refine tw_call (y := yX10_word) (bytes := cX10_word) (maxL := 2) (fun v => some (.int v)) [.ref aS_257] (fun U => StrC A tS_257 aS_257 U U.heap)  C hw (XB.str A _ _) (fun U hU hW => StrC.at kS_257 hS hU hW) hσ hS hl.1 h (fun vv ss ee => kT_word l g A tS_257 aS_257 σ_11 vv ss ee) (cwV 1 C.t (lw_V q2120 q2122 qs60 q159 q2123) rfl rfl rfl (by decide +kernel) ⟨Nat.le_trans (Nat.le_of_ble_eq_true rfl) hRf, Nat.le_trans (Nat.le_of_ble_eq_true rfl) hRl⟩) rfl rfl (Nat.le_of_ble_eq_true rfl) dX10_readsFacts_135 (fun v_12 σ_13 H locs h hσ hS => ?_)
            refine lv_if_eq (tgt := 157) C.x C.b dX10_readsFacts_138 (by decide) (fun c_14 => ?_) (fun c_14 => ?_)
            · have h := ip c_14 h
              refine lv_iconst (v := 0) C.x C.b dX10_readsFacts_157 (by decide) ?_
              exact tw_zret C hσ hS h dX10_readsFacts_158
            · have h := iN c_14 h
              refine lv_aload_n C.x C.b dX10_readsFacts_141 rfl (lv_at hl 0 rfl) ?_
              refine lv_iconst (v := 0) C.x C.b dX10_readsFacts_142 (by decide) ?_
              refine lv_aload_n C.x C.b dX10_readsFacts_143 rfl (lv_at hl 0 rfl) ?_
              refine tw_gf0 C hw hσ q2215 dX10_readsFacts_144 ?_
              refine lv_iconst (v := 5) C.x C.b dX10_readsFacts_147 (by decide) ?_
              refine tw_ld0 C hw hσ h dX10_readsFacts_148 (fun v_15 h => ?_)
              refine lv_iconst (v := 1) C.x C.b dX10_readsFacts_149 (by decide) ?_
              refine lv_isub C.x C.b dX10_readsFacts_150 ?_
              refine tw_call (y := yX10_number) (bytes := cX10_number) (maxL := 3) (fun v => some (.int v)) [.int 0, .int (v_15 - 1)] (fun _ => True)  C hw XB.tt (fun _ _ _ => trivial) hσ hS hl.1 h (fun vv ss ee => kT_number l g A 0 (v_15 - 1) σ_13 vv ss ee) (cwV 2 C.t (lw_V q2144 q2146 qs65 q159 q2147) rfl rfl rfl (by decide +kernel) ⟨Nat.le_trans (Nat.le_of_ble_eq_true rfl) hRf, Nat.le_trans (Nat.le_of_ble_eq_true rfl) hRl⟩) rfl rfl (Nat.le_of_ble_eq_true rfl) dX10_readsFacts_151 (fun v_16 σ_17 H locs h hσ hS => ?_)
              refine lv_if_ne (tgt := 159) C.x C.b dX10_readsFacts_154 (by decide) (fun c_18 => ?_) (fun c_18 => ?_)
              · have h := iN c_18 h
                refine lv_aload_n C.x C.b dX10_readsFacts_159 rfl (lv_at hl 0 rfl) ?_
                refine tw_gf0 C hw hσ q2215 dX10_readsFacts_160 ?_
                refine lv_bipush (v := 6) C.x C.b dX10_readsFacts_163 (by decide) ?_
                refine lv_aload_n C.x C.b dX10_readsFacts_165 rfl (lv_at hl 0 rfl) ?_
                refine tw_gf21 C hw hσ q2236 dX10_readsFacts_166 ?_
                refine tw_st0 C hw hσ hS h dX10_readsFacts_169 (fun σ_19 H locs h hσ hS => ?_)
                refine lv_aload_n C.x C.b dX10_readsFacts_170 rfl (lv_at hl 0 rfl) ?_
                refine lv_bipush (v := 59) C.x C.b dX10_readsFacts_171 (by decide) ?_
                refine tw_call (y := yX10_sign) (bytes := cX10_sign) (maxL := 2) (fun v => some (.int v)) [.int 59] (fun _ => True)  C hw XB.tt (fun _ _ _ => trivial) hσ hS hl.1 h (fun vv ss ee => kT_sign l g A 59 σ_19 vv ss ee) (cwV 1 C.t (lw_V q2139 q2141 qs64 q159 q2142) rfl rfl rfl (by decide +kernel) ⟨Nat.le_trans (Nat.le_of_ble_eq_true rfl) hRf, Nat.le_trans (Nat.le_of_ble_eq_true rfl) hRl⟩) rfl rfl (Nat.le_of_ble_eq_true rfl) dX10_readsFacts_173 (fun v_20 σ_21 H locs h hσ hS => ?_)
                exact tw_zret C hσ hS h dX10_readsFacts_176
              · have h := ip c_18 h
                refine lv_iconst (v := 0) C.x C.b dX10_readsFacts_157 (by decide) ?_
                exact tw_zret C hσ hS h dX10_readsFacts_158
          · have h := ip c_10 h
            refine lv_iconst (v := 0) C.x C.b dX10_readsFacts_119 (by decide) ?_
            exact tw_zret C hσ hS h dX10_readsFacts_120
    · have h := iN c_1 h
      refine lv_aload_n C.x C.b dX10_readsFacts_17 rfl (lv_at hl 0 rfl) ?_
      refine lv_iconst (v := 2) C.x C.b dX10_readsFacts_18 (by decide) ?_
      refine lv_iconst (v := 4) C.x C.b dX10_readsFacts_19 (by decide) ?_
      refine tw_call (y := yX10_isNumber) (bytes := cX10_isNumber) (maxL := 3) (fun v => some (.int v)) [.int 2, .int 4] (fun _ => True)  C hw XB.tt (fun _ _ _ => trivial) hσ hS hl.1 h (fun vv ss ee => kT_isNumber l g A 2 4 σ vv ss ee) (cwV 2 C.t (lw_V q2132 q2134 qs63 q159 q2135) rfl rfl rfl (by decide +kernel) ⟨Nat.le_trans (Nat.le_of_ble_eq_true rfl) hRf, Nat.le_trans (Nat.le_of_ble_eq_true rfl) hRl⟩) rfl rfl (Nat.le_of_ble_eq_true rfl) dX10_readsFacts_20 (fun v_22 σ_23 H locs h hσ hS => ?_)
      refine lv_if_ne (tgt := 28) C.x C.b dX10_readsFacts_23 (by decide) (fun c_24 => ?_) (fun c_24 => ?_)
      · have h := iN c_24 h
        refine lv_aload_n C.x C.b dX10_readsFacts_28 rfl (lv_at hl 0 rfl) ?_
        refine tw_gf0 C hw hσ q2215 dX10_readsFacts_29 ?_
        refine lv_iconst (v := 0) C.x C.b dX10_readsFacts_32 (by decide) ?_
        refine tw_ld0 C hw hσ h dX10_readsFacts_33 (fun v_25 h => ?_)
        refine lv_iconst (v := 4) C.x C.b dX10_readsFacts_34 (by decide) ?_
        refine lv_icmp_ne (tgt := 44) C.x C.b dX10_readsFacts_35 (by decide) (fun c_26 => ?_) (fun c_26 => ?_)
        · have h := iN c_26 h
          refine lv_aload_n C.x C.b dX10_readsFacts_44 rfl (lv_at hl 0 rfl) ?_
          refine tw_gf0 C hw hσ q2215 dX10_readsFacts_45 ?_
          refine lv_iconst (v := 1) C.x C.b dX10_readsFacts_48 (by decide) ?_
          refine lv_aload_n C.x C.b dX10_readsFacts_49 rfl (lv_at hl 0 rfl) ?_
          refine tw_gf0 C hw hσ q2215 dX10_readsFacts_50 ?_
          refine lv_iconst (v := 0) C.x C.b dX10_readsFacts_53 (by decide) ?_
          refine tw_ld0 C hw hσ h dX10_readsFacts_54 (fun v_27 h => ?_)
          refine lv_iadd C.x C.b dX10_readsFacts_55 ?_
          refine lv_aload_n C.x C.b dX10_readsFacts_56 rfl (lv_at hl 0 rfl) ?_
          refine tw_gf21 C hw hσ q2236 dX10_readsFacts_57 ?_
          refine tw_st0 C hw hσ hS h dX10_readsFacts_60 (fun σ_28 H locs h hσ hS => ?_)
          refine lv_aload_n C.x C.b dX10_readsFacts_61 rfl (lv_at hl 0 rfl) ?_
          refine tw_gf0 C hw hσ q2215 dX10_readsFacts_62 ?_
          refine lv_iconst (v := 0) C.x C.b dX10_readsFacts_65 (by decide) ?_
          refine lv_dup2_11 C.x C.b dX10_readsFacts_66 rfl rfl ?_
          refine tw_ld0 C hw hσ h dX10_readsFacts_67 (fun v_29 h => ?_)
          refine lv_iconst (v := 1) C.x C.b dX10_readsFacts_68 (by decide) ?_
          refine lv_iadd C.x C.b dX10_readsFacts_69 ?_
          refine tw_st0 C hw hσ hS h dX10_readsFacts_70 (fun σ_30 H locs h hσ hS => ?_)
          refine lv_aload_n C.x C.b dX10_readsFacts_71 rfl (lv_at hl 0 rfl) ?_
          refine tw_call (y := yX10_next) (bytes := cX10_next) (maxL := 2) (fun _ => none) [] (fun _ => True)  C hw XB.tt (fun _ _ _ => trivial) hσ hS hl.1 h (fun vv ss ee => kT_next l g A σ_30 vv ss ee) (cwV 0 C.t (lw_V q2104 q2106 qs57 q159 q2107) rfl rfl rfl (by decide +kernel) ⟨Nat.le_trans (Nat.le_of_ble_eq_true rfl) hRf, Nat.le_trans (Nat.le_of_ble_eq_true rfl) hRl⟩) rfl rfl (Nat.le_of_ble_eq_true rfl) dX10_readsFacts_72 (fun _ σ_31 H locs h hσ hS => ?_)
          refine lv_aload_n C.x C.b dX10_readsFacts_75 rfl (lv_at hl 0 rfl) ?_
          refine tw_gf16 C hw hσ q2231 dX10_readsFacts_76 ?_
          refine lv_iconst (v := 2) C.x C.b dX10_readsFacts_79 (by decide) ?_
          refine lv_icmp_ne (tgt := 87) C.x C.b dX10_readsFacts_80 (by decide) (fun c_32 => ?_) (fun c_32 => ?_)
          · have h := iN c_32 h
            refine lv_iconst (v := 0) C.x C.b dX10_readsFacts_87 (by decide) ?_
            refine lv_istore_n (lv' := [(1, .int 0), (0, .ref g.2.2.2.1)]) C.x C.b dX10_readsFacts_88 rfl hl (by decide) rfl (fun ls hl => ?_)
            refine lv_goto (tgt := 13) C.x C.b dX10_readsFacts_89 (by decide) ?_
            exact ih _ _ _ _ _ h hσ hS (lv_sub hl [1, 0] rfl)
          · have h := ip c_32 h
            refine lv_iconst (v := 1) C.x C.b dX10_readsFacts_83 (by decide) ?_
            refine lv_goto (tgt := 88) C.x C.b dX10_readsFacts_84 (by decide) ?_
            refine lv_istore_n (lv' := [(1, .int 1), (0, .ref g.2.2.2.1)]) C.x C.b dX10_readsFacts_88 rfl hl (by decide) rfl (fun ls hl => ?_)
            refine lv_goto (tgt := 13) C.x C.b dX10_readsFacts_89 (by decide) ?_
            exact ih _ _ _ _ _ h hσ hS (lv_sub hl [1, 0] rfl)
        · have h := ip c_26 h
          refine lv_aload_n C.x C.b dX10_readsFacts_38 rfl (lv_at hl 0 rfl) ?_
          refine lv_iconst (v := 4) C.x C.b dX10_readsFacts_39 (by decide) ?_
          refine tw_call (y := yX10_fail) (bytes := cX10_fail) (maxL := 2) (fun v => some (.int v)) [.int 4] (fun _ => True)  C hw XB.tt (fun _ _ _ => trivial) hσ hS hl.1 h (fun vv ss ee => kT_fail l g A 4 σ_23 vv ss ee) (cwV 1 C.t (lw_V q2128 q2130 qs62 q159 q2131) rfl rfl rfl (by decide +kernel) ⟨Nat.le_trans (Nat.le_of_ble_eq_true rfl) hRf, Nat.le_trans (Nat.le_of_ble_eq_true rfl) hRl⟩) rfl rfl (Nat.le_of_ble_eq_true rfl) dX10_readsFacts_40 (fun v_33 σ_34 H locs h hσ hS => ?_)
          exact tw_zret C hσ hS h dX10_readsFacts_43
      · have h := ip c_24 h
        refine lv_iconst (v := 0) C.x C.b dX10_readsFacts_26 (by decide) ?_
        exact tw_zret C hσ hS h dX10_readsFacts_27

theorem kT_readsFacts (l : Launch) (g : twG) (A : Nat → Prop) (σ : twS) (v : Int32) (σ1 : twS) (h : mT_readsFacts σ = some (v, σ1)) : Met l yX10_readsFacts (ws_ yX10_readsFacts cX10_readsFacts 2 (some .boolean)) ({ frames := 7, cells := 0, slots := 0, locals := 195 }) (TPc twL g A [.ref g.2.2.2.1] (fun _ => True) σ) (TQ g A (some (.int v)) σ1) 0 0 A := by
  refine Met.ofW (cc := cX10_readsFacts) (maxL := 2) (ret := (some .boolean)) (by decide) rfl ?_
  intro p e s m args below meth c s₁ B hml hv
  obtain ⟨rfl, hw, hX, hσ⟩ := hv
  have hts := atoms_spec (ws := (ws_ yX10_readsFacts cX10_readsFacts 2 (some .boolean))) B.pre
  have C : CX p m meth c s ([.ref g.2.2.2.1] : List Value).toArray cX10_readsFacts 2 (some .boolean) RX10 := ⟨⟨B.exec, B.bytes, hml, findClass_of_methodNamed B.named, fun w h => hts w (List.mem_cons_of_mem _ h)⟩, B.returns, B.notSynchronized⟩
  have hRf : 7 ≤ (headSpec (ws_ yX10_readsFacts cX10_readsFacts 2 (some .boolean)) ({ frames := 7, cells := 0, slots := 0, locals := 195 })).room.frames := Nat.le_refl _
  have hRl : 195 ≤ (headSpec (ws_ yX10_readsFacts cX10_readsFacts 2 (some .boolean)) ({ frames := 7, cells := 0, slots := 0, locals := 195 })).room.locals := Nat.le_refl _
  generalize (headSpec (ws_ yX10_readsFacts cX10_readsFacts 2 (some .boolean)) ({ frames := 7, cells := 0, slots := 0, locals := 195 })).room = R at hRf hRl ⊢
  have hS : va_S A s.heap s.heap [] := va_S.rf
  have hl := lv_entry ([.ref g.2.2.2.1]) (n := 2) (Nat.le_of_ble_eq_true rfl)
  rw [lg_entry_eq]
  generalize (lg_sl ([.ref g.2.2.2.1]) ++ List.replicate (2 - (lg_sl ([.ref g.2.2.2.1])).length) Slot.unset).toArray = ls at hl ⊢
  have hl : lv_has ls 2 [(0, .ref g.2.2.2.1)] := hl
  obtain ⟨z, hz⟩ : ∃ z, z = (v, σ1) := ⟨_, rfl⟩
  rw [← hz] at h
  rw [show v = z.1 by rw [hz], show σ1 = z.2 by rw [hz]]
  clear hz v σ1
  unfold mT_readsFacts at h
  refine lv_aload_n C.x C.b dX10_readsFacts_0 rfl (lv_at hl 0 rfl) ?_
  obtain ⟨aS_253, rS_253, kS_253⟩ := hw.2.2 _ (List.mem_of_getElem? (i := 16) (rfl : twL[16]? = some (253, "facts", tS_253)))
  refine va_ldcS C.x C.b C.o rS_253 dX10_readsFacts_1 ?_
  refine tw_call (y := yX10_word) (bytes := cX10_word) (maxL := 2) (fun v => some (.int v)) [.ref aS_253] (fun U => StrC A tS_253 aS_253 U U.heap)  C hw (XB.str A _ _) (fun U hU hW => StrC.at kS_253 hS hU hW) hσ hS hl.1 h (fun vv ss ee => kT_word l g A tS_253 aS_253 σ vv ss ee) (cwV 1 C.t (lw_V q2120 q2122 qs60 q159 q2123) rfl rfl rfl (by decide +kernel) ⟨Nat.le_trans (Nat.le_of_ble_eq_true rfl) hRf, Nat.le_trans (Nat.le_of_ble_eq_true rfl) hRl⟩) rfl rfl (Nat.le_of_ble_eq_true rfl) dX10_readsFacts_3 (fun v_1 σ_2 H locs h hσ hS => ?_)
  refine lv_if_ne (tgt := 11) C.x C.b dX10_readsFacts_6 (by decide) (fun c_3 => ?_) (fun c_3 => ?_)
  · have h := iN c_3 h
    refine lv_iconst (v := 1) C.x C.b dX10_readsFacts_11 (by decide) ?_
    refine lv_istore_n (lv' := [(1, .int 1), (0, .ref g.2.2.2.1)]) C.x C.b dX10_readsFacts_12 rfl hl (by decide) rfl (fun ls hl => ?_)
    exact wT_readsFacts_13 C hw hRf hRl _ _ _ _ _ _ h hσ hS (lv_sub hl [1, 0] rfl)
  · have h := ip c_3 h
    refine lv_iconst (v := 0) C.x C.b dX10_readsFacts_9 (by decide) ?_
    exact tw_zret C hσ hS h dX10_readsFacts_10

theorem kT_rule0 (l : Launch) (g : twG) (A : Nat → Prop) (x0 : Int32) (σ : twS) (v : Int32) (σ1 : twS) (h : mT_rule0 x0 σ = some (v, σ1)) : Met l yX10_rule0 (ws_ yX10_rule0 cX10_rule0 1 (some .int)) ({ frames := 1, cells := 0, slots := 0, locals := 24 }) (TPc twL g A [.int x0] (fun _ => True) σ) (TQ g A (some (.int v)) σ1) 0 0 A := by
  refine Met.ofW (cc := cX10_rule0) (maxL := 1) (ret := (some .int)) (by decide) rfl ?_
  intro p e s m args below meth c s₁ B hml hv
  obtain ⟨rfl, hw, hX, hσ⟩ := hv
  have hts := atoms_spec (ws := (ws_ yX10_rule0 cX10_rule0 1 (some .int))) B.pre
  have C : CX p m meth c s ([.int x0] : List Value).toArray cX10_rule0 1 (some .int) RX10 := ⟨⟨B.exec, B.bytes, hml, findClass_of_methodNamed B.named, fun w h => hts w (List.mem_cons_of_mem _ h)⟩, B.returns, B.notSynchronized⟩
  have hRf : 1 ≤ (headSpec (ws_ yX10_rule0 cX10_rule0 1 (some .int)) ({ frames := 1, cells := 0, slots := 0, locals := 24 })).room.frames := Nat.le_refl _
  have hRl : 24 ≤ (headSpec (ws_ yX10_rule0 cX10_rule0 1 (some .int)) ({ frames := 1, cells := 0, slots := 0, locals := 24 })).room.locals := Nat.le_refl _
  generalize (headSpec (ws_ yX10_rule0 cX10_rule0 1 (some .int)) ({ frames := 1, cells := 0, slots := 0, locals := 24 })).room = R at hRf hRl ⊢
  have hS : va_S A s.heap s.heap [] := va_S.rf
  have hl := lv_entry ([.int x0]) (n := 1) (Nat.le_of_ble_eq_true rfl)
  rw [lg_entry_eq]
  generalize (lg_sl ([.int x0]) ++ List.replicate (1 - (lg_sl ([.int x0])).length) Slot.unset).toArray = ls at hl ⊢
  have hl : lv_has ls 1 [(0, .int x0)] := hl
  obtain ⟨z, hz⟩ : ∃ z, z = (v, σ1) := ⟨_, rfl⟩
  rw [← hz] at h
  rw [show v = z.1 by rw [hz], show σ1 = z.2 by rw [hz]]
  clear hz v σ1
  unfold mT_rule0 at h
  refine lv_bipush (v := 18) C.x C.b dX10_rule0_0 (by decide) ?_
  refine lv_bipush (v := 34) C.x C.b dX10_rule0_2 (by decide) ?_
  refine lv_iload_n C.x C.b dX10_rule0_4 rfl (lv_at hl 0 rfl) ?_
  refine lv_imul C.x C.b dX10_rule0_5 ?_
  refine lv_iadd C.x C.b dX10_rule0_6 ?_
  exact tw_iret C hσ hS h dX10_rule0_7

theorem kT_emits (l : Launch) (g : twG) (A : Nat → Prop) (x1 : Int32) (σ : twS) (v : Int32) (σ1 : twS) (h : mT_emits x1 σ = some (v, σ1)) : Met l yX10_emits (ws_ yX10_emits cX10_emits 2 none) ({ frames := 1, cells := 0, slots := 0, locals := 24 }) (TPc twL g A [.ref g.2.2.2.1, .int x1] (fun _ => True) σ) (TQ g A (none) σ1) 0 0 A := by
  refine Met.ofW (cc := cX10_emits) (maxL := 2) (ret := none) (by decide) rfl ?_
  intro p e s m args below meth c s₁ B hml hv
  obtain ⟨rfl, hw, hX, hσ⟩ := hv
  have hts := atoms_spec (ws := (ws_ yX10_emits cX10_emits 2 none)) B.pre
  have C : CX p m meth c s ([.ref g.2.2.2.1, .int x1] : List Value).toArray cX10_emits 2 none RX10 := ⟨⟨B.exec, B.bytes, hml, findClass_of_methodNamed B.named, fun w h => hts w (List.mem_cons_of_mem _ h)⟩, B.returns, B.notSynchronized⟩
  have hRf : 1 ≤ (headSpec (ws_ yX10_emits cX10_emits 2 none) ({ frames := 1, cells := 0, slots := 0, locals := 24 })).room.frames := Nat.le_refl _
  have hRl : 24 ≤ (headSpec (ws_ yX10_emits cX10_emits 2 none) ({ frames := 1, cells := 0, slots := 0, locals := 24 })).room.locals := Nat.le_refl _
  generalize (headSpec (ws_ yX10_emits cX10_emits 2 none) ({ frames := 1, cells := 0, slots := 0, locals := 24 })).room = R at hRf hRl ⊢
  have hS : va_S A s.heap s.heap [] := va_S.rf
  have hl := lv_entry ([.ref g.2.2.2.1, .int x1]) (n := 2) (Nat.le_of_ble_eq_true rfl)
  rw [lg_entry_eq]
  generalize (lg_sl ([.ref g.2.2.2.1, .int x1]) ++ List.replicate (2 - (lg_sl ([.ref g.2.2.2.1, .int x1])).length) Slot.unset).toArray = ls at hl ⊢
  have hl : lv_has ls 2 [(0, .ref g.2.2.2.1), (1, .int x1)] := hl
  obtain ⟨z, hz⟩ : ∃ z, z = (v, σ1) := ⟨_, rfl⟩
  rw [← hz] at h
  rw [show σ1 = z.2 by rw [hz]]
  clear hz v σ1
  unfold mT_emits at h
  refine lv_aload_n C.x C.b dX10_emits_0 rfl (lv_at hl 0 rfl) ?_
  refine tw_gf0 C hw hσ q2215 dX10_emits_1 ?_
  refine lv_aload_n C.x C.b dX10_emits_4 rfl (lv_at hl 0 rfl) ?_
  refine tw_gf25 C hw hσ q2240 dX10_emits_5 ?_
  refine lv_iconst (v := 1) C.x C.b dX10_emits_8 (by decide) ?_
  refine lv_iadd C.x C.b dX10_emits_9 ?_
  refine lv_aload_n C.x C.b dX10_emits_10 rfl (lv_at hl 0 rfl) ?_
  refine tw_gf0 C hw hσ q2215 dX10_emits_11 ?_
  refine lv_aload_n C.x C.b dX10_emits_14 rfl (lv_at hl 0 rfl) ?_
  refine tw_gf25 C hw hσ q2240 dX10_emits_15 ?_
  refine lv_iconst (v := 0) C.x C.b dX10_emits_18 (by decide) ?_
  refine lv_iadd C.x C.b dX10_emits_19 ?_
  refine tw_ld0 C hw hσ h dX10_emits_20 (fun v_1 h => ?_)
  refine lv_iadd C.x C.b dX10_emits_21 ?_
  refine lv_iload_n C.x C.b dX10_emits_22 rfl (lv_at hl 1 rfl) ?_
  refine tw_st0 C hw hσ hS h dX10_emits_23 (fun σ_2 H locs h hσ hS => ?_)
  refine lv_aload_n C.x C.b dX10_emits_24 rfl (lv_at hl 0 rfl) ?_
  refine tw_gf0 C hw hσ q2215 dX10_emits_25 ?_
  refine lv_aload_n C.x C.b dX10_emits_28 rfl (lv_at hl 0 rfl) ?_
  refine tw_gf25 C hw hσ q2240 dX10_emits_29 ?_
  refine lv_iconst (v := 0) C.x C.b dX10_emits_32 (by decide) ?_
  refine lv_iadd C.x C.b dX10_emits_33 ?_
  refine tw_lt h (fun u_3 h => ?_)
  refine lv_dup2_11 C.x C.b dX10_emits_34 rfl rfl ?_
  refine tw_ld0 C hw hσ h dX10_emits_35 (fun v_4 h => ?_)
  refine lv_iconst (v := 1) C.x C.b dX10_emits_36 (by decide) ?_
  refine lv_iadd C.x C.b dX10_emits_37 ?_
  refine tw_st0 C hw hσ hS h dX10_emits_38 (fun σ_5 H locs h hσ hS => ?_)
  exact tw_vret C hσ hS h dX10_emits_39

theorem kT_isFact (l : Launch) (g : twG) (A : Nat → Prop) (x1 : Int32) (σ : twS) (v : Int32) (σ1 : twS) (h : mT_isFact x1 σ = some (v, σ1)) : Met l yX10_isFact (ws_ yX10_isFact cX10_isFact 2 (some .boolean)) ({ frames := 2, cells := 0, slots := 0, locals := 46 }) (TPc twL g A [.ref g.2.2.2.1, .int x1] (fun _ => True) σ) (TQ g A (some (.int v)) σ1) 0 0 A := by
  refine Met.ofW (cc := cX10_isFact) (maxL := 2) (ret := (some .boolean)) (by decide) rfl ?_
  intro p e s m args below meth c s₁ B hml hv
  obtain ⟨rfl, hw, hX, hσ⟩ := hv
  have hts := atoms_spec (ws := (ws_ yX10_isFact cX10_isFact 2 (some .boolean))) B.pre
  have C : CX p m meth c s ([.ref g.2.2.2.1, .int x1] : List Value).toArray cX10_isFact 2 (some .boolean) RX10 := ⟨⟨B.exec, B.bytes, hml, findClass_of_methodNamed B.named, fun w h => hts w (List.mem_cons_of_mem _ h)⟩, B.returns, B.notSynchronized⟩
  have hRf : 2 ≤ (headSpec (ws_ yX10_isFact cX10_isFact 2 (some .boolean)) ({ frames := 2, cells := 0, slots := 0, locals := 46 })).room.frames := Nat.le_refl _
  have hRl : 46 ≤ (headSpec (ws_ yX10_isFact cX10_isFact 2 (some .boolean)) ({ frames := 2, cells := 0, slots := 0, locals := 46 })).room.locals := Nat.le_refl _
  generalize (headSpec (ws_ yX10_isFact cX10_isFact 2 (some .boolean)) ({ frames := 2, cells := 0, slots := 0, locals := 46 })).room = R at hRf hRl ⊢
  have hS : va_S A s.heap s.heap [] := va_S.rf
  have hl := lv_entry ([.ref g.2.2.2.1, .int x1]) (n := 2) (Nat.le_of_ble_eq_true rfl)
  rw [lg_entry_eq]
  generalize (lg_sl ([.ref g.2.2.2.1, .int x1]) ++ List.replicate (2 - (lg_sl ([.ref g.2.2.2.1, .int x1])).length) Slot.unset).toArray = ls at hl ⊢
  have hl : lv_has ls 2 [(0, .ref g.2.2.2.1), (1, .int x1)] := hl
  obtain ⟨z, hz⟩ : ∃ z, z = (v, σ1) := ⟨_, rfl⟩
  rw [← hz] at h
  rw [show v = z.1 by rw [hz], show σ1 = z.2 by rw [hz]]
  clear hz v σ1
  unfold mT_isFact at h
  refine lv_iload_n C.x C.b dX10_isFact_0 rfl (lv_at hl 1 rfl) ?_
  refine lv_iconst (v := 0) C.x C.b dX10_isFact_1 (by decide) ?_
  refine lv_aload_n C.x C.b dX10_isFact_2 rfl (lv_at hl 0 rfl) ?_
  refine tw_gf0 C hw hσ q2215 dX10_isFact_3 ?_
  refine lv_iconst (v := 0) C.x C.b dX10_isFact_6 (by decide) ?_
  refine tw_ld0 C hw hσ h dX10_isFact_7 (fun v_1 h => ?_)
  refine lv_iconst (v := 1) C.x C.b dX10_isFact_8 (by decide) ?_
  refine lv_isub C.x C.b dX10_isFact_9 ?_
  refine tw_callS (y := yX10_in) (bytes := cX10_in) (maxL := 3) (fun v => some (.int v)) [.int x1, .int 0, .int (v_1 - 1)] C hw hσ hS hl.1 h (fun vv ss ee => kT_in l g A x1 0 (v_1 - 1) σ vv ss ee) (va_cwS 3 C.t (lw_S q2136 q2137 q159 q2138) rfl rfl rfl (by decide +kernel) ⟨Nat.le_trans (Nat.le_of_ble_eq_true rfl) hRf, Nat.le_trans (Nat.le_of_ble_eq_true rfl) hRl⟩) rfl rfl (Nat.le_of_ble_eq_true rfl) dX10_isFact_10 (fun v_2 σ_3 H locs h hσ hS => ?_)
  exact tw_zret C hσ hS h dX10_isFact_13

theorem wT_readsCompare_121 {z : Int32 × twS} (C : CX p m meth c s args cX10_readsCompare 3 (some .boolean) RX10) (hw : WKt twL g A s s.heap) (hRf : 4 ≤ R.frames) (hRl : 90 ≤ R.locals) : ∀ (x1 : Int32) (s0 : Int32) (σ : twS) (H : Heap) (locs : List Loc) (ls : Array Slot), bT_readsCompare_121 x1 s0 σ = some z → TI g A σ H → va_S A s.heap H locs → lv_has ls 3 [(0, .ref g.2.2.2.1), (1, .int x1)] → W p l e R s m args below meth c H locs 0 0 (MQ below (TQ g A (some (.int z.1)) z.2) args s 0 0 A) (F0 m 121 ls [.int s0]) := by
  intro x1 s0 σ H locs ls h hσ hS hl
  unfold bT_readsCompare_121 at h
  refine lv_istore_n (lv' := [(2, .int s0), (0, .ref g.2.2.2.1), (1, .int x1)]) C.x C.b dX10_readsCompare_121 rfl hl (by decide) rfl (fun ls hl => ?_)
  refine lv_iload_n C.x C.b dX10_readsCompare_122 rfl (lv_at hl 0 rfl) ?_
  refine lv_iconst (v := -1) C.x C.b dX10_readsCompare_123 (by decide) ?_
  refine lv_icmp_ne (tgt := 133) C.x C.b dX10_readsCompare_124 (by decide) (fun c_1 => ?_) (fun c_1 => ?_)
  · have h := iN c_1 h
    refine lv_aload_n C.x C.b dX10_readsCompare_133 rfl (lv_at hl 1 rfl) ?_
    refine tw_call (y := yX10_next) (bytes := cX10_next) (maxL := 2) (fun _ => none) [] (fun _ => True)  C hw XB.tt (fun _ _ _ => trivial) hσ hS hl.1 h (fun vv ss ee => kT_next l g A σ vv ss ee) (cwV 0 C.t (lw_V q2104 q2106 qs57 q159 q2107) rfl rfl rfl (by decide +kernel) ⟨Nat.le_trans (Nat.le_of_ble_eq_true rfl) hRf, Nat.le_trans (Nat.le_of_ble_eq_true rfl) hRl⟩) rfl rfl (Nat.le_of_ble_eq_true rfl) dX10_readsCompare_134 (fun _ σ_2 H locs h hσ hS => ?_)
    refine lv_aload_n C.x C.b dX10_readsCompare_137 rfl (lv_at hl 1 rfl) ?_
    refine lv_iconst (v := 0) C.x C.b dX10_readsCompare_138 (by decide) ?_
    refine lv_aload_n C.x C.b dX10_readsCompare_139 rfl (lv_at hl 1 rfl) ?_
    refine tw_gf0 C hw hσ q2215 dX10_readsCompare_140 ?_
    refine lv_iconst (v := 1) C.x C.b dX10_readsCompare_143 (by decide) ?_
    refine lv_iload_n C.x C.b dX10_readsCompare_144 rfl (lv_at hl 2 rfl) ?_
    refine lv_iadd C.x C.b dX10_readsCompare_145 ?_
    refine tw_ld0 C hw hσ h dX10_readsCompare_146 (fun v_3 h => ?_)
    refine lv_iconst (v := 1) C.x C.b dX10_readsCompare_147 (by decide) ?_
    refine lv_isub C.x C.b dX10_readsCompare_148 ?_
    refine tw_call (y := yX10_number) (bytes := cX10_number) (maxL := 3) (fun v => some (.int v)) [.int 0, .int (v_3 - 1)] (fun _ => True)  C hw XB.tt (fun _ _ _ => trivial) hσ hS hl.1 h (fun vv ss ee => kT_number l g A 0 (v_3 - 1) σ_2 vv ss ee) (cwV 2 C.t (lw_V q2144 q2146 qs65 q159 q2147) rfl rfl rfl (by decide +kernel) ⟨Nat.le_trans (Nat.le_of_ble_eq_true rfl) hRf, Nat.le_trans (Nat.le_of_ble_eq_true rfl) hRl⟩) rfl rfl (Nat.le_of_ble_eq_true rfl) dX10_readsCompare_149 (fun v_4 σ_5 H locs h hσ hS => ?_)
    refine lv_if_ne (tgt := 157) C.x C.b dX10_readsCompare_152 (by decide) (fun c_6 => ?_) (fun c_6 => ?_)
    · have h := iN c_6 h
      refine lv_aload_n C.x C.b dX10_readsCompare_157 rfl (lv_at hl 1 rfl) ?_
      refine lv_bipush (v := 10) C.x C.b dX10_readsCompare_158 (by decide) ?_
      refine lv_bipush (v := 16) C.x C.b dX10_readsCompare_160 (by decide) ?_
      refine lv_iload_n C.x C.b dX10_readsCompare_162 rfl (lv_at hl 2 rfl) ?_
      refine lv_imul C.x C.b dX10_readsCompare_163 ?_
      refine lv_iadd C.x C.b dX10_readsCompare_164 ?_
      refine lv_iconst (v := 4) C.x C.b dX10_readsCompare_165 (by decide) ?_
      refine lv_iload_n C.x C.b dX10_readsCompare_166 rfl (lv_at hl 0 rfl) ?_
      refine lv_imul C.x C.b dX10_readsCompare_167 ?_
      refine lv_iadd C.x C.b dX10_readsCompare_168 ?_
      refine lv_aload_n C.x C.b dX10_readsCompare_169 rfl (lv_at hl 1 rfl) ?_
      refine tw_gf21 C hw hσ q2236 dX10_readsCompare_170 ?_
      refine lv_iadd C.x C.b dX10_readsCompare_173 ?_
      refine tw_call (y := yX10_emits) (bytes := cX10_emits) (maxL := 2) (fun _ => none) [.int (((10 + (16 * x1)) + (4 * s0)) + (σ_5.2 21))] (fun _ => True)  C hw XB.tt (fun _ _ _ => trivial) hσ hS hl.1 h (fun vv ss ee => kT_emits l g A (((10 + (16 * x1)) + (4 * s0)) + (σ_5.2 21)) σ_5 vv ss ee) (cwV 1 C.t (lw_V q2174 q2176 qs71 q159 q2177) rfl rfl rfl (by decide +kernel) ⟨Nat.le_trans (Nat.le_of_ble_eq_true rfl) hRf, Nat.le_trans (Nat.le_of_ble_eq_true rfl) hRl⟩) rfl rfl (Nat.le_of_ble_eq_true rfl) dX10_readsCompare_174 (fun _ σ_7 H locs h hσ hS => ?_)
      refine lv_iconst (v := 1) C.x C.b dX10_readsCompare_177 (by decide) ?_
      exact tw_zret C hσ hS h dX10_readsCompare_178
    · have h := ip c_6 h
      refine lv_iconst (v := 0) C.x C.b dX10_readsCompare_155 (by decide) ?_
      exact tw_zret C hσ hS h dX10_readsCompare_156
  · have h := ip c_1 h
    refine lv_aload_n C.x C.b dX10_readsCompare_127 rfl (lv_at hl 1 rfl) ?_
    refine lv_iconst (v := 1) C.x C.b dX10_readsCompare_128 (by decide) ?_
    refine tw_call (y := yX10_fail) (bytes := cX10_fail) (maxL := 2) (fun v => some (.int v)) [.int 1] (fun _ => True)  C hw XB.tt (fun _ _ _ => trivial) hσ hS hl.1 h (fun vv ss ee => kT_fail l g A 1 σ vv ss ee) (cwV 1 C.t (lw_V q2128 q2130 qs62 q159 q2131) rfl rfl rfl (by decide +kernel) ⟨Nat.le_trans (Nat.le_of_ble_eq_true rfl) hRf, Nat.le_trans (Nat.le_of_ble_eq_true rfl) hRl⟩) rfl rfl (Nat.le_of_ble_eq_true rfl) dX10_readsCompare_129 (fun v_8 σ_9 H locs h hσ hS => ?_)
    exact tw_zret C hσ hS h dX10_readsCompare_132

theorem wT_readsCompare_37 {z : Int32 × twS} (C : CX p m meth c s args cX10_readsCompare 3 (some .boolean) RX10) (hw : WKt twL g A s s.heap) (hRf : 4 ≤ R.frames) (hRl : 90 ≤ R.locals) : ∀ (s0 : Int32) (σ : twS) (H : Heap) (locs : List Loc) (ls : Array Slot), bT_readsCompare_37 s0 σ = some z → TI g A σ H → va_S A s.heap H locs → lv_has ls 3 [(0, .ref g.2.2.2.1)] → W p l e R s m args below meth c H locs 0 0 (MQ below (TQ g A (some (.int z.1)) z.2) args s 0 0 A) (F0 m 37 ls [.int s0]) := by
  intro s0 σ H locs ls h hσ hS hl
  unfold bT_readsCompare_37 at h
  refine lv_istore_n (lv' := [(1, .int s0), (0, .ref g.2.2.2.1)]) C.x C.b dX10_readsCompare_37 rfl hl (by decide) rfl (fun ls hl => ?_)
  refine lv_aload_n C.x C.b dX10_readsCompare_38 rfl (lv_at hl 1 rfl) ?_
  refine lv_iload_n C.x C.b dX10_readsCompare_39 rfl (lv_at hl 0 rfl) ?_
  refine tw_call (y := yX10_isFact) (bytes := cX10_isFact) (maxL := 2) (fun v => some (.int v)) [.int s0] (fun _ => True)  C hw XB.tt (fun _ _ _ => trivial) hσ hS hl.1 h (fun vv ss ee => kT_isFact l g A s0 σ vv ss ee) (cwV 1 C.t (lw_V q2183 q2185 qs73 q159 q2186) rfl rfl rfl (by decide +kernel) ⟨Nat.le_trans (Nat.le_of_ble_eq_true rfl) hRf, Nat.le_trans (Nat.le_of_ble_eq_true rfl) hRl⟩) rfl rfl (Nat.le_of_ble_eq_true rfl) dX10_readsCompare_40 (fun v_1 σ_2 H locs h hσ hS => ?_)
  refine lv_if_ne (tgt := 52) C.x C.b dX10_readsCompare_43 (by decide) (fun c_3 => ?_) (fun c_3 => ?_)
  · have h := iN c_3 h
    refine lv_aload_n C.x C.b dX10_readsCompare_52 rfl (lv_at hl 1 rfl) ?_
    refine tw_gf22 C hw hσ q2237 dX10_readsCompare_53 ?_
    refine lv_bipush (v := 12) C.x C.b dX10_readsCompare_56 (by decide) ?_
    refine lv_icmp_ne (tgt := 67) C.x C.b dX10_readsCompare_58 (by decide) (fun c_4 => ?_) (fun c_4 => ?_)
    · have h := iN c_4 h
      refine lv_aload_n C.x C.b dX10_readsCompare_67 rfl (lv_at hl 1 rfl) ?_
      refine lv_dup C.x C.b dX10_readsCompare_68 rfl ?_
      refine tw_gf22 C hw hσ q2237 dX10_readsCompare_69 ?_
      refine lv_iconst (v := 1) C.x C.b dX10_readsCompare_72 (by decide) ?_
      refine lv_iadd C.x C.b dX10_readsCompare_73 ?_
      refine tw_pf22 C hw hσ hS q2237 dX10_readsCompare_74 (fun H locs hσ hS => ?_)
      obtain ⟨σ_5, e_, h⟩ := nm_s h
      rw [← e_] at hσ
      clear e_
      refine lv_aload_n C.x C.b dX10_readsCompare_77 rfl (lv_at hl 1 rfl) ?_
      refine tw_call (y := yX10_next) (bytes := cX10_next) (maxL := 2) (fun _ => none) [] (fun _ => True)  C hw XB.tt (fun _ _ _ => trivial) hσ hS hl.1 h (fun vv ss ee => kT_next l g A σ_5 vv ss ee) (cwV 0 C.t (lw_V q2104 q2106 qs57 q159 q2107) rfl rfl rfl (by decide +kernel) ⟨Nat.le_trans (Nat.le_of_ble_eq_true rfl) hRf, Nat.le_trans (Nat.le_of_ble_eq_true rfl) hRl⟩) rfl rfl (Nat.le_of_ble_eq_true rfl) dX10_readsCompare_78 (fun _ σ_6 H locs h hσ hS => ?_)
      refine lv_aload_n C.x C.b dX10_readsCompare_81 rfl (lv_at hl 1 rfl) ?_
      refine tw_gf16 C hw hσ q2231 dX10_readsCompare_82 ?_
      refine lv_bipush (v := 61) C.x C.b dX10_readsCompare_85 (by decide) ?_
      refine lv_icmp_ne (tgt := 94) C.x C.b dX10_readsCompare_87 (by decide) (fun c_7 => ?_) (fun c_7 => ?_)
      · have h := iN c_7 h
        refine lv_aload_n C.x C.b dX10_readsCompare_94 rfl (lv_at hl 1 rfl) ?_
        refine tw_gf16 C hw hσ q2231 dX10_readsCompare_95 ?_
        refine lv_bipush (v := 60) C.x C.b dX10_readsCompare_98 (by decide) ?_
        refine lv_icmp_ne (tgt := 107) C.x C.b dX10_readsCompare_100 (by decide) (fun c_8 => ?_) (fun c_8 => ?_)
        · have h := iN c_8 h
          refine lv_aload_n C.x C.b dX10_readsCompare_107 rfl (lv_at hl 1 rfl) ?_
          refine tw_gf16 C hw hσ q2231 dX10_readsCompare_108 ?_
          refine lv_bipush (v := 62) C.x C.b dX10_readsCompare_111 (by decide) ?_
          refine lv_icmp_ne (tgt := 120) C.x C.b dX10_readsCompare_113 (by decide) (fun c_9 => ?_) (fun c_9 => ?_)
          · have h := iN c_9 h
            refine lv_iconst (v := -1) C.x C.b dX10_readsCompare_120 (by decide) ?_
            exact wT_readsCompare_121 C hw hRf hRl _ _ _ _ _ _ h hσ hS (lv_sub hl [1, 0] rfl)
          · have h := ip c_9 h
            refine lv_iconst (v := 2) C.x C.b dX10_readsCompare_116 (by decide) ?_
            refine lv_goto (tgt := 121) C.x C.b dX10_readsCompare_117 (by decide) ?_
            exact wT_readsCompare_121 C hw hRf hRl _ _ _ _ _ _ h hσ hS (lv_sub hl [1, 0] rfl)
        · have h := ip c_8 h
          refine lv_iconst (v := 1) C.x C.b dX10_readsCompare_103 (by decide) ?_
          refine lv_goto (tgt := 121) C.x C.b dX10_readsCompare_104 (by decide) ?_
          exact wT_readsCompare_121 C hw hRf hRl _ _ _ _ _ _ h hσ hS (lv_sub hl [1, 0] rfl)
      · have h := ip c_7 h
        refine lv_iconst (v := 0) C.x C.b dX10_readsCompare_90 (by decide) ?_
        refine lv_goto (tgt := 121) C.x C.b dX10_readsCompare_91 (by decide) ?_
        exact wT_readsCompare_121 C hw hRf hRl _ _ _ _ _ _ h hσ hS (lv_sub hl [1, 0] rfl)
    · have h := ip c_4 h
      refine lv_aload_n C.x C.b dX10_readsCompare_61 rfl (lv_at hl 1 rfl) ?_
      refine lv_iconst (v := 4) C.x C.b dX10_readsCompare_62 (by decide) ?_
      refine tw_call (y := yX10_fail) (bytes := cX10_fail) (maxL := 2) (fun v => some (.int v)) [.int 4] (fun _ => True)  C hw XB.tt (fun _ _ _ => trivial) hσ hS hl.1 h (fun vv ss ee => kT_fail l g A 4 σ_2 vv ss ee) (cwV 1 C.t (lw_V q2128 q2130 qs62 q159 q2131) rfl rfl rfl (by decide +kernel) ⟨Nat.le_trans (Nat.le_of_ble_eq_true rfl) hRf, Nat.le_trans (Nat.le_of_ble_eq_true rfl) hRl⟩) rfl rfl (Nat.le_of_ble_eq_true rfl) dX10_readsCompare_63 (fun v_10 σ_11 H locs h hσ hS => ?_)
      exact tw_zret C hσ hS h dX10_readsCompare_66
  · have h := ip c_3 h
    refine lv_aload_n C.x C.b dX10_readsCompare_46 rfl (lv_at hl 1 rfl) ?_
    refine lv_iconst (v := 1) C.x C.b dX10_readsCompare_47 (by decide) ?_
    refine tw_call (y := yX10_fail) (bytes := cX10_fail) (maxL := 2) (fun v => some (.int v)) [.int 1] (fun _ => True)  C hw XB.tt (fun _ _ _ => trivial) hσ hS hl.1 h (fun vv ss ee => kT_fail l g A 1 σ_2 vv ss ee) (cwV 1 C.t (lw_V q2128 q2130 qs62 q159 q2131) rfl rfl rfl (by decide +kernel) ⟨Nat.le_trans (Nat.le_of_ble_eq_true rfl) hRf, Nat.le_trans (Nat.le_of_ble_eq_true rfl) hRl⟩) rfl rfl (Nat.le_of_ble_eq_true rfl) dX10_readsCompare_48 (fun v_12 σ_13 H locs h hσ hS => ?_)
    exact tw_zret C hσ hS h dX10_readsCompare_51

theorem wT_readsCompare_36 {z : Int32 × twS} (C : CX p m meth c s args cX10_readsCompare 3 (some .boolean) RX10) (hw : WKt twL g A s s.heap) (hRf : 4 ≤ R.frames) (hRl : 90 ≤ R.locals) : ∀ (σ : twS) (H : Heap) (locs : List Loc) (ls : Array Slot), bT_readsCompare_36 σ = some z → TI g A σ H → va_S A s.heap H locs → lv_has ls 3 [(0, .ref g.2.2.2.1)] → W p l e R s m args below meth c H locs 0 0 (MQ below (TQ g A (some (.int z.1)) z.2) args s 0 0 A) (F0 m 36 ls []) := by
  intro σ H locs ls h hσ hS hl
  unfold bT_readsCompare_36 at h
  refine lv_iconst (v := -1) C.x C.b dX10_readsCompare_36 (by decide) ?_
  exact wT_readsCompare_37 C hw hRf hRl _ _ _ _ _ h hσ hS (lv_sub hl [0] rfl)

theorem kT_readsCompare (l : Launch) (g : twG) (A : Nat → Prop) (σ : twS) (v : Int32) (σ1 : twS) (h : mT_readsCompare σ = some (v, σ1)) : Met l yX10_readsCompare (ws_ yX10_readsCompare cX10_readsCompare 3 (some .boolean)) ({ frames := 4, cells := 0, slots := 0, locals := 90 }) (TPc twL g A [.ref g.2.2.2.1] (fun _ => True) σ) (TQ g A (some (.int v)) σ1) 0 0 A := by
  refine Met.ofW (cc := cX10_readsCompare) (maxL := 3) (ret := (some .boolean)) (by decide) rfl ?_
  intro p e s m args below meth c s₁ B hml hv
  obtain ⟨rfl, hw, hX, hσ⟩ := hv
  have hts := atoms_spec (ws := (ws_ yX10_readsCompare cX10_readsCompare 3 (some .boolean))) B.pre
  have C : CX p m meth c s ([.ref g.2.2.2.1] : List Value).toArray cX10_readsCompare 3 (some .boolean) RX10 := ⟨⟨B.exec, B.bytes, hml, findClass_of_methodNamed B.named, fun w h => hts w (List.mem_cons_of_mem _ h)⟩, B.returns, B.notSynchronized⟩
  have hRf : 4 ≤ (headSpec (ws_ yX10_readsCompare cX10_readsCompare 3 (some .boolean)) ({ frames := 4, cells := 0, slots := 0, locals := 90 })).room.frames := Nat.le_refl _
  have hRl : 90 ≤ (headSpec (ws_ yX10_readsCompare cX10_readsCompare 3 (some .boolean)) ({ frames := 4, cells := 0, slots := 0, locals := 90 })).room.locals := Nat.le_refl _
  generalize (headSpec (ws_ yX10_readsCompare cX10_readsCompare 3 (some .boolean)) ({ frames := 4, cells := 0, slots := 0, locals := 90 })).room = R at hRf hRl ⊢
  have hS : va_S A s.heap s.heap [] := va_S.rf
  have hl := lv_entry ([.ref g.2.2.2.1]) (n := 3) (Nat.le_of_ble_eq_true rfl)
  rw [lg_entry_eq]
  generalize (lg_sl ([.ref g.2.2.2.1]) ++ List.replicate (3 - (lg_sl ([.ref g.2.2.2.1])).length) Slot.unset).toArray = ls at hl ⊢
  have hl : lv_has ls 3 [(0, .ref g.2.2.2.1)] := hl
  obtain ⟨z, hz⟩ : ∃ z, z = (v, σ1) := ⟨_, rfl⟩
  rw [← hz] at h
  rw [show v = z.1 by rw [hz], show σ1 = z.2 by rw [hz]]
  clear hz v σ1
  unfold mT_readsCompare at h
  refine lv_aload_n C.x C.b dX10_readsCompare_0 rfl (lv_at hl 0 rfl) ?_
  refine tw_gf16 C hw hσ q2231 dX10_readsCompare_1 ?_
  refine lv_iconst (v := 1) C.x C.b dX10_readsCompare_4 (by decide) ?_
  refine lv_icmp_ne (tgt := 36) C.x C.b dX10_readsCompare_5 (by decide) (fun c_1 => ?_) (fun c_1 => ?_)
  · have h := iN c_1 h
    exact wT_readsCompare_36 C hw hRf hRl _ _ _ _ h hσ hS (lv_sub hl [0] rfl)
  · have h := ip c_1 h
    refine lv_aload_n C.x C.b dX10_readsCompare_8 rfl (lv_at hl 0 rfl) ?_
    refine tw_gf18 C hw hσ q2233 dX10_readsCompare_9 ?_
    refine lv_aload_n C.x C.b dX10_readsCompare_12 rfl (lv_at hl 0 rfl) ?_
    refine tw_gf17 C hw hσ q2232 dX10_readsCompare_13 ?_
    refine lv_isub C.x C.b dX10_readsCompare_16 ?_
    refine lv_iconst (v := 1) C.x C.b dX10_readsCompare_17 (by decide) ?_
    refine lv_icmp_ne (tgt := 36) C.x C.b dX10_readsCompare_18 (by decide) (fun c_2 => ?_) (fun c_2 => ?_)
    · have h := iN c_2 h
      exact wT_readsCompare_36 C hw hRf hRl _ _ _ _ h hσ hS (lv_sub hl [0] rfl)
    · have h := ip c_2 h
      refine lv_aload_n C.x C.b dX10_readsCompare_21 rfl (lv_at hl 0 rfl) ?_
      refine tw_gf8 C hw hσ q2223 dX10_readsCompare_22 ?_
      refine lv_aload_n C.x C.b dX10_readsCompare_25 rfl (lv_at hl 0 rfl) ?_
      refine tw_gf17 C hw hσ q2232 dX10_readsCompare_26 ?_
      refine tw_ld8 C hw hσ h dX10_readsCompare_29 (fun v_3 h => ?_)
      refine lv_bipush (v := 97) C.x C.b dX10_readsCompare_30 (by decide) ?_
      refine lv_isub C.x C.b dX10_readsCompare_32 ?_
      refine lv_goto (tgt := 37) C.x C.b dX10_readsCompare_33 (by decide) ?_
      exact wT_readsCompare_37 C hw hRf hRl _ _ _ _ _ h hσ hS (lv_sub hl [0] rfl)

theorem wT_readsTerm_9 {fF lF : Nat} {z : Int32 × twS} (C : CX p m meth c s args cX10_readsTerm 1 (some .boolean) RX10) (hw : WKt twL g A s s.heap) (hRf : fF + 6 ≤ R.frames) (hRl : lF + 174 ≤ R.locals) {F : twS → Option (Int32 × twS)} (hF : ∀ (σ : twS) (v : Int32) (σ1 : twS), F σ = some (v, σ1) → Met l yX10_readsFactor (ws_ yX10_readsFactor cX10_readsFactor 1 (some .boolean)) ({ frames := fF, cells := 0, slots := 0, locals := lF }) (TPc twL g A [.ref g.2.2.2.1] (fun _ => True) σ) (TQ g A (some (.int v)) σ1) 0 0 A) : ∀ (n : Nat) (σ : twS) (H : Heap) (locs : List Loc) (ls : Array Slot), bT_readsTerm_9 F n σ = some z → TI g A σ H → va_S A s.heap H locs → lv_has ls 1 [(0, .ref g.2.2.2.1)] → W p l e R s m args below meth c H locs 0 0 (MQ below (TQ g A (some (.int z.1)) z.2) args s 0 0 A) (F0 m 9 ls []) := by
  intro n
  induction n with
  | zero =>
    intro σ H locs ls h
    cases h
  | succ n ih =>
    intro σ H locs ls h hσ hS hl
    rw [bT_readsTerm_9] at h
    refine lv_aload_n C.x C.b dX10_readsTerm_9 rfl (lv_at hl 0 rfl) ?_
    obtain ⟨aS_210, rS_210, kS_210⟩ := hw.2.2 _ (List.mem_of_getElem? (i := 6) (rfl : twL[6]? = some (210, "and", tS_210)))
    refine va_ldcS C.x C.b C.o rS_210 dX10_readsTerm_10 ?_
    refine tw_call (y := yX10_says) (bytes := cX10_says) (maxL := 3) (fun v => some (.int v)) [.ref aS_210] (fun U => StrC A tS_210 aS_210 U U.heap)  C hw (XB.str A _ _) (fun U hU hW => StrC.at kS_210 hS hU hW) hσ hS hl.1 h (fun vv ss ee => kT_says l g A tS_210 aS_210 σ vv ss ee) (cwV 1 C.t (lw_V q2124 q2126 qs61 q159 q2127) rfl rfl rfl (by decide +kernel) ⟨Nat.le_trans (Nat.le_add_left_of_le (Nat.le_of_ble_eq_true rfl)) hRf, Nat.le_trans (Nat.le_add_left_of_le (Nat.le_of_ble_eq_true rfl)) hRl⟩) rfl rfl (Nat.le_of_ble_eq_true rfl) dX10_readsTerm_12 (fun v_1 σ_2 H locs h hσ hS => ?_)
    refine lv_if_eq (tgt := 39) C.x C.b dX10_readsTerm_15 (by decide) (fun c_3 => ?_) (fun c_3 => ?_)
    · have h := ip c_3 h
      refine lv_iconst (v := 1) C.x C.b dX10_readsTerm_39 (by decide) ?_
      exact tw_zret C hσ hS h dX10_readsTerm_40
    · have h := iN c_3 h
      refine lv_aload_n C.x C.b dX10_readsTerm_18 rfl (lv_at hl 0 rfl) ?_
      refine tw_call (y := yX10_next) (bytes := cX10_next) (maxL := 2) (fun _ => none) [] (fun _ => True)  C hw XB.tt (fun _ _ _ => trivial) hσ hS hl.1 h (fun vv ss ee => kT_next l g A σ_2 vv ss ee) (cwV 0 C.t (lw_V q2104 q2106 qs57 q159 q2107) rfl rfl rfl (by decide +kernel) ⟨Nat.le_trans (Nat.le_add_left_of_le (Nat.le_of_ble_eq_true rfl)) hRf, Nat.le_trans (Nat.le_add_left_of_le (Nat.le_of_ble_eq_true rfl)) hRl⟩) rfl rfl (Nat.le_of_ble_eq_true rfl) dX10_readsTerm_19 (fun _ σ_4 H locs h hσ hS => ?_)
      refine lv_aload_n C.x C.b dX10_readsTerm_22 rfl (lv_at hl 0 rfl) ?_
      refine tw_call (y := yX10_readsFactor) (bytes := cX10_readsFactor) (maxL := 1) (fun v => some (.int v)) [] (fun _ => True)  C hw XB.tt (fun _ _ _ => trivial) hσ hS hl.1 h (fun vv ss ee => hF σ_4 vv ss ee) (cwV 0 C.t (lw_V q2169 q2171 qs70 q159 q2172) rfl rfl rfl (by decide +kernel) ⟨Nat.le_trans (show fF + 1 ≤ fF + 6 by omega) hRf, Nat.le_trans (show 8 + (1 + 11) + (lF) ≤ lF + 174 by omega) hRl⟩) rfl rfl (Nat.le_of_ble_eq_true rfl) dX10_readsTerm_23 (fun v_5 σ_6 H locs h hσ hS => ?_)
      refine lv_if_ne (tgt := 31) C.x C.b dX10_readsTerm_26 (by decide) (fun c_7 => ?_) (fun c_7 => ?_)
      · have h := iN c_7 h
        refine lv_aload_n C.x C.b dX10_readsTerm_31 rfl (lv_at hl 0 rfl) ?_
        refine lv_iconst (v := 2) C.x C.b dX10_readsTerm_32 (by decide) ?_
        refine tw_call (y := yX10_emits) (bytes := cX10_emits) (maxL := 2) (fun _ => none) [.int 2] (fun _ => True)  C hw XB.tt (fun _ _ _ => trivial) hσ hS hl.1 h (fun vv ss ee => kT_emits l g A 2 σ_6 vv ss ee) (cwV 1 C.t (lw_V q2174 q2176 qs71 q159 q2177) rfl rfl rfl (by decide +kernel) ⟨Nat.le_trans (Nat.le_add_left_of_le (Nat.le_of_ble_eq_true rfl)) hRf, Nat.le_trans (Nat.le_add_left_of_le (Nat.le_of_ble_eq_true rfl)) hRl⟩) rfl rfl (Nat.le_of_ble_eq_true rfl) dX10_readsTerm_33 (fun _ σ_8 H locs h hσ hS => ?_)
        refine lv_goto (tgt := 9) C.x C.b dX10_readsTerm_36 (by decide) ?_
        exact ih _ _ _ _ h hσ hS (lv_sub hl [0] rfl)
      · have h := ip c_7 h
        refine lv_iconst (v := 0) C.x C.b dX10_readsTerm_29 (by decide) ?_
        exact tw_zret C hσ hS h dX10_readsTerm_30

theorem kT_readsTerm (l : Launch) (g : twG) (A : Nat → Prop) {F : twS → Option (Int32 × twS)} {fF lF : Nat} (hF : ∀ (σ : twS) (v : Int32) (σ1 : twS), F σ = some (v, σ1) → Met l yX10_readsFactor (ws_ yX10_readsFactor cX10_readsFactor 1 (some .boolean)) ({ frames := fF, cells := 0, slots := 0, locals := lF }) (TPc twL g A [.ref g.2.2.2.1] (fun _ => True) σ) (TQ g A (some (.int v)) σ1) 0 0 A) (σ : twS) (v : Int32) (σ1 : twS) (h : mT_readsTerm F σ = some (v, σ1)) : Met l yX10_readsTerm (ws_ yX10_readsTerm cX10_readsTerm 1 (some .boolean)) ({ frames := fF + 6, cells := 0, slots := 0, locals := lF + 174 }) (TPc twL g A [.ref g.2.2.2.1] (fun _ => True) σ) (TQ g A (some (.int v)) σ1) 0 0 A := by
  refine Met.ofW (cc := cX10_readsTerm) (maxL := 1) (ret := (some .boolean)) (by decide) rfl ?_
  intro p e s m args below meth c s₁ B hml hv
  obtain ⟨rfl, hw, hX, hσ⟩ := hv
  have hts := atoms_spec (ws := (ws_ yX10_readsTerm cX10_readsTerm 1 (some .boolean))) B.pre
  have C : CX p m meth c s ([.ref g.2.2.2.1] : List Value).toArray cX10_readsTerm 1 (some .boolean) RX10 := ⟨⟨B.exec, B.bytes, hml, findClass_of_methodNamed B.named, fun w h => hts w (List.mem_cons_of_mem _ h)⟩, B.returns, B.notSynchronized⟩
  have hRf : fF + 6 ≤ (headSpec (ws_ yX10_readsTerm cX10_readsTerm 1 (some .boolean)) ({ frames := fF + 6, cells := 0, slots := 0, locals := lF + 174 })).room.frames := Nat.le_refl _
  have hRl : lF + 174 ≤ (headSpec (ws_ yX10_readsTerm cX10_readsTerm 1 (some .boolean)) ({ frames := fF + 6, cells := 0, slots := 0, locals := lF + 174 })).room.locals := Nat.le_refl _
  generalize (headSpec (ws_ yX10_readsTerm cX10_readsTerm 1 (some .boolean)) ({ frames := fF + 6, cells := 0, slots := 0, locals := lF + 174 })).room = R at hRf hRl ⊢
  have hS : va_S A s.heap s.heap [] := va_S.rf
  have hl := lv_entry ([.ref g.2.2.2.1]) (n := 1) (Nat.le_of_ble_eq_true rfl)
  rw [lg_entry_eq]
  generalize (lg_sl ([.ref g.2.2.2.1]) ++ List.replicate (1 - (lg_sl ([.ref g.2.2.2.1])).length) Slot.unset).toArray = ls at hl ⊢
  have hl : lv_has ls 1 [(0, .ref g.2.2.2.1)] := hl
  obtain ⟨z, hz⟩ : ∃ z, z = (v, σ1) := ⟨_, rfl⟩
  rw [← hz] at h
  rw [show v = z.1 by rw [hz], show σ1 = z.2 by rw [hz]]
  clear hz v σ1
  unfold mT_readsTerm at h
  refine lv_aload_n C.x C.b dX10_readsTerm_0 rfl (lv_at hl 0 rfl) ?_
  refine tw_call (y := yX10_readsFactor) (bytes := cX10_readsFactor) (maxL := 1) (fun v => some (.int v)) [] (fun _ => True)  C hw XB.tt (fun _ _ _ => trivial) hσ hS hl.1 h (fun vv ss ee => hF σ vv ss ee) (cwV 0 C.t (lw_V q2169 q2171 qs70 q159 q2172) rfl rfl rfl (by decide +kernel) ⟨Nat.le_trans (show fF + 1 ≤ fF + 6 by omega) hRf, Nat.le_trans (show 8 + (1 + 11) + (lF) ≤ lF + 174 by omega) hRl⟩) rfl rfl (Nat.le_of_ble_eq_true rfl) dX10_readsTerm_1 (fun v_1 σ_2 H locs h hσ hS => ?_)
  refine lv_if_ne (tgt := 9) C.x C.b dX10_readsTerm_4 (by decide) (fun c_3 => ?_) (fun c_3 => ?_)
  · have h := iN c_3 h
    exact wT_readsTerm_9 C hw hRf hRl hF _ _ _ _ _ h hσ hS (lv_sub hl [0] rfl)
  · have h := ip c_3 h
    refine lv_iconst (v := 0) C.x C.b dX10_readsTerm_7 (by decide) ?_
    exact tw_zret C hσ hS h dX10_readsTerm_8

theorem wT_readsGuard_9 {fF lF : Nat} {z : Int32 × twS} (C : CX p m meth c s args cX10_readsGuard 1 (some .boolean) RX10) (hw : WKt twL g A s s.heap) (hRf : fF + 7 ≤ R.frames) (hRl : lF + 194 ≤ R.locals) {F : twS → Option (Int32 × twS)} (hF : ∀ (σ : twS) (v : Int32) (σ1 : twS), F σ = some (v, σ1) → Met l yX10_readsFactor (ws_ yX10_readsFactor cX10_readsFactor 1 (some .boolean)) ({ frames := fF, cells := 0, slots := 0, locals := lF }) (TPc twL g A [.ref g.2.2.2.1] (fun _ => True) σ) (TQ g A (some (.int v)) σ1) 0 0 A) : ∀ (n : Nat) (σ : twS) (H : Heap) (locs : List Loc) (ls : Array Slot), bT_readsGuard_9 F n σ = some z → TI g A σ H → va_S A s.heap H locs → lv_has ls 1 [(0, .ref g.2.2.2.1)] → W p l e R s m args below meth c H locs 0 0 (MQ below (TQ g A (some (.int z.1)) z.2) args s 0 0 A) (F0 m 9 ls []) := by
  intro n
  induction n with
  | zero =>
    intro σ H locs ls h
    cases h
  | succ n ih =>
    intro σ H locs ls h hσ hS hl
    rw [bT_readsGuard_9] at h
    refine lv_aload_n C.x C.b dX10_readsGuard_9 rfl (lv_at hl 0 rfl) ?_
    obtain ⟨aS_215, rS_215, kS_215⟩ := hw.2.2 _ (List.mem_of_getElem? (i := 7) (rfl : twL[7]? = some (215, "or", tS_215)))
    refine va_ldcS C.x C.b C.o rS_215 dX10_readsGuard_10 ?_
    refine tw_call (y := yX10_says) (bytes := cX10_says) (maxL := 3) (fun v => some (.int v)) [.ref aS_215] (fun U => StrC A tS_215 aS_215 U U.heap)  C hw (XB.str A _ _) (fun U hU hW => StrC.at kS_215 hS hU hW) hσ hS hl.1 h (fun vv ss ee => kT_says l g A tS_215 aS_215 σ vv ss ee) (cwV 1 C.t (lw_V q2124 q2126 qs61 q159 q2127) rfl rfl rfl (by decide +kernel) ⟨Nat.le_trans (Nat.le_add_left_of_le (Nat.le_of_ble_eq_true rfl)) hRf, Nat.le_trans (Nat.le_add_left_of_le (Nat.le_of_ble_eq_true rfl)) hRl⟩) rfl rfl (Nat.le_of_ble_eq_true rfl) dX10_readsGuard_12 (fun v_1 σ_2 H locs h hσ hS => ?_)
    refine lv_if_eq (tgt := 39) C.x C.b dX10_readsGuard_15 (by decide) (fun c_3 => ?_) (fun c_3 => ?_)
    · have h := ip c_3 h
      refine lv_iconst (v := 1) C.x C.b dX10_readsGuard_39 (by decide) ?_
      exact tw_zret C hσ hS h dX10_readsGuard_40
    · have h := iN c_3 h
      refine lv_aload_n C.x C.b dX10_readsGuard_18 rfl (lv_at hl 0 rfl) ?_
      refine tw_call (y := yX10_next) (bytes := cX10_next) (maxL := 2) (fun _ => none) [] (fun _ => True)  C hw XB.tt (fun _ _ _ => trivial) hσ hS hl.1 h (fun vv ss ee => kT_next l g A σ_2 vv ss ee) (cwV 0 C.t (lw_V q2104 q2106 qs57 q159 q2107) rfl rfl rfl (by decide +kernel) ⟨Nat.le_trans (Nat.le_add_left_of_le (Nat.le_of_ble_eq_true rfl)) hRf, Nat.le_trans (Nat.le_add_left_of_le (Nat.le_of_ble_eq_true rfl)) hRl⟩) rfl rfl (Nat.le_of_ble_eq_true rfl) dX10_readsGuard_19 (fun _ σ_4 H locs h hσ hS => ?_)
      refine lv_aload_n C.x C.b dX10_readsGuard_22 rfl (lv_at hl 0 rfl) ?_
      refine tw_call (y := yX10_readsTerm) (bytes := cX10_readsTerm) (maxL := 1) (fun v => some (.int v)) [] (fun _ => True)  C hw XB.tt (fun _ _ _ => trivial) hσ hS hl.1 h (fun vv ss ee => kT_readsTerm l g A hF σ_4 vv ss ee) (cwV 0 C.t (lw_V q2165 q2167 qs69 q159 q2168) rfl rfl rfl (by decide +kernel) ⟨Nat.le_trans (show fF + 6 + 1 ≤ fF + 7 by omega) hRf, Nat.le_trans (show 8 + (1 + 11) + (lF + 174) ≤ lF + 194 by omega) hRl⟩) rfl rfl (Nat.le_of_ble_eq_true rfl) dX10_readsGuard_23 (fun v_5 σ_6 H locs h hσ hS => ?_)
      refine lv_if_ne (tgt := 31) C.x C.b dX10_readsGuard_26 (by decide) (fun c_7 => ?_) (fun c_7 => ?_)
      · have h := iN c_7 h
        refine lv_aload_n C.x C.b dX10_readsGuard_31 rfl (lv_at hl 0 rfl) ?_
        refine lv_iconst (v := 3) C.x C.b dX10_readsGuard_32 (by decide) ?_
        refine tw_call (y := yX10_emits) (bytes := cX10_emits) (maxL := 2) (fun _ => none) [.int 3] (fun _ => True)  C hw XB.tt (fun _ _ _ => trivial) hσ hS hl.1 h (fun vv ss ee => kT_emits l g A 3 σ_6 vv ss ee) (cwV 1 C.t (lw_V q2174 q2176 qs71 q159 q2177) rfl rfl rfl (by decide +kernel) ⟨Nat.le_trans (Nat.le_add_left_of_le (Nat.le_of_ble_eq_true rfl)) hRf, Nat.le_trans (Nat.le_add_left_of_le (Nat.le_of_ble_eq_true rfl)) hRl⟩) rfl rfl (Nat.le_of_ble_eq_true rfl) dX10_readsGuard_33 (fun _ σ_8 H locs h hσ hS => ?_)
        refine lv_goto (tgt := 9) C.x C.b dX10_readsGuard_36 (by decide) ?_
        exact ih _ _ _ _ h hσ hS (lv_sub hl [0] rfl)
      · have h := ip c_7 h
        refine lv_iconst (v := 0) C.x C.b dX10_readsGuard_29 (by decide) ?_
        exact tw_zret C hσ hS h dX10_readsGuard_30

theorem kT_readsGuard (l : Launch) (g : twG) (A : Nat → Prop) {F : twS → Option (Int32 × twS)} {fF lF : Nat} (hF : ∀ (σ : twS) (v : Int32) (σ1 : twS), F σ = some (v, σ1) → Met l yX10_readsFactor (ws_ yX10_readsFactor cX10_readsFactor 1 (some .boolean)) ({ frames := fF, cells := 0, slots := 0, locals := lF }) (TPc twL g A [.ref g.2.2.2.1] (fun _ => True) σ) (TQ g A (some (.int v)) σ1) 0 0 A) (σ : twS) (v : Int32) (σ1 : twS) (h : mT_readsGuard F σ = some (v, σ1)) : Met l yX10_readsGuard (ws_ yX10_readsGuard cX10_readsGuard 1 (some .boolean)) ({ frames := fF + 7, cells := 0, slots := 0, locals := lF + 194 }) (TPc twL g A [.ref g.2.2.2.1] (fun _ => True) σ) (TQ g A (some (.int v)) σ1) 0 0 A := by
  refine Met.ofW (cc := cX10_readsGuard) (maxL := 1) (ret := (some .boolean)) (by decide) rfl ?_
  intro p e s m args below meth c s₁ B hml hv
  obtain ⟨rfl, hw, hX, hσ⟩ := hv
  have hts := atoms_spec (ws := (ws_ yX10_readsGuard cX10_readsGuard 1 (some .boolean))) B.pre
  have C : CX p m meth c s ([.ref g.2.2.2.1] : List Value).toArray cX10_readsGuard 1 (some .boolean) RX10 := ⟨⟨B.exec, B.bytes, hml, findClass_of_methodNamed B.named, fun w h => hts w (List.mem_cons_of_mem _ h)⟩, B.returns, B.notSynchronized⟩
  have hRf : fF + 7 ≤ (headSpec (ws_ yX10_readsGuard cX10_readsGuard 1 (some .boolean)) ({ frames := fF + 7, cells := 0, slots := 0, locals := lF + 194 })).room.frames := Nat.le_refl _
  have hRl : lF + 194 ≤ (headSpec (ws_ yX10_readsGuard cX10_readsGuard 1 (some .boolean)) ({ frames := fF + 7, cells := 0, slots := 0, locals := lF + 194 })).room.locals := Nat.le_refl _
  generalize (headSpec (ws_ yX10_readsGuard cX10_readsGuard 1 (some .boolean)) ({ frames := fF + 7, cells := 0, slots := 0, locals := lF + 194 })).room = R at hRf hRl ⊢
  have hS : va_S A s.heap s.heap [] := va_S.rf
  have hl := lv_entry ([.ref g.2.2.2.1]) (n := 1) (Nat.le_of_ble_eq_true rfl)
  rw [lg_entry_eq]
  generalize (lg_sl ([.ref g.2.2.2.1]) ++ List.replicate (1 - (lg_sl ([.ref g.2.2.2.1])).length) Slot.unset).toArray = ls at hl ⊢
  have hl : lv_has ls 1 [(0, .ref g.2.2.2.1)] := hl
  obtain ⟨z, hz⟩ : ∃ z, z = (v, σ1) := ⟨_, rfl⟩
  rw [← hz] at h
  rw [show v = z.1 by rw [hz], show σ1 = z.2 by rw [hz]]
  clear hz v σ1
  unfold mT_readsGuard at h
  refine lv_aload_n C.x C.b dX10_readsGuard_0 rfl (lv_at hl 0 rfl) ?_
  refine tw_call (y := yX10_readsTerm) (bytes := cX10_readsTerm) (maxL := 1) (fun v => some (.int v)) [] (fun _ => True)  C hw XB.tt (fun _ _ _ => trivial) hσ hS hl.1 h (fun vv ss ee => kT_readsTerm l g A hF σ vv ss ee) (cwV 0 C.t (lw_V q2165 q2167 qs69 q159 q2168) rfl rfl rfl (by decide +kernel) ⟨Nat.le_trans (show fF + 6 + 1 ≤ fF + 7 by omega) hRf, Nat.le_trans (show 8 + (1 + 11) + (lF + 174) ≤ lF + 194 by omega) hRl⟩) rfl rfl (Nat.le_of_ble_eq_true rfl) dX10_readsGuard_1 (fun v_1 σ_2 H locs h hσ hS => ?_)
  refine lv_if_ne (tgt := 9) C.x C.b dX10_readsGuard_4 (by decide) (fun c_3 => ?_) (fun c_3 => ?_)
  · have h := iN c_3 h
    exact wT_readsGuard_9 C hw hRf hRl hF _ _ _ _ _ h hσ hS (lv_sub hl [0] rfl)
  · have h := ip c_3 h
    refine lv_iconst (v := 0) C.x C.b dX10_readsGuard_7 (by decide) ?_
    exact tw_zret C hσ hS h dX10_readsGuard_8

theorem kO_readsFactor (l : Launch) (g : twG) (A : Nat → Prop) {F : twS → Option (Int32 × twS)} {fF lF : Nat} (hF : ∀ (σ : twS) (v : Int32) (σ1 : twS), F σ = some (v, σ1) → Met l yX10_readsFactor (ws_ yX10_readsFactor cX10_readsFactor 1 (some .boolean)) ({ frames := fF, cells := 0, slots := 0, locals := lF }) (TPc twL g A [.ref g.2.2.2.1] (fun _ => True) σ) (TQ g A (some (.int v)) σ1) 0 0 A) (σ : twS) (v : Int32) (σ1 : twS) (h : mO_readsFactor F σ = some (v, σ1)) : Met l yX10_readsFactor (ws_ yX10_readsFactor cX10_readsFactor 1 (some .boolean)) ({ frames := fF + 8, cells := 0, slots := 0, locals := lF + 214 }) (TPc twL g A [.ref g.2.2.2.1] (fun _ => True) σ) (TQ g A (some (.int v)) σ1) 0 0 A := by
  refine Met.ofW (cc := cX10_readsFactor) (maxL := 1) (ret := (some .boolean)) (by decide) rfl ?_
  intro p e s m args below meth c s₁ B hml hv
  obtain ⟨rfl, hw, hX, hσ⟩ := hv
  have hts := atoms_spec (ws := (ws_ yX10_readsFactor cX10_readsFactor 1 (some .boolean))) B.pre
  have C : CX p m meth c s ([.ref g.2.2.2.1] : List Value).toArray cX10_readsFactor 1 (some .boolean) RX10 := ⟨⟨B.exec, B.bytes, hml, findClass_of_methodNamed B.named, fun w h => hts w (List.mem_cons_of_mem _ h)⟩, B.returns, B.notSynchronized⟩
  have hRf : fF + 8 ≤ (headSpec (ws_ yX10_readsFactor cX10_readsFactor 1 (some .boolean)) ({ frames := fF + 8, cells := 0, slots := 0, locals := lF + 214 })).room.frames := Nat.le_refl _
  have hRl : lF + 214 ≤ (headSpec (ws_ yX10_readsFactor cX10_readsFactor 1 (some .boolean)) ({ frames := fF + 8, cells := 0, slots := 0, locals := lF + 214 })).room.locals := Nat.le_refl _
  generalize (headSpec (ws_ yX10_readsFactor cX10_readsFactor 1 (some .boolean)) ({ frames := fF + 8, cells := 0, slots := 0, locals := lF + 214 })).room = R at hRf hRl ⊢
  have hS : va_S A s.heap s.heap [] := va_S.rf
  have hl := lv_entry ([.ref g.2.2.2.1]) (n := 1) (Nat.le_of_ble_eq_true rfl)
  rw [lg_entry_eq]
  generalize (lg_sl ([.ref g.2.2.2.1]) ++ List.replicate (1 - (lg_sl ([.ref g.2.2.2.1])).length) Slot.unset).toArray = ls at hl ⊢
  have hl : lv_has ls 1 [(0, .ref g.2.2.2.1)] := hl
  obtain ⟨z, hz⟩ : ∃ z, z = (v, σ1) := ⟨_, rfl⟩
  rw [← hz] at h
  rw [show v = z.1 by rw [hz], show σ1 = z.2 by rw [hz]]
  clear hz v σ1
  unfold mO_readsFactor at h
  refine lv_aload_n C.x C.b dX10_readsFactor_0 rfl (lv_at hl 0 rfl) ?_
  obtain ⟨aS_188, rS_188, kS_188⟩ := hw.2.2 _ (List.mem_of_getElem? (i := 4) (rfl : twL[4]? = some (188, "not", tS_188)))
  refine va_ldcS C.x C.b C.o rS_188 dX10_readsFactor_1 ?_
  refine tw_call (y := yX10_says) (bytes := cX10_says) (maxL := 3) (fun v => some (.int v)) [.ref aS_188] (fun U => StrC A tS_188 aS_188 U U.heap)  C hw (XB.str A _ _) (fun U hU hW => StrC.at kS_188 hS hU hW) hσ hS hl.1 h (fun vv ss ee => kT_says l g A tS_188 aS_188 σ vv ss ee) (cwV 1 C.t (lw_V q2124 q2126 qs61 q159 q2127) rfl rfl rfl (by decide +kernel) ⟨Nat.le_trans (Nat.le_add_left_of_le (Nat.le_of_ble_eq_true rfl)) hRf, Nat.le_trans (Nat.le_add_left_of_le (Nat.le_of_ble_eq_true rfl)) hRl⟩) rfl rfl (Nat.le_of_ble_eq_true rfl) dX10_readsFactor_3 (fun v_1 σ_2 H locs h hσ hS => ?_)
  refine lv_if_eq (tgt := 53) C.x C.b dX10_readsFactor_6 (by decide) (fun c_3 => ?_) (fun c_3 => ?_)
  · have h := ip c_3 h
    refine lv_aload_n C.x C.b dX10_readsFactor_53 rfl (lv_at hl 0 rfl) ?_
    refine tw_gf16 C hw hσ q2231 dX10_readsFactor_54 ?_
    refine lv_bipush (v := 40) C.x C.b dX10_readsFactor_57 (by decide) ?_
    refine lv_icmp_ne (tgt := 120) C.x C.b dX10_readsFactor_59 (by decide) (fun c_4 => ?_) (fun c_4 => ?_)
    · have h := iN c_4 h
      refine lv_aload_n C.x C.b dX10_readsFactor_120 rfl (lv_at hl 0 rfl) ?_
      obtain ⟨aS_205, rS_205, kS_205⟩ := hw.2.2 _ (List.mem_of_getElem? (i := 5) (rfl : twL[5]? = some (205, "always", tS_205)))
      refine va_ldcS C.x C.b C.o rS_205 dX10_readsFactor_121 ?_
      refine tw_call (y := yX10_says) (bytes := cX10_says) (maxL := 3) (fun v => some (.int v)) [.ref aS_205] (fun U => StrC A tS_205 aS_205 U U.heap)  C hw (XB.str A _ _) (fun U hU hW => StrC.at kS_205 hS hU hW) hσ hS hl.1 h (fun vv ss ee => kT_says l g A tS_205 aS_205 σ_2 vv ss ee) (cwV 1 C.t (lw_V q2124 q2126 qs61 q159 q2127) rfl rfl rfl (by decide +kernel) ⟨Nat.le_trans (Nat.le_add_left_of_le (Nat.le_of_ble_eq_true rfl)) hRf, Nat.le_trans (Nat.le_add_left_of_le (Nat.le_of_ble_eq_true rfl)) hRl⟩) rfl rfl (Nat.le_of_ble_eq_true rfl) dX10_readsFactor_123 (fun v_5 σ_6 H locs h hσ hS => ?_)
      refine lv_if_ne (tgt := 134) C.x C.b dX10_readsFactor_126 (by decide) (fun c_7 => ?_) (fun c_7 => ?_)
      · have h := iN c_7 h
        refine lv_aload_n C.x C.b dX10_readsFactor_134 rfl (lv_at hl 0 rfl) ?_
        refine tw_gf22 C hw hσ q2237 dX10_readsFactor_135 ?_
        refine lv_bipush (v := 12) C.x C.b dX10_readsFactor_138 (by decide) ?_
        refine lv_icmp_ne (tgt := 149) C.x C.b dX10_readsFactor_140 (by decide) (fun c_8 => ?_) (fun c_8 => ?_)
        · have h := iN c_8 h
          refine lv_aload_n C.x C.b dX10_readsFactor_149 rfl (lv_at hl 0 rfl) ?_
          refine lv_dup C.x C.b dX10_readsFactor_150 rfl ?_
          refine tw_gf22 C hw hσ q2237 dX10_readsFactor_151 ?_
          refine lv_iconst (v := 1) C.x C.b dX10_readsFactor_154 (by decide) ?_
          refine lv_iadd C.x C.b dX10_readsFactor_155 ?_
          refine tw_pf22 C hw hσ hS q2237 dX10_readsFactor_156 (fun H locs hσ hS => ?_)
          obtain ⟨σ_9, e_, h⟩ := nm_s h
          rw [← e_] at hσ
          clear e_
          refine lv_aload_n C.x C.b dX10_readsFactor_159 rfl (lv_at hl 0 rfl) ?_
          refine tw_call (y := yX10_next) (bytes := cX10_next) (maxL := 2) (fun _ => none) [] (fun _ => True)  C hw XB.tt (fun _ _ _ => trivial) hσ hS hl.1 h (fun vv ss ee => kT_next l g A σ_9 vv ss ee) (cwV 0 C.t (lw_V q2104 q2106 qs57 q159 q2107) rfl rfl rfl (by decide +kernel) ⟨Nat.le_trans (Nat.le_add_left_of_le (Nat.le_of_ble_eq_true rfl)) hRf, Nat.le_trans (Nat.le_add_left_of_le (Nat.le_of_ble_eq_true rfl)) hRl⟩) rfl rfl (Nat.le_of_ble_eq_true rfl) dX10_readsFactor_160 (fun _ σ_10 H locs h hσ hS => ?_)
          refine lv_aload_n C.x C.b dX10_readsFactor_163 rfl (lv_at hl 0 rfl) ?_
          refine lv_iconst (v := 4) C.x C.b dX10_readsFactor_164 (by decide) ?_
          refine tw_call (y := yX10_emits) (bytes := cX10_emits) (maxL := 2) (fun _ => none) [.int 4] (fun _ => True)  C hw XB.tt (fun _ _ _ => trivial) hσ hS hl.1 h (fun vv ss ee => kT_emits l g A 4 σ_10 vv ss ee) (cwV 1 C.t (lw_V q2174 q2176 qs71 q159 q2177) rfl rfl rfl (by decide +kernel) ⟨Nat.le_trans (Nat.le_add_left_of_le (Nat.le_of_ble_eq_true rfl)) hRf, Nat.le_trans (Nat.le_add_left_of_le (Nat.le_of_ble_eq_true rfl)) hRl⟩) rfl rfl (Nat.le_of_ble_eq_true rfl) dX10_readsFactor_165 (fun _ σ_11 H locs h hσ hS => ?_)
          refine lv_iconst (v := 1) C.x C.b dX10_readsFactor_168 (by decide) ?_
          exact tw_zret C hσ hS h dX10_readsFactor_169
        · have h := ip c_8 h
          refine lv_aload_n C.x C.b dX10_readsFactor_143 rfl (lv_at hl 0 rfl) ?_
          refine lv_iconst (v := 4) C.x C.b dX10_readsFactor_144 (by decide) ?_
          refine tw_call (y := yX10_fail) (bytes := cX10_fail) (maxL := 2) (fun v => some (.int v)) [.int 4] (fun _ => True)  C hw XB.tt (fun _ _ _ => trivial) hσ hS hl.1 h (fun vv ss ee => kT_fail l g A 4 σ_6 vv ss ee) (cwV 1 C.t (lw_V q2128 q2130 qs62 q159 q2131) rfl rfl rfl (by decide +kernel) ⟨Nat.le_trans (Nat.le_add_left_of_le (Nat.le_of_ble_eq_true rfl)) hRf, Nat.le_trans (Nat.le_add_left_of_le (Nat.le_of_ble_eq_true rfl)) hRl⟩) rfl rfl (Nat.le_of_ble_eq_true rfl) dX10_readsFactor_145 (fun v_12 σ_13 H locs h hσ hS => ?_)
          exact tw_zret C hσ hS h dX10_readsFactor_148
      · have h := ip c_7 h
        refine lv_aload_n C.x C.b dX10_readsFactor_129 rfl (lv_at hl 0 rfl) ?_
        refine tw_call (y := yX10_readsCompare) (bytes := cX10_readsCompare) (maxL := 3) (fun v => some (.int v)) [] (fun _ => True)  C hw XB.tt (fun _ _ _ => trivial) hσ hS hl.1 h (fun vv ss ee => kT_readsCompare l g A σ_6 vv ss ee) (cwV 0 C.t (lw_V q2179 q2181 qs72 q159 q2182) rfl rfl rfl (by decide +kernel) ⟨Nat.le_trans (Nat.le_add_left_of_le (Nat.le_of_ble_eq_true rfl)) hRf, Nat.le_trans (Nat.le_add_left_of_le (Nat.le_of_ble_eq_true rfl)) hRl⟩) rfl rfl (Nat.le_of_ble_eq_true rfl) dX10_readsFactor_130 (fun v_14 σ_15 H locs h hσ hS => ?_)
        exact tw_zret C hσ hS h dX10_readsFactor_133
    · have h := ip c_4 h
      refine lv_aload_n C.x C.b dX10_readsFactor_62 rfl (lv_at hl 0 rfl) ?_
      refine tw_gf24 C hw hσ q2239 dX10_readsFactor_63 ?_
      refine lv_iconst (v := 5) C.x C.b dX10_readsFactor_66 (by decide) ?_
      refine lv_icmp_ne (tgt := 76) C.x C.b dX10_readsFactor_67 (by decide) (fun c_16 => ?_) (fun c_16 => ?_)
      · have h := iN c_16 h
        refine lv_aload_n C.x C.b dX10_readsFactor_76 rfl (lv_at hl 0 rfl) ?_
        refine lv_dup C.x C.b dX10_readsFactor_77 rfl ?_
        refine tw_gf24 C hw hσ q2239 dX10_readsFactor_78 ?_
        refine lv_iconst (v := 1) C.x C.b dX10_readsFactor_81 (by decide) ?_
        refine lv_iadd C.x C.b dX10_readsFactor_82 ?_
        refine tw_pf24 C hw hσ hS q2239 dX10_readsFactor_83 (fun H locs hσ hS => ?_)
        obtain ⟨σ_17, e_, h⟩ := nm_s h
        rw [← e_] at hσ
        clear e_
        refine lv_aload_n C.x C.b dX10_readsFactor_86 rfl (lv_at hl 0 rfl) ?_
        refine tw_call (y := yX10_next) (bytes := cX10_next) (maxL := 2) (fun _ => none) [] (fun _ => True)  C hw XB.tt (fun _ _ _ => trivial) hσ hS hl.1 h (fun vv ss ee => kT_next l g A σ_17 vv ss ee) (cwV 0 C.t (lw_V q2104 q2106 qs57 q159 q2107) rfl rfl rfl (by decide +kernel) ⟨Nat.le_trans (Nat.le_add_left_of_le (Nat.le_of_ble_eq_true rfl)) hRf, Nat.le_trans (Nat.le_add_left_of_le (Nat.le_of_ble_eq_true rfl)) hRl⟩) rfl rfl (Nat.le_of_ble_eq_true rfl) dX10_readsFactor_87 (fun _ σ_18 H locs h hσ hS => ?_)
        refine lv_aload_n C.x C.b dX10_readsFactor_90 rfl (lv_at hl 0 rfl) ?_
        refine tw_call (y := yX10_readsGuard) (bytes := cX10_readsGuard) (maxL := 1) (fun v => some (.int v)) [] (fun _ => True)  C hw XB.tt (fun _ _ _ => trivial) hσ hS hl.1 h (fun vv ss ee => kT_readsGuard l g A hF σ_18 vv ss ee) (cwV 0 C.t (lw_V q2161 q2163 qs68 q159 q2164) rfl rfl rfl (by decide +kernel) ⟨Nat.le_trans (show fF + 7 + 1 ≤ fF + 8 by omega) hRf, Nat.le_trans (show 8 + (1 + 11) + (lF + 194) ≤ lF + 214 by omega) hRl⟩) rfl rfl (Nat.le_of_ble_eq_true rfl) dX10_readsFactor_91 (fun v_19 σ_20 H locs h hσ hS => ?_)
        refine lv_if_eq (tgt := 106) C.x C.b dX10_readsFactor_94 (by decide) (fun c_21 => ?_) (fun c_21 => ?_)
        · have h := ip c_21 h
          refine lv_iconst (v := 0) C.x C.b dX10_readsFactor_106 (by decide) ?_
          exact tw_zret C hσ hS h dX10_readsFactor_107
        · have h := iN c_21 h
          refine lv_aload_n C.x C.b dX10_readsFactor_97 rfl (lv_at hl 0 rfl) ?_
          refine lv_bipush (v := 41) C.x C.b dX10_readsFactor_98 (by decide) ?_
          refine tw_call (y := yX10_sign) (bytes := cX10_sign) (maxL := 2) (fun v => some (.int v)) [.int 41] (fun _ => True)  C hw XB.tt (fun _ _ _ => trivial) hσ hS hl.1 h (fun vv ss ee => kT_sign l g A 41 σ_20 vv ss ee) (cwV 1 C.t (lw_V q2139 q2141 qs64 q159 q2142) rfl rfl rfl (by decide +kernel) ⟨Nat.le_trans (Nat.le_add_left_of_le (Nat.le_of_ble_eq_true rfl)) hRf, Nat.le_trans (Nat.le_add_left_of_le (Nat.le_of_ble_eq_true rfl)) hRl⟩) rfl rfl (Nat.le_of_ble_eq_true rfl) dX10_readsFactor_100 (fun v_22 σ_23 H locs h hσ hS => ?_)
          refine lv_if_ne (tgt := 108) C.x C.b dX10_readsFactor_103 (by decide) (fun c_24 => ?_) (fun c_24 => ?_)
          · have h := iN c_24 h
            refine lv_aload_n C.x C.b dX10_readsFactor_108 rfl (lv_at hl 0 rfl) ?_
            refine lv_dup C.x C.b dX10_readsFactor_109 rfl ?_
            refine tw_gf24 C hw hσ q2239 dX10_readsFactor_110 ?_
            refine lv_iconst (v := 1) C.x C.b dX10_readsFactor_113 (by decide) ?_
            refine lv_isub C.x C.b dX10_readsFactor_114 ?_
            refine tw_pf24 C hw hσ hS q2239 dX10_readsFactor_115 (fun H locs hσ hS => ?_)
            obtain ⟨σ_25, e_, h⟩ := nm_s h
            rw [← e_] at hσ
            clear e_
            refine lv_iconst (v := 1) C.x C.b dX10_readsFactor_118 (by decide) ?_
            exact tw_zret C hσ hS h dX10_readsFactor_119
          · have h := ip c_24 h
            refine lv_iconst (v := 0) C.x C.b dX10_readsFactor_106 (by decide) ?_
            exact tw_zret C hσ hS h dX10_readsFactor_107
      · have h := ip c_16 h
        refine lv_aload_n C.x C.b dX10_readsFactor_70 rfl (lv_at hl 0 rfl) ?_
        refine lv_iconst (v := 4) C.x C.b dX10_readsFactor_71 (by decide) ?_
        refine tw_call (y := yX10_fail) (bytes := cX10_fail) (maxL := 2) (fun v => some (.int v)) [.int 4] (fun _ => True)  C hw XB.tt (fun _ _ _ => trivial) hσ hS hl.1 h (fun vv ss ee => kT_fail l g A 4 σ_2 vv ss ee) (cwV 1 C.t (lw_V q2128 q2130 qs62 q159 q2131) rfl rfl rfl (by decide +kernel) ⟨Nat.le_trans (Nat.le_add_left_of_le (Nat.le_of_ble_eq_true rfl)) hRf, Nat.le_trans (Nat.le_add_left_of_le (Nat.le_of_ble_eq_true rfl)) hRl⟩) rfl rfl (Nat.le_of_ble_eq_true rfl) dX10_readsFactor_72 (fun v_26 σ_27 H locs h hσ hS => ?_)
        exact tw_zret C hσ hS h dX10_readsFactor_75
  · have h := iN c_3 h
    refine lv_aload_n C.x C.b dX10_readsFactor_9 rfl (lv_at hl 0 rfl) ?_
    refine tw_gf23 C hw hσ q2238 dX10_readsFactor_10 ?_
    refine lv_iconst (v := 5) C.x C.b dX10_readsFactor_13 (by decide) ?_
    refine lv_icmp_ne (tgt := 23) C.x C.b dX10_readsFactor_14 (by decide) (fun c_28 => ?_) (fun c_28 => ?_)
    · have h := iN c_28 h
      refine lv_aload_n C.x C.b dX10_readsFactor_23 rfl (lv_at hl 0 rfl) ?_
      refine lv_dup C.x C.b dX10_readsFactor_24 rfl ?_
      refine tw_gf23 C hw hσ q2238 dX10_readsFactor_25 ?_
      refine lv_iconst (v := 1) C.x C.b dX10_readsFactor_28 (by decide) ?_
      refine lv_iadd C.x C.b dX10_readsFactor_29 ?_
      refine tw_pf23 C hw hσ hS q2238 dX10_readsFactor_30 (fun H locs hσ hS => ?_)
      obtain ⟨σ_29, e_, h⟩ := nm_s h
      rw [← e_] at hσ
      clear e_
      refine lv_aload_n C.x C.b dX10_readsFactor_33 rfl (lv_at hl 0 rfl) ?_
      refine tw_call (y := yX10_next) (bytes := cX10_next) (maxL := 2) (fun _ => none) [] (fun _ => True)  C hw XB.tt (fun _ _ _ => trivial) hσ hS hl.1 h (fun vv ss ee => kT_next l g A σ_29 vv ss ee) (cwV 0 C.t (lw_V q2104 q2106 qs57 q159 q2107) rfl rfl rfl (by decide +kernel) ⟨Nat.le_trans (Nat.le_add_left_of_le (Nat.le_of_ble_eq_true rfl)) hRf, Nat.le_trans (Nat.le_add_left_of_le (Nat.le_of_ble_eq_true rfl)) hRl⟩) rfl rfl (Nat.le_of_ble_eq_true rfl) dX10_readsFactor_34 (fun _ σ_30 H locs h hσ hS => ?_)
      refine lv_aload_n C.x C.b dX10_readsFactor_37 rfl (lv_at hl 0 rfl) ?_
      refine tw_call (y := yX10_readsFactor) (bytes := cX10_readsFactor) (maxL := 1) (fun v => some (.int v)) [] (fun _ => True)  C hw XB.tt (fun _ _ _ => trivial) hσ hS hl.1 h (fun vv ss ee => hF σ_30 vv ss ee) (cwV 0 C.t (lw_V q2169 q2171 qs70 q159 q2172) rfl rfl rfl (by decide +kernel) ⟨Nat.le_trans (show fF + 1 ≤ fF + 8 by omega) hRf, Nat.le_trans (show 8 + (1 + 11) + (lF) ≤ lF + 214 by omega) hRl⟩) rfl rfl (Nat.le_of_ble_eq_true rfl) dX10_readsFactor_38 (fun v_31 σ_32 H locs h hσ hS => ?_)
      refine lv_if_ne (tgt := 46) C.x C.b dX10_readsFactor_41 (by decide) (fun c_33 => ?_) (fun c_33 => ?_)
      · have h := iN c_33 h
        refine lv_aload_n C.x C.b dX10_readsFactor_46 rfl (lv_at hl 0 rfl) ?_
        refine lv_iconst (v := 1) C.x C.b dX10_readsFactor_47 (by decide) ?_
        refine tw_call (y := yX10_emits) (bytes := cX10_emits) (maxL := 2) (fun _ => none) [.int 1] (fun _ => True)  C hw XB.tt (fun _ _ _ => trivial) hσ hS hl.1 h (fun vv ss ee => kT_emits l g A 1 σ_32 vv ss ee) (cwV 1 C.t (lw_V q2174 q2176 qs71 q159 q2177) rfl rfl rfl (by decide +kernel) ⟨Nat.le_trans (Nat.le_add_left_of_le (Nat.le_of_ble_eq_true rfl)) hRf, Nat.le_trans (Nat.le_add_left_of_le (Nat.le_of_ble_eq_true rfl)) hRl⟩) rfl rfl (Nat.le_of_ble_eq_true rfl) dX10_readsFactor_48 (fun _ σ_34 H locs h hσ hS => ?_)
        refine lv_iconst (v := 1) C.x C.b dX10_readsFactor_51 (by decide) ?_
        exact tw_zret C hσ hS h dX10_readsFactor_52
      · have h := ip c_33 h
        refine lv_iconst (v := 0) C.x C.b dX10_readsFactor_44 (by decide) ?_
        exact tw_zret C hσ hS h dX10_readsFactor_45
    · have h := ip c_28 h
      refine lv_aload_n C.x C.b dX10_readsFactor_17 rfl (lv_at hl 0 rfl) ?_
      refine lv_iconst (v := 4) C.x C.b dX10_readsFactor_18 (by decide) ?_
      refine tw_call (y := yX10_fail) (bytes := cX10_fail) (maxL := 2) (fun v => some (.int v)) [.int 4] (fun _ => True)  C hw XB.tt (fun _ _ _ => trivial) hσ hS hl.1 h (fun vv ss ee => kT_fail l g A 4 σ_2 vv ss ee) (cwV 1 C.t (lw_V q2128 q2130 qs62 q159 q2131) rfl rfl rfl (by decide +kernel) ⟨Nat.le_trans (Nat.le_add_left_of_le (Nat.le_of_ble_eq_true rfl)) hRf, Nat.le_trans (Nat.le_add_left_of_le (Nat.le_of_ble_eq_true rfl)) hRl⟩) rfl rfl (Nat.le_of_ble_eq_true rfl) dX10_readsFactor_19 (fun v_35 σ_36 H locs h hσ hS => ?_)
      exact tw_zret C hσ hS h dX10_readsFactor_22

theorem kT_readsFactor (l : Launch) (g : twG) (A : Nat → Prop) : ∀ (d : Nat) (σ : twS) (v : Int32) (σ1 : twS) (h : mT_readsFactor d σ = some (v, σ1)), Met l yX10_readsFactor (ws_ yX10_readsFactor cX10_readsFactor 1 (some .boolean)) ({ frames := 8 * d, cells := 0, slots := 0, locals := 214 * d }) (TPc twL g A [.ref g.2.2.2.1] (fun _ => True) σ) (TQ g A (some (.int v)) σ1) 0 0 A := by
  intro d
  induction d with
  | zero =>
    intro σ v σ1 h
    cases h
  | succ d ih =>
    intro σ v σ1 h
    exact kO_readsFactor l g A (F := mT_readsFactor d) (fF := 8 * d) (lF := 214 * d) ih σ v σ1 h

theorem kT_has (l : Launch) (g : twG) (A : Nat → Prop) (x0 : Int32) (x1 : Int32) (σ : twS) (v : Int32) (σ1 : twS) (h : mT_has x0 x1 σ = some (v, σ1)) : Met l yX10_has (ws_ yX10_has cX10_has 2 (some .boolean)) ({ frames := 1, cells := 0, slots := 0, locals := 24 }) (TPc twL g A [.int x0, .int x1] (fun _ => True) σ) (TQ g A (some (.int v)) σ1) 0 0 A := by
  refine Met.ofW (cc := cX10_has) (maxL := 2) (ret := (some .boolean)) (by decide) rfl ?_
  intro p e s m args below meth c s₁ B hml hv
  obtain ⟨rfl, hw, hX, hσ⟩ := hv
  have hts := atoms_spec (ws := (ws_ yX10_has cX10_has 2 (some .boolean))) B.pre
  have C : CX p m meth c s ([.int x0, .int x1] : List Value).toArray cX10_has 2 (some .boolean) RX10 := ⟨⟨B.exec, B.bytes, hml, findClass_of_methodNamed B.named, fun w h => hts w (List.mem_cons_of_mem _ h)⟩, B.returns, B.notSynchronized⟩
  have hRf : 1 ≤ (headSpec (ws_ yX10_has cX10_has 2 (some .boolean)) ({ frames := 1, cells := 0, slots := 0, locals := 24 })).room.frames := Nat.le_refl _
  have hRl : 24 ≤ (headSpec (ws_ yX10_has cX10_has 2 (some .boolean)) ({ frames := 1, cells := 0, slots := 0, locals := 24 })).room.locals := Nat.le_refl _
  generalize (headSpec (ws_ yX10_has cX10_has 2 (some .boolean)) ({ frames := 1, cells := 0, slots := 0, locals := 24 })).room = R at hRf hRl ⊢
  have hS : va_S A s.heap s.heap [] := va_S.rf
  have hl := lv_entry ([.int x0, .int x1]) (n := 2) (Nat.le_of_ble_eq_true rfl)
  rw [lg_entry_eq]
  generalize (lg_sl ([.int x0, .int x1]) ++ List.replicate (2 - (lg_sl ([.int x0, .int x1])).length) Slot.unset).toArray = ls at hl ⊢
  have hl : lv_has ls 2 [(0, .int x0), (1, .int x1)] := hl
  obtain ⟨z, hz⟩ : ∃ z, z = (v, σ1) := ⟨_, rfl⟩
  rw [← hz] at h
  rw [show v = z.1 by rw [hz], show σ1 = z.2 by rw [hz]]
  clear hz v σ1
  unfold mT_has at h
  refine lv_iload_n C.x C.b dX10_has_0 rfl (lv_at hl 0 rfl) ?_
  refine lv_iload_n C.x C.b dX10_has_1 rfl (lv_at hl 1 rfl) ?_
  refine lv_ishr C.x C.b dX10_has_2 ?_
  refine lv_iconst (v := 1) C.x C.b dX10_has_3 (by decide) ?_
  refine lv_iand C.x C.b dX10_has_4 ?_
  refine lv_iconst (v := 1) C.x C.b dX10_has_5 (by decide) ?_
  refine lv_icmp_ne (tgt := 13) C.x C.b dX10_has_6 (by decide) (fun c_1 => ?_) (fun c_1 => ?_)
  · have h := iN c_1 h
    refine lv_iconst (v := 0) C.x C.b dX10_has_13 (by decide) ?_
    exact tw_zret C hσ hS h dX10_has_14
  · have h := ip c_1 h
    refine lv_iconst (v := 1) C.x C.b dX10_has_9 (by decide) ?_
    refine lv_goto (tgt := 14) C.x C.b dX10_has_10 (by decide) ?_
    exact tw_zret C hσ hS h dX10_has_14

theorem wT_readsPart_98 {z : Int32 × twS} (C : CX p m meth c s args cX10_readsPart 7 (some .boolean) RX10) (hw : WKt twL g A s s.heap) (hRf : 4 ≤ R.frames) (hRl : 90 ≤ R.locals) : ∀ (n : Nat) (x2 : Int32) (x4 : Int32) (x5 : Int32) (x6 : Int32) (σ : twS) (H : Heap) (locs : List Loc) (ls : Array Slot), bT_readsPart_98 n x2 x4 x5 x6 σ = some z → TI g A σ H → va_S A s.heap H locs → lv_has ls 7 [(0, .ref g.2.2.2.1), (2, .int x2), (4, .int x4), (5, .int x5), (6, .int x6)] → W p l e R s m args below meth c H locs 0 0 (MQ below (TQ g A (some (.int z.1)) z.2) args s 0 0 A) (F0 m 98 ls []) := by
  intro n
  induction n with
  | zero =>
    intro x2 x4 x5 x6 σ H locs ls h
    cases h
  | succ n ih =>
    intro x2 x4 x5 x6 σ H locs ls h hσ hS hl
    rw [bT_readsPart_98] at h
    refine lv_iload C.x C.b dX10_readsPart_98 (lv_at hl 4 rfl) ?_
    refine lv_iconst (v := 4) C.x C.b dX10_readsPart_100 (by decide) ?_
    refine lv_icmp_ge (tgt := 130) C.x C.b dX10_readsPart_101 (by decide) (fun c_1 => ?_) (fun c_1 => ?_)
    · have h := ip c_1 h
      refine lv_iload C.x C.b dX10_readsPart_130 (lv_at hl 3 rfl) ?_
      refine lv_sipush (v := 27720) C.x C.b dX10_readsPart_132 (by decide) ?_
      refine lv_icmp_le (tgt := 144) C.x C.b dX10_readsPart_135 (by decide) (fun c_2 => ?_) (fun c_2 => ?_)
      · have h := ip c_2 h
        refine lv_aload_n C.x C.b dX10_readsPart_144 rfl (lv_at hl 0 rfl) ?_
        refine tw_call (y := yX10_next) (bytes := cX10_next) (maxL := 2) (fun _ => none) [] (fun _ => True)  C hw XB.tt (fun _ _ _ => trivial) hσ hS hl.1 h (fun vv ss ee => kT_next l g A σ vv ss ee) (cwV 0 C.t (lw_V q2104 q2106 qs57 q159 q2107) rfl rfl rfl (by decide +kernel) ⟨Nat.le_trans (Nat.le_of_ble_eq_true rfl) hRf, Nat.le_trans (Nat.le_of_ble_eq_true rfl) hRl⟩) rfl rfl (Nat.le_of_ble_eq_true rfl) dX10_readsPart_145 (fun _ σ_3 H locs h hσ hS => ?_)
        refine lv_aload_n C.x C.b dX10_readsPart_148 rfl (lv_at hl 0 rfl) ?_
        refine tw_gf0 C hw hσ q2215 dX10_readsPart_149 ?_
        refine lv_aload_n C.x C.b dX10_readsPart_152 rfl (lv_at hl 0 rfl) ?_
        refine tw_gf25 C hw hσ q2240 dX10_readsPart_153 ?_
        refine lv_bipush (v := 29) C.x C.b dX10_readsPart_156 (by decide) ?_
        refine lv_iadd C.x C.b dX10_readsPart_158 ?_
        refine lv_iload_n C.x C.b dX10_readsPart_159 rfl (lv_at hl 1 rfl) ?_
        refine lv_iadd C.x C.b dX10_readsPart_160 ?_
        refine lv_iload C.x C.b dX10_readsPart_161 (lv_at hl 2 rfl) ?_
        refine tw_st0 C hw hσ hS h dX10_readsPart_163 (fun σ_4 H locs h hσ hS => ?_)
        refine lv_aload_n C.x C.b dX10_readsPart_164 rfl (lv_at hl 0 rfl) ?_
        refine lv_iload_n C.x C.b dX10_readsPart_165 rfl (lv_at hl 1 rfl) ?_
        refine tw_pf26 C hw hσ hS q2241 dX10_readsPart_166 (fun H locs hσ hS => ?_)
        obtain ⟨σ_5, e_, h⟩ := nm_s h
        rw [← e_] at hσ
        clear e_
        refine lv_iconst (v := 1) C.x C.b dX10_readsPart_169 (by decide) ?_
        exact tw_zret C hσ hS h dX10_readsPart_170
      · have h := iN c_2 h
        refine lv_aload_n C.x C.b dX10_readsPart_138 rfl (lv_at hl 0 rfl) ?_
        refine lv_iconst (v := 5) C.x C.b dX10_readsPart_139 (by decide) ?_
        refine tw_call (y := yX10_fail) (bytes := cX10_fail) (maxL := 2) (fun v => some (.int v)) [.int 5] (fun _ => True)  C hw XB.tt (fun _ _ _ => trivial) hσ hS hl.1 h (fun vv ss ee => kT_fail l g A 5 σ vv ss ee) (cwV 1 C.t (lw_V q2128 q2130 qs62 q159 q2131) rfl rfl rfl (by decide +kernel) ⟨Nat.le_trans (Nat.le_of_ble_eq_true rfl) hRf, Nat.le_trans (Nat.le_of_ble_eq_true rfl) hRl⟩) rfl rfl (Nat.le_of_ble_eq_true rfl) dX10_readsPart_140 (fun v_6 σ_7 H locs h hσ hS => ?_)
        exact tw_zret C hσ hS h dX10_readsPart_143
    · have h := iN c_1 h
      refine lv_iload C.x C.b dX10_readsPart_104 (lv_at hl 3 rfl) ?_
      refine lv_aload_n C.x C.b dX10_readsPart_106 rfl (lv_at hl 0 rfl) ?_
      refine tw_gf0 C hw hσ q2215 dX10_readsPart_107 ?_
      refine lv_aload_n C.x C.b dX10_readsPart_110 rfl (lv_at hl 0 rfl) ?_
      refine tw_gf25 C hw hσ q2240 dX10_readsPart_111 ?_
      refine lv_bipush (v := 29) C.x C.b dX10_readsPart_114 (by decide) ?_
      refine lv_iadd C.x C.b dX10_readsPart_116 ?_
      refine lv_iload C.x C.b dX10_readsPart_117 (lv_at hl 4 rfl) ?_
      refine lv_iadd C.x C.b dX10_readsPart_119 ?_
      refine tw_ld0 C hw hσ h dX10_readsPart_120 (fun v_8 h => ?_)
      refine lv_iadd C.x C.b dX10_readsPart_121 ?_
      refine tw_lt h (fun x5_9 h => ?_)
      refine lv_istore (lv' := [(5, .int x5_9), (0, .ref g.2.2.2.1), (2, .int x2), (4, .int x4), (6, .int x6)]) C.x C.b dX10_readsPart_122 hl (by decide) rfl (fun ls hl => ?_)
      obtain ⟨x6_10, e_, h⟩ := nm_s h
      refine lv_iinc (v := x6_10) (lv' := [(6, .int x6_10), (5, .int x5_9), (0, .ref g.2.2.2.1), (2, .int x2), (4, .int x4)]) C.x C.b dX10_readsPart_124 hl (k := 4) rfl e_.symm (by decide) rfl (fun ls hl => ?_)
      refine lv_goto (tgt := 98) C.x C.b dX10_readsPart_127 (by decide) ?_
      exact ih _ _ _ _ _ _ _ _ h hσ hS (lv_sub hl [2, 3, 4, 1, 0] rfl)

theorem kT_readsPart (l : Launch) (g : twG) (A : Nat → Prop) (x1 : Int32) (σ : twS) (v : Int32) (σ1 : twS) (h : mT_readsPart x1 σ = some (v, σ1)) : Met l yX10_readsPart (ws_ yX10_readsPart cX10_readsPart 7 (some .boolean)) ({ frames := 4, cells := 0, slots := 0, locals := 90 }) (TPc twL g A [.ref g.2.2.2.1, .int x1] (fun _ => True) σ) (TQ g A (some (.int v)) σ1) 0 0 A := by
  refine Met.ofW (cc := cX10_readsPart) (maxL := 7) (ret := (some .boolean)) (by decide) rfl ?_
  intro p e s m args below meth c s₁ B hml hv
  obtain ⟨rfl, hw, hX, hσ⟩ := hv
  have hts := atoms_spec (ws := (ws_ yX10_readsPart cX10_readsPart 7 (some .boolean))) B.pre
  have C : CX p m meth c s ([.ref g.2.2.2.1, .int x1] : List Value).toArray cX10_readsPart 7 (some .boolean) RX10 := ⟨⟨B.exec, B.bytes, hml, findClass_of_methodNamed B.named, fun w h => hts w (List.mem_cons_of_mem _ h)⟩, B.returns, B.notSynchronized⟩
  have hRf : 4 ≤ (headSpec (ws_ yX10_readsPart cX10_readsPart 7 (some .boolean)) ({ frames := 4, cells := 0, slots := 0, locals := 90 })).room.frames := Nat.le_refl _
  have hRl : 90 ≤ (headSpec (ws_ yX10_readsPart cX10_readsPart 7 (some .boolean)) ({ frames := 4, cells := 0, slots := 0, locals := 90 })).room.locals := Nat.le_refl _
  generalize (headSpec (ws_ yX10_readsPart cX10_readsPart 7 (some .boolean)) ({ frames := 4, cells := 0, slots := 0, locals := 90 })).room = R at hRf hRl ⊢
  have hS : va_S A s.heap s.heap [] := va_S.rf
  have hl := lv_entry ([.ref g.2.2.2.1, .int x1]) (n := 7) (Nat.le_of_ble_eq_true rfl)
  rw [lg_entry_eq]
  generalize (lg_sl ([.ref g.2.2.2.1, .int x1]) ++ List.replicate (7 - (lg_sl ([.ref g.2.2.2.1, .int x1])).length) Slot.unset).toArray = ls at hl ⊢
  have hl : lv_has ls 7 [(0, .ref g.2.2.2.1), (1, .int x1)] := hl
  obtain ⟨z, hz⟩ : ∃ z, z = (v, σ1) := ⟨_, rfl⟩
  rw [← hz] at h
  rw [show v = z.1 by rw [hz], show σ1 = z.2 by rw [hz]]
  clear hz v σ1
  unfold mT_readsPart at h
  refine lv_aload_n C.x C.b dX10_readsPart_0 rfl (lv_at hl 0 rfl) ?_
  refine lv_iconst (v := 0) C.x C.b dX10_readsPart_1 (by decide) ?_
  refine lv_aload_n C.x C.b dX10_readsPart_2 rfl (lv_at hl 0 rfl) ?_
  refine tw_gf0 C hw hσ q2215 dX10_readsPart_3 ?_
  refine lv_iconst (v := 5) C.x C.b dX10_readsPart_6 (by decide) ?_
  refine tw_ld0 C hw hσ h dX10_readsPart_7 (fun v_1 h => ?_)
  refine lv_iconst (v := 1) C.x C.b dX10_readsPart_8 (by decide) ?_
  refine lv_isub C.x C.b dX10_readsPart_9 ?_
  refine tw_call (y := yX10_isNumber) (bytes := cX10_isNumber) (maxL := 3) (fun v => some (.int v)) [.int 0, .int (v_1 - 1)] (fun _ => True)  C hw XB.tt (fun _ _ _ => trivial) hσ hS hl.1 h (fun vv ss ee => kT_isNumber l g A 0 (v_1 - 1) σ vv ss ee) (cwV 2 C.t (lw_V q2132 q2134 qs63 q159 q2135) rfl rfl rfl (by decide +kernel) ⟨Nat.le_trans (Nat.le_of_ble_eq_true rfl) hRf, Nat.le_trans (Nat.le_of_ble_eq_true rfl) hRl⟩) rfl rfl (Nat.le_of_ble_eq_true rfl) dX10_readsPart_10 (fun v_2 σ_3 H locs h hσ hS => ?_)
  refine lv_if_ne (tgt := 18) C.x C.b dX10_readsPart_13 (by decide) (fun c_4 => ?_) (fun c_4 => ?_)
  · have h := iN c_4 h
    refine lv_aload_n C.x C.b dX10_readsPart_18 rfl (lv_at hl 0 rfl) ?_
    refine tw_gf21 C hw hσ q2236 dX10_readsPart_19 ?_
    refine tw_lt h (fun x2_5 h => ?_)
    refine lv_istore_n (lv' := [(2, .int x2_5), (0, .ref g.2.2.2.1), (1, .int x1)]) C.x C.b dX10_readsPart_22 rfl hl (by decide) rfl (fun ls hl => ?_)
    refine lv_iload_n C.x C.b dX10_readsPart_23 rfl (lv_at hl 2 rfl) ?_
    refine lv_iload_n C.x C.b dX10_readsPart_24 rfl (lv_at hl 0 rfl) ?_
    refine tw_callS (y := yX10_has) (bytes := cX10_has) (maxL := 2) (fun v => some (.int v)) [.int x1, .int x2_5] C hw hσ hS hl.1 h (fun vv ss ee => kT_has l g A x1 x2_5 σ_3 vv ss ee) (va_cwS 2 C.t (lw_S q2199 q2200 q159 q2201) rfl rfl rfl (by decide +kernel) ⟨Nat.le_trans (Nat.le_of_ble_eq_true rfl) hRf, Nat.le_trans (Nat.le_of_ble_eq_true rfl) hRl⟩) rfl rfl (Nat.le_of_ble_eq_true rfl) dX10_readsPart_25 (fun v_6 σ_7 H locs h hσ hS => ?_)
    refine lv_if_eq (tgt := 37) C.x C.b dX10_readsPart_28 (by decide) (fun c_8 => ?_) (fun c_8 => ?_)
    · have h := ip c_8 h
      refine lv_aload_n C.x C.b dX10_readsPart_37 rfl (lv_at hl 1 rfl) ?_
      refine tw_call (y := yX10_next) (bytes := cX10_next) (maxL := 2) (fun _ => none) [] (fun _ => True)  C hw XB.tt (fun _ _ _ => trivial) hσ hS hl.1 h (fun vv ss ee => kT_next l g A σ_7 vv ss ee) (cwV 0 C.t (lw_V q2104 q2106 qs57 q159 q2107) rfl rfl rfl (by decide +kernel) ⟨Nat.le_trans (Nat.le_of_ble_eq_true rfl) hRf, Nat.le_trans (Nat.le_of_ble_eq_true rfl) hRl⟩) rfl rfl (Nat.le_of_ble_eq_true rfl) dX10_readsPart_38 (fun _ σ_9 H locs h hσ hS => ?_)
      refine lv_aload_n C.x C.b dX10_readsPart_41 rfl (lv_at hl 1 rfl) ?_
      refine lv_iconst (v := 0) C.x C.b dX10_readsPart_42 (by decide) ?_
      refine lv_bipush (v := 12) C.x C.b dX10_readsPart_43 (by decide) ?_
      refine tw_call (y := yX10_number) (bytes := cX10_number) (maxL := 3) (fun v => some (.int v)) [.int 0, .int 12] (fun _ => True)  C hw XB.tt (fun _ _ _ => trivial) hσ hS hl.1 h (fun vv ss ee => kT_number l g A 0 12 σ_9 vv ss ee) (cwV 2 C.t (lw_V q2144 q2146 qs65 q159 q2147) rfl rfl rfl (by decide +kernel) ⟨Nat.le_trans (Nat.le_of_ble_eq_true rfl) hRf, Nat.le_trans (Nat.le_of_ble_eq_true rfl) hRl⟩) rfl rfl (Nat.le_of_ble_eq_true rfl) dX10_readsPart_45 (fun v_10 σ_11 H locs h hσ hS => ?_)
      refine lv_if_ne (tgt := 53) C.x C.b dX10_readsPart_48 (by decide) (fun c_12 => ?_) (fun c_12 => ?_)
      · have h := iN c_12 h
        refine lv_aload_n C.x C.b dX10_readsPart_53 rfl (lv_at hl 1 rfl) ?_
        refine tw_gf21 C hw hσ q2236 dX10_readsPart_54 ?_
        refine tw_lt h (fun x3_13 h => ?_)
        refine lv_istore_n (lv' := [(3, .int x3_13), (2, .int x2_5), (0, .ref g.2.2.2.1), (1, .int x1)]) C.x C.b dX10_readsPart_57 rfl hl (by decide) rfl (fun ls hl => ?_)
        refine lv_aload_n C.x C.b dX10_readsPart_58 rfl (lv_at hl 2 rfl) ?_
        refine lv_bipush (v := 47) C.x C.b dX10_readsPart_59 (by decide) ?_
        refine tw_call (y := yX10_sign) (bytes := cX10_sign) (maxL := 2) (fun v => some (.int v)) [.int 47] (fun _ => True)  C hw XB.tt (fun _ _ _ => trivial) hσ hS hl.1 h (fun vv ss ee => kT_sign l g A 47 σ_11 vv ss ee) (cwV 1 C.t (lw_V q2139 q2141 qs64 q159 q2142) rfl rfl rfl (by decide +kernel) ⟨Nat.le_trans (Nat.le_of_ble_eq_true rfl) hRf, Nat.le_trans (Nat.le_of_ble_eq_true rfl) hRl⟩) rfl rfl (Nat.le_of_ble_eq_true rfl) dX10_readsPart_61 (fun v_14 σ_15 H locs h hσ hS => ?_)
        refine lv_if_eq (tgt := 77) C.x C.b dX10_readsPart_64 (by decide) (fun c_16 => ?_) (fun c_16 => ?_)
        · have h := ip c_16 h
          refine lv_iconst (v := 0) C.x C.b dX10_readsPart_77 (by decide) ?_
          exact tw_zret C hσ hS h dX10_readsPart_78
        · have h := iN c_16 h
          refine lv_aload_n C.x C.b dX10_readsPart_67 rfl (lv_at hl 2 rfl) ?_
          refine lv_iconst (v := 1) C.x C.b dX10_readsPart_68 (by decide) ?_
          refine lv_bipush (v := 12) C.x C.b dX10_readsPart_69 (by decide) ?_
          refine tw_call (y := yX10_isNumber) (bytes := cX10_isNumber) (maxL := 3) (fun v => some (.int v)) [.int 1, .int 12] (fun _ => True)  C hw XB.tt (fun _ _ _ => trivial) hσ hS hl.1 h (fun vv ss ee => kT_isNumber l g A 1 12 σ_15 vv ss ee) (cwV 2 C.t (lw_V q2132 q2134 qs63 q159 q2135) rfl rfl rfl (by decide +kernel) ⟨Nat.le_trans (Nat.le_of_ble_eq_true rfl) hRf, Nat.le_trans (Nat.le_of_ble_eq_true rfl) hRl⟩) rfl rfl (Nat.le_of_ble_eq_true rfl) dX10_readsPart_71 (fun v_17 σ_18 H locs h hσ hS => ?_)
          refine lv_if_ne (tgt := 79) C.x C.b dX10_readsPart_74 (by decide) (fun c_19 => ?_) (fun c_19 => ?_)
          · have h := iN c_19 h
            refine lv_iload_n C.x C.b dX10_readsPart_79 rfl (lv_at hl 0 rfl) ?_
            refine lv_sipush (v := 27720) C.x C.b dX10_readsPart_80 (by decide) ?_
            refine lv_imul C.x C.b dX10_readsPart_83 ?_
            refine lv_aload_n C.x C.b dX10_readsPart_84 rfl (lv_at hl 2 rfl) ?_
            refine tw_gf21 C hw hσ q2236 dX10_readsPart_85 ?_
            have hz := nz_s h
            have h := hz.2
            refine lv_idiv C.x C.b dX10_readsPart_88 hz.1 ?_
            refine tw_lt h (fun x4_20 h => ?_)
            refine lv_istore (lv' := [(4, .int x4_20), (3, .int x3_13), (2, .int x2_5), (0, .ref g.2.2.2.1), (1, .int x1)]) C.x C.b dX10_readsPart_89 hl (by decide) rfl (fun ls hl => ?_)
            refine lv_iload C.x C.b dX10_readsPart_91 (lv_at hl 0 rfl) ?_
            refine lv_istore (lv' := [(5, .int x4_20), (4, .int x4_20), (3, .int x3_13), (2, .int x2_5), (0, .ref g.2.2.2.1), (1, .int x1)]) C.x C.b dX10_readsPart_93 hl (by decide) rfl (fun ls hl => ?_)
            refine lv_iconst (v := 0) C.x C.b dX10_readsPart_95 (by decide) ?_
            refine lv_istore (lv' := [(6, .int 0), (5, .int x4_20), (4, .int x4_20), (3, .int x3_13), (2, .int x2_5), (0, .ref g.2.2.2.1), (1, .int x1)]) C.x C.b dX10_readsPart_96 hl (by decide) rfl (fun ls hl => ?_)
            exact wT_readsPart_98 C hw hRf hRl _ _ _ _ _ _ _ _ _ h hσ hS (lv_sub hl [5, 4, 2, 1, 0] rfl)
          · have h := ip c_19 h
            refine lv_iconst (v := 0) C.x C.b dX10_readsPart_77 (by decide) ?_
            exact tw_zret C hσ hS h dX10_readsPart_78
      · have h := ip c_12 h
        refine lv_iconst (v := 0) C.x C.b dX10_readsPart_51 (by decide) ?_
        exact tw_zret C hσ hS h dX10_readsPart_52
    · have h := iN c_8 h
      refine lv_aload_n C.x C.b dX10_readsPart_31 rfl (lv_at hl 1 rfl) ?_
      refine lv_iconst (v := 3) C.x C.b dX10_readsPart_32 (by decide) ?_
      refine tw_call (y := yX10_fail) (bytes := cX10_fail) (maxL := 2) (fun v => some (.int v)) [.int 3] (fun _ => True)  C hw XB.tt (fun _ _ _ => trivial) hσ hS hl.1 h (fun vv ss ee => kT_fail l g A 3 σ_7 vv ss ee) (cwV 1 C.t (lw_V q2128 q2130 qs62 q159 q2131) rfl rfl rfl (by decide +kernel) ⟨Nat.le_trans (Nat.le_of_ble_eq_true rfl) hRf, Nat.le_trans (Nat.le_of_ble_eq_true rfl) hRl⟩) rfl rfl (Nat.le_of_ble_eq_true rfl) dX10_readsPart_33 (fun v_21 σ_22 H locs h hσ hS => ?_)
      exact tw_zret C hσ hS h dX10_readsPart_36
  · have h := ip c_4 h
    refine lv_iconst (v := 0) C.x C.b dX10_readsPart_16 (by decide) ?_
    exact tw_zret C hσ hS h dX10_readsPart_17

theorem wT_readsParts_56 {z : Int32 × twS} (C : CX p m meth c s args cX10_readsParts 3 (some .boolean) RX10) (hw : WKt twL g A s s.heap) (hRf : 6 ≤ R.frames) (hRl : 174 ≤ R.locals) {k19 : Int32 → Int32 → twS → Option (Int32 × twS)} (hk19 : ∀ (x1 : Int32) (x2 : Int32) (σ : twS) (H : Heap) (locs : List Loc) (ls : Array Slot), k19 x1 x2 σ = some z → TI g A σ H → va_S A s.heap H locs → lv_has ls 3 [(0, .ref g.2.2.2.1), (1, .int x1), (2, .int x2)] → W p l e R s m args below meth c H locs 0 0 (MQ below (TQ g A (some (.int z.1)) z.2) args s 0 0 A) (F0 m 19 ls [])) : ∀ (x1 : Int32) (s0 : Int32) (σ : twS) (H : Heap) (locs : List Loc) (ls : Array Slot), bT_readsParts_56 k19 x1 s0 σ = some z → TI g A σ H → va_S A s.heap H locs → lv_has ls 3 [(0, .ref g.2.2.2.1), (1, .int x1)] → W p l e R s m args below meth c H locs 0 0 (MQ below (TQ g A (some (.int z.1)) z.2) args s 0 0 A) (F0 m 56 ls [.int s0]) := by
  intro x1 s0 σ H locs ls h hσ hS hl
  unfold bT_readsParts_56 at h
  refine lv_istore_n (lv' := [(2, .int s0), (0, .ref g.2.2.2.1), (1, .int x1)]) C.x C.b dX10_readsParts_56 rfl hl (by decide) rfl (fun ls hl => ?_)
  refine lv_iload_n C.x C.b dX10_readsParts_57 rfl (lv_at hl 0 rfl) ?_
  refine lv_if_eq (tgt := 19) C.x C.b dX10_readsParts_58 (by decide) (fun c_1 => ?_) (fun c_1 => ?_)
  · have h := ip c_1 h
    exact hk19 _ _ _ _ _ _ h hσ hS (lv_sub hl [1, 2, 0] rfl)
  · have h := iN c_1 h
    refine lv_aload_n C.x C.b dX10_readsParts_61 rfl (lv_at hl 1 rfl) ?_
    refine tw_call (y := yX10_next) (bytes := cX10_next) (maxL := 2) (fun _ => none) [] (fun _ => True)  C hw XB.tt (fun _ _ _ => trivial) hσ hS hl.1 h (fun vv ss ee => kT_next l g A σ vv ss ee) (cwV 0 C.t (lw_V q2104 q2106 qs57 q159 q2107) rfl rfl rfl (by decide +kernel) ⟨Nat.le_trans (Nat.le_of_ble_eq_true rfl) hRf, Nat.le_trans (Nat.le_of_ble_eq_true rfl) hRl⟩) rfl rfl (Nat.le_of_ble_eq_true rfl) dX10_readsParts_62 (fun _ σ_2 H locs h hσ hS => ?_)
    refine lv_goto (tgt := 19) C.x C.b dX10_readsParts_65 (by decide) ?_
    exact hk19 _ _ _ _ _ _ h hσ hS (lv_sub hl [1, 2, 0] rfl)

theorem wT_readsParts_19 {z : Int32 × twS} (C : CX p m meth c s args cX10_readsParts 3 (some .boolean) RX10) (hw : WKt twL g A s s.heap) (hRf : 6 ≤ R.frames) (hRl : 174 ≤ R.locals) : ∀ (n : Nat) (x1 : Int32) (x2 : Int32) (σ : twS) (H : Heap) (locs : List Loc) (ls : Array Slot), bT_readsParts_19 n x1 x2 σ = some z → TI g A σ H → va_S A s.heap H locs → lv_has ls 3 [(0, .ref g.2.2.2.1), (1, .int x1), (2, .int x2)] → W p l e R s m args below meth c H locs 0 0 (MQ below (TQ g A (some (.int z.1)) z.2) args s 0 0 A) (F0 m 19 ls []) := by
  intro n
  induction n with
  | zero =>
    intro x1 x2 σ H locs ls h
    cases h
  | succ n ih =>
    intro x1 x2 σ H locs ls h hσ hS hl
    rw [bT_readsParts_19] at h
    refine lv_iload_n C.x C.b dX10_readsParts_19 rfl (lv_at hl 2 rfl) ?_
    refine lv_if_eq (tgt := 68) C.x C.b dX10_readsParts_20 (by decide) (fun c_1 => ?_) (fun c_1 => ?_)
    · have h := ip c_1 h
      refine lv_iconst (v := 1) C.x C.b dX10_readsParts_68 (by decide) ?_
      exact tw_zret C hσ hS h dX10_readsParts_69
    · have h := iN c_1 h
      refine lv_aload_n C.x C.b dX10_readsParts_23 rfl (lv_at hl 0 rfl) ?_
      refine lv_iload_n C.x C.b dX10_readsParts_24 rfl (lv_at hl 1 rfl) ?_
      refine tw_call (y := yX10_readsPart) (bytes := cX10_readsPart) (maxL := 7) (fun v => some (.int v)) [.int x1] (fun _ => True)  C hw XB.tt (fun _ _ _ => trivial) hσ hS hl.1 h (fun vv ss ee => kT_readsPart l g A x1 σ vv ss ee) (cwV 1 C.t (lw_V q2195 q2197 qs75 q159 q2198) rfl rfl rfl (by decide +kernel) ⟨Nat.le_trans (Nat.le_of_ble_eq_true rfl) hRf, Nat.le_trans (Nat.le_of_ble_eq_true rfl) hRl⟩) rfl rfl (Nat.le_of_ble_eq_true rfl) dX10_readsParts_25 (fun v_2 σ_3 H locs h hσ hS => ?_)
      refine lv_if_ne (tgt := 33) C.x C.b dX10_readsParts_28 (by decide) (fun c_4 => ?_) (fun c_4 => ?_)
      · have h := iN c_4 h
        refine lv_iload_n C.x C.b dX10_readsParts_33 rfl (lv_at hl 1 rfl) ?_
        refine lv_iconst (v := 1) C.x C.b dX10_readsParts_34 (by decide) ?_
        refine lv_aload_n C.x C.b dX10_readsParts_35 rfl (lv_at hl 0 rfl) ?_
        refine tw_gf26 C hw hσ q2241 dX10_readsParts_36 ?_
        refine lv_ishl C.x C.b dX10_readsParts_39 ?_
        refine lv_ior C.x C.b dX10_readsParts_40 ?_
        refine tw_lt h (fun x1_5 h => ?_)
        refine lv_istore_n (lv' := [(1, .int x1_5), (0, .ref g.2.2.2.1), (2, .int x2)]) C.x C.b dX10_readsParts_41 rfl hl (by decide) rfl (fun ls hl => ?_)
        refine lv_aload_n C.x C.b dX10_readsParts_42 rfl (lv_at hl 1 rfl) ?_
        refine tw_gf16 C hw hσ q2231 dX10_readsParts_43 ?_
        refine lv_bipush (v := 44) C.x C.b dX10_readsParts_46 (by decide) ?_
        refine lv_icmp_ne (tgt := 55) C.x C.b dX10_readsParts_48 (by decide) (fun c_6 => ?_) (fun c_6 => ?_)
        · have h := iN c_6 h
          refine lv_iconst (v := 0) C.x C.b dX10_readsParts_55 (by decide) ?_
          exact wT_readsParts_56 C hw hRf hRl (fun y0 y1 σ H locs ls h hσ hS hl => ih y0 y1 σ H locs ls h hσ hS hl) _ _ _ _ _ _ h hσ hS (lv_sub hl [1, 0] rfl)
        · have h := ip c_6 h
          refine lv_iconst (v := 1) C.x C.b dX10_readsParts_51 (by decide) ?_
          refine lv_goto (tgt := 56) C.x C.b dX10_readsParts_52 (by decide) ?_
          exact wT_readsParts_56 C hw hRf hRl (fun y0 y1 σ H locs ls h hσ hS hl => ih y0 y1 σ H locs ls h hσ hS hl) _ _ _ _ _ _ h hσ hS (lv_sub hl [1, 0] rfl)
      · have h := ip c_4 h
        refine lv_iconst (v := 0) C.x C.b dX10_readsParts_31 (by decide) ?_
        exact tw_zret C hσ hS h dX10_readsParts_32

theorem kT_readsParts (l : Launch) (g : twG) (A : Nat → Prop) (σ : twS) (v : Int32) (σ1 : twS) (h : mT_readsParts σ = some (v, σ1)) : Met l yX10_readsParts (ws_ yX10_readsParts cX10_readsParts 3 (some .boolean)) ({ frames := 6, cells := 0, slots := 0, locals := 174 }) (TPc twL g A [.ref g.2.2.2.1] (fun _ => True) σ) (TQ g A (some (.int v)) σ1) 0 0 A := by
  refine Met.ofW (cc := cX10_readsParts) (maxL := 3) (ret := (some .boolean)) (by decide) rfl ?_
  intro p e s m args below meth c s₁ B hml hv
  obtain ⟨rfl, hw, hX, hσ⟩ := hv
  have hts := atoms_spec (ws := (ws_ yX10_readsParts cX10_readsParts 3 (some .boolean))) B.pre
  have C : CX p m meth c s ([.ref g.2.2.2.1] : List Value).toArray cX10_readsParts 3 (some .boolean) RX10 := ⟨⟨B.exec, B.bytes, hml, findClass_of_methodNamed B.named, fun w h => hts w (List.mem_cons_of_mem _ h)⟩, B.returns, B.notSynchronized⟩
  have hRf : 6 ≤ (headSpec (ws_ yX10_readsParts cX10_readsParts 3 (some .boolean)) ({ frames := 6, cells := 0, slots := 0, locals := 174 })).room.frames := Nat.le_refl _
  have hRl : 174 ≤ (headSpec (ws_ yX10_readsParts cX10_readsParts 3 (some .boolean)) ({ frames := 6, cells := 0, slots := 0, locals := 174 })).room.locals := Nat.le_refl _
  generalize (headSpec (ws_ yX10_readsParts cX10_readsParts 3 (some .boolean)) ({ frames := 6, cells := 0, slots := 0, locals := 174 })).room = R at hRf hRl ⊢
  have hS : va_S A s.heap s.heap [] := va_S.rf
  have hl := lv_entry ([.ref g.2.2.2.1]) (n := 3) (Nat.le_of_ble_eq_true rfl)
  rw [lg_entry_eq]
  generalize (lg_sl ([.ref g.2.2.2.1]) ++ List.replicate (3 - (lg_sl ([.ref g.2.2.2.1])).length) Slot.unset).toArray = ls at hl ⊢
  have hl : lv_has ls 3 [(0, .ref g.2.2.2.1)] := hl
  obtain ⟨z, hz⟩ : ∃ z, z = (v, σ1) := ⟨_, rfl⟩
  rw [← hz] at h
  rw [show v = z.1 by rw [hz], show σ1 = z.2 by rw [hz]]
  clear hz v σ1
  unfold mT_readsParts at h
  refine lv_aload_n C.x C.b dX10_readsParts_0 rfl (lv_at hl 0 rfl) ?_
  obtain ⟨aS_219, rS_219, kS_219⟩ := hw.2.2 _ (List.mem_of_getElem? (i := 8) (rfl : twL[8]? = some (219, "nothing", tS_219)))
  refine va_ldcS C.x C.b C.o rS_219 dX10_readsParts_1 ?_
  refine tw_call (y := yX10_says) (bytes := cX10_says) (maxL := 3) (fun v => some (.int v)) [.ref aS_219] (fun U => StrC A tS_219 aS_219 U U.heap)  C hw (XB.str A _ _) (fun U hU hW => StrC.at kS_219 hS hU hW) hσ hS hl.1 h (fun vv ss ee => kT_says l g A tS_219 aS_219 σ vv ss ee) (cwV 1 C.t (lw_V q2124 q2126 qs61 q159 q2127) rfl rfl rfl (by decide +kernel) ⟨Nat.le_trans (Nat.le_of_ble_eq_true rfl) hRf, Nat.le_trans (Nat.le_of_ble_eq_true rfl) hRl⟩) rfl rfl (Nat.le_of_ble_eq_true rfl) dX10_readsParts_3 (fun v_1 σ_2 H locs h hσ hS => ?_)
  refine lv_if_eq (tgt := 15) C.x C.b dX10_readsParts_6 (by decide) (fun c_3 => ?_) (fun c_3 => ?_)
  · have h := ip c_3 h
    refine lv_iconst (v := 0) C.x C.b dX10_readsParts_15 (by decide) ?_
    refine lv_istore_n (lv' := [(1, .int 0), (0, .ref g.2.2.2.1)]) C.x C.b dX10_readsParts_16 rfl hl (by decide) rfl (fun ls hl => ?_)
    refine lv_iconst (v := 1) C.x C.b dX10_readsParts_17 (by decide) ?_
    refine lv_istore_n (lv' := [(2, .int 1), (1, .int 0), (0, .ref g.2.2.2.1)]) C.x C.b dX10_readsParts_18 rfl hl (by decide) rfl (fun ls hl => ?_)
    exact wT_readsParts_19 C hw hRf hRl _ _ _ _ _ _ _ h hσ hS (lv_sub hl [2, 1, 0] rfl)
  · have h := iN c_3 h
    refine lv_aload_n C.x C.b dX10_readsParts_9 rfl (lv_at hl 0 rfl) ?_
    refine tw_call (y := yX10_next) (bytes := cX10_next) (maxL := 2) (fun _ => none) [] (fun _ => True)  C hw XB.tt (fun _ _ _ => trivial) hσ hS hl.1 h (fun vv ss ee => kT_next l g A σ_2 vv ss ee) (cwV 0 C.t (lw_V q2104 q2106 qs57 q159 q2107) rfl rfl rfl (by decide +kernel) ⟨Nat.le_trans (Nat.le_of_ble_eq_true rfl) hRf, Nat.le_trans (Nat.le_of_ble_eq_true rfl) hRl⟩) rfl rfl (Nat.le_of_ble_eq_true rfl) dX10_readsParts_10 (fun _ σ_4 H locs h hσ hS => ?_)
    refine lv_iconst (v := 1) C.x C.b dX10_readsParts_13 (by decide) ?_
    exact tw_zret C hσ hS h dX10_readsParts_14

theorem wT_readsOver_17 {z : Int32 × twS} (C : CX p m meth c s args cX10_readsOver 2 (some .boolean) RX10) (hw : WKt twL g A s s.heap) (hRf : 6 ≤ R.frames) (hRl : 174 ≤ R.locals) : ∀ (n : Nat) (x1 : Int32) (σ : twS) (H : Heap) (locs : List Loc) (ls : Array Slot), bT_readsOver_17 n x1 σ = some z → TI g A σ H → va_S A s.heap H locs → lv_has ls 2 [(0, .ref g.2.2.2.1), (1, .int x1)] → W p l e R s m args below meth c H locs 0 0 (MQ below (TQ g A (some (.int z.1)) z.2) args s 0 0 A) (F0 m 17 ls []) := by
  intro n
  induction n with
  | zero =>
    intro x1 σ H locs ls h
    cases h
  | succ n ih =>
    intro x1 σ H locs ls h hσ hS hl
    rw [bT_readsOver_17] at h
    refine lv_iload_n C.x C.b dX10_readsOver_17 rfl (lv_at hl 1 rfl) ?_
    refine lv_if_eq (tgt := 110) C.x C.b dX10_readsOver_18 (by decide) (fun c_1 => ?_) (fun c_1 => ?_)
    · have h := ip c_1 h
      refine lv_iconst (v := 1) C.x C.b dX10_readsOver_110 (by decide) ?_
      exact tw_zret C hσ hS h dX10_readsOver_111
    · have h := iN c_1 h
      refine lv_aload_n C.x C.b dX10_readsOver_21 rfl (lv_at hl 0 rfl) ?_
      refine lv_iconst (v := 0) C.x C.b dX10_readsOver_22 (by decide) ?_
      refine lv_aload_n C.x C.b dX10_readsOver_23 rfl (lv_at hl 0 rfl) ?_
      refine tw_gf0 C hw hσ q2215 dX10_readsOver_24 ?_
      refine lv_bipush (v := 17) C.x C.b dX10_readsOver_27 (by decide) ?_
      refine tw_ld0 C hw hσ h dX10_readsOver_29 (fun v_2 h => ?_)
      refine lv_iconst (v := 1) C.x C.b dX10_readsOver_30 (by decide) ?_
      refine lv_isub C.x C.b dX10_readsOver_31 ?_
      refine tw_call (y := yX10_isNumber) (bytes := cX10_isNumber) (maxL := 3) (fun v => some (.int v)) [.int 0, .int (v_2 - 1)] (fun _ => True)  C hw XB.tt (fun _ _ _ => trivial) hσ hS hl.1 h (fun vv ss ee => kT_isNumber l g A 0 (v_2 - 1) σ vv ss ee) (cwV 2 C.t (lw_V q2132 q2134 qs63 q159 q2135) rfl rfl rfl (by decide +kernel) ⟨Nat.le_trans (Nat.le_of_ble_eq_true rfl) hRf, Nat.le_trans (Nat.le_of_ble_eq_true rfl) hRl⟩) rfl rfl (Nat.le_of_ble_eq_true rfl) dX10_readsOver_32 (fun v_3 σ_4 H locs h hσ hS => ?_)
      refine lv_if_ne (tgt := 40) C.x C.b dX10_readsOver_35 (by decide) (fun c_5 => ?_) (fun c_5 => ?_)
      · have h := iN c_5 h
        refine lv_aload_n C.x C.b dX10_readsOver_40 rfl (lv_at hl 0 rfl) ?_
        refine tw_gf0 C hw hσ q2215 dX10_readsOver_41 ?_
        refine lv_aload_n C.x C.b dX10_readsOver_44 rfl (lv_at hl 0 rfl) ?_
        refine tw_gf25 C hw hσ q2240 dX10_readsOver_45 ?_
        refine lv_bipush (v := 33) C.x C.b dX10_readsOver_48 (by decide) ?_
        refine lv_iadd C.x C.b dX10_readsOver_50 ?_
        refine tw_ld0 C hw hσ h dX10_readsOver_51 (fun v_6 h => ?_)
        refine lv_aload_n C.x C.b dX10_readsOver_52 rfl (lv_at hl 0 rfl) ?_
        refine tw_gf21 C hw hσ q2236 dX10_readsOver_53 ?_
        refine tw_callS (y := yX10_has) (bytes := cX10_has) (maxL := 2) (fun v => some (.int v)) [.int v_6, .int (σ_4.2 21)] C hw hσ hS hl.1 h (fun vv ss ee => kT_has l g A v_6 (σ_4.2 21) σ_4 vv ss ee) (va_cwS 2 C.t (lw_S q2199 q2200 q159 q2201) rfl rfl rfl (by decide +kernel) ⟨Nat.le_trans (Nat.le_of_ble_eq_true rfl) hRf, Nat.le_trans (Nat.le_of_ble_eq_true rfl) hRl⟩) rfl rfl (Nat.le_of_ble_eq_true rfl) dX10_readsOver_56 (fun v_7 σ_8 H locs h hσ hS => ?_)
        refine lv_if_eq (tgt := 68) C.x C.b dX10_readsOver_59 (by decide) (fun c_9 => ?_) (fun c_9 => ?_)
        · have h := ip c_9 h
          refine lv_aload_n C.x C.b dX10_readsOver_68 rfl (lv_at hl 0 rfl) ?_
          refine tw_gf0 C hw hσ q2215 dX10_readsOver_69 ?_
          refine lv_aload_n C.x C.b dX10_readsOver_72 rfl (lv_at hl 0 rfl) ?_
          refine tw_gf25 C hw hσ q2240 dX10_readsOver_73 ?_
          refine lv_bipush (v := 33) C.x C.b dX10_readsOver_76 (by decide) ?_
          refine lv_iadd C.x C.b dX10_readsOver_78 ?_
          refine tw_lt h (fun u_10 h => ?_)
          refine lv_dup2_11 C.x C.b dX10_readsOver_79 rfl rfl ?_
          refine tw_ld0 C hw hσ h dX10_readsOver_80 (fun v_11 h => ?_)
          refine lv_iconst (v := 1) C.x C.b dX10_readsOver_81 (by decide) ?_
          refine lv_aload_n C.x C.b dX10_readsOver_82 rfl (lv_at hl 0 rfl) ?_
          refine tw_gf21 C hw hσ q2236 dX10_readsOver_83 ?_
          refine lv_ishl C.x C.b dX10_readsOver_86 ?_
          refine lv_ior C.x C.b dX10_readsOver_87 ?_
          refine tw_st0 C hw hσ hS h dX10_readsOver_88 (fun σ_12 H locs h hσ hS => ?_)
          refine lv_aload_n C.x C.b dX10_readsOver_89 rfl (lv_at hl 0 rfl) ?_
          refine tw_call (y := yX10_next) (bytes := cX10_next) (maxL := 2) (fun _ => none) [] (fun _ => True)  C hw XB.tt (fun _ _ _ => trivial) hσ hS hl.1 h (fun vv ss ee => kT_next l g A σ_12 vv ss ee) (cwV 0 C.t (lw_V q2104 q2106 qs57 q159 q2107) rfl rfl rfl (by decide +kernel) ⟨Nat.le_trans (Nat.le_of_ble_eq_true rfl) hRf, Nat.le_trans (Nat.le_of_ble_eq_true rfl) hRl⟩) rfl rfl (Nat.le_of_ble_eq_true rfl) dX10_readsOver_90 (fun _ σ_13 H locs h hσ hS => ?_)
          refine lv_aload_n C.x C.b dX10_readsOver_93 rfl (lv_at hl 0 rfl) ?_
          refine tw_gf16 C hw hσ q2231 dX10_readsOver_94 ?_
          refine lv_iconst (v := 2) C.x C.b dX10_readsOver_97 (by decide) ?_
          refine lv_icmp_ne (tgt := 105) C.x C.b dX10_readsOver_98 (by decide) (fun c_14 => ?_) (fun c_14 => ?_)
          · have h := iN c_14 h
            refine lv_iconst (v := 0) C.x C.b dX10_readsOver_105 (by decide) ?_
            refine lv_istore_n (lv' := [(1, .int 0), (0, .ref g.2.2.2.1)]) C.x C.b dX10_readsOver_106 rfl hl (by decide) rfl (fun ls hl => ?_)
            refine lv_goto (tgt := 17) C.x C.b dX10_readsOver_107 (by decide) ?_
            exact ih _ _ _ _ _ h hσ hS (lv_sub hl [1, 0] rfl)
          · have h := ip c_14 h
            refine lv_iconst (v := 1) C.x C.b dX10_readsOver_101 (by decide) ?_
            refine lv_goto (tgt := 106) C.x C.b dX10_readsOver_102 (by decide) ?_
            refine lv_istore_n (lv' := [(1, .int 1), (0, .ref g.2.2.2.1)]) C.x C.b dX10_readsOver_106 rfl hl (by decide) rfl (fun ls hl => ?_)
            refine lv_goto (tgt := 17) C.x C.b dX10_readsOver_107 (by decide) ?_
            exact ih _ _ _ _ _ h hσ hS (lv_sub hl [1, 0] rfl)
        · have h := iN c_9 h
          refine lv_aload_n C.x C.b dX10_readsOver_62 rfl (lv_at hl 0 rfl) ?_
          refine lv_iconst (v := 3) C.x C.b dX10_readsOver_63 (by decide) ?_
          refine tw_call (y := yX10_fail) (bytes := cX10_fail) (maxL := 2) (fun v => some (.int v)) [.int 3] (fun _ => True)  C hw XB.tt (fun _ _ _ => trivial) hσ hS hl.1 h (fun vv ss ee => kT_fail l g A 3 σ_8 vv ss ee) (cwV 1 C.t (lw_V q2128 q2130 qs62 q159 q2131) rfl rfl rfl (by decide +kernel) ⟨Nat.le_trans (Nat.le_of_ble_eq_true rfl) hRf, Nat.le_trans (Nat.le_of_ble_eq_true rfl) hRl⟩) rfl rfl (Nat.le_of_ble_eq_true rfl) dX10_readsOver_64 (fun v_15 σ_16 H locs h hσ hS => ?_)
          exact tw_zret C hσ hS h dX10_readsOver_67
      · have h := ip c_5 h
        refine lv_iconst (v := 0) C.x C.b dX10_readsOver_38 (by decide) ?_
        exact tw_zret C hσ hS h dX10_readsOver_39

theorem kT_readsOver (l : Launch) (g : twG) (A : Nat → Prop) (σ : twS) (v : Int32) (σ1 : twS) (h : mT_readsOver σ = some (v, σ1)) : Met l yX10_readsOver (ws_ yX10_readsOver cX10_readsOver 2 (some .boolean)) ({ frames := 6, cells := 0, slots := 0, locals := 174 }) (TPc twL g A [.ref g.2.2.2.1] (fun _ => True) σ) (TQ g A (some (.int v)) σ1) 0 0 A := by
  refine Met.ofW (cc := cX10_readsOver) (maxL := 2) (ret := (some .boolean)) (by decide) rfl ?_
  intro p e s m args below meth c s₁ B hml hv
  obtain ⟨rfl, hw, hX, hσ⟩ := hv
  have hts := atoms_spec (ws := (ws_ yX10_readsOver cX10_readsOver 2 (some .boolean))) B.pre
  have C : CX p m meth c s ([.ref g.2.2.2.1] : List Value).toArray cX10_readsOver 2 (some .boolean) RX10 := ⟨⟨B.exec, B.bytes, hml, findClass_of_methodNamed B.named, fun w h => hts w (List.mem_cons_of_mem _ h)⟩, B.returns, B.notSynchronized⟩
  have hRf : 6 ≤ (headSpec (ws_ yX10_readsOver cX10_readsOver 2 (some .boolean)) ({ frames := 6, cells := 0, slots := 0, locals := 174 })).room.frames := Nat.le_refl _
  have hRl : 174 ≤ (headSpec (ws_ yX10_readsOver cX10_readsOver 2 (some .boolean)) ({ frames := 6, cells := 0, slots := 0, locals := 174 })).room.locals := Nat.le_refl _
  generalize (headSpec (ws_ yX10_readsOver cX10_readsOver 2 (some .boolean)) ({ frames := 6, cells := 0, slots := 0, locals := 174 })).room = R at hRf hRl ⊢
  have hS : va_S A s.heap s.heap [] := va_S.rf
  have hl := lv_entry ([.ref g.2.2.2.1]) (n := 2) (Nat.le_of_ble_eq_true rfl)
  rw [lg_entry_eq]
  generalize (lg_sl ([.ref g.2.2.2.1]) ++ List.replicate (2 - (lg_sl ([.ref g.2.2.2.1])).length) Slot.unset).toArray = ls at hl ⊢
  have hl : lv_has ls 2 [(0, .ref g.2.2.2.1)] := hl
  obtain ⟨z, hz⟩ : ∃ z, z = (v, σ1) := ⟨_, rfl⟩
  rw [← hz] at h
  rw [show v = z.1 by rw [hz], show σ1 = z.2 by rw [hz]]
  clear hz v σ1
  unfold mT_readsOver at h
  refine lv_aload_n C.x C.b dX10_readsOver_0 rfl (lv_at hl 0 rfl) ?_
  obtain ⟨aS_224, rS_224, kS_224⟩ := hw.2.2 _ (List.mem_of_getElem? (i := 9) (rfl : twL[9]? = some (224, "over", tS_224)))
  refine va_ldcS C.x C.b C.o rS_224 dX10_readsOver_1 ?_
  refine tw_call (y := yX10_says) (bytes := cX10_says) (maxL := 3) (fun v => some (.int v)) [.ref aS_224] (fun U => StrC A tS_224 aS_224 U U.heap)  C hw (XB.str A _ _) (fun U hU hW => StrC.at kS_224 hS hU hW) hσ hS hl.1 h (fun vv ss ee => kT_says l g A tS_224 aS_224 σ vv ss ee) (cwV 1 C.t (lw_V q2124 q2126 qs61 q159 q2127) rfl rfl rfl (by decide +kernel) ⟨Nat.le_trans (Nat.le_of_ble_eq_true rfl) hRf, Nat.le_trans (Nat.le_of_ble_eq_true rfl) hRl⟩) rfl rfl (Nat.le_of_ble_eq_true rfl) dX10_readsOver_3 (fun v_1 σ_2 H locs h hσ hS => ?_)
  refine lv_if_ne (tgt := 11) C.x C.b dX10_readsOver_6 (by decide) (fun c_3 => ?_) (fun c_3 => ?_)
  · have h := iN c_3 h
    refine lv_aload_n C.x C.b dX10_readsOver_11 rfl (lv_at hl 0 rfl) ?_
    refine tw_call (y := yX10_next) (bytes := cX10_next) (maxL := 2) (fun _ => none) [] (fun _ => True)  C hw XB.tt (fun _ _ _ => trivial) hσ hS hl.1 h (fun vv ss ee => kT_next l g A σ_2 vv ss ee) (cwV 0 C.t (lw_V q2104 q2106 qs57 q159 q2107) rfl rfl rfl (by decide +kernel) ⟨Nat.le_trans (Nat.le_of_ble_eq_true rfl) hRf, Nat.le_trans (Nat.le_of_ble_eq_true rfl) hRl⟩) rfl rfl (Nat.le_of_ble_eq_true rfl) dX10_readsOver_12 (fun _ σ_4 H locs h hσ hS => ?_)
    refine lv_iconst (v := 1) C.x C.b dX10_readsOver_15 (by decide) ?_
    refine lv_istore_n (lv' := [(1, .int 1), (0, .ref g.2.2.2.1)]) C.x C.b dX10_readsOver_16 rfl hl (by decide) rfl (fun ls hl => ?_)
    exact wT_readsOver_17 C hw hRf hRl _ _ _ _ _ _ h hσ hS (lv_sub hl [1, 0] rfl)
  · have h := ip c_3 h
    refine lv_iconst (v := 1) C.x C.b dX10_readsOver_9 (by decide) ?_
    exact tw_zret C hσ hS h dX10_readsOver_10

theorem wT_readsRule_16 {z : Int32 × twS} (C : CX p m meth c s args cX10_readsRule 2 (some .boolean) RX10) (hw : WKt twL g A s s.heap) (hRf : 520 ≤ R.frames) (hRl : 13910 ≤ R.locals) : ∀ (n : Nat) (x1 : Int32) (σ : twS) (H : Heap) (locs : List Loc) (ls : Array Slot), bT_readsRule_16 n x1 σ = some z → TI g A σ H → va_S A s.heap H locs → lv_has ls 2 [(0, .ref g.2.2.2.1), (1, .int x1)] → W p l e R s m args below meth c H locs 0 0 (MQ below (TQ g A (some (.int z.1)) z.2) args s 0 0 A) (F0 m 16 ls []) := by
  intro n
  induction n with
  | zero =>
    intro x1 σ H locs ls h
    cases h
  | succ n ih =>
    intro x1 σ H locs ls h hσ hS hl
    rw [bT_readsRule_16] at h
    refine lv_iload_n C.x C.b dX10_readsRule_16 rfl (lv_at hl 1 rfl) ?_
    refine lv_bipush (v := 34) C.x C.b dX10_readsRule_17 (by decide) ?_
    refine lv_icmp_ge (tgt := 40) C.x C.b dX10_readsRule_19 (by decide) (fun c_1 => ?_) (fun c_1 => ?_)
    · have h := ip c_1 h
      refine lv_aload_n C.x C.b dX10_readsRule_40 rfl (lv_at hl 0 rfl) ?_
      refine lv_iconst (v := 0) C.x C.b dX10_readsRule_41 (by decide) ?_
      refine tw_pf22 C hw hσ hS q2237 dX10_readsRule_42 (fun H locs hσ hS => ?_)
      obtain ⟨σ_2, e_, h⟩ := nm_s h
      rw [← e_] at hσ
      clear e_
      refine lv_aload_n C.x C.b dX10_readsRule_45 rfl (lv_at hl 0 rfl) ?_
      refine lv_iconst (v := 0) C.x C.b dX10_readsRule_46 (by decide) ?_
      refine tw_pf23 C hw hσ hS q2238 dX10_readsRule_47 (fun H locs hσ hS => ?_)
      obtain ⟨σ_3, e_, h⟩ := nm_s h
      rw [← e_] at hσ
      clear e_
      refine lv_aload_n C.x C.b dX10_readsRule_50 rfl (lv_at hl 0 rfl) ?_
      refine lv_iconst (v := 0) C.x C.b dX10_readsRule_51 (by decide) ?_
      refine tw_pf24 C hw hσ hS q2239 dX10_readsRule_52 (fun H locs hσ hS => ?_)
      obtain ⟨σ_4, e_, h⟩ := nm_s h
      rw [← e_] at hσ
      clear e_
      refine lv_aload_n C.x C.b dX10_readsRule_55 rfl (lv_at hl 0 rfl) ?_
      refine tw_call (y := yX10_readsGuard) (bytes := cX10_readsGuard) (maxL := 1) (fun v => some (.int v)) [] (fun _ => True)  C hw XB.tt (fun _ _ _ => trivial) hσ hS hl.1 h (fun vv ss ee => kT_readsGuard l g A (kT_readsFactor l g A DP) σ_4 vv ss ee) (cwV 0 C.t (lw_V q2161 q2163 qs68 q159 q2164) rfl rfl rfl (by decide +kernel) ⟨Nat.le_trans (Nat.le_of_ble_eq_true rfl) hRf, Nat.le_trans (Nat.le_of_ble_eq_true rfl) hRl⟩) rfl rfl (Nat.le_of_ble_eq_true rfl) dX10_readsRule_56 (fun v_5 σ_6 H locs h hσ hS => ?_)
      refine lv_if_eq (tgt := 89) C.x C.b dX10_readsRule_59 (by decide) (fun c_7 => ?_) (fun c_7 => ?_)
      · have h := ip c_7 h
        refine lv_iconst (v := 0) C.x C.b dX10_readsRule_89 (by decide) ?_
        exact tw_zret C hσ hS h dX10_readsRule_90
      · have h := iN c_7 h
        refine lv_aload_n C.x C.b dX10_readsRule_62 rfl (lv_at hl 0 rfl) ?_
        obtain ⟨aS_226, rS_226, kS_226⟩ := hw.2.2 _ (List.mem_of_getElem? (i := 10) (rfl : twL[10]? = some (226, "gives", tS_226)))
        refine va_ldcS C.x C.b C.o rS_226 dX10_readsRule_63 ?_
        refine tw_call (y := yX10_word) (bytes := cX10_word) (maxL := 2) (fun v => some (.int v)) [.ref aS_226] (fun U => StrC A tS_226 aS_226 U U.heap)  C hw (XB.str A _ _) (fun U hU hW => StrC.at kS_226 hS hU hW) hσ hS hl.1 h (fun vv ss ee => kT_word l g A tS_226 aS_226 σ_6 vv ss ee) (cwV 1 C.t (lw_V q2120 q2122 qs60 q159 q2123) rfl rfl rfl (by decide +kernel) ⟨Nat.le_trans (Nat.le_of_ble_eq_true rfl) hRf, Nat.le_trans (Nat.le_of_ble_eq_true rfl) hRl⟩) rfl rfl (Nat.le_of_ble_eq_true rfl) dX10_readsRule_65 (fun v_8 σ_9 H locs h hσ hS => ?_)
        refine lv_if_eq (tgt := 89) C.x C.b dX10_readsRule_68 (by decide) (fun c_10 => ?_) (fun c_10 => ?_)
        · have h := ip c_10 h
          refine lv_iconst (v := 0) C.x C.b dX10_readsRule_89 (by decide) ?_
          exact tw_zret C hσ hS h dX10_readsRule_90
        · have h := iN c_10 h
          refine lv_aload_n C.x C.b dX10_readsRule_71 rfl (lv_at hl 0 rfl) ?_
          refine tw_call (y := yX10_readsParts) (bytes := cX10_readsParts) (maxL := 3) (fun v => some (.int v)) [] (fun _ => True)  C hw XB.tt (fun _ _ _ => trivial) hσ hS hl.1 h (fun vv ss ee => kT_readsParts l g A σ_9 vv ss ee) (cwV 0 C.t (lw_V q2190 q2192 qs74 q159 q2193) rfl rfl rfl (by decide +kernel) ⟨Nat.le_trans (Nat.le_of_ble_eq_true rfl) hRf, Nat.le_trans (Nat.le_of_ble_eq_true rfl) hRl⟩) rfl rfl (Nat.le_of_ble_eq_true rfl) dX10_readsRule_72 (fun v_11 σ_12 H locs h hσ hS => ?_)
          refine lv_if_eq (tgt := 89) C.x C.b dX10_readsRule_75 (by decide) (fun c_13 => ?_) (fun c_13 => ?_)
          · have h := ip c_13 h
            refine lv_iconst (v := 0) C.x C.b dX10_readsRule_89 (by decide) ?_
            exact tw_zret C hσ hS h dX10_readsRule_90
          · have h := iN c_13 h
            refine lv_aload_n C.x C.b dX10_readsRule_78 rfl (lv_at hl 0 rfl) ?_
            refine tw_call (y := yX10_readsOver) (bytes := cX10_readsOver) (maxL := 2) (fun v => some (.int v)) [] (fun _ => True)  C hw XB.tt (fun _ _ _ => trivial) hσ hS hl.1 h (fun vv ss ee => kT_readsOver l g A σ_12 vv ss ee) (cwV 0 C.t (lw_V q2202 q2204 qs76 q159 q2205) rfl rfl rfl (by decide +kernel) ⟨Nat.le_trans (Nat.le_of_ble_eq_true rfl) hRf, Nat.le_trans (Nat.le_of_ble_eq_true rfl) hRl⟩) rfl rfl (Nat.le_of_ble_eq_true rfl) dX10_readsRule_79 (fun v_14 σ_15 H locs h hσ hS => ?_)
            refine lv_if_eq (tgt := 89) C.x C.b dX10_readsRule_82 (by decide) (fun c_16 => ?_) (fun c_16 => ?_)
            · have h := ip c_16 h
              refine lv_iconst (v := 0) C.x C.b dX10_readsRule_89 (by decide) ?_
              exact tw_zret C hσ hS h dX10_readsRule_90
            · have h := iN c_16 h
              refine lv_iconst (v := 1) C.x C.b dX10_readsRule_85 (by decide) ?_
              refine lv_goto (tgt := 90) C.x C.b dX10_readsRule_86 (by decide) ?_
              exact tw_zret C hσ hS h dX10_readsRule_90
    · have h := iN c_1 h
      refine lv_aload_n C.x C.b dX10_readsRule_22 rfl (lv_at hl 0 rfl) ?_
      refine tw_gf0 C hw hσ q2215 dX10_readsRule_23 ?_
      refine lv_aload_n C.x C.b dX10_readsRule_26 rfl (lv_at hl 0 rfl) ?_
      refine tw_gf25 C hw hσ q2240 dX10_readsRule_27 ?_
      refine lv_iload_n C.x C.b dX10_readsRule_30 rfl (lv_at hl 1 rfl) ?_
      refine lv_iadd C.x C.b dX10_readsRule_31 ?_
      refine lv_iconst (v := 0) C.x C.b dX10_readsRule_32 (by decide) ?_
      refine tw_st0 C hw hσ hS h dX10_readsRule_33 (fun σ_17 H locs h hσ hS => ?_)
      obtain ⟨x1_18, e_, h⟩ := nm_s h
      refine lv_iinc (v := x1_18) (lv' := [(1, .int x1_18), (0, .ref g.2.2.2.1)]) C.x C.b dX10_readsRule_34 hl (k := 1) rfl e_.symm (by decide) rfl (fun ls hl => ?_)
      refine lv_goto (tgt := 16) C.x C.b dX10_readsRule_37 (by decide) ?_
      exact ih _ _ _ _ _ h hσ hS (lv_sub hl [1, 0] rfl)

theorem kT_readsRule (l : Launch) (g : twG) (A : Nat → Prop) (σ : twS) (v : Int32) (σ1 : twS) (h : mT_readsRule σ = some (v, σ1)) : Met l yX10_readsRule (ws_ yX10_readsRule cX10_readsRule 2 (some .boolean)) ({ frames := 520, cells := 0, slots := 0, locals := 13910 }) (TPc twL g A [.ref g.2.2.2.1] (fun _ => True) σ) (TQ g A (some (.int v)) σ1) 0 0 A := by
  refine Met.ofW (cc := cX10_readsRule) (maxL := 2) (ret := (some .boolean)) (by decide) rfl ?_
  intro p e s m args below meth c s₁ B hml hv
  obtain ⟨rfl, hw, hX, hσ⟩ := hv
  have hts := atoms_spec (ws := (ws_ yX10_readsRule cX10_readsRule 2 (some .boolean))) B.pre
  have C : CX p m meth c s ([.ref g.2.2.2.1] : List Value).toArray cX10_readsRule 2 (some .boolean) RX10 := ⟨⟨B.exec, B.bytes, hml, findClass_of_methodNamed B.named, fun w h => hts w (List.mem_cons_of_mem _ h)⟩, B.returns, B.notSynchronized⟩
  have hRf : 520 ≤ (headSpec (ws_ yX10_readsRule cX10_readsRule 2 (some .boolean)) ({ frames := 520, cells := 0, slots := 0, locals := 13910 })).room.frames := Nat.le_refl _
  have hRl : 13910 ≤ (headSpec (ws_ yX10_readsRule cX10_readsRule 2 (some .boolean)) ({ frames := 520, cells := 0, slots := 0, locals := 13910 })).room.locals := Nat.le_refl _
  generalize (headSpec (ws_ yX10_readsRule cX10_readsRule 2 (some .boolean)) ({ frames := 520, cells := 0, slots := 0, locals := 13910 })).room = R at hRf hRl ⊢
  have hS : va_S A s.heap s.heap [] := va_S.rf
  have hl := lv_entry ([.ref g.2.2.2.1]) (n := 2) (Nat.le_of_ble_eq_true rfl)
  rw [lg_entry_eq]
  generalize (lg_sl ([.ref g.2.2.2.1]) ++ List.replicate (2 - (lg_sl ([.ref g.2.2.2.1])).length) Slot.unset).toArray = ls at hl ⊢
  have hl : lv_has ls 2 [(0, .ref g.2.2.2.1)] := hl
  obtain ⟨z, hz⟩ : ∃ z, z = (v, σ1) := ⟨_, rfl⟩
  rw [← hz] at h
  rw [show v = z.1 by rw [hz], show σ1 = z.2 by rw [hz]]
  clear hz v σ1
  unfold mT_readsRule at h
  refine lv_aload_n C.x C.b dX10_readsRule_0 rfl (lv_at hl 0 rfl) ?_
  refine lv_aload_n C.x C.b dX10_readsRule_1 rfl (lv_at hl 0 rfl) ?_
  refine tw_gf0 C hw hσ q2215 dX10_readsRule_2 ?_
  refine lv_bipush (v := 17) C.x C.b dX10_readsRule_5 (by decide) ?_
  refine tw_ld0 C hw hσ h dX10_readsRule_7 (fun v_1 h => ?_)
  refine tw_callS (y := yX10_rule0) (bytes := cX10_rule0) (maxL := 1) (fun v => some (.int v)) [.int v_1] C hw hσ hS hl.1 h (fun vv ss ee => kT_rule0 l g A v_1 σ vv ss ee) (va_cwS 1 C.t (lw_S q2158 q2159 q159 q2160) rfl rfl rfl (by decide +kernel) ⟨Nat.le_trans (Nat.le_of_ble_eq_true rfl) hRf, Nat.le_trans (Nat.le_of_ble_eq_true rfl) hRl⟩) rfl rfl (Nat.le_of_ble_eq_true rfl) dX10_readsRule_8 (fun v_2 σ_3 H locs h hσ hS => ?_)
  refine tw_pf25 C hw hσ hS q2240 dX10_readsRule_11 (fun H locs hσ hS => ?_)
  obtain ⟨σ_4, e_, h⟩ := nm_s h
  rw [← e_] at hσ
  clear e_
  refine lv_iconst (v := 0) C.x C.b dX10_readsRule_14 (by decide) ?_
  refine lv_istore_n (lv' := [(1, .int 0), (0, .ref g.2.2.2.1)]) C.x C.b dX10_readsRule_15 rfl hl (by decide) rfl (fun ls hl => ?_)
  exact wT_readsRule_16 C hw hRf hRl _ _ _ _ _ _ h hσ hS (lv_sub hl [1, 0] rfl)

theorem kT_readsHeir (l : Launch) (g : twG) (A : Nat → Prop) (σ : twS) (v : Int32) (σ1 : twS) (h : mT_readsHeir σ = some (v, σ1)) : Met l yX10_readsHeir (ws_ yX10_readsHeir cX10_readsHeir 2 (some .boolean)) ({ frames := 7, cells := 0, slots := 0, locals := 195 }) (TPc twL g A [.ref g.2.2.2.1] (fun _ => True) σ) (TQ g A (some (.int v)) σ1) 0 0 A := by
  refine Met.ofW (cc := cX10_readsHeir) (maxL := 2) (ret := (some .boolean)) (by decide) rfl ?_
  intro p e s m args below meth c s₁ B hml hv
  obtain ⟨rfl, hw, hX, hσ⟩ := hv
  have hts := atoms_spec (ws := (ws_ yX10_readsHeir cX10_readsHeir 2 (some .boolean))) B.pre
  have C : CX p m meth c s ([.ref g.2.2.2.1] : List Value).toArray cX10_readsHeir 2 (some .boolean) RX10 := ⟨⟨B.exec, B.bytes, hml, findClass_of_methodNamed B.named, fun w h => hts w (List.mem_cons_of_mem _ h)⟩, B.returns, B.notSynchronized⟩
  have hRf : 7 ≤ (headSpec (ws_ yX10_readsHeir cX10_readsHeir 2 (some .boolean)) ({ frames := 7, cells := 0, slots := 0, locals := 195 })).room.frames := Nat.le_refl _
  have hRl : 195 ≤ (headSpec (ws_ yX10_readsHeir cX10_readsHeir 2 (some .boolean)) ({ frames := 7, cells := 0, slots := 0, locals := 195 })).room.locals := Nat.le_refl _
  generalize (headSpec (ws_ yX10_readsHeir cX10_readsHeir 2 (some .boolean)) ({ frames := 7, cells := 0, slots := 0, locals := 195 })).room = R at hRf hRl ⊢
  have hS : va_S A s.heap s.heap [] := va_S.rf
  have hl := lv_entry ([.ref g.2.2.2.1]) (n := 2) (Nat.le_of_ble_eq_true rfl)
  rw [lg_entry_eq]
  generalize (lg_sl ([.ref g.2.2.2.1]) ++ List.replicate (2 - (lg_sl ([.ref g.2.2.2.1])).length) Slot.unset).toArray = ls at hl ⊢
  have hl : lv_has ls 2 [(0, .ref g.2.2.2.1)] := hl
  obtain ⟨z, hz⟩ : ∃ z, z = (v, σ1) := ⟨_, rfl⟩
  rw [← hz] at h
  rw [show v = z.1 by rw [hz], show σ1 = z.2 by rw [hz]]
  clear hz v σ1
  unfold mT_readsHeir at h
  refine lv_aload_n C.x C.b dX10_readsHeir_0 rfl (lv_at hl 0 rfl) ?_
  refine tw_call (y := yX10_next) (bytes := cX10_next) (maxL := 2) (fun _ => none) [] (fun _ => True)  C hw XB.tt (fun _ _ _ => trivial) hσ hS hl.1 h (fun vv ss ee => kT_next l g A σ vv ss ee) (cwV 0 C.t (lw_V q2104 q2106 qs57 q159 q2107) rfl rfl rfl (by decide +kernel) ⟨Nat.le_trans (Nat.le_of_ble_eq_true rfl) hRf, Nat.le_trans (Nat.le_of_ble_eq_true rfl) hRl⟩) rfl rfl (Nat.le_of_ble_eq_true rfl) dX10_readsHeir_1 (fun _ σ_1 H locs h hσ hS => ?_)
  refine lv_aload_n C.x C.b dX10_readsHeir_4 rfl (lv_at hl 0 rfl) ?_
  refine lv_iconst (v := 0) C.x C.b dX10_readsHeir_5 (by decide) ?_
  refine lv_aload_n C.x C.b dX10_readsHeir_6 rfl (lv_at hl 0 rfl) ?_
  refine tw_gf0 C hw hσ q2215 dX10_readsHeir_7 ?_
  refine lv_iconst (v := 5) C.x C.b dX10_readsHeir_10 (by decide) ?_
  refine tw_ld0 C hw hσ h dX10_readsHeir_11 (fun v_2 h => ?_)
  refine lv_iconst (v := 1) C.x C.b dX10_readsHeir_12 (by decide) ?_
  refine lv_isub C.x C.b dX10_readsHeir_13 ?_
  refine tw_call (y := yX10_number) (bytes := cX10_number) (maxL := 3) (fun v => some (.int v)) [.int 0, .int (v_2 - 1)] (fun _ => True)  C hw XB.tt (fun _ _ _ => trivial) hσ hS hl.1 h (fun vv ss ee => kT_number l g A 0 (v_2 - 1) σ_1 vv ss ee) (cwV 2 C.t (lw_V q2144 q2146 qs65 q159 q2147) rfl rfl rfl (by decide +kernel) ⟨Nat.le_trans (Nat.le_of_ble_eq_true rfl) hRf, Nat.le_trans (Nat.le_of_ble_eq_true rfl) hRl⟩) rfl rfl (Nat.le_of_ble_eq_true rfl) dX10_readsHeir_14 (fun v_3 σ_4 H locs h hσ hS => ?_)
  refine lv_if_ne (tgt := 22) C.x C.b dX10_readsHeir_17 (by decide) (fun c_5 => ?_) (fun c_5 => ?_)
  · have h := iN c_5 h
    refine lv_aload_n C.x C.b dX10_readsHeir_22 rfl (lv_at hl 0 rfl) ?_
    refine tw_gf21 C hw hσ q2236 dX10_readsHeir_23 ?_
    refine tw_lt h (fun x1_6 h => ?_)
    refine lv_istore_n (lv' := [(1, .int x1_6), (0, .ref g.2.2.2.1)]) C.x C.b dX10_readsHeir_26 rfl hl (by decide) rfl (fun ls hl => ?_)
    refine lv_aload_n C.x C.b dX10_readsHeir_27 rfl (lv_at hl 1 rfl) ?_
    obtain ⟨aS_237, rS_237, kS_237⟩ := hw.2.2 _ (List.mem_of_getElem? (i := 11) (rfl : twL[11]? = some (237, "free", tS_237)))
    refine va_ldcS C.x C.b C.o rS_237 dX10_readsHeir_28 ?_
    refine tw_call (y := yX10_word) (bytes := cX10_word) (maxL := 2) (fun v => some (.int v)) [.ref aS_237] (fun U => StrC A tS_237 aS_237 U U.heap)  C hw (XB.str A _ _) (fun U hU hW => StrC.at kS_237 hS hU hW) hσ hS hl.1 h (fun vv ss ee => kT_word l g A tS_237 aS_237 σ_4 vv ss ee) (cwV 1 C.t (lw_V q2120 q2122 qs60 q159 q2123) rfl rfl rfl (by decide +kernel) ⟨Nat.le_trans (Nat.le_of_ble_eq_true rfl) hRf, Nat.le_trans (Nat.le_of_ble_eq_true rfl) hRl⟩) rfl rfl (Nat.le_of_ble_eq_true rfl) dX10_readsHeir_30 (fun v_7 σ_8 H locs h hσ hS => ?_)
    refine lv_if_eq (tgt := 47) C.x C.b dX10_readsHeir_33 (by decide) (fun c_9 => ?_) (fun c_9 => ?_)
    · have h := ip c_9 h
      refine lv_iconst (v := 0) C.x C.b dX10_readsHeir_47 (by decide) ?_
      exact tw_zret C hσ hS h dX10_readsHeir_48
    · have h := iN c_9 h
      refine lv_aload_n C.x C.b dX10_readsHeir_36 rfl (lv_at hl 1 rfl) ?_
      refine lv_iconst (v := 0) C.x C.b dX10_readsHeir_37 (by decide) ?_
      refine lv_sipush (v := 9999) C.x C.b dX10_readsHeir_38 (by decide) ?_
      refine tw_call (y := yX10_number) (bytes := cX10_number) (maxL := 3) (fun v => some (.int v)) [.int 0, .int 9999] (fun _ => True)  C hw XB.tt (fun _ _ _ => trivial) hσ hS hl.1 h (fun vv ss ee => kT_number l g A 0 9999 σ_8 vv ss ee) (cwV 2 C.t (lw_V q2144 q2146 qs65 q159 q2147) rfl rfl rfl (by decide +kernel) ⟨Nat.le_trans (Nat.le_of_ble_eq_true rfl) hRf, Nat.le_trans (Nat.le_of_ble_eq_true rfl) hRl⟩) rfl rfl (Nat.le_of_ble_eq_true rfl) dX10_readsHeir_41 (fun v_10 σ_11 H locs h hσ hS => ?_)
      refine lv_if_ne (tgt := 49) C.x C.b dX10_readsHeir_44 (by decide) (fun c_12 => ?_) (fun c_12 => ?_)
      · have h := iN c_12 h
        refine lv_aload_n C.x C.b dX10_readsHeir_49 rfl (lv_at hl 1 rfl) ?_
        refine tw_gf0 C hw hσ q2215 dX10_readsHeir_50 ?_
        refine lv_bipush (v := 9) C.x C.b dX10_readsHeir_53 (by decide) ?_
        refine lv_iconst (v := 2) C.x C.b dX10_readsHeir_55 (by decide) ?_
        refine lv_iload_n C.x C.b dX10_readsHeir_56 rfl (lv_at hl 0 rfl) ?_
        refine lv_imul C.x C.b dX10_readsHeir_57 ?_
        refine lv_iadd C.x C.b dX10_readsHeir_58 ?_
        refine lv_aload_n C.x C.b dX10_readsHeir_59 rfl (lv_at hl 1 rfl) ?_
        refine tw_gf21 C hw hσ q2236 dX10_readsHeir_60 ?_
        refine tw_st0 C hw hσ hS h dX10_readsHeir_63 (fun σ_13 H locs h hσ hS => ?_)
        refine lv_aload_n C.x C.b dX10_readsHeir_64 rfl (lv_at hl 1 rfl) ?_
        obtain ⟨aS_239, rS_239, kS_239⟩ := hw.2.2 _ (List.mem_of_getElem? (i := 12) (rfl : twL[12]? = some (239, "rate", tS_239)))
        refine va_ldcS C.x C.b C.o rS_239 dX10_readsHeir_65 ?_
        refine tw_call (y := yX10_word) (bytes := cX10_word) (maxL := 2) (fun v => some (.int v)) [.ref aS_239] (fun U => StrC A tS_239 aS_239 U U.heap)  C hw (XB.str A _ _) (fun U hU hW => StrC.at kS_239 hS hU hW) hσ hS hl.1 h (fun vv ss ee => kT_word l g A tS_239 aS_239 σ_13 vv ss ee) (cwV 1 C.t (lw_V q2120 q2122 qs60 q159 q2123) rfl rfl rfl (by decide +kernel) ⟨Nat.le_trans (Nat.le_of_ble_eq_true rfl) hRf, Nat.le_trans (Nat.le_of_ble_eq_true rfl) hRl⟩) rfl rfl (Nat.le_of_ble_eq_true rfl) dX10_readsHeir_67 (fun v_14 σ_15 H locs h hσ hS => ?_)
        refine lv_if_eq (tgt := 83) C.x C.b dX10_readsHeir_70 (by decide) (fun c_16 => ?_) (fun c_16 => ?_)
        · have h := ip c_16 h
          refine lv_iconst (v := 0) C.x C.b dX10_readsHeir_83 (by decide) ?_
          exact tw_zret C hσ hS h dX10_readsHeir_84
        · have h := iN c_16 h
          refine lv_aload_n C.x C.b dX10_readsHeir_73 rfl (lv_at hl 1 rfl) ?_
          refine lv_iconst (v := 0) C.x C.b dX10_readsHeir_74 (by decide) ?_
          refine lv_bipush (v := 60) C.x C.b dX10_readsHeir_75 (by decide) ?_
          refine tw_call (y := yX10_number) (bytes := cX10_number) (maxL := 3) (fun v => some (.int v)) [.int 0, .int 60] (fun _ => True)  C hw XB.tt (fun _ _ _ => trivial) hσ hS hl.1 h (fun vv ss ee => kT_number l g A 0 60 σ_15 vv ss ee) (cwV 2 C.t (lw_V q2144 q2146 qs65 q159 q2147) rfl rfl rfl (by decide +kernel) ⟨Nat.le_trans (Nat.le_of_ble_eq_true rfl) hRf, Nat.le_trans (Nat.le_of_ble_eq_true rfl) hRl⟩) rfl rfl (Nat.le_of_ble_eq_true rfl) dX10_readsHeir_77 (fun v_17 σ_18 H locs h hσ hS => ?_)
          refine lv_if_ne (tgt := 85) C.x C.b dX10_readsHeir_80 (by decide) (fun c_19 => ?_) (fun c_19 => ?_)
          · have h := iN c_19 h
            refine lv_aload_n C.x C.b dX10_readsHeir_85 rfl (lv_at hl 1 rfl) ?_
            refine tw_gf0 C hw hσ q2215 dX10_readsHeir_86 ?_
            refine lv_bipush (v := 9) C.x C.b dX10_readsHeir_89 (by decide) ?_
            refine lv_iconst (v := 2) C.x C.b dX10_readsHeir_91 (by decide) ?_
            refine lv_iload_n C.x C.b dX10_readsHeir_92 rfl (lv_at hl 0 rfl) ?_
            refine lv_imul C.x C.b dX10_readsHeir_93 ?_
            refine lv_iadd C.x C.b dX10_readsHeir_94 ?_
            refine lv_iconst (v := 1) C.x C.b dX10_readsHeir_95 (by decide) ?_
            refine lv_iadd C.x C.b dX10_readsHeir_96 ?_
            refine lv_aload_n C.x C.b dX10_readsHeir_97 rfl (lv_at hl 1 rfl) ?_
            refine tw_gf21 C hw hσ q2236 dX10_readsHeir_98 ?_
            refine tw_st0 C hw hσ hS h dX10_readsHeir_101 (fun σ_20 H locs h hσ hS => ?_)
            refine lv_iconst (v := 1) C.x C.b dX10_readsHeir_102 (by decide) ?_
            exact tw_zret C hσ hS h dX10_readsHeir_103
          · have h := ip c_19 h
            refine lv_iconst (v := 0) C.x C.b dX10_readsHeir_83 (by decide) ?_
            exact tw_zret C hσ hS h dX10_readsHeir_84
      · have h := ip c_12 h
        refine lv_iconst (v := 0) C.x C.b dX10_readsHeir_47 (by decide) ?_
        exact tw_zret C hσ hS h dX10_readsHeir_48
  · have h := ip c_5 h
    refine lv_iconst (v := 0) C.x C.b dX10_readsHeir_20 (by decide) ?_
    exact tw_zret C hσ hS h dX10_readsHeir_21

theorem kT_readsLine (l : Launch) (g : twG) (A : Nat → Prop) (σ : twS) (v : Int32) (σ1 : twS) (h : mT_readsLine σ = some (v, σ1)) : Met l yX10_readsLine (ws_ yX10_readsLine cX10_readsLine 1 (some .boolean)) ({ frames := 521, cells := 0, slots := 0, locals := 13931 }) (TPc twL g A [.ref g.2.2.2.1] (fun _ => True) σ) (TQ g A (some (.int v)) σ1) 0 0 A := by
  refine Met.ofW (cc := cX10_readsLine) (maxL := 1) (ret := (some .boolean)) (by decide) rfl ?_
  intro p e s m args below meth c s₁ B hml hv
  obtain ⟨rfl, hw, hX, hσ⟩ := hv
  have hts := atoms_spec (ws := (ws_ yX10_readsLine cX10_readsLine 1 (some .boolean))) B.pre
  have C : CX p m meth c s ([.ref g.2.2.2.1] : List Value).toArray cX10_readsLine 1 (some .boolean) RX10 := ⟨⟨B.exec, B.bytes, hml, findClass_of_methodNamed B.named, fun w h => hts w (List.mem_cons_of_mem _ h)⟩, B.returns, B.notSynchronized⟩
  have hRf : 521 ≤ (headSpec (ws_ yX10_readsLine cX10_readsLine 1 (some .boolean)) ({ frames := 521, cells := 0, slots := 0, locals := 13931 })).room.frames := Nat.le_refl _
  have hRl : 13931 ≤ (headSpec (ws_ yX10_readsLine cX10_readsLine 1 (some .boolean)) ({ frames := 521, cells := 0, slots := 0, locals := 13931 })).room.locals := Nat.le_refl _
  generalize (headSpec (ws_ yX10_readsLine cX10_readsLine 1 (some .boolean)) ({ frames := 521, cells := 0, slots := 0, locals := 13931 })).room = R at hRf hRl ⊢
  have hS : va_S A s.heap s.heap [] := va_S.rf
  have hl := lv_entry ([.ref g.2.2.2.1]) (n := 1) (Nat.le_of_ble_eq_true rfl)
  rw [lg_entry_eq]
  generalize (lg_sl ([.ref g.2.2.2.1]) ++ List.replicate (1 - (lg_sl ([.ref g.2.2.2.1])).length) Slot.unset).toArray = ls at hl ⊢
  have hl : lv_has ls 1 [(0, .ref g.2.2.2.1)] := hl
  obtain ⟨z, hz⟩ : ∃ z, z = (v, σ1) := ⟨_, rfl⟩
  rw [← hz] at h
  rw [show v = z.1 by rw [hz], show σ1 = z.2 by rw [hz]]
  clear hz v σ1
  unfold mT_readsLine at h
  refine lv_aload_n C.x C.b dX10_readsLine_0 rfl (lv_at hl 0 rfl) ?_
  obtain ⟨aS_241, rS_241, kS_241⟩ := hw.2.2 _ (List.mem_of_getElem? (i := 13) (rfl : twL[13]? = some (241, "rule", tS_241)))
  refine va_ldcS C.x C.b C.o rS_241 dX10_readsLine_1 ?_
  refine tw_call (y := yX10_says) (bytes := cX10_says) (maxL := 3) (fun v => some (.int v)) [.ref aS_241] (fun U => StrC A tS_241 aS_241 U U.heap)  C hw (XB.str A _ _) (fun U hU hW => StrC.at kS_241 hS hU hW) hσ hS hl.1 h (fun vv ss ee => kT_says l g A tS_241 aS_241 σ vv ss ee) (cwV 1 C.t (lw_V q2124 q2126 qs61 q159 q2127) rfl rfl rfl (by decide +kernel) ⟨Nat.le_trans (Nat.le_of_ble_eq_true rfl) hRf, Nat.le_trans (Nat.le_of_ble_eq_true rfl) hRl⟩) rfl rfl (Nat.le_of_ble_eq_true rfl) dX10_readsLine_3 (fun v_1 σ_2 H locs h hσ hS => ?_)
  refine lv_if_eq (tgt := 53) C.x C.b dX10_readsLine_6 (by decide) (fun c_3 => ?_) (fun c_3 => ?_)
  · have h := ip c_3 h
    refine lv_aload_n C.x C.b dX10_readsLine_53 rfl (lv_at hl 0 rfl) ?_
    obtain ⟨aS_246, rS_246, kS_246⟩ := hw.2.2 _ (List.mem_of_getElem? (i := 14) (rfl : twL[14]? = some (246, "heir", tS_246)))
    refine va_ldcS C.x C.b C.o rS_246 dX10_readsLine_54 ?_
    refine tw_call (y := yX10_says) (bytes := cX10_says) (maxL := 3) (fun v => some (.int v)) [.ref aS_246] (fun U => StrC A tS_246 aS_246 U U.heap)  C hw (XB.str A _ _) (fun U hU hW => StrC.at kS_246 hS hU hW) hσ hS hl.1 h (fun vv ss ee => kT_says l g A tS_246 aS_246 σ_2 vv ss ee) (cwV 1 C.t (lw_V q2124 q2126 qs61 q159 q2127) rfl rfl rfl (by decide +kernel) ⟨Nat.le_trans (Nat.le_of_ble_eq_true rfl) hRf, Nat.le_trans (Nat.le_of_ble_eq_true rfl) hRl⟩) rfl rfl (Nat.le_of_ble_eq_true rfl) dX10_readsLine_56 (fun v_4 σ_5 H locs h hσ hS => ?_)
    refine lv_if_eq (tgt := 67) C.x C.b dX10_readsLine_59 (by decide) (fun c_6 => ?_) (fun c_6 => ?_)
    · have h := ip c_6 h
      refine lv_aload_n C.x C.b dX10_readsLine_67 rfl (lv_at hl 0 rfl) ?_
      obtain ⟨aS_251, rS_251, kS_251⟩ := hw.2.2 _ (List.mem_of_getElem? (i := 15) (rfl : twL[15]? = some (251, "estate", tS_251)))
      refine va_ldcS C.x C.b C.o rS_251 dX10_readsLine_68 ?_
      refine tw_call (y := yX10_word) (bytes := cX10_word) (maxL := 2) (fun v => some (.int v)) [.ref aS_251] (fun U => StrC A tS_251 aS_251 U U.heap)  C hw (XB.str A _ _) (fun U hU hW => StrC.at kS_251 hS hU hW) hσ hS hl.1 h (fun vv ss ee => kT_word l g A tS_251 aS_251 σ_5 vv ss ee) (cwV 1 C.t (lw_V q2120 q2122 qs60 q159 q2123) rfl rfl rfl (by decide +kernel) ⟨Nat.le_trans (Nat.le_of_ble_eq_true rfl) hRf, Nat.le_trans (Nat.le_of_ble_eq_true rfl) hRl⟩) rfl rfl (Nat.le_of_ble_eq_true rfl) dX10_readsLine_70 (fun v_7 σ_8 H locs h hσ hS => ?_)
      refine lv_if_eq (tgt := 87) C.x C.b dX10_readsLine_73 (by decide) (fun c_9 => ?_) (fun c_9 => ?_)
      · have h := ip c_9 h
        refine lv_iconst (v := 0) C.x C.b dX10_readsLine_87 (by decide) ?_
        exact tw_zret C hσ hS h dX10_readsLine_88
      · have h := iN c_9 h
        refine lv_aload_n C.x C.b dX10_readsLine_76 rfl (lv_at hl 0 rfl) ?_
        refine lv_iconst (v := 0) C.x C.b dX10_readsLine_77 (by decide) ?_
        refine lv_sipush (v := 9999) C.x C.b dX10_readsLine_78 (by decide) ?_
        refine tw_call (y := yX10_number) (bytes := cX10_number) (maxL := 3) (fun v => some (.int v)) [.int 0, .int 9999] (fun _ => True)  C hw XB.tt (fun _ _ _ => trivial) hσ hS hl.1 h (fun vv ss ee => kT_number l g A 0 9999 σ_8 vv ss ee) (cwV 2 C.t (lw_V q2144 q2146 qs65 q159 q2147) rfl rfl rfl (by decide +kernel) ⟨Nat.le_trans (Nat.le_of_ble_eq_true rfl) hRf, Nat.le_trans (Nat.le_of_ble_eq_true rfl) hRl⟩) rfl rfl (Nat.le_of_ble_eq_true rfl) dX10_readsLine_81 (fun v_10 σ_11 H locs h hσ hS => ?_)
        refine lv_if_ne (tgt := 89) C.x C.b dX10_readsLine_84 (by decide) (fun c_12 => ?_) (fun c_12 => ?_)
        · have h := iN c_12 h
          refine lv_aload_n C.x C.b dX10_readsLine_89 rfl (lv_at hl 0 rfl) ?_
          refine tw_gf0 C hw hσ q2215 dX10_readsLine_90 ?_
          refine lv_bipush (v := 7) C.x C.b dX10_readsLine_93 (by decide) ?_
          refine lv_aload_n C.x C.b dX10_readsLine_95 rfl (lv_at hl 0 rfl) ?_
          refine tw_gf21 C hw hσ q2236 dX10_readsLine_96 ?_
          refine tw_st0 C hw hσ hS h dX10_readsLine_99 (fun σ_13 H locs h hσ hS => ?_)
          refine lv_iconst (v := 1) C.x C.b dX10_readsLine_100 (by decide) ?_
          exact tw_zret C hσ hS h dX10_readsLine_101
        · have h := ip c_12 h
          refine lv_iconst (v := 0) C.x C.b dX10_readsLine_87 (by decide) ?_
          exact tw_zret C hσ hS h dX10_readsLine_88
    · have h := iN c_6 h
      refine lv_aload_n C.x C.b dX10_readsLine_62 rfl (lv_at hl 0 rfl) ?_
      refine tw_call (y := yX10_readsHeir) (bytes := cX10_readsHeir) (maxL := 2) (fun v => some (.int v)) [] (fun _ => True)  C hw XB.tt (fun _ _ _ => trivial) hσ hS hl.1 h (fun vv ss ee => kT_readsHeir l g A σ_5 vv ss ee) (cwV 0 C.t (lw_V q2208 q2210 qs77 q159 q2211) rfl rfl rfl (by decide +kernel) ⟨Nat.le_trans (Nat.le_of_ble_eq_true rfl) hRf, Nat.le_trans (Nat.le_of_ble_eq_true rfl) hRl⟩) rfl rfl (Nat.le_of_ble_eq_true rfl) dX10_readsLine_63 (fun v_14 σ_15 H locs h hσ hS => ?_)
      exact tw_zret C hσ hS h dX10_readsLine_66
  · have h := iN c_3 h
    refine lv_aload_n C.x C.b dX10_readsLine_9 rfl (lv_at hl 0 rfl) ?_
    refine tw_gf0 C hw hσ q2215 dX10_readsLine_10 ?_
    refine lv_bipush (v := 17) C.x C.b dX10_readsLine_13 (by decide) ?_
    refine tw_ld0 C hw hσ h dX10_readsLine_15 (fun v_16 h => ?_)
    refine lv_bipush (v := 10) C.x C.b dX10_readsLine_16 (by decide) ?_
    refine lv_icmp_ne (tgt := 27) C.x C.b dX10_readsLine_18 (by decide) (fun c_17 => ?_) (fun c_17 => ?_)
    · have h := iN c_17 h
      refine lv_aload_n C.x C.b dX10_readsLine_27 rfl (lv_at hl 0 rfl) ?_
      refine tw_call (y := yX10_next) (bytes := cX10_next) (maxL := 2) (fun _ => none) [] (fun _ => True)  C hw XB.tt (fun _ _ _ => trivial) hσ hS hl.1 h (fun vv ss ee => kT_next l g A σ_2 vv ss ee) (cwV 0 C.t (lw_V q2104 q2106 qs57 q159 q2107) rfl rfl rfl (by decide +kernel) ⟨Nat.le_trans (Nat.le_of_ble_eq_true rfl) hRf, Nat.le_trans (Nat.le_of_ble_eq_true rfl) hRl⟩) rfl rfl (Nat.le_of_ble_eq_true rfl) dX10_readsLine_28 (fun _ σ_18 H locs h hσ hS => ?_)
      refine lv_aload_n C.x C.b dX10_readsLine_31 rfl (lv_at hl 0 rfl) ?_
      refine tw_call (y := yX10_readsRule) (bytes := cX10_readsRule) (maxL := 2) (fun v => some (.int v)) [] (fun _ => True)  C hw XB.tt (fun _ _ _ => trivial) hσ hS hl.1 h (fun vv ss ee => kT_readsRule l g A σ_18 vv ss ee) (cwV 0 C.t (lw_V q2154 q2156 qs67 q159 q2157) rfl rfl rfl (by decide +kernel) ⟨Nat.le_trans (Nat.le_of_ble_eq_true rfl) hRf, Nat.le_trans (Nat.le_of_ble_eq_true rfl) hRl⟩) rfl rfl (Nat.le_of_ble_eq_true rfl) dX10_readsLine_32 (fun v_19 σ_20 H locs h hσ hS => ?_)
      refine lv_if_ne (tgt := 40) C.x C.b dX10_readsLine_35 (by decide) (fun c_21 => ?_) (fun c_21 => ?_)
      · have h := iN c_21 h
        refine lv_aload_n C.x C.b dX10_readsLine_40 rfl (lv_at hl 0 rfl) ?_
        refine tw_gf0 C hw hσ q2215 dX10_readsLine_41 ?_
        refine lv_bipush (v := 17) C.x C.b dX10_readsLine_44 (by decide) ?_
        refine lv_dup2_11 C.x C.b dX10_readsLine_46 rfl rfl ?_
        refine tw_ld0 C hw hσ h dX10_readsLine_47 (fun v_22 h => ?_)
        refine lv_iconst (v := 1) C.x C.b dX10_readsLine_48 (by decide) ?_
        refine lv_iadd C.x C.b dX10_readsLine_49 ?_
        refine tw_st0 C hw hσ hS h dX10_readsLine_50 (fun σ_23 H locs h hσ hS => ?_)
        refine lv_iconst (v := 1) C.x C.b dX10_readsLine_51 (by decide) ?_
        exact tw_zret C hσ hS h dX10_readsLine_52
      · have h := ip c_21 h
        refine lv_iconst (v := 0) C.x C.b dX10_readsLine_38 (by decide) ?_
        exact tw_zret C hσ hS h dX10_readsLine_39
    · have h := ip c_17 h
      refine lv_aload_n C.x C.b dX10_readsLine_21 rfl (lv_at hl 0 rfl) ?_
      refine lv_iconst (v := 4) C.x C.b dX10_readsLine_22 (by decide) ?_
      refine tw_call (y := yX10_fail) (bytes := cX10_fail) (maxL := 2) (fun v => some (.int v)) [.int 4] (fun _ => True)  C hw XB.tt (fun _ _ _ => trivial) hσ hS hl.1 h (fun vv ss ee => kT_fail l g A 4 σ_2 vv ss ee) (cwV 1 C.t (lw_V q2128 q2130 qs62 q159 q2131) rfl rfl rfl (by decide +kernel) ⟨Nat.le_trans (Nat.le_of_ble_eq_true rfl) hRf, Nat.le_trans (Nat.le_of_ble_eq_true rfl) hRl⟩) rfl rfl (Nat.le_of_ble_eq_true rfl) dX10_readsLine_23 (fun v_24 σ_25 H locs h hσ hS => ?_)
      exact tw_zret C hσ hS h dX10_readsLine_26

theorem wT_reads_9 {z : Int32 × twS} (C : CX p m meth c s args cX10_reads 1 (some .boolean) RX10) (hw : WKt twL g A s s.heap) (hRf : 522 ≤ R.frames) (hRl : 13951 ≤ R.locals) : ∀ (n : Nat) (σ : twS) (H : Heap) (locs : List Loc) (ls : Array Slot), bT_reads_9 n σ = some z → TI g A σ H → va_S A s.heap H locs → lv_has ls 1 [(0, .ref g.2.2.2.1)] → W p l e R s m args below meth c H locs 0 0 (MQ below (TQ g A (some (.int z.1)) z.2) args s 0 0 A) (F0 m 9 ls []) := by
  intro n
  induction n with
  | zero =>
    intro σ H locs ls h
    cases h
  | succ n ih =>
    intro σ H locs ls h hσ hS hl
    rw [bT_reads_9] at h
    refine lv_aload_n C.x C.b dX10_reads_9 rfl (lv_at hl 0 rfl) ?_
    refine tw_gf16 C hw hσ q2231 dX10_reads_10 ?_
    refine lv_if_eq (tgt := 34) C.x C.b dX10_reads_13 (by decide) (fun c_1 => ?_) (fun c_1 => ?_)
    · have h := ip c_1 h
      refine lv_iconst (v := 1) C.x C.b dX10_reads_34 (by decide) ?_
      exact tw_zret C hσ hS h dX10_reads_35
    · have h := iN c_1 h
      refine lv_aload_n C.x C.b dX10_reads_16 rfl (lv_at hl 0 rfl) ?_
      refine tw_call (y := yX10_readsLine) (bytes := cX10_readsLine) (maxL := 1) (fun v => some (.int v)) [] (fun _ => True)  C hw XB.tt (fun _ _ _ => trivial) hσ hS hl.1 h (fun vv ss ee => kT_readsLine l g A σ vv ss ee) (cwV 0 C.t (lw_V q2149 q2151 qs66 q159 q2152) rfl rfl rfl (by decide +kernel) ⟨Nat.le_trans (Nat.le_of_ble_eq_true rfl) hRf, Nat.le_trans (Nat.le_of_ble_eq_true rfl) hRl⟩) rfl rfl (Nat.le_of_ble_eq_true rfl) dX10_reads_17 (fun v_2 σ_3 H locs h hσ hS => ?_)
      refine lv_if_eq (tgt := 32) C.x C.b dX10_reads_20 (by decide) (fun c_4 => ?_) (fun c_4 => ?_)
      · have h := ip c_4 h
        refine lv_iconst (v := 0) C.x C.b dX10_reads_32 (by decide) ?_
        exact tw_zret C hσ hS h dX10_reads_33
      · have h := iN c_4 h
        refine lv_aload_n C.x C.b dX10_reads_23 rfl (lv_at hl 0 rfl) ?_
        refine lv_bipush (v := 59) C.x C.b dX10_reads_24 (by decide) ?_
        refine tw_call (y := yX10_sign) (bytes := cX10_sign) (maxL := 2) (fun v => some (.int v)) [.int 59] (fun _ => True)  C hw XB.tt (fun _ _ _ => trivial) hσ hS hl.1 h (fun vv ss ee => kT_sign l g A 59 σ_3 vv ss ee) (cwV 1 C.t (lw_V q2139 q2141 qs64 q159 q2142) rfl rfl rfl (by decide +kernel) ⟨Nat.le_trans (Nat.le_of_ble_eq_true rfl) hRf, Nat.le_trans (Nat.le_of_ble_eq_true rfl) hRl⟩) rfl rfl (Nat.le_of_ble_eq_true rfl) dX10_reads_26 (fun v_5 σ_6 H locs h hσ hS => ?_)
        refine lv_if_ne (tgt := 9) C.x C.b dX10_reads_29 (by decide) (fun c_7 => ?_) (fun c_7 => ?_)
        · have h := iN c_7 h
          exact ih _ _ _ _ h hσ hS (lv_sub hl [0] rfl)
        · have h := ip c_7 h
          refine lv_iconst (v := 0) C.x C.b dX10_reads_32 (by decide) ?_
          exact tw_zret C hσ hS h dX10_reads_33

theorem kT_reads (l : Launch) (g : twG) (A : Nat → Prop) (σ : twS) (v : Int32) (σ1 : twS) (h : mT_reads σ = some (v, σ1)) : Met l yX10_reads (ws_ yX10_reads cX10_reads 1 (some .boolean)) ({ frames := 522, cells := 0, slots := 0, locals := 13951 }) (TPc twL g A [.ref g.2.2.2.1] (fun _ => True) σ) (TQ g A (some (.int v)) σ1) 0 0 A := by
  refine Met.ofW (cc := cX10_reads) (maxL := 1) (ret := (some .boolean)) (by decide) rfl ?_
  intro p e s m args below meth c s₁ B hml hv
  obtain ⟨rfl, hw, hX, hσ⟩ := hv
  have hts := atoms_spec (ws := (ws_ yX10_reads cX10_reads 1 (some .boolean))) B.pre
  have C : CX p m meth c s ([.ref g.2.2.2.1] : List Value).toArray cX10_reads 1 (some .boolean) RX10 := ⟨⟨B.exec, B.bytes, hml, findClass_of_methodNamed B.named, fun w h => hts w (List.mem_cons_of_mem _ h)⟩, B.returns, B.notSynchronized⟩
  have hRf : 522 ≤ (headSpec (ws_ yX10_reads cX10_reads 1 (some .boolean)) ({ frames := 522, cells := 0, slots := 0, locals := 13951 })).room.frames := Nat.le_refl _
  have hRl : 13951 ≤ (headSpec (ws_ yX10_reads cX10_reads 1 (some .boolean)) ({ frames := 522, cells := 0, slots := 0, locals := 13951 })).room.locals := Nat.le_refl _
  generalize (headSpec (ws_ yX10_reads cX10_reads 1 (some .boolean)) ({ frames := 522, cells := 0, slots := 0, locals := 13951 })).room = R at hRf hRl ⊢
  have hS : va_S A s.heap s.heap [] := va_S.rf
  have hl := lv_entry ([.ref g.2.2.2.1]) (n := 1) (Nat.le_of_ble_eq_true rfl)
  rw [lg_entry_eq]
  generalize (lg_sl ([.ref g.2.2.2.1]) ++ List.replicate (1 - (lg_sl ([.ref g.2.2.2.1])).length) Slot.unset).toArray = ls at hl ⊢
  have hl : lv_has ls 1 [(0, .ref g.2.2.2.1)] := hl
  obtain ⟨z, hz⟩ : ∃ z, z = (v, σ1) := ⟨_, rfl⟩
  rw [← hz] at h
  rw [show v = z.1 by rw [hz], show σ1 = z.2 by rw [hz]]
  clear hz v σ1
  unfold mT_reads at h
  refine lv_aload_n C.x C.b dX10_reads_0 rfl (lv_at hl 0 rfl) ?_
  refine tw_call (y := yX10_readsFacts) (bytes := cX10_readsFacts) (maxL := 2) (fun v => some (.int v)) [] (fun _ => True)  C hw XB.tt (fun _ _ _ => trivial) hσ hS hl.1 h (fun vv ss ee => kT_readsFacts l g A σ vv ss ee) (cwV 0 C.t (lw_V q2115 q2117 qs59 q159 q2118) rfl rfl rfl (by decide +kernel) ⟨Nat.le_trans (Nat.le_of_ble_eq_true rfl) hRf, Nat.le_trans (Nat.le_of_ble_eq_true rfl) hRl⟩) rfl rfl (Nat.le_of_ble_eq_true rfl) dX10_reads_1 (fun v_1 σ_2 H locs h hσ hS => ?_)
  refine lv_if_ne (tgt := 9) C.x C.b dX10_reads_4 (by decide) (fun c_3 => ?_) (fun c_3 => ?_)
  · have h := iN c_3 h
    exact wT_reads_9 C hw hRf hRl _ _ _ _ _ h hσ hS (lv_sub hl [0] rfl)
  · have h := ip c_3 h
    refine lv_iconst (v := 0) C.x C.b dX10_reads_7 (by decide) ?_
    exact tw_zret C hσ hS h dX10_reads_8

theorem wT_parseAll_95 {z : Int32 × twS} (C : CX p m meth c s args cX10_parseAll 2 (some .boolean) RX10) (hw : WKt twL g A s s.heap) (hRf : 523 ≤ R.frames) (hRl : 13971 ≤ R.locals) : ∀ (n : Nat) (x1 : Int32) (σ : twS) (H : Heap) (locs : List Loc) (ls : Array Slot), bT_parseAll_95 n x1 σ = some z → TI g A σ H → va_S A s.heap H locs → lv_has ls 2 [(0, .ref g.2.2.2.1), (1, .int x1)] → W p l e R s m args below meth c H locs 0 0 (MQ below (TQ g A (some (.int z.1)) z.2) args s 0 0 A) (F0 m 95 ls []) := by
  intro n
  induction n with
  | zero =>
    intro x1 σ H locs ls h
    cases h
  | succ n ih =>
    intro x1 σ H locs ls h hσ hS hl
    rw [bT_parseAll_95] at h
    refine lv_iload_n C.x C.b dX10_parseAll_95 rfl (lv_at hl 1 rfl) ?_
    refine lv_sipush (v := 358) C.x C.b dX10_parseAll_96 (by decide) ?_
    refine lv_icmp_ge (tgt := 120) C.x C.b dX10_parseAll_99 (by decide) (fun c_1 => ?_) (fun c_1 => ?_)
    · have h := ip c_1 h
      refine lv_iconst (v := 0) C.x C.b dX10_parseAll_120 (by decide) ?_
      exact tw_zret C hσ hS h dX10_parseAll_121
    · have h := iN c_1 h
      refine lv_aload_n C.x C.b dX10_parseAll_102 rfl (lv_at hl 0 rfl) ?_
      refine tw_gf0 C hw hσ q2215 dX10_parseAll_103 ?_
      refine lv_iload_n C.x C.b dX10_parseAll_106 rfl (lv_at hl 1 rfl) ?_
      refine lv_aload_n C.x C.b dX10_parseAll_107 rfl (lv_at hl 0 rfl) ?_
      refine tw_gf1 C hw hσ q2216 dX10_parseAll_108 ?_
      refine lv_iload_n C.x C.b dX10_parseAll_111 rfl (lv_at hl 1 rfl) ?_
      refine tw_ld1 C hw hσ h dX10_parseAll_112 (fun v_2 h => ?_)
      refine tw_st0 C hw hσ hS h dX10_parseAll_113 (fun σ_3 H locs h hσ hS => ?_)
      obtain ⟨x1_4, e_, h⟩ := nm_s h
      refine lv_iinc (v := x1_4) (lv' := [(1, .int x1_4), (0, .ref g.2.2.2.1)]) C.x C.b dX10_parseAll_114 hl (k := 1) rfl e_.symm (by decide) rfl (fun ls hl => ?_)
      refine lv_goto (tgt := 95) C.x C.b dX10_parseAll_117 (by decide) ?_
      exact ih _ _ _ _ _ h hσ hS (lv_sub hl [1, 0] rfl)

theorem wT_parseAll_46 {z : Int32 × twS} (C : CX p m meth c s args cX10_parseAll 2 (some .boolean) RX10) (hw : WKt twL g A s s.heap) (hRf : 523 ≤ R.frames) (hRl : 13971 ≤ R.locals) : ∀ (n : Nat) (x1 : Int32) (σ : twS) (H : Heap) (locs : List Loc) (ls : Array Slot), bT_parseAll_46 n x1 σ = some z → TI g A σ H → va_S A s.heap H locs → lv_has ls 2 [(0, .ref g.2.2.2.1), (1, .int x1)] → W p l e R s m args below meth c H locs 0 0 (MQ below (TQ g A (some (.int z.1)) z.2) args s 0 0 A) (F0 m 46 ls []) := by
  intro n
  induction n with
  | zero =>
    intro x1 σ H locs ls h
    cases h
  | succ n ih =>
    intro x1 σ H locs ls h hσ hS hl
    rw [bT_parseAll_46] at h
    refine lv_iload_n C.x C.b dX10_parseAll_46 rfl (lv_at hl 1 rfl) ?_
    refine lv_iconst (v := 4) C.x C.b dX10_parseAll_47 (by decide) ?_
    refine lv_icmp_ge (tgt := 72) C.x C.b dX10_parseAll_48 (by decide) (fun c_1 => ?_) (fun c_1 => ?_)
    · have h := ip c_1 h
      refine lv_aload_n C.x C.b dX10_parseAll_72 rfl (lv_at hl 0 rfl) ?_
      refine lv_iconst (v := 0) C.x C.b dX10_parseAll_73 (by decide) ?_
      refine tw_pf20 C hw hσ hS q2235 dX10_parseAll_74 (fun H locs hσ hS => ?_)
      obtain ⟨σ_2, e_, h⟩ := nm_s h
      rw [← e_] at hσ
      clear e_
      refine lv_aload_n C.x C.b dX10_parseAll_77 rfl (lv_at hl 0 rfl) ?_
      refine lv_iconst (v := 0) C.x C.b dX10_parseAll_78 (by decide) ?_
      refine tw_pf18 C hw hσ hS q2233 dX10_parseAll_79 (fun H locs hσ hS => ?_)
      obtain ⟨σ_3, e_, h⟩ := nm_s h
      rw [← e_] at hσ
      clear e_
      refine lv_aload_n C.x C.b dX10_parseAll_82 rfl (lv_at hl 0 rfl) ?_
      refine tw_call (y := yX10_next) (bytes := cX10_next) (maxL := 2) (fun _ => none) [] (fun _ => True)  C hw XB.tt (fun _ _ _ => trivial) hσ hS hl.1 h (fun vv ss ee => kT_next l g A σ_3 vv ss ee) (cwV 0 C.t (lw_V q2104 q2106 qs57 q159 q2107) rfl rfl rfl (by decide +kernel) ⟨Nat.le_trans (Nat.le_of_ble_eq_true rfl) hRf, Nat.le_trans (Nat.le_of_ble_eq_true rfl) hRl⟩) rfl rfl (Nat.le_of_ble_eq_true rfl) dX10_parseAll_83 (fun _ σ_4 H locs h hσ hS => ?_)
      refine lv_aload_n C.x C.b dX10_parseAll_86 rfl (lv_at hl 0 rfl) ?_
      refine tw_call (y := yX10_reads) (bytes := cX10_reads) (maxL := 1) (fun v => some (.int v)) [] (fun _ => True)  C hw XB.tt (fun _ _ _ => trivial) hσ hS hl.1 h (fun vv ss ee => kT_reads l g A σ_4 vv ss ee) (cwV 0 C.t (lw_V q2111 q2113 qs58 q159 q2114) rfl rfl rfl (by decide +kernel) ⟨Nat.le_trans (Nat.le_of_ble_eq_true rfl) hRf, Nat.le_trans (Nat.le_of_ble_eq_true rfl) hRl⟩) rfl rfl (Nat.le_of_ble_eq_true rfl) dX10_parseAll_87 (fun v_5 σ_6 H locs h hσ hS => ?_)
      refine lv_if_ne (tgt := 122) C.x C.b dX10_parseAll_90 (by decide) (fun c_7 => ?_) (fun c_7 => ?_)
      · have h := iN c_7 h
        refine lv_aload_n C.x C.b dX10_parseAll_122 rfl (lv_at hl 0 rfl) ?_
        refine lv_iconst (v := 0) C.x C.b dX10_parseAll_123 (by decide) ?_
        refine tw_pf5 C hw hσ hS q2220 dX10_parseAll_124 (fun H locs hσ hS => ?_)
        obtain ⟨σ_8, e_, h⟩ := nm_s h
        rw [← e_] at hσ
        clear e_
        refine lv_aload_n C.x C.b dX10_parseAll_127 rfl (lv_at hl 0 rfl) ?_
        refine lv_iconst (v := 0) C.x C.b dX10_parseAll_128 (by decide) ?_
        refine tw_pf6 C hw hσ hS q2221 dX10_parseAll_129 (fun H locs hσ hS => ?_)
        obtain ⟨σ_9, e_, h⟩ := nm_s h
        rw [← e_] at hσ
        clear e_
        refine lv_iconst (v := 1) C.x C.b dX10_parseAll_132 (by decide) ?_
        exact tw_zret C hσ hS h dX10_parseAll_133
      · have h := ip c_7 h
        refine lv_iconst (v := 0) C.x C.b dX10_parseAll_93 (by decide) ?_
        refine lv_istore_n (lv' := [(1, .int 0), (0, .ref g.2.2.2.1)]) C.x C.b dX10_parseAll_94 rfl hl (by decide) rfl (fun ls hl => ?_)
        exact wT_parseAll_95 C hw hRf hRl _ _ _ _ _ _ h hσ hS (lv_sub hl [1, 0] rfl)
    · have h := iN c_1 h
      refine lv_aload_n C.x C.b dX10_parseAll_51 rfl (lv_at hl 0 rfl) ?_
      refine tw_gf0 C hw hσ q2215 dX10_parseAll_52 ?_
      refine lv_bipush (v := 9) C.x C.b dX10_parseAll_55 (by decide) ?_
      refine lv_iconst (v := 2) C.x C.b dX10_parseAll_57 (by decide) ?_
      refine lv_iload_n C.x C.b dX10_parseAll_58 rfl (lv_at hl 1 rfl) ?_
      refine lv_imul C.x C.b dX10_parseAll_59 ?_
      refine lv_iadd C.x C.b dX10_parseAll_60 ?_
      refine lv_iconst (v := 1) C.x C.b dX10_parseAll_61 (by decide) ?_
      refine lv_iadd C.x C.b dX10_parseAll_62 ?_
      refine lv_bipush (v := 10) C.x C.b dX10_parseAll_63 (by decide) ?_
      refine tw_st0 C hw hσ hS h dX10_parseAll_65 (fun σ_10 H locs h hσ hS => ?_)
      obtain ⟨x1_11, e_, h⟩ := nm_s h
      refine lv_iinc (v := x1_11) (lv' := [(1, .int x1_11), (0, .ref g.2.2.2.1)]) C.x C.b dX10_parseAll_66 hl (k := 1) rfl e_.symm (by decide) rfl (fun ls hl => ?_)
      refine lv_goto (tgt := 46) C.x C.b dX10_parseAll_69 (by decide) ?_
      exact ih _ _ _ _ _ h hσ hS (lv_sub hl [1, 0] rfl)

theorem wT_parseAll_2 {z : Int32 × twS} (C : CX p m meth c s args cX10_parseAll 2 (some .boolean) RX10) (hw : WKt twL g A s s.heap) (hRf : 523 ≤ R.frames) (hRl : 13971 ≤ R.locals) : ∀ (n : Nat) (x1 : Int32) (σ : twS) (H : Heap) (locs : List Loc) (ls : Array Slot), bT_parseAll_2 n x1 σ = some z → TI g A σ H → va_S A s.heap H locs → lv_has ls 2 [(0, .ref g.2.2.2.1), (1, .int x1)] → W p l e R s m args below meth c H locs 0 0 (MQ below (TQ g A (some (.int z.1)) z.2) args s 0 0 A) (F0 m 2 ls []) := by
  intro n
  induction n with
  | zero =>
    intro x1 σ H locs ls h
    cases h
  | succ n ih =>
    intro x1 σ H locs ls h hσ hS hl
    rw [bT_parseAll_2] at h
    refine lv_iload_n C.x C.b dX10_parseAll_2 rfl (lv_at hl 1 rfl) ?_
    refine lv_sipush (v := 358) C.x C.b dX10_parseAll_3 (by decide) ?_
    refine lv_icmp_ge (tgt := 34) C.x C.b dX10_parseAll_6 (by decide) (fun c_1 => ?_) (fun c_1 => ?_)
    · have h := ip c_1 h
      refine lv_aload_n C.x C.b dX10_parseAll_34 rfl (lv_at hl 0 rfl) ?_
      refine tw_gf0 C hw hσ q2215 dX10_parseAll_35 ?_
      refine lv_bipush (v := 7) C.x C.b dX10_parseAll_38 (by decide) ?_
      refine lv_sipush (v := 1000) C.x C.b dX10_parseAll_40 (by decide) ?_
      refine tw_st0 C hw hσ hS h dX10_parseAll_43 (fun σ_2 H locs h hσ hS => ?_)
      refine lv_iconst (v := 0) C.x C.b dX10_parseAll_44 (by decide) ?_
      refine lv_istore_n (lv' := [(1, .int 0), (0, .ref g.2.2.2.1)]) C.x C.b dX10_parseAll_45 rfl hl (by decide) rfl (fun ls hl => ?_)
      exact wT_parseAll_46 C hw hRf hRl _ _ _ _ _ _ h hσ hS (lv_sub hl [1, 0] rfl)
    · have h := iN c_1 h
      refine lv_aload_n C.x C.b dX10_parseAll_9 rfl (lv_at hl 0 rfl) ?_
      refine tw_gf1 C hw hσ q2216 dX10_parseAll_10 ?_
      refine lv_iload_n C.x C.b dX10_parseAll_13 rfl (lv_at hl 1 rfl) ?_
      refine lv_aload_n C.x C.b dX10_parseAll_14 rfl (lv_at hl 0 rfl) ?_
      refine tw_gf0 C hw hσ q2215 dX10_parseAll_15 ?_
      refine lv_iload_n C.x C.b dX10_parseAll_18 rfl (lv_at hl 1 rfl) ?_
      refine tw_ld0 C hw hσ h dX10_parseAll_19 (fun v_3 h => ?_)
      refine tw_st1 C hw hσ hS h dX10_parseAll_20 (fun σ_4 H locs h hσ hS => ?_)
      refine lv_aload_n C.x C.b dX10_parseAll_21 rfl (lv_at hl 0 rfl) ?_
      refine tw_gf0 C hw hσ q2215 dX10_parseAll_22 ?_
      refine lv_iload_n C.x C.b dX10_parseAll_25 rfl (lv_at hl 1 rfl) ?_
      refine lv_iconst (v := 0) C.x C.b dX10_parseAll_26 (by decide) ?_
      refine tw_st0 C hw hσ hS h dX10_parseAll_27 (fun σ_5 H locs h hσ hS => ?_)
      obtain ⟨x1_6, e_, h⟩ := nm_s h
      refine lv_iinc (v := x1_6) (lv' := [(1, .int x1_6), (0, .ref g.2.2.2.1)]) C.x C.b dX10_parseAll_28 hl (k := 1) rfl e_.symm (by decide) rfl (fun ls hl => ?_)
      refine lv_goto (tgt := 2) C.x C.b dX10_parseAll_31 (by decide) ?_
      exact ih _ _ _ _ _ h hσ hS (lv_sub hl [1, 0] rfl)

theorem kT_parseAll (l : Launch) (g : twG) (A : Nat → Prop) (σ : twS) (v : Int32) (σ1 : twS) (h : mT_parseAll σ = some (v, σ1)) : Met l yX10_parseAll (ws_ yX10_parseAll cX10_parseAll 2 (some .boolean)) ({ frames := 523, cells := 0, slots := 0, locals := 13971 }) (TPc twL g A [.ref g.2.2.2.1] (fun _ => True) σ) (TQ g A (some (.int v)) σ1) 0 0 A := by
  refine Met.ofW (cc := cX10_parseAll) (maxL := 2) (ret := (some .boolean)) (by decide) rfl ?_
  intro p e s m args below meth c s₁ B hml hv
  obtain ⟨rfl, hw, hX, hσ⟩ := hv
  have hts := atoms_spec (ws := (ws_ yX10_parseAll cX10_parseAll 2 (some .boolean))) B.pre
  have C : CX p m meth c s ([.ref g.2.2.2.1] : List Value).toArray cX10_parseAll 2 (some .boolean) RX10 := ⟨⟨B.exec, B.bytes, hml, findClass_of_methodNamed B.named, fun w h => hts w (List.mem_cons_of_mem _ h)⟩, B.returns, B.notSynchronized⟩
  have hRf : 523 ≤ (headSpec (ws_ yX10_parseAll cX10_parseAll 2 (some .boolean)) ({ frames := 523, cells := 0, slots := 0, locals := 13971 })).room.frames := Nat.le_refl _
  have hRl : 13971 ≤ (headSpec (ws_ yX10_parseAll cX10_parseAll 2 (some .boolean)) ({ frames := 523, cells := 0, slots := 0, locals := 13971 })).room.locals := Nat.le_refl _
  generalize (headSpec (ws_ yX10_parseAll cX10_parseAll 2 (some .boolean)) ({ frames := 523, cells := 0, slots := 0, locals := 13971 })).room = R at hRf hRl ⊢
  have hS : va_S A s.heap s.heap [] := va_S.rf
  have hl := lv_entry ([.ref g.2.2.2.1]) (n := 2) (Nat.le_of_ble_eq_true rfl)
  rw [lg_entry_eq]
  generalize (lg_sl ([.ref g.2.2.2.1]) ++ List.replicate (2 - (lg_sl ([.ref g.2.2.2.1])).length) Slot.unset).toArray = ls at hl ⊢
  have hl : lv_has ls 2 [(0, .ref g.2.2.2.1)] := hl
  obtain ⟨z, hz⟩ : ∃ z, z = (v, σ1) := ⟨_, rfl⟩
  rw [← hz] at h
  rw [show v = z.1 by rw [hz], show σ1 = z.2 by rw [hz]]
  clear hz v σ1
  unfold mT_parseAll at h
  refine lv_iconst (v := 0) C.x C.b dX10_parseAll_0 (by decide) ?_
  refine lv_istore_n (lv' := [(1, .int 0), (0, .ref g.2.2.2.1)]) C.x C.b dX10_parseAll_1 rfl hl (by decide) rfl (fun ls hl => ?_)
  exact wT_parseAll_2 C hw hRf hRl _ _ _ _ _ _ h hσ hS (lv_sub hl [1, 0] rfl)

theorem wT_lay_62 {z : Int32 × twS} (C : CX p m meth c s args cX10_lay 2 none RX10) (hw : WKt twL g A s s.heap) (hRf : 524 ≤ R.frames) (hRl : 13992 ≤ R.locals) : ∀ (σ : twS) (H : Heap) (locs : List Loc) (ls : Array Slot), bT_lay_62 σ = some z → TI g A σ H → va_S A s.heap H locs → lv_has ls 2 [(0, .ref g.2.2.2.1)] → W p l e R s m args below meth c H locs 0 0 (MQ below (TQ g A (none) z.2) args s 0 0 A) (F0 m 62 ls []) := by
  intro σ H locs ls h hσ hS hl
  unfold bT_lay_62 at h
  refine lv_aload_n C.x C.b dX10_lay_62 rfl (lv_at hl 0 rfl) ?_
  refine tw_call (y := yX10_parseAll) (bytes := cX10_parseAll) (maxL := 2) (fun v => some (.int v)) [] (fun _ => True)  C hw XB.tt (fun _ _ _ => trivial) hσ hS hl.1 h (fun vv ss ee => kT_parseAll l g A σ vv ss ee) (cwV 0 C.t (lw_V q2100 q2102 qs56 q159 q2103) rfl rfl rfl (by decide +kernel) ⟨Nat.le_trans (Nat.le_of_ble_eq_true rfl) hRf, Nat.le_trans (Nat.le_of_ble_eq_true rfl) hRl⟩) rfl rfl (Nat.le_of_ble_eq_true rfl) dX10_lay_63 (fun v_1 σ_2 H locs h hσ hS => ?_)
  refine lv_pop C.x C.b dX10_lay_66 rfl ?_
  exact tw_vret C hσ hS h dX10_lay_67

theorem kT_lay (l : Launch) (g : twG) (A : Nat → Prop) (x1 : Int32) (σ : twS) (v : Int32) (σ1 : twS) (h : mT_lay x1 σ = some (v, σ1)) : Met l yX10_lay (ws_ yX10_lay cX10_lay 2 none) ({ frames := 524, cells := 0, slots := 0, locals := 13992 }) (TPc twL g A [.ref g.2.2.2.1, .int x1] (fun _ => True) σ) (TQ g A (none) σ1) 0 0 A := by
  refine Met.ofW (cc := cX10_lay) (maxL := 2) (ret := none) (by decide) rfl ?_
  intro p e s m args below meth c s₁ B hml hv
  obtain ⟨rfl, hw, hX, hσ⟩ := hv
  have hts := atoms_spec (ws := (ws_ yX10_lay cX10_lay 2 none)) B.pre
  have C : CX p m meth c s ([.ref g.2.2.2.1, .int x1] : List Value).toArray cX10_lay 2 none RX10 := ⟨⟨B.exec, B.bytes, hml, findClass_of_methodNamed B.named, fun w h => hts w (List.mem_cons_of_mem _ h)⟩, B.returns, B.notSynchronized⟩
  have hRf : 524 ≤ (headSpec (ws_ yX10_lay cX10_lay 2 none) ({ frames := 524, cells := 0, slots := 0, locals := 13992 })).room.frames := Nat.le_refl _
  have hRl : 13992 ≤ (headSpec (ws_ yX10_lay cX10_lay 2 none) ({ frames := 524, cells := 0, slots := 0, locals := 13992 })).room.locals := Nat.le_refl _
  generalize (headSpec (ws_ yX10_lay cX10_lay 2 none) ({ frames := 524, cells := 0, slots := 0, locals := 13992 })).room = R at hRf hRl ⊢
  have hS : va_S A s.heap s.heap [] := va_S.rf
  have hl := lv_entry ([.ref g.2.2.2.1, .int x1]) (n := 2) (Nat.le_of_ble_eq_true rfl)
  rw [lg_entry_eq]
  generalize (lg_sl ([.ref g.2.2.2.1, .int x1]) ++ List.replicate (2 - (lg_sl ([.ref g.2.2.2.1, .int x1])).length) Slot.unset).toArray = ls at hl ⊢
  have hl : lv_has ls 2 [(0, .ref g.2.2.2.1), (1, .int x1)] := hl
  obtain ⟨z, hz⟩ : ∃ z, z = (v, σ1) := ⟨_, rfl⟩
  rw [← hz] at h
  rw [show σ1 = z.2 by rw [hz]]
  clear hz v σ1
  unfold mT_lay at h
  refine lv_aload_n C.x C.b dX10_lay_0 rfl (lv_at hl 0 rfl) ?_
  refine lv_iconst (v := 0) C.x C.b dX10_lay_1 (by decide) ?_
  refine tw_pf10 C hw hσ hS q2225 dX10_lay_2 (fun H locs hσ hS => ?_)
  obtain ⟨σ_1, e_, h⟩ := nm_s h
  rw [← e_] at hσ
  clear e_
  refine lv_iload_n C.x C.b dX10_lay_5 rfl (lv_at hl 1 rfl) ?_
  by_cases c_2 : x1 = 0
  · have h := ip c_2 h
    refine lv_lookup (off := 26) (tgt := 32) C.x C.b dX10_lay_6 (by decide) (by rw [c_2]; rfl) (by decide) ?_
    refine lv_aload_n C.x C.b dX10_lay_32 rfl (lv_at hl 0 rfl) ?_
    obtain ⟨aS_122, rS_122, kS_122⟩ := hw.2.2 _ (List.mem_of_getElem? (i := 0) (rfl : twL[0]? = some (122, "facts 2 3; heirs 3 rest 2; rule a = 1 gives 0 1/2, 1 1/4; rule b > 0 and not a = 1 gives 1 1/3; rule a = 1 and b = 2 gives 0 2/3 over 0;", tS_122)))
    refine va_ldcS C.x C.b C.o rS_122 dX10_lay_33 ?_
    refine tw_call (y := yX10_tell) (bytes := cX10_tell) (maxL := 3) (fun _ => none) [.ref aS_122] (fun U => StrC A tS_122 aS_122 U U.heap)  C hw (XB.str A _ _) (fun U hU hW => StrC.at kS_122 hS hU hW) hσ hS hl.1 h (fun vv ss ee => kT_tell l g A tS_122 aS_122 σ_1 vv ss ee) (cwV 1 C.t (lw_V q2091 q2093 qs55 q159 q2094) rfl rfl rfl (by decide +kernel) ⟨Nat.le_trans (Nat.le_of_ble_eq_true rfl) hRf, Nat.le_trans (Nat.le_of_ble_eq_true rfl) hRl⟩) rfl rfl (Nat.le_of_ble_eq_true rfl) dX10_lay_35 (fun _ σ_3 H locs h hσ hS => ?_)
    refine lv_goto (tgt := 62) C.x C.b dX10_lay_38 (by decide) ?_
    exact wT_lay_62 C hw hRf hRl _ _ _ _ h hσ hS (lv_sub hl [0] rfl)
  have h := iN c_2 h
  by_cases c_4 : x1 = 1
  · have h := ip c_4 h
    refine lv_lookup (off := 35) (tgt := 41) C.x C.b dX10_lay_6 (by decide) (by rw [c_4]; rfl) (by decide) ?_
    refine lv_aload_n C.x C.b dX10_lay_41 rfl (lv_at hl 0 rfl) ?_
    obtain ⟨aS_128, rS_128, kS_128⟩ := hw.2.2 _ (List.mem_of_getElem? (i := 1) (rfl : twL[1]? = some (128, "facts 2 2 2 2; heirs 4 rest 0; estate 9000; heir 1 free 500 rate 20; rule a = 1 or b = 1 and c = 1 gives 1 1/4, 2 1/4, 3 1/4; ", tS_128)))
    refine va_ldcS C.x C.b C.o rS_128 dX10_lay_42 ?_
    refine tw_call (y := yX10_tell) (bytes := cX10_tell) (maxL := 3) (fun _ => none) [.ref aS_128] (fun U => StrC A tS_128 aS_128 U U.heap)  C hw (XB.str A _ _) (fun U hU hW => StrC.at kS_128 hS hU hW) hσ hS hl.1 h (fun vv ss ee => kT_tell l g A tS_128 aS_128 σ_1 vv ss ee) (cwV 1 C.t (lw_V q2091 q2093 qs55 q159 q2094) rfl rfl rfl (by decide +kernel) ⟨Nat.le_trans (Nat.le_of_ble_eq_true rfl) hRf, Nat.le_trans (Nat.le_of_ble_eq_true rfl) hRl⟩) rfl rfl (Nat.le_of_ble_eq_true rfl) dX10_lay_44 (fun _ σ_5 H locs h hσ hS => ?_)
    refine lv_aload_n C.x C.b dX10_lay_47 rfl (lv_at hl 0 rfl) ?_
    obtain ⟨aS_130, rS_130, kS_130⟩ := hw.2.2 _ (List.mem_of_getElem? (i := 2) (rfl : twL[2]? = some (130, "rule (a = 1 or b = 1) and c = 1 gives 3 1/12 over 0; rule not (a = 1 or d = 1) gives nothing; rule d = 1 gives 2 1/12, 3 5/12 over 1;", tS_130)))
    refine va_ldcS C.x C.b C.o rS_130 dX10_lay_48 ?_
    refine tw_call (y := yX10_tell) (bytes := cX10_tell) (maxL := 3) (fun _ => none) [.ref aS_130] (fun U => StrC A tS_130 aS_130 U U.heap)  C hw (XB.str A _ _) (fun U hU hW => StrC.at kS_130 hS hU hW) hσ hS hl.1 h (fun vv ss ee => kT_tell l g A tS_130 aS_130 σ_5 vv ss ee) (cwV 1 C.t (lw_V q2091 q2093 qs55 q159 q2094) rfl rfl rfl (by decide +kernel) ⟨Nat.le_trans (Nat.le_of_ble_eq_true rfl) hRf, Nat.le_trans (Nat.le_of_ble_eq_true rfl) hRl⟩) rfl rfl (Nat.le_of_ble_eq_true rfl) dX10_lay_50 (fun _ σ_6 H locs h hσ hS => ?_)
    refine lv_goto (tgt := 62) C.x C.b dX10_lay_53 (by decide) ?_
    exact wT_lay_62 C hw hRf hRl _ _ _ _ h hσ hS (lv_sub hl [0] rfl)
  have h := iN c_4 h
  refine lv_lookup (off := 50) (tgt := 56) C.x C.b dX10_lay_6 (by decide) (by show Op.lookupswitch.offset [(0, 26), (1, 35)] 50 _ = _; rw [lv_osw c_2 (by decide), lv_osw c_4 (by decide)]; rfl) (by decide) ?_
  refine lv_aload_n C.x C.b dX10_lay_56 rfl (lv_at hl 0 rfl) ?_
  obtain ⟨aS_132, rS_132, kS_132⟩ := hw.2.2 _ (List.mem_of_getElem? (i := 3) (rfl : twL[3]? = some (132, "facts 4; heirs 1 rest 0; estate 0; rule a < 1 gives 0 1/1; rule a > 2 gives nothing over 0; rule always gives nothing;", tS_132)))
  refine va_ldcS C.x C.b C.o rS_132 dX10_lay_57 ?_
  refine tw_call (y := yX10_tell) (bytes := cX10_tell) (maxL := 3) (fun _ => none) [.ref aS_132] (fun U => StrC A tS_132 aS_132 U U.heap)  C hw (XB.str A _ _) (fun U hU hW => StrC.at kS_132 hS hU hW) hσ hS hl.1 h (fun vv ss ee => kT_tell l g A tS_132 aS_132 σ_1 vv ss ee) (cwV 1 C.t (lw_V q2091 q2093 qs55 q159 q2094) rfl rfl rfl (by decide +kernel) ⟨Nat.le_trans (Nat.le_of_ble_eq_true rfl) hRf, Nat.le_trans (Nat.le_of_ble_eq_true rfl) hRl⟩) rfl rfl (Nat.le_of_ble_eq_true rfl) dX10_lay_59 (fun _ σ_7 H locs h hσ hS => ?_)
  exact wT_lay_62 C hw hRf hRl _ _ _ _ h hσ hS (lv_sub hl [0] rfl)

theorem kT_thrown (l : Launch) (g : twG) (A : Nat → Prop) (σ : twS) (v : Int32) (σ1 : twS) (h : mT_thrown σ = some (v, σ1)) : Met l yX10_thrown (ws_ yX10_thrown cX10_thrown 1 (some .int)) ({ frames := 1, cells := 0, slots := 0, locals := 24 }) (TPc twL g A [.ref g.2.2.2.1] (fun _ => True) σ) (TQ g A (some (.int v)) σ1) 0 0 A := by
  refine Met.ofW (cc := cX10_thrown) (maxL := 1) (ret := (some .int)) (by decide) rfl ?_
  intro p e s m args below meth c s₁ B hml hv
  obtain ⟨rfl, hw, hX, hσ⟩ := hv
  have hts := atoms_spec (ws := (ws_ yX10_thrown cX10_thrown 1 (some .int))) B.pre
  have C : CX p m meth c s ([.ref g.2.2.2.1] : List Value).toArray cX10_thrown 1 (some .int) RX10 := ⟨⟨B.exec, B.bytes, hml, findClass_of_methodNamed B.named, fun w h => hts w (List.mem_cons_of_mem _ h)⟩, B.returns, B.notSynchronized⟩
  have hRf : 1 ≤ (headSpec (ws_ yX10_thrown cX10_thrown 1 (some .int)) ({ frames := 1, cells := 0, slots := 0, locals := 24 })).room.frames := Nat.le_refl _
  have hRl : 24 ≤ (headSpec (ws_ yX10_thrown cX10_thrown 1 (some .int)) ({ frames := 1, cells := 0, slots := 0, locals := 24 })).room.locals := Nat.le_refl _
  generalize (headSpec (ws_ yX10_thrown cX10_thrown 1 (some .int)) ({ frames := 1, cells := 0, slots := 0, locals := 24 })).room = R at hRf hRl ⊢
  have hS : va_S A s.heap s.heap [] := va_S.rf
  have hl := lv_entry ([.ref g.2.2.2.1]) (n := 1) (Nat.le_of_ble_eq_true rfl)
  rw [lg_entry_eq]
  generalize (lg_sl ([.ref g.2.2.2.1]) ++ List.replicate (1 - (lg_sl ([.ref g.2.2.2.1])).length) Slot.unset).toArray = ls at hl ⊢
  have hl : lv_has ls 1 [(0, .ref g.2.2.2.1)] := hl
  obtain ⟨z, hz⟩ : ∃ z, z = (v, σ1) := ⟨_, rfl⟩
  rw [← hz] at h
  rw [show v = z.1 by rw [hz], show σ1 = z.2 by rw [hz]]
  clear hz v σ1
  unfold mT_thrown at h
  refine lv_aload_n C.x C.b dX10_thrown_0 rfl (lv_at hl 0 rfl) ?_
  refine tw_gf13 C hw hσ q2228 dX10_thrown_1 ?_
  exact tw_iret C hσ hS h dX10_thrown_4

theorem wT_type_3 {z : Int32 × twS} (C : CX p m meth c s args cX10_type 3 none RX10) (hw : WKt twL g A s s.heap) (hRf : 1 ≤ R.frames) (hRl : 24 ≤ R.locals) : ∀ (n : Nat) (x1 : Int32) (x2 : Int32) (σ : twS) (H : Heap) (locs : List Loc) (ls : Array Slot), bT_type_3 n x1 x2 σ = some z → TI g A σ H → va_S A s.heap H locs → lv_has ls 3 [(0, .ref g.2.2.2.1), (1, .int x1), (2, .int x2)] → W p l e R s m args below meth c H locs 0 0 (MQ below (TQ g A (none) z.2) args s 0 0 A) (F0 m 3 ls []) := by
  intro n
  induction n with
  | zero =>
    intro x1 x2 σ H locs ls h
    cases h
  | succ n ih =>
    intro x1 x2 σ H locs ls h hσ hS hl
    rw [bT_type_3] at h
    refine lv_iload_n C.x C.b dX10_type_3 rfl (lv_at hl 2 rfl) ?_
    refine lv_if_lt (tgt := 39) C.x C.b dX10_type_4 (by decide) (fun c_1 => ?_) (fun c_1 => ?_)
    · have h := ip c_1 h
      exact tw_vret C hσ hS h dX10_type_39
    · have h := iN c_1 h
      refine lv_aload_n C.x C.b dX10_type_7 rfl (lv_at hl 0 rfl) ?_
      refine tw_gf7 C hw hσ q2222 dX10_type_8 ?_
      refine lv_aload_n C.x C.b dX10_type_11 rfl (lv_at hl 0 rfl) ?_
      refine tw_gf9 C hw hσ q2224 dX10_type_12 ?_
      refine lv_iload_n C.x C.b dX10_type_15 rfl (lv_at hl 1 rfl) ?_
      refine lv_iload_n C.x C.b dX10_type_16 rfl (lv_at hl 2 rfl) ?_
      refine lv_ishr C.x C.b dX10_type_17 ?_
      refine lv_sipush (v := 255) C.x C.b dX10_type_18 (by decide) ?_
      refine lv_iand C.x C.b dX10_type_21 ?_
      refine tw_st7 C hw hσ hS h dX10_type_22 (fun σ_2 H locs h hσ hS => ?_)
      refine lv_aload_n C.x C.b dX10_type_23 rfl (lv_at hl 0 rfl) ?_
      refine lv_dup C.x C.b dX10_type_24 rfl ?_
      refine tw_gf9 C hw hσ q2224 dX10_type_25 ?_
      refine lv_iconst (v := 1) C.x C.b dX10_type_28 (by decide) ?_
      refine lv_iadd C.x C.b dX10_type_29 ?_
      refine tw_pf9 C hw hσ hS q2224 dX10_type_30 (fun H locs hσ hS => ?_)
      obtain ⟨σ_3, e_, h⟩ := nm_s h
      rw [← e_] at hσ
      clear e_
      obtain ⟨x2_4, e_, h⟩ := nm_s h
      refine lv_iinc (v := x2_4) (lv' := [(2, .int x2_4), (0, .ref g.2.2.2.1), (1, .int x1)]) C.x C.b dX10_type_33 hl (k := 2) rfl e_.symm (by decide) rfl (fun ls hl => ?_)
      refine lv_goto (tgt := 3) C.x C.b dX10_type_36 (by decide) ?_
      exact ih _ _ _ _ _ _ h hσ hS (lv_sub hl [1, 2, 0] rfl)

theorem kT_type (l : Launch) (g : twG) (A : Nat → Prop) (x1 : Int32) (σ : twS) (v : Int32) (σ1 : twS) (h : mT_type x1 σ = some (v, σ1)) : Met l yX10_type (ws_ yX10_type cX10_type 3 none) ({ frames := 1, cells := 0, slots := 0, locals := 24 }) (TPc twL g A [.ref g.2.2.2.1, .int x1] (fun _ => True) σ) (TQ g A (none) σ1) 0 0 A := by
  refine Met.ofW (cc := cX10_type) (maxL := 3) (ret := none) (by decide) rfl ?_
  intro p e s m args below meth c s₁ B hml hv
  obtain ⟨rfl, hw, hX, hσ⟩ := hv
  have hts := atoms_spec (ws := (ws_ yX10_type cX10_type 3 none)) B.pre
  have C : CX p m meth c s ([.ref g.2.2.2.1, .int x1] : List Value).toArray cX10_type 3 none RX10 := ⟨⟨B.exec, B.bytes, hml, findClass_of_methodNamed B.named, fun w h => hts w (List.mem_cons_of_mem _ h)⟩, B.returns, B.notSynchronized⟩
  have hRf : 1 ≤ (headSpec (ws_ yX10_type cX10_type 3 none) ({ frames := 1, cells := 0, slots := 0, locals := 24 })).room.frames := Nat.le_refl _
  have hRl : 24 ≤ (headSpec (ws_ yX10_type cX10_type 3 none) ({ frames := 1, cells := 0, slots := 0, locals := 24 })).room.locals := Nat.le_refl _
  generalize (headSpec (ws_ yX10_type cX10_type 3 none) ({ frames := 1, cells := 0, slots := 0, locals := 24 })).room = R at hRf hRl ⊢
  have hS : va_S A s.heap s.heap [] := va_S.rf
  have hl := lv_entry ([.ref g.2.2.2.1, .int x1]) (n := 3) (Nat.le_of_ble_eq_true rfl)
  rw [lg_entry_eq]
  generalize (lg_sl ([.ref g.2.2.2.1, .int x1]) ++ List.replicate (3 - (lg_sl ([.ref g.2.2.2.1, .int x1])).length) Slot.unset).toArray = ls at hl ⊢
  have hl : lv_has ls 3 [(0, .ref g.2.2.2.1), (1, .int x1)] := hl
  obtain ⟨z, hz⟩ : ∃ z, z = (v, σ1) := ⟨_, rfl⟩
  rw [← hz] at h
  rw [show σ1 = z.2 by rw [hz]]
  clear hz v σ1
  unfold mT_type at h
  refine lv_bipush (v := 24) C.x C.b dX10_type_0 (by decide) ?_
  refine lv_istore_n (lv' := [(2, .int 24), (0, .ref g.2.2.2.1), (1, .int x1)]) C.x C.b dX10_type_2 rfl hl (by decide) rfl (fun ls hl => ?_)
  exact wT_type_3 C hw hRf hRl _ _ _ _ _ _ _ h hσ hS (lv_sub hl [1, 2, 0] rfl)

theorem kT_append (l : Launch) (g : twG) (A : Nat → Prop) (x1 : Int32) (x2 : Int32) (x3 : Int32) (x4 : Int32) (x5 : Int32) (σ : twS) (v : Int32) (σ1 : twS) (h : mT_append x1 x2 x3 x4 x5 σ = some (v, σ1)) : Met l yX10_append (ws_ yX10_append cX10_append 6 (some .int)) ({ frames := 2, cells := 0, slots := 0, locals := 46 }) (TPc twL g A [.ref g.2.2.2.1, .int x1, .int x2, .int x3, .int x4, .int x5] (fun _ => True) σ) (TQ g A (some (.int v)) σ1) 0 0 A := by
  refine Met.ofW (cc := cX10_append) (maxL := 6) (ret := (some .int)) (by decide) rfl ?_
  intro p e s m args below meth c s₁ B hml hv
  obtain ⟨rfl, hw, hX, hσ⟩ := hv
  have hts := atoms_spec (ws := (ws_ yX10_append cX10_append 6 (some .int))) B.pre
  have C : CX p m meth c s ([.ref g.2.2.2.1, .int x1, .int x2, .int x3, .int x4, .int x5] : List Value).toArray cX10_append 6 (some .int) RX10 := ⟨⟨B.exec, B.bytes, hml, findClass_of_methodNamed B.named, fun w h => hts w (List.mem_cons_of_mem _ h)⟩, B.returns, B.notSynchronized⟩
  have hRf : 2 ≤ (headSpec (ws_ yX10_append cX10_append 6 (some .int)) ({ frames := 2, cells := 0, slots := 0, locals := 46 })).room.frames := Nat.le_refl _
  have hRl : 46 ≤ (headSpec (ws_ yX10_append cX10_append 6 (some .int)) ({ frames := 2, cells := 0, slots := 0, locals := 46 })).room.locals := Nat.le_refl _
  generalize (headSpec (ws_ yX10_append cX10_append 6 (some .int)) ({ frames := 2, cells := 0, slots := 0, locals := 46 })).room = R at hRf hRl ⊢
  have hS : va_S A s.heap s.heap [] := va_S.rf
  have hl := lv_entry ([.ref g.2.2.2.1, .int x1, .int x2, .int x3, .int x4, .int x5]) (n := 6) (Nat.le_of_ble_eq_true rfl)
  rw [lg_entry_eq]
  generalize (lg_sl ([.ref g.2.2.2.1, .int x1, .int x2, .int x3, .int x4, .int x5]) ++ List.replicate (6 - (lg_sl ([.ref g.2.2.2.1, .int x1, .int x2, .int x3, .int x4, .int x5])).length) Slot.unset).toArray = ls at hl ⊢
  have hl : lv_has ls 6 [(0, .ref g.2.2.2.1), (1, .int x1), (2, .int x2), (3, .int x3), (4, .int x4), (5, .int x5)] := hl
  obtain ⟨z, hz⟩ : ∃ z, z = (v, σ1) := ⟨_, rfl⟩
  rw [← hz] at h
  rw [show v = z.1 by rw [hz], show σ1 = z.2 by rw [hz]]
  clear hz v σ1
  unfold mT_append at h
  refine lv_aload_n C.x C.b dX10_append_0 rfl (lv_at hl 0 rfl) ?_
  refine lv_iconst (v := 0) C.x C.b dX10_append_1 (by decide) ?_
  refine tw_pf13 C hw hσ hS q2228 dX10_append_2 (fun H locs hσ hS => ?_)
  obtain ⟨σ_1, e_, h⟩ := nm_s h
  rw [← e_] at hσ
  clear e_
  refine lv_aload_n C.x C.b dX10_append_5 rfl (lv_at hl 0 rfl) ?_
  refine tw_gf9 C hw hσ q2224 dX10_append_6 ?_
  refine lv_bipush (v := 20) C.x C.b dX10_append_9 (by decide) ?_
  refine lv_iadd C.x C.b dX10_append_11 ?_
  refine lv_sipush (v := 700) C.x C.b dX10_append_12 (by decide) ?_
  refine lv_icmp_le (tgt := 20) C.x C.b dX10_append_15 (by decide) (fun c_2 => ?_) (fun c_2 => ?_)
  · have h := ip c_2 h
    refine lv_aload_n C.x C.b dX10_append_20 rfl (lv_at hl 0 rfl) ?_
    refine lv_iload_n C.x C.b dX10_append_21 rfl (lv_at hl 1 rfl) ?_
    refine tw_call (y := yX10_type) (bytes := cX10_type) (maxL := 3) (fun _ => none) [.int x1] (fun _ => True)  C hw XB.tt (fun _ _ _ => trivial) hσ hS hl.1 h (fun vv ss ee => kT_type l g A x1 σ_1 vv ss ee) (cwV 1 C.t (lw_V q2306 q2308 qs78 q159 q2309) rfl rfl rfl (by decide +kernel) ⟨Nat.le_trans (Nat.le_of_ble_eq_true rfl) hRf, Nat.le_trans (Nat.le_of_ble_eq_true rfl) hRl⟩) rfl rfl (Nat.le_of_ble_eq_true rfl) dX10_append_22 (fun _ σ_3 H locs h hσ hS => ?_)
    refine lv_aload_n C.x C.b dX10_append_25 rfl (lv_at hl 0 rfl) ?_
    refine lv_iload_n C.x C.b dX10_append_26 rfl (lv_at hl 2 rfl) ?_
    refine tw_call (y := yX10_type) (bytes := cX10_type) (maxL := 3) (fun _ => none) [.int x2] (fun _ => True)  C hw XB.tt (fun _ _ _ => trivial) hσ hS hl.1 h (fun vv ss ee => kT_type l g A x2 σ_3 vv ss ee) (cwV 1 C.t (lw_V q2306 q2308 qs78 q159 q2309) rfl rfl rfl (by decide +kernel) ⟨Nat.le_trans (Nat.le_of_ble_eq_true rfl) hRf, Nat.le_trans (Nat.le_of_ble_eq_true rfl) hRl⟩) rfl rfl (Nat.le_of_ble_eq_true rfl) dX10_append_27 (fun _ σ_4 H locs h hσ hS => ?_)
    refine lv_aload_n C.x C.b dX10_append_30 rfl (lv_at hl 0 rfl) ?_
    refine lv_iload_n C.x C.b dX10_append_31 rfl (lv_at hl 3 rfl) ?_
    refine tw_call (y := yX10_type) (bytes := cX10_type) (maxL := 3) (fun _ => none) [.int x3] (fun _ => True)  C hw XB.tt (fun _ _ _ => trivial) hσ hS hl.1 h (fun vv ss ee => kT_type l g A x3 σ_4 vv ss ee) (cwV 1 C.t (lw_V q2306 q2308 qs78 q159 q2309) rfl rfl rfl (by decide +kernel) ⟨Nat.le_trans (Nat.le_of_ble_eq_true rfl) hRf, Nat.le_trans (Nat.le_of_ble_eq_true rfl) hRl⟩) rfl rfl (Nat.le_of_ble_eq_true rfl) dX10_append_32 (fun _ σ_5 H locs h hσ hS => ?_)
    refine lv_aload_n C.x C.b dX10_append_35 rfl (lv_at hl 0 rfl) ?_
    refine lv_iload C.x C.b dX10_append_36 (lv_at hl 4 rfl) ?_
    refine tw_call (y := yX10_type) (bytes := cX10_type) (maxL := 3) (fun _ => none) [.int x4] (fun _ => True)  C hw XB.tt (fun _ _ _ => trivial) hσ hS hl.1 h (fun vv ss ee => kT_type l g A x4 σ_5 vv ss ee) (cwV 1 C.t (lw_V q2306 q2308 qs78 q159 q2309) rfl rfl rfl (by decide +kernel) ⟨Nat.le_trans (Nat.le_of_ble_eq_true rfl) hRf, Nat.le_trans (Nat.le_of_ble_eq_true rfl) hRl⟩) rfl rfl (Nat.le_of_ble_eq_true rfl) dX10_append_38 (fun _ σ_6 H locs h hσ hS => ?_)
    refine lv_aload_n C.x C.b dX10_append_41 rfl (lv_at hl 0 rfl) ?_
    refine lv_iload C.x C.b dX10_append_42 (lv_at hl 5 rfl) ?_
    refine tw_call (y := yX10_type) (bytes := cX10_type) (maxL := 3) (fun _ => none) [.int x5] (fun _ => True)  C hw XB.tt (fun _ _ _ => trivial) hσ hS hl.1 h (fun vv ss ee => kT_type l g A x5 σ_6 vv ss ee) (cwV 1 C.t (lw_V q2306 q2308 qs78 q159 q2309) rfl rfl rfl (by decide +kernel) ⟨Nat.le_trans (Nat.le_of_ble_eq_true rfl) hRf, Nat.le_trans (Nat.le_of_ble_eq_true rfl) hRl⟩) rfl rfl (Nat.le_of_ble_eq_true rfl) dX10_append_44 (fun _ σ_7 H locs h hσ hS => ?_)
    refine lv_aload_n C.x C.b dX10_append_47 rfl (lv_at hl 0 rfl) ?_
    refine tw_gf9 C hw hσ q2224 dX10_append_48 ?_
    exact tw_iret C hσ hS h dX10_append_51
  · have h := iN c_2 h
    refine lv_iconst (v := -1) C.x C.b dX10_append_18 (by decide) ?_
    exact tw_iret C hσ hS h dX10_append_19

theorem wT_throwsOne_10 {z : Int32 × twS} (C : CX p m meth c s args cX10_throwsOne 2 (some .boolean) RX10) (hw : WKt twL g A s s.heap) (hRf : 1 ≤ R.frames) (hRl : 24 ≤ R.locals) : ∀ (x1 : Int32) (s1 : Int32) (σ : twS) (H : Heap) (locs : List Loc) (ls : Array Slot), bT_throwsOne_10 x1 s1 σ = some z → TI g A σ H → va_S A s.heap H locs → lv_has ls 2 [(0, .ref g.2.2.2.1), (1, .int x1)] → W p l e R s m args below meth c H locs 0 0 (MQ below (TQ g A (some (.int z.1)) z.2) args s 0 0 A) (F0 m 10 ls [.int s1, .ref g.2.2.2.1]) := by
  intro x1 s1 σ H locs ls h hσ hS hl
  unfold bT_throwsOne_10 at h
  refine tw_pf13 C hw hσ hS q2228 dX10_throwsOne_10 (fun H locs hσ hS => ?_)
  obtain ⟨σ_1, e_, h⟩ := nm_s h
  rw [← e_] at hσ
  clear e_
  refine lv_iload_n C.x C.b dX10_throwsOne_13 rfl (lv_at hl 1 rfl) ?_
  exact tw_zret C hσ hS h dX10_throwsOne_14

theorem kT_throwsOne (l : Launch) (g : twG) (A : Nat → Prop) (x1 : Int32) (σ : twS) (v : Int32) (σ1 : twS) (h : mT_throwsOne x1 σ = some (v, σ1)) : Met l yX10_throwsOne (ws_ yX10_throwsOne cX10_throwsOne 2 (some .boolean)) ({ frames := 1, cells := 0, slots := 0, locals := 24 }) (TPc twL g A [.ref g.2.2.2.1, .int x1] (fun _ => True) σ) (TQ g A (some (.int v)) σ1) 0 0 A := by
  refine Met.ofW (cc := cX10_throwsOne) (maxL := 2) (ret := (some .boolean)) (by decide) rfl ?_
  intro p e s m args below meth c s₁ B hml hv
  obtain ⟨rfl, hw, hX, hσ⟩ := hv
  have hts := atoms_spec (ws := (ws_ yX10_throwsOne cX10_throwsOne 2 (some .boolean))) B.pre
  have C : CX p m meth c s ([.ref g.2.2.2.1, .int x1] : List Value).toArray cX10_throwsOne 2 (some .boolean) RX10 := ⟨⟨B.exec, B.bytes, hml, findClass_of_methodNamed B.named, fun w h => hts w (List.mem_cons_of_mem _ h)⟩, B.returns, B.notSynchronized⟩
  have hRf : 1 ≤ (headSpec (ws_ yX10_throwsOne cX10_throwsOne 2 (some .boolean)) ({ frames := 1, cells := 0, slots := 0, locals := 24 })).room.frames := Nat.le_refl _
  have hRl : 24 ≤ (headSpec (ws_ yX10_throwsOne cX10_throwsOne 2 (some .boolean)) ({ frames := 1, cells := 0, slots := 0, locals := 24 })).room.locals := Nat.le_refl _
  generalize (headSpec (ws_ yX10_throwsOne cX10_throwsOne 2 (some .boolean)) ({ frames := 1, cells := 0, slots := 0, locals := 24 })).room = R at hRf hRl ⊢
  have hS : va_S A s.heap s.heap [] := va_S.rf
  have hl := lv_entry ([.ref g.2.2.2.1, .int x1]) (n := 2) (Nat.le_of_ble_eq_true rfl)
  rw [lg_entry_eq]
  generalize (lg_sl ([.ref g.2.2.2.1, .int x1]) ++ List.replicate (2 - (lg_sl ([.ref g.2.2.2.1, .int x1])).length) Slot.unset).toArray = ls at hl ⊢
  have hl : lv_has ls 2 [(0, .ref g.2.2.2.1), (1, .int x1)] := hl
  obtain ⟨z, hz⟩ : ∃ z, z = (v, σ1) := ⟨_, rfl⟩
  rw [← hz] at h
  rw [show v = z.1 by rw [hz], show σ1 = z.2 by rw [hz]]
  clear hz v σ1
  unfold mT_throwsOne at h
  refine lv_aload_n C.x C.b dX10_throwsOne_0 rfl (lv_at hl 0 rfl) ?_
  refine lv_iload_n C.x C.b dX10_throwsOne_1 rfl (lv_at hl 1 rfl) ?_
  refine lv_if_eq (tgt := 9) C.x C.b dX10_throwsOne_2 (by decide) (fun c_1 => ?_) (fun c_1 => ?_)
  · have h := ip c_1 h
    refine lv_iconst (v := 0) C.x C.b dX10_throwsOne_9 (by decide) ?_
    exact wT_throwsOne_10 C hw hRf hRl _ _ _ _ _ _ h hσ hS (lv_sub hl [0, 1] rfl)
  · have h := iN c_1 h
    refine lv_iconst (v := 1) C.x C.b dX10_throwsOne_5 (by decide) ?_
    refine lv_goto (tgt := 10) C.x C.b dX10_throwsOne_6 (by decide) ?_
    exact wT_throwsOne_10 C hw hRf hRl _ _ _ _ _ _ h hσ hS (lv_sub hl [0, 1] rfl)

end
