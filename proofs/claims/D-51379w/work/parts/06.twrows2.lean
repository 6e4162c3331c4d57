/-! STRING's METHODS on a String outside A, and the twin's last rows -/
set_option maxRecDepth 100000
theorem StrC.at {A : Nat → Prop} {t : List Int32} {a : Nat} {s U : State} {H : Heap} {locs : List Loc} (h : StrC A t a s s.heap) (hS : va_S A s.heap H locs) (hU : U.heap = H) (hW : s.WarmedH U.vm) : StrC A t a U U.heap := by
  rw [hU]
  exact (StrC.moved hW.alike h).kept hS.2.1
/-- a method that only answers -/
def JQ (v : Option Value) : Array Value → State → Outcome → State → Prop := fun _ st oc t => oc = .returned v ∧ t.heap = st.heap
def JPc (A : Nat → Prop) (as : List Value) (X : State → Prop) : Array Value → State → Prop := va_Pc as (fun U => StJ A U U.heap ∧ X U)
theorem JPc.blind {A : Nat → Prop} {as : List Value} {X : State → Prop} (hX : XB X) : FrameBlind (JPc A as X) := by
  intro a U f mk h
  obtain ⟨h0, h1, h2⟩ := h
  exact ⟨h0, StJ.moved (u := U) (Vm.Alike.refl _) h1, hX U _ rfl rfl h2⟩
theorem nm_s {α β : Type} {x : α} {K : α → β} {z : β} (h : lt_ x K = z) : ∃ y, y = x ∧ K y = z := ⟨x, rfl, h⟩
def rz {σ : Type} (x : Int32) (s : σ) : Option (Int32 × σ) := if x &&& 1 = x then some (x, s) else none
def rc {σ : Type} (x : Int32) (s : σ) : Option (Int32 × σ) := if x.toUInt32.toUInt16.toUInt32.toInt32 = x then some (x, s) else none
def nf32 {β : Type} (r : UInt32) (K : Option β) : Option β := if r &&& 0x7fffffff ≤ 0x7f800000 then K else none
def nf64 {β : Type} (r : UInt64) (K : Option β) : Option β := if r &&& 0x7fffffffffffffff ≤ 0x7ff0000000000000 then K else none
theorem nf32_s {β : Type} {r : UInt32} {K : Option β} {z : β} (h : nf32 r K = some z) : vf_n32 r ∧ K = some z := by
  unfold nf32 at h
  split at h
  · exact ⟨by assumption, h⟩
  · cases h
theorem nf64_s {β : Type} {r : UInt64} {K : Option β} {z : β} (h : nf64 r K = some z) : vf_n64 r ∧ K = some z := by
  unfold nf64 at h
  split at h
  · exact ⟨by assumption, h⟩
  · cases h
section TW2
variable {p : Program} {l : Launch} {e : Env} {R : Room} {s : State} {m : MethodId} {args : Array Value} {below : List Frame} {meth : Method} {c : Code} {H : Heap} {locs : List Loc} {cells slots : Nat} {Q : State → Prop}
variable {cc : ByteArray} {pc : Nat} {ls : Array Slot} {rest st : List Value} {A : Nat → Prop} {nL : Nat} {ret : Option FieldType} {own : String} {H0 : Heap}
theorem jq_go {v : Option Value} {a : Array Value} (hr : va_Run p l e R s m args below meth c H locs cells slots 0 0 (F0 m pc ls st) rest (JQ v a) (fun _ => False)) (hS : va_S A H0 H locs)
    (kk : ∀ (locs1 : List Loc), va_S A H0 H locs1 → W p l e R s m args below meth c H locs1 cells slots Q (F0 m (pc + 3) ls (v.toList ++ rest))) : W p l e R s m args below meth c H locs cells slots Q (F0 m pc ls st) := by
  intro T hT X
  obtain ⟨w, st₀, t, T', L, h0, X', hL, e1, e2, ⟨hv, hh⟩, st⟩ := hr T hT X
  cases hv
  have hz : T'.heap = H := by rw [e1, hh, h0]
  obtain ⟨t2, a1, b1⟩ := kk (locs ++ L) ⟨hS.1, hS.2.1, fun q hq => by
      rcases List.mem_append.mp hq with h | h
      · exact hS.2.2 q h
      · exact (hL q h).elim⟩ T' hz X'
  exact ⟨t2, st t2 a1, b1⟩
theorem jq_iret {x : Int32} (C : CX p m meth c s args cc nL (some .int) own) (hdg : decode cc pc = .ok (.ireturn, 1)) (hlc : ∀ q ∈ locs, False) : W p l e R s m args below meth c s.heap locs cells slots (MQ below (JQ (some (.int x))) args s cells slots (fun _ => False)) (F0 m pc ls [.int x]) :=
  W.iret C.x C.b C.r (fun t ht hW => ⟨rfl, ht⟩) hlc hdg C.k
theorem jq_zret {x : Int32} {ty : FieldType} (C : CX p m meth c s args cc nL (some ty) own) (hn : narrow ty (.int x) = .int x) (hdg : decode cc pc = .ok (.ireturn, 1)) (hlc : ∀ q ∈ locs, False) : W p l e R s m args below meth c s.heap locs cells slots (MQ below (JQ (some (.int x))) args s cells slots (fun _ => False)) (F0 m pc ls [.int x]) :=
  W.zret C.x C.b C.r hn (fun t ht hW => ⟨rfl, ht⟩) hlc hdg C.k
theorem jq_vret (C : CX p m meth c s args cc nL none own) (hdg : decode cc pc = .ok (.return_, 1)) (hlc : ∀ q ∈ locs, False) : W p l e R s m args below meth c s.heap locs cells slots (MQ below (JQ none) args s cells slots (fun _ => False)) (F0 m pc ls []) :=
  W.vret C.x C.b C.r (fun t ht hW => ⟨rfl, ht⟩) hlc hdg C.k
theorem va_Sfalse {H0 H : Heap} {locs : List Loc} (h : va_S (fun _ => False) H0 H locs) : ∀ q ∈ locs, False := fun q hq => h.2.2 q hq
end TW2
/-- nothing is free: what stands in A stands there too -/
theorem StJ.no {A : Nat → Prop} {U : State} {H : Heap} (h : StJ A U H) : StJ (fun _ => False) U H := ⟨h.1.narrow (fun _ q => q.elim), h.2.narrow (fun _ q => q.elim)⟩
theorem StrC.no {A : Nat → Prop} {t : List Int32} {a : Nat} {U : State} {H : Heap} (h : StrC A t a U H) : StrC (fun _ => False) t a U H := by
  obtain ⟨h0, h1, h2, v, h3, h4⟩ := h
  exact ⟨h0, h1.narrow (fun _ q => q.elim), h2.narrow (fun _ q => q.elim), v, h3.narrow (fun _ q => q.elim), h4.narrow (fun _ q => q.elim)⟩
/-- a byte array as a String holds it -/
def BytC (t : List Int32) (v : Nat) (U : State) (H : Heap) : Prop := t.length < 2 ^ 31 ∧ va_T .byte v t.length (fun j => .int (t.getD j 0)) (fun _ => False) U H
theorem BytC.at {t : List Int32} {v : Nat} {s U : State} (h : BytC t v s s.heap) (hU : U.heap = s.heap) (hW : s.WarmedH U.vm) : BytC t v U U.heap := by
  rw [hU]
  exact ⟨h.1, va_T.moved hW.alike h.2⟩
theorem XB.byt (t : List Int32) (v : Nat) : XB (fun U => BytC t v U U.heap) := fun U U' hv hh h => by
  show BytC t v U' U'.heap
  rw [hh]
  exact ⟨h.1, va_T.moved (by rw [hv]; exact Vm.Alike.refl _) h.2⟩

theorem kJ7_checkIndex (l : Launch) (i n : Int32) (r : Value) (hr : r = .null ∨ ∃ a, r = .ref a) (h0 : ¬ i < 0) (h1 : i < n) : Met l yJ7_checkIndex (ws_ yJ7_checkIndex cJ7_checkIndex 3 (some .int)) ({ frames := 1, cells := 0, slots := 0, locals := 24 }) (JPc (fun _ => False) [.int i, .int n, r] (fun _ => True)) (JQ (some (.int i))) 0 0 (fun _ => False) := by
  refine Met.ofW (cc := cJ7_checkIndex) (maxL := 3) (ret := (some .int)) (by decide) rfl ?_
  intro p e s m args below meth c s₁ B hml hv
  obtain ⟨rfl, hJ, hX⟩ := hv
  have hts := atoms_spec (ws := (ws_ yJ7_checkIndex cJ7_checkIndex 3 (some .int))) B.pre
  have C : CX p m meth c s ([.int i, .int n, r] : List Value).toArray cJ7_checkIndex 3 (some .int) RJ7 := ⟨⟨B.exec, B.bytes, hml, findClass_of_methodNamed B.named, fun w h => hts w (List.mem_cons_of_mem _ h)⟩, B.returns, B.notSynchronized⟩
  have hRf : 1 ≤ (headSpec (ws_ yJ7_checkIndex cJ7_checkIndex 3 (some .int)) ({ frames := 1, cells := 0, slots := 0, locals := 24 })).room.frames := Nat.le_refl _
  have hRl : 24 ≤ (headSpec (ws_ yJ7_checkIndex cJ7_checkIndex 3 (some .int)) ({ frames := 1, cells := 0, slots := 0, locals := 24 })).room.locals := Nat.le_refl _
  generalize (headSpec (ws_ yJ7_checkIndex cJ7_checkIndex 3 (some .int)) ({ frames := 1, cells := 0, slots := 0, locals := 24 })).room = R at hRf hRl ⊢
  have hS : va_S (fun _ => False) s.heap s.heap [] := va_S.rf
  have hlen : (lg_sl ([.int i, .int n, r])).length ≤ 3 := by rcases hr with rfl | ⟨a, rfl⟩ <;> exact Nat.le_of_ble_eq_true rfl
  have hl := lv_entry ([.int i, .int n, r]) (n := 3) hlen
  rw [lg_entry_eq]
  generalize (lg_sl ([.int i, .int n, r]) ++ List.replicate (3 - (lg_sl ([.int i, .int n, r])).length) Slot.unset).toArray = ls at hl ⊢
  have hc : r.category = 1 := by rcases hr with rfl | ⟨a, rfl⟩ <;> rfl
  have hl : lv_has ls 3 [(0, .int i), (1, .int n), (2, r)] := by rcases hr with rfl | ⟨a, rfl⟩ <;> exact hl
  refine lv_iload_n C.x C.b dJ7_checkIndex_0 rfl (lv_at hl 0 rfl) ?_
  refine lv_if_lt (tgt := 9) C.x C.b dJ7_checkIndex_1 (by decide) (fun c => absurd c h0) (fun _ => ?_)
  refine lv_iload_n C.x C.b dJ7_checkIndex_4 rfl (lv_at hl 0 rfl) ?_
  refine lv_iload_n C.x C.b dJ7_checkIndex_5 rfl (lv_at hl 1 rfl) ?_
  refine lv_icmp_lt (tgt := 16) C.x C.b dJ7_checkIndex_6 (by decide) (fun _ => ?_) (fun c => absurd h1 c)
  refine lv_iload_n C.x C.b dJ7_checkIndex_16 rfl (lv_at hl 0 rfl) ?_
  exact jq_iret C dJ7_checkIndex_17 (fun q h => by cases h)

theorem kJ4_checkIndex (l : Launch) (i n : Int32) (h0 : ¬ i < 0) (h1 : i < n) : Met l yJ4_checkIndex (ws_ yJ4_checkIndex cJ4_checkIndex 2 none) ({ frames := 2, cells := 0, slots := 0, locals := 60 }) (JPc (fun _ => False) [.int i, .int n] (fun _ => True)) (JQ (none)) 0 0 (fun _ => False) := by
  refine Met.ofW (cc := cJ4_checkIndex) (maxL := 2) (ret := none) (by decide) rfl ?_
  intro p e s m args below meth c s₁ B hml hv
  obtain ⟨rfl, hJ, hX⟩ := hv
  have hts := atoms_spec (ws := (ws_ yJ4_checkIndex cJ4_checkIndex 2 none)) B.pre
  have C : CX p m meth c s ([.int i, .int n] : List Value).toArray cJ4_checkIndex 2 none RJ4 := ⟨⟨B.exec, B.bytes, hml, findClass_of_methodNamed B.named, fun w h => hts w (List.mem_cons_of_mem _ h)⟩, B.returns, B.notSynchronized⟩
  have hRf : 2 ≤ (headSpec (ws_ yJ4_checkIndex cJ4_checkIndex 2 none) ({ frames := 2, cells := 0, slots := 0, locals := 60 })).room.frames := Nat.le_refl _
  have hRl : 60 ≤ (headSpec (ws_ yJ4_checkIndex cJ4_checkIndex 2 none) ({ frames := 2, cells := 0, slots := 0, locals := 60 })).room.locals := Nat.le_refl _
  generalize (headSpec (ws_ yJ4_checkIndex cJ4_checkIndex 2 none) ({ frames := 2, cells := 0, slots := 0, locals := 60 })).room = R at hRf hRl ⊢
  have hS : va_S (fun _ => False) s.heap s.heap [] := va_S.rf
  have hl := lv_entry ([.int i, .int n]) (n := 2) (Nat.le_of_ble_eq_true rfl)
  rw [lg_entry_eq]
  generalize (lg_sl ([.int i, .int n]) ++ List.replicate (2 - (lg_sl ([.int i, .int n])).length) Slot.unset).toArray = ls at hl ⊢
  have hl : lv_has ls 2 [(0, .int i), (1, .int n)] := hl
  refine lv_iload_n C.x C.b dJ4_checkIndex_0 rfl (lv_at hl 0 rfl) ?_
  refine lv_iload_n C.x C.b dJ4_checkIndex_1 rfl (lv_at hl 1 rfl) ?_
  have fin : ∀ (r : Value), (r = .null ∨ ∃ a, r = .ref a) → W p l e R s m ([.int i, .int n] : List Value).toArray below meth c s.heap [] 0 0 (MQ below (JQ none) ([.int i, .int n] : List Value).toArray s 0 0 (fun _ => False)) (F0 m 5 ls [r, .int n, .int i]) := by
    intro r hr
    refine jq_go (v := some (.int i)) (rest := []) (va_runS (As := [.int i, .int n, r]) (rest := []) C.1 (kJ7_checkIndex l i n r hr h0 h1) (va_cwS 3 C.t (lw_S q319 q320 q135 q321) rfl rfl rfl (by decide +kernel) ⟨Nat.le_trans (Nat.le_of_ble_eq_true rfl) hRf, Nat.le_trans (Nat.le_of_ble_eq_true rfl) hRl⟩) ⟨JPc.blind XB.tt, fun U hU hW => ⟨rfl, by rw [hU]; exact StJ.moved hW.alike hJ, trivial⟩⟩ rfl rfl hl.1 rfl (lv_room (m := m) (pc := 5) (ls := ls) (rest := [r, .int n, .int i]) (Nat.le_of_ble_eq_true rfl)) dJ4_checkIndex_5 ⟨Nat.zero_le _, Nat.zero_le _⟩) hS (fun locs1 hS1 => ?_)
    refine lv_pop C.x C.b dJ4_checkIndex_8 rfl ?_
    exact jq_vret C dJ4_checkIndex_9 (va_Sfalse hS1)
  rcases hJ.2 with hz | ⟨t, hz⟩
  · exact va_gets C.x C.b hz hS C.o (C.t _ q317) (fun _ h9 => h9) dJ4_checkIndex_2 (fin _ (Or.inl rfl))
  · exact va_gets C.x C.b hz hS C.o (C.t _ q317) (fun _ h9 => h9) dJ4_checkIndex_2 (fin _ (Or.inr ⟨t, rfl⟩))

theorem kJ6_charAt (l : Launch) (t : List Int32) (v : Nat) (i : Int32) (h : vp_in i t.length) : Met l yJ6_charAt (ws_ yJ6_charAt cJ6_charAt 2 (some .char)) ({ frames := 3, cells := 0, slots := 0, locals := 100 }) (JPc (fun _ => False) [.ref v, .int i] (fun U => BytC t v U U.heap)) (JQ (some (.int (t.getD i.toNatClampNeg 0 &&& 255)))) 0 0 (fun _ => False) := by
  refine Met.ofW (cc := cJ6_charAt) (maxL := 2) (ret := (some .char)) (by decide) rfl ?_
  intro p e s m args below meth c s₁ B hml hv
  obtain ⟨rfl, hJ, hX⟩ := hv
  have hts := atoms_spec (ws := (ws_ yJ6_charAt cJ6_charAt 2 (some .char))) B.pre
  have C : CX p m meth c s ([.ref v, .int i] : List Value).toArray cJ6_charAt 2 (some .char) RJ6 := ⟨⟨B.exec, B.bytes, hml, findClass_of_methodNamed B.named, fun w h => hts w (List.mem_cons_of_mem _ h)⟩, B.returns, B.notSynchronized⟩
  have hRf : 3 ≤ (headSpec (ws_ yJ6_charAt cJ6_charAt 2 (some .char)) ({ frames := 3, cells := 0, slots := 0, locals := 100 })).room.frames := Nat.le_refl _
  have hRl : 100 ≤ (headSpec (ws_ yJ6_charAt cJ6_charAt 2 (some .char)) ({ frames := 3, cells := 0, slots := 0, locals := 100 })).room.locals := Nat.le_refl _
  generalize (headSpec (ws_ yJ6_charAt cJ6_charAt 2 (some .char)) ({ frames := 3, cells := 0, slots := 0, locals := 100 })).room = R at hRf hRl ⊢
  have hS : va_S (fun _ => False) s.heap s.heap [] := va_S.rf
  have hl := lv_entry ([.ref v, .int i]) (n := 2) (Nat.le_of_ble_eq_true rfl)
  rw [lg_entry_eq]
  generalize (lg_sl ([.ref v, .int i]) ++ List.replicate (2 - (lg_sl ([.ref v, .int i])).length) Slot.unset).toArray = ls at hl ⊢
  have hl : lv_has ls 2 [(0, .ref v), (1, .int i)] := hl
  have hb := vp_in_iff.mp h
  have h31 := hX.1
  have h0 : ¬ i < 0 := fun q => by rw [Int32.lt_iff_toInt_lt, Int32.toInt_zero] at q; omega
  have h1 : i < nI t.length := by rw [Int32.lt_iff_toInt_lt, nI_toInt h31]; exact hb.2
  refine lv_iload_n C.x C.b dJ6_charAt_0 rfl (lv_at hl 1 rfl) ?_
  refine lv_aload_n C.x C.b dJ6_charAt_1 rfl (lv_at hl 0 rfl) ?_
  refine va_tlen (v := nI t.length) C.x C.b hX.2 hS rfl dJ6_charAt_2 ?_
  refine jq_go (v := none) (rest := []) (va_runS (As := [.int i, .int (nI t.length)]) (rest := []) C.1 (kJ4_checkIndex l i (nI t.length) h0 h1) (va_cwS 2 C.t (lw_S q314 q315 q131 q316) rfl rfl rfl (by decide +kernel) ⟨Nat.le_trans (Nat.le_of_ble_eq_true rfl) hRf, Nat.le_trans (Nat.le_of_ble_eq_true rfl) hRl⟩) ⟨JPc.blind XB.tt, fun U hU hW => ⟨rfl, by rw [hU]; exact StJ.moved hW.alike hJ, trivial⟩⟩ rfl rfl hl.1 rfl (lv_room (m := m) (pc := 3) (ls := ls) (rest := [.int (nI t.length), .int i]) (Nat.le_of_ble_eq_true rfl)) dJ6_charAt_3 ⟨Nat.zero_le _, Nat.zero_le _⟩) hS (fun locs1 hS1 => ?_)
  refine lv_aload_n C.x C.b dJ6_charAt_6 rfl (lv_at hl 0 rfl) ?_
  refine lv_iload_n C.x C.b dJ6_charAt_7 rfl (lv_at hl 1 rfl) ?_
  refine va_tb (v := .int (t.getD i.toNatClampNeg 0)) C.x C.b hX.2 hS1 h rfl dJ6_charAt_8 ?_
  refine lv_sipush (v := 255) C.x C.b dJ6_charAt_9 (by decide) ?_
  refine lv_iand C.x C.b dJ6_charAt_12 ?_
  refine lv_i2c (v := t.getD i.toNatClampNeg 0 &&& 255) C.x C.b dJ6_charAt_13 (sc_c2 _) ?_
  exact jq_zret C (sc_nar _) dJ6_charAt_14 (va_Sfalse hS1)

theorem kJ4_isLatin1 (l : Launch) (t : List Int32) (a : Nat) : Met l yJ4_isLatin1 (ws_ yJ4_isLatin1 cJ4_isLatin1 1 (some .boolean)) ({ frames := 1, cells := 0, slots := 0, locals := 24 }) (JPc (fun _ => False) [.ref a] (fun U => StrC (fun _ => False) t a U U.heap)) (JQ (some (.int 1))) 0 0 (fun _ => False) := by
  refine Met.ofW (cc := cJ4_isLatin1) (maxL := 1) (ret := (some .boolean)) (by decide) rfl ?_
  intro p e s m args below meth c s₁ B hml hv
  obtain ⟨rfl, hJ, hX⟩ := hv
  have hts := atoms_spec (ws := (ws_ yJ4_isLatin1 cJ4_isLatin1 1 (some .boolean))) B.pre
  have C : CX p m meth c s ([.ref a] : List Value).toArray cJ4_isLatin1 1 (some .boolean) RJ4 := ⟨⟨B.exec, B.bytes, hml, findClass_of_methodNamed B.named, fun w h => hts w (List.mem_cons_of_mem _ h)⟩, B.returns, B.notSynchronized⟩
  have hRf : 1 ≤ (headSpec (ws_ yJ4_isLatin1 cJ4_isLatin1 1 (some .boolean)) ({ frames := 1, cells := 0, slots := 0, locals := 24 })).room.frames := Nat.le_refl _
  have hRl : 24 ≤ (headSpec (ws_ yJ4_isLatin1 cJ4_isLatin1 1 (some .boolean)) ({ frames := 1, cells := 0, slots := 0, locals := 24 })).room.locals := Nat.le_refl _
  generalize (headSpec (ws_ yJ4_isLatin1 cJ4_isLatin1 1 (some .boolean)) ({ frames := 1, cells := 0, slots := 0, locals := 24 })).room = R at hRf hRl ⊢
  have hS : va_S (fun _ => False) s.heap s.heap [] := va_S.rf
  have hl := lv_entry ([.ref a]) (n := 1) (Nat.le_of_ble_eq_true rfl)
  rw [lg_entry_eq]
  generalize (lg_sl ([.ref a]) ++ List.replicate (1 - (lg_sl ([.ref a])).length) Slot.unset).toArray = ls at hl ⊢
  have hl : lv_has ls 1 [(0, .ref a)] := hl
  obtain ⟨h31, h1, h2, v, h3, h4⟩ := hX
  refine va_gets C.x C.b hJ.1 hS C.o (C.t _ q252) (fun _ h9 => h9) dJ4_isLatin1_0 ?_
  refine lv_if_eq (tgt := 17) C.x C.b dJ4_isLatin1_3 (by decide) (fun c => absurd c (by decide)) (fun _ => ?_)
  refine lv_aload_n C.x C.b dJ4_isLatin1_6 rfl (lv_at hl 0 rfl) ?_
  refine vk_getf C.x C.b h2 hS C.o (C.t _ q601) (fun _ h9 => h9) dJ4_isLatin1_7 ?_
  refine lv_if_ne (tgt := 17) C.x C.b dJ4_isLatin1_10 (by decide) (fun c => absurd rfl c) (fun _ => ?_)
  refine lv_iconst (v := 1) C.x C.b dJ4_isLatin1_13 (by decide) ?_
  refine lv_goto (tgt := 18) C.x C.b dJ4_isLatin1_14 (by decide) ?_
  exact jq_zret C rfl dJ4_isLatin1_18 (fun q h => by cases h)

theorem kJ4_coder (l : Launch) (t : List Int32) (a : Nat) : Met l yJ4_coder (ws_ yJ4_coder cJ4_coder 1 (some .byte)) ({ frames := 1, cells := 0, slots := 0, locals := 24 }) (JPc (fun _ => False) [.ref a] (fun U => StrC (fun _ => False) t a U U.heap)) (JQ (some (.int 0))) 0 0 (fun _ => False) := by
  refine Met.ofW (cc := cJ4_coder) (maxL := 1) (ret := (some .byte)) (by decide) rfl ?_
  intro p e s m args below meth c s₁ B hml hv
  obtain ⟨rfl, hJ, hX⟩ := hv
  have hts := atoms_spec (ws := (ws_ yJ4_coder cJ4_coder 1 (some .byte))) B.pre
  have C : CX p m meth c s ([.ref a] : List Value).toArray cJ4_coder 1 (some .byte) RJ4 := ⟨⟨B.exec, B.bytes, hml, findClass_of_methodNamed B.named, fun w h => hts w (List.mem_cons_of_mem _ h)⟩, B.returns, B.notSynchronized⟩
  have hRf : 1 ≤ (headSpec (ws_ yJ4_coder cJ4_coder 1 (some .byte)) ({ frames := 1, cells := 0, slots := 0, locals := 24 })).room.frames := Nat.le_refl _
  have hRl : 24 ≤ (headSpec (ws_ yJ4_coder cJ4_coder 1 (some .byte)) ({ frames := 1, cells := 0, slots := 0, locals := 24 })).room.locals := Nat.le_refl _
  generalize (headSpec (ws_ yJ4_coder cJ4_coder 1 (some .byte)) ({ frames := 1, cells := 0, slots := 0, locals := 24 })).room = R at hRf hRl ⊢
  have hS : va_S (fun _ => False) s.heap s.heap [] := va_S.rf
  have hl := lv_entry ([.ref a]) (n := 1) (Nat.le_of_ble_eq_true rfl)
  rw [lg_entry_eq]
  generalize (lg_sl ([.ref a]) ++ List.replicate (1 - (lg_sl ([.ref a])).length) Slot.unset).toArray = ls at hl ⊢
  have hl : lv_has ls 1 [(0, .ref a)] := hl
  obtain ⟨h31, h1, h2, v, h3, h4⟩ := hX
  refine va_gets C.x C.b hJ.1 hS C.o (C.t _ q252) (fun _ h9 => h9) dJ4_coder_0 ?_
  refine lv_if_eq (tgt := 13) C.x C.b dJ4_coder_3 (by decide) (fun c => absurd c (by decide)) (fun _ => ?_)
  refine lv_aload_n C.x C.b dJ4_coder_6 rfl (lv_at hl 0 rfl) ?_
  refine vk_getf C.x C.b h2 hS C.o (C.t _ q601) (fun _ h9 => h9) dJ4_coder_7 ?_
  refine lv_goto (tgt := 14) C.x C.b dJ4_coder_10 (by decide) ?_
  exact jq_zret C rfl dJ4_coder_14 (fun q h => by cases h)

theorem StrC.recv {A : Nat → Prop} {t : List Int32} {a : Nat} {s : State} {H : Heap} {locs : List Loc} (h : StrC A t a s s.heap) (hS : va_S A s.heap H locs) : ∃ cell : Cell, H[a]? = some cell ∧ cell.vm.isStatics = false ∧ s.vm.findClass RJ4 = some cell.cls := by
  obtain ⟨cell, h1, h2, h3, -⟩ := h.2.1.kept hS.2.1
  exact ⟨cell, h1, h2, h3⟩

theorem kJ4_length (l : Launch) (t : List Int32) (a : Nat) : Met l yJ4_length (ws_ yJ4_length cJ4_length 1 (some .int)) ({ frames := 2, cells := 0, slots := 0, locals := 60 }) (JPc (fun _ => False) [.ref a] (fun U => StrC (fun _ => False) t a U U.heap)) (JQ (some (.int (nI t.length)))) 0 0 (fun _ => False) := by
  refine Met.ofW (cc := cJ4_length) (maxL := 1) (ret := (some .int)) (by decide) rfl ?_
  intro p e s m args below meth c s₁ B hml hv
  obtain ⟨rfl, hJ, hX⟩ := hv
  have hts := atoms_spec (ws := (ws_ yJ4_length cJ4_length 1 (some .int))) B.pre
  have C : CX p m meth c s ([.ref a] : List Value).toArray cJ4_length 1 (some .int) RJ4 := ⟨⟨B.exec, B.bytes, hml, findClass_of_methodNamed B.named, fun w h => hts w (List.mem_cons_of_mem _ h)⟩, B.returns, B.notSynchronized⟩
  have hRf : 2 ≤ (headSpec (ws_ yJ4_length cJ4_length 1 (some .int)) ({ frames := 2, cells := 0, slots := 0, locals := 60 })).room.frames := Nat.le_refl _
  have hRl : 60 ≤ (headSpec (ws_ yJ4_length cJ4_length 1 (some .int)) ({ frames := 2, cells := 0, slots := 0, locals := 60 })).room.locals := Nat.le_refl _
  generalize (headSpec (ws_ yJ4_length cJ4_length 1 (some .int)) ({ frames := 2, cells := 0, slots := 0, locals := 60 })).room = R at hRf hRl ⊢
  have hS : va_S (fun _ => False) s.heap s.heap [] := va_S.rf
  have hl := lv_entry ([.ref a]) (n := 1) (Nat.le_of_ble_eq_true rfl)
  rw [lg_entry_eq]
  generalize (lg_sl ([.ref a]) ++ List.replicate (1 - (lg_sl ([.ref a])).length) Slot.unset).toArray = ls at hl ⊢
  have hl : lv_has ls 1 [(0, .ref a)] := hl
  obtain ⟨h31, h1, h2, v, h3, h4⟩ := id hX
  refine lv_aload_n C.x C.b dJ4_length_0 rfl (lv_at hl 0 rfl) ?_
  refine vk_getf C.x C.b h3 hS C.o (C.t _ q600) (fun _ h9 => h9) dJ4_length_1 ?_
  refine va_tlen (v := nI t.length) C.x C.b h4 hS rfl dJ4_length_4 ?_
  refine lv_aload_n C.x C.b dJ4_length_5 rfl (lv_at hl 0 rfl) ?_
  refine jq_go (v := some (.int 0)) (rest := [.int (nI t.length)]) (va_runV (As := []) (rest := [.int (nI t.length)]) C.1 (kJ4_coder l t a) (cwV 0 C.t (lw_V q248 q249 q250 q131 q251) rfl rfl rfl (by decide +kernel) ⟨Nat.le_trans (Nat.le_of_ble_eq_true rfl) hRf, Nat.le_trans (Nat.le_of_ble_eq_true rfl) hRl⟩) ⟨JPc.blind (XB.str _ _ _), StrC.recv hX hS, fun U hU hW => ⟨rfl, by rw [hU]; exact StJ.moved hW.alike hJ, StrC.at hX hS hU hW⟩⟩ rfl rfl hl.1 rfl (lv_room (m := m) (pc := 6) (ls := ls) (rest := .ref a :: [.int (nI t.length)]) (Nat.le_of_ble_eq_true rfl)) dJ4_length_6 ⟨Nat.zero_le _, Nat.zero_le _⟩) hS (fun locs1 hS1 => ?_)
  refine lv_ishr C.x C.b dJ4_length_9 ?_
  refine W.eq (g2 := F0 m 10 ls [.int (nI t.length)]) (by rw [sc_shr0 h31]) ?_
  exact jq_iret C dJ4_length_10 (va_Sfalse hS1)

theorem kJ4_charAt (l : Launch) (t : List Int32) (a : Nat) (i : Int32) (h : vp_in i t.length) : Met l yJ4_charAt (ws_ yJ4_charAt cJ4_charAt 2 (some .char)) ({ frames := 4, cells := 0, slots := 0, locals := 130 }) (JPc (fun _ => False) [.ref a, .int i] (fun U => StrC (fun _ => False) t a U U.heap)) (JQ (some (.int (t.getD i.toNatClampNeg 0 &&& 255)))) 0 0 (fun _ => False) := by
  refine Met.ofW (cc := cJ4_charAt) (maxL := 2) (ret := (some .char)) (by decide) rfl ?_
  intro p e s m args below meth c s₁ B hml hv
  obtain ⟨rfl, hJ, hX⟩ := hv
  have hts := atoms_spec (ws := (ws_ yJ4_charAt cJ4_charAt 2 (some .char))) B.pre
  have C : CX p m meth c s ([.ref a, .int i] : List Value).toArray cJ4_charAt 2 (some .char) RJ4 := ⟨⟨B.exec, B.bytes, hml, findClass_of_methodNamed B.named, fun w h => hts w (List.mem_cons_of_mem _ h)⟩, B.returns, B.notSynchronized⟩
  have hRf : 4 ≤ (headSpec (ws_ yJ4_charAt cJ4_charAt 2 (some .char)) ({ frames := 4, cells := 0, slots := 0, locals := 130 })).room.frames := Nat.le_refl _
  have hRl : 130 ≤ (headSpec (ws_ yJ4_charAt cJ4_charAt 2 (some .char)) ({ frames := 4, cells := 0, slots := 0, locals := 130 })).room.locals := Nat.le_refl _
  generalize (headSpec (ws_ yJ4_charAt cJ4_charAt 2 (some .char)) ({ frames := 4, cells := 0, slots := 0, locals := 130 })).room = R at hRf hRl ⊢
  have hS : va_S (fun _ => False) s.heap s.heap [] := va_S.rf
  have hl := lv_entry ([.ref a, .int i]) (n := 2) (Nat.le_of_ble_eq_true rfl)
  rw [lg_entry_eq]
  generalize (lg_sl ([.ref a, .int i]) ++ List.replicate (2 - (lg_sl ([.ref a, .int i])).length) Slot.unset).toArray = ls at hl ⊢
  have hl : lv_has ls 2 [(0, .ref a), (1, .int i)] := hl
  obtain ⟨h31, h1, h2, v, h3, h4⟩ := id hX
  refine lv_aload_n C.x C.b dJ4_charAt_0 rfl (lv_at hl 0 rfl) ?_
  refine jq_go (v := some (.int 1)) (rest := []) (va_runV (As := []) (rest := []) C.1 (kJ4_isLatin1 l t a) (cwV 0 C.t (lw_V q307 q308 q309 q131 q310) rfl rfl rfl (by decide +kernel) ⟨Nat.le_trans (Nat.le_of_ble_eq_true rfl) hRf, Nat.le_trans (Nat.le_of_ble_eq_true rfl) hRl⟩) ⟨JPc.blind (XB.str _ _ _), StrC.recv hX hS, fun U hU hW => ⟨rfl, by rw [hU]; exact StJ.moved hW.alike hJ, StrC.at hX hS hU hW⟩⟩ rfl rfl hl.1 rfl (lv_room (m := m) (pc := 1) (ls := ls) (rest := .ref a :: []) (Nat.le_of_ble_eq_true rfl)) dJ4_charAt_1 ⟨Nat.zero_le _, Nat.zero_le _⟩) hS (fun locs1 hS1 => ?_)
  refine lv_if_eq (tgt := 16) C.x C.b dJ4_charAt_4 (by decide) (fun c => absurd c (by decide)) (fun _ => ?_)
  refine lv_aload_n C.x C.b dJ4_charAt_7 rfl (lv_at hl 0 rfl) ?_
  refine vk_getf C.x C.b h3 hS1 C.o (C.t _ q600) (fun _ h9 => h9) dJ4_charAt_8 ?_
  refine lv_iload_n C.x C.b dJ4_charAt_11 rfl (lv_at hl 1 rfl) ?_
  refine jq_go (v := some (.int (t.getD i.toNatClampNeg 0 &&& 255))) (rest := []) (va_runS (As := [.ref v, .int i]) (rest := []) C.1 (kJ6_charAt l t v i h) (va_cwS 2 C.t (lw_S q311 q312 q134 q313) rfl rfl rfl (by decide +kernel) ⟨Nat.le_trans (Nat.le_of_ble_eq_true rfl) hRf, Nat.le_trans (Nat.le_of_ble_eq_true rfl) hRl⟩) ⟨JPc.blind (XB.byt _ _), fun U hU hW => ⟨rfl, by rw [hU]; exact StJ.moved hW.alike hJ, BytC.at ⟨h31, h4⟩ hU hW⟩⟩ rfl rfl hl.1 rfl (lv_room (m := m) (pc := 12) (ls := ls) (rest := [.int i, .ref v]) (Nat.le_of_ble_eq_true rfl)) dJ4_charAt_12 ⟨Nat.zero_le _, Nat.zero_le _⟩) hS1 (fun locs2 hS2 => ?_)
  exact jq_zret C (sc_nar _) dJ4_charAt_15 (va_Sfalse hS2)

section TW3
variable {p : Program} {l : Launch} {e : Env} {R : Room} {s : State} {m : MethodId} {args : Array Value} {below : List Frame} {meth : Method} {c : Code} {H : Heap} {locs : List Loc} {cells slots : Nat} {Q : State → Prop}
variable {cc : ByteArray} {pc : Nat} {ls : Array Slot} {rest : List Value} {g : twG} {A : Nat → Prop} {nL : Nat} {ret : Option FieldType} {own : String} {σ : twS} {L : List (Nat × String × List Int32)}
theorem StJ.at {s U : State} (h : StJ A s s.heap) (hS : va_S A s.heap H locs) (hU : U.heap = H) (hW : s.WarmedH U.vm) : StJ A U U.heap := by
  rw [hU]
  exact (StJ.moved hW.alike h).kept hS.2.1
/-- s.length() on a String outside A -/
theorem jw_slen {t : List Int32} {a index : Nat} (C : CX p m meth c s args cc nL ret own) (hJ : StJ A s s.heap) (hS : va_S A s.heap H locs) (hX : StrC A t a s s.heap) (hn : ls.size = nL) (hlink : Cond.methodLink own index yJ4_length ∈ lw_all) (hRf : 3 ≤ R.frames) (hRl : 80 ≤ R.locals) (hc : cells ≤ R.cells) (hs : slots ≤ R.slots) (hrest : (rest.map fun v => v.category).sum ≤ 8) (hdg : decode cc pc = .ok (.invokevirtual index, 3))
    (kk : ∀ (locs : List Loc), va_S A s.heap H locs → W p l e R s m args below meth c H locs cells slots Q (F0 m (pc + 3) ls (.int (nI t.length) :: rest))) : W p l e R s m args below meth c H locs cells slots Q (F0 m pc ls (.ref a :: rest)) :=
  jq_go (v := some (.int (nI t.length))) (rest := rest) (va_runV (As := []) (rest := rest) C.1 (kJ4_length l t a) (cwV 0 C.t (lw_V hlink q245 q246 q131 q247) rfl rfl rfl (by decide +kernel) ⟨hRf, Nat.le_trans (Nat.le_of_ble_eq_true rfl) hRl⟩) ⟨JPc.blind (XB.str _ _ _), StrC.recv hX hS, fun U hU hW => ⟨rfl, (StJ.at hJ hS hU hW).no, (StrC.at hX hS hU hW).no⟩⟩ rfl rfl hn rfl (lv_room (m := m) (pc := pc) (ls := ls) (rest := .ref a :: rest) hrest) hdg ⟨hc, hs⟩) hS kk
theorem jw_chA {t : List Int32} {a index : Nat} {i : Int32} (C : CX p m meth c s args cc nL ret own) (hJ : StJ A s s.heap) (hS : va_S A s.heap H locs) (hX : StrC A t a s s.heap) (hn : ls.size = nL) (hi : vp_in i t.length) (hlink : Cond.methodLink own index yJ4_charAt ∈ lw_all) (hRf : 5 ≤ R.frames) (hRl : 151 ≤ R.locals) (hc : cells ≤ R.cells) (hs : slots ≤ R.slots) (hrest : (rest.map fun v => v.category).sum ≤ 8) (hdg : decode cc pc = .ok (.invokevirtual index, 3))
    (kk : ∀ (locs : List Loc), va_S A s.heap H locs → W p l e R s m args below meth c H locs cells slots Q (F0 m (pc + 3) ls (.int (t.getD i.toNatClampNeg 0 &&& 255) :: rest))) : W p l e R s m args below meth c H locs cells slots Q (F0 m pc ls (.int i :: .ref a :: rest)) :=
  jq_go (v := some (.int (t.getD i.toNatClampNeg 0 &&& 255))) (rest := rest) (va_runV (As := [.int i]) (rest := rest) C.1 (kJ4_charAt l t a i hi) (cwV 1 C.t (lw_V hlink q304 q2703 q131 q306) rfl rfl rfl (by decide +kernel) ⟨hRf, Nat.le_trans (Nat.le_of_ble_eq_true rfl) hRl⟩) ⟨JPc.blind (XB.str _ _ _), StrC.recv hX hS, fun U hU hW => ⟨rfl, (StJ.at hJ hS hU hW).no, (StrC.at hX hS hU hW).no⟩⟩ rfl rfl hn rfl (lv_room (m := m) (pc := pc) (ls := ls) (rest := .int i :: .ref a :: rest) hrest) hdg ⟨hc, hs⟩) hS kk
theorem tw_slen {t : List Int32} {a index : Nat} (C : CX p m meth c s args cc nL ret own) (hw : WKt L g A s s.heap) (hS : va_S A s.heap H locs) (hX : StrC A t a s s.heap) (hn : ls.size = nL) (hlink : Cond.methodLink own index yJ4_length ∈ lw_all) (hRf : 3 ≤ R.frames) (hRl : 80 ≤ R.locals) (hrest : (rest.map fun v => v.category).sum ≤ 8) (hdg : decode cc pc = .ok (.invokevirtual index, 3))
    (kk : ∀ (locs : List Loc), va_S A s.heap H locs → W p l e R s m args below meth c H locs 0 0 Q (F0 m (pc + 3) ls (.int (nI t.length) :: rest))) : W p l e R s m args below meth c H locs 0 0 Q (F0 m pc ls (.ref a :: rest)) :=
  jw_slen C hw.2.1 hS hX hn hlink hRf hRl (Nat.zero_le _) (Nat.zero_le _) hrest hdg kk
theorem tw_chA {β : Type} {t : List Int32} {a index : Nat} {i : Int32} {K : Int32 → Option β} {z : β} (C : CX p m meth c s args cc nL ret own) (hw : WKt L g A s s.heap) (hS : va_S A s.heap H locs) (hX : StrC A t a s s.heap) (hn : ls.size = nL) (h : chA t i K = some z) (hlink : Cond.methodLink own index yJ4_charAt ∈ lw_all) (hRf : 5 ≤ R.frames) (hRl : 151 ≤ R.locals) (hrest : (rest.map fun v => v.category).sum ≤ 8) (hdg : decode cc pc = .ok (.invokevirtual index, 3))
    (kk : ∀ (v : Int32) (locs : List Loc), K v = some z → va_S A s.heap H locs → W p l e R s m args below meth c H locs 0 0 Q (F0 m (pc + 3) ls (.int v :: rest))) : W p l e R s m args below meth c H locs 0 0 Q (F0 m pc ls (.int i :: .ref a :: rest)) :=
  jw_chA C hw.2.1 hS hX hn (chA_s h).1 hlink hRf hRl (Nat.zero_le _) (Nat.zero_le _) hrest hdg (fun locs1 q => kk _ locs1 (chA_s h).2 q)
theorem tw_ldcwS (hexec : p.tables.exec = Jvm.exec) (hb : c.code = cc) {tx : String} {index q : Nat} (hown : s.vm.findClass own = some m.cls) (hZ : vk_R own index tx q s) (hdg : decode cc pc = .ok (.ldc_w index, 3))
    (k : W p l e R s m args below meth c H locs cells slots Q (F0 m (pc + 3) ls (.ref q :: rest))) : W p l e R s m args below meth c H locs cells slots Q (F0 m pc ls rest) := by
  intro T hT X
  obtain ⟨t, a1, b1⟩ := k T hT X
  refine ⟨t, ?_, b1⟩
  obtain ⟨kc, cf, i, a', hk, hcf, hcp, -, hr, hev'⟩ := Cond.stringRef_spec hown hZ.1
  cases hZ.2.symm.trans hev'
  obtain ⟨k', hk', he⟩ := X.warmed.alike.2.2 _ _ hk
  have hr' : k'.resolved[index]? = some (some (.string q)) := by
    rcases X.warmed.entry hk hk' index with h | ⟨h, -⟩
    · rw [h]; exact hr
    · rw [hr] at h; cases h
  subst hb
  jvm_step X.here [hexec, hdg, ldc_w.wp_string (e := e) (s := T) (f := F0 m pc ls rest) X.here.top hk' (by rw [he]; exact hcf) hcp hr']
  exact a1
theorem tw_lt {β : Type} {x : Int32} {K : Int32 → Option β} {z : β} (h : lt_ x K = some z) (kk : ∀ y : Int32, K y = some z → W p l e R s m args below meth c H locs cells slots Q (F0 m pc ls (.int y :: rest))) : W p l e R s m args below meth c H locs cells slots Q (F0 m pc ls (.int x :: rest)) := kk x h
theorem tw_ltL {β : Type} {x : Int64} {K : Int64 → Option β} {z : β} (h : lt_ x K = some z) (kk : ∀ y : Int64, K y = some z → W p l e R s m args below meth c H locs cells slots Q (F0 m pc ls (.long y :: rest))) : W p l e R s m args below meth c H locs cells slots Q (F0 m pc ls (.long x :: rest)) := kk x h
theorem tw_ltD {β : Type} {x : UInt64} {K : UInt64 → Option β} {z : β} (h : lt_ x K = some z) (kk : ∀ y : UInt64, K y = some z → W p l e R s m args below meth c H locs cells slots Q (F0 m pc ls (.double y :: rest))) : W p l e R s m args below meth c H locs cells slots Q (F0 m pc ls (.double x :: rest)) := kk x h
theorem tw_tabD (hexec : p.tables.exec = Jvm.exec) (hb : c.code = cc) {dflt lo hi : Int} {offs : Array Int} {len : Nat} {x : Int32} {tgt : Nat} (hdg : decode cc pc = .ok (.tableswitch dflt lo hi offs, len)) (hz : hi - lo + 1 = (offs.size : Int)) (hj : ∀ j : Nat, j < offs.size → offs[j]? = some dflt ∨ ¬ x.toInt = lo + (j : Int)) (ht : (pc : Int) + dflt = (tgt : Int))
    (k : W p l e R s m args below meth c H locs cells slots Q (F0 m tgt ls rest)) : W p l e R s m args below meth c H locs cells slots Q (F0 m pc ls (.int x :: rest)) := by
  by_cases h1 : x.toInt < lo
  · exact lv_tableOut hexec hb hdg (Or.inl h1) ht k
  · by_cases h2 : hi < x.toInt
    · exact lv_tableOut hexec hb hdg (Or.inr h2) ht k
    · refine lv_tableIn hexec hb hdg h1 h2 ?_ ht k
      rcases hj (x.toInt - lo).toNat (by omega) with h | h
      · exact h
      · exact absurd (by omega) h
theorem tw_iret {x : Int32} {z : Int32 × twS} (C : CX p m meth c s args cc nL (some .int) own) (hσ : TI g A σ H) (hS : va_S A s.heap H locs) (h : some (x, σ) = some z) (hdg : decode cc pc = .ok (.ireturn, 1)) : W p l e R s m args below meth c H locs 0 0 (MQ below (TQ g A (some (.int z.1)) z.2) args s 0 0 A) (F0 m pc ls [.int x]) := by
  cases h
  exact W.iret C.x C.b C.r (fun t ht hW => ⟨rfl, by rw [ht]; exact hσ, hS.F ht⟩) hS.2.2 hdg C.k
theorem tw_zret {x : Int32} {z : Int32 × twS} (C : CX p m meth c s args cc nL (some .boolean) own) (hσ : TI g A σ H) (hS : va_S A s.heap H locs) (h : rz x σ = some z) (hdg : decode cc pc = .ok (.ireturn, 1)) : W p l e R s m args below meth c H locs 0 0 (MQ below (TQ g A (some (.int z.1)) z.2) args s 0 0 A) (F0 m pc ls [.int x]) := by
  unfold rz at h
  split at h
  · next hx =>
    cases h
    exact W.zret C.x C.b C.r (by show Value.int (x &&& 1) = _; rw [hx]) (fun t ht hW => ⟨rfl, by rw [ht]; exact hσ, hS.F ht⟩) hS.2.2 hdg C.k
  · cases h
theorem tw_cret {x : Int32} {z : Int32 × twS} (C : CX p m meth c s args cc nL (some .char) own) (hσ : TI g A σ H) (hS : va_S A s.heap H locs) (h : rc x σ = some z) (hdg : decode cc pc = .ok (.ireturn, 1)) : W p l e R s m args below meth c H locs 0 0 (MQ below (TQ g A (some (.int z.1)) z.2) args s 0 0 A) (F0 m pc ls [.int x]) := by
  unfold rc at h
  split at h
  · next hx =>
    cases h
    exact W.zret C.x C.b C.r (by show Value.int (x.toUInt32.toUInt16.toUInt32.toInt32) = _; rw [hx]) (fun t ht hW => ⟨rfl, by rw [ht]; exact hσ, hS.F ht⟩) hS.2.2 hdg C.k
  · cases h
theorem tw_vret {x : Int32} {z : Int32 × twS} (C : CX p m meth c s args cc nL none own) (hσ : TI g A σ H) (hS : va_S A s.heap H locs) (h : some (x, σ) = some z) (hdg : decode cc pc = .ok (.return_, 1)) : W p l e R s m args below meth c H locs 0 0 (MQ below (TQ g A none z.2) args s 0 0 A) (F0 m pc ls []) := by
  cases h
  exact W.vret C.x C.b C.r (fun t ht hW => ⟨rfl, by rw [ht]; exact hσ, hS.F ht⟩) hS.2.2 hdg C.k
theorem tw_lret {x : Int64} {z : Int64 × twS} (C : CX p m meth c s args cc nL (some .long) own) (hσ : TI g A σ H) (hS : va_S A s.heap H locs) (h : some (x, σ) = some z) (hdg : decode cc pc = .ok (.lreturn, 1)) : W p l e R s m args below meth c H locs 0 0 (MQ below (TQ g A (some (.long z.1)) z.2) args s 0 0 A) (F0 m pc ls [.long x]) := by
  cases h
  exact W.lret C.x C.b C.r (fun t ht hW => ⟨rfl, by rw [ht]; exact hσ, hS.F ht⟩) hS.2.2 hdg C.k
theorem tw_fret {x : UInt32} {z : UInt32 × twS} (C : CX p m meth c s args cc nL (some .float) own) (hσ : TI g A σ H) (hS : va_S A s.heap H locs) (h : some (x, σ) = some z) (hdg : decode cc pc = .ok (.freturn, 1)) : W p l e R s m args below meth c H locs 0 0 (MQ below (TQ g A (some (.float z.1)) z.2) args s 0 0 A) (F0 m pc ls [.float x]) := by
  cases h
  exact W.fret C.x C.b C.r (fun t ht hW => ⟨rfl, by rw [ht]; exact hσ, hS.F ht⟩) hS.2.2 hdg C.k
theorem tw_dret {x : UInt64} {z : UInt64 × twS} (C : CX p m meth c s args cc nL (some .double) own) (hσ : TI g A σ H) (hS : va_S A s.heap H locs) (h : some (x, σ) = some z) (hdg : decode cc pc = .ok (.dreturn, 1)) : W p l e R s m args below meth c H locs 0 0 (MQ below (TQ g A (some (.double z.1)) z.2) args s 0 0 A) (F0 m pc ls [.double x]) := by
  cases h
  exact W.dret C.x C.b C.r (fun t ht hW => ⟨rfl, by rw [ht]; exact hσ, hS.F ht⟩) hS.2.2 hdg C.k
end TW3
