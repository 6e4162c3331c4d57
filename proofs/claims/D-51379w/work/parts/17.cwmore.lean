/-! THE CLASS' FURTHER ROWS -/
set_option maxRecDepth 100000
def gd {β : Type} (c : Prop) [Decidable c] (K : Option β) : Option β := if c then K else none
theorem gd_s {β : Type} {c : Prop} [Decidable c] {K : Option β} {z : β} (h : gd c K = some z) : c ∧ K = some z := by
  unfold gd at h
  split at h
  · exact ⟨by assumption, h⟩
  · cases h
theorem fits_o (n : String) (x : Option Nat) : fits (.object n) (va_rf x) = true := by cases x <;> rfl
theorem fits_a (t : FieldType) (x : Option Nat) : fits (.array t) (va_rf x) = true := by cases x <;> rfl
theorem nar_o (n : String) (x : Option Nat) : narrow (.object n) (va_rf x) = va_rf x := by cases x <;> rfl
theorem nar_a (t : FieldType) (x : Option Nat) : narrow (.array t) (va_rf x) = va_rf x := by cases x <;> rfl
theorem nar_z {x : Int32} (h : x = 0 ∨ x = 1) : narrow .boolean (.int x) = .int x := by rcases h with rfl | rfl <;> rfl
theorem fit_z {x : Int32} (h : x = 0 ∨ x = 1) : fits .boolean (.int x) = true := by rcases h with rfl | rfl <;> rfl
theorem nar_b {x : Int32} (h : x = 0) : narrow .byte (.int x) = .int x := by subst h; rfl
theorem fit_b {x : Int32} (h : x = 0) : fits .byte (.int x) = true := by subst h; rfl
theorem nar_c {x : Int32} (h : x.toUInt32.toUInt16.toUInt32.toInt32 = x ∧ 0 ≤ x ∧ x ≤ 65535) : narrow .char (.int x) = .int x := by show Value.int x.toUInt32.toUInt16.toUInt32.toInt32 = _; rw [h.1]
theorem fit_c {x : Int32} (h : x.toUInt32.toUInt16.toUInt32.toInt32 = x ∧ 0 ≤ x ∧ x ≤ 65535) : fits .char (.int x) = true := by simp [fits, h.2]
/-- a cast: null, or an object of one of these classes, or an array of one of these kinds (from 100 on) -/
def ckd (σ : cS) (a : Nat) : Nat := match σ.1 a with
  | some (.inr o) => if o.1 < 59 then o.1 else 1000 + o.1
  | some (.inl x) => 100 + x.1
  | none => 999
def cst {β : Type} (σ : cS) (r : Option Nat) (ok : List Nat) (K : Option β) : Option β := match r with
  | none => K
  | some a => if ok.contains (ckd σ a) = true then K else none
/-- System.arraycopy -/
def cpI {β : Type} (σ : cS) (kind : Nat) (src : Option Nat) (sp : Int32) (dst : Option Nat) (dp n : Int32) (K : cS → Option β) : Option β := match src, dst with
  | some a, some b => match σ.1 a, σ.1 b with
    | some (.inl (k0, n0, .inl f)), some (.inl (k1, n1, .inl h)) => if (k0 = kind ∧ k1 = kind) ∧ (¬ sp < 0 ∧ ¬ dp < 0 ∧ ¬ n < 0) ∧ (sp.toNatClampNeg + n.toNatClampNeg ≤ n0 ∧ dp.toNatClampNeg + n.toNatClampNeg ≤ n1) ∧ σ.2 2 ≤ b ∧ (kind = 0 ∨ ∀ i, i < n.toNatClampNeg → (f (sp.toNatClampNeg + i)).toInt8.toInt32 = f (sp.toNatClampNeg + i)) then K (cU σ b (.inl (kind, n1, .inl (va_cpy f h sp.toNatClampNeg dp.toNatClampNeg n.toNatClampNeg)))) else none
    | _, _ => none
  | _, _ => none
def cpR {β : Type} (σ : cS) (src : Option Nat) (sp : Int32) (dst : Option Nat) (dp n : Int32) (K : cS → Option β) : Option β := match src, dst with
  | some a, some b => match σ.1 a, σ.1 b with
    | some (.inl (k0, n0, .inr (.inr (.inr (.inr f))))), some (.inl (k1, n1, .inr (.inr (.inr (.inr h))))) => if ((2 ≤ k0 ∧ k0 < 5) ∧ (2 ≤ k1 ∧ k1 < 5)) ∧ (¬ sp < 0 ∧ ¬ dp < 0 ∧ ¬ n < 0) ∧ (sp.toNatClampNeg + n.toNatClampNeg ≤ n0 ∧ dp.toNatClampNeg + n.toNatClampNeg ≤ n1) ∧ σ.2 2 ≤ b ∧ (∀ i, i < n.toNatClampNeg → okV σ k1 (f (sp.toNatClampNeg + i)) = true) then K (cU σ b (.inl (k1, n1, .inr (.inr (.inr (.inr (va_cpy f h sp.toNatClampNeg dp.toNatClampNeg n.toNatClampNeg))))))) else none
    | _, _ => none
  | _, _ => none
theorem cst_s {β : Type} {σ : cS} {r : Option Nat} {ok : List Nat} {K : Option β} {z : β} (h : cst σ r ok K = some z) : (r = none ∨ ∃ a, r = some a ∧ ckd σ a ∈ ok) ∧ K = some z := by
  unfold cst at h
  cases r with
  | none => exact ⟨Or.inl rfl, h⟩
  | some a =>
    dsimp only at h
    split at h
    · next hc => exact ⟨Or.inr ⟨a, rfl, by simpa using hc⟩, h⟩
    · cases h
theorem cpI_s {β : Type} {σ : cS} {kind : Nat} {src dst : Option Nat} {sp dp n : Int32} {K : cS → Option β} {z : β} (h : cpI σ kind src sp dst dp n K = some z) : ∃ a b n0 n1 f h1, src = some a ∧ dst = some b ∧ σ.1 a = some (.inl (kind, n0, .inl f)) ∧ σ.1 b = some (.inl (kind, n1, .inl h1)) ∧ (¬ sp < 0 ∧ ¬ dp < 0 ∧ ¬ n < 0) ∧ (sp.toNatClampNeg + n.toNatClampNeg ≤ n0 ∧ dp.toNatClampNeg + n.toNatClampNeg ≤ n1) ∧ σ.2 2 ≤ b ∧ (kind = 0 ∨ ∀ i, i < n.toNatClampNeg → (f (sp.toNatClampNeg + i)).toInt8.toInt32 = f (sp.toNatClampNeg + i)) ∧ K (cU σ b (.inl (kind, n1, .inl (va_cpy f h1 sp.toNatClampNeg dp.toNatClampNeg n.toNatClampNeg)))) = some z := by
  unfold cpI at h
  split at h
  · next a b =>
    split at h
    · next k0 n0 f k1 n1 h1 e0 e1 =>
      split at h
      · next hc =>
        obtain ⟨⟨c1, c2⟩, c3, c4, c5, c6⟩ := hc
        subst c1
        subst c2
        exact ⟨a, b, n0, n1, f, h1, rfl, rfl, e0, e1, c3, c4, c5, c6, h⟩
      · cases h
    · cases h
  · cases h
theorem cpR_s {β : Type} {σ : cS} {src dst : Option Nat} {sp dp n : Int32} {K : cS → Option β} {z : β} (h : cpR σ src sp dst dp n K = some z) : ∃ a b k0 k1 n0 n1 f h1, src = some a ∧ dst = some b ∧ σ.1 a = some (.inl (k0, n0, .inr (.inr (.inr (.inr f))))) ∧ σ.1 b = some (.inl (k1, n1, .inr (.inr (.inr (.inr h1))))) ∧ ((2 ≤ k0 ∧ k0 < 5) ∧ (2 ≤ k1 ∧ k1 < 5)) ∧ (¬ sp < 0 ∧ ¬ dp < 0 ∧ ¬ n < 0) ∧ (sp.toNatClampNeg + n.toNatClampNeg ≤ n0 ∧ dp.toNatClampNeg + n.toNatClampNeg ≤ n1) ∧ σ.2 2 ≤ b ∧ (∀ i, i < n.toNatClampNeg → okV σ k1 (f (sp.toNatClampNeg + i)) = true) ∧ K (cU σ b (.inl (k1, n1, .inr (.inr (.inr (.inr (va_cpy f h1 sp.toNatClampNeg dp.toNatClampNeg n.toNatClampNeg))))))) = some z := by
  unfold cpR at h
  split at h
  · next a b =>
    split at h
    · next k0 n0 f k1 n1 h1 e0 e1 =>
      split at h
      · next hc =>
        obtain ⟨c1, c3, c4, c5, c6⟩ := hc
        exact ⟨a, b, k0, k1, n0, n1, f, h1, rfl, rfl, e0, e1, c1, c3, c4, c5, c6, h⟩
      · cases h
    · cases h
  · cases h
section CW3
variable {p : Program} {l : Launch} {e : Env} {R : Room} {s : State} {m : MethodId} {args : Array Value} {below : List Frame} {meth : Method} {c : Code} {H : Heap} {locs : List Loc} {cells slots : Nat} {Q : State → Prop}
variable {cc : ByteArray} {pc : Nat} {ls : Array Slot} {rest : List Value} {g : cG} {A : Nat → Prop} {nL : Nat} {ret : Option FieldType} {own : String} {σ : cS} {F_ L_ : Nat}
theorem cw_obj {a idx : Nat} (C : CX p m meth c s args cc nL ret own) (hR : RM g s R F_ L_) (hn : ls.size = nL) (hlink : Cond.methodLink own idx objectInit ∈ lw_all) (hinst : Cond.instanceMethod objectInit ∈ lw_all) (hcode : Cond.code objectInit ⟨#[0xb1]⟩ 1 none ∈ lw_all) (hdg : decode cc pc = .ok (.invokespecial idx, 3)) (hF : 1 ≤ F_) (hL : 24 ≤ L_) (hrest : rest.length ≤ 4)
    (kk : W p l e R s m args below meth c H locs cells slots Q (F0 m (pc + 3) ls rest)) : W p l e R s m args below meth c H locs cells slots Q (F0 m pc ls (.ref a :: rest)) :=
  W.objInit C.x C.b C.o (C.t _ hlink) (C.t _ hinst) (C.t _ hcode) rfl (hn.trans C.n.symm) rfl hdg (Nat.le_trans hF hR.f) (by have h1 := room_of hrest; have h2 := hR.lo; show 2 * 0 + _ + 12 ≤ _; omega) kk
theorem CI.push {e0 : cE} {n : Nat} {cell : Cell} (hI : CI g A s σ H locs) (hn : cell.slots.size = n) (hb : σ.2 0 + 1 ≤ σ.2 3 ∧ σ.2 1 + n ≤ σ.2 4) (he : cCell g (σ.2 0) e0 (H.push cell)) : CI g A s (cN σ e0 n) (H.push cell) locs := by
  obtain ⟨hP, hS, hsl1⟩ := hI
  refine ⟨hP.new hn hb he, ⟨by simp; have := hS.1; omega, fun q h1 h2 => ?_, hS.2.2⟩, by rw [hsl_push]; omega⟩
  have s1 := hS.1
  rw [Array.getElem?_push, if_neg (by omega)]
  exact hS.2.1 q h1 h2
theorem cw_pushed {e0 : cE} {n : Nat} {cell : Cell} {fr : JFrame} (hI : CI g A s σ H locs) (hn : cell.slots.size = n) (k : W p l e R s m args below meth c (H.push cell) locs ((H.push cell).size - s.heap.size) (hsl (H.push cell) - hsl s.heap) Q fr) : W p l e R s m args below meth c (H.push cell) locs (H.size - s.heap.size + 1) (hsl H - hsl s.heap + n) Q fr := by
  have s1 := hI.2.1.1
  have s2 := hI.2.2
  rw [hsl_push, Array.size_push, hn] at k
  have e2 : H.size + 1 - s.heap.size = H.size - s.heap.size + 1 := by omega
  have e3 : hsl H + n - hsl s.heap = hsl H - hsl s.heap + n := by omega
  rw [e2, e3] at k
  exact k
theorem cw_nAi {β : Type} {K : Nat → cS → Option β} {z : β} {n : Int32} (C : CX p m meth c s args cc nL ret own) (hw : WKc g A s s.heap) (hR : RM g s R F_ L_) (hI : CI g A s σ H locs) (h : nA σ 0 n (.inl (fun _ => 0)) K = some z) (hdg : decode cc pc = .ok (.newarray .int, 2))
    (kk : ∀ (q : Nat) (σ1 : cS) (H : Heap) (locs : List Loc), K q σ1 = some z → CI g A s σ1 H locs → W p l e R s m args below meth c H locs (H.size - s.heap.size) (hsl H - hsl s.heap) Q (F0 m (pc + 2) ls (.ref q :: rest))) : W p l e R s m args below meth c H locs (H.size - s.heap.size) (hsl H - hsl s.heap) Q (F0 m pc ls (.int n :: rest)) := by
  obtain ⟨⟨hn, hbig⟩, hb, hK⟩ := nA_s h
  have p0 := hI.1.1
  have p1 := hI.1.2.1
  have b3 := hI.1.2.2.2.1 3 (by decide)
  have b4 := hI.1.2.2.2.1 4 (by decide)
  have s1 := hI.2.1.1
  have s2 := hI.2.2
  obtain ⟨-, r1, r2⟩ := hR
  refine W.newa (atype := .int) C.x C.b (C.t _ q831) rfl hdg rfl hn (by show _ * 4 ≤ _; omega) (by omega) (by omega) fun cA kA comp f1 f2 f3 => ?_
  have r6 : s.vm.findClass ("[" ++ (FieldType.int).toString) = some (g.2.1 0) := (hw.1.2 0 _ rfl).2
  cases Option.some.inj (f1.symm.trans r6)
  have ec : ({ cls := g.2.1 0, slots := Array.replicate n.toNatClampNeg (defaultValue (newarray.typeOf .int)), vm := .none } : Cell) = vp_cell (g.2.1 0) (n.toNatClampNeg, .inl (fun _ => 0)) := by
    rw [arrV_new]; rfl
  have hc : ({ cls := g.2.1 0, slots := Array.replicate n.toNatClampNeg (defaultValue (newarray.typeOf .int)), vm := .none } : Cell).slots.size = n.toNatClampNeg := by simp
  refine cw_pushed (e0 := .inl (0, n.toNatClampNeg, .inl (fun _ => 0))) hI hc ?_
  have hnew := hI.push (e0 := .inl (0, n.toNatClampNeg, .inl (fun _ => 0))) hc hb (by
    show (H.push _)[σ.2 0]? = some (vp_cell (g.2.1 0) _)
    rw [← p0, Array.getElem?_push_size, ec])
  have := kk _ _ _ _ hK hnew
  rw [← p0] at this
  exact this

theorem cw_nAb {β : Type} {K : Nat → cS → Option β} {z : β} {n : Int32} (C : CX p m meth c s args cc nL ret own) (hw : WKc g A s s.heap) (hR : RM g s R F_ L_) (hI : CI g A s σ H locs) (h : nA σ 1 n (.inl (fun _ => 0)) K = some z) (hdg : decode cc pc = .ok (.newarray .byte, 2))
    (kk : ∀ (q : Nat) (σ1 : cS) (H : Heap) (locs : List Loc), K q σ1 = some z → CI g A s σ1 H locs → W p l e R s m args below meth c H locs (H.size - s.heap.size) (hsl H - hsl s.heap) Q (F0 m (pc + 2) ls (.ref q :: rest))) : W p l e R s m args below meth c H locs (H.size - s.heap.size) (hsl H - hsl s.heap) Q (F0 m pc ls (.int n :: rest)) := by
  obtain ⟨⟨hn, hbig⟩, hb, hK⟩ := nA_s h
  have p0 := hI.1.1
  have p1 := hI.1.2.1
  have b3 := hI.1.2.2.2.1 3 (by decide)
  have b4 := hI.1.2.2.2.1 4 (by decide)
  have s1 := hI.2.1.1
  have s2 := hI.2.2
  obtain ⟨-, r1, r2⟩ := hR
  refine W.newa (atype := .byte) C.x C.b (C.t _ q230) rfl hdg rfl hn (by show _ * 1 ≤ _; omega) (by omega) (by omega) fun cA kA comp f1 f2 f3 => ?_
  have r6 : s.vm.findClass ("[" ++ (FieldType.byte).toString) = some (g.2.1 1) := (hw.1.2 1 _ rfl).2
  cases Option.some.inj (f1.symm.trans r6)
  have ec : ({ cls := g.2.1 1, slots := Array.replicate n.toNatClampNeg (defaultValue (newarray.typeOf .byte)), vm := .none } : Cell) = vp_cell (g.2.1 1) (n.toNatClampNeg, .inl (fun _ => 0)) := by
    rw [arrV_new]; rfl
  have hc : ({ cls := g.2.1 1, slots := Array.replicate n.toNatClampNeg (defaultValue (newarray.typeOf .byte)), vm := .none } : Cell).slots.size = n.toNatClampNeg := by simp
  refine cw_pushed (e0 := .inl (1, n.toNatClampNeg, .inl (fun _ => 0))) hI hc ?_
  have hnew := hI.push (e0 := .inl (1, n.toNatClampNeg, .inl (fun _ => 0))) hc hb (by
    show (H.push _)[σ.2 0]? = some (vp_cell (g.2.1 1) _)
    rw [← p0, Array.getElem?_push_size, ec])
  have := kk _ _ _ _ hK hnew
  rw [← p0] at this
  exact this

theorem cw_nAr {β : Type} {K : Nat → cS → Option β} {z : β} {n : Int32} {index kind : Nat} {E : String} (C : CX p m meth c s args cc nL ret own) (hw : WKc g A s s.heap) (hR : RM g s R F_ L_) (hI : CI g A s σ H locs) (h : nA σ kind n (.inr (.inr (.inr (.inr (fun _ => none))))) K = some z) (hk : 2 ≤ kind ∧ kind < 5) (hE : elN kind = E) (hm : E ∈ ["java/lang/Object", "HeirCases$Will", "HeirCases$Finding"]) (hcl : Cond.classLink own index E ∈ lw_all) (hdg : decode cc pc = .ok (.anewarray index, 3))
    (kk : ∀ (q : Nat) (σ1 : cS) (H : Heap) (locs : List Loc), K q σ1 = some z → CI g A s σ1 H locs → W p l e R s m args below meth c H locs (H.size - s.heap.size) (hsl H - hsl s.heap) Q (F0 m (pc + 3) ls (.ref q :: rest))) : W p l e R s m args below meth c H locs (H.size - s.heap.size) (hsl H - hsl s.heap) Q (F0 m pc ls (.int n :: rest)) := by
  obtain ⟨⟨hn, hbig⟩, hb, hK⟩ := nA_s h
  have p0 := hI.1.1
  have p1 := hI.1.2.1
  have b3 := hI.1.2.2.2.1 3 (by decide)
  have b4 := hI.1.2.2.2.1 4 (by decide)
  have s1 := hI.2.1.1
  have s2 := hI.2.2
  obtain ⟨-, r1, r2⟩ := hR
  subst hE
  refine W.anew C.x C.b C.o (C.t _ hcl) (va_AO.use (hw.2.2.2.1 _ hm)) rfl hdg rfl hn (by omega) (by omega) (by omega) fun cA kA comp f1 f2 f3 f4 => ?_
  obtain ⟨kA', comp', r3, r4, r5, r6⟩ := (hw.1.2 kind _ (cTy_r g hk)).2
  cases Option.some.inj (f1.symm.trans r6)
  have ec : ({ cls := g.2.1 kind, slots := Array.replicate n.toNatClampNeg .null, vm := .none } : Cell) = vp_cell (g.2.1 kind) (n.toNatClampNeg, .inr (.inr (.inr (.inr (fun _ => none))))) := by
    rw [arrV_new]; rfl
  have hc : ({ cls := g.2.1 kind, slots := Array.replicate n.toNatClampNeg .null, vm := .none } : Cell).slots.size = n.toNatClampNeg := by simp
  refine cw_pushed (e0 := .inl (kind, n.toNatClampNeg, .inr (.inr (.inr (.inr (fun _ => none)))))) hI hc ?_
  have hnew := hI.push (e0 := .inl (kind, n.toNatClampNeg, .inr (.inr (.inr (.inr (fun _ => none)))))) hc hb (by
    show (H.push _)[σ.2 0]? = some (vp_cell (g.2.1 kind) _)
    rw [← p0, Array.getElem?_push_size, ec])
  have := kk _ _ _ _ hK hnew
  rw [← p0] at this
  exact this
/-- to the object's own class -/
theorem cw_cast {β : Type} {K : Option β} {z : β} {r : Option Nat} {nm : String} {T : u_T} {N index : Nat} (ci : Nat) (C : CX p m meth c s args cc nL ret own) (hw : WKc g A s s.heap) (hI : CI g A s σ H locs) (h : cst σ r [ci] K = some z) (h60 : ci < 59) (hc : ccl[ci]? = some (nm, T, N)) (hcl : Cond.classLink own index nm ∈ lw_all) (hdg : decode cc pc = .ok (.checkcast index, 3))
    (kk : K = some z → W p l e R s m args below meth c H locs cells slots Q (F0 m (pc + 3) ls (va_rf r :: rest))) : W p l e R s m args below meth c H locs cells slots Q (F0 m pc ls (va_rf r :: rest)) := by
  obtain ⟨h1, h2⟩ := cst_s h
  rcases h1 with rfl | ⟨a, rfl, h3⟩
  · exact lv_castN C.x C.b hdg (kk h2)
  · unfold ckd at h3
    split at h3
    · next o ho =>
      have e0 : o.1 = ci := by
        have h4 := List.mem_singleton.mp h3
        split at h4 <;> omega
      have ho' : σ.1 a = some (.inr (ci, o.2)) := by rw [ho, ← e0]
      exact va_castS C.x C.b C.o (C.t _ hcl) (hw.1.1 ci _ hc).2 (by
        obtain ⟨r0, hr0, cell, q1, q2, q3, q4⟩ := (hI.1.2.2.2.2.1 a _ ho').obj h60
        exact ⟨cell, q1, by rw [q3]; rfl, by rw [q2]; exact (hw.1.1 ci _ hc).2.1⟩) hdg (kk h2)
    · next x hx => have : 100 + x.1 = ci := by simpa using h3
                   omega
    · have : 999 = ci := by simpa using h3
      omega
end CW3

theorem nn_tn {z : Int32} (hz : ¬ z < 0) : z.toInt = (z.toNatClampNeg : Int) := by
  have hz0 : (0 : Int) ≤ z.toInt := by
    have := Int32.not_lt.mp hz
    simpa using Int32.le_iff_toInt_le.mp this
  show z.toInt = ((z.toInt.toNat : Nat) : Int)
  omega
theorem hsl_setIf {H : Heap} {a : Nat} {c1 c2 : Cell} (h : H[a]? = some c1) (hz : c2.slots.size = c1.slots.size) : hsl (H.setIfInBounds a c2) = hsl H := by
  refine hsl_same (by simp) fun q => ?_
  by_cases hq : q = a
  · subst hq
    have hl : q < H.size := (Array.getElem?_eq_some_iff.mp h).1
    rw [h]
    simp [Array.getElem?_setIfInBounds, hl, hz]
  · simp [Array.getElem?_setIfInBounds, Ne.symm hq]
section CW4
variable {p : Program} {l : Launch} {e : Env} {R : Room} {s : State} {m : MethodId} {args : Array Value} {below : List Frame} {meth : Method} {c : Code} {H : Heap} {locs : List Loc} {cells slots : Nat} {Q : State → Prop}
variable {cc : ByteArray} {pc : Nat} {ls : Array Slot} {rest : List Value} {g : cG} {A : Nat → Prop} {nL : Nat} {ret : Option FieldType} {own : String} {σ : cS} {F_ L_ : Nat}
theorem CI.copy {a : Nat} {e0 e1 : cE} {c1 c2 : Cell} {L : List Loc} (hI : CI g A s σ H locs) (hw : σ.2 2 ≤ a) (h0 : σ.1 a = some e0) (hc : H[a]? = some c1) (hz : c2.slots.size = c1.slots.size) (he : ∀ H1 : Heap, H1[a]? = some c2 → cCell g a e1 H1) (hL : ∀ q ∈ L, q.base = a) : CI g A s (cU σ a e1) (H.setIfInBounds a c2) (locs ++ L) := by
  have hl : a < H.size := (Array.getElem?_eq_some_iff.mp hc).1
  have hs := hsl_setIf hc hz
  have oq : ∀ q : Nat, q ≠ a → (H.setIfInBounds a c2)[q]? = H[q]? := fun q hq => by simp [Array.getElem?_setIfInBounds, Ne.symm hq]
  have hA : A a := hI.1.2.2.2.2.2.1 a e0 h0 hw
  refine ⟨hI.1.set h0 (he _ (by simp [Array.getElem?_setIfInBounds, hl])) (by simp) hs oq, ⟨by simp; exact hI.2.1.1, fun q g1 g2 => ?_, fun q hq => ?_⟩, by rw [hs]; exact hI.2.2⟩
  · rw [oq q (fun e => g2 (by rw [e]; exact hA))]
    exact hI.2.1.2.1 q g1 g2
  · rcases List.mem_append.mp hq with h | h
    · exact hI.2.1.2.2 q h
    · rw [hL q h]; exact hA
theorem cw_cpI {β : Type} {K : cS → Option β} {z : β} {src dst : Option Nat} {sp dp n : Int32} {index kind : Nat} {ty : FieldType} (hkd : (kind = 0 ∧ ty = .int) ∨ (kind = 1 ∧ ty = .byte)) (C : CX p m meth c s args cc nL ret own) (hw : WKc g A s s.heap) (hR : RM g s R F_ L_) (hI : CI g A s σ H locs) (hn : ls.size = nL) (h : cpI σ kind src sp dst dp n K = some z) (hlink : Cond.methodLink own index arraycopyName ∈ lw_all) (hF : 1 ≤ F_) (hL : 40 ≤ L_) (hrest : rest.length ≤ 4) (hdg : decode cc pc = .ok (.invokestatic index, 3))
    (kk : ∀ (σ1 : cS) (H : Heap) (locs : List Loc), K σ1 = some z → CI g A s σ1 H locs → W p l e R s m args below meth c H locs (H.size - s.heap.size) (hsl H - hsl s.heap) Q (F0 m (pc + 3) ls rest)) : W p l e R s m args below meth c H locs (H.size - s.heap.size) (hsl H - hsl s.heap) Q (F0 m pc ls (.int n :: .int dp :: va_rf dst :: .int sp :: va_rf src :: rest)) := by
  obtain ⟨a0, a, n0, n1, f, f1, rfl, rfl, e0, e1, ⟨h1, h2, h3⟩, ⟨h4, h5⟩, hwr, hby, hk⟩ := cpI_s h
  intro T hT X
  have hc0 : H[a0]? = some (vp_cell (g.2.1 kind) (n0, .inl f)) := hI.1.2.2.2.2.1 a0 _ e0
  have hc1 : H[a]? = some (vp_cell (g.2.1 kind) (n1, .inl f1)) := hI.1.2.2.2.2.1 a _ e1
  have hty : (cTy g)[kind]? = some (g.2.1 kind, ty) := by rcases hkd with ⟨rfl, rfl⟩ | ⟨rfl, rfl⟩ <;> rfl
  have hprim : refKind ty = false := by rcases hkd with ⟨rfl, rfl⟩ | ⟨rfl, rfl⟩ <;> rfl
  obtain ⟨-, k0, hk0, cm0, hkk0⟩ := (hw.1.2 kind _ hty).1 n0 (fun j => .int (f j))
  obtain ⟨-, k1, hk1, cm1, hkk1⟩ := (hw.1.2 kind _ hty).1 n1 (fun j => .int (f1 j))
  have hfit : ∀ i, i < n.toNatClampNeg → fits ty (.int (f (sp.toNatClampNeg + i))) = true := by
    intro i hi
    rcases hkd with ⟨rfl, rfl⟩ | ⟨rfl, rfl⟩
    · rfl
    · rcases hby with h9 | h9
      · exact absurd h9 (by decide)
      · have := pk_fb (f (sp.toNatClampNeg + i))
        rw [h9 i hi] at this
        exact this
  obtain ⟨vm', X', step⟩ := X.arraycopy C.x C.o (C.t _ hlink) (C.t _ q485) (C.t _ q484) (C.t _ q147) (src := a0) (dst := a) (cs := vp_cell (g.2.1 kind) (n0, .inl f)) (cd := vp_cell (g.2.1 kind) (n1, .inl f1)) (srcPos := sp) (destPos := dp) (n := n) (by rw [hT]; exact hc0) (by rw [hT]; exact hc1)
    (fun _ h => by cases h) (fun _ h => by cases h) (fun h => by cases h) (fun h => by cases h) hk0 hk1 hkk0 hkk1 (by simp [hprim]) h1 h2 h3
    (by rw [nn_tn h1, nn_tn h3]; show ¬ _ > ((arrV _ n0 (fun j => .int (f j))).slots.size : Int); rw [arrV_size]; omega)
    (by rw [nn_tn h2, nn_tn h3]; show ¬ _ > ((arrV _ n1 (fun j => .int (f1 j))).slots.size : Int); rw [arrV_size]; omega)
    (fun vm₁ _ i hi => by
      have e : (vp_cell (g.2.1 kind) (n0, .inl f)).slots.getD (sp.toNatClampNeg + i) .null = .int (f (sp.toNatClampNeg + i)) := by
        show (arrV _ n0 (fun j => .int (f j))).slots.getD _ _ = _
        rw [Array.getD_eq_getD_getElem?, arrV_read _ _ (by omega)]
        rfl
      refine ⟨?_, ?_⟩
      · rw [e]
        exact hfit i hi
      · rw [e]
        exact trivial)
    (g := F0 m pc ls (.int n :: .int dp :: .ref a :: .int sp :: .ref a0 :: rest)) rfl (hn.trans C.n.symm) (rest := rest) rfl (by rw [C.b]; exact hdg) (Nat.le_trans hF hR.f) (by have q1 := room_of hrest; have q2 := hR.lo; show 2 * 0 + _ + (nativeFrameWords "java/lang/System" "arraycopy" 5 + 11) ≤ _; have q3 : nativeFrameWords "java/lang/System" "arraycopy" 5 + 11 ≤ 30 := Nat.le_of_ble_eq_true rfl; omega)
  have ec : copied (vp_cell (g.2.1 kind) (n0, .inl f)) (vp_cell (g.2.1 kind) (n1, .inl f1)) sp dp n = vp_cell (g.2.1 kind) (n1, .inl (va_cpy f f1 sp.toNatClampNeg dp.toNatClampNeg n.toNatClampNeg)) := va_copied (fun z => .int z) _ _ f f1 h4
  rw [ec] at X' step
  have hheap : ((T.setVm vm').setCell a (vp_cell (g.2.1 kind) (n1, .inl (va_cpy f f1 sp.toNatClampNeg dp.toNatClampNeg n.toNatClampNeg)))).heap = H.setIfInBounds a (vp_cell (g.2.1 kind) (n1, .inl (va_cpy f f1 sp.toNatClampNeg dp.toNatClampNeg n.toNatClampNeg))) := by rw [← hT]; rfl
  have hz : (vp_cell (g.2.1 kind) (n1, .inl (va_cpy f f1 sp.toNatClampNeg dp.toNatClampNeg n.toNatClampNeg))).slots.size = (vp_cell (g.2.1 kind) (n1, .inl f1)).slots.size := by rw [vp_cell_i, vp_cell_i, arrV_size, arrV_size]
  have K2 : ∀ L : List Loc, (∀ q ∈ L, q.base = a) → W p l e R s m args below meth c (H.setIfInBounds a (vp_cell (g.2.1 kind) (n1, .inl (va_cpy f f1 sp.toNatClampNeg dp.toNatClampNeg n.toNatClampNeg)))) (locs ++ L) (H.size - s.heap.size) (hsl H - hsl s.heap) Q (F0 m (pc + 3) ls rest) := by
    intro L hL
    have k := kk _ _ _ hk (hI.copy (e1 := .inl (kind, n1, .inl (va_cpy f f1 sp.toNatClampNeg dp.toNatClampNeg n.toNatClampNeg))) hwr e1 hc1 hz (fun H1 h => h) hL)
    rw [hsl_setIf hc1 hz, Array.size_setIfInBounds] at k
    exact k
  obtain ⟨t, a1, b1⟩ := K2 _ (fun q hq => by obtain ⟨z, -, hz⟩ := List.mem_map.mp hq; rw [← hz]) _ hheap X'
  exact ⟨t, step t a1, b1⟩
theorem cw_cpR {β : Type} {K : cS → Option β} {z : β} {src dst : Option Nat} {sp dp n : Int32} {index : Nat} (C : CX p m meth c s args cc nL ret own) (hw : WKc g A s s.heap) (hR : RM g s R F_ L_) (hI : CI g A s σ H locs) (hn : ls.size = nL) (h : cpR σ src sp dst dp n K = some z) (hlink : Cond.methodLink own index arraycopyName ∈ lw_all) (hF : 1 ≤ F_) (hL : 40 ≤ L_) (hrest : rest.length ≤ 4) (hdg : decode cc pc = .ok (.invokestatic index, 3))
    (kk : ∀ (σ1 : cS) (H : Heap) (locs : List Loc), K σ1 = some z → CI g A s σ1 H locs → W p l e R s m args below meth c H locs (H.size - s.heap.size) (hsl H - hsl s.heap) Q (F0 m (pc + 3) ls rest)) : W p l e R s m args below meth c H locs (H.size - s.heap.size) (hsl H - hsl s.heap) Q (F0 m pc ls (.int n :: .int dp :: va_rf dst :: .int sp :: va_rf src :: rest)) := by
  obtain ⟨a0, a, kd0, kd1, n0, n1, f, f1, rfl, rfl, e0, e1, ⟨hkd0, hkd1⟩, ⟨h1, h2, h3⟩, ⟨h4, h5⟩, hwr, hel, hk⟩ := cpR_s h
  intro T hT X
  have hc0 : H[a0]? = some (vp_cell (g.2.1 kd0) (n0, .inr (.inr (.inr (.inr f))))) := hI.1.2.2.2.2.1 a0 _ e0
  have hc1 : H[a]? = some (vp_cell (g.2.1 kd1) (n1, .inr (.inr (.inr (.inr f1))))) := hI.1.2.2.2.2.1 a _ e1
  obtain ⟨-, k0, hk0, cm0, hkk0⟩ := (hw.1.2 kd0 _ (cTy_r g hkd0)).1 n0 (fun j => va_rf (f j))
  obtain ⟨-, k1, hk1, cm1, hkk1⟩ := (hw.1.2 kd1 _ (cTy_r g hkd1)).1 n1 (fun j => va_rf (f1 j))
  obtain ⟨vm', X', step⟩ := X.arraycopy C.x C.o (C.t _ hlink) (C.t _ q485) (C.t _ q484) (C.t _ q147) (src := a0) (dst := a) (cs := vp_cell (g.2.1 kd0) (n0, .inr (.inr (.inr (.inr f))))) (cd := vp_cell (g.2.1 kd1) (n1, .inr (.inr (.inr (.inr f1))))) (srcPos := sp) (destPos := dp) (n := n) (by rw [hT]; exact hc0) (by rw [hT]; exact hc1)
    (fun _ h => by cases h) (fun _ h => by cases h) (fun h => by cases h) (fun h => by cases h) hk0 hk1 hkk0 hkk1 rfl h1 h2 h3
    (by rw [nn_tn h1, nn_tn h3]; show ¬ _ > ((arrV _ n0 (fun j => va_rf (f j))).slots.size : Int); rw [arrV_size]; omega)
    (by rw [nn_tn h2, nn_tn h3]; show ¬ _ > ((arrV _ n1 (fun j => va_rf (f1 j))).slots.size : Int); rw [arrV_size]; omega)
    (fun vm₁ hal i hi => by
      have e : (vp_cell (g.2.1 kd0) (n0, .inr (.inr (.inr (.inr f))))).slots.getD (sp.toNatClampNeg + i) .null = va_rf (f (sp.toNatClampNeg + i)) := by
        show (arrV _ n0 (fun j => va_rf (f j))).slots.getD _ _ = _
        rw [Array.getD_eq_getD_getElem?, arrV_read _ _ (by omega)]
        rfl
      rw [e]
      have hv := hel i hi
      cases hy : f (sp.toNatClampNeg + i) with
      | none => exact ⟨rfl, trivial⟩
      | some y =>
        rw [hy] at hv
        unfold okV at hv
        dsimp only at hv
        split at hv
        · next o ho =>
          have hci : o.1 < 14 := by
            unfold okS at hv
            split at hv
            · exact of_decide_eq_true hv
            · split at hv
              · have := of_decide_eq_true hv; omega
              · split at hv
                · have := of_decide_eq_true hv; omega
                · cases hv
          obtain ⟨q, hq⟩ : ∃ q, ccl[o.1]? = some q := ⟨_, List.getElem?_eq_getElem (show o.1 < ccl.length from Nat.lt_succ_of_lt hci)⟩
          have hcast := va_Nw.use (A := args) rfl (hw.2.2.1 kd1 o.1 q hkd1.1 hkd1.2 hv hq)
          obtain ⟨c0, t0, f1', f2', f3'⟩ := Cond.castable_spec hcast
          obtain ⟨r', hr', cellV, g1, g2, g3, -⟩ := (hI.1.2.2.2.2.1 y _ ho).obj (by omega)
          cases Option.some.inj (hr'.symm.trans hq)
          have hcls := (hw.1.1 o.1 q hq).2
          obtain ⟨kA, comp, r1, r2, r3, -⟩ := (hw.1.2 kd1 _ (cTy_r g hkd1)).2
          cases hk1.symm.trans r1
          cases hkk1.symm.trans r2
          cases Option.some.inj (f1'.symm.trans hcls.1)
          cases Option.some.inj (f2'.symm.trans r3)
          obtain ⟨kC, hkC, -⟩ := hcls.2
          obtain ⟨kE, hkE, -⟩ := Vm.findClass_spec r3
          obtain ⟨kC', hkC', -⟩ := hal.2.2 _ _ hkC
          obtain ⟨kE', hkE', -⟩ := hal.2.2 _ _ hkE
          refine ⟨rfl, cellV, (show T.heap[y]? = some cellV by rw [hT]; exact g1), (fun q h => by rw [g3] at h; cases h), ⟨kC', by rw [g2]; exact hkC'⟩, ?_, ?_⟩
          · exact ⟨kE', hkE'⟩
          · show vm₁.assignable _ _ = true
            rw [hal.assignable, g2]
            exact f3'
        · cases hv)
    (g := F0 m pc ls (.int n :: .int dp :: .ref a :: .int sp :: .ref a0 :: rest)) rfl (hn.trans C.n.symm) (rest := rest) rfl (by rw [C.b]; exact hdg) (Nat.le_trans hF hR.f) (by have q1 := room_of hrest; have q2 := hR.lo; show 2 * 0 + _ + (nativeFrameWords "java/lang/System" "arraycopy" 5 + 11) ≤ _; have q3 : nativeFrameWords "java/lang/System" "arraycopy" 5 + 11 ≤ 30 := Nat.le_of_ble_eq_true rfl; omega)
  have ec : copied (vp_cell (g.2.1 kd0) (n0, .inr (.inr (.inr (.inr f))))) (vp_cell (g.2.1 kd1) (n1, .inr (.inr (.inr (.inr f1))))) sp dp n = vp_cell (g.2.1 kd1) (n1, .inr (.inr (.inr (.inr (va_cpy f f1 sp.toNatClampNeg dp.toNatClampNeg n.toNatClampNeg))))) := by
    rw [vp_cell_q, vp_cell_q, vp_cell_q]
    exact va_copied (fun z => va_rf z) _ _ f f1 h4
  rw [ec] at X' step
  have hheap : ((T.setVm vm').setCell a (vp_cell (g.2.1 kd1) (n1, .inr (.inr (.inr (.inr (va_cpy f f1 sp.toNatClampNeg dp.toNatClampNeg n.toNatClampNeg))))))).heap = H.setIfInBounds a (vp_cell (g.2.1 kd1) (n1, .inr (.inr (.inr (.inr (va_cpy f f1 sp.toNatClampNeg dp.toNatClampNeg n.toNatClampNeg)))))) := by rw [← hT]; rfl
  have hz : (vp_cell (g.2.1 kd1) (n1, .inr (.inr (.inr (.inr (va_cpy f f1 sp.toNatClampNeg dp.toNatClampNeg n.toNatClampNeg)))))).slots.size = (vp_cell (g.2.1 kd1) (n1, .inr (.inr (.inr (.inr f1))))).slots.size := by rw [vp_cell_q, vp_cell_q, arrV_size, arrV_size]
  have K2 : ∀ L : List Loc, (∀ q ∈ L, q.base = a) → W p l e R s m args below meth c (H.setIfInBounds a (vp_cell (g.2.1 kd1) (n1, .inr (.inr (.inr (.inr (va_cpy f f1 sp.toNatClampNeg dp.toNatClampNeg n.toNatClampNeg))))))) (locs ++ L) (H.size - s.heap.size) (hsl H - hsl s.heap) Q (F0 m (pc + 3) ls rest) := by
    intro L hL
    have k := kk _ _ _ hk (hI.copy (e1 := .inl (kd1, n1, .inr (.inr (.inr (.inr (va_cpy f f1 sp.toNatClampNeg dp.toNatClampNeg n.toNatClampNeg)))))) hwr e1 hc1 hz (fun H1 h => h) hL)
    rw [hsl_setIf hc1 hz, Array.size_setIfInBounds] at k
    exact k
  obtain ⟨t, a1, b1⟩ := K2 _ (fun q hq => by obtain ⟨z, -, hz⟩ := List.mem_map.mp hq; rw [← hz]) _ hheap X'
  exact ⟨t, step t a1, b1⟩
end CW4

section CW5
variable {p : Program} {l : Launch} {e : Env} {R : Room} {s : State} {m : MethodId} {args : Array Value} {below : List Frame} {meth : Method} {c : Code} {H : Heap} {locs : List Loc} {cells slots : Nat} {Q : State → Prop}
variable {cc : ByteArray} {pc : Nat} {ls : Array Slot} {rest : List Value} {g : cG} {A : Nat → Prop} {nL : Nat} {ret : Option FieldType} {own : String} {σ : cS} {F_ L_ : Nat}
theorem RM.cur (h : RM g s R F_ L_) (hI : CI g A s σ H locs) : (H.size - s.heap.size) ≤ R.cells ∧ (hsl H - hsl s.heap) ≤ R.slots := by
  have := h.call hI
  constructor <;> omega
theorem CI.par (hI : CI g A s σ H locs) {k : Nat} (h : 2 ≤ k) : g.2.2.1 k = σ.2 k := (hI.1.2.2.2.1 k h).symm
/-- a static that holds a reference, a String constant -/
theorem cw_gst {Cn n d ref : String} {index k : Nat} (C : CX p m meth c s args cc nL ret own) (hw : WKc g A s s.heap) (hI : CI g A s σ H locs) (hm : (Cn, n, d, k) ∈ cSt) (hk : 2 ≤ k) (hlink : Cond.fieldLink own index ref n d ∈ lw_all) (hr : Cn = ref) (hdg : decode cc pc = .ok (.getstatic index, 3))
    (kk : W p l e R s m args below meth c H locs cells slots Q (F0 m (pc + 3) ls (.ref (σ.2 k) :: rest))) : W p l e R s m args below meth c H locs cells slots Q (F0 m pc ls rest) := by
  rw [← hI.par hk] at kk
  subst hr
  exact va_gets C.x C.b (hw.2.2.2.2.1 _ hm) hI.2.1 C.o (C.t _ hlink) (fun _ h9 => h9) hdg kk
theorem cw_ldcS {tx : String} {index k : Nat} (C : CX p m meth c s args cc nL ret own) (hw : WKc g A s s.heap) (hI : CI g A s σ H locs) (hm : (own, index, tx, k) ∈ cStr) (hk : 2 ≤ k) (hdg : decode cc pc = .ok (.ldc index, 2))
    (kk : W p l e R s m args below meth c H locs cells slots Q (F0 m (pc + 2) ls (.ref (σ.2 k) :: rest))) : W p l e R s m args below meth c H locs cells slots Q (F0 m pc ls rest) := by
  rw [← hI.par hk] at kk
  exact va_ldcS C.x C.b C.o (hw.2.2.2.2.2.1 _ hm) hdg kk
theorem cw_ldcwS {tx : String} {index k : Nat} (C : CX p m meth c s args cc nL ret own) (hw : WKc g A s s.heap) (hI : CI g A s σ H locs) (hm : (own, index, tx, k) ∈ cStr) (hk : 2 ≤ k) (hdg : decode cc pc = .ok (.ldc_w index, 3))
    (kk : W p l e R s m args below meth c H locs cells slots Q (F0 m (pc + 3) ls (.ref (σ.2 k) :: rest))) : W p l e R s m args below meth c H locs cells slots Q (F0 m pc ls rest) := by
  rw [← hI.par hk] at kk
  exact tw_ldcwS C.x C.b C.o (hw.2.2.2.2.2.1 _ hm) hdg kk
/-- a private static method of a nest mate -/
theorem cw_callSN {α β : Type} {f : Option (α × cS)} {K : α → cS → Option β} {z : β} {y : MethodName} {bytes : ByteArray} {maxL index n : Nat} {ret' : Option FieldType} {ws : List Cond} {rm : Room} {host : String} (toV : α → Option Value) (As : List Value) {st : List Value} (C : CX p m meth c s args cc nL ret own) (hw : WKc g A s s.heap) (hR : RM g s R F_ L_) (hI : CI g A s σ H locs) (hn : ls.size = nL) (h : bd f K = some z)
    (hM : ∀ v σ1, f = some (v, σ1) → Met l y ws rm (CPc g A As σ) (CQ g A (toV v) σ1) (σ.2 3 - σ.2 0) (σ.2 4 - σ.2 1) A) (cw : va_CN R s args own index y host bytes maxL ret' ws rm (σ.2 3 - σ.2 0) (σ.2 4 - σ.2 1) n ∧ (Cond.static y).before args s = true ∧ True)
    (hAs : As.length = n) (hst : st = As.reverse ++ rest) (hrest : rest.length ≤ 4) (hdg : decode cc pc = .ok (.invokestatic index, 3))
    (kk : ∀ (v : α) (σ1 : cS) (H : Heap) (locs : List Loc), K v σ1 = some z → CI g A s σ1 H locs → W p l e R s m args below meth c H locs (H.size - s.heap.size) (hsl H - hsl s.heap) Q (F0 m (pc + 3) ls ((toV v).toList ++ rest))) : W p l e R s m args below meth c H locs (H.size - s.heap.size) (hsl H - hsl s.heap) Q (F0 m pc ls st) := by
  obtain ⟨v, σ1, e1, h3⟩ := bd_s h
  refine cw_go (va_runSN (As := As) (rest := rest) C.1 (hM v σ1 e1) cw ⟨CPc.blind, fun U hU hW => ⟨rfl, ?_, ?_⟩⟩ rfl hAs hn hst (by show 2 * 0 + _ ≤ 8; have := room_of hrest; omega) hdg (hR.call hI)) hI (fun H1 locs1 q => kk v σ1 H1 locs1 h3 q)
  · rw [hU]; exact hw.at hI.2.1 hW
  · rw [hU]; exact hI.1
theorem cw_nest {own host : String} {index maxL mc ms : Nat} {y : MethodName} {bytes : ByteArray} {ret : Option FieldType} {rm : Room} (n : Nat) {nL : Nat} {ret0 : Option FieldType} (C : CX p m meth c s args cc nL ret0 own) (hw : WKc g A s s.heap) (hm : (own, index, y, host) ∈ cNM) (hcode : Cond.code y bytes maxL ret ∈ lw_all) (hrc : rm.cells = mc) (hrs : rm.slots = ms) (hini : Cond.initialized y.cls ∈ lw_all) (hst : Cond.static y ∈ lw_all)
    (hd : y.cls ≠ "java/lang/invoke/MethodHandle" ∧ y.cls ≠ "java/lang/invoke/VarHandle" ∧ (parseMethodDescriptor y.desc).map (fun d => d.parameters.length) = some n) (hR : rm.frames + 1 ≤ R.frames ∧ 8 + (maxL + 11) + rm.locals ≤ R.locals) : va_CN R s args own index y host bytes maxL ret (ws_ y bytes maxL ret) rm mc ms n ∧ (Cond.static y).before args s = true ∧ True :=
  ⟨va_cnB n C.t (lw_meth hcode) rfl hrc hrs (hw.2.2.2.2.2.2.2.1 _ hm) (C.t _ hini) hd hR, C.t _ hst, trivial⟩
/-- a nest mate's field -/
theorem cw_gRN {β : Type} {K : Option Nat → Option β} {z : β} {r : Option Nat} {Cn ref host : String} {T : u_T} {N index : Nat} (ci k : Nat) (C : CX p m meth c s args cc nL ret own) (hw : WKc g A s s.heap) (hI : CI g A s σ H locs) (h : gR σ r ci k K = some z) (h60 : ci < 59) (hc : ccl[ci]? = some (Cn, T, N)) (hin : ∀ w ∈ u_ws Cn T N, w ∈ lw_all) (hk : k < N) (hm : (own, index, ref, (T k).2.1, (T k).2.2.1, host) ∈ cNF) (hsame : ∀ x, s.fieldFound? (T k).1 (T k).2.1 (T k).2.2.1 = some x → s.fieldFound? ref (T k).2.1 (T k).2.2.1 = some x) (hdg : decode cc pc = .ok (.getfield index, 3))
    (kk : ∀ x : Option Nat, K x = some z → W p l e R s m args below meth c H locs cells slots Q (F0 m (pc + 3) ls (va_rf x :: rest))) : W p l e R s m args below meth c H locs cells slots Q (F0 m pc ls (va_rf r :: rest)) := by
  obtain ⟨a, fs, x, rfl, h1, h2, h3⟩ := gR_s h
  exact va_getN (D := g.1) (ci := ci) (ws := [(a, .inr (ci, fs))]) (C := Cn) (T := T) (N := N) (host := host) C.x C.b C.t hin C.o hw.1 (va_P1 ((hI.1.2.2.2.2.1 a _ h1).obj h60)) 0 rfl hc k hk (va_Nw.use rfl (hw.2.2.2.2.2.2.2.2.1 _ hm)) hsame h2 hdg (kk x h3)
/-- the array of objects: its class, a cast to it -/
def gcl {β : Type} (σ : cS) (r : Option Nat) (K : Option Nat → Option β) : Option β := match r with
  | none => none
  | some a => if ckd σ a = 102 then K (some (σ.2 19)) else none
theorem ao_at {a : Nat} (hI : CI g A s σ H locs) (h : ckd σ a = 102) : ∃ x : vp_A, σ.1 a = some (.inl (2, x)) ∧ H[a]? = some (vp_cell (g.2.1 2) x) := by
  unfold ckd at h
  split at h
  · next o ho =>
    split at h <;> omega
  · next x hx =>
    have e0 : x.1 = 2 := by omega
    refine ⟨x.2, by rw [hx, ← e0], ?_⟩
    have h9 := hI.1.2.2.2.2.1 a _ hx
    unfold cCell at h9
    dsimp only at h9
    rw [e0] at h9
    exact h9
  · omega
theorem ao_name (hw : WKc g A s s.heap) : s.vm.findClass "[Ljava/lang/Object;" = some (g.2.1 2) := by
  obtain ⟨kA', comp', r3, r4, r5, r6⟩ := (hw.1.2 2 _ (cTy_r g ⟨by decide, by decide⟩)).2
  exact r6
theorem cw_gcl {β : Type} {K : Option Nat → Option β} {z : β} {r : Option Nat} {index : Nat} (C : CX p m meth c s args cc nL ret own) (hw : WKc g A s s.heap) (hR : RM g s R F_ L_) (hI : CI g A s σ H locs) (hn : ls.size = nL) (h : gcl σ r K = some z) (hlink : Cond.methodLink own index ⟨"java/lang/Object", "getClass", "()Ljava/lang/Class;"⟩ ∈ lw_all) (hF : 1 ≤ F_) (hL : 24 ≤ L_) (hrest : rest.length ≤ 4) (hdg : decode cc pc = .ok (.invokevirtual index, 3))
    (kk : ∀ x : Option Nat, K x = some z → W p l e R s m args below meth c H locs cells slots Q (F0 m (pc + 3) ls (va_rf x :: rest))) : W p l e R s m args below meth c H locs cells slots Q (F0 m pc ls (va_rf r :: rest)) := by
  unfold gcl at h
  cases r with
  | none => cases h
  | some a =>
    dsimp only at h
    split at h
    · next hk =>
      obtain ⟨x, h1, h2⟩ := ao_at hI hk
      refine va_getC (C := "[Ljava/lang/Object;") (mi := g.2.2.1 19) C.x C.b (C.n.trans hn.symm) C.o (C.t _ hlink) (va_Dc.use hw.2.2.2.2.2.2.2.2.2.2.2.1) (C.t _ q2738) (C.t _ q1061) (C.t _ q1086) hw.2.2.2.2.2.2.2.2.2.2.1 ⟨_, h2, by cases x with | mk n f => rcases f with f | f | f | f | f <;> rfl, by rw [ao_name hw]; congr 1; cases x with | mk n f => rcases f with f | f | f | f | f <;> rfl⟩ (Nat.le_trans hF hR.f) (by have q1 := room_of hrest; have q2 := hR.lo; omega) hdg ?_
      rw [hI.par (by decide)]
      exact kk _ h
    · cases h
theorem cw_ldcM {index : Nat} (C : CX p m meth c s args cc nL ret own) (hw : WKc g A s s.heap) (hI : CI g A s σ H locs) (hlink : Cond.classLink own index "[Ljava/lang/Object;" ∈ lw_all) (hdg : decode cc pc = .ok (.ldc index, 2))
    (kk : W p l e R s m args below meth c H locs cells slots Q (F0 m (pc + 2) ls (.ref (σ.2 19) :: rest))) : W p l e R s m args below meth c H locs cells slots Q (F0 m pc ls rest) := by
  rw [← hI.par (by decide)] at kk
  exact va_ldcM C.x C.b C.o (C.t _ hlink) hw.2.2.2.2.2.2.2.2.2.2.1 hdg kk
theorem cw_castAO {β : Type} {K : Option β} {z : β} {r : Option Nat} {index : Nat} (C : CX p m meth c s args cc nL ret own) (hw : WKc g A s s.heap) (hI : CI g A s σ H locs) (h : cst σ r [102] K = some z) (hcl : Cond.classLink own index "[Ljava/lang/Object;" ∈ lw_all) (hdg : decode cc pc = .ok (.checkcast index, 3))
    (kk : K = some z → W p l e R s m args below meth c H locs cells slots Q (F0 m (pc + 3) ls (va_rf r :: rest))) : W p l e R s m args below meth c H locs cells slots Q (F0 m pc ls (va_rf r :: rest)) := by
  obtain ⟨h1, h2⟩ := cst_s h
  rcases h1 with rfl | ⟨a, rfl, h3⟩
  · exact lv_castN C.x C.b hdg (kk h2)
  · obtain ⟨x, e1, e2⟩ := ao_at hI (by simpa using h3)
    exact va_castA (D := g.1) (cl := ccl) (ws := [(a, .inl (g.2.1 2, x))]) C.x C.b C.o (C.t _ hcl) (va_P1 (show va_at g.1 ccl (a, .inl (g.2.1 2, x)) H from e2)) 0 rfl (ao_name hw) hdg (kk h2)
theorem ab_at {a : Nat} (hI : CI g A s σ H locs) (hk : ckd σ a = 101) : ∃ x, σ.1 a = some (.inl (1, x)) ∧ H[a]? = some (vp_cell (g.2.1 1) x) := by
  unfold ckd at hk
  split at hk
  · next o ho => split at hk <;> omega
  · next x hx =>
    have e : x.1 = 1 := by omega
    exact ⟨x.2, by rw [hx, ← e], by have := hI.1.2.2.2.2.1 a _ hx; rw [← e]; exact this⟩
  · omega
theorem ab_name (hw : WKc g A s s.heap) : s.vm.findClass "[B" = some (g.2.1 1) := by
  have r6 : s.vm.findClass ("[" ++ (FieldType.byte).toString) = some (g.2.1 1) := (hw.1.2 1 _ rfl).2
  exact r6
theorem cw_castAB {β : Type} {K : Option β} {z : β} {r : Option Nat} {index : Nat} (C : CX p m meth c s args cc nL ret own) (hw : WKc g A s s.heap) (hI : CI g A s σ H locs) (h : cst σ r [101] K = some z) (hcl : Cond.classLink own index "[B" ∈ lw_all) (hdg : decode cc pc = .ok (.checkcast index, 3))
    (kk : K = some z → W p l e R s m args below meth c H locs cells slots Q (F0 m (pc + 3) ls (va_rf r :: rest))) : W p l e R s m args below meth c H locs cells slots Q (F0 m pc ls (va_rf r :: rest)) := by
  obtain ⟨h1, h2⟩ := cst_s h
  rcases h1 with rfl | ⟨a, rfl, h3⟩
  · exact lv_castN C.x C.b hdg (kk h2)
  · obtain ⟨x, e1, e2⟩ := ab_at hI (by simpa using h3)
    exact va_castA (D := g.1) (cl := ccl) (ws := [(a, .inl (g.2.1 1, x))]) C.x C.b C.o (C.t _ hcl) (va_P1 (show va_at g.1 ccl (a, .inl (g.2.1 1, x)) H from e2)) 0 rfl (ab_name hw) hdg (kk h2)
/-- is it of a class: only asked where it is -/
def ins {β : Type} (σ : cS) (r : Option Nat) (c : Nat) (K : Int32 → Option β) : Option β := nn σ r c fun _ => K 1
theorem cw_ins {β : Type} {K : Int32 → Option β} {z : β} {r : Option Nat} {nm : String} {T : u_T} {N index : Nat} (ci : Nat) (C : CX p m meth c s args cc nL ret own) (hw : WKc g A s s.heap) (hI : CI g A s σ H locs) (h : ins σ r ci K = some z) (h60 : ci < 59) (hc : ccl[ci]? = some (nm, T, N)) (hcl : Cond.classLink own index nm ∈ lw_all) (hdg : decode cc pc = .ok (.instanceof index, 3))
    (kk : K 1 = some z → W p l e R s m args below meth c H locs cells slots Q (F0 m (pc + 3) ls (.int 1 :: rest))) : W p l e R s m args below meth c H locs cells slots Q (F0 m pc ls (va_rf r :: rest)) := by
  obtain ⟨a, fs, rfl, h1, h2⟩ := nn_s h
  exact va_instS C.x C.b C.o (C.t _ hcl) (hw.1.1 ci _ hc).2 (cw_recv hw hI h1 h60 hc) hdg (kk h2)
theorem cw_gstF {ref : String} {index : Nat} (C : CX p m meth c s args cc nL ret own) (hw : WKc g A s s.heap) (hI : CI g A s σ H locs) (hlink : Cond.fieldLink own index "jdk/internal/util/Preconditions" "SIOOBE_FORMATTER" "Ljava/util/function/BiFunction;" ∈ lw_all) (hdg : decode cc pc = .ok (.getstatic index, 3))
    (kk : W p l e R s m args below meth c H locs cells slots Q (F0 m (pc + 3) ls (va_rf (opk (σ.2 9)) :: rest))) : W p l e R s m args below meth c H locs cells slots Q (F0 m pc ls rest) := by
  rw [← hI.par (by decide)] at kk
  exact va_gets C.x C.b hw.2.2.2.2.2.2.2.2.2.2.2.2.2.2.2.2 hI.2.1 C.o (C.t _ hlink) (fun _ h9 => h9) hdg kk
end CW5
