/-! THE CLASS' WORLD: a heap of objects and arrays as a pure value -/
set_option maxRecDepth 100000
def TX6 : u_T := fun _ => ("", "", "", false)
theorem in_X6 : ∀ w ∈ u_ws RX6 TX6 0, w ∈ lw_all := by intro w h; cases h
abbrev RXF : String := RX3
def TXF : u_T := fun k => TX3 (6 + k)
def tyXF : Nat → FieldType := fun k => tyX3 (6 + k)
theorem tyXF_ok : ∀ k, k < 2 → parseFieldDescriptor (TXF k).2.2.1 = some (tyXF k) := fun k hk => tyX3_ok (6 + k) (by omega)
theorem nmXF : ∀ a, a < 2 → ∀ b, b < 2 → a ≠ b → (TXF a).2.1 ≠ (TXF b).2.1 := fun a ha b hb h => nmX3 (6 + a) (by omega) (6 + b) (by omega) (by omega)
theorem in_XF : ∀ w ∈ u_ws RXF TXF 2, w ∈ lw_all := by
  intro w h
  obtain ⟨k, hk, hw⟩ := List.mem_map.mp h
  exact in_X3 w (List.mem_map.mpr ⟨6 + k, List.mem_range.mpr (by have := List.mem_range.mp hk; omega), hw⟩)
abbrev ccl : List vw_C := [(RX1, TX1, 5), (RX4, TX4, 9), (RX9, TX9, 4), (RX11, TX11, 5), (RX7, TX7, 4), (RX8, TX8, 2), (RX5, TX5, 1), (RX6, TX6, 0), (RX2, TX2, 10), (RJ18, TJ18, 3), (RJ1, TJ1, 3), (RJ3, TJ3, 4), (RJ4, TJ4, 4), (RX3, TX3, 8), (RXF, TXF, 2)]
/-- a cell: an array (its kind, length, contents) or an object (its class' number, its fields) -/
abbrev cE : Type := (Nat × vp_A) ⊕ (Nat × List Value)
/-- the cells; 0: the next address, 1: the slots in use, 2: the first writable address, 3, 4: the bounds of 0 and 1, from 10 on the addresses of constants -/
abbrev cS : Type := (Nat → Option cE) × (Nat → Nat)
def cU (σ : cS) (a : Nat) (e : cE) : cS := (fun q => if q = a then some e else σ.1 q, σ.2)
def cN (σ : cS) (e : cE) (n : Nat) : cS := (fun q => if q = σ.2 0 then some e else σ.1 q, fun k => if k = 0 then σ.2 0 + 1 else if k = 1 then σ.2 1 + n else σ.2 k)
/-- a value as a number, as a reference -/
def asI {β : Type} (v : Value) (K : Int32 → Option β) : Option β := match v with
  | .int x => K x
  | _ => none
def asR {β : Type} (v : Value) (K : Option Nat → Option β) : Option β := match v with
  | .null => K none
  | .ref a => K (some a)
  | _ => none
/-- an object's field -/
def gO {β : Type} (σ : cS) (r : Option Nat) (c k : Nat) (K : Value → Option β) : Option β := match r with
  | none => none
  | some a => match σ.1 a with
    | some (.inr o) => if o.1 = c then (match o.2[k]? with
      | some v => K v
      | none => none) else none
    | _ => none
def gI {β : Type} (σ : cS) (r : Option Nat) (c k : Nat) (K : Int32 → Option β) : Option β := gO σ r c k fun v => asI v K
def gR {β : Type} (σ : cS) (r : Option Nat) (c k : Nat) (K : Option Nat → Option β) : Option β := gO σ r c k fun v => asR v K
/-- a field is set -/
def pO {β : Type} (σ : cS) (r : Option Nat) (c k : Nat) (v : Value) (K : cS → Option β) : Option β := match r with
  | none => none
  | some a => match σ.1 a with
    | some (.inr o) => if o.1 = c ∧ k < o.2.length ∧ σ.2 2 ≤ a then K (cU σ a (.inr (c, o.2.set k v))) else none
    | _ => none
/-- a new object; a new array -/
def nO {β : Type} (σ : cS) (c n : Nat) (fs : List Value) (K : Nat → cS → Option β) : Option β := if σ.2 0 + 1 ≤ σ.2 3 ∧ σ.2 1 + n ≤ σ.2 4 then K (σ.2 0) (cN σ (.inr (c, fs)) n) else none
def nA {β : Type} (σ : cS) (kind : Nat) (n : Int32) (f : (Nat → Int32) ⊕ (Nat → Int64) ⊕ (Nat → UInt32) ⊕ (Nat → UInt64) ⊕ (Nat → Option Nat)) (K : Nat → cS → Option β) : Option β := if n < 0 ∨ 67108864 < n.toNatClampNeg then none else if σ.2 0 + 1 ≤ σ.2 3 ∧ σ.2 1 + n.toNatClampNeg ≤ σ.2 4 then K (σ.2 0) (cN σ (.inl (kind, n.toNatClampNeg, f)) n.toNatClampNeg) else none
/-- arrays: length, read, store -/
def aL {β : Type} (σ : cS) (r : Option Nat) (K : Int32 → Option β) : Option β := match r with
  | none => none
  | some a => match σ.1 a with
    | some (.inl x) => if x.1 < 6 then K (Int32.ofNat x.2.1) else none
    | _ => none
def aI {β : Type} (σ : cS) (r : Option Nat) (kind : Nat) (i : Int32) (K : Int32 → Option β) : Option β := match r with
  | none => none
  | some a => match σ.1 a with
    | some (.inl (kd, n, .inl f)) => if kd = kind ∧ ¬ (i < 0 ∨ n ≤ i.toNatClampNeg) then K (f i.toNatClampNeg) else none
    | _ => none
def sI {β : Type} (σ : cS) (r : Option Nat) (kind : Nat) (i x : Int32) (K : cS → Option β) : Option β := match r with
  | none => none
  | some a => match σ.1 a with
    | some (.inl (kd, n, .inl f)) => if kd = kind ∧ ¬ (i < 0 ∨ n ≤ i.toNatClampNeg) ∧ σ.2 2 ≤ a then K (cU σ a (.inl (kind, n, .inl (upd f i.toNatClampNeg x)))) else none
    | _ => none
def aR {β : Type} (σ : cS) (r : Option Nat) (i : Int32) (K : Option Nat → Option β) : Option β := match r with
  | none => none
  | some a => match σ.1 a with
    | some (.inl (kd, n, .inr (.inr (.inr (.inr f))))) => if 2 ≤ kd ∧ kd < 5 ∧ ¬ (i < 0 ∨ n ≤ i.toNatClampNeg) then K (f i.toNatClampNeg) else none
    | _ => none
/-- may an object of class ci lie in an array of this kind -/
def okS (kind ci : Nat) : Bool := if kind = 2 then decide (ci < 14) else if kind = 3 then decide (ci = 1) else if kind = 4 then decide (ci = 3) else false
def okV (σ : cS) (kind : Nat) (x : Option Nat) : Bool := match x with
  | none => true
  | some b => match σ.1 b with
    | some (.inr o) => okS kind o.1
    | _ => false
def sR {β : Type} (σ : cS) (r : Option Nat) (i : Int32) (x : Option Nat) (K : cS → Option β) : Option β := match r with
  | none => none
  | some a => match σ.1 a with
    | some (.inl (kd, n, .inr (.inr (.inr (.inr f))))) => if okV σ kd x = true ∧ 2 ≤ kd ∧ kd < 5 ∧ ¬ (i < 0 ∨ n ≤ i.toNatClampNeg) ∧ σ.2 2 ≤ a then K (cU σ a (.inl (kd, n, .inr (.inr (.inr (.inr (va_up f i.toNatClampNeg x))))))) else none
    | _ => none
/-- an object of class c -/
def isO (σ : cS) (a c : Nat) : Bool := match σ.1 a with
  | some (.inr o) => decide (o.1 = c)
  | _ => false
def nn {β : Type} (σ : cS) (r : Option Nat) (c : Nat) (K : Nat → Option β) : Option β := match r with
  | none => none
  | some a => if isO σ a c = true then K a else none

theorem gO_s {β : Type} {σ : cS} {r : Option Nat} {c k : Nat} {K : Value → Option β} {z : β} (h : gO σ r c k K = some z) : ∃ a fs v, r = some a ∧ σ.1 a = some (.inr (c, fs)) ∧ fs[k]? = some v ∧ K v = some z := by
  unfold gO at h
  cases r with
  | none => cases h
  | some a =>
    dsimp only at h
    split at h
    · next o ho =>
      split at h
      · next hc =>
        split at h
        · next v hv => exact ⟨a, o.2, v, rfl, by rw [ho, ← hc], hv, h⟩
        · cases h
      · cases h
    · cases h
theorem gI_s {β : Type} {σ : cS} {r : Option Nat} {c k : Nat} {K : Int32 → Option β} {z : β} (h : gI σ r c k K = some z) : ∃ a fs x, r = some a ∧ σ.1 a = some (.inr (c, fs)) ∧ fs[k]? = some (.int x) ∧ K x = some z := by
  obtain ⟨a, fs, v, h1, h2, h3, h4⟩ := gO_s h
  cases v <;> first | exact ⟨a, fs, _, h1, h2, h3, h4⟩ | cases h4
theorem gR_s {β : Type} {σ : cS} {r : Option Nat} {c k : Nat} {K : Option Nat → Option β} {z : β} (h : gR σ r c k K = some z) : ∃ a fs x, r = some a ∧ σ.1 a = some (.inr (c, fs)) ∧ fs[k]? = some (va_rf x) ∧ K x = some z := by
  obtain ⟨a, fs, v, h1, h2, h3, h4⟩ := gO_s h
  cases v <;> first | exact ⟨a, fs, none, h1, h2, h3, h4⟩ | exact ⟨a, fs, some _, h1, h2, h3, h4⟩ | cases h4
theorem pO_s {β : Type} {σ : cS} {r : Option Nat} {c k : Nat} {v : Value} {K : cS → Option β} {z : β} (h : pO σ r c k v K = some z) : ∃ a fs, r = some a ∧ σ.1 a = some (.inr (c, fs)) ∧ k < fs.length ∧ σ.2 2 ≤ a ∧ K (cU σ a (.inr (c, fs.set k v))) = some z := by
  unfold pO at h
  cases r with
  | none => cases h
  | some a =>
    dsimp only at h
    split at h
    · next o ho =>
      split at h
      · next hc => exact ⟨a, o.2, rfl, by rw [ho, ← hc.1], hc.2.1, hc.2.2, h⟩
      · cases h
    · cases h
theorem nO_s {β : Type} {σ : cS} {c n : Nat} {fs : List Value} {K : Nat → cS → Option β} {z : β} (h : nO σ c n fs K = some z) : (σ.2 0 + 1 ≤ σ.2 3 ∧ σ.2 1 + n ≤ σ.2 4) ∧ K (σ.2 0) (cN σ (.inr (c, fs)) n) = some z := by
  unfold nO at h
  split at h
  · exact ⟨by assumption, h⟩
  · cases h
theorem nA_s {β : Type} {σ : cS} {kind : Nat} {n : Int32} {f : (Nat → Int32) ⊕ (Nat → Int64) ⊕ (Nat → UInt32) ⊕ (Nat → UInt64) ⊕ (Nat → Option Nat)} {K : Nat → cS → Option β} {z : β} (h : nA σ kind n f K = some z) : (¬ n < 0 ∧ n.toNatClampNeg ≤ 67108864) ∧ (σ.2 0 + 1 ≤ σ.2 3 ∧ σ.2 1 + n.toNatClampNeg ≤ σ.2 4) ∧ K (σ.2 0) (cN σ (.inl (kind, n.toNatClampNeg, f)) n.toNatClampNeg) = some z := by
  unfold nA at h
  split at h
  · cases h
  · next h1 =>
    split at h
    · next h2 => exact ⟨⟨fun q => h1 (Or.inl q), Nat.le_of_not_lt fun q => h1 (Or.inr q)⟩, h2, h⟩
    · cases h
theorem aL_s {β : Type} {σ : cS} {r : Option Nat} {K : Int32 → Option β} {z : β} (h : aL σ r K = some z) : ∃ a kd x, r = some a ∧ σ.1 a = some (.inl (kd, x)) ∧ kd < 6 ∧ K (Int32.ofNat x.1) = some z := by
  unfold aL at h
  cases r with
  | none => cases h
  | some a =>
    dsimp only at h
    split at h
    · next x hx =>
      split at h
      · next hk => exact ⟨a, x.1, x.2, rfl, hx, hk, h⟩
      · cases h
    · cases h
theorem aI_s {β : Type} {σ : cS} {r : Option Nat} {kind : Nat} {i : Int32} {K : Int32 → Option β} {z : β} (h : aI σ r kind i K = some z) : ∃ a n f, r = some a ∧ σ.1 a = some (.inl (kind, n, .inl f)) ∧ vp_in i n ∧ K (f i.toNatClampNeg) = some z := by
  unfold aI at h
  cases r with
  | none => cases h
  | some a =>
    dsimp only at h
    split at h
    · next kd n f hx =>
      split at h
      · next hk => exact ⟨a, n, f, rfl, by rw [hx, hk.1], hk.2, h⟩
      · cases h
    · cases h
theorem sI_s {β : Type} {σ : cS} {r : Option Nat} {kind : Nat} {i x : Int32} {K : cS → Option β} {z : β} (h : sI σ r kind i x K = some z) : ∃ a n f, r = some a ∧ σ.1 a = some (.inl (kind, n, .inl f)) ∧ vp_in i n ∧ σ.2 2 ≤ a ∧ K (cU σ a (.inl (kind, n, .inl (upd f i.toNatClampNeg x)))) = some z := by
  unfold sI at h
  cases r with
  | none => cases h
  | some a =>
    dsimp only at h
    split at h
    · next kd n f hx =>
      split at h
      · next hk => exact ⟨a, n, f, rfl, by rw [hx, hk.1], hk.2.1, hk.2.2, h⟩
      · cases h
    · cases h
theorem aR_s {β : Type} {σ : cS} {r : Option Nat} {i : Int32} {K : Option Nat → Option β} {z : β} (h : aR σ r i K = some z) : ∃ a kd n f, r = some a ∧ σ.1 a = some (.inl (kd, n, .inr (.inr (.inr (.inr f))))) ∧ (2 ≤ kd ∧ kd < 5) ∧ vp_in i n ∧ K (f i.toNatClampNeg) = some z := by
  unfold aR at h
  cases r with
  | none => cases h
  | some a =>
    dsimp only at h
    split at h
    · next kd n f hx =>
      split at h
      · next hk => exact ⟨a, kd, n, f, rfl, hx, ⟨hk.1, hk.2.1⟩, hk.2.2, h⟩
      · cases h
    · cases h
theorem sR_s {β : Type} {σ : cS} {r : Option Nat} {i : Int32} {x : Option Nat} {K : cS → Option β} {z : β} (h : sR σ r i x K = some z) : ∃ a kd n f, r = some a ∧ σ.1 a = some (.inl (kd, n, .inr (.inr (.inr (.inr f))))) ∧ okV σ kd x = true ∧ (2 ≤ kd ∧ kd < 5) ∧ vp_in i n ∧ σ.2 2 ≤ a ∧ K (cU σ a (.inl (kd, n, .inr (.inr (.inr (.inr (va_up f i.toNatClampNeg x))))))) = some z := by
  unfold sR at h
  cases r with
  | none => cases h
  | some a =>
    dsimp only at h
    split at h
    · next kd n f hx =>
      split at h
      · next hk => exact ⟨a, kd, n, f, rfl, hx, hk.1, ⟨hk.2.1, hk.2.2.1⟩, hk.2.2.2.1, hk.2.2.2.2, h⟩
      · cases h
    · cases h
theorem nn_s {β : Type} {σ : cS} {r : Option Nat} {c : Nat} {K : Nat → Option β} {z : β} (h : nn σ r c K = some z) : ∃ a fs, r = some a ∧ σ.1 a = some (.inr (c, fs)) ∧ K a = some z := by
  unfold nn at h
  cases r with
  | none => cases h
  | some a =>
    dsimp only at h
    split at h
    · next hc =>
      unfold isO at hc
      split at hc
      · next o ho =>
        have e := of_decide_eq_true hc
        exact ⟨a, o.2, rfl, by rw [ho, ← e], h⟩
      · cases hc
    · cases h
/-- the classes' numbers, the array classes, the parameters (the state's numbers from 2 on), the classes of lambdas -/
abbrev cG : Type := va_G × (Nat → ClassId) × (Nat → Nat) × (Nat → ClassId)
/-- a Fault that is just made -/
def fltN (g : cG) (a : Nat) (H : Heap) : Prop := ∃ cell : Cell, H[a]? = some cell ∧ cell.cls = g.1.1 13 ∧ cell.vm = .none ∧ cell.monitor = {} ∧ ∀ k, k < 8 → cell.slots[g.1.2 13 k]? = some (defaultValue (tyX3 k))
def cCell (g : cG) (a : Nat) (e : cE) (H : Heap) : Prop := match e with
  | .inl x => H[a]? = some (vp_cell (g.2.1 x.1) x.2)
  | .inr o => if o.1 < 59 then va_at g.1 ccl (a, .inr o) H else if o.1 = 59 then fltN g a H else H[a]? = some ({ cls := g.2.2.2 (o.1 - 60), slots := o.2.toArray, vm := .none } : Cell)
theorem cCell.kept {g : cG} {a : Nat} {e : cE} {H H1 : Heap} (h : cCell g a e H) (hq : H1[a]? = H[a]?) : cCell g a e H1 := by
  cases e with
  | inl x => exact hq.trans h
  | inr o =>
    unfold cCell at h ⊢
    dsimp only at h ⊢
    split at h
    · next hc => rw [if_pos hc]; exact va_at.kept (q := (a, .inr o)) h hq
    · next hc =>
      rw [if_neg hc]
      split at h
      · next h9 => rw [if_pos h9]; obtain ⟨cell, h1, h2⟩ := h; exact ⟨cell, hq.trans h1, h2⟩
      · next h9 => rw [if_neg h9]; exact hq.trans h
theorem cCell.lt {g : cG} {a : Nat} {e : cE} {H : Heap} (h : cCell g a e H) : a < H.size := by
  cases e with
  | inl x => exact (Array.getElem?_eq_some_iff.mp h).1
  | inr o =>
    unfold cCell at h
    dsimp only at h
    split at h
    · exact va_at.lt (q := (a, .inr o)) h
    · split at h
      · obtain ⟨cell, h1, -⟩ := h
        exact (Array.getElem?_eq_some_iff.mp h1).1
      · exact (Array.getElem?_eq_some_iff.mp h).1
theorem cCell.obj {g : cG} {a c : Nat} {fs : List Value} {H : Heap} (h : cCell g a (.inr (c, fs)) H) (hc : c < 59) : va_at g.1 ccl (a, .inr (c, fs)) H := by
  unfold cCell at h
  dsimp only at h
  rw [if_pos hc] at h
  exact h
theorem cCell.of {g : cG} {a c : Nat} {fs : List Value} {H : Heap} (h : va_at g.1 ccl (a, .inr (c, fs)) H) (hc : c < 59) : cCell g a (.inr (c, fs)) H := by
  unfold cCell
  dsimp only
  rw [if_pos hc]
  exact h
/-- the slots of a heap -/
def hsl (H : Heap) : Nat := (H.toList.map fun (c : Cell) => c.slots.size).sum
theorem hsl_push (H : Heap) (c : Cell) : hsl (H.push c) = hsl H + c.slots.size := by simp [hsl]
theorem hsl_same {H H1 : Heap} (hz : H1.size = H.size) (h : ∀ q : Nat, (H1[q]?).map (fun c => c.slots.size) = (H[q]?).map (fun c => c.slots.size)) : hsl H1 = hsl H := by
  unfold hsl
  congr 1
  apply List.ext_getElem?
  intro i
  simp only [List.getElem?_map, Array.getElem?_toList]
  exact h i
/-- the heap holds the cells -/
def HP (g : cG) (A : Nat → Prop) (σ : cS) (H : Heap) : Prop := H.size = σ.2 0 ∧ hsl H = σ.2 1 ∧ (σ.2 0 ≤ σ.2 3 ∧ σ.2 1 ≤ σ.2 4) ∧ (∀ k, 2 ≤ k → σ.2 k = g.2.2.1 k) ∧ (∀ a e, σ.1 a = some e → cCell g a e H) ∧ (∀ a e, σ.1 a = some e → σ.2 2 ≤ a → A a) ∧ (∀ q, σ.2 0 ≤ q → A q)
theorem HP.set {g : cG} {A : Nat → Prop} {σ : cS} {H H1 : Heap} {a : Nat} {e0 e : cE} (h : HP g A σ H) (he0 : σ.1 a = some e0) (he : cCell g a e H1) (hz : H1.size = H.size) (hs : hsl H1 = hsl H) (oq : ∀ q : Nat, q ≠ a → H1[q]? = H[q]?) : HP g A (cU σ a e) H1 := by
  obtain ⟨h1, h2, h3, h4, h5, h6, h7⟩ := h
  refine ⟨hz.trans h1, hs.trans h2, h3, h4, fun b e1 hb => ?_, fun b e1 hb hw => ?_, h7⟩
  · unfold cU at hb
    dsimp only at hb
    split at hb
    · next hq => cases hb; rw [hq]; exact he
    · next hq => exact (h5 b e1 hb).kept (oq b hq)
  · unfold cU at hb
    dsimp only at hb
    split at hb
    · next hq => rw [hq] at hw ⊢; exact h6 a e0 he0 hw
    · exact h6 b e1 hb hw
theorem HP.new {g : cG} {A : Nat → Prop} {σ : cS} {H : Heap} {e : cE} {n : Nat} {cell : Cell} (h : HP g A σ H) (hn : cell.slots.size = n) (hb : σ.2 0 + 1 ≤ σ.2 3 ∧ σ.2 1 + n ≤ σ.2 4) (he : cCell g (σ.2 0) e (H.push cell)) : HP g A (cN σ e n) (H.push cell) := by
  obtain ⟨h1, h2, h3, h4, h5, h6, h7⟩ := h
  have hl : ∀ q : Nat, q < H.size → (H.push cell)[q]? = H[q]? := fun q hq => by rw [Array.getElem?_push, if_neg (Nat.ne_of_lt hq)]
  refine ⟨by simp [cN, h1], by rw [hsl_push, h2, hn]; simp [cN], ⟨by simp only [cN]; simpa using hb.1, by simp only [cN]; simpa using hb.2⟩, fun k hk => ?_, fun b e1 hb => ?_, fun b e1 hb hw => ?_, fun q hq => ?_⟩
  · simp only [cN]
    rw [if_neg (by omega), if_neg (by omega)]
    exact h4 k hk
  · simp only [cN] at hb
    split at hb
    · next hq => cases hb; rw [hq]; exact he
    · next hq => exact (h5 b e1 hb).kept (hl b (h5 b e1 hb).lt)
  · simp only [cN] at hb hw
    split at hb
    · next hq => rw [hq]; exact h7 _ (Nat.le_refl _)
    · exact h6 b e1 hb (by simpa using hw)
  · simp only [cN] at hq
    exact h7 q (by simp at hq; omega)
/-- what is known of a state: classes; what may lie in which array; statics are said by rows of their own -/
def elN (kind : Nat) : String := if kind = 2 then "java/lang/Object" else if kind = 3 then "HeirCases$Will" else "HeirCases$Finding"
def cTy (g : cG) : List (ClassId × FieldType) := [(g.2.1 0, .int), (g.2.1 1, .byte), (g.2.1 2, .object "java/lang/Object"), (g.2.1 3, .object "HeirCases$Will"), (g.2.1 4, .object "HeirCases$Finding"), (g.2.1 5, .long)]
abbrev cSt : List (String × String × String × Nat) := [("HeirCases$Token", "END", "LHeirCases$Token;", 10), ("HeirCases$Token", "SIGN", "LHeirCases$Token;", 11), ("HeirCases$Token", "WORD", "LHeirCases$Token;", 12), ("HeirCases$Token", "NUMBER", "LHeirCases$Token;", 13), ("HeirCases$Token", "INVALID", "LHeirCases$Token;", 14), ("java/util/ArrayList", "DEFAULTCAPACITY_EMPTY_ELEMENTDATA", "[Ljava/lang/Object;", 15), ("java/util/ArrayList", "EMPTY_ELEMENTDATA", "[Ljava/lang/Object;", 16), ("java/lang/Integer", "DigitTens", "[B", 17), ("java/lang/Integer", "DigitOnes", "[B", 18)]
abbrev cStr : List (String × Nat × String × Nat) := [("HeirCases", 12, "facts 2 3; heirs 3 rest 2; rule a = 1 gives 0 1/2, 1 1/4; rule b > 0 and not a = 1 gives 1 1/3; rule a = 1 and b = 2 gives 0 2/3 over 0;", 20), ("HeirCases", 14, "facts 2 2 2 2; heirs 4 rest 0; estate 9000; heir 1 free 500 rate 20; rule a = 1 or b = 1 and c = 1 gives 1 1/4, 2 1/4, 3 1/4; rule (a = 1 or b = 1) and c = 1 gives 3 1/12 over 0; rule not (a = 1 or d = 1) gives nothing; rule d = 1 gives 2 1/12, 3 5/12 over 1;", 21), ("HeirCases", 16, "facts 4; heirs 1 rest 0; estate 0; rule a < 1 gives 0 1/1; rule a > 2 gives nothing over 0; rule always gives nothing;", 22), ("HeirCases", 77, "a built-in text is wrong", 23), ("HeirCases", 339, " ", 24), ("HeirCases", 341, ", ", 25), ("HeirCases", 349, " nothing", 26), ("HeirCases", 351, "", 27), ("HeirCases", 363, " gives", 28), ("HeirCases", 369, " over", 29), ("HeirCases", 374, "!", 30), ("HeirCases", 376, "?", 31), ("HeirCases$Reader", 9, "", 27), ("HeirCases$Reader", 28, "facts", 32), ("HeirCases$Reader", 64, "heirs", 33), ("HeirCases$Reader", 69, "rest", 34), ("HeirCases$Reader", 123, ";,/()=<>", 35), ("HeirCases$Reader", 150, "estate", 36), ("HeirCases$Reader", 152, "heir", 37), ("HeirCases$Reader", 154, "rule", 38), ("HeirCases$Reader", 159, "free", 39), ("HeirCases$Reader", 164, "rate", 40), ("HeirCases$Reader", 193, "gives", 41), ("HeirCases$Reader", 195, "nothing", 42), ("HeirCases$Reader", 201, "over", 43), ("HeirCases$Reader", 218, "or", 44), ("HeirCases$Reader", 230, "and", 45), ("HeirCases$Reader", 232, "not", 46), ("HeirCases$Reader", 241, "always", 47), ("HeirCases$Reader", 252, "=<>", 48), ("HeirCases$Comparison", 35, "abcd", 49), ("HeirCases$Joined", 34, "", 27), ("HeirCases$Joined", 36, " and ", 50), ("HeirCases$Joined", 38, " or ", 51), ("HeirCases$1", 7, "always", 47), ("HeirCases$1Not", 19, "not ", 52), ("HeirCases$Guard", 7, "( ", 53), ("HeirCases$Guard", 9, "", 27), ("HeirCases$Guard", 21, " )", 54), ("java/lang/StringLatin1", 151, "", 27)]
abbrev cCast : List (String × String) := [("java/util/ArrayDeque", "java/lang/Object"), ("java/lang/Throwable", "java/lang/Object"), ("java/lang/IllegalArgumentException", "java/lang/IllegalArgumentException"), ("java/lang/IllegalArgumentException", "java/lang/Object"), ("java/util/ArrayList", "java/lang/Object"), ("java/lang/IllegalStateException", "java/lang/IllegalStateException"), ("java/lang/IllegalStateException", "java/lang/Object"), ("java/lang/IndexOutOfBoundsException", "java/lang/IndexOutOfBoundsException"), ("java/lang/IndexOutOfBoundsException", "java/lang/Object"), ("java/lang/StringIndexOutOfBoundsException", "java/lang/IndexOutOfBoundsException"), ("java/lang/StringIndexOutOfBoundsException", "java/lang/Object"), ("java/lang/ArrayIndexOutOfBoundsException", "java/lang/ArrayIndexOutOfBoundsException"), ("java/lang/ArrayIndexOutOfBoundsException", "java/lang/IndexOutOfBoundsException"), ("java/lang/ArrayIndexOutOfBoundsException", "java/lang/Object"), ("java/util/NoSuchElementException", "java/util/NoSuchElementException"), ("java/util/NoSuchElementException", "java/lang/Object"), ("java/lang/System$2", "jdk/internal/access/JavaLangAccess"), ("java/lang/System$2", "java/lang/Object"), ("java/lang/StringBuilder", "java/lang/CharSequence"), ("java/lang/StringBuilder", "java/lang/Object"), ("java/lang/String", "java/lang/CharSequence"), ("java/lang/String", "java/lang/Object"), ("HeirCases", "java/lang/Object"), ("HeirCasesModel", "java/lang/Object"), ("HeirCases$Finding", "java/lang/Object"), ("HeirCases$Reader", "java/lang/Object"), ("HeirCases$Fault", "HeirCases$Fault"), ("HeirCases$Fault", "java/lang/Object"), ("HeirCases$Will", "java/lang/Object"), ("HeirCases$1Not", "HeirCases$Guard"), ("HeirCases$1Not", "java/lang/Object"), ("HeirCases$1", "HeirCases$Guard"), ("HeirCases$1", "java/lang/Object"), ("HeirCases$Comparison", "HeirCases$Guard"), ("HeirCases$Comparison", "java/lang/Object"), ("HeirCases$Joined", "HeirCases$Guard"), ("HeirCases$Joined", "java/lang/Object"), ("HeirCases$Rule", "java/lang/Object"), ("HeirCases$Token", "java/lang/Object"), ("[B", "java/lang/Cloneable"), ("[B", "java/lang/Object"), ("[C", "java/lang/Object"), ("[I", "java/lang/Object"), ("[J", "java/lang/Object"), ("[LHeirCases$Finding;", "java/lang/Object"), ("[LHeirCases$Will;", "java/lang/Object"), ("[Ljava/lang/Object;", "java/lang/Object")]
abbrev cNM : List (String × Nat × MethodName × String) := [("HeirCases$Reader", 234, ⟨"HeirCases", "not", "(LHeirCases$Guard;)LHeirCases$Guard;"⟩, "HeirCases"), ("HeirCases$Reader", 250, ⟨"HeirCases", "always", "()LHeirCases$Guard;"⟩, "HeirCases"), ("HeirCases$Rule", 26, ⟨"HeirCases", "divisor", "(II)I"⟩, "HeirCases")]
abbrev cNF : List (String × Nat × String × String × String × String) := [("HeirCases$Reader", 225, "HeirCases$Joined", "parts", "Ljava/util/ArrayList;", "HeirCases")]
abbrev cFw : List (String × MethodName × MethodName) := [("java/lang/String", ⟨"java/lang/CharSequence", "charAt", "(I)C"⟩, ⟨"java/lang/String", "charAt", "(I)C"⟩), ("java/lang/StringBuilder", ⟨"java/lang/CharSequence", "charAt", "(I)C"⟩, ⟨"java/lang/StringBuilder", "charAt", "(I)C"⟩), ("java/lang/String", ⟨"java/lang/CharSequence", "subSequence", "(II)Ljava/lang/CharSequence;"⟩, ⟨"java/lang/String", "subSequence", "(II)Ljava/lang/CharSequence;"⟩), ("java/lang/StringBuilder", ⟨"java/lang/CharSequence", "subSequence", "(II)Ljava/lang/CharSequence;"⟩, ⟨"java/lang/StringBuilder", "subSequence", "(II)Ljava/lang/CharSequence;"⟩), ("java/lang/String", ⟨"java/lang/CharSequence", "toString", "()Ljava/lang/String;"⟩, ⟨"java/lang/String", "toString", "()Ljava/lang/String;"⟩), ("HeirCases$Comparison", ⟨"HeirCases$Guard", "holds", "([I)Z"⟩, ⟨"HeirCases$Comparison", "holds", "([I)Z"⟩), ("HeirCases$Comparison", ⟨"HeirCases$Guard", "write", "(Ljava/lang/StringBuilder;)V"⟩, ⟨"HeirCases$Comparison", "write", "(Ljava/lang/StringBuilder;)V"⟩), ("HeirCases$Joined", ⟨"HeirCases$Guard", "holds", "([I)Z"⟩, ⟨"HeirCases$Joined", "holds", "([I)Z"⟩), ("HeirCases$Joined", ⟨"HeirCases$Guard", "write", "(Ljava/lang/StringBuilder;)V"⟩, ⟨"HeirCases$Joined", "write", "(Ljava/lang/StringBuilder;)V"⟩), ("HeirCases$1Not", ⟨"HeirCases$Guard", "holds", "([I)Z"⟩, ⟨"HeirCases$1Not", "holds", "([I)Z"⟩), ("HeirCases$1Not", ⟨"HeirCases$Guard", "write", "(Ljava/lang/StringBuilder;)V"⟩, ⟨"HeirCases$1Not", "write", "(Ljava/lang/StringBuilder;)V"⟩), ("HeirCases$1", ⟨"HeirCases$Guard", "holds", "([I)Z"⟩, ⟨"HeirCases$1", "holds", "([I)Z"⟩), ("HeirCases$1", ⟨"HeirCases$Guard", "write", "(Ljava/lang/StringBuilder;)V"⟩, ⟨"HeirCases$1", "write", "(Ljava/lang/StringBuilder;)V"⟩), ("HeirCases$Joined", ⟨"HeirCases$Guard", "tightness", "()I"⟩, ⟨"HeirCases$Joined", "tightness", "()I"⟩), ("HeirCases$Comparison", ⟨"HeirCases$Guard", "tightness", "()I"⟩, ⟨"HeirCases$Guard", "tightness", "()I"⟩), ("HeirCases$1Not", ⟨"HeirCases$Guard", "tightness", "()I"⟩, ⟨"HeirCases$Guard", "tightness", "()I"⟩), ("HeirCases$1", ⟨"HeirCases$Guard", "tightness", "()I"⟩, ⟨"HeirCases$Guard", "tightness", "()I"⟩)]
abbrev cPr : List MethodName := [⟨"java/lang/AbstractStringBuilder", "ensureCapacityInternal", "(I)V"⟩, ⟨"java/lang/AbstractStringBuilder", "newCapacity", "(I)I"⟩, ⟨"java/lang/AbstractStringBuilder", "appendNull", "()Ljava/lang/AbstractStringBuilder;"⟩, ⟨"java/lang/AbstractStringBuilder", "putStringAt", "(ILjava/lang/String;)V"⟩, ⟨"java/lang/AbstractStringBuilder", "inflateIfNeededFor", "(Ljava/lang/String;)V"⟩, ⟨"java/lang/AbstractStringBuilder", "inflate", "()V"⟩]
abbrev cDec : List MethodName := [Bundle.init0 "java/lang/RuntimeException", Bundle.init0 "java/lang/Exception", Bundle.init0 "java/lang/Throwable"]
abbrev cLt : Type := MethodName × Nat × Nat × Lambda.Shape × Nat
def sg0 : Lambda.Shape := ({ iface := "HeirCases$Comparing", name := "is", sam := ({ parameters := [Jvm.ClassFile.FieldType.int, Jvm.ClassFile.FieldType.int], returnType := (Option.some Jvm.ClassFile.FieldType.boolean) } : Jvm.ClassFile.MethodDescriptor), captured := [], kind := 6, implClass := "HeirCases$Comparison", implName := "lambda$new$0", implDesc := ({ parameters := [Jvm.ClassFile.FieldType.int, Jvm.ClassFile.FieldType.int], returnType := (Option.some Jvm.ClassFile.FieldType.boolean) } : Jvm.ClassFile.MethodDescriptor), implItf := false, inst := ({ parameters := [Jvm.ClassFile.FieldType.int, Jvm.ClassFile.FieldType.int], returnType := (Option.some Jvm.ClassFile.FieldType.boolean) } : Jvm.ClassFile.MethodDescriptor) } : Jvm.Lambda.Shape)
def sg1 : Lambda.Shape := ({ iface := "HeirCases$Comparing", name := "is", sam := ({ parameters := [Jvm.ClassFile.FieldType.int, Jvm.ClassFile.FieldType.int], returnType := (Option.some Jvm.ClassFile.FieldType.boolean) } : Jvm.ClassFile.MethodDescriptor), captured := [], kind := 6, implClass := "HeirCases$Comparison", implName := "lambda$new$1", implDesc := ({ parameters := [Jvm.ClassFile.FieldType.int, Jvm.ClassFile.FieldType.int], returnType := (Option.some Jvm.ClassFile.FieldType.boolean) } : Jvm.ClassFile.MethodDescriptor), implItf := false, inst := ({ parameters := [Jvm.ClassFile.FieldType.int, Jvm.ClassFile.FieldType.int], returnType := (Option.some Jvm.ClassFile.FieldType.boolean) } : Jvm.ClassFile.MethodDescriptor) } : Jvm.Lambda.Shape)
def sg2 : Lambda.Shape := ({ iface := "HeirCases$Comparing", name := "is", sam := ({ parameters := [Jvm.ClassFile.FieldType.int, Jvm.ClassFile.FieldType.int], returnType := (Option.some Jvm.ClassFile.FieldType.boolean) } : Jvm.ClassFile.MethodDescriptor), captured := [], kind := 6, implClass := "HeirCases$Comparison", implName := "lambda$new$2", implDesc := ({ parameters := [Jvm.ClassFile.FieldType.int, Jvm.ClassFile.FieldType.int], returnType := (Option.some Jvm.ClassFile.FieldType.boolean) } : Jvm.ClassFile.MethodDescriptor), implItf := false, inst := ({ parameters := [Jvm.ClassFile.FieldType.int, Jvm.ClassFile.FieldType.int], returnType := (Option.some Jvm.ClassFile.FieldType.boolean) } : Jvm.ClassFile.MethodDescriptor) } : Jvm.Lambda.Shape)
def sg3 : Lambda.Shape := ({ iface := "HeirCases$Deed", name := "in", sam := ({ parameters := [(Jvm.ClassFile.FieldType.object "HeirCases$Will")], returnType := (Option.none : Option Jvm.ClassFile.FieldType) } : Jvm.ClassFile.MethodDescriptor), captured := [Jvm.ClassFile.FieldType.int], kind := 6, implClass := "HeirCases", implName := "lambda$needed$7", implDesc := ({ parameters := [Jvm.ClassFile.FieldType.int, (Jvm.ClassFile.FieldType.object "HeirCases$Will")], returnType := (Option.none : Option Jvm.ClassFile.FieldType) } : Jvm.ClassFile.MethodDescriptor), implItf := false, inst := ({ parameters := [(Jvm.ClassFile.FieldType.object "HeirCases$Will")], returnType := (Option.none : Option Jvm.ClassFile.FieldType) } : Jvm.ClassFile.MethodDescriptor) } : Jvm.Lambda.Shape)
def sg4 : Lambda.Shape := ({ iface := "HeirCases$OfCase", name := "of", sam := ({ parameters := [Jvm.ClassFile.FieldType.int], returnType := (Option.some Jvm.ClassFile.FieldType.int) } : Jvm.ClassFile.MethodDescriptor), captured := [(Jvm.ClassFile.FieldType.object "HeirCases"), (Jvm.ClassFile.FieldType.object "HeirCases$Comparison")], kind := 5, implClass := "HeirCases", implName := "lambda$patch$10", implDesc := ({ parameters := [(Jvm.ClassFile.FieldType.object "HeirCases$Comparison"), Jvm.ClassFile.FieldType.int], returnType := (Option.some Jvm.ClassFile.FieldType.int) } : Jvm.ClassFile.MethodDescriptor), implItf := false, inst := ({ parameters := [Jvm.ClassFile.FieldType.int], returnType := (Option.some Jvm.ClassFile.FieldType.int) } : Jvm.ClassFile.MethodDescriptor) } : Jvm.Lambda.Shape)
def sg5 : Lambda.Shape := ({ iface := "HeirCases$OfCase", name := "of", sam := ({ parameters := [Jvm.ClassFile.FieldType.int], returnType := (Option.some Jvm.ClassFile.FieldType.int) } : Jvm.ClassFile.MethodDescriptor), captured := [(Jvm.ClassFile.FieldType.object "HeirCases")], kind := 5, implClass := "HeirCases", implName := "lambda$dearest$11", implDesc := ({ parameters := [Jvm.ClassFile.FieldType.int], returnType := (Option.some Jvm.ClassFile.FieldType.int) } : Jvm.ClassFile.MethodDescriptor), implItf := false, inst := ({ parameters := [Jvm.ClassFile.FieldType.int], returnType := (Option.some Jvm.ClassFile.FieldType.int) } : Jvm.ClassFile.MethodDescriptor) } : Jvm.Lambda.Shape)
def sg6 : Lambda.Shape := ({ iface := "HeirCases$OfCase", name := "of", sam := ({ parameters := [Jvm.ClassFile.FieldType.int], returnType := (Option.some Jvm.ClassFile.FieldType.int) } : Jvm.ClassFile.MethodDescriptor), captured := [(Jvm.ClassFile.FieldType.object "HeirCases")], kind := 5, implClass := "HeirCases", implName := "left", implDesc := ({ parameters := [Jvm.ClassFile.FieldType.int], returnType := (Option.some Jvm.ClassFile.FieldType.int) } : Jvm.ClassFile.MethodDescriptor), implItf := false, inst := ({ parameters := [Jvm.ClassFile.FieldType.int], returnType := (Option.some Jvm.ClassFile.FieldType.int) } : Jvm.ClassFile.MethodDescriptor) } : Jvm.Lambda.Shape)
def sg7 : Lambda.Shape := ({ iface := "HeirCases$OfCase", name := "of", sam := ({ parameters := [Jvm.ClassFile.FieldType.int], returnType := (Option.some Jvm.ClassFile.FieldType.int) } : Jvm.ClassFile.MethodDescriptor), captured := [(Jvm.ClassFile.FieldType.object "HeirCases")], kind := 5, implClass := "HeirCases", implName := "lambda$meanDuties$12", implDesc := ({ parameters := [Jvm.ClassFile.FieldType.int], returnType := (Option.some Jvm.ClassFile.FieldType.int) } : Jvm.ClassFile.MethodDescriptor), implItf := false, inst := ({ parameters := [Jvm.ClassFile.FieldType.int], returnType := (Option.some Jvm.ClassFile.FieldType.int) } : Jvm.ClassFile.MethodDescriptor) } : Jvm.Lambda.Shape)
def sg8 : Lambda.Shape := ({ iface := "HeirCases$OfCase", name := "of", sam := ({ parameters := [Jvm.ClassFile.FieldType.int], returnType := (Option.some Jvm.ClassFile.FieldType.int) } : Jvm.ClassFile.MethodDescriptor), captured := [(Jvm.ClassFile.FieldType.object "HeirCases"), Jvm.ClassFile.FieldType.int], kind := 5, implClass := "HeirCases", implName := "lambda$heir$0", implDesc := ({ parameters := [Jvm.ClassFile.FieldType.int, Jvm.ClassFile.FieldType.int], returnType := (Option.some Jvm.ClassFile.FieldType.int) } : Jvm.ClassFile.MethodDescriptor), implItf := false, inst := ({ parameters := [Jvm.ClassFile.FieldType.int], returnType := (Option.some Jvm.ClassFile.FieldType.int) } : Jvm.ClassFile.MethodDescriptor) } : Jvm.Lambda.Shape)
def sg9 : Lambda.Shape := ({ iface := "HeirCases$OfCase", name := "of", sam := ({ parameters := [Jvm.ClassFile.FieldType.int], returnType := (Option.some Jvm.ClassFile.FieldType.int) } : Jvm.ClassFile.MethodDescriptor), captured := [(Jvm.ClassFile.FieldType.object "HeirCases"), Jvm.ClassFile.FieldType.int], kind := 5, implClass := "HeirCases", implName := "lambda$heir$1", implDesc := ({ parameters := [Jvm.ClassFile.FieldType.int, Jvm.ClassFile.FieldType.int], returnType := (Option.some Jvm.ClassFile.FieldType.int) } : Jvm.ClassFile.MethodDescriptor), implItf := false, inst := ({ parameters := [Jvm.ClassFile.FieldType.int], returnType := (Option.some Jvm.ClassFile.FieldType.int) } : Jvm.ClassFile.MethodDescriptor) } : Jvm.Lambda.Shape)
def sg10 : Lambda.Shape := ({ iface := "HeirCases$OfCase", name := "of", sam := ({ parameters := [Jvm.ClassFile.FieldType.int], returnType := (Option.some Jvm.ClassFile.FieldType.int) } : Jvm.ClassFile.MethodDescriptor), captured := [(Jvm.ClassFile.FieldType.object "HeirCases"), Jvm.ClassFile.FieldType.int], kind := 5, implClass := "HeirCases", implName := "lambda$rule$2", implDesc := ({ parameters := [Jvm.ClassFile.FieldType.int, Jvm.ClassFile.FieldType.int], returnType := (Option.some Jvm.ClassFile.FieldType.int) } : Jvm.ClassFile.MethodDescriptor), implItf := false, inst := ({ parameters := [Jvm.ClassFile.FieldType.int], returnType := (Option.some Jvm.ClassFile.FieldType.int) } : Jvm.ClassFile.MethodDescriptor) } : Jvm.Lambda.Shape)
def sg11 : Lambda.Shape := ({ iface := "HeirCases$OfCase", name := "of", sam := ({ parameters := [Jvm.ClassFile.FieldType.int], returnType := (Option.some Jvm.ClassFile.FieldType.int) } : Jvm.ClassFile.MethodDescriptor), captured := [(Jvm.ClassFile.FieldType.object "HeirCases"), Jvm.ClassFile.FieldType.int], kind := 5, implClass := "HeirCases", implName := "lambda$rule$3", implDesc := ({ parameters := [Jvm.ClassFile.FieldType.int, Jvm.ClassFile.FieldType.int], returnType := (Option.some Jvm.ClassFile.FieldType.int) } : Jvm.ClassFile.MethodDescriptor), implItf := false, inst := ({ parameters := [Jvm.ClassFile.FieldType.int], returnType := (Option.some Jvm.ClassFile.FieldType.int) } : Jvm.ClassFile.MethodDescriptor) } : Jvm.Lambda.Shape)
def sg12 : Lambda.Shape := ({ iface := "HeirCases$OfCase", name := "of", sam := ({ parameters := [Jvm.ClassFile.FieldType.int], returnType := (Option.some Jvm.ClassFile.FieldType.int) } : Jvm.ClassFile.MethodDescriptor), captured := [(Jvm.ClassFile.FieldType.object "HeirCases"), Jvm.ClassFile.FieldType.int], kind := 5, implClass := "HeirCases", implName := "lambda$rule$4", implDesc := ({ parameters := [Jvm.ClassFile.FieldType.int, Jvm.ClassFile.FieldType.int], returnType := (Option.some Jvm.ClassFile.FieldType.int) } : Jvm.ClassFile.MethodDescriptor), implItf := false, inst := ({ parameters := [Jvm.ClassFile.FieldType.int], returnType := (Option.some Jvm.ClassFile.FieldType.int) } : Jvm.ClassFile.MethodDescriptor) } : Jvm.Lambda.Shape)
def sg13 : Lambda.Shape := ({ iface := "HeirCases$OfCase", name := "of", sam := ({ parameters := [Jvm.ClassFile.FieldType.int], returnType := (Option.some Jvm.ClassFile.FieldType.int) } : Jvm.ClassFile.MethodDescriptor), captured := [(Jvm.ClassFile.FieldType.object "HeirCases"), Jvm.ClassFile.FieldType.int, Jvm.ClassFile.FieldType.int], kind := 5, implClass := "HeirCases", implName := "lambda$isWider$5", implDesc := ({ parameters := [Jvm.ClassFile.FieldType.int, Jvm.ClassFile.FieldType.int, Jvm.ClassFile.FieldType.int], returnType := (Option.some Jvm.ClassFile.FieldType.int) } : Jvm.ClassFile.MethodDescriptor), implItf := false, inst := ({ parameters := [Jvm.ClassFile.FieldType.int], returnType := (Option.some Jvm.ClassFile.FieldType.int) } : Jvm.ClassFile.MethodDescriptor) } : Jvm.Lambda.Shape)
def sg14 : Lambda.Shape := ({ iface := "HeirCases$OfCase", name := "of", sam := ({ parameters := [Jvm.ClassFile.FieldType.int], returnType := (Option.some Jvm.ClassFile.FieldType.int) } : Jvm.ClassFile.MethodDescriptor), captured := [(Jvm.ClassFile.FieldType.object "HeirCases"), Jvm.ClassFile.FieldType.int, Jvm.ClassFile.FieldType.int], kind := 5, implClass := "HeirCases", implName := "lambda$common$6", implDesc := ({ parameters := [Jvm.ClassFile.FieldType.int, Jvm.ClassFile.FieldType.int, Jvm.ClassFile.FieldType.int], returnType := (Option.some Jvm.ClassFile.FieldType.int) } : Jvm.ClassFile.MethodDescriptor), implItf := false, inst := ({ parameters := [Jvm.ClassFile.FieldType.int], returnType := (Option.some Jvm.ClassFile.FieldType.int) } : Jvm.ClassFile.MethodDescriptor) } : Jvm.Lambda.Shape)
def sg15 : Lambda.Shape := ({ iface := "HeirCases$Deed", name := "in", sam := ({ parameters := [(Jvm.ClassFile.FieldType.object "HeirCases$Will")], returnType := (Option.none : Option Jvm.ClassFile.FieldType) } : Jvm.ClassFile.MethodDescriptor), captured := [Jvm.ClassFile.FieldType.int], kind := 6, implClass := "HeirCases", implName := "lambda$gapsWithout$8", implDesc := ({ parameters := [Jvm.ClassFile.FieldType.int, (Jvm.ClassFile.FieldType.object "HeirCases$Will")], returnType := (Option.none : Option Jvm.ClassFile.FieldType) } : Jvm.ClassFile.MethodDescriptor), implItf := false, inst := ({ parameters := [(Jvm.ClassFile.FieldType.object "HeirCases$Will")], returnType := (Option.none : Option Jvm.ClassFile.FieldType) } : Jvm.ClassFile.MethodDescriptor) } : Jvm.Lambda.Shape)
def sg16 : Lambda.Shape := ({ iface := "HeirCases$Deed", name := "in", sam := ({ parameters := [(Jvm.ClassFile.FieldType.object "HeirCases$Will")], returnType := (Option.none : Option Jvm.ClassFile.FieldType) } : Jvm.ClassFile.MethodDescriptor), captured := [Jvm.ClassFile.FieldType.int, Jvm.ClassFile.FieldType.int], kind := 6, implClass := "HeirCases", implName := "lambda$clashesIf$9", implDesc := ({ parameters := [Jvm.ClassFile.FieldType.int, Jvm.ClassFile.FieldType.int, (Jvm.ClassFile.FieldType.object "HeirCases$Will")], returnType := (Option.none : Option Jvm.ClassFile.FieldType) } : Jvm.ClassFile.MethodDescriptor), implItf := false, inst := ({ parameters := [(Jvm.ClassFile.FieldType.object "HeirCases$Will")], returnType := (Option.none : Option Jvm.ClassFile.FieldType) } : Jvm.ClassFile.MethodDescriptor) } : Jvm.Lambda.Shape)
def cLam : List cLt := [(⟨"HeirCases$Comparison", "<init>", "(ICI)V"⟩, 48, 20, sg0, 6), (⟨"HeirCases$Comparison", "<init>", "(ICI)V"⟩, 56, 24, sg1, 7), (⟨"HeirCases$Comparison", "<init>", "(ICI)V"⟩, 64, 25, sg2, 8), (⟨"HeirCases", "needed", "()I"⟩, 33, 301, sg3, 0), (⟨"HeirCases", "patch", "()I"⟩, 53, 317, sg4, 0), (⟨"HeirCases", "dearest", "()I"⟩, 2, 331, sg5, 0), (⟨"HeirCases", "gap", "()I"⟩, 2, 334, sg6, 0), (⟨"HeirCases", "meanDuties", "()D"⟩, 11, 335, sg7, 0), (⟨"HeirCases", "heir", "(II)I"⟩, 134, 221, sg8, 0), (⟨"HeirCases", "heir", "(II)I"⟩, 149, 228, sg9, 0), (⟨"HeirCases", "rule", "(II)I"⟩, 51, 243, sg10, 0), (⟨"HeirCases", "rule", "(II)I"⟩, 65, 248, sg11, 0), (⟨"HeirCases", "rule", "(II)I"⟩, 79, 249, sg12, 0), (⟨"HeirCases", "isWider", "(II)Z"⟩, 16, 289, sg13, 0), (⟨"HeirCases", "common", "(II)I"⟩, 16, 292, sg14, 0), (⟨"HeirCases", "gapsWithout", "(I)I"⟩, 8, 308, sg15, 0), (⟨"HeirCases", "clashesIf", "(II)I"⟩, 28, 309, sg16, 0)]
abbrev cFi : List MethodName := [⟨"HeirCases$Comparing", "is", "(II)Z"⟩, ⟨"HeirCases$Deed", "in", "(LHeirCases$Will;)V"⟩, ⟨"HeirCases$OfCase", "of", "(I)I"⟩]
theorem cFw_ok : ∀ q ∈ cFw, (q.2.1.cls ≠ "java/lang/invoke/MethodHandle" ∧ q.2.1.cls ≠ "java/lang/invoke/VarHandle") ∧ (q.2.2.cls ≠ "java/lang/invoke/MethodHandle" ∧ q.2.2.cls ≠ "java/lang/invoke/VarHandle") := by decide +kernel
/-- an interface's own method is what a call on an object of C comes to -/
def va_Ld (C : String) (x : MethodName) (U : State) : Prop := ∃ c r, U.vm.findClass C = some c ∧ U.methodNamed? x = some r ∧ selectMethod {} U.vm c r = .method r
theorem va_Ld.moved {C : String} {x : MethodName} {u U : State} (h : u.vm.Alike U.vm) (hl : va_Ld C x u) : va_Ld C x U := by
  obtain ⟨c, r, h1, h2, h3⟩ := hl
  refine ⟨c, r, by rw [h.findClass]; exact h1, ?_, by rw [h.selectMethod]; exact h3⟩
  have := State.methodNamed?_setVm (s := u) h x
  rw [h2] at this
  exact this
abbrev cTi : MethodName := ⟨"HeirCases$Guard", "tightness", "()I"⟩
/-- null, or an address, as a number -/
def opk (k : Nat) : Option Nat := if k = 0 then none else some (k - 1)
/-- what is known of a lambda's site: it is linked, its class is made -/
def LamV (g : cG) (U : State) (n : Nat) (q : cLt) : Prop := ∃ (m : MethodId) (k : Class) (cf : ClassFile) (i0 p0 : Nat) (l : Linked), U.methodNamed? q.1 = some m ∧ U.vm.classes[m.cls]? = some k ∧ k.cf = some cf ∧ Lambda.shapeOf? cf q.2.2.1 = some q.2.2.2.1 ∧ (k.callSites.find? fun y => y.1 == m.idx && y.2.1 == q.2.1) = some (i0, p0, l) ∧ Lambda.isMade { classPath := fun _ => none } U.vm m.cls q.2.2.2.1 (g.2.2.2 n) = true ∧ U.lambdaCallable q.2.2.2.1 (g.2.2.2 n) = true ∧ k.name = q.1.cls ∧ ((q.2.2.2.1.captured = [] ∧ l = .constant (g.2.2.1 q.2.2.2.2)) ∨ (l = .makes (g.2.2.2 n) ∧ q.2.2.2.1.captured ≠ [])) ∧ (∀ o ok, U.vm.findClass "java/lang/Object" = some o → U.vm.classes[o]? = some ok → ok.instanceTypes.size = 0)
theorem LamV.warm {g : cG} {s U : State} {n : Nat} {q : cLt} (hW : s.WarmedH U.vm) (h : LamV g s n q) : LamV g U n q := by
  obtain ⟨m, k, cf, i0, p0, l, h1, h2, h3, h4, h5, h6, h7, h8, h9, h10⟩ := h
  obtain ⟨k', hk', he⟩ := hW.alike.2.2 _ _ h2
  refine ⟨m, k', cf, i0, p0, l, ?_, hk', by rw [he]; exact h3, h4, by rw [he]; exact h5, Lambda.isMade_warmer hW h6, ?_, by rw [he]; exact h8, h9, fun o ok ho hok => ?_⟩
  · have := State.methodNamed?_setVm (s := s) hW.alike q.1
    rw [h1] at this
    exact this
  · have hA := hW.alike
    simp only [State.lambdaCallable, hA.findClass, hA.assignable, hA.superclasses, hA.declaredIn] at h7 ⊢
    exact h7
  · have ho' : s.vm.findClass "java/lang/Object" = some o := by rw [← hW.alike.findClass]; exact ho
    obtain ⟨k0, hk0, -⟩ := Vm.findClass_spec ho'
    obtain ⟨k1, hk1, he1⟩ := hW.alike.2.2 _ _ hk0
    cases hok.symm.trans hk1
    rw [he1]
    exact h10 o k0 ho' hk0
def WKx (g : cG) (U : State) : Prop := (∀ C ∈ ["HeirCases$Comparison", "HeirCases$1Not", "HeirCases$1"], va_Ld C cTi U) ∧ (∀ y ∈ cPr, va_Nw (.privateMethod y) U) ∧ (∀ n q, cLam[n]? = some q → LamV g U n q) ∧ ∀ x ∈ cFi, va_Nw (.declares x) U ∧ va_Nw (.interfaceMethod x.cls x.cls x.name x.desc) U
theorem va_Nw.warmP {y : MethodName} {s U : State} (hW : s.WarmedH U.vm) (hZ : va_Nw (.privateMethod y) s) : va_Nw (.privateMethod y) U := va_tabs rfl (rfl : (s.setVm U.vm).vm = U.vm) (by rw [Cond.privateMethod_setVm hW.alike]; exact hZ)
theorem cFi_ok : ∀ x ∈ cFi, x.cls ≠ "java/lang/invoke/MethodHandle" ∧ x.cls ≠ "java/lang/invoke/VarHandle" := by decide +kernel
theorem va_Nw.warmI {x : MethodName} {s U : State} (hx : x.cls ≠ "java/lang/invoke/MethodHandle" ∧ x.cls ≠ "java/lang/invoke/VarHandle") (hW : s.WarmedH U.vm) (h1 : va_Nw (.declares x) s) (hZ : va_Nw (.interfaceMethod x.cls x.cls x.name x.desc) s) : va_Nw (.interfaceMethod x.cls x.cls x.name x.desc) U := by
  obtain ⟨r, meth, hn, -⟩ := Cond.declares_spec h1
  exact va_tabs rfl (rfl : (s.setVm U.vm).vm = U.vm) (by rw [Cond.interfaceMethod_setVm hW.alike (r := r) hn hx]; exact hZ)
theorem WKx.warm {g : cG} {s U : State} (hW : s.WarmedH U.vm) (h : WKx g s) : WKx g U := ⟨fun C hC => (h.1 C hC).moved hW.alike, fun y hy => va_Nw.warmP hW (h.2.1 y hy), fun n q hq => (h.2.2.1 n q hq).warm hW, fun x hx => ⟨va_Nw.warmD hW (h.2.2.2 x hx).1, va_Nw.warmI (cFi_ok x hx) hW (h.2.2.2 x hx).1 (h.2.2.2 x hx).2⟩⟩
theorem WKx.vm {g : cG} {s U : State} (hv : U.vm = s.vm) (h : WKx g s) : WKx g U := h.warm (by rw [hv]; exact State.WarmedH.refl s)
def WKc (g : cG) (A : Nat → Prop) (U : State) (H : Heap) : Prop := va_K g.1 ccl (cTy g) U ∧ StJ A U H ∧ (∀ kind ci : Nat, ∀ q : vw_C, 2 ≤ kind → kind < 5 → okS kind ci = true → ccl[ci]? = some q → va_Nw (.castable q.1 (elN kind)) U) ∧ (∀ C, C ∈ ["java/lang/Object", "HeirCases$Will", "HeirCases$Finding"] → va_AO C U) ∧ (∀ q ∈ cSt, va_Z q.1 q.2.1 q.2.2.1 (.ref (g.2.2.1 q.2.2.2)) A U H) ∧ (∀ q ∈ cStr, vk_R q.1 q.2.1 q.2.2.1 (g.2.2.1 q.2.2.2) U) ∧ (∀ q ∈ cCast, va_Nw (.castable q.1 q.2) U) ∧ (∀ q ∈ cNM, va_Nw (.methodLinkNest q.1 q.2.1 q.2.2.1 q.2.2.2) U) ∧ (∀ q ∈ cNF, va_Nw (.fieldLinkNest q.1 q.2.1 q.2.2.1 q.2.2.2.1 q.2.2.2.2.1 q.2.2.2.2.2) U) ∧ (∀ q ∈ cFw, va_Fw q.1 q.2.1 q.2.2 U) ∧ va_Mi "[Ljava/lang/Object;" (g.2.2.1 19) U ∧ va_Dc U ∧ (∀ x ∈ cDec, va_Nw (.declares x) U) ∧ vx_Zq Bundle.tN "UNASSIGNED_STACK" Bundle.steD A U H ∧ vx_Zq Bundle.tN "SUPPRESSED_SENTINEL" Bundle.listD A U H ∧ WKx g U ∧ va_Z "jdk/internal/util/Preconditions" "SIOOBE_FORMATTER" "Ljava/util/function/BiFunction;" (va_rf (opk (g.2.2.1 9))) A U H
theorem WKc.vm {g : cG} {A : Nat → Prop} {s U : State} {H : Heap} (h : WKc g A s H) (hv : U.vm = s.vm) : WKc g A U H := by
  have hal : s.vm.Alike U.vm := by rw [hv]; exact Vm.Alike.refl _
  obtain ⟨h1, h2, h3, h4, h5, h6, h7, h8, h9, h10, h11, h12, h13, h14, h15, h16, h17⟩ := h
  exact ⟨va_K.moved hal h1, StJ.moved hal h2, fun kd ci q a b c d => va_Nw.same rfl hv.symm (h3 kd ci q a b c d), fun C hC => va_AO.moved hal (h4 C hC), fun q hq => va_Z.moved hal (h5 q hq), fun q hq => vk_R.same hv (h6 q hq), fun q hq => va_Nw.same rfl hv.symm (h7 q hq), fun q hq => va_Nw.same rfl hv.symm (h8 q hq), fun q hq => va_Nw.same rfl hv.symm (h9 q hq), fun q hq => va_Fw.moved (cFw_ok q hq).1 hal (h10 q hq), va_Mi.moved hal h11, va_Dc.moved hal h12, fun x hx => va_Nw.same rfl hv.symm (h13 x hx), vx_Zq.moved hal h14, vx_Zq.moved hal h15, h16.vm hv, va_Z.moved hal h17⟩
theorem WKc.at {g : cG} {A : Nat → Prop} {s U : State} {H : Heap} {locs : List Loc} (h : WKc g A s s.heap) (hS : va_S A s.heap H locs) (hW : s.WarmedH U.vm) : WKc g A U H := by
  obtain ⟨h1, h2, h3, h4, h5, h6, h7, h8, h9, h10, h11, h12, h13, h14, h15, h16, h17⟩ := h
  exact ⟨va_K.moved hW.alike h1, (StJ.moved hW.alike h2).kept hS.2.1, fun kd ci q a b c d => va_Nw.warmC hW (h3 kd ci q a b c d), fun C hC => va_AO.moved hW.alike (h4 C hC), fun q hq => (va_Z.moved hW.alike (h5 q hq)).kept hS.2.1, fun q hq => vk_R.warm hW (h6 q hq), fun q hq => va_Nw.warmC hW (h7 q hq), fun q hq => va_Nw.warmM hW (h8 q hq), fun q hq => va_Nw.warmF hW (h9 q hq), fun q hq => va_Fw.moved (cFw_ok q hq).1 hW.alike (h10 q hq), va_Mi.moved hW.alike h11, va_Dc.moved hW.alike h12, fun x hx => va_Nw.warmD hW (h13 x hx), (vx_Zq.moved hW.alike h14).kept hS.2.1, (vx_Zq.moved hW.alike h15).kept hS.2.1, h16.warm hW, (va_Z.moved hW.alike h17).kept hS.2.1⟩

theorem va_P1 {D : va_G} {cl : List vw_C} {q : Nat × va_E} {H : Heap} (h : va_at D cl q H) : va_P D cl [q] H := by
  intro k q1 hk
  match k, hk with
  | 0, hk => cases hk; exact h
  | k + 1, hk => simp at hk
theorem cat_rf (r : Option Nat) : (va_rf r).category = 1 := by cases r <;> rfl
theorem cat_i (x : Int32) : (Value.int x).category = 1 := rfl
theorem cat_a (x : Nat) : (Value.ref x).category = 1 := rfl
theorem cat_n : (Value.null).category = 1 := rfl
theorem cat_l (x : Int64) : (Value.long x).category = 2 := rfl
theorem cat_f (x : UInt32) : (Value.float x).category = 1 := rfl
theorem cat_d (x : UInt64) : (Value.double x).category = 2 := rfl
theorem room_of {st : List Value} (h : st.length ≤ 4) : (st.map fun v => v.category).sum ≤ 8 := by
  have h1 : ∀ v : Value, v.category ≤ 2 := fun v => by cases v <;> simp [Value.category]
  have h2 : ∀ l : List Value, (l.map fun v => v.category).sum ≤ 2 * l.length := by
    intro l
    induction l with
    | nil => simp
    | cons a l ih => have := h1 a; simp only [List.map_cons, List.sum_cons, List.length_cons]; omega
  have := h2 st
  omega
theorem hsl_set {H H1 : Heap} {a k : Nat} {cell : Cell} {x : Value} (hc : H[a]? = some cell) (e : H1[a]? = some (cell.setSlot k x)) (hz : H1.size = H.size) (oq : ∀ q : Nat, q ≠ a → H1[q]? = H[q]?) : hsl H1 = hsl H := by
  refine hsl_same hz fun q => ?_
  by_cases hq : q = a
  · subst hq
    rw [hc, e]
    simp [Cell.setSlot]
  · rw [oq q hq]
/-- the invariant of a walk: the cells, what has been written, the slots only grow -/
def CI (g : cG) (A : Nat → Prop) (s : State) (σ : cS) (H : Heap) (locs : List Loc) : Prop := HP g A σ H ∧ va_S A s.heap H locs ∧ hsl s.heap ≤ hsl H
theorem CI.write {g : cG} {A : Nat → Prop} {s : State} {σ : cS} {H H1 : Heap} {locs : List Loc} {a k : Nat} {e0 e : cE} {cell : Cell} {x : Value} (h : CI g A s σ H locs) (hw : σ.2 2 ≤ a) (hc : H[a]? = some cell) (he0 : σ.1 a = some e0) (he : cCell g a e H1) (e1 : H1[a]? = some (cell.setSlot k x)) (hz : H1.size = H.size) (oq : ∀ q : Nat, q ≠ a → H1[q]? = H[q]?) : CI g A s (cU σ a e) H1 (locs ++ [⟨a, k⟩]) := by
  have hs := hsl_set hc e1 hz oq
  exact ⟨h.1.set he0 he hz hs oq, h.2.1.put hz oq (h.1.2.2.2.2.2.1 a e0 he0 hw), by rw [hs]; exact h.2.2⟩
section CW1
variable {p : Program} {l : Launch} {e : Env} {R : Room} {s : State} {m : MethodId} {args : Array Value} {below : List Frame} {meth : Method} {c : Code} {H : Heap} {locs : List Loc} {cells slots : Nat} {Q : State → Prop}
variable {cc : ByteArray} {pc : Nat} {ls : Array Slot} {rest : List Value} {g : cG} {A : Nat → Prop} {nL : Nat} {ret : Option FieldType} {own : String} {σ : cS}
/-- the room as it is -/
theorem stand_narrow {T : State} (hT : T.heap = H) (X : Stand p l e R s m args below meth c T locs cells slots) : Stand p l e R s m args below meth c T locs (H.size - s.heap.size) (hsl H - hsl s.heap) := by
  refine { X with same := ?_ }
  obtain ⟨h1, h2, h3, h4, h5, h6⟩ := X.same
  have hz : (T.setVm s.vm).heap = H := hT
  rw [hz] at h2 h3 h4 h5 h6
  refine ⟨h1, by rw [hz]; exact h2, by rw [hz]; omega, by rw [hz]; exact h4, ?_, by rw [hz]; exact h6⟩
  rw [hz]
  have e1 : hsl H = hsl s.heap + ((H.toList.drop s.heap.size).map (fun (x : Cell) => x.slots.size)).sum := by
    have e2 : H.toList = H.toList.take s.heap.size ++ H.toList.drop s.heap.size := (List.take_append_drop _ _).symm
    have e3 : (H.toList.take s.heap.size).map (fun (x : Cell) => x.slots.size) = s.heap.toList.map (fun (x : Cell) => x.slots.size) := by
      apply List.ext_getElem?
      intro i
      simp only [List.getElem?_map, List.getElem?_take]
      by_cases hi : i < s.heap.size
      · rw [if_pos hi]
        obtain ⟨c1, q1, q2, q3, -⟩ := h6 i _ (Array.getElem?_eq_getElem hi)
        simp only [Array.getElem?_toList]
        rw [q1, Array.getElem?_eq_getElem hi]
        simp [q3]
      · rw [if_neg hi]
        simp only [Array.getElem?_toList]
        rw [Array.getElem?_eq_none (by omega)]
    unfold hsl
    rw [e2, List.map_append, List.sum_append, e3]
    congr 2
    rw [← e2]
  omega
theorem W.narrow {fr : JFrame} (k : W p l e R s m args below meth c H locs (H.size - s.heap.size) (hsl H - hsl s.heap) Q fr) : W p l e R s m args below meth c H locs cells slots Q fr := fun T hT X => k T hT (stand_narrow hT X)
theorem cw_gO {Cn ref : String} {T : u_T} {N index ci k a : Nat} {fs : List Value} {v : Value} (C : CX p m meth c s args cc nL ret own) (hw : WKc g A s s.heap) (hI : CI g A s σ H locs) (h1 : σ.1 a = some (.inr (ci, fs))) (h2 : fs[k]? = some v) (h60 : ci < 59) (hc : ccl[ci]? = some (Cn, T, N)) (hin : ∀ w ∈ u_ws Cn T N, w ∈ lw_all) (hk : k < N) (hlink : (Cond.fieldLink own index ref (T k).2.1 (T k).2.2.1).before args s = true) (hsame : ∀ x, s.fieldFound? (T k).1 (T k).2.1 (T k).2.2.1 = some x → s.fieldFound? ref (T k).2.1 (T k).2.2.1 = some x) (hdg : decode cc pc = .ok (.getfield index, 3))
    (kk : W p l e R s m args below meth c H locs cells slots Q (F0 m (pc + 3) ls (v :: rest))) : W p l e R s m args below meth c H locs cells slots Q (F0 m pc ls (.ref a :: rest)) :=
  va_get (D := g.1) (ci := ci) (ws := [(a, .inr (ci, fs))]) (C := Cn) (T := T) (N := N) C.x C.b C.t hin C.o hw.1 (va_P1 ((hI.1.2.2.2.2.1 a _ h1).obj h60)) 0 rfl hc k hk hlink hsame h2 hdg kk
theorem cw_gI {β : Type} {K : Int32 → Option β} {z : β} {r : Option Nat} {Cn ref : String} {T : u_T} {N index : Nat} (ci k : Nat) (C : CX p m meth c s args cc nL ret own) (hw : WKc g A s s.heap) (hI : CI g A s σ H locs) (h : gI σ r ci k K = some z) (h60 : ci < 59) (hc : ccl[ci]? = some (Cn, T, N)) (hin : ∀ w ∈ u_ws Cn T N, w ∈ lw_all) (hk : k < N) (hlink : (Cond.fieldLink own index ref (T k).2.1 (T k).2.2.1).before args s = true) (hsame : ∀ x, s.fieldFound? (T k).1 (T k).2.1 (T k).2.2.1 = some x → s.fieldFound? ref (T k).2.1 (T k).2.2.1 = some x) (hdg : decode cc pc = .ok (.getfield index, 3))
    (kk : ∀ x : Int32, K x = some z → W p l e R s m args below meth c H locs cells slots Q (F0 m (pc + 3) ls (.int x :: rest))) : W p l e R s m args below meth c H locs cells slots Q (F0 m pc ls (va_rf r :: rest)) := by
  obtain ⟨a, fs, x, rfl, h1, h2, h3⟩ := gI_s h
  exact cw_gO C hw hI h1 h2 h60 hc hin hk hlink hsame hdg (kk x h3)
theorem cw_gR {β : Type} {K : Option Nat → Option β} {z : β} {r : Option Nat} {Cn ref : String} {T : u_T} {N index : Nat} (ci k : Nat) (C : CX p m meth c s args cc nL ret own) (hw : WKc g A s s.heap) (hI : CI g A s σ H locs) (h : gR σ r ci k K = some z) (h60 : ci < 59) (hc : ccl[ci]? = some (Cn, T, N)) (hin : ∀ w ∈ u_ws Cn T N, w ∈ lw_all) (hk : k < N) (hlink : (Cond.fieldLink own index ref (T k).2.1 (T k).2.2.1).before args s = true) (hsame : ∀ x, s.fieldFound? (T k).1 (T k).2.1 (T k).2.2.1 = some x → s.fieldFound? ref (T k).2.1 (T k).2.2.1 = some x) (hdg : decode cc pc = .ok (.getfield index, 3))
    (kk : ∀ x : Option Nat, K x = some z → W p l e R s m args below meth c H locs cells slots Q (F0 m (pc + 3) ls (va_rf x :: rest))) : W p l e R s m args below meth c H locs cells slots Q (F0 m pc ls (va_rf r :: rest)) := by
  obtain ⟨a, fs, x, rfl, h1, h2, h3⟩ := gR_s h
  exact cw_gO C hw hI h1 h2 h60 hc hin hk hlink hsame hdg (kk x h3)
/-- a field is set: a plain one; a final one by its constructor -/
theorem cw_pO {β : Type} {K : cS → Option β} {z : β} {r : Option Nat} {v : Value} {ty : FieldType} {Cn ref : String} {T : u_T} {N index : Nat} (ci k : Nat) (C : CX p m meth c s args cc nL ret own) (hw : WKc g A s s.heap) (hI : CI g A s σ H locs) (h : pO σ r ci k v K = some z) (h60 : ci < 59) (hc : ccl[ci]? = some (Cn, T, N)) (hin : ∀ w ∈ u_ws Cn T N, w ∈ lw_all) (ty0 : Nat → FieldType) (hty : ∀ k, k < N → parseFieldDescriptor (T k).2.2.1 = some (ty0 k)) (hnm : ∀ a, a < N → ∀ b, b < N → a ≠ b → (T a).2.1 ≠ (T b).2.1) (hk : k < N) (hlink : (Cond.fieldLink own index ref (T k).2.1 (T k).2.2.1).before args s = true) (hsame : ∀ x, s.fieldFound? (T k).1 (T k).2.1 (T k).2.2.1 = some x → s.fieldFound? ref (T k).2.1 (T k).2.2.1 = some x)
    (hfin : (T k).2.2.2 = false ∨ ((T k).2.2.2 = true ∧ (T k).1 = own ∧ meth.name = "<init>")) (hd : parseFieldDescriptor (T k).2.2.1 = some ty) (hn : narrow ty v = v) (hfit : fits ty v = true) (hdg : decode cc pc = .ok (.putfield index, 3))
    (kk : ∀ (σ1 : cS) (H : Heap) (locs : List Loc), K σ1 = some z → CI g A s σ1 H locs → W p l e R s m args below meth c H locs (H.size - s.heap.size) (hsl H - hsl s.heap) Q (F0 m (pc + 3) ls rest)) : W p l e R s m args below meth c H locs (H.size - s.heap.size) (hsl H - hsl s.heap) Q (F0 m pc ls (v :: va_rf r :: rest)) := by
  obtain ⟨a, fs, rfl, g1, g2, g3, g4⟩ := pO_s h
  have hap := va_apart (own := own) C.t hin ty0 hty hnm hw.1 hc
  obtain ⟨r0, h1, cell, q1, q2, q3, q4⟩ := (hI.1.2.2.2.2.1 a _ g1).obj h60
  have hr : r0 = (Cn, T, N) := Option.some.inj (h1.symm.trans hc)
  subst hr
  obtain ⟨hS, hfc, kC, hkC, hkind⟩ := hw.1.1 ci _ hc
  obtain ⟨cf, kf, fi, f, hi, hsl0⟩ := hS k hk
  have hst := (u_facts hfc hkC (u_lays C.t hin hk) hi).1
  have fin : ∀ H1 : Heap, H1[a]? = some (cell.setSlot f.slot v) → H1.size = H.size → (∀ q : Nat, q ≠ a → H1[q]? = H[q]?) → CI g A s (cU σ a (.inr (ci, fs.set k v))) H1 (locs ++ [⟨a, f.slot⟩]) := by
    intro H1 e1 e2 e3
    refine hI.write g3 q1 g1 (cCell.of ⟨_, hc, t_OB.to (V := updV (vp_V fs) k v) ⟨cell.setSlot (g.1.2 ci k) v, by rw [hsl0] at e1; exact e1, q2, q3, t_set q4 hap hk v⟩ (fun j _ => vp_updV_set g2 v j)⟩ h60) e1 e2 e3
  have go : ∀ H1 : Heap, H1[a]? = some (cell.setSlot f.slot v) → H1.size = H.size → (∀ q : Nat, q ≠ a → H1[q]? = H[q]?) → W p l e R s m args below meth c H1 (locs ++ [⟨a, f.slot⟩]) (H.size - s.heap.size) (hsl H - hsl s.heap) Q (F0 m (pc + 3) ls rest) := by
    intro H1 e1 e2 e3
    have := kk _ H1 _ g4 (fin H1 e1 e2 e3)
    rw [e2, hsl_set q1 e1 e2 e3] at this
    exact this
  have hlay := C.t _ (hin _ (u_in_lay hk))
  unfold u_lay at hlay
  rcases hfin with hf | ⟨hf, hf2, hf3⟩
  · rw [if_neg (by rw [hf]; decide)] at hlay
    have h6 := u_store hfc hkC hkind hlay hi hd hn hfit
    exact W.putK C.x C.b (f := f) ⟨C.o, hlink, ⟨_, _, _, hsame _ hi⟩, hst⟩ (by rw [q2]; exact h6) q1 q3 (by rw [hsl0]; exact k2_hasslot (q4 k hk)) rfl rfl hdg go
  · rw [if_pos hf] at hlay
    have hcf : m.cls = cf := by
      obtain ⟨_, _, c', _, _, _, -, -, hf', -, -, -, hown2, -⟩ := Cond.laysFinal_spec hlay
      have e1 : c' = cf := by have := hi.symm.trans hf'; simp at this; exact this.1.symm
      rw [hf2] at hown2
      rw [← e1]; exact Option.some.inj (C.o.symm.trans hown2)
    have h6 := u_fits hfc hkC hkind (Or.inr hlay) hi hd hn hfit
    exact W.putFinK C.x C.b C.o hlink (hsame _ hi) hst hcf hf3 (by rw [q2]; exact h6) q1 q3 (by rw [hsl0]; exact k2_hasslot (q4 k hk)) rfl rfl hdg go
/-- a new object -/
theorem cw_new {β : Type} {K : Nat → cS → Option β} {z : β} {fs : List Value} {Cn : String} {T : u_T} {N index : Nat} (ci : Nat) (C : CX p m meth c s args cc nL ret own) (hw : WKc g A s s.heap) (hI : CI g A s σ H locs) (hRc : g.2.2.1 3 - s.heap.size ≤ R.cells) (hRs : g.2.2.1 4 - hsl s.heap ≤ R.slots) (h : nO σ ci N fs K = some z) (h60 : ci < 59) (hc : ccl[ci]? = some (Cn, T, N)) (hin : ∀ w ∈ u_ws Cn T N, w ∈ lw_all) (ty0 : Nat → FieldType) (hty : ∀ k, k < N → parseFieldDescriptor (T k).2.2.1 = some (ty0 k)) (hfs : ∀ j, j < N → defaultValue (ty0 j) = vp_V fs j)
    (hcl : Cond.classLink own index Cn ∈ lw_all) (hinst : Cond.instantiable Cn N ∈ lw_all) (hini : Cond.initialized Cn ∈ lw_all) (hdg : decode cc pc = .ok (.new index, 3))
    (kk : ∀ (q : Nat) (σ1 : cS) (H : Heap) (locs : List Loc), K q σ1 = some z → CI g A s σ1 H locs → W p l e R s m args below meth c H locs (H.size - s.heap.size) (hsl H - hsl s.heap) Q (F0 m (pc + 3) ls (.ref q :: rest))) : W p l e R s m args below meth c H locs (H.size - s.heap.size) (hsl H - hsl s.heap) Q (F0 m pc ls rest) := by
  obtain ⟨hb, hk⟩ := nO_s h
  obtain ⟨hP, hS, hsl1⟩ := hI
  obtain ⟨p0, p1, p2, p3, -⟩ := id hP
  have hKn := hw.1.1 ci _ hc
  have b3 := p3 3 (by decide)
  have b4 := p3 4 (by decide)
  have s1 := hS.1
  refine W.newc C.x C.b C.o (C.t _ hcl) (C.t _ hinst) (C.t _ hini) rfl hdg (by omega) (by omega) fun cC kC f1 f2 f3 f4 => ?_
  have ec : cC = g.1.1 ci := Option.some.inj (f1.symm.trans hKn.2.1)
  subst ec
  have hnew : CI g A s (cN σ (.inr (ci, fs)) N) (H.push { cls := g.1.1 ci, slots := kC.instanceTypes.map defaultValue, vm := .none }) locs := by
    refine ⟨hP.new (by simpa using f4) hb (cCell.of ⟨_, hc, (u_born ty0 C.t hin hKn f2 (by rw [← p0]; simp [blank]) hty).to hfs⟩ h60), ⟨by simp; omega, fun q h1 h2 => ?_, hS.2.2⟩, by rw [hsl_push]; omega⟩
    rw [Array.getElem?_push, if_neg (by omega)]
    exact hS.2.1 q h1 h2
  have := kk _ _ _ _ hk hnew
  rw [hsl_push, Array.size_push] at this
  rw [← p0] at this
  have e1 : (kC.instanceTypes.map defaultValue).size = N := by simpa using f4
  have e2 : H.size + 1 - s.heap.size = H.size - s.heap.size + 1 := by omega
  have e3 : hsl H + N - hsl s.heap = hsl H - hsl s.heap + N := by omega
  dsimp only at this
  rw [e1, e2, e3] at this
  exact this
/-- arrays -/
theorem cTy_at (g : cG) {kd : Nat} (h : kd < 6) : ∃ ty, (cTy g)[kd]? = some (g.2.1 kd, ty) := by
  match kd, h with
  | 0, _ => exact ⟨_, rfl⟩
  | 1, _ => exact ⟨_, rfl⟩
  | 2, _ => exact ⟨_, rfl⟩
  | 3, _ => exact ⟨_, rfl⟩
  | 4, _ => exact ⟨_, rfl⟩
  | 5, _ => exact ⟨_, rfl⟩
theorem cTy_r (g : cG) {kd : Nat} (h : 2 ≤ kd ∧ kd < 5) : (cTy g)[kd]? = some (g.2.1 kd, .object (elN kd)) := by
  match kd, h with
  | 0, h => exact absurd h.1 (by decide)
  | 1, h => exact absurd h.1 (by decide)
  | 2, _ => rfl
  | 3, _ => rfl
  | 4, _ => rfl
  | k + 5, h => exact absurd h.2 (by omega)
theorem cw_aL {β : Type} {K : Int32 → Option β} {z : β} {r : Option Nat} (C : CX p m meth c s args cc nL ret own) (hw : WKc g A s s.heap) (hI : CI g A s σ H locs) (h : aL σ r K = some z) (hdg : decode cc pc = .ok (.arraylength, 1))
    (kk : ∀ x : Int32, K x = some z → W p l e R s m args below meth c H locs cells slots Q (F0 m (pc + 1) ls (.int x :: rest))) : W p l e R s m args below meth c H locs cells slots Q (F0 m pc ls (va_rf r :: rest)) := by
  obtain ⟨a, kd, x, rfl, h1, h2, h3⟩ := aL_s h
  obtain ⟨ty, hty⟩ := cTy_at g h2
  exact va_alen (D := g.1) (cl := ccl) (ws := [(a, .inl (g.2.1 kd, x))]) C.x C.b hw.1 (va_P1 (show va_at g.1 ccl (a, .inl (g.2.1 kd, x)) H from hI.1.2.2.2.2.1 a _ h1)) 0 kd rfl hty rfl hdg (kk _ h3)
theorem cw_ild {β : Type} {K : Int32 → Option β} {z : β} {r : Option Nat} {i : Int32} (C : CX p m meth c s args cc nL ret own) (hw : WKc g A s s.heap) (hI : CI g A s σ H locs) (h : aI σ r 0 i K = some z) (hdg : decode cc pc = .ok (.iaload, 1))
    (kk : ∀ x : Int32, K x = some z → W p l e R s m args below meth c H locs cells slots Q (F0 m (pc + 1) ls (.int x :: rest))) : W p l e R s m args below meth c H locs cells slots Q (F0 m pc ls (.int i :: va_rf r :: rest)) := by
  obtain ⟨a, n, f, rfl, h1, h2, h3⟩ := aI_s h
  exact va_iald (D := g.1) (cl := ccl) (ws := [(a, .inl (g.2.1 0, n, .inl f))]) C.x C.b hw.1 (va_P1 (show va_at g.1 ccl (a, .inl (g.2.1 0, n, .inl f)) H from hI.1.2.2.2.2.1 a _ h1)) 0 0 rfl rfl h2 hdg (kk _ h3)
theorem cw_bld {β : Type} {K : Int32 → Option β} {z : β} {r : Option Nat} {i : Int32} (C : CX p m meth c s args cc nL ret own) (hw : WKc g A s s.heap) (hI : CI g A s σ H locs) (h : aI σ r 1 i K = some z) (hdg : decode cc pc = .ok (.baload, 1))
    (kk : ∀ x : Int32, K x = some z → W p l e R s m args below meth c H locs cells slots Q (F0 m (pc + 1) ls (.int x :: rest))) : W p l e R s m args below meth c H locs cells slots Q (F0 m pc ls (.int i :: va_rf r :: rest)) := by
  obtain ⟨a, n, f, rfl, h1, h2, h3⟩ := aI_s h
  exact va_bald (D := g.1) (cl := ccl) (ws := [(a, .inl (g.2.1 1, n, .inl f))]) C.x C.b hw.1 (va_P1 (show va_at g.1 ccl (a, .inl (g.2.1 1, n, .inl f)) H from hI.1.2.2.2.2.1 a _ h1)) 0 1 rfl rfl h2 hdg (kk _ h3)
theorem cw_rld {β : Type} {K : Option Nat → Option β} {z : β} {r : Option Nat} {i : Int32} (C : CX p m meth c s args cc nL ret own) (hw : WKc g A s s.heap) (hI : CI g A s σ H locs) (h : aR σ r i K = some z) (hdg : decode cc pc = .ok (.aaload, 1))
    (kk : ∀ x : Option Nat, K x = some z → W p l e R s m args below meth c H locs cells slots Q (F0 m (pc + 1) ls (va_rf x :: rest))) : W p l e R s m args below meth c H locs cells slots Q (F0 m pc ls (.int i :: va_rf r :: rest)) := by
  obtain ⟨a, kd, n, f, rfl, h1, hk, h2, h3⟩ := aR_s h
  exact va_aldq (D := g.1) (cl := ccl) (ws := [(a, .inl (g.2.1 kd, n, .inr (.inr (.inr (.inr f)))))]) C.x C.b hw.1 (va_P1 (show va_at g.1 ccl (a, .inl (g.2.1 kd, n, .inr (.inr (.inr (.inr f))))) H from hI.1.2.2.2.2.1 a _ h1)) 0 kd rfl (cTy_r g hk) h2 hdg (kk _ h3)
theorem cw_ist {β : Type} {K : cS → Option β} {z : β} {r : Option Nat} {i x : Int32} (C : CX p m meth c s args cc nL ret own) (hw : WKc g A s s.heap) (hI : CI g A s σ H locs) (h : sI σ r 0 i x K = some z) (hdg : decode cc pc = .ok (.iastore, 1))
    (kk : ∀ (σ1 : cS) (H : Heap) (locs : List Loc), K σ1 = some z → CI g A s σ1 H locs → W p l e R s m args below meth c H locs (H.size - s.heap.size) (hsl H - hsl s.heap) Q (F0 m (pc + 1) ls rest)) : W p l e R s m args below meth c H locs (H.size - s.heap.size) (hsl H - hsl s.heap) Q (F0 m pc ls (.int x :: .int i :: va_rf r :: rest)) := by
  obtain ⟨a, n, f, rfl, h1, h2, h3, h4⟩ := sI_s h
  have h0 : H[a]? = some (vp_cell (g.2.1 0) (n, .inl f)) := hI.1.2.2.2.2.1 a _ h1
  refine W.iast C.x C.b h0 ((hw.1.2 0 _ rfl).1 n (fun j => .int (f j))) (fun q => by cases q) (by show ¬ (i < 0 ∨ (arrV _ _ _).slots.size ≤ _); rw [arrV_size]; exact h2) rfl rfl hdg fun H1 e1 z1 oq => ?_
  have e2 : vp_cell (g.2.1 0) (n, .inl (upd f i.toNatClampNeg x)) = (vp_cell (g.2.1 0) (n, .inl f)).setSlot i.toNatClampNeg (.int x) := by
    rw [vp_cell_i, vp_cell_i, arrV_store]
    congr 1
    funext q
    by_cases hq : q = i.toNatClampNeg
    · subst hq; simp [updV, upd]
    · simp [updV, upd, hq]
  have := kk _ H1 _ h4 (hI.write h3 h0 h1 (show H1[a]? = some (vp_cell (g.2.1 0) (n, .inl (upd f i.toNatClampNeg x))) by rw [e1, e2]) e1 z1 oq)
  rw [z1, hsl_set h0 e1 z1 oq] at this
  exact this
theorem cw_bst {β : Type} {K : cS → Option β} {z : β} {r : Option Nat} {i x : Int32} (C : CX p m meth c s args cc nL ret own) (hw : WKc g A s s.heap) (hI : CI g A s σ H locs) (h : sI σ r 1 i (vp_nar .byte x) K = some z) (hdg : decode cc pc = .ok (.bastore, 1))
    (kk : ∀ (σ1 : cS) (H : Heap) (locs : List Loc), K σ1 = some z → CI g A s σ1 H locs → W p l e R s m args below meth c H locs (H.size - s.heap.size) (hsl H - hsl s.heap) Q (F0 m (pc + 1) ls rest)) : W p l e R s m args below meth c H locs (H.size - s.heap.size) (hsl H - hsl s.heap) Q (F0 m pc ls (.int x :: .int i :: va_rf r :: rest)) := by
  obtain ⟨a, n, f, rfl, h1, h2, h3, h4⟩ := sI_s h
  have h0 : H[a]? = some (vp_cell (g.2.1 1) (n, .inl f)) := hI.1.2.2.2.2.1 a _ h1
  refine W.bast C.x C.b h0 ((hw.1.2 1 _ rfl).1 n (fun j => .int (f j))) (fun q => by cases q) (by show ¬ (i < 0 ∨ (arrV _ _ _).slots.size ≤ _); rw [arrV_size]; exact h2) rfl rfl hdg fun H1 e1 z1 oq => ?_
  have e2 : H1[a]? = some (vp_cell (g.2.1 1) (n, .inl (upd f i.toNatClampNeg (vp_nar .byte x)))) := by
    rw [e1, vp_cell_i, vp_cell_i, arrV_store]
    congr 2
    funext q
    by_cases hq : q = i.toNatClampNeg
    · subst hq
      simp [updV, upd, vp_nar]
      try rfl
    · simp [updV, upd, hq]
  have := kk _ H1 _ h4 (hI.write h3 h0 h1 (show cCell g a (.inl (1, n, .inl (upd f i.toNatClampNeg (vp_nar .byte x)))) H1 from e2) e1 z1 oq)
  rw [z1, hsl_set h0 e1 z1 oq] at this
  exact this
theorem cw_rst {β : Type} {K : cS → Option β} {z : β} {r x : Option Nat} {i : Int32} (C : CX p m meth c s args cc nL ret own) (hw : WKc g A s s.heap) (hI : CI g A s σ H locs) (h : sR σ r i x K = some z) (hdg : decode cc pc = .ok (.aastore, 1))
    (kk : ∀ (σ1 : cS) (H : Heap) (locs : List Loc), K σ1 = some z → CI g A s σ1 H locs → W p l e R s m args below meth c H locs (H.size - s.heap.size) (hsl H - hsl s.heap) Q (F0 m (pc + 1) ls rest)) : W p l e R s m args below meth c H locs (H.size - s.heap.size) (hsl H - hsl s.heap) Q (F0 m pc ls (va_rf x :: .int i :: va_rf r :: rest)) := by
  obtain ⟨a, kd, n, f, rfl, h1, hv, hkd, h2, h3, h4⟩ := sR_s h
  have h0 : H[a]? = some (vp_cell (g.2.1 kd) (n, .inr (.inr (.inr (.inr f))))) := hI.1.2.2.2.2.1 a _ h1
  have hlt : i.toNatClampNeg < n := Nat.not_le.mp fun q => h2 (Or.inr q)
  have hn0 : ¬ i < 0 := fun q => h2 (Or.inl q)
  have go : ∀ H1 : Heap, H1[a]? = some ((vp_cell (g.2.1 kd) (n, .inr (.inr (.inr (.inr f))))).setSlot i.toNatClampNeg (va_rf x)) → H1.size = H.size → (∀ q : Nat, q ≠ a → H1[q]? = H[q]?) → W p l e R s m args below meth c H1 (locs ++ [⟨a, i.toNatClampNeg⟩]) (H.size - s.heap.size) (hsl H - hsl s.heap) Q (F0 m (pc + 1) ls rest) := by
    intro H1 e1 z1 oq
    have e2 : H1[a]? = some (vp_cell (g.2.1 kd) (n, .inr (.inr (.inr (.inr (va_up f i.toNatClampNeg x)))))) := by
      rw [e1, vp_cell_q, vp_cell_q, arrV_store]
      congr 2
      funext q
      by_cases hq : q = i.toNatClampNeg
      · subst hq
        simp [updV, va_up]
      · simp [updV, va_up, hq]
    have := kk _ H1 _ h4 (hI.write h3 h0 h1 (show cCell g a (.inl (kd, n, .inr (.inr (.inr (.inr (va_up f i.toNatClampNeg x)))))) H1 from e2) e1 z1 oq)
    rw [z1, hsl_set h0 e1 z1 oq] at this
    exact this
  have hT := hw.1.2 kd _ (cTy_r g hkd)
  cases x with
  | none => exact va_WaastN (C := elN kd) C.x C.b h0 (hT.1 n (fun j => va_rf (f j))) (fun h => by cases h) (by show ¬ (i < 0 ∨ (arrV _ _ _).slots.size ≤ _); rw [arrV_size]; exact h2) rfl rfl hdg go
  | some b =>
    unfold okV at hv
    dsimp only at hv
    split at hv
    · next o ho =>
      have hci : o.1 < 14 := by
        unfold okS at hv
        split at hv
        · exact of_decide_eq_true hv
        · split at hv
          · have := of_decide_eq_true hv; omega
          · split at hv
            · have := of_decide_eq_true hv; omega
            · cases hv
      obtain ⟨q, hq⟩ : ∃ q, ccl[o.1]? = some q := ⟨_, List.getElem?_eq_getElem (show o.1 < ccl.length from Nat.lt_succ_of_lt hci)⟩
      have hcast := va_Nw.use (A := args) rfl (hw.2.2.1 kd o.1 q hkd.1 hkd.2 hv hq)
      obtain ⟨c0, t0, f1, f2, f3⟩ := Cond.castable_spec hcast
      obtain ⟨r', hr', cellV, g1, g2, g3, -⟩ := (hI.1.2.2.2.2.1 b _ ho).obj (by omega)
      cases Option.some.inj (hr'.symm.trans hq)
      have hcls := (hw.1.1 o.1 q hq).2
      obtain ⟨kA, comp, k1, k2, k3, -⟩ := hT.2
      obtain ⟨kC, hkC, -⟩ := hcls.2
      cases Option.some.inj (f1.symm.trans hcls.1)
      cases Option.some.inj (f2.symm.trans k3)
      obtain ⟨kcomp, hkcomp, -⟩ := Vm.findClass_spec k3
      exact W.aast C.x C.b h0 (fun q h => by cases h) (fun h => by cases h) k1 k2 rfl hkcomp ⟨hn0, by show _ < (arrV _ _ _).slots.size; rw [arrV_size]; exact hlt⟩ g1 (fun q h => by rw [g3] at h; cases h) (by rw [g2]; exact hkC) (by rw [g2]; exact f3) rfl rfl hdg go
    · cases hv
end CW1
