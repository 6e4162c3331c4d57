/-! THE CLASS AND THE JDK AS PURE FUNCTIONS: printed by gencl.py out of their bytecode -/
set_option maxRecDepth 100000
abbrev DPC : Nat := 32

def HF_holds (l : Launch) (g : cG) (A : Nat → Prop) (F : Nat → Option Nat → cS → Option (Int32 × cS)) (fF lF : Nat) : Prop := ∀ (a : Nat) (x1 : Option Nat) (σ : cS) (v : Int32) (σ1 : cS), F a x1 σ = some (v, σ1) → (isO σ a 4 = true ∧ Met l yX7_holds (ws_ yX7_holds cX7_holds 2 (Option.some Jvm.ClassFile.FieldType.boolean)) ({ frames := fF, cells := σ.2 3 - σ.2 0, slots := σ.2 4 - σ.2 1, locals := lF }) (CPc g A [.ref a, va_rf x1] σ) (CQ g A (some (.int v)) σ1) (σ.2 3 - σ.2 0) (σ.2 4 - σ.2 1) A) ∨ (isO σ a 5 = true ∧ Met l yX8_holds (ws_ yX8_holds cX8_holds 4 (Option.some Jvm.ClassFile.FieldType.boolean)) ({ frames := fF, cells := σ.2 3 - σ.2 0, slots := σ.2 4 - σ.2 1, locals := lF }) (CPc g A [.ref a, va_rf x1] σ) (CQ g A (some (.int v)) σ1) (σ.2 3 - σ.2 0) (σ.2 4 - σ.2 1) A) ∨ (isO σ a 6 = true ∧ Met l yX5_holds (ws_ yX5_holds cX5_holds 2 (Option.some Jvm.ClassFile.FieldType.boolean)) ({ frames := fF, cells := σ.2 3 - σ.2 0, slots := σ.2 4 - σ.2 1, locals := lF }) (CPc g A [.ref a, va_rf x1] σ) (CQ g A (some (.int v)) σ1) (σ.2 3 - σ.2 0) (σ.2 4 - σ.2 1) A) ∨ (isO σ a 7 = true ∧ Met l yX6_holds (ws_ yX6_holds cX6_holds 2 (Option.some Jvm.ClassFile.FieldType.boolean)) ({ frames := fF, cells := σ.2 3 - σ.2 0, slots := σ.2 4 - σ.2 1, locals := lF }) (CPc g A [.ref a, va_rf x1] σ) (CQ g A (some (.int v)) σ1) (σ.2 3 - σ.2 0) (σ.2 4 - σ.2 1) A)

def HF_write (l : Launch) (g : cG) (A : Nat → Prop) (F : Nat → Option Nat → cS → Option (Int32 × cS)) (fF lF : Nat) : Prop := ∀ (a : Nat) (x1 : Option Nat) (σ : cS) (v : Int32) (σ1 : cS), F a x1 σ = some (v, σ1) → (isO σ a 4 = true ∧ Met l yX7_write (ws_ yX7_write cX7_write 2 (Option.none : Option Jvm.ClassFile.FieldType)) ({ frames := fF, cells := σ.2 3 - σ.2 0, slots := σ.2 4 - σ.2 1, locals := lF }) (CPc g A [.ref a, va_rf x1] σ) (CQ g A none σ1) (σ.2 3 - σ.2 0) (σ.2 4 - σ.2 1) A) ∨ (isO σ a 5 = true ∧ Met l yX8_write (ws_ yX8_write cX8_write 3 (Option.none : Option Jvm.ClassFile.FieldType)) ({ frames := fF, cells := σ.2 3 - σ.2 0, slots := σ.2 4 - σ.2 1, locals := lF }) (CPc g A [.ref a, va_rf x1] σ) (CQ g A none σ1) (σ.2 3 - σ.2 0) (σ.2 4 - σ.2 1) A) ∨ (isO σ a 6 = true ∧ Met l yX5_write (ws_ yX5_write cX5_write 2 (Option.none : Option Jvm.ClassFile.FieldType)) ({ frames := fF, cells := σ.2 3 - σ.2 0, slots := σ.2 4 - σ.2 1, locals := lF }) (CPc g A [.ref a, va_rf x1] σ) (CQ g A none σ1) (σ.2 3 - σ.2 0) (σ.2 4 - σ.2 1) A) ∨ (isO σ a 7 = true ∧ Met l yX6_write (ws_ yX6_write cX6_write 2 (Option.none : Option Jvm.ClassFile.FieldType)) ({ frames := fF, cells := σ.2 3 - σ.2 0, slots := σ.2 4 - σ.2 1, locals := lF }) (CPc g A [.ref a, va_rf x1] σ) (CQ g A none σ1) (σ.2 3 - σ.2 0) (σ.2 4 - σ.2 1) A)

def HF_factor (l : Launch) (g : cG) (A : Nat → Prop) (F : Nat → Int32 → cS → Option (cX (Option Nat) × cS)) (fF lF : Nat) : Prop := ∀ (o : Nat) (x1 : Int32) (σ : cS) (z : cX (Option Nat) × cS), F o x1 σ = some z → MetX l yX2_factor (ws_ yX2_factor cX2_factor 3 (Option.some (Jvm.ClassFile.FieldType.object "HeirCases$Guard"))) ({ frames := fF, cells := σ.2 3 - σ.2 0, slots := σ.2 4 - σ.2 1, locals := lF }) g A [.ref o, .int x1] σ (fun v => some (va_rf v)) z (σ.2 3 - σ.2 0) (σ.2 4 - σ.2 1)

def m_J0_init (o : Nat) (σ : cS) : Option (Int32 × cS) :=
  some ((0 : Int32), σ)

def m_J17_init (o : Nat) (σ : cS) : Option (Int32 × cS) :=
  bd (m_J0_init o σ) fun _ σ_1 =>
  pO σ_1 (some o) 9 0 (.int 0) fun σ_2 =>
  some ((0 : Int32), σ_2)

def b_J7_checkIndex_9 : Int32 → Int32 → Option Nat → cS → Option (Int32 × cS) := fun x0 x1 x2 σ =>
  none

def m_J7_checkIndex (x0 : Int32) (x1 : Int32) (x2 : Option Nat) (σ : cS) : Option (Int32 × cS) :=
  if x0 < 0 then
    b_J7_checkIndex_9 x0 x1 x2 σ
  else
    if x0 < x1 then
      some (x0, σ)
    else
      b_J7_checkIndex_9 x0 x1 x2 σ

def m_J23_checkIndex (x0 : Int32) (x1 : Int32) (σ : cS) : Option (Int32 × cS) :=
  bd (m_J7_checkIndex x0 x1 none σ) fun v_1 σ_2 =>
  some (v_1, σ_2)

def b_J15_newLength_21 : Int32 → Int32 → cS → Option (Int32 × cS) := fun x0 x1 σ =>
  none

def m_J15_newLength (x0 : Int32) (x1 : Int32) (x2 : Int32) (σ : cS) : Option (Int32 × cS) :=
  lt_ (if x1 < x2 then x2 else x1) fun u_1 =>
  lt_ (x0 + u_1) fun x3_2 =>
  if x3_2 ≤ 0 then
    b_J15_newLength_21 x0 x1 σ
  else
    if 2147483639 < x3_2 then
      b_J15_newLength_21 x0 x1 σ
    else
      some (x3_2, σ)

def m_J18_init (o : Nat) (σ : cS) : Option (Int32 × cS) :=
  bd (m_J17_init o σ) fun _ σ_1 =>
  pO σ_1 (some o) 9 1 (va_rf (some (σ_1.2 15))) fun σ_2 =>
  some ((0 : Int32), σ_2)

def m_J18_size (o : Nat) (σ : cS) : Option (Int32 × cS) :=
  gI σ (some o) 9 2 fun v_1 =>
  some (v_1, σ)

def b_J9_copyOf_3_24 : Option Nat → Int32 → Option Nat → cS → Option (Option Nat × cS) := fun x0 x1 s0 σ =>
  aL σ x0 fun v_1 =>
  lt_ (if x1 < v_1 then x1 else v_1) fun u_2 =>
  cpR σ x0 0 s0 0 u_2 fun σ_3 =>
  some (s0, σ_3)

def m_J9_copyOf_3 (x0 : Option Nat) (x1 : Int32) (x2 : Option Nat) (σ : cS) : Option (Option Nat × cS) :=
  if x2 = (some (σ.2 19)) then
    nA σ 2 x1 (.inr (.inr (.inr (.inr (fun _ => none))))) fun q_2 σ_3 =>
    b_J9_copyOf_3_24 x0 x1 (some q_2) σ_3
  else
    none

def m_J9_copyOf_2 (x0 : Option Nat) (x1 : Int32) (σ : cS) : Option (Option Nat × cS) :=
  gcl σ x0 fun v_1 =>
  bd (m_J9_copyOf_3 x0 x1 v_1 σ) fun v_2 σ_3 =>
  some (v_2, σ_3)

def b_J18_grow_2_20 (o : Nat) : Int32 → Int32 → cS → Option (Option Nat × cS) := fun x1 x2 σ =>
  bd (m_J15_newLength x2 (x1 - x2) (x2 >>> (1 &&& 31)) σ) fun v_1 σ_2 =>
  gR σ_2 (some o) 9 1 fun v_3 =>
  bd (m_J9_copyOf_2 v_3 v_1 σ_2) fun v_4 σ_5 =>
  pO σ_5 (some o) 9 1 (va_rf v_4) fun σ_6 =>
  some (v_4, σ_6)

def m_J18_grow_2 (o : Nat) (x1 : Int32) (σ : cS) : Option (Option Nat × cS) :=
  gR σ (some o) 9 1 fun v_1 =>
  aL σ v_1 fun v_2 =>
  if 0 < v_2 then
    b_J18_grow_2_20 o x1 v_2 σ
  else
    gR σ (some o) 9 1 fun v_4 =>
    if v_4 = (some (σ.2 15)) then
      lt_ (if 10 < x1 then x1 else 10) fun u_6 =>
      nA σ 2 u_6 (.inr (.inr (.inr (.inr (fun _ => none))))) fun q_7 σ_8 =>
      pO σ_8 (some o) 9 1 (va_rf (some q_7)) fun σ_9 =>
      some (some q_7, σ_9)
    else
      b_J18_grow_2_20 o x1 v_2 σ

def m_J18_grow (o : Nat) (σ : cS) : Option (Option Nat × cS) :=
  gI σ (some o) 9 2 fun v_1 =>
  nn σ (some o) 9 fun a_4 => bd (m_J18_grow_2 a_4 (v_1 + 1) σ) fun v_2 σ_3 =>
  some (v_2, σ_3)

def b_J18_add_2_11 (o : Nat) : Option Nat → Option Nat → Int32 → cS → Option (Int32 × cS) := fun x1 x2 x3 σ =>
  sR σ x2 x3 x1 fun σ_1 =>
  pO σ_1 (some o) 9 2 (.int (x3 + 1)) fun σ_2 =>
  some ((0 : Int32), σ_2)

def m_J18_add_2 (o : Nat) (x1 : Option Nat) (x2 : Option Nat) (x3 : Int32) (σ : cS) : Option (Int32 × cS) :=
  aL σ x2 fun v_1 =>
  if x3 = v_1 then
    nn σ (some o) 9 fun a_5 => bd (m_J18_grow a_5 σ) fun v_3 σ_4 =>
    b_J18_add_2_11 o x1 v_3 x3 σ_4
  else
    b_J18_add_2_11 o x1 x2 x3 σ

def m_J18_add (o : Nat) (x1 : Option Nat) (σ : cS) : Option (Int32 × cS) :=
  gI σ (some o) 9 0 fun v_1 =>
  pO σ (some o) 9 0 (.int (v_1 + 1)) fun σ_2 =>
  gR σ_2 (some o) 9 1 fun v_3 =>
  gI σ_2 (some o) 9 2 fun v_4 =>
  nn σ_2 (some o) 9 fun a_6 => bd (m_J18_add_2 a_6 x1 v_3 v_4 σ_2) fun _ σ_5 =>
  rz 1 σ_5

def m_J18_elementData (o : Nat) (x1 : Int32) (σ : cS) : Option (Option Nat × cS) :=
  gR σ (some o) 9 1 fun v_1 =>
  aR σ v_1 x1 fun v_2 =>
  some (v_2, σ)

def m_J18_get (o : Nat) (x1 : Int32) (σ : cS) : Option (Option Nat × cS) :=
  gI σ (some o) 9 2 fun v_1 =>
  bd (m_J23_checkIndex x1 v_1 σ) fun v_2 σ_3 =>
  nn σ_3 (some o) 9 fun a_6 => bd (m_J18_elementData a_6 x1 σ_3) fun v_4 σ_5 =>
  some (v_4, σ_5)

def b_J18_fastRemove_34 (o : Nat) : Option Nat → Int32 → cS → Option (Int32 × cS) := fun x1 x3 σ =>
  pO σ (some o) 9 2 (.int x3) fun σ_1 =>
  sR σ_1 x1 x3 none fun σ_2 =>
  some ((0 : Int32), σ_2)

def m_J18_fastRemove (o : Nat) (x1 : Option Nat) (x2 : Int32) (σ : cS) : Option (Int32 × cS) :=
  gI σ (some o) 9 0 fun v_1 =>
  pO σ (some o) 9 0 (.int (v_1 + 1)) fun σ_2 =>
  gI σ_2 (some o) 9 2 fun v_3 =>
  lt_ (v_3 - 1) fun u_4 =>
  if u_4 ≤ x2 then
    b_J18_fastRemove_34 o x1 u_4 σ_2
  else
    cpR σ_2 x1 (x2 + 1) x1 x2 (u_4 - x2) fun σ_6 =>
    b_J18_fastRemove_34 o x1 u_4 σ_6

def m_J18_remove (o : Nat) (x1 : Int32) (σ : cS) : Option (Option Nat × cS) :=
  gI σ (some o) 9 2 fun v_1 =>
  bd (m_J23_checkIndex x1 v_1 σ) fun v_2 σ_3 =>
  gR σ_3 (some o) 9 1 fun v_4 =>
  aR σ_3 v_4 x1 fun v_5 =>
  nn σ_3 (some o) 9 fun a_7 => bd (m_J18_fastRemove a_7 v_4 x1 σ_3) fun _ σ_6 =>
  some (v_5, σ_6)

def b_J14_numberOfTrailingZeros_62 : Int32 → Int32 → cS → Option (Int32 × cS) := fun x0 x1 σ =>
  if x0 ≤ 4 then
    some (x1 + ((x0.toUInt32 >>> (Int32.toUInt32 1 &&& Int32.toUInt32 31)).toInt32), σ)
  else
    lt_ (x1 + 2) fun x1_2 =>
    lt_ ((x0.toUInt32 >>> (Int32.toUInt32 2 &&& Int32.toUInt32 31)).toInt32) fun x0_3 =>
    some (x1_2 + ((x0_3.toUInt32 >>> (Int32.toUInt32 1 &&& Int32.toUInt32 31)).toInt32), σ)

def b_J14_numberOfTrailingZeros_49 : Int32 → Int32 → cS → Option (Int32 × cS) := fun x0 x1 σ =>
  if x0 ≤ 16 then
    b_J14_numberOfTrailingZeros_62 x0 x1 σ
  else
    lt_ (x1 + 4) fun x1_2 =>
    lt_ ((x0.toUInt32 >>> (Int32.toUInt32 4 &&& Int32.toUInt32 31)).toInt32) fun x0_3 =>
    b_J14_numberOfTrailingZeros_62 x0_3 x1_2 σ

def b_J14_numberOfTrailingZeros_34 : Int32 → Int32 → cS → Option (Int32 × cS) := fun x0 x1 σ =>
  if x0 ≤ 256 then
    b_J14_numberOfTrailingZeros_49 x0 x1 σ
  else
    lt_ (x1 + 8) fun x1_2 =>
    lt_ ((x0.toUInt32 >>> (Int32.toUInt32 8 &&& Int32.toUInt32 31)).toInt32) fun x0_3 =>
    b_J14_numberOfTrailingZeros_49 x0_3 x1_2 σ

def m_J14_numberOfTrailingZeros (x0 : Int32) (σ : cS) : Option (Int32 × cS) :=
  lt_ ((x0 ^^^ (-1)) &&& (x0 - 1)) fun x0_1 =>
  if 0 < x0_1 then
    if x0_1 ≤ 65536 then
      b_J14_numberOfTrailingZeros_34 x0_1 1 σ
    else
      lt_ (1 + 16) fun x1_4 =>
      lt_ ((x0_1.toUInt32 >>> (Int32.toUInt32 16 &&& Int32.toUInt32 31)).toInt32) fun x0_5 =>
      b_J14_numberOfTrailingZeros_34 x0_5 x1_4 σ
  else
    some (x0_1 &&& 32, σ)

def m_J14_bitCount (x0 : Int32) (σ : cS) : Option (Int32 × cS) :=
  lt_ (x0 - (((x0.toUInt32 >>> (Int32.toUInt32 1 &&& Int32.toUInt32 31)).toInt32) &&& 1431655765)) fun x0_1 =>
  lt_ ((x0_1 &&& 858993459) + (((x0_1.toUInt32 >>> (Int32.toUInt32 2 &&& Int32.toUInt32 31)).toInt32) &&& 858993459)) fun x0_2 =>
  lt_ ((x0_2 + ((x0_2.toUInt32 >>> (Int32.toUInt32 4 &&& Int32.toUInt32 31)).toInt32)) &&& 252645135) fun x0_3 =>
  lt_ (x0_3 + ((x0_3.toUInt32 >>> (Int32.toUInt32 8 &&& Int32.toUInt32 31)).toInt32)) fun x0_4 =>
  lt_ (x0_4 + ((x0_4.toUInt32 >>> (Int32.toUInt32 16 &&& Int32.toUInt32 31)).toInt32)) fun x0_5 =>
  some (x0_5 &&& 63, σ)

def m_J1_init (o : Nat) (σ : cS) : Option (Int32 × cS) :=
  bd (m_J0_init o σ) fun _ σ_1 =>
  nA σ_1 2 17 (.inr (.inr (.inr (.inr (fun _ => none))))) fun q_2 σ_3 =>
  pO σ_3 (some o) 10 0 (va_rf (some q_2)) fun σ_4 =>
  some ((0 : Int32), σ_4)

def b_J1_circularClear_12 : Nat → Option Nat → Int32 → Int32 → Int32 → cS → Option (Int32 × cS)
  | 0, _, _, _, _, _ => none
  | n + 1, x0, x1, x2, x3, σ =>
    if x3 ≤ x1 then
      if x3 = x2 then
        some ((0 : Int32), σ)
      else
        (b_J1_circularClear_12 n) x0 0 x2 x2 σ
    else
      sR σ x0 x1 none fun σ_3 =>
      lt_ (x1 + 1) fun x1_4 =>
      (b_J1_circularClear_12 n) x0 x1_4 x2 x3 σ_3

def m_J1_circularClear (x0 : Option Nat) (x1 : Int32) (x2 : Int32) (σ : cS) : Option (Int32 × cS) :=
  if x2 < x1 then
    aL σ x0 fun v_2 =>
    b_J1_circularClear_12 FU x0 x1 x2 v_2 σ
  else
    b_J1_circularClear_12 FU x0 x1 x2 x2 σ

def m_J1_clear (o : Nat) (σ : cS) : Option (Int32 × cS) :=
  gR σ (some o) 10 0 fun v_1 =>
  gI σ (some o) 10 1 fun v_2 =>
  gI σ (some o) 10 2 fun v_3 =>
  bd (m_J1_circularClear v_1 v_2 v_3 σ) fun _ σ_4 =>
  pO σ_4 (some o) 10 2 (.int 0) fun σ_5 =>
  pO σ_5 (some o) 10 1 (.int 0) fun σ_6 =>
  some ((0 : Int32), σ_6)

def m_J1_isEmpty (o : Nat) (σ : cS) : Option (Int32 × cS) :=
  gI σ (some o) 10 1 fun v_1 =>
  gI σ (some o) 10 2 fun v_2 =>
  if v_1 = v_2 then
    rz 1 σ
  else
    rz 0 σ

def m_J1_dec (x0 : Int32) (x1 : Int32) (σ : cS) : Option (Int32 × cS) :=
  lt_ (x0 + (-1)) fun x0_1 =>
  if 0 ≤ x0_1 then
    some (x0_1, σ)
  else
    lt_ (x1 - 1) fun x0_3 =>
    some (x0_3, σ)

def m_J1_elementAt (x0 : Option Nat) (x1 : Int32) (σ : cS) : Option (Option Nat × cS) :=
  aR σ x0 x1 fun v_1 =>
  some (v_1, σ)

def m_J1_pollLast (o : Nat) (σ : cS) : Option (Option Nat × cS) :=
  gR σ (some o) 10 0 fun v_1 =>
  gI σ (some o) 10 2 fun v_2 =>
  aL σ v_1 fun v_3 =>
  bd (m_J1_dec v_2 v_3 σ) fun v_4 σ_5 =>
  bd (m_J1_elementAt v_1 v_4 σ_5) fun v_6 σ_7 =>
  if v_6 = none then
    some (v_6, σ_7)
  else
    pO σ_7 (some o) 10 2 (.int v_4) fun σ_9 =>
    sR σ_9 v_1 v_4 none fun σ_10 =>
    some (v_6, σ_10)

def m_J1_removeLast (o : Nat) (σ : cS) : Option (Option Nat × cS) :=
  nn σ (some o) 10 fun a_3 => bd (m_J1_pollLast a_3 σ) fun v_1 σ_2 =>
  if v_1 = none then
    none
  else
    some (v_1, σ_2)

def m_J1_sub (x0 : Int32) (x1 : Int32) (x2 : Int32) (σ : cS) : Option (Int32 × cS) :=
  lt_ (x0 - x1) fun u_1 =>
  if 0 ≤ u_1 then
    some (u_1, σ)
  else
    lt_ (u_1 + x2) fun x0_3 =>
    some (x0_3, σ)

def m_J1_size (o : Nat) (σ : cS) : Option (Int32 × cS) :=
  gI σ (some o) 10 2 fun v_1 =>
  gI σ (some o) 10 1 fun v_2 =>
  gR σ (some o) 10 0 fun v_3 =>
  aL σ v_3 fun v_4 =>
  bd (m_J1_sub v_1 v_2 v_4 σ) fun v_5 σ_6 =>
  some (v_5, σ_6)

def m_J1_newCapacity (o : Nat) (x1 : Int32) (x2 : Int32) (σ : cS) : Option (Int32 × cS) :=
  gR σ (some o) 10 0 fun v_1 =>
  aL σ v_1 fun v_2 =>
  lt_ (v_2 + x1) fun u_3 =>
  if (u_3 - 2147483639) ≤ 0 then
    if x1 ≤ x2 then
      if 0 ≤ ((v_2 + x2) - 2147483639) then
        some (2147483639, σ)
      else
        some (v_2 + x2, σ)
    else
      some (u_3, σ)
  else
    if 0 ≤ u_3 then
      some (2147483647, σ)
    else
      none

def b_J1_grow_145 (o : Nat) : Nat → Option Nat → Int32 → Int32 → cS → Option (Int32 × cS)
  | 0, _, _, _, _ => none
  | n + 1, x5, x7, x8, σ =>
    if x8 ≤ x7 then
      some ((0 : Int32), σ)
    else
      sR σ x5 x7 none fun σ_2 =>
      lt_ (x7 + 1) fun x7_3 =>
      (b_J1_grow_145 o n) x5 x7_3 x8 σ_2

def b_J1_grow_96 (o : Nat) : Int32 → Int32 → Option Nat → cS → Option (Int32 × cS) := fun x2 x3 x5 σ =>
  lt_ (x3 - x2) fun x6_1 =>
  gI σ (some o) 10 1 fun v_2 =>
  gI σ (some o) 10 1 fun v_3 =>
  gI σ (some o) 10 1 fun v_4 =>
  cpR σ x5 v_2 x5 (v_3 + x6_1) (x2 - v_4) fun σ_5 =>
  gI σ_5 (some o) 10 1 fun v_6 =>
  gI σ_5 (some o) 10 1 fun v_7 =>
  lt_ (v_7 + x6_1) fun u_8 =>
  pO σ_5 (some o) 10 1 (.int u_8) fun σ_9 =>
  b_J1_grow_145 o FU x5 v_6 u_8 σ_9

def b_J1_grow_49 (o : Nat) : Int32 → Int32 → cS → Option (Int32 × cS) := fun x2 x3 σ =>
  gR σ (some o) 10 0 fun v_1 =>
  bd (m_J9_copyOf_2 v_1 x3 σ) fun v_2 σ_3 =>
  pO σ_3 (some o) 10 0 (va_rf v_2) fun σ_4 =>
  gI σ_4 (some o) 10 2 fun v_5 =>
  gI σ_4 (some o) 10 1 fun v_6 =>
  if v_5 < v_6 then
    b_J1_grow_96 o x2 x3 v_2 σ_4
  else
    gI σ_4 (some o) 10 2 fun v_8 =>
    gI σ_4 (some o) 10 1 fun v_9 =>
    if v_8 = v_9 then
      gI σ_4 (some o) 10 1 fun v_11 =>
      aR σ_4 v_2 v_11 fun v_12 =>
      if v_12 = none then
        some ((0 : Int32), σ_4)
      else
        b_J1_grow_96 o x2 x3 v_2 σ_4
    else
      some ((0 : Int32), σ_4)

def b_J1_grow_41 (o : Nat) : Int32 → Int32 → Int32 → cS → Option (Int32 × cS) := fun x1 x2 x4 σ =>
  nn σ (some o) 10 fun a_3 => bd (m_J1_newCapacity a_3 x1 x4 σ) fun v_1 σ_2 =>
  b_J1_grow_49 o x2 v_1 σ_2

def b_J1_grow_21 (o : Nat) : Int32 → Int32 → Int32 → cS → Option (Int32 × cS) := fun x1 x2 s0 σ =>
  if s0 < x1 then
    b_J1_grow_41 o x1 x2 s0 σ
  else
    lt_ (x2 + s0) fun u_2 =>
    if (u_2 - 2147483639) ≤ 0 then
      b_J1_grow_49 o x2 u_2 σ
    else
      b_J1_grow_41 o x1 x2 s0 σ

def m_J1_grow (o : Nat) (x1 : Int32) (σ : cS) : Option (Int32 × cS) :=
  gR σ (some o) 10 0 fun v_1 =>
  aL σ v_1 fun v_2 =>
  if 64 ≤ v_2 then
    b_J1_grow_21 o x1 v_2 (v_2 >>> (1 &&& 31)) σ
  else
    b_J1_grow_21 o x1 v_2 (v_2 + 2) σ

def m_J1_inc (x0 : Int32) (x1 : Int32) (σ : cS) : Option (Int32 × cS) :=
  lt_ (x0 + 1) fun x0_1 =>
  if x0_1 < x1 then
    some (x0_1, σ)
  else
    some (0, σ)

def m_J1_addLast (o : Nat) (x1 : Option Nat) (σ : cS) : Option (Int32 × cS) :=
  if x1 = none then
    none
  else
    gR σ (some o) 10 0 fun v_2 =>
    gI σ (some o) 10 2 fun v_3 =>
    sR σ v_2 v_3 x1 fun σ_4 =>
    gI σ_4 (some o) 10 1 fun v_5 =>
    gI σ_4 (some o) 10 2 fun v_6 =>
    aL σ_4 v_2 fun v_7 =>
    bd (m_J1_inc v_6 v_7 σ_4) fun v_8 σ_9 =>
    pO σ_9 (some o) 10 2 (.int v_8) fun σ_10 =>
    if v_5 = v_8 then
      nn σ_10 (some o) 10 fun a_13 => bd (m_J1_grow a_13 1 σ_10) fun _ σ_12 =>
      some ((0 : Int32), σ_12)
    else
      some ((0 : Int32), σ_10)

def m_J1_pollFirst (o : Nat) (σ : cS) : Option (Option Nat × cS) :=
  gR σ (some o) 10 0 fun v_1 =>
  gI σ (some o) 10 1 fun v_2 =>
  bd (m_J1_elementAt v_1 v_2 σ) fun v_3 σ_4 =>
  if v_3 = none then
    some (v_3, σ_4)
  else
    sR σ_4 v_1 v_2 none fun σ_6 =>
    aL σ_6 v_1 fun v_7 =>
    bd (m_J1_inc v_2 v_7 σ_6) fun v_8 σ_9 =>
    pO σ_9 (some o) 10 1 (.int v_8) fun σ_10 =>
    some (v_3, σ_10)

def m_J1_removeFirst (o : Nat) (σ : cS) : Option (Option Nat × cS) :=
  nn σ (some o) 10 fun a_3 => bd (m_J1_pollFirst a_3 σ) fun v_1 σ_2 =>
  if v_1 = none then
    none
  else
    some (v_1, σ_2)

def m_J2_init (o : Nat) (x1 : Int32) (σ : cS) : Option (Int32 × cS) :=
  if (1 : Int32) = 0 then
    none
  else
    nA σ 1 x1 (.inl (fun _ => 0)) fun q_2 σ_3 =>
    pO σ_3 (some o) 11 0 (va_rf (some q_2)) fun σ_4 =>
    gd ((0 : Int32) = 0) <|
    pO σ_4 (some o) 11 1 (.int 0) fun σ_5 =>
    some ((0 : Int32), σ_5)

def m_J4_checkIndex (x0 : Int32) (x1 : Int32) (σ : cS) : Option (Int32 × cS) :=
  bd (m_J7_checkIndex x0 x1 (opk (σ.2 9)) σ) fun v_1 σ_2 =>
  some ((0 : Int32), σ_2)

def m_J2_charAt (o : Nat) (x1 : Int32) (σ : cS) : Option (Int32 × cS) :=
  gI σ (some o) 11 1 fun v_1 =>
  gR σ (some o) 11 0 fun v_2 =>
  gI σ (some o) 11 3 fun v_3 =>
  aL σ v_2 fun v_4 =>
  lt_ (if (v_4 >>> (v_1 &&& 31)) < v_3 then (v_4 >>> (v_1 &&& 31)) else v_3) fun u_5 =>
  bd (m_J4_checkIndex x1 u_5 σ) fun _ σ_6 =>
  if v_1 = 0 then
    aI σ_6 v_2 1 x1 fun v_8 =>
    rc (((v_8 &&& 255).toUInt32 % 65536).toInt32) σ_6
  else
    none

def m_J2_newCapacity (o : Nat) (x1 : Int32) (σ : cS) : Option (Int32 × cS) :=
  gR σ (some o) 11 0 fun v_1 =>
  aL σ v_1 fun v_2 =>
  gI σ (some o) 11 1 fun v_3 =>
  lt_ (x1 <<< (v_3 &&& 31)) fun x3_4 =>
  lt_ (x3_4 - v_2) fun x4_5 =>
  gI σ (some o) 11 1 fun v_6 =>
  bd (m_J15_newLength v_2 x4_5 (v_2 + (2 <<< (v_6 &&& 31))) σ) fun v_7 σ_8 =>
  if v_7 = 2147483647 then
    none
  else
    gI σ_8 (some o) 11 1 fun v_10 =>
    some (v_7 >>> (v_10 &&& 31), σ_8)

def m_J9_copyOf (x0 : Option Nat) (x1 : Int32) (σ : cS) : Option (Option Nat × cS) :=
  aL σ x0 fun v_1 =>
  if x1 = v_1 then
    none
  else
    nA σ 1 x1 (.inl (fun _ => 0)) fun q_3 σ_4 =>
    aL σ_4 x0 fun v_5 =>
    lt_ (if x1 < v_5 then x1 else v_5) fun u_6 =>
    cpI σ_4 1 x0 0 (some q_3) 0 u_6 fun σ_7 =>
    some (some q_3, σ_7)

def m_J2_ensureCapacityInternal (o : Nat) (x1 : Int32) (σ : cS) : Option (Int32 × cS) :=
  gR σ (some o) 11 0 fun v_1 =>
  aL σ v_1 fun v_2 =>
  gI σ (some o) 11 1 fun v_3 =>
  lt_ (v_2 >>> (v_3 &&& 31)) fun x2_4 =>
  if (x1 - x2_4) ≤ 0 then
    some ((0 : Int32), σ)
  else
    gR σ (some o) 11 0 fun v_6 =>
    nn σ (some o) 11 fun a_9 => bd (m_J2_newCapacity a_9 x1 σ) fun v_7 σ_8 =>
    gI σ_8 (some o) 11 1 fun v_10 =>
    bd (m_J9_copyOf v_6 (v_7 <<< (v_10 &&& 31)) σ_8) fun v_11 σ_12 =>
    pO σ_12 (some o) 11 0 (va_rf v_11) fun σ_13 =>
    some ((0 : Int32), σ_13)

def m_J2_isLatin1 (o : Nat) (σ : cS) : Option (Int32 × cS) :=
  if (1 : Int32) = 0 then
    rz 0 σ
  else
    gI σ (some o) 11 1 fun v_2 =>
    if v_2 = 0 then
      rz 1 σ
    else
      rz 0 σ

def b_J14_getChars_104 : Option Nat → Int32 → Int32 → cS → Option (Int32 × cS) := fun x2 x5 x6 σ =>
  if x6 = 0 then
    some (x5, σ)
  else
    lt_ (x5 + (-1)) fun x5_2 =>
    sI σ x2 1 x5_2 (vp_nar .byte 45) fun σ_3 =>
    some (x5_2, σ_3)

def b_J14_getChars_22 : Nat → Int32 → Option Nat → Int32 → Int32 → cS → Option (Int32 × cS)
  | 0, _, _, _, _, _ => none
  | n + 1, x0, x2, x5, x6, σ =>
    if (-100) < x0 then
      lt_ (x5 + (-1)) fun x5_2 =>
      aI σ (some (σ.2 18)) 1 (-x0) fun v_3 =>
      sI σ x2 1 x5_2 (vp_nar .byte v_3) fun σ_4 =>
      if (-9) ≤ x0 then
        b_J14_getChars_104 x2 x5_2 x6 σ_4
      else
        lt_ (x5_2 + (-1)) fun x5_6 =>
        aI σ_4 (some (σ_4.2 17)) 1 (-x0) fun v_7 =>
        sI σ_4 x2 1 x5_6 (vp_nar .byte v_7) fun σ_8 =>
        b_J14_getChars_104 x2 x5_6 x6 σ_8
    else
      lt_ (x0 / 100) fun x3_9 =>
      lt_ ((x3_9 * 100) - x0) fun x4_10 =>
      lt_ (x5 + (-1)) fun x5_11 =>
      aI σ (some (σ.2 18)) 1 x4_10 fun v_12 =>
      sI σ x2 1 x5_11 (vp_nar .byte v_12) fun σ_13 =>
      lt_ (x5_11 + (-1)) fun x5_14 =>
      aI σ_13 (some (σ_13.2 17)) 1 x4_10 fun v_15 =>
      sI σ_13 x2 1 x5_14 (vp_nar .byte v_15) fun σ_16 =>
      (b_J14_getChars_22 n) x3_9 x2 x5_14 x6 σ_16

def b_J14_getChars_12 : Int32 → Option Nat → Int32 → Int32 → cS → Option (Int32 × cS) := fun x0 x2 x5 s0 σ =>
  if s0 = 0 then
    b_J14_getChars_22 FU (-x0) x2 x5 s0 σ
  else
    b_J14_getChars_22 FU x0 x2 x5 s0 σ

def m_J14_getChars (x0 : Int32) (x1 : Int32) (x2 : Option Nat) (σ : cS) : Option (Int32 × cS) :=
  if 0 ≤ x0 then
    b_J14_getChars_12 x0 x2 x1 0 σ
  else
    b_J14_getChars_12 x0 x2 x1 1 σ

def b_J14_stringSize_16 : Nat → Int32 → Int32 → Int32 → Int32 → cS → Option (Int32 × cS)
  | 0, _, _, _, _, _ => none
  | n + 1, x0, x1, x2, x3, σ =>
    if 10 ≤ x3 then
      some (10 + x1, σ)
    else
      if x0 ≤ x2 then
        lt_ (10 * x2) fun x2_3 =>
        lt_ (x3 + 1) fun x3_4 =>
        (b_J14_stringSize_16 n) x0 x1 x2_3 x3_4 σ
      else
        some (x3 + x1, σ)

def m_J14_stringSize (x0 : Int32) (σ : cS) : Option (Int32 × cS) :=
  if x0 < 0 then
    b_J14_stringSize_16 FU x0 1 (-10) 1 σ
  else
    b_J14_stringSize_16 FU (-x0) 0 (-10) 1 σ

def b_J2_append_48 (o : Nat) : Int32 → cS → Option (Option Nat × cS) := fun x3 σ =>
  pO σ (some o) 11 3 (.int x3) fun σ_1 =>
  some (some o, σ_1)

def m_J2_append (o : Nat) (x1 : Int32) (σ : cS) : Option (Option Nat × cS) :=
  gI σ (some o) 11 3 fun v_1 =>
  bd (m_J14_stringSize x1 σ) fun v_2 σ_3 =>
  lt_ (v_1 + v_2) fun x3_4 =>
  nn σ_3 (some o) 11 fun a_6 => bd (m_J2_ensureCapacityInternal a_6 x3_4 σ_3) fun _ σ_5 =>
  nn σ_5 (some o) 11 fun a_9 => bd (m_J2_isLatin1 a_9 σ_5) fun v_7 σ_8 =>
  if v_7 = 0 then
    gR σ_8 (some o) 11 0 fun v_11 =>
    none
  else
    gR σ_8 (some o) 11 0 fun v_12 =>
    bd (m_J14_getChars x1 x3_4 v_12 σ_8) fun v_13 σ_14 =>
    b_J2_append_48 o x3_4 σ_14

def b_J2_appendNull_76 (o : Nat) : Int32 → cS → Option (Option Nat × cS) := fun x1 σ =>
  pO σ (some o) 11 3 (.int x1) fun σ_1 =>
  some (some o, σ_1)

def m_J2_appendNull (o : Nat) (σ : cS) : Option (Option Nat × cS) :=
  gI σ (some o) 11 3 fun v_1 =>
  nn σ (some o) 11 fun a_3 => bd (m_J2_ensureCapacityInternal a_3 (v_1 + 4) σ) fun _ σ_2 =>
  gI σ_2 (some o) 11 3 fun v_4 =>
  gR σ_2 (some o) 11 0 fun v_5 =>
  nn σ_2 (some o) 11 fun a_8 => bd (m_J2_isLatin1 a_8 σ_2) fun v_6 σ_7 =>
  if v_6 = 0 then
    none
  else
    lt_ (v_4 + 1) fun x1_10 =>
    sI σ_7 v_5 1 v_4 (vp_nar .byte 110) fun σ_11 =>
    lt_ (x1_10 + 1) fun x1_12 =>
    sI σ_11 v_5 1 x1_10 (vp_nar .byte 117) fun σ_13 =>
    lt_ (x1_12 + 1) fun x1_14 =>
    sI σ_13 v_5 1 x1_12 (vp_nar .byte 108) fun σ_15 =>
    lt_ (x1_14 + 1) fun x1_16 =>
    sI σ_15 v_5 1 x1_14 (vp_nar .byte 108) fun σ_17 =>
    b_J2_appendNull_76 o x1_16 σ_17

def m_J2_inflate (o : Nat) (σ : cS) : Option (Int32 × cS) :=
  nn σ (some o) 11 fun a_3 => bd (m_J2_isLatin1 a_3 σ) fun v_1 σ_2 =>
  if v_1 = 0 then
    some ((0 : Int32), σ_2)
  else
    gR σ_2 (some o) 11 0 fun v_5 =>
    aL σ_2 v_5 fun v_6 =>
    none

def m_J4_coder (o : Nat) (σ : cS) : Option (Int32 × cS) :=
  if (1 : Int32) = 0 then
    rb 1 σ
  else
    gI σ (some o) 12 1 fun v_2 =>
    rb v_2 σ

def m_J2_inflateIfNeededFor (o : Nat) (x1 : Option Nat) (σ : cS) : Option (Int32 × cS) :=
  if (1 : Int32) = 0 then
    some ((0 : Int32), σ)
  else
    gI σ (some o) 11 1 fun v_2 =>
    nn σ x1 12 fun a_5 => bd (m_J4_coder a_5 σ) fun v_3 σ_4 =>
    if v_2 = v_3 then
      some ((0 : Int32), σ_4)
    else
      nn σ_4 (some o) 11 fun a_8 => bd (m_J2_inflate a_8 σ_4) fun _ σ_7 =>
      some ((0 : Int32), σ_7)

def m_J6_inflate (x0 : Option Nat) (x1 : Int32) (x2 : Option Nat) (x3 : Int32) (x4 : Int32) (σ : cS) : Option (Int32 × cS) :=
  none

def m_J4_getBytes (o : Nat) (x1 : Option Nat) (x2 : Int32) (x3 : Int32) (σ : cS) : Option (Int32 × cS) :=
  nn σ (some o) 12 fun a_3 => bd (m_J4_coder a_3 σ) fun v_1 σ_2 =>
  if v_1 = x3 then
    gR σ_2 (some o) 12 0 fun v_9 =>
    gR σ_2 (some o) 12 0 fun v_10 =>
    aL σ_2 v_10 fun v_11 =>
    cpI σ_2 1 v_9 0 x1 (x2 <<< (x3 &&& 31)) v_11 fun σ_12 =>
    some ((0 : Int32), σ_12)
  else
    gR σ_2 (some o) 12 0 fun v_5 =>
    gR σ_2 (some o) 12 0 fun v_6 =>
    aL σ_2 v_6 fun v_7 =>
    bd (m_J6_inflate v_5 0 x1 x2 v_7 σ_2) fun _ σ_8 =>
    some ((0 : Int32), σ_8)

def m_J2_putStringAt (o : Nat) (x1 : Int32) (x2 : Option Nat) (σ : cS) : Option (Int32 × cS) :=
  nn σ (some o) 11 fun a_2 => bd (m_J2_inflateIfNeededFor a_2 x2 σ) fun _ σ_1 =>
  gR σ_1 (some o) 11 0 fun v_3 =>
  gI σ_1 (some o) 11 1 fun v_4 =>
  nn σ_1 x2 12 fun a_6 => bd (m_J4_getBytes a_6 v_3 x1 v_4 σ_1) fun _ σ_5 =>
  some ((0 : Int32), σ_5)

def m_J4_length (o : Nat) (σ : cS) : Option (Int32 × cS) :=
  gR σ (some o) 12 0 fun v_1 =>
  aL σ v_1 fun v_2 =>
  nn σ (some o) 12 fun a_5 => bd (m_J4_coder a_5 σ) fun v_3 σ_4 =>
  some (v_2 >>> (v_3 &&& 31), σ_4)

def m_J2_append_2 (o : Nat) (x1 : Option Nat) (σ : cS) : Option (Option Nat × cS) :=
  if x1 = none then
    nn σ (some o) 11 fun a_15 => bd (m_J2_appendNull a_15 σ) fun v_13 σ_14 =>
    some (v_13, σ_14)
  else
    nn σ x1 12 fun a_4 => bd (m_J4_length a_4 σ) fun v_2 σ_3 =>
    gI σ_3 (some o) 11 3 fun v_5 =>
    nn σ_3 (some o) 11 fun a_7 => bd (m_J2_ensureCapacityInternal a_7 (v_5 + v_2) σ_3) fun _ σ_6 =>
    gI σ_6 (some o) 11 3 fun v_8 =>
    nn σ_6 (some o) 11 fun a_10 => bd (m_J2_putStringAt a_10 v_8 x1 σ_6) fun _ σ_9 =>
    gI σ_9 (some o) 11 3 fun v_11 =>
    pO σ_9 (some o) 11 3 (.int (v_11 + v_2)) fun σ_12 =>
    some (some o, σ_12)

def m_J2_getValue (o : Nat) (σ : cS) : Option (Option Nat × cS) :=
  gR σ (some o) 11 0 fun v_1 =>
  some (v_1, σ)

def m_J2_length (o : Nat) (σ : cS) : Option (Int32 × cS) :=
  gI σ (some o) 11 3 fun v_1 =>
  some (v_1, σ)

def m_J4_init_3 (o : Nat) (x1 : Option Nat) (x2 : Int32) (σ : cS) : Option (Int32 × cS) :=
  pO σ (some o) 12 0 (va_rf x1) fun σ_1 =>
  gd (x2 = 0) <|
  pO σ_1 (some o) 12 1 (.int x2) fun σ_2 =>
  some ((0 : Int32), σ_2)

def m_J9_checkLength (x0 : Int32) (x1 : Int32) (σ : cS) : Option (Int32 × cS) :=
  if x0 ≤ x1 then
    some ((0 : Int32), σ)
  else
    none

def m_J9_copyOfRangeByte (x0 : Option Nat) (x1 : Int32) (x2 : Int32) (σ : cS) : Option (Option Nat × cS) :=
  bd (m_J9_checkLength x1 x2 σ) fun _ σ_1 =>
  lt_ (x2 - x1) fun x3_2 =>
  nA σ_1 1 x3_2 (.inl (fun _ => 0)) fun q_3 σ_4 =>
  aL σ_4 x0 fun v_5 =>
  lt_ (if x3_2 < (v_5 - x1) then x3_2 else (v_5 - x1)) fun u_6 =>
  cpI σ_4 1 x0 x1 (some q_3) 0 u_6 fun σ_7 =>
  some (some q_3, σ_7)

def b_J9_copyOfRange_10 : Option Nat → Int32 → Int32 → cS → Option (Option Nat × cS) := fun x0 x1 x2 σ =>
  bd (m_J9_copyOfRangeByte x0 x1 x2 σ) fun v_1 σ_2 =>
  some (v_1, σ_2)

def m_J9_copyOfRange (x0 : Option Nat) (x1 : Int32) (x2 : Int32) (σ : cS) : Option (Option Nat × cS) :=
  if x1 = 0 then
    aL σ x0 fun v_2 =>
    if x2 = v_2 then
      none
    else
      b_J9_copyOfRange_10 x0 x1 x2 σ
  else
    b_J9_copyOfRange_10 x0 x1 x2 σ

def m_J6_newString (x0 : Option Nat) (x1 : Int32) (x2 : Int32) (σ : cS) : Option (Option Nat × cS) :=
  if x2 = 0 then
    some (some (σ.2 27), σ)
  else
    nO σ 12 4 [.null, .int 0, .int 0, .int 0] fun q_2 σ_3 =>
    bd (m_J9_copyOfRange x0 x1 (x1 + x2) σ_3) fun v_4 σ_5 =>
    bd (m_J4_init_3 q_2 v_4 0 σ_5) fun _ σ_6 =>
    some (some q_2, σ_6)

def b_J7_checkFromToIndex_14 : Int32 → Int32 → Int32 → Option Nat → cS → Option (Int32 × cS) := fun x0 x1 x2 x3 σ =>
  none

def m_J7_checkFromToIndex (x0 : Int32) (x1 : Int32) (x2 : Int32) (x3 : Option Nat) (σ : cS) : Option (Int32 × cS) :=
  if x0 < 0 then
    b_J7_checkFromToIndex_14 x0 x1 x2 x3 σ
  else
    if x1 < x0 then
      b_J7_checkFromToIndex_14 x0 x1 x2 x3 σ
    else
      if x1 ≤ x2 then
        some (x0, σ)
      else
        b_J7_checkFromToIndex_14 x0 x1 x2 x3 σ

def m_J2_substring (o : Nat) (x1 : Int32) (x2 : Int32) (σ : cS) : Option (Option Nat × cS) :=
  gI σ (some o) 11 3 fun v_1 =>
  bd (m_J7_checkFromToIndex x1 x2 v_1 (opk (σ.2 9)) σ) fun v_2 σ_3 =>
  nn σ_3 (some o) 11 fun a_6 => bd (m_J2_isLatin1 a_6 σ_3) fun v_4 σ_5 =>
  if v_4 = 0 then
    gR σ_5 (some o) 11 0 fun v_8 =>
    none
  else
    gR σ_5 (some o) 11 0 fun v_9 =>
    bd (m_J6_newString v_9 x1 (x2 - x1) σ_5) fun v_10 σ_11 =>
    some (v_10, σ_11)

def m_J3_substring (o : Nat) (x1 : Int32) (x2 : Int32) (σ : cS) : Option (Option Nat × cS) :=
  nn σ (some o) 11 fun a_3 => bd (m_J2_substring a_3 x1 x2 σ) fun v_1 σ_2 =>
  some (v_1, σ_2)

def m_J2_subSequence (o : Nat) (x1 : Int32) (x2 : Int32) (σ : cS) : Option (Option Nat × cS) :=
  nn σ (some o) 11 fun a_3 => bd (m_J3_substring a_3 x1 x2 σ) fun v_1 σ_2 =>
  some (v_1, σ_2)

def m_J6_canEncode_2 (x0 : Int32) (σ : cS) : Option (Int32 × cS) :=
  if 255 < x0 then
    rz 0 σ
  else
    rz 1 σ

def b_J2_append_3_56 (o : Nat) : Int32 → cS → Option (Option Nat × cS) := fun x1 σ =>
  gR σ (some o) 11 0 fun v_1 =>
  gI σ (some o) 11 3 fun v_2 =>
  pO σ (some o) 11 3 (.int (v_2 + 1)) fun σ_3 =>
  none

def b_J2_append_3_45 (o : Nat) : Int32 → cS → Option (Option Nat × cS) := fun x1 σ =>
  nn σ (some o) 11 fun a_3 => bd (m_J2_isLatin1 a_3 σ) fun v_1 σ_2 =>
  if v_1 = 0 then
    b_J2_append_3_56 o x1 σ_2
  else
    nn σ_2 (some o) 11 fun a_6 => bd (m_J2_inflate a_6 σ_2) fun _ σ_5 =>
    b_J2_append_3_56 o x1 σ_5

def m_J2_append_3 (o : Nat) (x1 : Int32) (σ : cS) : Option (Option Nat × cS) :=
  gI σ (some o) 11 3 fun v_1 =>
  nn σ (some o) 11 fun a_3 => bd (m_J2_ensureCapacityInternal a_3 (v_1 + 1) σ) fun _ σ_2 =>
  nn σ_2 (some o) 11 fun a_6 => bd (m_J2_isLatin1 a_6 σ_2) fun v_4 σ_5 =>
  if v_4 = 0 then
    b_J2_append_3_45 o x1 σ_5
  else
    bd (m_J6_canEncode_2 x1 σ_5) fun v_8 σ_9 =>
    if v_8 = 0 then
      b_J2_append_3_45 o x1 σ_9
    else
      gR σ_9 (some o) 11 0 fun v_11 =>
      gI σ_9 (some o) 11 3 fun v_12 =>
      pO σ_9 (some o) 11 3 (.int (v_12 + 1)) fun σ_13 =>
      sI σ_13 v_11 1 v_12 (vp_nar .byte (x1.toInt8.toInt32)) fun σ_14 =>
      some (some o, σ_14)

def m_J9_rangeCheck (x0 : Int32) (x1 : Int32) (x2 : Int32) (σ : cS) : Option (Int32 × cS) :=
  if x1 ≤ x2 then
    if 0 ≤ x1 then
      if x2 ≤ x0 then
        some ((0 : Int32), σ)
      else
        none
    else
      none
  else
    none

def b_J9_fill_10 : Nat → Option Nat → Int32 → Int32 → Int32 → cS → Option (Int32 × cS)
  | 0, _, _, _, _, _ => none
  | n + 1, x0, x2, x3, x4, σ =>
    if x2 ≤ x4 then
      some ((0 : Int32), σ)
    else
      sI σ x0 1 x4 (vp_nar .byte x3) fun σ_2 =>
      lt_ (x4 + 1) fun x4_3 =>
      (b_J9_fill_10 n) x0 x2 x3 x4_3 σ_2

def m_J9_fill (x0 : Option Nat) (x1 : Int32) (x2 : Int32) (x3 : Int32) (σ : cS) : Option (Int32 × cS) :=
  aL σ x0 fun v_1 =>
  bd (m_J9_rangeCheck v_1 x1 x2 σ) fun _ σ_2 =>
  b_J9_fill_10 FU x0 x2 x3 x1 σ_2

def m_J6_fillNull (x0 : Option Nat) (x1 : Int32) (x2 : Int32) (σ : cS) : Option (Int32 × cS) :=
  bd (m_J9_fill x0 x1 x2 0 σ) fun _ σ_1 =>
  some ((0 : Int32), σ_1)

def b_J2_setLength_76 (o : Nat) : Int32 → cS → Option (Int32 × cS) := fun x1 σ =>
  pO σ (some o) 11 3 (.int x1) fun σ_1 =>
  some ((0 : Int32), σ_1)

def m_J2_setLength (o : Nat) (x1 : Int32) (σ : cS) : Option (Int32 × cS) :=
  if 0 ≤ x1 then
    nn σ (some o) 11 fun a_3 => bd (m_J2_ensureCapacityInternal a_3 x1 σ) fun _ σ_2 =>
    gI σ_2 (some o) 11 3 fun v_4 =>
    if x1 ≤ v_4 then
      gI σ_2 (some o) 11 3 fun v_6 =>
      if v_6 ≤ x1 then
        b_J2_setLength_76 o x1 σ_2
      else
        gd ((1 : Int32) = 0 ∨ (1 : Int32) = 1) <|
        pO σ_2 (some o) 11 2 (.int 1) fun σ_8 =>
        b_J2_setLength_76 o x1 σ_8
    else
      nn σ_2 (some o) 11 fun a_11 => bd (m_J2_isLatin1 a_11 σ_2) fun v_9 σ_10 =>
      if v_9 = 0 then
        gR σ_10 (some o) 11 0 fun v_13 =>
        gI σ_10 (some o) 11 3 fun v_14 =>
        none
      else
        gR σ_10 (some o) 11 0 fun v_15 =>
        gI σ_10 (some o) 11 3 fun v_16 =>
        bd (m_J6_fillNull v_15 v_16 x1 σ_10) fun _ σ_17 =>
        b_J2_setLength_76 o x1 σ_17
  else
    none

def m_J3_init (o : Nat) (σ : cS) : Option (Int32 × cS) :=
  bd (m_J2_init o 16 σ) fun _ σ_1 =>
  some ((0 : Int32), σ_1)

def m_J3_charAt (o : Nat) (x1 : Int32) (σ : cS) : Option (Int32 × cS) :=
  nn σ (some o) 11 fun a_3 => bd (m_J2_charAt a_3 x1 σ) fun v_1 σ_2 =>
  rc v_1 σ_2

def m_J3_append (o : Nat) (x1 : Int32) (σ : cS) : Option (Option Nat × cS) :=
  nn σ (some o) 11 fun a_3 => bd (m_J2_append a_3 x1 σ) fun v_1 σ_2 =>
  some (some o, σ_2)

def m_J3_append_2 (o : Nat) (x1 : Option Nat) (σ : cS) : Option (Option Nat × cS) :=
  nn σ (some o) 11 fun a_3 => bd (m_J2_append_2 a_3 x1 σ) fun v_1 σ_2 =>
  some (some o, σ_2)

def m_J3_length (o : Nat) (σ : cS) : Option (Int32 × cS) :=
  nn σ (some o) 11 fun a_3 => bd (m_J2_length a_3 σ) fun v_1 σ_2 =>
  some (v_1, σ_2)

def b_J4_init_2_79 (o : Nat) : Option Nat → Int32 → cS → Option (Int32 × cS) := fun x3 x4 σ =>
  gd ((1 : Int32) = 0) <|
  pO σ (some o) 12 1 (.int 1) fun σ_1 =>
  bd (m_J9_copyOfRange x3 0 (x4 <<< (1 &&& 31)) σ_1) fun v_2 σ_3 =>
  pO σ_3 (some o) 12 0 (va_rf v_2) fun σ_4 =>
  some ((0 : Int32), σ_4)

def m_J4_init_2 (o : Nat) (x1 : Option Nat) (x2 : Option Nat) (σ : cS) : Option (Int32 × cS) :=
  nn σ x1 11 fun a_3 => bd (m_J2_getValue a_3 σ) fun v_1 σ_2 =>
  nn σ_2 x1 11 fun a_6 => bd (m_J3_length a_6 σ_2) fun v_4 σ_5 =>
  nn σ_5 x1 11 fun a_9 => bd (m_J2_isLatin1 a_9 σ_5) fun v_7 σ_8 =>
  if v_7 = 0 then
    if (1 : Int32) = 0 then
      b_J4_init_2_79 o v_1 v_4 σ_8
    else
      gI σ_8 x1 11 2 fun v_12 =>
      if v_12 = 0 then
        b_J4_init_2_79 o v_1 v_4 σ_8
      else
        none
  else
    gd ((0 : Int32) = 0) <|
    pO σ_8 (some o) 12 1 (.int 0) fun σ_14 =>
    bd (m_J9_copyOfRange v_1 0 v_4 σ_14) fun v_15 σ_16 =>
    pO σ_16 (some o) 12 0 (va_rf v_15) fun σ_17 =>
    some ((0 : Int32), σ_17)

def m_J4_init (o : Nat) (x1 : Option Nat) (σ : cS) : Option (Int32 × cS) :=
  bd (m_J4_init_2 o x1 none σ) fun _ σ_1 =>
  some ((0 : Int32), σ_1)

def m_J3_toString (o : Nat) (σ : cS) : Option (Option Nat × cS) :=
  nO σ 12 4 [.null, .int 0, .int 0, .int 0] fun q_1 σ_2 =>
  bd (m_J4_init q_1 (some o) σ_2) fun _ σ_3 =>
  some (some q_1, σ_3)

def m_J3_subSequence (o : Nat) (x1 : Int32) (x2 : Int32) (σ : cS) : Option (Option Nat × cS) :=
  nn σ (some o) 11 fun a_3 => bd (m_J2_subSequence a_3 x1 x2 σ) fun v_1 σ_2 =>
  some (v_1, σ_2)

def m_J3_append_3 (o : Nat) (x1 : Int32) (σ : cS) : Option (Option Nat × cS) :=
  nn σ (some o) 11 fun a_3 => bd (m_J2_append_3 a_3 x1 σ) fun v_1 σ_2 =>
  some (some o, σ_2)

def m_J3_setLength (o : Nat) (x1 : Int32) (σ : cS) : Option (Int32 × cS) :=
  nn σ (some o) 11 fun a_2 => bd (m_J2_setLength a_2 x1 σ) fun _ σ_1 =>
  some ((0 : Int32), σ_1)

def m_J4_isLatin1 (o : Nat) (σ : cS) : Option (Int32 × cS) :=
  if (1 : Int32) = 0 then
    rz 0 σ
  else
    gI σ (some o) 12 1 fun v_2 =>
    if v_2 = 0 then
      rz 1 σ
    else
      rz 0 σ

def m_J6_charAt (x0 : Option Nat) (x1 : Int32) (σ : cS) : Option (Int32 × cS) :=
  aL σ x0 fun v_1 =>
  bd (m_J4_checkIndex x1 v_1 σ) fun _ σ_2 =>
  aI σ_2 x0 1 x1 fun v_3 =>
  rc (((v_3 &&& 255).toUInt32 % 65536).toInt32) σ_2

def m_J4_charAt (o : Nat) (x1 : Int32) (σ : cS) : Option (Int32 × cS) :=
  nn σ (some o) 12 fun a_3 => bd (m_J4_isLatin1 a_3 σ) fun v_1 σ_2 =>
  if v_1 = 0 then
    gR σ_2 (some o) 12 0 fun v_5 =>
    none
  else
    gR σ_2 (some o) 12 0 fun v_6 =>
    bd (m_J6_charAt v_6 x1 σ_2) fun v_7 σ_8 =>
    rc v_7 σ_8

def m_J4_checkBoundsBeginEnd (x0 : Int32) (x1 : Int32) (x2 : Int32) (σ : cS) : Option (Int32 × cS) :=
  bd (m_J7_checkFromToIndex x0 x1 x2 (opk (σ.2 9)) σ) fun v_1 σ_2 =>
  some ((0 : Int32), σ_2)

def b_J4_substring_22 (o : Nat) : Int32 → Int32 → cS → Option (Option Nat × cS) := fun x1 x2 σ =>
  lt_ (x2 - x1) fun x4_1 =>
  nn σ (some o) 12 fun a_4 => bd (m_J4_isLatin1 a_4 σ) fun v_2 σ_3 =>
  if v_2 = 0 then
    gR σ_3 (some o) 12 0 fun v_6 =>
    none
  else
    gR σ_3 (some o) 12 0 fun v_7 =>
    bd (m_J6_newString v_7 x1 x4_1 σ_3) fun v_8 σ_9 =>
    some (v_8, σ_9)

def m_J4_substring (o : Nat) (x1 : Int32) (x2 : Int32) (σ : cS) : Option (Option Nat × cS) :=
  nn σ (some o) 12 fun a_3 => bd (m_J4_length a_3 σ) fun v_1 σ_2 =>
  bd (m_J4_checkBoundsBeginEnd x1 x2 v_1 σ_2) fun _ σ_4 =>
  if x1 = 0 then
    if x2 = v_1 then
      some (some o, σ_4)
    else
      b_J4_substring_22 o x1 x2 σ_4
  else
    b_J4_substring_22 o x1 x2 σ_4

def m_J4_subSequence (o : Nat) (x1 : Int32) (x2 : Int32) (σ : cS) : Option (Option Nat × cS) :=
  nn σ (some o) 12 fun a_3 => bd (m_J4_substring a_3 x1 x2 σ) fun v_1 σ_2 =>
  some (v_1, σ_2)

def b_J7_checkFromIndexSize_15 : Int32 → Int32 → Int32 → Option Nat → cS → Option (Int32 × cS) := fun x0 x1 x2 x3 σ =>
  none

def m_J7_checkFromIndexSize (x0 : Int32) (x1 : Int32) (x2 : Int32) (x3 : Option Nat) (σ : cS) : Option (Int32 × cS) :=
  if ((x2 ||| x0) ||| x1) < 0 then
    b_J7_checkFromIndexSize_15 x0 x1 x2 x3 σ
  else
    if x1 ≤ (x2 - x0) then
      some (x0, σ)
    else
      b_J7_checkFromIndexSize_15 x0 x1 x2 x3 σ

def m_J4_checkBoundsOffCount (x0 : Int32) (x1 : Int32) (x2 : Int32) (σ : cS) : Option (Int32 × cS) :=
  bd (m_J7_checkFromIndexSize x0 x1 x2 (opk (σ.2 9)) σ) fun v_1 σ_2 =>
  some (v_1, σ_2)

def m_J4_toString (o : Nat) (σ : cS) : Option (Option Nat × cS) :=
  some (some o, σ)

def m_J6_canEncode (x0 : Int32) (σ : cS) : Option (Int32 × cS) :=
  if x0 < 0 then
    rz 0 σ
  else
    if 255 < x0 then
      rz 0 σ
    else
      rz 1 σ

def b_J6_indexOfChar_7 : Nat → Option Nat → Int32 → Int32 → Int32 → cS → Option (Int32 × cS)
  | 0, _, _, _, _, _ => none
  | n + 1, x0, x3, x4, x5, σ =>
    if x3 ≤ x5 then
      some ((-1), σ)
    else
      aI σ x0 1 x5 fun v_2 =>
      if v_2 = x4 then
        some (x5, σ)
      else
        lt_ (x5 + 1) fun x5_4 =>
        (b_J6_indexOfChar_7 n) x0 x3 x4 x5_4 σ

def m_J6_indexOfChar (x0 : Option Nat) (x1 : Int32) (x2 : Int32) (x3 : Int32) (σ : cS) : Option (Int32 × cS) :=
  lt_ (x1.toInt8.toInt32) fun x4_1 =>
  b_J6_indexOfChar_7 FU x0 x3 x4_1 x2 σ

def m_J6_indexOf (x0 : Option Nat) (x1 : Int32) (x2 : Int32) (x3 : Int32) (σ : cS) : Option (Int32 × cS) :=
  bd (m_J6_canEncode x1 σ) fun v_1 σ_2 =>
  if v_1 = 0 then
    some ((-1), σ_2)
  else
    lt_ (if x2 < 0 then 0 else x2) fun u_4 =>
    aL σ_2 x0 fun v_5 =>
    lt_ (if v_5 < x3 then v_5 else x3) fun u_6 =>
    if u_4 < u_6 then
      bd (m_J6_indexOfChar x0 x1 u_4 u_6 σ_2) fun v_8 σ_9 =>
      some (v_8, σ_9)
    else
      some ((-1), σ_2)

def m_J4_indexOf_2 (o : Nat) (x1 : Int32) (x2 : Int32) (σ : cS) : Option (Int32 × cS) :=
  nn σ (some o) 12 fun a_3 => bd (m_J4_isLatin1 a_3 σ) fun v_1 σ_2 =>
  if v_1 = 0 then
    gR σ_2 (some o) 12 0 fun v_5 =>
    nn σ_2 (some o) 12 fun a_8 => bd (m_J4_length a_8 σ_2) fun v_6 σ_7 =>
    none
  else
    gR σ_2 (some o) 12 0 fun v_9 =>
    nn σ_2 (some o) 12 fun a_12 => bd (m_J4_length a_12 σ_2) fun v_10 σ_11 =>
    bd (m_J6_indexOf v_9 x1 x2 v_10 σ_11) fun v_13 σ_14 =>
    some (v_13, σ_14)

def m_J4_indexOf (o : Nat) (x1 : Int32) (σ : cS) : Option (Int32 × cS) :=
  nn σ (some o) 12 fun a_3 => bd (m_J4_indexOf_2 a_3 x1 0 σ) fun v_1 σ_2 =>
  some (v_1, σ_2)

def b_J6_equals_9 : Nat → Option Nat → Option Nat → Int32 → cS → Option (Int32 × cS)
  | 0, _, _, _, _ => none
  | n + 1, x0, x1, x2, σ =>
    aL σ x0 fun v_1 =>
    if v_1 ≤ x2 then
      rz 1 σ
    else
      aI σ x0 1 x2 fun v_3 =>
      aI σ x1 1 x2 fun v_4 =>
      if v_3 = v_4 then
        lt_ (x2 + 1) fun x2_6 =>
        (b_J6_equals_9 n) x0 x1 x2_6 σ
      else
        rz 0 σ

def m_J6_equals (x0 : Option Nat) (x1 : Option Nat) (σ : cS) : Option (Int32 × cS) :=
  aL σ x0 fun v_1 =>
  aL σ x1 fun v_2 =>
  if v_1 = v_2 then
    b_J6_equals_9 FU x0 x1 0 σ
  else
    rz 0 σ

def b_J4_equals_36 (o : Nat) : Option Nat → cS → Option (Int32 × cS) := fun x2 σ =>
  gR σ (some o) 12 0 fun v_1 =>
  gR σ x2 12 0 fun v_2 =>
  bd (m_J6_equals v_1 v_2 σ) fun v_3 σ_4 =>
  if v_3 = 0 then
    rz 0 σ_4
  else
    rz 1 σ_4

def m_J4_equals (o : Nat) (x1 : Option Nat) (σ : cS) : Option (Int32 × cS) :=
  if (some o) = x1 then
    rz 1 σ
  else
    ins σ x1 12 fun v_2 =>
    if (1 : Int32) = 0 then
      rz 0 σ
    else
      cst σ x1 [12] <|
      if (1 : Int32) = 0 then
        b_J4_equals_36 o x1 σ
      else
        gI σ (some o) 12 1 fun v_5 =>
        gI σ x1 12 1 fun v_6 =>
        if v_5 = v_6 then
          b_J4_equals_36 o x1 σ
        else
          rz 0 σ

def b_J15_hashCode_2_8 : Nat → Int32 → Option Nat → Int32 → Int32 → cS → Option (Int32 × cS)
  | 0, _, _, _, _, _ => none
  | n + 1, x0, x1, x4, x5, σ =>
    if x4 ≤ x5 then
      some (x0, σ)
    else
      aI σ x1 1 x5 fun v_2 =>
      lt_ ((31 * x0) + v_2) fun x0_3 =>
      lt_ (x5 + 1) fun x5_4 =>
      (b_J15_hashCode_2_8 n) x0_3 x1 x4 x5_4 σ

def m_J15_hashCode_2 (x0 : Int32) (x1 : Option Nat) (x2 : Int32) (x3 : Int32) (σ : cS) : Option (Int32 × cS) :=
  lt_ (x2 + x3) fun x4_1 =>
  b_J15_hashCode_2_8 FU x0 x1 x4_1 x2 σ

def b_J15_signedHashCode_8 : Nat → Int32 → Option Nat → Int32 → Int32 → cS → Option (Int32 × cS)
  | 0, _, _, _, _, _ => none
  | n + 1, x0, x1, x4, x5, σ =>
    if x4 ≤ x5 then
      some (x0, σ)
    else
      aI σ x1 1 x5 fun v_2 =>
      lt_ ((31 * x0) + (v_2 &&& 255)) fun x0_3 =>
      lt_ (x5 + 1) fun x5_4 =>
      (b_J15_signedHashCode_8 n) x0_3 x1 x4 x5_4 σ

def m_J15_signedHashCode (x0 : Int32) (x1 : Option Nat) (x2 : Int32) (x3 : Int32) (σ : cS) : Option (Int32 × cS) :=
  lt_ (x2 + x3) fun x4_1 =>
  b_J15_signedHashCode_8 FU x0 x1 x4_1 x2 σ

def b_J15_vectorizedHashCode_129 : Int32 → cS → Option (Int32 × cS) := fun x4 σ =>
  none

def m_J15_vectorizedHashCode (x0 : Option Nat) (x1 : Int32) (x2 : Int32) (x3 : Int32) (x4 : Int32) (σ : cS) : Option (Int32 × cS) :=
  if x4 = 4 then
    cst σ x0 [101] <|
    bd (m_J15_signedHashCode x3 x0 x1 x2 σ) fun v_2 σ_3 =>
    some (v_2, σ_3)
  else
  if x4 = 5 then
    none
  else
  if x4 = 8 then
    cst σ x0 [101] <|
    bd (m_J15_hashCode_2 x3 x0 x1 x2 σ) fun v_6 σ_7 =>
    some (v_6, σ_7)
  else
  if x4 = 9 then
    none
  else
  if x4 = 10 then
    none
  else
    b_J15_vectorizedHashCode_129 x4 σ

def m_J6_hashCode (x0 : Option Nat) (σ : cS) : Option (Int32 × cS) :=
  aL σ x0 fun v_1 =>
  if v_1 = 0 then
    some (0, σ)
  else
  if v_1 = 1 then
    aI σ x0 1 0 fun v_4 =>
    some (v_4 &&& 255, σ)
  else
    aL σ x0 fun v_5 =>
    bd (m_J15_vectorizedHashCode x0 0 v_5 0 4 σ) fun v_6 σ_7 =>
    some (v_6, σ_7)

def b_J4_hashCode_40 (o : Nat) : Int32 → cS → Option (Int32 × cS) := fun s0 σ =>
  if s0 = 0 then
    gd ((1 : Int32) = 0 ∨ (1 : Int32) = 1) <|
    pO σ (some o) 12 3 (.int 1) fun σ_3 =>
    some (s0, σ_3)
  else
    pO σ (some o) 12 2 (.int s0) fun σ_2 =>
    some (s0, σ_2)

def m_J4_hashCode (o : Nat) (σ : cS) : Option (Int32 × cS) :=
  gI σ (some o) 12 2 fun v_1 =>
  if v_1 = 0 then
    gI σ (some o) 12 3 fun v_3 =>
    if v_3 = 0 then
      nn σ (some o) 12 fun a_7 => bd (m_J4_isLatin1 a_7 σ) fun v_5 σ_6 =>
      if v_5 = 0 then
        gR σ_6 (some o) 12 0 fun v_9 =>
        none
      else
        gR σ_6 (some o) 12 0 fun v_10 =>
        bd (m_J6_hashCode v_10 σ_6) fun v_11 σ_12 =>
        b_J4_hashCode_40 o v_11 σ_12
    else
      some (v_1, σ)
  else
    some (v_1, σ)

def m_J14_toString (x0 : Int32) (σ : cS) : Option (Option Nat × cS) :=
  bd (m_J14_stringSize x0 σ) fun v_1 σ_2 =>
  if (1 : Int32) = 0 then
    nA σ_2 1 (v_1 * 2) (.inl (fun _ => 0)) fun q_4 σ_5 =>
    none
  else
    nA σ_2 1 v_1 (.inl (fun _ => 0)) fun q_6 σ_7 =>
    bd (m_J14_getChars x0 v_1 (some q_6) σ_7) fun v_8 σ_9 =>
    nO σ_9 12 4 [.null, .int 0, .int 0, .int 0] fun q_10 σ_11 =>
    bd (m_J4_init_3 q_10 (some q_6) 0 σ_11) fun _ σ_12 =>
    some (some q_10, σ_12)

def m_J4_valueOf (x0 : Int32) (σ : cS) : Option (Option Nat × cS) :=
  bd (m_J14_toString x0 σ) fun v_1 σ_2 =>
  some (v_1, σ_2)

def b_J15_utf16hashCode_8 : Nat → Int32 → Option Nat → Int32 → Int32 → cS → Option (Int32 × cS)
  | 0, _, _, _, _, _ => none
  | n + 1, x0, x1, x4, x5, σ =>
    if x4 ≤ x5 then
      some (x0, σ)
    else
      none

def m_J15_utf16hashCode (x0 : Int32) (x1 : Option Nat) (x2 : Int32) (x3 : Int32) (σ : cS) : Option (Int32 × cS) :=
  lt_ (x2 + x3) fun x4_1 =>
  b_J15_utf16hashCode_8 FU x0 x1 x4_1 x2 σ

def b_J15_hashCode_8 : Nat → Int32 → Option Nat → Int32 → Int32 → cS → Option (Int32 × cS)
  | 0, _, _, _, _, _ => none
  | n + 1, x0, x1, x4, x5, σ =>
    if x4 ≤ x5 then
      some (x0, σ)
    else
      none

def m_J15_hashCode (x0 : Int32) (x1 : Option Nat) (x2 : Int32) (x3 : Int32) (σ : cS) : Option (Int32 × cS) :=
  lt_ (x2 + x3) fun x4_1 =>
  b_J15_hashCode_8 FU x0 x1 x4_1 x2 σ

def b_J15_hashCode_4_8 : Nat → Int32 → Option Nat → Int32 → Int32 → cS → Option (Int32 × cS)
  | 0, _, _, _, _, _ => none
  | n + 1, x0, x1, x4, x5, σ =>
    if x4 ≤ x5 then
      some (x0, σ)
    else
      aI σ x1 0 x5 fun v_2 =>
      lt_ ((31 * x0) + v_2) fun x0_3 =>
      lt_ (x5 + 1) fun x5_4 =>
      (b_J15_hashCode_4_8 n) x0_3 x1 x4 x5_4 σ

def m_J15_hashCode_4 (x0 : Int32) (x1 : Option Nat) (x2 : Int32) (x3 : Int32) (σ : cS) : Option (Int32 × cS) :=
  lt_ (x2 + x3) fun x4_1 =>
  b_J15_hashCode_4_8 FU x0 x1 x4_1 x2 σ

def b_X7_init_69 (o : Nat) : Option Nat → Option Nat → cS → Option (Int32 × cS) := fun s0 s1 σ =>
  pO σ s0 4 3 (va_rf s1) fun σ_1 =>
  some ((0 : Int32), σ_1)

def m_X7_init (o : Nat) (x1 : Int32) (x2 : Int32) (x3 : Int32) (σ : cS) : Option (Int32 × cS) :=
  pO σ (some o) 4 0 (.int x1) fun σ_1 =>
  gd ((x2 : Int32).toUInt32.toUInt16.toUInt32.toInt32 = x2 ∧ 0 ≤ x2 ∧ x2 ≤ 65535) <|
  pO σ_1 (some o) 4 1 (.int x2) fun σ_2 =>
  pO σ_2 (some o) 4 2 (.int x3) fun σ_3 =>
  if x2 = 60 then
    b_X7_init_69 o (some o) (some (σ_3.2 6)) σ_3
  else
  if x2 = 62 then
    b_X7_init_69 o (some o) (some (σ_3.2 7)) σ_3
  else
    b_X7_init_69 o (some o) (some (σ_3.2 8)) σ_3

def m_X7_lambda_new_0 (x0 : Int32) (x1 : Int32) (σ : cS) : Option (Int32 × cS) :=
  if x1 ≤ x0 then
    rz 0 σ
  else
    rz 1 σ

def m_X7_lambda_new_1 (x0 : Int32) (x1 : Int32) (σ : cS) : Option (Int32 × cS) :=
  if x0 ≤ x1 then
    rz 0 σ
  else
    rz 1 σ

def m_X7_lambda_new_2 (x0 : Int32) (x1 : Int32) (σ : cS) : Option (Int32 × cS) :=
  if x0 = x1 then
    rz 1 σ
  else
    rz 0 σ

def dL_is (a : Nat) (x1 : Int32) (x2 : Int32) (σ : cS) : Option (Int32 × cS) := if isO σ a 60 = true then gL σ a 60 fun fs => gz (m_X7_lambda_new_0 x1 x2 σ) else if isO σ a 61 = true then gL σ a 61 fun fs => gz (m_X7_lambda_new_1 x1 x2 σ) else if isO σ a 62 = true then gL σ a 62 fun fs => gz (m_X7_lambda_new_2 x1 x2 σ) else none

def m_X7_holds (F : Nat → Option Nat → cS → Option (Int32 × cS)) (o : Nat) (x1 : Option Nat) (σ : cS) : Option (Int32 × cS) :=
  gR σ (some o) 4 3 fun v_1 =>
  gI σ (some o) 4 0 fun v_2 =>
  aI σ x1 0 v_2 fun v_3 =>
  gI σ (some o) 4 2 fun v_4 =>
  icl v_1 (fun a_7 => dL_is a_7 v_3 v_4 σ) fun v_5 σ_6 =>
  rz v_5 σ_6

def m_X7_write (F : Nat → Option Nat → cS → Option (Int32 × cS)) (o : Nat) (x1 : Option Nat) (σ : cS) : Option (Int32 × cS) :=
  gI σ (some o) 4 0 fun v_1 =>
  nn σ (some (σ.2 49)) 12 fun a_4 => bd (m_J4_charAt a_4 v_1 σ) fun v_2 σ_3 =>
  nn σ_3 x1 11 fun a_7 => bd (m_J3_append_3 a_7 v_2 σ_3) fun v_5 σ_6 =>
  nn σ_6 v_5 11 fun a_10 => bd (m_J3_append_3 a_10 32 σ_6) fun v_8 σ_9 =>
  gI σ_9 (some o) 4 1 fun v_11 =>
  nn σ_9 v_8 11 fun a_14 => bd (m_J3_append_3 a_14 v_11 σ_9) fun v_12 σ_13 =>
  nn σ_13 v_12 11 fun a_17 => bd (m_J3_append_3 a_17 32 σ_13) fun v_15 σ_16 =>
  gI σ_16 (some o) 4 2 fun v_18 =>
  nn σ_16 v_15 11 fun a_21 => bd (m_J3_append a_21 v_18 σ_16) fun v_19 σ_20 =>
  some ((0 : Int32), σ_20)

def m_X8_init (o : Nat) (x1 : Int32) (σ : cS) : Option (Int32 × cS) :=
  nO σ 9 3 [.int 0, .null, .int 0] fun q_1 σ_2 =>
  bd (m_J18_init q_1 σ_2) fun _ σ_3 =>
  pO σ_3 (some o) 5 0 (va_rf (some q_1)) fun σ_4 =>
  gd (x1 = 0 ∨ x1 = 1) <|
  pO σ_4 (some o) 5 1 (.int x1) fun σ_5 =>
  some ((0 : Int32), σ_5)

def b_X8_holds_7 (F : Nat → Option Nat → cS → Option (Int32 × cS)) (o : Nat) : Nat → Option Nat → Int32 → Int32 → cS → Option (Int32 × cS)
  | 0, _, _, _, _ => none
  | n + 1, x1, x2, x3, σ =>
    gR σ (some o) 5 0 fun v_1 =>
    nn σ v_1 9 fun a_4 => bd (m_J18_size a_4 σ) fun v_2 σ_3 =>
    if v_2 ≤ x3 then
      rz x2 σ_3
    else
      gI σ_3 (some o) 5 1 fun v_6 =>
      if x2 = v_6 then
        gR σ_3 (some o) 5 0 fun v_8 =>
        nn σ_3 v_8 9 fun a_11 => bd (m_J18_get a_11 x3 σ_3) fun v_9 σ_10 =>
        cst σ_10 v_9 [4, 5, 6, 7] <|
        icl v_9 (fun a_14 => F a_14 x1 σ_10) fun v_12 σ_13 =>
        lt_ (x3 + 1) fun x3_15 =>
        (b_X8_holds_7 F o n) x1 v_12 x3_15 σ_13
      else
        rz x2 σ_3

def m_X8_holds (F : Nat → Option Nat → cS → Option (Int32 × cS)) (o : Nat) (x1 : Option Nat) (σ : cS) : Option (Int32 × cS) :=
  gI σ (some o) 5 1 fun v_1 =>
  b_X8_holds_7 F o FU x1 v_1 0 σ

def m_X8_tightness (o : Nat) (σ : cS) : Option (Int32 × cS) :=
  gI σ (some o) 5 1 fun v_1 =>
  if v_1 = 0 then
    some (0, σ)
  else
    some (1, σ)

def m_X12_tightness (o : Nat) (σ : cS) : Option (Int32 × cS) :=
  some (2, σ)

def b_X12_writeInside_51 (F : Nat → Option Nat → cS → Option (Int32 × cS)) : Option Nat → Option Nat → cS → Option (Int32 × cS) := fun s0 s1 σ =>
  nn σ s0 11 fun a_3 => bd (m_J3_append_2 a_3 s1 σ) fun v_1 σ_2 =>
  some ((0 : Int32), σ_2)

def b_X12_writeInside_28 (F : Nat → Option Nat → cS → Option (Int32 × cS)) : Option Nat → Option Nat → Int32 → Option Nat → Option Nat → cS → Option (Int32 × cS) := fun x0 x2 x3 s0 s1 σ =>
  nn σ s0 11 fun a_3 => bd (m_J3_append_2 a_3 s1 σ) fun v_1 σ_2 =>
  icl x0 (fun a_5 => F a_5 x2 σ_2) fun _ σ_4 =>
  if x3 = 0 then
    b_X12_writeInside_51 F x2 (some (σ_4.2 27)) σ_4
  else
    b_X12_writeInside_51 F x2 (some (σ_4.2 54)) σ_4

def b_X12_writeInside_15 (F : Nat → Option Nat → cS → Option (Int32 × cS)) : Option Nat → Option Nat → Int32 → cS → Option (Int32 × cS) := fun x0 x2 s0 σ =>
  if s0 = 0 then
    b_X12_writeInside_28 F x0 x2 s0 x2 (some (σ.2 27)) σ
  else
    b_X12_writeInside_28 F x0 x2 s0 x2 (some (σ.2 53)) σ

def m_X12_writeInside (F : Nat → Option Nat → cS → Option (Int32 × cS)) (x0 : Option Nat) (x1 : Int32) (x2 : Option Nat) (σ : cS) : Option (Int32 × cS) :=
  icl x0 (fun a_3 => dsp σ [(5, m_X8_tightness a_3 σ), (4, m_X12_tightness a_3 σ), (6, m_X12_tightness a_3 σ), (7, m_X12_tightness a_3 σ)] a_3) fun v_1 σ_2 =>
  if x1 ≤ v_1 then
    b_X12_writeInside_15 F x0 x2 0 σ_2
  else
    b_X12_writeInside_15 F x0 x2 1 σ_2

def b_X8_write_37 (F : Nat → Option Nat → cS → Option (Int32 × cS)) (o : Nat) (k2 : Option Nat → Int32 → cS → Option (Int32 × cS)) : Option Nat → Int32 → Option Nat → Option Nat → cS → Option (Int32 × cS) := fun x1 x2 s0 s1 σ =>
  nn σ s0 11 fun a_3 => bd (m_J3_append_2 a_3 s1 σ) fun v_1 σ_2 =>
  gR σ_2 (some o) 5 0 fun v_4 =>
  nn σ_2 v_4 9 fun a_7 => bd (m_J18_get a_7 x2 σ_2) fun v_5 σ_6 =>
  cst σ_6 v_5 [4, 5, 6, 7] <|
  nn σ_6 (some o) 5 fun a_10 => bd (m_X8_tightness a_10 σ_6) fun v_8 σ_9 =>
  bd (m_X12_writeInside F v_5 v_8 x1 σ_9) fun _ σ_11 =>
  lt_ (x2 + 1) fun x2_12 =>
  k2 x1 x2_12 σ_11

def b_X8_write_2 (F : Nat → Option Nat → cS → Option (Int32 × cS)) (o : Nat) : Nat → Option Nat → Int32 → cS → Option (Int32 × cS)
  | 0, _, _, _ => none
  | n + 1, x1, x2, σ =>
    gR σ (some o) 5 0 fun v_1 =>
    nn σ v_1 9 fun a_4 => bd (m_J18_size a_4 σ) fun v_2 σ_3 =>
    if v_2 ≤ x2 then
      some ((0 : Int32), σ_3)
    else
      if x2 = 0 then
        b_X8_write_37 F o (b_X8_write_2 F o n) x1 x2 x1 (some (σ_3.2 27)) σ_3
      else
        gI σ_3 (some o) 5 1 fun v_7 =>
        if v_7 = 0 then
          b_X8_write_37 F o (b_X8_write_2 F o n) x1 x2 x1 (some (σ_3.2 51)) σ_3
        else
          b_X8_write_37 F o (b_X8_write_2 F o n) x1 x2 x1 (some (σ_3.2 50)) σ_3

def m_X8_write (F : Nat → Option Nat → cS → Option (Int32 × cS)) (o : Nat) (x1 : Option Nat) (σ : cS) : Option (Int32 × cS) :=
  b_X8_write_2 F o FU x1 0 σ

def m_X5_init (o : Nat) (x1 : Option Nat) (σ : cS) : Option (Int32 × cS) :=
  pO σ (some o) 6 0 (va_rf x1) fun σ_1 =>
  some ((0 : Int32), σ_1)

def m_X5_holds (F : Nat → Option Nat → cS → Option (Int32 × cS)) (o : Nat) (x1 : Option Nat) (σ : cS) : Option (Int32 × cS) :=
  gR σ (some o) 6 0 fun v_1 =>
  icl v_1 (fun a_4 => F a_4 x1 σ) fun v_2 σ_3 =>
  if v_2 = 0 then
    rz 1 σ_3
  else
    rz 0 σ_3

def m_X5_write (F : Nat → Option Nat → cS → Option (Int32 × cS)) (o : Nat) (x1 : Option Nat) (σ : cS) : Option (Int32 × cS) :=
  nn σ x1 11 fun a_3 => bd (m_J3_append_2 a_3 (some (σ.2 52)) σ) fun v_1 σ_2 =>
  gR σ_2 (some o) 6 0 fun v_4 =>
  bd (m_X12_writeInside F v_4 2 x1 σ_2) fun _ σ_5 =>
  some ((0 : Int32), σ_5)

def m_X6_init (o : Nat) (σ : cS) : Option (Int32 × cS) :=
  some ((0 : Int32), σ)

def m_X6_holds (F : Nat → Option Nat → cS → Option (Int32 × cS)) (o : Nat) (x1 : Option Nat) (σ : cS) : Option (Int32 × cS) :=
  rz 1 σ

def dv_holds : Nat → Nat → Option Nat → cS → Option (Int32 × cS)
  | 0 => fun _ _ _ => none
  | d + 1 => fun a x1 σ => if isO σ a 4 = true then m_X7_holds (dv_holds d) a x1 σ else if isO σ a 5 = true then m_X8_holds (dv_holds d) a x1 σ else if isO σ a 6 = true then m_X5_holds (dv_holds d) a x1 σ else if isO σ a 7 = true then m_X6_holds (dv_holds d) a x1 σ else none

def m_X6_write (F : Nat → Option Nat → cS → Option (Int32 × cS)) (o : Nat) (x1 : Option Nat) (σ : cS) : Option (Int32 × cS) :=
  nn σ x1 11 fun a_3 => bd (m_J3_append_2 a_3 (some (σ.2 47)) σ) fun v_1 σ_2 =>
  some ((0 : Int32), σ_2)

def dv_write : Nat → Nat → Option Nat → cS → Option (Int32 × cS)
  | 0 => fun _ _ _ => none
  | d + 1 => fun a x1 σ => if isO σ a 4 = true then m_X7_write (dv_write d) a x1 σ else if isO σ a 5 = true then m_X8_write (dv_write d) a x1 σ else if isO σ a 6 = true then m_X5_write (dv_write d) a x1 σ else if isO σ a 7 = true then m_X6_write (dv_write d) a x1 σ else none

def m_X3_init (o : Nat) (x1 : Int32) (x2 : Int32) (σ : cS) : Option (Int32 × cS) :=
  exI σ (some o) fun σ_1 =>
  pO σ_1 (some o) 14 0 (.int x1) fun σ_2 =>
  pO σ_2 (some o) 14 1 (.int x2) fun σ_3 =>
  some ((0 : Int32), σ_3)

def m_X2_init (o : Nat) (x1 : Option Nat) (x2 : Int32) (σ : cS) : Option (Int32 × cS) :=
  pO σ (some o) 8 6 (va_rf (some (σ.2 27))) fun σ_1 =>
  pO σ_1 (some o) 8 0 (va_rf x1) fun σ_2 =>
  pO σ_2 (some o) 8 1 (.int x2) fun σ_3 =>
  some ((0 : Int32), σ_3)

def m_X2_expect (o : Nat) (x1 : Option Nat) (σ : cS) : Option ((cX (Int32)) × cS) :=
  gR σ (some o) 8 5 fun v_1 =>
  if v_1 = x1 then
    xl (some ((0 : Int32), σ))
  else
    nO σ 59 8 [] fun q_3 σ_4 =>
    gI σ_4 (some o) 8 4 fun v_5 =>
    bd (m_X3_init q_3 v_5 1 σ_4) fun _ σ_6 =>
    thF σ_6 (some q_3)

def m_X2_within (o : Nat) (x1 : Int32) (x2 : Int32) (x3 : Int32) (σ : cS) : Option (Int32 × cS) :=
  gI σ (some o) 8 1 fun v_1 =>
  if v_1 ≤ x1 then
    rz 0 σ
  else
    gR σ (some o) 8 0 fun v_3 =>
    icl v_3 (fun a_6 => dsp σ [(12, m_J4_charAt a_6 x1 σ), (11, m_J3_charAt a_6 x1 σ)] a_6) fun v_4 σ_5 =>
    if v_4 < x2 then
      rz 0 σ_5
    else
      gR σ_5 (some o) 8 0 fun v_8 =>
      icl v_8 (fun a_11 => dsp σ_5 [(12, m_J4_charAt a_11 x1 σ_5), (11, m_J3_charAt a_11 x1 σ_5)] a_11) fun v_9 σ_10 =>
      if x3 < v_9 then
        rz 0 σ_10
      else
        rz 1 σ_10

def b_X2_next_47 (o : Nat) (k0 : cS → Option (Int32 × cS)) : cS → Option (Int32 × cS) := fun σ =>
  gI σ (some o) 8 3 fun v_1 =>
  pO σ (some o) 8 3 (.int (v_1 + 1)) fun σ_2 =>
  k0 σ_2

def b_X2_next_104 (o : Nat) : Nat → cS → Option (Int32 × cS)
  | 0, _ => none
  | n + 1, σ =>
    gI σ (some o) 8 3 fun v_1 =>
    nn σ (some o) 8 fun a_4 => bd (m_X2_within a_4 v_1 97 122 σ) fun v_2 σ_3 =>
    if v_2 = 0 then
      gR σ_3 (some o) 8 0 fun v_6 =>
      gI σ_3 (some o) 8 4 fun v_7 =>
      gI σ_3 (some o) 8 3 fun v_8 =>
      icl v_6 (fun a_11 => dsp σ_3 [(12, m_J4_subSequence a_11 v_7 v_8 σ_3), (11, m_J3_subSequence a_11 v_7 v_8 σ_3)] a_11) fun v_9 σ_10 =>
      icl v_9 (fun a_14 => dsp σ_10 [(12, m_J4_toString a_14 σ_10)] a_14) fun v_12 σ_13 =>
      pO σ_13 (some o) 8 6 (va_rf v_12) fun σ_15 =>
      pO σ_15 (some o) 8 5 (va_rf (some (σ_15.2 12))) fun σ_16 =>
      some ((0 : Int32), σ_16)
    else
      gI σ_3 (some o) 8 3 fun v_17 =>
      pO σ_3 (some o) 8 3 (.int (v_17 + 1)) fun σ_18 =>
      (b_X2_next_104 o n) σ_18

def b_X2_next_248 (o : Nat) (k188 : cS → Option (Int32 × cS)) : Option Nat → Int32 → cS → Option (Int32 × cS) := fun s0 s1 σ =>
  pO σ s0 8 7 (.int s1) fun σ_1 =>
  gI σ_1 (some o) 8 3 fun v_2 =>
  pO σ_1 (some o) 8 3 (.int (v_2 + 1)) fun σ_3 =>
  k188 σ_3

def b_X2_next_287 (o : Nat) : Option Nat → Option Nat → cS → Option (Int32 × cS) := fun s0 s1 σ =>
  pO σ s0 8 5 (va_rf s1) fun σ_1 =>
  some ((0 : Int32), σ_1)

def b_X2_next_188 (o : Nat) : Nat → cS → Option (Int32 × cS)
  | 0, _ => none
  | n + 1, σ =>
    gI σ (some o) 8 3 fun v_1 =>
    nn σ (some o) 8 fun a_4 => bd (m_X2_within a_4 v_1 48 57 σ) fun v_2 σ_3 =>
    if v_2 = 0 then
      gI σ_3 (some o) 8 3 fun v_6 =>
      gI σ_3 (some o) 8 4 fun v_7 =>
      if (v_6 - v_7) ≤ 4 then
        b_X2_next_287 o (some o) (some (σ_3.2 13)) σ_3
      else
        b_X2_next_287 o (some o) (some (σ_3.2 14)) σ_3
    else
      gI σ_3 (some o) 8 3 fun v_9 =>
      gI σ_3 (some o) 8 4 fun v_10 =>
      if 4 ≤ (v_9 - v_10) then
        gI σ_3 (some o) 8 7 fun v_12 =>
        b_X2_next_248 o (b_X2_next_188 o n) (some o) v_12 σ_3
      else
        gI σ_3 (some o) 8 7 fun v_13 =>
        gR σ_3 (some o) 8 0 fun v_14 =>
        gI σ_3 (some o) 8 3 fun v_15 =>
        icl v_14 (fun a_18 => dsp σ_3 [(12, m_J4_charAt a_18 v_15 σ_3), (11, m_J3_charAt a_18 v_15 σ_3)] a_18) fun v_16 σ_17 =>
        b_X2_next_248 o (b_X2_next_188 o n) (some o) (((10 * v_13) + v_16) - 48) σ_17

def b_X2_next_324 (o : Nat) : Option Nat → Option Nat → cS → Option (Int32 × cS) := fun s0 s1 σ =>
  pO σ s0 8 5 (va_rf s1) fun σ_1 =>
  gI σ_1 (some o) 8 3 fun v_2 =>
  pO σ_1 (some o) 8 3 (.int (v_2 + 1)) fun σ_3 =>
  some ((0 : Int32), σ_3)

def b_X2_next_60 (o : Nat) : cS → Option (Int32 × cS) := fun σ =>
  gI σ (some o) 8 3 fun v_1 =>
  pO σ (some o) 8 4 (.int v_1) fun σ_2 =>
  gI σ_2 (some o) 8 3 fun v_3 =>
  gI σ_2 (some o) 8 1 fun v_4 =>
  if v_3 < v_4 then
    gI σ_2 (some o) 8 3 fun v_6 =>
    nn σ_2 (some o) 8 fun a_9 => bd (m_X2_within a_9 v_6 97 122 σ_2) fun v_7 σ_8 =>
    if v_7 = 0 then
      gI σ_8 (some o) 8 3 fun v_11 =>
      nn σ_8 (some o) 8 fun a_14 => bd (m_X2_within a_14 v_11 48 57 σ_8) fun v_12 σ_13 =>
      if v_12 = 0 then
        gR σ_13 (some o) 8 0 fun v_16 =>
        gI σ_13 (some o) 8 3 fun v_17 =>
        icl v_16 (fun a_20 => dsp σ_13 [(12, m_J4_charAt a_20 v_17 σ_13), (11, m_J3_charAt a_20 v_17 σ_13)] a_20) fun v_18 σ_19 =>
        nn σ_19 (some (σ_13.2 35)) 12 fun a_23 => bd (m_J4_indexOf a_23 v_18 σ_19) fun v_21 σ_22 =>
        if v_21 < 0 then
          b_X2_next_324 o (some o) (some (σ_22.2 14)) σ_22
        else
          b_X2_next_324 o (some o) (some (σ_22.2 11)) σ_22
      else
        pO σ_13 (some o) 8 7 (.int 0) fun σ_25 =>
        b_X2_next_188 o FU σ_25
    else
      b_X2_next_104 o FU σ_8
  else
    pO σ_2 (some o) 8 5 (va_rf (some (σ_2.2 10))) fun σ_26 =>
    some ((0 : Int32), σ_26)

def b_X2_next_0 (o : Nat) : Nat → cS → Option (Int32 × cS)
  | 0, _ => none
  | n + 1, σ =>
    gI σ (some o) 8 3 fun v_1 =>
    gI σ (some o) 8 1 fun v_2 =>
    if v_2 ≤ v_1 then
      b_X2_next_60 o σ
    else
      gR σ (some o) 8 0 fun v_4 =>
      gI σ (some o) 8 3 fun v_5 =>
      icl v_4 (fun a_8 => dsp σ [(12, m_J4_charAt a_8 v_5 σ), (11, m_J3_charAt a_8 v_5 σ)] a_8) fun v_6 σ_7 =>
      if v_6 = 32 then
        b_X2_next_47 o (b_X2_next_0 o n) σ_7
      else
        gR σ_7 (some o) 8 0 fun v_10 =>
        gI σ_7 (some o) 8 3 fun v_11 =>
        icl v_10 (fun a_14 => dsp σ_7 [(12, m_J4_charAt a_14 v_11 σ_7), (11, m_J3_charAt a_14 v_11 σ_7)] a_14) fun v_12 σ_13 =>
        if v_12 = 10 then
          b_X2_next_47 o (b_X2_next_0 o n) σ_13
        else
          b_X2_next_60 o σ_13

def m_X2_next (o : Nat) (σ : cS) : Option (Int32 × cS) :=
  b_X2_next_0 o FU σ

def b_X2_look_23 (o : Nat) : cS → Option ((cX (Int32)) × cS) := fun σ =>
  nO σ 59 8 [] fun q_1 σ_2 =>
  gI σ_2 (some o) 8 4 fun v_3 =>
  bd (m_X3_init q_1 v_3 2 σ_2) fun _ σ_4 =>
  thF σ_4 (some q_1)

def m_X2_look (o : Nat) (x1 : Int32) (x2 : Int32) (σ : cS) : Option ((cX (Int32)) × cS) :=
  nn σ (some o) 8 fun a_2 => bdx (m_X2_expect a_2 (some (σ.2 13)) σ) fun _ σ_1 =>
  gI σ_1 (some o) 8 7 fun v_3 =>
  if v_3 < x1 then
    b_X2_look_23 o σ_1
  else
    gI σ_1 (some o) 8 7 fun v_5 =>
    if v_5 ≤ x2 then
      gI σ_1 (some o) 8 7 fun v_7 =>
      xl (some (v_7, σ_1))
    else
      b_X2_look_23 o σ_1

def m_X2_number (o : Nat) (x1 : Int32) (x2 : Int32) (σ : cS) : Option ((cX (Int32)) × cS) :=
  nn σ (some o) 8 fun a_3 => bdx (m_X2_look a_3 x1 x2 σ) fun v_1 σ_2 =>
  nn σ_2 (some o) 8 fun a_5 => bd (m_X2_next a_5 σ_2) fun _ σ_4 =>
  xl (some (v_1, σ_4))

def m_X2_isWord (o : Nat) (x1 : Option Nat) (σ : cS) : Option (Int32 × cS) :=
  gR σ (some o) 8 5 fun v_1 =>
  if v_1 = (some (σ.2 12)) then
    gR σ (some o) 8 6 fun v_3 =>
    icl x1 (fun a_6 => dsp σ [(12, m_J4_toString a_6 σ)] a_6) fun v_4 σ_5 =>
    nn σ_5 v_3 12 fun a_9 => bd (m_J4_equals a_9 v_4 σ_5) fun v_7 σ_8 =>
    if v_7 = 0 then
      rz 0 σ_8
    else
      rz 1 σ_8
  else
    rz 0 σ

def b_X2_term_35 (F : Nat → Int32 → cS → Option (cX (Option Nat) × cS)) (o : Nat) : Nat → Int32 → Option Nat → cS → Option ((cX (Option Nat)) × cS)
  | 0, _, _, _ => none
  | n + 1, x1, x3, σ =>
    nn σ (some o) 8 fun a_3 => bd (m_X2_isWord a_3 (some (σ.2 45)) σ) fun v_1 σ_2 =>
    if v_1 = 0 then
      xl (some (x3, σ_2))
    else
      nn σ_2 (some o) 8 fun a_6 => bd (m_X2_next a_6 σ_2) fun _ σ_5 =>
      gR σ_5 x3 5 0 fun v_7 =>
      nn σ_5 (some o) 8 fun a_10 => bdx (F a_10 x1 σ_5) fun v_8 σ_9 =>
      nn σ_9 v_7 9 fun a_13 => bd (m_J18_add a_13 v_8 σ_9) fun v_11 σ_12 =>
      (b_X2_term_35 F o n) x1 x3 σ_12

def m_X2_term (F : Nat → Int32 → cS → Option (cX (Option Nat) × cS)) (o : Nat) (x1 : Int32) (σ : cS) : Option ((cX (Option Nat)) × cS) :=
  nn σ (some o) 8 fun a_3 => bdx (F a_3 x1 σ) fun v_1 σ_2 =>
  nn σ_2 (some o) 8 fun a_6 => bd (m_X2_isWord a_6 (some (σ_2.2 45)) σ_2) fun v_4 σ_5 =>
  if v_4 = 0 then
    xl (some (v_1, σ_5))
  else
    nO σ_5 5 2 [.null, .int 0] fun q_8 σ_9 =>
    bd (m_X8_init q_8 1 σ_9) fun _ σ_10 =>
    gR σ_10 (some q_8) 5 0 fun v_11 =>
    nn σ_10 v_11 9 fun a_14 => bd (m_J18_add a_14 v_1 σ_10) fun v_12 σ_13 =>
    b_X2_term_35 F o FU x1 (some q_8) σ_13

def b_X2_guard_35 (F : Nat → Int32 → cS → Option (cX (Option Nat) × cS)) (o : Nat) : Nat → Int32 → Option Nat → cS → Option ((cX (Option Nat)) × cS)
  | 0, _, _, _ => none
  | n + 1, x1, x3, σ =>
    nn σ (some o) 8 fun a_3 => bd (m_X2_isWord a_3 (some (σ.2 44)) σ) fun v_1 σ_2 =>
    if v_1 = 0 then
      xl (some (x3, σ_2))
    else
      nn σ_2 (some o) 8 fun a_6 => bd (m_X2_next a_6 σ_2) fun _ σ_5 =>
      gR σ_5 x3 5 0 fun v_7 =>
      nn σ_5 (some o) 8 fun a_10 => bdx (m_X2_term F a_10 x1 σ_5) fun v_8 σ_9 =>
      nn σ_9 v_7 9 fun a_13 => bd (m_J18_add a_13 v_8 σ_9) fun v_11 σ_12 =>
      (b_X2_guard_35 F o n) x1 x3 σ_12

def m_X2_guard (F : Nat → Int32 → cS → Option (cX (Option Nat) × cS)) (o : Nat) (x1 : Int32) (σ : cS) : Option ((cX (Option Nat)) × cS) :=
  nn σ (some o) 8 fun a_3 => bdx (m_X2_term F a_3 x1 σ) fun v_1 σ_2 =>
  nn σ_2 (some o) 8 fun a_6 => bd (m_X2_isWord a_6 (some (σ_2.2 44)) σ_2) fun v_4 σ_5 =>
  if v_4 = 0 then
    xl (some (v_1, σ_5))
  else
    nO σ_5 5 2 [.null, .int 0] fun q_8 σ_9 =>
    bd (m_X8_init q_8 0 σ_9) fun _ σ_10 =>
    gR σ_10 (some q_8) 5 0 fun v_11 =>
    nn σ_10 v_11 9 fun a_14 => bd (m_J18_add a_14 v_1 σ_10) fun v_12 σ_13 =>
    b_X2_guard_35 F o FU x1 (some q_8) σ_13

def m_X2_newIn (o : Nat) (x1 : Int32) (x2 : Int32) (σ : cS) : Option ((cX (Int32)) × cS) :=
  nn σ (some o) 8 fun a_3 => bdx (m_X2_look a_3 0 x2 σ) fun v_1 σ_2 =>
  if ((x1 >>> (v_1 &&& 31)) &&& 1) = 1 then
    nO σ_2 59 8 [] fun q_7 σ_8 =>
    gI σ_8 (some o) 8 4 fun v_9 =>
    bd (m_X3_init q_7 v_9 3 σ_8) fun _ σ_10 =>
    thF σ_10 (some q_7)
  else
    nn σ_2 (some o) 8 fun a_6 => bd (m_X2_next a_6 σ_2) fun _ σ_5 =>
    xl (some (v_1, σ_5))

def m_X2_isSign (o : Nat) (x1 : Int32) (σ : cS) : Option (Int32 × cS) :=
  gR σ (some o) 8 5 fun v_1 =>
  if v_1 = (some (σ.2 11)) then
    gR σ (some o) 8 0 fun v_3 =>
    gI σ (some o) 8 4 fun v_4 =>
    icl v_3 (fun a_7 => dsp σ [(12, m_J4_charAt a_7 v_4 σ), (11, m_J3_charAt a_7 v_4 σ)] a_7) fun v_5 σ_6 =>
    if v_5 = x1 then
      rz 1 σ_6
    else
      rz 0 σ_6
  else
    rz 0 σ

def m_X2_sign (o : Nat) (x1 : Int32) (σ : cS) : Option ((cX (Int32)) × cS) :=
  nn σ (some o) 8 fun a_3 => bd (m_X2_isSign a_3 x1 σ) fun v_1 σ_2 =>
  if v_1 = 0 then
    nO σ_2 59 8 [] fun q_7 σ_8 =>
    gI σ_8 (some o) 8 4 fun v_9 =>
    bd (m_X3_init q_7 v_9 1 σ_8) fun _ σ_10 =>
    thF σ_10 (some q_7)
  else
    nn σ_2 (some o) 8 fun a_6 => bd (m_X2_next a_6 σ_2) fun _ σ_5 =>
    xl (some ((0 : Int32), σ_5))

def b_X9_sharesTogether_4 (o : Nat) : Nat → Int32 → Int32 → cS → Option (Int32 × cS)
  | 0, _, _, _ => none
  | n + 1, x1, x2, σ =>
    if 4 ≤ x2 then
      some (x1, σ)
    else
      gR σ (some o) 2 2 fun v_2 =>
      aI σ v_2 0 x2 fun v_3 =>
      lt_ (x1 + v_3) fun x1_4 =>
      lt_ (x2 + 1) fun x2_5 =>
      (b_X9_sharesTogether_4 o n) x1_4 x2_5 σ

def m_X9_sharesTogether (o : Nat) (σ : cS) : Option (Int32 × cS) :=
  b_X9_sharesTogether_4 o FU 0 0 σ

def b_X4_forget_2 (o : Nat) : Nat → Int32 → cS → Option (Int32 × cS)
  | 0, _, _ => none
  | n + 1, x1, σ =>
    gR σ (some o) 1 5 fun v_1 =>
    aL σ v_1 fun v_2 =>
    if v_2 ≤ x1 then
      some ((0 : Int32), σ)
    else
      gR σ (some o) 1 5 fun v_4 =>
      sR σ v_4 x1 none fun σ_5 =>
      lt_ (x1 + 1) fun x1_6 =>
      (b_X4_forget_2 o n) x1_6 σ_5

def m_X4_forget (o : Nat) (σ : cS) : Option (Int32 × cS) :=
  b_X4_forget_2 o FU 0 σ

def b_X4_setShare_62 (o : Nat) : Int32 → Option Nat → Int32 → Int32 → cS → Option (Int32 × cS) := fun x6 s0 s1 s2 σ =>
  sI σ s0 0 s1 s2 fun σ_1 =>
  rz x6 σ_1

def b_X4_setShare_39 (o : Nat) : Option Nat → Int32 → Int32 → Int32 → cS → Option (Int32 × cS) := fun x1 x2 x5 s0 σ =>
  gR σ x1 2 2 fun v_1 =>
  if s0 = 0 then
    gR σ x1 2 2 fun v_3 =>
    aI σ v_3 0 x2 fun v_4 =>
    b_X4_setShare_62 o s0 v_1 x2 v_4 σ
  else
    b_X4_setShare_62 o s0 v_1 x2 x5 σ

def m_X4_setShare (o : Nat) (x1 : Option Nat) (x2 : Int32) (x3 : Int32) (x4 : Int32) (σ : cS) : Option (Int32 × cS) :=
  nn σ (some o) 1 fun a_2 => bd (m_X4_forget a_2 σ) fun _ σ_1 =>
  nz x4 <|
  lt_ ((27720 / x4) * x3) fun x5_3 =>
  nn σ_1 x1 2 fun a_6 => bd (m_X9_sharesTogether a_6 σ_1) fun v_4 σ_5 =>
  gR σ_5 x1 2 2 fun v_7 =>
  aI σ_5 v_7 0 x2 fun v_8 =>
  if 27720 < ((v_4 - v_8) + x5_3) then
    b_X4_setShare_39 o x1 x2 x5_3 0 σ_5
  else
    b_X4_setShare_39 o x1 x2 x5_3 1 σ_5

def b_X2_parts_4 (o : Nat) : Nat → Option Nat → Int32 → Int32 → cS → Option ((cX (Int32)) × cS)
  | 0, _, _, _, _ => none
  | n + 1, x1, x2, x3, σ =>
    if x3 = 0 then
      xl (some ((0 : Int32), σ))
    else
      gR σ (some o) 8 2 fun v_2 =>
      gI σ v_2 1 1 fun v_3 =>
      nn σ (some o) 8 fun a_6 => bdx (m_X2_newIn a_6 x2 (v_3 - 1) σ) fun v_4 σ_5 =>
      lt_ (x2 ||| (1 <<< (v_4 &&& 31))) fun x2_7 =>
      nn σ_5 (some o) 8 fun a_10 => bdx (m_X2_number a_10 0 12 σ_5) fun v_8 σ_9 =>
      nn σ_9 (some o) 8 fun a_12 => bdx (m_X2_sign a_12 47 σ_9) fun _ σ_11 =>
      nn σ_11 (some o) 8 fun a_15 => bdx (m_X2_look a_15 1 12 σ_11) fun v_13 σ_14 =>
      gR σ_14 (some o) 8 2 fun v_16 =>
      nn σ_14 v_16 1 fun a_19 => bd (m_X4_setShare a_19 x1 v_4 v_8 v_13 σ_14) fun v_17 σ_18 =>
      if v_17 = 0 then
        nO σ_18 59 8 [] fun q_29 σ_30 =>
        gI σ_30 (some o) 8 4 fun v_31 =>
        bd (m_X3_init q_29 v_31 5 σ_30) fun _ σ_32 =>
        thF σ_32 (some q_29)
      else
        nn σ_18 (some o) 8 fun a_22 => bd (m_X2_next a_22 σ_18) fun _ σ_21 =>
        nn σ_21 (some o) 8 fun a_25 => bd (m_X2_isSign a_25 44 σ_21) fun v_23 σ_24 =>
        if v_23 = 0 then
          (b_X2_parts_4 o n) x1 x2_7 v_23 σ_24
        else
          nn σ_24 (some o) 8 fun a_28 => bd (m_X2_next a_28 σ_24) fun _ σ_27 =>
          (b_X2_parts_4 o n) x1 x2_7 v_23 σ_27

def m_X2_parts (o : Nat) (x1 : Option Nat) (σ : cS) : Option ((cX (Int32)) × cS) :=
  b_X2_parts_4 o FU x1 0 1 σ

def m_X2_word (o : Nat) (x1 : Option Nat) (σ : cS) : Option ((cX (Int32)) × cS) :=
  nn σ (some o) 8 fun a_3 => bd (m_X2_isWord a_3 x1 σ) fun v_1 σ_2 =>
  if v_1 = 0 then
    nO σ_2 59 8 [] fun q_7 σ_8 =>
    gI σ_8 (some o) 8 4 fun v_9 =>
    bd (m_X3_init q_7 v_9 1 σ_8) fun _ σ_10 =>
    thF σ_10 (some q_7)
  else
    nn σ_2 (some o) 8 fun a_6 => bd (m_X2_next a_6 σ_2) fun _ σ_5 =>
    xl (some ((0 : Int32), σ_5))

def m_X9_init (o : Nat) (x1 : Option Nat) (x2 : Int32) (σ : cS) : Option (Int32 × cS) :=
  nA σ 0 4 (.inl (fun _ => 0)) fun q_1 σ_2 =>
  pO σ_2 (some o) 2 2 (va_rf (some q_1)) fun σ_3 =>
  pO σ_3 (some o) 2 0 (va_rf x1) fun σ_4 =>
  pO σ_4 (some o) 2 1 (.int x2) fun σ_5 =>
  some ((0 : Int32), σ_5)

def m_X1_always (σ : cS) : Option (Option Nat × cS) :=
  nO σ 7 0 [] fun q_1 σ_2 =>
  bd (m_X6_init q_1 σ_2) fun _ σ_3 =>
  some (some q_1, σ_3)

def b_X2_simple_152 (o : Nat) : Int32 → Int32 → cS → Option ((cX (Option Nat)) × cS) := fun x2 s0 σ =>
  nn σ (some (σ.2 48)) 12 fun a_3 => bd (m_J4_indexOf a_3 s0 σ) fun v_1 σ_2 =>
  if 0 ≤ v_1 then
    nn σ_2 (some o) 8 fun a_6 => bd (m_X2_next a_6 σ_2) fun _ σ_5 =>
    nO σ_5 4 4 [.int 0, .int 0, .int 0, .null] fun q_7 σ_8 =>
    gR σ_8 (some o) 8 2 fun v_9 =>
    gR σ_8 v_9 1 0 fun v_10 =>
    aI σ_8 v_10 0 x2 fun v_11 =>
    nn σ_8 (some o) 8 fun a_14 => bdx (m_X2_number a_14 0 (v_11 - 1) σ_8) fun v_12 σ_13 =>
    bd (m_X7_init q_7 x2 s0 v_12 σ_13) fun _ σ_15 =>
    xl (some (some q_7, σ_15))
  else
    nO σ_2 59 8 [] fun q_16 σ_17 =>
    gI σ_17 (some o) 8 4 fun v_18 =>
    bd (m_X3_init q_16 v_18 1 σ_17) fun _ σ_19 =>
    thF σ_19 (some q_16)

def b_X2_simple_80 (o : Nat) : Int32 → Int32 → cS → Option ((cX (Option Nat)) × cS) := fun x1 x2 σ =>
  gI σ (some o) 8 8 fun v_1 =>
  if v_1 = 12 then
    nO σ 59 8 [] fun q_17 σ_18 =>
    gI σ_18 (some o) 8 4 fun v_19 =>
    bd (m_X3_init q_17 v_19 4 σ_18) fun _ σ_20 =>
    thF σ_20 (some q_17)
  else
    gI σ (some o) 8 8 fun v_3 =>
    pO σ (some o) 8 8 (.int (v_3 + 1)) fun σ_4 =>
    nn σ_4 (some o) 8 fun a_6 => bd (m_X2_next a_6 σ_4) fun _ σ_5 =>
    if x1 = 0 then
      gR σ_5 (some o) 8 5 fun v_8 =>
      if v_8 = (some (σ_5.2 11)) then
        gR σ_5 (some o) 8 0 fun v_10 =>
        gI σ_5 (some o) 8 4 fun v_11 =>
        icl v_10 (fun a_14 => dsp σ_5 [(12, m_J4_charAt a_14 v_11 σ_5), (11, m_J3_charAt a_14 v_11 σ_5)] a_14) fun v_12 σ_13 =>
        b_X2_simple_152 o x2 v_12 σ_13
      else
        b_X2_simple_152 o x2 59 σ_5
    else
      bd (m_X1_always σ_5) fun v_15 σ_16 =>
      xl (some (v_15, σ_16))

def b_X2_simple_50 (o : Nat) : Int32 → Int32 → cS → Option ((cX (Option Nat)) × cS) := fun x1 s0 σ =>
  if x1 = 0 then
    gR σ (some o) 8 2 fun v_2 =>
    gR σ v_2 1 0 fun v_3 =>
    aL σ v_3 fun v_4 =>
    if s0 < v_4 then
      b_X2_simple_80 o x1 s0 σ
    else
      nO σ 59 8 [] fun q_6 σ_7 =>
      gI σ_7 (some o) 8 4 fun v_8 =>
      bd (m_X3_init q_6 v_8 1 σ_7) fun _ σ_9 =>
      thF σ_9 (some q_6)
  else
    b_X2_simple_80 o x1 s0 σ

def m_X2_simple (o : Nat) (σ : cS) : Option ((cX (Option Nat)) × cS) :=
  nn σ (some o) 8 fun a_2 => bdx (m_X2_expect a_2 (some (σ.2 12)) σ) fun _ σ_1 =>
  gR σ_1 (some o) 8 6 fun v_3 =>
  nn σ_1 v_3 12 fun a_6 => bd (m_J4_equals a_6 (some (σ_1.2 47)) σ_1) fun v_4 σ_5 =>
  gR σ_5 (some o) 8 6 fun v_7 =>
  nn σ_5 v_7 12 fun a_10 => bd (m_J4_length a_10 σ_5) fun v_8 σ_9 =>
  if v_8 = 1 then
    gR σ_9 (some o) 8 6 fun v_15 =>
    nn σ_9 v_15 12 fun a_18 => bd (m_J4_charAt a_18 0 σ_9) fun v_16 σ_17 =>
    b_X2_simple_50 o v_4 (v_16 - 97) σ_17
  else
    gR σ_9 (some o) 8 2 fun v_12 =>
    gR σ_9 v_12 1 0 fun v_13 =>
    aL σ_9 v_13 fun v_14 =>
    b_X2_simple_50 o v_4 v_14 σ_9

def m_X1_not (x0 : Option Nat) (σ : cS) : Option (Option Nat × cS) :=
  nO σ 6 1 [.null] fun q_1 σ_2 =>
  bd (m_X5_init q_1 x0 σ_2) fun _ σ_3 =>
  some (some q_1, σ_3)

def mO_X2_factor (F : Nat → Int32 → cS → Option (cX (Option Nat) × cS)) (o : Nat) (x1 : Int32) (σ : cS) : Option ((cX (Option Nat)) × cS) :=
  nn σ (some o) 8 fun a_3 => bd (m_X2_isSign a_3 40 σ) fun v_1 σ_2 =>
  if v_1 = 0 then
    nn σ_2 (some o) 8 fun a_7 => bd (m_X2_isWord a_7 (some (σ_2.2 46)) σ_2) fun v_5 σ_6 =>
    if v_5 = 0 then
      nn σ_6 (some o) 8 fun a_11 => bdx (m_X2_simple a_11 σ_6) fun v_9 σ_10 =>
      xl (some (v_9, σ_10))
    else
      gI σ_6 (some o) 8 9 fun v_12 =>
      if v_12 = 5 then
        nO σ_6 59 8 [] fun q_23 σ_24 =>
        gI σ_24 (some o) 8 4 fun v_25 =>
        bd (m_X3_init q_23 v_25 4 σ_24) fun _ σ_26 =>
        thF σ_26 (some q_23)
      else
        gI σ_6 (some o) 8 9 fun v_14 =>
        pO σ_6 (some o) 8 9 (.int (v_14 + 1)) fun σ_15 =>
        nn σ_15 (some o) 8 fun a_17 => bd (m_X2_next a_17 σ_15) fun _ σ_16 =>
        nn σ_16 (some o) 8 fun a_20 => bdx (F a_20 x1 σ_16) fun v_18 σ_19 =>
        bd (m_X1_not v_18 σ_19) fun v_21 σ_22 =>
        xl (some (v_21, σ_22))
  else
    if x1 = 5 then
      nO σ_2 59 8 [] fun q_35 σ_36 =>
      gI σ_36 (some o) 8 4 fun v_37 =>
      bd (m_X3_init q_35 v_37 4 σ_36) fun _ σ_38 =>
      thF σ_38 (some q_35)
    else
      nn σ_2 (some o) 8 fun a_29 => bd (m_X2_next a_29 σ_2) fun _ σ_28 =>
      nn σ_28 (some o) 8 fun a_32 => bdx (m_X2_guard F a_32 (x1 + 1) σ_28) fun v_30 σ_31 =>
      nn σ_31 (some o) 8 fun a_34 => bdx (m_X2_sign a_34 41 σ_31) fun _ σ_33 =>
      xl (some (v_30, σ_33))

def m_X2_factor : Nat → Nat → Int32 → cS → Option (cX (Option Nat) × cS)
  | 0 => fun _ _ _ => none
  | d + 1 => fun o x1 σ => mO_X2_factor (m_X2_factor d) o x1 σ

def b_X2_rule_86 (o : Nat) (k69 : Option Nat → cS → Option ((cX (Int32)) × cS)) : Option Nat → cS → Option ((cX (Int32)) × cS) := fun x2 σ =>
  gI σ x2 2 3 fun v_1 =>
  gI σ x2 2 3 fun v_2 =>
  gR σ (some o) 8 2 fun v_3 =>
  gR σ v_3 1 4 fun v_4 =>
  nn σ v_4 9 fun a_7 => bd (m_J18_size a_7 σ) fun v_5 σ_6 =>
  nn σ_6 (some o) 8 fun a_10 => bdx (m_X2_newIn a_10 v_2 (v_5 - 1) σ_6) fun v_8 σ_9 =>
  pO σ_9 x2 2 3 (.int (v_1 ||| (1 <<< (v_8 &&& 31)))) fun σ_11 =>
  k69 x2 σ_11

def b_X2_rule_120 (o : Nat) : Option Nat → cS → Option ((cX (Int32)) × cS) := fun x2 σ =>
  gR σ (some o) 8 2 fun v_1 =>
  gR σ v_1 1 4 fun v_2 =>
  nn σ v_2 9 fun a_5 => bd (m_J18_add a_5 x2 σ) fun v_3 σ_4 =>
  xl (some ((0 : Int32), σ_4))

def b_X2_rule_69 (o : Nat) : Nat → Option Nat → cS → Option ((cX (Int32)) × cS)
  | 0, _, _ => none
  | n + 1, x2, σ =>
    gI σ x2 2 3 fun v_1 =>
    if v_1 = 0 then
      b_X2_rule_86 o (b_X2_rule_69 o n) x2 σ
    else
      gR σ (some o) 8 5 fun v_3 =>
      if v_3 = (some (σ.2 13)) then
        b_X2_rule_86 o (b_X2_rule_69 o n) x2 σ
      else
        b_X2_rule_120 o x2 σ

def b_X2_rule_56 (o : Nat) : Option Nat → cS → Option ((cX (Int32)) × cS) := fun x2 σ =>
  nn σ (some o) 8 fun a_3 => bd (m_X2_isWord a_3 (some (σ.2 43)) σ) fun v_1 σ_2 =>
  if v_1 = 0 then
    b_X2_rule_120 o x2 σ_2
  else
    nn σ_2 (some o) 8 fun a_6 => bd (m_X2_next a_6 σ_2) fun _ σ_5 =>
    b_X2_rule_69 o FU x2 σ_5

def m_X2_rule (o : Nat) (σ : cS) : Option ((cX (Int32)) × cS) :=
  pO σ (some o) 8 8 (.int 0) fun σ_1 =>
  pO σ_1 (some o) 8 9 (.int 0) fun σ_2 =>
  nn σ_2 (some o) 8 fun a_5 => bdx (m_X2_guard (m_X2_factor DPC) a_5 0 σ_2) fun v_3 σ_4 =>
  nO σ_4 2 4 [.null, .int 0, .null, .int 0] fun q_6 σ_7 =>
  gI σ_7 (some o) 8 8 fun v_8 =>
  bd (m_X9_init q_6 v_3 v_8 σ_7) fun _ σ_9 =>
  nn σ_9 (some o) 8 fun a_11 => bdx (m_X2_word a_11 (some (σ_9.2 41)) σ_9) fun _ σ_10 =>
  nn σ_10 (some o) 8 fun a_14 => bd (m_X2_isWord a_14 (some (σ_10.2 42)) σ_10) fun v_12 σ_13 =>
  if v_12 = 0 then
    nn σ_13 (some o) 8 fun a_17 => bdx (m_X2_parts a_17 (some q_6) σ_13) fun _ σ_16 =>
    b_X2_rule_56 o (some q_6) σ_16
  else
    nn σ_13 (some o) 8 fun a_19 => bd (m_X2_next a_19 σ_13) fun _ σ_18 =>
    b_X2_rule_56 o (some q_6) σ_18

def b_X2_line_91 (o : Nat) : Int32 → cS → Option ((cX (Int32)) × cS) := fun x2 σ =>
  if x2 = 0 then
    nn σ (some o) 8 fun a_3 => bd (m_X2_next a_3 σ) fun _ σ_2 =>
    gR σ_2 (some o) 8 2 fun v_4 =>
    nn σ_2 (some o) 8 fun a_7 => bdx (m_X2_number a_7 0 9999 σ_2) fun v_5 σ_6 =>
    pO σ_6 v_4 1 7 (.int v_5) fun σ_8 =>
    xl (some ((0 : Int32), σ_8))
  else
  if x2 = 1 then
    nn σ (some o) 8 fun a_11 => bd (m_X2_next a_11 σ) fun _ σ_10 =>
    gR σ_10 (some o) 8 2 fun v_12 =>
    gI σ_10 v_12 1 1 fun v_13 =>
    nn σ_10 (some o) 8 fun a_16 => bdx (m_X2_number a_16 0 (v_13 - 1) σ_10) fun v_14 σ_15 =>
    nn σ_15 (some o) 8 fun a_18 => bdx (m_X2_word a_18 (some (σ_15.2 39)) σ_15) fun _ σ_17 =>
    gR σ_17 (some o) 8 2 fun v_19 =>
    gR σ_17 v_19 1 2 fun v_20 =>
    nn σ_17 (some o) 8 fun a_23 => bdx (m_X2_number a_23 0 9999 σ_17) fun v_21 σ_22 =>
    sI σ_22 v_20 0 v_14 v_21 fun σ_24 =>
    nn σ_24 (some o) 8 fun a_26 => bdx (m_X2_word a_26 (some (σ_24.2 40)) σ_24) fun _ σ_25 =>
    gR σ_25 (some o) 8 2 fun v_27 =>
    gR σ_25 v_27 1 3 fun v_28 =>
    nn σ_25 (some o) 8 fun a_31 => bdx (m_X2_number a_31 0 60 σ_25) fun v_29 σ_30 =>
    sI σ_30 v_28 0 v_14 v_29 fun σ_32 =>
    xl (some ((0 : Int32), σ_32))
  else
  if x2 = 2 then
    gR σ (some o) 8 2 fun v_34 =>
    gR σ v_34 1 4 fun v_35 =>
    nn σ v_35 9 fun a_38 => bd (m_J18_size a_38 σ) fun v_36 σ_37 =>
    if v_36 = 10 then
      nO σ_37 59 8 [] fun q_44 σ_45 =>
      gI σ_45 (some o) 8 4 fun v_46 =>
      bd (m_X3_init q_44 v_46 4 σ_45) fun _ σ_47 =>
      thF σ_47 (some q_44)
    else
      nn σ_37 (some o) 8 fun a_41 => bd (m_X2_next a_41 σ_37) fun _ σ_40 =>
      nn σ_40 (some o) 8 fun a_43 => bdx (m_X2_rule a_43 σ_40) fun _ σ_42 =>
      xl (some ((0 : Int32), σ_42))
  else
    nO σ 59 8 [] fun q_48 σ_49 =>
    gI σ_49 (some o) 8 4 fun v_50 =>
    bd (m_X3_init q_48 v_50 1 σ_49) fun _ σ_51 =>
    thF σ_51 (some q_48)

def m_X2_line (o : Nat) (σ : cS) : Option ((cX (Int32)) × cS) :=
  nn σ (some o) 8 fun a_2 => bdx (m_X2_expect a_2 (some (σ.2 12)) σ) fun _ σ_1 =>
  gR σ_1 (some o) 8 6 fun v_3 =>
  nn σ_1 v_3 12 fun a_6 => bd (m_J4_hashCode a_6 σ_1) fun v_4 σ_5 =>
  if v_4 = (-1293665460) then
    nn σ_5 v_3 12 fun a_10 => bd (m_J4_equals a_10 (some (σ_5.2 36)) σ_5) fun v_8 σ_9 =>
    if v_8 = 0 then
      b_X2_line_91 o (-1) σ_9
    else
      b_X2_line_91 o 0 σ_9
  else
  if v_4 = 3198694 then
    nn σ_5 v_3 12 fun a_15 => bd (m_J4_equals a_15 (some (σ_5.2 37)) σ_5) fun v_13 σ_14 =>
    if v_13 = 0 then
      b_X2_line_91 o (-1) σ_14
    else
      b_X2_line_91 o 1 σ_14
  else
  if v_4 = 3512060 then
    nn σ_5 v_3 12 fun a_20 => bd (m_J4_equals a_20 (some (σ_5.2 38)) σ_5) fun v_18 σ_19 =>
    if v_18 = 0 then
      b_X2_line_91 o (-1) σ_19
    else
      b_X2_line_91 o 2 σ_19
  else
    b_X2_line_91 o (-1) σ_5

def b_X4_cases_4 (o : Nat) : Nat → Int32 → Int32 → cS → Option (Int32 × cS)
  | 0, _, _, _ => none
  | n + 1, x1, x2, σ =>
    gR σ (some o) 1 0 fun v_1 =>
    aL σ v_1 fun v_2 =>
    if v_2 ≤ x2 then
      some (x1, σ)
    else
      gR σ (some o) 1 0 fun v_4 =>
      aI σ v_4 0 x2 fun v_5 =>
      lt_ (x1 * v_5) fun x1_6 =>
      lt_ (x2 + 1) fun x2_7 =>
      (b_X4_cases_4 o n) x1_6 x2_7 σ

def m_X4_cases (o : Nat) (σ : cS) : Option (Int32 × cS) :=
  b_X4_cases_4 o FU 1 0 σ

def m_X4_init (o : Nat) (x1 : Option Nat) (x2 : Int32) (x3 : Int32) (σ : cS) : Option (Int32 × cS) :=
  nA σ 0 4 (.inl (fun _ => 0)) fun q_1 σ_2 =>
  pO σ_2 (some o) 1 2 (va_rf (some q_1)) fun σ_3 =>
  nA σ_3 0 4 (.inl (fun _ => 0)) fun q_4 σ_5 =>
  sI σ_5 (some q_4) 0 0 10 fun σ_6 =>
  sI σ_6 (some q_4) 0 1 10 fun σ_7 =>
  sI σ_7 (some q_4) 0 2 10 fun σ_8 =>
  sI σ_8 (some q_4) 0 3 10 fun σ_9 =>
  pO σ_9 (some o) 1 3 (va_rf (some q_4)) fun σ_10 =>
  nO σ_10 9 3 [.int 0, .null, .int 0] fun q_11 σ_12 =>
  bd (m_J18_init q_11 σ_12) fun _ σ_13 =>
  pO σ_13 (some o) 1 4 (va_rf (some q_11)) fun σ_14 =>
  pO σ_14 (some o) 1 7 (.int 1000) fun σ_15 =>
  pO σ_15 (some o) 1 0 (va_rf x1) fun σ_16 =>
  pO σ_16 (some o) 1 1 (.int x2) fun σ_17 =>
  pO σ_17 (some o) 1 6 (.int x3) fun σ_18 =>
  nn σ_18 (some o) 1 fun a_21 => bd (m_X4_cases a_21 σ_18) fun v_19 σ_20 =>
  nA σ_20 4 v_19 (.inr (.inr (.inr (.inr (fun _ => none))))) fun q_22 σ_23 =>
  pO σ_23 (some o) 1 5 (va_rf (some q_22)) fun σ_24 =>
  some ((0 : Int32), σ_24)

def b_X2_read_30 (o : Nat) (k16 : Option Nat → Int32 → cS → Option ((cX (Option Nat)) × cS)) : Option Nat → Int32 → cS → Option ((cX (Option Nat)) × cS) := fun x1 x2 σ =>
  nn σ (some o) 8 fun a_3 => bdx (m_X2_look a_3 2 4 σ) fun v_1 σ_2 =>
  if x2 = 4 then
    nO σ_2 59 8 [] fun q_9 σ_10 =>
    gI σ_10 (some o) 8 4 fun v_11 =>
    bd (m_X3_init q_9 v_11 4 σ_10) fun _ σ_12 =>
    thF σ_12 (some q_9)
  else
    sI σ_2 x1 0 x2 v_1 fun σ_5 =>
    lt_ (x2 + 1) fun x2_6 =>
    nn σ_5 (some o) 8 fun a_8 => bd (m_X2_next a_8 σ_5) fun _ σ_7 =>
    k16 x1 x2_6 σ_7

def b_X2_read_136 (o : Nat) : Nat → cS → Option ((cX (Option Nat)) × cS)
  | 0, _ => none
  | n + 1, σ =>
    gR σ (some o) 8 5 fun v_1 =>
    if v_1 = (some (σ.2 10)) then
      gR σ (some o) 8 2 fun v_3 =>
      xl (some (v_3, σ))
    else
      nn σ (some o) 8 fun a_5 => bdx (m_X2_line a_5 σ) fun _ σ_4 =>
      nn σ_4 (some o) 8 fun a_7 => bdx (m_X2_sign a_7 59 σ_4) fun _ σ_6 =>
      (b_X2_read_136 o n) σ_6

def b_X2_read_16 (o : Nat) : Nat → Option Nat → Int32 → cS → Option ((cX (Option Nat)) × cS)
  | 0, _, _, _ => none
  | n + 1, x1, x2, σ =>
    if x2 = 0 then
      b_X2_read_30 o (b_X2_read_16 o n) x1 x2 σ
    else
      gR σ (some o) 8 5 fun v_2 =>
      if v_2 = (some (σ.2 13)) then
        b_X2_read_30 o (b_X2_read_16 o n) x1 x2 σ
      else
        nn σ (some o) 8 fun a_5 => bdx (m_X2_sign a_5 59 σ) fun _ σ_4 =>
        nA σ_4 0 x2 (.inl (fun _ => 0)) fun q_6 σ_7 =>
        cpI σ_7 0 x1 0 (some q_6) 0 x2 fun σ_8 =>
        nn σ_8 (some o) 8 fun a_10 => bdx (m_X2_word a_10 (some (σ_8.2 33)) σ_8) fun _ σ_9 =>
        nn σ_9 (some o) 8 fun a_13 => bdx (m_X2_number a_13 1 4 σ_9) fun v_11 σ_12 =>
        nn σ_12 (some o) 8 fun a_15 => bdx (m_X2_word a_15 (some (σ_12.2 34)) σ_12) fun _ σ_14 =>
        nO σ_14 1 9 [.null, .int 0, .null, .null, .null, .null, .int 0, .int 0, .int 0] fun q_16 σ_17 =>
        nn σ_17 (some o) 8 fun a_20 => bdx (m_X2_number a_20 0 (v_11 - 1) σ_17) fun v_18 σ_19 =>
        bd (m_X4_init q_16 (some q_6) v_11 v_18 σ_19) fun _ σ_21 =>
        pO σ_21 (some o) 8 2 (va_rf (some q_16)) fun σ_22 =>
        nn σ_22 (some o) 8 fun a_24 => bdx (m_X2_sign a_24 59 σ_22) fun _ σ_23 =>
        b_X2_read_136 o FU σ_23

def m_X2_read (o : Nat) (σ : cS) : Option ((cX (Option Nat)) × cS) :=
  nn σ (some o) 8 fun a_2 => bd (m_X2_next a_2 σ) fun _ σ_1 =>
  nn σ_1 (some o) 8 fun a_4 => bdx (m_X2_word a_4 (some (σ_1.2 32)) σ_1) fun _ σ_3 =>
  nA σ_3 0 4 (.inl (fun _ => 0)) fun q_5 σ_6 =>
  b_X2_read_16 o FU (some q_5) 0 σ_6

def m_X2_readRule (o : Nat) (x1 : Option Nat) (σ : cS) : Option ((cX (Int32)) × cS) :=
  pO σ (some o) 8 2 (va_rf x1) fun σ_1 =>
  nn σ_1 (some o) 8 fun a_3 => bd (m_X2_next a_3 σ_1) fun _ σ_2 =>
  nn σ_2 (some o) 8 fun a_5 => bdx (m_X2_rule a_5 σ_2) fun _ σ_4 =>
  nn σ_4 (some o) 8 fun a_7 => bdx (m_X2_expect a_7 (some (σ_4.2 10)) σ_4) fun _ σ_6 =>
  xl (some ((0 : Int32), σ_6))

def m_X11_init (o : Nat) (x1 : Option Nat) (σ : cS) : Option (Int32 × cS) :=
  pO σ (some o) 3 4 (.int (-1)) fun σ_1 =>
  pO σ_1 (some o) 3 0 (va_rf x1) fun σ_2 =>
  some ((0 : Int32), σ_2)

def b_X9_givesLike_4 (o : Nat) : Nat → Option Nat → Int32 → Int32 → cS → Option (Int32 × cS)
  | 0, _, _, _, _ => none
  | n + 1, x1, x2, x3, σ =>
    if 4 ≤ x3 then
      rz x2 σ
    else
      gR σ (some o) 2 2 fun v_2 =>
      aI σ v_2 0 x3 fun v_3 =>
      gR σ x1 2 2 fun v_4 =>
      aI σ v_4 0 x3 fun v_5 =>
      if v_3 = v_5 then
        lt_ (x2 &&& 1) fun x2_9 =>
        lt_ (x3 + 1) fun x3_10 =>
        (b_X9_givesLike_4 o n) x1 x2_9 x3_10 σ
      else
        lt_ (x2 &&& 0) fun x2_7 =>
        lt_ (x3 + 1) fun x3_8 =>
        (b_X9_givesLike_4 o n) x1 x2_7 x3_8 σ

def m_X9_givesLike (o : Nat) (x1 : Option Nat) (σ : cS) : Option (Int32 × cS) :=
  b_X9_givesLike_4 o FU x1 1 0 σ

def m_X9_duplicate (o : Nat) (σ : cS) : Option (Option Nat × cS) :=
  nO σ 2 4 [.null, .int 0, .null, .int 0] fun q_1 σ_2 =>
  gR σ_2 (some o) 2 0 fun v_3 =>
  gI σ_2 (some o) 2 1 fun v_4 =>
  bd (m_X9_init q_1 v_3 v_4 σ_2) fun _ σ_5 =>
  gR σ_5 (some o) 2 2 fun v_6 =>
  gR σ_5 (some q_1) 2 2 fun v_7 =>
  cpI σ_5 0 v_6 0 v_7 0 4 fun σ_8 =>
  gI σ_8 (some o) 2 3 fun v_9 =>
  pO σ_8 (some q_1) 2 3 (.int v_9) fun σ_10 =>
  some (some q_1, σ_10)

def m_X9_isOver (o : Nat) (x1 : Int32) (σ : cS) : Option (Int32 × cS) :=
  gI σ (some o) 2 3 fun v_1 =>
  if ((v_1 >>> (x1 &&& 31)) &&& 1) = 1 then
    rz 1 σ
  else
    rz 0 σ

def b_X1_divisor_4 : Nat → Int32 → Int32 → cS → Option (Int32 × cS)
  | 0, _, _, _ => none
  | n + 1, x2, x3, σ =>
    if x3 = 0 then
      some (x2, σ)
    else
      nz x3 <|
      lt_ (x2 - x2 / x3 * x3) fun x4_2 =>
      (b_X1_divisor_4 n) x3 x4_2 σ

def m_X1_divisor (x0 : Int32) (x1 : Int32) (σ : cS) : Option (Int32 × cS) :=
  b_X1_divisor_4 FU x0 x1 σ

def m_X9_below (o : Nat) (x1 : Int32) (σ : cS) : Option (Int32 × cS) :=
  gR σ (some o) 2 2 fun v_1 =>
  aI σ v_1 0 x1 fun v_2 =>
  bd (m_X1_divisor v_2 27720 σ) fun v_3 σ_4 =>
  nz v_3 <|
  some (27720 / v_3, σ_4)

def m_X9_above (o : Nat) (x1 : Int32) (σ : cS) : Option (Int32 × cS) :=
  gR σ (some o) 2 2 fun v_1 =>
  aI σ v_1 0 x1 fun v_2 =>
  gR σ (some o) 2 2 fun v_3 =>
  aI σ v_3 0 x1 fun v_4 =>
  bd (m_X1_divisor v_4 27720 σ) fun v_5 σ_6 =>
  nz v_5 <|
  some (v_2 / v_5, σ_6)

def b_X4_unlike_2 (o : Nat) : Nat → Int32 → Int32 → Int32 → cS → Option (Int32 × cS)
  | 0, _, _, _, _ => none
  | n + 1, x1, x2, x3, σ =>
    gR σ (some o) 1 4 fun v_1 =>
    nn σ v_1 9 fun a_4 => bd (m_J18_size a_4 σ) fun v_2 σ_3 =>
    if v_2 ≤ x3 then
      some ((-1), σ_3)
    else
      if ((x1 >>> (x3 &&& 31)) &&& 1) = 1 then
        gR σ_3 (some o) 1 4 fun v_8 =>
        nn σ_3 v_8 9 fun a_11 => bd (m_J18_get a_11 x3 σ_3) fun v_9 σ_10 =>
        cst σ_10 v_9 [2] <|
        gR σ_10 (some o) 1 4 fun v_12 =>
        nn σ_10 v_12 9 fun a_15 => bd (m_J18_get a_15 x2 σ_10) fun v_13 σ_14 =>
        cst σ_14 v_13 [2] <|
        nn σ_14 v_9 2 fun a_18 => bd (m_X9_givesLike a_18 v_13 σ_14) fun v_16 σ_17 =>
        if v_16 = 0 then
          some (x3, σ_17)
        else
          lt_ (x3 + 1) fun x3_20 =>
          (b_X4_unlike_2 o n) x1 x2 x3_20 σ_17
      else
        lt_ (x3 + 1) fun x3_7 =>
        (b_X4_unlike_2 o n) x1 x2 x3_7 σ_3

def m_X4_unlike (o : Nat) (x1 : Int32) (x2 : Int32) (σ : cS) : Option (Int32 × cS) :=
  b_X4_unlike_2 o FU x1 x2 0 σ

def m_X4_judge (o : Nat) (x1 : Option Nat) (σ : cS) : Option (Int32 × cS) :=
  gI σ x1 3 2 fun v_1 =>
  bd (m_J14_numberOfTrailingZeros v_1 σ) fun v_2 σ_3 =>
  gI σ_3 x1 3 1 fun v_4 =>
  if v_4 = 0 then
    pO σ_3 x1 3 3 (.int 1) fun σ_17 =>
    some ((0 : Int32), σ_17)
  else
    gI σ_3 x1 3 2 fun v_6 =>
    if v_6 = 0 then
      pO σ_3 x1 3 3 (.int 2) fun σ_16 =>
      some ((0 : Int32), σ_16)
    else
      gI σ_3 x1 3 2 fun v_8 =>
      nn σ_3 (some o) 1 fun a_11 => bd (m_X4_unlike a_11 v_8 v_2 σ_3) fun v_9 σ_10 =>
      if v_9 = (-1) then
        pO σ_10 x1 3 3 (.int 0) fun σ_13 =>
        pO σ_13 x1 3 4 (.int v_2) fun σ_14 =>
        some ((0 : Int32), σ_14)
      else
        pO σ_10 x1 3 3 (.int 3) fun σ_15 =>
        some ((0 : Int32), σ_15)

def b_X4_valuesOf_13 (o : Nat) : Nat → Option Nat → Int32 → Int32 → cS → Option (Option Nat × cS)
  | 0, _, _, _, _ => none
  | n + 1, x2, x3, x4, σ =>
    gR σ (some o) 1 0 fun v_1 =>
    aL σ v_1 fun v_2 =>
    if v_2 ≤ x4 then
      some (x2, σ)
    else
      gR σ (some o) 1 0 fun v_4 =>
      aI σ v_4 0 x4 fun v_5 =>
      nz v_5 <|
      sI σ x2 0 x4 (x3 - x3 / v_5 * v_5) fun σ_6 =>
      gR σ_6 (some o) 1 0 fun v_7 =>
      aI σ_6 v_7 0 x4 fun v_8 =>
      nz v_8 <|
      lt_ (x3 / v_8) fun x3_9 =>
      lt_ (x4 + 1) fun x4_10 =>
      (b_X4_valuesOf_13 o n) x2 x3_9 x4_10 σ_6

def m_X4_valuesOf (o : Nat) (x1 : Int32) (σ : cS) : Option (Option Nat × cS) :=
  gR σ (some o) 1 0 fun v_1 =>
  aL σ v_1 fun v_2 =>
  nA σ 0 v_2 (.inl (fun _ => 0)) fun q_3 σ_4 =>
  b_X4_valuesOf_13 o FU (some q_3) x1 0 σ_4

def b_X4_find_64 (o : Nat) (k15 : Option Nat → Int32 → cS → Option (Option Nat × cS)) : Option Nat → Int32 → Option Nat → Int32 → Int32 → cS → Option (Option Nat × cS) := fun x2 x3 s0 s1 s2 σ =>
  pO σ s0 3 1 (.int (s1 ||| s2)) fun σ_1 =>
  lt_ (x3 + 1) fun x3_2 =>
  k15 x2 x3_2 σ_1

def b_X4_find_84 (o : Nat) : Nat → Option Nat → Int32 → cS → Option (Option Nat × cS)
  | 0, _, _, _ => none
  | n + 1, x2, x3, σ =>
    gR σ (some o) 1 4 fun v_1 =>
    nn σ v_1 9 fun a_4 => bd (m_J18_size a_4 σ) fun v_2 σ_3 =>
    if v_2 ≤ x3 then
      nn σ_3 (some o) 1 fun a_7 => bd (m_X4_judge a_7 x2 σ_3) fun _ σ_6 =>
      some (x2, σ_6)
    else
      gI σ_3 x2 3 1 fun v_8 =>
      if ((v_8 >>> (x3 &&& 31)) &&& 1) = 1 then
        gI σ_3 x2 3 2 fun v_11 =>
        gR σ_3 (some o) 1 4 fun v_12 =>
        nn σ_3 v_12 9 fun a_15 => bd (m_J18_get a_15 x3 σ_3) fun v_13 σ_14 =>
        cst σ_14 v_13 [2] <|
        gI σ_14 v_13 2 3 fun v_16 =>
        pO σ_14 x2 3 2 (.int (v_11 &&& (v_16 ^^^ (-1)))) fun σ_17 =>
        lt_ (x3 + 1) fun x3_18 =>
        (b_X4_find_84 o n) x2 x3_18 σ_17
      else
        lt_ (x3 + 1) fun x3_10 =>
        (b_X4_find_84 o n) x2 x3_10 σ_3

def b_X4_find_15 (o : Nat) : Nat → Option Nat → Int32 → cS → Option (Option Nat × cS)
  | 0, _, _, _ => none
  | n + 1, x2, x3, σ =>
    gR σ (some o) 1 4 fun v_1 =>
    nn σ v_1 9 fun a_4 => bd (m_J18_size a_4 σ) fun v_2 σ_3 =>
    if v_2 ≤ x3 then
      gI σ_3 x2 3 1 fun v_6 =>
      pO σ_3 x2 3 2 (.int v_6) fun σ_7 =>
      b_X4_find_84 o FU x2 0 σ_7
    else
      gI σ_3 x2 3 1 fun v_8 =>
      gR σ_3 (some o) 1 4 fun v_9 =>
      nn σ_3 v_9 9 fun a_12 => bd (m_J18_get a_12 x3 σ_3) fun v_10 σ_11 =>
      cst σ_11 v_10 [2] <|
      gR σ_11 v_10 2 0 fun v_13 =>
      gR σ_11 x2 3 0 fun v_14 =>
      icl v_13 (fun a_17 => dv_holds DPC a_17 v_14 σ_11) fun v_15 σ_16 =>
      if v_15 = 0 then
        b_X4_find_64 o (b_X4_find_15 o n) x2 x3 x2 v_8 0 σ_16
      else
        b_X4_find_64 o (b_X4_find_15 o n) x2 x3 x2 v_8 (1 <<< (x3 &&& 31)) σ_16

def m_X4_find (o : Nat) (x1 : Int32) (σ : cS) : Option (Option Nat × cS) :=
  nO σ 3 5 [.null, .int 0, .int 0, .int 0, .int 0] fun q_1 σ_2 =>
  nn σ_2 (some o) 1 fun a_5 => bd (m_X4_valuesOf a_5 x1 σ_2) fun v_3 σ_4 =>
  bd (m_X11_init q_1 v_3 σ_4) fun _ σ_6 =>
  b_X4_find_15 o FU (some q_1) 0 σ_6

def b_X4_look_20 (o : Nat) : Int32 → cS → Option (Option Nat × cS) := fun x1 σ =>
  gR σ (some o) 1 5 fun v_1 =>
  aR σ v_1 x1 fun v_2 =>
  some (v_2, σ)

def m_X4_look (o : Nat) (x1 : Int32) (σ : cS) : Option (Option Nat × cS) :=
  gR σ (some o) 1 5 fun v_1 =>
  aR σ v_1 x1 fun v_2 =>
  if v_2 = none then
    gR σ (some o) 1 5 fun v_4 =>
    nn σ (some o) 1 fun a_7 => bd (m_X4_find a_7 x1 σ) fun v_5 σ_6 =>
    sR σ_6 v_4 x1 v_5 fun σ_8 =>
    b_X4_look_20 o x1 σ_8
  else
    b_X4_look_20 o x1 σ

def b_X4_withVerdict_10 (o : Nat) : Nat → Int32 → Int32 → Int32 → Int32 → cS → Option (Int32 × cS)
  | 0, _, _, _, _, _ => none
  | n + 1, x1, x2, x3, x4, σ =>
    if x3 ≤ x4 then
      some (x2, σ)
    else
      nn σ (some o) 1 fun a_4 => bd (m_X4_look a_4 x4 σ) fun v_2 σ_3 =>
      gI σ_3 v_2 3 3 fun v_5 =>
      if v_5 = x1 then
        lt_ (x2 + 1) fun x2_9 =>
        lt_ (x4 + 1) fun x4_10 =>
        (b_X4_withVerdict_10 o n) x1 x2_9 x3 x4_10 σ_3
      else
        lt_ (x2 + 0) fun x2_7 =>
        lt_ (x4 + 1) fun x4_8 =>
        (b_X4_withVerdict_10 o n) x1 x2_7 x3 x4_8 σ_3

def m_X4_withVerdict (o : Nat) (x1 : Int32) (σ : cS) : Option (Int32 × cS) :=
  nn σ (some o) 1 fun a_3 => bd (m_X4_cases a_3 σ) fun v_1 σ_2 =>
  b_X4_withVerdict_10 o FU x1 0 v_1 0 σ_2

def m_X4_gaps (o : Nat) (σ : cS) : Option (Int32 × cS) :=
  nn σ (some o) 1 fun a_3 => bd (m_X4_withVerdict a_3 1 σ) fun v_1 σ_2 =>
  nn σ_2 (some o) 1 fun a_6 => bd (m_X4_withVerdict a_6 2 σ_2) fun v_4 σ_5 =>
  some (v_1 + v_4, σ_5)

def m_X4_unsettled (o : Nat) (σ : cS) : Option (Int32 × cS) :=
  nn σ (some o) 1 fun a_3 => bd (m_X4_cases a_3 σ) fun v_1 σ_2 =>
  nn σ_2 (some o) 1 fun a_6 => bd (m_X4_withVerdict a_6 0 σ_2) fun v_4 σ_5 =>
  some (v_1 - v_4, σ_5)

def b_X4_drop_21 (o : Nat) : Nat → Int32 → Int32 → cS → Option (Int32 × cS)
  | 0, _, _, _ => none
  | n + 1, x2, x3, σ =>
    gR σ (some o) 1 4 fun v_1 =>
    nn σ v_1 9 fun a_4 => bd (m_J18_size a_4 σ) fun v_2 σ_3 =>
    if v_2 ≤ x3 then
      some ((0 : Int32), σ_3)
    else
      gR σ_3 (some o) 1 4 fun v_6 =>
      nn σ_3 v_6 9 fun a_9 => bd (m_J18_get a_9 x3 σ_3) fun v_7 σ_8 =>
      cst σ_8 v_7 [2] <|
      gI σ_8 v_7 2 3 fun v_10 =>
      gI σ_8 v_7 2 3 fun v_11 =>
      pO σ_8 v_7 2 3 (.int ((v_10 &&& x2) ||| ((v_11 >>> (1 &&& 31)) &&& (x2 ^^^ (-1))))) fun σ_12 =>
      lt_ (x3 + 1) fun x3_13 =>
      (b_X4_drop_21 o n) x2 x3_13 σ_12

def m_X4_drop (o : Nat) (x1 : Int32) (σ : cS) : Option (Int32 × cS) :=
  nn σ (some o) 1 fun a_2 => bd (m_X4_forget a_2 σ) fun _ σ_1 =>
  gR σ_1 (some o) 1 4 fun v_3 =>
  nn σ_1 v_3 9 fun a_6 => bd (m_J18_remove a_6 x1 σ_1) fun v_4 σ_5 =>
  lt_ ((1 <<< (x1 &&& 31)) - 1) fun x2_7 =>
  b_X4_drop_21 o FU x2_7 0 σ_5

def b_X4_duplicate_50 (o : Nat) : Nat → Option Nat → Int32 → cS → Option (Option Nat × cS)
  | 0, _, _, _ => none
  | n + 1, x1, x2, σ =>
    gR σ (some o) 1 4 fun v_1 =>
    nn σ v_1 9 fun a_4 => bd (m_J18_size a_4 σ) fun v_2 σ_3 =>
    if v_2 ≤ x2 then
      gI σ_3 (some o) 1 7 fun v_6 =>
      pO σ_3 x1 1 7 (.int v_6) fun σ_7 =>
      gI σ_7 (some o) 1 8 fun v_8 =>
      pO σ_7 x1 1 8 (.int v_8) fun σ_9 =>
      some (x1, σ_9)
    else
      gR σ_3 x1 1 4 fun v_10 =>
      gR σ_3 (some o) 1 4 fun v_11 =>
      nn σ_3 v_11 9 fun a_14 => bd (m_J18_get a_14 x2 σ_3) fun v_12 σ_13 =>
      cst σ_13 v_12 [2] <|
      nn σ_13 v_12 2 fun a_17 => bd (m_X9_duplicate a_17 σ_13) fun v_15 σ_16 =>
      nn σ_16 v_10 9 fun a_20 => bd (m_J18_add a_20 v_15 σ_16) fun v_18 σ_19 =>
      lt_ (x2 + 1) fun x2_21 =>
      (b_X4_duplicate_50 o n) x1 x2_21 σ_19

def m_X4_duplicate (o : Nat) (σ : cS) : Option (Option Nat × cS) :=
  nO σ 1 9 [.null, .int 0, .null, .null, .null, .null, .int 0, .int 0, .int 0] fun q_1 σ_2 =>
  gR σ_2 (some o) 1 0 fun v_3 =>
  gI σ_2 (some o) 1 1 fun v_4 =>
  gI σ_2 (some o) 1 6 fun v_5 =>
  bd (m_X4_init q_1 v_3 v_4 v_5 σ_2) fun _ σ_6 =>
  gR σ_6 (some o) 1 2 fun v_7 =>
  gR σ_6 (some q_1) 1 2 fun v_8 =>
  cpI σ_6 0 v_7 0 v_8 0 4 fun σ_9 =>
  gR σ_9 (some o) 1 3 fun v_10 =>
  gR σ_9 (some q_1) 1 3 fun v_11 =>
  cpI σ_9 0 v_10 0 v_11 0 4 fun σ_12 =>
  b_X4_duplicate_50 o FU (some q_1) 0 σ_12

def m_X4_partOf (o : Nat) (x1 : Option Nat) (x2 : Int32) (σ : cS) : Option (Int32 × cS) :=
  gI σ (some o) 1 7 fun v_1 =>
  gR σ x1 2 2 fun v_2 =>
  aI σ v_2 0 x2 fun v_3 =>
  gd (¬ (27720 : Int64) = 0) <|
  some (Int64.toInt32 (((Int32.toInt64 v_1) * (Int32.toInt64 v_3)) / 27720), σ)

def b_X4_gets_54 (o : Nat) : Nat → Option Nat → Int32 → Int32 → cS → Option (Int32 × cS)
  | 0, _, _, _, _ => none
  | n + 1, x4, x5, x6, σ =>
    gI σ (some o) 1 1 fun v_1 =>
    if v_1 ≤ x6 then
      some (x5, σ)
    else
      gI σ (some o) 1 6 fun v_3 =>
      if x6 = v_3 then
        lt_ (x5 - 0) fun x5_10 =>
        lt_ (x6 + 1) fun x6_11 =>
        (b_X4_gets_54 o n) x4 x5_10 x6_11 σ
      else
        nn σ (some o) 1 fun a_7 => bd (m_X4_partOf a_7 x4 x6 σ) fun v_5 σ_6 =>
        lt_ (x5 - v_5) fun x5_8 =>
        lt_ (x6 + 1) fun x6_9 =>
        (b_X4_gets_54 o n) x4 x5_8 x6_9 σ_6

def m_X4_gets (o : Nat) (x1 : Int32) (x2 : Int32) (σ : cS) : Option (Int32 × cS) :=
  nn σ (some o) 1 fun a_3 => bd (m_X4_look a_3 x1 σ) fun v_1 σ_2 =>
  gI σ_2 v_1 3 4 fun v_4 =>
  if v_4 = (-1) then
    some (0, σ_2)
  else
    gR σ_2 (some o) 1 4 fun v_6 =>
    nn σ_2 v_6 9 fun a_9 => bd (m_J18_get a_9 v_4 σ_2) fun v_7 σ_8 =>
    cst σ_8 v_7 [2] <|
    gI σ_8 (some o) 1 6 fun v_10 =>
    if x2 = v_10 then
      gI σ_8 (some o) 1 7 fun v_12 =>
      b_X4_gets_54 o FU v_7 v_12 0 σ_8
    else
      nn σ_8 (some o) 1 fun a_15 => bd (m_X4_partOf a_15 v_7 x2 σ_8) fun v_13 σ_14 =>
      some (v_13, σ_14)

def m_X4_duty (o : Nat) (x1 : Int32) (x2 : Int32) (σ : cS) : Option (Int32 × cS) :=
  nn σ (some o) 1 fun a_3 => bd (m_X4_gets a_3 x1 x2 σ) fun v_1 σ_2 =>
  gR σ_2 (some o) 1 2 fun v_4 =>
  aI σ_2 v_4 0 x2 fun v_5 =>
  lt_ (v_1 - v_5) fun x3_6 =>
  if x3_6 ≤ 0 then
    some (0, σ_2)
  else
    gR σ_2 (some o) 1 3 fun v_8 =>
    aI σ_2 v_8 0 x2 fun v_9 =>
    some ((x3_6 * v_9) / 100, σ_2)

def b_X4_duties_4 (o : Nat) : Nat → Int32 → Int32 → Int32 → cS → Option (Int32 × cS)
  | 0, _, _, _, _ => none
  | n + 1, x1, x2, x3, σ =>
    gI σ (some o) 1 1 fun v_1 =>
    if v_1 ≤ x3 then
      some (x2, σ)
    else
      nn σ (some o) 1 fun a_5 => bd (m_X4_duty a_5 x1 x3 σ) fun v_3 σ_4 =>
      lt_ (x2 + v_3) fun x2_6 =>
      lt_ (x3 + 1) fun x3_7 =>
      (b_X4_duties_4 o n) x1 x2_6 x3_7 σ_4

def m_X4_duties (o : Nat) (x1 : Int32) (σ : cS) : Option (Int32 × cS) :=
  b_X4_duties_4 o FU x1 0 0 σ

def b_X4_numberOf_10 (o : Nat) : Nat → Option Nat → Int32 → Int32 → cS → Option (Int32 × cS)
  | 0, _, _, _, _ => none
  | n + 1, x1, x2, x3, σ =>
    if x3 < 0 then
      some (x2, σ)
    else
      gR σ (some o) 1 0 fun v_2 =>
      aI σ v_2 0 x3 fun v_3 =>
      aI σ x1 0 x3 fun v_4 =>
      lt_ ((x2 * v_3) + v_4) fun x2_5 =>
      lt_ (x3 + (-1)) fun x3_6 =>
      (b_X4_numberOf_10 o n) x1 x2_5 x3_6 σ

def m_X4_numberOf (o : Nat) (x1 : Option Nat) (σ : cS) : Option (Int32 × cS) :=
  gR σ (some o) 1 0 fun v_1 =>
  aL σ v_1 fun v_2 =>
  lt_ (v_2 - 1) fun x3_3 =>
  b_X4_numberOf_10 o FU x1 0 x3_3 σ

def m_X4_setValue (o : Nat) (x1 : Int32) (x2 : Int32) (σ : cS) : Option (Int32 × cS) :=
  gI σ (some o) 1 8 fun v_1 =>
  nn σ (some o) 1 fun a_4 => bd (m_X4_valuesOf a_4 v_1 σ) fun v_2 σ_3 =>
  sI σ_3 v_2 0 x1 x2 fun σ_5 =>
  nn σ_5 (some o) 1 fun a_8 => bd (m_X4_numberOf a_8 v_2 σ_5) fun v_6 σ_7 =>
  pO σ_7 (some o) 1 8 (.int v_6) fun σ_9 =>
  some ((0 : Int32), σ_9)

def m_X1_builtIn (x0 : Int32) (σ : cS) : Option (Option Nat × cS) :=
  if x0 = 0 then
    some (some (σ.2 20), σ)
  else
  if x0 = 1 then
    some (some (σ.2 21), σ)
  else
    some (some (σ.2 22), σ)

def m_X1_replaceAll (o : Nat) (x1 : Option Nat) (σ : cS) : Option (Int32 × cS) :=
  pO σ (some o) 0 0 (va_rf x1) fun σ_1 =>
  gR σ_1 (some o) 0 1 fun v_2 =>
  nn σ_1 v_2 10 fun a_4 => bd (m_J1_clear a_4 σ_1) fun _ σ_3 =>
  gR σ_3 (some o) 0 2 fun v_5 =>
  sR σ_3 v_5 0 none fun σ_6 =>
  gR σ_6 (some o) 0 2 fun v_7 =>
  sR σ_6 v_7 1 none fun σ_8 =>
  some ((0 : Int32), σ_8)

def m_X1_start (o : Nat) (x1 : Int32) (σ : cS) : Option (Int32 × cS) :=
  bd (m_X1_builtIn x1 σ) fun v_1 σ_2 =>
  nO σ_2 8 10 [.null, .int 0, .null, .int 0, .int 0, .null, .null, .int 0, .int 0, .int 0] fun q_3 σ_4 =>
  nn σ_4 v_1 12 fun a_7 => bd (m_J4_length a_7 σ_4) fun v_5 σ_6 =>
  bd (m_X2_init q_3 v_1 v_5 σ_6) fun _ σ_8 =>
  nn σ_8 (some q_3) 8 fun a_11 => bdc (m_X2_read a_11 σ_8) (fun v_9 σ_10 =>
    nn σ_10 (some o) 0 fun a_15 => bd (m_X1_replaceAll a_15 v_9 σ_10) fun _ σ_14 =>
    some ((0 : Int32), σ_14)
    ) (fun q_12 σ_13 =>
    none
    )

def m_X1_init (o : Nat) (σ : cS) : Option (Int32 × cS) :=
  nO σ 10 3 [.null, .int 0, .int 0] fun q_1 σ_2 =>
  bd (m_J1_init q_1 σ_2) fun _ σ_3 =>
  pO σ_3 (some o) 0 1 (va_rf (some q_1)) fun σ_4 =>
  nA σ_4 3 2 (.inr (.inr (.inr (.inr (fun _ => none))))) fun q_5 σ_6 =>
  pO σ_6 (some o) 0 2 (va_rf (some q_5)) fun σ_7 =>
  nO σ_7 11 4 [.null, .int 0, .int 0, .int 0] fun q_8 σ_9 =>
  bd (m_J3_init q_8 σ_9) fun _ σ_10 =>
  pO σ_10 (some o) 0 3 (va_rf (some q_8)) fun σ_11 =>
  nO σ_11 11 4 [.null, .int 0, .int 0, .int 0] fun q_12 σ_13 =>
  bd (m_J3_init q_12 σ_13) fun _ σ_14 =>
  pO σ_14 (some o) 0 4 (va_rf (some q_12)) fun σ_15 =>
  nn σ_15 (some o) 0 fun a_17 => bd (m_X1_start a_17 0 σ_15) fun _ σ_16 =>
  some ((0 : Int32), σ_16)

def b_X1_appendWords_11 (o : Nat) (k2 : Option Nat → Int32 → cS → Option (Int32 × cS)) : Nat → Option Nat → Int32 → Int32 → cS → Option (Int32 × cS)
  | 0, _, _, _, _ => none
  | n + 1, x1, x2, x3, σ =>
    if x3 < 0 then
      lt_ (x2 + 1) fun x2_2 =>
      k2 x1 x2_2 σ
    else
      gR σ (some o) 0 3 fun v_3 =>
      aI σ x1 0 x2 fun v_4 =>
      nn σ v_3 11 fun a_7 => bd (m_J3_append_3 a_7 (((((v_4.toUInt32 >>> (Int32.toUInt32 x3 &&& Int32.toUInt32 31)).toInt32) &&& 255).toUInt32 % 65536).toInt32) σ) fun v_5 σ_6 =>
      lt_ (x3 + (-8)) fun x3_8 =>
      (b_X1_appendWords_11 o k2 n) x1 x2 x3_8 σ_6

def b_X1_appendWords_2 (o : Nat) : Nat → Option Nat → Int32 → cS → Option (Int32 × cS)
  | 0, _, _, _ => none
  | n + 1, x1, x2, σ =>
    aL σ x1 fun v_1 =>
    if v_1 ≤ x2 then
      some ((0 : Int32), σ)
    else
      b_X1_appendWords_11 o (b_X1_appendWords_2 o n) FU x1 x2 24 σ

def m_X1_appendWords (o : Nat) (x1 : Option Nat) (σ : cS) : Option (Int32 × cS) :=
  b_X1_appendWords_2 o FU x1 0 σ

def m_X1_append (o : Nat) (x1 : Int32) (x2 : Int32) (x3 : Int32) (x4 : Int32) (x5 : Int32) (σ : cS) : Option (Int32 × cS) :=
  gR σ (some o) 0 3 fun v_1 =>
  nn σ v_1 11 fun a_4 => bd (m_J3_length a_4 σ) fun v_2 σ_3 =>
  if (v_2 + 20) ≤ 700 then
    nA σ_3 0 5 (.inl (fun _ => 0)) fun q_6 σ_7 =>
    sI σ_7 (some q_6) 0 0 x1 fun σ_8 =>
    sI σ_8 (some q_6) 0 1 x2 fun σ_9 =>
    sI σ_9 (some q_6) 0 2 x3 fun σ_10 =>
    sI σ_10 (some q_6) 0 3 x4 fun σ_11 =>
    sI σ_11 (some q_6) 0 4 x5 fun σ_12 =>
    nn σ_12 (some o) 0 fun a_14 => bd (m_X1_appendWords a_14 (some q_6) σ_12) fun _ σ_13 =>
    gR σ_13 (some o) 0 3 fun v_15 =>
    nn σ_13 v_15 11 fun a_18 => bd (m_J3_length a_18 σ_13) fun v_16 σ_17 =>
    some (v_16, σ_17)
  else
    some ((-1), σ_3)

def m_X1_isClosed (o : Nat) (σ : cS) : Option (Int32 × cS) :=
  gR σ (some o) 0 0 fun v_1 =>
  nn σ v_1 1 fun a_4 => bd (m_X4_gaps a_4 σ) fun v_2 σ_3 =>
  if v_2 = 0 then
    rz 1 σ_3
  else
    rz 0 σ_3

def m_X1_lambda_clashesIf_9 (x0 : Int32) (x1 : Int32) (x2 : Option Nat) (σ : cS) : Option (Int32 × cS) :=
  gR σ x2 1 4 fun v_1 =>
  nn σ v_1 9 fun a_4 => bd (m_J18_get a_4 x0 σ) fun v_2 σ_3 =>
  cst σ_3 v_2 [2] <|
  gI σ_3 v_2 2 3 fun v_5 =>
  pO σ_3 v_2 2 3 (.int (v_5 ^^^ x1)) fun σ_6 =>
  some ((0 : Int32), σ_6)

def m_X1_lambda_gapsWithout_8 (x0 : Int32) (x1 : Option Nat) (σ : cS) : Option (Int32 × cS) :=
  nn σ x1 1 fun a_2 => bd (m_X4_drop a_2 x0 σ) fun _ σ_1 =>
  some ((0 : Int32), σ_1)

def m_X1_lambda_needed_7 (x0 : Int32) (x1 : Option Nat) (σ : cS) : Option (Int32 × cS) :=
  nn σ x1 1 fun a_2 => bd (m_X4_drop a_2 x0 σ) fun _ σ_1 =>
  some ((0 : Int32), σ_1)

def dL_in (a : Nat) (x1 : Option Nat) (σ : cS) : Option (Int32 × cS) := if isO σ a 63 = true then gL σ a 63 fun fs => kI fs 0 fun c0 => m_X1_lambda_needed_7 c0 x1 σ else if isO σ a 75 = true then gL σ a 75 fun fs => kI fs 0 fun c0 => m_X1_lambda_gapsWithout_8 c0 x1 σ else if isO σ a 76 = true then gL σ a 76 fun fs => kI fs 0 fun c0 => kI fs 1 fun c1 => m_X1_lambda_clashesIf_9 c0 c1 x1 σ else none

def m_X1_after (o : Nat) (x1 : Option Nat) (σ : cS) : Option (Option Nat × cS) :=
  gR σ (some o) 0 0 fun v_1 =>
  nn σ v_1 1 fun a_4 => bd (m_X4_duplicate a_4 σ) fun v_2 σ_3 =>
  icl x1 (fun a_6 => dL_in a_6 v_2 σ_3) fun _ σ_5 =>
  some (v_2, σ_5)

def b_X1_needed_12 (o : Nat) : Nat → Int32 → Int32 → Int32 → cS → Option (Int32 × cS)
  | 0, _, _, _, _ => none
  | n + 1, x1, x2, x3, σ =>
    gR σ (some o) 0 0 fun v_1 =>
    gR σ v_1 1 4 fun v_2 =>
    nn σ v_2 9 fun a_5 => bd (m_J18_size a_5 σ) fun v_3 σ_4 =>
    if v_3 ≤ x3 then
      some (x1, σ_4)
    else
      nO σ_4 63 1 [.int x3] fun q_7 σ_8 =>
      nn σ_8 (some o) 0 fun a_11 => bd (m_X1_after a_11 (some q_7) σ_8) fun v_9 σ_10 =>
      nn σ_10 v_9 1 fun a_14 => bd (m_X4_unsettled a_14 σ_10) fun v_12 σ_13 =>
      if v_12 ≤ x2 then
        lt_ (x1 ||| 0) fun x1_16 =>
        lt_ (x3 + 1) fun x3_17 =>
        (b_X1_needed_12 o n) x1_16 x2 x3_17 σ_13
      else
        lt_ (x1 ||| (1 <<< (x3 &&& 31))) fun x1_18 =>
        lt_ (x3 + 1) fun x3_19 =>
        (b_X1_needed_12 o n) x1_18 x2 x3_19 σ_13

def m_X1_needed (o : Nat) (σ : cS) : Option (Int32 × cS) :=
  gR σ (some o) 0 0 fun v_1 =>
  nn σ v_1 1 fun a_4 => bd (m_X4_unsettled a_4 σ) fun v_2 σ_3 =>
  b_X1_needed_12 o FU 0 v_2 0 σ_3

def b_X1_idle_25 (o : Nat) : Nat → Int32 → Int32 → Int32 → cS → Option (Int32 × cS)
  | 0, _, _, _, _ => none
  | n + 1, x1, x2, x3, σ =>
    if x2 ≤ x3 then
      some (x1, σ)
    else
      gR σ (some o) 0 0 fun v_2 =>
      nn σ v_2 1 fun a_5 => bd (m_X4_look a_5 x3 σ) fun v_3 σ_4 =>
      gI σ_4 v_3 3 4 fun v_6 =>
      if v_6 = (-1) then
        lt_ (x1 &&& x1) fun x1_10 =>
        lt_ (x3 + 1) fun x3_11 =>
        (b_X1_idle_25 o n) x1_10 x2 x3_11 σ_4
      else
        lt_ (x1 &&& ((1 <<< (v_6 &&& 31)) ^^^ (-1))) fun x1_8 =>
        lt_ (x3 + 1) fun x3_9 =>
        (b_X1_idle_25 o n) x1_8 x2 x3_9 σ_4

def m_X1_idle (o : Nat) (σ : cS) : Option (Int32 × cS) :=
  gR σ (some o) 0 0 fun v_1 =>
  gR σ v_1 1 4 fun v_2 =>
  nn σ v_2 9 fun a_5 => bd (m_J18_size a_5 σ) fun v_3 σ_4 =>
  lt_ ((1 <<< (v_3 &&& 31)) - 1) fun x1_6 =>
  gR σ_4 (some o) 0 0 fun v_7 =>
  nn σ_4 v_7 1 fun a_10 => bd (m_X4_cases a_10 σ_4) fun v_8 σ_9 =>
  b_X1_idle_25 o FU x1_6 v_8 0 σ_9

def b_X1_checkCase_15 (o : Nat) : cS → Option ((cX (Int32)) × cS) := fun σ =>
  thr σ 3

def m_X1_checkCase (o : Nat) (x1 : Int32) (σ : cS) : Option ((cX (Int32)) × cS) :=
  if x1 < 0 then
    b_X1_checkCase_15 o σ
  else
    gR σ (some o) 0 0 fun v_2 =>
    nn σ v_2 1 fun a_5 => bd (m_X4_cases a_5 σ) fun v_3 σ_4 =>
    if x1 < v_3 then
      xl (some ((0 : Int32), σ_4))
    else
      b_X1_checkCase_15 o σ_4

def b_X1_checkIndex_9 : cS → Option ((cX (Int32)) × cS) := fun σ =>
  thr σ 2

def m_X1_checkIndex (x0 : Int32) (x1 : Int32) (σ : cS) : Option ((cX (Int32)) × cS) :=
  if x0 < 0 then
    b_X1_checkIndex_9 σ
  else
    if x0 < x1 then
      xl (some ((0 : Int32), σ))
    else
      b_X1_checkIndex_9 σ

def m_X1_ruleAt (o : Nat) (x1 : Int32) (σ : cS) : Option ((cX (Option Nat)) × cS) :=
  gR σ (some o) 0 0 fun v_1 =>
  gR σ v_1 1 4 fun v_2 =>
  nn σ v_2 9 fun a_5 => bd (m_J18_size a_5 σ) fun v_3 σ_4 =>
  bdx (m_X1_checkIndex x1 v_3 σ_4) fun _ σ_6 =>
  gR σ_6 (some o) 0 0 fun v_7 =>
  gR σ_6 v_7 1 4 fun v_8 =>
  nn σ_6 v_8 9 fun a_11 => bd (m_J18_get a_11 x1 σ_6) fun v_9 σ_10 =>
  cst σ_10 v_9 [2] <|
  xl (some (v_9, σ_10))

def m_X1_applies (o : Nat) (x1 : Int32) (x2 : Int32) (σ : cS) : Option ((cX (Int32)) × cS) :=
  nn σ (some o) 0 fun a_2 => bdx (m_X1_checkCase a_2 x1 σ) fun _ σ_1 =>
  nn σ_1 (some o) 0 fun a_5 => bdx (m_X1_ruleAt a_5 x2 σ_1) fun v_3 σ_4 =>
  gR σ_4 (some o) 0 0 fun v_6 =>
  nn σ_4 v_6 1 fun a_9 => bd (m_X4_look a_9 x1 σ_4) fun v_7 σ_8 =>
  gI σ_8 v_7 3 1 fun v_10 =>
  if ((v_10 >>> (x2 &&& 31)) &&& 1) = 1 then
    xl (rz 1 σ_8)
  else
    xl (rz 0 σ_8)

def m_X1_lambda_common_6 (o : Nat) (x1 : Int32) (x2 : Int32) (x3 : Int32) (σ : cS) : Option ((cX (Int32)) × cS) :=
  nn σ (some o) 0 fun a_3 => bdx (m_X1_applies a_3 x3 x1 σ) fun v_1 σ_2 =>
  if v_1 = 0 then
    xl (some (0, σ_2))
  else
    nn σ_2 (some o) 0 fun a_7 => bdx (m_X1_applies a_7 x3 x2 σ_2) fun v_5 σ_6 =>
    if v_5 = 0 then
      xl (some (0, σ_6))
    else
      xl (some (1, σ_6))

def m_X1_lambda_dearest_11 (o : Nat) (x1 : Int32) (σ : cS) : Option (Int32 × cS) :=
  gR σ (some o) 0 0 fun v_1 =>
  nn σ v_1 1 fun a_4 => bd (m_X4_duties a_4 x1 σ) fun v_2 σ_3 =>
  some (v_2, σ_3)

def m_X1_lambda_heir_0 (o : Nat) (x1 : Int32) (x2 : Int32) (σ : cS) : Option (Int32 × cS) :=
  gR σ (some o) 0 0 fun v_1 =>
  nn σ v_1 1 fun a_4 => bd (m_X4_gets a_4 x2 x1 σ) fun v_2 σ_3 =>
  some (v_2, σ_3)

def m_X1_lambda_heir_1 (o : Nat) (x1 : Int32) (x2 : Int32) (σ : cS) : Option (Int32 × cS) :=
  gR σ (some o) 0 0 fun v_1 =>
  nn σ v_1 1 fun a_4 => bd (m_X4_gets a_4 x2 x1 σ) fun v_2 σ_3 =>
  some (v_2, σ_3)

def m_X1_lambda_isWider_5 (o : Nat) (x1 : Int32) (x2 : Int32) (x3 : Int32) (σ : cS) : Option ((cX (Int32)) × cS) :=
  nn σ (some o) 0 fun a_3 => bdx (m_X1_applies a_3 x3 x1 σ) fun v_1 σ_2 =>
  if v_1 = 0 then
    xl (some (0, σ_2))
  else
    nn σ_2 (some o) 0 fun a_7 => bdx (m_X1_applies a_7 x3 x2 σ_2) fun v_5 σ_6 =>
    if v_5 = 0 then
      xl (some (1, σ_6))
    else
      xl (some (0, σ_6))

def m_X1_lambda_meanDuties_12 (o : Nat) (x1 : Int32) (σ : cS) : Option (Int32 × cS) :=
  gR σ (some o) 0 0 fun v_1 =>
  nn σ v_1 1 fun a_4 => bd (m_X4_duties a_4 x1 σ) fun v_2 σ_3 =>
  some (v_2, σ_3)

def m_X1_isGap (o : Nat) (x1 : Int32) (σ : cS) : Option (Int32 × cS) :=
  gR σ (some o) 0 0 fun v_1 =>
  nn σ v_1 1 fun a_4 => bd (m_X4_look a_4 x1 σ) fun v_2 σ_3 =>
  gI σ_3 v_2 3 3 fun v_5 =>
  if v_5 = 1 then
    rz 1 σ_3
  else
    if v_5 = 2 then
      rz 1 σ_3
    else
      rz 0 σ_3

def m_X1_lambda_patch_10 (o : Nat) (x1 : Option Nat) (x2 : Int32) (σ : cS) : Option (Int32 × cS) :=
  nn σ (some o) 0 fun a_3 => bd (m_X1_isGap a_3 x2 σ) fun v_1 σ_2 =>
  if v_1 = 0 then
    some (0, σ_2)
  else
    gR σ_2 (some o) 0 0 fun v_5 =>
    nn σ_2 v_5 1 fun a_8 => bd (m_X4_look a_8 x2 σ_2) fun v_6 σ_7 =>
    gR σ_7 v_6 3 0 fun v_9 =>
    nn σ_7 x1 4 fun a_12 => bd (m_X7_holds (dv_holds DPC) a_12 v_9 σ_7) fun v_10 σ_11 =>
    if v_10 = 0 then
      some (0, σ_11)
    else
      some (1, σ_11)

def m_X1_lambda_rule_2 (o : Nat) (x1 : Int32) (x2 : Int32) (σ : cS) : Option (Int32 × cS) :=
  gR σ (some o) 0 0 fun v_1 =>
  nn σ v_1 1 fun a_4 => bd (m_X4_look a_4 x2 σ) fun v_2 σ_3 =>
  gI σ_3 v_2 3 1 fun v_5 =>
  some ((v_5 >>> (x1 &&& 31)) &&& 1, σ_3)

def m_X1_lambda_rule_3 (o : Nat) (x1 : Int32) (x2 : Int32) (σ : cS) : Option (Int32 × cS) :=
  gR σ (some o) 0 0 fun v_1 =>
  nn σ v_1 1 fun a_4 => bd (m_X4_look a_4 x2 σ) fun v_2 σ_3 =>
  gI σ_3 v_2 3 4 fun v_5 =>
  if v_5 = x1 then
    some (1, σ_3)
  else
    some (0, σ_3)

def m_X1_beatenIn (x0 : Option Nat) (x1 : Int32) (σ : cS) : Option (Int32 × cS) :=
  gI σ x0 3 1 fun v_1 =>
  gI σ x0 3 2 fun v_2 =>
  some (((v_1 &&& (v_2 ^^^ (-1))) >>> (x1 &&& 31)) &&& 1, σ)

def m_X1_lambda_rule_4 (o : Nat) (x1 : Int32) (x2 : Int32) (σ : cS) : Option (Int32 × cS) :=
  gR σ (some o) 0 0 fun v_1 =>
  nn σ v_1 1 fun a_4 => bd (m_X4_look a_4 x2 σ) fun v_2 σ_3 =>
  bd (m_X1_beatenIn v_2 x1 σ_3) fun v_5 σ_6 =>
  some (v_5, σ_6)

def b_X1_left_28 (o : Nat) : Nat → Int32 → Int32 → Int32 → cS → Option (Int32 × cS)
  | 0, _, _, _, _ => none
  | n + 1, x1, x2, x3, σ =>
    gR σ (some o) 0 0 fun v_1 =>
    gI σ v_1 1 1 fun v_2 =>
    if v_2 ≤ x3 then
      some (x2, σ)
    else
      gR σ (some o) 0 0 fun v_4 =>
      nn σ v_4 1 fun a_7 => bd (m_X4_gets a_7 x1 x3 σ) fun v_5 σ_6 =>
      lt_ (x2 - v_5) fun x2_8 =>
      lt_ (x3 + 1) fun x3_9 =>
      (b_X1_left_28 o n) x1 x2_8 x3_9 σ_6

def m_X1_left (o : Nat) (x1 : Int32) (σ : cS) : Option (Int32 × cS) :=
  gR σ (some o) 0 0 fun v_1 =>
  nn σ v_1 1 fun a_4 => bd (m_X4_look a_4 x1 σ) fun v_2 σ_3 =>
  gI σ_3 v_2 3 3 fun v_5 =>
  if v_5 = 0 then
    gR σ_3 (some o) 0 0 fun v_7 =>
    gI σ_3 v_7 1 7 fun v_8 =>
    b_X1_left_28 o FU x1 v_8 0 σ_3
  else
    b_X1_left_28 o FU x1 0 0 σ_3

def dL_of (a : Nat) (x1 : Int32) (σ : cS) : Option (Int32 × cS) := if isO σ a 64 = true then gL σ a 64 fun fs => kR fs 0 fun c0 => kR fs 1 fun c1 => nn σ c0 0 fun b => m_X1_lambda_patch_10 b c1 x1 σ else if isO σ a 65 = true then gL σ a 65 fun fs => kR fs 0 fun c0 => nn σ c0 0 fun b => m_X1_lambda_dearest_11 b x1 σ else if isO σ a 66 = true then gL σ a 66 fun fs => kR fs 0 fun c0 => nn σ c0 0 fun b => m_X1_left b x1 σ else if isO σ a 67 = true then gL σ a 67 fun fs => kR fs 0 fun c0 => nn σ c0 0 fun b => m_X1_lambda_meanDuties_12 b x1 σ else if isO σ a 68 = true then gL σ a 68 fun fs => kR fs 0 fun c0 => kI fs 1 fun c1 => nn σ c0 0 fun b => m_X1_lambda_heir_0 b c1 x1 σ else if isO σ a 69 = true then gL σ a 69 fun fs => kR fs 0 fun c0 => kI fs 1 fun c1 => nn σ c0 0 fun b => m_X1_lambda_heir_1 b c1 x1 σ else if isO σ a 70 = true then gL σ a 70 fun fs => kR fs 0 fun c0 => kI fs 1 fun c1 => nn σ c0 0 fun b => m_X1_lambda_rule_2 b c1 x1 σ else if isO σ a 71 = true then gL σ a 71 fun fs => kR fs 0 fun c0 => kI fs 1 fun c1 => nn σ c0 0 fun b => m_X1_lambda_rule_3 b c1 x1 σ else if isO σ a 72 = true then gL σ a 72 fun fs => kR fs 0 fun c0 => kI fs 1 fun c1 => nn σ c0 0 fun b => m_X1_lambda_rule_4 b c1 x1 σ else if isO σ a 73 = true then gL σ a 73 fun fs => kR fs 0 fun c0 => kI fs 1 fun c1 => kI fs 2 fun c2 => nn σ c0 0 fun b => unx (m_X1_lambda_isWider_5 b c1 c2 x1 σ) else if isO σ a 74 = true then gL σ a 74 fun fs => kR fs 0 fun c0 => kI fs 1 fun c1 => kI fs 2 fun c2 => nn σ c0 0 fun b => unx (m_X1_lambda_common_6 b c1 c2 x1 σ) else none

def b_X1_sum_13 (o : Nat) : Nat → Option Nat → Int32 → Int32 → Int32 → cS → Option ((cX (Int32)) × cS)
  | 0, _, _, _, _, _ => none
  | n + 1, x1, x2, x3, x4, σ =>
    if x3 ≤ x4 then
      xl (some (x2, σ))
    else
      icl x1 (fun a_4 => dL_of a_4 x4 σ) fun v_2 σ_3 =>
      lt_ (x2 + v_2) fun x2_5 =>
      lt_ (x4 + 1) fun x4_6 =>
      (b_X1_sum_13 o n) x1 x2_5 x3 x4_6 σ_3

def m_X1_sum (o : Nat) (x1 : Option Nat) (σ : cS) : Option ((cX (Int32)) × cS) :=
  gR σ (some o) 0 0 fun v_1 =>
  nn σ v_1 1 fun a_4 => bd (m_X4_cases a_4 σ) fun v_2 σ_3 =>
  b_X1_sum_13 o FU x1 0 v_2 0 σ_3

def b_X1_patch_21 (o : Nat) (k6 : Int32 → Int32 → Int32 → cS → Option ((cX (Int32)) × cS)) : Nat → Int32 → Int32 → Int32 → Int32 → cS → Option ((cX (Int32)) × cS)
  | 0, _, _, _, _, _ => none
  | n + 1, x1, x2, x3, x4, σ =>
    gR σ (some o) 0 0 fun v_1 =>
    gR σ v_1 1 0 fun v_2 =>
    aI σ v_2 0 x3 fun v_3 =>
    if v_3 ≤ x4 then
      lt_ (x3 + 1) fun x3_5 =>
      k6 x1 x2 x3_5 σ
    else
      nO σ 4 4 [.int 0, .int 0, .int 0, .null] fun q_6 σ_7 =>
      bd (m_X7_init q_6 x3 61 x4 σ_7) fun _ σ_8 =>
      nO σ_8 64 2 [.ref o, .ref q_6] fun q_9 σ_10 =>
      nn σ_10 (some o) 0 fun a_13 => bdx (m_X1_sum a_13 (some q_9) σ_10) fun v_11 σ_12 =>
      if v_11 ≤ x2 then
        lt_ (x4 + 1) fun x4_15 =>
        (b_X1_patch_21 o k6 n) x1 x2 x3 x4_15 σ_12
      else
        lt_ ((10 * x3) + x4) fun x1_16 =>
        lt_ (x4 + 1) fun x4_17 =>
        (b_X1_patch_21 o k6 n) x1_16 v_11 x3 x4_17 σ_12

def b_X1_patch_6 (o : Nat) : Nat → Int32 → Int32 → Int32 → cS → Option ((cX (Int32)) × cS)
  | 0, _, _, _, _ => none
  | n + 1, x1, x2, x3, σ =>
    gR σ (some o) 0 0 fun v_1 =>
    gR σ v_1 1 0 fun v_2 =>
    aL σ v_2 fun v_3 =>
    if v_3 ≤ x3 then
      xl (some (x1, σ))
    else
      b_X1_patch_21 o (b_X1_patch_6 o n) FU x1 x2 x3 0 σ

def m_X1_patch (o : Nat) (σ : cS) : Option ((cX (Int32)) × cS) :=
  b_X1_patch_6 o FU (-1) 0 0 σ

def b_X1_overSettled_14 (o : Nat) : Nat → Option Nat → Int32 → Int32 → Int32 → Int32 → cS → Option ((cX (Int32)) × cS)
  | 0, _, _, _, _, _, _ => none
  | n + 1, x1, x2, x3, x4, x5, σ =>
    if x4 ≤ x5 then
      xl (some (x3, σ))
    else
      gR σ (some o) 0 0 fun v_2 =>
      nn σ v_2 1 fun a_5 => bd (m_X4_look a_5 x5 σ) fun v_3 σ_4 =>
      gI σ_4 v_3 3 3 fun v_6 =>
      if v_6 = 0 then
        icl x1 (fun a_11 => dL_of a_11 x5 σ_4) fun v_9 σ_10 =>
        if x3 = (-1) then
          lt_ (x5 + 1) fun x5_13 =>
          (b_X1_overSettled_14 o n) x1 x2 v_9 x4 x5_13 σ_10
        else
          if (x2 * v_9) ≤ (x2 * x3) then
            lt_ (x5 + 1) fun x5_15 =>
            (b_X1_overSettled_14 o n) x1 x2 x3 x4 x5_15 σ_10
          else
            lt_ (x5 + 1) fun x5_16 =>
            (b_X1_overSettled_14 o n) x1 x2 v_9 x4 x5_16 σ_10
      else
        lt_ (x5 + 1) fun x5_8 =>
        (b_X1_overSettled_14 o n) x1 x2 x3 x4 x5_8 σ_4

def m_X1_overSettled (o : Nat) (x1 : Option Nat) (x2 : Int32) (σ : cS) : Option ((cX (Int32)) × cS) :=
  gR σ (some o) 0 0 fun v_1 =>
  nn σ v_1 1 fun a_4 => bd (m_X4_cases a_4 σ) fun v_2 σ_3 =>
  b_X1_overSettled_14 o FU x1 x2 (-1) v_2 0 σ_3

def b_X1_dearest_22 (o : Nat) : Nat → Int32 → Int32 → Int32 → cS → Option ((cX (Int32)) × cS)
  | 0, _, _, _, _ => none
  | n + 1, x1, x2, x3, σ =>
    if x2 ≤ x3 then
      xl (some ((-1), σ))
    else
      gR σ (some o) 0 0 fun v_2 =>
      nn σ v_2 1 fun a_5 => bd (m_X4_look a_5 x3 σ) fun v_3 σ_4 =>
      gI σ_4 v_3 3 3 fun v_6 =>
      if v_6 = 0 then
        gR σ_4 (some o) 0 0 fun v_9 =>
        nn σ_4 v_9 1 fun a_12 => bd (m_X4_duties a_12 x3 σ_4) fun v_10 σ_11 =>
        if v_10 = x1 then
          xl (some (x3, σ_11))
        else
          lt_ (x3 + 1) fun x3_14 =>
          (b_X1_dearest_22 o n) x1 x2 x3_14 σ_11
      else
        lt_ (x3 + 1) fun x3_8 =>
        (b_X1_dearest_22 o n) x1 x2 x3_8 σ_4

def m_X1_dearest (o : Nat) (σ : cS) : Option ((cX (Int32)) × cS) :=
  nO σ 65 1 [.ref o] fun q_1 σ_2 =>
  nn σ_2 (some o) 0 fun a_5 => bdx (m_X1_overSettled a_5 (some q_1) 1 σ_2) fun v_3 σ_4 =>
  gR σ_4 (some o) 0 0 fun v_6 =>
  nn σ_4 v_6 1 fun a_9 => bd (m_X4_cases a_9 σ_4) fun v_7 σ_8 =>
  b_X1_dearest_22 o FU v_3 v_7 0 σ_8

def m_X1_gap (o : Nat) (σ : cS) : Option ((cX (Int32)) × cS) :=
  nO σ 66 1 [.ref o] fun q_1 σ_2 =>
  nn σ_2 (some o) 0 fun a_5 => bdx (m_X1_sum a_5 (some q_1) σ_2) fun v_3 σ_4 =>
  xl (some (v_3, σ_4))

def m_X1_settledShare (o : Nat) (σ : cS) : Option (UInt32 × cS) :=
  gR σ (some o) 0 0 fun v_1 =>
  nn σ v_1 1 fun a_4 => bd (m_X4_withVerdict a_4 0 σ) fun v_2 σ_3 =>
  gR σ_3 (some o) 0 0 fun v_5 =>
  nn σ_3 v_5 1 fun a_8 => bd (m_X4_cases a_8 σ_3) fun v_6 σ_7 =>
  nf32 (FP.fdiv (FP.i2f v_2) (FP.i2f v_6)) <|
  some (FP.fdiv (FP.i2f v_2) (FP.i2f v_6), σ_7)

def m_X1_meanDuties (o : Nat) (σ : cS) : Option ((cX (UInt64)) × cS) :=
  gR σ (some o) 0 0 fun v_1 =>
  nn σ v_1 1 fun a_4 => bd (m_X4_withVerdict a_4 0 σ) fun v_2 σ_3 =>
  nO σ_3 67 1 [.ref o] fun q_5 σ_6 =>
  nn σ_6 (some o) 0 fun a_9 => bdx (m_X1_sum a_9 (some q_5) σ_6) fun v_7 σ_8 =>
  if v_2 = 0 then
    xl (some (FP.dconst0, σ_8))
  else
    nf64 (FP.ddiv (FP.i2d v_7) (FP.i2d v_2)) <|
    xl (some (FP.ddiv (FP.i2d v_7) (FP.i2d v_2), σ_8))

def m_X1_signOf (x0 : Option Nat) (σ : cS) : Option (Option Nat × cS) :=
  gI σ x0 3 3 fun v_1 =>
  if v_1 = 0 then
    gI σ x0 3 4 fun v_3 =>
    bd (m_J4_valueOf v_3 σ) fun v_4 σ_5 =>
    some (v_4, σ_5)
  else
  if v_1 = 3 then
    some (some (σ.2 30), σ)
  else
    some (some (σ.2 31), σ)

def b_X1_writeVerdicts_21 (o : Nat) : Nat → Int32 → Int32 → cS → Option (Int32 × cS)
  | 0, _, _, _ => none
  | n + 1, x1, x2, σ =>
    if x1 ≤ x2 then
      gR σ (some o) 0 4 fun v_2 =>
      nn σ v_2 11 fun a_5 => bd (m_J3_length a_5 σ) fun v_3 σ_4 =>
      some (v_3, σ_4)
    else
      gR σ (some o) 0 4 fun v_6 =>
      gR σ (some o) 0 0 fun v_7 =>
      nn σ v_7 1 fun a_10 => bd (m_X4_look a_10 x2 σ) fun v_8 σ_9 =>
      bd (m_X1_signOf v_8 σ_9) fun v_11 σ_12 =>
      nn σ_12 v_6 11 fun a_15 => bd (m_J3_append_2 a_15 v_11 σ_12) fun v_13 σ_14 =>
      lt_ (x2 + 1) fun x2_16 =>
      (b_X1_writeVerdicts_21 o n) x1 x2_16 σ_14

def m_X1_writeVerdicts (o : Nat) (σ : cS) : Option (Int32 × cS) :=
  nO σ 11 4 [.null, .int 0, .int 0, .int 0] fun q_1 σ_2 =>
  bd (m_J3_init q_1 σ_2) fun _ σ_3 =>
  pO σ_3 (some o) 0 4 (va_rf (some q_1)) fun σ_4 =>
  gR σ_4 (some o) 0 0 fun v_5 =>
  nn σ_4 v_5 1 fun a_8 => bd (m_X4_cases a_8 σ_4) fun v_6 σ_7 =>
  b_X1_writeVerdicts_21 o FU v_6 0 σ_7

def m_X1_reportAt (o : Nat) (x1 : Int32) (σ : cS) : Option (Int32 × cS) :=
  if x1 < 0 then
    rc 0 σ
  else
    gR σ (some o) 0 4 fun v_2 =>
    nn σ v_2 11 fun a_5 => bd (m_J3_length a_5 σ) fun v_3 σ_4 =>
    if x1 < v_3 then
      gR σ_4 (some o) 0 4 fun v_7 =>
      nn σ_4 v_7 11 fun a_10 => bd (m_J3_charAt a_10 x1 σ_4) fun v_8 σ_9 =>
      rc v_8 σ_9
    else
      rc 0 σ_4

def m_X1_undo (o : Nat) (σ : cS) : Option (Int32 × cS) :=
  gR σ (some o) 0 1 fun v_1 =>
  nn σ v_1 10 fun a_4 => bd (m_J1_isEmpty a_4 σ) fun v_2 σ_3 =>
  if v_2 = 0 then
    gR σ_3 (some o) 0 1 fun v_6 =>
    nn σ_3 v_6 10 fun a_9 => bd (m_J1_removeLast a_9 σ_3) fun v_7 σ_8 =>
    cst σ_8 v_7 [1] <|
    pO σ_8 (some o) 0 0 (va_rf v_7) fun σ_10 =>
    gR σ_10 (some o) 0 1 fun v_11 =>
    nn σ_10 v_11 10 fun a_14 => bd (m_J1_size a_14 σ_10) fun v_12 σ_13 =>
    some (v_12, σ_13)
  else
    some ((-1), σ_3)

def b_X1_check_10 : cS → Option ((cX (Int32)) × cS) := fun σ =>
  thr σ 1

def m_X1_check (x0 : Int32) (x1 : Int32) (x2 : Int32) (σ : cS) : Option ((cX (Int32)) × cS) :=
  if x0 < x1 then
    b_X1_check_10 σ
  else
    if x0 ≤ x2 then
      xl (some ((0 : Int32), σ))
    else
      b_X1_check_10 σ

def m_X1_checkHeir (o : Nat) (x1 : Int32) (σ : cS) : Option ((cX (Int32)) × cS) :=
  gR σ (some o) 0 0 fun v_1 =>
  gI σ v_1 1 1 fun v_2 =>
  bdx (m_X1_checkIndex x1 v_2 σ) fun _ σ_3 =>
  xl (some ((0 : Int32), σ_3))

def m_X1_heir (o : Nat) (x1 : Int32) (x2 : Int32) (σ : cS) : Option ((cX (Int32)) × cS) :=
  nn σ (some o) 0 fun a_2 => bdx (m_X1_checkHeir a_2 x1 σ) fun _ σ_1 =>
  bdx (m_X1_check x2 0 6 σ_1) fun _ σ_3 =>
  if x2 = 0 then
    gR σ_3 (some o) 0 0 fun v_5 =>
    gR σ_3 v_5 1 2 fun v_6 =>
    aI σ_3 v_6 0 x1 fun v_7 =>
    xl (some (v_7, σ_3))
  else
  if x2 = 1 then
    gR σ_3 (some o) 0 0 fun v_9 =>
    gR σ_3 v_9 1 3 fun v_10 =>
    aI σ_3 v_10 0 x1 fun v_11 =>
    xl (some (v_11, σ_3))
  else
  if x2 = 2 then
    gR σ_3 (some o) 0 0 fun v_13 =>
    gI σ_3 v_13 1 6 fun v_14 =>
    if v_14 = x1 then
      xl (some (1, σ_3))
    else
      xl (some (0, σ_3))
  else
  if x2 = 3 then
    gR σ_3 (some o) 0 0 fun v_17 =>
    gR σ_3 (some o) 0 0 fun v_18 =>
    gI σ_3 v_18 1 8 fun v_19 =>
    nn σ_3 v_17 1 fun a_22 => bd (m_X4_gets a_22 v_19 x1 σ_3) fun v_20 σ_21 =>
    xl (some (v_20, σ_21))
  else
  if x2 = 4 then
    gR σ_3 (some o) 0 0 fun v_24 =>
    gR σ_3 (some o) 0 0 fun v_25 =>
    gI σ_3 v_25 1 8 fun v_26 =>
    nn σ_3 v_24 1 fun a_29 => bd (m_X4_duty a_29 v_26 x1 σ_3) fun v_27 σ_28 =>
    xl (some (v_27, σ_28))
  else
  if x2 = 5 then
    nO σ_3 68 2 [.ref o, .int x1] fun q_31 σ_32 =>
    nn σ_32 (some o) 0 fun a_35 => bdx (m_X1_overSettled a_35 (some q_31) (-1) σ_32) fun v_33 σ_34 =>
    xl (some (v_33, σ_34))
  else
    nO σ_3 69 2 [.ref o, .int x1] fun q_36 σ_37 =>
    nn σ_37 (some o) 0 fun a_40 => bdx (m_X1_overSettled a_40 (some q_36) 1 σ_37) fun v_38 σ_39 =>
    xl (some (v_38, σ_39))

def b_X1_beaters_4 (o : Nat) : Nat → Int32 → Int32 → Int32 → cS → Option (Int32 × cS)
  | 0, _, _, _, _ => none
  | n + 1, x1, x2, x3, σ =>
    gR σ (some o) 0 0 fun v_1 =>
    gR σ v_1 1 4 fun v_2 =>
    nn σ v_2 9 fun a_5 => bd (m_J18_size a_5 σ) fun v_3 σ_4 =>
    if v_3 ≤ x3 then
      some (x2, σ_4)
    else
      gR σ_4 (some o) 0 0 fun v_7 =>
      gR σ_4 v_7 1 4 fun v_8 =>
      nn σ_4 v_8 9 fun a_11 => bd (m_J18_get a_11 x3 σ_4) fun v_9 σ_10 =>
      cst σ_10 v_9 [2] <|
      nn σ_10 v_9 2 fun a_14 => bd (m_X9_isOver a_14 x1 σ_10) fun v_12 σ_13 =>
      if v_12 = 0 then
        lt_ (x2 ||| 0) fun x2_16 =>
        lt_ (x3 + 1) fun x3_17 =>
        (b_X1_beaters_4 o n) x1 x2_16 x3_17 σ_13
      else
        lt_ (x2 ||| (1 <<< (x3 &&& 31))) fun x2_18 =>
        lt_ (x3 + 1) fun x3_19 =>
        (b_X1_beaters_4 o n) x1 x2_18 x3_19 σ_13

def m_X1_beaters (o : Nat) (x1 : Int32) (σ : cS) : Option (Int32 × cS) :=
  b_X1_beaters_4 o FU x1 0 0 σ

def m_X1_rule (o : Nat) (x1 : Int32) (x2 : Int32) (σ : cS) : Option ((cX (Int32)) × cS) :=
  nn σ (some o) 0 fun a_3 => bdx (m_X1_ruleAt a_3 x1 σ) fun v_1 σ_2 =>
  bdx (m_X1_check x2 0 5 σ_2) fun _ σ_4 =>
  if x2 = 0 then
    nO σ_4 70 2 [.ref o, .int x1] fun q_6 σ_7 =>
    nn σ_7 (some o) 0 fun a_10 => bdx (m_X1_sum a_10 (some q_6) σ_7) fun v_8 σ_9 =>
    xl (some (v_8, σ_9))
  else
  if x2 = 1 then
    nO σ_4 71 2 [.ref o, .int x1] fun q_12 σ_13 =>
    nn σ_13 (some o) 0 fun a_16 => bdx (m_X1_sum a_16 (some q_12) σ_13) fun v_14 σ_15 =>
    xl (some (v_14, σ_15))
  else
  if x2 = 2 then
    nO σ_4 72 2 [.ref o, .int x1] fun q_18 σ_19 =>
    nn σ_19 (some o) 0 fun a_22 => bdx (m_X1_sum a_22 (some q_18) σ_19) fun v_20 σ_21 =>
    xl (some (v_20, σ_21))
  else
  if x2 = 3 then
    gI σ_4 v_1 2 1 fun v_24 =>
    xl (some (v_24, σ_4))
  else
  if x2 = 4 then
    gI σ_4 v_1 2 3 fun v_26 =>
    xl (some (v_26, σ_4))
  else
    nn σ_4 (some o) 0 fun a_29 => bd (m_X1_beaters a_29 x1 σ_4) fun v_27 σ_28 =>
    xl (some (v_27, σ_28))

def m_X1_settledBy (o : Nat) (x1 : Int32) (σ : cS) : Option ((cX (Int32)) × cS) :=
  nn σ (some o) 0 fun a_2 => bdx (m_X1_checkCase a_2 x1 σ) fun _ σ_1 =>
  gR σ_1 (some o) 0 0 fun v_3 =>
  nn σ_1 v_3 1 fun a_6 => bd (m_X4_look a_6 x1 σ_1) fun v_4 σ_5 =>
  gI σ_5 v_4 3 4 fun v_7 =>
  xl (some (v_7, σ_5))

def m_X1_share (o : Nat) (x1 : Int32) (x2 : Int32) (x3 : Int32) (σ : cS) : Option ((cX (Int32)) × cS) :=
  nn σ (some o) 0 fun a_3 => bdx (m_X1_ruleAt a_3 x1 σ) fun v_1 σ_2 =>
  nn σ_2 (some o) 0 fun a_5 => bdx (m_X1_checkHeir a_5 x2 σ_2) fun _ σ_4 =>
  if x3 = 0 then
    nn σ_4 v_1 2 fun a_9 => bd (m_X9_above a_9 x2 σ_4) fun v_7 σ_8 =>
    xl (some (v_7, σ_8))
  else
    nn σ_4 v_1 2 fun a_12 => bd (m_X9_below a_12 x2 σ_4) fun v_10 σ_11 =>
    xl (some (v_10, σ_11))

def b_X1_size_150 (o : Nat) : Int32 → cS → Option ((cX (Int32)) × cS) := fun x1 σ =>
  gR σ (some o) 0 0 fun v_1 =>
  nn σ v_1 1 fun a_4 => bd (m_X4_withVerdict a_4 (x1 - 7) σ) fun v_2 σ_3 =>
  xl (some (v_2, σ_3))

def m_X1_size (o : Nat) (x1 : Int32) (σ : cS) : Option ((cX (Int32)) × cS) :=
  bdx (m_X1_check x1 0 13 σ) fun _ σ_1 =>
  if x1 = 0 then
    gR σ_1 (some o) 0 0 fun v_3 =>
    gR σ_1 v_3 1 0 fun v_4 =>
    aL σ_1 v_4 fun v_5 =>
    xl (some (v_5, σ_1))
  else
  if x1 = 1 then
    gR σ_1 (some o) 0 0 fun v_7 =>
    gI σ_1 v_7 1 1 fun v_8 =>
    xl (some (v_8, σ_1))
  else
  if x1 = 2 then
    gR σ_1 (some o) 0 0 fun v_10 =>
    gR σ_1 v_10 1 4 fun v_11 =>
    nn σ_1 v_11 9 fun a_14 => bd (m_J18_size a_14 σ_1) fun v_12 σ_13 =>
    xl (some (v_12, σ_13))
  else
  if x1 = 3 then
    gR σ_1 (some o) 0 0 fun v_16 =>
    nn σ_1 v_16 1 fun a_19 => bd (m_X4_cases a_19 σ_1) fun v_17 σ_18 =>
    xl (some (v_17, σ_18))
  else
  if x1 = 4 then
    gR σ_1 (some o) 0 0 fun v_21 =>
    gI σ_1 v_21 1 6 fun v_22 =>
    xl (some (v_22, σ_1))
  else
  if x1 = 5 then
    gR σ_1 (some o) 0 0 fun v_24 =>
    gI σ_1 v_24 1 7 fun v_25 =>
    xl (some (v_25, σ_1))
  else
  if x1 = 6 then
    gR σ_1 (some o) 0 0 fun v_27 =>
    gI σ_1 v_27 1 8 fun v_28 =>
    xl (some (v_28, σ_1))
  else
  if x1 = 7 then
    b_X1_size_150 o x1 σ_1
  else
  if x1 = 8 then
    b_X1_size_150 o x1 σ_1
  else
  if x1 = 9 then
    b_X1_size_150 o x1 σ_1
  else
  if x1 = 10 then
    b_X1_size_150 o x1 σ_1
  else
  if x1 = 11 then
    gR σ_1 (some o) 0 1 fun v_34 =>
    nn σ_1 v_34 10 fun a_37 => bd (m_J1_size a_37 σ_1) fun v_35 σ_36 =>
    xl (some (v_35, σ_36))
  else
  if x1 = 12 then
    gR σ_1 (some o) 0 3 fun v_39 =>
    nn σ_1 v_39 11 fun a_42 => bd (m_J3_length a_42 σ_1) fun v_40 σ_41 =>
    xl (some (v_40, σ_41))
  else
    gR σ_1 (some o) 0 4 fun v_43 =>
    nn σ_1 v_43 11 fun a_46 => bd (m_J3_length a_46 σ_1) fun v_44 σ_45 =>
    xl (some (v_44, σ_45))

def m_X1_verdict (o : Nat) (x1 : Int32) (σ : cS) : Option ((cX (Int32)) × cS) :=
  nn σ (some o) 0 fun a_2 => bdx (m_X1_checkCase a_2 x1 σ) fun _ σ_1 =>
  gR σ_1 (some o) 0 0 fun v_3 =>
  nn σ_1 v_3 1 fun a_6 => bd (m_X4_look a_6 x1 σ_1) fun v_4 σ_5 =>
  gI σ_5 v_4 3 3 fun v_7 =>
  xl (some (v_7, σ_5))

def b_X1_checksum_45 (o : Nat) (k31 : Int64 → Int32 → cS → Option ((cX (Int64)) × cS)) : Nat → Int64 → Int32 → Int32 → cS → Option ((cX (Int64)) × cS)
  | 0, _, _, _, _ => none
  | n + 1, x1, x3, x4, σ =>
    if 6 < x4 then
      lt_ (x3 + 1) fun x3_2 =>
      k31 x1 x3_2 σ
    else
      nn σ (some o) 0 fun a_5 => bdx (m_X1_heir a_5 x3 x4 σ) fun v_3 σ_4 =>
      lt_ ((31 * x1) + (Int32.toInt64 v_3)) fun x1_6 =>
      lt_ (x4 + 1) fun x4_7 =>
      (b_X1_checksum_45 o k31 n) x1_6 x3 x4_7 σ_4

def b_X1_checksum_128 (o : Nat) (k81 : Int64 → Int32 → cS → Option ((cX (Int64)) × cS)) : Nat → Int64 → Int32 → Int32 → cS → Option ((cX (Int64)) × cS)
  | 0, _, _, _, _ => none
  | n + 1, x1, x3, x4, σ =>
    gR σ (some o) 0 0 fun v_1 =>
    gI σ v_1 1 1 fun v_2 =>
    if v_2 ≤ x4 then
      lt_ (x3 + 1) fun x3_4 =>
      k81 x1 x3_4 σ
    else
      nn σ (some o) 0 fun a_7 => bdx (m_X1_share a_7 x3 x4 0 σ) fun v_5 σ_6 =>
      lt_ ((31 * x1) + (Int32.toInt64 v_5)) fun x1_8 =>
      nn σ_6 (some o) 0 fun a_11 => bdx (m_X1_share a_11 x3 x4 1 σ_6) fun v_9 σ_10 =>
      lt_ ((31 * x1_8) + (Int32.toInt64 v_9)) fun x1_12 =>
      lt_ (x4 + 1) fun x4_13 =>
      (b_X1_checksum_128 o k81 n) x1_12 x3 x4_13 σ_10

def b_X1_checksum_98 (o : Nat) (k81 : Int64 → Int32 → cS → Option ((cX (Int64)) × cS)) : Nat → Int64 → Int32 → Int32 → cS → Option ((cX (Int64)) × cS)
  | 0, _, _, _, _ => none
  | n + 1, x1, x3, x4, σ =>
    if 5 < x4 then
      b_X1_checksum_128 o k81 FU x1 x3 0 σ
    else
      nn σ (some o) 0 fun a_4 => bdx (m_X1_rule a_4 x3 x4 σ) fun v_2 σ_3 =>
      lt_ ((31 * x1) + (Int32.toInt64 v_2)) fun x1_5 =>
      lt_ (x4 + 1) fun x4_6 =>
      (b_X1_checksum_98 o k81 n) x1_5 x3 x4_6 σ_3

def b_X1_checksum_195 (o : Nat) : Nat → Int64 → Int32 → Int32 → cS → Option ((cX (Int64)) × cS)
  | 0, _, _, _, _ => none
  | n + 1, x1, x3, x4, σ =>
    if x3 ≤ x4 then
      xl (some (x1, σ))
    else
      nn σ (some o) 0 fun a_4 => bdx (m_X1_verdict a_4 x4 σ) fun v_2 σ_3 =>
      lt_ ((31 * x1) + (Int32.toInt64 v_2)) fun x1_5 =>
      nn σ_3 (some o) 0 fun a_8 => bdx (m_X1_settledBy a_8 x4 σ_3) fun v_6 σ_7 =>
      lt_ ((31 * x1_5) + (Int32.toInt64 v_6)) fun x1_9 =>
      lt_ (x4 + 1) fun x4_10 =>
      (b_X1_checksum_195 o n) x1_9 x3 x4_10 σ_7

def b_X1_checksum_81 (o : Nat) : Nat → Int64 → Int32 → cS → Option ((cX (Int64)) × cS)
  | 0, _, _, _ => none
  | n + 1, x1, x3, σ =>
    gR σ (some o) 0 0 fun v_1 =>
    gR σ v_1 1 4 fun v_2 =>
    nn σ v_2 9 fun a_5 => bd (m_J18_size a_5 σ) fun v_3 σ_4 =>
    if v_3 ≤ x3 then
      gR σ_4 (some o) 0 0 fun v_7 =>
      nn σ_4 v_7 1 fun a_10 => bd (m_X4_cases a_10 σ_4) fun v_8 σ_9 =>
      b_X1_checksum_195 o FU x1 v_8 0 σ_9
    else
      b_X1_checksum_98 o (b_X1_checksum_81 o n) FU x1 x3 0 σ_4

def b_X1_checksum_31 (o : Nat) : Nat → Int64 → Int32 → cS → Option ((cX (Int64)) × cS)
  | 0, _, _, _ => none
  | n + 1, x1, x3, σ =>
    gR σ (some o) 0 0 fun v_1 =>
    gI σ v_1 1 1 fun v_2 =>
    if v_2 ≤ x3 then
      b_X1_checksum_81 o FU x1 0 σ
    else
      b_X1_checksum_45 o (b_X1_checksum_31 o n) FU x1 x3 0 σ

def b_X1_checksum_4 (o : Nat) : Nat → Int64 → Int32 → cS → Option ((cX (Int64)) × cS)
  | 0, _, _, _ => none
  | n + 1, x1, x3, σ =>
    if 10 < x3 then
      b_X1_checksum_31 o FU x1 0 σ
    else
      nn σ (some o) 0 fun a_4 => bdx (m_X1_size a_4 x3 σ) fun v_2 σ_3 =>
      lt_ ((31 * x1) + (Int32.toInt64 v_2)) fun x1_5 =>
      lt_ (x3 + 1) fun x3_6 =>
      (b_X1_checksum_4 o n) x1_5 x3_6 σ_3

def m_X1_checksum (o : Nat) (σ : cS) : Option ((cX (Int64)) × cS) :=
  b_X1_checksum_4 o FU 0 0 σ

def m_X1_answer (x0 : Option Nat) (σ : cS) : Option (Int32 × cS) :=
  gI σ x0 14 0 fun v_1 =>
  gI σ x0 14 1 fun v_2 =>
  some ((-2) - ((8 * v_1) + v_2), σ)

def m_X1_parse (o : Nat) (x1 : Int32) (σ : cS) : Option ((cX (Int32)) × cS) :=
  gR σ (some o) 0 3 fun v_1 =>
  nn σ v_1 11 fun a_4 => bd (m_J3_length a_4 σ) fun v_2 σ_3 =>
  bdx (m_X1_check x1 0 v_2 σ_3) fun _ σ_5 =>
  nO σ_5 8 10 [.null, .int 0, .null, .int 0, .int 0, .null, .null, .int 0, .int 0, .int 0] fun q_6 σ_7 =>
  gR σ_7 (some o) 0 3 fun v_8 =>
  bd (m_X2_init q_6 v_8 x1 σ_7) fun _ σ_9 =>
  nn σ_9 (some q_6) 8 fun a_12 => bdc (m_X2_read a_12 σ_9) (fun v_10 σ_11 =>
    nn σ_11 (some o) 0 fun a_16 => bd (m_X1_replaceAll a_16 v_10 σ_11) fun _ σ_15 =>
    gR σ_15 (some o) 0 0 fun v_17 =>
    gR σ_15 v_17 1 4 fun v_18 =>
    nn σ_15 v_18 9 fun a_21 => bd (m_J18_size a_21 σ_15) fun v_19 σ_20 =>
    gR σ_20 (some o) 0 3 fun v_22 =>
    nn σ_20 v_22 11 fun a_24 => bd (m_J3_setLength a_24 0 σ_20) fun _ σ_23 =>
    xl (some (v_19, σ_23))
    ) (fun q_13 σ_14 =>
    bd (m_X1_answer (some q_13) σ_14) fun v_25 σ_26 =>
    gR σ_26 (some o) 0 3 fun v_27 =>
    nn σ_26 v_27 11 fun a_29 => bd (m_J3_setLength a_29 0 σ_26) fun _ σ_28 =>
    xl (some (v_25, σ_28))
    )

def m_X1_load (o : Nat) (x1 : Int32) (σ : cS) : Option ((cX (Int32)) × cS) :=
  bdx (m_X1_check x1 0 2 σ) fun _ σ_1 =>
  nn σ_1 (some o) 0 fun a_3 => bd (m_X1_start a_3 x1 σ_1) fun _ σ_2 =>
  gR σ_2 (some o) 0 0 fun v_4 =>
  gR σ_2 v_4 1 4 fun v_5 =>
  nn σ_2 v_5 9 fun a_8 => bd (m_J18_size a_8 σ_2) fun v_6 σ_7 =>
  xl (some (v_6, σ_7))

def m_X1_checkFact (o : Nat) (x1 : Int32) (σ : cS) : Option ((cX (Int32)) × cS) :=
  gR σ (some o) 0 0 fun v_1 =>
  gR σ v_1 1 0 fun v_2 =>
  aL σ v_2 fun v_3 =>
  bdx (m_X1_checkIndex x1 v_3 σ) fun _ σ_4 =>
  xl (some ((0 : Int32), σ_4))

def m_X1_values (o : Nat) (x1 : Int32) (σ : cS) : Option ((cX (Int32)) × cS) :=
  nn σ (some o) 0 fun a_2 => bdx (m_X1_checkFact a_2 x1 σ) fun _ σ_1 =>
  gR σ_1 (some o) 0 0 fun v_3 =>
  gR σ_1 v_3 1 0 fun v_4 =>
  aI σ_1 v_4 0 x1 fun v_5 =>
  xl (some (v_5, σ_1))

def m_X1_valueIn (o : Nat) (x1 : Int32) (x2 : Int32) (σ : cS) : Option ((cX (Int32)) × cS) :=
  nn σ (some o) 0 fun a_2 => bdx (m_X1_checkCase a_2 x1 σ) fun _ σ_1 =>
  nn σ_1 (some o) 0 fun a_4 => bdx (m_X1_checkFact a_4 x2 σ_1) fun _ σ_3 =>
  gR σ_3 (some o) 0 0 fun v_5 =>
  nn σ_3 v_5 1 fun a_8 => bd (m_X4_look a_8 x1 σ_3) fun v_6 σ_7 =>
  gR σ_7 v_6 3 0 fun v_9 =>
  aI σ_7 v_9 0 x2 fun v_10 =>
  xl (some (v_10, σ_7))

def m_X1_applying (o : Nat) (x1 : Int32) (σ : cS) : Option ((cX (Int32)) × cS) :=
  nn σ (some o) 0 fun a_2 => bdx (m_X1_checkCase a_2 x1 σ) fun _ σ_1 =>
  gR σ_1 (some o) 0 0 fun v_3 =>
  nn σ_1 v_3 1 fun a_6 => bd (m_X4_look a_6 x1 σ_1) fun v_4 σ_5 =>
  gI σ_5 v_4 3 1 fun v_7 =>
  xl (some (v_7, σ_5))

def m_X1_reasonOf (x0 : Option Nat) (x1 : Int32) (σ : cS) : Option (Int32 × cS) :=
  gI σ x0 3 1 fun v_1 =>
  if ((v_1 >>> (x1 &&& 31)) &&& 1) = 0 then
    some (1, σ)
  else
    bd (m_X1_beatenIn x0 x1 σ) fun v_3 σ_4 =>
    if v_3 = 1 then
      some (2, σ_4)
    else
      gI σ_4 x0 3 3 fun v_6 =>
      if v_6 = 3 then
        some (3, σ_4)
      else
        gI σ_4 x0 3 4 fun v_8 =>
        if v_8 = x1 then
          some (0, σ_4)
        else
          some (4, σ_4)

def m_X1_why (o : Nat) (x1 : Int32) (x2 : Int32) (x3 : Int32) (σ : cS) : Option ((cX (Int32)) × cS) :=
  nn σ (some o) 0 fun a_2 => bdx (m_X1_checkCase a_2 x1 σ) fun _ σ_1 =>
  nn σ_1 (some o) 0 fun a_5 => bdx (m_X1_ruleAt a_5 x2 σ_1) fun v_3 σ_4 =>
  bdx (m_X1_check x3 0 1 σ_4) fun _ σ_6 =>
  gR σ_6 (some o) 0 0 fun v_7 =>
  nn σ_6 v_7 1 fun a_10 => bd (m_X4_look a_10 x1 σ_6) fun v_8 σ_9 =>
  bd (m_X1_reasonOf v_8 x2 σ_9) fun v_11 σ_12 =>
  if x3 = 0 then
    xl (some (v_11, σ_12))
  else
    if v_11 = 0 then
      gI σ_12 v_8 3 1 fun v_15 =>
      bd (m_J14_bitCount v_15 σ_12) fun v_16 σ_17 =>
      xl (some (v_16, σ_17))
    else
    if v_11 = 1 then
      gR σ_12 v_8 3 0 fun v_19 =>
      aI σ_12 v_19 0 0 fun v_20 =>
      xl (some (v_20, σ_12))
    else
    if v_11 = 2 then
      gI σ_12 v_8 3 1 fun v_22 =>
      nn σ_12 (some o) 0 fun a_25 => bd (m_X1_beaters a_25 x2 σ_12) fun v_23 σ_24 =>
      bd (m_J14_numberOfTrailingZeros (v_22 &&& v_23) σ_24) fun v_26 σ_27 =>
      xl (some (v_26, σ_27))
    else
    if v_11 = 3 then
      gR σ_12 (some o) 0 0 fun v_29 =>
      gI σ_12 v_8 3 2 fun v_30 =>
      nn σ_12 v_29 1 fun a_33 => bd (m_X4_unlike a_33 v_30 x2 σ_12) fun v_31 σ_32 =>
      xl (some (v_31, σ_32))
    else
      gI σ_12 v_8 3 4 fun v_34 =>
      xl (some (v_34, σ_12))

def b_X1_example_20 (o : Nat) : Nat → Int32 → Int32 → Int32 → Int32 → cS → Option ((cX (Int32)) × cS)
  | 0, _, _, _, _, _ => none
  | n + 1, x1, x3, x4, x5, σ =>
    if x4 ≤ x5 then
      xl (some ((-1), σ))
    else
      if x3 < 0 then
        xl (some ((-1), σ))
      else
        gR σ (some o) 0 0 fun v_3 =>
        nn σ v_3 1 fun a_6 => bd (m_X4_look a_6 x5 σ) fun v_4 σ_5 =>
        gI σ_5 v_4 3 3 fun v_7 =>
        if v_7 = x1 then
          if x3 = 0 then
            xl (some (x5, σ_5))
          else
            lt_ (x3 + (-1)) fun x3_11 =>
            lt_ (x5 + 1) fun x5_12 =>
            (b_X1_example_20 o n) x1 x3_11 x4 x5_12 σ_5
        else
          lt_ (x5 + 1) fun x5_9 =>
          (b_X1_example_20 o n) x1 x3 x4 x5_9 σ_5

def m_X1_example (o : Nat) (x1 : Int32) (x2 : Int32) (σ : cS) : Option ((cX (Int32)) × cS) :=
  bdx (m_X1_check x1 0 3 σ) fun _ σ_1 =>
  gR σ_1 (some o) 0 0 fun v_2 =>
  nn σ_1 v_2 1 fun a_5 => bd (m_X4_cases a_5 σ_1) fun v_3 σ_4 =>
  b_X1_example_20 o FU x1 x2 v_3 0 σ_4

def m_X1_isWider (o : Nat) (x1 : Int32) (x2 : Int32) (σ : cS) : Option ((cX (Int32)) × cS) :=
  nn σ (some o) 0 fun a_3 => bdx (m_X1_ruleAt a_3 x1 σ) fun v_1 σ_2 =>
  nn σ_2 (some o) 0 fun a_6 => bdx (m_X1_ruleAt a_6 x2 σ_2) fun v_4 σ_5 =>
  nO σ_5 73 3 [.ref o, .int x2, .int x1] fun q_7 σ_8 =>
  nn σ_8 (some o) 0 fun a_11 => bdx (m_X1_sum a_11 (some q_7) σ_8) fun v_9 σ_10 =>
  if v_9 = 0 then
    xl (rz 1 σ_10)
  else
    xl (rz 0 σ_10)

def m_X1_common (o : Nat) (x1 : Int32) (x2 : Int32) (σ : cS) : Option ((cX (Int32)) × cS) :=
  nn σ (some o) 0 fun a_3 => bdx (m_X1_ruleAt a_3 x1 σ) fun v_1 σ_2 =>
  nn σ_2 (some o) 0 fun a_6 => bdx (m_X1_ruleAt a_6 x2 σ_2) fun v_4 σ_5 =>
  nO σ_5 74 3 [.ref o, .int x1, .int x2] fun q_7 σ_8 =>
  nn σ_8 (some o) 0 fun a_11 => bdx (m_X1_sum a_11 (some q_7) σ_8) fun v_9 σ_10 =>
  xl (some (v_9, σ_10))

def m_X1_gapsWithout (o : Nat) (x1 : Int32) (σ : cS) : Option ((cX (Int32)) × cS) :=
  nn σ (some o) 0 fun a_3 => bdx (m_X1_ruleAt a_3 x1 σ) fun v_1 σ_2 =>
  nO σ_2 75 1 [.int x1] fun q_4 σ_5 =>
  nn σ_5 (some o) 0 fun a_8 => bd (m_X1_after a_8 (some q_4) σ_5) fun v_6 σ_7 =>
  nn σ_7 v_6 1 fun a_11 => bd (m_X4_gaps a_11 σ_7) fun v_9 σ_10 =>
  xl (some (v_9, σ_10))

def b_X1_clashesIf_24 (o : Nat) : Int32 → Int32 → cS → Option ((cX (Int32)) × cS) := fun x1 s0 σ =>
  nO σ 76 2 [.int x1, .int s0] fun q_1 σ_2 =>
  nn σ_2 (some o) 0 fun a_5 => bd (m_X1_after a_5 (some q_1) σ_2) fun v_3 σ_4 =>
  nn σ_4 v_3 1 fun a_8 => bd (m_X4_withVerdict a_8 3 σ_4) fun v_6 σ_7 =>
  xl (some (v_6, σ_7))

def m_X1_clashesIf (o : Nat) (x1 : Int32) (x2 : Int32) (σ : cS) : Option ((cX (Int32)) × cS) :=
  nn σ (some o) 0 fun a_3 => bdx (m_X1_ruleAt a_3 x1 σ) fun v_1 σ_2 =>
  nn σ_2 (some o) 0 fun a_6 => bdx (m_X1_ruleAt a_6 x2 σ_2) fun v_4 σ_5 =>
  if x1 = x2 then
    b_X1_clashesIf_24 o x1 0 σ_5
  else
    b_X1_clashesIf_24 o x1 (1 <<< (x2 &&& 31)) σ_5

def b_X1_distance_31 (o : Nat) : Nat → Int32 → Option Nat → Option Nat → Int32 → cS → Option (Int32 × cS)
  | 0, _, _, _, _, _ => none
  | n + 1, x3, x4, x5, x6, σ =>
    aL σ x4 fun v_1 =>
    if v_1 ≤ x6 then
      some (x3, σ)
    else
      aI σ x4 0 x6 fun v_3 =>
      aI σ x5 0 x6 fun v_4 =>
      if v_3 = v_4 then
        lt_ (x3 + 0) fun x3_8 =>
        lt_ (x6 + 1) fun x6_9 =>
        (b_X1_distance_31 o n) x3_8 x4 x5 x6_9 σ
      else
        lt_ (x3 + 1) fun x3_6 =>
        lt_ (x6 + 1) fun x6_7 =>
        (b_X1_distance_31 o n) x3_6 x4 x5 x6_7 σ

def m_X1_distance (o : Nat) (x1 : Int32) (x2 : Int32) (σ : cS) : Option (Int32 × cS) :=
  gR σ (some o) 0 0 fun v_1 =>
  nn σ v_1 1 fun a_4 => bd (m_X4_look a_4 x1 σ) fun v_2 σ_3 =>
  gR σ_3 v_2 3 0 fun v_5 =>
  gR σ_3 (some o) 0 0 fun v_6 =>
  nn σ_3 v_6 1 fun a_9 => bd (m_X4_look a_9 x2 σ_3) fun v_7 σ_8 =>
  gR σ_8 v_7 3 0 fun v_10 =>
  b_X1_distance_31 o FU 0 v_5 v_10 0 σ_8

def b_X1_farFrom_19 (o : Nat) : Nat → Int32 → Int32 → Int32 → Int32 → cS → Option ((cX (Int32)) × cS)
  | 0, _, _, _, _, _ => none
  | n + 1, x1, x2, x3, x4, σ =>
    if x3 ≤ x4 then
      xl (some (x2, σ))
    else
      gR σ (some o) 0 0 fun v_2 =>
      nn σ v_2 1 fun a_5 => bd (m_X4_look a_5 x4 σ) fun v_3 σ_4 =>
      gI σ_4 v_3 3 4 fun v_6 =>
      if v_6 = x1 then
        gR σ_4 (some o) 0 0 fun v_9 =>
        gI σ_4 v_9 1 8 fun v_10 =>
        nn σ_4 (some o) 0 fun a_13 => bd (m_X1_distance a_13 v_10 x4 σ_4) fun v_11 σ_12 =>
        if x2 = (-1) then
          lt_ (x4 + 1) fun x4_17 =>
          (b_X1_farFrom_19 o n) x1 v_11 x3 x4_17 σ_12
        else
          lt_ (if v_11 < x2 then v_11 else x2) fun u_15 =>
          lt_ (x4 + 1) fun x4_16 =>
          (b_X1_farFrom_19 o n) x1 u_15 x3 x4_16 σ_12
      else
        lt_ (x4 + 1) fun x4_8 =>
        (b_X1_farFrom_19 o n) x1 x2 x3 x4_8 σ_4

def m_X1_farFrom (o : Nat) (x1 : Int32) (σ : cS) : Option ((cX (Int32)) × cS) :=
  nn σ (some o) 0 fun a_3 => bdx (m_X1_ruleAt a_3 x1 σ) fun v_1 σ_2 =>
  gR σ_2 (some o) 0 0 fun v_4 =>
  nn σ_2 v_4 1 fun a_7 => bd (m_X4_cases a_7 σ_2) fun v_5 σ_6 =>
  b_X1_farFrom_19 o FU x1 (-1) v_5 0 σ_6

def m_X1_gets (o : Nat) (x1 : Int32) (x2 : Int32) (x3 : Int32) (σ : cS) : Option ((cX (Int32)) × cS) :=
  nn σ (some o) 0 fun a_2 => bdx (m_X1_checkCase a_2 x1 σ) fun _ σ_1 =>
  nn σ_1 (some o) 0 fun a_4 => bdx (m_X1_checkHeir a_4 x2 σ_1) fun _ σ_3 =>
  bdx (m_X1_check x3 0 1 σ_3) fun _ σ_5 =>
  if x3 = 0 then
    gR σ_5 (some o) 0 0 fun v_11 =>
    nn σ_5 v_11 1 fun a_14 => bd (m_X4_gets a_14 x1 x2 σ_5) fun v_12 σ_13 =>
    xl (some (v_12, σ_13))
  else
    gR σ_5 (some o) 0 0 fun v_7 =>
    nn σ_5 v_7 1 fun a_10 => bd (m_X4_duty a_10 x1 x2 σ_5) fun v_8 σ_9 =>
    xl (some (v_8, σ_9))

def m_X1_duties (o : Nat) (x1 : Int32) (σ : cS) : Option ((cX (Int32)) × cS) :=
  nn σ (some o) 0 fun a_2 => bdx (m_X1_checkCase a_2 x1 σ) fun _ σ_1 =>
  gR σ_1 (some o) 0 0 fun v_3 =>
  nn σ_1 v_3 1 fun a_6 => bd (m_X4_duties a_6 x1 σ_1) fun v_4 σ_5 =>
  xl (some (v_4, σ_5))

def b_X1_writeParts_41 (o : Nat) (k4 : Option Nat → Int32 → Int32 → cS → Option (Int32 × cS)) : Option Nat → Int32 → Option Nat → Option Nat → cS → Option (Int32 × cS) := fun x1 x3 s0 s1 σ =>
  nn σ s0 11 fun a_3 => bd (m_J3_append_2 a_3 s1 σ) fun v_1 σ_2 =>
  nn σ_2 v_1 11 fun a_6 => bd (m_J3_append a_6 x3 σ_2) fun v_4 σ_5 =>
  nn σ_5 v_4 11 fun a_9 => bd (m_J3_append_3 a_9 32 σ_5) fun v_7 σ_8 =>
  nn σ_8 x1 2 fun a_12 => bd (m_X9_above a_12 x3 σ_8) fun v_10 σ_11 =>
  nn σ_11 v_7 11 fun a_15 => bd (m_J3_append a_15 v_10 σ_11) fun v_13 σ_14 =>
  nn σ_14 v_13 11 fun a_18 => bd (m_J3_append_3 a_18 47 σ_14) fun v_16 σ_17 =>
  nn σ_17 x1 2 fun a_21 => bd (m_X9_below a_21 x3 σ_17) fun v_19 σ_20 =>
  nn σ_20 v_16 11 fun a_24 => bd (m_J3_append a_24 v_19 σ_20) fun v_22 σ_23 =>
  lt_ (x3 + 1) fun x3_25 =>
  k4 x1 0 x3_25 σ_23

def b_X1_writeParts_100 (o : Nat) : Option Nat → Option Nat → cS → Option (Int32 × cS) := fun s0 s1 σ =>
  nn σ s0 11 fun a_3 => bd (m_J3_append_2 a_3 s1 σ) fun v_1 σ_2 =>
  some ((0 : Int32), σ_2)

def b_X1_writeParts_4 (o : Nat) : Nat → Option Nat → Int32 → Int32 → cS → Option (Int32 × cS)
  | 0, _, _, _, _ => none
  | n + 1, x1, x2, x3, σ =>
    gR σ (some o) 0 0 fun v_1 =>
    gI σ v_1 1 1 fun v_2 =>
    if v_2 ≤ x3 then
      gR σ (some o) 0 4 fun v_4 =>
      if x2 = 0 then
        b_X1_writeParts_100 o v_4 (some (σ.2 27)) σ
      else
        b_X1_writeParts_100 o v_4 (some (σ.2 26)) σ
    else
      gR σ x1 2 2 fun v_6 =>
      aI σ v_6 0 x3 fun v_7 =>
      if v_7 ≤ 0 then
        lt_ (x3 + 1) fun x3_9 =>
        (b_X1_writeParts_4 o n) x1 x2 x3_9 σ
      else
        gR σ (some o) 0 4 fun v_10 =>
        if x2 = 0 then
          b_X1_writeParts_41 o (b_X1_writeParts_4 o n) x1 x3 v_10 (some (σ.2 25)) σ
        else
          b_X1_writeParts_41 o (b_X1_writeParts_4 o n) x1 x3 v_10 (some (σ.2 24)) σ

def m_X1_writeParts (o : Nat) (x1 : Option Nat) (σ : cS) : Option (Int32 × cS) :=
  b_X1_writeParts_4 o FU x1 1 0 σ

def b_X1_writeRule_72 (o : Nat) : Nat → Option Nat → Int32 → cS → Option ((cX (Int32)) × cS)
  | 0, _, _, _ => none
  | n + 1, x2, x3, σ =>
    gR σ (some o) 0 0 fun v_1 =>
    gR σ v_1 1 4 fun v_2 =>
    nn σ v_2 9 fun a_5 => bd (m_J18_size a_5 σ) fun v_3 σ_4 =>
    if v_3 ≤ x3 then
      gR σ_4 (some o) 0 4 fun v_7 =>
      nn σ_4 v_7 11 fun a_10 => bd (m_J3_length a_10 σ_4) fun v_8 σ_9 =>
      xl (some (v_8, σ_9))
    else
      nn σ_4 x2 2 fun a_13 => bd (m_X9_isOver a_13 x3 σ_4) fun v_11 σ_12 =>
      if v_11 = 0 then
        lt_ (x3 + 1) fun x3_15 =>
        (b_X1_writeRule_72 o n) x2 x3_15 σ_12
      else
        gR σ_12 (some o) 0 4 fun v_16 =>
        nn σ_12 v_16 11 fun a_19 => bd (m_J3_append_3 a_19 32 σ_12) fun v_17 σ_18 =>
        nn σ_18 v_17 11 fun a_22 => bd (m_J3_append a_22 x3 σ_18) fun v_20 σ_21 =>
        lt_ (x3 + 1) fun x3_23 =>
        (b_X1_writeRule_72 o n) x2 x3_23 σ_21

def b_X1_writeRule_66 (o : Nat) : Option Nat → Option Nat → Option Nat → cS → Option ((cX (Int32)) × cS) := fun x2 s0 s1 σ =>
  nn σ s0 11 fun a_3 => bd (m_J3_append_2 a_3 s1 σ) fun v_1 σ_2 =>
  b_X1_writeRule_72 o FU x2 0 σ_2

def m_X1_writeRule (o : Nat) (x1 : Int32) (σ : cS) : Option ((cX (Int32)) × cS) :=
  nn σ (some o) 0 fun a_3 => bdx (m_X1_ruleAt a_3 x1 σ) fun v_1 σ_2 =>
  nO σ_2 11 4 [.null, .int 0, .int 0, .int 0] fun q_4 σ_5 =>
  bd (m_J3_init q_4 σ_5) fun _ σ_6 =>
  pO σ_6 (some o) 0 4 (va_rf (some q_4)) fun σ_7 =>
  gR σ_7 v_1 2 0 fun v_8 =>
  gR σ_7 (some o) 0 4 fun v_9 =>
  icl v_8 (fun a_11 => dv_write DPC a_11 v_9 σ_7) fun _ σ_10 =>
  gR σ_10 (some o) 0 4 fun v_12 =>
  nn σ_10 v_12 11 fun a_15 => bd (m_J3_append_2 a_15 (some (σ_10.2 28)) σ_10) fun v_13 σ_14 =>
  nn σ_14 (some o) 0 fun a_17 => bd (m_X1_writeParts a_17 v_1 σ_14) fun _ σ_16 =>
  gR σ_16 (some o) 0 4 fun v_18 =>
  gI σ_16 v_1 2 3 fun v_19 =>
  if v_19 = 0 then
    b_X1_writeRule_66 o v_1 v_18 (some (σ_16.2 27)) σ_16
  else
    b_X1_writeRule_66 o v_1 v_18 (some (σ_16.2 29)) σ_16

def m_X1_keep (o : Nat) (x1 : Option Nat) (σ : cS) : Option (Int32 × cS) :=
  gR σ (some o) 0 1 fun v_1 =>
  nn σ v_1 10 fun a_3 => bd (m_J1_addLast a_3 x1 σ) fun _ σ_2 =>
  gR σ_2 (some o) 0 1 fun v_4 =>
  nn σ_2 v_4 10 fun a_7 => bd (m_J1_size a_7 σ_2) fun v_5 σ_6 =>
  if v_5 ≤ 8 then
    some ((0 : Int32), σ_6)
  else
    gR σ_6 (some o) 0 1 fun v_9 =>
    nn σ_6 v_9 10 fun a_12 => bd (m_J1_removeFirst a_12 σ_6) fun v_10 σ_11 =>
    some ((0 : Int32), σ_11)

def m_X1_addRule (o : Nat) (x1 : Int32) (σ : cS) : Option ((cX (Int32)) × cS) :=
  gR σ (some o) 0 3 fun v_1 =>
  nn σ v_1 11 fun a_4 => bd (m_J3_length a_4 σ) fun v_2 σ_3 =>
  bdx (m_X1_check x1 0 v_2 σ_3) fun _ σ_5 =>
  gR σ_5 (some o) 0 0 fun v_6 =>
  nn σ_5 v_6 1 fun a_9 => bd (m_X4_duplicate a_9 σ_5) fun v_7 σ_8 =>
  gR σ_8 (some o) 0 0 fun v_10 =>
  gR σ_8 v_10 1 4 fun v_11 =>
  nn σ_8 v_11 9 fun a_14 => bd (m_J18_size a_14 σ_8) fun v_12 σ_13 =>
  if v_12 = 10 then
    gR σ_13 (some o) 0 3 fun v_42 =>
    nn σ_13 v_42 11 fun a_44 => bd (m_J3_setLength a_44 0 σ_13) fun _ σ_43 =>
    xl (some ((-6), σ_43))
  else
    nO σ_13 8 10 [.null, .int 0, .null, .int 0, .int 0, .null, .null, .int 0, .int 0, .int 0] fun q_16 σ_17 =>
    gR σ_17 (some o) 0 3 fun v_18 =>
    bd (m_X2_init q_16 v_18 x1 σ_17) fun _ σ_19 =>
    nn σ_19 (some q_16) 8 fun a_21 => bdc (m_X2_readRule a_21 v_7 σ_19) (fun _ σ_20 =>
      gR σ_20 (some o) 0 0 fun v_24 =>
      nn σ_20 (some o) 0 fun a_26 => bd (m_X1_keep a_26 v_24 σ_20) fun _ σ_25 =>
      pO σ_25 (some o) 0 0 (va_rf v_7) fun σ_27 =>
      gR σ_27 (some o) 0 0 fun v_28 =>
      gR σ_27 v_28 1 4 fun v_29 =>
      nn σ_27 v_29 9 fun a_32 => bd (m_J18_size a_32 σ_27) fun v_30 σ_31 =>
      lt_ (v_30 - 1) fun x3_33 =>
      gR σ_31 (some o) 0 3 fun v_34 =>
      nn σ_31 v_34 11 fun a_36 => bd (m_J3_setLength a_36 0 σ_31) fun _ σ_35 =>
      xl (some (x3_33, σ_35))
      ) (fun q_22 σ_23 =>
      bd (m_X1_answer (some q_22) σ_23) fun v_37 σ_38 =>
      gR σ_38 (some o) 0 3 fun v_39 =>
      nn σ_38 v_39 11 fun a_41 => bd (m_J3_setLength a_41 0 σ_38) fun _ σ_40 =>
      xl (some (v_37, σ_40))
      )

def m_X1_remember (o : Nat) (σ : cS) : Option (Int32 × cS) :=
  gR σ (some o) 0 0 fun v_1 =>
  nn σ v_1 1 fun a_4 => bd (m_X4_duplicate a_4 σ) fun v_2 σ_3 =>
  nn σ_3 (some o) 0 fun a_6 => bd (m_X1_keep a_6 v_2 σ_3) fun _ σ_5 =>
  some ((0 : Int32), σ_5)

def m_X1_dropRule (o : Nat) (x1 : Int32) (σ : cS) : Option ((cX (Int32)) × cS) :=
  nn σ (some o) 0 fun a_3 => bdx (m_X1_ruleAt a_3 x1 σ) fun v_1 σ_2 =>
  nn σ_2 (some o) 0 fun a_5 => bd (m_X1_remember a_5 σ_2) fun _ σ_4 =>
  gR σ_4 (some o) 0 0 fun v_6 =>
  nn σ_4 v_6 1 fun a_8 => bd (m_X4_drop a_8 x1 σ_4) fun _ σ_7 =>
  gR σ_7 (some o) 0 0 fun v_9 =>
  gR σ_7 v_9 1 4 fun v_10 =>
  nn σ_7 v_10 9 fun a_13 => bd (m_J18_size a_13 σ_7) fun v_11 σ_12 =>
  xl (some (v_11, σ_12))

def b_X1_setOver_53 (o : Nat) : Option Nat → Option Nat → Int32 → cS → Option ((cX (Int32)) × cS) := fun x4 s0 s1 σ =>
  pO σ s0 2 3 (.int s1) fun σ_1 =>
  gR σ_1 (some o) 0 0 fun v_2 =>
  nn σ_1 v_2 1 fun a_4 => bd (m_X4_forget a_4 σ_1) fun _ σ_3 =>
  gI σ_3 x4 2 3 fun v_5 =>
  bd (m_J14_bitCount v_5 σ_3) fun v_6 σ_7 =>
  xl (some (v_6, σ_7))

def m_X1_setOver (o : Nat) (x1 : Int32) (x2 : Int32) (x3 : Int32) (σ : cS) : Option ((cX (Int32)) × cS) :=
  nn σ (some o) 0 fun a_3 => bdx (m_X1_ruleAt a_3 x1 σ) fun v_1 σ_2 =>
  nn σ_2 (some o) 0 fun a_6 => bdx (m_X1_ruleAt a_6 x2 σ_2) fun v_4 σ_5 =>
  if x1 = x2 then
    xl (some ((-1), σ_5))
  else
    nn σ_5 (some o) 0 fun a_9 => bd (m_X1_remember a_9 σ_5) fun _ σ_8 =>
    if x3 = 0 then
      gI σ_8 v_1 2 3 fun v_11 =>
      b_X1_setOver_53 o v_1 v_1 (v_11 &&& ((1 <<< (x2 &&& 31)) ^^^ (-1))) σ_8
    else
      gI σ_8 v_1 2 3 fun v_12 =>
      b_X1_setOver_53 o v_1 v_1 (v_12 ||| (1 <<< (x2 &&& 31))) σ_8

def b_X1_setShare_66 (o : Nat) : Nat → Option Nat → Int32 → Int32 → cS → Option ((cX (Int32)) × cS)
  | 0, _, _, _, _ => none
  | n + 1, x5, x7, x8, σ =>
    gR σ (some o) 0 0 fun v_1 =>
    gI σ v_1 1 1 fun v_2 =>
    if v_2 ≤ x8 then
      xl (some (x7, σ))
    else
      gR σ x5 2 2 fun v_4 =>
      aI σ v_4 0 x8 fun v_5 =>
      if v_5 ≤ 0 then
        lt_ (x7 + 0) fun x7_7 =>
        lt_ (x8 + 1) fun x8_8 =>
        (b_X1_setShare_66 o n) x5 x7_7 x8_8 σ
      else
        lt_ (x7 + 1) fun x7_9 =>
        lt_ (x8 + 1) fun x8_10 =>
        (b_X1_setShare_66 o n) x5 x7_9 x8_10 σ

def m_X1_setShare (o : Nat) (x1 : Int32) (x2 : Int32) (x3 : Int32) (x4 : Int32) (σ : cS) : Option ((cX (Int32)) × cS) :=
  nn σ (some o) 0 fun a_3 => bdx (m_X1_ruleAt a_3 x1 σ) fun v_1 σ_2 =>
  nn σ_2 (some o) 0 fun a_5 => bdx (m_X1_checkHeir a_5 x2 σ_2) fun _ σ_4 =>
  bdx (m_X1_check x3 0 12 σ_4) fun _ σ_6 =>
  bdx (m_X1_check x4 1 12 σ_6) fun _ σ_7 =>
  gR σ_7 (some o) 0 0 fun v_8 =>
  nn σ_7 v_8 1 fun a_11 => bd (m_X4_duplicate a_11 σ_7) fun v_9 σ_10 =>
  gR σ_10 (some o) 0 0 fun v_12 =>
  nn σ_10 v_12 1 fun a_15 => bd (m_X4_setShare a_15 v_1 x2 x3 x4 σ_10) fun v_13 σ_14 =>
  if v_13 = 0 then
    xl (some ((-1), σ_14))
  else
    nn σ_14 (some o) 0 fun a_18 => bd (m_X1_keep a_18 v_9 σ_14) fun _ σ_17 =>
    b_X1_setShare_66 o FU v_1 0 0 σ_17

def b_X1_setHeir_53 (o : Nat) : Int32 → Int32 → Option Nat → cS → Option ((cX (Int32)) × cS) := fun x1 x3 s0 σ =>
  aI σ s0 0 x1 fun v_1 =>
  sI σ s0 0 x1 x3 fun σ_2 =>
  xl (some (v_1, σ_2))

def b_X1_setHeir_25 (o : Nat) : Int32 → Int32 → Int32 → Int32 → Int32 → Int32 → cS → Option ((cX (Int32)) × cS) := fun x1 x2 x3 s0 s1 s2 σ =>
  bdx (m_X1_check s0 s1 s2 σ) fun _ σ_1 =>
  nn σ_1 (some o) 0 fun a_3 => bd (m_X1_remember a_3 σ_1) fun _ σ_2 =>
  if x2 = 0 then
    gR σ_2 (some o) 0 0 fun v_7 =>
    gR σ_2 v_7 1 2 fun v_8 =>
    b_X1_setHeir_53 o x1 x3 v_8 σ_2
  else
    gR σ_2 (some o) 0 0 fun v_5 =>
    gR σ_2 v_5 1 3 fun v_6 =>
    b_X1_setHeir_53 o x1 x3 v_6 σ_2

def m_X1_setHeir (o : Nat) (x1 : Int32) (x2 : Int32) (x3 : Int32) (σ : cS) : Option ((cX (Int32)) × cS) :=
  nn σ (some o) 0 fun a_2 => bdx (m_X1_checkHeir a_2 x1 σ) fun _ σ_1 =>
  bdx (m_X1_check x2 0 1 σ_1) fun _ σ_3 =>
  if x2 = 0 then
    b_X1_setHeir_25 o x1 x2 x3 x3 0 9999 σ_3
  else
    b_X1_setHeir_25 o x1 x2 x3 x3 0 60 σ_3

def m_X1_setRest (o : Nat) (x1 : Int32) (σ : cS) : Option ((cX (Int32)) × cS) :=
  nn σ (some o) 0 fun a_2 => bdx (m_X1_checkHeir a_2 x1 σ) fun _ σ_1 =>
  nn σ_1 (some o) 0 fun a_4 => bd (m_X1_remember a_4 σ_1) fun _ σ_3 =>
  gR σ_3 (some o) 0 0 fun v_5 =>
  gI σ_3 v_5 1 6 fun v_6 =>
  gR σ_3 (some o) 0 0 fun v_7 =>
  pO σ_3 v_7 1 6 (.int x1) fun σ_8 =>
  xl (some (v_6, σ_8))

def m_X1_setEstate (o : Nat) (x1 : Int32) (σ : cS) : Option ((cX (Int32)) × cS) :=
  bdx (m_X1_check x1 0 9999 σ) fun _ σ_1 =>
  nn σ_1 (some o) 0 fun a_3 => bd (m_X1_remember a_3 σ_1) fun _ σ_2 =>
  gR σ_2 (some o) 0 0 fun v_4 =>
  gI σ_2 v_4 1 7 fun v_5 =>
  gR σ_2 (some o) 0 0 fun v_6 =>
  pO σ_2 v_6 1 7 (.int x1) fun σ_7 =>
  xl (some (v_5, σ_7))

def m_X1_setValue (o : Nat) (x1 : Int32) (x2 : Int32) (σ : cS) : Option ((cX (Int32)) × cS) :=
  nn σ (some o) 0 fun a_2 => bdx (m_X1_checkFact a_2 x1 σ) fun _ σ_1 =>
  gR σ_1 (some o) 0 0 fun v_3 =>
  gR σ_1 v_3 1 0 fun v_4 =>
  aI σ_1 v_4 0 x1 fun v_5 =>
  bdx (m_X1_check x2 0 (v_5 - 1) σ_1) fun _ σ_6 =>
  nn σ_6 (some o) 0 fun a_8 => bd (m_X1_remember a_8 σ_6) fun _ σ_7 =>
  gR σ_7 (some o) 0 0 fun v_9 =>
  nn σ_7 v_9 1 fun a_11 => bd (m_X4_setValue a_11 x1 x2 σ_7) fun _ σ_10 =>
  gR σ_10 (some o) 0 0 fun v_12 =>
  gI σ_10 v_12 1 8 fun v_13 =>
  xl (some (v_13, σ_10))

def b_X1_saveSnapshot_20 (o : Nat) : Int32 → Int32 → cS → Option ((cX (Int32)) × cS) := fun x1 s0 σ =>
  gR σ (some o) 0 2 fun v_1 =>
  gR σ (some o) 0 0 fun v_2 =>
  nn σ v_2 1 fun a_5 => bd (m_X4_duplicate a_5 σ) fun v_3 σ_4 =>
  sR σ_4 v_1 x1 v_3 fun σ_6 =>
  xl (rz s0 σ_6)

def m_X1_saveSnapshot (o : Nat) (x1 : Int32) (σ : cS) : Option ((cX (Int32)) × cS) :=
  bdx (m_X1_check x1 0 1 σ) fun _ σ_1 =>
  gR σ_1 (some o) 0 2 fun v_2 =>
  aR σ_1 v_2 x1 fun v_3 =>
  if v_3 = none then
    b_X1_saveSnapshot_20 o x1 0 σ_1
  else
    b_X1_saveSnapshot_20 o x1 1 σ_1

def m_X1_restoreSnapshot (o : Nat) (x1 : Int32) (σ : cS) : Option ((cX (Int32)) × cS) :=
  bdx (m_X1_check x1 0 1 σ) fun _ σ_1 =>
  gR σ_1 (some o) 0 2 fun v_2 =>
  aR σ_1 v_2 x1 fun v_3 =>
  if v_3 = none then
    thr σ_1 4
  else
    gR σ_1 (some o) 0 2 fun v_5 =>
    aR σ_1 v_5 x1 fun v_6 =>
    nn σ_1 v_6 1 fun a_9 => bd (m_X4_duplicate a_9 σ_1) fun v_7 σ_8 =>
    pO σ_8 (some o) 0 0 (va_rf v_7) fun σ_10 =>
    gR σ_10 (some o) 0 1 fun v_11 =>
    nn σ_10 v_11 10 fun a_13 => bd (m_J1_clear a_13 σ_10) fun _ σ_12 =>
    gR σ_12 (some o) 0 0 fun v_14 =>
    gR σ_12 v_14 1 4 fun v_15 =>
    nn σ_12 v_15 9 fun a_18 => bd (m_J18_size a_18 σ_12) fun v_16 σ_17 =>
    xl (some (v_16, σ_17))
