/-! THE TWIN AS PURE FUNCTIONS: printed by gentw.py out of its bytecode -/

def FU : Nat := 4096
abbrev DP : Nat := 64

def tS_122 : List Int32 := [102, 97, 99, 116, 115, 32, 50, 32, 51, 59, 32, 104, 101, 105, 114, 115, 32, 51, 32, 114, 101, 115, 116, 32, 50, 59, 32, 114, 117, 108, 101, 32, 97, 32, 61, 32, 49, 32, 103, 105, 118, 101, 115, 32, 48, 32, 49, 47, 50, 44, 32, 49, 32, 49, 47, 52, 59, 32, 114, 117, 108, 101, 32, 98, 32, 62, 32, 48, 32, 97, 110, 100, 32, 110, 111, 116, 32, 97, 32, 61, 32, 49, 32, 103, 105, 118, 101, 115, 32, 49, 32, 49, 47, 51, 59, 32, 114, 117, 108, 101, 32, 97, 32, 61, 32, 49, 32, 97, 110, 100, 32, 98, 32, 61, 32, 50, 32, 103, 105, 118, 101, 115, 32, 48, 32, 50, 47, 51, 32, 111, 118, 101, 114, 32, 48, 59]
def tS_128 : List Int32 := [102, 97, 99, 116, 115, 32, 50, 32, 50, 32, 50, 32, 50, 59, 32, 104, 101, 105, 114, 115, 32, 52, 32, 114, 101, 115, 116, 32, 48, 59, 32, 101, 115, 116, 97, 116, 101, 32, 57, 48, 48, 48, 59, 32, 104, 101, 105, 114, 32, 49, 32, 102, 114, 101, 101, 32, 53, 48, 48, 32, 114, 97, 116, 101, 32, 50, 48, 59, 32, 114, 117, 108, 101, 32, 97, 32, 61, 32, 49, 32, 111, 114, 32, 98, 32, 61, 32, 49, 32, 97, 110, 100, 32, 99, 32, 61, 32, 49, 32, 103, 105, 118, 101, 115, 32, 49, 32, 49, 47, 52, 44, 32, 50, 32, 49, 47, 52, 44, 32, 51, 32, 49, 47, 52, 59, 32]
def tS_130 : List Int32 := [114, 117, 108, 101, 32, 40, 97, 32, 61, 32, 49, 32, 111, 114, 32, 98, 32, 61, 32, 49, 41, 32, 97, 110, 100, 32, 99, 32, 61, 32, 49, 32, 103, 105, 118, 101, 115, 32, 51, 32, 49, 47, 49, 50, 32, 111, 118, 101, 114, 32, 48, 59, 32, 114, 117, 108, 101, 32, 110, 111, 116, 32, 40, 97, 32, 61, 32, 49, 32, 111, 114, 32, 100, 32, 61, 32, 49, 41, 32, 103, 105, 118, 101, 115, 32, 110, 111, 116, 104, 105, 110, 103, 59, 32, 114, 117, 108, 101, 32, 100, 32, 61, 32, 49, 32, 103, 105, 118, 101, 115, 32, 50, 32, 49, 47, 49, 50, 44, 32, 51, 32, 53, 47, 49, 50, 32, 111, 118, 101, 114, 32, 49, 59]
def tS_132 : List Int32 := [102, 97, 99, 116, 115, 32, 52, 59, 32, 104, 101, 105, 114, 115, 32, 49, 32, 114, 101, 115, 116, 32, 48, 59, 32, 101, 115, 116, 97, 116, 101, 32, 48, 59, 32, 114, 117, 108, 101, 32, 97, 32, 60, 32, 49, 32, 103, 105, 118, 101, 115, 32, 48, 32, 49, 47, 49, 59, 32, 114, 117, 108, 101, 32, 97, 32, 62, 32, 50, 32, 103, 105, 118, 101, 115, 32, 110, 111, 116, 104, 105, 110, 103, 32, 111, 118, 101, 114, 32, 48, 59, 32, 114, 117, 108, 101, 32, 97, 108, 119, 97, 121, 115, 32, 103, 105, 118, 101, 115, 32, 110, 111, 116, 104, 105, 110, 103, 59]
def tS_188 : List Int32 := [110, 111, 116]
def tS_205 : List Int32 := [97, 108, 119, 97, 121, 115]
def tS_210 : List Int32 := [97, 110, 100]
def tS_215 : List Int32 := [111, 114]
def tS_219 : List Int32 := [110, 111, 116, 104, 105, 110, 103]
def tS_224 : List Int32 := [111, 118, 101, 114]
def tS_226 : List Int32 := [103, 105, 118, 101, 115]
def tS_237 : List Int32 := [102, 114, 101, 101]
def tS_239 : List Int32 := [114, 97, 116, 101]
def tS_241 : List Int32 := [114, 117, 108, 101]
def tS_246 : List Int32 := [104, 101, 105, 114]
def tS_251 : List Int32 := [101, 115, 116, 97, 116, 101]
def tS_253 : List Int32 := [102, 97, 99, 116, 115]
def tS_255 : List Int32 := [104, 101, 105, 114, 115]
def tS_257 : List Int32 := [114, 101, 115, 116]
def tS_370 : List Int32 := []
def tS_375 : List Int32 := [61]
def tS_377 : List Int32 := [60]
def tS_379 : List Int32 := [62]
def tS_388 : List Int32 := [40]
def tS_390 : List Int32 := [41]
abbrev twL : List (Nat × String × List Int32) := [(122, "facts 2 3; heirs 3 rest 2; rule a = 1 gives 0 1/2, 1 1/4; rule b > 0 and not a = 1 gives 1 1/3; rule a = 1 and b = 2 gives 0 2/3 over 0;", tS_122), (128, "facts 2 2 2 2; heirs 4 rest 0; estate 9000; heir 1 free 500 rate 20; rule a = 1 or b = 1 and c = 1 gives 1 1/4, 2 1/4, 3 1/4; ", tS_128), (130, "rule (a = 1 or b = 1) and c = 1 gives 3 1/12 over 0; rule not (a = 1 or d = 1) gives nothing; rule d = 1 gives 2 1/12, 3 5/12 over 1;", tS_130), (132, "facts 4; heirs 1 rest 0; estate 0; rule a < 1 gives 0 1/1; rule a > 2 gives nothing over 0; rule always gives nothing;", tS_132), (188, "not", tS_188), (205, "always", tS_205), (210, "and", tS_210), (215, "or", tS_215), (219, "nothing", tS_219), (224, "over", tS_224), (226, "gives", tS_226), (237, "free", tS_237), (239, "rate", tS_239), (241, "rule", tS_241), (246, "heir", tS_246), (251, "estate", tS_251), (253, "facts", tS_253), (255, "heirs", tS_255), (257, "rest", tS_257), (370, "", tS_370), (375, "=", tS_375), (377, "<", tS_377), (379, ">", tS_379), (388, "(", tS_388), (390, ")", tS_390)]

def bT_tell_2 (t1 : List Int32) : Nat → Int32 → twS → Option (Int32 × twS)
  | 0, _, _ => none
  | n + 1, x2, σ =>
    if (nI t1.length) ≤ x2 then
      some (0, σ)
    else
      chA t1 x2 fun v_2 =>
      ast σ 8 700 (σ.2 10) v_2 fun σ_3 =>
      lt_ (twI σ_3 10 ((σ_3.2 10) + 1)) fun σ_4 =>
      lt_ (x2 + 1) fun x2_5 =>
      (bT_tell_2 t1 n) x2_5 σ_4

def mT_tell (t1 : List Int32) (σ : twS) : Option (Int32 × twS) :=
  bT_tell_2 t1 FU 0 σ

def bT_sortOf_28 : Int32 → twS → Option (Int32 × twS) := fun x0 σ =>
  if x0 = 59 then
    some (x0, σ)
  else
    if x0 = 44 then
      some (x0, σ)
    else
      if x0 = 47 then
        some (x0, σ)
      else
        if x0 = 40 then
          some (x0, σ)
        else
          if x0 = 41 then
            some (x0, σ)
          else
            if x0 = 61 then
              some (x0, σ)
            else
              if x0 = 60 then
                some (x0, σ)
              else
                if x0 = 62 then
                  some (x0, σ)
                else
                  some (3, σ)

def bT_sortOf_14 : Int32 → twS → Option (Int32 × twS) := fun x0 σ =>
  if x0 < 48 then
    bT_sortOf_28 x0 σ
  else
    if 57 < x0 then
      bT_sortOf_28 x0 σ
    else
      some (2, σ)

def mT_sortOf (x0 : Int32) (σ : twS) : Option (Int32 × twS) :=
  if x0 < 97 then
    bT_sortOf_14 x0 σ
  else
    if 122 < x0 then
      bT_sortOf_14 x0 σ
    else
      some (1, σ)

def bT_next_47 (k8 : twS → Option (Int32 × twS)) : twS → Option (Int32 × twS) := fun σ =>
  lt_ (twI σ 17 ((σ.2 17) + 1)) fun σ_1 =>
  k8 σ_1

def bT_next_206 : Nat → Int32 → twS → Option (Int32 × twS)
  | 0, _, _ => none
  | n + 1, x1, σ =>
    if (σ.2 18) ≤ x1 then
      some (0, σ)
    else
      if (σ.2 16) = 2 then
        ald σ 8 700 x1 fun v_3 =>
        lt_ (twI σ 19 (((10 * (σ.2 19)) + v_3) - 48)) fun σ_4 =>
        lt_ (x1 + 1) fun x1_5 =>
        (bT_next_206 n) x1_5 σ_4
      else
        some (0, σ)

def bT_next_196 : twS → Option (Int32 × twS) := fun σ =>
  lt_ (twI σ 19 0) fun σ_1 =>
  lt_ (σ_1.2 17) fun x1_2 =>
  bT_next_206 FU x1_2 σ_1

def bT_next_170 : twS → Option (Int32 × twS) := fun σ =>
  if (σ.2 16) = 2 then
    if ((σ.2 18) - (σ.2 17)) ≤ 4 then
      bT_next_196 σ
    else
      lt_ (twI σ 16 3) fun σ_3 =>
      bT_next_196 σ_3
  else
    bT_next_196 σ

def bT_next_127 (k111 : twS → Option (Int32 × twS)) : twS → Option (Int32 × twS) := fun σ =>
  if (σ.2 10) ≤ (σ.2 18) then
    bT_next_170 σ
  else
    ald σ 8 700 (σ.2 18) fun v_2 =>
    bd (mT_sortOf v_2 σ) fun v_3 σ_4 =>
    if v_3 = (σ_4.2 16) then
      lt_ (twI σ_4 18 ((σ_4.2 18) + 1)) fun σ_6 =>
      k111 σ_6
    else
      bT_next_170 σ_4

def bT_next_111 : Nat → twS → Option (Int32 × twS)
  | 0, _ => none
  | n + 1, σ =>
    if (σ.2 16) = 1 then
      bT_next_127 (bT_next_111 n) σ
    else
      if (σ.2 16) = 2 then
        bT_next_127 (bT_next_111 n) σ
      else
        bT_next_170 σ

def bT_next_60 : twS → Option (Int32 × twS) := fun σ =>
  lt_ (twI σ 18 (σ.2 17)) fun σ_1 =>
  if (σ_1.2 17) = (σ_1.2 10) then
    lt_ (twI σ_1 16 0) fun σ_8 =>
    some (0, σ_8)
  else
    ald σ_1 8 700 (σ_1.2 17) fun v_3 =>
    bd (mT_sortOf v_3 σ_1) fun v_4 σ_5 =>
    lt_ (twI σ_5 16 v_4) fun σ_6 =>
    lt_ (twI σ_6 18 ((σ_6.2 18) + 1)) fun σ_7 =>
    bT_next_111 FU σ_7

def bT_next_8 : Nat → twS → Option (Int32 × twS)
  | 0, _ => none
  | n + 1, σ =>
    if (σ.2 10) ≤ (σ.2 17) then
      bT_next_60 σ
    else
      ald σ 8 700 (σ.2 17) fun v_2 =>
      if v_2 = 32 then
        bT_next_47 (bT_next_8 n) σ
      else
        ald σ 8 700 (σ.2 17) fun v_4 =>
        if v_4 = 10 then
          bT_next_47 (bT_next_8 n) σ
        else
          bT_next_60 σ

def mT_next (σ : twS) : Option (Int32 × twS) :=
  lt_ (twI σ 17 (σ.2 18)) fun σ_1 =>
  bT_next_8 FU σ_1

def bT_says_28 (t1 : List Int32) : Nat → Int32 → twS → Option (Int32 × twS)
  | 0, _, _ => none
  | n + 1, x2, σ =>
    if (nI t1.length) ≤ x2 then
      rz 1 σ
    else
      ald σ 8 700 ((σ.2 17) + x2) fun v_2 =>
      chA t1 x2 fun v_3 =>
      if v_2 = v_3 then
        lt_ (x2 + 1) fun x2_5 =>
        (bT_says_28 t1 n) x2_5 σ
      else
        rz 0 σ

def mT_says (t1 : List Int32) (σ : twS) : Option (Int32 × twS) :=
  if (σ.2 16) = 1 then
    if ((σ.2 18) - (σ.2 17)) = (nI t1.length) then
      bT_says_28 t1 FU 0 σ
    else
      rz 0 σ
  else
    rz 0 σ

def mT_fail (x1 : Int32) (σ : twS) : Option (Int32 × twS) :=
  if (σ.2 20) = 0 then
    lt_ (twI σ 20 ((8 * (σ.2 17)) + x1)) fun σ_2 =>
    rz 0 σ_2
  else
    rz 0 σ

def mT_word (t1 : List Int32) (σ : twS) : Option (Int32 × twS) :=
  bd (mT_says t1 σ) fun v_1 σ_2 =>
  if v_1 = 0 then
    bd (mT_fail 1 σ_2) fun v_5 σ_6 =>
    rz v_5 σ_6
  else
    bd (mT_next σ_2) fun _ σ_4 =>
    rz 1 σ_4

def mT_in (x0 : Int32) (x1 : Int32) (x2 : Int32) (σ : twS) : Option (Int32 × twS) :=
  if x0 < x1 then
    rz 0 σ
  else
    if x2 < x0 then
      rz 0 σ
    else
      rz 1 σ

def mT_isNumber (x1 : Int32) (x2 : Int32) (σ : twS) : Option (Int32 × twS) :=
  if (σ.2 16) = 2 then
    bd (mT_in (σ.2 19) x1 x2 σ) fun v_2 σ_3 =>
    if v_2 = 0 then
      bd (mT_fail 2 σ_3) fun v_6 σ_7 =>
      rz v_6 σ_7
    else
      lt_ (twI σ_3 21 (σ_3.2 19)) fun σ_5 =>
      rz 1 σ_5
  else
    bd (mT_fail 1 σ) fun v_8 σ_9 =>
    rz v_8 σ_9

def mT_sign (x1 : Int32) (σ : twS) : Option (Int32 × twS) :=
  if (σ.2 16) = x1 then
    bd (mT_next σ) fun _ σ_2 =>
    rz 1 σ_2
  else
    bd (mT_fail 1 σ) fun v_3 σ_4 =>
    rz v_3 σ_4

def mT_number (x1 : Int32) (x2 : Int32) (σ : twS) : Option (Int32 × twS) :=
  bd (mT_isNumber x1 x2 σ) fun v_1 σ_2 =>
  if v_1 = 0 then
    rz 0 σ_2
  else
    bd (mT_next σ_2) fun _ σ_4 =>
    rz 1 σ_4

def bT_readsFacts_13 : Nat → Int32 → twS → Option (Int32 × twS)
  | 0, _, _ => none
  | n + 1, x1, σ =>
    if x1 = 0 then
      bd (mT_sign 59 σ) fun v_2 σ_3 =>
      if v_2 = 0 then
        rz 0 σ_3
      else
        bd (mT_word tS_255 σ_3) fun v_5 σ_6 =>
        if v_5 = 0 then
          rz 0 σ_6
        else
          bd (mT_number 1 4 σ_6) fun v_8 σ_9 =>
          if v_8 = 0 then
            rz 0 σ_9
          else
            ast σ_9 0 358 5 (σ_9.2 21) fun σ_11 =>
            bd (mT_word tS_257 σ_11) fun v_12 σ_13 =>
            if v_12 = 0 then
              rz 0 σ_13
            else
              ald σ_13 0 358 5 fun v_15 =>
              bd (mT_number 0 (v_15 - 1) σ_13) fun v_16 σ_17 =>
              if v_16 = 0 then
                rz 0 σ_17
              else
                ast σ_17 0 358 6 (σ_17.2 21) fun σ_19 =>
                bd (mT_sign 59 σ_19) fun v_20 σ_21 =>
                rz v_20 σ_21
    else
      bd (mT_isNumber 2 4 σ) fun v_22 σ_23 =>
      if v_22 = 0 then
        rz 0 σ_23
      else
        ald σ_23 0 358 0 fun v_25 =>
        if v_25 = 4 then
          bd (mT_fail 4 σ_23) fun v_33 σ_34 =>
          rz v_33 σ_34
        else
          ald σ_23 0 358 0 fun v_27 =>
          ast σ_23 0 358 (1 + v_27) (σ_23.2 21) fun σ_28 =>
          ald σ_28 0 358 0 fun v_29 =>
          ast σ_28 0 358 0 (v_29 + 1) fun σ_30 =>
          bd (mT_next σ_30) fun _ σ_31 =>
          if (σ_31.2 16) = 2 then
            (bT_readsFacts_13 n) 1 σ_31
          else
            (bT_readsFacts_13 n) 0 σ_31

def mT_readsFacts (σ : twS) : Option (Int32 × twS) :=
  bd (mT_word tS_253 σ) fun v_1 σ_2 =>
  if v_1 = 0 then
    rz 0 σ_2
  else
    bT_readsFacts_13 FU 1 σ_2

def mT_rule0 (x0 : Int32) (σ : twS) : Option (Int32 × twS) :=
  some (18 + (34 * x0), σ)

def mT_emits (x1 : Int32) (σ : twS) : Option (Int32 × twS) :=
  ald σ 0 358 ((σ.2 25) + 0) fun v_1 =>
  ast σ 0 358 (((σ.2 25) + 1) + v_1) x1 fun σ_2 =>
  lt_ ((σ_2.2 25) + 0) fun u_3 =>
  ald σ_2 0 358 u_3 fun v_4 =>
  ast σ_2 0 358 u_3 (v_4 + 1) fun σ_5 =>
  some (0, σ_5)

def mT_isFact (x1 : Int32) (σ : twS) : Option (Int32 × twS) :=
  ald σ 0 358 0 fun v_1 =>
  bd (mT_in x1 0 (v_1 - 1) σ) fun v_2 σ_3 =>
  rz v_2 σ_3

def bT_readsCompare_121 : Int32 → Int32 → twS → Option (Int32 × twS) := fun x1 s0 σ =>
  if s0 = (-1) then
    bd (mT_fail 1 σ) fun v_8 σ_9 =>
    rz v_8 σ_9
  else
    bd (mT_next σ) fun _ σ_2 =>
    ald σ_2 0 358 (1 + x1) fun v_3 =>
    bd (mT_number 0 (v_3 - 1) σ_2) fun v_4 σ_5 =>
    if v_4 = 0 then
      rz 0 σ_5
    else
      bd (mT_emits (((10 + (16 * x1)) + (4 * s0)) + (σ_5.2 21)) σ_5) fun _ σ_7 =>
      rz 1 σ_7

def bT_readsCompare_37 : Int32 → twS → Option (Int32 × twS) := fun s0 σ =>
  bd (mT_isFact s0 σ) fun v_1 σ_2 =>
  if v_1 = 0 then
    bd (mT_fail 1 σ_2) fun v_12 σ_13 =>
    rz v_12 σ_13
  else
    if (σ_2.2 22) = 12 then
      bd (mT_fail 4 σ_2) fun v_10 σ_11 =>
      rz v_10 σ_11
    else
      lt_ (twI σ_2 22 ((σ_2.2 22) + 1)) fun σ_5 =>
      bd (mT_next σ_5) fun _ σ_6 =>
      if (σ_6.2 16) = 61 then
        bT_readsCompare_121 s0 0 σ_6
      else
        if (σ_6.2 16) = 60 then
          bT_readsCompare_121 s0 1 σ_6
        else
          if (σ_6.2 16) = 62 then
            bT_readsCompare_121 s0 2 σ_6
          else
            bT_readsCompare_121 s0 (-1) σ_6

def bT_readsCompare_36 : twS → Option (Int32 × twS) := fun σ =>
  bT_readsCompare_37 (-1) σ

def mT_readsCompare (σ : twS) : Option (Int32 × twS) :=
  if (σ.2 16) = 1 then
    if ((σ.2 18) - (σ.2 17)) = 1 then
      ald σ 8 700 (σ.2 17) fun v_3 =>
      bT_readsCompare_37 (v_3 - 97) σ
    else
      bT_readsCompare_36 σ
  else
    bT_readsCompare_36 σ

def bT_readsTerm_9 (F : twS → Option (Int32 × twS)) : Nat → twS → Option (Int32 × twS)
  | 0, _ => none
  | n + 1, σ =>
    bd (mT_says tS_210 σ) fun v_1 σ_2 =>
    if v_1 = 0 then
      rz 1 σ_2
    else
      bd (mT_next σ_2) fun _ σ_4 =>
      bd (F σ_4) fun v_5 σ_6 =>
      if v_5 = 0 then
        rz 0 σ_6
      else
        bd (mT_emits 2 σ_6) fun _ σ_8 =>
        (bT_readsTerm_9 F n) σ_8

def mT_readsTerm (F : twS → Option (Int32 × twS)) (σ : twS) : Option (Int32 × twS) :=
  bd (F σ) fun v_1 σ_2 =>
  if v_1 = 0 then
    rz 0 σ_2
  else
    bT_readsTerm_9 F FU σ_2

def bT_readsGuard_9 (F : twS → Option (Int32 × twS)) : Nat → twS → Option (Int32 × twS)
  | 0, _ => none
  | n + 1, σ =>
    bd (mT_says tS_215 σ) fun v_1 σ_2 =>
    if v_1 = 0 then
      rz 1 σ_2
    else
      bd (mT_next σ_2) fun _ σ_4 =>
      bd (mT_readsTerm F σ_4) fun v_5 σ_6 =>
      if v_5 = 0 then
        rz 0 σ_6
      else
        bd (mT_emits 3 σ_6) fun _ σ_8 =>
        (bT_readsGuard_9 F n) σ_8

def mT_readsGuard (F : twS → Option (Int32 × twS)) (σ : twS) : Option (Int32 × twS) :=
  bd (mT_readsTerm F σ) fun v_1 σ_2 =>
  if v_1 = 0 then
    rz 0 σ_2
  else
    bT_readsGuard_9 F FU σ_2

def mO_readsFactor (F : twS → Option (Int32 × twS)) (σ : twS) : Option (Int32 × twS) :=
  bd (mT_says tS_188 σ) fun v_1 σ_2 =>
  if v_1 = 0 then
    if (σ_2.2 16) = 40 then
      if (σ_2.2 24) = 5 then
        bd (mT_fail 4 σ_2) fun v_26 σ_27 =>
        rz v_26 σ_27
      else
        lt_ (twI σ_2 24 ((σ_2.2 24) + 1)) fun σ_17 =>
        bd (mT_next σ_17) fun _ σ_18 =>
        bd (mT_readsGuard F σ_18) fun v_19 σ_20 =>
        if v_19 = 0 then
          rz 0 σ_20
        else
          bd (mT_sign 41 σ_20) fun v_22 σ_23 =>
          if v_22 = 0 then
            rz 0 σ_23
          else
            lt_ (twI σ_23 24 ((σ_23.2 24) - 1)) fun σ_25 =>
            rz 1 σ_25
    else
      bd (mT_says tS_205 σ_2) fun v_5 σ_6 =>
      if v_5 = 0 then
        bd (mT_readsCompare σ_6) fun v_14 σ_15 =>
        rz v_14 σ_15
      else
        if (σ_6.2 22) = 12 then
          bd (mT_fail 4 σ_6) fun v_12 σ_13 =>
          rz v_12 σ_13
        else
          lt_ (twI σ_6 22 ((σ_6.2 22) + 1)) fun σ_9 =>
          bd (mT_next σ_9) fun _ σ_10 =>
          bd (mT_emits 4 σ_10) fun _ σ_11 =>
          rz 1 σ_11
  else
    if (σ_2.2 23) = 5 then
      bd (mT_fail 4 σ_2) fun v_35 σ_36 =>
      rz v_35 σ_36
    else
      lt_ (twI σ_2 23 ((σ_2.2 23) + 1)) fun σ_29 =>
      bd (mT_next σ_29) fun _ σ_30 =>
      bd (F σ_30) fun v_31 σ_32 =>
      if v_31 = 0 then
        rz 0 σ_32
      else
        bd (mT_emits 1 σ_32) fun _ σ_34 =>
        rz 1 σ_34

def mT_readsFactor : Nat → twS → Option (Int32 × twS)
  | 0 => fun _ => none
  | d + 1 => mO_readsFactor (mT_readsFactor d)

def mT_has (x0 : Int32) (x1 : Int32) (σ : twS) : Option (Int32 × twS) :=
  if ((x0 >>> (x1 &&& 31)) &&& 1) = 1 then
    rz 1 σ
  else
    rz 0 σ

def bT_readsPart_98 : Nat → Int32 → Int32 → Int32 → Int32 → twS → Option (Int32 × twS)
  | 0, _, _, _, _, _ => none
  | n + 1, x2, x4, x5, x6, σ =>
    if 4 ≤ x6 then
      if x5 ≤ 27720 then
        bd (mT_next σ) fun _ σ_3 =>
        ast σ_3 0 358 (((σ_3.2 25) + 29) + x2) x4 fun σ_4 =>
        lt_ (twI σ_4 26 x2) fun σ_5 =>
        rz 1 σ_5
      else
        bd (mT_fail 5 σ) fun v_6 σ_7 =>
        rz v_6 σ_7
    else
      ald σ 0 358 (((σ.2 25) + 29) + x6) fun v_8 =>
      lt_ (x5 + v_8) fun x5_9 =>
      lt_ (x6 + 1) fun x6_10 =>
      (bT_readsPart_98 n) x2 x4 x5_9 x6_10 σ

def mT_readsPart (x1 : Int32) (σ : twS) : Option (Int32 × twS) :=
  ald σ 0 358 5 fun v_1 =>
  bd (mT_isNumber 0 (v_1 - 1) σ) fun v_2 σ_3 =>
  if v_2 = 0 then
    rz 0 σ_3
  else
    lt_ (σ_3.2 21) fun x2_5 =>
    bd (mT_has x1 x2_5 σ_3) fun v_6 σ_7 =>
    if v_6 = 0 then
      bd (mT_next σ_7) fun _ σ_9 =>
      bd (mT_number 0 12 σ_9) fun v_10 σ_11 =>
      if v_10 = 0 then
        rz 0 σ_11
      else
        lt_ (σ_11.2 21) fun x3_13 =>
        bd (mT_sign 47 σ_11) fun v_14 σ_15 =>
        if v_14 = 0 then
          rz 0 σ_15
        else
          bd (mT_isNumber 1 12 σ_15) fun v_17 σ_18 =>
          if v_17 = 0 then
            rz 0 σ_18
          else
            nz (σ_18.2 21) <|
            lt_ ((x3_13 * 27720) / (σ_18.2 21)) fun x4_20 =>
            bT_readsPart_98 FU x2_5 x4_20 x4_20 0 σ_18
    else
      bd (mT_fail 3 σ_7) fun v_21 σ_22 =>
      rz v_21 σ_22

def bT_readsParts_56 (k19 : Int32 → Int32 → twS → Option (Int32 × twS)) : Int32 → Int32 → twS → Option (Int32 × twS) := fun x1 s0 σ =>
  if s0 = 0 then
    k19 x1 s0 σ
  else
    bd (mT_next σ) fun _ σ_2 =>
    k19 x1 s0 σ_2

def bT_readsParts_19 : Nat → Int32 → Int32 → twS → Option (Int32 × twS)
  | 0, _, _, _ => none
  | n + 1, x1, x2, σ =>
    if x2 = 0 then
      rz 1 σ
    else
      bd (mT_readsPart x1 σ) fun v_2 σ_3 =>
      if v_2 = 0 then
        rz 0 σ_3
      else
        lt_ (x1 ||| (1 <<< ((σ_3.2 26) &&& 31))) fun x1_5 =>
        if (σ_3.2 16) = 44 then
          bT_readsParts_56 (bT_readsParts_19 n) x1_5 1 σ_3
        else
          bT_readsParts_56 (bT_readsParts_19 n) x1_5 0 σ_3

def mT_readsParts (σ : twS) : Option (Int32 × twS) :=
  bd (mT_says tS_219 σ) fun v_1 σ_2 =>
  if v_1 = 0 then
    bT_readsParts_19 FU 0 1 σ_2
  else
    bd (mT_next σ_2) fun _ σ_4 =>
    rz 1 σ_4

def bT_readsOver_17 : Nat → Int32 → twS → Option (Int32 × twS)
  | 0, _, _ => none
  | n + 1, x1, σ =>
    if x1 = 0 then
      rz 1 σ
    else
      ald σ 0 358 17 fun v_2 =>
      bd (mT_isNumber 0 (v_2 - 1) σ) fun v_3 σ_4 =>
      if v_3 = 0 then
        rz 0 σ_4
      else
        ald σ_4 0 358 ((σ_4.2 25) + 33) fun v_6 =>
        bd (mT_has v_6 (σ_4.2 21) σ_4) fun v_7 σ_8 =>
        if v_7 = 0 then
          lt_ ((σ_8.2 25) + 33) fun u_10 =>
          ald σ_8 0 358 u_10 fun v_11 =>
          ast σ_8 0 358 u_10 (v_11 ||| (1 <<< ((σ_8.2 21) &&& 31))) fun σ_12 =>
          bd (mT_next σ_12) fun _ σ_13 =>
          if (σ_13.2 16) = 2 then
            (bT_readsOver_17 n) 1 σ_13
          else
            (bT_readsOver_17 n) 0 σ_13
        else
          bd (mT_fail 3 σ_8) fun v_15 σ_16 =>
          rz v_15 σ_16

def mT_readsOver (σ : twS) : Option (Int32 × twS) :=
  bd (mT_says tS_224 σ) fun v_1 σ_2 =>
  if v_1 = 0 then
    rz 1 σ_2
  else
    bd (mT_next σ_2) fun _ σ_4 =>
    bT_readsOver_17 FU 1 σ_4

def bT_readsRule_16 : Nat → Int32 → twS → Option (Int32 × twS)
  | 0, _, _ => none
  | n + 1, x1, σ =>
    if 34 ≤ x1 then
      lt_ (twI σ 22 0) fun σ_2 =>
      lt_ (twI σ_2 23 0) fun σ_3 =>
      lt_ (twI σ_3 24 0) fun σ_4 =>
      bd (mT_readsGuard (mT_readsFactor DP) σ_4) fun v_5 σ_6 =>
      if v_5 = 0 then
        rz 0 σ_6
      else
        bd (mT_word tS_226 σ_6) fun v_8 σ_9 =>
        if v_8 = 0 then
          rz 0 σ_9
        else
          bd (mT_readsParts σ_9) fun v_11 σ_12 =>
          if v_11 = 0 then
            rz 0 σ_12
          else
            bd (mT_readsOver σ_12) fun v_14 σ_15 =>
            if v_14 = 0 then
              rz 0 σ_15
            else
              rz 1 σ_15
    else
      ast σ 0 358 ((σ.2 25) + x1) 0 fun σ_17 =>
      lt_ (x1 + 1) fun x1_18 =>
      (bT_readsRule_16 n) x1_18 σ_17

def mT_readsRule (σ : twS) : Option (Int32 × twS) :=
  ald σ 0 358 17 fun v_1 =>
  bd (mT_rule0 v_1 σ) fun v_2 σ_3 =>
  lt_ (twI σ_3 25 v_2) fun σ_4 =>
  bT_readsRule_16 FU 0 σ_4

def mT_readsHeir (σ : twS) : Option (Int32 × twS) :=
  bd (mT_next σ) fun _ σ_1 =>
  ald σ_1 0 358 5 fun v_2 =>
  bd (mT_number 0 (v_2 - 1) σ_1) fun v_3 σ_4 =>
  if v_3 = 0 then
    rz 0 σ_4
  else
    lt_ (σ_4.2 21) fun x1_6 =>
    bd (mT_word tS_237 σ_4) fun v_7 σ_8 =>
    if v_7 = 0 then
      rz 0 σ_8
    else
      bd (mT_number 0 9999 σ_8) fun v_10 σ_11 =>
      if v_10 = 0 then
        rz 0 σ_11
      else
        ast σ_11 0 358 (9 + (2 * x1_6)) (σ_11.2 21) fun σ_13 =>
        bd (mT_word tS_239 σ_13) fun v_14 σ_15 =>
        if v_14 = 0 then
          rz 0 σ_15
        else
          bd (mT_number 0 60 σ_15) fun v_17 σ_18 =>
          if v_17 = 0 then
            rz 0 σ_18
          else
            ast σ_18 0 358 ((9 + (2 * x1_6)) + 1) (σ_18.2 21) fun σ_20 =>
            rz 1 σ_20

def mT_readsLine (σ : twS) : Option (Int32 × twS) :=
  bd (mT_says tS_241 σ) fun v_1 σ_2 =>
  if v_1 = 0 then
    bd (mT_says tS_246 σ_2) fun v_4 σ_5 =>
    if v_4 = 0 then
      bd (mT_word tS_251 σ_5) fun v_7 σ_8 =>
      if v_7 = 0 then
        rz 0 σ_8
      else
        bd (mT_number 0 9999 σ_8) fun v_10 σ_11 =>
        if v_10 = 0 then
          rz 0 σ_11
        else
          ast σ_11 0 358 7 (σ_11.2 21) fun σ_13 =>
          rz 1 σ_13
    else
      bd (mT_readsHeir σ_5) fun v_14 σ_15 =>
      rz v_14 σ_15
  else
    ald σ_2 0 358 17 fun v_16 =>
    if v_16 = 10 then
      bd (mT_fail 4 σ_2) fun v_24 σ_25 =>
      rz v_24 σ_25
    else
      bd (mT_next σ_2) fun _ σ_18 =>
      bd (mT_readsRule σ_18) fun v_19 σ_20 =>
      if v_19 = 0 then
        rz 0 σ_20
      else
        ald σ_20 0 358 17 fun v_22 =>
        ast σ_20 0 358 17 (v_22 + 1) fun σ_23 =>
        rz 1 σ_23

def bT_reads_9 : Nat → twS → Option (Int32 × twS)
  | 0, _ => none
  | n + 1, σ =>
    if (σ.2 16) = 0 then
      rz 1 σ
    else
      bd (mT_readsLine σ) fun v_2 σ_3 =>
      if v_2 = 0 then
        rz 0 σ_3
      else
        bd (mT_sign 59 σ_3) fun v_5 σ_6 =>
        if v_5 = 0 then
          rz 0 σ_6
        else
          (bT_reads_9 n) σ_6

def mT_reads (σ : twS) : Option (Int32 × twS) :=
  bd (mT_readsFacts σ) fun v_1 σ_2 =>
  if v_1 = 0 then
    rz 0 σ_2
  else
    bT_reads_9 FU σ_2

def bT_parseAll_95 : Nat → Int32 → twS → Option (Int32 × twS)
  | 0, _, _ => none
  | n + 1, x1, σ =>
    if 358 ≤ x1 then
      rz 0 σ
    else
      ald σ 1 358 x1 fun v_2 =>
      ast σ 0 358 x1 v_2 fun σ_3 =>
      lt_ (x1 + 1) fun x1_4 =>
      (bT_parseAll_95 n) x1_4 σ_3

def bT_parseAll_46 : Nat → Int32 → twS → Option (Int32 × twS)
  | 0, _, _ => none
  | n + 1, x1, σ =>
    if 4 ≤ x1 then
      lt_ (twI σ 20 0) fun σ_2 =>
      lt_ (twI σ_2 18 0) fun σ_3 =>
      bd (mT_next σ_3) fun _ σ_4 =>
      bd (mT_reads σ_4) fun v_5 σ_6 =>
      if v_5 = 0 then
        bT_parseAll_95 FU 0 σ_6
      else
        lt_ (twI σ_6 5 0) fun σ_8 =>
        lt_ (twI σ_8 6 0) fun σ_9 =>
        rz 1 σ_9
    else
      ast σ 0 358 ((9 + (2 * x1)) + 1) 10 fun σ_10 =>
      lt_ (x1 + 1) fun x1_11 =>
      (bT_parseAll_46 n) x1_11 σ_10

def bT_parseAll_2 : Nat → Int32 → twS → Option (Int32 × twS)
  | 0, _, _ => none
  | n + 1, x1, σ =>
    if 358 ≤ x1 then
      ast σ 0 358 7 1000 fun σ_2 =>
      bT_parseAll_46 FU 0 σ_2
    else
      ald σ 0 358 x1 fun v_3 =>
      ast σ 1 358 x1 v_3 fun σ_4 =>
      ast σ_4 0 358 x1 0 fun σ_5 =>
      lt_ (x1 + 1) fun x1_6 =>
      (bT_parseAll_2 n) x1_6 σ_5

def mT_parseAll (σ : twS) : Option (Int32 × twS) :=
  bT_parseAll_2 FU 0 σ

def bT_lay_62 : twS → Option (Int32 × twS) := fun σ =>
  bd (mT_parseAll σ) fun v_1 σ_2 =>
  some (0, σ_2)

def mT_lay (x1 : Int32) (σ : twS) : Option (Int32 × twS) :=
  lt_ (twI σ 10 0) fun σ_1 =>
  if x1 = 0 then
    bd (mT_tell tS_122 σ_1) fun _ σ_3 =>
    bT_lay_62 σ_3
  else
  if x1 = 1 then
    bd (mT_tell tS_128 σ_1) fun _ σ_5 =>
    bd (mT_tell tS_130 σ_5) fun _ σ_6 =>
    bT_lay_62 σ_6
  else
    bd (mT_tell tS_132 σ_1) fun _ σ_7 =>
    bT_lay_62 σ_7

def mT_thrown (σ : twS) : Option (Int32 × twS) :=
  some (σ.2 13, σ)

def bT_type_3 : Nat → Int32 → Int32 → twS → Option (Int32 × twS)
  | 0, _, _, _ => none
  | n + 1, x1, x2, σ =>
    if x2 < 0 then
      some (0, σ)
    else
      ast σ 7 700 (σ.2 9) ((x1 >>> (x2 &&& 31)) &&& 255) fun σ_2 =>
      lt_ (twI σ_2 9 ((σ_2.2 9) + 1)) fun σ_3 =>
      lt_ (x2 + (-8)) fun x2_4 =>
      (bT_type_3 n) x1 x2_4 σ_3

def mT_type (x1 : Int32) (σ : twS) : Option (Int32 × twS) :=
  bT_type_3 FU x1 24 σ

def mT_append (x1 : Int32) (x2 : Int32) (x3 : Int32) (x4 : Int32) (x5 : Int32) (σ : twS) : Option (Int32 × twS) :=
  lt_ (twI σ 13 0) fun σ_1 =>
  if ((σ_1.2 9) + 20) ≤ 700 then
    bd (mT_type x1 σ_1) fun _ σ_3 =>
    bd (mT_type x2 σ_3) fun _ σ_4 =>
    bd (mT_type x3 σ_4) fun _ σ_5 =>
    bd (mT_type x4 σ_5) fun _ σ_6 =>
    bd (mT_type x5 σ_6) fun _ σ_7 =>
    some (σ_7.2 9, σ_7)
  else
    some ((-1), σ_1)

def bT_throwsOne_10 : Int32 → Int32 → twS → Option (Int32 × twS) := fun x1 s1 σ =>
  lt_ (twI σ 13 s1) fun σ_1 =>
  rz x1 σ_1

def mT_throwsOne (x1 : Int32) (σ : twS) : Option (Int32 × twS) :=
  if x1 = 0 then
    bT_throwsOne_10 x1 0 σ
  else
    bT_throwsOne_10 x1 1 σ

def bT_takes_2 : Nat → Int32 → Int32 → twS → Option (Int32 × twS)
  | 0, _, _, _ => none
  | n + 1, x1, x2, σ =>
    if x1 ≤ x2 then
      lt_ (twI σ 10 x1) fun σ_2 =>
      lt_ (twI σ_2 9 0) fun σ_3 =>
      some (0, σ_3)
    else
      ald σ 7 700 x2 fun v_4 =>
      ast σ 8 700 x2 v_4 fun σ_5 =>
      lt_ (x2 + 1) fun x2_6 =>
      (bT_takes_2 n) x1 x2_6 σ_5

def mT_takes (x1 : Int32) (σ : twS) : Option (Int32 × twS) :=
  bT_takes_2 FU x1 0 σ

def bT_parse_18 : Int32 → Int32 → twS → Option (Int32 × twS) := fun x1 s1 σ =>
  bd (mT_throwsOne s1 σ) fun v_1 σ_2 =>
  if v_1 = 0 then
    bd (mT_takes x1 σ_2) fun _ σ_4 =>
    bd (mT_parseAll σ_4) fun v_5 σ_6 =>
    if v_5 = 0 then
      some ((-2) - (σ_6.2 20), σ_6)
    else
      ald σ_6 0 358 17 fun v_8 =>
      some (v_8, σ_6)
  else
    some (0, σ_2)

def mT_parse (x1 : Int32) (σ : twS) : Option (Int32 × twS) :=
  bd (mT_in x1 0 (σ.2 9) σ) fun v_1 σ_2 =>
  if v_1 = 0 then
    bT_parse_18 x1 1 σ_2
  else
    bT_parse_18 x1 0 σ_2

def bT_load_15 : Int32 → Int32 → twS → Option (Int32 × twS) := fun x1 s1 σ =>
  bd (mT_throwsOne s1 σ) fun v_1 σ_2 =>
  if v_1 = 0 then
    bd (mT_lay x1 σ_2) fun _ σ_4 =>
    ald σ_4 0 358 17 fun v_5 =>
    some (v_5, σ_4)
  else
    some (0, σ_2)

def mT_load (x1 : Int32) (σ : twS) : Option (Int32 × twS) :=
  bd (mT_in x1 0 2 σ) fun v_1 σ_2 =>
  if v_1 = 0 then
    bT_load_15 x1 1 σ_2
  else
    bT_load_15 x1 0 σ_2

def bT_cases_4 : Nat → Int32 → Int32 → twS → Option (Int32 × twS)
  | 0, _, _, _ => none
  | n + 1, x1, x2, σ =>
    ald σ 0 358 0 fun v_1 =>
    if v_1 ≤ x2 then
      some (x1, σ)
    else
      ald σ 0 358 (1 + x2) fun v_3 =>
      lt_ (x1 * v_3) fun x1_4 =>
      lt_ (x2 + 1) fun x2_5 =>
      (bT_cases_4 n) x1_4 x2_5 σ

def mT_cases (σ : twS) : Option (Int32 × twS) :=
  bT_cases_4 FU 1 0 σ

def mT_of (x1 : Int32) (x2 : Int32) (σ : twS) : Option (Int32 × twS) :=
  bd (mT_rule0 x1 σ) fun v_1 σ_2 =>
  ald σ_2 0 358 (v_1 + x2) fun v_3 =>
  some (v_3, σ_2)

def bT_valueOf_5 : Nat → Int32 → Int32 → Int32 → twS → Option (Int32 × twS)
  | 0, _, _, _, _ => none
  | n + 1, x2, x3, x4, σ =>
    if x2 ≤ x4 then
      ald σ 0 358 (1 + x2) fun v_2 =>
      nz v_2 <|
      some (x3 - x3 / v_2 * v_2, σ)
    else
      ald σ 0 358 (1 + x4) fun v_3 =>
      nz v_3 <|
      lt_ (x3 / v_3) fun x3_4 =>
      lt_ (x4 + 1) fun x4_5 =>
      (bT_valueOf_5 n) x2 x3_4 x4_5 σ

def mT_valueOf (x1 : Int32) (x2 : Int32) (σ : twS) : Option (Int32 × twS) :=
  bT_valueOf_5 FU x2 x1 0 σ

def mT_compares (x1 : Int32) (x2 : Int32) (σ : twS) : Option (Int32 × twS) :=
  lt_ (x1 - 10) fun x3_1 =>
  bd (mT_valueOf x2 (x3_1 / 16) σ) fun v_2 σ_3 =>
  lt_ (x3_1 - x3_1 / 4 * 4) fun x5_4 =>
  lt_ ((x3_1 / 4) - (x3_1 / 4) / 4 * 4) fun x6_5 =>
  if x6_5 = 0 then
    if v_2 = x5_4 then
      some (1, σ_3)
    else
      some (0, σ_3)
  else
    if x6_5 = 1 then
      if x5_4 ≤ v_2 then
        some (0, σ_3)
      else
        some (1, σ_3)
    else
      if v_2 ≤ x5_4 then
        some (0, σ_3)
      else
        some (1, σ_3)

def bT_holds_159 (k5 : Int32 → Int32 → Int32 → Int32 → twS → Option (Int32 × twS)) : Int32 → Int32 → Int32 → Int32 → Int32 → Int32 → twS → Option (Int32 × twS) := fun x1 x2 x3 x4 s1 s2 σ =>
  ast σ 14 32 s1 s2 fun σ_1 =>
  lt_ (x3 + 1) fun x3_2 =>
  lt_ (x4 + 1) fun x4_3 =>
  k5 x1 x2 x3_2 x4_3 σ_1

def bT_holds_5 : Nat → Int32 → Int32 → Int32 → Int32 → twS → Option (Int32 × twS)
  | 0, _, _, _, _, _ => none
  | n + 1, x1, x2, x3, x4, σ =>
    bd (mT_of x1 0 σ) fun v_1 σ_2 =>
    if v_1 ≤ x4 then
      ald σ_2 14 32 0 fun v_4 =>
      if v_4 = 1 then
        rz 1 σ_2
      else
        rz 0 σ_2
    else
      bd (mT_of x1 (1 + x4) σ_2) fun v_6 σ_7 =>
      if v_6 = 1 then
        ald σ_7 14 32 (x3 - 1) fun v_9 =>
        ast σ_7 14 32 (x3 - 1) (1 - v_9) fun σ_10 =>
        lt_ (x4 + 1) fun x4_11 =>
        (bT_holds_5 n) x1 x2 x3 x4_11 σ_10
      else
      if v_6 = 2 then
        lt_ (x3 + (-1)) fun x3_13 =>
        ald σ_7 14 32 (x3_13 - 1) fun v_14 =>
        ald σ_7 14 32 x3_13 fun v_15 =>
        ast σ_7 14 32 (x3_13 - 1) (v_14 * v_15) fun σ_16 =>
        lt_ (x4 + 1) fun x4_17 =>
        (bT_holds_5 n) x1 x2 x3_13 x4_17 σ_16
      else
      if v_6 = 3 then
        lt_ (x3 + (-1)) fun x3_19 =>
        ald σ_7 14 32 (x3_19 - 1) fun v_20 =>
        ald σ_7 14 32 x3_19 fun v_21 =>
        lt_ (if v_20 < v_21 then v_21 else v_20) fun u_22 =>
        ast σ_7 14 32 (x3_19 - 1) u_22 fun σ_23 =>
        lt_ (x4 + 1) fun x4_24 =>
        (bT_holds_5 n) x1 x2 x3_19 x4_24 σ_23
      else
        if v_6 = 4 then
          bT_holds_159 (bT_holds_5 n) x1 x2 x3 x4 x3 1 σ_7
        else
          bd (mT_compares v_6 x2 σ_7) fun v_26 σ_27 =>
          bT_holds_159 (bT_holds_5 n) x1 x2 x3 x4 x3 v_26 σ_27

def mT_holds (x1 : Int32) (x2 : Int32) (σ : twS) : Option (Int32 × twS) :=
  bT_holds_5 FU x1 x2 0 0 σ

def bT_setsOut_55 (k7 : Int32 → Int32 → twS → Option (Int32 × twS)) (k21 : Int32 → Int32 → Int32 → twS → Option (Int32 × twS)) : Int32 → Int32 → Int32 → Int32 → Int32 → Int32 → twS → Option (Int32 × twS) := fun x1 x2 x3 s1 s2 s3 σ =>
  ast σ 15 256 s1 (s2 ||| s3) fun σ_1 =>
  lt_ (x3 + 1) fun x3_2 =>
  k21 x1 x2 x3_2 σ_1

def bT_setsOut_21 (k7 : Int32 → Int32 → twS → Option (Int32 × twS)) : Nat → Int32 → Int32 → Int32 → twS → Option (Int32 × twS)
  | 0, _, _, _, _ => none
  | n + 1, x1, x2, x3, σ =>
    ald σ 0 358 17 fun v_1 =>
    if v_1 ≤ x3 then
      lt_ (x2 + 1) fun x2_3 =>
      k7 x1 x2_3 σ
    else
      ald σ 15 256 x2 fun v_4 =>
      bd (mT_holds x3 x2 σ) fun v_5 σ_6 =>
      if v_5 = 0 then
        bT_setsOut_55 k7 (bT_setsOut_21 k7 n) x1 x2 x3 x2 v_4 0 σ_6
      else
        bT_setsOut_55 k7 (bT_setsOut_21 k7 n) x1 x2 x3 x2 v_4 (1 <<< (x3 &&& 31)) σ_6

def bT_setsOut_7 : Nat → Int32 → Int32 → twS → Option (Int32 × twS)
  | 0, _, _, _ => none
  | n + 1, x1, x2, σ =>
    if x1 ≤ x2 then
      some (0, σ)
    else
      ast σ 15 256 x2 0 fun σ_2 =>
      bT_setsOut_21 (bT_setsOut_7 n) FU x1 x2 0 σ_2

def mT_setsOut (σ : twS) : Option (Int32 × twS) :=
  bd (mT_cases σ) fun v_1 σ_2 =>
  bT_setsOut_7 FU v_1 0 σ_2

def bT_unbeaten_4 : Nat → Int32 → Int32 → Int32 → twS → Option (Int32 × twS)
  | 0, _, _, _, _ => none
  | n + 1, x1, x2, x3, σ =>
    ald σ 0 358 17 fun v_1 =>
    if v_1 ≤ x3 then
      some (x1 &&& (x2 ^^^ (-1)), σ)
    else
      bd (mT_has x1 x3 σ) fun v_3 σ_4 =>
      if v_3 = 0 then
        lt_ (x2 ||| 0) fun x2_6 =>
        lt_ (x3 + 1) fun x3_7 =>
        (bT_unbeaten_4 n) x1 x2_6 x3_7 σ_4
      else
        bd (mT_of x3 33 σ_4) fun v_8 σ_9 =>
        lt_ (x2 ||| v_8) fun x2_10 =>
        lt_ (x3 + 1) fun x3_11 =>
        (bT_unbeaten_4 n) x1 x2_10 x3_11 σ_9

def mT_unbeaten (x1 : Int32) (σ : twS) : Option (Int32 × twS) :=
  bT_unbeaten_4 FU x1 0 0 σ

def bT_least_2 : Nat → Int32 → Int32 → twS → Option (Int32 × twS)
  | 0, _, _, _ => none
  | n + 1, x0, x1, σ =>
    if 31 ≤ x1 then
      some ((-1), σ)
    else
      bd (mT_has x0 x1 σ) fun v_2 σ_3 =>
      if v_2 = 0 then
        lt_ (x1 + 1) fun x1_5 =>
        (bT_least_2 n) x0 x1_5 σ_3
      else
        some (x1, σ_3)

def mT_least (x0 : Int32) (σ : twS) : Option (Int32 × twS) :=
  bT_least_2 FU x0 0 σ

def bT_isSame_5 : Nat → Int32 → Int32 → Int32 → Int32 → twS → Option (Int32 × twS)
  | 0, _, _, _, _, _ => none
  | n + 1, x1, x2, x3, x4, σ =>
    if 4 ≤ x4 then
      rz x3 σ
    else
      if x3 = 0 then
        lt_ (x4 + 1) fun x4_3 =>
        (bT_isSame_5 n) x1 x2 0 x4_3 σ
      else
        bd (mT_of x1 (29 + x4) σ) fun v_4 σ_5 =>
        bd (mT_of x2 (29 + x4) σ_5) fun v_6 σ_7 =>
        if v_4 = v_6 then
          lt_ (x4 + 1) fun x4_10 =>
          (bT_isSame_5 n) x1 x2 1 x4_10 σ_7
        else
          lt_ (x4 + 1) fun x4_9 =>
          (bT_isSame_5 n) x1 x2 0 x4_9 σ_7

def mT_isSame (x1 : Int32) (x2 : Int32) (σ : twS) : Option (Int32 × twS) :=
  bT_isSame_5 FU x1 x2 1 0 σ

def bT_other_2 : Nat → Int32 → Int32 → Int32 → twS → Option (Int32 × twS)
  | 0, _, _, _, _ => none
  | n + 1, x1, x2, x3, σ =>
    ald σ 0 358 17 fun v_1 =>
    if v_1 ≤ x3 then
      some ((-1), σ)
    else
      bd (mT_has x1 x3 σ) fun v_3 σ_4 =>
      if v_3 = 0 then
        lt_ (x3 + 1) fun x3_6 =>
        (bT_other_2 n) x1 x2 x3_6 σ_4
      else
        bd (mT_isSame x3 x2 σ_4) fun v_7 σ_8 =>
        if v_7 = 0 then
          some (x3, σ_8)
        else
          lt_ (x3 + 1) fun x3_10 =>
          (bT_other_2 n) x1 x2 x3_10 σ_8

def mT_other (x1 : Int32) (x2 : Int32) (σ : twS) : Option (Int32 × twS) :=
  bT_other_2 FU x1 x2 0 σ

def bT_verdictOf_14 : Int32 → twS → Option (Int32 × twS) := fun x1 σ =>
  if x1 = 0 then
    some (1, σ)
  else
    some (2, σ)

def mT_verdictOf (x1 : Int32) (σ : twS) : Option (Int32 × twS) :=
  bd (mT_unbeaten x1 σ) fun v_1 σ_2 =>
  if x1 = 0 then
    bT_verdictOf_14 x1 σ_2
  else
    if v_1 = 0 then
      bT_verdictOf_14 x1 σ_2
    else
      bd (mT_least v_1 σ_2) fun v_5 σ_6 =>
      bd (mT_other v_1 v_5 σ_6) fun v_7 σ_8 =>
      if v_7 = (-1) then
        some (0, σ_8)
      else
        some (3, σ_8)

def bT_many_46 (k11 : Int32 → Int32 → Int32 → Int32 → Int32 → twS → Option (Int32 × twS)) : Int32 → Int32 → Int32 → Int32 → Int32 → Int32 → twS → Option (Int32 × twS) := fun x1 x2 x3 x4 x5 s0 σ =>
  bd (mT_verdictOf s0 σ) fun v_1 σ_2 =>
  if v_1 = x1 then
    lt_ (x3 + 1) fun x3_6 =>
    lt_ (x5 + 1) fun x5_7 =>
    k11 x1 x2 x3_6 x4 x5_7 σ_2
  else
    lt_ (x3 + 0) fun x3_4 =>
    lt_ (x5 + 1) fun x5_5 =>
    k11 x1 x2 x3_4 x4 x5_5 σ_2

def bT_many_11 : Nat → Int32 → Int32 → Int32 → Int32 → Int32 → twS → Option (Int32 × twS)
  | 0, _, _, _, _, _, _ => none
  | n + 1, x1, x2, x3, x4, x5, σ =>
    if x4 ≤ x5 then
      some (x3, σ)
    else
      if x2 = (-1) then
        ald σ 15 256 x5 fun v_4 =>
        bT_many_46 (bT_many_11 n) x1 x2 x3 x4 x5 v_4 σ
      else
        ald σ 15 256 x5 fun v_3 =>
        bT_many_46 (bT_many_11 n) x1 x2 x3 x4 x5 (v_3 &&& ((1 <<< (x2 &&& 31)) ^^^ (-1))) σ

def mT_many (x1 : Int32) (x2 : Int32) (σ : twS) : Option (Int32 × twS) :=
  bd (mT_cases σ) fun v_1 σ_2 =>
  bT_many_11 FU x1 x2 0 v_1 0 σ_2

def bT_sizeOf_138 : Int32 → twS → Option (Int32 × twS) := fun x1 σ =>
  bd (mT_setsOut σ) fun _ σ_1 =>
  bd (mT_many (x1 - 7) (-1) σ_1) fun v_2 σ_3 =>
  some (v_2, σ_3)

def mT_sizeOf (x1 : Int32) (σ : twS) : Option (Int32 × twS) :=
  if x1 = 0 then
    ald σ 0 358 0 fun v_2 =>
    some (v_2, σ)
  else
  if x1 = 1 then
    ald σ 0 358 5 fun v_4 =>
    some (v_4, σ)
  else
  if x1 = 2 then
    ald σ 0 358 17 fun v_6 =>
    some (v_6, σ)
  else
  if x1 = 3 then
    bd (mT_cases σ) fun v_8 σ_9 =>
    some (v_8, σ_9)
  else
  if x1 = 4 then
    ald σ 0 358 6 fun v_11 =>
    some (v_11, σ)
  else
  if x1 = 5 then
    ald σ 0 358 7 fun v_13 =>
    some (v_13, σ)
  else
  if x1 = 6 then
    ald σ 0 358 8 fun v_15 =>
    some (v_15, σ)
  else
  if x1 = 11 then
    some (σ.2 5, σ)
  else
  if x1 = 12 then
    some (σ.2 9, σ)
  else
  if x1 = 13 then
    some (σ.2 12, σ)
  else
    bT_sizeOf_138 x1 σ

def bT_size_16 : Int32 → Int32 → twS → Option (Int32 × twS) := fun x1 s1 σ =>
  bd (mT_throwsOne s1 σ) fun v_1 σ_2 =>
  if v_1 = 0 then
    bd (mT_sizeOf x1 σ_2) fun v_4 σ_5 =>
    some (v_4, σ_5)
  else
    some (0, σ_2)

def mT_size (x1 : Int32) (σ : twS) : Option (Int32 × twS) :=
  bd (mT_in x1 0 13 σ) fun v_1 σ_2 =>
  if v_1 = 0 then
    bT_size_16 x1 1 σ_2
  else
    bT_size_16 x1 0 σ_2

def bT_values_14 : Int32 → Int32 → twS → Option (Int32 × twS) := fun x1 s1 σ =>
  bd (mT_throwsOne s1 σ) fun v_1 σ_2 =>
  if v_1 = 0 then
    ald σ_2 0 358 (1 + x1) fun v_4 =>
    some (v_4, σ_2)
  else
    some (0, σ_2)

def mT_values (x1 : Int32) (σ : twS) : Option (Int32 × twS) :=
  bd (mT_isFact x1 σ) fun v_1 σ_2 =>
  if v_1 = 0 then
    bT_values_14 x1 1 σ_2
  else
    bT_values_14 x1 0 σ_2

def mT_isCase (x1 : Int32) (σ : twS) : Option (Int32 × twS) :=
  bd (mT_cases σ) fun v_1 σ_2 =>
  bd (mT_in x1 0 (v_1 - 1) σ_2) fun v_3 σ_4 =>
  rz v_3 σ_4

def bT_throwsOne_2_18 : Int32 → Int32 → Int32 → twS → Option (Int32 × twS) := fun x1 x2 s1 σ =>
  lt_ (twI σ 13 s1) fun σ_1 =>
  if x1 = 0 then
    if x2 = 0 then
      rz 0 σ_1
    else
      rz 1 σ_1
  else
    rz 1 σ_1

def mT_throwsOne_2 (x1 : Int32) (x2 : Int32) (σ : twS) : Option (Int32 × twS) :=
  if x1 = 0 then
    if x2 = 0 then
      bT_throwsOne_2_18 x1 x2 0 σ
    else
      bT_throwsOne_2_18 x1 x2 2 σ
  else
    bT_throwsOne_2_18 x1 x2 1 σ

def bT_valueIn_27 : Int32 → Int32 → Int32 → Int32 → twS → Option (Int32 × twS) := fun x1 x2 s1 s2 σ =>
  bd (mT_throwsOne_2 s1 s2 σ) fun v_1 σ_2 =>
  if v_1 = 0 then
    bd (mT_valueOf x1 x2 σ_2) fun v_4 σ_5 =>
    some (v_4, σ_5)
  else
    some (0, σ_2)

def bT_valueIn_14 : Int32 → Int32 → Int32 → twS → Option (Int32 × twS) := fun x1 x2 s1 σ =>
  bd (mT_isFact x2 σ) fun v_1 σ_2 =>
  if v_1 = 0 then
    bT_valueIn_27 x1 x2 s1 1 σ_2
  else
    bT_valueIn_27 x1 x2 s1 0 σ_2

def mT_valueIn (x1 : Int32) (x2 : Int32) (σ : twS) : Option (Int32 × twS) :=
  bd (mT_isCase x1 σ) fun v_1 σ_2 =>
  if v_1 = 0 then
    bT_valueIn_14 x1 x2 1 σ_2
  else
    bT_valueIn_14 x1 x2 0 σ_2

def mT_isHeir (x1 : Int32) (σ : twS) : Option (Int32 × twS) :=
  ald σ 0 358 5 fun v_1 =>
  bd (mT_in x1 0 (v_1 - 1) σ) fun v_2 σ_3 =>
  rz v_2 σ_3

def bT_setOf_4 : Nat → Int32 → Int32 → Int32 → twS → Option (Int32 × twS)
  | 0, _, _, _, _ => none
  | n + 1, x1, x2, x3, σ =>
    ald σ 0 358 17 fun v_1 =>
    if v_1 ≤ x3 then
      some (x2, σ)
    else
      bd (mT_holds x3 x1 σ) fun v_3 σ_4 =>
      if v_3 = 0 then
        lt_ (x2 ||| 0) fun x2_6 =>
        lt_ (x3 + 1) fun x3_7 =>
        (bT_setOf_4 n) x1 x2_6 x3_7 σ_4
      else
        lt_ (x2 ||| (1 <<< (x3 &&& 31))) fun x2_8 =>
        lt_ (x3 + 1) fun x3_9 =>
        (bT_setOf_4 n) x1 x2_8 x3_9 σ_4

def mT_setOf (x1 : Int32) (σ : twS) : Option (Int32 × twS) :=
  bT_setOf_4 FU x1 0 0 σ

def mT_settles (x1 : Int32) (σ : twS) : Option (Int32 × twS) :=
  bd (mT_verdictOf x1 σ) fun v_1 σ_2 =>
  if v_1 = 0 then
    bd (mT_unbeaten x1 σ_2) fun v_4 σ_5 =>
    bd (mT_least v_4 σ_5) fun v_6 σ_7 =>
    some (v_6, σ_7)
  else
    some ((-1), σ_2)

def bT_part_51 : Nat → Int32 → Int32 → Int32 → Int32 → twS → Option (Int32 × twS)
  | 0, _, _, _, _, _ => none
  | n + 1, x1, x2, x3, x4, σ =>
    ald σ 0 358 5 fun v_1 =>
    if v_1 ≤ x4 then
      some (x3, σ)
    else
      if x4 = x2 then
        lt_ (x3 - 0) fun x3_9 =>
        lt_ (x4 + 1) fun x4_10 =>
        (bT_part_51 n) x1 x2 x3_9 x4_10 σ
      else
        ald σ 0 358 7 fun v_4 =>
        bd (mT_of x1 (29 + x4) σ) fun v_5 σ_6 =>
        lt_ (x3 - ((v_4 * v_5) / 27720)) fun x3_7 =>
        lt_ (x4 + 1) fun x4_8 =>
        (bT_part_51 n) x1 x2 x3_7 x4_8 σ_6

def mT_part (x1 : Int32) (x2 : Int32) (σ : twS) : Option (Int32 × twS) :=
  if x1 = (-1) then
    some (0, σ)
  else
    ald σ 0 358 6 fun v_2 =>
    if x2 = v_2 then
      ald σ 0 358 7 fun v_4 =>
      bT_part_51 FU x1 x2 v_4 0 σ
    else
      ald σ 0 358 7 fun v_5 =>
      bd (mT_of x1 (29 + x2) σ) fun v_6 σ_7 =>
      some ((v_5 * v_6) / 27720, σ_7)

def mT_duty (x1 : Int32) (x2 : Int32) (σ : twS) : Option (Int32 × twS) :=
  bd (mT_part x1 x2 σ) fun v_1 σ_2 =>
  ald σ_2 0 358 (9 + (2 * x2)) fun v_3 =>
  lt_ (v_1 - v_3) fun x3_4 =>
  if x3_4 ≤ 0 then
    some (0, σ_2)
  else
    ald σ_2 0 358 ((9 + (2 * x2)) + 1) fun v_6 =>
    some ((x3_4 * v_6) / 100, σ_2)

def bT_extreme_15 : Nat → Int32 → Int32 → Int32 → Int32 → Int32 → twS → Option (Int32 × twS)
  | 0, _, _, _, _, _, _ => none
  | n + 1, x1, x2, x3, x4, x5, σ =>
    if x4 ≤ x5 then
      some (x3, σ)
    else
      ald σ 15 256 x5 fun v_2 =>
      bd (mT_settles v_2 σ) fun v_3 σ_4 =>
      if v_3 = (-1) then
        lt_ (x5 + 1) fun x5_15 =>
        (bT_extreme_15 n) x1 x2 x3 x4 x5_15 σ_4
      else
        bd (mT_part v_3 x1 σ_4) fun v_6 σ_7 =>
        if x3 = (-1) then
          lt_ (x5 + 1) fun x5_14 =>
          (bT_extreme_15 n) x1 x2 v_6 x4 x5_14 σ_7
        else
          if x2 = 0 then
            lt_ (if v_6 < x3 then v_6 else x3) fun u_10 =>
            lt_ (x5 + 1) fun x5_11 =>
            (bT_extreme_15 n) x1 x2 u_10 x4 x5_11 σ_7
          else
            lt_ (if x3 < v_6 then v_6 else x3) fun u_12 =>
            lt_ (x5 + 1) fun x5_13 =>
            (bT_extreme_15 n) x1 x2 u_12 x4 x5_13 σ_7

def mT_extreme (x1 : Int32) (x2 : Int32) (σ : twS) : Option (Int32 × twS) :=
  bd (mT_setsOut σ) fun _ σ_1 =>
  bd (mT_cases σ_1) fun v_2 σ_3 =>
  bT_extreme_15 FU x1 x2 (-1) v_2 0 σ_3

def bT_heirTold_36 : Int32 → Int32 → twS → Option (Int32 × twS) := fun x1 x2 σ =>
  ald σ 0 358 ((9 + (2 * x1)) + x2) fun v_1 =>
  some (v_1, σ)

def bT_heirTold_145 : Int32 → Int32 → twS → Option (Int32 × twS) := fun s1 s2 σ =>
  bd (mT_extreme s1 s2 σ) fun v_1 σ_2 =>
  some (v_1, σ_2)

def mT_heirTold (x1 : Int32) (x2 : Int32) (σ : twS) : Option (Int32 × twS) :=
  if x2 = 0 then
    bT_heirTold_36 x1 x2 σ
  else
  if x2 = 1 then
    bT_heirTold_36 x1 x2 σ
  else
  if x2 = 2 then
    ald σ 0 358 6 fun v_4 =>
    if v_4 = x1 then
      some (1, σ)
    else
      some (0, σ)
  else
  if x2 = 3 then
    ald σ 0 358 8 fun v_7 =>
    bd (mT_setOf v_7 σ) fun v_8 σ_9 =>
    bd (mT_settles v_8 σ_9) fun v_10 σ_11 =>
    bd (mT_part v_10 x1 σ_11) fun v_12 σ_13 =>
    some (v_12, σ_13)
  else
  if x2 = 4 then
    ald σ 0 358 8 fun v_15 =>
    bd (mT_setOf v_15 σ) fun v_16 σ_17 =>
    bd (mT_settles v_16 σ_17) fun v_18 σ_19 =>
    if v_18 = (-1) then
      some (0, σ_19)
    else
      ald σ_19 0 358 8 fun v_21 =>
      bd (mT_setOf v_21 σ_19) fun v_22 σ_23 =>
      bd (mT_settles v_22 σ_23) fun v_24 σ_25 =>
      bd (mT_duty v_24 x1 σ_25) fun v_26 σ_27 =>
      some (v_26, σ_27)
  else
    if x2 = 6 then
      bT_heirTold_145 x1 1 σ
    else
      bT_heirTold_145 x1 0 σ

def bT_heir_29 : Int32 → Int32 → Int32 → Int32 → twS → Option (Int32 × twS) := fun x1 x2 s1 s2 σ =>
  bd (mT_throwsOne_2 s1 s2 σ) fun v_1 σ_2 =>
  if v_1 = 0 then
    bd (mT_heirTold x1 x2 σ_2) fun v_4 σ_5 =>
    some (v_4, σ_5)
  else
    some (0, σ_2)

def bT_heir_14 : Int32 → Int32 → Int32 → twS → Option (Int32 × twS) := fun x1 x2 s1 σ =>
  bd (mT_in x2 0 6 σ) fun v_1 σ_2 =>
  if v_1 = 0 then
    bT_heir_29 x1 x2 s1 1 σ_2
  else
    bT_heir_29 x1 x2 s1 0 σ_2

def mT_heir (x1 : Int32) (x2 : Int32) (σ : twS) : Option (Int32 × twS) :=
  bd (mT_isHeir x1 σ) fun v_1 σ_2 =>
  if v_1 = 0 then
    bT_heir_14 x1 x2 1 σ_2
  else
    bT_heir_14 x1 x2 0 σ_2

def mT_isRule (x1 : Int32) (σ : twS) : Option (Int32 × twS) :=
  ald σ 0 358 17 fun v_1 =>
  bd (mT_in x1 0 (v_1 - 1) σ) fun v_2 σ_3 =>
  rz v_2 σ_3

def bT_comparisons_4 : Nat → Int32 → Int32 → Int32 → twS → Option (Int32 × twS)
  | 0, _, _, _, _ => none
  | n + 1, x1, x2, x3, σ =>
    bd (mT_of x1 0 σ) fun v_1 σ_2 =>
    if v_1 ≤ x3 then
      some (x2, σ_2)
    else
      bd (mT_of x1 (1 + x3) σ_2) fun v_4 σ_5 =>
      if v_4 < 4 then
        lt_ (x2 + 0) fun x2_7 =>
        lt_ (x3 + 1) fun x3_8 =>
        (bT_comparisons_4 n) x1 x2_7 x3_8 σ_5
      else
        lt_ (x2 + 1) fun x2_9 =>
        lt_ (x3 + 1) fun x3_10 =>
        (bT_comparisons_4 n) x1 x2_9 x3_10 σ_5

def mT_comparisons (x1 : Int32) (σ : twS) : Option (Int32 × twS) :=
  bT_comparisons_4 FU x1 0 0 σ

def bT_overIt_4 : Nat → Int32 → Int32 → Int32 → twS → Option (Int32 × twS)
  | 0, _, _, _, _ => none
  | n + 1, x1, x2, x3, σ =>
    ald σ 0 358 17 fun v_1 =>
    if v_1 ≤ x3 then
      some (x2, σ)
    else
      bd (mT_of x3 33 σ) fun v_3 σ_4 =>
      bd (mT_has v_3 x1 σ_4) fun v_5 σ_6 =>
      if v_5 = 0 then
        lt_ (x2 ||| 0) fun x2_8 =>
        lt_ (x3 + 1) fun x3_9 =>
        (bT_overIt_4 n) x1 x2_8 x3_9 σ_6
      else
        lt_ (x2 ||| (1 <<< (x3 &&& 31))) fun x2_10 =>
        lt_ (x3 + 1) fun x3_11 =>
        (bT_overIt_4 n) x1 x2_10 x3_11 σ_6

def mT_overIt (x1 : Int32) (σ : twS) : Option (Int32 × twS) :=
  bT_overIt_4 FU x1 0 0 σ

def bT_manyOf_94 (k15 : Int32 → Int32 → Int32 → Int32 → Int32 → twS → Option (Int32 × twS)) : Int32 → Int32 → Int32 → Int32 → Int32 → Int32 → twS → Option (Int32 × twS) := fun x1 x2 x3 x4 x5 s0 σ =>
  if s0 = 0 then
    lt_ (x3 + 0) fun x3_2 =>
    lt_ (x5 + 1) fun x5_3 =>
    k15 x1 x2 x3_2 x4 x5_3 σ
  else
    lt_ (x3 + 1) fun x3_4 =>
    lt_ (x5 + 1) fun x5_5 =>
    k15 x1 x2 x3_4 x4 x5_5 σ

def bT_manyOf_93 (k15 : Int32 → Int32 → Int32 → Int32 → Int32 → twS → Option (Int32 × twS)) : Int32 → Int32 → Int32 → Int32 → Int32 → twS → Option (Int32 × twS) := fun x1 x2 x3 x4 x5 σ =>
  bT_manyOf_94 k15 x1 x2 x3 x4 x5 0 σ

def bT_manyOf_15 : Nat → Int32 → Int32 → Int32 → Int32 → Int32 → twS → Option (Int32 × twS)
  | 0, _, _, _, _, _, _ => none
  | n + 1, x1, x2, x3, x4, x5, σ =>
    if x4 ≤ x5 then
      some (x3, σ)
    else
      ald σ 15 256 x5 fun v_2 =>
      if x2 = 0 then
        bd (mT_has v_2 x1 σ) fun v_16 σ_17 =>
        bT_manyOf_94 (bT_manyOf_15 n) x1 x2 x3 x4 x5 v_16 σ_17
      else
        if x2 = 1 then
          bd (mT_settles v_2 σ) fun v_13 σ_14 =>
          if v_13 = x1 then
            bT_manyOf_94 (bT_manyOf_15 n) x1 x2 x3 x4 x5 1 σ_14
          else
            bT_manyOf_94 (bT_manyOf_15 n) x1 x2 x3 x4 x5 0 σ_14
        else
          bd (mT_has v_2 x1 σ) fun v_5 σ_6 =>
          if v_5 = 0 then
            bT_manyOf_93 (bT_manyOf_15 n) x1 x2 x3 x4 x5 σ_6
          else
            bd (mT_unbeaten v_2 σ_6) fun v_8 σ_9 =>
            bd (mT_has v_8 x1 σ_9) fun v_10 σ_11 =>
            if v_10 = 0 then
              bT_manyOf_94 (bT_manyOf_15 n) x1 x2 x3 x4 x5 1 σ_11
            else
              bT_manyOf_93 (bT_manyOf_15 n) x1 x2 x3 x4 x5 σ_11

def mT_manyOf (x1 : Int32) (x2 : Int32) (σ : twS) : Option (Int32 × twS) :=
  bd (mT_setsOut σ) fun _ σ_1 =>
  bd (mT_cases σ_1) fun v_2 σ_3 =>
  bT_manyOf_15 FU x1 x2 0 v_2 0 σ_3

def mT_ruleTold (x1 : Int32) (x2 : Int32) (σ : twS) : Option (Int32 × twS) :=
  if x2 = 3 then
    bd (mT_comparisons x1 σ) fun v_2 σ_3 =>
    some (v_2, σ_3)
  else
  if x2 = 4 then
    bd (mT_of x1 33 σ) fun v_5 σ_6 =>
    some (v_5, σ_6)
  else
  if x2 = 5 then
    bd (mT_overIt x1 σ) fun v_8 σ_9 =>
    some (v_8, σ_9)
  else
    bd (mT_manyOf x1 x2 σ) fun v_10 σ_11 =>
    some (v_10, σ_11)

def bT_rule_28 : Int32 → Int32 → Int32 → Int32 → twS → Option (Int32 × twS) := fun x1 x2 s1 s2 σ =>
  bd (mT_throwsOne_2 s1 s2 σ) fun v_1 σ_2 =>
  if v_1 = 0 then
    bd (mT_ruleTold x1 x2 σ_2) fun v_4 σ_5 =>
    some (v_4, σ_5)
  else
    some (0, σ_2)

def bT_rule_14 : Int32 → Int32 → Int32 → twS → Option (Int32 × twS) := fun x1 x2 s1 σ =>
  bd (mT_in x2 0 5 σ) fun v_1 σ_2 =>
  if v_1 = 0 then
    bT_rule_28 x1 x2 s1 1 σ_2
  else
    bT_rule_28 x1 x2 s1 0 σ_2

def mT_rule (x1 : Int32) (x2 : Int32) (σ : twS) : Option (Int32 × twS) :=
  bd (mT_isRule x1 σ) fun v_1 σ_2 =>
  if v_1 = 0 then
    bT_rule_14 x1 x2 1 σ_2
  else
    bT_rule_14 x1 x2 0 σ_2

def mO_divisor (F : Int32 → Int32 → twS → Option (Int32 × twS)) (x0 : Int32) (x1 : Int32) (σ : twS) : Option (Int32 × twS) :=
  if x1 = 0 then
    some (x0, σ)
  else
    nz x1 <|
    bd (F x1 (x0 - x0 / x1 * x1) σ) fun v_2 σ_3 =>
    some (v_2, σ_3)

def mT_divisor : Nat → Int32 → Int32 → twS → Option (Int32 × twS)
  | 0 => fun _ _ _ => none
  | d + 1 => mO_divisor (mT_divisor d)

def bT_shareTold_23 : Int32 → Int32 → twS → Option (Int32 × twS) := fun x4 s0 σ =>
  bd (mT_divisor DP 27720 x4 σ) fun v_1 σ_2 =>
  nz v_1 <|
  some (s0 / v_1, σ_2)

def mT_shareTold (x1 : Int32) (x2 : Int32) (x3 : Int32) (σ : twS) : Option (Int32 × twS) :=
  bd (mT_of x1 (29 + x2) σ) fun v_1 σ_2 =>
  if x3 = 0 then
    bT_shareTold_23 v_1 v_1 σ_2
  else
    bT_shareTold_23 v_1 27720 σ_2

def bT_share_22 : Int32 → Int32 → Int32 → Int32 → twS → Option (Int32 × twS) := fun x1 x2 x3 s1 σ =>
  bd (mT_throwsOne s1 σ) fun v_1 σ_2 =>
  if v_1 = 0 then
    bd (mT_shareTold x1 x2 x3 σ_2) fun v_4 σ_5 =>
    some (v_4, σ_5)
  else
    some (0, σ_2)

def mT_share (x1 : Int32) (x2 : Int32) (x3 : Int32) (σ : twS) : Option (Int32 × twS) :=
  bd (mT_isRule x1 σ) fun v_1 σ_2 =>
  if v_1 = 0 then
    bT_share_22 x1 x2 x3 1 σ_2
  else
    bd (mT_isHeir x2 σ_2) fun v_4 σ_5 =>
    if v_4 = 0 then
      bT_share_22 x1 x2 x3 1 σ_5
    else
      bT_share_22 x1 x2 x3 0 σ_5

def bT_applies_27 : Int32 → Int32 → Int32 → Int32 → twS → Option (Int32 × twS) := fun x1 x2 s1 s2 σ =>
  bd (mT_throwsOne_2 s1 s2 σ) fun v_1 σ_2 =>
  if v_1 = 0 then
    bd (mT_holds x2 x1 σ_2) fun v_4 σ_5 =>
    if v_4 = 0 then
      rz 0 σ_5
    else
      rz 1 σ_5
  else
    rz 0 σ_2

def bT_applies_14 : Int32 → Int32 → Int32 → twS → Option (Int32 × twS) := fun x1 x2 s1 σ =>
  bd (mT_isRule x2 σ) fun v_1 σ_2 =>
  if v_1 = 0 then
    bT_applies_27 x1 x2 s1 1 σ_2
  else
    bT_applies_27 x1 x2 s1 0 σ_2

def mT_applies (x1 : Int32) (x2 : Int32) (σ : twS) : Option (Int32 × twS) :=
  bd (mT_isCase x1 σ) fun v_1 σ_2 =>
  if v_1 = 0 then
    bT_applies_14 x1 x2 1 σ_2
  else
    bT_applies_14 x1 x2 0 σ_2

def bT_applying_14 : Int32 → Int32 → twS → Option (Int32 × twS) := fun x1 s1 σ =>
  bd (mT_throwsOne s1 σ) fun v_1 σ_2 =>
  if v_1 = 0 then
    bd (mT_setOf x1 σ_2) fun v_4 σ_5 =>
    some (v_4, σ_5)
  else
    some (0, σ_2)

def mT_applying (x1 : Int32) (σ : twS) : Option (Int32 × twS) :=
  bd (mT_isCase x1 σ) fun v_1 σ_2 =>
  if v_1 = 0 then
    bT_applying_14 x1 1 σ_2
  else
    bT_applying_14 x1 0 σ_2

def bT_verdict_14 : Int32 → Int32 → twS → Option (Int32 × twS) := fun x1 s1 σ =>
  bd (mT_throwsOne s1 σ) fun v_1 σ_2 =>
  if v_1 = 0 then
    bd (mT_setOf x1 σ_2) fun v_4 σ_5 =>
    bd (mT_verdictOf v_4 σ_5) fun v_6 σ_7 =>
    some (v_6, σ_7)
  else
    some (0, σ_2)

def mT_verdict (x1 : Int32) (σ : twS) : Option (Int32 × twS) :=
  bd (mT_isCase x1 σ) fun v_1 σ_2 =>
  if v_1 = 0 then
    bT_verdict_14 x1 1 σ_2
  else
    bT_verdict_14 x1 0 σ_2

def bT_settledBy_14 : Int32 → Int32 → twS → Option (Int32 × twS) := fun x1 s1 σ =>
  bd (mT_throwsOne s1 σ) fun v_1 σ_2 =>
  if v_1 = 0 then
    bd (mT_setOf x1 σ_2) fun v_4 σ_5 =>
    bd (mT_settles v_4 σ_5) fun v_6 σ_7 =>
    some (v_6, σ_7)
  else
    some (0, σ_2)

def mT_settledBy (x1 : Int32) (σ : twS) : Option (Int32 × twS) :=
  bd (mT_isCase x1 σ) fun v_1 σ_2 =>
  if v_1 = 0 then
    bT_settledBy_14 x1 1 σ_2
  else
    bT_settledBy_14 x1 0 σ_2

def bT_throwsOne_3_26 : Int32 → Int32 → Int32 → Int32 → twS → Option (Int32 × twS) := fun x1 x2 x3 s1 σ =>
  lt_ (twI σ 13 s1) fun σ_1 =>
  if x1 = 0 then
    if x2 = 0 then
      if x3 = 0 then
        rz 0 σ_1
      else
        rz 1 σ_1
    else
      rz 1 σ_1
  else
    rz 1 σ_1

def mT_throwsOne_3 (x1 : Int32) (x2 : Int32) (x3 : Int32) (σ : twS) : Option (Int32 × twS) :=
  if x1 = 0 then
    if x2 = 0 then
      if x3 = 0 then
        bT_throwsOne_3_26 x1 x2 x3 0 σ
      else
        bT_throwsOne_3_26 x1 x2 x3 3 σ
    else
      bT_throwsOne_3_26 x1 x2 x3 2 σ
  else
    bT_throwsOne_3_26 x1 x2 x3 1 σ

def mT_reason (x1 : Int32) (x2 : Int32) (σ : twS) : Option (Int32 × twS) :=
  bd (mT_unbeaten x1 σ) fun v_1 σ_2 =>
  bd (mT_has x1 x2 σ_2) fun v_3 σ_4 =>
  if v_3 = 0 then
    some (1, σ_4)
  else
    bd (mT_has v_1 x2 σ_4) fun v_6 σ_7 =>
    if v_6 = 0 then
      some (2, σ_7)
    else
      bd (mT_other v_1 x2 σ_7) fun v_9 σ_10 =>
      if v_9 = (-1) then
        bd (mT_settles x1 σ_10) fun v_12 σ_13 =>
        if v_12 = x2 then
          some (0, σ_13)
        else
          some (4, σ_13)
      else
        some (3, σ_10)

def bT_bits_4 : Nat → Int32 → Int32 → twS → Option (Int32 × twS)
  | 0, _, _, _ => none
  | n + 1, x1, x2, σ =>
    if x2 ≤ 0 then
      some (x1, σ)
    else
      lt_ (x1 + (x2 - x2 / 2 * 2)) fun x1_2 =>
      lt_ (x2 / 2) fun x2_3 =>
      (bT_bits_4 n) x1_2 x2_3 σ

def mT_bits (x0 : Int32) (σ : twS) : Option (Int32 × twS) :=
  bT_bits_4 FU 0 x0 σ

def bT_why_41 : Int32 → Int32 → Int32 → Int32 → Int32 → Int32 → twS → Option (Int32 × twS) := fun x1 x2 x3 s1 s2 s3 σ =>
  bd (mT_throwsOne_3 s1 s2 s3 σ) fun v_1 σ_2 =>
  if v_1 = 0 then
    bd (mT_setOf x1 σ_2) fun v_4 σ_5 =>
    bd (mT_reason v_4 x2 σ_5) fun v_6 σ_7 =>
    if x3 = 0 then
      some (v_6, σ_7)
    else
      if v_6 = 1 then
        bd (mT_valueOf x1 0 σ_7) fun v_10 σ_11 =>
        some (v_10, σ_11)
      else
      if v_6 = 2 then
        bd (mT_overIt x2 σ_7) fun v_13 σ_14 =>
        bd (mT_least (v_4 &&& v_13) σ_14) fun v_15 σ_16 =>
        some (v_15, σ_16)
      else
      if v_6 = 3 then
        bd (mT_unbeaten v_4 σ_7) fun v_18 σ_19 =>
        bd (mT_other v_18 x2 σ_19) fun v_20 σ_21 =>
        some (v_20, σ_21)
      else
      if v_6 = 4 then
        bd (mT_settles v_4 σ_7) fun v_23 σ_24 =>
        some (v_23, σ_24)
      else
        bd (mT_bits v_4 σ_7) fun v_25 σ_26 =>
        some (v_25, σ_26)
  else
    some (0, σ_2)

def bT_why_27 : Int32 → Int32 → Int32 → Int32 → Int32 → twS → Option (Int32 × twS) := fun x1 x2 x3 s1 s2 σ =>
  bd (mT_in x3 0 1 σ) fun v_1 σ_2 =>
  if v_1 = 0 then
    bT_why_41 x1 x2 x3 s1 s2 1 σ_2
  else
    bT_why_41 x1 x2 x3 s1 s2 0 σ_2

def bT_why_14 : Int32 → Int32 → Int32 → Int32 → twS → Option (Int32 × twS) := fun x1 x2 x3 s1 σ =>
  bd (mT_isRule x2 σ) fun v_1 σ_2 =>
  if v_1 = 0 then
    bT_why_27 x1 x2 x3 s1 1 σ_2
  else
    bT_why_27 x1 x2 x3 s1 0 σ_2

def mT_why (x1 : Int32) (x2 : Int32) (x3 : Int32) (σ : twS) : Option (Int32 × twS) :=
  bd (mT_isCase x1 σ) fun v_1 σ_2 =>
  if v_1 = 0 then
    bT_why_14 x1 x2 x3 1 σ_2
  else
    bT_why_14 x1 x2 x3 0 σ_2

def bT_example_38 : Nat → Int32 → Int32 → Int32 → Int32 → twS → Option (Int32 × twS)
  | 0, _, _, _, _, _ => none
  | n + 1, x1, x3, x4, x5, σ =>
    if x4 ≤ x5 then
      some ((-1), σ)
    else
      ald σ 15 256 x5 fun v_2 =>
      bd (mT_verdictOf v_2 σ) fun v_3 σ_4 =>
      if v_3 = x1 then
        if x3 = 0 then
          some (x5, σ_4)
        else
          lt_ (x3 + (-1)) fun x3_8 =>
          lt_ (x5 + 1) fun x5_9 =>
          (bT_example_38 n) x1 x3_8 x4 x5_9 σ_4
      else
        lt_ (x5 + 1) fun x5_6 =>
        (bT_example_38 n) x1 x3 x4 x5_6 σ_4

def bT_example_15 : Int32 → Int32 → Int32 → twS → Option (Int32 × twS) := fun x1 x2 s1 σ =>
  bd (mT_throwsOne s1 σ) fun v_1 σ_2 =>
  if v_1 = 0 then
    bd (mT_setsOut σ_2) fun _ σ_4 =>
    bd (mT_cases σ_4) fun v_5 σ_6 =>
    bT_example_38 FU x1 x2 v_5 0 σ_6
  else
    some (0, σ_2)

def mT_example (x1 : Int32) (x2 : Int32) (σ : twS) : Option (Int32 × twS) :=
  bd (mT_in x1 0 3 σ) fun v_1 σ_2 =>
  if v_1 = 0 then
    bT_example_15 x1 x2 1 σ_2
  else
    bT_example_15 x1 x2 0 σ_2

def mT_gaps (x1 : Int32) (σ : twS) : Option (Int32 × twS) :=
  bd (mT_many 1 x1 σ) fun v_1 σ_2 =>
  bd (mT_many 2 x1 σ_2) fun v_3 σ_4 =>
  some (v_1 + v_3, σ_4)

def mT_isClosed (σ : twS) : Option (Int32 × twS) :=
  lt_ (twI σ 13 0) fun σ_1 =>
  bd (mT_setsOut σ_1) fun _ σ_2 =>
  bd (mT_gaps (-1) σ_2) fun v_3 σ_4 =>
  if v_3 = 0 then
    rz 1 σ_4
  else
    rz 0 σ_4

def bT_isWider_45 : Nat → Int32 → Int32 → Int32 → Int32 → Int32 → twS → Option (Int32 × twS)
  | 0, _, _, _, _, _, _ => none
  | n + 1, x1, x2, x3, x4, x5, σ =>
    if x4 ≤ x5 then
      rz x3 σ
    else
      if x3 = 0 then
        lt_ (x5 + 1) fun x5_3 =>
        (bT_isWider_45 n) x1 x2 0 x4 x5_3 σ
      else
        ald σ 15 256 x5 fun v_4 =>
        bd (mT_has v_4 x2 σ) fun v_5 σ_6 =>
        if v_5 = 0 then
          lt_ (x5 + 1) fun x5_8 =>
          (bT_isWider_45 n) x1 x2 1 x4 x5_8 σ_6
        else
          ald σ_6 15 256 x5 fun v_9 =>
          bd (mT_has v_9 x1 σ_6) fun v_10 σ_11 =>
          if v_10 = 0 then
            lt_ (x5 + 1) fun x5_13 =>
            (bT_isWider_45 n) x1 x2 0 x4 x5_13 σ_11
          else
            lt_ (x5 + 1) fun x5_14 =>
            (bT_isWider_45 n) x1 x2 1 x4 x5_14 σ_11

def bT_isWider_22 : Int32 → Int32 → Int32 → twS → Option (Int32 × twS) := fun x1 x2 s1 σ =>
  bd (mT_throwsOne s1 σ) fun v_1 σ_2 =>
  if v_1 = 0 then
    bd (mT_setsOut σ_2) fun _ σ_4 =>
    bd (mT_cases σ_4) fun v_5 σ_6 =>
    bT_isWider_45 FU x1 x2 1 v_5 0 σ_6
  else
    rz 0 σ_2

def mT_isWider (x1 : Int32) (x2 : Int32) (σ : twS) : Option (Int32 × twS) :=
  bd (mT_isRule x1 σ) fun v_1 σ_2 =>
  if v_1 = 0 then
    bT_isWider_22 x1 x2 1 σ_2
  else
    bd (mT_isRule x2 σ_2) fun v_4 σ_5 =>
    if v_4 = 0 then
      bT_isWider_22 x1 x2 1 σ_5
    else
      bT_isWider_22 x1 x2 0 σ_5

def bT_common_45 : Nat → Int32 → Int32 → Int32 → Int32 → Int32 → twS → Option (Int32 × twS)
  | 0, _, _, _, _, _, _ => none
  | n + 1, x1, x2, x3, x4, x5, σ =>
    if x4 ≤ x5 then
      some (x3, σ)
    else
      ald σ 15 256 x5 fun v_2 =>
      bd (mT_has v_2 x1 σ) fun v_3 σ_4 =>
      if v_3 = 0 then
        lt_ (x3 + 0) fun x3_6 =>
        lt_ (x5 + 1) fun x5_7 =>
        (bT_common_45 n) x1 x2 x3_6 x4 x5_7 σ_4
      else
        ald σ_4 15 256 x5 fun v_8 =>
        bd (mT_has v_8 x2 σ_4) fun v_9 σ_10 =>
        if v_9 = 0 then
          lt_ (x3 + 0) fun x3_12 =>
          lt_ (x5 + 1) fun x5_13 =>
          (bT_common_45 n) x1 x2 x3_12 x4 x5_13 σ_10
        else
          lt_ (x3 + 1) fun x3_14 =>
          lt_ (x5 + 1) fun x5_15 =>
          (bT_common_45 n) x1 x2 x3_14 x4 x5_15 σ_10

def bT_common_22 : Int32 → Int32 → Int32 → twS → Option (Int32 × twS) := fun x1 x2 s1 σ =>
  bd (mT_throwsOne s1 σ) fun v_1 σ_2 =>
  if v_1 = 0 then
    bd (mT_setsOut σ_2) fun _ σ_4 =>
    bd (mT_cases σ_4) fun v_5 σ_6 =>
    bT_common_45 FU x1 x2 0 v_5 0 σ_6
  else
    some (0, σ_2)

def mT_common (x1 : Int32) (x2 : Int32) (σ : twS) : Option (Int32 × twS) :=
  bd (mT_isRule x1 σ) fun v_1 σ_2 =>
  if v_1 = 0 then
    bT_common_22 x1 x2 1 σ_2
  else
    bd (mT_isRule x2 σ_2) fun v_4 σ_5 =>
    if v_4 = 0 then
      bT_common_22 x1 x2 1 σ_5
    else
      bT_common_22 x1 x2 0 σ_5

def bT_needed_26 : Nat → Int32 → Int32 → Int32 → twS → Option (Int32 × twS)
  | 0, _, _, _, _ => none
  | n + 1, x1, x2, x3, σ =>
    ald σ 0 358 17 fun v_1 =>
    if v_1 ≤ x3 then
      some (x2, σ)
    else
      bd (mT_gaps x3 σ) fun v_3 σ_4 =>
      bd (mT_many 3 x3 σ_4) fun v_5 σ_6 =>
      if (v_3 + v_5) ≤ x1 then
        lt_ (x2 ||| 0) fun x2_8 =>
        lt_ (x3 + 1) fun x3_9 =>
        (bT_needed_26 n) x1 x2_8 x3_9 σ_6
      else
        lt_ (x2 ||| (1 <<< (x3 &&& 31))) fun x2_10 =>
        lt_ (x3 + 1) fun x3_11 =>
        (bT_needed_26 n) x1 x2_10 x3_11 σ_6

def mT_needed (σ : twS) : Option (Int32 × twS) :=
  lt_ (twI σ 13 0) fun σ_1 =>
  bd (mT_setsOut σ_1) fun _ σ_2 =>
  bd (mT_gaps (-1) σ_2) fun v_3 σ_4 =>
  bd (mT_many 3 (-1) σ_4) fun v_5 σ_6 =>
  lt_ (v_3 + v_5) fun x1_7 =>
  bT_needed_26 FU x1_7 0 0 σ_6

def bT_idle_9 : Nat → Int32 → Int32 → twS → Option (Int32 × twS)
  | 0, _, _, _ => none
  | n + 1, x1, x2, σ =>
    ald σ 0 358 17 fun v_1 =>
    if v_1 ≤ x2 then
      some (x1, σ)
    else
      bd (mT_manyOf x2 1 σ) fun v_3 σ_4 =>
      if v_3 = 0 then
        lt_ (x1 ||| (1 <<< (x2 &&& 31))) fun x1_8 =>
        lt_ (x2 + 1) fun x2_9 =>
        (bT_idle_9 n) x1_8 x2_9 σ_4
      else
        lt_ (x1 ||| 0) fun x1_6 =>
        lt_ (x2 + 1) fun x2_7 =>
        (bT_idle_9 n) x1_6 x2_7 σ_4

def mT_idle (σ : twS) : Option (Int32 × twS) :=
  lt_ (twI σ 13 0) fun σ_1 =>
  bT_idle_9 FU 0 0 σ_1

def bT_gapsWithout_14 : Int32 → Int32 → twS → Option (Int32 × twS) := fun x1 s1 σ =>
  bd (mT_throwsOne s1 σ) fun v_1 σ_2 =>
  if v_1 = 0 then
    bd (mT_setsOut σ_2) fun _ σ_4 =>
    bd (mT_gaps x1 σ_4) fun v_5 σ_6 =>
    some (v_5, σ_6)
  else
    some (0, σ_2)

def mT_gapsWithout (x1 : Int32) (σ : twS) : Option (Int32 × twS) :=
  bd (mT_isRule x1 σ) fun v_1 σ_2 =>
  if v_1 = 0 then
    bT_gapsWithout_14 x1 1 σ_2
  else
    bT_gapsWithout_14 x1 0 σ_2

def bT_clashesIf_67 : Int32 → Int32 → Int32 → Int32 → twS → Option (Int32 × twS) := fun x1 x3 s1 s2 σ =>
  ast σ 0 358 s1 s2 fun σ_1 =>
  bd (mT_many 3 (-1) σ_1) fun v_2 σ_3 =>
  bd (mT_rule0 x1 σ_3) fun v_4 σ_5 =>
  ast σ_5 0 358 (v_4 + 33) x3 fun σ_6 =>
  some (v_2, σ_6)

def bT_clashesIf_22 : Int32 → Int32 → Int32 → twS → Option (Int32 × twS) := fun x1 x2 s1 σ =>
  bd (mT_throwsOne s1 σ) fun v_1 σ_2 =>
  if v_1 = 0 then
    bd (mT_setsOut σ_2) fun _ σ_4 =>
    bd (mT_of x1 33 σ_4) fun v_5 σ_6 =>
    bd (mT_rule0 x1 σ_6) fun v_7 σ_8 =>
    if x1 = x2 then
      bT_clashesIf_67 x1 v_5 (v_7 + 33) v_5 σ_8
    else
      bT_clashesIf_67 x1 v_5 (v_7 + 33) (v_5 ^^^ (1 <<< (x2 &&& 31))) σ_8
  else
    some (0, σ_2)

def mT_clashesIf (x1 : Int32) (x2 : Int32) (σ : twS) : Option (Int32 × twS) :=
  bd (mT_isRule x1 σ) fun v_1 σ_2 =>
  if v_1 = 0 then
    bT_clashesIf_22 x1 x2 1 σ_2
  else
    bd (mT_isRule x2 σ_2) fun v_4 σ_5 =>
    if v_4 = 0 then
      bT_clashesIf_22 x1 x2 1 σ_5
    else
      bT_clashesIf_22 x1 x2 0 σ_5

def bT_gapsWith_44 (k11 : Int32 → Int32 → Int32 → Int32 → Int32 → twS → Option (Int32 × twS)) : Int32 → Int32 → Int32 → Int32 → Int32 → twS → Option (Int32 × twS) := fun x1 x2 x4 x5 s0 σ =>
  bd (mT_valueOf x5 x1 σ) fun v_1 σ_2 =>
  if v_1 = x2 then
    lt_ (s0 + 1) fun x3_6 =>
    lt_ (x5 + 1) fun x5_7 =>
    k11 x1 x2 x3_6 x4 x5_7 σ_2
  else
    lt_ (s0 + 0) fun x3_4 =>
    lt_ (x5 + 1) fun x5_5 =>
    k11 x1 x2 x3_4 x4 x5_5 σ_2

def bT_gapsWith_11 : Nat → Int32 → Int32 → Int32 → Int32 → Int32 → twS → Option (Int32 × twS)
  | 0, _, _, _, _, _, _ => none
  | n + 1, x1, x2, x3, x4, x5, σ =>
    if x4 ≤ x5 then
      some (x3, σ)
    else
      ald σ 15 256 x5 fun v_2 =>
      bd (mT_verdictOf v_2 σ) fun v_3 σ_4 =>
      if v_3 = 1 then
        bT_gapsWith_44 (bT_gapsWith_11 n) x1 x2 x4 x5 x3 σ_4
      else
        if v_3 = 2 then
          bT_gapsWith_44 (bT_gapsWith_11 n) x1 x2 x4 x5 x3 σ_4
        else
          lt_ (x3 + 0) fun x3_7 =>
          lt_ (x5 + 1) fun x5_8 =>
          (bT_gapsWith_11 n) x1 x2 x3_7 x4 x5_8 σ_4

def mT_gapsWith (x1 : Int32) (x2 : Int32) (σ : twS) : Option (Int32 × twS) :=
  bd (mT_cases σ) fun v_1 σ_2 =>
  bT_gapsWith_11 FU x1 x2 0 v_1 0 σ_2

def bT_patch_28 (k15 : Int32 → Int32 → Int32 → twS → Option (Int32 × twS)) : Nat → Int32 → Int32 → Int32 → Int32 → twS → Option (Int32 × twS)
  | 0, _, _, _, _, _ => none
  | n + 1, x1, x2, x3, x4, σ =>
    ald σ 0 358 (1 + x3) fun v_1 =>
    if v_1 ≤ x4 then
      lt_ (x3 + 1) fun x3_3 =>
      k15 x1 x2 x3_3 σ
    else
      bd (mT_gapsWith x3 x4 σ) fun v_4 σ_5 =>
      if v_4 ≤ x2 then
        lt_ (x4 + 1) fun x4_7 =>
        (bT_patch_28 k15 n) x1 x2 x3 x4_7 σ_5
      else
        lt_ ((10 * x3) + x4) fun x1_8 =>
        lt_ (x4 + 1) fun x4_9 =>
        (bT_patch_28 k15 n) x1_8 v_4 x3 x4_9 σ_5

def bT_patch_15 : Nat → Int32 → Int32 → Int32 → twS → Option (Int32 × twS)
  | 0, _, _, _, _ => none
  | n + 1, x1, x2, x3, σ =>
    ald σ 0 358 0 fun v_1 =>
    if v_1 ≤ x3 then
      some (x1, σ)
    else
      bT_patch_28 (bT_patch_15 n) FU x1 x2 x3 0 σ

def mT_patch (σ : twS) : Option (Int32 × twS) :=
  lt_ (twI σ 13 0) fun σ_1 =>
  bd (mT_setsOut σ_1) fun _ σ_2 =>
  bT_patch_15 FU (-1) 0 0 σ_2

def bT_apart_5 : Nat → Int32 → Int32 → Int32 → Int32 → twS → Option (Int32 × twS)
  | 0, _, _, _, _, _ => none
  | n + 1, x1, x2, x3, x4, σ =>
    ald σ 0 358 0 fun v_1 =>
    if v_1 ≤ x4 then
      some (x3, σ)
    else
      bd (mT_valueOf x1 x4 σ) fun v_3 σ_4 =>
      bd (mT_valueOf x2 x4 σ_4) fun v_5 σ_6 =>
      if v_3 = v_5 then
        lt_ (x3 + 0) fun x3_10 =>
        lt_ (x4 + 1) fun x4_11 =>
        (bT_apart_5 n) x1 x2 x3_10 x4_11 σ_6
      else
        lt_ (x3 + 1) fun x3_8 =>
        lt_ (x4 + 1) fun x4_9 =>
        (bT_apart_5 n) x1 x2 x3_8 x4_9 σ_6

def mT_apart (x1 : Int32) (x2 : Int32) (σ : twS) : Option (Int32 × twS) :=
  bT_apart_5 FU x1 x2 0 0 σ

def bT_farFrom_36 : Nat → Int32 → Int32 → Int32 → Int32 → twS → Option (Int32 × twS)
  | 0, _, _, _, _, _ => none
  | n + 1, x1, x2, x3, x4, σ =>
    if x3 ≤ x4 then
      some (x2, σ)
    else
      ald σ 15 256 x4 fun v_2 =>
      bd (mT_settles v_2 σ) fun v_3 σ_4 =>
      if v_3 = x1 then
        ald σ_4 0 358 8 fun v_7 =>
        bd (mT_apart x4 v_7 σ_4) fun v_8 σ_9 =>
        if x2 = (-1) then
          lt_ (x4 + 1) fun x4_13 =>
          (bT_farFrom_36 n) x1 v_8 x3 x4_13 σ_9
        else
          lt_ (if v_8 < x2 then v_8 else x2) fun u_11 =>
          lt_ (x4 + 1) fun x4_12 =>
          (bT_farFrom_36 n) x1 u_11 x3 x4_12 σ_9
      else
        lt_ (x4 + 1) fun x4_6 =>
        (bT_farFrom_36 n) x1 x2 x3 x4_6 σ_4

def bT_farFrom_14 : Int32 → Int32 → twS → Option (Int32 × twS) := fun x1 s1 σ =>
  bd (mT_throwsOne s1 σ) fun v_1 σ_2 =>
  if v_1 = 0 then
    bd (mT_setsOut σ_2) fun _ σ_4 =>
    bd (mT_cases σ_4) fun v_5 σ_6 =>
    bT_farFrom_36 FU x1 (-1) v_5 0 σ_6
  else
    some (0, σ_2)

def mT_farFrom (x1 : Int32) (σ : twS) : Option (Int32 × twS) :=
  bd (mT_isRule x1 σ) fun v_1 σ_2 =>
  if v_1 = 0 then
    bT_farFrom_14 x1 1 σ_2
  else
    bT_farFrom_14 x1 0 σ_2

def bT_gets_41 : Int32 → Int32 → Int32 → Int32 → Int32 → Int32 → twS → Option (Int32 × twS) := fun x1 x2 x3 s1 s2 s3 σ =>
  bd (mT_throwsOne_3 s1 s2 s3 σ) fun v_1 σ_2 =>
  if v_1 = 0 then
    bd (mT_setOf x1 σ_2) fun v_4 σ_5 =>
    bd (mT_settles v_4 σ_5) fun v_6 σ_7 =>
    if v_6 = (-1) then
      some (0, σ_7)
    else
      if x3 = 0 then
        bd (mT_part v_6 x2 σ_7) fun v_12 σ_13 =>
        some (v_12, σ_13)
      else
        bd (mT_duty v_6 x2 σ_7) fun v_10 σ_11 =>
        some (v_10, σ_11)
  else
    some (0, σ_2)

def bT_gets_27 : Int32 → Int32 → Int32 → Int32 → Int32 → twS → Option (Int32 × twS) := fun x1 x2 x3 s1 s2 σ =>
  bd (mT_in x3 0 1 σ) fun v_1 σ_2 =>
  if v_1 = 0 then
    bT_gets_41 x1 x2 x3 s1 s2 1 σ_2
  else
    bT_gets_41 x1 x2 x3 s1 s2 0 σ_2

def bT_gets_14 : Int32 → Int32 → Int32 → Int32 → twS → Option (Int32 × twS) := fun x1 x2 x3 s1 σ =>
  bd (mT_isHeir x2 σ) fun v_1 σ_2 =>
  if v_1 = 0 then
    bT_gets_27 x1 x2 x3 s1 1 σ_2
  else
    bT_gets_27 x1 x2 x3 s1 0 σ_2

def mT_gets (x1 : Int32) (x2 : Int32) (x3 : Int32) (σ : twS) : Option (Int32 × twS) :=
  bd (mT_isCase x1 σ) fun v_1 σ_2 =>
  if v_1 = 0 then
    bT_gets_14 x1 x2 x3 1 σ_2
  else
    bT_gets_14 x1 x2 x3 0 σ_2

def bT_duties0_4 : Nat → Int32 → Int32 → Int32 → twS → Option (Int32 × twS)
  | 0, _, _, _, _ => none
  | n + 1, x1, x2, x3, σ =>
    ald σ 0 358 5 fun v_1 =>
    if v_1 ≤ x3 then
      some (x2, σ)
    else
      bd (mT_duty x1 x3 σ) fun v_3 σ_4 =>
      lt_ (x2 + v_3) fun x2_5 =>
      lt_ (x3 + 1) fun x3_6 =>
      (bT_duties0_4 n) x1 x2_5 x3_6 σ_4

def mT_duties0 (x1 : Int32) (σ : twS) : Option (Int32 × twS) :=
  bT_duties0_4 FU x1 0 0 σ

def bT_duties_14 : Int32 → Int32 → twS → Option (Int32 × twS) := fun x1 s1 σ =>
  bd (mT_throwsOne s1 σ) fun v_1 σ_2 =>
  if v_1 = 0 then
    bd (mT_setOf x1 σ_2) fun v_4 σ_5 =>
    bd (mT_settles v_4 σ_5) fun v_6 σ_7 =>
    if v_6 = (-1) then
      some (0, σ_7)
    else
      bd (mT_duties0 v_6 σ_7) fun v_9 σ_10 =>
      some (v_9, σ_10)
  else
    some (0, σ_2)

def mT_duties (x1 : Int32) (σ : twS) : Option (Int32 × twS) :=
  bd (mT_isCase x1 σ) fun v_1 σ_2 =>
  if v_1 = 0 then
    bT_duties_14 x1 1 σ_2
  else
    bT_duties_14 x1 0 σ_2

def bT_dearest_21 : Nat → Int32 → Int32 → Int32 → Int32 → twS → Option (Int32 × twS)
  | 0, _, _, _, _, _ => none
  | n + 1, x1, x2, x3, x4, σ =>
    if x3 ≤ x4 then
      some (x1, σ)
    else
      ald σ 15 256 x4 fun v_2 =>
      bd (mT_settles v_2 σ) fun v_3 σ_4 =>
      if v_3 = (-1) then
        lt_ (x4 + 1) fun x4_6 =>
        (bT_dearest_21 n) x1 x2 x3 x4_6 σ_4
      else
        bd (mT_duties0 v_3 σ_4) fun v_7 σ_8 =>
        if v_7 ≤ x2 then
          lt_ (x4 + 1) fun x4_10 =>
          (bT_dearest_21 n) x1 x2 x3 x4_10 σ_8
        else
          bd (mT_duties0 v_3 σ_8) fun v_11 σ_12 =>
          lt_ (x4 + 1) fun x4_13 =>
          (bT_dearest_21 n) x4 v_11 x3 x4_13 σ_12

def mT_dearest (σ : twS) : Option (Int32 × twS) :=
  lt_ (twI σ 13 0) fun σ_1 =>
  bd (mT_setsOut σ_1) fun _ σ_2 =>
  bd (mT_cases σ_2) fun v_3 σ_4 =>
  bT_dearest_21 FU (-1) (-1) v_3 0 σ_4

def bT_gap_58 (k18 : Int32 → Int32 → Int32 → twS → Option (Int32 × twS)) : Nat → Int32 → Int32 → Int32 → Int32 → Int32 → twS → Option (Int32 × twS)
  | 0, _, _, _, _, _, _ => none
  | n + 1, x1, x2, x3, x4, x5, σ =>
    ald σ 0 358 5 fun v_1 =>
    if v_1 ≤ x5 then
      lt_ (x3 + 1) fun x3_3 =>
      k18 x1 x2 x3_3 σ
    else
      bd (mT_part x4 x5 σ) fun v_4 σ_5 =>
      lt_ (x1 - v_4) fun x1_6 =>
      lt_ (x5 + 1) fun x5_7 =>
      (bT_gap_58 k18 n) x1_6 x2 x3 x4 x5_7 σ_5

def bT_gap_18 : Nat → Int32 → Int32 → Int32 → twS → Option (Int32 × twS)
  | 0, _, _, _, _ => none
  | n + 1, x1, x2, x3, σ =>
    if x2 ≤ x3 then
      some (x1, σ)
    else
      ald σ 15 256 x3 fun v_2 =>
      bd (mT_settles v_2 σ) fun v_3 σ_4 =>
      if v_3 = (-1) then
        lt_ (x1 + 0) fun x1_8 =>
        bT_gap_58 (bT_gap_18 n) FU x1_8 x2 x3 v_3 0 σ_4
      else
        ald σ_4 0 358 7 fun v_6 =>
        lt_ (x1 + v_6) fun x1_7 =>
        bT_gap_58 (bT_gap_18 n) FU x1_7 x2 x3 v_3 0 σ_4

def mT_gap (σ : twS) : Option (Int32 × twS) :=
  lt_ (twI σ 13 0) fun σ_1 =>
  bd (mT_setsOut σ_1) fun _ σ_2 =>
  bd (mT_cases σ_2) fun v_3 σ_4 =>
  bT_gap_18 FU 0 v_3 0 σ_4

def mT_settledShare (σ : twS) : Option (UInt32 × twS) :=
  lt_ (twI σ 13 0) fun σ_1 =>
  bd (mT_setsOut σ_1) fun _ σ_2 =>
  bd (mT_many 0 (-1) σ_2) fun v_3 σ_4 =>
  bd (mT_cases σ_4) fun v_5 σ_6 =>
  nf32 (FP.fdiv (FP.i2f v_3) (FP.i2f v_5)) <|
  some (FP.fdiv (FP.i2f v_3) (FP.i2f v_5), σ_6)

def bT_meanDuties_57 (k21 : Int32 → Int32 → Int32 → Int32 → twS → Option (UInt64 × twS)) : Int32 → Int32 → Int32 → Int32 → Int32 → Int32 → twS → Option (UInt64 × twS) := fun x2 x3 x4 x5 s0 s1 σ =>
  lt_ (s0 + s1) fun x1_1 =>
  if x5 = (-1) then
    lt_ (x2 + 0) fun x2_5 =>
    lt_ (x4 + 1) fun x4_6 =>
    k21 x1_1 x2_5 x3 x4_6 σ
  else
    lt_ (x2 + 1) fun x2_3 =>
    lt_ (x4 + 1) fun x4_4 =>
    k21 x1_1 x2_3 x3 x4_4 σ

def bT_meanDuties_21 : Nat → Int32 → Int32 → Int32 → Int32 → twS → Option (UInt64 × twS)
  | 0, _, _, _, _, _ => none
  | n + 1, x1, x2, x3, x4, σ =>
    if x3 ≤ x4 then
      if x2 = 0 then
        some (FP.dconst0, σ)
      else
        nf64 (FP.ddiv (FP.i2d x1) (FP.i2d x2)) <|
        some (FP.ddiv (FP.i2d x1) (FP.i2d x2), σ)
    else
      ald σ 15 256 x4 fun v_3 =>
      bd (mT_settles v_3 σ) fun v_4 σ_5 =>
      if v_4 = (-1) then
        bT_meanDuties_57 (bT_meanDuties_21 n) x2 x3 x4 v_4 x1 0 σ_5
      else
        bd (mT_duties0 v_4 σ_5) fun v_7 σ_8 =>
        bT_meanDuties_57 (bT_meanDuties_21 n) x2 x3 x4 v_4 x1 v_7 σ_8

def mT_meanDuties (σ : twS) : Option (UInt64 × twS) :=
  lt_ (twI σ 13 0) fun σ_1 =>
  bd (mT_setsOut σ_1) fun _ σ_2 =>
  bd (mT_cases σ_2) fun v_3 σ_4 =>
  bT_meanDuties_21 FU 0 0 v_3 0 σ_4

def mT_write (x1 : Int32) (σ : twS) : Option (Int32 × twS) :=
  ast σ 11 600 (σ.2 12) (vp_nar .char ((x1.toUInt32 % 65536).toInt32)) fun σ_1 =>
  lt_ (twI σ_1 12 ((σ_1.2 12) + 1)) fun σ_2 =>
  some (0, σ_2)

def bT_writeToken_15 (t1 : List Int32) : Nat → Int32 → twS → Option (Int32 × twS)
  | 0, _, _ => none
  | n + 1, x2, σ =>
    if (nI t1.length) ≤ x2 then
      some (0, σ)
    else
      chA t1 x2 fun v_2 =>
      bd (mT_write v_2 σ) fun _ σ_3 =>
      lt_ (x2 + 1) fun x2_4 =>
      (bT_writeToken_15 t1 n) x2_4 σ_3

def mT_writeToken (t1 : List Int32) (σ : twS) : Option (Int32 × twS) :=
  if (σ.2 12) ≤ 0 then
    bT_writeToken_15 t1 FU 0 σ
  else
    bd (mT_write 32 σ) fun _ σ_2 =>
    bT_writeToken_15 t1 FU 0 σ_2

def bT_writeNumber_14 (F : Int32 → twS → Option (Int32 × twS)) : Int32 → twS → Option (Int32 × twS) := fun x1 σ =>
  bd (mT_write (48 + (x1 - x1 / 10 * 10)) σ) fun _ σ_1 =>
  some (0, σ_1)

def mO_writeNumber (F : Int32 → twS → Option (Int32 × twS)) (x1 : Int32) (σ : twS) : Option (Int32 × twS) :=
  if x1 ≤ 9 then
    bT_writeNumber_14 F x1 σ
  else
    bd (F (x1 / 10) σ) fun _ σ_2 =>
    bT_writeNumber_14 F x1 σ_2

def mT_writeNumber : Nat → Int32 → twS → Option (Int32 × twS)
  | 0 => fun _ _ => none
  | d + 1 => mO_writeNumber (mT_writeNumber d)

def mT_writeCompare (x1 : Int32) (σ : twS) : Option (Int32 × twS) :=
  lt_ (x1 - 10) fun x2_1 =>
  bd (mT_writeToken tS_370 σ) fun _ σ_2 =>
  bd (mT_write (97 + (x2_1 / 16)) σ_2) fun _ σ_3 =>
  if ((x2_1 / 4) - (x2_1 / 4) / 4 * 4) = 0 then
    bd (mT_writeToken tS_375 σ_3) fun _ σ_12 =>
    bd (mT_writeToken tS_370 σ_12) fun _ σ_13 =>
    bd (mT_writeNumber DP (x2_1 - x2_1 / 4 * 4) σ_13) fun _ σ_14 =>
    some (0, σ_14)
  else
    if ((x2_1 / 4) - (x2_1 / 4) / 4 * 4) = 1 then
      bd (mT_writeToken tS_377 σ_3) fun _ σ_9 =>
      bd (mT_writeToken tS_370 σ_9) fun _ σ_10 =>
      bd (mT_writeNumber DP (x2_1 - x2_1 / 4 * 4) σ_10) fun _ σ_11 =>
      some (0, σ_11)
    else
      bd (mT_writeToken tS_379 σ_3) fun _ σ_6 =>
      bd (mT_writeToken tS_370 σ_6) fun _ σ_7 =>
      bd (mT_writeNumber DP (x2_1 - x2_1 / 4 * 4) σ_7) fun _ σ_8 =>
      some (0, σ_8)

def mO_beginOf (F : Int32 → Int32 → twS → Option (Int32 × twS)) (x1 : Int32) (x2 : Int32) (σ : twS) : Option (Int32 × twS) :=
  bd (mT_of x1 (1 + x2) σ) fun v_1 σ_2 =>
  if v_1 < 4 then
    bd (F x1 (x2 - 1) σ_2) fun v_4 σ_5 =>
    if v_1 = 1 then
      some (v_4, σ_5)
    else
      bd (F x1 (v_4 - 1) σ_5) fun v_7 σ_8 =>
      some (v_7, σ_8)
  else
    some (x2, σ_2)

def mT_beginOf : Nat → Int32 → Int32 → twS → Option (Int32 × twS)
  | 0 => fun _ _ _ => none
  | d + 1 => mO_beginOf (mT_beginOf d)

def bT_writePart_84 (F : Int32 → Int32 → Int32 → twS → Option (Int32 × twS)) : Int32 → Int32 → Int32 → Int32 → twS → Option (Int32 × twS) := fun x1 x2 x4 x5 σ =>
  bd (mT_beginOf DP x1 (x2 - 1) σ) fun v_1 σ_2 =>
  bd (F x1 (v_1 - 1) x4 σ_2) fun _ σ_3 =>
  if x4 = 2 then
    bd (mT_writeToken tS_210 σ_3) fun _ σ_9 =>
    bd (F x1 (x2 - 1) x4 σ_9) fun _ σ_10 =>
    if x5 = 0 then
      some (0, σ_10)
    else
      bd (mT_writeToken tS_390 σ_10) fun _ σ_12 =>
      some (0, σ_12)
  else
    bd (mT_writeToken tS_215 σ_3) fun _ σ_5 =>
    bd (F x1 (x2 - 1) x4 σ_5) fun _ σ_6 =>
    if x5 = 0 then
      some (0, σ_6)
    else
      bd (mT_writeToken tS_390 σ_6) fun _ σ_8 =>
      some (0, σ_8)

def bT_writePart_70 (F : Int32 → Int32 → Int32 → twS → Option (Int32 × twS)) : Int32 → Int32 → Int32 → Int32 → twS → Option (Int32 × twS) := fun x1 x2 x4 s0 σ =>
  if s0 = 0 then
    bT_writePart_84 F x1 x2 x4 s0 σ
  else
    bd (mT_writeToken tS_388 σ) fun _ σ_2 =>
    bT_writePart_84 F x1 x2 x4 s0 σ_2

def mO_writePart (F : Int32 → Int32 → Int32 → twS → Option (Int32 × twS)) (x1 : Int32) (x2 : Int32) (x3 : Int32) (σ : twS) : Option (Int32 × twS) :=
  bd (mT_of x1 (1 + x2) σ) fun v_1 σ_2 =>
  if v_1 < 10 then
    if v_1 = 4 then
      bd (mT_writeToken tS_205 σ_2) fun _ σ_9 =>
      some (0, σ_9)
    else
      if v_1 = 1 then
        bd (mT_writeToken tS_188 σ_2) fun _ σ_7 =>
        bd (F x1 (x2 - 1) 1 σ_7) fun _ σ_8 =>
        some (0, σ_8)
      else
        if v_1 ≤ x3 then
          bT_writePart_70 F x1 x2 v_1 0 σ_2
        else
          bT_writePart_70 F x1 x2 v_1 1 σ_2
  else
    bd (mT_writeCompare v_1 σ_2) fun _ σ_10 =>
    some (0, σ_10)

def mT_writePart : Nat → Int32 → Int32 → Int32 → twS → Option (Int32 × twS)
  | 0 => fun _ _ _ _ => none
  | d + 1 => mO_writePart (mT_writePart d)

def bT_writeParts_39 (k4 : Int32 → Int32 → Int32 → twS → Option (Int32 × twS)) : Int32 → Int32 → twS → Option (Int32 × twS) := fun x1 x3 σ =>
  bd (mT_writeToken tS_370 σ) fun _ σ_1 =>
  bd (mT_writeNumber DP x3 σ_1) fun _ σ_2 =>
  bd (mT_writeToken tS_370 σ_2) fun _ σ_3 =>
  bd (mT_shareTold x1 x3 0 σ_3) fun v_4 σ_5 =>
  bd (mT_writeNumber DP v_4 σ_5) fun _ σ_6 =>
  bd (mT_write 47 σ_6) fun _ σ_7 =>
  bd (mT_shareTold x1 x3 1 σ_7) fun v_8 σ_9 =>
  bd (mT_writeNumber DP v_8 σ_9) fun _ σ_10 =>
  lt_ (x3 + 1) fun x3_11 =>
  k4 x1 1 x3_11 σ_10

def bT_writeParts_4 : Nat → Int32 → Int32 → Int32 → twS → Option (Int32 × twS)
  | 0, _, _, _, _ => none
  | n + 1, x1, x2, x3, σ =>
    ald σ 0 358 5 fun v_1 =>
    if v_1 ≤ x3 then
      if x2 = 0 then
        bd (mT_writeToken tS_219 σ) fun _ σ_4 =>
        some (0, σ_4)
      else
        some (0, σ)
    else
      bd (mT_of x1 (29 + x3) σ) fun v_5 σ_6 =>
      if v_5 = 0 then
        lt_ (x3 + 1) fun x3_10 =>
        (bT_writeParts_4 n) x1 x2 x3_10 σ_6
      else
        if x2 = 0 then
          bT_writeParts_39 (bT_writeParts_4 n) x1 x3 σ_6
        else
          bd (mT_write 44 σ_6) fun _ σ_9 =>
          bT_writeParts_39 (bT_writeParts_4 n) x1 x3 σ_9

def mT_writeParts (x1 : Int32) (σ : twS) : Option (Int32 × twS) :=
  bT_writeParts_4 FU x1 0 0 σ

def bT_writeRule_71 : Nat → Int32 → Int32 → twS → Option (Int32 × twS)
  | 0, _, _, _ => none
  | n + 1, x1, x2, σ =>
    ald σ 0 358 17 fun v_1 =>
    if v_1 ≤ x2 then
      some (σ.2 12, σ)
    else
      bd (mT_of x1 33 σ) fun v_3 σ_4 =>
      bd (mT_has v_3 x2 σ_4) fun v_5 σ_6 =>
      if v_5 = 0 then
        lt_ (x2 + 1) fun x2_8 =>
        (bT_writeRule_71 n) x1 x2_8 σ_6
      else
        bd (mT_writeToken tS_370 σ_6) fun _ σ_9 =>
        bd (mT_writeNumber DP x2 σ_9) fun _ σ_10 =>
        lt_ (x2 + 1) fun x2_11 =>
        (bT_writeRule_71 n) x1 x2_11 σ_10

def bT_writeRule_14 : Int32 → Int32 → twS → Option (Int32 × twS) := fun x1 s1 σ =>
  bd (mT_throwsOne s1 σ) fun v_1 σ_2 =>
  if v_1 = 0 then
    lt_ (twI σ_2 12 0) fun σ_4 =>
    bd (mT_of x1 0 σ_4) fun v_5 σ_6 =>
    bd (mT_writePart DP x1 (v_5 - 1) 9 σ_6) fun _ σ_7 =>
    bd (mT_writeToken tS_226 σ_7) fun _ σ_8 =>
    bd (mT_writeParts x1 σ_8) fun _ σ_9 =>
    bd (mT_of x1 33 σ_9) fun v_10 σ_11 =>
    if v_10 = 0 then
      bT_writeRule_71 FU x1 0 σ_11
    else
      bd (mT_writeToken tS_224 σ_11) fun _ σ_13 =>
      bT_writeRule_71 FU x1 0 σ_13
  else
    some (0, σ_2)

def mT_writeRule (x1 : Int32) (σ : twS) : Option (Int32 × twS) :=
  bd (mT_isRule x1 σ) fun v_1 σ_2 =>
  if v_1 = 0 then
    bT_writeRule_14 x1 1 σ_2
  else
    bT_writeRule_14 x1 0 σ_2

def bT_writeVerdicts_73 (k21 : Int32 → Int32 → twS → Option (Int32 × twS)) : Int32 → Int32 → Int32 → twS → Option (Int32 × twS) := fun x1 x2 s1 σ =>
  bd (mT_write s1 σ) fun _ σ_1 =>
  lt_ (x2 + 1) fun x2_2 =>
  k21 x1 x2_2 σ_1

def bT_writeVerdicts_21 : Nat → Int32 → Int32 → twS → Option (Int32 × twS)
  | 0, _, _, _ => none
  | n + 1, x1, x2, σ =>
    if x1 ≤ x2 then
      some (σ.2 12, σ)
    else
      ald σ 15 256 x2 fun v_2 =>
      bd (mT_verdictOf v_2 σ) fun v_3 σ_4 =>
      if v_3 = 0 then
        ald σ_4 15 256 x2 fun v_7 =>
        bd (mT_settles v_7 σ_4) fun v_8 σ_9 =>
        bT_writeVerdicts_73 (bT_writeVerdicts_21 n) x1 x2 (48 + (v_8 - v_8 / 10 * 10)) σ_9
      else
        if v_3 = 3 then
          bT_writeVerdicts_73 (bT_writeVerdicts_21 n) x1 x2 33 σ_4
        else
          bT_writeVerdicts_73 (bT_writeVerdicts_21 n) x1 x2 63 σ_4

def mT_writeVerdicts (σ : twS) : Option (Int32 × twS) :=
  lt_ (twI σ 13 0) fun σ_1 =>
  bd (mT_setsOut σ_1) fun _ σ_2 =>
  lt_ (twI σ_2 12 0) fun σ_3 =>
  bd (mT_cases σ_3) fun v_4 σ_5 =>
  bT_writeVerdicts_21 FU v_4 0 σ_5

def mT_reportAt (x1 : Int32) (σ : twS) : Option (Int32 × twS) :=
  lt_ (twI σ 13 0) fun σ_1 =>
  bd (mT_in x1 0 ((σ_1.2 12) - 1) σ_1) fun v_2 σ_3 =>
  if v_2 = 0 then
    rc 0 σ_3
  else
    ald σ_3 11 600 x1 fun v_5 =>
    rc v_5 σ_3

def bT_begins_2 : Nat → Int32 → twS → Option (Int32 × twS)
  | 0, _, _ => none
  | n + 1, x1, σ =>
    if 358 ≤ x1 then
      some (0, σ)
    else
      ald σ 0 358 x1 fun v_2 =>
      ast σ 1 358 x1 v_2 fun σ_3 =>
      lt_ (x1 + 1) fun x1_4 =>
      (bT_begins_2 n) x1_4 σ_3

def mT_begins (σ : twS) : Option (Int32 × twS) :=
  bT_begins_2 FU 0 σ

def bT_remember_54 : Nat → Int32 → twS → Option (Int32 × twS)
  | 0, _, _ => none
  | n + 1, x1, σ =>
    if 358 ≤ x1 then
      lt_ (twI σ 5 ((σ.2 5) + 1)) fun σ_2 =>
      some (0, σ_2)
    else
      ald σ 1 358 x1 fun v_3 =>
      ast σ 3 2864 ((358 * (σ.2 5)) + x1) v_3 fun σ_4 =>
      lt_ (x1 + 1) fun x1_5 =>
      (bT_remember_54 n) x1_5 σ_4

def bT_remember_13 : Nat → Int32 → twS → Option (Int32 × twS)
  | 0, _, _ => none
  | n + 1, x1, σ =>
    if 2864 ≤ x1 then
      lt_ (twI σ 5 ((σ.2 5) - 1)) fun σ_2 =>
      bT_remember_54 FU 0 σ_2
    else
      ald σ 3 2864 x1 fun v_3 =>
      ast σ 3 2864 (x1 - 358) v_3 fun σ_4 =>
      lt_ (x1 + 1) fun x1_5 =>
      (bT_remember_13 n) x1_5 σ_4

def mT_remember (σ : twS) : Option (Int32 × twS) :=
  if (σ.2 5) = 8 then
    bT_remember_13 FU 358 σ
  else
    bT_remember_54 FU 0 σ

def bT_addRule_86 : Nat → Int32 → twS → Option (Int32 × twS)
  | 0, _, _ => none
  | n + 1, x2, σ =>
    if 358 ≤ x2 then
      some ((-2) - (σ.2 20), σ)
    else
      ald σ 1 358 x2 fun v_2 =>
      ast σ 0 358 x2 v_2 fun σ_3 =>
      lt_ (x2 + 1) fun x2_4 =>
      (bT_addRule_86 n) x2_4 σ_3

def bT_addRule_78 : twS → Option (Int32 × twS) := fun σ =>
  bd (mT_fail 1 σ) fun v_1 σ_2 =>
  bT_addRule_86 FU 0 σ_2

def bT_addRule_18 : Int32 → Int32 → twS → Option (Int32 × twS) := fun x1 s1 σ =>
  bd (mT_throwsOne s1 σ) fun v_1 σ_2 =>
  if v_1 = 0 then
    bd (mT_takes x1 σ_2) fun _ σ_4 =>
    ald σ_4 0 358 17 fun v_5 =>
    if v_5 = 10 then
      some ((-6), σ_4)
    else
      bd (mT_begins σ_4) fun _ σ_7 =>
      lt_ (twI σ_7 20 0) fun σ_8 =>
      lt_ (twI σ_8 18 0) fun σ_9 =>
      bd (mT_next σ_9) fun _ σ_10 =>
      bd (mT_readsRule σ_10) fun v_11 σ_12 =>
      if v_11 = 0 then
        bT_addRule_78 σ_12
      else
        if (σ_12.2 16) = 0 then
          ald σ_12 0 358 17 fun v_15 =>
          ast σ_12 0 358 17 (v_15 + 1) fun σ_16 =>
          bd (mT_remember σ_16) fun _ σ_17 =>
          ald σ_17 0 358 17 fun v_18 =>
          some (v_18 - 1, σ_17)
        else
          bT_addRule_78 σ_12
  else
    some (0, σ_2)

def mT_addRule (x1 : Int32) (σ : twS) : Option (Int32 × twS) :=
  bd (mT_in x1 0 (σ.2 9) σ) fun v_1 σ_2 =>
  if v_1 = 0 then
    bT_addRule_18 x1 1 σ_2
  else
    bT_addRule_18 x1 0 σ_2

def mT_without (x0 : Int32) (x1 : Int32) (σ : twS) : Option (Int32 × twS) :=
  some ((x0 &&& ((1 <<< (x1 &&& 31)) - 1)) ||| ((x0 >>> ((x1 + 1) &&& 31)) <<< (x1 &&& 31)), σ)

def bT_dropRule_66 (k31 : Int32 → Int32 → twS → Option (Int32 × twS)) : Int32 → Int32 → Int32 → Int32 → twS → Option (Int32 × twS) := fun x1 x2 s1 s2 σ =>
  ast σ 0 358 s1 s2 fun σ_1 =>
  lt_ (x2 + 1) fun x2_2 =>
  k31 x1 x2_2 σ_1

def bT_dropRule_86 : Nat → Int32 → Int32 → twS → Option (Int32 × twS)
  | 0, _, _, _ => none
  | n + 1, x1, x2, σ =>
    ald σ 0 358 17 fun v_1 =>
    if v_1 ≤ x2 then
      bd (mT_remember σ) fun _ σ_3 =>
      ald σ_3 0 358 17 fun v_4 =>
      some (v_4, σ_3)
    else
      bd (mT_rule0 x2 σ) fun v_5 σ_6 =>
      bd (mT_of x2 33 σ_6) fun v_7 σ_8 =>
      bd (mT_without v_7 x1 σ_8) fun v_9 σ_10 =>
      ast σ_10 0 358 (v_5 + 33) v_9 fun σ_11 =>
      lt_ (x2 + 1) fun x2_12 =>
      (bT_dropRule_86 n) x1 x2_12 σ_11

def bT_dropRule_31 : Nat → Int32 → Int32 → twS → Option (Int32 × twS)
  | 0, _, _, _ => none
  | n + 1, x1, x2, σ =>
    if 358 ≤ x2 then
      ald σ 0 358 17 fun v_2 =>
      ast σ 0 358 17 (v_2 - 1) fun σ_3 =>
      bT_dropRule_86 FU x1 0 σ_3
    else
      if 358 ≤ (x2 + 34) then
        bT_dropRule_66 (bT_dropRule_31 n) x1 x2 x2 0 σ
      else
        ald σ 0 358 (x2 + 34) fun v_5 =>
        bT_dropRule_66 (bT_dropRule_31 n) x1 x2 x2 v_5 σ

def bT_dropRule_14 : Int32 → Int32 → twS → Option (Int32 × twS) := fun x1 s1 σ =>
  bd (mT_throwsOne s1 σ) fun v_1 σ_2 =>
  if v_1 = 0 then
    bd (mT_begins σ_2) fun _ σ_4 =>
    bd (mT_rule0 x1 σ_4) fun v_5 σ_6 =>
    bT_dropRule_31 FU x1 v_5 σ_6
  else
    some (0, σ_2)

def mT_dropRule (x1 : Int32) (σ : twS) : Option (Int32 × twS) :=
  bd (mT_isRule x1 σ) fun v_1 σ_2 =>
  if v_1 = 0 then
    bT_dropRule_14 x1 1 σ_2
  else
    bT_dropRule_14 x1 0 σ_2

def bT_setOver_82 : Int32 → Int32 → Int32 → twS → Option (Int32 × twS) := fun x1 s1 s2 σ =>
  ast σ 0 358 s1 s2 fun σ_1 =>
  bd (mT_remember σ_1) fun _ σ_2 =>
  bd (mT_of x1 33 σ_2) fun v_3 σ_4 =>
  bd (mT_bits v_3 σ_4) fun v_5 σ_6 =>
  some (v_5, σ_6)

def bT_setOver_22 : Int32 → Int32 → Int32 → Int32 → twS → Option (Int32 × twS) := fun x1 x2 x3 s1 σ =>
  bd (mT_throwsOne s1 σ) fun v_1 σ_2 =>
  if v_1 = 0 then
    if x1 = x2 then
      some ((-1), σ_2)
    else
      bd (mT_begins σ_2) fun _ σ_5 =>
      bd (mT_of x1 33 σ_5) fun v_6 σ_7 =>
      lt_ (v_6 &&& ((1 <<< (x2 &&& 31)) ^^^ (-1))) fun x4_8 =>
      bd (mT_rule0 x1 σ_7) fun v_9 σ_10 =>
      if x3 = 0 then
        bT_setOver_82 x1 (v_9 + 33) x4_8 σ_10
      else
        bT_setOver_82 x1 (v_9 + 33) (x4_8 ||| (1 <<< (x2 &&& 31))) σ_10
  else
    some (0, σ_2)

def mT_setOver (x1 : Int32) (x2 : Int32) (x3 : Int32) (σ : twS) : Option (Int32 × twS) :=
  bd (mT_isRule x1 σ) fun v_1 σ_2 =>
  if v_1 = 0 then
    bT_setOver_22 x1 x2 x3 1 σ_2
  else
    bd (mT_isRule x2 σ_2) fun v_4 σ_5 =>
    if v_4 = 0 then
      bT_setOver_22 x1 x2 x3 1 σ_5
    else
      bT_setOver_22 x1 x2 x3 0 σ_5

def bT_sharesOf_4 : Nat → Int32 → Int32 → Int32 → twS → Option (Int32 × twS)
  | 0, _, _, _, _ => none
  | n + 1, x1, x2, x3, σ =>
    if 4 ≤ x3 then
      some (x2, σ)
    else
      bd (mT_of x1 (29 + x3) σ) fun v_2 σ_3 =>
      lt_ (x2 + v_2) fun x2_4 =>
      lt_ (x3 + 1) fun x3_5 =>
      (bT_sharesOf_4 n) x1 x2_4 x3_5 σ_3

def mT_sharesOf (x1 : Int32) (σ : twS) : Option (Int32 × twS) :=
  bT_sharesOf_4 FU x1 0 0 σ

def bT_setShare_122 : Nat → Int32 → Int32 → Int32 → twS → Option (Int32 × twS)
  | 0, _, _, _, _ => none
  | n + 1, x1, x6, x7, σ =>
    if 4 ≤ x7 then
      some (x6, σ)
    else
      bd (mT_of x1 (29 + x7) σ) fun v_2 σ_3 =>
      if v_2 ≤ 0 then
        lt_ (x6 + 0) fun x6_5 =>
        lt_ (x7 + 1) fun x7_6 =>
        (bT_setShare_122 n) x1 x6_5 x7_6 σ_3
      else
        lt_ (x6 + 1) fun x6_7 =>
        lt_ (x7 + 1) fun x7_8 =>
        (bT_setShare_122 n) x1 x6_7 x7_8 σ_3

def bT_setShare_48 : Int32 → Int32 → Int32 → Int32 → Int32 → Int32 → twS → Option (Int32 × twS) := fun x1 x2 x3 x4 s1 s2 σ =>
  bd (mT_throwsOne_2 s1 s2 σ) fun v_1 σ_2 =>
  if v_1 = 0 then
    nz x4 <|
    lt_ ((x3 * 27720) / x4) fun x5_4 =>
    bd (mT_sharesOf x1 σ_2) fun v_5 σ_6 =>
    bd (mT_of x1 (29 + x2) σ_6) fun v_7 σ_8 =>
    if ((v_5 - v_7) + x5_4) ≤ 27720 then
      bd (mT_begins σ_8) fun _ σ_10 =>
      bd (mT_rule0 x1 σ_10) fun v_11 σ_12 =>
      ast σ_12 0 358 ((v_11 + 29) + x2) x5_4 fun σ_13 =>
      bd (mT_remember σ_13) fun _ σ_14 =>
      bT_setShare_122 FU x1 0 0 σ_14
    else
      some ((-1), σ_8)
  else
    some (0, σ_2)

def bT_setShare_22 : Int32 → Int32 → Int32 → Int32 → Int32 → twS → Option (Int32 × twS) := fun x1 x2 x3 x4 s1 σ =>
  bd (mT_in x3 0 12 σ) fun v_1 σ_2 =>
  if v_1 = 0 then
    bT_setShare_48 x1 x2 x3 x4 s1 1 σ_2
  else
    bd (mT_in x4 1 12 σ_2) fun v_4 σ_5 =>
    if v_4 = 0 then
      bT_setShare_48 x1 x2 x3 x4 s1 1 σ_5
    else
      bT_setShare_48 x1 x2 x3 x4 s1 0 σ_5

def mT_setShare (x1 : Int32) (x2 : Int32) (x3 : Int32) (x4 : Int32) (σ : twS) : Option (Int32 × twS) :=
  bd (mT_isRule x1 σ) fun v_1 σ_2 =>
  if v_1 = 0 then
    bT_setShare_22 x1 x2 x3 x4 1 σ_2
  else
    bd (mT_isHeir x2 σ_2) fun v_4 σ_5 =>
    if v_4 = 0 then
      bT_setShare_22 x1 x2 x3 x4 1 σ_5
    else
      bT_setShare_22 x1 x2 x3 x4 0 σ_5

def mT_sets (x1 : Int32) (x2 : Int32) (σ : twS) : Option (Int32 × twS) :=
  bd (mT_begins σ) fun _ σ_1 =>
  ald σ_1 0 358 x1 fun v_2 =>
  ast σ_1 0 358 x1 x2 fun σ_3 =>
  bd (mT_remember σ_3) fun _ σ_4 =>
  some (v_2, σ_4)

def bT_setHeir_50 : Int32 → Int32 → Int32 → Int32 → Int32 → twS → Option (Int32 × twS) := fun x1 x2 x3 x4 s1 σ =>
  bd (mT_throwsOne_2 s1 x4 σ) fun v_1 σ_2 =>
  if v_1 = 0 then
    bd (mT_sets ((9 + (2 * x1)) + x2) x3 σ_2) fun v_4 σ_5 =>
    some (v_4, σ_5)
  else
    some (0, σ_2)

def bT_setHeir_34 : Int32 → Int32 → Int32 → Int32 → twS → Option (Int32 × twS) := fun x1 x2 x3 s0 σ =>
  bd (mT_isHeir x1 σ) fun v_1 σ_2 =>
  if v_1 = 0 then
    bT_setHeir_50 x1 x2 x3 s0 1 σ_2
  else
    bT_setHeir_50 x1 x2 x3 s0 0 σ_2

def bT_setHeir_23 : Int32 → Int32 → Int32 → Int32 → Int32 → Int32 → twS → Option (Int32 × twS) := fun x1 x2 x3 s0 s1 s2 σ =>
  bd (mT_in s0 s1 s2 σ) fun v_1 σ_2 =>
  if v_1 = 0 then
    bT_setHeir_34 x1 x2 x3 1 σ_2
  else
    bT_setHeir_34 x1 x2 x3 0 σ_2

def mT_setHeir (x1 : Int32) (x2 : Int32) (x3 : Int32) (σ : twS) : Option (Int32 × twS) :=
  bd (mT_in x2 0 1 σ) fun v_1 σ_2 =>
  if v_1 = 0 then
    bT_setHeir_34 x1 x2 x3 1 σ_2
  else
    if x2 = 0 then
      bT_setHeir_23 x1 x2 x3 x3 0 9999 σ_2
    else
      bT_setHeir_23 x1 x2 x3 x3 0 60 σ_2

def bT_setRest_14 : Int32 → Int32 → twS → Option (Int32 × twS) := fun x1 s1 σ =>
  bd (mT_throwsOne s1 σ) fun v_1 σ_2 =>
  if v_1 = 0 then
    bd (mT_sets 6 x1 σ_2) fun v_4 σ_5 =>
    some (v_4, σ_5)
  else
    some (0, σ_2)

def mT_setRest (x1 : Int32) (σ : twS) : Option (Int32 × twS) :=
  bd (mT_isHeir x1 σ) fun v_1 σ_2 =>
  if v_1 = 0 then
    bT_setRest_14 x1 1 σ_2
  else
    bT_setRest_14 x1 0 σ_2

def bT_setEstate_17 : Int32 → Int32 → twS → Option (Int32 × twS) := fun x1 s1 σ =>
  bd (mT_throwsOne s1 σ) fun v_1 σ_2 =>
  if v_1 = 0 then
    bd (mT_sets 7 x1 σ_2) fun v_4 σ_5 =>
    some (v_4, σ_5)
  else
    some (0, σ_2)

def mT_setEstate (x1 : Int32) (σ : twS) : Option (Int32 × twS) :=
  bd (mT_in x1 0 9999 σ) fun v_1 σ_2 =>
  if v_1 = 0 then
    bT_setEstate_17 x1 1 σ_2
  else
    bT_setEstate_17 x1 0 σ_2

def bT_setValue_58 : Nat → Int32 → Int32 → Int32 → Int32 → twS → Option (Int32 × twS)
  | 0, _, _, _, _, _ => none
  | n + 1, x1, x2, x3, x4, σ =>
    if x1 ≤ x4 then
      ald σ 0 358 8 fun v_2 =>
      ald σ 0 358 8 fun v_3 =>
      bd (mT_valueOf v_3 x1 σ) fun v_4 σ_5 =>
      bd (mT_sets 8 (v_2 + (x3 * (x2 - v_4))) σ_5) fun v_6 σ_7 =>
      ald σ_7 0 358 8 fun v_8 =>
      some (v_8, σ_7)
    else
      ald σ 0 358 (1 + x4) fun v_9 =>
      lt_ (x3 * v_9) fun x3_10 =>
      lt_ (x4 + 1) fun x4_11 =>
      (bT_setValue_58 n) x1 x2 x3_10 x4_11 σ

def bT_setValue_45 : Int32 → Int32 → Int32 → Int32 → twS → Option (Int32 × twS) := fun x1 x2 s1 s2 σ =>
  bd (mT_throwsOne_2 s1 s2 σ) fun v_1 σ_2 =>
  if v_1 = 0 then
    bT_setValue_58 FU x1 x2 1 0 σ_2
  else
    some (0, σ_2)

def bT_setValue_44 : Int32 → Int32 → Int32 → twS → Option (Int32 × twS) := fun x1 x2 s1 σ =>
  bT_setValue_45 x1 x2 s1 0 σ

def bT_setValue_14 : Int32 → Int32 → Int32 → twS → Option (Int32 × twS) := fun x1 x2 s1 σ =>
  bd (mT_isFact x1 σ) fun v_1 σ_2 =>
  if v_1 = 0 then
    bT_setValue_44 x1 x2 s1 σ_2
  else
    ald σ_2 0 358 (1 + x1) fun v_4 =>
    bd (mT_in x2 0 (v_4 - 1) σ_2) fun v_5 σ_6 =>
    if v_5 = 0 then
      bT_setValue_45 x1 x2 s1 1 σ_6
    else
      bT_setValue_44 x1 x2 s1 σ_6

def mT_setValue (x1 : Int32) (x2 : Int32) (σ : twS) : Option (Int32 × twS) :=
  bd (mT_isFact x1 σ) fun v_1 σ_2 =>
  if v_1 = 0 then
    bT_setValue_14 x1 x2 1 σ_2
  else
    bT_setValue_14 x1 x2 0 σ_2

def bT_undo_26 : Nat → Int32 → twS → Option (Int32 × twS)
  | 0, _, _ => none
  | n + 1, x1, σ =>
    if 358 ≤ x1 then
      some (σ.2 5, σ)
    else
      ald σ 3 2864 ((358 * (σ.2 5)) + x1) fun v_2 =>
      ast σ 0 358 x1 v_2 fun σ_3 =>
      lt_ (x1 + 1) fun x1_4 =>
      (bT_undo_26 n) x1_4 σ_3

def mT_undo (σ : twS) : Option (Int32 × twS) :=
  lt_ (twI σ 13 0) fun σ_1 =>
  if (σ_1.2 5) = 0 then
    some ((-1), σ_1)
  else
    lt_ (twI σ_1 5 ((σ_1.2 5) - 1)) fun σ_3 =>
    bT_undo_26 FU 0 σ_3

def bT_saveSnapshot_55 : Nat → Int32 → Int32 → Int32 → twS → Option (Int32 × twS)
  | 0, _, _, _, _ => none
  | n + 1, x1, x2, x3, σ =>
    if 358 ≤ x3 then
      rz x2 σ
    else
      ald σ 0 358 x3 fun v_2 =>
      ast σ 4 716 ((358 * x1) + x3) v_2 fun σ_3 =>
      lt_ (x3 + 1) fun x3_4 =>
      (bT_saveSnapshot_55 n) x1 x2 x3_4 σ_3

def bT_saveSnapshot_40 : Int32 → Int32 → twS → Option (Int32 × twS) := fun x1 s0 σ =>
  lt_ (twI σ 6 ((σ.2 6) ||| (1 <<< (x1 &&& 31)))) fun σ_1 =>
  bT_saveSnapshot_55 FU x1 s0 0 σ_1

def bT_saveSnapshot_15 : Int32 → Int32 → twS → Option (Int32 × twS) := fun x1 s1 σ =>
  bd (mT_throwsOne s1 σ) fun v_1 σ_2 =>
  if v_1 = 0 then
    if (((σ_2.2 6) >>> (x1 &&& 31)) &&& 1) = 1 then
      bT_saveSnapshot_40 x1 1 σ_2
    else
      bT_saveSnapshot_40 x1 0 σ_2
  else
    rz 0 σ_2

def mT_saveSnapshot (x1 : Int32) (σ : twS) : Option (Int32 × twS) :=
  bd (mT_in x1 0 1 σ) fun v_1 σ_2 =>
  if v_1 = 0 then
    bT_saveSnapshot_15 x1 1 σ_2
  else
    bT_saveSnapshot_15 x1 0 σ_2

def bT_restoreSnapshot_47 : Nat → Int32 → Int32 → twS → Option (Int32 × twS)
  | 0, _, _, _ => none
  | n + 1, x1, x3, σ =>
    if 358 ≤ x3 then
      lt_ (twI σ 5 0) fun σ_2 =>
      ald σ_2 0 358 17 fun v_3 =>
      some (v_3, σ_2)
    else
      ald σ 4 716 ((358 * x1) + x3) fun v_4 =>
      ast σ 0 358 x3 v_4 fun σ_5 =>
      lt_ (x3 + 1) fun x3_6 =>
      (bT_restoreSnapshot_47 n) x1 x3_6 σ_5

def bT_restoreSnapshot_37 : Int32 → Int32 → Int32 → twS → Option (Int32 × twS) := fun x1 s1 s2 σ =>
  bd (mT_throwsOne_2 s1 s2 σ) fun v_1 σ_2 =>
  if v_1 = 0 then
    bT_restoreSnapshot_47 FU x1 0 σ_2
  else
    some (0, σ_2)

def bT_restoreSnapshot_36 : Int32 → Int32 → twS → Option (Int32 × twS) := fun x1 s1 σ =>
  bT_restoreSnapshot_37 x1 s1 0 σ

def bT_restoreSnapshot_17 : Int32 → Int32 → Int32 → twS → Option (Int32 × twS) := fun x1 x2 s1 σ =>
  if x2 = 0 then
    bT_restoreSnapshot_36 x1 s1 σ
  else
    if (((σ.2 6) >>> (x1 &&& 31)) &&& 1) = 0 then
      bT_restoreSnapshot_37 x1 s1 1 σ
    else
      bT_restoreSnapshot_36 x1 s1 σ

def mT_restoreSnapshot (x1 : Int32) (σ : twS) : Option (Int32 × twS) :=
  bd (mT_in x1 0 1 σ) fun v_1 σ_2 =>
  if v_1 = 0 then
    bT_restoreSnapshot_17 x1 v_1 1 σ_2
  else
    bT_restoreSnapshot_17 x1 v_1 0 σ_2

def bT_checksum_49 (k36 : Int64 → Int32 → twS → Option (Int64 × twS)) : Nat → Int64 → Int32 → Int32 → twS → Option (Int64 × twS)
  | 0, _, _, _, _ => none
  | n + 1, x1, x3, x4, σ =>
    if 7 ≤ x4 then
      lt_ (x3 + 1) fun x3_2 =>
      k36 x1 x3_2 σ
    else
      bd (mT_heirTold x3 x4 σ) fun v_3 σ_4 =>
      lt_ ((31 * x1) + (v_3.toInt64)) fun x1_5 =>
      lt_ (x4 + 1) fun x4_6 =>
      (bT_checksum_49 k36 n) x1_5 x3 x4_6 σ_4

def bT_checksum_130 (k85 : Int64 → Int32 → twS → Option (Int64 × twS)) : Nat → Int64 → Int32 → Int32 → twS → Option (Int64 × twS)
  | 0, _, _, _, _ => none
  | n + 1, x1, x3, x4, σ =>
    ald σ 0 358 5 fun v_1 =>
    if v_1 ≤ x4 then
      lt_ (x3 + 1) fun x3_3 =>
      k85 x1 x3_3 σ
    else
      bd (mT_shareTold x3 x4 0 σ) fun v_4 σ_5 =>
      lt_ ((31 * x1) + (v_4.toInt64)) fun x1_6 =>
      bd (mT_shareTold x3 x4 1 σ_5) fun v_7 σ_8 =>
      lt_ ((31 * x1_6) + (v_7.toInt64)) fun x1_9 =>
      lt_ (x4 + 1) fun x4_10 =>
      (bT_checksum_130 k85 n) x1_9 x3 x4_10 σ_8

def bT_checksum_99 (k85 : Int64 → Int32 → twS → Option (Int64 × twS)) : Nat → Int64 → Int32 → Int32 → twS → Option (Int64 × twS)
  | 0, _, _, _, _ => none
  | n + 1, x1, x3, x4, σ =>
    if 6 ≤ x4 then
      bT_checksum_130 k85 FU x1 x3 0 σ
    else
      bd (mT_ruleTold x3 x4 σ) fun v_2 σ_3 =>
      lt_ ((31 * x1) + (v_2.toInt64)) fun x1_4 =>
      lt_ (x4 + 1) fun x4_5 =>
      (bT_checksum_99 k85 n) x1_4 x3 x4_5 σ_3

def bT_checksum_197 : Nat → Int64 → Int32 → Int32 → twS → Option (Int64 × twS)
  | 0, _, _, _, _ => none
  | n + 1, x1, x3, x4, σ =>
    if x3 ≤ x4 then
      some (x1, σ)
    else
      ald σ 15 256 x4 fun v_2 =>
      bd (mT_verdictOf v_2 σ) fun v_3 σ_4 =>
      lt_ ((31 * x1) + (v_3.toInt64)) fun x1_5 =>
      ald σ_4 15 256 x4 fun v_6 =>
      bd (mT_settles v_6 σ_4) fun v_7 σ_8 =>
      lt_ ((31 * x1_5) + (v_7.toInt64)) fun x1_9 =>
      lt_ (x4 + 1) fun x4_10 =>
      (bT_checksum_197 n) x1_9 x3 x4_10 σ_8

def bT_checksum_85 : Nat → Int64 → Int32 → twS → Option (Int64 × twS)
  | 0, _, _, _ => none
  | n + 1, x1, x3, σ =>
    ald σ 0 358 17 fun v_1 =>
    if v_1 ≤ x3 then
      bd (mT_setsOut σ) fun _ σ_3 =>
      bd (mT_cases σ_3) fun v_4 σ_5 =>
      bT_checksum_197 FU x1 v_4 0 σ_5
    else
      bT_checksum_99 (bT_checksum_85 n) FU x1 x3 0 σ

def bT_checksum_36 : Nat → Int64 → Int32 → twS → Option (Int64 × twS)
  | 0, _, _, _ => none
  | n + 1, x1, x3, σ =>
    ald σ 0 358 5 fun v_1 =>
    if v_1 ≤ x3 then
      bT_checksum_85 FU x1 0 σ
    else
      bT_checksum_49 (bT_checksum_36 n) FU x1 x3 0 σ

def bT_checksum_9 : Nat → Int64 → Int32 → twS → Option (Int64 × twS)
  | 0, _, _, _ => none
  | n + 1, x1, x3, σ =>
    if 11 ≤ x3 then
      bT_checksum_36 FU x1 0 σ
    else
      bd (mT_sizeOf x3 σ) fun v_2 σ_3 =>
      lt_ ((31 * x1) + (v_2.toInt64)) fun x1_4 =>
      lt_ (x3 + 1) fun x3_5 =>
      (bT_checksum_9 n) x1_4 x3_5 σ_3

def mT_checksum (σ : twS) : Option (Int64 × twS) :=
  lt_ (twI σ 13 0) fun σ_1 =>
  bT_checksum_9 FU 0 0 σ_1
