/-! THE PLAIN LAW: the checks of the twin's public questions: printed by gen40.py -/
set_option maxRecDepth 100000
def q_size (x1 : Int32) (σ_2 : twS) : Option (Int32 × twS) :=
  bd (mT_sizeOf x1 σ_2) fun v_4 σ_5 =>
  some (v_4, σ_5)
theorem ck_size {d : Nat → Nat} {t : Nat → Term} {σ : twS} (hT : TW d σ) (hW : WOk d t) (x1 : Int32) : mT_size x1 σ = if inB x1 14 then q_size x1 (twI σ 13 0) else some (0, twI σ 13 (b32 (!inB x1 14))) := by
  unfold mT_size
  rw [tw_inI (n := 14) (show (13 : Int32).toInt = _ from by decide), bd_J, ite_pq (b32_0 _)]
  cases h0 : inB x1 14
  · rw [if_pos rfl]
    rfl
  · rw [if_neg (by decide)]
    rfl
def q_values (x1 : Int32) (σ_2 : twS) : Option (Int32 × twS) :=
  ald σ_2 0 358 (1 + x1) fun v_4 =>
  some (v_4, σ_2)
theorem ck_values {d : Nat → Nat} {t : Nat → Term} {σ : twS} (hT : TW d σ) (hW : WOk d t) (x1 : Int32) : mT_values x1 σ = if inB x1 (d 0) then q_values x1 (twI σ 13 0) else some (0, twI σ 13 (b32 (!inB x1 (d 0)))) := by
  unfold mT_values
  rw [tw_isFact hT (by have := hW.1.1; omega) x1, bd_J, ite_pq (b32_0 _)]
  cases h0 : inB x1 (d 0)
  · rw [if_pos rfl]
    rfl
  · rw [if_neg (by decide)]
    rfl
def q_valueIn (x1 : Int32) (x2 : Int32) (σ_2 : twS) : Option (Int32 × twS) :=
  bd (mT_valueOf x1 x2 σ_2) fun v_4 σ_5 =>
  some (v_4, σ_5)
theorem ck_valueIn {d : Nat → Nat} {t : Nat → Term} {σ : twS} (hT : TW d σ) (hW : WOk d t) (x1 : Int32) (x2 : Int32) : mT_valueIn x1 x2 σ = if inB x1 (casesN d) && inB x2 (d 0) then q_valueIn x1 x2 (twI σ 13 0) else some (0, twI σ 13 (Int32.ofNat (th2 (!inB x1 (casesN d)) (!inB x2 (d 0))))) := by
  unfold mT_valueIn
  rw [tw_isCase hT hW.1 x1, bd_J, ite_pq (b32_0 _)]
  cases h0 : inB x1 (casesN d)
  · rw [if_pos rfl]
    unfold bT_valueIn_14
    rw [tw_isFact hT (by have := hW.1.1; omega) x2, bd_J, ite_pq (b32_0 _)]
    cases h1 : inB x2 (d 0)
    · rw [if_pos rfl]
      rfl
    · rw [if_neg (by decide)]
      rfl
  · rw [if_neg (by decide)]
    unfold bT_valueIn_14
    rw [tw_isFact hT (by have := hW.1.1; omega) x2, bd_J, ite_pq (b32_0 _)]
    cases h1 : inB x2 (d 0)
    · rw [if_pos rfl]
      rfl
    · rw [if_neg (by decide)]
      rfl
def q_heir (x1 : Int32) (x2 : Int32) (σ_2 : twS) : Option (Int32 × twS) :=
  bd (mT_heirTold x1 x2 σ_2) fun v_4 σ_5 =>
  some (v_4, σ_5)
theorem ck_heir {d : Nat → Nat} {t : Nat → Term} {σ : twS} (hT : TW d σ) (hW : WOk d t) (x1 : Int32) (x2 : Int32) : mT_heir x1 x2 σ = if inB x1 (d 5) && inB x2 7 then q_heir x1 x2 (twI σ 13 0) else some (0, twI σ 13 (Int32.ofNat (th2 (!inB x1 (d 5)) (!inB x2 7)))) := by
  unfold mT_heir
  rw [tw_isHeir hT (by have := hW.h; omega) x1, bd_J, ite_pq (b32_0 _)]
  cases h0 : inB x1 (d 5)
  · rw [if_pos rfl]
    unfold bT_heir_14
    rw [tw_inI (n := 7) (show (6 : Int32).toInt = _ from by decide), bd_J, ite_pq (b32_0 _)]
    cases h1 : inB x2 7
    · rw [if_pos rfl]
      rfl
    · rw [if_neg (by decide)]
      rfl
  · rw [if_neg (by decide)]
    unfold bT_heir_14
    rw [tw_inI (n := 7) (show (6 : Int32).toInt = _ from by decide), bd_J, ite_pq (b32_0 _)]
    cases h1 : inB x2 7
    · rw [if_pos rfl]
      rfl
    · rw [if_neg (by decide)]
      rfl
def q_rule (x1 : Int32) (x2 : Int32) (σ_2 : twS) : Option (Int32 × twS) :=
  bd (mT_ruleTold x1 x2 σ_2) fun v_4 σ_5 =>
  some (v_4, σ_5)
theorem ck_rule {d : Nat → Nat} {t : Nat → Term} {σ : twS} (hT : TW d σ) (hW : WOk d t) (x1 : Int32) (x2 : Int32) : mT_rule x1 x2 σ = if inB x1 (d 17) && inB x2 6 then q_rule x1 x2 (twI σ 13 0) else some (0, twI σ 13 (Int32.ofNat (th2 (!inB x1 (d 17)) (!inB x2 6)))) := by
  unfold mT_rule
  rw [tw_isRule hT (by have := hW.r; omega) x1, bd_J, ite_pq (b32_0 _)]
  cases h0 : inB x1 (d 17)
  · rw [if_pos rfl]
    unfold bT_rule_14
    rw [tw_inI (n := 6) (show (5 : Int32).toInt = _ from by decide), bd_J, ite_pq (b32_0 _)]
    cases h1 : inB x2 6
    · rw [if_pos rfl]
      rfl
    · rw [if_neg (by decide)]
      rfl
  · rw [if_neg (by decide)]
    unfold bT_rule_14
    rw [tw_inI (n := 6) (show (5 : Int32).toInt = _ from by decide), bd_J, ite_pq (b32_0 _)]
    cases h1 : inB x2 6
    · rw [if_pos rfl]
      rfl
    · rw [if_neg (by decide)]
      rfl
def q_share (x1 : Int32) (x2 : Int32) (x3 : Int32) (σ_2 : twS) : Option (Int32 × twS) :=
  bd (mT_shareTold x1 x2 x3 σ_2) fun v_4 σ_5 =>
  some (v_4, σ_5)
theorem ck_share {d : Nat → Nat} {t : Nat → Term} {σ : twS} (hT : TW d σ) (hW : WOk d t) (x1 : Int32) (x2 : Int32) (x3 : Int32) : mT_share x1 x2 x3 σ = if inB x1 (d 17) && inB x2 (d 5) then q_share x1 x2 x3 (twI σ 13 0) else some (0, twI σ 13 (b32 (!(inB x1 (d 17) && inB x2 (d 5))))) := by
  unfold mT_share
  rw [tw_isRule hT (by have := hW.r; omega) x1, bd_J, ite_pq (b32_0 _)]
  cases h0 : inB x1 (d 17)
  · rw [if_pos rfl]
    rfl
  · rw [if_neg (by decide)]
    rw [tw_isHeir hT (by have := hW.h; omega) x2, bd_J, ite_pq (b32_0 _)]
    cases h1 : inB x2 (d 5)
    · rw [if_pos rfl]
      rfl
    · rw [if_neg (by decide)]
      rfl
def q_applies (x1 : Int32) (x2 : Int32) (σ_2 : twS) : Option (Int32 × twS) :=
  bd (mT_holds x2 x1 σ_2) fun v_4 σ_5 =>
  if v_4 = 0 then
    rz 0 σ_5
  else
    rz 1 σ_5
theorem ck_applies {d : Nat → Nat} {t : Nat → Term} {σ : twS} (hT : TW d σ) (hW : WOk d t) (x1 : Int32) (x2 : Int32) : mT_applies x1 x2 σ = if inB x1 (casesN d) && inB x2 (d 17) then q_applies x1 x2 (twI σ 13 0) else some (0, twI σ 13 (Int32.ofNat (th2 (!inB x1 (casesN d)) (!inB x2 (d 17))))) := by
  unfold mT_applies
  rw [tw_isCase hT hW.1 x1, bd_J, ite_pq (b32_0 _)]
  cases h0 : inB x1 (casesN d)
  · rw [if_pos rfl]
    unfold bT_applies_14
    rw [tw_isRule hT (by have := hW.r; omega) x2, bd_J, ite_pq (b32_0 _)]
    cases h1 : inB x2 (d 17)
    · rw [if_pos rfl]
      rfl
    · rw [if_neg (by decide)]
      rfl
  · rw [if_neg (by decide)]
    unfold bT_applies_14
    rw [tw_isRule hT (by have := hW.r; omega) x2, bd_J, ite_pq (b32_0 _)]
    cases h1 : inB x2 (d 17)
    · rw [if_pos rfl]
      rfl
    · rw [if_neg (by decide)]
      rfl
def q_applying (x1 : Int32) (σ_2 : twS) : Option (Int32 × twS) :=
  bd (mT_setOf x1 σ_2) fun v_4 σ_5 =>
  some (v_4, σ_5)
theorem ck_applying {d : Nat → Nat} {t : Nat → Term} {σ : twS} (hT : TW d σ) (hW : WOk d t) (x1 : Int32) : mT_applying x1 σ = if inB x1 (casesN d) then q_applying x1 (twI σ 13 0) else some (0, twI σ 13 (b32 (!inB x1 (casesN d)))) := by
  unfold mT_applying
  rw [tw_isCase hT hW.1 x1, bd_J, ite_pq (b32_0 _)]
  cases h0 : inB x1 (casesN d)
  · rw [if_pos rfl]
    rfl
  · rw [if_neg (by decide)]
    rfl
def q_verdict (x1 : Int32) (σ_2 : twS) : Option (Int32 × twS) :=
  bd (mT_setOf x1 σ_2) fun v_4 σ_5 =>
  bd (mT_verdictOf v_4 σ_5) fun v_6 σ_7 =>
  some (v_6, σ_7)
theorem ck_verdict {d : Nat → Nat} {t : Nat → Term} {σ : twS} (hT : TW d σ) (hW : WOk d t) (x1 : Int32) : mT_verdict x1 σ = if inB x1 (casesN d) then q_verdict x1 (twI σ 13 0) else some (0, twI σ 13 (b32 (!inB x1 (casesN d)))) := by
  unfold mT_verdict
  rw [tw_isCase hT hW.1 x1, bd_J, ite_pq (b32_0 _)]
  cases h0 : inB x1 (casesN d)
  · rw [if_pos rfl]
    rfl
  · rw [if_neg (by decide)]
    rfl
def q_settledBy (x1 : Int32) (σ_2 : twS) : Option (Int32 × twS) :=
  bd (mT_setOf x1 σ_2) fun v_4 σ_5 =>
  bd (mT_settles v_4 σ_5) fun v_6 σ_7 =>
  some (v_6, σ_7)
theorem ck_settledBy {d : Nat → Nat} {t : Nat → Term} {σ : twS} (hT : TW d σ) (hW : WOk d t) (x1 : Int32) : mT_settledBy x1 σ = if inB x1 (casesN d) then q_settledBy x1 (twI σ 13 0) else some (0, twI σ 13 (b32 (!inB x1 (casesN d)))) := by
  unfold mT_settledBy
  rw [tw_isCase hT hW.1 x1, bd_J, ite_pq (b32_0 _)]
  cases h0 : inB x1 (casesN d)
  · rw [if_pos rfl]
    rfl
  · rw [if_neg (by decide)]
    rfl
def q_why (x1 : Int32) (x2 : Int32) (x3 : Int32) (σ_2 : twS) : Option (Int32 × twS) :=
  bd (mT_setOf x1 σ_2) fun v_4 σ_5 =>
  bd (mT_reason v_4 x2 σ_5) fun v_6 σ_7 =>
  if x3 = 0 then
    some (v_6, σ_7)
  else
    if v_6 = 1 then
      bd (mT_valueOf x1 0 σ_7) fun v_10 σ_11 =>
      some (v_10, σ_11)
    else
    if v_6 = 2 then
      bd (mT_overIt x2 σ_7) fun v_13 σ_14 =>
      bd (mT_least (v_4 &&& v_13) σ_14) fun v_15 σ_16 =>
      some (v_15, σ_16)
    else
    if v_6 = 3 then
      bd (mT_unbeaten v_4 σ_7) fun v_18 σ_19 =>
      bd (mT_other v_18 x2 σ_19) fun v_20 σ_21 =>
      some (v_20, σ_21)
    else
    if v_6 = 4 then
      bd (mT_settles v_4 σ_7) fun v_23 σ_24 =>
      some (v_23, σ_24)
    else
      bd (mT_bits v_4 σ_7) fun v_25 σ_26 =>
      some (v_25, σ_26)
theorem ck_why {d : Nat → Nat} {t : Nat → Term} {σ : twS} (hT : TW d σ) (hW : WOk d t) (x1 : Int32) (x2 : Int32) (x3 : Int32) : mT_why x1 x2 x3 σ = if inB x1 (casesN d) && inB x2 (d 17) && inB x3 2 then q_why x1 x2 x3 (twI σ 13 0) else some (0, twI σ 13 (Int32.ofNat (th3 (!inB x1 (casesN d)) (!inB x2 (d 17)) (!inB x3 2)))) := by
  unfold mT_why
  rw [tw_isCase hT hW.1 x1, bd_J, ite_pq (b32_0 _)]
  cases h0 : inB x1 (casesN d)
  · rw [if_pos rfl]
    unfold bT_why_14
    rw [tw_isRule hT (by have := hW.r; omega) x2, bd_J, ite_pq (b32_0 _)]
    cases h1 : inB x2 (d 17)
    · rw [if_pos rfl]
      unfold bT_why_27
      rw [tw_inI (n := 2) (show (1 : Int32).toInt = _ from by decide), bd_J, ite_pq (b32_0 _)]
      cases h2 : inB x3 2
      · rw [if_pos rfl]
        rfl
      · rw [if_neg (by decide)]
        rfl
    · rw [if_neg (by decide)]
      unfold bT_why_27
      rw [tw_inI (n := 2) (show (1 : Int32).toInt = _ from by decide), bd_J, ite_pq (b32_0 _)]
      cases h2 : inB x3 2
      · rw [if_pos rfl]
        rfl
      · rw [if_neg (by decide)]
        rfl
  · rw [if_neg (by decide)]
    unfold bT_why_14
    rw [tw_isRule hT (by have := hW.r; omega) x2, bd_J, ite_pq (b32_0 _)]
    cases h1 : inB x2 (d 17)
    · rw [if_pos rfl]
      unfold bT_why_27
      rw [tw_inI (n := 2) (show (1 : Int32).toInt = _ from by decide), bd_J, ite_pq (b32_0 _)]
      cases h2 : inB x3 2
      · rw [if_pos rfl]
        rfl
      · rw [if_neg (by decide)]
        rfl
    · rw [if_neg (by decide)]
      unfold bT_why_27
      rw [tw_inI (n := 2) (show (1 : Int32).toInt = _ from by decide), bd_J, ite_pq (b32_0 _)]
      cases h2 : inB x3 2
      · rw [if_pos rfl]
        rfl
      · rw [if_neg (by decide)]
        rfl
def q_example (x1 : Int32) (x2 : Int32) (σ_2 : twS) : Option (Int32 × twS) :=
  bd (mT_setsOut σ_2) fun _ σ_4 =>
  bd (mT_cases σ_4) fun v_5 σ_6 =>
  bT_example_38 FU x1 x2 v_5 0 σ_6
theorem ck_example {d : Nat → Nat} {t : Nat → Term} {σ : twS} (hT : TW d σ) (hW : WOk d t) (x1 : Int32) (x2 : Int32) : mT_example x1 x2 σ = if inB x1 4 then q_example x1 x2 (twI σ 13 0) else some (0, twI σ 13 (b32 (!inB x1 4))) := by
  unfold mT_example
  rw [tw_inI (n := 4) (show (3 : Int32).toInt = _ from by decide), bd_J, ite_pq (b32_0 _)]
  cases h0 : inB x1 4
  · rw [if_pos rfl]
    rfl
  · rw [if_neg (by decide)]
    rfl
def q_isWider (x1 : Int32) (x2 : Int32) (σ_2 : twS) : Option (Int32 × twS) :=
  bd (mT_setsOut σ_2) fun _ σ_4 =>
  bd (mT_cases σ_4) fun v_5 σ_6 =>
  bT_isWider_45 FU x1 x2 1 v_5 0 σ_6
theorem ck_isWider {d : Nat → Nat} {t : Nat → Term} {σ : twS} (hT : TW d σ) (hW : WOk d t) (x1 : Int32) (x2 : Int32) : mT_isWider x1 x2 σ = if inB x1 (d 17) && inB x2 (d 17) then q_isWider x1 x2 (twI σ 13 0) else some (0, twI σ 13 (b32 (!(inB x1 (d 17) && inB x2 (d 17))))) := by
  unfold mT_isWider
  rw [tw_isRule hT (by have := hW.r; omega) x1, bd_J, ite_pq (b32_0 _)]
  cases h0 : inB x1 (d 17)
  · rw [if_pos rfl]
    rfl
  · rw [if_neg (by decide)]
    rw [tw_isRule hT (by have := hW.r; omega) x2, bd_J, ite_pq (b32_0 _)]
    cases h1 : inB x2 (d 17)
    · rw [if_pos rfl]
      rfl
    · rw [if_neg (by decide)]
      rfl
def q_common (x1 : Int32) (x2 : Int32) (σ_2 : twS) : Option (Int32 × twS) :=
  bd (mT_setsOut σ_2) fun _ σ_4 =>
  bd (mT_cases σ_4) fun v_5 σ_6 =>
  bT_common_45 FU x1 x2 0 v_5 0 σ_6
theorem ck_common {d : Nat → Nat} {t : Nat → Term} {σ : twS} (hT : TW d σ) (hW : WOk d t) (x1 : Int32) (x2 : Int32) : mT_common x1 x2 σ = if inB x1 (d 17) && inB x2 (d 17) then q_common x1 x2 (twI σ 13 0) else some (0, twI σ 13 (b32 (!(inB x1 (d 17) && inB x2 (d 17))))) := by
  unfold mT_common
  rw [tw_isRule hT (by have := hW.r; omega) x1, bd_J, ite_pq (b32_0 _)]
  cases h0 : inB x1 (d 17)
  · rw [if_pos rfl]
    rfl
  · rw [if_neg (by decide)]
    rw [tw_isRule hT (by have := hW.r; omega) x2, bd_J, ite_pq (b32_0 _)]
    cases h1 : inB x2 (d 17)
    · rw [if_pos rfl]
      rfl
    · rw [if_neg (by decide)]
      rfl
def q_gapsWithout (x1 : Int32) (σ_2 : twS) : Option (Int32 × twS) :=
  bd (mT_setsOut σ_2) fun _ σ_4 =>
  bd (mT_gaps x1 σ_4) fun v_5 σ_6 =>
  some (v_5, σ_6)
theorem ck_gapsWithout {d : Nat → Nat} {t : Nat → Term} {σ : twS} (hT : TW d σ) (hW : WOk d t) (x1 : Int32) : mT_gapsWithout x1 σ = if inB x1 (d 17) then q_gapsWithout x1 (twI σ 13 0) else some (0, twI σ 13 (b32 (!inB x1 (d 17)))) := by
  unfold mT_gapsWithout
  rw [tw_isRule hT (by have := hW.r; omega) x1, bd_J, ite_pq (b32_0 _)]
  cases h0 : inB x1 (d 17)
  · rw [if_pos rfl]
    rfl
  · rw [if_neg (by decide)]
    rfl
def q_clashesIf (x1 : Int32) (x2 : Int32) (σ_2 : twS) : Option (Int32 × twS) :=
  bd (mT_setsOut σ_2) fun _ σ_4 =>
  bd (mT_of x1 33 σ_4) fun v_5 σ_6 =>
  bd (mT_rule0 x1 σ_6) fun v_7 σ_8 =>
  if x1 = x2 then
    bT_clashesIf_67 x1 v_5 (v_7 + 33) v_5 σ_8
  else
    bT_clashesIf_67 x1 v_5 (v_7 + 33) (v_5 ^^^ (1 <<< (x2 &&& 31))) σ_8
theorem ck_clashesIf {d : Nat → Nat} {t : Nat → Term} {σ : twS} (hT : TW d σ) (hW : WOk d t) (x1 : Int32) (x2 : Int32) : mT_clashesIf x1 x2 σ = if inB x1 (d 17) && inB x2 (d 17) then q_clashesIf x1 x2 (twI σ 13 0) else some (0, twI σ 13 (b32 (!(inB x1 (d 17) && inB x2 (d 17))))) := by
  unfold mT_clashesIf
  rw [tw_isRule hT (by have := hW.r; omega) x1, bd_J, ite_pq (b32_0 _)]
  cases h0 : inB x1 (d 17)
  · rw [if_pos rfl]
    rfl
  · rw [if_neg (by decide)]
    rw [tw_isRule hT (by have := hW.r; omega) x2, bd_J, ite_pq (b32_0 _)]
    cases h1 : inB x2 (d 17)
    · rw [if_pos rfl]
      rfl
    · rw [if_neg (by decide)]
      rfl
def q_farFrom (x1 : Int32) (σ_2 : twS) : Option (Int32 × twS) :=
  bd (mT_setsOut σ_2) fun _ σ_4 =>
  bd (mT_cases σ_4) fun v_5 σ_6 =>
  bT_farFrom_36 FU x1 (-1) v_5 0 σ_6
theorem ck_farFrom {d : Nat → Nat} {t : Nat → Term} {σ : twS} (hT : TW d σ) (hW : WOk d t) (x1 : Int32) : mT_farFrom x1 σ = if inB x1 (d 17) then q_farFrom x1 (twI σ 13 0) else some (0, twI σ 13 (b32 (!inB x1 (d 17)))) := by
  unfold mT_farFrom
  rw [tw_isRule hT (by have := hW.r; omega) x1, bd_J, ite_pq (b32_0 _)]
  cases h0 : inB x1 (d 17)
  · rw [if_pos rfl]
    rfl
  · rw [if_neg (by decide)]
    rfl
def q_gets (x1 : Int32) (x2 : Int32) (x3 : Int32) (σ_2 : twS) : Option (Int32 × twS) :=
  bd (mT_setOf x1 σ_2) fun v_4 σ_5 =>
  bd (mT_settles v_4 σ_5) fun v_6 σ_7 =>
  if v_6 = (-1) then
    some (0, σ_7)
  else
    if x3 = 0 then
      bd (mT_part v_6 x2 σ_7) fun v_12 σ_13 =>
      some (v_12, σ_13)
    else
      bd (mT_duty v_6 x2 σ_7) fun v_10 σ_11 =>
      some (v_10, σ_11)
theorem ck_gets {d : Nat → Nat} {t : Nat → Term} {σ : twS} (hT : TW d σ) (hW : WOk d t) (x1 : Int32) (x2 : Int32) (x3 : Int32) : mT_gets x1 x2 x3 σ = if inB x1 (casesN d) && inB x2 (d 5) && inB x3 2 then q_gets x1 x2 x3 (twI σ 13 0) else some (0, twI σ 13 (Int32.ofNat (th3 (!inB x1 (casesN d)) (!inB x2 (d 5)) (!inB x3 2)))) := by
  unfold mT_gets
  rw [tw_isCase hT hW.1 x1, bd_J, ite_pq (b32_0 _)]
  cases h0 : inB x1 (casesN d)
  · rw [if_pos rfl]
    unfold bT_gets_14
    rw [tw_isHeir hT (by have := hW.h; omega) x2, bd_J, ite_pq (b32_0 _)]
    cases h1 : inB x2 (d 5)
    · rw [if_pos rfl]
      unfold bT_gets_27
      rw [tw_inI (n := 2) (show (1 : Int32).toInt = _ from by decide), bd_J, ite_pq (b32_0 _)]
      cases h2 : inB x3 2
      · rw [if_pos rfl]
        rfl
      · rw [if_neg (by decide)]
        rfl
    · rw [if_neg (by decide)]
      unfold bT_gets_27
      rw [tw_inI (n := 2) (show (1 : Int32).toInt = _ from by decide), bd_J, ite_pq (b32_0 _)]
      cases h2 : inB x3 2
      · rw [if_pos rfl]
        rfl
      · rw [if_neg (by decide)]
        rfl
  · rw [if_neg (by decide)]
    unfold bT_gets_14
    rw [tw_isHeir hT (by have := hW.h; omega) x2, bd_J, ite_pq (b32_0 _)]
    cases h1 : inB x2 (d 5)
    · rw [if_pos rfl]
      unfold bT_gets_27
      rw [tw_inI (n := 2) (show (1 : Int32).toInt = _ from by decide), bd_J, ite_pq (b32_0 _)]
      cases h2 : inB x3 2
      · rw [if_pos rfl]
        rfl
      · rw [if_neg (by decide)]
        rfl
    · rw [if_neg (by decide)]
      unfold bT_gets_27
      rw [tw_inI (n := 2) (show (1 : Int32).toInt = _ from by decide), bd_J, ite_pq (b32_0 _)]
      cases h2 : inB x3 2
      · rw [if_pos rfl]
        rfl
      · rw [if_neg (by decide)]
        rfl
def q_duties (x1 : Int32) (σ_2 : twS) : Option (Int32 × twS) :=
  bd (mT_setOf x1 σ_2) fun v_4 σ_5 =>
  bd (mT_settles v_4 σ_5) fun v_6 σ_7 =>
  if v_6 = (-1) then
    some (0, σ_7)
  else
    bd (mT_duties0 v_6 σ_7) fun v_9 σ_10 =>
    some (v_9, σ_10)
theorem ck_duties {d : Nat → Nat} {t : Nat → Term} {σ : twS} (hT : TW d σ) (hW : WOk d t) (x1 : Int32) : mT_duties x1 σ = if inB x1 (casesN d) then q_duties x1 (twI σ 13 0) else some (0, twI σ 13 (b32 (!inB x1 (casesN d)))) := by
  unfold mT_duties
  rw [tw_isCase hT hW.1 x1, bd_J, ite_pq (b32_0 _)]
  cases h0 : inB x1 (casesN d)
  · rw [if_pos rfl]
    rfl
  · rw [if_neg (by decide)]
    rfl
def q_writeRule (x1 : Int32) (σ_2 : twS) : Option (Int32 × twS) :=
  lt_ (twI σ_2 12 0) fun σ_4 =>
  bd (mT_of x1 0 σ_4) fun v_5 σ_6 =>
  bd (mT_writePart DP x1 (v_5 - 1) 9 σ_6) fun _ σ_7 =>
  bd (mT_writeToken tS_226 σ_7) fun _ σ_8 =>
  bd (mT_writeParts x1 σ_8) fun _ σ_9 =>
  bd (mT_of x1 33 σ_9) fun v_10 σ_11 =>
  if v_10 = 0 then
    bT_writeRule_71 FU x1 0 σ_11
  else
    bd (mT_writeToken tS_224 σ_11) fun _ σ_13 =>
    bT_writeRule_71 FU x1 0 σ_13
theorem ck_writeRule {d : Nat → Nat} {t : Nat → Term} {σ : twS} (hT : TW d σ) (hW : WOk d t) (x1 : Int32) : mT_writeRule x1 σ = if inB x1 (d 17) then q_writeRule x1 (twI σ 13 0) else some (0, twI σ 13 (b32 (!inB x1 (d 17)))) := by
  unfold mT_writeRule
  rw [tw_isRule hT (by have := hW.r; omega) x1, bd_J, ite_pq (b32_0 _)]
  cases h0 : inB x1 (d 17)
  · rw [if_pos rfl]
    rfl
  · rw [if_neg (by decide)]
    rfl
def q_setRest (x1 : Int32) (σ_2 : twS) : Option (Int32 × twS) :=
  bd (mT_sets 6 x1 σ_2) fun v_4 σ_5 =>
  some (v_4, σ_5)
theorem ck_setRest {d : Nat → Nat} {t : Nat → Term} {σ : twS} (hT : TW d σ) (hW : WOk d t) (x1 : Int32) : mT_setRest x1 σ = if inB x1 (d 5) then q_setRest x1 (twI σ 13 0) else some (0, twI σ 13 (b32 (!inB x1 (d 5)))) := by
  unfold mT_setRest
  rw [tw_isHeir hT (by have := hW.h; omega) x1, bd_J, ite_pq (b32_0 _)]
  cases h0 : inB x1 (d 5)
  · rw [if_pos rfl]
    rfl
  · rw [if_neg (by decide)]
    rfl
def q_setEstate (x1 : Int32) (σ_2 : twS) : Option (Int32 × twS) :=
  bd (mT_sets 7 x1 σ_2) fun v_4 σ_5 =>
  some (v_4, σ_5)
theorem ck_setEstate {d : Nat → Nat} {t : Nat → Term} {σ : twS} (hT : TW d σ) (hW : WOk d t) (x1 : Int32) : mT_setEstate x1 σ = if inB x1 10000 then q_setEstate x1 (twI σ 13 0) else some (0, twI σ 13 (b32 (!inB x1 10000))) := by
  unfold mT_setEstate
  rw [tw_inI (n := 10000) (show (9999 : Int32).toInt = _ from by decide), bd_J, ite_pq (b32_0 _)]
  cases h0 : inB x1 10000
  · rw [if_pos rfl]
    rfl
  · rw [if_neg (by decide)]
    rfl
def q_saveSnapshot (x1 : Int32) (σ_2 : twS) : Option (Int32 × twS) :=
  if (((σ_2.2 6) >>> (x1 &&& 31)) &&& 1) = 1 then
    bT_saveSnapshot_40 x1 1 σ_2
  else
    bT_saveSnapshot_40 x1 0 σ_2
theorem ck_saveSnapshot {d : Nat → Nat} {t : Nat → Term} {σ : twS} (hT : TW d σ) (hW : WOk d t) (x1 : Int32) : mT_saveSnapshot x1 σ = if inB x1 2 then q_saveSnapshot x1 (twI σ 13 0) else some (0, twI σ 13 (b32 (!inB x1 2))) := by
  unfold mT_saveSnapshot
  rw [tw_inI (n := 2) (show (1 : Int32).toInt = _ from by decide), bd_J, ite_pq (b32_0 _)]
  cases h0 : inB x1 2
  · rw [if_pos rfl]
    rfl
  · rw [if_neg (by decide)]
    rfl
