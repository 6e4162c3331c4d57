/-! THE PLAIN LAW: the twin's remaining questions -/
set_option maxRecDepth 100000
def heirI (d : Nat → Nat) (t : Nat → Term) (h w : Nat) : Int32 := if w = 0 then Int32.ofNat (d (9 + 2 * h)) else if w = 1 then Int32.ofNat (d (10 + 2 * h)) else if w = 2 then b32 (decide (d 6 = h)) else if w = 3 then Int32.ofNat (partN d (setlN d (setN d t (d 8))) h) else if w = 4 then Int32.ofNat (dutyN d (setlN d (setN d t (d 8))) h) else o32 (extF d t h (decide (w = 6)) (casesN d))
theorem dutyN_none {d : Nat → Nat} {h : Nat} : dutyN d none h = 0 := by
  unfold dutyN partN
  simp
theorem setl_ok {d : Nat → Nat} {t : Nat → Term} (hW : WOk d t) {n : Nat} : ∀ r, setlN d (setN d t n) = some r → r < d 17 := fun _ h => setl_lt hW h
theorem setl_m1 {d : Nat → Nat} {t : Nat → Term} (hW : WOk d t) {n : Nat} {α : Type} {x y : α} : (if o32 (setlN d (setN d t n)) = -1 then x else y) = if setlN d (setN d t n) = none then x else y := iJ_m1 (fun r h => by have := setl_lt hW h; have := hW.r; omega)
theorem tw_heirTold {d : Nat → Nat} {t : Nat → Term} {σ : twS} (hT : TW d σ) (hW : WOk d t) {h w : Nat} (hh : h < d 5) (hw : w ≤ 6) : ∃ σ', fr15 σ σ' ∧ mT_heirTold (Int32.ofNat h) (Int32.ofNat w) σ = some (heirI d t h w, σ') := by
  have hC := casesN_le hW.1
  have h5 := hW.h
  have h8 : d 8 < casesN d := hW.2.2.2.2.1
  unfold mT_heirTold
  obtain rfl | rfl | rfl | rfl | rfl | rfl | rfl : w = 0 ∨ w = 1 ∨ w = 2 ∨ w = 3 ∨ w = 4 ∨ w = 5 ∨ w = 6 := by omega
  · refine ⟨σ, fr15.rf, ?_⟩
    rw [if_pos (by decide)]
    unfold bT_heirTold_36
    rw [J_mulR, J_addR, J_add, tw_ald hT (by omega)]
    rfl
  · refine ⟨σ, fr15.rf, ?_⟩
    rw [if_neg (by decide), if_pos (by decide)]
    unfold bT_heirTold_36
    rw [J_mulR, J_addR, J_add, tw_ald hT (by omega)]
    show some (Int32.ofNat (d (9 + 2 * h + 1)), σ) = _
    rw [show 9 + 2 * h + 1 = 10 + 2 * h by omega]
    rfl
  · refine ⟨σ, fr15.rf, ?_⟩
    have h6 := hW.rest
    rw [if_neg (by decide), if_neg (by decide), if_pos (by decide), tw_aldL hT (by decide), iJ_eq (by omega) (by omega)]
    show _ = some (b32 (decide (d 6 = h)), σ)
    by_cases c : d 6 = h
    · rw [if_pos c, decide_eq_true c]; rfl
    · rw [if_neg c, decide_eq_false c]; rfl
  · obtain ⟨σ1, f1, e1⟩ := tw_setOf hT hW (n := d 8) (by omega)
    refine ⟨σ1, f1.to, ?_⟩
    rw [if_neg (by decide), if_neg (by decide), if_neg (by decide), if_pos (by decide), tw_aldL hT (by decide), e1, bd_J, tw_settles (f1.tw hT) hW setN_lt, bd_J, tw_part (f1.tw hT) hW (setl_ok hW) hh, bd_J]
    rfl
  · obtain ⟨σ1, f1, e1⟩ := tw_setOf hT hW (n := d 8) (by omega)
    rw [if_neg (by decide), if_neg (by decide), if_neg (by decide), if_neg (by decide), if_pos (by decide), tw_aldL hT (by decide), e1, bd_J, tw_settles (f1.tw hT) hW setN_lt, bd_J, setl_m1 hW]
    by_cases c : setlN d (setN d t (d 8)) = none
    · refine ⟨σ1, f1.to, ?_⟩
      rw [if_pos c]
      show _ = some (Int32.ofNat (dutyN d (setlN d (setN d t (d 8))) h), σ1)
      rw [c, dutyN_none]
      rfl
    · obtain ⟨σ2, f2, e2⟩ := tw_setOf (f1.tw hT) hW (n := d 8) (by omega)
      refine ⟨σ2, (f1.trans f2).to, ?_⟩
      rw [if_neg c, tw_aldL (f1.tw hT) (by decide), e2, bd_J, tw_settles ((f1.trans f2).tw hT) hW setN_lt, bd_J, tw_duty ((f1.trans f2).tw hT) hW (setl_ok hW) hh, bd_J]
      rfl
  · obtain ⟨σ1, f1, e1⟩ := tw_extreme hT hW hh false
    refine ⟨σ1, f1, ?_⟩
    rw [if_neg (by decide), if_neg (by decide), if_neg (by decide), if_neg (by decide), if_neg (by decide), if_neg (by decide)]
    unfold bT_heirTold_145
    rw [show (0 : Int32) = b32 false from rfl, e1, bd_J]
    rfl
  · obtain ⟨σ1, f1, e1⟩ := tw_extreme hT hW hh true
    refine ⟨σ1, f1, ?_⟩
    rw [if_neg (by decide), if_neg (by decide), if_neg (by decide), if_neg (by decide), if_neg (by decide), if_pos (by decide)]
    unfold bT_heirTold_145
    rw [show (1 : Int32) = b32 true from rfl, e1, bd_J]
    rfl
def sizI (d : Nat → Nat) (t : Nat → Term) (p b r : Nat) (w : Nat) : Nat := if w = 0 then d 0 else if w = 1 then d 5 else if w = 2 then d 17 else if w = 3 then casesN d else if w = 4 then d 6 else if w = 5 then d 7 else if w = 6 then d 8 else if w = 11 then p else if w = 12 then b else if w = 13 then r else manyN d t (w - 7) none
theorem tw_sizeOf {d : Nat → Nat} {t : Nat → Term} {σ : twS} (hT : TW d σ) (hW : WOk d t) {p b r : Nat} (hp : σ.2 5 = Int32.ofNat p) (hb : σ.2 9 = Int32.ofNat b) (hr : σ.2 12 = Int32.ofNat r) {w : Nat} (hw : w ≤ 13) : ∃ σ', fr15 σ σ' ∧ mT_sizeOf (Int32.ofNat w) σ = some (Int32.ofNat (sizI d t p b r w), σ') := by
  unfold mT_sizeOf
  by_cases hq : 7 ≤ w ∧ w ≤ 10
  · obtain ⟨σ1, f1, hA, e1⟩ := tw_setsOut hT hW
    refine ⟨σ1, f1, ?_⟩
    rw [iJ_eqL (by omega) (by decide), if_neg (show ¬ w = 0 by omega), iJ_eqL (by omega) (by decide), if_neg (show ¬ w = 1 by omega), iJ_eqL (by omega) (by decide), if_neg (show ¬ w = 2 by omega), iJ_eqL (by omega) (by decide), if_neg (show ¬ w = 3 by omega), iJ_eqL (by omega) (by decide), if_neg (show ¬ w = 4 by omega), iJ_eqL (by omega) (by decide), if_neg (show ¬ w = 5 by omega), iJ_eqL (by omega) (by decide), if_neg (show ¬ w = 6 by omega), iJ_eqL (by omega) (by decide), if_neg (show ¬ w = 11 by omega), iJ_eqL (by omega) (by decide), if_neg (show ¬ w = 12 by omega), iJ_eqL (by omega) (by decide), if_neg (show ¬ w = 13 by omega)]
    unfold bT_sizeOf_138
    rw [e1, bd_J, J_subL (show 7 ≤ w by omega), show (-1 : Int32) = o32 none from rfl, tw_many (f1.tw hT) hW hA (show w - 7 ≤ 3 by omega) (fun _ h => by cases h), bd_J]
    unfold sizI
    rw [if_neg (by omega), if_neg (by omega), if_neg (by omega), if_neg (by omega), if_neg (by omega), if_neg (by omega), if_neg (by omega), if_neg (by omega), if_neg (by omega), if_neg (by omega)]
  · refine ⟨σ, fr15.rf, ?_⟩
    obtain rfl | rfl | rfl | rfl | rfl | rfl | rfl | rfl | rfl | rfl : w = 0 ∨ w = 1 ∨ w = 2 ∨ w = 3 ∨ w = 4 ∨ w = 5 ∨ w = 6 ∨ w = 11 ∨ w = 12 ∨ w = 13 := by omega
    · rw [if_pos (by decide), tw_aldL hT (by decide)]; rfl
    · rw [if_neg (by decide), if_pos (by decide), tw_aldL hT (by decide)]; rfl
    · iterate 2 rw [if_neg (by decide)]
      rw [if_pos (by decide), tw_aldL hT (by decide)]; rfl
    · iterate 3 rw [if_neg (by decide)]
      rw [if_pos (by decide), tw_cases hT hW.1, bd_J]; rfl
    · iterate 4 rw [if_neg (by decide)]
      rw [if_pos (by decide), tw_aldL hT (by decide)]; rfl
    · iterate 5 rw [if_neg (by decide)]
      rw [if_pos (by decide), tw_aldL hT (by decide)]; rfl
    · iterate 6 rw [if_neg (by decide)]
      rw [if_pos (by decide), tw_aldL hT (by decide)]; rfl
    · iterate 7 rw [if_neg (by decide)]
      rw [if_pos (by decide), hp]; rfl
    · iterate 8 rw [if_neg (by decide)]
      rw [if_pos (by decide), hb]; rfl
    · iterate 9 rw [if_neg (by decide)]
      rw [if_pos (by decide), hr]; rfl
def rulI (d : Nat → Nat) (t : Nat → Term) (r w : Nat) : Nat := if w = 3 then gLv (t r) else if w = 4 then d (51 + 34 * r) else if w = 5 then ovN d r else mofN d t r w
theorem tw_ruleTold {d : Nat → Nat} {t : Nat → Term} {σ : twS} (hT : TW d σ) (hW : WOk d t) {r w : Nat} (hr : r < d 17) (hw : w ≤ 5) : ∃ σ', fr15 σ σ' ∧ mT_ruleTold (Int32.ofNat r) (Int32.ofNat w) σ = some (Int32.ofNat (rulI d t r w), σ') := by
  have h17 := hW.r
  unfold mT_ruleTold rulI
  rw [iJ_eqL (by omega) (by decide), iJ_eqL (by omega) (by decide), iJ_eqL (by omega) (by decide)]
  by_cases c3 : w = 3
  · refine ⟨σ, fr15.rf, ?_⟩
    rw [if_pos c3, if_pos c3, tw_comparisons hT hW hr]
    rfl
  · rw [if_neg c3, if_neg c3]
    by_cases c4 : w = 4
    · refine ⟨σ, fr15.rf, ?_⟩
      rw [if_pos c4, if_pos c4, show (33 : Int32) = Int32.ofNat 33 from rfl, tw_of hT (by omega), bd_J]
      rw [show 18 + 34 * r + 33 = 51 + 34 * r by omega]
    · rw [if_neg c4, if_neg c4]
      by_cases c5 : w = 5
      · refine ⟨σ, fr15.rf, ?_⟩
        rw [if_pos c5, if_pos c5, tw_overIt hT hW (by omega)]
        rfl
      · obtain ⟨σ1, f1, e1⟩ := tw_manyOf hT hW (r := r) (w := w) (by omega) (by omega)
        refine ⟨σ1, f1, ?_⟩
        rw [if_neg c5, if_neg c5, e1]
        rfl
def whyI (d : Nat → Nat) (t : Nat → Term) (n r : Nat) : Int32 := if reasN d (setN d t n) r = 1 then Int32.ofNat (valueN d n 0) else if reasN d (setN d t n) r = 2 then o32 (leastN (setN d t n &&& ovN d r)) else if reasN d (setN d t n) r = 3 then o32 (otherN d (unbN d (setN d t n)) r) else if reasN d (setN d t n) r = 4 then o32 (setlN d (setN d t n)) else Int32.ofNat (bitsN (setN d t n))
theorem tw_why {d : Nat → Nat} {t : Nat → Term} {σ : twS} (hT : TW d σ) (hW : WOk d t) {n r k : Nat} (hn : n < casesN d) (hr : r < d 17) (hk : k < 2) : ∃ σ', fr15 σ σ' ∧ q_why (Int32.ofNat n) (Int32.ofNat r) (Int32.ofNat k) σ = some (if k = 0 then Int32.ofNat (reasN d (setN d t n) r) else whyI d t n r, σ') := by
  have h17 := hW.r
  have hC := casesN_le hW.1
  obtain ⟨σ1, f1, e1⟩ := tw_setOf hT hW (n := n) (by omega)
  have hT1 := f1.tw hT
  have hs : setN d t n < 2 ^ d 17 := setN_lt
  have hs2 := pow10 h17
  refine ⟨σ1, f1.to, ?_⟩
  unfold q_why
  rw [e1, bd_J, tw_reason hT1 hW hr, bd_J, iJ_eqL (by omega) (by decide)]
  by_cases c : k = 0
  · rw [if_pos c, if_pos c]
  · rw [if_neg c, if_neg c]
    have hre : reasN d (setN d t n) r ≤ 4 := by
      unfold reasN
      repeat' split
      all_goals omega
    unfold whyI
    rw [iJ_eqL (by omega) (by decide), iJ_eqL (by omega) (by decide), iJ_eqL (by omega) (by decide), iJ_eqL (by omega) (by decide)]
    by_cases c1 : reasN d (setN d t n) r = 1
    · rw [if_pos c1, if_pos c1, show (0 : Int32) = Int32.ofNat 0 from rfl, tw_valueOf hT1 hW.1 (by omega) (by have := hW.1.1; omega)]
      rfl
    · rw [if_neg c1, if_neg c1]
      by_cases c2 : reasN d (setN d t n) r = 2
      · have ho := ovF_lt (d := d) (r := r) (d 17)
        have ha : (setN d t n &&& ovN d r) ≤ setN d t n := Nat.and_le_left
        rw [if_pos c2, if_pos c2, tw_overIt hT1 hW (by omega), bd_J, J_and, tw_least (by omega)]
        rfl
      · rw [if_neg c2, if_neg c2]
        by_cases c3 : reasN d (setN d t n) r = 3
        · have hu : unbN d (setN d t n) ≤ setN d t n := andn_le _ _
          rw [if_pos c3, if_pos c3, tw_unbeaten hT1 h17 (fun r hr => hW.ov hr) (by omega), bd_J, tw_other hT1 h17 (fun r hr h hh => hW.sh hr hh) (by omega) hr]
          rfl
        · rw [if_neg c3, if_neg c3]
          by_cases c4 : reasN d (setN d t n) r = 4
          · rw [if_pos c4, if_pos c4, tw_settles hT1 hW hs]
            rfl
          · rw [if_neg c4, if_neg c4, tw_bitsO (by omega)]
            rfl
