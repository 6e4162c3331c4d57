/-! THE PLAIN LAW, the class' side: a will's questions -/
set_option maxRecDepth 100000
/-- a call's answer, with what holds after it -/
def Rt {α : Type} (D : cS → Prop) (r : Option (α × cS)) (v : α) : Prop := ∃ σ', r = some (v, σ') ∧ D σ'
theorem Rt.bd {α γ : Type} {D D2 : cS → Prop} {r : Option (α × cS)} {v : α} {K : α → cS → Option (γ × cS)} {w : γ} (h : Rt D r v) (k : ∀ σ', D σ' → Rt D2 (K v σ') w) : Rt D2 (bd r K) w := by
  obtain ⟨σ', e, hD⟩ := h
  rw [e, bd_J]
  exact k σ' hD
theorem Rt.mk {α : Type} {D : cS → Prop} {σ : cS} {v : α} (h : D σ) : Rt D (some (v, σ)) v := ⟨σ, rfl, h⟩
theorem loopG {β : Type} (D : Nat → cS → Prop) (B : Nat → Nat → cS → β) (Q : β → Prop) (n : Nat) (step : ∀ f k σ, k < n → D k σ → (∀ σ', D (k + 1) σ' → Q (B f (k + 1) σ')) → Q (B (f + 1) k σ)) (fin : ∀ f σ, D n σ → Q (B (f + 1) n σ)) : ∀ j k f σ, k + j = n → j < f → D k σ → Q (B f k σ) := by
  intro j
  induction j with
  | zero =>
    intro k f σ hk hf hD
    obtain ⟨f, rfl⟩ : ∃ f', f = f' + 1 := ⟨f - 1, by omega⟩
    have e : k = n := by omega
    subst e
    exact fin f σ hD
  | succ j ih =>
    intro k f σ hk hf hD
    obtain ⟨f, rfl⟩ : ∃ f', f = f' + 1 := ⟨f - 1, by omega⟩
    exact step f k σ (by omega) hD (fun σ' hD' => ih (k + 1) f σ' (by omega) (by omega) hD')
/-- a loop whose state goes on -/
theorem loopD {β : Type} (D : Nat → cS → Prop) (B : Nat → Nat → cS → β) (Q : β → Prop) (n : Nat) (hn : n < 4096) (step : ∀ f k σ, k < n → D k σ → (∀ σ', D (k + 1) σ' → Q (B f (k + 1) σ')) → Q (B (f + 1) k σ)) (fin : ∀ f σ, D n σ → Q (B (f + 1) n σ)) (σ : cS) (h : D 0 σ) : Q (B FU 0 σ) := loopG D B Q n step fin n 0 FU σ (by omega) (by show n < 4096; omega) h
theorem cl_cases {o : oW} {σ : cS} {a : Nat} {L d : Nat → Nat} {t : Nat → Term} (hF : FOk d) (h : WillC o σ a L d t) : m_X4_cases a σ = some (Int32.ofNat (casesN d), σ) := by
  have h4 := hF.1
  unfold m_X4_cases
  refine loop_FU (fun g k => b_X4_cases_4 a g (Int32.ofNat (prodN d k)) (Int32.ofNat k) σ) (fun _ => some (Int32.ofNat (casesN d), σ)) (d 0) (by omega) (fun g k hk ih => ?_) (fun g => ?_)
  · show b_X4_cases_4 a (g + 1) _ _ _ = _
    rw [b_X4_cases_4, gR_J h.w rfl, h.v.len, iJ_le (by omega) (by omega), if_neg (by omega), gR_J h.w rfl, h.v.ld hk (by omega), lt_J, J_mul, lt_J, J_addL]
    exact ih
  · show b_X4_cases_4 a (g + 1) _ _ _ = _
    rw [b_X4_cases_4, gR_J h.w rfl, h.v.len, iJ_le (by omega) (by omega), if_pos (Nat.le_refl _)]
    rfl
section CLQ
variable {o : oW} {σ0 σ : cS} {a x y : Nat} {L d : Nat → Nat} {t : Nat → Term}
theorem cl_many (hW : WOk d t) (h : RD o σ0 a L d t x y σ) {v : Nat} (hv : v ≤ 3) : Rt (RD o σ0 a L d t x y) (m_X4_withVerdict a (Int32.ofNat v) σ) (Int32.ofNat (manyN d t v none)) := by
  have hc := casesN_le hW.1
  unfold m_X4_withVerdict
  rw [nn_J h.W.w, cl_cases hW.1 h.W, bd_J]
  refine loopD (fun _ => RD o σ0 a L d t x y) (fun f k σ => b_X4_withVerdict_10 a f (Int32.ofNat v) (Int32.ofNat (cntN (fun n => decide (verdN d (butN (setN d t n) none) = v)) k)) (Int32.ofNat (casesN d)) (Int32.ofNat k) σ) (fun z => Rt (RD o σ0 a L d t x y) z (Int32.ofNat (manyN d t v none))) (casesN d) (by omega) (fun f k σ hk D ih => ?_) (fun f σ D => ?_) σ h
  · show Rt _ (b_X4_withVerdict_10 a (f + 1) _ _ _ _ _) _
    obtain ⟨q, σ1, e, D1, ⟨-, row, -, qc, -⟩, -⟩ := cl_look hW D hk
    have h3 := verdN_le d (setN d t k)
    have e5 : cntN (fun n => decide (verdN d (butN (setN d t n) none) = v)) (k + 1) = cntN (fun n => decide (verdN d (butN (setN d t n) none) = v)) k + (if decide (verdN d (setN d t k) = v) then 1 else 0) := rfl
    rw [b_X4_withVerdict_10, iJ_le (by omega) (by omega), if_neg (by omega), nn_J D.W.w, e, bd_J, gI_J qc rfl, iJ_eq (by omega) (by omega)]
    have ih := ih σ1 D1
    rw [e5] at ih
    by_cases c : verdN d (setN d t k) = v
    · rw [if_pos c, lt_J, lt_J, J_addL, J_addL]
      rw [if_pos (decide_eq_true c)] at ih
      exact ih
    · rw [if_neg c, lt_J, lt_J, J_addL, J_addL]
      rw [if_neg (by simpa using c)] at ih
      exact ih
  · show Rt _ (b_X4_withVerdict_10 a (f + 1) _ _ _ _ _) _
    rw [b_X4_withVerdict_10, iJ_le (by omega) (by omega), if_pos (Nat.le_refl _)]
    exact Rt.mk D
theorem cl_gaps (hW : WOk d t) (h : RD o σ0 a L d t x y σ) : Rt (RD o σ0 a L d t x y) (m_X4_gaps a σ) (Int32.ofNat (gapsN d t none)) := by
  unfold m_X4_gaps
  rw [nn_J h.W.w]
  refine Rt.bd (cl_many hW h (v := 1) (by decide)) (fun σ1 D1 => ?_)
  rw [nn_J D1.W.w]
  refine Rt.bd (cl_many hW D1 (v := 2) (by decide)) (fun σ2 D2 => ?_)
  rw [J_add]
  exact Rt.mk D2
/-- each case has one of four verdicts -/
theorem four_V (p : Nat → Nat) (hp : ∀ n, p n ≤ 3) : ∀ c, cntN (fun n => decide (p n = 0)) c + (cntN (fun n => decide (p n = 1)) c + cntN (fun n => decide (p n = 2)) c + cntN (fun n => decide (p n = 3)) c) = c := by
  intro c
  induction c with
  | zero => rfl
  | succ c ih =>
    show cntN _ c + (if decide (p c = 0) = true then 1 else 0) + (cntN _ c + (if decide (p c = 1) = true then 1 else 0) + (cntN _ c + (if decide (p c = 2) = true then 1 else 0)) + (cntN _ c + (if decide (p c = 3) = true then 1 else 0))) = c + 1
    have h := hp c
    obtain e | e | e | e : p c = 0 ∨ p c = 1 ∨ p c = 2 ∨ p c = 3 := by omega
    all_goals
      rw [e]
      simp
      omega
theorem uns_V (d : Nat → Nat) (t : Nat → Term) (but : Option Nat) : manyN d t 0 but + unsN d t but = casesN d := four_V (fun n => verdN d (butN (setN d t n) but)) (fun n => verdN_le _ _) (casesN d)
theorem cl_unsettled (hW : WOk d t) (h : RD o σ0 a L d t x y σ) : Rt (RD o σ0 a L d t x y) (m_X4_unsettled a σ) (Int32.ofNat (unsN d t none)) := by
  have e := uns_V d t none
  unfold m_X4_unsettled
  rw [nn_J h.W.w, cl_cases hW.1 h.W, bd_J, nn_J h.W.w]
  refine Rt.bd (cl_many hW h (v := 0) (by decide)) (fun σ2 D2 => ?_)
  rw [J_sub (by omega), show casesN d - manyN d t 0 none = unsN d t none by omega]
  exact Rt.mk D2
theorem cl_partOf (hW : WOk d t) (hC : WillC o σ a L d t) {r h : Nat} (hr : r < d 17) (hh : h < 4) : m_X4_partOf a (some (L (10 + r))) (Int32.ofNat h) σ = some (Int32.ofNat (pcN d r h), σ) := by
  have rc := hC.r hr
  have hs := hW.sh hr hh
  have he := hW.e
  unfold m_X4_partOf
  rw [gI_J hC.w rfl, gR_J rc.2.1 rfl, rc.2.2.1.ld hh (by decide), gd_J (by decide), cl_pc he hs]
  rfl
theorem cl_gets (hW : WOk d t) (h : RD o σ0 a L d t x y σ) {n k : Nat} (hn : n < casesN d) (hk : k < d 5) : Rt (RD o σ0 a L d t x y) (m_X4_gets a (Int32.ofNat n) (Int32.ofNat k) σ) (Int32.ofNat (partN d (setlN d (setN d t n)) k)) := by
  have h5 := hW.h
  have h6 := hW.rest
  have h7 := hW.e
  have h17 := hW.r
  unfold m_X4_gets
  obtain ⟨q, σ1, e, D1, ⟨-, row, -, qc, -⟩, -⟩ := cl_look hW h hn
  rw [nn_J h.W.w, e, bd_J, gI_J qc rfl, iJ_m1 (fun r hr => by have := setl_lt hW hr; omega)]
  cases hq : setlN d (setN d t n) with
  | none => rw [if_pos rfl]; exact Rt.mk D1
  | some r =>
    have hr := setl_lt hW hq
    have rc := D1.W.r hr
    have w := D1.W
    have hs := (hW.2.2.2.2.2.2.2 r hr).2.2.1
    rw [if_neg (fun w => by cases w), gR_J w.w rfl, w.l.nn, show o32 (some r) = Int32.ofNat r from rfl, w.l.get hr, bd_J, cst_J rc.2.1 (by decide) rfl, gI_J w.w rfl, iJ_eq (by omega) (by omega)]
    show Rt _ _ (Int32.ofNat (if k = d 6 then restF d r k (d 5) else pcN d r k))
    by_cases c : k = d 6
    · rw [if_pos c, if_pos c, gI_J w.w rfl]
      have : b_X4_gets_54 a FU (some (L (10 + r))) (Int32.ofNat (d 7)) 0 σ1 = some (Int32.ofNat (restF d r k (d 5)), σ1) := by
        refine loop_FU (fun g j => b_X4_gets_54 a g (some (L (10 + r))) (Int32.ofNat (restF d r k j)) (Int32.ofNat j) σ1) (fun _ => some (Int32.ofNat (restF d r k (d 5)), σ1)) (d 5) (by omega) (fun g j hj ih => ?_) (fun g => ?_)
        · show b_X4_gets_54 a (g + 1) _ _ _ _ = _
          have e : restF d r k (j + 1) = restF d r k j - (if j = k then 0 else pcN d r j) := rfl
          rw [e] at ih
          rw [b_X4_gets_54, gI_J w.w rfl, iJ_le (by omega) (by omega), if_neg (by omega), gI_J w.w rfl, iJ_eq (by omega) (by omega)]
          by_cases c2 : j = d 6
          · rw [if_pos c2, lt_J, J_subL (Nat.zero_le _), lt_J, J_addL]
            rw [if_pos (by omega)] at ih
            exact ih
          · rw [if_neg c2, nn_J w.w, cl_partOf hW w hr (by omega), bd_J, lt_J]
            have q1 := (restF_ge (d := d) (r := r) (h := k) j).1
            have q2 := psF_le hs (j + 1) (by omega)
            have q3 : psF d r (j + 1) = psF d r j + pcN d r j := rfl
            rw [J_sub (by omega), lt_J, J_addL]
            rw [if_neg (by omega)] at ih
            exact ih
        · show b_X4_gets_54 a (g + 1) _ _ _ _ = _
          rw [b_X4_gets_54, gI_J w.w rfl, iJ_le (by omega) (by omega), if_pos (Nat.le_refl _)]
      rw [this]
      exact Rt.mk D1
    · rw [if_neg c, if_neg c, nn_J w.w, cl_partOf hW w hr (by omega), bd_J]
      exact Rt.mk D1
theorem setl_o {d : Nat → Nat} {t : Nat → Term} (hW : WOk d t) (n : Nat) : ∀ r, setlN d (setN d t n) = some r → r < d 17 := fun _ hr => setl_lt hW hr
theorem cl_duty (hW : WOk d t) (h : RD o σ0 a L d t x y σ) {n k : Nat} (hn : n < casesN d) (hk : k < d 5) : Rt (RD o σ0 a L d t x y) (m_X4_duty a (Int32.ofNat n) (Int32.ofNat k) σ) (Int32.ofNat (dutyN d (setlN d (setN d t n)) k)) := by
  have h5 := hW.h
  have hp := partN_le hW (h := k) (setl_o hW n) (by omega)
  have h7 := hW.e
  have hf := hW.fr (k := k) (by omega)
  unfold m_X4_duty
  rw [nn_J h.W.w]
  refine Rt.bd (cl_gets hW h hn hk) (fun σ1 D1 => ?_)
  have w := D1.W
  rw [gR_J w.w rfl, w.f.ld (show k < 4 by omega) (by decide), lt_J, ite_pq (J_sle (by omega) (by omega))]
  by_cases c : partN d (setlN d (setN d t n)) k ≤ d (9 + 2 * k)
  · rw [if_pos c]
    have e : dutyN d (setlN d (setN d t n)) k = 0 := by
      unfold dutyN
      rw [show partN d (setlN d (setN d t n)) k - d (9 + 2 * k) = 0 by omega, Nat.zero_mul]
    rw [e]
    exact Rt.mk D1
  · have hm : (partN d (setlN d (setN d t n)) k - d (9 + 2 * k)) * d (10 + 2 * k) ≤ 9999 * 60 := Nat.mul_le_mul (by omega) (by omega)
    rw [if_neg c, gR_J w.w rfl, w.ra.ld (show k < 4 by omega) (by decide), J_sub (by omega), J_mul, J_divL (by omega) (by decide)]
    exact Rt.mk D1
theorem cl_duties (hW : WOk d t) (h : RD o σ0 a L d t x y σ) {n : Nat} (hn : n < casesN d) : Rt (RD o σ0 a L d t x y) (m_X4_duties a (Int32.ofNat n) σ) (Int32.ofNat (dutsN d (setlN d (setN d t n)))) := by
  have h5 := hW.h
  unfold m_X4_duties
  refine loopD (fun _ => RD o σ0 a L d t x y) (fun f k σ => b_X4_duties_4 a f (Int32.ofNat n) (Int32.ofNat (dutsF d (setlN d (setN d t n)) k)) (Int32.ofNat k) σ) (fun z => Rt (RD o σ0 a L d t x y) z (Int32.ofNat (dutsN d (setlN d (setN d t n))))) (d 5) (by omega) (fun f k σ hk D ih => ?_) (fun f σ D => ?_) σ h
  · show Rt _ (b_X4_duties_4 a (f + 1) _ _ _ _) _
    rw [b_X4_duties_4, gI_J D.W.w rfl, iJ_le (by omega) (by omega), if_neg (by omega), nn_J D.W.w]
    refine Rt.bd (cl_duty hW D hn hk) (fun σ1 D1 => ?_)
    rw [lt_J, lt_J, J_add, J_addL]
    exact ih σ1 D1
  · show Rt _ (b_X4_duties_4 a (f + 1) _ _ _ _) _
    rw [b_X4_duties_4, gI_J D.W.w rfl, iJ_le (by omega) (by omega), if_pos (Nat.le_refl _)]
    exact Rt.mk D
theorem cl_above (hW : WOk d t) (hC : WillC o σ a L d t) {r h : Nat} (hr : r < d 17) (hh : h < 4) : m_X9_above (L (10 + r)) (Int32.ofNat h) σ = some (Int32.ofNat (shTN d r h false), σ) := by
  have rc := hC.r hr
  have hs := hW.sh hr hh
  have hg : Nat.gcd (d (47 + 34 * r + h)) 27720 ≤ 27720 := Nat.gcd_le_right _ (by decide)
  have hg0 : 0 < Nat.gcd (d (47 + 34 * r + h)) 27720 := Nat.gcd_pos_of_pos_right _ (by decide)
  unfold m_X9_above
  rw [gR_J rc.2.1 rfl, rc.2.2.1.ld hh (by decide), gR_J rc.2.1 rfl, rc.2.2.1.ld hh (by decide), cl_divisor (by omega), bd_J, nz_J (by omega) (by omega), J_div (by omega) (by omega), Nat.gcd_comm]
  rfl
theorem cl_below (hW : WOk d t) (hC : WillC o σ a L d t) {r h : Nat} (hr : r < d 17) (hh : h < 4) : m_X9_below (L (10 + r)) (Int32.ofNat h) σ = some (Int32.ofNat (shTN d r h true), σ) := by
  have rc := hC.r hr
  have hs := hW.sh hr hh
  have hg : Nat.gcd (d (47 + 34 * r + h)) 27720 ≤ 27720 := Nat.gcd_le_right _ (by decide)
  have hg0 : 0 < Nat.gcd (d (47 + 34 * r + h)) 27720 := Nat.gcd_pos_of_pos_right _ (by decide)
  unfold m_X9_below
  rw [gR_J rc.2.1 rfl, rc.2.2.1.ld hh (by decide), cl_divisor (by omega), bd_J, nz_J (by omega) (by omega), show (27720 : Int32) = Int32.ofNat 27720 from rfl, J_div (by omega) (by omega), Nat.gcd_comm]
  rfl
end CLQ
