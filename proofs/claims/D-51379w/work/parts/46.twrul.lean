/-! THE PLAIN LAW: how the twin writes rules and verdicts -/
set_option maxRecDepth 100000
/-- an heir's part as a text; the parts of the first k heirs -/
def ptx (d : Nat → Nat) (r k : Nat) : List Nat := decN k ++ 32 :: (decN (shTN d r k false) ++ 47 :: decN (shTN d r k true))
def prtF (d : Nat → Nat) (r : Nat) : Nat → List Nat
  | 0 => []
  | k + 1 => if d (47 + 34 * r + k) = 0 then prtF d r k else prtF d r k ++ ((if prtF d r k = [] then [32] else [44, 32]) ++ ptx d r k)
def ovrF (m : Nat) : Nat → List Nat
  | 0 => []
  | k + 1 => if m.testBit k = true then ovrF m k ++ 32 :: decN k else ovrF m k
def prtT (d : Nat → Nat) (r : Nat) : List Nat := if prtF d r (d 5) = [] then [32, 110, 111, 116, 104, 105, 110, 103] else prtF d r (d 5)
def ovrT (d : Nat → Nat) (r : Nat) : List Nat := if d (51 + 34 * r) = 0 then [] else [32, 111, 118, 101, 114]
def wrR (d : Nat → Nat) (t : Nat → Term) (r : Nat) : List Nat := gW 9 (t r) ++ ([32, 103, 105, 118, 101, 115] ++ (prtT d r ++ (ovrT d r ++ ovrF (d (51 + 34 * r)) (d 17))))
theorem decN_len {n j : Nat} (h : n < 10 ^ (j + 1)) : (decN n).length ≤ j + 1 := decD_len 9 n j h
theorem shTN_lt {d : Nat → Nat} {r h : Nat} {b : Bool} (hs : d (47 + 34 * r + h) ≤ 27720) : shTN d r h b ≤ 27720 := by
  unfold shTN
  refine Nat.le_trans (Nat.div_le_self _ _) ?_
  split
  · exact Nat.le_refl _
  · exact hs
theorem ptx_len {d : Nat → Nat} {r k : Nat} (hs : d (47 + 34 * r + k) ≤ 27720) (hk : k < 10) : (ptx d r k).length ≤ 13 := by
  have h1 := decN_len (n := k) (j := 0) (by omega)
  have h2 := decN_len (n := shTN d r k false) (j := 4) (by have := shTN_lt (b := false) hs; omega)
  have h3 := decN_len (n := shTN d r k true) (j := 4) (by have := shTN_lt (b := true) hs; omega)
  unfold ptx
  simp only [List.length_append, List.length_cons]
  omega
theorem prtF_len {d : Nat → Nat} {r : Nat} (hs : ∀ h, h < 4 → d (47 + 34 * r + h) ≤ 27720) : ∀ k, k ≤ 4 → (prtF d r k).length ≤ 15 * k := by
  intro k
  induction k with
  | zero => intro _; exact Nat.le_refl _
  | succ k ih =>
    intro hk
    have h1 := ih (by omega)
    have h2 := ptx_len (hs k (by omega)) (show k < 10 by omega)
    unfold prtF
    split
    · omega
    · simp only [List.length_append]
      split
      · simp only [List.length_cons, List.length_nil]; omega
      · simp only [List.length_cons, List.length_nil]; omega
theorem ovrF_len {m : Nat} : ∀ k, k ≤ 10 → (ovrF m k).length ≤ 2 * k := by
  intro k
  induction k with
  | zero => intro _; exact Nat.le_refl _
  | succ k ih =>
    intro hk
    have h1 := ih (by omega)
    have h2 := decN_len (n := k) (j := 0) (by omega)
    unfold ovrF
    split
    · simp only [List.length_append, List.length_cons]; omega
    · omega
theorem wrR_len {d : Nat → Nat} {t : Nat → Term} (hW : WOk d t) {r : Nat} (hr : r < d 17) : (wrR d t r).length ≤ 400 := by
  have hG := (hW.2.2.2.2.2.2.2 r hr).1
  have h1 := gW_len (d := d) (t r) 9 hG.1.1
  have h2 := prtF_len (d := d) (r := r) (fun h hh => hW.sh hr hh) (d 5) hW.h.2
  have h3 := ovrF_len (m := d (51 + 34 * r)) (d 17) hW.r
  have h4 := hG.1.2
  have h5 := hW.h
  have h6 := hW.r
  unfold wrR
  simp only [List.length_append]
  have h7 : (prtT d r).length ≤ 68 := by
    unfold prtT
    split
    · decide
    · omega
  have h8 : (ovrT d r).length ≤ 5 := by
    unfold ovrT
    split <;> decide
  have h9 : [32, 103, 105, 118, 101, 115].length = 6 := rfl
  omega
theorem WR.fr {σ σ1 : twS} {L : List Nat} {r : Option (Int32 × twS)} (f : frR σ σ1) (h : WR σ1 L r) : WR σ L r := by
  obtain ⟨σ2, f2, p2, e2⟩ := h
  exact ⟨σ2, f.trans f2, p2, e2⟩
theorem tw_writeParts {d : Nat → Nat} {t : Nat → Term} {σ : twS} (hT : TW d σ) (hW : WOk d t) {r : Nat} (hr : r < d 17) {L : List Nat} (h : RP σ L) (hne : L ≠ []) (hl : (L ++ prtT d r).length ≤ 600) : WR σ (L ++ prtT d r) (mT_writeParts (Int32.ofNat r) σ) := by
  have h5 := hW.h
  have h17 := hW.r
  -- from heir k on
  have key : ∀ j k f (σ : twS), k + j = d 5 → j < f → TW d σ → RP σ (L ++ prtF d r k) → WR σ (L ++ prtT d r) (bT_writeParts_4 f (Int32.ofNat r) (b32 (!decide (prtF d r k = []))) (Int32.ofNat k) σ) := by
    intro j
    induction j with
    | zero =>
      intro k f σ hk hf hT p
      obtain ⟨f, rfl⟩ : ∃ f', f = f' + 1 := ⟨f - 1, by omega⟩
      rw [show k = d 5 by omega] at p ⊢
      rw [bT_writeParts_4, tw_aldL hT (by decide), iJ_le (by omega) (by omega), if_pos (Nat.le_refl _)]
      by_cases c : prtF d r (d 5) = []
      · have eT : prtT d r = [32, 110, 111, 116, 104, 105, 110, 103] := by unfold prtT; rw [if_pos c]
        rw [eT] at hl ⊢
        rw [c] at p ⊢
        rw [show (b32 (!decide (([] : List Nat) = []))) = 0 from by decide, if_pos rfl]
        rw [List.append_nil] at p
        have e : tokL L [110, 111, 116, 104, 105, 110, 103] = L ++ [32, 110, 111, 116, 104, 105, 110, 103] := tokL_ne hne
        have := tk1 (s := [110, 111, 116, 104, 105, 110, 103]) (h := p) (hl := by rw [e]; exact hl)
        rw [e] at this
        exact this.bd fun σ1 f1 p1 => WR.of p1
      · have eT : prtT d r = prtF d r (d 5) := by unfold prtT; rw [if_neg c]
        rw [eT] at hl ⊢
        rw [if_neg (by rw [decide_eq_false c]; decide)]
        exact WR.of p
    | succ j ih =>
      intro k f σ hk hf hT p
      obtain ⟨f, rfl⟩ : ∃ f', f = f' + 1 := ⟨f - 1, by omega⟩
      have hs := hW.sh hr (show k < 4 by omega)
      have e : prtF d r (k + 1) = (if d (47 + 34 * r + k) = 0 then prtF d r k else prtF d r k ++ ((if prtF d r k = [] then [32] else [44, 32]) ++ ptx d r k)) := rfl
      rw [bT_writeParts_4, tw_aldL hT (by decide), iJ_le (by omega) (by omega), if_neg (by omega), J_addR, show OfNat.ofNat 29 + k = 29 + k from rfl, tw_of hT (by omega), bd_J, show 18 + 34 * r + (29 + k) = 47 + 34 * r + k by omega, iJ_eqL (by omega) (by decide)]
      by_cases c : d (47 + 34 * r + k) = 0
      · rw [if_pos c] at e
        rw [if_pos c, lt_J, J_addL]
        have := ih (k + 1) f σ (by omega) (by omega) hT (by rw [e]; exact p)
        rw [e] at this
        exact this
      · rw [if_neg c] at e
        rw [if_neg c]
        have hle : (L ++ prtF d r (k + 1)).length ≤ 600 := by
          have h6 := prtF_len (d := d) (r := r) (fun h hh => hW.sh hr hh) (k + 1) (by omega)
          have hmono : ∀ i, (prtF d r (k + 1)).length ≤ (prtF d r (k + 1 + i)).length := by
            intro i
            induction i with
            | zero => exact Nat.le_refl _
            | succ i ih =>
              refine Nat.le_trans ih ?_
              show _ ≤ (prtF d r (k + 1 + i + 1)).length
              rw [prtF]
              split
              · exact Nat.le_refl _
              · rw [List.length_append]; omega
          have hm := hmono j
          rw [show k + 1 + j = d 5 by omega] at hm
          have hne2 : prtF d r (d 5) ≠ [] := by
            intro q
            rw [q, e, List.length_append, List.length_append] at hm
            have h1 : 1 ≤ (ptx d r k).length := by unfold ptx; simp; omega
            simp only [List.length_nil] at hm
            omega
          have eT : prtT d r = prtF d r (d 5) := by unfold prtT; rw [if_neg hne2]
          rw [eT, List.length_append] at hl
          rw [List.length_append]
          omega
        rw [e] at hle
        have last : ∀ (σ2 : twS) (M : List Nat), TW d σ2 → M ≠ [] → RP σ2 M → M ++ 32 :: ptx d r k = L ++ prtF d r (k + 1) → WR σ2 (L ++ prtT d r) (bT_writeParts_39 (bT_writeParts_4 f) (Int32.ofNat r) (Int32.ofNat k) σ2) := by
          intro σ2 M hT2 hM p2 eM
          rw [← e, ← eM] at hle
          have hM5 : (M ++ 32 :: (decN k ++ 32 :: (decN (shTN d r k false) ++ 47 :: decN (shTN d r k true)))).length ≤ 600 := hle
          simp only [List.length_append, List.length_cons] at hM5
          unfold bT_writeParts_39
          refine (tk1 (s := []) (h := p2) (hl := by rw [tokL_ne hM]; simp; omega)).bd fun σ3 f3 p3 => ?_
          rw [tokL_ne hM] at p3
          refine (tw_writeNumber (n := k) (by omega) p3 (by simp; omega)).bd fun σ4 f4 p4 => ?_
          refine (tk1 (s := []) (h := p4) (hl := by rw [tokL_ne (by simp)]; simp; omega)).bd fun σ5 f5 p5 => ?_
          rw [tokL_ne (by simp)] at p5
          have hT5 : TW d σ5 := f5.tw (f4.tw (f3.tw hT2))
          rw [show mT_shareTold (Int32.ofNat r) (Int32.ofNat k) 0 σ5 = mT_shareTold (Int32.ofNat r) (Int32.ofNat k) (b32 false) σ5 from rfl, tw_shareTold hT5 hW hr (by omega), bd_J]
          have hb := shTN_lt (b := false) hs
          have hb2 := shTN_lt (b := true) hs
          refine (tw_writeNumber (n := shTN d r k false) (by omega) p5 (by simp; omega)).bd fun σ6 f6 p6 => ?_
          refine (tw_write (c := 47) (by decide) p6 (by simp; omega)).bd fun σ7 f7 p7 => ?_
          have hT7 : TW d σ7 := f7.tw (f6.tw hT5)
          rw [show mT_shareTold (Int32.ofNat r) (Int32.ofNat k) 1 σ7 = mT_shareTold (Int32.ofNat r) (Int32.ofNat k) (b32 true) σ7 from rfl, tw_shareTold hT7 hW hr (by omega), bd_J]
          refine (tw_writeNumber (n := shTN d r k true) (by omega) p7 (by simp; omega)).bd fun σ8 f8 p8 => ?_
          rw [lt_J, J_addL]
          have e8 : M ++ 32 :: [] ++ decN k ++ 32 :: [] ++ decN (shTN d r k false) ++ [47] ++ decN (shTN d r k true) = L ++ prtF d r (k + 1) := by
            rw [← eM]
            unfold ptx
            simp
          rw [e8] at p8
          have hq : prtF d r (k + 1) ≠ [] := by
            rw [e]
            intro q
            have := congrArg List.length q
            simp [ptx] at this
          have := ih (k + 1) f σ8 (by omega) (by omega) (f8.tw hT7) p8
          rw [decide_eq_false hq] at this
          exact this
        by_cases c2 : prtF d r k = []
        · rw [if_pos (by rw [c2]; rfl)]
          rw [if_pos c2] at e
          rw [c2, List.append_nil] at p
          exact last σ L hT hne p (by rw [e, c2]; rfl)
        · rw [if_neg (by rw [decide_eq_false c2]; decide)]
          rw [if_neg c2] at e hle
          refine (tw_write (c := 44) (by decide) p (by simp at hle ⊢; omega)).bd fun σ2 f2 p2 => ?_
          exact last σ2 _ (f2.tw hT) (by simp) p2 (by rw [e]; simp)
  have h0 : RP σ (L ++ prtF d r 0) := by
    rw [show prtF d r 0 = [] from rfl, List.append_nil]
    exact h
  exact key (d 5) 0 FU σ (by omega) (by show d 5 < 4096; omega) hT h0
/-- the report begins anew -/
theorem RP.new {σ : twS} : RP (twI σ 12 0) [] := ⟨by decide, rfl, fun i hi => by simp at hi⟩
theorem tw_writeRule {d : Nat → Nat} {t : Nat → Term} {σ : twS} (hT : TW d σ) (hW : WOk d t) {r : Nat} (hr : r < d 17) : ∃ σ', frR σ σ' ∧ RP σ' (wrR d t r) ∧ q_writeRule (Int32.ofNat r) σ = some (Int32.ofNat (wrR d t r).length, σ') := by
  have h17 := hW.r
  have hlen := wrR_len hW hr
  have hG := (hW.2.2.2.2.2.2.2 r hr).1
  have hgl := gFl_len (t r) hG.1.1
  have hov := hW.ov hr
  unfold q_writeRule
  rw [lt_J]
  have f0 : frR σ (twI σ 12 0) := ⟨fun _ _ => rfl, fun k hk => by simp [twI, hk]⟩
  have hT0 : TW d (twI σ 12 0) := twI_tw hT
  have p0 := RP.new (σ := σ)
  generalize twI σ 12 0 = σ0 at f0 hT0 p0 ⊢
  rw [show (0 : Int32) = Int32.ofNat 0 from rfl, tw_of hT0 (by omega), bd_J, show 18 + 34 * r + 0 = 18 + 34 * r from rfl, hG.2.1]
  have hW0 := tw_writePart hW.1 (show r < 10 by omega) (t r) hG.1.1 DP 0 9 σ0 [] (by decide) ⟨fun i hi => by rw [Nat.zero_add]; exact hG.2.2 i hi, by have := hG.1.2; omega⟩ (by have := hG.1.2; show _ ≤ 64; omega) hT0 p0 (by
    show (gW 9 (t r)).length ≤ 600
    unfold wrR at hlen
    rw [List.length_append] at hlen
    omega)
  rw [Nat.zero_add] at hW0
  -- the last loop
  have fin : ∀ j k f (σ : twS) (M : List Nat), k + j = d 17 → j < f → TW d σ → RP σ (M ++ ovrF (d (51 + 34 * r)) k) → M ≠ [] → M ++ ovrF (d (51 + 34 * r)) (d 17) = wrR d t r → ∃ σ', frR σ σ' ∧ RP σ' (wrR d t r) ∧ bT_writeRule_71 f (Int32.ofNat r) (Int32.ofNat k) σ = some (Int32.ofNat (wrR d t r).length, σ') := by
    intro j
    induction j with
    | zero =>
      intro k f σ M hk hf hT p hM eM
      obtain ⟨f, rfl⟩ : ∃ f', f = f' + 1 := ⟨f - 1, by omega⟩
      rw [show k = d 17 by omega] at p ⊢
      rw [eM] at p
      refine ⟨σ, frR.rf, p, ?_⟩
      rw [bT_writeRule_71, tw_aldL hT (by decide), iJ_le (by omega) (by omega), if_pos (Nat.le_refl _), p.2.1]
    | succ j ih =>
      intro k f σ M hk hf hT p hM eM
      obtain ⟨f, rfl⟩ : ∃ f', f = f' + 1 := ⟨f - 1, by omega⟩
      have e : ovrF (d (51 + 34 * r)) (k + 1) = (if (d (51 + 34 * r)).testBit k = true then ovrF (d (51 + 34 * r)) k ++ 32 :: decN k else ovrF (d (51 + 34 * r)) k) := rfl
      rw [bT_writeRule_71, tw_aldL hT (by decide), iJ_le (by omega) (by omega), if_neg (by omega), show (33 : Int32) = Int32.ofNat 33 from rfl, tw_of hT (by omega), bd_J, show 18 + 34 * r + 33 = 51 + 34 * r by omega, tw_has (by omega) (by omega), bd_J, ite_pq (b32_0 _)]
      cases hb : (d (51 + 34 * r)).testBit k with
      | false =>
        rw [hb, if_neg (by decide)] at e
        rw [if_pos rfl, lt_J, J_addL]
        exact ih (k + 1) f σ M (by omega) (by omega) hT (by rw [e]; exact p) hM eM
      | true =>
        rw [hb, if_pos rfl] at e
        rw [if_neg (by decide)]
        have hmono : ∀ i, (ovrF (d (51 + 34 * r)) (k + 1)).length ≤ (ovrF (d (51 + 34 * r)) (k + 1 + i)).length := by
          intro i
          induction i with
          | zero => exact Nat.le_refl _
          | succ i ih =>
            refine Nat.le_trans ih ?_
            show _ ≤ (ovrF (d (51 + 34 * r)) (k + 1 + i + 1)).length
            rw [ovrF]
            split
            · rw [List.length_append]; omega
            · exact Nat.le_refl _
        have hm := hmono j
        rw [show k + 1 + j = d 17 by omega, e] at hm
        have hml := congrArg List.length eM
        rw [List.length_append] at hml
        rw [List.length_append, List.length_cons] at hm
        have hne : M ++ ovrF (d (51 + 34 * r)) k ≠ [] := by simp [hM]
        have q1 := tk1 (t1 := tS_370) (s := []) (h := p) (hl := by rw [tokL_ne hne]; simp; omega)
        rw [tokL_ne hne] at q1
        obtain ⟨σ1, f1, p1, e1⟩ := q1
        obtain ⟨σ2, f2, p2, e2⟩ := tw_writeNumber (n := k) (by omega) p1 (by simp; omega)
        obtain ⟨σ3, f3, p3, e3⟩ := ih (k + 1) f σ2 M (by omega) (by omega) (f2.tw (f1.tw hT)) (by rw [e]; simpa using p2) hM eM
        refine ⟨σ3, f1.trans (f2.trans f3), p3, ?_⟩
        rw [e1, bd_J, e2, bd_J, lt_J, J_addL]
        exact e3
  have l5 : (gW 9 (t r) ++ [32, 103, 105, 118, 101, 115]).length ≤ (wrR d t r).length := by
    unfold wrR
    simp only [List.length_append]
    omega
  have l6 : (gW 9 (t r) ++ [32, 103, 105, 118, 101, 115] ++ prtT d r).length ≤ (wrR d t r).length := by
    unfold wrR
    simp only [List.length_append]
    omega
  have l7 : (gW 9 (t r) ++ [32, 103, 105, 118, 101, 115] ++ prtT d r ++ ovrT d r).length ≤ (wrR d t r).length := by
    unfold wrR
    simp only [List.length_append]
    omega
  have gne := gW_ne (d := d) (t r) 9 hG.1.1
  obtain ⟨σ1, f1, p1, e1⟩ := hW0
  rw [J_subL (by show 1 ≤ _; omega)]
  have e1' : mT_writePart DP (Int32.ofNat r) (Int32.ofNat ((gFl (t r)).length - OfNat.ofNat 1)) 9 σ0 = some (0, σ1) := e1
  rw [e1', bd_J]
  have p1' : RP σ1 (gW 9 (t r)) := p1
  obtain ⟨σ2, f2, p2, e2⟩ := tk1 (t1 := tS_226) (s := [103, 105, 118, 101, 115]) (h := p1') (hl := by rw [tokL_ne gne]; show (gW 9 (t r) ++ [32, 103, 105, 118, 101, 115]).length ≤ 600; omega)
  rw [tokL_ne gne] at p2
  rw [e2, bd_J]
  have hT2 : TW d σ2 := f2.tw (f1.tw hT0)
  obtain ⟨σ3, f3, p3, e3⟩ := tw_writeParts hT2 hW hr (L := gW 9 (t r) ++ [32, 103, 105, 118, 101, 115]) p2 (by simp) (by omega)
  have hT3 := f3.tw hT2
  rw [e3, bd_J, show (33 : Int32) = Int32.ofNat 33 from rfl, tw_of hT3 (by omega), bd_J, show 18 + 34 * r + 33 = 51 + 34 * r by omega, iJ_eq (by omega) (by omega)]
  by_cases c : d (51 + 34 * r) = 0
  · rw [if_pos c]
    have eO : ovrT d r = [] := by unfold ovrT; rw [if_pos c]
    obtain ⟨σ4, f4, p4, e4⟩ := fin (d 17) 0 FU σ3 (gW 9 (t r) ++ [32, 103, 105, 118, 101, 115] ++ prtT d r) (by omega) (by show d 17 < 4096; omega) hT3 (by rw [show ovrF (d (51 + 34 * r)) 0 = [] from rfl, List.append_nil]; exact p3) (by simp) (by unfold wrR; rw [eO]; simp only [List.append_assoc, List.nil_append])
    exact ⟨σ4, f0.trans (f1.trans (f2.trans (f3.trans f4))), p4, e4⟩
  · rw [if_neg c]
    have eO : ovrT d r = [32, 111, 118, 101, 114] := by unfold ovrT; rw [if_neg c]
    rw [eO] at l7
    have ne3 : gW 9 (t r) ++ [32, 103, 105, 118, 101, 115] ++ prtT d r ≠ [] := by simp
    obtain ⟨σ4, f4, p4, e4⟩ := tk1 (t1 := tS_224) (s := [111, 118, 101, 114]) (h := p3) (hl := by rw [tokL_ne ne3]; omega)
    rw [tokL_ne ne3] at p4
    have hT4 := f4.tw hT3
    obtain ⟨σ5, f5, p5, e5⟩ := fin (d 17) 0 FU σ4 _ (by omega) (by show d 17 < 4096; omega) hT4 (by rw [show ovrF (d (51 + 34 * r)) 0 = [] from rfl, List.append_nil]; exact p4) (by simp) (by unfold wrR; rw [eO]; simp only [List.append_assoc])
    refine ⟨σ5, f0.trans (f1.trans (f2.trans (f3.trans (f4.trans f5)))), p5, ?_⟩
    rw [e4, bd_J]
    exact e5
def vdC (d : Nat → Nat) (t : Nat → Term) (n : Nat) : Nat := if verdN d (setN d t n) = 0 then 48 + (setlN d (setN d t n)).getD 0 else if verdN d (setN d t n) = 3 then 33 else 63
def vdF (d : Nat → Nat) (t : Nat → Term) : Nat → List Nat
  | 0 => []
  | k + 1 => vdF d t k ++ [vdC d t k]
theorem vdF_len {d : Nat → Nat} {t : Nat → Term} : ∀ k, (vdF d t k).length = k := by
  intro k
  induction k with
  | zero => rfl
  | succ k ih => unfold vdF; rw [List.length_append, ih]; rfl
theorem setl_0 {d : Nat → Nat} {t : Nat → Term} {n : Nat} (hW : WOk d t) (h : verdN d (setN d t n) = 0) : ∃ r, setlN d (setN d t n) = some r ∧ r < d 17 := by
  have hs : setN d t n < 2 ^ d 17 := setN_lt
  have h10 := hW.r
  have hu : unbN d (setN d t n) < 2 ^ d 17 := Nat.lt_of_le_of_lt (andn_le _ _) hs
  have hu0 : unbN d (setN d t n) ≠ 0 := by
    intro q
    unfold verdN at h
    split at h
    · cases h
    · cases h
  obtain ⟨r, h1, h2, -⟩ := least_bit hu (by omega) hu0
  refine ⟨r, ?_, h2⟩
  unfold setlN
  rw [if_pos h]
  exact h1
theorem tw_writeVerdicts {d : Nat → Nat} {t : Nat → Term} {σ : twS} (hT : TW d σ) (hW : WOk d t) : ∃ σ1 σ', fr15 (twI σ 13 0) σ1 ∧ frR σ1 σ' ∧ RP σ' (vdF d t (casesN d)) ∧ mT_writeVerdicts σ = some (Int32.ofNat (casesN d), σ') := by
  have hC := casesN_le hW.1
  have h17 := hW.r
  obtain ⟨σ1, f1, hA, e1⟩ := tw_setsOut (twI_tw (k := 13) (x := 0) hT) hW
  have hT1 := f1.tw (twI_tw (k := 13) (x := 0) hT)
  have f2 : frR σ1 (twI σ1 12 0) := ⟨fun _ _ => rfl, fun k hk => by simp [twI, hk]⟩
  have key : ∀ j k f (σ : twS), k + j = casesN d → j < f → TW d σ → AP d t σ → RP σ (vdF d t k) → ∃ σ', frR σ σ' ∧ RP σ' (vdF d t (casesN d)) ∧ bT_writeVerdicts_21 f (Int32.ofNat (casesN d)) (Int32.ofNat k) σ = some (Int32.ofNat (casesN d), σ') := by
    intro j
    induction j with
    | zero =>
      intro k f σ hk hf hT hA p
      obtain ⟨f, rfl⟩ : ∃ f', f = f' + 1 := ⟨f - 1, by omega⟩
      rw [show k = casesN d by omega] at p ⊢
      refine ⟨σ, frR.rf, p, ?_⟩
      rw [bT_writeVerdicts_21, iJ_le (by omega) (by omega), if_pos (Nat.le_refl _), p.2.1, vdF_len]
    | succ j ih =>
      intro k f σ hk hf hT hA p
      obtain ⟨f, rfl⟩ : ∃ f', f = f' + 1 := ⟨f - 1, by omega⟩
      have hv := verdN_le d (setN d t k)
      have last : ∀ c, vdC d t k = c → c < 256 → ∃ σ', frR σ σ' ∧ RP σ' (vdF d t (casesN d)) ∧ bT_writeVerdicts_73 (bT_writeVerdicts_21 f) (Int32.ofNat (casesN d)) (Int32.ofNat k) (Int32.ofNat c) σ = some (Int32.ofNat (casesN d), σ') := by
        intro c hc hc2
        obtain ⟨σ2, f2, p2, e2⟩ := tw_write hc2 p (by rw [List.length_append, vdF_len]; show k + 1 ≤ 600; omega)
        have e3 : vdF d t k ++ [c] = vdF d t (k + 1) := by rw [← hc]; rfl
        rw [e3] at p2
        obtain ⟨σ3, f3, p3, e4⟩ := ih (k + 1) f σ2 (by omega) (by omega) (f2.tw hT) (fun n hn => by rw [f2.1 15 (by decide)]; exact hA n hn) p2
        refine ⟨σ3, f2.trans f3, p3, ?_⟩
        unfold bT_writeVerdicts_73
        rw [e2, bd_J, lt_J, J_addL]
        exact e4
      rw [bT_writeVerdicts_21, iJ_le (by omega) (by omega), if_neg (by omega), ald_J (by omega) (by decide), hA k (by omega), tw_verdictOf hT hW setN_lt, bd_J, iJ_eqL (by omega) (by decide), iJ_eqL (by omega) (by decide)]
      by_cases c0 : verdN d (setN d t k) = 0
      · obtain ⟨r, hr, hr2⟩ := setl_0 hW c0
        rw [if_pos c0, ald_J (by omega) (by decide), hA k (by omega), tw_settles hT hW setN_lt, bd_J, hr]
        show ∃ σ', _ ∧ _ ∧ bT_writeVerdicts_73 _ _ _ (48 + (Int32.ofNat r - Int32.ofNat r / Int32.ofNat 10 * Int32.ofNat 10)) _ = _
        rw [J_mod (by omega) (by decide), J_addR]
        exact last _ (by unfold vdC; rw [if_pos c0, hr]; show 48 + r = 48 + r % 10; omega) (by show 48 + r % 10 < 256; omega)
      · rw [if_neg c0]
        by_cases c3 : verdN d (setN d t k) = 3
        · rw [if_pos c3]
          exact last 33 (by unfold vdC; rw [if_neg c0, if_pos c3]) (by decide)
        · rw [if_neg c3]
          exact last 63 (by unfold vdC; rw [if_neg c0, if_neg c3]) (by decide)
  obtain ⟨σ3, f3, p3, e3⟩ := key (casesN d) 0 FU (twI σ1 12 0) (by omega) (by show casesN d < 4096; omega) (f2.tw hT1) hA RP.new
  refine ⟨σ1, σ3, f1, f2.trans f3, p3, ?_⟩
  unfold mT_writeVerdicts
  rw [lt_J, e1, bd_J, lt_J, tw_cases (f2.tw hT1) hW.1, bd_J]
  exact e3
theorem tw_reportAt {σ : twS} {L : List Nat} (h : RP σ L) (h8 : ∀ x, x ∈ L → x < 256) (x : Int32) : mT_reportAt x σ = some (if inB x L.length then Int32.ofNat (L.getD x.toNatClampNeg 0) else 0, twI σ 13 0) := by
  have h1 := h.1
  unfold mT_reportAt
  rw [lt_J, tw_inI (n := L.length) (by show (σ.2 12 - 1).toInt = _; rw [h.2.1]; exact J_pre (by omega)), bd_J, ite_pq (b32_0 _)]
  cases hb : inB x L.length with
  | false => rw [if_pos rfl]; rfl
  | true =>
    obtain ⟨k, hk, rfl⟩ := inB_of hb
    rw [if_neg (by decide), ald_J (by omega) (by decide), J_cl (by omega)]
    have hc : L.getD k 0 < 256 := by
      rw [List.getD_eq_getElem?_getD, List.getElem?_eq_getElem hk]
      exact h8 _ (List.getElem_mem hk)
    show rc (σ.1 11 k) (twI σ 13 0) = some (Int32.ofNat (L.getD k 0), _)
    rw [h.2.2 k hk]
    have : ∀ c, c < 256 → (Int32.ofNat c).toUInt32.toUInt16.toUInt32.toInt32 = Int32.ofNat c := by decide +kernel
    unfold rc
    rw [if_pos (this _ hc)]
