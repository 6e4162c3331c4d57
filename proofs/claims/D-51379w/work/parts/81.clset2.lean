/-! THE PLAIN LAW, the class' side: rest, estate, heir; undo and snapshots -/
set_option maxRecDepth 100000
theorem pc_setRest {o : oW} {σ : cS} {x : Nat} {S : SS} (h : CInv o σ x S) (hO : SSok S) (hR : Rm σ 700 3000) (x1 : Int32) : CRs [2] x σ (m_X1_setRest x x1 σ) S (sp_setRest x1 S).1 (sp_setRest x1 S).2.1 (sp_setRest x1 S).2.2 := by
  have hW := hO.1.1
  obtain ⟨⟨hS, hK⟩, wa, dq, sl, bu, re, PA, ka, L, u, hX, hC, hF⟩ := h.parts
  have xc := hX.1.2
  unfold m_X1_setRest sp_setRest
  rw [nn_J xc, cz_heir hW xc hC (hR.le (by decide) (by decide))]
  cases hb : inB x1 (S.1.1 5) with
  | false => rw [if_neg (by decide), if_neg (by decide), bdx_t hR]; exact CRs.t (j := 0) hR rfl
  | true =>
    obtain ⟨k, hk, rfl⟩ := inB_of hb
    have h5 := hW.h
    obtain ⟨σ1, o1, PA1, e1, ⟨S1, K1⟩, X1, C1, F1, R1⟩ := cl_rem (n := 0) (m := 0) hS hK hX hO hC hF (hR.le (by decide) (by decide))
    have xc1 := X1.1.2
    rw [if_pos (by decide), if_pos (by decide), bdx_l, nn_J xc, e1, bd_J, gR_J xc1 rfl, gI_J C1.w rfl, gR_J xc1 rfl, pO_J C1.w (by show 6 < 9; decide) (S1.w C1.ow.1), J_cl (by omega), xl_J]
    have ew : List.set (wF L S.1.1) 6 (.int (Int32.ofNat k)) = wF L (upN S.1.1 6 k) := by
      unfold wF
      rw [upN_ne (by decide), upN_at, upN_ne (by decide), upN_ne (by decide)]
      rfl
    rw [ew]
    have hd : ∀ i, i ≠ 6 → upN S.1.1 6 k i = S.1.1 i := fun i hi => upN_ne hi
    have C2 := C1.sW (d' := upN S.1.1 6 k) hW.1 S1 (fun i h6 _ _ => hd i h6)
    have Ch2 : Ch (fun q => q = wa) σ1 (cU σ1 wa (.inr (1, wF L (upN S.1.1 6 k)))) := Ch.rf.cU C1.w (Or.inr rfl)
    have hM : ∀ q, q < σ1.2 0 → q = wa → (o1 q).1 = wa + 1 := fun q _ w => by rw [w, C1.ow.1]
    have F2 := (F1.c Ch2 S1.1 (fun q hq w => by rw [hM q hq w]; exact Nat.succ_ne_zero _) (ne_role C1.o5 C1.ow.1 (by decide)) (fun _ _ => rfl)).dd (d' := upN S.1.1 6 k) hW (fun i hi => hd i (by omega)) (fun i hi => hd i (by omega))
    exact CRs.k (X1.cur hO.keep.f S1 K1 Ch2 hM ⟨L, u, C2, F2⟩)
theorem pc_setEstate {o : oW} {σ : cS} {x : Nat} {S : SS} (h : CInv o σ x S) (hO : SSok S) (hR : Rm σ 700 3000) (x1 : Int32) : CRs [1] x σ (m_X1_setEstate x x1 σ) S (sp_setEstate x1 S).1 (sp_setEstate x1 S).2.1 (sp_setEstate x1 S).2.2 := by
  have hW := hO.1.1
  obtain ⟨⟨hS, hK⟩, wa, dq, sl, bu, re, PA, ka, L, u, hX, hC, hF⟩ := h.parts
  have xc := hX.1.2
  unfold m_X1_setEstate sp_setEstate
  rw [cz_in (n := 10000) (by decide)]
  cases hb : inB x1 10000 with
  | false => rw [if_neg (by decide), if_neg (by decide), bdx_t hR]; exact CRs.t (j := 0) hR rfl
  | true =>
    obtain ⟨k, hk, rfl⟩ := inB_of hb
    obtain ⟨σ1, o1, PA1, e1, ⟨S1, K1⟩, X1, C1, F1, R1⟩ := cl_rem (n := 0) (m := 0) hS hK hX hO hC hF (hR.le (by decide) (by decide))
    have xc1 := X1.1.2
    rw [if_pos (by decide), if_pos (by decide), bdx_l, nn_J xc, e1, bd_J, gR_J xc1 rfl, gI_J C1.w rfl, gR_J xc1 rfl, pO_J C1.w (by show 7 < 9; decide) (S1.w C1.ow.1), J_cl (by omega), xl_J]
    have ew : List.set (wF L S.1.1) 7 (.int (Int32.ofNat k)) = wF L (upN S.1.1 7 k) := by
      unfold wF
      rw [upN_ne (by decide), upN_at, upN_ne (by decide), upN_ne (by decide)]
      rfl
    rw [ew]
    have hd : ∀ i, i ≠ 7 → upN S.1.1 7 k i = S.1.1 i := fun i hi => upN_ne hi
    have C2 := C1.sW (d' := upN S.1.1 7 k) hW.1 S1 (fun i _ h7 _ => hd i h7)
    have Ch2 : Ch (fun q => q = wa) σ1 (cU σ1 wa (.inr (1, wF L (upN S.1.1 7 k)))) := Ch.rf.cU C1.w (Or.inr rfl)
    have hM : ∀ q, q < σ1.2 0 → q = wa → (o1 q).1 = wa + 1 := fun q _ w => by rw [w, C1.ow.1]
    have F2 := (F1.c Ch2 S1.1 (fun q hq w => by rw [hM q hq w]; exact Nat.succ_ne_zero _) (ne_role C1.o5 C1.ow.1 (by decide)) (fun _ _ => rfl)).dd (d' := upN S.1.1 7 k) hW (fun i hi => hd i (by omega)) (fun i hi => hd i (by omega))
    exact CRs.k (X1.cur hO.keep.f S1 K1 Ch2 hM ⟨L, u, C2, F2⟩)
theorem pc_setHeir {o : oW} {σ : cS} {x : Nat} {S : SS} (h : CInv o σ x S) (hO : SSok S) (hR : Rm σ 700 3000) (x1 x2 x3 : Int32) : CRs [2, 1] x σ (m_X1_setHeir x x1 x2 x3 σ) S (sp_setHeir x1 x2 x3 S).1 (sp_setHeir x1 x2 x3 S).2.1 (sp_setHeir x1 x2 x3 S).2.2 := by
  have hW := hO.1.1
  obtain ⟨⟨hS, hK⟩, wa, dq, sl, bu, re, PA, ka, L, u, hX, hC, hF⟩ := h.parts
  have xc := hX.1.2
  unfold m_X1_setHeir sp_setHeir
  rw [nn_J xc, cz_heir hW xc hC (hR.le (by decide) (by decide))]
  cases hb : inB x1 (S.1.1 5) with
  | false => rw [if_neg (by decide), if_neg (show ¬ ((false && _) = true) by simp), bdx_t hR]; exact CRs.t (j := 0) hR rfl
  | true =>
    obtain ⟨k, hk, rfl⟩ := inB_of hb
    have h5 := hW.h
    rw [if_pos rfl, bdx_l, cz_in (n := 2) (by decide)]
    unfold setHB
    cases hb2 : inB x2 2 with
    | false => rw [if_neg (by decide), if_neg (by simp), bdx_t hR]; exact CRs.t (j := 1) hR rfl
    | true =>
      obtain ⟨w, hw, rfl⟩ := inB_of hb2
      rw [if_pos rfl, bdx_l]
      -- what is left once the value is known to be in range
      have fin : ∀ v, v < 10000 → CRs [2, 1] x σ (bdx (some ((.inl 0 : cX Int32), σ)) fun _ σ_1 => nn σ_1 (some x) 0 fun a_3 => bd (m_X1_remember a_3 σ_1) fun _ σ_2 => if Int32.ofNat w = 0 then gR σ_2 (some x) 0 0 fun v_7 => gR σ_2 v_7 1 2 fun v_8 => b_X1_setHeir_53 x (Int32.ofNat k) (Int32.ofNat v) v_8 σ_2 else gR σ_2 (some x) 0 0 fun v_5 => gR σ_2 v_5 1 3 fun v_6 => b_X1_setHeir_53 x (Int32.ofNat k) (Int32.ofNat v) v_6 σ_2) S 0 (Int32.ofNat (S.1.1 (9 + 2 * k + w))) (chS S (upN S.1.1 (9 + 2 * k + w) v) S.1.2) := by
        intro v hv
        obtain ⟨σ1, o1, PA1, e1, ⟨S1, K1⟩, X1, C1, F1, R1⟩ := cl_rem (n := 0) (m := 0) hS hK hX hO hC hF (hR.le (by decide) (by decide))
        have xc1 := X1.1.2
        have hd : ∀ i, i ≠ 9 + 2 * k + w → upN S.1.1 (9 + 2 * k + w) v i = S.1.1 i := fun i hi => upN_ne hi
        have go : ∀ (j : Nat) (hj : j = 1 ∨ j = 2) (hjw : j = w + 1) (g : Nat → Nat) (hg : ∀ i, i < 4 → g i = S.1.1 (8 + j + 2 * i)) (I : IA σ1 (L j) 4 g) (hoj : o1 (L j) = (wa + 1, j)), CRs [2, 1] x σ (b_X1_setHeir_53 x (Int32.ofNat k) (Int32.ofNat v) (some (L j)) σ1) S 0 (Int32.ofNat (S.1.1 (9 + 2 * k + w))) (chS S (upN S.1.1 (9 + 2 * k + w) v) S.1.2) := by
          intro j hj hjw g hg I hoj
          unfold b_X1_setHeir_53
          obtain ⟨e, q1, q2⟩ := I.st (i := k) (x := v) (by omega) (by decide) (S1.w hoj)
          obtain ⟨f, c, -⟩ := id I
          rw [I.ld (show k < 4 by omega) (by decide), q1, hg k (by omega), xl_J, show 8 + j + 2 * k = 9 + 2 * k + w by omega]
          have C2 := C1.sF (d' := upN S.1.1 (9 + 2 * k + w) v) hW.1 S1 hj (q2.g (fun i hi => by
            by_cases c : i = k
            · rw [if_pos c, c, show 8 + j + 2 * k = 9 + 2 * k + w by omega, upN_at]
            · rw [if_neg c, hd _ (by omega), hg i hi])) (fun i hi => hd i (by have := hi k (by omega); omega))
          have Ch2 : Ch (fun q => q = L j) σ1 (cU σ1 (L j) e) := Ch.rf.cU c (Or.inr rfl)
          have hM : ∀ q, q < σ1.2 0 → q = L j → (o1 q).1 = wa + 1 := fun q _ w => by rw [w, hoj]
          have F2 := (F1.c Ch2 S1.1 (fun q hq w => by rw [hM q hq w]; exact Nat.succ_ne_zero _) (ne_role C1.o5 hoj (by omega)) (fun _ _ => rfl)).dd (d' := upN S.1.1 (9 + 2 * k + w) v) hW (fun i hi => hd i (by omega)) (fun i hi => hd i (by omega))
          exact CRs.k (X1.cur hO.keep.f S1 K1 Ch2 hM ⟨L, u, C2, F2⟩)
        rw [bdx_l, nn_J xc, e1, bd_J, iJ_eqL (by omega) (by decide)]
        by_cases c : w = 0
        · rw [if_pos (show w = OfNat.ofNat 0 from c), gR_J xc1 rfl, gR_J C1.w rfl]
          exact go 1 (Or.inl rfl) (by omega) _ (fun i hi => rfl) C1.f C1.ow.2.1
        · rw [if_neg (show ¬ w = OfNat.ofNat 0 from c), gR_J xc1 rfl, gR_J C1.w rfl]
          exact go 2 (Or.inr rfl) (by omega) _ (fun i hi => rfl) C1.ra C1.ow.2.2.1
      unfold b_X1_setHeir_25
      have h0 : (Int32.ofNat 0 = (0 : Int32)) = True := eq_true rfl
      have h1 : (Int32.ofNat 1 = (0 : Int32)) = False := eq_false (by decide)
      obtain rfl | rfl : w = 0 ∨ w = 1 := by omega
      · simp only [h0, if_true] at fin ⊢
        rw [cz_in (n := 10000) (by decide)]
        cases hb3 : inB x3 10000 with
        | false => rw [if_neg (by decide), if_neg (by simp), bdx_t hR]; exact CRs.t (j := 1) hR rfl
        | true =>
          obtain ⟨v, hv, rfl⟩ := inB_of hb3
          rw [if_pos rfl, if_pos (by simp), J_cl (by omega), J_cl (by omega), J_cl (by omega)]
          exact fin v hv
      · simp only [h1, if_false] at fin ⊢
        rw [cz_in (n := 61) (by decide)]
        cases hb3 : inB x3 61 with
        | false => rw [if_neg (by decide), if_neg (by simp), bdx_t hR]; exact CRs.t (j := 1) hR rfl
        | true =>
          obtain ⟨v, hv, rfl⟩ := inB_of hb3
          rw [if_pos rfl, if_pos (by simp), J_cl (by omega), J_cl (by omega), J_cl (by omega)]
          exact fin v (by omega)
/-- a row as a number, from above -/
def NB (d g : Nat → Nat) (n : Nat) : Nat → Nat
  | 0 => 0
  | j + 1 => NB d g n j * d (1 + (n - (j + 1))) + g (n - (j + 1))
def PjN (d : Nat → Nat) (f : Nat) : Nat → Nat
  | 0 => 1
  | j + 1 => d (1 + (f - (j + 1))) * PjN d f j
theorem PjN_p {d : Nat → Nat} {f : Nat} : ∀ j, j ≤ f → PjN d f j * prodN d (f - j) = prodN d f := by
  intro j
  induction j with
  | zero => intro _; show 1 * prodN d f = _; rw [Nat.one_mul]
  | succ j ih =>
    intro hj
    rw [← ih (by omega)]
    show d (1 + (f - (j + 1))) * PjN d f j * prodN d (f - (j + 1)) = _
    rw [show f - j = (f - (j + 1)) + 1 by omega]
    show _ = PjN d f j * (prodN d (f - (j + 1)) * d (1 + (f - (j + 1))))
    rw [Nat.mul_comm (d _) (PjN d f j), Nat.mul_assoc, Nat.mul_comm (d _) (prodN d _)]
theorem NB_div {d : Nat → Nat} {m : Nat} {n : Nat} (h0 : divN d m n = 0) : ∀ j, j ≤ n → NB d (fun k => valueN d m k) n j = divN d m (n - j) := by
  intro j
  induction j with
  | zero => intro _; exact h0.symm
  | succ j ih =>
    intro hj
    show NB d _ n j * d (1 + (n - (j + 1))) + valueN d m (n - (j + 1)) = _
    rw [ih (by omega), show n - j = (n - (j + 1)) + 1 by omega]
    show divN d m (n - (j + 1)) / d (1 + (n - (j + 1))) * d (1 + (n - (j + 1))) + divN d m (n - (j + 1)) % d (1 + (n - (j + 1))) = _
    rw [Nat.mul_comm]
    exact Nat.div_add_mod _ _
theorem NB_set {d : Nat → Nat} {m n f v : Nat} (hf : f < n) : (∀ j, j ≤ n - (f + 1) → NB d (fun k => if k = f then v else valueN d m k) n j = NB d (fun k => valueN d m k) n j) ∧ ∀ i, i ≤ f → NB d (fun k => if k = f then v else valueN d m k) n (n - f + i) + PjN d f i * valueN d m f = NB d (fun k => valueN d m k) n (n - f + i) + PjN d f i * v := by
  have a : ∀ j, j ≤ n - (f + 1) → NB d (fun k => if k = f then v else valueN d m k) n j = NB d (fun k => valueN d m k) n j := by
    intro j
    induction j with
    | zero => intro _; rfl
    | succ j ih =>
      intro hj
      show NB d _ n j * d (1 + (n - (j + 1))) + (if n - (j + 1) = f then v else valueN d m (n - (j + 1))) = NB d _ n j * d (1 + (n - (j + 1))) + valueN d m (n - (j + 1))
      rw [ih (by omega), if_neg (by omega)]
  refine ⟨a, fun i => ?_⟩
  induction i with
  | zero =>
    intro _
    have e : n - f + 0 = (n - (f + 1)) + 1 := by omega
    rw [e]
    show NB d _ n (n - (f + 1)) * d (1 + (n - (n - (f + 1) + 1))) + (if n - (n - (f + 1) + 1) = f then v else valueN d m (n - (n - (f + 1) + 1))) + 1 * valueN d m f = NB d _ n (n - (f + 1)) * d (1 + (n - (n - (f + 1) + 1))) + valueN d m (n - (n - (f + 1) + 1)) + 1 * v
    rw [a _ (Nat.le_refl _), if_pos (by omega), show n - (n - (f + 1) + 1) = f by omega]
    omega
  | succ i ih =>
    intro hi
    have ih := ih (by omega)
    have e : n - f + (i + 1) = (n - f + i) + 1 := by omega
    have e2 : n - (n - f + i + 1) = f - (i + 1) := by omega
    rw [e]
    show NB d _ n (n - f + i) * d (1 + (n - (n - f + i + 1))) + (if n - (n - f + i + 1) = f then v else valueN d m (n - (n - f + i + 1))) + d (1 + (f - (i + 1))) * PjN d f i * valueN d m f = NB d _ n (n - f + i) * d (1 + (n - (n - f + i + 1))) + valueN d m (n - (n - f + i + 1)) + d (1 + (f - (i + 1))) * PjN d f i * v
    rw [e2, if_neg (by omega), Nat.mul_comm (NB d (fun k => if k = f then v else valueN d m k) n (n - f + i)), Nat.mul_comm (NB d (fun k => valueN d m k) n (n - f + i)), Nat.mul_assoc, Nat.mul_assoc]
    generalize d (1 + (f - (i + 1))) = b at *
    have := congrArg (fun z => b * z) ih
    rw [Nat.mul_add, Nat.mul_add] at this
    omega
theorem NB_sv {d : Nat → Nat} {t : Nat → Term} (hW : WOk d t) {f v : Nat} (hf : f < d 0) : NB d (fun k => if k = f then v else valueN d (d 8) k) (d 0) (d 0) = svN d f v := by
  have h8 := hW.2.2.2.2.1
  have h1 := divN_mul hW.1 (d 8) (d 0) (Nat.le_refl _)
  have h0 : divN d (d 8) (d 0) = 0 := by
    cases e : divN d (d 8) (d 0) with
    | zero => rfl
    | succ z =>
      rw [e] at h1
      have : prodN d (d 0) ≤ (z + 1) * prodN d (d 0) := Nat.le_mul_of_pos_left _ (Nat.succ_pos _)
      have h8 : d 8 < prodN d (d 0) := h8
      omega
  have h2 := (NB_set (d := d) (m := d 8) (v := v) hf).2 f (Nat.le_refl _)
  have h3 := NB_div h0 (d 0) (Nat.le_refl _)
  have h4 := PjN_p (d := d) (f := f) f (Nat.le_refl _)
  rw [Nat.sub_self] at h3 h4
  rw [show d 0 - f + f = d 0 by omega, h3] at h2
  have h5 : PjN d f f = prodN d f := by rw [← h4]; show _ = PjN d f f * 1; rw [Nat.mul_one]
  rw [h5] at h2
  have h6 : divN d (d 8) 0 = d 8 := rfl
  rw [h6] at h2
  unfold svN
  omega
theorem cl_numberOf {σ : cS} {a row : Nat} {L d g : Nat → Nat} (hF : FOk d) (h1 : σ.1 a = some (.inr (1, wF L d))) (h2 : IA σ (L 0) (d 0) (fun i => d (1 + i))) (hI : IA σ row (d 0) g) : m_X4_numberOf a (some row) σ = some (Int32.ofNat (NB d g (d 0) (d 0)), σ) := by
  have h4 := hF.1
  unfold m_X4_numberOf
  rw [gR_J h1 rfl, h2.len, lt_J, J_subL (show 1 ≤ d 0 from h4.1)]
  have key : ∀ i j f, i + 1 + j = d 0 → i + 1 < f → b_X4_numberOf_10 a f (some row) (Int32.ofNat (NB d g (d 0) j)) (Int32.ofNat i) σ = some (Int32.ofNat (NB d g (d 0) (d 0)), σ) := by
    intro i
    induction i with
    | zero =>
      intro j f hj hf
      obtain ⟨f, rfl⟩ : ∃ f', f = f' + 1 := ⟨f - 1, by omega⟩
      rw [b_X4_numberOf_10, if_neg (by rw [J_nn (by decide)]; exact id), gR_J h1 rfl, h2.ld h4.1 (by omega), hI.ld h4.1 (by omega), lt_J, J_mul, J_add, lt_J]
      obtain ⟨f, rfl⟩ : ∃ f', f = f' + 1 := ⟨f - 1, by omega⟩
      rw [b_X4_numberOf_10, if_pos (by decide)]
      have e : NB d g (d 0) (d 0) = NB d g (d 0) j * d (1 + 0) + g 0 := by
        have e1 : d 0 = j + 1 := by omega
        have : NB d g (d 0) (j + 1) = NB d g (d 0) j * d (1 + (d 0 - (j + 1))) + g (d 0 - (j + 1)) := rfl
        rw [show d 0 - (j + 1) = 0 by omega] at this
        rw [← this, ← e1]
      rw [e]
    | succ i ih =>
      intro j f hj hf
      obtain ⟨f, rfl⟩ : ∃ f', f = f' + 1 := ⟨f - 1, by omega⟩
      have e : NB d g (d 0) (j + 1) = NB d g (d 0) j * d (1 + (i + 1)) + g (i + 1) := by
        show NB d g (d 0) j * d (1 + (d 0 - (j + 1))) + g (d 0 - (j + 1)) = _
        rw [show d 0 - (j + 1) = i + 1 by omega]
      have em : Int32.ofNat (i + 1) + (-1) = Int32.ofNat i := by
        rw [← Int32.sub_eq_add_neg, J_subL (show 1 ≤ i + 1 by omega)]
        rfl
      rw [b_X4_numberOf_10, if_neg (by rw [J_nn (by omega)]; exact id), gR_J h1 rfl, h2.ld (show i + 1 < d 0 by omega) (by omega), hI.ld (show i + 1 < d 0 by omega) (by omega), lt_J, J_mul, J_add, ← e, lt_J, em]
      exact ih (j + 1) f (by omega) (by omega)
  exact key (d 0 - 1) 0 FU (by omega) (by show _ < 4096; omega)
theorem pc_setValue {o : oW} {σ : cS} {x : Nat} {S : SS} (h : CInv o σ x S) (hO : SSok S) (hR : Rm σ 700 3000) (x1 x2 : Int32) : CRs [2, 1] x σ (m_X1_setValue x x1 x2 σ) S (sp_setValue x1 x2 S).1 (sp_setValue x1 x2 S).2.1 (sp_setValue x1 x2 S).2.2 := by
  have hW := hO.1.1
  have h4 := hW.1.1
  obtain ⟨⟨hS, hK⟩, wa, dq, sl, bu, re, PA, ka, L, u, hX, hC, hF⟩ := h.parts
  have xc := hX.1.2
  unfold m_X1_setValue sp_setValue
  rw [nn_J xc, cz_fact hW xc hC (hR.le (by decide) (by decide))]
  cases hb : inB x1 (S.1.1 0) with
  | false => rw [if_neg (by decide), if_neg (by decide), bdx_t hR]; exact CRs.t (j := 0) hR rfl
  | true =>
    obtain ⟨f, hf, rfl⟩ := inB_of hb
    have hbf := hW.1.2 f hf
    rw [if_pos (by decide), if_pos (by decide), bdx_l, gR_J xc rfl, gR_J hC.w rfl, hC.v.ld hf (by omega), J_cl (by omega), cz_in (J_pre (by omega))]
    cases hb2 : inB x2 (S.1.1 (1 + f)) with
    | false => rw [if_neg (by decide), if_neg (by decide), bdx_t hR]; exact CRs.t (j := 1) hR rfl
    | true =>
      obtain ⟨v, hv, rfl⟩ := inB_of hb2
      have h8 := hW.2.2.2.2.1
      have hcc := casesN_le hW.1
      obtain ⟨σ1, o1, PA1, e1, ⟨S1, K1⟩, X1, C1, F1, R1⟩ := cl_rem (n := 1) (m := 4) hS hK hX hO hC hF (hR.le (by decide) (by decide))
      have xc1 := X1.1.2
      rw [if_pos (by decide), if_pos (by decide), bdx_l, nn_J xc, e1, bd_J, gR_J xc1 rfl, nn_J C1.w, J_cl (by omega)]
      unfold m_X4_setValue
      obtain ⟨σ2, e2, I2, Ch2, R2⟩ := cl_valuesOf (x := 0) (y := 0) (n := S.1.1 8) hW.1 (by omega) C1.w C1.v S1.1 S1.2.1 R1
      have S2 := S1.ch Ch2
      have C2 := C1.c Ch2 S1.1 hW.1 (fun _ _ w => w.elim) (fun _ _ => rfl) (S1.l C1.o5)
      have F2 := F1.c Ch2 S1.1 (fun _ _ w => w.elim) id (fun _ _ => rfl)
      rw [gI_J C1.w rfl, nn_J C1.w, e2, bd_J]
      obtain ⟨e, q1, q2⟩ := I2.st (i := f) (x := v) hf (by omega) (by rw [Ch2.k (by decide)]; exact S1.2.1)
      obtain ⟨fr, c2, -⟩ := id I2
      have Ch3 : Ch (fun _ => False) σ1 (cU σ2 (σ1.2 0) e) := Ch2.cU c2 (Or.inl (Nat.le_refl _))
      have C3 := C1.c Ch3 S1.1 hW.1 (fun _ _ w => w.elim) (fun _ _ => rfl) (S1.l C1.o5)
      have F3 := F1.c Ch3 S1.1 (fun _ _ w => w.elim) id (fun _ _ => rfl)
      have S3 := S1.ch Ch3
      have x3 : (cU σ2 (σ1.2 0) e).1 x = some (.inr (0, mF wa dq sl bu re)) := Ch3.c S1.1 xc1 id
      rw [q1]
      generalize cU σ2 (σ1.2 0) e = σ3 at q2 Ch3 C3 F3 S3 x3 ⊢
      rw [nn_J C3.w, cl_numberOf hW.1 C3.w C3.v q2, bd_J, NB_sv hW hf, pO_J C3.w (by show 8 < 9; decide) (S3.w C3.ow.1), bd_J]
      have ew : List.set (wF L S.1.1) 8 (.int (Int32.ofNat (svN S.1.1 f v))) = wF L (upN S.1.1 8 (svN S.1.1 f v)) := by
        unfold wF
        rw [upN_ne (by decide), upN_at, upN_ne (by decide), upN_ne (by decide)]
        rfl
      rw [ew]
      have hd : ∀ i, i ≠ 8 → upN S.1.1 8 (svN S.1.1 f v) i = S.1.1 i := fun i hi => upN_ne hi
      have C4 := C3.sW (d' := upN S.1.1 8 (svN S.1.1 f v)) hW.1 S3 (fun i _ _ h8 => hd i h8)
      have Ch4 : Ch (fun q => q = wa) σ3 (cU σ3 wa (.inr (1, wF L (upN S.1.1 8 (svN S.1.1 f v))))) := Ch.rf.cU C3.w (Or.inr rfl)
      have hM : ∀ q, q < σ1.2 0 → q = wa → (o1 q).1 = wa + 1 := fun q _ w => by rw [w, C1.ow.1]
      have hM3 : ∀ q, q < σ3.2 0 → q = wa → (o1 q).1 ≠ 0 := fun q _ w => by rw [w, C1.ow.1]; exact Nat.succ_ne_zero _
      have F4 := (F3.c Ch4 S3.1 hM3 (ne_role C3.o5 C3.ow.1 (by decide)) (fun _ _ => rfl)).dd (d' := upN S.1.1 8 (svN S.1.1 f v)) hW (fun i hi => hd i (by omega)) (fun i hi => hd i (by omega))
      have x4 : (cU σ3 wa (.inr (1, wF L (upN S.1.1 8 (svN S.1.1 f v))))).1 x = some (.inr (0, mF wa dq sl bu re)) := by rw [cU_n (hX.ne hX.2.2.2.2.2.1)]; exact x3
      have Ch14 : Ch (fun q => q = wa) σ1 (cU σ3 wa (.inr (1, wF L (upN S.1.1 8 (svN S.1.1 f v))))) := (Ch3.mono (fun _ _ w => w.elim)).trans Ch4
      rw [gR_J x4 rfl, gI_J C4.w rfl, xl_J]
      show CRs [2, 1] x σ (some (.inl (Int32.ofNat (upN S.1.1 8 (svN S.1.1 f v) 8)), _)) S 0 _ _
      rw [upN_at]
      exact CRs.k (X1.cur hO.keep.f S1 K1 Ch14 hM ⟨L, u, C4, F4⟩)
