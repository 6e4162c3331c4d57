/-! THE PLAIN LAW, the class' side: what is written goes to the end -/
set_option maxRecDepth 1000000
theorem byte_back : ∀ c, c < 256 → ((((Int32.ofNat c).toInt8.toInt32 &&& 255).toUInt32 % 65536).toInt32) = Int32.ofNat c := by decide +kernel
theorem byte_rc : ∀ c, c < 256 → (Int32.ofNat c).toUInt32.toUInt16.toUInt32.toInt32 = Int32.ofNat c := by decide +kernel
theorem byte_nar : ∀ c, c < 256 → vp_nar .byte ((Int32.ofNat c).toInt8.toInt32) = (Int32.ofNat c).toInt8.toInt32 := by decide +kernel
theorem rc_J {c : Nat} (h : c < 256) {σ : cS} : rc (Int32.ofNat c) σ = some (Int32.ofNat c, σ) := if_pos (byte_rc c h)
section APP
variable {o : oW} {σ : cS} {x k p cap u v : Nat} {B : List Nat}
theorem SbM.ow {q : Nat} (h : SbM o x k q) : (o q).1 = x + 1 := by rcases h with w | w <;> rw [w]
theorem SbM.th {o1 : oW} {σ1 σ2 : cS} (C1 : Ch (SbM o x k) σ σ1) (oo : ∀ q, q < σ.2 0 → o1 q = o q) (C2 : Ch (SbM o1 x k) σ1 σ2) : Ch (SbM o x k) σ σ2 := C1.then C2 (fun q hq w => by
  unfold SbM at w ⊢
  rw [oo q hq] at w
  exact w)
theorem sb_int (hS : SI o σ) (hK : KA o σ) (h : SBx o σ x k p B cap) {n : Nat} (hn : n < 100000) (hl : B.length ≤ 890) (hR : RB σ cap u v) : ∃ σ' o' cap', m_J3_append p (Int32.ofNat n) σ = some (some p, σ') ∧ SBx o' σ' x k p (B ++ decN n) cap' ∧ SI o' σ' ∧ Ch (SbM o x k) σ σ' ∧ (∀ q, q < σ.2 0 → o' q = o q) ∧ RB σ' cap' u v := by
  have hd := decN_l hn
  obtain ⟨σ1, o1, cap1, e1, X1, hN, S1, C1, oo, R1⟩ := sb_ens (N := B.length + (decN n).length) hS h (by omega) (by omega) hR
  have K1 : KA o1 σ1 := hK.c C1 hS.1 (fun q _ w => by rw [w.ow]; exact Nat.succ_ne_zero _) oo
  obtain ⟨q1, by_, f, ml, q2, c1, c2, ⟨c3, c4⟩, c5, c6⟩ := id X1
  have hne : p ≠ by_ := ne_role q1 q2 (by omega)
  obtain ⟨g', r1, r2, r3⟩ := cl_chars K1.2.2.2 (by_ := by_) (cap := cap1) ⟨(ne_0 q2 K1.2.2.2.1.1).symm, (ne_0 q2 K1.2.2.2.2.1).symm⟩ (S1.w q2) (by omega) 3 n (B.length + (decN n).length) f hn (by omega) (by omega) hN FU (by decide)
  rw [cU_id c2] at r1
  have hb : B.length + (decN n).length - (decN n).length = B.length := by omega
  rw [hb] at r1 r2 r3
  have hcnt : gI σ (some p) 11 3 (fun v_1 => bd (m_J14_stringSize (Int32.ofNat n) σ) fun v_2 σ_3 => lt_ (v_1 + v_2) fun x3_4 => nn σ_3 (some p) 11 fun a_6 => bd (m_J2_ensureCapacityInternal a_6 x3_4 σ_3) fun _ σ_5 => nn σ_5 (some p) 11 fun a_9 => bd (m_J2_isLatin1 a_9 σ_5) fun v_7 σ_8 => if v_7 = 0 then (gR σ_8 (some p) 11 0 fun v_11 => (none : Option (Option Nat × cS))) else gR σ_8 (some p) 11 0 fun v_12 => bd (m_J14_getChars (Int32.ofNat n) x3_4 v_12 σ_8) fun v_13 σ_14 => b_J2_append_48 p x3_4 σ_14) = some (some p, cU (cU σ1 by_ (.inl (1, cap1, .inl g'))) p (.inr (11, [.ref by_, .int 0, .int ml, .int (Int32.ofNat (B.length + (decN n).length))]))) := by
    obtain ⟨-, b0, f0, ml0, -, h1, -⟩ := id h
    rw [gI_J h1 rfl, cl_size hn, bd_J, J_add, lt_J, nn_J h1, e1, bd_J, nn_J c1, sb_lat X1, bd_J, if_neg (by decide), gR_J c1 rfl]
    unfold m_J14_getChars b_J14_getChars_12
    rw [if_pos (show (0 : Int32) ≤ Int32.ofNat n from by rw [show (0 : Int32) = Int32.ofNat 0 from rfl, J_le (by decide) (by omega)]; exact Nat.zero_le _), if_pos rfl, r1, bd_J]
    unfold b_J2_append_48
    rw [pO_J (show (cU σ1 by_ (.inl (1, cap1, .inl g'))).1 p = _ by rw [cU_n hne]; exact c1) (by show 3 < 4; decide) (S1.w q1)]
    rfl
  have hres : m_J3_append p (Int32.ofNat n) σ = some (some p, cU (cU σ1 by_ (.inl (1, cap1, .inl g'))) p (.inr (11, [.ref by_, .int 0, .int ml, .int (Int32.ofNat (B.length + (decN n).length))]))) := by
    unfold m_J3_append m_J2_append
    rw [h.nn, hcnt, bd_J]
  have C2 : Ch (SbM o1 x k) σ1 (cU (cU σ1 by_ (.inl (1, cap1, .inl g'))) p (.inr (11, [.ref by_, .int 0, .int ml, .int (Int32.ofNat (B.length + (decN n).length))]))) := (Ch.rf.cU c2 (Or.inr (Or.inr q2))).cU (show (cU σ1 by_ (.inl (1, cap1, .inl g'))).1 p = _ by rw [cU_n hne]; exact c1) (Or.inr (Or.inl q1))
  have S1' : SI o1 (cU σ1 by_ (.inl (1, cap1, .inl g'))) := S1.ch ((Ch.rf (L := fun q => q = by_)).cU c2 (Or.inr rfl))
  refine ⟨_, o1, cap1, hres, sb_fin S1' q1 q2 (show (cU σ1 by_ (.inl (1, cap1, .inl g'))).1 p = _ by rw [cU_n hne]; exact c1) cU_s ⟨hN, c4⟩ (fun i hi => ?_) (fun i hi => r2 i hi) (fun i hi => ?_), S1.ch C2, SbM.th C1 oo C2, oo, R1⟩
  · rw [r3 i (Or.inl hi)]; exact c5 i hi
  · by_cases d1 : i < B.length
    · rw [r3 i (Or.inl d1)]; exact c6 i hi
    · by_cases d2 : i < B.length + (decN n).length
      · have := r2 (i - B.length) (by omega)
        rw [show B.length + (i - B.length) = i by omega] at this
        rw [this, nar_nar]
      · rw [r3 i (Or.inr (by omega))]; exact c6 i hi
theorem sb_str (hS : SI o σ) (h : SBx o σ x k p B cap) {q : Nat} {s : List Nat} (hs : SC o σ q s) (h10 : s.length ≤ 10) (hl : B.length + s.length ≤ 900) (hR : RB σ cap u v) : ∃ σ' o' cap', m_J3_append_2 p (some q) σ = some (some p, σ') ∧ SBx o' σ' x k p (B ++ s) cap' ∧ SI o' σ' ∧ Ch (SbM o x k) σ σ' ∧ (∀ q, q < σ.2 0 → o' q = o q) ∧ RB σ' cap' u v := by
  obtain ⟨σ1, o1, cap1, e1, X1, hN, S1, C1, oo, R1⟩ := sb_ens (N := B.length + s.length) hS h hl (by omega) hR
  have hs1 : SC o1 σ1 q s := hs.c C1 hS.1 (fun q _ w => by rw [w.ow]; exact Nat.succ_ne_zero _) oo
  obtain ⟨q1, by_, f, ml, q2, c1, c2, ⟨c3, c4⟩, c5, c6⟩ := id X1
  have hne : p ≠ by_ := ne_role q1 q2 (by omega)
  obtain ⟨sb, hh, zz, fs, so1, so2, s1, s2, s3⟩ := id hs1
  obtain ⟨-, b0, f0, ml0, -, h1, -⟩ := id h
  have hput : m_J2_putStringAt p (Int32.ofNat B.length) (some q) σ1 = some (0, cU σ1 by_ (.inl (1, cap1, .inl (va_cpy fs f 0 B.length s.length)))) := by
    unfold m_J2_putStringAt m_J2_inflateIfNeededFor m_J4_coder m_J4_getBytes m_J4_coder
    rw [nn_J c1, if_neg (by decide), gI_J c1 rfl, nn_J s1, gI_J s1 rfl, show rb (0 : Int32) σ1 = some (0, σ1) from rfl, if_neg (by decide), bd_J, if_pos rfl, bd_J, gR_J c1 rfl, gI_J c1 rfl, nn_J s1, nn_J s1, gI_J s1 rfl, show rb (0 : Int32) σ1 = some (0, σ1) from rfl]
    rw [if_neg (by decide), bd_J, if_pos rfl, gR_J s1 rfl, gR_J s1 rfl, aL_J s2 (by show 1 < 6; decide)]
    dsimp only
    rw [J_l0]
    have := cpI_J (β := Int32 × cS) (K := fun σ_12 => some ((0 : Int32), σ_12)) s2 c2 (i := 0) (j := B.length) (n := s.length) (by omega) (by omega) ⟨by omega, by omega⟩ (S1.w q2) (Or.inr (fun j hj => by rw [Nat.zero_add, s3 j hj, nar_nar]))
    rw [show cpI σ1 1 (some sb) 0 (some by_) (Int32.ofNat B.length) (Int32.ofNat s.length) (fun σ_12 => some ((0 : Int32), σ_12)) = _ from this, bd_J]
  have p2 : (cU σ1 by_ (.inl (1, cap1, .inl (va_cpy fs f 0 B.length s.length)))).1 p = some (.inr (11, [.ref by_, .int 0, .int ml, .int (Int32.ofNat B.length)])) := by rw [cU_n hne]; exact c1
  have hres : m_J3_append_2 p (some q) σ = some (some p, cU (cU σ1 by_ (.inl (1, cap1, .inl (va_cpy fs f 0 B.length s.length)))) p (.inr (11, [.ref by_, .int 0, .int ml, .int (Int32.ofNat (B.length + s.length))]))) := by
    unfold m_J3_append_2 m_J2_append_2
    rw [h.nn, if_neg (fun w => by cases w), hs.s.nn, hs.s.len, bd_J, gI_J h1 rfl, nn_J h1, J_add, e1, bd_J, gI_J c1 rfl, nn_J c1, hput, bd_J, gI_J p2 rfl, pO_J p2 (by show 3 < 4; decide) (S1.w q1), J_add, bd_J]
    rfl
  have C2 : Ch (SbM o1 x k) σ1 (cU (cU σ1 by_ (.inl (1, cap1, .inl (va_cpy fs f 0 B.length s.length)))) p (.inr (11, [.ref by_, .int 0, .int ml, .int (Int32.ofNat (B.length + s.length))]))) := (Ch.rf.cU c2 (Or.inr (Or.inr q2))).cU p2 (Or.inr (Or.inl q1))
  have S1' : SI o1 (cU σ1 by_ (.inl (1, cap1, .inl (va_cpy fs f 0 B.length s.length)))) := S1.ch ((Ch.rf (L := fun q => q = by_)).cU c2 (Or.inr rfl))
  refine ⟨_, o1, cap1, hres, sb_fin S1' q1 q2 p2 cU_s ⟨hN, c4⟩ (fun i hi => ?_) (fun i hi => ?_) (fun i hi => ?_), S1.ch C2, SbM.th C1 oo C2, oo, R1⟩
  · rw [pk_cpy_out (Or.inl hi)]; exact c5 i hi
  · rw [pk_cpy_in (by omega) (by omega), Nat.zero_add, Nat.add_sub_cancel_left]; exact s3 i hi
  · by_cases d1 : B.length ≤ i ∧ i < B.length + s.length
    · rw [pk_cpy_in d1.1 d1.2, Nat.zero_add, s3 _ (by omega), nar_nar]
    · rw [pk_cpy_out (by omega)]; exact c6 i hi
theorem sb_chr (hS : SI o σ) (h : SBx o σ x k p B cap) {c : Nat} (hc : c < 256) (hl : B.length + 1 ≤ 900) (hR : RB σ cap u v) : ∃ σ' o' cap', m_J3_append_3 p (Int32.ofNat c) σ = some (some p, σ') ∧ SBx o' σ' x k p (B ++ [c]) cap' ∧ SI o' σ' ∧ Ch (SbM o x k) σ σ' ∧ (∀ q, q < σ.2 0 → o' q = o q) ∧ RB σ' cap' u v := by
  obtain ⟨σ1, o1, cap1, e1, X1, hN, S1, C1, oo, R1⟩ := sb_ens (N := B.length + 1) hS h hl (by omega) hR
  obtain ⟨q1, by_, f, ml, q2, c1, c2, ⟨c3, c4⟩, c5, c6⟩ := id X1
  have hne : p ≠ by_ := ne_role q1 q2 (by omega)
  obtain ⟨-, b0, f0, ml0, -, h1, -⟩ := id h
  have b2 : (cU σ1 p (.inr (11, List.set [Value.ref by_, .int 0, .int ml, .int (Int32.ofNat B.length)] 3 (.int (Int32.ofNat B.length + 1))))).1 by_ = some (.inl (1, cap1, .inl f)) := by rw [cU_n (Ne.symm hne)]; exact c2
  have hcan : ∀ τ, m_J6_canEncode_2 (Int32.ofNat c) τ = some (1, τ) := fun τ => by
    unfold m_J6_canEncode_2
    rw [iJ_ltR (by decide) (by omega), if_neg (by show ¬ 255 < c; omega)]
    rfl
  have hres : m_J3_append_3 p (Int32.ofNat c) σ = some (some p, cU (cU σ1 p (.inr (11, List.set [Value.ref by_, .int 0, .int ml, .int (Int32.ofNat B.length)] 3 (.int (Int32.ofNat B.length + 1))))) by_ (.inl (1, cap1, .inl (upd f B.length ((Int32.ofNat c).toInt8.toInt32))))) := by
    unfold m_J3_append_3 m_J2_append_3
    rw [h.nn, gI_J h1 rfl, nn_J h1, J_addL]
    have e1' : m_J2_ensureCapacityInternal p (Int32.ofNat (B.length + OfNat.ofNat 1)) σ = some (0, σ1) := e1
    rw [e1', bd_J, nn_J c1, sb_lat X1, bd_J, if_neg (by decide), hcan, bd_J, if_neg (by decide), gR_J c1 rfl, gI_J c1 rfl, pO_J c1 (by show 3 < 4; decide) (S1.w q1), byte_nar c hc, sI_J b2 (by omega) (by omega) (S1.w q2), bd_J, J_addL]
  have C2 : Ch (SbM o1 x k) σ1 (cU (cU σ1 p (.inr (11, List.set [Value.ref by_, .int 0, .int ml, .int (Int32.ofNat B.length)] 3 (.int (Int32.ofNat B.length + 1))))) by_ (.inl (1, cap1, .inl (upd f B.length ((Int32.ofNat c).toInt8.toInt32))))) := (Ch.rf.cU c1 (Or.inr (Or.inl q1))).cU b2 (Or.inr (Or.inr q2))
  refine ⟨_, o1, cap1, hres, ⟨q1, by_, upd f B.length ((Int32.ofNat c).toInt8.toInt32), ml, q2, ?_, cU_s, ⟨by rw [List.length_append]; exact hN, c4⟩, fun i hi => ?_, fun i hi => ?_⟩, S1.ch C2, SbM.th C1 oo C2, oo, R1⟩
  · rw [cU_n hne, cU_s, J_addL, List.length_append]; rfl
  · rw [List.length_append] at hi
    have hi : i < B.length + 1 := hi
    by_cases d1 : i = B.length
    · rw [d1, pk_us]
      have e := getD_r (A := B) (B := [c]) (i := 0)
      rw [Nat.add_zero] at e
      rw [e]
      rfl
    · rw [pk_un d1, getD_l (by omega)]; exact c5 i (by omega)
  · by_cases d1 : i = B.length
    · rw [d1, pk_us, nar_nar]
    · rw [pk_un d1]; exact c6 i hi
theorem sb_zero (hS : SI o σ) (h : SBx o σ x k p B cap) : ∃ σ', m_J3_setLength p 0 σ = some (0, σ') ∧ SBx o σ' x k p [] cap ∧ SI o σ' ∧ Ch (SbM o x k) σ σ' ∧ σ'.2 = σ.2 := by
  obtain ⟨q1, by_, f, ml, q2, c1, c2, ⟨c3, c4⟩, c5, c6⟩ := id h
  have hne : p ≠ by_ := ne_role q1 q2 (by omega)
  have hens : m_J2_ensureCapacityInternal p 0 σ = some (0, σ) := by
    unfold m_J2_ensureCapacityInternal
    rw [gR_J c1 rfl, aL_J c2 (by show 1 < 6; decide)]
    dsimp only
    rw [gI_J c1 rfl, J_r0, lt_J, show (0 : Int32) - Int32.ofNat cap = Int32.ofNat 0 - Int32.ofNat cap from rfl, ite_pq (J_sle (by decide) (by omega)), if_pos (Nat.zero_le _)]
  unfold m_J3_setLength m_J2_setLength b_J2_setLength_76
  rw [h.nn, if_pos (by decide), nn_J c1, hens, bd_J, gI_J c1 rfl, iJ_leR (by decide) (by omega), if_pos (Nat.zero_le _), gI_J c1 rfl, iJ_leL (by omega) (by decide)]
  by_cases c : B.length ≤ 0
  · rw [if_pos (show B.length ≤ OfNat.ofNat 0 from c), pO_J c1 (by show 3 < 4; decide) (hS.w q1), bd_J]
    have C2 : Ch (SbM o x k) σ (cU σ p (.inr (11, List.set [Value.ref by_, .int 0, .int ml, .int (Int32.ofNat B.length)] 3 (.int 0)))) := Ch.rf.cU c1 (Or.inr (Or.inl q1))
    exact ⟨_, rfl, ⟨q1, by_, f, ml, q2, cU_s, by rw [cU_n (Ne.symm hne)]; exact c2, ⟨Nat.zero_le _, c4⟩, fun i hi => absurd hi (Nat.not_lt_zero _), c6⟩, hS.ch C2, C2, rfl⟩
  · rw [if_neg (show ¬ B.length ≤ OfNat.ofNat 0 from c), gd_J (by decide), pO_J c1 (by show 2 < 4; decide) (hS.w q1), pO_J cU_s (by show 3 < 4; decide) (hS.w q1), cU_cU, bd_J]
    have C2 : Ch (SbM o x k) σ (cU σ p (.inr (11, List.set (List.set [Value.ref by_, .int 0, .int ml, .int (Int32.ofNat B.length)] 2 (.int 1)) 3 (.int 0)))) := Ch.rf.cU c1 (Or.inr (Or.inl q1))
    exact ⟨_, rfl, ⟨q1, by_, f, 1, q2, cU_s, by rw [cU_n (Ne.symm hne)]; exact c2, ⟨Nat.zero_le _, c4⟩, fun i hi => absurd hi (Nat.not_lt_zero _), c6⟩, hS.ch C2, C2, rfl⟩
theorem sb_chAt (h : SBx o σ x k p B cap) (h8 : ∀ z, z ∈ B → z < 256) {i : Nat} (hi : i < B.length) : m_J3_charAt p (Int32.ofNat i) σ = some (Int32.ofNat (B.getD i 0), σ) := by
  obtain ⟨q1, by_, f, ml, q2, c1, c2, ⟨c3, c4⟩, c5, c6⟩ := id h
  have hb : B.getD i 0 < 256 := by
    rw [List.getD_eq_getElem?_getD, List.getElem?_eq_getElem hi]
    exact h8 _ (List.getElem_mem _)
  have hck : ∀ n, i < n → n ≤ 2000 → m_J4_checkIndex (Int32.ofNat i) (Int32.ofNat n) σ = some (0, σ) := fun n hn h2 => by
    unfold m_J4_checkIndex m_J7_checkIndex
    rw [if_neg (by rw [J_nn (by omega)]; exact id), iJ_lt (by omega) (by omega), if_pos hn, bd_J]
  unfold m_J3_charAt m_J2_charAt
  rw [h.nn, gI_J c1 rfl, gR_J c1 rfl, gI_J c1 rfl, aL_J c2 (by show 1 < 6; decide)]
  dsimp only
  rw [J_r0, lt_J]
  have e2 : (if Int32.ofNat cap < Int32.ofNat B.length then Int32.ofNat cap else Int32.ofNat B.length) = Int32.ofNat B.length := by
    rw [iJ_lt (by omega) (by omega), if_neg (by omega)]
  rw [e2, hck _ hi (by omega), bd_J, if_pos rfl, aI_J c2 (by omega) (by omega), c5 i hi, byte_back _ hb, rc_J hb, bd_J, rc_J hb]
end APP
