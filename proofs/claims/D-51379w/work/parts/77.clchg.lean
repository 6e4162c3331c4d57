/-! THE PLAIN LAW, the class' side: a will is changed, a will is copied -/
set_option maxRecDepth 100000
theorem rn {a b i j : Nat} (h : ((a, i) : Nat × Nat) = (b, j)) : i = j := congrArg Prod.snd h
theorem ne_role {o : oW} {a i j p q : Nat} (hp : o p = (a + 1, i)) (hq : o q = (a + 1, j)) (h : i ≠ j) : p ≠ q := fun e => by
  rw [e, hq] at hp
  exact h (congrArg Prod.snd hp).symm
theorem ne_0 {o : oW} {a i p q : Nat} (hp : o p = (a + 1, i)) (hq : (o q).1 = 0) : p ≠ q := fun e => by
  rw [e] at hp
  rw [hp] at hq
  cases hq
/-- a will whose parts are as they are told -/
theorem WillC.re {o : oW} {M : Nat → Prop} {σ σ' : cS} {a : Nat} {L d d' : Nat → Nat} {t : Nat → Term} (h : WillC o σ a L d t) (hF : FOk d) (hS : SI o σ) (hC : Ch M σ σ') (hM : ∀ q, q < σ.2 0 → M q → (o q).1 ≠ 0) (hd : ∀ i, i < 5 → d' i = d i) (h17 : d' 17 = d 17) (wc : σ'.1 a = some (.inr (1, wF L d'))) (fr : IA σ' (L 1) 4 (fun h => d' (9 + 2 * h))) (ra : IA σ' (L 2) 4 (fun h => d' (10 + 2 * h))) (l3 : σ'.1 (L 3) = σ.1 (L 3)) (l4 : σ'.1 (L 4) = σ.1 (L 4)) (ru : ∀ i, i < d 17 → σ'.1 (L (10 + i)) = some (.inr (2, [.ref (L (50 + i)), .int (Int32.ofNat (gLv (t i))), .ref (L (30 + i)), .int (Int32.ofNat (d' (51 + 34 * i)))])) ∧ IA σ' (L (30 + i)) 4 (fun h => d' (47 + 34 * i + h))) : WillC o σ' a L d' t := by
  have h4 := hF.1
  have hW := hS.1
  obtain ⟨⟨⟨w1, w2⟩, w3, w4⟩, ⟨⟨f1, f2⟩, r1, r2⟩, ⟨q1, q2, q3⟩, o5, rr, inj⟩ := h
  have e15 : σ'.2 15 = σ.2 15 := hC.k (by decide)
  refine ⟨⟨⟨w1, wc⟩, w3, ?_⟩, ⟨⟨f1, fr⟩, r1, ra⟩, ⟨q1, by rw [e15]; exact q2, by rw [h17]; exact q3.to l3 l4 e15⟩, o5, fun i hi => ?_, by rw [h17]; exact inj⟩
  · rw [hd 0 (by decide)]
    exact (w4.c hC hW (fun w => hM _ (w4.lt hW) w w3)).g (fun i hi => (hd (1 + i) (by omega)).symm)
  · rw [h17] at hi
    obtain ⟨g1, g2, g3, g4⟩ := rr i hi
    obtain ⟨u1, u2⟩ := ru i hi
    exact ⟨g1, u1, u2, GuardC.c hC hW hM (fun _ _ w => w) hd h4.2 _ _ _ g4⟩
/-- one cell of a will is changed -/
theorem WillC.one {o : oW} {σ : cS} {a p : Nat} {e e0 : cE} {L d d' : Nat → Nat} {t : Nat → Term} (h : WillC o σ a L d t) (hF : FOk d) (hS : SI o σ) (hp0 : σ.1 p = some e0) (hp : (o p).1 ≠ 0) (hd : ∀ i, i < 5 → d' i = d i) (h17 : d' 17 = d 17) (wc : if p = a then e = .inr (1, wF L d') else wF L d' = wF L d) (fr : if p = L 1 then IA (cU σ p e) (L 1) 4 (fun h => d' (9 + 2 * h)) else ∀ k, k < 4 → d' (9 + 2 * k) = d (9 + 2 * k)) (ra : if p = L 2 then IA (cU σ p e) (L 2) 4 (fun h => d' (10 + 2 * h)) else ∀ k, k < 4 → d' (10 + 2 * k) = d (10 + 2 * k)) (n3 : p ≠ L 3) (n4 : p ≠ L 4) (ru : ∀ i, i < d 17 → (if p = L (10 + i) then e = .inr (2, [.ref (L (50 + i)), .int (Int32.ofNat (gLv (t i))), .ref (L (30 + i)), .int (Int32.ofNat (d' (51 + 34 * i)))]) else d' (51 + 34 * i) = d (51 + 34 * i)) ∧ if p = L (30 + i) then IA (cU σ p e) (L (30 + i)) 4 (fun h => d' (47 + 34 * i + h)) else ∀ k, k < 4 → d' (47 + 34 * i + k) = d (47 + 34 * i + k)) : WillC o (cU σ p e) a L d' t := by
  refine h.re hF hS (M := fun q => q = p) (Ch.rf.cU hp0 (Or.inr rfl)) (fun q _ w => by rw [w]; exact hp) hd h17 ?_ ?_ ?_ (cU_n (Ne.symm n3)) (cU_n (Ne.symm n4)) (fun i hi => ?_)
  · by_cases c : p = a
    · rw [if_pos c] at wc
      rw [c, wc, cU_s]
    · rw [if_neg c] at wc
      rw [wc, cU_n (Ne.symm c)]
      exact h.w
  · by_cases c : p = L 1
    · rw [if_pos c] at fr; exact fr
    · rw [if_neg c] at fr
      exact (h.f.to (cU_n (Ne.symm c))).g (fun k hk => (fr k hk).symm)
  · by_cases c : p = L 2
    · rw [if_pos c] at ra; exact ra
    · rw [if_neg c] at ra
      exact (h.ra.to (cU_n (Ne.symm c))).g (fun k hk => (ra k hk).symm)
  · obtain ⟨u1, u2⟩ := ru i hi
    obtain ⟨-, g2, g3, -⟩ := h.r hi
    constructor
    · by_cases c : p = L (10 + i)
      · rw [if_pos c] at u1
        rw [← c, u1, cU_s]
      · rw [if_neg c] at u1
        rw [u1, cU_n (Ne.symm c)]
        exact g2
    · by_cases c : p = L (30 + i)
      · rw [if_pos c] at u2; exact u2
      · rw [if_neg c] at u2
        exact (g3.to (cU_n (Ne.symm c))).g (fun k hk => (u2 k hk).symm)
section CHG
variable {o : oW} {σ : cS} {a : Nat} {L d d' : Nat → Nat} {t : Nat → Term}
theorem WillC.ow (h : WillC o σ a L d t) : o a = (a + 1, 0) ∧ o (L 1) = (a + 1, 1) ∧ o (L 2) = (a + 1, 2) ∧ o (L 3) = (a + 1, 3) ∧ ((o (L 4)).1 = 0 ∨ o (L 4) = (a + 1, 4)) ∧ o (L 5) = (a + 1, 5) ∧ ∀ i, i < d 17 → o (L (10 + i)) = (a + 1, 6) ∧ o (L (30 + i)) = (a + 1, 7) := by
  obtain ⟨⟨⟨w1, w2⟩, w3, w4⟩, ⟨⟨f1, f2⟩, r1, r2⟩, ⟨q1, q2, q3⟩, o5, rr, inj⟩ := h
  refine ⟨w1, f1, r1, q1, ?_, o5, fun i hi => (rr i hi).1⟩
  rcases q2 with ⟨q, -⟩ | q
  · exact Or.inl q
  · exact Or.inr q
theorem WillC.n4 (h : WillC o σ a L d t) {p k : Nat} (hp : o p = (a + 1, k)) (hk : k ≠ 4) : p ≠ L 4 := by
  rcases h.ow.2.2.2.2.1 with q | q
  · exact ne_0 hp q
  · exact ne_role hp q hk
/-- the will's own fields are set -/
theorem WillC.sW (h : WillC o σ a L d t) (hF : FOk d) (hS : SI o σ) (hd : ∀ i, i ≠ 6 → i ≠ 7 → i ≠ 8 → d' i = d i) : WillC o (cU σ a (.inr (1, wF L d'))) a L d' t := by
  obtain ⟨o0, o1, o2, o3, o4, o5, oR⟩ := h.ow
  have z := hd
  refine h.one hF hS h.w (by rw [o0]; exact Nat.succ_ne_zero _) (fun i hi => hd i (by omega) (by omega) (by omega)) (hd 17 (by decide) (by decide) (by decide)) ?_ ?_ ?_ (ne_role o0 o3 (by decide)) (h.n4 o0 (by decide)) (fun i hi => ⟨?_, ?_⟩)
  · rw [if_pos rfl]
  · rw [if_neg (ne_role o0 o1 (by decide))]; exact fun k _ => hd _ (by omega) (by omega) (by omega)
  · rw [if_neg (ne_role o0 o2 (by decide))]; exact fun k _ => hd _ (by omega) (by omega) (by omega)
  · rw [if_neg (ne_role o0 (oR i hi).1 (by decide))]; exact hd _ (by omega) (by omega) (by omega)
  · rw [if_neg (ne_role o0 (oR i hi).2 (by decide))]; exact fun k _ => hd _ (by omega) (by omega) (by omega)
/-- an heir's free sum or rate is set: k is 1 or 2 -/
theorem WillC.sF (h : WillC o σ a L d t) (hF : FOk d) (hS : SI o σ) {e : cE} {k : Nat} (hk : k = 1 ∨ k = 2) (hI : IA (cU σ (L k) e) (L k) 4 (fun j => d' (8 + k + 2 * j))) (hd : ∀ i, (∀ j, j < 4 → i ≠ 8 + k + 2 * j) → d' i = d i) : WillC o (cU σ (L k) e) a L d' t := by
  obtain ⟨o0, o1, o2, o3, o4, o5, oR⟩ := h.ow
  have ok : o (L k) = (a + 1, k) := by rcases hk with rfl | rfl <;> assumption
  have hw : wF L d' = wF L d := by unfold wF; rw [hd 5 (fun j _ => by omega), hd 6 (fun j _ => by omega), hd 7 (fun j _ => by omega), hd 8 (fun j _ => by omega)]
  have hc : ∃ e0, σ.1 (L k) = some e0 := by
    rcases hk with rfl | rfl
    · obtain ⟨f, w, -⟩ := h.f; exact ⟨_, w⟩
    · obtain ⟨f, w, -⟩ := h.ra; exact ⟨_, w⟩
  obtain ⟨e0, hc⟩ := hc
  refine h.one hF hS hc (by rw [ok]; exact Nat.succ_ne_zero _) (fun i hi => hd i (fun j _ => by omega)) (hd 17 (fun j hj => by omega)) ?_ ?_ ?_ (ne_role ok o3 (by omega)) (h.n4 ok (by omega)) (fun i hi => ⟨?_, ?_⟩)
  · rw [if_neg (ne_role ok o0 (by omega))]; exact hw
  · rcases hk with rfl | rfl
    · rw [if_pos rfl]; exact hI
    · rw [if_neg (ne_role ok o1 (by decide))]; exact fun j hj => hd _ (fun j' _ => by omega)
  · rcases hk with rfl | rfl
    · rw [if_neg (ne_role ok o2 (by decide))]; exact fun j hj => hd _ (fun j' _ => by omega)
    · rw [if_pos rfl]; exact hI
  · rw [if_neg (ne_role ok (oR i hi).1 (by omega))]; exact hd _ (fun j hj => by omega)
  · rw [if_neg (ne_role ok (oR i hi).2 (by omega))]; exact fun m _ => hd _ (fun j hj => by omega)
/-- a rule's set of rules that it goes before -/
theorem WillC.sO (h : WillC o σ a L d t) (hF : FOk d) (hS : SI o σ) {r z : Nat} (hr : r < d 17) (h17 : d 17 ≤ 10) : WillC o (cU σ (L (10 + r)) (.inr (2, [.ref (L (50 + r)), .int (Int32.ofNat (gLv (t r))), .ref (L (30 + r)), .int (Int32.ofNat z)]))) a L (upN d (51 + 34 * r) z) t := by
  obtain ⟨o0, o1, o2, o3, o4, o5, oR⟩ := h.ow
  have ok := (oR r hr).1
  have inj := h.2.2.2.2.2
  have hd : ∀ i, i ≠ 51 + 34 * r → upN d (51 + 34 * r) z i = d i := fun i hi => upN_ne hi
  have hw : wF L (upN d (51 + 34 * r) z) = wF L d := by unfold wF; rw [hd 5 (by omega), hd 6 (by omega), hd 7 (by omega), hd 8 (by omega)]
  refine h.one hF hS (h.r hr).2.1 (by rw [ok]; exact Nat.succ_ne_zero _) (fun i hi => hd i (by omega)) (hd 17 (by omega)) ?_ ?_ ?_ (ne_role ok o3 (by decide)) (h.n4 ok (by decide)) (fun i hi => ⟨?_, ?_⟩)
  · rw [if_neg (ne_role ok o0 (by decide))]; exact hw
  · rw [if_neg (ne_role ok o1 (by decide))]; exact fun k _ => hd _ (by omega)
  · rw [if_neg (ne_role ok o2 (by decide))]; exact fun k _ => hd _ (by omega)
  · by_cases c : r = i
    · rw [← c, if_pos rfl, upN_at]
    · rw [if_neg (inj r i hr hi c).1]; exact hd _ (by omega)
  · rw [if_neg (ne_role ok (oR i hi).2 (by decide))]; exact fun k _ => hd _ (by omega)
/-- a share of a rule -/
theorem WillC.sS (h : WillC o σ a L d t) (hF : FOk d) (hS : SI o σ) {r k z : Nat} {e : cE} (hr : r < d 17) (hk : k < 4) (hI : IA (cU σ (L (30 + r)) e) (L (30 + r)) 4 (fun j => if j = k then z else d (47 + 34 * r + j))) : WillC o (cU σ (L (30 + r)) e) a L (upN d (47 + 34 * r + k) z) t := by
  obtain ⟨o0, o1, o2, o3, o4, o5, oR⟩ := h.ow
  have ok := (oR r hr).2
  have inj := h.2.2.2.2.2
  have hd : ∀ i, i ≠ 47 + 34 * r + k → upN d (47 + 34 * r + k) z i = d i := fun i hi => upN_ne hi
  have hw : wF L (upN d (47 + 34 * r + k) z) = wF L d := by unfold wF; rw [hd 5 (by omega), hd 6 (by omega), hd 7 (by omega), hd 8 (by omega)]
  obtain ⟨f, hc, -⟩ := (h.r hr).2.2.1
  refine h.one hF hS hc (by rw [ok]; exact Nat.succ_ne_zero _) (fun i hi => hd i (by omega)) (hd 17 (by omega)) ?_ ?_ ?_ (ne_role ok o3 (by decide)) (h.n4 ok (by decide)) (fun i hi => ⟨?_, ?_⟩)
  · rw [if_neg (ne_role ok o0 (by decide))]; exact hw
  · rw [if_neg (ne_role ok o1 (by decide))]; exact fun k _ => hd _ (by omega)
  · rw [if_neg (ne_role ok o2 (by decide))]; exact fun k _ => hd _ (by omega)
  · rw [if_neg (ne_role ok (oR i hi).1 (by decide))]; exact hd _ (by omega)
  · by_cases c : r = i
    · rw [← c, if_pos rfl]
      refine hI.g (fun j hj => ?_)
      by_cases c2 : j = k
      · rw [if_pos c2, c2, upN_at]
      · rw [if_neg c2, hd _ (by omega)]
    · rw [if_neg (inj r i hr hi c).2]; exact fun j hj => hd _ (by omega)
end CHG
