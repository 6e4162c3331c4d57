/-! THE PLAIN LAW, the class' side: the bounds are set anew -/
set_option maxRecDepth 1000000
/-- the same but for the counts and the bounds -/
def Bn (f g : Nat → Nat) : Prop := ∀ k, 2 ≤ k → k ≠ 3 → k ≠ 4 → g k = f k
theorem laN_b (k : Nat) : 2 ≤ laN k ∧ laN k ≠ 3 ∧ laN k ≠ 4 := by
  unfold laN
  split
  · decide
  · split <;> decide
section BND
variable {o : oW} {s : Nat → Option cE} {f g : Nat → Nat}
theorem AL.b {li ar n : Nat} {r : Nat → Nat} (h : Bn f g) (hA : AL (s, f) li ar n r) : AL (s, g) li ar n r := hA.to rfl rfl (h 15 (by decide) (by decide) (by decide))
theorem GuardC.b {d : Nat → Nat} (h : Bn f g) : ∀ D p tm, GuardC o (s, f) d D p tm → GuardC o (s, g) d D p tm := by
  intro D
  induction D with
  | zero => intro p tm q; exact q
  | succ D ih =>
    intro p tm q
    obtain ⟨h1, h2⟩ := q
    refine ⟨h1, ?_⟩
    rcases h2 with ⟨s0, e, e2, e3⟩ | ⟨e, e3⟩ | ⟨q, u, e, e3, e4⟩ | ⟨b, li, ar, n, r, ts, e, e3, ⟨e4, e5, e6⟩, e7⟩
    · have hl := laN_b ((s0 - 10) / 4 % 4)
      refine Or.inl ⟨s0, e, e2, ?_⟩
      show s p = some (.inr (4, [_, _, _, .ref (g (laN ((s0 - 10) / 4 % 4)))]))
      rw [h _ hl.1 hl.2.1 hl.2.2]
      exact e3
    · exact Or.inr (Or.inl ⟨e, e3⟩)
    · exact Or.inr (Or.inr (Or.inl ⟨q, u, e, e3, ih q u e4⟩))
    · exact Or.inr (Or.inr (Or.inr ⟨b, li, ar, n, r, ts, e, e3, ⟨e4, e5, AL.b h e6⟩, fun i hi => ih _ _ (e7 i hi)⟩))
theorem WillC.b {a : Nat} {L d : Nat → Nat} {t : Nat → Term} (h : Bn f g) (hC : WillC o (s, f) a L d t) : WillC o (s, g) a L d t := by
  obtain ⟨h1, h2, ⟨h3, h4, h5⟩, h6, h7, h8⟩ := hC
  refine ⟨h1, h2, ⟨h3, ?_, AL.b h h5⟩, h6, fun i hi => ?_, h8⟩
  · rcases h4 with ⟨q1, q2⟩ | q
    · refine Or.inl ⟨q1, ?_⟩
      show L 4 = g 15
      rw [h 15 (by decide) (by decide) (by decide)]
      exact q2
    · exact Or.inr q
  · obtain ⟨g1, g2, g3, g4⟩ := h7 i hi
    exact ⟨g1, g2, g3, GuardC.b h _ _ _ g4⟩
theorem WX.b {a : Nat} {W : Wl} (h : Bn f g) (hC : WX o (s, f) a W) : WX o (s, g) a W := by
  obtain ⟨L, u, h1, h2⟩ := hC
  exact ⟨L, u, WillC.b h h1, h2⟩
theorem KA.b (h : Bn f g) (hK : KA o (s, f)) : KA o (s, g) := by
  obtain ⟨⟨h1, h2, f0, h3⟩, h4, h5, ⟨h6, f1, h7, h8⟩, h9, f2, h10, h11⟩ := hK
  have e15 : g 15 = f 15 := h 15 (by decide) (by decide) (by decide)
  have e17 : g 17 = f 17 := h 17 (by decide) (by decide) (by decide)
  have e18 : g 18 = f 18 := h 18 (by decide) (by decide) (by decide)
  refine ⟨⟨fun k hk => ?_, ?_, f0, ?_⟩, fun k hk => ?_, fun i j hi hj => ?_, ⟨?_, f1, ?_, h8⟩, ?_, f2, ?_, h11⟩
  · show (o (g (6 + k))).1 = 0 ∧ ∃ fs, s (g (6 + k)) = some (.inr (60 + k, fs))
    rw [h (6 + k) (by omega) (by omega) (by omega)]
    exact h1 k hk
  · show (o (g 15)).1 = 0
    rw [e15]; exact h2
  · show s (g 15) = _
    rw [e15]; exact h3
  · show SC o (s, g) (g (20 + k)) (txL.getD k [])
    rw [h (20 + k) (by omega) (by omega) (by omega)]
    exact h4 k hk
  · show g (10 + i) = g (10 + j) → i = j
    rw [h (10 + i) (by omega) (by omega) (by omega), h (10 + j) (by omega) (by omega) (by omega)]
    exact h5 i j hi hj
  · show (o (g 17)).1 = 0
    rw [e17]; exact h6
  · show s (g 17) = _
    rw [e17]; exact h7
  · show (o (g 18)).1 = 0
    rw [e18]; exact h9
  · show s (g 18) = _
    rw [e18]; exact h10
theorem SI.b (h : Bn f g) (h0 : f 0 ≤ g 0) (hS : SI o (s, f)) : SI o (s, g) := by
  obtain ⟨h1, h2, h3⟩ := hS
  have e2 : g 2 = f 2 := h 2 (by decide) (by decide) (by decide)
  have h2' : f 2 ≤ f 0 := h2
  refine ⟨fun q hq => ?_, ?_, fun q hq => ?_⟩
  · have : q < f 0 := h1 q hq
    show q < g 0
    omega
  · show g 2 ≤ g 0
    omega
  · obtain ⟨q1, q2⟩ := h3 q hq
    refine ⟨?_, q2⟩
    show g 2 ≤ q
    rw [e2]; exact q1
theorem CIx.b {x wa dq sl bu re : Nat} {S : SS} {PA : List Nat} {ka : Nat → Nat} (h : Bn f g) (hX : CIx o (s, f) x S wa dq sl bu re PA ka) : CIx o (s, g) x S wa dq sl bu re PA ka := by
  obtain ⟨h1, d1, s1, b1, r1, w1, ⟨p0, p1⟩, k1, n1, n2⟩ := hX
  exact ⟨h1, d1, s1, b1, r1, WX.b h w1, ⟨p0, fun j p V hp hV => WX.b h (p1 j p V hp hV)⟩, fun j V hj hV => WX.b h (k1 j V hj hV), n1, n2⟩
theorem CInv.b {x : Nat} {S : SS} (h : Bn f g) (h0 : f 0 ≤ g 0) (hI : CInv o (s, f) x S) : CInv o (s, g) x S := by
  obtain ⟨⟨hS, hK⟩, wa, dq, sl, bu, re, PA, ka, hX⟩ := hI
  exact ⟨⟨hS.b h h0, hK.b h⟩, wa, dq, sl, bu, re, PA, ka, CIx.b h hX⟩
end BND
/-- after a call that threw: the object is as it was -/
theorem CInv.cnt {o : oW} {σ : cS} {x : Nat} {S : SS} {g : Nat → Nat} (hI : CInv o σ x S) (h : Bn σ.2 g) (h0 : σ.2 0 ≤ g 0) : CInv o (σ.1, g) x S := by
  obtain ⟨s, f⟩ := σ
  exact CInv.b h h0 hI
