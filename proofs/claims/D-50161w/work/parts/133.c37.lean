/-! the component: what BusLine answers without acting: numbers, stops, buses -/
theorem zA13 : (zArr 13 = true) = True := eq_true rfl
section
variable {κ : zC} {h : zH} {x a p q0 q : Nat} {A : Nat → Nat → Nat} {Q : zQ} {Y : Sy}
/-- the object at x has its state at a -/
def Cx (κ : zC) (h : zH) (x a p : Nat) (A : Nat → Nat → Nat) (q0 q : Nat) (Y : Sy) : Prop := hK h x = 100 ∧ hV h x 3 = .ref a ∧ SAt κ h a p (yP Y) A q0 q (yS Y) ∧ sOk (yP Y) (yS Y) ∧ vOk (yS Y)
theorem e0_btY {x : Int32} {l u : Nat} {h : zH} (hl : l < 2147483648) (hu : u < 2147483648) (c : btw x l u) : Ev κ mX0_isBetween [.int x, .int (Int32.ofNat l), .int (Int32.ofNat u)] h Q = Q (.inl (some (.int (Int32.ofNat 1)))) h := by
  obtain ⟨n, e, h1, h2, h3⟩ := btw_nat c
  subst e
  simp (disch := first | assumption | omega | decide | (refine Eq.trans (hK_X _) ?_; assumption) | fail) only [gB, I_all, zK_v, zK_n, true_and, and_true, Nat.reduceAdd, Nat.reduceMul, Nat.reduceSub, z_lt, z_le, z_neq, not_false_eq_true, or_true, true_or, or_false, false_or, false_and, and_false, gX0_isBetween, z_b1]
theorem e0_btN {x : Int32} {l u : Nat} {h : zH} (hl : l < 2147483648) (hu : u < 2147483648) (c : ¬ btw x l u) : Ev κ mX0_isBetween [.int x, .int (Int32.ofNat l), .int (Int32.ofNat u)] h Q = Q (.inl (some (.int (Int32.ofNat 0)))) h := by
  have hl' : (Int32.ofNat l).toInt = l := I_toInt hl
  have hu' : (Int32.ofNat u).toInt = u := I_toInt hu
  by_cases d : Int32.ofNat l ≤ x
  · have d2 : Int32.ofNat u < x := by
      rw [Int32.lt_iff_toInt_lt, hu']
      rw [Int32.le_iff_toInt_le, hl'] at d
      unfold btw at c
      omega
    have d3 : ¬ x ≤ Int32.ofNat u := Int32.not_le.mpr d2
    have d4 : ¬ x < Int32.ofNat l := Int32.not_lt.mpr d
    simp (disch := first | assumption | omega | decide | (refine Eq.trans (hK_X _) ?_; assumption) | fail) only [gB, I_all, zK_v, zK_n, true_and, and_true, Nat.reduceAdd, Nat.reduceMul, Nat.reduceSub, z_lt, z_le, z_neq, not_false_eq_true, or_true, true_or, or_false, false_or, false_and, and_false, gX0_isBetween, z_b0]
  · have d2 : x < Int32.ofNat l := Int32.not_le.mp d
    simp (disch := first | assumption | omega | decide | (refine Eq.trans (hK_X _) ?_; assumption) | fail) only [gB, I_all, zK_v, zK_n, true_and, and_true, Nat.reduceAdd, Nat.reduceMul, Nat.reduceSub, z_lt, z_le, z_neq, not_false_eq_true, or_true, true_or, or_false, false_or, false_and, and_false, gX0_isBetween, z_b0]
theorem e0_isStopY {s : Int32} (Z : Cx κ h x a p A q0 q Y) (c : btw s 0 (plN (yP Y) 0 - 1)) : Ev κ mX0_isStop [.ref x, .int s] h Q = Q (.inl (some (.int (Int32.ofNat 1)))) h := by
  obtain ⟨kx, vx, S, -⟩ := Z
  have O := S.1.2.2.1
  have hns := O.1
  have ka := (soN S).1
  have e := soE S
  have es : Int32.ofNat (plN (yP Y) 0) - Int32.ofNat 1 = Int32.ofNat (plN (yP Y) 0 - 1) := I_sub (by omega)
  have eb := fun (Q : zQ) => e0_btY (κ := κ) (Q := Q) (h := h) (by omega) (by omega) c
  simp (disch := first | assumption | omega | decide | (refine Eq.trans (hK_X _) ?_; assumption) | fail) only [gB, I_all, zK_v, zK_n, true_and, and_true, Nat.reduceAdd, Nat.reduceMul, Nat.reduceSub, z_lt, z_le, z_neq, not_false_eq_true, or_true, true_or, or_false, false_or, false_and, and_false, gX0_isStop, kx, vx, ka, e, es, eb, z_b1]
theorem e0_isStopN {s : Int32} (Z : Cx κ h x a p A q0 q Y) (c : ¬ btw s 0 (plN (yP Y) 0 - 1)) : Ev κ mX0_isStop [.ref x, .int s] h Q = Q (.inl (some (.int (Int32.ofNat 0)))) h := by
  obtain ⟨kx, vx, S, -⟩ := Z
  have O := S.1.2.2.1
  have hns := O.1
  have ka := (soN S).1
  have e := soE S
  have es : Int32.ofNat (plN (yP Y) 0) - Int32.ofNat 1 = Int32.ofNat (plN (yP Y) 0 - 1) := I_sub (by omega)
  have eb := fun (Q : zQ) => e0_btN (κ := κ) (Q := Q) (h := h) (by omega) (by omega) c
  simp (disch := first | assumption | omega | decide | (refine Eq.trans (hK_X _) ?_; assumption) | fail) only [gB, I_all, zK_v, zK_n, true_and, and_true, Nat.reduceAdd, Nat.reduceMul, Nat.reduceSub, z_lt, z_le, z_neq, not_false_eq_true, or_true, true_or, or_false, false_or, false_and, and_false, gX0_isStop, kx, vx, ka, e, es, eb, z_b0]
theorem e0_isBusY {s : Int32} (Z : Cx κ h x a p A q0 q Y) (c : btw s 0 (plN (yP Y) 1 - 1)) : Ev κ mX0_isBus [.ref x, .int s] h Q = Q (.inl (some (.int (Int32.ofNat 1)))) h := by
  obtain ⟨kx, vx, S, -⟩ := Z
  have O := S.1.2.2.1
  have hns := O.2.1
  have N := soN S
  have R := soR S
  have K := soK S
  have es : Int32.ofNat (plN (yP Y) 1) - Int32.ofNat 1 = Int32.ofNat (plN (yP Y) 1 - 1) := I_sub (by omega)
  have eb := fun (Q : zQ) => e0_btY (κ := κ) (Q := Q) (h := h) (by omega) (by omega) c
  simp (disch := first | assumption | omega | decide | (refine Eq.trans (hK_X _) ?_; assumption) | fail) only [gB, I_all, zK_v, zK_n, true_and, and_true, Nat.reduceAdd, Nat.reduceMul, Nat.reduceSub, z_lt, z_le, z_neq, not_false_eq_true, or_true, true_or, or_false, false_or, false_and, and_false, gX0_isBus, zA13, kx, vx, N, R, K, es, eb, z_b1]
theorem e0_isBusN {s : Int32} (Z : Cx κ h x a p A q0 q Y) (c : ¬ btw s 0 (plN (yP Y) 1 - 1)) : Ev κ mX0_isBus [.ref x, .int s] h Q = Q (.inl (some (.int (Int32.ofNat 0)))) h := by
  obtain ⟨kx, vx, S, -⟩ := Z
  have O := S.1.2.2.1
  have hns := O.2.1
  have N := soN S
  have R := soR S
  have K := soK S
  have es : Int32.ofNat (plN (yP Y) 1) - Int32.ofNat 1 = Int32.ofNat (plN (yP Y) 1 - 1) := I_sub (by omega)
  have eb := fun (Q : zQ) => e0_btN (κ := κ) (Q := Q) (h := h) (by omega) (by omega) c
  simp (disch := first | assumption | omega | decide | (refine Eq.trans (hK_X _) ?_; assumption) | fail) only [gB, I_all, zK_v, zK_n, true_and, and_true, Nat.reduceAdd, Nat.reduceMul, Nat.reduceSub, z_lt, z_le, z_neq, not_false_eq_true, or_true, true_or, or_false, false_or, false_and, and_false, gX0_isBus, zA13, kx, vx, N, R, K, es, eb, z_b0]
end
