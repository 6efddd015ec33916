/-! the component: value, stop, bus, why -/
section
variable {κ : zC} {h : zH} {x a p q0 q : Nat} {A : Nat → Nat → Nat} {Q : zQ} {Y : Sy} {π : Pl} {σ : Sg}
theorem e0_value {k : Int32} (Z : Cx κ h x a p A q0 q Y) : Ev κ mX0_value [.ref x, .int k] h Q = Q (.inl (some (.int (rVa Y k)))) h := by
  have ep := fun (Q : zQ) => e0_points (κ := κ) (Q := Q) Z
  obtain ⟨kx, vx, S, OK, V⟩ := Z
  have N := soN S
  have R := soR S
  have K := soK S
  have E := soE (κ := κ) S
  have A2 := soA S
  have P := soP S.1.2.1
  have L := soY (κ := κ) S.1.2.1
  have ew := fun (Q : zQ) => so_waiting (κ := κ) (Q := Q) S
  have ea := fun (Q : zQ) => so_aboard (κ := κ) (Q := Q) S
  unfold rVa
  by_cases c : btw k 0 21
  · rw [if_pos c]
    obtain ⟨n, hx, -, hn, -⟩ := btw_nat c
    subst hx
    rw [I_nat (by omega)]
    have hc : n = 0 ∨ n = 1 ∨ n = 2 ∨ n = 3 ∨ n = 4 ∨ n = 5 ∨ n = 6 ∨ n = 7 ∨ n = 8 ∨ n = 9 ∨ n = 10 ∨ n = 11 ∨ n = 12 ∨ n = 13 ∨ n = 14 ∨ n = 15 ∨ n = 16 ∨ n = 17 ∨ n = 18 ∨ n = 19 ∨ n = 20 ∨ n = 21 := by omega
    rcases hc with rfl | rfl | rfl | rfl | rfl | rfl | rfl | rfl | rfl | rfl | rfl | rfl | rfl | rfl | rfl | rfl | rfl | rfl | rfl | rfl | rfl | rfl
    · simp (disch := first | assumption | omega | decide | (refine Eq.trans (hK_X _) ?_; assumption) | fail) only [gB, I_all, zK_v, zK_n, true_and, and_true, Nat.reduceAdd, Nat.reduceMul, Nat.reduceSub, z_lt, z_le, z_neq, not_false_eq_true, or_true, true_or, or_false, false_or, false_and, and_false, gX0_value, zSwi_y, zSwi_n, kx, vx, N, R, K, E, A2, P, L, ep, ew, ea, zA13, I_sub, rVaN]
    · simp (disch := first | assumption | omega | decide | (refine Eq.trans (hK_X _) ?_; assumption) | fail) only [gB, I_all, zK_v, zK_n, true_and, and_true, Nat.reduceAdd, Nat.reduceMul, Nat.reduceSub, z_lt, z_le, z_neq, not_false_eq_true, or_true, true_or, or_false, false_or, false_and, and_false, gX0_value, zSwi_y, zSwi_n, kx, vx, N, R, K, E, A2, P, L, ep, ew, ea, zA13, I_sub, rVaN]
    · simp (disch := first | assumption | omega | decide | (refine Eq.trans (hK_X _) ?_; assumption) | fail) only [gB, I_all, zK_v, zK_n, true_and, and_true, Nat.reduceAdd, Nat.reduceMul, Nat.reduceSub, z_lt, z_le, z_neq, not_false_eq_true, or_true, true_or, or_false, false_or, false_and, and_false, gX0_value, zSwi_y, zSwi_n, kx, vx, N, R, K, E, A2, P, L, ep, ew, ea, zA13, I_sub, rVaN]
    · simp (disch := first | assumption | omega | decide | (refine Eq.trans (hK_X _) ?_; assumption) | fail) only [gB, I_all, zK_v, zK_n, true_and, and_true, Nat.reduceAdd, Nat.reduceMul, Nat.reduceSub, z_lt, z_le, z_neq, not_false_eq_true, or_true, true_or, or_false, false_or, false_and, and_false, gX0_value, zSwi_y, zSwi_n, kx, vx, N, R, K, E, A2, P, L, ep, ew, ea, zA13, I_sub, rVaN]
    · simp (disch := first | assumption | omega | decide | (refine Eq.trans (hK_X _) ?_; assumption) | fail) only [gB, I_all, zK_v, zK_n, true_and, and_true, Nat.reduceAdd, Nat.reduceMul, Nat.reduceSub, z_lt, z_le, z_neq, not_false_eq_true, or_true, true_or, or_false, false_or, false_and, and_false, gX0_value, zSwi_y, zSwi_n, kx, vx, N, R, K, E, A2, P, L, ep, ew, ea, zA13, I_sub, rVaN]
    · simp (disch := first | assumption | omega | decide | (refine Eq.trans (hK_X _) ?_; assumption) | fail) only [gB, I_all, zK_v, zK_n, true_and, and_true, Nat.reduceAdd, Nat.reduceMul, Nat.reduceSub, z_lt, z_le, z_neq, not_false_eq_true, or_true, true_or, or_false, false_or, false_and, and_false, gX0_value, zSwi_y, zSwi_n, kx, vx, N, R, K, E, A2, P, L, ep, ew, ea, zA13, I_sub, rVaN]
    · simp (disch := first | assumption | omega | decide | (refine Eq.trans (hK_X _) ?_; assumption) | fail) only [gB, I_all, zK_v, zK_n, true_and, and_true, Nat.reduceAdd, Nat.reduceMul, Nat.reduceSub, z_lt, z_le, z_neq, not_false_eq_true, or_true, true_or, or_false, false_or, false_and, and_false, gX0_value, zSwi_y, zSwi_n, kx, vx, N, R, K, E, A2, P, L, ep, ew, ea, zA13, I_sub, rVaN]
    · simp (disch := first | assumption | omega | decide | (refine Eq.trans (hK_X _) ?_; assumption) | fail) only [gB, I_all, zK_v, zK_n, true_and, and_true, Nat.reduceAdd, Nat.reduceMul, Nat.reduceSub, z_lt, z_le, z_neq, not_false_eq_true, or_true, true_or, or_false, false_or, false_and, and_false, gX0_value, zSwi_y, zSwi_n, kx, vx, N, R, K, E, A2, P, L, ep, ew, ea, zA13, I_sub, rVaN]
    · simp (disch := first | assumption | omega | decide | (refine Eq.trans (hK_X _) ?_; assumption) | fail) only [gB, I_all, zK_v, zK_n, true_and, and_true, Nat.reduceAdd, Nat.reduceMul, Nat.reduceSub, z_lt, z_le, z_neq, not_false_eq_true, or_true, true_or, or_false, false_or, false_and, and_false, gX0_value, zSwi_y, zSwi_n, kx, vx, N, R, K, E, A2, P, L, ep, ew, ea, zA13, I_sub, rVaN]
    · simp (disch := first | assumption | omega | decide | (refine Eq.trans (hK_X _) ?_; assumption) | fail) only [gB, I_all, zK_v, zK_n, true_and, and_true, Nat.reduceAdd, Nat.reduceMul, Nat.reduceSub, z_lt, z_le, z_neq, not_false_eq_true, or_true, true_or, or_false, false_or, false_and, and_false, gX0_value, zSwi_y, zSwi_n, kx, vx, N, R, K, E, A2, P, L, ep, ew, ea, zA13, I_sub, rVaN]
    · simp (disch := first | assumption | omega | decide | (refine Eq.trans (hK_X _) ?_; assumption) | fail) only [gB, I_all, zK_v, zK_n, true_and, and_true, Nat.reduceAdd, Nat.reduceMul, Nat.reduceSub, z_lt, z_le, z_neq, not_false_eq_true, or_true, true_or, or_false, false_or, false_and, and_false, gX0_value, zSwi_y, zSwi_n, kx, vx, N, R, K, E, A2, P, L, ep, ew, ea, zA13, I_sub, rVaN]
    · simp (disch := first | assumption | omega | decide | (refine Eq.trans (hK_X _) ?_; assumption) | fail) only [gB, I_all, zK_v, zK_n, true_and, and_true, Nat.reduceAdd, Nat.reduceMul, Nat.reduceSub, z_lt, z_le, z_neq, not_false_eq_true, or_true, true_or, or_false, false_or, false_and, and_false, gX0_value, zSwi_y, zSwi_n, kx, vx, N, R, K, E, A2, P, L, ep, ew, ea, zA13, I_sub, rVaN]
    · simp (disch := first | assumption | omega | decide | (refine Eq.trans (hK_X _) ?_; assumption) | fail) only [gB, I_all, zK_v, zK_n, true_and, and_true, Nat.reduceAdd, Nat.reduceMul, Nat.reduceSub, z_lt, z_le, z_neq, not_false_eq_true, or_true, true_or, or_false, false_or, false_and, and_false, gX0_value, zSwi_y, zSwi_n, kx, vx, N, R, K, E, A2, P, L, ep, ew, ea, zA13, I_sub, rVaN]
    · simp (disch := first | assumption | omega | decide | (refine Eq.trans (hK_X _) ?_; assumption) | fail) only [gB, I_all, zK_v, zK_n, true_and, and_true, Nat.reduceAdd, Nat.reduceMul, Nat.reduceSub, z_lt, z_le, z_neq, not_false_eq_true, or_true, true_or, or_false, false_or, false_and, and_false, gX0_value, zSwi_y, zSwi_n, kx, vx, N, R, K, E, A2, P, L, ep, ew, ea, zA13, I_sub, rVaN]
    · simp (disch := first | assumption | omega | decide | (refine Eq.trans (hK_X _) ?_; assumption) | fail) only [gB, I_all, zK_v, zK_n, true_and, and_true, Nat.reduceAdd, Nat.reduceMul, Nat.reduceSub, z_lt, z_le, z_neq, not_false_eq_true, or_true, true_or, or_false, false_or, false_and, and_false, gX0_value, zSwi_y, zSwi_n, kx, vx, N, R, K, E, A2, P, L, ep, ew, ea, zA13, I_sub, rVaN]
    · simp (disch := first | assumption | omega | decide | (refine Eq.trans (hK_X _) ?_; assumption) | fail) only [gB, I_all, zK_v, zK_n, true_and, and_true, Nat.reduceAdd, Nat.reduceMul, Nat.reduceSub, z_lt, z_le, z_neq, not_false_eq_true, or_true, true_or, or_false, false_or, false_and, and_false, gX0_value, zSwi_y, zSwi_n, kx, vx, N, R, K, E, A2, P, L, ep, ew, ea, zA13, I_sub, rVaN]
    · simp (disch := first | assumption | omega | decide | (refine Eq.trans (hK_X _) ?_; assumption) | fail) only [gB, I_all, zK_v, zK_n, true_and, and_true, Nat.reduceAdd, Nat.reduceMul, Nat.reduceSub, z_lt, z_le, z_neq, not_false_eq_true, or_true, true_or, or_false, false_or, false_and, and_false, gX0_value, zSwi_y, zSwi_n, kx, vx, N, R, K, E, A2, P, L, ep, ew, ea, zA13, I_sub, rVaN]
    · simp (disch := first | assumption | omega | decide | (refine Eq.trans (hK_X _) ?_; assumption) | fail) only [gB, I_all, zK_v, zK_n, true_and, and_true, Nat.reduceAdd, Nat.reduceMul, Nat.reduceSub, z_lt, z_le, z_neq, not_false_eq_true, or_true, true_or, or_false, false_or, false_and, and_false, gX0_value, zSwi_y, zSwi_n, kx, vx, N, R, K, E, A2, P, L, ep, ew, ea, zA13, I_sub, rVaN]
    · simp (disch := first | assumption | omega | decide | (refine Eq.trans (hK_X _) ?_; assumption) | fail) only [gB, I_all, zK_v, zK_n, true_and, and_true, Nat.reduceAdd, Nat.reduceMul, Nat.reduceSub, z_lt, z_le, z_neq, not_false_eq_true, or_true, true_or, or_false, false_or, false_and, and_false, gX0_value, zSwi_y, zSwi_n, kx, vx, N, R, K, E, A2, P, L, ep, ew, ea, zA13, I_sub, rVaN]
    · simp (disch := first | assumption | omega | decide | (refine Eq.trans (hK_X _) ?_; assumption) | fail) only [gB, I_all, zK_v, zK_n, true_and, and_true, Nat.reduceAdd, Nat.reduceMul, Nat.reduceSub, z_lt, z_le, z_neq, not_false_eq_true, or_true, true_or, or_false, false_or, false_and, and_false, gX0_value, zSwi_y, zSwi_n, kx, vx, N, R, K, E, A2, P, L, ep, ew, ea, zA13, I_sub, rVaN]
    · simp (disch := first | assumption | omega | decide | (refine Eq.trans (hK_X _) ?_; assumption) | fail) only [gB, I_all, zK_v, zK_n, true_and, and_true, Nat.reduceAdd, Nat.reduceMul, Nat.reduceSub, z_lt, z_le, z_neq, not_false_eq_true, or_true, true_or, or_false, false_or, false_and, and_false, gX0_value, zSwi_y, zSwi_n, kx, vx, N, R, K, E, A2, P, L, ep, ew, ea, zA13, I_sub, rVaN]
    · simp (disch := first | assumption | omega | decide | (refine Eq.trans (hK_X _) ?_; assumption) | fail) only [gB, I_all, zK_v, zK_n, true_and, and_true, Nat.reduceAdd, Nat.reduceMul, Nat.reduceSub, z_lt, z_le, z_neq, not_false_eq_true, or_true, true_or, or_false, false_or, false_and, and_false, gX0_value, zSwi_y, zSwi_n, kx, vx, N, R, K, E, A2, P, L, ep, ew, ea, zA13, I_sub, rVaN]
  · rw [if_neg c]
    have hne := ne_btw (by decide) c
    simp (disch := first | assumption | omega | decide | (exact hne _ (by decide))) only [gB, I_all, zK_v, zK_n, true_and, and_true, Nat.reduceAdd, Nat.reduceMul, Nat.reduceSub, z_lt, z_le, z_neq, not_false_eq_true, or_true, true_or, or_false, false_or, false_and, and_false, gX0_value, zSwi_n, zSwi_0]
theorem e0_stop {s k : Int32} (Z : Cx κ h x a p A q0 q Y) : Ev κ mX0_stop [.ref x, .int s, .int k] h Q = Q (.inl (some (.int (rSt Y s k)))) h := by
  have Z0 := Z
  obtain ⟨kx, vx, S, OK, V⟩ := Z
  have h10 := S.1.2.2.1.1
  have N := soN S
  have R := soR S
  have K := soK S
  have E := soE (κ := κ) S
  have A2 := soA S
  have P := soP S.1.2.1
  unfold rSt
  by_cases c : btw s 0 (plN (yP Y) 0 - 1)
  · rw [if_pos c]
    have ei := fun (Q : zQ) => e0_isStopY (κ := κ) (Q := Q) Z0 c
    by_cases c2 : btw k 0 6
    · rw [if_pos c2]
      obtain ⟨m, hs, -, hm, -⟩ := btw_nat c
      subst hs
      obtain ⟨n, hx, -, hn, -⟩ := btw_nat c2
      subst hx
      rw [I_nat (by omega), I_nat (by omega)]
      have hmS : m < plN (yP Y) 0 := by omega
      have F := soRow S hmS
      have F1 := F.1
      have F2 := F.2.2.2.2.1
      have B := soL S hmS
      have ea := fun (Q : zQ) => e0_busesAt (κ := κ) (Q := Q) (s := m) Z0 (by omega)
      have hv := V.1 m (by omega)
      have hc : n = 0 ∨ n = 1 ∨ n = 2 ∨ n = 3 ∨ n = 4 ∨ n = 5 ∨ n = 6 := by omega
      rcases hc with rfl | rfl | rfl | rfl | rfl | rfl | rfl
      · simp (disch := first | assumption | omega | decide | (refine Eq.trans (hK_X _) ?_; assumption) | fail) only [gB, I_all, zK_v, zK_n, true_and, and_true, Nat.reduceAdd, Nat.reduceMul, Nat.reduceSub, z_lt, z_le, z_neq, not_false_eq_true, or_true, true_or, or_false, false_or, false_and, and_false, gX0_stop, zSwi_y, zSwi_n, ei, kx, vx, N, R, K, E, P, rStN]
      · simp (disch := first | assumption | omega | decide | (refine Eq.trans (hK_X _) ?_; assumption) | fail) only [gB, I_all, zK_v, zK_n, true_and, and_true, Nat.reduceAdd, Nat.reduceMul, Nat.reduceSub, z_lt, z_le, z_neq, not_false_eq_true, or_true, true_or, or_false, false_or, false_and, and_false, gX0_stop, zSwi_y, zSwi_n, ei, kx, vx, N, R, K, E, P, rStN]
      · rcases hv with v | v
        · simp (disch := first | assumption | omega | decide | (refine Eq.trans (hK_X _) ?_; assumption) | fail) only [gB, I_all, zK_v, zK_n, true_and, and_true, Nat.reduceAdd, Nat.reduceMul, Nat.reduceSub, z_lt, z_le, z_neq, not_false_eq_true, or_true, true_or, or_false, false_or, false_and, and_false, gX0_stop, zSwi_y, zSwi_n, ei, kx, vx, N, R, K, A2, v, rStN]
        · simp (disch := first | assumption | omega | decide | (refine Eq.trans (hK_X _) ?_; assumption) | fail) only [gB, I_all, zK_v, zK_n, true_and, and_true, Nat.reduceAdd, Nat.reduceMul, Nat.reduceSub, z_lt, z_le, z_neq, not_false_eq_true, or_true, true_or, or_false, false_or, false_and, and_false, gX0_stop, zSwi_y, zSwi_n, ei, kx, vx, N, R, K, A2, v, rStN]
      · simp (disch := first | assumption | omega | decide | (refine Eq.trans (hK_X _) ?_; assumption) | fail) only [gB, I_all, zK_v, zK_n, true_and, and_true, Nat.reduceAdd, Nat.reduceMul, Nat.reduceSub, z_lt, z_le, z_neq, not_false_eq_true, or_true, true_or, or_false, false_or, false_and, and_false, gX0_stop, zSwi_y, zSwi_n, ei, kx, vx, N, R, K, F1, F2, rStN]
      · simp (disch := first | assumption | omega | decide | (refine Eq.trans (hK_X _) ?_; assumption) | fail) only [gB, I_all, zK_v, zK_n, true_and, and_true, Nat.reduceAdd, Nat.reduceMul, Nat.reduceSub, z_lt, z_le, z_neq, not_false_eq_true, or_true, true_or, or_false, false_or, false_and, and_false, gX0_stop, zSwi_y, zSwi_n, ei, kx, vx, N, R, K, B, rStN]
      · simp (disch := first | assumption | omega | decide | (refine Eq.trans (hK_X _) ?_; assumption) | fail) only [gB, I_all, zK_v, zK_n, true_and, and_true, Nat.reduceAdd, Nat.reduceMul, Nat.reduceSub, z_lt, z_le, z_neq, not_false_eq_true, or_true, true_or, or_false, false_or, false_and, and_false, gX0_stop, zSwi_y, zSwi_n, ei, kx, vx, N, R, K, B, rStN]
      · simp (disch := first | assumption | omega | decide | (refine Eq.trans (hK_X _) ?_; assumption) | fail) only [gB, I_all, zK_v, zK_n, true_and, and_true, Nat.reduceAdd, Nat.reduceMul, Nat.reduceSub, z_lt, z_le, z_neq, not_false_eq_true, or_true, true_or, or_false, false_or, false_and, and_false, gX0_stop, zSwi_y, zSwi_n, ei, ea, kx, rStN]
    · rw [if_neg c2]
      have hne := ne_btw (by decide) c2
      simp (disch := first | assumption | omega | decide | (exact hne _ (by decide))) only [gB, I_all, zK_v, zK_n, true_and, and_true, Nat.reduceAdd, Nat.reduceMul, Nat.reduceSub, z_lt, z_le, z_neq, not_false_eq_true, or_true, true_or, or_false, false_or, false_and, and_false, gX0_stop, ei, zSwi_n, zSwi_0, kx]
  · rw [if_neg c]
    have ei := fun (Q : zQ) => e0_isStopN (κ := κ) (Q := Q) Z0 c
    simp (disch := first | assumption | omega | decide | (refine Eq.trans (hK_X _) ?_; assumption) | fail) only [gB, I_all, zK_v, zK_n, true_and, and_true, Nat.reduceAdd, Nat.reduceMul, Nat.reduceSub, z_lt, z_le, z_neq, not_false_eq_true, or_true, true_or, or_false, false_or, false_and, and_false, gX0_stop, ei, kx]
theorem e0_bus {s k : Int32} (Z : Cx κ h x a p A q0 q Y) : Ev κ mX0_bus [.ref x, .int s, .int k] h Q = Q (.inl (some (.int (rBu Y s k)))) h := by
  have Z0 := Z
  obtain ⟨kx, vx, S, OK, V⟩ := Z
  have h6 := S.1.2.2.1.2.1
  have N := soN S
  have R := soR S
  have K := soK S
  unfold rBu
  by_cases c : btw s 0 (plN (yP Y) 1 - 1)
  · rw [if_pos c]
    have ei := fun (Q : zQ) => e0_isBusY (κ := κ) (Q := Q) Z0 c
    obtain ⟨m, hs, -, hm, -⟩ := btw_nat c
    subst hs
    have hmB : m < plN (yP Y) 1 := by omega
    have B := soB S hmB
    by_cases c2 : btw k 0 10
    · rw [if_pos c2]
      obtain ⟨n, hx, -, hn, -⟩ := btw_nat c2
      subst hx
      rw [I_nat (by omega), I_nat (by omega)]
      have F := soRid S hmB
      have F1 := F.1
      have F2 := F.2.2.2.2.1
      obtain ⟨hv5, hv8⟩ := V.2 m (by omega)
      have hc : n = 0 ∨ n = 1 ∨ n = 2 ∨ n = 3 ∨ n = 4 ∨ n = 5 ∨ n = 6 ∨ n = 7 ∨ n = 8 ∨ n = 9 ∨ n = 10 := by omega
      rcases hc with rfl | rfl | rfl | rfl | rfl | rfl | rfl | rfl | rfl | rfl | rfl
      · simp (disch := first | assumption | omega | decide | (refine Eq.trans (hK_X _) ?_; assumption) | fail) only [gB, I_all, zK_v, zK_n, true_and, and_true, Nat.reduceAdd, Nat.reduceMul, Nat.reduceSub, z_lt, z_le, z_neq, not_false_eq_true, or_true, true_or, or_false, false_or, false_and, and_false, gX0_bus, zSwi_y, zSwi_n, ei, kx, vx, N, R, K, zA13, B, rBuN]
      · simp (disch := first | assumption | omega | decide | (refine Eq.trans (hK_X _) ?_; assumption) | fail) only [gB, I_all, zK_v, zK_n, true_and, and_true, Nat.reduceAdd, Nat.reduceMul, Nat.reduceSub, z_lt, z_le, z_neq, not_false_eq_true, or_true, true_or, or_false, false_or, false_and, and_false, gX0_bus, zSwi_y, zSwi_n, ei, kx, vx, N, R, K, zA13, B, rBuN]
      · simp (disch := first | assumption | omega | decide | (refine Eq.trans (hK_X _) ?_; assumption) | fail) only [gB, I_all, zK_v, zK_n, true_and, and_true, Nat.reduceAdd, Nat.reduceMul, Nat.reduceSub, z_lt, z_le, z_neq, not_false_eq_true, or_true, true_or, or_false, false_or, false_and, and_false, gX0_bus, zSwi_y, zSwi_n, ei, kx, vx, N, R, K, zA13, B, rBuN]
      · simp (disch := first | assumption | omega | decide | (refine Eq.trans (hK_X _) ?_; assumption) | fail) only [gB, I_all, zK_v, zK_n, true_and, and_true, Nat.reduceAdd, Nat.reduceMul, Nat.reduceSub, z_lt, z_le, z_neq, not_false_eq_true, or_true, true_or, or_false, false_or, false_and, and_false, gX0_bus, zSwi_y, zSwi_n, ei, kx, vx, N, R, K, zA13, B, rBuN]
      · simp (disch := first | assumption | omega | decide | (refine Eq.trans (hK_X _) ?_; assumption) | fail) only [gB, I_all, zK_v, zK_n, true_and, and_true, Nat.reduceAdd, Nat.reduceMul, Nat.reduceSub, z_lt, z_le, z_neq, not_false_eq_true, or_true, true_or, or_false, false_or, false_and, and_false, gX0_bus, zSwi_y, zSwi_n, ei, kx, vx, N, R, K, zA13, B, rBuN]
      · simp (disch := first | assumption | omega | decide | (refine Eq.trans (hK_X _) ?_; assumption) | fail) only [gB, I_all, zK_v, zK_n, true_and, and_true, Nat.reduceAdd, Nat.reduceMul, Nat.reduceSub, z_lt, z_le, z_neq, not_false_eq_true, or_true, true_or, or_false, false_or, false_and, and_false, gX0_bus, zSwi_y, zSwi_n, ei, kx, vx, N, R, K, zA13, B, rBuN]
      · simp (disch := first | assumption | omega | decide | (refine Eq.trans (hK_X _) ?_; assumption) | fail) only [gB, I_all, zK_v, zK_n, true_and, and_true, Nat.reduceAdd, Nat.reduceMul, Nat.reduceSub, z_lt, z_le, z_neq, not_false_eq_true, or_true, true_or, or_false, false_or, false_and, and_false, gX0_bus, zSwi_y, zSwi_n, ei, kx, vx, N, R, K, zA13, B, F1, F2, rBuN]
      · rcases hv5 with v | v
        · simp (disch := first | assumption | omega | decide | (refine Eq.trans (hK_X _) ?_; assumption) | fail) only [gB, I_all, zK_v, zK_n, true_and, and_true, Nat.reduceAdd, Nat.reduceMul, Nat.reduceSub, z_lt, z_le, z_neq, not_false_eq_true, or_true, true_or, or_false, false_or, false_and, and_false, gX0_bus, zSwi_y, zSwi_n, ei, kx, vx, N, R, K, zA13, B, v, rBuN]
        · simp (disch := first | assumption | omega | decide | (refine Eq.trans (hK_X _) ?_; assumption) | fail) only [gB, I_all, zK_v, zK_n, true_and, and_true, Nat.reduceAdd, Nat.reduceMul, Nat.reduceSub, z_lt, z_le, z_neq, not_false_eq_true, or_true, true_or, or_false, false_or, false_and, and_false, gX0_bus, zSwi_y, zSwi_n, ei, kx, vx, N, R, K, zA13, B, v, rBuN]
      · simp (disch := first | assumption | omega | decide | (refine Eq.trans (hK_X _) ?_; assumption) | fail) only [gB, I_all, zK_v, zK_n, true_and, and_true, Nat.reduceAdd, Nat.reduceMul, Nat.reduceSub, z_lt, z_le, z_neq, not_false_eq_true, or_true, true_or, or_false, false_or, false_and, and_false, gX0_bus, zSwi_y, zSwi_n, ei, kx, vx, N, R, K, zA13, B, rBuN]
      · rcases hv8 with v | v
        · simp (disch := first | assumption | omega | decide | (refine Eq.trans (hK_X _) ?_; assumption) | fail) only [gB, I_all, zK_v, zK_n, true_and, and_true, Nat.reduceAdd, Nat.reduceMul, Nat.reduceSub, z_lt, z_le, z_neq, not_false_eq_true, or_true, true_or, or_false, false_or, false_and, and_false, gX0_bus, zSwi_y, zSwi_n, ei, kx, vx, N, R, K, zA13, B, v, rBuN]
        · simp (disch := first | assumption | omega | decide | (refine Eq.trans (hK_X _) ?_; assumption) | fail) only [gB, I_all, zK_v, zK_n, true_and, and_true, Nat.reduceAdd, Nat.reduceMul, Nat.reduceSub, z_lt, z_le, z_neq, not_false_eq_true, or_true, true_or, or_false, false_or, false_and, and_false, gX0_bus, zSwi_y, zSwi_n, ei, kx, vx, N, R, K, zA13, B, v, rBuN]
      · simp (disch := first | assumption | omega | decide | (refine Eq.trans (hK_X _) ?_; assumption) | fail) only [gB, I_all, zK_v, zK_n, true_and, and_true, Nat.reduceAdd, Nat.reduceMul, Nat.reduceSub, z_lt, z_le, z_neq, not_false_eq_true, or_true, true_or, or_false, false_or, false_and, and_false, gX0_bus, zSwi_y, zSwi_n, ei, kx, vx, N, R, K, zA13, B, rBuN]
    · rw [if_neg c2]
      have hne := ne_btw (by decide) c2
      simp (disch := first | assumption | omega | decide | (exact hne _ (by decide))) only [gB, I_all, zK_v, zK_n, true_and, and_true, Nat.reduceAdd, Nat.reduceMul, Nat.reduceSub, z_lt, z_le, z_neq, not_false_eq_true, or_true, true_or, or_false, false_or, false_and, and_false, gX0_bus, ei, zSwi_n, zSwi_0, kx, vx, N, R, K, zA13, B]
  · rw [if_neg c]
    have ei := fun (Q : zQ) => e0_isBusN (κ := κ) (Q := Q) Z0 c
    simp (disch := first | assumption | omega | decide | (refine Eq.trans (hK_X _) ?_; assumption) | fail) only [gB, I_all, zK_v, zK_n, true_and, and_true, Nat.reduceAdd, Nat.reduceMul, Nat.reduceSub, z_lt, z_le, z_neq, not_false_eq_true, or_true, true_or, or_false, false_or, false_and, and_false, gX0_bus, ei, kx]
theorem e0_why {s : Int32} (Z : Cx κ h x a p A q0 q Y) : Ev κ mX0_why [.ref x, .int s] h Q = Q (.inl (some (.int (rWh Y s)))) h := by
  have Z0 := Z
  obtain ⟨kx, vx, S, OK, V⟩ := Z
  have h6 := S.1.2.2.1.2.1
  have N := soN S
  have R := soR S
  have K := soK S
  unfold rWh
  by_cases c : btw s 0 (plN (yP Y) 1 - 1)
  · rw [if_pos c]
    have ei := fun (Q : zQ) => e0_isBusY (κ := κ) (Q := Q) Z0 c
    obtain ⟨m, hs, -, hm, -⟩ := btw_nat c
    subst hs
    have hmB : m < plN (yP Y) 1 := by omega
    have B := soB S hmB
    rw [I_nat (by omega)]
    simp (disch := first | assumption | omega | decide | (refine Eq.trans (hK_X _) ?_; assumption) | fail) only [gB, I_all, zK_v, zK_n, true_and, and_true, Nat.reduceAdd, Nat.reduceMul, Nat.reduceSub, z_lt, z_le, z_neq, not_false_eq_true, or_true, true_or, or_false, false_or, false_and, and_false, gX0_why, ei, kx, vx, N, R, K, zA13, B]
  · rw [if_neg c]
    have ei := fun (Q : zQ) => e0_isBusN (κ := κ) (Q := Q) Z0 c
    simp (disch := first | assumption | omega | decide | (refine Eq.trans (hK_X _) ?_; assumption) | fail) only [gB, I_all, zK_v, zK_n, true_and, and_true, Nat.reduceAdd, Nat.reduceMul, Nat.reduceSub, z_lt, z_le, z_neq, not_false_eq_true, or_true, true_or, or_false, false_or, false_and, and_false, gX0_why, ei, kx]
end
