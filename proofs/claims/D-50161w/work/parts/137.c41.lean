/-! the component: rider, aboard, left, log, late, wouldHold -/
section
variable {κ : zC} {h : zH} {x a p q0 q : Nat} {A : Nat → Nat → Nat} {Q : zQ} {Y : Sy} {π : Pl} {σ : Sg}
theorem e0_rider {s i y : Int32} (Z : Cx κ h x a p A q0 q Y) : Ev κ mX0_rider [.ref x, .int s, .int i, .int y] h Q = Q (.inl (some (.int (rRi Y s i y)))) h := by
  have Z0 := Z
  obtain ⟨kx, vx, S, OK, V⟩ := Z
  have O := S.1.2.2.1
  have h10 := O.1
  have N := soN S
  have R := soR S
  have K := soK S
  have P := soP S.1.2.1
  have L := soY (κ := κ) S.1.2.1
  unfold rRi
  by_cases c : ¬ btw s 0 (plN (yP Y) 0 - 1)
  · rw [if_neg (fun z => c z.1)]
    have ei := fun (Q : zQ) => e0_isStopN (κ := κ) (Q := Q) Z0 c
    simp (disch := first | assumption | omega | decide | (refine Eq.trans (hK_X _) ?_; assumption) | fail) only [gB, I_all, zK_v, zK_n, true_and, and_true, Nat.reduceAdd, Nat.reduceMul, Nat.reduceSub, z_lt, z_le, z_neq, not_false_eq_true, or_true, true_or, or_false, false_or, false_and, and_false, gX0_rider, kx, ei]
  replace c := Decidable.of_not_not c
  have e1 := fun (Q : zQ) => e0_isStopY (κ := κ) (Q := Q) Z0 c
  by_cases c1 : i < Int32.ofNat 0
  · rw [if_neg (fun z => z.2.1 c1)]
    simp (disch := first | assumption | omega | decide | (refine Eq.trans (hK_X _) ?_; assumption) | fail) only [gB, I_all, zK_v, zK_n, true_and, and_true, Nat.reduceAdd, Nat.reduceMul, Nat.reduceSub, z_lt, z_le, z_neq, not_false_eq_true, or_true, true_or, or_false, false_or, false_and, and_false, gX0_rider, kx, e1]
  by_cases c2 : ¬ btw y 0 2
  · rw [if_neg (fun z => c2 z.2.2)]
    have ei := fun (h : zH) (Q : zQ) => e0_btN (κ := κ) (h := h) (Q := Q) (x := y) (l := 0) (u := 2) (by decide) (by decide) c2
    have c1' : Int32.ofNat 0 ≤ i := Int32.not_lt.mp c1
    simp (disch := first | assumption | omega | decide | (refine Eq.trans (hK_X _) ?_; assumption) | fail) only [gB, I_all, zK_v, zK_n, true_and, and_true, Nat.reduceAdd, Nat.reduceMul, Nat.reduceSub, z_lt, z_le, z_neq, not_false_eq_true, or_true, true_or, or_false, false_or, false_and, and_false, gX0_rider, kx, e1, ei]
  replace c2 := Decidable.of_not_not c2
  have e2 := fun (h : zH) (Q : zQ) => e0_btY (κ := κ) (h := h) (Q := Q) (x := y) (l := 0) (u := 2) (by decide) (by decide) c2
  rw [if_pos ⟨c, c1, c2⟩]
  obtain ⟨m, hs, -, hm, -⟩ := btw_nat c
  obtain ⟨n, hx, -, hn, -⟩ := btw_nat c2
  obtain ⟨k, hk, hk2⟩ := nn_nat c1
  subst hs; subst hx; subst hk
  rw [I_nat (by omega), I_nat (by omega), I_nat (by omega)]
  have hmS : m < plN (yP Y) 0 := by omega
  have F := soRow S hmS
  obtain ⟨o1, o2⟩ := OK.1 m (by omega)
  generalize sR (yS Y) m = l at *
  by_cases ck : k < l.length
  · have g1 : l[k]? = some l[k] := List.getElem?_eq_getElem ck
    have q := F.2.2.2.2.2.2.2.2.2.2.2 k _ g1
    have hr := o2 _ (List.getElem_mem ck)
    rw [g1]
    generalize l[k] = r at *
    have hc : n = 0 ∨ n = 1 ∨ n = 2 := by omega
    unfold RF at F
    rcases hc with rfl | rfl | rfl
    · simp (disch := first | assumption | omega | decide | (refine Eq.trans (hK_X _) ?_; assumption) | fail) only [gB, I_all, zK_v, zK_n, true_and, and_true, Nat.reduceAdd, Nat.reduceMul, Nat.reduceSub, z_lt, z_le, z_neq, not_false_eq_true, or_true, true_or, or_false, false_or, false_and, and_false, gX0_rider, kx, vx, N, R, K, F, e1, e2, q, rRiN]
    · simp (disch := first | assumption | omega | decide | (refine Eq.trans (hK_X _) ?_; assumption) | fail) only [gB, I_all, zK_v, zK_n, true_and, and_true, Nat.reduceAdd, Nat.reduceMul, Nat.reduceSub, z_lt, z_le, z_neq, not_false_eq_true, or_true, true_or, or_false, false_or, false_and, and_false, gX0_rider, kx, vx, N, R, K, F, e1, e2, q, rRiN]
    · by_cases c16 : r.2.2 = 16
      · simp (disch := first | assumption | omega | decide | (refine Eq.trans (hK_X _) ?_; assumption) | fail) only [gB, I_all, zK_v, zK_n, true_and, and_true, Nat.reduceAdd, Nat.reduceMul, Nat.reduceSub, z_lt, z_le, z_neq, not_false_eq_true, or_true, true_or, or_false, false_or, false_and, and_false, gX0_rider, kx, vx, N, R, K, F, P, L, e1, e2, q, rRiN, c16, if_true]
      · simp (disch := first | assumption | omega | decide | (refine Eq.trans (hK_X _) ?_; assumption) | fail) only [gB, I_all, zK_v, zK_n, true_and, and_true, Nat.reduceAdd, Nat.reduceMul, Nat.reduceSub, z_lt, z_le, z_neq, not_false_eq_true, or_true, true_or, or_false, false_or, false_and, and_false, gX0_rider, kx, vx, N, R, K, F, P, L, e1, e2, q, rRiN, if_false]
  · have g1 : l[k]? = none := List.getElem?_eq_none (by omega)
    rw [g1]
    unfold RF at F
    simp (disch := first | assumption | omega | decide | (refine Eq.trans (hK_X _) ?_; assumption) | fail) only [gB, I_all, zK_v, zK_n, true_and, and_true, Nat.reduceAdd, Nat.reduceMul, Nat.reduceSub, z_lt, z_le, z_neq, not_false_eq_true, or_true, true_or, or_false, false_or, false_and, and_false, gX0_rider, kx, vx, N, R, K, F, e1, e2]
theorem e0_aboard {y s : Int32} (Z : Cx κ h x a p A q0 q Y) : Ev κ mX0_aboard [.ref x, .int y, .int s] h Q = Q (.inl (some (.int (rAb Y y s)))) h := by
  have Z0 := Z
  obtain ⟨kx, vx, S, OK, V⟩ := Z
  have O := S.1.2.2.1
  have h10 := O.1
  have h6 := O.2.1
  have N := soN S
  have R := soR S
  have K := soK S
  unfold rAb
  by_cases c : ¬ btw y 0 (plN (yP Y) 1 - 1)
  · rw [if_neg (fun z => c z.1)]
    have ei := fun (Q : zQ) => e0_isBusN (κ := κ) (Q := Q) Z0 c
    simp (disch := first | assumption | omega | decide | (refine Eq.trans (hK_X _) ?_; assumption) | fail) only [gB, I_all, zK_v, zK_n, true_and, and_true, Nat.reduceAdd, Nat.reduceMul, Nat.reduceSub, z_lt, z_le, z_neq, not_false_eq_true, or_true, true_or, or_false, false_or, false_and, and_false, gX0_aboard, kx, ei]
  replace c := Decidable.of_not_not c
  have e1 := fun (Q : zQ) => e0_isBusY (κ := κ) (Q := Q) Z0 c
  by_cases c2 : ¬ btw s 0 (plN (yP Y) 0 - 1)
  · rw [if_neg (fun z => c2 z.2)]
    have ei := fun (Q : zQ) => e0_isStopN (κ := κ) (Q := Q) Z0 c2
    simp (disch := first | assumption | omega | decide | (refine Eq.trans (hK_X _) ?_; assumption) | fail) only [gB, I_all, zK_v, zK_n, true_and, and_true, Nat.reduceAdd, Nat.reduceMul, Nat.reduceSub, z_lt, z_le, z_neq, not_false_eq_true, or_true, true_or, or_false, false_or, false_and, and_false, gX0_aboard, kx, e1, ei]
  replace c2 := Decidable.of_not_not c2
  have e2 := fun (Q : zQ) => e0_isStopY (κ := κ) (Q := Q) Z0 c2
  rw [if_pos ⟨c, c2⟩]
  obtain ⟨m, hs, -, hm, -⟩ := btw_nat c
  obtain ⟨n, hx, -, hn, -⟩ := btw_nat c2
  subst hs; subst hx
  rw [I_nat (by omega), I_nat (by omega)]
  have hmB : m < plN (yP Y) 1 := by omega
  have B := soB S hmB
  have F := (soRid S hmB).1
  have eg := fun (Q : zQ) => so_going (κ := κ) (Q := Q) (to := n) S OK hmB (by omega)
  simp (disch := first | assumption | omega | decide | (refine Eq.trans (hK_X _) ?_; assumption) | fail) only [gB, I_all, zK_v, zK_n, true_and, and_true, Nat.reduceAdd, Nat.reduceMul, Nat.reduceSub, z_lt, z_le, z_neq, not_false_eq_true, or_true, true_or, or_false, false_or, false_and, and_false, gX0_aboard, kx, vx, N, R, K, zA13, B, F, e1, e2, eg]
theorem e0_left {s i y : Int32} (Z : Cx κ h x a p A q0 q Y) : Ev κ mX0_left [.ref x, .int s, .int i, .int y] h Q = Q (.inl (some (.int (rLf Y s i y)))) h := by
  have Z0 := Z
  obtain ⟨kx, vx, S, OK, V⟩ := Z
  have O := S.1.2.2.1
  have h10 := O.1
  have N := soN S
  have R := soR S
  have K := soK S
  unfold rLf
  by_cases c : ¬ btw s 0 (plN (yP Y) 0 - 1)
  · rw [if_neg (fun z => c z.1)]
    have ei := fun (Q : zQ) => e0_isStopN (κ := κ) (Q := Q) Z0 c
    simp (disch := first | assumption | omega | decide | (refine Eq.trans (hK_X _) ?_; assumption) | fail) only [gB, I_all, zK_v, zK_n, true_and, and_true, Nat.reduceAdd, Nat.reduceMul, Nat.reduceSub, z_lt, z_le, z_neq, not_false_eq_true, or_true, true_or, or_false, false_or, false_and, and_false, gX0_left, kx, ei]
  replace c := Decidable.of_not_not c
  have e1 := fun (Q : zQ) => e0_isStopY (κ := κ) (Q := Q) Z0 c
  by_cases c1 : i < Int32.ofNat 0
  · rw [if_neg (fun z => z.2.1 c1)]
    simp (disch := first | assumption | omega | decide | (refine Eq.trans (hK_X _) ?_; assumption) | fail) only [gB, I_all, zK_v, zK_n, true_and, and_true, Nat.reduceAdd, Nat.reduceMul, Nat.reduceSub, z_lt, z_le, z_neq, not_false_eq_true, or_true, true_or, or_false, false_or, false_and, and_false, gX0_left, kx, e1]
  by_cases c2 : ¬ btw y 0 2
  · rw [if_neg (fun z => c2 z.2.2)]
    have ei := fun (h : zH) (Q : zQ) => e0_btN (κ := κ) (h := h) (Q := Q) (x := y) (l := 0) (u := 2) (by decide) (by decide) c2
    have c1' : Int32.ofNat 0 ≤ i := Int32.not_lt.mp c1
    simp (disch := first | assumption | omega | decide | (refine Eq.trans (hK_X _) ?_; assumption) | fail) only [gB, I_all, zK_v, zK_n, true_and, and_true, Nat.reduceAdd, Nat.reduceMul, Nat.reduceSub, z_lt, z_le, z_neq, not_false_eq_true, or_true, true_or, or_false, false_or, false_and, and_false, gX0_left, kx, e1, ei]
  replace c2 := Decidable.of_not_not c2
  have e2 := fun (h : zH) (Q : zQ) => e0_btY (κ := κ) (h := h) (Q := Q) (x := y) (l := 0) (u := 2) (by decide) (by decide) c2
  rw [if_pos ⟨c, c1, c2⟩]
  obtain ⟨m, hs, -, hm, -⟩ := btw_nat c
  obtain ⟨n, hx, -, hn, -⟩ := btw_nat c2
  obtain ⟨k, hk, hk2⟩ := nn_nat c1
  subst hs; subst hx; subst hk
  rw [I_nat (by omega), I_nat (by omega), I_nat (by omega)]
  have hmS : m < plN (yP Y) 0 := by omega
  have B := soL S hmS
  obtain ⟨o1, o2⟩ := OK.2.1 m (by omega)
  generalize sL (yS Y) m = l at *
  by_cases ck : k < l.length
  · rw [if_pos ck]
    have hk' : l.length - 1 - k < l.length := by omega
    have g1 : l[l.length - 1 - k]? = some l[l.length - 1 - k] := List.getElem?_eq_getElem hk'
    have g2 : l.reverse[k]? = some l[l.length - 1 - k] := by rw [List.getElem?_reverse ck]; exact g1
    have q := B.2.2.2.2.2.2.2.2.2.2.2.2.2 k _ g2
    rw [g1]
    generalize l[l.length - 1 - k] = r at *
    have hc : n = 0 ∨ n = 1 ∨ n = 2 := by omega
    rcases hc with rfl | rfl | rfl
    · simp (disch := first | assumption | omega | decide | (refine Eq.trans (hK_X _) ?_; assumption) | fail) only [gB, I_all, zK_v, zK_n, true_and, and_true, Nat.reduceAdd, Nat.reduceMul, Nat.reduceSub, z_lt, z_le, z_neq, not_false_eq_true, or_true, true_or, or_false, false_or, false_and, and_false, gX0_left, kx, vx, N, R, K, B, e1, e2, q, rLeN]
    · simp (disch := first | assumption | omega | decide | (refine Eq.trans (hK_X _) ?_; assumption) | fail) only [gB, I_all, zK_v, zK_n, true_and, and_true, Nat.reduceAdd, Nat.reduceMul, Nat.reduceSub, z_lt, z_le, z_neq, not_false_eq_true, or_true, true_or, or_false, false_or, false_and, and_false, gX0_left, kx, vx, N, R, K, B, e1, e2, q, rLeN]
    · simp (disch := first | assumption | omega | decide | (refine Eq.trans (hK_X _) ?_; assumption) | fail) only [gB, I_all, zK_v, zK_n, true_and, and_true, Nat.reduceAdd, Nat.reduceMul, Nat.reduceSub, z_lt, z_le, z_neq, not_false_eq_true, or_true, true_or, or_false, false_or, false_and, and_false, gX0_left, kx, vx, N, R, K, B, e1, e2, q, rLeN]
  · rw [if_neg ck]
    simp (disch := first | assumption | omega | decide | (refine Eq.trans (hK_X _) ?_; assumption) | fail) only [gB, I_all, zK_v, zK_n, true_and, and_true, Nat.reduceAdd, Nat.reduceMul, Nat.reduceSub, z_lt, z_le, z_neq, not_false_eq_true, or_true, true_or, or_false, false_or, false_and, and_false, gX0_left, kx, vx, N, R, K, B, e1, e2]
theorem e0_log {i y : Int32} (Z : Cx κ h x a p A q0 q Y) : Ev κ mX0_log [.ref x, .int i, .int y] h Q = Q (.inl (some (.int (rLg Y i y)))) h := by
  have Z0 := Z
  obtain ⟨kx, vx, S, OK, V⟩ := Z
  have N := soN S
  have R := soR S
  have K := soK S
  have A2 := soA S
  unfold rLg
  by_cases c1 : i < Int32.ofNat 0
  · rw [if_neg (fun z => z.1 c1)]
    simp (disch := first | assumption | omega | decide | (refine Eq.trans (hK_X _) ?_; assumption) | fail) only [gB, I_all, zK_v, zK_n, true_and, and_true, Nat.reduceAdd, Nat.reduceMul, Nat.reduceSub, z_lt, z_le, z_neq, not_false_eq_true, or_true, true_or, or_false, false_or, false_and, and_false, gX0_log, kx]
  by_cases c2 : ¬ btw y 0 4
  · rw [if_neg (fun z => c2 z.2)]
    have ei := fun (h : zH) (Q : zQ) => e0_btN (κ := κ) (h := h) (Q := Q) (x := y) (l := 0) (u := 4) (by decide) (by decide) c2
    have c1' : Int32.ofNat 0 ≤ i := Int32.not_lt.mp c1
    simp (disch := first | assumption | omega | decide | (refine Eq.trans (hK_X _) ?_; assumption) | fail) only [gB, I_all, zK_v, zK_n, true_and, and_true, Nat.reduceAdd, Nat.reduceMul, Nat.reduceSub, z_lt, z_le, z_neq, not_false_eq_true, or_true, true_or, or_false, false_or, false_and, and_false, gX0_log, kx, ei]
  replace c2 := Decidable.of_not_not c2
  have e2 := fun (h : zH) (Q : zQ) => e0_btY (κ := κ) (h := h) (Q := Q) (x := y) (l := 0) (u := 4) (by decide) (by decide) c2
  rw [if_pos ⟨c1, c2⟩]
  obtain ⟨n, hx, -, hn, -⟩ := btw_nat c2
  obtain ⟨k, hk, hk2⟩ := nn_nat c1
  subst hx; subst hk
  rw [I_nat (by omega), I_nat (by omega)]
  have o1 := OK.2.2.2.1
  by_cases ck : k < (sG (yS Y)).length
  · have g1 : (sG (yS Y))[k]? = some (sG (yS Y))[k] := List.getElem?_eq_getElem ck
    have q := A2.2.2.2.2.2.2.2 k _ g1
    rw [g1]
    generalize (sG (yS Y))[k] = r at *
    have hc : n = 0 ∨ n = 1 ∨ n = 2 ∨ n = 3 ∨ n = 4 := by omega
    rcases hc with rfl | rfl | rfl | rfl | rfl
    · simp (disch := first | assumption | omega | decide | (refine Eq.trans (hK_X _) ?_; assumption) | fail) only [gB, I_all, zK_v, zK_n, true_and, and_true, Nat.reduceAdd, Nat.reduceMul, Nat.reduceSub, z_lt, z_le, z_neq, not_false_eq_true, or_true, true_or, or_false, false_or, false_and, and_false, gX0_log, kx, vx, N, R, K, e2, q, rLgN, Nat.add_zero]
    · simp (disch := first | assumption | omega | decide | (refine Eq.trans (hK_X _) ?_; assumption) | fail) only [gB, I_all, zK_v, zK_n, true_and, and_true, Nat.reduceAdd, Nat.reduceMul, Nat.reduceSub, z_lt, z_le, z_neq, not_false_eq_true, or_true, true_or, or_false, false_or, false_and, and_false, gX0_log, kx, vx, N, R, K, e2, q, rLgN]
    · simp (disch := first | assumption | omega | decide | (refine Eq.trans (hK_X _) ?_; assumption) | fail) only [gB, I_all, zK_v, zK_n, true_and, and_true, Nat.reduceAdd, Nat.reduceMul, Nat.reduceSub, z_lt, z_le, z_neq, not_false_eq_true, or_true, true_or, or_false, false_or, false_and, and_false, gX0_log, kx, vx, N, R, K, e2, q, rLgN]
    · simp (disch := first | assumption | omega | decide | (refine Eq.trans (hK_X _) ?_; assumption) | fail) only [gB, I_all, zK_v, zK_n, true_and, and_true, Nat.reduceAdd, Nat.reduceMul, Nat.reduceSub, z_lt, z_le, z_neq, not_false_eq_true, or_true, true_or, or_false, false_or, false_and, and_false, gX0_log, kx, vx, N, R, K, e2, q, rLgN]
    · simp (disch := first | assumption | omega | decide | (refine Eq.trans (hK_X _) ?_; assumption) | fail) only [gB, I_all, zK_v, zK_n, true_and, and_true, Nat.reduceAdd, Nat.reduceMul, Nat.reduceSub, z_lt, z_le, z_neq, not_false_eq_true, or_true, true_or, or_false, false_or, false_and, and_false, gX0_log, kx, vx, N, R, K, e2, q, rLgN]
  · have g1 : (sG (yS Y))[k]? = none := List.getElem?_eq_none (by omega)
    rw [g1]
    simp (disch := first | assumption | omega | decide | (refine Eq.trans (hK_X _) ?_; assumption) | fail) only [gB, I_all, zK_v, zK_n, true_and, and_true, Nat.reduceAdd, Nat.reduceMul, Nat.reduceSub, z_lt, z_le, z_neq, not_false_eq_true, or_true, true_or, or_false, false_or, false_and, and_false, gX0_log, kx, vx, N, R, K, e2]
theorem e0_late {y : Int32} (Z : Cx κ h x a p A q0 q Y) : Ev κ mX0_late [.ref x, .int y] h Q = Q (.inl (some (.int (rLa Y y)))) h := by
  have Z0 := Z
  obtain ⟨kx, vx, S, OK, V⟩ := Z
  have h6 := S.1.2.2.1.2.1
  have N := soN S
  have R := soR S
  have K := soK S
  unfold rLa
  by_cases c : btw y 0 (plN (yP Y) 1 - 1)
  · rw [if_pos c]
    have ei := fun (Q : zQ) => e0_isBusY (κ := κ) (Q := Q) Z0 c
    obtain ⟨m, hs, -, hm, -⟩ := btw_nat c
    subst hs
    have hmB : m < plN (yP Y) 1 := by omega
    have B := soB S hmB
    rw [I_nat (by omega)]
    simp (disch := first | assumption | omega | decide | (refine Eq.trans (hK_X _) ?_; assumption) | fail) only [gB, I_all, zK_v, zK_n, true_and, and_true, Nat.reduceAdd, Nat.reduceMul, Nat.reduceSub, z_lt, z_le, z_neq, not_false_eq_true, or_true, true_or, or_false, false_or, false_and, and_false, gX0_late, ei, kx, vx, N, R, K, zA13, B]
  · rw [if_neg c]
    have ei := fun (Q : zQ) => e0_isBusN (κ := κ) (Q := Q) Z0 c
    simp (disch := first | assumption | omega | decide | (refine Eq.trans (hK_X _) ?_; assumption) | fail) only [gB, I_all, zK_v, zK_n, true_and, and_true, Nat.reduceAdd, Nat.reduceMul, Nat.reduceSub, z_lt, z_le, z_neq, not_false_eq_true, or_true, true_or, or_false, false_or, false_and, and_false, gX0_late, ei, kx]
theorem e0_isModeY {m : Int32} {h : zH} (c : btw m 0 3) : Ev κ mX0_isMode [.int m] h Q = Q (.inl (some (.int (Int32.ofNat 1)))) h := by
  have eb := fun (Q : zQ) => e0_btY (κ := κ) (Q := Q) (h := h) (by omega) (by omega) c
  simp (disch := first | assumption | omega | decide | (refine Eq.trans (hK_X _) ?_; assumption) | fail) only [gB, I_all, zK_v, zK_n, true_and, and_true, Nat.reduceAdd, Nat.reduceMul, Nat.reduceSub, z_lt, z_le, z_neq, not_false_eq_true, or_true, true_or, or_false, false_or, false_and, and_false, gX0_isMode, eb, z_b1]
theorem e0_isModeN {m : Int32} {h : zH} (c : ¬ btw m 0 3) : Ev κ mX0_isMode [.int m] h Q = Q (.inl (some (.int (Int32.ofNat 0)))) h := by
  have eb := fun (Q : zQ) => e0_btN (κ := κ) (Q := Q) (h := h) (by omega) (by omega) c
  simp (disch := first | assumption | omega | decide | (refine Eq.trans (hK_X _) ?_; assumption) | fail) only [gB, I_all, zK_v, zK_n, true_and, and_true, Nat.reduceAdd, Nat.reduceMul, Nat.reduceSub, z_lt, z_le, z_neq, not_false_eq_true, or_true, true_or, or_false, false_or, false_and, and_false, gX0_isMode, eb, z_b0]
theorem e0_wouldHold {y m : Int32} (Z : Cx κ h x a p A q0 q Y) (hc : 0 ≤ (sN (yS Y) 3).toInt) : Ev κ mX0_wouldHold [.ref x, .int y, .int m] h Q = Q (.inl (some (.int (rWo Y y m)))) h := by
  have Z0 := Z
  obtain ⟨kx, vx, S, OK, V⟩ := Z
  have O := S.1.2.2.1
  have h6 := O.2.1
  have N := soN S
  have R := soR S
  have K := soK S
  have A2 := soA S
  unfold rWo
  by_cases c : ¬ btw y 0 (plN (yP Y) 1 - 1)
  · rw [if_neg (fun z => c z.1)]
    have ei := fun (Q : zQ) => e0_isBusN (κ := κ) (Q := Q) Z0 c
    simp (disch := first | assumption | omega | decide | (refine Eq.trans (hK_X _) ?_; assumption) | fail) only [gB, I_all, zK_v, zK_n, true_and, and_true, Nat.reduceAdd, Nat.reduceMul, Nat.reduceSub, z_lt, z_le, z_neq, not_false_eq_true, or_true, true_or, or_false, false_or, false_and, and_false, gX0_wouldHold, kx, ei]
  replace c := Decidable.of_not_not c
  have e1 := fun (Q : zQ) => e0_isBusY (κ := κ) (Q := Q) Z0 c
  by_cases c2 : ¬ btw m 0 3
  · rw [if_neg (fun z => c2 z.2)]
    have ei := fun (Q : zQ) => e0_isModeN (κ := κ) (h := h) (Q := Q) c2
    simp (disch := first | assumption | omega | decide | (refine Eq.trans (hK_X _) ?_; assumption) | fail) only [gB, I_all, zK_v, zK_n, true_and, and_true, Nat.reduceAdd, Nat.reduceMul, Nat.reduceSub, z_lt, z_le, z_neq, not_false_eq_true, or_true, true_or, or_false, false_or, false_and, and_false, gX0_wouldHold, kx, e1, ei]
  replace c2 := Decidable.of_not_not c2
  have e2 := fun (Q : zQ) => e0_isModeY (κ := κ) (h := h) (Q := Q) c2
  rw [if_pos ⟨c, c2⟩]
  obtain ⟨k, hs, -, hm, -⟩ := btw_nat c
  subst hs
  rw [I_nat (by omega)]
  have hkB : k < plN (yP Y) 1 := by omega
  have B := soB S hkB
  obtain ⟨st, s, h4, hs, q0', q1⟩ := bst OK hkB (by omega)
  have ea := fun (Q : zQ) => so_isAt (κ := κ) (Q := Q) S OK hkB
  have ew := fun (Q : zQ) => so_wanted (κ := κ) (Q := Q) (m := m) (t := sN (yS Y) 0) S OK hkB hs q1
  have em := fun (x y : Int32) (h : zH) (Q : zQ) => e9_minI (κ := κ) (x := x) (y := y) (h := h) (Q := Q)
  have ex := fun (y : Int32) (h : zH) (Q : zQ) => e9_max0 (κ := κ) (y := y) (h := h) (Q := Q)
  by_cases ct : 2 ≤ bI (yS Y) k 0
  · rw [if_pos ct]
    simp only [if_pos ct] at ea
    rw [← wanC_h hc]
    simp (disch := first | assumption | omega | decide | (refine Eq.trans (hK_X _) ?_; assumption) | fail) only [gB, I_all, zK_v, zK_n, true_and, and_true, Nat.reduceAdd, Nat.reduceMul, Nat.reduceSub, z_lt, z_le, z_neq, not_false_eq_true, or_true, true_or, or_false, false_or, false_and, and_false, gX0_wouldHold, kx, vx, N, R, K, zA13, A2, B, e1, e2, ea, ew, em, ex]
  · rw [if_neg ct]
    simp only [if_neg ct] at ea
    simp (disch := first | assumption | omega | decide | (refine Eq.trans (hK_X _) ?_; assumption) | fail) only [gB, I_all, zK_v, zK_n, true_and, and_true, Nat.reduceAdd, Nat.reduceMul, Nat.reduceSub, z_lt, z_le, z_neq, not_false_eq_true, or_true, true_or, or_false, false_or, false_and, and_false, gX0_wouldHold, kx, vx, N, R, K, zA13, A2, B, e1, e2, ea]
end
