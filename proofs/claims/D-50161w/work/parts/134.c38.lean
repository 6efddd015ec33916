/-! the component: a state's readers over any heap; what BusLine answers: numbers, stops, buses -/
section
variable {κ : zC} {h : zH} {x a p q0 q : Nat} {A : Nat → Nat → Nat} {Q : zQ} {Y : Sy} {π : Pl} {σ : Sg}
theorem so_going {b to : Nat} (Z : SAt κ h a p π A q0 q σ) (OK : sOk π σ) (hb : b < plN π 1) (ht : to < 1000) : Ev κ mX4_going [.ref (a + (15 + 8 * plN π 0 + 5 * b + 1)), .int (Int32.ofNat to)] h Q = Q (.inl (some (.int (Int32.ofNat (goTo (bR σ b) to))))) h := by
  have O := Z.1.2.2.1
  have h6 := O.2.1
  obtain ⟨o1, o2, o3, -⟩ := OK.2.2.1 b (by omega)
  have hc := (cBu Z.1.1 rfl hb).2
  have hl := o2 hb
  have := e4_going (κ := κ) (Q := Q) (SM := sOf h a) (s := to) (cBu Z.1.1 rfl hb).1.2.2.2 (Z.2.1.2.2.2.2.1 b hb).2.2 hl (by omega) ht (fun r hr => by have := (o3 r hr).1; omega)
  rw [hX_of] at this
  exact this
theorem so_ofB {b f : Nat} (Z : SAt κ h a p π A q0 q σ) (OK : sOk π σ) (hb : b < plN π 1) (ht : f < 1000) : Ev κ mX4_of [.ref (a + (15 + 8 * plN π 0 + 5 * b + 1)), .int (Int32.ofNat f)] h Q = Q (.inl (some (.int (Int32.ofNat (cntF (bR σ b) f))))) h := by
  have O := Z.1.2.2.1
  have h6 := O.2.1
  obtain ⟨o1, o2, o3, -⟩ := OK.2.2.1 b (by omega)
  have hc := (cBu Z.1.1 rfl hb).2
  have hl := o2 hb
  have := e4_of (κ := κ) (Q := Q) (SM := sOf h a) (s := f) (cBu Z.1.1 rfl hb).1.2.2.2 (Z.2.1.2.2.2.2.1 b hb).2.2 hl (by omega) ht (fun r hr => by have := (o3 r hr).2; omega)
  rw [hX_of] at this
  exact this
theorem so_ofR {s f : Nat} (Z : SAt κ h a p π A q0 q σ) (OK : sOk π σ) (hs : s < plN π 0) (ht : f < 1000) : Ev κ mX4_of [.ref (a + (15 + 8 * s)), .int (Int32.ofNat f)] h Q = Q (.inl (some (.int (Int32.ofNat (cntF (sR σ s) f))))) h := by
  have O := Z.1.2.2.1
  have h10 := O.1
  obtain ⟨o1, o3⟩ := OK.1 s (by omega)
  have := e4_of (κ := κ) (Q := Q) (SM := sOf h a) (s := f) (cRow Z.1.1 rfl hs) (Z.2.1.2.2.1 s hs) o1 (by omega) ht (fun r hr => by have := (o3 r hr).2; omega)
  rw [hX_of] at this
  exact this
theorem so_isAt {b : Nat} (Z : SAt κ h a p π A q0 q σ) (OK : sOk π σ) (hb : b < plN π 1) : Ev κ mX6_isAtStop [.ref (a + (15 + 8 * plN π 0 + 5 * b))] h Q = Q (.inl (some (.int (if 2 ≤ bI σ b 0 then Int32.ofNat 1 else Int32.ofNat 0)))) h := by
  have O := Z.1.2.2.1
  have h6 := O.2.1
  obtain ⟨-, -, -, ⟨st, q1, q2⟩, -⟩ := OK.2.2.1 b (by omega)
  rw [bI_of (by omega) q2]
  have := e6_isAtStop (κ := κ) (Q := Q) (SM := sOf h a) (cBu Z.1.1 rfl hb).1 q1 ((Z.2.1.2.2.2.2.1 b hb).2.1.1.trans q2)
  rw [hX_of] at this
  exact this
theorem so_isOut {b : Nat} (Z : SAt κ h a p π A q0 q σ) (OK : sOk π σ) (hb : b < plN π 1) : Ev κ mX6_isOut [.ref (a + (15 + 8 * plN π 0 + 5 * b))] h Q = Q (.inl (some (.int (if bI σ b 0 = 0 then Int32.ofNat 0 else Int32.ofNat 1)))) h := by
  have O := Z.1.2.2.1
  have h6 := O.2.1
  obtain ⟨-, -, -, ⟨st, q1, q2⟩, -⟩ := OK.2.2.1 b (by omega)
  rw [bI_of (by omega) q2]
  have := e6_isOut (κ := κ) (Q := Q) (SM := sOf h a) (cBu Z.1.1 rfl hb).1 q1 ((Z.2.1.2.2.2.2.1 b hb).2.1.1.trans q2)
  rw [hX_of] at this
  exact this
theorem so_way {s to : Nat} (Z : SAt κ h a p π A q0 q σ) (hs : s < plN π 0) (ht : to < plN π 0) : Ev κ mX1_way [.ref p, .int (Int32.ofNat s), .int (Int32.ofNat to)] h Q = Q (.inl (some (.int (way π s to)))) h := by
  have := e1_way (κ := κ) (Q := Q) (W := wOf h a) (SM := sOf h a) Z.1 hs ht
  rw [hX_of] at this
  exact this
theorem so_wanted {b s : Nat} {m t : Int32} (Z : SAt κ h a p π A q0 q σ) (OK : sOk π σ) (hb : b < plN π 1) (hs : s < plN π 0) (e1 : bF σ b 1 = Int32.ofNat s) : Ev κ mX3_wanted [.ref a, .ref (a + (15 + 8 * plN π 0 + 5 * b)), .int t, .int m] h Q = Q (.inl (some (.int (wanC π σ b m t)))) h := by
  have := e3_wanted (κ := κ) (Q := Q) (W := wOf h a) (SM := sOf h a) (m := m) (t := t) Z.1 Z.2.1 OK hb hs e1
  rw [hX_of] at this
  exact this
theorem so_waiting (Z : SAt κ h a p π A q0 q σ) : Ev κ mX3_waiting [.ref a] h Q = Q (.inl (some (.int (waF σ (plN π 0))))) h := by
  have N := soN Z
  have R := soR Z
  have K := soK Z
  have E := soE Z
  have hns := Z.1.2.2.1.1
  have lp := Go_fr (κ := κ) (m := mX3_waiting) (pc := 4) (n := plN π 0) (Q := Q) (R := Q (.inl (some (.int (waF σ (plN π 0))))) h) (fun k => [some (.ref a), some (.int (waF σ k)), some (.int (Int32.ofNat k))]) (fun _ => h) (fun k hk ih => by
    have e3 : waF σ (k + 1) = waF σ k + Int32.ofNat (sR σ k).length := rfl
    have F := soRow Z hk
    rw [e3] at ih
    simp (disch := first | assumption | omega | decide | (refine Eq.trans (hK_X _) ?_; assumption) | fail) only [gB, I_all, zK_v, zK_n, true_and, and_true, Nat.reduceAdd, Nat.reduceMul, Nat.reduceSub, z_lt, z_le, z_neq, not_false_eq_true, or_true, true_or, or_false, false_or, false_and, and_false, gX3_waiting_h]
    simp (disch := first | assumption | omega | decide | (refine Eq.trans (hK_X _) ?_; assumption) | fail) only [gB, I_all, zK_v, zK_n, true_and, and_true, Nat.reduceAdd, Nat.reduceMul, Nat.reduceSub, z_lt, z_le, z_neq, not_false_eq_true, or_true, true_or, or_false, false_or, false_and, and_false, gX3_waiting, N, R, K, E, RF, F.1, F.2.2.2.2.1]
    exact ih) (by
    simp (disch := first | assumption | omega | decide | (refine Eq.trans (hK_X _) ?_; assumption) | fail) only [gB, I_all, zK_v, zK_n, true_and, and_true, Nat.reduceAdd, Nat.reduceMul, Nat.reduceSub, z_lt, z_le, z_neq, not_false_eq_true, or_true, true_or, or_false, false_or, false_and, and_false, gX3_waiting_h]
    simp (disch := first | assumption | omega | decide | (refine Eq.trans (hK_X _) ?_; assumption) | fail) only [gB, I_all, zK_v, zK_n, true_and, and_true, Nat.reduceAdd, Nat.reduceMul, Nat.reduceSub, z_lt, z_le, z_neq, not_false_eq_true, or_true, true_or, or_false, false_or, false_and, and_false, gX3_waiting, N, R, K, E])
  have e0 : waF σ 0 = Int32.ofNat 0 := rfl
  rw [e0] at lp
  simp (disch := first | assumption | omega | decide | (refine Eq.trans (hK_X _) ?_; assumption) | fail) only [gB, I_all, zK_v, zK_n, true_and, and_true, Nat.reduceAdd, Nat.reduceMul, Nat.reduceSub, z_lt, z_le, z_neq, not_false_eq_true, or_true, true_or, or_false, false_or, false_and, and_false, gX3_waiting]
  exact lp
theorem so_aboard (Z : SAt κ h a p π A q0 q σ) : Ev κ mX3_aboard [.ref a] h Q = Q (.inl (some (.int (abF σ (plN π 1))))) h := by
  have N := soN Z
  have R := soR Z
  have K := soK Z
  have hns := Z.1.2.2.1.2.1
  have lp := Go_fr (κ := κ) (m := mX3_aboard) (pc := 4) (n := plN π 1) (Q := Q) (R := Q (.inl (some (.int (abF σ (plN π 1))))) h) (fun k => [some (.ref a), some (.int (abF σ k)), some (.int (Int32.ofNat k))]) (fun _ => h) (fun k hk ih => by
    have e3 : abF σ (k + 1) = abF σ k + Int32.ofNat (bR σ k).length := rfl
    have F := soRid Z hk
    have B := soB Z hk
    rw [e3] at ih
    simp (disch := first | assumption | omega | decide | (refine Eq.trans (hK_X _) ?_; assumption) | fail) only [gB, I_all, zK_v, zK_n, true_and, and_true, Nat.reduceAdd, Nat.reduceMul, Nat.reduceSub, z_lt, z_le, z_neq, not_false_eq_true, or_true, true_or, or_false, false_or, false_and, and_false, gX3_aboard_h]
    simp (disch := first | assumption | omega | decide | (refine Eq.trans (hK_X _) ?_; assumption) | fail) only [gB, I_all, zK_v, zK_n, true_and, and_true, Nat.reduceAdd, Nat.reduceMul, Nat.reduceSub, z_lt, z_le, z_neq, not_false_eq_true, or_true, true_or, or_false, false_or, false_and, and_false, gX3_aboard, N, R, K, zA13, B, F.1, F.2.2.2.2.1]
    exact ih) (by
    simp (disch := first | assumption | omega | decide | (refine Eq.trans (hK_X _) ?_; assumption) | fail) only [gB, I_all, zK_v, zK_n, true_and, and_true, Nat.reduceAdd, Nat.reduceMul, Nat.reduceSub, z_lt, z_le, z_neq, not_false_eq_true, or_true, true_or, or_false, false_or, false_and, and_false, gX3_aboard_h]
    simp (disch := first | assumption | omega | decide | (refine Eq.trans (hK_X _) ?_; assumption) | fail) only [gB, I_all, zK_v, zK_n, true_and, and_true, Nat.reduceAdd, Nat.reduceMul, Nat.reduceSub, z_lt, z_le, z_neq, not_false_eq_true, or_true, true_or, or_false, false_or, false_and, and_false, gX3_aboard, N, R, K, zA13])
  have e0 : abF σ 0 = Int32.ofNat 0 := rfl
  rw [e0] at lp
  simp (disch := first | assumption | omega | decide | (refine Eq.trans (hK_X _) ?_; assumption) | fail) only [gB, I_all, zK_v, zK_n, true_and, and_true, Nat.reduceAdd, Nat.reduceMul, Nat.reduceSub, z_lt, z_le, z_neq, not_false_eq_true, or_true, true_or, or_false, false_or, false_and, and_false, gX3_aboard]
  exact lp
theorem e0_points (Z : Cx κ h x a p A q0 q Y) : Ev κ mX0_points [.ref x] h Q = Q (.inl (some (.int (ptF (yS Y) (plN (yP Y) 0))))) h := by
  obtain ⟨kx, vx, S, OK, V⟩ := Z
  have N := soN S
  have R := soR S
  have K := soK S
  have E := soE S
  have A2 := soA S
  have hns := S.1.2.2.1.1
  have lp := Go_fr (κ := κ) (m := mX0_points) (pc := 4) (n := plN (yP Y) 0) (Q := Q) (R := Q (.inl (some (.int (ptF (yS Y) (plN (yP Y) 0))))) h) (fun k => [some (.ref x), some (.int (ptF (yS Y) k)), some (.int (Int32.ofNat k))]) (fun _ => h) (fun k hk ih => by
    have e3 : ptF (yS Y) (k + 1) = ptF (yS Y) k + sN (yS Y) (13 + k) := rfl
    rw [e3] at ih
    have hk10 : k < 10 := by omega
    rcases V.1 k hk10 with v | v
    · rw [v, show ptF (yS Y) k + Int32.ofNat 0 = ptF (yS Y) k from Int32.add_zero _] at ih
      simp (disch := first | assumption | omega | decide | (refine Eq.trans (hK_X _) ?_; assumption) | fail) only [gB, I_all, zK_v, zK_n, true_and, and_true, Nat.reduceAdd, Nat.reduceMul, Nat.reduceSub, z_lt, z_le, z_neq, not_false_eq_true, or_true, true_or, or_false, false_or, false_and, and_false, gX0_points_h]
      simp (disch := first | assumption | omega | decide | (refine Eq.trans (hK_X _) ?_; assumption) | fail) only [gB, I_all, zK_v, zK_n, true_and, and_true, Nat.reduceAdd, Nat.reduceMul, Nat.reduceSub, z_lt, z_le, z_neq, not_false_eq_true, or_true, true_or, or_false, false_or, false_and, and_false, gX0_points, kx, vx, N, R, K, E, A2, v]
      exact ih
    · rw [v] at ih
      simp (disch := first | assumption | omega | decide | (refine Eq.trans (hK_X _) ?_; assumption) | fail) only [gB, I_all, zK_v, zK_n, true_and, and_true, Nat.reduceAdd, Nat.reduceMul, Nat.reduceSub, z_lt, z_le, z_neq, not_false_eq_true, or_true, true_or, or_false, false_or, false_and, and_false, gX0_points_h]
      simp (disch := first | assumption | omega | decide | (refine Eq.trans (hK_X _) ?_; assumption) | fail) only [gB, I_all, zK_v, zK_n, true_and, and_true, Nat.reduceAdd, Nat.reduceMul, Nat.reduceSub, z_lt, z_le, z_neq, not_false_eq_true, or_true, true_or, or_false, false_or, false_and, and_false, gX0_points, kx, vx, N, R, K, E, A2, v]
      exact ih) (by
    simp (disch := first | assumption | omega | decide | (refine Eq.trans (hK_X _) ?_; assumption) | fail) only [gB, I_all, zK_v, zK_n, true_and, and_true, Nat.reduceAdd, Nat.reduceMul, Nat.reduceSub, z_lt, z_le, z_neq, not_false_eq_true, or_true, true_or, or_false, false_or, false_and, and_false, gX0_points_h]
    simp (disch := first | assumption | omega | decide | (refine Eq.trans (hK_X _) ?_; assumption) | fail) only [gB, I_all, zK_v, zK_n, true_and, and_true, Nat.reduceAdd, Nat.reduceMul, Nat.reduceSub, z_lt, z_le, z_neq, not_false_eq_true, or_true, true_or, or_false, false_or, false_and, and_false, gX0_points, kx, vx, N, R, K, E])
  have e0 : ptF (yS Y) 0 = Int32.ofNat 0 := rfl
  rw [e0] at lp
  simp (disch := first | assumption | omega | decide | (refine Eq.trans (hK_X _) ?_; assumption) | fail) only [gB, I_all, zK_v, zK_n, true_and, and_true, Nat.reduceAdd, Nat.reduceMul, Nat.reduceSub, z_lt, z_le, z_neq, not_false_eq_true, or_true, true_or, or_false, false_or, false_and, and_false, gX0_points]
  exact lp
theorem e0_busesAt {s : Nat} (Z : Cx κ h x a p A q0 q Y) (hs10 : s < 10) : Ev κ mX0_busesAt [.ref x, .int (Int32.ofNat s)] h Q = Q (.inl (some (.int (Int32.ofNat (atF (yS Y) s (plN (yP Y) 1)))))) h := by
  obtain ⟨kx, vx, S, OK, V⟩ := Z
  have N := soN S
  have R := soR S
  have K := soK S
  have hns := S.1.2.2.1.2.1
  have h10 := S.1.2.2.1.1
  have lp := Go_fr (κ := κ) (m := mX0_busesAt) (pc := 4) (n := plN (yP Y) 1) (Q := Q) (R := Q (.inl (some (.int (Int32.ofNat (atF (yS Y) s (plN (yP Y) 1)))))) h) (fun k => [some (.ref x), some (.int (Int32.ofNat s)), some (.int (Int32.ofNat (atF (yS Y) s k))), some (.int (Int32.ofNat k))]) (fun _ => h) (fun k hk ih => by
    have hk6 : k < 6 := by omega
    obtain ⟨st, s', h4, hs, q0, q1⟩ := bst OK hk hk6
    have eI1 : bI (yS Y) k 1 = s' := bI_of (by omega) q1
    have e3 : atF (yS Y) s (k + 1) = atF (yS Y) s k + if 2 ≤ bI (yS Y) k 0 ∧ s' = s then 1 else 0 := by
      conv => lhs; unfold atF
      rw [eI1]
    have B := soB S hk
    have ea := fun (Q : zQ) => so_isAt (κ := κ) (Q := Q) S OK hk
    have hle := atF_le (yS Y) s k
    rw [e3] at ih
    rw [q1] at B
    simp (disch := first | assumption | omega | decide | (refine Eq.trans (hK_X _) ?_; assumption) | fail) only [gB, I_all, zK_v, zK_n, true_and, and_true, Nat.reduceAdd, Nat.reduceMul, Nat.reduceSub, z_lt, z_le, z_neq, not_false_eq_true, or_true, true_or, or_false, false_or, false_and, and_false, gX0_busesAt_h]
    by_cases c1 : 2 ≤ bI (yS Y) k 0
    · simp only [if_pos c1] at ea
      by_cases c2 : s' = s
      · rw [if_pos ⟨c1, c2⟩] at ih
        simp (disch := first | assumption | omega | decide | (refine Eq.trans (hK_X _) ?_; assumption) | fail) only [gB, I_all, zK_v, zK_n, true_and, and_true, Nat.reduceAdd, Nat.reduceMul, Nat.reduceSub, z_lt, z_le, z_neq, not_false_eq_true, or_true, true_or, or_false, false_or, false_and, and_false, gX0_busesAt, kx, vx, N, R, K, zA13, B, ea]
        exact ih
      · rw [if_neg (fun x => c2 x.2)] at ih
        simp (disch := first | assumption | omega | decide | (refine Eq.trans (hK_X _) ?_; assumption) | fail) only [gB, I_all, zK_v, zK_n, true_and, and_true, Nat.reduceAdd, Nat.reduceMul, Nat.reduceSub, z_lt, z_le, z_neq, not_false_eq_true, or_true, true_or, or_false, false_or, false_and, and_false, gX0_busesAt, kx, vx, N, R, K, zA13, B, ea]
        exact ih
    · simp only [if_neg c1] at ea
      rw [if_neg (fun x => c1 x.1)] at ih
      simp (disch := first | assumption | omega | decide | (refine Eq.trans (hK_X _) ?_; assumption) | fail) only [gB, I_all, zK_v, zK_n, true_and, and_true, Nat.reduceAdd, Nat.reduceMul, Nat.reduceSub, z_lt, z_le, z_neq, not_false_eq_true, or_true, true_or, or_false, false_or, false_and, and_false, gX0_busesAt, kx, vx, N, R, K, zA13, B, ea]
      exact ih) (by
    simp (disch := first | assumption | omega | decide | (refine Eq.trans (hK_X _) ?_; assumption) | fail) only [gB, I_all, zK_v, zK_n, true_and, and_true, Nat.reduceAdd, Nat.reduceMul, Nat.reduceSub, z_lt, z_le, z_neq, not_false_eq_true, or_true, true_or, or_false, false_or, false_and, and_false, gX0_busesAt_h]
    simp (disch := first | assumption | omega | decide | (refine Eq.trans (hK_X _) ?_; assumption) | fail) only [gB, I_all, zK_v, zK_n, true_and, and_true, Nat.reduceAdd, Nat.reduceMul, Nat.reduceSub, z_lt, z_le, z_neq, not_false_eq_true, or_true, true_or, or_false, false_or, false_and, and_false, gX0_busesAt, kx, vx, N, R, K, zA13])
  have e0 : atF (yS Y) s 0 = 0 := rfl
  rw [e0] at lp
  simp (disch := first | assumption | omega | decide | (refine Eq.trans (hK_X _) ?_; assumption) | fail) only [gB, I_all, zK_v, zK_n, true_and, and_true, Nat.reduceAdd, Nat.reduceMul, Nat.reduceSub, z_lt, z_le, z_neq, not_false_eq_true, or_true, true_or, or_false, false_or, false_and, and_false, gX0_busesAt]
  exact lp
end
