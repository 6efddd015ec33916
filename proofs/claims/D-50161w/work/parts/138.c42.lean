/-! the component: ahead, spread, comeBy, sums, means -/
section
variable {κ : zC} {h : zH} {x a p q0 q : Nat} {A : Nat → Nat → Nat} {Q : zQ} {Y : Sy} {π : Pl} {σ : Sg}
theorem so_sum {E : Nat} {c : Nat} (hE : hK h E = 1) (hl : hL h E = 17) (hv : ∀ f, f < 17 → hV h E f = .int (sN σ (79 + 5 * f + c))) : Ev κ mX3_sum [.ref E] h Q = Q (.inl (some (.int (smF σ c 17)))) h := by
  have lp := Go_fr (κ := κ) (m := mX3_sum) (pc := 4) (n := 17) (Q := Q) (R := Q (.inl (some (.int (smF σ c 17)))) h) (fun k => [some (.ref E), some (.int (smF σ c k)), some (.int (Int32.ofNat k))]) (fun _ => h) (fun k hk ih => by
    have e3 : smF σ c (k + 1) = smF σ c k + sN σ (79 + 5 * k + c) := rfl
    rw [e3] at ih
    simp (disch := first | assumption | omega | decide | (refine Eq.trans (hK_X _) ?_; assumption) | fail) only [gB, I_all, zK_v, zK_n, true_and, and_true, Nat.reduceAdd, Nat.reduceMul, Nat.reduceSub, z_lt, z_le, z_neq, not_false_eq_true, or_true, true_or, or_false, false_or, false_and, and_false, gX3_sum_h]
    simp (disch := first | assumption | omega | decide | (refine Eq.trans (hK_X _) ?_; assumption) | fail) only [gB, I_all, zK_v, zK_n, true_and, and_true, Nat.reduceAdd, Nat.reduceMul, Nat.reduceSub, z_lt, z_le, z_neq, not_false_eq_true, or_true, true_or, or_false, false_or, false_and, and_false, gX3_sum, hE, hl, hv]
    exact ih) (by
    simp (disch := first | assumption | omega | decide | (refine Eq.trans (hK_X _) ?_; assumption) | fail) only [gB, I_all, zK_v, zK_n, true_and, and_true, Nat.reduceAdd, Nat.reduceMul, Nat.reduceSub, z_lt, z_le, z_neq, not_false_eq_true, or_true, true_or, or_false, false_or, false_and, and_false, gX3_sum_h]
    simp (disch := first | assumption | omega | decide | (refine Eq.trans (hK_X _) ?_; assumption) | fail) only [gB, I_all, zK_v, zK_n, true_and, and_true, Nat.reduceAdd, Nat.reduceMul, Nat.reduceSub, z_lt, z_le, z_neq, not_false_eq_true, or_true, true_or, or_false, false_or, false_and, and_false, gX3_sum])
  have e0 : smF σ c 0 = Int32.ofNat 0 := rfl
  rw [e0] at lp
  simp (disch := first | assumption | omega | decide | (refine Eq.trans (hK_X _) ?_; assumption) | fail) only [gB, I_all, zK_v, zK_n, true_and, and_true, Nat.reduceAdd, Nat.reduceMul, Nat.reduceSub, z_lt, z_le, z_neq, not_false_eq_true, or_true, true_or, or_false, false_or, false_and, and_false, gX3_sum]
  exact lp
theorem so_sums (Z : SAt κ h a p π A q0 q σ) : (∀ Q : zQ, Ev κ mX3_sum [.ref (a + 7)] h Q = Q (.inl (some (.int (smF σ 0 17)))) h) ∧ (∀ Q : zQ, Ev κ mX3_sum [.ref (a + 8)] h Q = Q (.inl (some (.int (smF σ 1 17)))) h) ∧ (∀ Q : zQ, Ev κ mX3_sum [.ref (a + 9)] h Q = Q (.inl (some (.int (smF σ 2 17)))) h) ∧ (∀ Q : zQ, Ev κ mX3_sum [.ref (a + 10)] h Q = Q (.inl (some (.int (smF σ 3 17)))) h) ∧ (∀ Q : zQ, Ev κ mX3_sum [.ref (a + 11)] h Q = Q (.inl (some (.int (smF σ 4 17)))) h) := by
  have A2 := soA Z
  have t := Z.1.1.2.1
  exact ⟨fun Q => so_sum (t (7, 40, 1, 17) (by decide)).2.1 (t (7, 40, 1, 17) (by decide)).2.2 A2.2.2.1, fun Q => so_sum (t (8, 41, 1, 17) (by decide)).2.1 (t (8, 41, 1, 17) (by decide)).2.2 A2.2.2.2.1, fun Q => so_sum (t (9, 42, 1, 17) (by decide)).2.1 (t (9, 42, 1, 17) (by decide)).2.2 A2.2.2.2.2.1, fun Q => so_sum (t (10, 43, 1, 17) (by decide)).2.1 (t (10, 43, 1, 17) (by decide)).2.2 A2.2.2.2.2.2.1, fun Q => so_sum (t (11, 44, 1, 17) (by decide)).2.1 (t (11, 44, 1, 17) (by decide)).2.2 A2.2.2.2.2.2.2.1⟩
theorem so_lost (Z : SAt κ h a p π A q0 q σ) : Ev κ mX3_lost [.ref a] h Q = Q (.inl (some (.int (smF σ 1 17 + smF σ 2 17)))) h := by
  have N := soN Z
  have R := soR Z
  have K := soK Z
  have s := so_sums (κ := κ) Z
  simp (disch := first | assumption | omega | decide | (refine Eq.trans (hK_X _) ?_; assumption) | fail) only [gB, I_all, zK_v, zK_n, true_and, and_true, Nat.reduceAdd, Nat.reduceMul, Nat.reduceSub, z_lt, z_le, z_neq, not_false_eq_true, or_true, true_or, or_false, false_or, false_and, and_false, gX3_lost, N, R, K, s]
theorem e0_meanWaiting (Z : Cx κ h x a p A q0 q Y) : Ev κ mX0_meanWaiting [.ref x] h Q = Q (.inl (some (.double (yMw Y 3 0)))) h := by
  obtain ⟨kx, vx, S, OK, V⟩ := Z
  have N := soN S
  have R := soR S
  have K := soK S
  have s := (so_sums (κ := κ) S).2.2.2.1
  unfold yMw
  by_cases c : smF (yS Y) 3 17 = Int32.ofNat 0
  · rw [if_pos c]
    rw [c] at s
    simp (disch := first | assumption | omega | decide | (refine Eq.trans (hK_X _) ?_; assumption) | fail) only [gB, I_all, zK_v, zK_n, true_and, and_true, Nat.reduceAdd, Nat.reduceMul, Nat.reduceSub, z_lt, z_le, z_neq, not_false_eq_true, or_true, true_or, or_false, false_or, false_and, and_false, gX0_meanWaiting, kx, vx, N, R, K, s]
  · rw [if_neg c]
    have nn := ddiv_nn (s := sS (yS Y) 0) c
    simp (disch := first | assumption | omega | decide | (refine Eq.trans (hK_X _) ?_; assumption) | fail) only [gB, I_all, zK_v, zK_n, true_and, and_true, Nat.reduceAdd, Nat.reduceMul, Nat.reduceSub, z_lt, z_le, z_neq, not_false_eq_true, or_true, true_or, or_false, false_or, false_and, and_false, gX0_meanWaiting, kx, vx, N, R, K, s, nn]
theorem e0_meanRide (Z : Cx κ h x a p A q0 q Y) : Ev κ mX0_meanRide [.ref x] h Q = Q (.inl (some (.double (yMw Y 4 1)))) h := by
  obtain ⟨kx, vx, S, OK, V⟩ := Z
  have N := soN S
  have R := soR S
  have K := soK S
  have s := (so_sums (κ := κ) S).2.2.2.2
  unfold yMw
  by_cases c : smF (yS Y) 4 17 = Int32.ofNat 0
  · rw [if_pos c]
    rw [c] at s
    simp (disch := first | assumption | omega | decide | (refine Eq.trans (hK_X _) ?_; assumption) | fail) only [gB, I_all, zK_v, zK_n, true_and, and_true, Nat.reduceAdd, Nat.reduceMul, Nat.reduceSub, z_lt, z_le, z_neq, not_false_eq_true, or_true, true_or, or_false, false_or, false_and, and_false, gX0_meanRide, kx, vx, N, R, K, s]
  · rw [if_neg c]
    have nn := ddiv_nn (s := sS (yS Y) 1) c
    simp (disch := first | assumption | omega | decide | (refine Eq.trans (hK_X _) ?_; assumption) | fail) only [gB, I_all, zK_v, zK_n, true_and, and_true, Nat.reduceAdd, Nat.reduceMul, Nat.reduceSub, z_lt, z_le, z_neq, not_false_eq_true, or_true, true_or, or_false, false_or, false_and, and_false, gX0_meanRide, kx, vx, N, R, K, s, nn]
theorem e0_full {y : Int32} (Z : Cx κ h x a p A q0 q Y) : Ev κ mX0_full [.ref x, .int y] h Q = Q (.inl (some (.float (yFu Y y)))) h := by
  have Z0 := Z
  obtain ⟨kx, vx, S, OK, V⟩ := Z
  have O := S.1.2.2.1
  have h6 := O.2.1
  have N := soN S
  have R := soR S
  have K := soK S
  unfold yFu
  by_cases c : btw y 0 (plN (yP Y) 1 - 1)
  · rw [if_pos c]
    have ei := fun (Q : zQ) => e0_isBusY (κ := κ) (Q := Q) Z0 c
    obtain ⟨m, hs, -, hm, -⟩ := btw_nat c
    subst hs
    have hmB : m < plN (yP Y) 1 := by omega
    rw [I_nat (by omega)]
    have B := soB S hmB
    have F := soRid S hmB
    have F1 := F.1
    have F2 := F.2.2.2.2.1
    obtain ⟨s7, s1, s2, -⟩ := O.2.2.2.2.1 m hmB
    have lb := (OK.2.2.1 m (by omega)).1
    have nn := fdiv_nn (c := (bR (yS Y) m).length) (s := plI (yP Y) 7 m) (by omega) s1 (by omega)
    rw [← s7] at nn
    simp (disch := first | assumption | omega | decide | (refine Eq.trans (hK_X _) ?_; assumption) | fail) only [gB, I_all, zK_v, zK_n, true_and, and_true, Nat.reduceAdd, Nat.reduceMul, Nat.reduceSub, z_lt, z_le, z_neq, not_false_eq_true, or_true, true_or, or_false, false_or, false_and, and_false, gX0_full, kx, vx, N, R, K, zA13, B, F1, F2, ei, nn]
  · rw [if_neg c]
    have ei := fun (Q : zQ) => e0_isBusN (κ := κ) (Q := Q) Z0 c
    simp (disch := first | assumption | omega | decide | (refine Eq.trans (hK_X _) ?_; assumption) | fail) only [gB, I_all, zK_v, zK_n, true_and, and_true, Nat.reduceAdd, Nat.reduceMul, Nat.reduceSub, z_lt, z_le, z_neq, not_false_eq_true, or_true, true_or, or_false, false_or, false_and, and_false, gX0_full, kx, ei]
theorem e0_comeBy {f t : Int32} (Z : Cx κ h x a p A q0 q Y) : Ev κ mX0_comeBy [.ref x, .int f, .int t] h Q = Q (.inl (some (.int (rCb Y f t)))) h := by
  have Z0 := Z
  obtain ⟨kx, vx, S, OK, V⟩ := Z
  have O := S.1.2.2.1
  have hnf := O.2.2.1
  have N := soN S
  have P := soP S.1.2.1
  have L := soY (κ := κ) S.1.2.1
  unfold rCb
  by_cases c : ¬ (1 ≤ plN (yP Y) 2 ∧ btw f 0 (plN (yP Y) 2 - 1))
  · rw [if_neg (fun z => c z.1)]
    have ei := fun (Q : zQ) => e0_isFlowN (κ := κ) (Q := Q) Z0 c
    simp (disch := first | assumption | omega | decide | (refine Eq.trans (hK_X _) ?_; assumption) | fail) only [gB, I_all, zK_v, zK_n, true_and, and_true, Nat.reduceAdd, Nat.reduceMul, Nat.reduceSub, z_lt, z_le, z_neq, not_false_eq_true, or_true, true_or, or_false, false_or, false_and, and_false, gX0_comeBy, kx, ei]
  replace c := Decidable.of_not_not c
  obtain ⟨m, hf, -, hm, -⟩ := btw_nat c.2
  subst hf
  have mlt : m < plN (yP Y) 2 := by omega
  have e1 := fun (Q : zQ) => e0_isFlowY (κ := κ) (Q := Q) Z0 mlt
  by_cases c2 : ¬ btw t 0 9999999
  · rw [if_neg (fun z => c2 z.2)]
    have ei := fun (h : zH) (Q : zQ) => e0_btN (κ := κ) (h := h) (Q := Q) (x := t) (l := 0) (u := 9999999) (by decide) (by decide) c2
    simp (disch := first | assumption | omega | decide | (refine Eq.trans (hK_X _) ?_; assumption) | fail) only [gB, I_all, zK_v, zK_n, true_and, and_true, Nat.reduceAdd, Nat.reduceMul, Nat.reduceSub, z_lt, z_le, z_neq, not_false_eq_true, or_true, true_or, or_false, false_or, false_and, and_false, gX0_comeBy, kx, e1, ei]
  replace c2 := Decidable.of_not_not c2
  have e2 := fun (h : zH) (Q : zQ) => e0_btY (κ := κ) (h := h) (Q := Q) (x := t) (l := 0) (u := 9999999) (by decide) (by decide) c2
  rw [if_pos ⟨c, c2⟩]
  rw [I_nat (by omega)]
  have pe : ¬ plT (yP Y) 11 m = Int32.ofNat 0 := by
    have := (O.2.2.2.1 m mlt).2.2.2.2.1
    intro e
    rw [e] at this
    have z : (Int32.ofNat 0).toInt = 0 := by decide
    omega
  by_cases c3 : t < plT (yP Y) 12 m
  · have c3' : ¬ plT (yP Y) 12 m ≤ t := Int32.not_le.mpr c3
    rw [if_pos c3]
    simp (disch := first | assumption | omega | decide | (refine Eq.trans (hK_X _) ?_; assumption) | fail) only [gB, I_all, zK_v, zK_n, true_and, and_true, Nat.reduceAdd, Nat.reduceMul, Nat.reduceSub, z_lt, z_le, z_neq, not_false_eq_true, or_true, true_or, or_false, false_or, false_and, and_false, gX0_comeBy, gX10_by, kx, vx, N, P, L, zCs, e1, e2]
  · have c3' : plT (yP Y) 12 m ≤ t := Int32.not_lt.mp c3
    rw [if_neg c3]
    simp (disch := first | assumption | omega | decide | (refine Eq.trans (hK_X _) ?_; assumption) | fail) only [gB, I_all, zK_v, zK_n, true_and, and_true, Nat.reduceAdd, Nat.reduceMul, Nat.reduceSub, z_lt, z_le, z_neq, not_false_eq_true, or_true, true_or, or_false, false_or, false_and, and_false, gX0_comeBy, gX10_by, kx, vx, N, P, L, zCs, e1, e2]
    simp only [pe, not_false_eq_true, true_and]
end
/-- gaps: one more leaving -/
def spS (q : Int32 × Int32) (r : Lv) : Int32 × Int32 := if r.2.2 < Int32.ofNat 0 then q else (if q.1 < r.2.2 then r.2.2 else q.1, if q.2 < Int32.ofNat 0 ∨ r.2.2 < q.2 then r.2.2 else q.2)
theorem spF_fold (l : List Lv) : ∀ k, k ≤ l.length → spF l k = (l.take k).foldl spS (Int32.ofInt (-2), Int32.ofInt (-2)) := by
  intro k
  induction k with
  | zero => intro _; rfl
  | succ k ih =>
    intro hk
    have g1 : l[k]? = some l[k] := List.getElem?_eq_getElem (by omega)
    rw [List.take_add_one, g1]
    show spF l (k + 1) = List.foldl spS _ (l.take k ++ [l[k]])
    rw [List.foldl_append, ← ih (by omega)]
    conv => lhs; unfold spF
    dsimp only
    rw [g1]
    rfl
theorem spS_comm (q : Int32 × Int32) (r r' : Lv) : spS (spS q r) r' = spS (spS q r') r := by
  obtain ⟨u, v⟩ := q
  obtain ⟨-, -, g⟩ := r
  obtain ⟨-, -, g'⟩ := r'
  unfold spS
  dsimp only
  have z : (Int32.ofNat 0).toInt = 0 := by decide
  by_cases c : g < Int32.ofNat 0
  · by_cases c' : g' < Int32.ofNat 0
    · simp only [if_pos c, if_pos c']
    · simp only [if_pos c, if_neg c']
  · by_cases c' : g' < Int32.ofNat 0
    · simp only [if_neg c, if_pos c']
    · simp only [if_neg c, if_neg c']
      refine Prod.ext ?_ ?_
      · dsimp only
        simp only [Int32.lt_iff_toInt_lt, z] at *
        repeat' split
        all_goals (first | rfl | (rw [← Int32.toInt_inj]; omega))
      · dsimp only
        simp only [Int32.lt_iff_toInt_lt, z] at *
        repeat' split
        all_goals (first | rfl | (rw [← Int32.toInt_inj]; omega))
theorem spS_rev (l : List Lv) : ∀ q, l.reverse.foldl spS q = l.foldl spS q := by
  have key : ∀ (l : List Lv) (q : Int32 × Int32) (r : Lv), l.foldl spS (spS q r) = spS (l.foldl spS q) r := by
    intro l
    induction l with
    | nil => intro q r; rfl
    | cons r' l ih =>
      intro q r
      show l.foldl spS (spS (spS q r) r') = spS (l.foldl spS (spS q r')) r
      rw [spS_comm, ih]
  induction l with
  | nil => intro q; rfl
  | cons r l ih =>
    intro q
    rw [List.reverse_cons, List.foldl_append, ih]
    exact (key l q r).symm
