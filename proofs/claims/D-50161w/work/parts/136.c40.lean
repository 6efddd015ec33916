/-! the component: flow, rider, aboard, left, log, late -/
section
variable {κ : zC} {h : zH} {x a p q0 q : Nat} {A : Nat → Nat → Nat} {Q : zQ} {Y : Sy} {π : Pl} {σ : Sg}
theorem e0_waitingOf {f : Nat} (Z : Cx κ h x a p A q0 q Y) (hf : f < 17) : Ev κ mX0_waitingOf [.ref x, .int (Int32.ofNat f)] h Q = Q (.inl (some (.int (Int32.ofNat (waO (yS Y) f (plN (yP Y) 0)))))) h := by
  obtain ⟨kx, vx, S, OK, V⟩ := Z
  have N := soN S
  have R := soR S
  have K := soK S
  have E := soE (κ := κ) S
  have hns := S.1.2.2.1.1
  have lp := Go_fr (κ := κ) (m := mX0_waitingOf) (pc := 4) (n := plN (yP Y) 0) (Q := Q) (R := Q (.inl (some (.int (Int32.ofNat (waO (yS Y) f (plN (yP Y) 0)))))) h) (fun k => [some (.ref x), some (.int (Int32.ofNat f)), some (.int (Int32.ofNat (waO (yS Y) f k))), some (.int (Int32.ofNat k))]) (fun _ => h) (fun k hk ih => by
    have e3 : waO (yS Y) f (k + 1) = waO (yS Y) f k + cntF (sR (yS Y) k) f := rfl
    have F := soRow S hk
    have eo := fun (Q : zQ) => so_ofR (κ := κ) (Q := Q) (f := f) S OK hk (by omega)
    have hw := waO_le OK f k (by omega)
    rw [e3] at ih
    simp (disch := first | assumption | omega | decide | (refine Eq.trans (hK_X _) ?_; assumption) | fail) only [gB, I_all, zK_v, zK_n, true_and, and_true, Nat.reduceAdd, Nat.reduceMul, Nat.reduceSub, z_lt, z_le, z_neq, not_false_eq_true, or_true, true_or, or_false, false_or, false_and, and_false, gX0_waitingOf_h]
    simp (disch := first | assumption | omega | decide | (refine Eq.trans (hK_X _) ?_; assumption) | fail) only [gB, I_all, zK_v, zK_n, true_and, and_true, Nat.reduceAdd, Nat.reduceMul, Nat.reduceSub, z_lt, z_le, z_neq, not_false_eq_true, or_true, true_or, or_false, false_or, false_and, and_false, gX0_waitingOf, kx, vx, N, R, K, E, F.1, eo]
    exact ih) (by
    simp (disch := first | assumption | omega | decide | (refine Eq.trans (hK_X _) ?_; assumption) | fail) only [gB, I_all, zK_v, zK_n, true_and, and_true, Nat.reduceAdd, Nat.reduceMul, Nat.reduceSub, z_lt, z_le, z_neq, not_false_eq_true, or_true, true_or, or_false, false_or, false_and, and_false, gX0_waitingOf_h]
    simp (disch := first | assumption | omega | decide | (refine Eq.trans (hK_X _) ?_; assumption) | fail) only [gB, I_all, zK_v, zK_n, true_and, and_true, Nat.reduceAdd, Nat.reduceMul, Nat.reduceSub, z_lt, z_le, z_neq, not_false_eq_true, or_true, true_or, or_false, false_or, false_and, and_false, gX0_waitingOf, kx, vx, N, R, K, E])
  have e0 : waO (yS Y) f 0 = 0 := rfl
  rw [e0] at lp
  simp (disch := first | assumption | omega | decide | (refine Eq.trans (hK_X _) ?_; assumption) | fail) only [gB, I_all, zK_v, zK_n, true_and, and_true, Nat.reduceAdd, Nat.reduceMul, Nat.reduceSub, z_lt, z_le, z_neq, not_false_eq_true, or_true, true_or, or_false, false_or, false_and, and_false, gX0_waitingOf]
  exact lp
theorem e0_aboardOf {f : Nat} (Z : Cx κ h x a p A q0 q Y) (hf : f < 17) : Ev κ mX0_aboardOf [.ref x, .int (Int32.ofNat f)] h Q = Q (.inl (some (.int (Int32.ofNat (abO (yS Y) f (plN (yP Y) 1)))))) h := by
  obtain ⟨kx, vx, S, OK, V⟩ := Z
  have N := soN S
  have R := soR S
  have K := soK S
  have hns := S.1.2.2.1.2.1
  have lp := Go_fr (κ := κ) (m := mX0_aboardOf) (pc := 4) (n := plN (yP Y) 1) (Q := Q) (R := Q (.inl (some (.int (Int32.ofNat (abO (yS Y) f (plN (yP Y) 1)))))) h) (fun k => [some (.ref x), some (.int (Int32.ofNat f)), some (.int (Int32.ofNat (abO (yS Y) f k))), some (.int (Int32.ofNat k))]) (fun _ => h) (fun k hk ih => by
    have e3 : abO (yS Y) f (k + 1) = abO (yS Y) f k + cntF (bR (yS Y) k) f := rfl
    have F := soRid S hk
    have B := soB S hk
    have eo := fun (Q : zQ) => so_ofB (κ := κ) (Q := Q) (f := f) S OK hk (by omega)
    have hw := abO_le OK f k (by omega)
    rw [e3] at ih
    simp (disch := first | assumption | omega | decide | (refine Eq.trans (hK_X _) ?_; assumption) | fail) only [gB, I_all, zK_v, zK_n, true_and, and_true, Nat.reduceAdd, Nat.reduceMul, Nat.reduceSub, z_lt, z_le, z_neq, not_false_eq_true, or_true, true_or, or_false, false_or, false_and, and_false, gX0_aboardOf_h]
    simp (disch := first | assumption | omega | decide | (refine Eq.trans (hK_X _) ?_; assumption) | fail) only [gB, I_all, zK_v, zK_n, true_and, and_true, Nat.reduceAdd, Nat.reduceMul, Nat.reduceSub, z_lt, z_le, z_neq, not_false_eq_true, or_true, true_or, or_false, false_or, false_and, and_false, gX0_aboardOf, kx, vx, N, R, K, zA13, B, F.1, eo]
    exact ih) (by
    simp (disch := first | assumption | omega | decide | (refine Eq.trans (hK_X _) ?_; assumption) | fail) only [gB, I_all, zK_v, zK_n, true_and, and_true, Nat.reduceAdd, Nat.reduceMul, Nat.reduceSub, z_lt, z_le, z_neq, not_false_eq_true, or_true, true_or, or_false, false_or, false_and, and_false, gX0_aboardOf_h]
    simp (disch := first | assumption | omega | decide | (refine Eq.trans (hK_X _) ?_; assumption) | fail) only [gB, I_all, zK_v, zK_n, true_and, and_true, Nat.reduceAdd, Nat.reduceMul, Nat.reduceSub, z_lt, z_le, z_neq, not_false_eq_true, or_true, true_or, or_false, false_or, false_and, and_false, gX0_aboardOf, kx, vx, N, R, K, zA13])
  have e0 : abO (yS Y) f 0 = 0 := rfl
  rw [e0] at lp
  simp (disch := first | assumption | omega | decide | (refine Eq.trans (hK_X _) ?_; assumption) | fail) only [gB, I_all, zK_v, zK_n, true_and, and_true, Nat.reduceAdd, Nat.reduceMul, Nat.reduceSub, z_lt, z_le, z_neq, not_false_eq_true, or_true, true_or, or_false, false_or, false_and, and_false, gX0_aboardOf]
  exact lp
theorem so_account {f : Nat} (Z : SAt κ h a p π A q0 q σ) (hf : f < 1000) : Ev κ mX3_account [.ref a, .int (Int32.ofNat f)] h Q = Q (.inl (some (.int (Int32.ofNat (if f = plN π 2 then 16 else f))))) h := by
  have O := Z.1.2.2.1
  have h16 := O.2.2.1
  have N := soN Z
  have P := soP Z.1.2.1
  have L := soY (κ := κ) Z.1.2.1
  by_cases c : f = plN π 2
  · rw [if_pos c]
    simp (disch := first | assumption | omega | decide | (refine Eq.trans (hK_X _) ?_; assumption) | fail) only [gB, I_all, zK_v, zK_n, true_and, and_true, Nat.reduceAdd, Nat.reduceMul, Nat.reduceSub, z_lt, z_le, z_neq, not_false_eq_true, or_true, true_or, or_false, false_or, false_and, and_false, gX3_account, N, P, L]
  · rw [if_neg c]
    simp (disch := first | assumption | omega | decide | (refine Eq.trans (hK_X _) ?_; assumption) | fail) only [gB, I_all, zK_v, zK_n, true_and, and_true, Nat.reduceAdd, Nat.reduceMul, Nat.reduceSub, z_lt, z_le, z_neq, not_false_eq_true, or_true, true_or, or_false, false_or, false_and, and_false, gX3_account, N, P, L]
theorem e0_isFlowY {f : Nat} (Z : Cx κ h x a p A q0 q Y) (c : f < plN (yP Y) 2) : Ev κ mX0_isFlow [.ref x, .int (Int32.ofNat f)] h Q = Q (.inl (some (.int (Int32.ofNat 1)))) h := by
  obtain ⟨kx, vx, S, -⟩ := Z
  have O := S.1.2.2.1
  have hns := O.2.2.1
  have N := soN S
  have P := soP S.1.2.1
  have L := soY (κ := κ) S.1.2.1
  have es : Int32.ofNat (plN (yP Y) 2) - Int32.ofNat 1 = Int32.ofNat (plN (yP Y) 2 - 1) := I_sub (by omega)
  have eb := fun (Q : zQ) => e0_btY (κ := κ) (Q := Q) (h := h) (x := Int32.ofNat f) (l := 0) (u := plN (yP Y) 2 - 1) (by omega) (by omega) ((btw_I (by omega)).mpr (by omega))
  simp (disch := first | assumption | omega | decide | (refine Eq.trans (hK_X _) ?_; assumption) | fail) only [gB, I_all, zK_v, zK_n, true_and, and_true, Nat.reduceAdd, Nat.reduceMul, Nat.reduceSub, z_lt, z_le, z_neq, not_false_eq_true, or_true, true_or, or_false, false_or, false_and, and_false, gX0_isFlow, kx, vx, N, P, L, es, eb, z_b1]
theorem e0_isFlowN (Z : Cx κ h x a p A q0 q Y) {f : Int32} (c : ¬ (1 ≤ plN (yP Y) 2 ∧ btw f 0 (plN (yP Y) 2 - 1))) : Ev κ mX0_isFlow [.ref x, .int f] h Q = Q (.inl (some (.int (Int32.ofNat 0)))) h := by
  obtain ⟨kx, vx, S, -⟩ := Z
  have O := S.1.2.2.1
  have hns := O.2.2.1
  have N := soN S
  have P := soP S.1.2.1
  have L := soY (κ := κ) S.1.2.1
  by_cases d : 1 ≤ plN (yP Y) 2
  · have es : Int32.ofNat (plN (yP Y) 2) - Int32.ofNat 1 = Int32.ofNat (plN (yP Y) 2 - 1) := I_sub (by omega)
    have eb := fun (Q : zQ) => e0_btN (κ := κ) (Q := Q) (h := h) (x := f) (l := 0) (u := plN (yP Y) 2 - 1) (by omega) (by omega) (fun y => c ⟨d, y⟩)
    simp (disch := first | assumption | omega | decide | (refine Eq.trans (hK_X _) ?_; assumption) | fail) only [gB, I_all, zK_v, zK_n, true_and, and_true, Nat.reduceAdd, Nat.reduceMul, Nat.reduceSub, z_lt, z_le, z_neq, not_false_eq_true, or_true, true_or, or_false, false_or, false_and, and_false, gX0_isFlow, kx, vx, N, P, L, es, eb, z_b0]
  · have d0 : plN (yP Y) 2 = 0 := by omega
    have es : Int32.ofNat 0 - Int32.ofNat 1 = Int32.ofInt (-1) := by decide
    have eb : ∀ Q : zQ, Ev κ mX0_isBetween [.int f, .int (Int32.ofNat 0), .int (Int32.ofInt (-1))] h Q = Q (.inl (some (.int (Int32.ofNat 0)))) h := fun Q => by
      by_cases e : Int32.ofNat 0 ≤ f
      · have e2 : ¬ f ≤ Int32.ofInt (-1) := fun g => by
          have g1 : (Int32.ofNat 0).toInt = 0 := by decide
          have g2 : (Int32.ofInt (-1)).toInt = -1 := by decide
          rw [Int32.le_iff_toInt_le, g1] at e
          rw [Int32.le_iff_toInt_le, g2] at g
          omega
        have e3 : ¬ f < Int32.ofNat 0 := Int32.not_lt.mpr e
        have e4 : Int32.ofInt (-1) < f := Int32.not_le.mp e2
        simp (disch := first | assumption | omega | decide | (refine Eq.trans (hK_X _) ?_; assumption) | fail) only [gB, I_all, zK_v, zK_n, true_and, and_true, Nat.reduceAdd, Nat.reduceMul, Nat.reduceSub, z_lt, z_le, z_neq, not_false_eq_true, or_true, true_or, or_false, false_or, false_and, and_false, gX0_isBetween, z_b0]
      · have e3 : f < Int32.ofNat 0 := Int32.not_le.mp e
        simp (disch := first | assumption | omega | decide | (refine Eq.trans (hK_X _) ?_; assumption) | fail) only [gB, I_all, zK_v, zK_n, true_and, and_true, Nat.reduceAdd, Nat.reduceMul, Nat.reduceSub, z_lt, z_le, z_neq, not_false_eq_true, or_true, true_or, or_false, false_or, false_and, and_false, gX0_isBetween, z_b0]
    rw [d0] at L
    simp (disch := first | assumption | omega | decide | (refine Eq.trans (hK_X _) ?_; assumption) | fail) only [gB, I_all, zK_v, zK_n, true_and, and_true, Nat.reduceAdd, Nat.reduceMul, Nat.reduceSub, z_lt, z_le, z_neq, not_false_eq_true, or_true, true_or, or_false, false_or, false_and, and_false, gX0_isFlow, kx, vx, N, P, L, es, eb, z_b0]
theorem e0_flow {f k : Int32} (Z : Cx κ h x a p A q0 q Y) : Ev κ mX0_flow [.ref x, .int f, .int k] h Q = Q (.inl (some (.int (rFl Y f k)))) h := by
  have Z0 := Z
  obtain ⟨kx, vx, S, OK, V⟩ := Z
  have O := S.1.2.2.1
  have h16 := O.2.2.1
  have N := soN S
  have R := soR S
  have K := soK S
  have A2 := soA S
  have P := soP S.1.2.1
  have L := soY (κ := κ) S.1.2.1
  unfold rFl
  by_cases c : btw f 0 (plN (yP Y) 2)
  · have eb := fun (Q : zQ) => e0_btY (κ := κ) (Q := Q) (h := h) (by omega) (by omega) c
    obtain ⟨m, hs, -, hm, -⟩ := btw_nat c
    subst hs
    have ea := fun (Q : zQ) => so_account (κ := κ) (Q := Q) (f := m) S (by omega)
    obtain ⟨g, hg⟩ : ∃ g, g = (if m = plN (yP Y) 2 then 16 else m) := ⟨_, rfl⟩
    have hg17 : g < 17 := by rw [hg]; split <;> omega
    rw [← hg] at ea
    by_cases c2 : btw k 0 10
    · rw [if_pos ⟨c, c2⟩]
      obtain ⟨n, hx, -, hn, -⟩ := btw_nat c2
      subst hx
      rw [I_nat (by omega), I_nat (by omega)]
      have ew := fun (Q : zQ) => e0_waitingOf (κ := κ) (Q := Q) (f := g) Z0 hg17
      have eo := fun (Q : zQ) => e0_aboardOf (κ := κ) (Q := Q) (f := g) Z0 hg17
      have hc : n = 4 ∨ n = 5 ∨ n = 6 ∨ n = 7 ∨ n = 8 ∨ n = 9 ∨ n = 10 ∨ n = 0 ∨ n = 1 ∨ n = 2 ∨ n = 3 := by omega
      rcases hc with rfl | rfl | rfl | rfl | rfl | rfl | rfl | d
      · simp (disch := first | assumption | omega | decide | (refine Eq.trans (hK_X _) ?_; assumption) | fail) only [gB, I_all, zK_v, zK_n, true_and, and_true, Nat.reduceAdd, Nat.reduceMul, Nat.reduceSub, z_lt, z_le, z_neq, not_false_eq_true, or_true, true_or, or_false, false_or, false_and, and_false, gX0_flow, zSwi_y, zSwi_n, eb, ea, kx, vx, N, R, K, P, L, A2, ← hg, rFlN]
      · simp (disch := first | assumption | omega | decide | (refine Eq.trans (hK_X _) ?_; assumption) | fail) only [gB, I_all, zK_v, zK_n, true_and, and_true, Nat.reduceAdd, Nat.reduceMul, Nat.reduceSub, z_lt, z_le, z_neq, not_false_eq_true, or_true, true_or, or_false, false_or, false_and, and_false, gX0_flow, zSwi_y, zSwi_n, eb, ea, kx, vx, N, R, K, P, L, A2, ← hg, rFlN]
      · simp (disch := first | assumption | omega | decide | (refine Eq.trans (hK_X _) ?_; assumption) | fail) only [gB, I_all, zK_v, zK_n, true_and, and_true, Nat.reduceAdd, Nat.reduceMul, Nat.reduceSub, z_lt, z_le, z_neq, not_false_eq_true, or_true, true_or, or_false, false_or, false_and, and_false, gX0_flow, zSwi_y, zSwi_n, eb, ea, kx, vx, N, R, K, P, L, A2, ← hg, rFlN]
      · simp (disch := first | assumption | omega | decide | (refine Eq.trans (hK_X _) ?_; assumption) | fail) only [gB, I_all, zK_v, zK_n, true_and, and_true, Nat.reduceAdd, Nat.reduceMul, Nat.reduceSub, z_lt, z_le, z_neq, not_false_eq_true, or_true, true_or, or_false, false_or, false_and, and_false, gX0_flow, zSwi_y, zSwi_n, eb, ea, kx, vx, N, R, K, P, L, A2, ← hg, rFlN]
      · simp (disch := first | assumption | omega | decide | (refine Eq.trans (hK_X _) ?_; assumption) | fail) only [gB, I_all, zK_v, zK_n, true_and, and_true, Nat.reduceAdd, Nat.reduceMul, Nat.reduceSub, z_lt, z_le, z_neq, not_false_eq_true, or_true, true_or, or_false, false_or, false_and, and_false, gX0_flow, zSwi_y, zSwi_n, eb, ea, kx, vx, N, R, K, P, L, A2, ← hg, rFlN]
      · simp (disch := first | assumption | omega | decide | (refine Eq.trans (hK_X _) ?_; assumption) | fail) only [gB, I_all, zK_v, zK_n, true_and, and_true, Nat.reduceAdd, Nat.reduceMul, Nat.reduceSub, z_lt, z_le, z_neq, not_false_eq_true, or_true, true_or, or_false, false_or, false_and, and_false, gX0_flow, zSwi_y, zSwi_n, eb, ea, kx, vx, N, R, K, P, L, A2, ← hg, rFlN, ew]
      · simp (disch := first | assumption | omega | decide | (refine Eq.trans (hK_X _) ?_; assumption) | fail) only [gB, I_all, zK_v, zK_n, true_and, and_true, Nat.reduceAdd, Nat.reduceMul, Nat.reduceSub, z_lt, z_le, z_neq, not_false_eq_true, or_true, true_or, or_false, false_or, false_and, and_false, gX0_flow, zSwi_y, zSwi_n, eb, ea, kx, vx, N, R, K, P, L, A2, ← hg, rFlN, eo]
      · by_cases c3 : m = plN (yP Y) 2
        · have en := fun (Q : zQ) => e0_isFlowN (κ := κ) (Q := Q) (f := Int32.ofNat m) Z0 (fun y => by have := (btw_I (by omega)).mp y.2; omega)
          rcases d with rfl | rfl | rfl | rfl
          · rw [show rFlN Y m 0 = Int32.ofInt (-2) from if_pos c3]
            simp (disch := first | assumption | omega | decide | (refine Eq.trans (hK_X _) ?_; assumption) | fail) only [gB, I_all, zK_v, zK_n, true_and, and_true, Nat.reduceAdd, Nat.reduceMul, Nat.reduceSub, z_lt, z_le, z_neq, not_false_eq_true, or_true, true_or, or_false, false_or, false_and, and_false, gX0_flow, gX0_flowPart, zSwi_y, zSwi_n, eb, ea, kx, vx, N, P, L, en]
          · rw [show rFlN Y m 1 = Int32.ofInt (-2) from if_pos c3]
            simp (disch := first | assumption | omega | decide | (refine Eq.trans (hK_X _) ?_; assumption) | fail) only [gB, I_all, zK_v, zK_n, true_and, and_true, Nat.reduceAdd, Nat.reduceMul, Nat.reduceSub, z_lt, z_le, z_neq, not_false_eq_true, or_true, true_or, or_false, false_or, false_and, and_false, gX0_flow, gX0_flowPart, zSwi_y, zSwi_n, eb, ea, kx, vx, N, P, L, en]
          · rw [show rFlN Y m 2 = Int32.ofInt (-2) from if_pos c3]
            simp (disch := first | assumption | omega | decide | (refine Eq.trans (hK_X _) ?_; assumption) | fail) only [gB, I_all, zK_v, zK_n, true_and, and_true, Nat.reduceAdd, Nat.reduceMul, Nat.reduceSub, z_lt, z_le, z_neq, not_false_eq_true, or_true, true_or, or_false, false_or, false_and, and_false, gX0_flow, gX0_flowPart, zSwi_y, zSwi_n, eb, ea, kx, vx, N, P, L, en]
          · rw [show rFlN Y m 3 = Int32.ofInt (-2) from if_pos c3]
            simp (disch := first | assumption | omega | decide | (refine Eq.trans (hK_X _) ?_; assumption) | fail) only [gB, I_all, zK_v, zK_n, true_and, and_true, Nat.reduceAdd, Nat.reduceMul, Nat.reduceSub, z_lt, z_le, z_neq, not_false_eq_true, or_true, true_or, or_false, false_or, false_and, and_false, gX0_flow, gX0_flowPart, zSwi_y, zSwi_n, eb, ea, kx, vx, N, P, L, en]
        · have hm2 : m < plN (yP Y) 2 := by omega
          have en := fun (Q : zQ) => e0_isFlowY (κ := κ) (Q := Q) Z0 hm2
          obtain ⟨o9, o9b, -⟩ := O.2.2.2.1 m hm2
          have p9 : hV h (A 1 (plI (yP Y) 9 m)) 17 = .int (plT (yP Y) 9 m) := (P.2.2.2.2.2.2.2.2.2.2.2.2.1 _ o9b).trans (congrArg Value.int o9.symm)
          have k9 : hK h (A 1 (plI (yP Y) 9 m)) = 102 := P.2.2.2.2.2.2.2.2.2.2.2.2.2.2.2.2.2.1 _ o9b
          rcases d with rfl | rfl | rfl | rfl
          · rw [show rFlN Y m 0 = plT (yP Y) 9 m from if_neg c3]
            simp (disch := first | assumption | omega | decide | (refine Eq.trans (hK_X _) ?_; assumption) | fail) only [gB, I_all, zK_v, zK_n, true_and, and_true, Nat.reduceAdd, Nat.reduceMul, Nat.reduceSub, z_lt, z_le, z_neq, not_false_eq_true, or_true, true_or, or_false, false_or, false_and, and_false, gX0_flow, gX0_flowPart, zSwi_y, zSwi_n, eb, ea, kx, vx, N, P, L, en, zCs, p9, k9]
            rw [← o9]
          · rw [show rFlN Y m 1 = plT (yP Y) 10 m from if_neg c3]
            simp (disch := first | assumption | omega | decide | (refine Eq.trans (hK_X _) ?_; assumption) | fail) only [gB, I_all, zK_v, zK_n, true_and, and_true, Nat.reduceAdd, Nat.reduceMul, Nat.reduceSub, z_lt, z_le, z_neq, not_false_eq_true, or_true, true_or, or_false, false_or, false_and, and_false, gX0_flow, gX0_flowPart, zSwi_y, zSwi_n, eb, ea, kx, vx, N, P, L, en, zCs, p9, k9]
          · rw [show rFlN Y m 2 = plT (yP Y) 11 m from if_neg c3]
            simp (disch := first | assumption | omega | decide | (refine Eq.trans (hK_X _) ?_; assumption) | fail) only [gB, I_all, zK_v, zK_n, true_and, and_true, Nat.reduceAdd, Nat.reduceMul, Nat.reduceSub, z_lt, z_le, z_neq, not_false_eq_true, or_true, true_or, or_false, false_or, false_and, and_false, gX0_flow, gX0_flowPart, zSwi_y, zSwi_n, eb, ea, kx, vx, N, P, L, en, zCs, p9, k9]
          · rw [show rFlN Y m 3 = plT (yP Y) 12 m from if_neg c3]
            simp (disch := first | assumption | omega | decide | (refine Eq.trans (hK_X _) ?_; assumption) | fail) only [gB, I_all, zK_v, zK_n, true_and, and_true, Nat.reduceAdd, Nat.reduceMul, Nat.reduceSub, z_lt, z_le, z_neq, not_false_eq_true, or_true, true_or, or_false, false_or, false_and, and_false, gX0_flow, gX0_flowPart, zSwi_y, zSwi_n, eb, ea, kx, vx, N, P, L, en, zCs, p9, k9]
    · rw [if_neg (fun y => c2 y.2)]
      have hne := ne_btw (by decide) c2
      simp (disch := first | assumption | omega | decide | (exact hne _ (by decide))) only [gB, I_all, zK_v, zK_n, true_and, and_true, Nat.reduceAdd, Nat.reduceMul, Nat.reduceSub, z_lt, z_le, z_neq, not_false_eq_true, or_true, true_or, or_false, false_or, false_and, and_false, gX0_flow, eb, ea, kx, vx, N, P, L, zSwi_n, zSwi_0]
  · rw [if_neg (fun y => c y.1)]
    have eb := fun (Q : zQ) => e0_btN (κ := κ) (Q := Q) (h := h) (by omega) (by omega) c
    simp (disch := first | assumption | omega | decide | (refine Eq.trans (hK_X _) ?_; assumption) | fail) only [gB, I_all, zK_v, zK_n, true_and, and_true, Nat.reduceAdd, Nat.reduceMul, Nat.reduceSub, z_lt, z_le, z_neq, not_false_eq_true, or_true, true_or, or_false, false_or, false_and, and_false, gX0_flow, kx, vx, N, P, L, eb]
end
