/-! the twin: the best mode; when a bus comes, leaves; means -/
section
variable {κ : zC} {h : zH} {b : Nat} {W : Nat → Nat → Int32} {SM : Nat → Nat → Int64} {Q : zQ} {Y : Sy} {π : Pl}
theorem bmF_lt (Y : Sy) (s : Int32) : ∀ k, (bmF Y s k).1 ≤ k := by
  intro k
  induction k with
  | zero => exact Nat.le_refl _
  | succ k ih =>
    unfold bmF
    dsimp only
    split
    · exact Nat.le_succ _
    · omega
theorem e7_bestMode {s : Int32} {U : Int} (S : TSh κ h b) (T : TIn W SM Y) (G : gOk (yP Y) (yS Y) U) (hU : U ≤ 1073741400) (ht : 0 ≤ (sN (yS Y) 0).toInt ∧ (sN (yS Y) 0).toInt + 5000 ≤ U) (hq : ∀ W' SM', TIn W' SM' Y → Q (.inl (some (.int (rBm Y s)))) (hX h b 33 W' SM')) : Ev κ mX7_bestMode [.ref b, .int s] (hX h b 33 W SM) Q := by
  have F := xF S
  have R := xR S
  have K := xK S
  have hB : kB κ ≤ b := S.1.1
  unfold rBm at hq
  by_cases c : ¬ btw s 1 3600
  · rw [if_neg c] at hq
    have ei := fun (h : zH) (Q : zQ) => e7_inN (κ := κ) (h := h) (Q := Q) (x := s) (l := 1) (u := 3600) (by decide) (by decide) c
    simp (disch := first | assumption | omega | decide) only [gB, I_all, zK_v, zK_n, true_and, and_true, Nat.reduceAdd, Nat.reduceMul, Nat.reduceSub, z_lt, z_le, z_neq, not_false_eq_true, or_true, true_or, or_false, false_or, false_and, and_false, gX7_bestMode, F, R, K, ei]
    exact hq _ _ T
  replace c := Decidable.of_not_not c
  have e2 := fun (h : zH) (Q : zQ) => e7_inY (κ := κ) (h := h) (Q := Q) (x := s) (l := 1) (u := 3600) (by decide) (by decide) c
  rw [if_pos c] at hq
  have lp : ∀ (d k : Nat) (W : Nat → Nat → Int32) (SM : Nat → Nat → Int64) (a6 a7 : Option Value), k + d = 4 → TIn W SM Y → Go κ mX7_bestMode 24 [some (.ref b), some (.int s), some (.int (Int32.ofNat (bmF Y s k).1)), some (.int (bmF Y s k).2.1), some (.int (bmF Y s k).2.2), some (.int (Int32.ofNat k)), a6, a7] [] (hX h b 33 W SM) Q := by
    intro d
    induction d with
    | zero =>
      intro k W SM a6 a7 hk T
      have hk' : k = 4 := by omega
      subst hk'
      simp (disch := first | assumption | omega | decide) only [gB, I_all, zK_v, zK_n, true_and, and_true, Nat.reduceAdd, Nat.reduceMul, Nat.reduceSub, z_lt, z_le, z_neq, not_false_eq_true, or_true, true_or, or_false, false_or, false_and, and_false, gX7_bestMode_h]
      simp (disch := first | assumption | omega | decide) only [gB, I_all, zK_v, zK_n, true_and, and_true, Nat.reduceAdd, Nat.reduceMul, Nat.reduceSub, z_lt, z_le, z_neq, not_false_eq_true, or_true, true_or, or_false, false_or, false_and, and_false, gX7_bestMode, F, R, K]
      exact hq _ _ T
    | succ d ih =>
      intro k W SM a6 a7 hk T
      have hlt := bmF_lt Y s k
      have ih' := fun W SM a6 a7 => ih (k + 1) W SM a6 a7 (by omega)
      have ex : bmF Y s (k + 1) = if k = 0 ∨ (bmF Y s k).2.1 < Int32.ofNat (sPa (yP Y) (sMd (yS Y) (Int32.ofNat k)) (sN (yS Y) 0 + s)).2 ∨ (Int32.ofNat (sPa (yP Y) (sMd (yS Y) (Int32.ofNat k)) (sN (yS Y) 0 + s)).2 = (bmF Y s k).2.1 ∧ (sS (sPa (yP Y) (sMd (yS Y) (Int32.ofNat k)) (sN (yS Y) 0 + s)).1 0 - sS (yS Y) 0).toInt32 < (bmF Y s k).2.2)
          then (k, Int32.ofNat (sPa (yP Y) (sMd (yS Y) (Int32.ofNat k)) (sN (yS Y) 0 + s)).2, (sS (sPa (yP Y) (sMd (yS Y) (Int32.ofNat k)) (sN (yS Y) 0 + s)).1 0 - sS (yS Y) 0).toInt32) else bmF Y s k := rfl
      rw [ex] at ih'
      generalize bmF Y s k = q at *
      obtain ⟨qa, qb, qc⟩ := q
      dsimp only at ih' hlt ⊢
      simp (disch := first | assumption | omega | decide) only [gB, I_all, zK_v, zK_n, true_and, and_true, Nat.reduceAdd, Nat.reduceMul, Nat.reduceSub, z_lt, z_le, z_neq, not_false_eq_true, or_true, true_or, or_false, false_or, false_and, and_false, gX7_bestMode_h]
      simp (disch := first | assumption | omega | decide) only [gB, I_all, zK_v, zK_n, true_and, and_true, Nat.reduceAdd, Nat.reduceMul, Nat.reduceSub, z_lt, z_le, z_neq, not_false_eq_true, or_true, true_or, or_false, false_or, false_and, and_false, gX7_bestMode, F, R, K]
      refine e7_thinksT S T fun W1 SM1 T1 a1 b0 b1 s14 => ?_
      have w0 : zv W1 13 1 (Int32.ofNat k) 13 0 = sN (yS Y) 0 := by rw [zv_nx (by omega)]; exact T1.2.1.1.1 0 (by unfold nat1; omega)
      simp (disch := first | assumption | omega | decide) only [gB, I_all, zK_v, zK_n, true_and, and_true, Nat.reduceAdd, Nat.reduceMul, Nat.reduceSub, z_lt, z_le, z_neq, not_false_eq_true, or_true, true_or, or_false, false_or, false_and, and_false, gX7_bestMode, F, R, K, w0]
      refine e7_aside (W0 := W) (SM0 := SM) S T1 G hU ht c a1 b0 b1 fun W2 SM2 T2 a2 d0 d1 => ?_
      have f0 : SM2 14 0 = sS (sPa (yP Y) (sMd (yS Y) (Int32.ofNat k)) (sN (yS Y) 0 + s)).1 0 := T2.2.1.1.2.2.2.2.2.1
      have f1 : SM2 16 0 = sS (yS Y) 0 := d0.trans T.2.1.1.2.2.2.2.2.1
      simp (disch := first | assumption | omega | decide) only [gB, I_all, zK_v, zK_n, true_and, and_true, Nat.reduceAdd, Nat.reduceMul, Nat.reduceSub, z_lt, z_le, z_neq, not_false_eq_true, or_true, true_or, or_false, false_or, false_and, and_false, gX7_bestMode, F, R, K, f0, f1]
      refine e7_backT (w := W 13) (sm := SM 14) S T2 T.2.1.1 T.2.1.2 a2 d0 d1 fun W3 SM3 T3 => ?_
      generalize sPa (yP Y) (sMd (yS Y) (Int32.ofNat k)) (sN (yS Y) 0 + s) = r at *
      generalize (sS r.1 0 - sS (yS Y) 0).toInt32 = wt at *
      have i3 := fun a6 a7 => ih' W3 SM3 a6 a7 T3
      by_cases k0 : k = 0
      · rw [if_pos (Or.inl k0)] at i3
        dsimp only at i3
        have kz : Int32.ofNat k = Int32.ofNat 0 := by rw [k0]
        simp (disch := first | assumption | omega | decide) only [gB, I_all, zK_v, zK_n, true_and, and_true, Nat.reduceAdd, Nat.reduceMul, Nat.reduceSub, z_lt, z_le, z_neq, not_false_eq_true, or_true, true_or, or_false, false_or, false_and, and_false, gX7_bestMode, F, R, K]
        exact i3 _ _
      · have kz : ¬ Int32.ofNat k = Int32.ofNat 0 := by rw [I_eq (by omega) (by omega)]; exact k0
        by_cases c4 : qb < Int32.ofNat r.2
        · rw [if_pos (Or.inr (Or.inl c4))] at i3
          dsimp only at i3
          simp (disch := first | assumption | omega | decide) only [gB, I_all, zK_v, zK_n, true_and, and_true, Nat.reduceAdd, Nat.reduceMul, Nat.reduceSub, z_lt, z_le, z_neq, not_false_eq_true, or_true, true_or, or_false, false_or, false_and, and_false, gX7_bestMode, F, R, K]
          exact i3 _ _
        · by_cases c5 : Int32.ofNat r.2 = qb
          · by_cases c6 : wt < qc
            · have c6' : ¬ qc ≤ wt := Int32.not_le.mpr c6
              rw [if_pos (Or.inr (Or.inr ⟨c5, c6⟩))] at i3
              dsimp only at i3
              simp (disch := first | assumption | omega | decide) only [gB, I_all, zK_v, zK_n, true_and, and_true, Nat.reduceAdd, Nat.reduceMul, Nat.reduceSub, z_lt, z_le, z_neq, not_false_eq_true, or_true, true_or, or_false, false_or, false_and, and_false, gX7_bestMode, F, R, K]
              exact i3 _ _
            · have c6' : qc ≤ wt := Int32.not_lt.mp c6
              rw [if_neg (fun z => z.elim k0 fun z => z.elim c4 fun z => c6 z.2)] at i3
              dsimp only at i3
              simp (disch := first | assumption | omega | decide) only [gB, I_all, zK_v, zK_n, true_and, and_true, Nat.reduceAdd, Nat.reduceMul, Nat.reduceSub, z_lt, z_le, z_neq, not_false_eq_true, or_true, true_or, or_false, false_or, false_and, and_false, gX7_bestMode, F, R, K]
              exact i3 _ _
          · rw [if_neg (fun z => z.elim k0 fun z => z.elim c4 fun z => c5 z.1)] at i3
            dsimp only at i3
            simp (disch := first | assumption | omega | decide) only [gB, I_all, zK_v, zK_n, true_and, and_true, Nat.reduceAdd, Nat.reduceMul, Nat.reduceSub, z_lt, z_le, z_neq, not_false_eq_true, or_true, true_or, or_false, false_or, false_and, and_false, gX7_bestMode, F, R, K]
            exact i3 _ _
  have := lp 4 0 W SM none none (by omega) T
  simp (disch := first | assumption | omega | decide) only [gB, I_all, zK_v, zK_n, true_and, and_true, Nat.reduceAdd, Nat.reduceMul, Nat.reduceSub, z_lt, z_le, z_neq, not_false_eq_true, or_true, true_or, or_false, false_or, false_and, and_false, gX7_bestMode, F, R, K, e2]
  exact this
/-- one event, the rest kept -/
theorem e7_happensT {k : Nat} {U : Int} (S : TSh κ h b) (T : TIn W SM Y) (G : gOk (yP Y) (yS Y) U) (hk : k < plN (yP Y) 1) (ht : (bF (yS Y) k 2).toInt ≤ 1073741824) (hq : ∀ W' SM', TIn W' SM' (vSt Y (sHa (yP Y) (yS Y) k).1) → (∀ k j, ¬ (k = 13 ∨ (k = 0 ∧ j = 103)) → W' k j = W k j) → (∀ k j, ¬ k = 14 → SM' k j = SM k j) → Q (.inl none) (hX h b 33 W' SM')) : Ev κ mX7_happens [.ref b, .int (Int32.ofNat k)] (hX h b 33 W SM) Q := by
  have O := T.2.2.2.2.2.2
  rw [hX_M S]
  refine e7_happens (MSh_X S) (tPm S T.1) O T.2.1.1 G hk ht fun w' sm' W' => ?_
  rw [hM_X S]
  refine hq _ _ (T.wu W' (sOk_ha O G.1 hk)) (fun k j h1 => ?_) fun k j h1 => ?_
  · unfold tWu
    rw [if_neg (by omega), if_neg (by omega)]
  · unfold tSu
    rw [if_neg h1]
theorem nextBusX (S : TSh κ h b) (T : TIn W SM Y) : Ev κ mX7_nextBus [.ref b] (hX h b 33 W SM) Q = Q (.inl (some (.int (Int32.ofNat (nxB (yS Y) (plN (yP Y) 1 - 1)))))) (hX h b 33 W SM) := by
  have := e7_nextBus (κ := κ) (h := hX h b 33 W SM) (w := W 13) (sm := SM 14) (o := W 0 103) (Q := Q) (MSh_X S) (tPm S T.1) T.2.2.2.2.2.2 T.2.1.1
  rw [← hX_M S] at this
  exact this
theorem isComingX {k st s' s : Nat} (S : TSh κ h b) (hk : k < 6) (hst : st < 4) (e0 : W 13 (164 + 13 * k + 0) = Int32.ofNat st) (e1 : W 13 (164 + 13 * k + 1) = Int32.ofNat s') (hs : s < 10) (hs' : s' < 10) : Ev κ mX7_isComing [.ref b, .int (Int32.ofNat k), .int (Int32.ofNat s)] (hX h b 33 W SM) Q = Q (.inl (some (.int (if ¬ 2 ≤ st ∧ s' = s then Int32.ofNat 1 else Int32.ofNat 0)))) (hX h b 33 W SM) := by
  have F := xF S
  have R := xR S
  have K := xK S
  have ea := fun (Q : zQ) => isAtX (κ := κ) (W := W) (SM := SM) (Q := Q) (k := k) S hk hst e0
  have eo := fun (Q : zQ) => ofX (κ := κ) (W := W) (SM := SM) (Q := Q) (k := k) (c := 1) S (by omega)
  by_cases c : 2 ≤ st
  · rw [if_neg (fun z => z.1 c)]
    simp only [if_pos c] at ea
    simp (disch := first | assumption | omega | decide) only [gB, I_all, zK_v, zK_n, true_and, and_true, Nat.reduceAdd, Nat.reduceMul, Nat.reduceSub, z_lt, z_le, z_neq, not_false_eq_true, or_true, true_or, or_false, false_or, false_and, and_false, gX7_isComing, F, R, K, ea, z_b0]
  · simp only [if_neg c] at ea
    by_cases c2 : s' = s
    · rw [if_pos ⟨c, c2⟩]
      simp (disch := first | assumption | omega | decide) only [gB, I_all, zK_v, zK_n, true_and, and_true, Nat.reduceAdd, Nat.reduceMul, Nat.reduceSub, z_lt, z_le, z_neq, not_false_eq_true, or_true, true_or, or_false, false_or, false_and, and_false, gX7_isComing, F, R, K, ea, eo, e1, z_b1]
    · rw [if_neg (fun z => c2 z.2)]
      simp (disch := first | assumption | omega | decide) only [gB, I_all, zK_v, zK_n, true_and, and_true, Nat.reduceAdd, Nat.reduceMul, Nat.reduceSub, z_lt, z_le, z_neq, not_false_eq_true, or_true, true_or, or_false, false_or, false_and, and_false, gX7_isComing, F, R, K, ea, eo, e1, z_b0]
theorem e7_comes {x s : Int32} {U : Int} (S : TSh κ h b) (T : TIn W SM Y) (G : gOk (yP Y) (yS Y) U) (hU : U ≤ 1073741400) (ht : 0 ≤ (sN (yS Y) 0).toInt ∧ (sN (yS Y) 0).toInt + 5000 ≤ U) (hq : ∀ W' SM', TIn W' SM' Y → Q (.inl (some (.int (rCo Y x s)))) (hX h b 33 W' SM')) : Ev κ mX7_comes [.ref b, .int x, .int s] (hX h b 33 W SM) Q := by
  have F := xF S
  have R := xR S
  have K := xK S
  have hB : kB κ ≤ b := S.1.1
  have O := T.2.2.2.2.2.2
  have hns := O.1
  have hnb := O.2.1
  unfold rCo at hq
  by_cases c : ¬ btw x 0 (plN (yP Y) 1 - 1)
  · rw [if_neg (fun z => c z.1)] at hq
    have ei := fun (Q : zQ) => e7_isBusN (κ := κ) (W := W) (SM := SM) (Q := Q) S T.1 O c
    simp (disch := first | assumption | omega | decide) only [gB, I_all, zK_v, zK_n, true_and, and_true, Nat.reduceAdd, Nat.reduceMul, Nat.reduceSub, z_lt, z_le, z_neq, not_false_eq_true, or_true, true_or, or_false, false_or, false_and, and_false, gX7_comes, F, R, K, ei]
    exact hq _ _ T
  replace c := Decidable.of_not_not c
  have e1 := fun (Q : zQ) => e7_isBusY (κ := κ) (W := W) (SM := SM) (Q := Q) S T.1 O c
  by_cases c2 : ¬ btw s 0 (plN (yP Y) 0 - 1)
  · rw [if_neg (fun z => c2 z.2)] at hq
    have ei := fun (Q : zQ) => e7_isStopN (κ := κ) (W := W) (SM := SM) (Q := Q) S T.1 O c2
    simp (disch := first | assumption | omega | decide) only [gB, I_all, zK_v, zK_n, true_and, and_true, Nat.reduceAdd, Nat.reduceMul, Nat.reduceSub, z_lt, z_le, z_neq, not_false_eq_true, or_true, true_or, or_false, false_or, false_and, and_false, gX7_comes, F, R, K, e1, ei]
    exact hq _ _ T
  replace c2 := Decidable.of_not_not c2
  have e2 := fun (Q : zQ) => e7_isStopY (κ := κ) (W := W) (SM := SM) (Q := Q) S T.1 O c2
  rw [if_pos ⟨c, c2⟩] at hq
  obtain ⟨m, hx, -, hm, -⟩ := btw_nat c
  obtain ⟨n, hs, -, hn, -⟩ := btw_nat c2
  subst hx; subst hs
  rw [I_nat (by omega), I_nat (by omega)] at hq
  have z36 : (Int32.ofNat 3600).toInt = 3600 := by decide
  have hT : (sN (yS Y) 0 + Int32.ofNat 3600).toInt = (sN (yS Y) 0).toInt + 3600 := i_add (by decide) (by omega)
  simp (disch := first | assumption | omega | decide) only [gB, I_all, zK_v, zK_n, true_and, and_true, Nat.reduceAdd, Nat.reduceMul, Nat.reduceSub, z_lt, z_le, z_neq, not_false_eq_true, or_true, true_or, or_false, false_or, false_and, and_false, gX7_comes, F, R, K, e1, e2]
  refine e7_thinksT S T fun W1 SM1 T1 a1 b0 b1 s14 => ?_
  have en := fun (Q : zQ) => nextBusX (κ := κ) (Q := Q) S T1
  -- the end: laid back
  have fin : ∀ (v : Int32) (a4 : Int32) (W2 : Nat → Nat → Int32) (SM2 : Nat → Nat → Int64) (σ2 : Sg), TIn W2 SM2 (vSt Y σ2) → (∀ j, j < 3614 → W2 15 j = W 13 j) → SM2 16 0 = SM 14 0 → SM2 16 1 = SM 14 1 → (∀ W' SM', TIn W' SM' Y → Q (.inl (some (.int v))) (hX h b 33 W' SM')) →
      Go κ mX7_comes 99 [some (.ref b), some (.int (Int32.ofNat m)), some (.int (Int32.ofNat n)), some (.int v), some (.int a4)] [] (hX h b 33 W2 SM2) Q := by
    intro v a4 W2 SM2 σ2 T2 a2 d0 d1 hq
    simp (disch := first | assumption | omega | decide) only [gB, I_all, zK_v, zK_n, true_and, and_true, Nat.reduceAdd, Nat.reduceMul, Nat.reduceSub, z_lt, z_le, z_neq, not_false_eq_true, or_true, true_or, or_false, false_or, false_and, and_false, gX7_comes, F, R, K]
    refine e7_backT (w := W 13) (sm := SM 14) S T2 T.2.1.1 T.2.1.2 a2 d0 d1 fun W3 SM3 T3 => ?_
    simp (disch := first | assumption | omega | decide) only [gB, I_all, zK_v, zK_n, true_and, and_true, Nat.reduceAdd, Nat.reduceMul, Nat.reduceSub, z_lt, z_le, z_neq, not_false_eq_true, or_true, true_or, or_false, false_or, false_and, and_false, gX7_comes]
    exact hq _ _ T3
  have lp : ∀ (k : Nat) (σ1 : Sg) (W2 : Nat → Nat → Int32) (SM2 : Nat → Nat → Int64), gOk (yP Y) σ1 U → TIn W2 SM2 (vSt Y σ1) → (∀ j, j < 3614 → W2 15 j = W 13 j) → SM2 16 0 = SM 14 0 → SM2 16 1 = SM 14 1 → mu (sN (yS Y) 0 + Int32.ofNat 3600).toInt σ1 (plN (yP Y) 1) < k →
      (∀ W' SM', TIn W' SM' Y → Q (.inl (some (.int (cmF (yP Y) m n (sN (yS Y) 0 + Int32.ofNat 3600) k σ1)))) (hX h b 33 W' SM')) →
      Go κ mX7_comes 31 [some (.ref b), some (.int (Int32.ofNat m)), some (.int (Int32.ofNat n)), some (.int (Int32.ofInt (-2))), some (.int (Int32.ofNat (nxB σ1 (plN (yP Y) 1 - 1))))] [] (hX h b 33 W2 SM2) Q := by
    intro k
    induction k with
    | zero => intro σ1 W2 SM2 _ _ _ _ _ hm; cases hm
    | succ k ih =>
      intro σ1 W2 SM2 G1 T2 a2 d0 d1 hmu hq
      have hnx : nxB σ1 (plN (yP Y) 1 - 1) < plN (yP Y) 1 := by
        have := nxB_lt σ1 (plN (yP Y) 1 - 1)
        omega
      have ex : cmF (yP Y) m n (sN (yS Y) 0 + Int32.ofNat 3600) (k + 1) σ1 = if bF σ1 (nxB σ1 (plN (yP Y) 1 - 1)) 2 ≤ sN (yS Y) 0 + Int32.ofNat 3600 then
          (if nxB σ1 (plN (yP Y) 1 - 1) = m ∧ ¬ 2 ≤ bI σ1 m 0 ∧ bI σ1 m 1 = n then bF σ1 m 2 else cmF (yP Y) m n (sN (yS Y) 0 + Int32.ofNat 3600) k (sHa (yP Y) σ1 (nxB σ1 (plN (yP Y) 1 - 1))).1) else Int32.ofInt (-2) := rfl
      rw [ex] at hq
      generalize hb' : nxB σ1 (plN (yP Y) 1 - 1) = b' at *
      have hb6 : b' < 6 := by omega
      obtain ⟨OK1, hcap, htm⟩ := G1
      have tb := htm b' hnx
      obtain ⟨st, s', h4, hs', q0, q1⟩ := bst OK1 hnx hb6
      have B := T2.2.1.1.2.2.2.1 b' hb6
      have u0 : W2 13 (164 + 13 * b' + 0) = Int32.ofNat st := (B.1 0 (by decide)).trans q0
      have u1 : W2 13 (164 + 13 * b' + 1) = Int32.ofNat s' := (B.1 1 (by decide)).trans q1
      have u2 : W2 13 (164 + 13 * b' + 2) = bF σ1 b' 2 := B.1 2 (by decide)
      have eo := fun (c : Nat) (hc : c < 13) (Q : zQ) => ofX (κ := κ) (W := W2) (SM := SM2) (Q := Q) (k := b') (c := c) S (by omega)
      have u15 : W2 15 0 = sN (yS Y) 0 := (a2 0 (by decide)).trans (T.2.1.1.1 0 (by unfold nat1; omega))
      have ec := fun (Q : zQ) => isComingX (κ := κ) (W := W2) (SM := SM2) (Q := Q) (k := b') (s := n) S hb6 h4 u0 u1 (by omega) (by omega)
      have tn : ¬ bF σ1 b' 2 < Int32.ofNat 0 := by
        rw [Int32.lt_iff_toInt_lt, show (Int32.ofNat 0).toInt = 0 from by decide]
        omega
      have tn' : Int32.ofNat 0 ≤ bF σ1 b' 2 := Int32.not_lt.mp tn
      have z2 : ¬ Int32.ofNat 0 ≤ Int32.ofInt (-2) := by decide
      simp (disch := first | assumption | omega | decide) only [gB, I_all, zK_v, zK_n, true_and, and_true, Nat.reduceAdd, Nat.reduceMul, Nat.reduceSub, z_lt, z_le, z_neq, not_false_eq_true, or_true, true_or, or_false, false_or, false_and, and_false, gX7_comes_h]
      by_cases ct : bF σ1 b' 2 ≤ sN (yS Y) 0 + Int32.ofNat 3600
      · have ct' : ¬ sN (yS Y) 0 + Int32.ofNat 3600 < bF σ1 b' 2 := Int32.not_lt.mpr ct
        have cI := Int32.le_iff_toInt_le.mp ct
        rw [if_pos ct] at hq
        have G2 : gOk (yP Y) (sHa (yP Y) σ1 b').1 U := gOk_ha O ⟨OK1, hcap, htm⟩ hnx (by omega) hU
        have hm2 := mu_ha (T := (sN (yS Y) 0 + Int32.ofNat 3600).toInt) O OK1 hnx (by omega) hcap cI
        -- one event, then on
        have ev : ∀ (v : Int32) (a : Int32), (∀ (W3 : Nat → Nat → Int32) (SM3 : Nat → Nat → Int64), TIn W3 SM3 (vSt Y (sHa (yP Y) σ1 b').1) → (∀ j, j < 3614 → W3 15 j = W 13 j) → SM3 16 0 = SM 14 0 → SM3 16 1 = SM 14 1 →
            Go κ mX7_comes 31 [some (.ref b), some (.int (Int32.ofNat m)), some (.int (Int32.ofNat n)), some (.int v), some (.int (Int32.ofNat (nxB (sHa (yP Y) σ1 b').1 (plN (yP Y) 1 - 1))))] [] (hX h b 33 W3 SM3) Q) →
            Go κ mX7_comes 84 [some (.ref b), some (.int (Int32.ofNat m)), some (.int (Int32.ofNat n)), some (.int v), some (.int (Int32.ofNat b'))] [] (hX h b 33 W2 SM2) Q := by
          intro v a hk
          simp (disch := first | assumption | omega | decide) only [gB, I_all, zK_v, zK_n, true_and, and_true, Nat.reduceAdd, Nat.reduceMul, Nat.reduceSub, z_lt, z_le, z_neq, not_false_eq_true, or_true, true_or, or_false, false_or, false_and, and_false, gX7_comes, F, R, K]
          refine e7_happensT (k := b') (U := U) S T2 ⟨OK1, hcap, htm⟩ hnx (by rw [vSt_S]; omega) fun W3 SM3 T3 f1 f2 => ?_
          rw [vSt_S, vSt_2] at T3
          have T3' : TIn W3 SM3 (vSt Y (sHa (yP Y) σ1 b').1) := T3
          have en := fun (Q : zQ) => nextBusX (κ := κ) (Q := Q) S T3'
          have := hk W3 SM3 T3' (fun j hj => by rw [f1 _ _ (by omega)]; exact a2 j hj) (by rw [f2 _ _ (by omega)]; exact d0) (by rw [f2 _ _ (by omega)]; exact d1)
          have hp : yP (vSt Y (sHa (yP Y) σ1 b').1) = yP Y := rfl
          rw [vSt_S, hp] at en
          simp (disch := first | assumption | omega | decide) only [gB, I_all, zK_v, zK_n, true_and, and_true, Nat.reduceAdd, Nat.reduceMul, Nat.reduceSub, z_lt, z_le, z_neq, not_false_eq_true, or_true, true_or, or_false, false_or, false_and, and_false, gX7_comes, F, R, K, en]
          exact this
        by_cases cm : b' = m
        · have eI0 : bI σ1 m 0 = st := by rw [← cm]; exact bI_of (by omega) q0
          have eI1 : bI σ1 m 1 = s' := by rw [← cm]; exact bI_of (by omega) q1
          rw [eI0, eI1] at hq
          by_cases cc : ¬ 2 ≤ st ∧ s' = n
          · simp only [if_pos cc] at ec
            rw [if_pos ⟨cm, cc⟩] at hq
            rw [← cm] at hq
            have E := ev (bF σ1 b' 2) (Int32.ofNat b') fun W3 SM3 T3 a3 g0 g1 => by
              have f := fin (bF σ1 b' 2) (Int32.ofNat (nxB (sHa (yP Y) σ1 b').1 (plN (yP Y) 1 - 1))) W3 SM3 _ T3 a3 g0 g1 hq
              simp (disch := first | assumption | omega | decide) only [gB, I_all, zK_v, zK_n, true_and, and_true, Nat.reduceAdd, Nat.reduceMul, Nat.reduceSub, z_lt, z_le, z_neq, not_false_eq_true, or_true, true_or, or_false, false_or, false_and, and_false, gX7_comes_h]
              simp (disch := first | assumption | omega | decide) only [gB, I_all, zK_v, zK_n, true_and, and_true, Nat.reduceAdd, Nat.reduceMul, Nat.reduceSub, z_lt, z_le, z_neq, not_false_eq_true, or_true, true_or, or_false, false_or, false_and, and_false, gX7_comes, F, R, K] at f
              simp (disch := first | assumption | omega | decide) only [gB, I_all, zK_v, zK_n, true_and, and_true, Nat.reduceAdd, Nat.reduceMul, Nat.reduceSub, z_lt, z_le, z_neq, not_false_eq_true, or_true, true_or, or_false, false_or, false_and, and_false, gX7_comes, F, R, K]
              exact f
            simp (disch := first | assumption | omega | decide) only [gB, I_all, zK_v, zK_n, true_and, and_true, Nat.reduceAdd, Nat.reduceMul, Nat.reduceSub, z_lt, z_le, z_neq, not_false_eq_true, or_true, true_or, or_false, false_or, false_and, and_false, gX7_comes, F, R, K] at E
            simp (disch := first | assumption | omega | decide) only [gB, I_all, zK_v, zK_n, true_and, and_true, Nat.reduceAdd, Nat.reduceMul, Nat.reduceSub, z_lt, z_le, z_neq, not_false_eq_true, or_true, true_or, or_false, false_or, false_and, and_false, gX7_comes, F, R, K, eo, u2, u15, ec]
            exact E
          · simp only [if_neg cc] at ec
            rw [if_neg (fun z => cc z.2)] at hq
            have E := ev (Int32.ofInt (-2)) (Int32.ofNat b') fun W3 SM3 T3 a3 g0 g1 => ih _ W3 SM3 G2 T3 a3 g0 g1 (by omega) hq
            simp (disch := first | assumption | omega | decide) only [gB, I_all, zK_v, zK_n, true_and, and_true, Nat.reduceAdd, Nat.reduceMul, Nat.reduceSub, z_lt, z_le, z_neq, not_false_eq_true, or_true, true_or, or_false, false_or, false_and, and_false, gX7_comes, F, R, K] at E
            simp (disch := first | assumption | omega | decide) only [gB, I_all, zK_v, zK_n, true_and, and_true, Nat.reduceAdd, Nat.reduceMul, Nat.reduceSub, z_lt, z_le, z_neq, not_false_eq_true, or_true, true_or, or_false, false_or, false_and, and_false, gX7_comes, F, R, K, eo, u2, u15, ec]
            exact E
        · rw [if_neg (fun z => cm z.1)] at hq
          have E := ev (Int32.ofInt (-2)) (Int32.ofNat b') fun W3 SM3 T3 a3 g0 g1 => ih _ W3 SM3 G2 T3 a3 g0 g1 (by omega) hq
          simp (disch := first | assumption | omega | decide) only [gB, I_all, zK_v, zK_n, true_and, and_true, Nat.reduceAdd, Nat.reduceMul, Nat.reduceSub, z_lt, z_le, z_neq, not_false_eq_true, or_true, true_or, or_false, false_or, false_and, and_false, gX7_comes, F, R, K] at E
          simp (disch := first | assumption | omega | decide) only [gB, I_all, zK_v, zK_n, true_and, and_true, Nat.reduceAdd, Nat.reduceMul, Nat.reduceSub, z_lt, z_le, z_neq, not_false_eq_true, or_true, true_or, or_false, false_or, false_and, and_false, gX7_comes, F, R, K, eo, u2, u15]
          exact E
      · have ct' : sN (yS Y) 0 + Int32.ofNat 3600 < bF σ1 b' 2 := Int32.not_le.mp ct
        rw [if_neg ct] at hq
        have f := fin (Int32.ofInt (-2)) (Int32.ofNat b') W2 SM2 σ1 T2 a2 d0 d1 hq
        simp (disch := first | assumption | omega | decide) only [gB, I_all, zK_v, zK_n, true_and, and_true, Nat.reduceAdd, Nat.reduceMul, Nat.reduceSub, z_lt, z_le, z_neq, not_false_eq_true, or_true, true_or, or_false, false_or, false_and, and_false, gX7_comes, F, R, K] at f
        simp (disch := first | assumption | omega | decide) only [gB, I_all, zK_v, zK_n, true_and, and_true, Nat.reduceAdd, Nat.reduceMul, Nat.reduceSub, z_lt, z_le, z_neq, not_false_eq_true, or_true, true_or, or_false, false_or, false_and, and_false, gX7_comes, F, R, K, eo, u2, u15]
        exact f
  have hb : mu (sN (yS Y) 0 + Int32.ofNat 3600).toInt (yS Y) (plN (yP Y) 1) < big := by
    have := mu_big (sN (yS Y) 0 + Int32.ofNat 3600).toInt (by omega) (yS Y) (plN (yP Y) 1)
    unfold big
    omega
  have := lp big (yS Y) W1 SM1 G T1 a1 b0 b1 hb hq
  simp (disch := first | assumption | omega | decide) only [gB, I_all, zK_v, zK_n, true_and, and_true, Nat.reduceAdd, Nat.reduceMul, Nat.reduceSub, z_lt, z_le, z_neq, not_false_eq_true, or_true, true_or, or_false, false_or, false_and, and_false, gX7_comes, F, R, K, en]
  exact this
theorem e7_nextLeft {s : Int32} {p : Bool} {U : Int} (S : TSh κ h b) (T : TIn W SM Y) (G : gOk (yP Y) (yS Y) U) (hU : U ≤ 1073741400) (ht : 0 ≤ (sN (yS Y) 0).toInt ∧ (sN (yS Y) 0).toInt + 5000 ≤ U) (hq : ∀ W' SM', TIn W' SM' Y → Q (.inl (some (.int (rNl Y s p)))) (hX h b 33 W' SM')) : Ev κ mX7_nextLeft [.ref b, .int s, .int (boI p)] (hX h b 33 W SM) Q := by
  have F := xF S
  have R := xR S
  have K := xK S
  have hB : kB κ ≤ b := S.1.1
  have O := T.2.2.2.2.2.2
  have hns := O.1
  have hnb := O.2.1
  unfold rNl at hq
  by_cases c2 : ¬ btw s 0 (plN (yP Y) 0 - 1)
  · rw [if_neg c2] at hq
    have ei := fun (Q : zQ) => e7_isStopN (κ := κ) (W := W) (SM := SM) (Q := Q) S T.1 O c2
    simp (disch := first | assumption | omega | decide) only [gB, I_all, zK_v, zK_n, true_and, and_true, Nat.reduceAdd, Nat.reduceMul, Nat.reduceSub, z_lt, z_le, z_neq, not_false_eq_true, or_true, true_or, or_false, false_or, false_and, and_false, gX7_nextLeft, F, R, K, ei]
    exact hq _ _ T
  replace c2 := Decidable.of_not_not c2
  have e2 := fun (Q : zQ) => e7_isStopY (κ := κ) (W := W) (SM := SM) (Q := Q) S T.1 O c2
  rw [if_pos c2] at hq
  obtain ⟨n, hs, -, hn, -⟩ := btw_nat c2
  subst hs
  rw [I_nat (by omega)] at hq
  have z36 : (Int32.ofNat 3600).toInt = 3600 := by decide
  have hT : (sN (yS Y) 0 + Int32.ofNat 3600).toInt = (sN (yS Y) 0).toInt + 3600 := i_add (by decide) (by omega)
  simp (disch := first | assumption | omega | decide) only [gB, I_all, zK_v, zK_n, true_and, and_true, Nat.reduceAdd, Nat.reduceMul, Nat.reduceSub, z_lt, z_le, z_neq, not_false_eq_true, or_true, true_or, or_false, false_or, false_and, and_false, gX7_nextLeft, F, R, K, e2]
  refine e7_thinksT S T fun W1 SM1 T1 a1 b0 b1 s14 => ?_
  have en := fun (Q : zQ) => nextBusX (κ := κ) (Q := Q) S T1
  have w43 : W1 13 (43 + n) = sN (yS Y) (43 + n) := T1.2.1.1.1 _ (by unfold nat1; omega)
  generalize hwas : sN (yS Y) (43 + n) = was at hq w43
  have fin : ∀ (v a5 : Int32) (a6 : Option Value) (W2 : Nat → Nat → Int32) (SM2 : Nat → Nat → Int64) (σ2 : Sg), TIn W2 SM2 (vSt Y σ2) → (∀ j, j < 3614 → W2 15 j = W 13 j) → SM2 16 0 = SM 14 0 → SM2 16 1 = SM 14 1 → (∀ W' SM', TIn W' SM' Y → Q (.inl (some (.int v))) (hX h b 33 W' SM')) →
      Go κ mX7_nextLeft 114 [some (.ref b), some (.int (Int32.ofNat n)), some (.int (boI p)), some (.int was), some (.int v), some (.int a5), a6] [] (hX h b 33 W2 SM2) Q := by
    intro v a5 a6 W2 SM2 σ2 T2 a2 d0 d1 hq
    simp (disch := first | assumption | omega | decide) only [gB, I_all, zK_v, zK_n, true_and, and_true, Nat.reduceAdd, Nat.reduceMul, Nat.reduceSub, z_lt, z_le, z_neq, not_false_eq_true, or_true, true_or, or_false, false_or, false_and, and_false, gX7_nextLeft, F, R, K]
    refine e7_backT (w := W 13) (sm := SM 14) S T2 T.2.1.1 T.2.1.2 a2 d0 d1 fun W3 SM3 T3 => ?_
    simp (disch := first | assumption | omega | decide) only [gB, I_all, zK_v, zK_n, true_and, and_true, Nat.reduceAdd, Nat.reduceMul, Nat.reduceSub, z_lt, z_le, z_neq, not_false_eq_true, or_true, true_or, or_false, false_or, false_and, and_false, gX7_nextLeft]
    exact hq _ _ T3
  have lp : ∀ (k : Nat) (σ1 : Sg) (W2 : Nat → Nat → Int32) (SM2 : Nat → Nat → Int64) (a6 : Option Value), gOk (yP Y) σ1 U → TIn W2 SM2 (vSt Y σ1) → (∀ j, j < 3614 → W2 15 j = W 13 j) → SM2 16 0 = SM 14 0 → SM2 16 1 = SM 14 1 → mu (sN (yS Y) 0 + Int32.ofNat 3600).toInt σ1 (plN (yP Y) 1) < k →
      (∀ W' SM', TIn W' SM' Y → Q (.inl (some (.int (nlF (yP Y) n p was (sN (yS Y) 0 + Int32.ofNat 3600) k σ1)))) (hX h b 33 W' SM')) →
      Go κ mX7_nextLeft 34 [some (.ref b), some (.int (Int32.ofNat n)), some (.int (boI p)), some (.int was), some (.int (Int32.ofInt (-2))), some (.int (Int32.ofNat (nxB σ1 (plN (yP Y) 1 - 1)))), a6] [] (hX h b 33 W2 SM2) Q := by
    intro k
    induction k with
    | zero => intro σ1 W2 SM2 a6 _ _ _ _ _ hm; cases hm
    | succ k ih =>
      intro σ1 W2 SM2 a6 G1 T2 a2 d0 d1 hmu hq
      have hnx : nxB σ1 (plN (yP Y) 1 - 1) < plN (yP Y) 1 := by
        have := nxB_lt σ1 (plN (yP Y) 1 - 1)
        omega
      have ex : nlF (yP Y) n p was (sN (yS Y) 0 + Int32.ofNat 3600) (k + 1) σ1 = if bF σ1 (nxB σ1 (plN (yP Y) 1 - 1)) 2 ≤ sN (yS Y) 0 + Int32.ofNat 3600 then
          (if sN (sHa (yP Y) σ1 (nxB σ1 (plN (yP Y) 1 - 1))).1 (43 + n) = was then nlF (yP Y) n p was (sN (yS Y) 0 + Int32.ofNat 3600) k (sHa (yP Y) σ1 (nxB σ1 (plN (yP Y) 1 - 1))).1 else if p = true then bF σ1 (nxB σ1 (plN (yP Y) 1 - 1)) 2 else Int32.ofNat (nxB σ1 (plN (yP Y) 1 - 1))) else Int32.ofInt (-2) := rfl
      rw [ex] at hq
      generalize hb' : nxB σ1 (plN (yP Y) 1 - 1) = b' at *
      have hb6 : b' < 6 := by omega
      obtain ⟨OK1, hcap, htm⟩ := G1
      have tb := htm b' hnx
      have B := T2.2.1.1.2.2.2.1 b' hb6
      have u2 : W2 13 (164 + 13 * b' + 2) = bF σ1 b' 2 := B.1 2 (by decide)
      have eo := fun (c : Nat) (hc : c < 13) (Q : zQ) => ofX (κ := κ) (W := W2) (SM := SM2) (Q := Q) (k := b') (c := c) S (by omega)
      have u15 : W2 15 0 = sN (yS Y) 0 := (a2 0 (by decide)).trans (T.2.1.1.1 0 (by unfold nat1; omega))
      have tn : ¬ bF σ1 b' 2 < Int32.ofNat 0 := by
        rw [Int32.lt_iff_toInt_lt, show (Int32.ofNat 0).toInt = 0 from by decide]
        omega
      have tn' : Int32.ofNat 0 ≤ bF σ1 b' 2 := Int32.not_lt.mp tn
      have z2 : ¬ Int32.ofNat 0 ≤ Int32.ofInt (-2) := by decide
      simp (disch := first | assumption | omega | decide) only [gB, I_all, zK_v, zK_n, true_and, and_true, Nat.reduceAdd, Nat.reduceMul, Nat.reduceSub, z_lt, z_le, z_neq, not_false_eq_true, or_true, true_or, or_false, false_or, false_and, and_false, gX7_nextLeft_h]
      by_cases ct : bF σ1 b' 2 ≤ sN (yS Y) 0 + Int32.ofNat 3600
      · have ct' : ¬ sN (yS Y) 0 + Int32.ofNat 3600 < bF σ1 b' 2 := Int32.not_lt.mpr ct
        have cI := Int32.le_iff_toInt_le.mp ct
        rw [if_pos ct] at hq
        have G2 : gOk (yP Y) (sHa (yP Y) σ1 b').1 U := gOk_ha O ⟨OK1, hcap, htm⟩ hnx (by omega) hU
        have hm2 := mu_ha (T := (sN (yS Y) 0 + Int32.ofNat 3600).toInt) O OK1 hnx (by omega) hcap cI
        simp (disch := first | assumption | omega | decide) only [gB, I_all, zK_v, zK_n, true_and, and_true, Nat.reduceAdd, Nat.reduceMul, Nat.reduceSub, z_lt, z_le, z_neq, not_false_eq_true, or_true, true_or, or_false, false_or, false_and, and_false, gX7_nextLeft, F, R, K, eo, u2, u15]
        refine e7_happensT (k := b') (U := U) S T2 ⟨OK1, hcap, htm⟩ hnx (by rw [vSt_S]; omega) fun W3 SM3 T3 f1 f2 => ?_
        rw [vSt_S, vSt_2] at T3
        have T3' : TIn W3 SM3 (vSt Y (sHa (yP Y) σ1 b').1) := T3
        have en := fun (Q : zQ) => nextBusX (κ := κ) (Q := Q) S T3'
        have hp : yP (vSt Y (sHa (yP Y) σ1 b').1) = yP Y := rfl
        rw [vSt_S, hp] at en
        have v43 : W3 13 (43 + n) = sN (sHa (yP Y) σ1 b').1 (43 + n) := T3'.2.1.1.1 _ (by unfold nat1; omega)
        have a3 : ∀ j, j < 3614 → W3 15 j = W 13 j := fun j hj => by rw [f1 _ _ (by omega)]; exact a2 j hj
        have g0 : SM3 16 0 = SM 14 0 := by rw [f2 _ _ (by omega)]; exact d0
        have g1 : SM3 16 1 = SM 14 1 := by rw [f2 _ _ (by omega)]; exact d1
        by_cases cw : sN (sHa (yP Y) σ1 b').1 (43 + n) = was
        · rw [if_pos cw] at hq
          rw [cw] at v43
          have wr : was = was := rfl
          have i := ih _ W3 SM3 (some (.int (bF σ1 b' 2))) G2 T3' a3 g0 g1 (by omega) hq
          simp (disch := first | assumption | omega | decide) only [gB, I_all, zK_v, zK_n, true_and, and_true, Nat.reduceAdd, Nat.reduceMul, Nat.reduceSub, z_lt, z_le, z_neq, not_false_eq_true, or_true, true_or, or_false, false_or, false_and, and_false, gX7_nextLeft, F, R, K, v43, en]
          exact i
        · rw [if_neg cw] at hq
          cases p with
          | true =>
            have hp1 : boI true = Int32.ofNat 1 := rfl
            rw [if_pos rfl] at hq
            have f := fin (bF σ1 b' 2) (Int32.ofNat (nxB (sHa (yP Y) σ1 b').1 (plN (yP Y) 1 - 1))) (some (.int (bF σ1 b' 2))) W3 SM3 _ T3' a3 g0 g1 hq
            rw [hp1] at f ⊢
            simp (disch := first | assumption | omega | decide) only [gB, I_all, zK_v, zK_n, true_and, and_true, Nat.reduceAdd, Nat.reduceMul, Nat.reduceSub, z_lt, z_le, z_neq, not_false_eq_true, or_true, true_or, or_false, false_or, false_and, and_false, gX7_nextLeft, F, R, K] at f
            simp (disch := first | assumption | omega | decide) only [gB, I_all, zK_v, zK_n, true_and, and_true, Nat.reduceAdd, Nat.reduceMul, Nat.reduceSub, z_lt, z_le, z_neq, not_false_eq_true, or_true, true_or, or_false, false_or, false_and, and_false, gX7_nextLeft, F, R, K, v43, en]
            simp (disch := first | assumption | omega | decide) only [gB, I_all, zK_v, zK_n, true_and, and_true, Nat.reduceAdd, Nat.reduceMul, Nat.reduceSub, z_lt, z_le, z_neq, not_false_eq_true, or_true, true_or, or_false, false_or, false_and, and_false, gX7_nextLeft_h]
            simp (disch := first | assumption | omega | decide) only [gB, I_all, zK_v, zK_n, true_and, and_true, Nat.reduceAdd, Nat.reduceMul, Nat.reduceSub, z_lt, z_le, z_neq, not_false_eq_true, or_true, true_or, or_false, false_or, false_and, and_false, gX7_nextLeft, F, R, K]
            exact f
          | false =>
            have hp1 : boI false = Int32.ofNat 0 := rfl
            rw [if_neg (by decide)] at hq
            have f := fin (Int32.ofNat b') (Int32.ofNat (nxB (sHa (yP Y) σ1 b').1 (plN (yP Y) 1 - 1))) (some (.int (bF σ1 b' 2))) W3 SM3 _ T3' a3 g0 g1 hq
            rw [hp1] at f ⊢
            simp (disch := first | assumption | omega | decide) only [gB, I_all, zK_v, zK_n, true_and, and_true, Nat.reduceAdd, Nat.reduceMul, Nat.reduceSub, z_lt, z_le, z_neq, not_false_eq_true, or_true, true_or, or_false, false_or, false_and, and_false, gX7_nextLeft, F, R, K] at f
            simp (disch := first | assumption | omega | decide) only [gB, I_all, zK_v, zK_n, true_and, and_true, Nat.reduceAdd, Nat.reduceMul, Nat.reduceSub, z_lt, z_le, z_neq, not_false_eq_true, or_true, true_or, or_false, false_or, false_and, and_false, gX7_nextLeft, F, R, K, v43, en]
            simp (disch := first | assumption | omega | decide) only [gB, I_all, zK_v, zK_n, true_and, and_true, Nat.reduceAdd, Nat.reduceMul, Nat.reduceSub, z_lt, z_le, z_neq, not_false_eq_true, or_true, true_or, or_false, false_or, false_and, and_false, gX7_nextLeft_h]
            simp (disch := first | assumption | omega | decide) only [gB, I_all, zK_v, zK_n, true_and, and_true, Nat.reduceAdd, Nat.reduceMul, Nat.reduceSub, z_lt, z_le, z_neq, not_false_eq_true, or_true, true_or, or_false, false_or, false_and, and_false, gX7_nextLeft, F, R, K]
            exact f
      · have ct' : sN (yS Y) 0 + Int32.ofNat 3600 < bF σ1 b' 2 := Int32.not_le.mp ct
        rw [if_neg ct] at hq
        have f := fin (Int32.ofInt (-2)) (Int32.ofNat b') a6 W2 SM2 σ1 T2 a2 d0 d1 hq
        simp (disch := first | assumption | omega | decide) only [gB, I_all, zK_v, zK_n, true_and, and_true, Nat.reduceAdd, Nat.reduceMul, Nat.reduceSub, z_lt, z_le, z_neq, not_false_eq_true, or_true, true_or, or_false, false_or, false_and, and_false, gX7_nextLeft, F, R, K] at f
        simp (disch := first | assumption | omega | decide) only [gB, I_all, zK_v, zK_n, true_and, and_true, Nat.reduceAdd, Nat.reduceMul, Nat.reduceSub, z_lt, z_le, z_neq, not_false_eq_true, or_true, true_or, or_false, false_or, false_and, and_false, gX7_nextLeft, F, R, K, eo, u2, u15]
        exact f
  have hb : mu (sN (yS Y) 0 + Int32.ofNat 3600).toInt (yS Y) (plN (yP Y) 1) < big := by
    have := mu_big (sN (yS Y) 0 + Int32.ofNat 3600).toInt (by omega) (yS Y) (plN (yP Y) 1)
    unfold big
    omega
  have := lp big (yS Y) W1 SM1 none G T1 a1 b0 b1 hb hq
  simp (disch := first | assumption | omega | decide) only [gB, I_all, zK_v, zK_n, true_and, and_true, Nat.reduceAdd, Nat.reduceMul, Nat.reduceSub, z_lt, z_le, z_neq, not_false_eq_true, or_true, true_or, or_false, false_or, false_and, and_false, gX7_nextLeft, F, R, K, en, w43]
  exact this
end
