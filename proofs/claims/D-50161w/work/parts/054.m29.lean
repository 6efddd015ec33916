/-! the twin: time passes -/
theorem sBa_st (π : Pl) (t : Int32) (σ : Sg) : ∀ k, Fr σ (sBa π t k σ) := by
  intro k
  induction k with
  | zero => exact Fr.rfl
  | succ k ih => exact ih.trans (sBr_fr _ _ _ _)
theorem sOk_ba {π : Pl} {t : Int32} {σ : Sg} (O : pOk π) (OK : sOk π σ) : ∀ k, k ≤ 10 → sOk π (sBa π t k σ) := by
  intro k
  induction k with
  | zero => intro _; exact OK
  | succ k ih => intro h; exact sOk_br O (ih (by omega)) (by omega)
/-- the events by t keep the bounds -/
theorem sEv_inv {π : Pl} {t : Int32} {U : Int} (O : pOk π) (ht : t.toInt + 1400 ≤ U) (hU : U ≤ 1073741400) : ∀ (k : Nat) (q : Sg × Nat), gOk π q.1 U → gOk π (sEv π t k q).1 U := by
  intro k
  induction k with
  | zero => intro q h; exact h
  | succ k ih =>
    intro q h
    unfold sEv
    split
    · next hc =>
      have hn : nxB q.1 (plN π 1 - 1) < plN π 1 := by
        have := nxB_lt q.1 (plN π 1 - 1)
        have := O.2.1
        omega
      rw [Int32.le_iff_toInt_le] at hc
      exact ih _ (gOk_ha O h hn (by omega) hU)
    · exact h
section
variable {κ : zC} {h : zH} {b : Nat} {w : Nat → Int32} {sm : Nat → Int64} {o : Int32} {Q : zQ} {σ : Sg} {π : Pl}
theorem e7_passesTo {t : Int32} {U : Int} (S : MSh κ h b) (P : MPl h b π) (O : pOk π) (W : WAt w sm σ) (G : gOk π σ U) (ht : t.toInt + 1400 ≤ U) (hU : U ≤ 1073741400)
    (hq : ∀ w' sm' o', WAt w' sm' (sPa π σ t).1 → Q (.inl (some (.int (Int32.ofNat (sPa π σ t).2)))) (hM h b w' sm' o')) : Ev κ mX7_passesTo [.ref b, .int t] (hM h b w sm o) Q := by
  have S1 := mW S
  have hB : kB κ ≤ b := S.1
  have P1 := P.1
  have hns := O.1.2
  have hnb := O.2.1
  have hK : kB κ ≤ b := S.1
  -- all that come at the end
  have lp2 : ∀ (d i n : Nat) (σ1 : Sg) (w1 : Nat → Int32) (sm1 : Nat → Int64) (a2 : Int32), i + d = plN π 0 → sOk π σ1 → WAt w1 sm1 (sBa π t i σ1) →
      (∀ w' sm' o', WAt w' sm' (vN (sBa π t (plN π 0) σ1) (zu (sN (sBa π t (plN π 0) σ1)) 0 t)) → Q (.inl (some (.int (Int32.ofNat n)))) (hM h b w' sm' o')) →
      Go κ mX7_passesTo 35 [some (.ref b), some (.int t), some (.int a2), some (.int (Int32.ofNat i))] [] (hM h b w1 sm1 (Int32.ofNat n)) Q := by
    intro d
    induction d with
    | zero =>
      intro i n σ1 w1 sm1 a2 hi OK1 W1 hq
      have hi' : i = plN π 0 := by omega
      subst hi'
      have W2 := WAt_n W1 t (i := 0) (by unfold nat1; omega)
      simp (disch := first | assumption | omega | decide) only [gB, I_all, zK_v, zK_n, true_and, and_true, Nat.reduceAdd, Nat.reduceMul, Nat.reduceSub, z_lt, z_le, z_neq, not_false_eq_true, hM_all, gX7_passesTo_h.2]
      simp (disch := first | assumption | omega | decide) only [gB, I_all, zK_v, zK_n, true_and, and_true, Nat.reduceAdd, Nat.reduceMul, Nat.reduceSub, z_lt, z_le, z_neq, not_false_eq_true, hM_all, gX7_passesTo, S1, P1]
      exact hq _ _ _ W2
    | succ d ih =>
      intro i n σ1 w1 sm1 a2 hi OK1 W1 hq
      simp (disch := first | assumption | omega | decide) only [gB, I_all, zK_v, zK_n, true_and, and_true, Nat.reduceAdd, Nat.reduceMul, Nat.reduceSub, z_lt, z_le, z_neq, not_false_eq_true, hM_all, gX7_passesTo_h.2]
      simp (disch := first | assumption | omega | decide) only [gB, I_all, zK_v, zK_n, true_and, and_true, Nat.reduceAdd, Nat.reduceMul, Nat.reduceSub, z_lt, z_le, z_neq, not_false_eq_true, hM_all, gX7_passesTo, S1, P1]
      refine e7_bringsUp (s := i) S P O W1 (sOk_ba O OK1 i (by omega)) (by omega) (by omega) fun w2 W2 => ?_
      have ih' := ih (i + 1) n σ1 w2 sm1 a2 (by omega) OK1 W2 hq
      simp (disch := first | assumption | omega | decide) only [gB, I_all, zK_v, zK_n, true_and, and_true, Nat.reduceAdd, Nat.reduceMul, Nat.reduceSub, z_lt, z_le, z_neq, not_false_eq_true, hM_all, gX7_passesTo, S1]
      exact ih'
  have lp1 : ∀ (k n : Nat) (σ1 : Sg) (w1 : Nat → Int32) (sm1 : Nat → Int64), gOk π σ1 U → WAt w1 sm1 σ1 → mu t.toInt σ1 (plN π 1) < k →
      (∀ w' sm' o', WAt w' sm' (vN (sBa π t (plN π 0) (sEv π t k (σ1, n)).1) (zu (sN (sBa π t (plN π 0) (sEv π t k (σ1, n)).1)) 0 t)) → Q (.inl (some (.int (Int32.ofNat (sEv π t k (σ1, n)).2)))) (hM h b w' sm' o')) →
      Go κ mX7_passesTo 10 [some (.ref b), some (.int t), some (.int (Int32.ofNat (nxB σ1 (plN π 1 - 1)))), none] [] (hM h b w1 sm1 (Int32.ofNat n)) Q := by
    intro k
    induction k with
    | zero => intro n σ1 w1 sm1 _ _ hm; cases hm
    | succ k ih =>
      intro n σ1 w1 sm1 G1 W1 hm hq
      have hn : nxB σ1 (plN π 1 - 1) < plN π 1 := by
        have := nxB_lt σ1 (plN π 1 - 1)
        omega
      have ex : sEv π t (k + 1) (σ1, n) = if bF σ1 (nxB σ1 (plN π 1 - 1)) 2 ≤ t then sEv π t k ((sHa π σ1 (nxB σ1 (plN π 1 - 1))).1, n + (sHa π σ1 (nxB σ1 (plN π 1 - 1))).2) else (σ1, n) := rfl
      rw [ex] at hq
      generalize hb' : nxB σ1 (plN π 1 - 1) = b' at *
      have eo := fun (w : Nat → Int32) (sm : Nat → Int64) (o : Int32) (c : Nat) (hc : c < 13) Q => e7_of (κ := κ) (w := w) (sm := sm) (o := o) (Q := Q) (k := b') (c := c) S (by omega)
      have a2 : w1 (164 + 13 * b' + 2) = bF σ1 b' 2 := (W1.2.2.2.1 b' (by omega)).1 2 (by decide)
      obtain ⟨OK1, hcap, htm⟩ := G1
      have tb := htm b' hn
      simp (disch := first | assumption | omega | decide) only [gB, I_all, zK_v, zK_n, true_and, and_true, Nat.reduceAdd, Nat.reduceMul, Nat.reduceSub, z_lt, z_le, z_neq, not_false_eq_true, hM_all, gX7_passesTo_h.1]
      by_cases c : bF σ1 b' 2 ≤ t
      · have c' : ¬ t < bF σ1 b' 2 := Int32.not_lt.mpr c
        have cI := Int32.le_iff_toInt_le.mp c
        rw [if_pos c] at hq
        simp (disch := first | assumption | omega | decide) only [gB, I_all, zK_v, zK_n, true_and, and_true, Nat.reduceAdd, Nat.reduceMul, Nat.reduceSub, z_lt, z_le, z_neq, not_false_eq_true, hM_all, gX7_passesTo, S1, eo, a2]
        refine e7_happens S P O W1 ⟨OK1, hcap, htm⟩ hn (by omega) fun w2 sm2 W2 => ?_
        have G2 : gOk π (sHa π σ1 b').1 U := gOk_ha O ⟨OK1, hcap, htm⟩ hn (by omega) hU
        have hm2 := mu_ha O OK1 hn (by omega) hcap cI
        generalize sHa π σ1 b' = q2 at *
        obtain ⟨σ2, n2⟩ := q2
        dsimp only at W2 G2 hm2 hq
        have eN := fun Q => e7_nextBus (κ := κ) (sm := sm2) (o := Int32.ofNat (n + n2)) (Q := Q) S P O W2
        have ih' := ih (n + n2) σ2 w2 sm2 G2 W2 (by omega) hq
        dsimp only
        simp (disch := first | assumption | omega | decide) only [gB, I_all, zK_v, zK_n, true_and, and_true, Nat.reduceAdd, Nat.reduceMul, Nat.reduceSub, z_lt, z_le, z_neq, not_false_eq_true, hM_all, gX7_passesTo, S1, eN]
        exact ih'
      · have c' : t < bF σ1 b' 2 := Int32.not_le.mp c
        rw [if_neg c] at hq
        have W0 : WAt w1 sm1 (sBa π t 0 σ1) := W1
        have := lp2 (plN π 0) 0 n σ1 w1 sm1 (Int32.ofNat b') (by omega) OK1 W0 hq
        simp (disch := first | assumption | omega | decide) only [gB, I_all, zK_v, zK_n, true_and, and_true, Nat.reduceAdd, Nat.reduceMul, Nat.reduceSub, z_lt, z_le, z_neq, not_false_eq_true, hM_all, gX7_passesTo, S1, eo, a2]
        exact this
  have eN := fun Q => e7_nextBus (κ := κ) (sm := sm) (o := Int32.ofNat 0) (Q := Q) S P O W
  have hb : mu t.toInt σ (plN π 1) < big := by
    have := mu_big t.toInt (by omega) σ (plN π 1)
    unfold big
    omega
  have := lp1 big 0 σ w sm G W hb hq
  simp (disch := first | assumption | omega | decide) only [gB, I_all, zK_v, zK_n, true_and, and_true, Nat.reduceAdd, Nat.reduceMul, Nat.reduceSub, z_lt, z_le, z_neq, not_false_eq_true, hM_all, gX7_passesTo, S1, eN]
  exact this
end
