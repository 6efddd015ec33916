/-! the twin: events -/
section
variable {κ : zC} {h : zH} {b : Nat} {w : Nat → Int32} {sm : Nat → Int64} {o : Int32} {Q : zQ} {σ : Sg} {π : Pl}
theorem e7_isReady {k : Nat} {t : Int32} (S : MSh κ h b) (P : MPl h b π) (O : pOk π) (W : WAt w sm σ) (OK : sOk π σ) (hk : k < plN π 1) (ht : t.toInt ≤ 1073741824) (ht0 : ¬ t < Int32.ofNat 0) (hc : 0 ≤ (sN σ 3).toInt)
    (hq : ∀ w' sm', WAt w' sm' (sRe π σ k t) → Q (.inl none) (hM h b w' sm' o)) : Ev κ mX7_isReady [.ref b, .int (Int32.ofNat k), .int t] (hM h b w sm o) Q := by
  have S1 := mW S
  have hB : kB κ ≤ b := S.1
  have hns := O.1.2
  have hk6 : k < 6 := by have := O.2.1; omega
  obtain ⟨st, s, h4, hs, e0, e1⟩ := bst OK hk hk6
  have eI : bI σ k 1 = s := bI_of (by omega) e1
  have eo := fun (w : Nat → Int32) (sm : Nat → Int64) (c : Nat) (hc : c < 13) Q => e7_of (κ := κ) (w := w) (sm := sm) (o := o) (Q := Q) (k := k) (c := c) S (by omega)
  have es := fun (w : Nat → Int32) (sm : Nat → Int64) (c : Nat) (v : Int32) (hc : c < 13) Q => e7_sets (κ := κ) (w := w) (sm := sm) (o := o) (Q := Q) (k := k) (c := c) (v := v) S (by omega)
  have a1 : w (164 + 13 * k + 1) = Int32.ofNat s := ((W.2.2.2.1 k hk6).1 1 (by decide)).trans e1
  have am : w 1 = sN σ 1 := W.1 1 (by unfold nat1; omega)
  have ap : w (13 + s) = sN σ (13 + s) := W.1 _ (by unfold nat1; omega)
  have a8 : w 8 = sN σ 8 := W.1 8 (by unfold nat1; omega)
  have a9 : w 9 = sN σ 9 := W.1 9 (by unfold nat1; omega)
  have hu := fun v (hv : sRh π σ k t = v) => show ¬ v < Int32.ofNat 0 from by
    subst hv
    rw [Int32.lt_iff_toInt_lt]
    unfold sRh
    split
    · have := heldB_b (π := π) (b := k) (m := sN σ 1) (t := t) hc
      rw [show (Int32.ofNat 0).toInt = 0 from by decide]
      omega
    · omega
  have T : ∀ u, sRh π σ k t = u → Go κ mX7_isReady 38 [some (.ref b), some (.int (Int32.ofNat k)), some (.int t), some (.int (Int32.ofNat s)), some (.int u)] [] (hM h b w sm o) Q := by
    intro u hu'
    have hu0 := hu u hu'
    rw [sRe_eq, hu', eI] at hq
    have W1 := fun v => WAt_hw (v := v) W OK hk6 hu0
    have OK1 := fun v => sOk_hw (b := k) (u := u) (v := v) OK
    by_cases c0 : u = Int32.ofNat 0
    · rw [if_pos c0] at hq
      have ew : sRw π σ k t = Int32.ofNat 0 := by unfold sRw; rw [hu', if_pos c0]
      rw [ew] at hq
      simp (disch := first | assumption | omega | decide) only [gB, I_all, zK_v, zK_n, true_and, and_true, Nat.reduceAdd, Nat.reduceMul, Nat.reduceSub, z_lt, z_le, z_neq, not_false_eq_true, hM_all, gX7_isReady_1, gX7_isReady_2, S1, es, c0]
      rw [c0] at W1 OK1 hq
      refine e7_leaves S P O (W1 _) (OK1 _) hk ht ht0 fun w2 sm2 W2 => ?_
      simp (disch := first | assumption | omega | decide) only [gB, I_all, zK_v, zK_n, true_and, and_true, Nat.reduceAdd, Nat.reduceMul, Nat.reduceSub, z_lt, z_le, z_neq, not_false_eq_true, hM_all, gX7_isReady_1, gX7_isReady_2, S1]
      exact hq _ _ W2
    · rw [if_neg c0] at hq
      have ew : sRw π σ k t = sN σ 1 + (if u < wantd π σ k (sN σ 1) t then Int32.ofNat 10 else Int32.ofNat 0) := by unfold sRw; rw [hu', if_neg c0]
      -- what is wanted, asked again behind the first number
      have W0 := W1 (w (164 + 13 * k + 7))
      have ez : zu (zu w (164 + 13 * k + 6) u) (164 + 13 * k + 7) (w (164 + 13 * k + 7)) = zu w (164 + 13 * k + 6) u := by
        funext j
        by_cases e : j = 164 + 13 * k + 7
        · rw [e, zu_eq, zu_ne _ _ (by omega)]
        · rw [zu_ne _ _ e]
      rw [ez] at W0
      have ewa := fun Q => e7_wanted (κ := κ) (o := o) (Q := Q) (m := sN σ 1) (t := t) S P O W0 (OK1 _) hk
      have ecg : ∀ v, wantd π (sBs (sBs σ k 6 u) k 7 v) k (sN σ 1) t = wantd π σ k (sN σ 1) t := fun v => wantd_cg rfl fun b' c hc => by rw [sBs_Fc _ _ _ _ (by omega), sBs_Fc _ _ _ _ (by omega)]
      rw [ecg] at ewa
      have W2 := W1 (sRw π σ k t)
      have OK2 := OK1 (sRw π σ k t)
      have W3 := WAt_inc W2 (i := 8) (by unfold nat1; omega)
      have W4 := WAt_n W3 (sN σ 9 + u) (i := 9) (by unfold nat1; omega)
      have OK4 := sOk_n (sOk_n OK2 (inc (sN (sBs (sBs σ k 6 u) k 7 (sRw π σ k t))) 8)) (zu (inc (sN (sBs (sBs σ k 6 u) k 7 (sRw π σ k t))) 8) 9 (sN σ 9 + u))
      have W5 := WAt_bs (c := 0) (v := Int32.ofNat 3) W4 OK4 hk6 (by decide) (by decide)
      have OK5 := sOk_bs (k := k) (c := 0) (v := Int32.ofNat 3) OK4 (fun _ => ⟨3, by omega, rfl⟩) (fun h => absurd h (by decide))
      have W6 := WAt_bs (c := 2) (v := t + u) W5 OK5 hk6 (by decide) (by decide)
      have OK6 := sOk_bs (k := k) (c := 2) (v := t + u) OK5 (fun h => absurd h (by decide)) (fun h => absurd h (by decide))
      have hq' : ∀ w', WAt w' sm (sTe (sBs (sBs (vN (vN (sBs (sBs σ k 6 u) k 7 (sRw π σ k t)) (inc (sN (sBs (sBs σ k 6 u) k 7 (sRw π σ k t))) 8)) (zu (inc (sN (sBs (sBs σ k 6 u) k 7 (sRw π σ k t))) 8) 9 (sN σ 9 + u))) k 0 (Int32.ofNat 3)) k 2 (t + u)) t 2 k s u) → Q (.inl none) (hM h b w' sm o) := by
        intro w' W'
        refine hq w' sm ?_
        have e9 : inc (sN (sR1 σ k u (sRw π σ k t))) 8 9 = sN σ 9 := zu_ne _ _ (by decide)
        unfold sR2
        rw [e9]
        exact W'
      have fin := e7_te (κ := κ) (h := h) (b := b) (o := o) (Q := zK κ mX7_isReady 152 3 [some (.ref b), some (.int (Int32.ofNat k)), some (.int t), some (.int (Int32.ofNat s)), some (.int u)] [] Q) S W6 OK6 fun w' W' => by
        simp (disch := first | assumption | omega | decide) only [gB, I_all, zK_v, zK_n, true_and, and_true, Nat.reduceAdd, Nat.reduceMul, Nat.reduceSub, z_lt, z_le, z_neq, not_false_eq_true, hM_all, gX7_isReady_1, gX7_isReady_2, S1]
        exact hq' _ W'
      by_cases c1 : u < wantd π σ k (sN σ 1) t
      · have c1' : ¬ wantd π σ k (sN σ 1) t ≤ u := Int32.not_le.mpr c1
        rw [if_pos c1] at ew
        rw [ew] at fin
        simp (disch := first | assumption | omega | decide) only [gB, I_all, zK_v, zK_n, true_and, and_true, Nat.reduceAdd, Nat.reduceMul, Nat.reduceSub, z_lt, z_le, z_neq, not_false_eq_true, hM_all, gX7_isReady_1, gX7_isReady_2, S1, es, c0, am, a8, a9, ewa, zu_nx]
        simp (disch := first | assumption | omega | decide) only [gB, I_all, zK_v, zK_n, true_and, and_true, Nat.reduceAdd, Nat.reduceMul, Nat.reduceSub, z_lt, z_le, z_neq, not_false_eq_true, hM_all, gX7_isReady_1, gX7_isReady_2, S1, zu_nx, a8] at fin
        exact fin
      · have c1' : wantd π σ k (sN σ 1) t ≤ u := Int32.not_lt.mp c1
        rw [if_neg c1] at ew
        rw [ew] at fin
        simp (disch := first | assumption | omega | decide) only [gB, I_all, zK_v, zK_n, true_and, and_true, Nat.reduceAdd, Nat.reduceMul, Nat.reduceSub, z_lt, z_le, z_neq, not_false_eq_true, hM_all, gX7_isReady_1, gX7_isReady_2, S1, es, c0, am, a8, a9, ewa, zu_nx]
        simp (disch := first | assumption | omega | decide) only [gB, I_all, zK_v, zK_n, true_and, and_true, Nat.reduceAdd, Nat.reduceMul, Nat.reduceSub, z_lt, z_le, z_neq, not_false_eq_true, hM_all, gX7_isReady_1, gX7_isReady_2, S1, zu_nx, a8] at fin
        exact fin
  by_cases cp : sN σ (13 + s) = Int32.ofNat 1
  · have := T (heldB π σ k (sN σ 1) t) (by unfold sRh; rw [eI, if_pos cp])
    have eh := fun Q => e7_heldBy (κ := κ) (sm := sm) (o := o) (Q := Q) (m := sN σ 1) (t := t) S P O W OK hk
    simp (disch := first | assumption | omega | decide) only [gB, I_all, zK_v, zK_n, true_and, and_true, Nat.reduceAdd, Nat.reduceMul, Nat.reduceSub, z_lt, z_le, z_neq, not_false_eq_true, hM_all, gX7_isReady_1, gX7_isReady_2, S1, eo, a1, am, ap, cp, eh]
    simp (disch := first | assumption | omega | decide) only [gB, I_all, zK_v, zK_n, true_and, and_true, Nat.reduceAdd, Nat.reduceMul, Nat.reduceSub, z_lt, z_le, z_neq, not_false_eq_true, hM_all, gX7_isReady_1, gX7_isReady_2, S1] at this
    exact this
  · have := T (Int32.ofNat 0) (by unfold sRh; rw [eI, if_neg cp])
    simp (disch := first | assumption | omega | decide) only [gB, I_all, zK_v, zK_n, true_and, and_true, Nat.reduceAdd, Nat.reduceMul, Nat.reduceSub, z_lt, z_le, z_neq, not_false_eq_true, hM_all, gX7_isReady_1, gX7_isReady_2, S1, eo, a1, ap]
    simp (disch := first | assumption | omega | decide) only [gB, I_all, zK_v, zK_n, true_and, and_true, Nat.reduceAdd, Nat.reduceMul, Nat.reduceSub, z_lt, z_le, z_neq, not_false_eq_true, hM_all, gX7_isReady_1, gX7_isReady_2, S1] at this
    exact this
theorem e7_nextBus (S : MSh κ h b) (P : MPl h b π) (O : pOk π) (W : WAt w sm σ) : Ev κ mX7_nextBus [.ref b] (hM h b w sm o) Q = Q (.inl (some (.int (Int32.ofNat (nxB σ (plN π 1 - 1)))))) (hM h b w sm o) := by
  have S1 := mW S
  have hB : kB κ ≤ b := S.1
  have P2 := P.2.1
  have hnb := O.2.1
  have eo := fun (k c : Nat) (hk : k < 6) (hc : c < 13) Q => e7_of (κ := κ) (w := w) (sm := sm) (o := o) (Q := Q) (k := k) (c := c) S (by omega)
  have wF : ∀ b, b < 6 → w (164 + 13 * b + 2) = bF σ b 2 := fun b hb => (W.2.2.2.1 b hb).1 2 (by decide)
  have lp : ∀ d i, i + d = plN π 1 - 1 → Go κ mX7_nextBus 4 [some (.ref b), some (.int (Int32.ofNat (nxB σ i))), some (.int (Int32.ofNat (i + 1)))] [] (hM h b w sm o) Q = Q (.inl (some (.int (Int32.ofNat (nxB σ (plN π 1 - 1)))))) (hM h b w sm o) := by
    intro d
    induction d with
    | zero =>
      intro i hi
      have hi' : i = plN π 1 - 1 := by omega
      simp (disch := first | assumption | omega | decide) only [gB, I_all, zK_v, zK_n, true_and, and_true, Nat.reduceAdd, Nat.reduceMul, Nat.reduceSub, z_lt, z_le, z_neq, not_false_eq_true, hM_all, gX7_nextBus_h, S1]
      simp (disch := first | assumption | omega | decide) only [gB, I_all, zK_v, zK_n, true_and, and_true, Nat.reduceAdd, Nat.reduceMul, Nat.reduceSub, z_lt, z_le, z_neq, not_false_eq_true, hM_all, gX7_nextBus, S1, P2]
      rw [hi']
    | succ d ih =>
      intro i hi
      have hn := nxB_lt σ i
      have ih' := ih (i + 1) (by omega)
      have ex : nxB σ (i + 1) = if bF σ (i + 1) 2 < bF σ (nxB σ i) 2 then i + 1 else nxB σ i := rfl
      have w1 := wF (i + 1) (by omega)
      have w2 := wF (nxB σ i) (by omega)
      simp (disch := first | assumption | omega | decide) only [gB, I_all, zK_v, zK_n, true_and, and_true, Nat.reduceAdd, Nat.reduceMul, Nat.reduceSub, z_lt, z_le, z_neq, not_false_eq_true, hM_all, gX7_nextBus_h, S1]
      by_cases c : bF σ (i + 1) 2 < bF σ (nxB σ i) 2
      · have c' : ¬ bF σ (nxB σ i) 2 ≤ bF σ (i + 1) 2 := Int32.not_le.mpr c
        rw [ex, if_pos c] at ih'
        simp (disch := first | assumption | omega | decide) only [gB, I_all, zK_v, zK_n, true_and, and_true, Nat.reduceAdd, Nat.reduceMul, Nat.reduceSub, z_lt, z_le, z_neq, not_false_eq_true, hM_all, gX7_nextBus, S1, P2, eo, w1, w2]
        exact ih'
      · have c' : bF σ (nxB σ i) 2 ≤ bF σ (i + 1) 2 := Int32.not_lt.mp c
        rw [ex, if_neg c] at ih'
        simp (disch := first | assumption | omega | decide) only [gB, I_all, zK_v, zK_n, true_and, and_true, Nat.reduceAdd, Nat.reduceMul, Nat.reduceSub, z_lt, z_le, z_neq, not_false_eq_true, hM_all, gX7_nextBus, S1, P2, eo, w1, w2]
        exact ih'
  have := lp (plN π 1 - 1) 0 (by omega)
  simp (disch := first | assumption | omega | decide) only [gB, I_all, zK_v, zK_n, true_and, and_true, Nat.reduceAdd, Nat.reduceMul, Nat.reduceSub, z_lt, z_le, z_neq, not_false_eq_true, hM_all, gX7_nextBus, S1]
  exact this
theorem e7_happens {k : Nat} {U : Int} (S : MSh κ h b) (P : MPl h b π) (O : pOk π) (W : WAt w sm σ) (G : gOk π σ U) (hk : k < plN π 1) (ht : (bF σ k 2).toInt ≤ 1073741824)
    (hq : ∀ w' sm', WAt w' sm' (sHa π σ k).1 → Q (.inl none) (hM h b w' sm' (o + Int32.ofNat (sHa π σ k).2))) : Ev κ mX7_happens [.ref b, .int (Int32.ofNat k)] (hM h b w sm o) Q := by
  obtain ⟨OK, hc, htm⟩ := G
  have S1 := mW S
  have hB : kB κ ≤ b := S.1
  have hns := O.1.2
  have hk6 : k < 6 := by have := O.2.1; omega
  obtain ⟨st, s, h4, hs, e0, e1⟩ := bst OK hk hk6
  have eo := fun (c : Nat) (hc : c < 13) Q => e7_of (κ := κ) (w := w) (sm := sm) (o := o) (Q := Q) (k := k) (c := c) S (by omega)
  have a0 : w (164 + 13 * k + 0) = Int32.ofNat st := ((W.2.2.2.1 k hk6).1 0 (by decide)).trans e0
  have a2 : w (164 + 13 * k + 2) = bF σ k 2 := (W.2.2.2.1 k hk6).1 2 (by decide)
  have ht0 : ¬ bF σ k 2 < Int32.ofNat 0 := by
    rw [Int32.lt_iff_toInt_lt, show (Int32.ofNat 0).toInt = 0 from by decide]
    have := (htm k hk).1
    omega
  have oz : o + Int32.ofNat 0 = o := Int32.add_zero o
  unfold sHa at hq
  dsimp only at hq
  rw [e0] at hq
  by_cases c2 : st = 2
  · subst c2
    rw [if_pos rfl, oz] at hq
    simp (disch := first | assumption | omega | decide) only [gB, I_all, zK_v, zK_n, true_and, and_true, Nat.reduceAdd, Nat.reduceMul, Nat.reduceSub, z_lt, z_le, z_neq, not_false_eq_true, hM_all, gX7_happens, S1, eo, a0, a2, zSwi]
    simp only [if_true]
    refine e7_isReady S P O W OK hk ht ht0 hc.1 fun w1 sm1 W1 => ?_
    simp (disch := first | assumption | omega | decide) only [gB, I_all, zK_v, zK_n, true_and, and_true, Nat.reduceAdd, Nat.reduceMul, Nat.reduceSub, z_lt, z_le, z_neq, not_false_eq_true, hM_all, gX7_happens, S1]
    exact hq _ _ W1
  · have n2 : ¬ Int32.ofNat st = Int32.ofNat 2 := by rw [I_eq (by omega) (by omega)]; exact c2
    rw [if_neg n2] at hq
    by_cases c3 : st = 3
    · subst c3
      rw [if_pos rfl, oz] at hq
      simp (disch := first | assumption | omega | decide) only [gB, I_all, zK_v, zK_n, true_and, and_true, Nat.reduceAdd, Nat.reduceMul, Nat.reduceSub, z_lt, z_le, z_neq, not_false_eq_true, hM_all, gX7_happens, S1, eo, a0, a2, zSwi]
      simp only [if_true, n2, if_false]
      refine e7_leaves S P O W OK hk ht ht0 fun w1 sm1 W1 => ?_
      simp (disch := first | assumption | omega | decide) only [gB, I_all, zK_v, zK_n, true_and, and_true, Nat.reduceAdd, Nat.reduceMul, Nat.reduceSub, z_lt, z_le, z_neq, not_false_eq_true, hM_all, gX7_happens, S1]
      exact hq _ _ W1
    · have n3 : ¬ Int32.ofNat st = Int32.ofNat 3 := by rw [I_eq (by omega) (by omega)]; exact c3
      rw [if_neg n3] at hq
      simp (disch := first | assumption | omega | decide) only [gB, I_all, zK_v, zK_n, true_and, and_true, Nat.reduceAdd, Nat.reduceMul, Nat.reduceSub, z_lt, z_le, z_neq, not_false_eq_true, hM_all, gX7_happens, S1, eo, a0, a2, zSwi]
      simp only [n2, n3, if_false]
      refine e7_comesTo S P O W OK hk ht fun w1 sm1 W1 => ?_
      simp (disch := first | assumption | omega | decide) only [gB, I_all, zK_v, zK_n, true_and, and_true, Nat.reduceAdd, Nat.reduceMul, Nat.reduceSub, z_lt, z_le, z_neq, not_false_eq_true, hM_all, gX7_happens, S1]
      exact hq _ _ W1
end
