/-! the twin: a bus leaves -/
def sL1 (π : Pl) (σ : Sg) (b s : Nat) (t : Int32) : Sg := if (bR σ b).length = plI π 7 b ∧ 0 < (sR σ s).length then sTe σ t 4 b s (Int32.ofNat (sR σ s).length) else σ
def gapO (σ : Sg) (s : Nat) (t : Int32) : Int32 := if sN σ (33 + s) < Int32.ofNat 0 then Int32.ofInt (-2) else t - sN σ (33 + s)
def sLa (σ : Sg) (b s : Nat) (t g : Int32) : Sg := sTe (vN (sBs σ b 5 (Int32.ofNat 1)) (inc (sN (sBs σ b 5 (Int32.ofNat 1))) 6)) t 0 b s g
def sLb (σ : Sg) (b s : Nat) (t g : Int32) : Sg := sTe (vN (sBs σ b 5 (Int32.ofNat 0)) (inc (sN (sBs σ b 5 (Int32.ofNat 0))) 7)) t 1 b s g
def sL2 (σ : Sg) (b s : Nat) (t g : Int32) : Sg := if Int32.ofNat 0 ≤ g ∧ Int32.ofNat 4 * g < sN σ 2 ∧ bF σ b 5 = Int32.ofNat 0 then sLa σ b s t g
  else if Int32.ofNat 0 ≤ g ∧ sN σ 2 ≤ Int32.ofNat 2 * g ∧ bF σ b 5 = Int32.ofNat 1 then sLb σ b s t g else σ
def sL3 (π : Pl) (σ : Sg) (b s : Nat) (t g : Int32) : Sg := sGo π (sBs (sBs (sNo σ b s t g) b 10 t) b 11 (plT π 8 b + bF (sBs (sNo σ b s t g) b 10 t) b 3 * sN (sBs (sNo σ b s t g) b 10 t) 5 + plT π 5 s)) b t
/-- behind the riders that board -/
def sL0 (π : Pl) (σ : Sg) (b : Nat) (t : Int32) : Sg := (sBo π (sBr π σ (bI σ b 1) t) b (bI σ b 1) t).1
theorem sLe_eq (π : Pl) (σ : Sg) (b : Nat) (t : Int32) : sLe π σ b t = sL3 π (sL2 (sL1 π (sL0 π σ b t) b (bI σ b 1) t) b (bI σ b 1) t (gapO (sL1 π (sL0 π σ b t) b (bI σ b 1) t) (bI σ b 1) t)) b (bI σ b 1) t (gapO (sL1 π (sL0 π σ b t) b (bI σ b 1) t) (bI σ b 1) t) := rfl
theorem sL1_F (π : Pl) (σ : Sg) (b s : Nat) (t : Int32) : sB (sL1 π σ b s t) = sB σ := by
  unfold sL1
  split <;> rfl
theorem sL2_F (σ : Sg) (b s : Nat) (t g : Int32) (k c : Nat) (hc : c ≠ 5) : bF (sL2 σ b s t g) k c = bF σ k c := by
  unfold sL2
  split
  · show bF (sBs σ b 5 (Int32.ofNat 1)) k c = _
    rw [sBs_F, if_neg (fun x => hc x.2)]
  · split
    · show bF (sBs σ b 5 (Int32.ofNat 0)) k c = _
      rw [sBs_F, if_neg (fun x => hc x.2)]
    · rfl
theorem sOk_l1 {π : Pl} {σ : Sg} {b s : Nat} {t : Int32} (OK : sOk π σ) (hb : b < 6) (hs : s < plN π 0) : sOk π (sL1 π σ b s t) := by
  unfold sL1
  split
  · exact sOk_te OK (by decide) hb hs
  · exact OK
theorem sOk_la {π : Pl} {σ : Sg} {b s : Nat} {t g : Int32} (OK : sOk π σ) (hb : b < 6) (hs : s < plN π 0) : sOk π (sLa σ b s t g) :=
  sOk_te (sOk_n (sOk_bs OK (fun h => absurd h (by decide)) (fun h => absurd h (by decide))) _) (by decide) hb hs
theorem sOk_lb {π : Pl} {σ : Sg} {b s : Nat} {t g : Int32} (OK : sOk π σ) (hb : b < 6) (hs : s < plN π 0) : sOk π (sLb σ b s t g) :=
  sOk_te (sOk_n (sOk_bs OK (fun h => absurd h (by decide)) (fun h => absurd h (by decide))) _) (by decide) hb hs
theorem sOk_l2 {π : Pl} {σ : Sg} {b s : Nat} {t g : Int32} (OK : sOk π σ) (hb : b < 6) (hs : s < plN π 0) : sOk π (sL2 σ b s t g) := by
  unfold sL2
  split
  · exact sOk_la OK hb hs
  · split
    · exact sOk_lb OK hb hs
    · exact OK
theorem sOk_ld {π : Pl} {σ : Sg} {b : Nat} {u v : Int32} (OK : sOk π σ) : sOk π (sBs (sBs σ b 10 u) b 11 v) :=
  sOk_bs (sOk_bs OK (fun h => absurd h (by decide)) (fun h => absurd h (by decide))) (fun h => absurd h (by decide)) (fun h => absurd h (by decide))
theorem sOk_hw {π : Pl} {σ : Sg} {b : Nat} {u v : Int32} (OK : sOk π σ) : sOk π (sBs (sBs σ b 6 u) b 7 v) :=
  sOk_bs (sOk_bs OK (fun h => absurd h (by decide)) (fun h => absurd h (by decide))) (fun h => absurd h (by decide)) (fun h => absurd h (by decide))
theorem sOk_l3 {π : Pl} {σ : Sg} {b s : Nat} {t g : Int32} (OK : sOk π σ) (hb : b < 6) (hs : s < plN π 0) (hs10 : s < 10) (e : bF σ b 1 = Int32.ofNat s) : sOk π (sL3 π σ b s t g) := by
  refine sOk_go (sOk_ld (sOk_no OK hb)) hs (bI_of (by omega) ?_)
  rw [sBs_F, if_neg (fun x => absurd x.2 (by decide)), sBs_F, if_neg (fun x => absurd x.2 (by decide))]
  exact e
theorem sOk_le {π : Pl} {σ : Sg} {b s : Nat} {t : Int32} (O : pOk π) (OK : sOk π σ) (hb : b < plN π 1) (hs : s < plN π 0) (e : bF σ b 1 = Int32.ofNat s) : sOk π (sLe π σ b t) := by
  have hns := O.1.2
  have hb6 : b < 6 := by have := O.2.1; omega
  have eI : bI σ b 1 = s := bI_of (by omega) e
  rw [sLe_eq, eI]
  have e0 : bF (sL1 π (sL0 π σ b t) b s t) b 1 = Int32.ofNat s := by
    unfold bF
    rw [sL1_F]
    show bF (sL0 π σ b t) b 1 = _
    unfold sL0
    rw [sBo_F _ _ _ _ _ _ _ (by decide), (sBr_fr _ _ _ _).fF, e]
  have OK0 : sOk π (sL0 π σ b t) := by
    unfold sL0
    rw [eI]
    exact sOk_bo O (sOk_br O OK (by omega)) hb (by omega)
  refine sOk_l3 (sOk_l2 (sOk_l1 OK0 hb6 hs) hb6 hs) hb6 hs (by omega) ?_
  rw [sL2_F _ _ _ _ _ _ _ (by decide)]
  exact e0
section
variable {κ : zC} {h : zH} {b : Nat} {w : Nat → Int32} {sm : Nat → Int64} {o : Int32} {Q : zQ} {σ : Sg} {π : Pl}
theorem e7_leavesC {k s : Nat} {t g a4 : Int32} (S : MSh κ h b) (P : MPl h b π) (O : pOk π) (W : WAt w sm σ) (OK : sOk π σ) (hk : k < plN π 1) (hs : s < plN π 0) (e1 : bF σ k 1 = Int32.ofNat s) (ht : ¬ t < Int32.ofNat 0)
    (hq : ∀ w', WAt w' sm (sL3 π σ k s t g) → Q (.inl none) (hM h b w' sm o)) : Go κ mX7_leaves 210 [some (.ref b), some (.int (Int32.ofNat k)), some (.int t), some (.int (Int32.ofNat s)), some (.int a4), some (.int g)] [] (hM h b w sm o) Q := by
  have S1 := mW S
  have hB : kB κ ≤ b := S.1
  have S8 := mA S (88, 1, 6) (k := 8) (by decide)
  have S5 := mA S (85, 1, 10) (k := 5) (by decide)
  have P8 := P.2.2.2.2.2.2.2.1 8 (by decide)
  have P5 := P.2.2.2.2.2.2.1 5 (by decide)
  have hns := O.1.2
  have hk6 : k < 6 := by have := O.2.1; omega
  have eo := fun (w : Nat → Int32) (c : Nat) (hc : c < 13) Q => e7_of (κ := κ) (w := w) (sm := sm) (o := o) (Q := Q) (k := k) (c := c) S (by omega)
  have es := fun (w : Nat → Int32) (c : Nat) (v : Int32) (hc : c < 13) Q => e7_sets (κ := κ) (w := w) (sm := sm) (o := o) (Q := Q) (k := k) (c := c) (v := v) S (by omega)
  simp (disch := first | assumption | omega | decide) only [gB, I_all, zK_v, zK_n, true_and, and_true, Nat.reduceAdd, Nat.reduceMul, Nat.reduceSub, z_lt, z_le, z_neq, not_false_eq_true, hM_all, gX7_leaves_1, gX7_leaves_2, gX7_leaves_3, S1]
  refine e7_notes (s := s) S W OK hk6 (by omega) fun w1 W1 => ?_
  have OK1 : sOk π (sNo σ k s t g) := sOk_no OK hk6
  have f1 : bF (sNo σ k s t g) k 1 = Int32.ofNat s := e1
  unfold sL3 at hq
  generalize sNo σ k s t g = σ1 at W1 OK1 f1 hq
  have b3 : w1 (164 + 13 * k + 3) = bF σ1 k 3 := (W1.2.2.2.1 k hk6).1 3 (by decide)
  have b5 : w1 5 = sN σ1 5 := W1.1 5 (by unfold nat1; omega)
  have e3 : bF (sBs σ1 k 10 t) k 3 = bF σ1 k 3 := by rw [sBs_F, if_neg (fun x => absurd x.2 (by decide))]
  have e5 : sN (sBs σ1 k 10 t) 5 = sN σ1 5 := rfl
  rw [e3, e5] at hq
  have W2 := WAt_ld (u := t) (v := plT π 8 k + bF σ1 k 3 * sN σ1 5 + plT π 5 s) W1 OK1 hk6 ht
  have OK2 := sOk_ld (b := k) (u := t) (v := plT π 8 k + bF σ1 k 3 * sN σ1 5 + plT π 5 s) OK1
  have f2 : bF (sBs (sBs σ1 k 10 t) k 11 (plT π 8 k + bF σ1 k 3 * sN σ1 5 + plT π 5 s)) k 1 = Int32.ofNat s := by
    rw [sBs_F, if_neg (fun x => absurd x.2 (by decide)), sBs_F, if_neg (fun x => absurd x.2 (by decide))]
    exact f1
  simp (disch := first | assumption | omega | decide) only [gB, I_all, zK_v, zK_n, true_and, and_true, Nat.reduceAdd, Nat.reduceMul, Nat.reduceSub, z_lt, z_le, z_neq, not_false_eq_true, hM_all, gX7_leaves_1, gX7_leaves_2, gX7_leaves_3, S1, S8, S5, P8, P5, eo, es, b3, b5, zu_nx]
  refine e7_goesOn S P O W2 OK2 hk6 hs f2 fun w3 W3 => ?_
  simp (disch := first | assumption | omega | decide) only [gB, I_all, zK_v, zK_n, true_and, and_true, Nat.reduceAdd, Nat.reduceMul, Nat.reduceSub, z_lt, z_le, z_neq, not_false_eq_true, hM_all, gX7_leaves_1, gX7_leaves_2, gX7_leaves_3, S1]
  exact hq _ W3
theorem e7_leavesB {k s : Nat} {t a4 : Int32} {a5 : Option Value} (S : MSh κ h b) (P : MPl h b π) (O : pOk π) (W : WAt w sm σ) (OK : sOk π σ) (hk : k < plN π 1) (hs : s < plN π 0) (e1 : bF σ k 1 = Int32.ofNat s) (ht : ¬ t < Int32.ofNat 0)
    (hq : ∀ w', WAt w' sm (sL3 π (sL2 σ k s t (gapO σ s t)) k s t (gapO σ s t)) → Q (.inl none) (hM h b w' sm o)) : Go κ mX7_leaves 66 [some (.ref b), some (.int (Int32.ofNat k)), some (.int t), some (.int (Int32.ofNat s)), some (.int a4), a5] [] (hM h b w sm o) Q := by
  have S1 := mW S
  have hB : kB κ ≤ b := S.1
  have hns := O.1.2
  have hk6 : k < 6 := by have := O.2.1; omega
  have eo := fun (w : Nat → Int32) (c : Nat) (hc : c < 13) Q => e7_of (κ := κ) (w := w) (sm := sm) (o := o) (Q := Q) (k := k) (c := c) S (by omega)
  have es := fun (w : Nat → Int32) (c : Nat) (v : Int32) (hc : c < 13) Q => e7_sets (κ := κ) (w := w) (sm := sm) (o := o) (Q := Q) (k := k) (c := c) (v := v) S (by omega)
  have e33 : w (33 + s) = sN σ (33 + s) := W.1 _ (by unfold nat1; omega)
  have e2 : w 2 = sN σ 2 := W.1 _ (by unfold nat1; omega)
  have b5 : w (164 + 13 * k + 5) = bF σ k 5 := (W.2.2.2.1 k hk6).1 5 (by decide)
  have tC := fun (g : Int32) (a4 : Int32) => e7_leavesC (κ := κ) (h := h) (b := b) (Q := Q) (o := o) (g := g) (a4 := a4) S P O W OK hk hs e1 ht
  have d2 : ¬ Int32.ofNat 0 ≤ Int32.ofInt (-2) := by decide
  have d3 : Int32.ofInt (-2) < Int32.ofNat 0 := by decide
  unfold gapO at hq
  by_cases g0 : sN σ (33 + s) < Int32.ofNat 0
  · have g0' : ¬ Int32.ofNat 0 ≤ sN σ (33 + s) := Int32.not_le.mpr g0
    rw [if_pos g0] at hq
    unfold sL2 at hq
    rw [if_neg (fun x => d2 x.1), if_neg (fun x => d2 x.1)] at hq
    have C := tC _ a4 hq
    simp (disch := first | assumption | omega | decide) only [gB, I_all, zK_v, zK_n, true_and, and_true, Nat.reduceAdd, Nat.reduceMul, Nat.reduceSub, z_lt, z_le, z_neq, not_false_eq_true, hM_all, gX7_leaves_1, gX7_leaves_2, gX7_leaves_3, S1] at C
    simp (disch := first | assumption | omega | decide) only [gB, I_all, zK_v, zK_n, true_and, and_true, Nat.reduceAdd, Nat.reduceMul, Nat.reduceSub, z_lt, z_le, z_neq, not_false_eq_true, hM_all, gX7_leaves_1, gX7_leaves_2, gX7_leaves_3, S1, e33]
    exact C
  · have g0' : Int32.ofNat 0 ≤ sN σ (33 + s) := Int32.not_lt.mp g0
    rw [if_neg g0] at hq
    have r1 := fun a4 => e7_leavesC (κ := κ) (h := h) (b := b) (Q := Q) (o := o) (g := t - sN σ (33 + s)) (a4 := a4) (w := w) (sm := sm) (σ := σ) S P O W OK hk hs e1 ht
    generalize hg : t - sN σ (33 + s) = g at hq r1
    unfold sL2 at hq
    by_cases gn : g < Int32.ofNat 0
    · have gn' : ¬ Int32.ofNat 0 ≤ g := Int32.not_le.mpr gn
      rw [if_neg (fun x => gn' x.1), if_neg (fun x => gn' x.1)] at hq
      have C := r1 a4 hq
      simp (disch := first | assumption | omega | decide) only [gB, I_all, zK_v, zK_n, true_and, and_true, Nat.reduceAdd, Nat.reduceMul, Nat.reduceSub, z_lt, z_le, z_neq, not_false_eq_true, hM_all, gX7_leaves_1, gX7_leaves_2, gX7_leaves_3, S1] at C
      simp (disch := first | assumption | omega | decide) only [gB, I_all, zK_v, zK_n, true_and, and_true, Nat.reduceAdd, Nat.reduceMul, Nat.reduceSub, z_lt, z_le, z_neq, not_false_eq_true, hM_all, gX7_leaves_1, gX7_leaves_2, gX7_leaves_3, S1, e33, hg]
      exact C
    have gn' : Int32.ofNat 0 ≤ g := Int32.not_lt.mp gn
    have tA : Int32.ofNat 4 * g < sN σ 2 → bF σ k 5 = Int32.ofNat 0 → Go κ mX7_leaves 123 [some (.ref b), some (.int (Int32.ofNat k)), some (.int t), some (.int (Int32.ofNat s)), some (.int a4), some (.int g)] [] (hM h b w sm o) Q := by
      intro c4 c5
      rw [if_pos ⟨gn', c4, c5⟩] at hq
      have W1 := WAt_bs (c := 5) (v := Int32.ofNat 1) W OK hk6 (by decide) (by decide)
      have OK1 : sOk π (sBs σ k 5 (Int32.ofNat 1)) := sOk_bs OK (fun h => absurd h (by decide)) (fun h => absurd h (by decide))
      have W2 := WAt_inc W1 (i := 6) (by unfold nat1; omega)
      simp (disch := first | assumption | omega | decide) only [gB, I_all, zK_v, zK_n, true_and, and_true, Nat.reduceAdd, Nat.reduceMul, Nat.reduceSub, z_lt, z_le, z_neq, not_false_eq_true, hM_all, gX7_leaves_1, gX7_leaves_2, gX7_leaves_3, S1, es]
      refine e7_te S W2 (sOk_n OK1 _) fun w3 W3 => ?_
      have C := e7_leavesC (κ := κ) (h := h) (b := b) (Q := Q) (o := o) (g := g) (a4 := a4) S P O W3 (sOk_la OK hk6 hs) hk hs (by
        show bF (sBs σ k 5 (Int32.ofNat 1)) k 1 = _
        rw [sBs_F, if_neg (fun x => absurd x.2 (by decide))]; exact e1) ht hq
      simp (disch := first | assumption | omega | decide) only [gB, I_all, zK_v, zK_n, true_and, and_true, Nat.reduceAdd, Nat.reduceMul, Nat.reduceSub, z_lt, z_le, z_neq, not_false_eq_true, hM_all, gX7_leaves_1, gX7_leaves_2, gX7_leaves_3, S1] at C
      simp (disch := first | assumption | omega | decide) only [gB, I_all, zK_v, zK_n, true_and, and_true, Nat.reduceAdd, Nat.reduceMul, Nat.reduceSub, z_lt, z_le, z_neq, not_false_eq_true, hM_all, gX7_leaves_1, gX7_leaves_2, gX7_leaves_3, S1]
      exact C
    have tB : ¬ (Int32.ofNat 0 ≤ g ∧ Int32.ofNat 4 * g < sN σ 2 ∧ bF σ k 5 = Int32.ofNat 0) → Go κ mX7_leaves 154 [some (.ref b), some (.int (Int32.ofNat k)), some (.int t), some (.int (Int32.ofNat s)), some (.int a4), some (.int g)] [] (hM h b w sm o) Q := by
      intro cA
      rw [if_neg cA] at hq
      by_cases c6 : sN σ 2 ≤ Int32.ofNat 2 * g
      · have c6' : ¬ Int32.ofNat 2 * g < sN σ 2 := Int32.not_lt.mpr c6
        by_cases c7 : bF σ k 5 = Int32.ofNat 1
        · rw [if_pos ⟨gn', c6, c7⟩] at hq
          have W1 := WAt_bs (c := 5) (v := Int32.ofNat 0) W OK hk6 (by decide) (by decide)
          have OK1 : sOk π (sBs σ k 5 (Int32.ofNat 0)) := sOk_bs OK (fun h => absurd h (by decide)) (fun h => absurd h (by decide))
          have W2 := WAt_inc W1 (i := 7) (by unfold nat1; omega)
          simp (disch := first | assumption | omega | decide) only [gB, I_all, zK_v, zK_n, true_and, and_true, Nat.reduceAdd, Nat.reduceMul, Nat.reduceSub, z_lt, z_le, z_neq, not_false_eq_true, hM_all, gX7_leaves_1, gX7_leaves_2, gX7_leaves_3, S1, eo, es, e2, b5, c7]
          refine e7_te S W2 (sOk_n OK1 _) fun w3 W3 => ?_
          have C := e7_leavesC (κ := κ) (h := h) (b := b) (Q := Q) (o := o) (g := g) (a4 := a4) S P O W3 (sOk_lb OK hk6 hs) hk hs (by
            show bF (sBs σ k 5 (Int32.ofNat 0)) k 1 = _
            rw [sBs_F, if_neg (fun x => absurd x.2 (by decide))]; exact e1) ht hq
          simp (disch := first | assumption | omega | decide) only [gB, I_all, zK_v, zK_n, true_and, and_true, Nat.reduceAdd, Nat.reduceMul, Nat.reduceSub, z_lt, z_le, z_neq, not_false_eq_true, hM_all, gX7_leaves_1, gX7_leaves_2, gX7_leaves_3, S1] at C
          simp (disch := first | assumption | omega | decide) only [gB, I_all, zK_v, zK_n, true_and, and_true, Nat.reduceAdd, Nat.reduceMul, Nat.reduceSub, z_lt, z_le, z_neq, not_false_eq_true, hM_all, gX7_leaves_1, gX7_leaves_2, gX7_leaves_3, S1]
          exact C
        · rw [if_neg (fun x => c7 x.2.2)] at hq
          have C := r1 a4 hq
          simp (disch := first | assumption | omega | decide) only [gB, I_all, zK_v, zK_n, true_and, and_true, Nat.reduceAdd, Nat.reduceMul, Nat.reduceSub, z_lt, z_le, z_neq, not_false_eq_true, hM_all, gX7_leaves_1, gX7_leaves_2, gX7_leaves_3, S1] at C
          simp (disch := first | assumption | omega | decide) only [gB, I_all, zK_v, zK_n, true_and, and_true, Nat.reduceAdd, Nat.reduceMul, Nat.reduceSub, z_lt, z_le, z_neq, not_false_eq_true, hM_all, gX7_leaves_1, gX7_leaves_2, gX7_leaves_3, S1, eo, e2, b5]
          exact C
      · have c6' : Int32.ofNat 2 * g < sN σ 2 := Int32.not_le.mp c6
        rw [if_neg (fun x => c6 x.2.1)] at hq
        have C := r1 a4 hq
        simp (disch := first | assumption | omega | decide) only [gB, I_all, zK_v, zK_n, true_and, and_true, Nat.reduceAdd, Nat.reduceMul, Nat.reduceSub, z_lt, z_le, z_neq, not_false_eq_true, hM_all, gX7_leaves_1, gX7_leaves_2, gX7_leaves_3, S1] at C
        simp (disch := first | assumption | omega | decide) only [gB, I_all, zK_v, zK_n, true_and, and_true, Nat.reduceAdd, Nat.reduceMul, Nat.reduceSub, z_lt, z_le, z_neq, not_false_eq_true, hM_all, gX7_leaves_1, gX7_leaves_2, gX7_leaves_3, S1, eo, e2, b5]
        exact C
    by_cases c4 : Int32.ofNat 4 * g < sN σ 2
    · have c4' : ¬ sN σ 2 ≤ Int32.ofNat 4 * g := Int32.not_le.mpr c4
      by_cases c5 : bF σ k 5 = Int32.ofNat 0
      · have C := tA c4 c5
        simp (disch := first | assumption | omega | decide) only [gB, I_all, zK_v, zK_n, true_and, and_true, Nat.reduceAdd, Nat.reduceMul, Nat.reduceSub, z_lt, z_le, z_neq, not_false_eq_true, hM_all, gX7_leaves_1, gX7_leaves_2, gX7_leaves_3, S1, es] at C
        simp (disch := first | assumption | omega | decide) only [gB, I_all, zK_v, zK_n, true_and, and_true, Nat.reduceAdd, Nat.reduceMul, Nat.reduceSub, z_lt, z_le, z_neq, not_false_eq_true, hM_all, gX7_leaves_1, gX7_leaves_2, gX7_leaves_3, S1, e33, hg, e2, eo, es, b5, c5]
        exact C
      · have C := tB (fun x => c5 x.2.2)
        simp (disch := first | assumption | omega | decide) only [gB, I_all, zK_v, zK_n, true_and, and_true, Nat.reduceAdd, Nat.reduceMul, Nat.reduceSub, z_lt, z_le, z_neq, not_false_eq_true, hM_all, gX7_leaves_1, gX7_leaves_2, gX7_leaves_3, S1] at C
        simp (disch := first | assumption | omega | decide) only [gB, I_all, zK_v, zK_n, true_and, and_true, Nat.reduceAdd, Nat.reduceMul, Nat.reduceSub, z_lt, z_le, z_neq, not_false_eq_true, hM_all, gX7_leaves_1, gX7_leaves_2, gX7_leaves_3, S1, e33, hg, e2, eo, b5]
        simp (disch := first | assumption | omega | decide) only [gB, I_all, zK_v, zK_n, true_and, and_true, Nat.reduceAdd, Nat.reduceMul, Nat.reduceSub, z_lt, z_le, z_neq, not_false_eq_true, hM_all, gX7_leaves_1, gX7_leaves_2, gX7_leaves_3, S1, e33, hg, e2, eo, b5] at C
        exact C
    · have c4' : sN σ 2 ≤ Int32.ofNat 4 * g := Int32.not_lt.mp c4
      have C := tB (fun x => c4 x.2.1)
      simp (disch := first | assumption | omega | decide) only [gB, I_all, zK_v, zK_n, true_and, and_true, Nat.reduceAdd, Nat.reduceMul, Nat.reduceSub, z_lt, z_le, z_neq, not_false_eq_true, hM_all, gX7_leaves_1, gX7_leaves_2, gX7_leaves_3, S1, e33, hg, e2, eo, b5]
      simp (disch := first | assumption | omega | decide) only [gB, I_all, zK_v, zK_n, true_and, and_true, Nat.reduceAdd, Nat.reduceMul, Nat.reduceSub, z_lt, z_le, z_neq, not_false_eq_true, hM_all, gX7_leaves_1, gX7_leaves_2, gX7_leaves_3, S1, e33, hg, e2, eo, b5] at C
      exact C
theorem e7_leaves {k : Nat} {t : Int32} (S : MSh κ h b) (P : MPl h b π) (O : pOk π) (W : WAt w sm σ) (OK : sOk π σ) (hk : k < plN π 1) (ht : t.toInt ≤ 1073741824) (ht0 : ¬ t < Int32.ofNat 0)
    (hq : ∀ w' sm', WAt w' sm' (sLe π σ k t) → Q (.inl none) (hM h b w' sm' o)) : Ev κ mX7_leaves [.ref b, .int (Int32.ofNat k), .int t] (hM h b w sm o) Q := by
  have S1 := mW S
  have hB : kB κ ≤ b := S.1
  have S7 := mA S (87, 1, 6) (k := 7) (by decide)
  have P7 := P.2.2.2.2.2.2.2.1 7 (by decide)
  have hns := O.1.2
  have hk6 : k < 6 := by have := O.2.1; omega
  obtain ⟨st, s, h4, hs, e0, e1⟩ := bst OK hk hk6
  have eI : bI σ k 1 = s := bI_of (by omega) e1
  obtain ⟨s1, s2, s3, -⟩ := O.2.2.2.2.1 k hk
  have eo := fun (w : Nat → Int32) (sm : Nat → Int64) (c : Nat) (hc : c < 13) Q => e7_of (κ := κ) (w := w) (sm := sm) (o := o) (Q := Q) (k := k) (c := c) S (by omega)
  have a1 : w (164 + 13 * k + 1) = Int32.ofNat s := ((W.2.2.2.1 k hk6).1 1 (by decide)).trans e1
  rw [sLe_eq, eI] at hq
  simp (disch := first | assumption | omega | decide) only [gB, I_all, zK_v, zK_n, true_and, and_true, Nat.reduceAdd, Nat.reduceMul, Nat.reduceSub, z_lt, z_le, z_neq, not_false_eq_true, hM_all, gX7_leaves_1, gX7_leaves_2, gX7_leaves_3, S1, eo, a1]
  refine e7_bringsUp (s := s) S P O W OK (by omega) ht fun w1 W1 => ?_
  have OK1 : sOk π (sBr π σ s t) := sOk_br O OK (by omega)
  simp (disch := first | assumption | omega | decide) only [gB, I_all, zK_v, zK_n, true_and, and_true, Nat.reduceAdd, Nat.reduceMul, Nat.reduceSub, z_lt, z_le, z_neq, not_false_eq_true, hM_all, gX7_leaves_1, gX7_leaves_2, gX7_leaves_3, S1]
  refine e7_boards (s := s) S P O W1 OK1 hk (by omega) fun w2 sm2 W2 => ?_
  have OK2 : sOk π (sBo π (sBr π σ s t) k s t).1 := sOk_bo O OK1 hk (by omega)
  have f2 : bF (sBo π (sBr π σ s t) k s t).1 k 1 = Int32.ofNat s := by rw [sBo_F _ _ _ _ _ _ _ (by decide), (sBr_fr _ _ _ _).fF, e1]
  have eL0 : sL0 π σ k t = (sBo π (sBr π σ s t) k s t).1 := by unfold sL0; rw [eI]
  rw [eL0] at hq
  generalize sBo π (sBr π σ s t) k s t = q2 at W2 OK2 f2 hq
  obtain ⟨σ2, n2⟩ := q2
  dsimp only at W2 OK2 f2 hq
  have e4 : w2 (164 + 13 * k + 4) = Int32.ofNat (bR σ2 k).length := (W2.2.2.2.1 k hk6).2.1
  have eR : w2 (23 + s) = Int32.ofNat (sR σ2 s).length := (W2.2.1 s (by omega)).1
  have l99 := (OK2.2.2.1 k hk6).1
  have l40 := (OK2.1 s (by omega)).1
  unfold sL1 at hq
  by_cases c1 : (bR σ2 k).length = plI π 7 k
  · by_cases c2 : 0 < (sR σ2 s).length
    · rw [if_pos ⟨c1, c2⟩] at hq
      simp (disch := first | assumption | omega | decide) only [gB, I_all, zK_v, zK_n, true_and, and_true, Nat.reduceAdd, Nat.reduceMul, Nat.reduceSub, z_lt, z_le, z_neq, not_false_eq_true, hM_all, gX7_leaves_1, gX7_leaves_2, gX7_leaves_3, S1, S7, P7, s1, eo, e4, eR]
      refine e7_te S W2 OK2 fun w3 W3 => ?_
      have C := e7_leavesB (κ := κ) (h := h) (b := b) (Q := Q) (o := o) (a4 := Int32.ofNat n2) (a5 := none) S P O W3 (sOk_te OK2 (by decide) hk6 hs) hk hs f2 ht0 fun w' W' => hq _ _ W'
      simp (disch := first | assumption | omega | decide) only [gB, I_all, zK_v, zK_n, true_and, and_true, Nat.reduceAdd, Nat.reduceMul, Nat.reduceSub, z_lt, z_le, z_neq, not_false_eq_true, hM_all, gX7_leaves_1, gX7_leaves_2, gX7_leaves_3, S1] at C
      simp (disch := first | assumption | omega | decide) only [gB, I_all, zK_v, zK_n, true_and, and_true, Nat.reduceAdd, Nat.reduceMul, Nat.reduceSub, z_lt, z_le, z_neq, not_false_eq_true, hM_all, gX7_leaves_1, gX7_leaves_2, gX7_leaves_3, S1]
      exact C
    · rw [if_neg (fun x => c2 x.2)] at hq
      have c2' : (sR σ2 s).length = 0 := by omega
      have C := e7_leavesB (κ := κ) (h := h) (b := b) (Q := Q) (o := o) (a4 := Int32.ofNat n2) (a5 := none) S P O W2 OK2 hk hs f2 ht0 fun w' W' => hq _ _ W'
      simp (disch := first | assumption | omega | decide) only [gB, I_all, zK_v, zK_n, true_and, and_true, Nat.reduceAdd, Nat.reduceMul, Nat.reduceSub, z_lt, z_le, z_neq, not_false_eq_true, hM_all, gX7_leaves_1, gX7_leaves_2, gX7_leaves_3, S1] at C
      simp (disch := first | assumption | omega | decide) only [gB, I_all, zK_v, zK_n, true_and, and_true, Nat.reduceAdd, Nat.reduceMul, Nat.reduceSub, z_lt, z_le, z_neq, not_false_eq_true, hM_all, gX7_leaves_1, gX7_leaves_2, gX7_leaves_3, S1, S7, P7, s1, eo, e4, eR, c2']
      exact C
  · rw [if_neg (fun x => c1 x.1)] at hq
    have C := e7_leavesB (κ := κ) (h := h) (b := b) (Q := Q) (o := o) (a4 := Int32.ofNat n2) (a5 := none) S P O W2 OK2 hk hs f2 ht0 fun w' W' => hq _ _ W'
    simp (disch := first | assumption | omega | decide) only [gB, I_all, zK_v, zK_n, true_and, and_true, Nat.reduceAdd, Nat.reduceMul, Nat.reduceSub, z_lt, z_le, z_neq, not_false_eq_true, hM_all, gX7_leaves_1, gX7_leaves_2, gX7_leaves_3, S1] at C
    simp (disch := first | assumption | omega | decide) only [gB, I_all, zK_v, zK_n, true_and, and_true, Nat.reduceAdd, Nat.reduceMul, Nat.reduceSub, z_lt, z_le, z_neq, not_false_eq_true, hM_all, gX7_leaves_1, gX7_leaves_2, gX7_leaves_3, S1, S7, P7, s1, eo, e4, eR]
    exact C
end
