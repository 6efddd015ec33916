/-! the twin: a bus comes to its stop -/
/-- behind the riders that come -/
def sC0 (π : Pl) (σ : Sg) (b : Nat) (t : Int32) : Sg := sBr π (if bF σ b 0 = Int32.ofNat 1 ∧ bI σ b 1 = 0 then sBs σ b 3 (bF σ b 3 + Int32.ofNat 1) else σ) (bI σ b 1) t
def sCs (π : Pl) (σ : Sg) (b : Nat) (t : Int32) : Sg := sGo π (vN (sBs σ b 8 (Int32.ofNat 0)) (inc (sN (sBs σ b 8 (Int32.ofNat 0))) 11)) b t
/-- it opens: the numbers of those who alight, board -/
def sCt (π : Pl) (σ : Sg) (b : Nat) (t : Int32) (a u : Nat) : Sg := sBs (sBs σ b 0 (Int32.ofNat 2)) b 2 (t + plT π 0 0 + plT π 0 2 * Int32.ofNat a + plT π 0 1 * Int32.ofNat u)
def sCu (σ : Sg) (b s : Nat) (t : Int32) : Sg := if 0 < (sR σ s).length then sTe (vN σ (zu (sN σ) 10 (sN σ 10 + Int32.ofNat (sR σ s).length))) t 3 b s (Int32.ofNat (sR σ s).length) else σ
theorem sCo_eq (π : Pl) (σ : Sg) (b : Nat) (t : Int32) : sCo π σ b t = if bF (sC0 π σ b t) b 8 = Int32.ofNat 1 then (sCs π (sC0 π σ b t) b t, 0) else
    (sCu (sCt π (sBo π (sAl (sC0 π σ b t) b (bI σ b 1) t).1 b (bI σ b 1) t).1 b t (sAl (sC0 π σ b t) b (bI σ b 1) t).2 (sBo π (sAl (sC0 π σ b t) b (bI σ b 1) t).1 b (bI σ b 1) t).2) b (bI σ b 1) t, (sAl (sC0 π σ b t) b (bI σ b 1) t).2) := rfl
theorem sC0_F (π : Pl) (σ : Sg) (b : Nat) (t : Int32) (k c : Nat) (hc : c ≠ 3) : bF (sC0 π σ b t) k c = bF σ k c := by
  unfold sC0
  rw [(sBr_fr _ _ _ _).fF]
  split
  · rw [sBs_F, if_neg (fun x => hc x.2)]
  · rfl
theorem sOk_c0 {π : Pl} {σ : Sg} {b : Nat} {t : Int32} (O : pOk π) (OK : sOk π σ) (hs : bI σ b 1 < 10) : sOk π (sC0 π σ b t) := by
  unfold sC0
  refine sOk_br O ?_ hs
  split
  · exact sOk_bs OK (fun h => absurd h (by decide)) (fun h => absurd h (by decide))
  · exact OK
theorem sOk_ct {π : Pl} {σ : Sg} {b a u : Nat} {t : Int32} (OK : sOk π σ) : sOk π (sCt π σ b t a u) :=
  sOk_bs (sOk_bs OK (fun _ => ⟨2, by omega, rfl⟩) (fun h => absurd h (by decide))) (fun h => absurd h (by decide)) (fun h => absurd h (by decide))
section
variable {κ : zC} {h : zH} {b : Nat} {w : Nat → Int32} {sm : Nat → Int64} {o : Int32} {Q : zQ} {σ : Sg} {π : Pl}
theorem e7_comesTo {k : Nat} {t : Int32} (S : MSh κ h b) (P : MPl h b π) (O : pOk π) (W : WAt w sm σ) (OK : sOk π σ) (hk : k < plN π 1) (ht : t.toInt ≤ 1073741824)
    (hq : ∀ w' sm', WAt w' sm' (sCo π σ k t).1 → Q (.inl none) (hM h b w' sm' (o + Int32.ofNat (sCo π σ k t).2))) : Ev κ mX7_comesTo [.ref b, .int (Int32.ofNat k), .int t] (hM h b w sm o) Q := by
  have S1 := mW S
  have hB : kB κ ≤ b := S.1
  have P78 := P.2.2.2.1
  have P79 := P.2.2.2.2.1
  have P80 := P.2.2.2.2.2.1
  have hns := O.1.2
  have hk6 : k < 6 := by have := O.2.1; omega
  obtain ⟨st, s, h4, hs, e0, e1⟩ := bst OK hk hk6
  have eI : bI σ k 1 = s := bI_of (by omega) e1
  have eo := fun (w : Nat → Int32) (sm : Nat → Int64) (o : Int32) (c : Nat) (hc : c < 13) Q => e7_of (κ := κ) (w := w) (sm := sm) (o := o) (Q := Q) (k := k) (c := c) S (by omega)
  have es := fun (w : Nat → Int32) (sm : Nat → Int64) (o : Int32) (c : Nat) (v : Int32) (hc : c < 13) Q => e7_sets (κ := κ) (w := w) (sm := sm) (o := o) (Q := Q) (k := k) (c := c) (v := v) S (by omega)
  have wF : ∀ {w : Nat → Int32} {sm : Nat → Int64} {σ : Sg}, WAt w sm σ → ∀ c, c ∈ bKs → w (164 + 13 * k + c) = bF σ k c := fun W c hc => (W.2.2.2.1 k hk6).1 c hc
  have a0 : w (164 + 13 * k + 0) = Int32.ofNat st := (wF W 0 (by decide)).trans e0
  have a1 : w (164 + 13 * k + 1) = Int32.ofNat s := (wF W 1 (by decide)).trans e1
  have a3 : w (164 + 13 * k + 3) = bF σ k 3 := wF W 3 (by decide)
  -- behind the riders that come
  have go : ∀ (σ0 : Sg) (w0 : Nat → Int32), sBr π σ0 s t = sC0 π σ k t → WAt w0 sm σ0 → sOk π σ0 →
      Go κ mX7_comesTo 35 [some (.ref b), some (.int (Int32.ofNat k)), some (.int t), some (.int (Int32.ofNat s)), none, none] [] (hM h b w0 sm o) Q := by
    intro σ0 w0 hσ W0 OK0
    simp (disch := first | assumption | omega | decide) only [gB, I_all, zK_v, zK_n, true_and, and_true, Nat.reduceAdd, Nat.reduceMul, Nat.reduceSub, z_lt, z_le, z_neq, not_false_eq_true, hM_all, gX7_comesTo_1, gX7_comesTo_2, S1]
    refine e7_bringsUp (s := s) S P O W0 OK0 (by omega) ht fun w1 W1 => ?_
    rw [hσ] at W1
    have OK1 : sOk π (sC0 π σ k t) := sOk_c0 O OK (by omega)
    have f1 : ∀ c, c ≠ 3 → bF (sC0 π σ k t) k c = bF σ k c := fun c hc => sC0_F π σ k t k c hc
    rw [sCo_eq, eI] at hq
    generalize sC0 π σ k t = σ1 at W1 OK1 f1 hq
    have b8 : w1 (164 + 13 * k + 8) = bF σ1 k 8 := wF W1 8 (by decide)
    by_cases c8 : bF σ1 k 8 = Int32.ofNat 1
    · rw [if_pos c8] at hq
      have W2 := WAt_bs (c := 8) (v := Int32.ofNat 0) W1 OK1 hk6 (by decide) (by decide)
      have OK2 : sOk π (sBs σ1 k 8 (Int32.ofNat 0)) := sOk_bs OK1 (fun h => absurd h (by decide)) (fun h => absurd h (by decide))
      have W3 := WAt_inc W2 (i := 11) (by unfold nat1; omega)
      have f3 : bF (vN (sBs σ1 k 8 (Int32.ofNat 0)) (inc (sN (sBs σ1 k 8 (Int32.ofNat 0))) 11)) k 1 = Int32.ofNat s := by
        show bF (sBs σ1 k 8 (Int32.ofNat 0)) k 1 = _
        rw [sBs_F, if_neg (fun x => absurd x.2 (by decide)), f1 1 (by decide), e1]
      simp (disch := first | assumption | omega | decide) only [gB, I_all, zK_v, zK_n, true_and, and_true, Nat.reduceAdd, Nat.reduceMul, Nat.reduceSub, z_lt, z_le, z_neq, not_false_eq_true, hM_all, gX7_comesTo_1, gX7_comesTo_2, S1, eo, es, b8, c8]
      refine e7_goesOn S P O W3 (sOk_n OK2 _) hk6 hs f3 fun w4 W4 => ?_
      have := hq _ _ W4
      rw [show o + Int32.ofNat 0 = o from Int32.add_zero o] at this
      simp (disch := first | assumption | omega | decide) only [gB, I_all, zK_v, zK_n, true_and, and_true, Nat.reduceAdd, Nat.reduceMul, Nat.reduceSub, z_lt, z_le, z_neq, not_false_eq_true, hM_all, gX7_comesTo_1, gX7_comesTo_2, S1]
      exact this
    · rw [if_neg c8] at hq
      simp (disch := first | assumption | omega | decide) only [gB, I_all, zK_v, zK_n, true_and, and_true, Nat.reduceAdd, Nat.reduceMul, Nat.reduceSub, z_lt, z_le, z_neq, not_false_eq_true, hM_all, gX7_comesTo_1, gX7_comesTo_2, S1, eo, b8]
      refine e7_alights (s := s) S W1 OK1 hk6 (by omega) fun w2 sm2 W2 => ?_
      have OK2 : sOk π (sAl σ1 k s t).1 := sOk_al OK1
      generalize sAl σ1 k s t = q2 at W2 OK2 hq
      obtain ⟨σ2, n2⟩ := q2
      dsimp only at W2 OK2 hq
      simp (disch := first | assumption | omega | decide) only [gB, I_all, zK_v, zK_n, true_and, and_true, Nat.reduceAdd, Nat.reduceMul, Nat.reduceSub, z_lt, z_le, z_neq, not_false_eq_true, hM_all, gX7_comesTo_1, gX7_comesTo_2, S1]
      refine e7_boards (s := s) S P O W2 OK2 hk (by omega) fun w3 sm3 W3 => ?_
      have OK3 : sOk π (sBo π σ2 k s t).1 := sOk_bo O OK2 hk (by omega)
      generalize sBo π σ2 k s t = q3 at W3 OK3 hq
      obtain ⟨σ3, n3⟩ := q3
      dsimp only at W3 OK3 hq
      have W4 := WAt_bs (c := 0) (v := Int32.ofNat 2) W3 OK3 hk6 (by decide) (by decide)
      have OK4 : sOk π (sBs σ3 k 0 (Int32.ofNat 2)) := sOk_bs OK3 (fun _ => ⟨2, by omega, rfl⟩) (fun h => absurd h (by decide))
      have W5 := WAt_bs (c := 2) (v := t + plT π 0 0 + plT π 0 2 * Int32.ofNat n2 + plT π 0 1 * Int32.ofNat n3) W4 OK4 hk6 (by decide) (by decide)
      have OK5 := sOk_ct (b := k) (a := n2) (u := n3) (t := t) OK3
      have W5' : WAt _ sm3 (sCt π σ3 k t n2 n3) := W5
      clear W5 W4 OK4
      generalize sCt π σ3 k t n2 n3 = σ5 at W5' OK5 hq
      have eR : zu (zu w3 (164 + 13 * k + 0) (Int32.ofNat 2)) (164 + 13 * k + 2) (t + plT π 0 0 + plT π 0 2 * Int32.ofNat n2 + plT π 0 1 * Int32.ofNat n3) (23 + s) = Int32.ofNat (sR σ5 s).length := (W5'.2.1 s (by omega)).1
      have hr40 := (OK5.1 s (by omega)).1
      have e10 : zu (zu w3 (164 + 13 * k + 0) (Int32.ofNat 2)) (164 + 13 * k + 2) (t + plT π 0 0 + plT π 0 2 * Int32.ofNat n2 + plT π 0 1 * Int32.ofNat n3) 10 = sN σ5 10 := W5'.1 10 (by unfold nat1; omega)
      have step : ∀ w5, w5 = zu (zu w3 (164 + 13 * k + 0) (Int32.ofNat 2)) (164 + 13 * k + 2) (t + plT π 0 0 + plT π 0 2 * Int32.ofNat n2 + plT π 0 1 * Int32.ofNat n3) →
          Go κ mX7_comesTo 142 [some (.ref b), some (.int (Int32.ofNat k)), some (.int t), some (.int (Int32.ofNat s)), some (.int (Int32.ofNat n2)), some (.int (Int32.ofNat n3))] [] (hM h b w5 sm3 (o + Int32.ofNat n2)) Q := by
        intro w5 hw5
        rw [← hw5] at W5' eR e10
        unfold sCu at hq
        by_cases c0 : 0 < (sR σ5 s).length
        · rw [if_pos c0] at hq
          have W6 := WAt_n W5' (sN σ5 10 + Int32.ofNat (sR σ5 s).length) (i := 10) (by unfold nat1; omega)
          simp (disch := first | assumption | omega | decide) only [gB, I_all, zK_v, zK_n, true_and, and_true, Nat.reduceAdd, Nat.reduceMul, Nat.reduceSub, z_lt, z_le, z_neq, not_false_eq_true, hM_all, gX7_comesTo_1, gX7_comesTo_2, S1, eR, e10, zu_nx]
          refine e7_te S W6 (sOk_n OK5 _) fun w7 W7 => ?_
          simp (disch := first | assumption | omega | decide) only [gB, I_all, zK_v, zK_n, true_and, and_true, Nat.reduceAdd, Nat.reduceMul, Nat.reduceSub, z_lt, z_le, z_neq, not_false_eq_true, hM_all, gX7_comesTo_1, gX7_comesTo_2, S1]
          exact hq _ _ W7
        · rw [if_neg c0] at hq
          have c0' : (sR σ5 s).length = 0 := by omega
          simp (disch := first | assumption | omega | decide) only [gB, I_all, zK_v, zK_n, true_and, and_true, Nat.reduceAdd, Nat.reduceMul, Nat.reduceSub, z_lt, z_le, z_neq, not_false_eq_true, hM_all, gX7_comesTo_1, gX7_comesTo_2, S1, eR, c0']
          exact hq _ _ W5'
      have := step _ rfl
      simp (disch := first | assumption | omega | decide) only [gB, I_all, zK_v, zK_n, true_and, and_true, Nat.reduceAdd, Nat.reduceMul, Nat.reduceSub, z_lt, z_le, z_neq, not_false_eq_true, hM_all, gX7_comesTo_1, gX7_comesTo_2, S1, P78, P79, P80, es]
      simp (disch := first | assumption | omega | decide) only [gB, I_all, zK_v, zK_n, true_and, and_true, Nat.reduceAdd, Nat.reduceMul, Nat.reduceSub, z_lt, z_le, z_neq, not_false_eq_true, hM_all, gX7_comesTo_1, gX7_comesTo_2, S1] at this
      exact this
  by_cases c1 : st = 1
  · by_cases c2 : s = 0
    · have W0 := WAt_bs (c := 3) (v := bF σ k 3 + Int32.ofNat 1) W OK hk6 (by decide) (by decide)
      have OK0 : sOk π (sBs σ k 3 (bF σ k 3 + Int32.ofNat 1)) := sOk_bs OK (fun h => absurd h (by decide)) (fun h => absurd h (by decide))
      have := go _ _ (by unfold sC0; rw [eI, if_pos ⟨by rw [e0, c1], c2⟩]) W0 OK0
      simp (disch := first | assumption | omega | decide) only [gB, I_all, zK_v, zK_n, true_and, and_true, Nat.reduceAdd, Nat.reduceMul, Nat.reduceSub, z_lt, z_le, z_neq, not_false_eq_true, hM_all, gX7_comesTo_1, gX7_comesTo_2, S1, eo, es, a0, a1, a3]
      simp (disch := first | assumption | omega | decide) only [gB, I_all, zK_v, zK_n, true_and, and_true, Nat.reduceAdd, Nat.reduceMul, Nat.reduceSub, z_lt, z_le, z_neq, not_false_eq_true, hM_all, gX7_comesTo_1, gX7_comesTo_2, S1] at this
      exact this
    · have := go σ w (by unfold sC0; rw [eI, if_neg (fun x => c2 x.2)]) W OK
      simp (disch := first | assumption | omega | decide) only [gB, I_all, zK_v, zK_n, true_and, and_true, Nat.reduceAdd, Nat.reduceMul, Nat.reduceSub, z_lt, z_le, z_neq, not_false_eq_true, hM_all, gX7_comesTo_1, gX7_comesTo_2, S1, eo, es, a0, a1, a3]
      simp (disch := first | assumption | omega | decide) only [gB, I_all, zK_v, zK_n, true_and, and_true, Nat.reduceAdd, Nat.reduceMul, Nat.reduceSub, z_lt, z_le, z_neq, not_false_eq_true, hM_all, gX7_comesTo_1, gX7_comesTo_2, S1] at this
      exact this
  · have hne : ¬ bF σ k 0 = Int32.ofNat 1 := by rw [e0, I_eq (by omega) (by omega)]; exact c1
    have := go σ w (by unfold sC0; rw [eI, if_neg (fun x => hne x.1)]) W OK
    simp (disch := first | assumption | omega | decide) only [gB, I_all, zK_v, zK_n, true_and, and_true, Nat.reduceAdd, Nat.reduceMul, Nat.reduceSub, z_lt, z_le, z_neq, not_false_eq_true, hM_all, gX7_comesTo_1, gX7_comesTo_2, S1, eo, es, a0, a1, a3]
    simp (disch := first | assumption | omega | decide) only [gB, I_all, zK_v, zK_n, true_and, and_true, Nat.reduceAdd, Nat.reduceMul, Nat.reduceSub, z_lt, z_le, z_neq, not_false_eq_true, hM_all, gX7_comesTo_1, gX7_comesTo_2, S1] at this
    exact this
end
