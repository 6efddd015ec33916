/-! the twin: how long until the next bus -/
theorem nxt_lt {π : Pl} {s : Nat} (hs : s < plN π 0) : nxt π s < plN π 0 := by
  unfold nxt
  split <;> omega
section
variable {κ : zC} {h : zH} {b : Nat} {w : Nat → Int32} {sm : Nat → Int64} {o : Int32} {Q : zQ} {σ : Sg} {π : Pl}
theorem bst {k : Nat} (OK : sOk π σ) (hk : k < plN π 1) (h6 : k < 6) : ∃ st s, st < 4 ∧ s < plN π 0 ∧ bF σ k 0 = Int32.ofNat st ∧ bF σ k 1 = Int32.ofNat s := by
  obtain ⟨-, -, -, ⟨st, q1, q2⟩, s, q3, q4⟩ := OK.2.2.1 k h6
  refine ⟨st, s, q1, ?_, q2, q4⟩
  omega
theorem e7_untilNext {k : Nat} {t : Int32} (S : MSh κ h b) (P : MPl h b π) (O : pOk π) (W : WAt w sm σ) (OK : sOk π σ) (hk : k < plN π 1) :
    Ev κ mX7_untilNext [.ref b, .int (Int32.ofNat k), .int t] (hM h b w sm o) Q = Q (.inl (some (.int (untl π σ k t (plN π 1))))) (hM h b w sm o) := by
  have S1 := mW S
  have S2 := mA S (84, 1, 10) (k := 4) (by decide)
  have P2 := P.2.1
  have P4 := P.2.2.2.2.2.2.1 4 (by decide)
  have hnb := O.2.1.2
  have hns := O.1.2
  obtain ⟨sk, s, -, hs, -, es⟩ := bst OK hk (by omega)
  have eI : bI σ k 1 = s := bI_of (by omega) es
  have wF : ∀ b c, b < 6 → c ∈ bKs → w (164 + 13 * b + c) = bF σ b c := fun b c hb hc => (W.2.2.2.1 b hb).1 c hc
  have eo := fun (k c : Nat) (hk : k < 6) (hc : c < 13) Q => e7_of (κ := κ) (w := w) (sm := sm) (o := o) (Q := Q) (k := k) (c := c) S (by omega)
  have eb := fun (s : Nat) (hs : s < plN π 0) Q => e7_behind (κ := κ) (w := w) (sm := sm) (o := o) (Q := Q) S P O hs
  have ew := fun (s to : Nat) (hs : s < plN π 0) (ht : to < plN π 0) Q => e7_way (κ := κ) (w := w) (sm := sm) (o := o) (Q := Q) S P O hs ht
  have es1 : w (164 + 13 * k + 1) = Int32.ofNat s := (wF k 1 (by omega) (by decide)).trans es
  have lp : ∀ (d i : Nat) (a6 a7 : Option Value), i + d = plN π 1 → Go κ mX7_untilNext 14 [some (.ref b), some (.int (Int32.ofNat k)), some (.int t), some (.int (Int32.ofNat s)), some (.int (untl π σ k t i)), some (.int (Int32.ofNat i)), a6, a7] [] (hM h b w sm o) Q = Q (.inl (some (.int (untl π σ k t (plN π 1))))) (hM h b w sm o) := by
    intro d
    induction d with
    | zero =>
      intro i a6 a7 hi
      have hi' : i = plN π 1 := by omega
      simp (disch := first | assumption | omega | decide) only [gB, I_all, zK_v, zK_n, true_and, and_true, Nat.reduceAdd, Nat.reduceMul, Nat.reduceSub, z_lt, z_le, z_neq, not_false_eq_true, hM_all, gX7_untilNext_h]
      simp (disch := first | assumption | omega | decide) only [gB, I_all, zK_v, zK_n, true_and, and_true, Nat.reduceAdd, Nat.reduceMul, Nat.reduceSub, z_lt, z_le, z_neq, not_false_eq_true, hM_all, gX7_untilNext, S1, P2]
      rw [hi']
    | succ d ih =>
      intro i a6 a7 hi
      have hi1 : i < plN π 1 := by omega
      have hi6 : i < 6 := by omega
      have ih' := fun a6 a7 => ih (i + 1) a6 a7 (by omega)
      obtain ⟨st, s', h4, hs', e0, e1⟩ := bst OK hi1 hi6
      have eI0 : bI σ i 0 = st := bI_of (by omega) e0
      have eI1 : bI σ i 1 = s' := bI_of (by omega) e1
      have ew0 : w (164 + 13 * i + 0) = Int32.ofNat st := (wF i 0 hi6 (by decide)).trans e0
      have ew1 : w (164 + 13 * i + 1) = Int32.ofNat s' := (wF i 1 hi6 (by decide)).trans e1
      have ew2 : w (164 + 13 * i + 2) = bF σ i 2 := wF i 2 hi6 (by decide)
      have ea := fun Q => e7_isAt (κ := κ) (w := w) (sm := sm) (o := o) (Q := Q) S hi6 h4 ew0
      have ex : untl π σ k t (i + 1) = (if i = k ∨ st = 0 then untl π σ k t i else if untl π σ k t i < Int32.ofNat 0 ∨ bF σ i 2 + (if 2 ≤ st ∧ s' = s then plT π 4 s + way π (nxt π s) s else way π s' s) - t < untl π σ k t i then bF σ i 2 + (if 2 ≤ st ∧ s' = s then plT π 4 s + way π (nxt π s) s else way π s' s) - t else untl π σ k t i) := by
        conv => lhs; unfold untl
        unfold isAt
        simp only [eI, eI0, eI1, decide_eq_true_eq]
      generalize untl π σ k t i = best at *
      rw [ex] at ih'
      simp (disch := first | assumption | omega | decide) only [gB, I_all, zK_v, zK_n, true_and, and_true, Nat.reduceAdd, Nat.reduceMul, Nat.reduceSub, z_lt, z_le, z_neq, not_false_eq_true, hM_all, gX7_untilNext_h]
      by_cases c1 : i = k
      · rw [if_pos (Or.inl c1)] at ih'
        simp (disch := first | assumption | omega | decide) only [gB, I_all, zK_v, zK_n, true_and, and_true, Nat.reduceAdd, Nat.reduceMul, Nat.reduceSub, z_lt, z_le, z_neq, not_false_eq_true, hM_all, gX7_untilNext, S1, P2]
        exact ih' _ _
      by_cases c2 : st = 0
      · rw [if_pos (Or.inr c2)] at ih'
        simp (disch := first | assumption | omega | decide) only [gB, I_all, zK_v, zK_n, true_and, and_true, Nat.reduceAdd, Nat.reduceMul, Nat.reduceSub, z_lt, z_le, z_neq, not_false_eq_true, hM_all, gX7_untilNext, S1, P2, eo, ew0]
        exact ih' _ _
      rw [if_neg (by omega)] at ih'
      have dn := nxt_lt (π := π) hs
      by_cases c3 : 2 ≤ st
      · rw [if_pos c3] at ea
        by_cases c4 : s' = s
        · rw [if_pos (⟨c3, c4⟩ : 2 ≤ st ∧ s' = s)] at ih'
          by_cases c5 : best < Int32.ofNat 0
          · rw [if_pos (Or.inl c5)] at ih'
            simp (disch := first | assumption | omega | decide) only [gB, I_all, zK_v, zK_n, true_and, and_true, Nat.reduceAdd, Nat.reduceMul, Nat.reduceSub, z_lt, z_le, z_neq, not_false_eq_true, hM_all, gX7_untilNext, S1, S2, P2, P4, eo, ew0, ew1, ew2, ea, eb, ew]
            exact ih' _ _
          · by_cases c6 : bF σ i 2 + (plT π 4 s + way π (nxt π s) s) - t < best
            · have c7 := Int32.not_le.mpr c6
              rw [if_pos (Or.inr c6)] at ih'
              simp (disch := first | assumption | omega | decide) only [gB, I_all, zK_v, zK_n, true_and, and_true, Nat.reduceAdd, Nat.reduceMul, Nat.reduceSub, z_lt, z_le, z_neq, not_false_eq_true, hM_all, gX7_untilNext, S1, S2, P2, P4, eo, ew0, ew1, ew2, ea, eb, ew]
              exact ih' _ _
            · have c7 := Int32.not_lt.mp c6
              rw [if_neg (fun x => x.elim c5 c6)] at ih'
              simp (disch := first | assumption | omega | decide) only [gB, I_all, zK_v, zK_n, true_and, and_true, Nat.reduceAdd, Nat.reduceMul, Nat.reduceSub, z_lt, z_le, z_neq, not_false_eq_true, hM_all, gX7_untilNext, S1, S2, P2, P4, eo, ew0, ew1, ew2, ea, eb, ew]
              exact ih' _ _
        · rw [if_neg (fun x => c4 x.2 : ¬ (2 ≤ st ∧ s' = s))] at ih'
          by_cases c5 : best < Int32.ofNat 0
          · rw [if_pos (Or.inl c5)] at ih'
            simp (disch := first | assumption | omega | decide) only [gB, I_all, zK_v, zK_n, true_and, and_true, Nat.reduceAdd, Nat.reduceMul, Nat.reduceSub, z_lt, z_le, z_neq, not_false_eq_true, hM_all, gX7_untilNext, S1, S2, P2, P4, eo, ew0, ew1, ew2, ea, eb, ew]
            exact ih' _ _
          · by_cases c6 : bF σ i 2 + way π s' s - t < best
            · have c7 := Int32.not_le.mpr c6
              rw [if_pos (Or.inr c6)] at ih'
              simp (disch := first | assumption | omega | decide) only [gB, I_all, zK_v, zK_n, true_and, and_true, Nat.reduceAdd, Nat.reduceMul, Nat.reduceSub, z_lt, z_le, z_neq, not_false_eq_true, hM_all, gX7_untilNext, S1, S2, P2, P4, eo, ew0, ew1, ew2, ea, eb, ew]
              exact ih' _ _
            · have c7 := Int32.not_lt.mp c6
              rw [if_neg (fun x => x.elim c5 c6)] at ih'
              simp (disch := first | assumption | omega | decide) only [gB, I_all, zK_v, zK_n, true_and, and_true, Nat.reduceAdd, Nat.reduceMul, Nat.reduceSub, z_lt, z_le, z_neq, not_false_eq_true, hM_all, gX7_untilNext, S1, S2, P2, P4, eo, ew0, ew1, ew2, ea, eb, ew]
              exact ih' _ _
      · rw [if_neg c3] at ea
        rw [if_neg (fun x => c3 x.1 : ¬ (2 ≤ st ∧ s' = s))] at ih'
        by_cases c5 : best < Int32.ofNat 0
        · rw [if_pos (Or.inl c5)] at ih'
          simp (disch := first | assumption | omega | decide) only [gB, I_all, zK_v, zK_n, true_and, and_true, Nat.reduceAdd, Nat.reduceMul, Nat.reduceSub, z_lt, z_le, z_neq, not_false_eq_true, hM_all, gX7_untilNext, S1, S2, P2, P4, eo, ew0, ew1, ew2, ea, eb, ew]
          exact ih' _ _
        · by_cases c6 : bF σ i 2 + way π s' s - t < best
          · have c7 := Int32.not_le.mpr c6
            rw [if_pos (Or.inr c6)] at ih'
            simp (disch := first | assumption | omega | decide) only [gB, I_all, zK_v, zK_n, true_and, and_true, Nat.reduceAdd, Nat.reduceMul, Nat.reduceSub, z_lt, z_le, z_neq, not_false_eq_true, hM_all, gX7_untilNext, S1, S2, P2, P4, eo, ew0, ew1, ew2, ea, eb, ew]
            exact ih' _ _
          · have c7 := Int32.not_lt.mp c6
            rw [if_neg (fun x => x.elim c5 c6)] at ih'
            simp (disch := first | assumption | omega | decide) only [gB, I_all, zK_v, zK_n, true_and, and_true, Nat.reduceAdd, Nat.reduceMul, Nat.reduceSub, z_lt, z_le, z_neq, not_false_eq_true, hM_all, gX7_untilNext, S1, S2, P2, P4, eo, ew0, ew1, ew2, ea, eb, ew]
            exact ih' _ _
  have := lp (plN π 1) 0 none none (by omega)
  have e0 : untl π σ k t 0 = Int32.ofInt (-2) := rfl
  rw [e0] at this
  simp (disch := first | assumption | omega | decide) only [gB, I_all, zK_v, zK_n, true_and, and_true, Nat.reduceAdd, Nat.reduceMul, Nat.reduceSub, z_lt, z_le, z_neq, not_false_eq_true, hM_all, gX7_untilNext, S1, eo, es1]
  exact this
end
