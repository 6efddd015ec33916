/-! the twin: how long a bus is wanted to stay -/
section
variable {κ : zC} {h : zH} {b : Nat} {w : Nat → Int32} {sm : Nat → Int64} {o : Int32} {Q : zQ} {σ : Sg} {π : Pl}
theorem e7_wanted {k : Nat} {m t : Int32} (S : MSh κ h b) (P : MPl h b π) (O : pOk π) (W : WAt w sm σ) (OK : sOk π σ) (hk : k < plN π 1) :
    Ev κ mX7_wanted [.ref b, .int (Int32.ofNat k), .int m, .int t] (hM h b w sm o) Q = Q (.inl (some (.int (wantd π σ k m t)))) (hM h b w sm o) := by
  have S1 := mW S
  have S2 := mA S (88, 1, 6) (k := 8) (by decide)
  have S3 := mA S (85, 1, 10) (k := 5) (by decide)
  have P8 := P.2.2.2.2.2.2.2.1 8 (by decide)
  have P5 := P.2.2.2.2.2.2.1 5 (by decide)
  have hnb := O.2.1.2
  have hns := O.1.2
  obtain ⟨sk, s, -, hs, -, es⟩ := bst OK hk (by omega)
  have eI : bI σ k 1 = s := bI_of (by omega) es
  have wF : ∀ b c, b < 6 → c ∈ bKs → w (164 + 13 * b + c) = bF σ b c := fun b c hb hc => (W.2.2.2.1 b hb).1 c hc
  have eo := fun (k c : Nat) (hk : k < 6) (hc : c < 13) Q => e7_of (κ := κ) (w := w) (sm := sm) (o := o) (Q := Q) (k := k) (c := c) S (by omega)
  have eu := fun Q => e7_untilNext (κ := κ) (sm := sm) (o := o) (Q := Q) (t := t) S P O W OK hk
  have es1 : w (164 + 13 * k + 1) = Int32.ofNat s := (wF k 1 (by omega) (by decide)).trans es
  have es3 : w (164 + 13 * k + 3) = bF σ k 3 := wF k 3 (by omega) (by decide)
  have eL : w (33 + s) = sN σ (33 + s) := W.1 _ (by unfold nat1; omega)
  have e2 : w 2 = sN σ 2 := W.1 _ (by unfold nat1; omega)
  have e5 : w 5 = sN σ 5 := W.1 _ (by unfold nat1; omega)
  have ex : wantd π σ k m t = (if m = Int32.ofNat 1 ∧ Int32.ofNat 0 ≤ sN σ (33 + s) then sN σ (33 + s) + sN σ 2 - t else if m = Int32.ofNat 2 then plT π 8 k + bF σ k 3 * sN σ 5 + plT π 5 s - t
      else if (if m = Int32.ofNat 3 ∧ Int32.ofNat 0 ≤ sN σ (33 + s) then untl π σ k t (plN π 1) else Int32.ofInt (-2)) < Int32.ofNat 0 then Int32.ofNat 0
      else if (if m = Int32.ofNat 3 ∧ Int32.ofNat 0 ≤ sN σ (33 + s) then untl π σ k t (plN π 1) else Int32.ofInt (-2)) - (t - sN σ (33 + s)) ≤ Int32.ofNat 0 then Int32.ofNat 0 else ((if m = Int32.ofNat 3 ∧ Int32.ofNat 0 ≤ sN σ (33 + s) then untl π σ k t (plN π 1) else Int32.ofInt (-2)) - (t - sN σ (33 + s))) / Int32.ofNat 2) := by
    unfold wantd
    rw [eI]
  rw [ex]
  generalize sN σ (33 + s) = left at *
  generalize untl π σ k t (plN π 1) = u at *
  have d2 : Int32.ofInt (-2) < Int32.ofNat 0 := by decide
  by_cases hl : left < Int32.ofNat 0
  · have hl' : ¬ Int32.ofNat 0 ≤ left := Int32.not_le.mpr hl
    rw [if_neg (fun x => hl' x.2 : ¬ (m = Int32.ofNat 1 ∧ Int32.ofNat 0 ≤ left)), if_neg (fun x => hl' x.2 : ¬ (m = Int32.ofNat 3 ∧ Int32.ofNat 0 ≤ left)), if_pos d2]
    by_cases m2 : m = Int32.ofNat 2
    · rw [if_pos m2]
      subst m2
      simp (disch := first | assumption | omega | decide) only [gB, I_all, zK_v, zK_n, true_and, and_true, Nat.reduceAdd, Nat.reduceMul, Nat.reduceSub, z_lt, z_le, z_neq, not_false_eq_true, hM_all, gX7_wanted, S1, S2, S3, P8, P5, eo, es1, es3, eL, e2, e5]
    · rw [if_neg m2]
      by_cases m1 : m = Int32.ofNat 1
      · subst m1
        simp (disch := first | assumption | omega | decide) only [gB, I_all, zK_v, zK_n, true_and, and_true, Nat.reduceAdd, Nat.reduceMul, Nat.reduceSub, z_lt, z_le, z_neq, not_false_eq_true, hM_all, gX7_wanted, S1, eo, es1, es3, eL, e2, e5]
      · by_cases m3 : m = Int32.ofNat 3
        · subst m3
          simp (disch := first | assumption | omega | decide) only [gB, I_all, zK_v, zK_n, true_and, and_true, Nat.reduceAdd, Nat.reduceMul, Nat.reduceSub, z_lt, z_le, z_neq, not_false_eq_true, hM_all, gX7_wanted, S1, eo, es1, es3, eL, e2, e5]
        · simp (disch := first | assumption | omega | decide) only [gB, I_all, zK_v, zK_n, true_and, and_true, Nat.reduceAdd, Nat.reduceMul, Nat.reduceSub, z_lt, z_le, z_neq, not_false_eq_true, hM_all, gX7_wanted, S1, eo, es1, es3, eL, e2, e5]
  · have hl' : Int32.ofNat 0 ≤ left := Int32.not_lt.mp hl
    by_cases m1 : m = Int32.ofNat 1
    · rw [if_pos (⟨m1, hl'⟩ : m = Int32.ofNat 1 ∧ Int32.ofNat 0 ≤ left)]
      subst m1
      simp (disch := first | assumption | omega | decide) only [gB, I_all, zK_v, zK_n, true_and, and_true, Nat.reduceAdd, Nat.reduceMul, Nat.reduceSub, z_lt, z_le, z_neq, not_false_eq_true, hM_all, gX7_wanted, S1, eo, es1, es3, eL, e2, e5]
    · rw [if_neg (fun x => m1 x.1 : ¬ (m = Int32.ofNat 1 ∧ Int32.ofNat 0 ≤ left))]
      by_cases m2 : m = Int32.ofNat 2
      · rw [if_pos m2]
        subst m2
        simp (disch := first | assumption | omega | decide) only [gB, I_all, zK_v, zK_n, true_and, and_true, Nat.reduceAdd, Nat.reduceMul, Nat.reduceSub, z_lt, z_le, z_neq, not_false_eq_true, hM_all, gX7_wanted, S1, S2, S3, P8, P5, eo, es1, es3, eL, e2, e5]
      · rw [if_neg m2]
        by_cases m3 : m = Int32.ofNat 3
        · rw [if_pos (⟨m3, hl'⟩ : m = Int32.ofNat 3 ∧ Int32.ofNat 0 ≤ left)]
          subst m3
          by_cases u0 : u < Int32.ofNat 0
          · have u0' : ¬ Int32.ofNat 0 ≤ u := Int32.not_le.mpr u0
            rw [if_pos u0]
            simp (disch := first | assumption | omega | decide) only [gB, I_all, zK_v, zK_n, true_and, and_true, Nat.reduceAdd, Nat.reduceMul, Nat.reduceSub, z_lt, z_le, z_neq, not_false_eq_true, hM_all, gX7_wanted, S1, eo, es1, es3, eL, e2, e5, eu]
          · have u0' : Int32.ofNat 0 ≤ u := Int32.not_lt.mp u0
            rw [if_neg u0]
            by_cases v0 : u - (t - left) ≤ Int32.ofNat 0
            · have v0' : ¬ Int32.ofNat 0 < u - (t - left) := Int32.not_lt.mpr v0
              rw [if_pos v0]
              simp (disch := first | assumption | omega | decide) only [gB, I_all, zK_v, zK_n, true_and, and_true, Nat.reduceAdd, Nat.reduceMul, Nat.reduceSub, z_lt, z_le, z_neq, not_false_eq_true, hM_all, gX7_wanted, S1, eo, es1, es3, eL, e2, e5, eu]
            · have v0' : Int32.ofNat 0 < u - (t - left) := Int32.not_le.mp v0
              rw [if_neg v0]
              simp (disch := first | assumption | omega | decide) only [gB, I_all, zK_v, zK_n, true_and, and_true, Nat.reduceAdd, Nat.reduceMul, Nat.reduceSub, z_lt, z_le, z_neq, not_false_eq_true, hM_all, gX7_wanted, S1, eo, es1, es3, eL, e2, e5, eu]
        · rw [if_neg (fun x => m3 x.1 : ¬ (m = Int32.ofNat 3 ∧ Int32.ofNat 0 ≤ left)), if_pos d2]
          simp (disch := first | assumption | omega | decide) only [gB, I_all, zK_v, zK_n, true_and, and_true, Nat.reduceAdd, Nat.reduceMul, Nat.reduceSub, z_lt, z_le, z_neq, not_false_eq_true, hM_all, gX7_wanted, S1, eo, es1, es3, eL, e2, e5]
theorem e7_heldBy {k : Nat} {m t : Int32} (S : MSh κ h b) (P : MPl h b π) (O : pOk π) (W : WAt w sm σ) (OK : sOk π σ) (hk : k < plN π 1) :
    Ev κ mX7_heldBy [.ref b, .int (Int32.ofNat k), .int m, .int t] (hM h b w sm o) Q = Q (.inl (some (.int (heldB π σ k m t)))) (hM h b w sm o) := by
  have S1 := mW S
  have eu := fun Q => e7_wanted (κ := κ) (sm := sm) (o := o) (Q := Q) (m := m) (t := t) S P O W OK hk
  have e3 : w 3 = sN σ 3 := W.1 _ (by unfold nat1; omega)
  unfold heldB
  dsimp only
  generalize wantd π σ k m t = u at *
  by_cases u0 : u ≤ Int32.ofNat 0
  · have u0' : ¬ Int32.ofNat 0 < u := Int32.not_lt.mpr u0
    rw [if_pos u0]
    simp (disch := first | assumption | omega | decide) only [gB, I_all, zK_v, zK_n, true_and, and_true, Nat.reduceAdd, Nat.reduceMul, Nat.reduceSub, z_lt, z_le, z_neq, not_false_eq_true, hM_all, gX7_heldBy, S1, eu, e3]
  · have u0' : Int32.ofNat 0 < u := Int32.not_le.mp u0
    rw [if_neg u0]
    by_cases v0 : sN σ 3 < u
    · have v0' : ¬ u ≤ sN σ 3 := Int32.not_le.mpr v0
      rw [if_pos v0]
      simp (disch := first | assumption | omega | decide) only [gB, I_all, zK_v, zK_n, true_and, and_true, Nat.reduceAdd, Nat.reduceMul, Nat.reduceSub, z_lt, z_le, z_neq, not_false_eq_true, hM_all, gX7_heldBy, S1, eu, e3]
    · have v0' : u ≤ sN σ 3 := Int32.not_lt.mp v0
      rw [if_neg v0]
      simp (disch := first | assumption | omega | decide) only [gB, I_all, zK_v, zK_n, true_and, and_true, Nat.reduceAdd, Nat.reduceMul, Nat.reduceSub, z_lt, z_le, z_neq, not_false_eq_true, hM_all, gX7_heldBy, S1, eu, e3]
end
