/-! the twin: riders board, the loop -/
theorem sBo_eq (π : Pl) (σ : Sg) (k s : Nat) (t : Int32) : (sBo π σ k s t).1 = vR (sBi σ k t ((sR σ s).take (sBo π σ k s t).2)) (zu (sR σ) s ((sR σ s).drop (sBo π σ k s t).2)) := by
  have e : ((sR σ s).take (sBo π σ k s t).2).length = (sBo π σ k s t).2 := by
    rw [List.length_take]
    exact Nat.min_eq_left (Nat.min_le_right _ _)
  unfold sBi
  rw [e]
  rfl
theorem zu_self {α : Type} (w : Nat → α) (i : Nat) : zu w i (w i) = w := by
  funext j
  unfold zu
  split
  · next h => rw [h]
  · rfl
theorem sBi_nil (σ : Sg) (k : Nat) (t : Int32) : sBi σ k t [] = σ := by
  have e1 : incs (sN σ) 3 [] = sN σ := incs_nil
  have e2 : zu (sS σ) 0 (sS σ 0 + waits t []) = sS σ := by
    rw [show sS σ 0 + waits t [] = sS σ 0 from Int64.add_zero _]
    exact zu_self _ _
  unfold sBi
  rw [e1, e2, List.map_nil, List.append_nil]
  have e3 : bF σ k 9 + Int32.ofNat ([] : List Rd).length = bF σ k 9 := Int32.add_zero _
  rw [e3]
  unfold sBs sBq
  simp only [vs, zu_eq, zu_zu]
  show vB _ (zu (sB σ) k (zu (sB σ k).1 9 ((sB σ k).1 9), (sB σ k).2)) = σ
  rw [zu_self]
  show vB _ (zu (sB σ) k (sB σ k)) = σ
  rw [zu_self]
  rfl
section
variable {κ : zC} {h : zH} {b : Nat} {w : Nat → Int32} {sm : Nat → Int64} {o : Int32} {Q : zQ} {σ : Sg} {π : Pl}
theorem sBi_R (σ : Sg) (k : Nat) (t : Int32) (l : List Rd) : sR (sBi σ k t l) = sR σ := rfl
theorem sBi_B (σ : Sg) (k : Nat) (t : Int32) (l : List Rd) : bR (sBi σ k t l) k = bR σ k ++ l.map fun r => (r.1, t, r.2.2) := by
  unfold bR sBi
  rw [sBs_eq, sBq_eq]
  rfl
theorem e7_boards {k s : Nat} {t : Int32} (S : MSh κ h b) (P : MPl h b π) (O : pOk π) (W : WAt w sm σ) (OK : sOk π σ) (hk : k < plN π 1) (hs : s < 10)
    (hq : ∀ w' sm', WAt w' sm' (sBo π σ k s t).1 → Q (.inl (some (.int (Int32.ofNat (sBo π σ k s t).2)))) (hM h b w' sm' o)) : Ev κ mX7_boards [.ref b, .int (Int32.ofNat k), .int (Int32.ofNat s), .int t] (hM h b w sm o) Q := by
  have S1 := mW S
  have S2 := mA S (87, 1, 6) (k := 7) (by decide)
  have S3 := mA S (94, 2, 2) (k := 14) (by decide)
  have hB14 : kB κ ≤ b + 14 := Nat.le_trans S.1 (by omega)
  have P7 := P.2.2.2.2.2.2.2.1 7 (by decide)
  have hk6 : k < 6 := by have := O.2.1; omega
  obtain ⟨s1, s2, s3, -⟩ := O.2.2.2.2.1 k hk
  have hrow := OK.1 s hs
  have hsm : (bR σ k).length ≤ plI π 7 k := (OK.2.2.1 k hk6).2.1 hk
  rw [sBo_eq] at hq
  have hn : (sBo π σ k s t).2 = min (plI π 7 k - (bR σ k).length) (sR σ s).length := rfl
  generalize (sBo π σ k s t).2 = n at *
  have eo := fun (w : Nat → Int32) (sm : Nat → Int64) (c : Nat) (hc : c < 13) Q => e7_of (κ := κ) (w := w) (sm := sm) (o := o) (Q := Q) (k := k) (c := c) S (by omega)
  have es := fun (w : Nat → Int32) (sm : Nat → Int64) (c : Nat) (v : Int32) (hc : c < 13) Q => e7_sets (κ := κ) (w := w) (sm := sm) (o := o) (Q := Q) (k := k) (c := c) (v := v) S (by omega)
  have ec := fun (w : Nat → Int32) (sm : Nat → Int64) (f : Nat) (hf : f < 17) Q => e7_counts (κ := κ) (w := w) (sm := sm) (o := o) (Q := Q) (f := f) (c := 3) S (by omega)
  have lp : ∀ (d i : Nat) (w : Nat → Int32) (sm : Nat → Int64) (a5 a6 : Option Value), i + d = n → WAt w sm (sBi σ k t ((sR σ s).take i)) → sOk π (sBi σ k t ((sR σ s).take i)) →
      Go κ mX7_boards 3 [some (.ref b), some (.int (Int32.ofNat k)), some (.int (Int32.ofNat s)), some (.int t), some (.int (Int32.ofNat i)), a5, a6] [] (hM h b w sm o) Q := by
    intro d
    induction d with
    | zero =>
      intro i w sm a5 a6 hi W OK1
      have hi' : i = n := by omega
      have hl : i ≤ (sR σ s).length := by omega
      have e1 : w (23 + s) = Int32.ofNat (sR σ s).length := (W.2.1 s hs).1
      have e2 : w (164 + 13 * k + 4) = Int32.ofNat ((bR σ k).length + i) := by
        rw [(W.2.2.2.1 k hk6).2.1]
        show Int32.ofNat (bR _ k).length = _
        rw [sBi_B, List.length_append, List.length_map, List.length_take, Nat.min_eq_left hl]
      have e5 := fun Q => e7_shifts (κ := κ) (sm := sm) (o := o) (Q := Q) (m := i) S hs hrow.1 hl e1
      have W1 := WAt_shift (k := i) W OK1 hs hl
      rw [sBi_R] at W1
      subst hi'
      simp (disch := first | assumption | omega | decide) only [gB, I_all, zK_v, zK_n, true_and, and_true, Nat.reduceAdd, Nat.reduceMul, Nat.reduceSub, z_lt, z_le, z_neq, not_false_eq_true, hM_all, gX7_boards_h]
      by_cases hc : i < (sR σ s).length
      · simp (disch := first | assumption | omega | decide) only [gB, I_all, zK_v, zK_n, true_and, and_true, Nat.reduceAdd, Nat.reduceMul, Nat.reduceSub, z_lt, z_le, z_neq, not_false_eq_true, hM_all, gX7_boards_1, gX7_boards_2, S1, S2, P7, e1, e2, s1, eo, e5]
        exact hq _ _ W1
      · simp (disch := first | assumption | omega | decide) only [gB, I_all, zK_v, zK_n, true_and, and_true, Nat.reduceAdd, Nat.reduceMul, Nat.reduceSub, z_lt, z_le, z_neq, not_false_eq_true, hM_all, gX7_boards_1, gX7_boards_2, S1, S2, P7, e1, e2, s1, eo, e5]
        exact hq _ _ W1
    | succ d ih =>
      intro i w sm a5 a6 hi W OK1
      have hl : i < (sR σ s).length := by omega
      have e1 : w (23 + s) = Int32.ofNat (sR σ s).length := (W.2.1 s hs).1
      have eL : (bR (sBi σ k t ((sR σ s).take i)) k).length = (bR σ k).length + i := by
        rw [sBi_B, List.length_append, List.length_map, List.length_take, Nat.min_eq_left (by omega)]
      have e2 : w (164 + 13 * k + 4) = Int32.ofNat ((bR σ k).length + i) := by
        rw [(W.2.2.2.1 k hk6).2.1]
        show Int32.ofNat (bR _ k).length = _
        rw [eL]
      have g1 : (sR σ s)[i]? = some (sR σ s)[i] := List.getElem?_eq_getElem hl
      obtain ⟨q1, q2, q3⟩ := (W.2.1 s hs).2 i _ g1
      have hr := hrow.2 _ (List.getElem_mem hl)
      generalize (sR σ s)[i] = r at g1 q1 q2 q3 hr
      have et : (sR σ s).take (i + 1) = (sR σ s).take i ++ [r] := by rw [List.take_add_one, g1]; rfl
      have W1 := fun w' e1 e2 e3 e4 e5 e6 e7 => WAt_b1 (w' := w') (t := t) (r := r) W OK1 hk6 hr.2 (by omega) e1 e2 e3 e4 e5 e6 e7
      have O1 := sOk_b1 (t := t) (r := r) OK1 hk6 (by omega) s3 hr
      rw [sBi_snoc, ← et] at O1
      rw [eL, sBi_snoc, ← et] at W1
      simp (disch := first | assumption | omega | decide) only [gB, I_all, zK_v, zK_n, true_and, and_true, Nat.reduceAdd, Nat.reduceMul, Nat.reduceSub, z_lt, z_le, z_neq, not_false_eq_true, hM_all, gX7_boards_h]
      simp (disch := first | assumption | omega | decide) only [gB, I_all, zK_v, zK_n, true_and, and_true, Nat.reduceAdd, Nat.reduceMul, Nat.reduceSub, z_lt, z_le, z_neq, not_false_eq_true, hM_all, gX7_boards_1, gX7_boards_2, S1, S2, S3, hB14, P7, e1, e2, s1, eo, es, ec, e7_riderAt, e7_seatAt, q1, q2, q3, zu_nx, zu_at]
      refine ih (i + 1) _ _ _ _ (by omega) (W1 _ ?_ ?_ ?_ ?_ ?_ ?_ ?_) O1
      · simp (disch := omega) only [zu_at, zu_nx]
      · simp (disch := omega) only [zu_at, zu_nx]
      · simp (disch := omega) only [zu_at, zu_nx]
      · simp (disch := omega) only [zu_at, zu_nx]
      · simp (disch := omega) only [zu_at, zu_nx]
      · simp (disch := omega) only [zu_at, zu_nx]
      · intro j h1 h2 h3 h4
        simp (disch := omega) only [zu_nx]
  have e0 : sBi σ k t ((sR σ s).take 0) = σ := by rw [List.take_zero]; exact sBi_nil σ k t
  have := lp n 0 w sm none none (by omega) (by rw [e0]; exact W) (by rw [e0]; exact OK)
  simp (disch := first | assumption | omega | decide) only [gB, I_all, zK_v, zK_n, true_and, and_true, Nat.reduceAdd, Nat.reduceMul, Nat.reduceSub, z_lt, z_le, z_neq, not_false_eq_true, hM_all, gX7_boards_1, gX7_boards_2]
  exact this
end
