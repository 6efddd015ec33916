/-! the twin: load, the walk -/
section
variable {κ : zC} {h : zH} {b : Nat} {W : Nat → Nat → Int32} {SM : Nat → Nat → Int64} {Q : zQ} {Y : Sy}
theorem AcS.ra {W W' : Nat → Nat → Int32} {acc : List Sto} (A : AcS W acc) (e : ∀ k j, 23 ≤ k → k ≤ 26 → W' k j = W k j) : AcS W' acc := A.cg e
theorem TIn_Z {W : Nat → Nat → Int32} {SM : Nat → Nat → Int64} {q : Nat × List Flo} (hp : pzF (yT Y) = .ok q) (AS : AcS W (pzL (yT Y))) (AB : AcB W (pzM (yT Y))) (AF : AcF W q.2) (AN : ∀ k, k < 8 → W 22 k = nuV (yT Y) 0 k)
    (h1 : W 0 111 = Int32.ofNat (pzL (yT Y)).length) (h2 : W 0 112 = Int32.ofNat (pzM (yT Y)).length) (h3 : W 0 113 = Int32.ofNat q.2.length) (h73 : W 0 73 = Int32.ofNat 0) (h74 : W 0 74 = Int32.ofInt (-2)) :
    TIn (clW (bcZ W (pzL (yT Y)).length (pzM (yT Y)).length q.2.length) (pzL (yT Y)).length (pzM (yT Y)).length q.2.length) (clS SM) (plZ (nuV (yT Y) 0) (pzL (yT Y)) (pzM (yT Y)) q.2, yM Y, stZ (nuV (yT Y) 0) (pzL (yT Y)) (pzM (yT Y)) q.2, [], fun _ => none, [], Int32.ofInt (-2)) := by
  obtain ⟨oS, oB, oF, oN⟩ := pzF_ok hp
  generalize yT Y = tp at *
  generalize pzL tp = S at *
  generalize pzM tp = B at *
  obtain ⟨q1, Fl⟩ := q
  have AF : AcF W Fl := AF
  have oF : flosOk S.length Fl := oF
  have h3 : W 0 113 = Int32.ofNat Fl.length := h3
  show TIn (clW (bcZ W S.length B.length Fl.length) S.length B.length Fl.length) (clS SM) (plZ (nuV tp 0) S B Fl, yM Y, stZ (nuV tp 0) S B Fl, [], fun _ => none, [], Int32.ofInt (-2))
  have z0 : ∀ j, j ≠ 102 → clW (bcZ W S.length B.length Fl.length) S.length B.length Fl.length 0 j = bcA W 0 j := fun j hj => by rw [clW_o (by decide) (by omega) (by omega), bcZ_s (by omega)]
  refine ⟨⟨?_, ?_, ?_, ?_, ?_, ?_, fun t ht j hj => ?_, fun t ht j hj => ?_, fun t ht j hj => ?_⟩, ⟨WAt_Z oS.1.1 oB.1.1 oF.1 AS AB AF AN, sOk_Z oS oB⟩, ⟨?_, Nat.zero_le _, fun i σ hi => by cases hi⟩, fun i hi => Or.inl ⟨rfl, ?_⟩, ⟨Nat.zero_le _, ?_, fun i x hi => by cases hi⟩, ?_, pOk_Z oS oB oF oN⟩
  · rw [z0 _ (by decide), bcA_0]; exact h1
  · rw [z0 _ (by decide), bcA_0]; exact h2
  · rw [z0 _ (by decide), bcA_0]; exact h3
  · rw [z0 _ (by decide), bcA_0]; exact AN 0 (by decide)
  · rw [z0 _ (by decide), bcA_0]; exact AN 1 (by decide)
  · rw [z0 _ (by decide), bcA_0]; exact AN 2 (by decide)
  · have hj : j < S.length := hj
    have ht' : t = 3 ∨ t = 4 ∨ t = 5 := by simpa using ht
    rw [clW_o (by omega) (by omega) (by omega), bcZ_3 (by omega) hj]
    rcases ht' with rfl | rfl | rfl
    · exact gtV hj fun x hx => (AS.1 _ _ hx).1
    · exact gtV hj fun x hx => (AS.1 _ _ hx).2.1
    · exact gtV hj fun x hx => (AS.1 _ _ hx).2.2.1
  · have hj : j < B.length := hj
    have ht' : t = 7 ∨ t = 8 := by simpa using ht
    rw [clW_o (by omega) (by omega) (by omega), bcZ_7 (by omega) hj]
    rcases ht' with rfl | rfl
    · exact gtV hj fun x hx => (AB _ _ hx).1
    · exact gtV hj fun x hx => (AB _ _ hx).2
  · have hj : j < Fl.length := hj
    have ht' : t = 9 ∨ t = 10 ∨ t = 11 ∨ t = 12 := by simpa using ht
    rw [clW_o (by omega) (by omega) (by omega), bcZ_9 (by omega) hj]
    rcases ht' with rfl | rfl | rfl | rfl
    · exact gtV hj fun x hx => (AF _ _ hx).1
    · exact gtV hj fun x hx => (AF _ _ hx).2.1
    · exact gtV hj fun x hx => (AF _ _ hx).2.2.1
    · exact gtV hj fun x hx => (AF _ _ hx).2.2.2
  · exact zv_at rfl rfl
  · unfold clW
    rw [zv_nx (by omega)]
    by_cases h : i = 1
    · rw [zv_at rfl h]
    · rw [zv_nx (by omega), zv_at rfl (by omega)]
  · rw [z0 _ (by decide), bcA_0]; exact h73
  · rw [z0 _ (by decide), bcA_0]; exact h74
theorem e7_load (S : TSh κ h b) (T : TIn W SM Y) (hq : ∀ W' SM', TIn W' SM' (yLo Y).2 → Q (.inl (some (.int (yLo Y).1))) (hX h b 33 W' SM')) : Ev κ mX7_load [.ref b] (hX h b 33 W SM) Q := by
  have F := xF S
  have R := xR S
  have hB : kB κ ≤ b := S.1.1
  have T5 := T.2.2.2.2.1
  have z1 : zFit .boolean (Value.int (Int32.ofNat 1)) = true := by decide
  have U0 : ∀ (W0 : Nat → Nat → Int32) v0 v1 v2 v3 v4 v5, W0 = zv (zv (zv (zv (zv (zv W 0 74 v0) 0 110 v1) 0 104 v2) 0 111 v3) 0 112 v4) 0 113 v5 → PzA W W0 SM SM := fun W0 v0 v1 v2 v3 v4 v5 e => ⟨fun k j h1 h2 => by
    rw [e, zv_nx (by omega), zv_nx (by omega), zv_nx (by omega), zv_nx (by omega), zv_nx (by omega), zv_nx (by omega)], fun _ _ _ => rfl⟩
  have U1 := U0 _ (Int32.ofInt (-2)) (Int32.ofNat 1) (Int32.ofNat 0) (Int32.ofNat 0) (Int32.ofNat 0) (Int32.ofNat 0) rfl
  simp (disch := first | assumption | omega | decide) only [gB, I_all, zK_v, zK_n, true_and, and_true, Nat.reduceAdd, Nat.reduceMul, Nat.reduceSub, z_lt, z_le, z_neq, not_false_eq_true, or_true, true_or, or_false, false_or, false_and, and_false, gX7_load, F, R, z1]
  refine e7_readAll S (T5.ra U1) ?_ ?_ ?_ ?_ ?_ ?_ fun W1 SM1 U2 P1 A1 => ?_
  · rw [zv_nx (by omega), zv_nx (by omega), zv_nx (by omega), zv_at rfl rfl]
  · rw [zv_nx (by omega), zv_nx (by omega), zv_nx (by omega), zv_nx (by omega), zv_at rfl rfl]
  · rw [zv_nx (by omega), zv_nx (by omega), zv_nx (by omega), zv_nx (by omega), zv_nx (by omega), zv_at rfl rfl]
  · rw [zv_nx (by omega), zv_nx (by omega), zv_at rfl rfl]
  · rw [zv_nx (by omega), zv_at rfl rfl]
  · rw [zv_at rfl rfl]
  · have U := U1.trans U2
    unfold yLo at hq
    cases hp : pzF (yT Y) with
    | error e =>
      rw [hp, ePos_r] at P1
      obtain ⟨p1, p2⟩ := P1
      rw [hp] at hq
      have f := hq _ _ (TIn_e T U p2)
      simp (disch := first | assumption | omega | decide) only [gB, I_all, zK_v, zK_n, true_and, and_true, Nat.reduceAdd, Nat.reduceMul, Nat.reduceSub, z_lt, z_le, z_neq, not_false_eq_true, or_true, true_or, or_false, false_or, false_and, and_false, gX7_load, F, R, zv_nx, p1]
      exact f
    | ok q =>
      rw [hp, ePos_o] at P1
      obtain ⟨-, p1, p2⟩ := P1
      rw [hp] at hq
      obtain ⟨⟨aS, aS1, aS2⟩, ⟨aB, aB1, aB2⟩, ⟨aF, aF1, aF2⟩, aN⟩ := A1 q hp
      have n0 : ∀ k j, ¬ (k = 0 ∧ j = 73) → zv W1 0 73 (Int32.ofNat 0) k j = W1 k j := fun k j h => zv_nx h
      have aS' : AcS (zv W1 0 73 (Int32.ofNat 0)) (pzL (yT Y)) := aS.cg fun k j _ _ => n0 _ _ (by omega)
      have aB' : AcB (zv W1 0 73 (Int32.ofNat 0)) (pzM (yT Y)) := fun k st h => ⟨(n0 _ _ (by omega)).trans (aB k st h).1, (n0 _ _ (by omega)).trans (aB k st h).2⟩
      have aF' : AcF (zv W1 0 73 (Int32.ofNat 0)) q.2 := fun k st h => ⟨(n0 _ _ (by omega)).trans (aF k st h).1, (n0 _ _ (by omega)).trans (aF k st h).2.1, (n0 _ _ (by omega)).trans (aF k st h).2.2.1, (n0 _ _ (by omega)).trans (aF k st h).2.2.2⟩
      have aN' : ∀ k, k < 8 → zv W1 0 73 (Int32.ofNat 0) 22 k = nuV (yT Y) 0 k := fun k hk => (n0 _ _ (by omega)).trans (aN k hk)
      have tz := TIn_Z (Y := Y) (SM := SM1) hp aS' aB' aF' aN' ((n0 _ _ (by omega)).trans aS1) ((n0 _ _ (by omega)).trans aB1) ((n0 _ _ (by omega)).trans aF1) (zv_at rfl rfl) ((n0 _ _ (by omega)).trans p2)
      have eb := e7_becomes (κ := κ) (Q := Q) (W := zv W1 0 73 (Int32.ofNat 0)) (SM := SM1) S ((n0 _ _ (by omega)).trans aS1) ((n0 _ _ (by omega)).trans aB1) ((n0 _ _ (by omega)).trans aF1) aS2 aB2 aF2
      have eb' := fun (Q : zQ) => e7_becomes (κ := κ) (Q := Q) (W := zv W1 0 73 (Int32.ofNat 0)) (SM := SM1) S ((n0 _ _ (by omega)).trans aS1) ((n0 _ _ (by omega)).trans aB1) ((n0 _ _ (by omega)).trans aF1) aS2 aB2 aF2
      have b0 : bcZ (zv W1 0 73 (Int32.ofNat 0)) (pzL (yT Y)).length (pzM (yT Y)).length q.2.length 0 75 = Int32.ofNat (pzL (yT Y)).length := by rw [bcZ_s (by omega), bcA_0]; exact (n0 _ _ (by omega)).trans aS1
      have b1 : bcZ (zv W1 0 73 (Int32.ofNat 0)) (pzL (yT Y)).length (pzM (yT Y)).length q.2.length 0 76 = Int32.ofNat (pzM (yT Y)).length := by rw [bcZ_s (by omega), bcA_0]; exact (n0 _ _ (by omega)).trans aB1
      have b2 : bcZ (zv W1 0 73 (Int32.ofNat 0)) (pzL (yT Y)).length (pzM (yT Y)).length q.2.length 0 77 = Int32.ofNat q.2.length := by rw [bcZ_s (by omega), bcA_0]; exact (n0 _ _ (by omega)).trans aF1
      have ec := fun (Q : zQ) => e7_clear (κ := κ) (Q := Q) (SM := SM1) S b0 b1 b2 aS2 aB2 aF2
      have c0 : clW (bcZ (zv W1 0 73 (Int32.ofNat 0)) (pzL (yT Y)).length (pzM (yT Y)).length q.2.length) (pzL (yT Y)).length (pzM (yT Y)).length q.2.length 0 75 = Int32.ofNat (pzL (yT Y)).length := by rw [clW_o (by decide) (by omega) (by omega), b0]
      have f := hq _ _ tz
      simp (disch := first | assumption | omega | decide) only [gB, I_all, zK_v, zK_n, true_and, and_true, Nat.reduceAdd, Nat.reduceMul, Nat.reduceSub, z_lt, z_le, z_neq, not_false_eq_true, or_true, true_or, or_false, false_or, false_and, and_false, gX7_load, F, R, zv_nx, p1, eb', ec, c0]
      exact f
end
