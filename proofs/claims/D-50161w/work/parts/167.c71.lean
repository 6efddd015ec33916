/-! the component: texts: the board -/
theorem tx_at : (∃ z, zTx[22]? = some z ∧ strL z.2.2 = [Int32.ofNat 32, Int32.ofNat 42]) ∧ (∃ z, zTx[23]? = some z ∧ strL z.2.2 = [Int32.ofNat 32, Int32.ofNat 45]) := ⟨⟨_, rfl, by decide +kernel⟩, ⟨_, rfl, by decide +kernel⟩⟩
section
variable {κ : zC} {h h0 : zH} {a b p q0 q n : Nat} {l : List Int32} {Y : Sy} {A : Nat → Nat → Nat} {Q : zQ}
/-- buses at the stop s, from k on -/
theorem e3_board1 (T : TX κ h a p Y A q0 q) (OK : sOk (yP Y) (yS Y)) {s : Nat} (hs : s < plN (yP Y) 0) (l : List Int32) (hl : l.length < 50000) (hq : ∀ h1 a3, SBw κ h h1 (hN h) (l ++ bsL (yS Y) s true (plN (yP Y) 1)) → Go κ mX3_board_2 102 [some (.ref a), some (.ref (hN h)), some (.int (Int32.ofNat s)), a3] [] h1 Q) :
    ∀ (d k : Nat) (h1 : zH), k + d = plN (yP Y) 1 → SBw κ h h1 (hN h) (l ++ bsL (yS Y) s true k) → Go κ mX3_board_2 50 [some (.ref a), some (.ref (hN h)), some (.int (Int32.ofNat s)), some (.int (Int32.ofNat k))] [] h1 Q := by
  have K := T.1
  have hc := K.1
  have hB := T.2.2.1.2.2
  have O := T.2.1.1.2.2.1
  have h10 := O.1.2
  have h6 := O.2.1.2
  have z13 := zA13
  intro d
  induction d with
  | zero =>
    intro k h1 hk S1
    have hk' : k = plN (yP Y) 1 := by omega
    subst hk'
    have Z := T.sb S1
    have N := soN Z
    have R := soR Z
    have Kk := soK Z
    have q1 := hq h1 (some (.int (Int32.ofNat (plN (yP Y) 1)))) S1
    simp (disch := first | assumption | omega | decide) only [gB, I_all, zK_v, zK_n, true_and, and_true, Nat.reduceAdd, Nat.reduceMul, Nat.reduceSub, z_lt, z_le, z_neq, not_false_eq_true, or_true, true_or, or_false, false_or, false_and, and_false, gX3_board_2_h]
    simp (disch := first | assumption | omega | decide) only [gB, I_all, zK_v, zK_n, true_and, and_true, Nat.reduceAdd, Nat.reduceMul, Nat.reduceSub, z_lt, z_le, z_neq, not_false_eq_true, or_true, true_or, or_false, false_or, false_and, and_false, gX3_board_2_1, gX3_board_2_2, N, R, Kk, z13]
    simp (disch := first | assumption | omega | decide) only [gB, I_all, zK_v, zK_n, true_and, and_true, Nat.reduceAdd, Nat.reduceMul, Nat.reduceSub, z_lt, z_le, z_neq, not_false_eq_true, or_true, true_or, or_false, false_or, false_and, and_false, gX3_board_2_1, gX3_board_2_2] at q1
    exact q1
  | succ d ih =>
    intro k h1 hk S1
    have hkB : k < plN (yP Y) 1 := by omega
    have Z := T.sb S1
    have N := soN Z
    have R := soR Z
    have Kk := soK Z
    have Bf := soB Z hkB
    have ea := fun (Q : zQ) => so_isAt (κ := κ) (Q := Q) Z OK hkB
    obtain ⟨st, sp, h4, hsp, q0', q1'⟩ := bst OK hkB (by omega)
    have eI0 : bI (yS Y) k 0 = st := bI_of (by omega) q0'
    have eI1 : bI (yS Y) k 1 = sp := bI_of (by omega) q1'
    rw [eI0] at ea
    have v61 := Bf.2.2.2.2.2.1
    rw [q1'] at v61
    have kB := Bf.1
    have bl := bsL_len (yS Y) s true k
    have ex : bsL (yS Y) s true (k + 1) = bsL (yS Y) s true k ++ (if sp = s ∧ ¬ st = 0 ∧ decide (2 ≤ st) = true then [Int32.ofNat 32, Int32.ofNat 42] ++ decL k else []) := by
      show bsL (yS Y) s true k ++ (if bI (yS Y) k 1 = s ∧ ¬ bI (yS Y) k 0 = 0 ∧ decide (2 ≤ bI (yS Y) k 0) = true then _ else _) = _
      rw [eI0, eI1]
      rfl
    have i1 := ih (k + 1)
    rw [ex] at i1
    by_cases c1 : 2 ≤ st
    · simp only [if_pos c1] at ea
      by_cases c2 : sp = s
      · rw [if_pos ⟨c2, by omega, decide_eq_true c1⟩] at i1
        subst c2
        simp (disch := first | assumption | omega | decide) only [gB, I_all, zK_v, zK_n, true_and, and_true, Nat.reduceAdd, Nat.reduceMul, Nat.reduceSub, z_lt, z_le, z_neq, not_false_eq_true, or_true, true_or, or_false, false_or, false_and, and_false, gX3_board_2_h]
        simp (disch := first | assumption | omega | decide) only [gB, I_all, zK_v, zK_n, true_and, and_true, Nat.reduceAdd, Nat.reduceMul, Nat.reduceSub, z_lt, z_le, z_neq, not_false_eq_true, or_true, true_or, or_false, false_or, false_and, and_false, gX3_board_2_1, gX3_board_2_2, N, R, Kk, z13, kB, ea, v61, S1.k]
        obtain ⟨z, ez, em⟩ := tx_at.1
        refine e25_appK K hB S1 ez em (by (try simp only [List.length_append, List.length_cons, List.length_nil]); omega) fun h2 S2 => ?_
        simp (disch := first | assumption | omega | decide) only [gB, I_all, zK_v, zK_n, true_and, and_true, Nat.reduceAdd, Nat.reduceMul, Nat.reduceSub, z_lt, z_le, z_neq, not_false_eq_true, or_true, true_or, or_false, false_or, false_and, and_false, gX3_board_2_1, gX3_board_2_2, S2.k]
        refine e25_appI hc K.2.2.1 S2 (by omega) (by (try simp only [List.length_append, List.length_cons, List.length_nil]); omega) fun h3 S3 => ?_
        have i2 := i1 h3 (by omega) (by simp only [List.append_assoc] at S3 ⊢; exact S3)
        simp (disch := first | assumption | omega | decide) only [gB, I_all, zK_v, zK_n, true_and, and_true, Nat.reduceAdd, Nat.reduceMul, Nat.reduceSub, z_lt, z_le, z_neq, not_false_eq_true, or_true, true_or, or_false, false_or, false_and, and_false, gX3_board_2_1, gX3_board_2_2]
        exact i2
      · rw [if_neg (fun z => c2 z.1), List.append_nil] at i1
        have i2 := i1 h1 (by omega) S1
        simp (disch := first | assumption | omega | decide) only [gB, I_all, zK_v, zK_n, true_and, and_true, Nat.reduceAdd, Nat.reduceMul, Nat.reduceSub, z_lt, z_le, z_neq, not_false_eq_true, or_true, true_or, or_false, false_or, false_and, and_false, gX3_board_2_h]
        simp (disch := first | assumption | omega | decide) only [gB, I_all, zK_v, zK_n, true_and, and_true, Nat.reduceAdd, Nat.reduceMul, Nat.reduceSub, z_lt, z_le, z_neq, not_false_eq_true, or_true, true_or, or_false, false_or, false_and, and_false, gX3_board_2_1, gX3_board_2_2, N, R, Kk, z13, kB, ea, v61]
        exact i2
    · simp only [if_neg c1] at ea
      rw [if_neg (fun z => c1 (of_decide_eq_true z.2.2)), List.append_nil] at i1
      have i2 := i1 h1 (by omega) S1
      simp (disch := first | assumption | omega | decide) only [gB, I_all, zK_v, zK_n, true_and, and_true, Nat.reduceAdd, Nat.reduceMul, Nat.reduceSub, z_lt, z_le, z_neq, not_false_eq_true, or_true, true_or, or_false, false_or, false_and, and_false, gX3_board_2_h]
      simp (disch := first | assumption | omega | decide) only [gB, I_all, zK_v, zK_n, true_and, and_true, Nat.reduceAdd, Nat.reduceMul, Nat.reduceSub, z_lt, z_le, z_neq, not_false_eq_true, or_true, true_or, or_false, false_or, false_and, and_false, gX3_board_2_1, gX3_board_2_2, N, R, Kk, z13, kB, ea, v61]
      exact i2
theorem e3_board3 (T : TX κ h a p Y A q0 q) (OK : sOk (yP Y) (yS Y)) {s : Nat} (hs : s < plN (yP Y) 0) (l : List Int32) (hl : l.length < 50000) (hq : ∀ h1 a3, SBw κ h h1 (hN h) (l ++ bsL (yS Y) s false (plN (yP Y) 1)) → Go κ mX3_board_2 157 [some (.ref a), some (.ref (hN h)), some (.int (Int32.ofNat s)), a3] [] h1 Q) :
    ∀ (d k : Nat) (h1 : zH), k + d = plN (yP Y) 1 → SBw κ h h1 (hN h) (l ++ bsL (yS Y) s false k) → Go κ mX3_board_2 104 [some (.ref a), some (.ref (hN h)), some (.int (Int32.ofNat s)), some (.int (Int32.ofNat k))] [] h1 Q := by
  have K := T.1
  have hc := K.1
  have hB := T.2.2.1.2.2
  have O := T.2.1.1.2.2.1
  have h10 := O.1.2
  have h6 := O.2.1.2
  have z13 := zA13
  intro d
  induction d with
  | zero =>
    intro k h1 hk S1
    have hk' : k = plN (yP Y) 1 := by omega
    subst hk'
    have Z := T.sb S1
    have N := soN Z
    have R := soR Z
    have Kk := soK Z
    have q1 := hq h1 (some (.int (Int32.ofNat (plN (yP Y) 1)))) S1
    simp (disch := first | assumption | omega | decide) only [gB, I_all, zK_v, zK_n, true_and, and_true, Nat.reduceAdd, Nat.reduceMul, Nat.reduceSub, z_lt, z_le, z_neq, not_false_eq_true, or_true, true_or, or_false, false_or, false_and, and_false, gX3_board_2_h]
    simp (disch := first | assumption | omega | decide) only [gB, I_all, zK_v, zK_n, true_and, and_true, Nat.reduceAdd, Nat.reduceMul, Nat.reduceSub, z_lt, z_le, z_neq, not_false_eq_true, or_true, true_or, or_false, false_or, false_and, and_false, gX3_board_2_1, gX3_board_2_2, N, R, Kk, z13]
    simp (disch := first | assumption | omega | decide) only [gB, I_all, zK_v, zK_n, true_and, and_true, Nat.reduceAdd, Nat.reduceMul, Nat.reduceSub, z_lt, z_le, z_neq, not_false_eq_true, or_true, true_or, or_false, false_or, false_and, and_false, gX3_board_2_1, gX3_board_2_2] at q1
    exact q1
  | succ d ih =>
    intro k h1 hk S1
    have hkB : k < plN (yP Y) 1 := by omega
    have Z := T.sb S1
    have N := soN Z
    have R := soR Z
    have Kk := soK Z
    have Bf := soB Z hkB
    obtain ⟨st, sp, h4, hsp, q0', q1'⟩ := bst OK hkB (by omega)
    have eI0 : bI (yS Y) k 0 = st := bI_of (by omega) q0'
    have eI1 : bI (yS Y) k 1 = sp := bI_of (by omega) q1'
    have v60 := Bf.2.2.2.2.1
    rw [q0'] at v60
    have v61 := Bf.2.2.2.2.2.1
    rw [q1'] at v61
    have kB := Bf.1
    have bl := bsL_len (yS Y) s false k
    have ex : bsL (yS Y) s false (k + 1) = bsL (yS Y) s false k ++ (if sp = s ∧ ¬ st = 0 ∧ decide (2 ≤ st) = false then [Int32.ofNat 32, Int32.ofNat 45] ++ decL k else []) := by
      show bsL (yS Y) s false k ++ (if bI (yS Y) k 1 = s ∧ ¬ bI (yS Y) k 0 = 0 ∧ decide (2 ≤ bI (yS Y) k 0) = false then _ else _) = _
      rw [eI0, eI1]
      rfl
    have i1 := ih (k + 1)
    rw [ex] at i1
    by_cases c1 : st = 1
    · by_cases c2 : sp = s
      · rw [if_pos ⟨c2, by omega, decide_eq_false (by omega)⟩] at i1
        subst c2
        simp (disch := first | assumption | omega | decide) only [gB, I_all, zK_v, zK_n, true_and, and_true, Nat.reduceAdd, Nat.reduceMul, Nat.reduceSub, z_lt, z_le, z_neq, not_false_eq_true, or_true, true_or, or_false, false_or, false_and, and_false, gX3_board_2_h]
        simp (disch := first | assumption | omega | decide) only [gB, I_all, zK_v, zK_n, true_and, and_true, Nat.reduceAdd, Nat.reduceMul, Nat.reduceSub, z_lt, z_le, z_neq, not_false_eq_true, or_true, true_or, or_false, false_or, false_and, and_false, gX3_board_2_1, gX3_board_2_2, N, R, Kk, z13, kB, v60, v61, S1.k]
        obtain ⟨z, ez, em⟩ := tx_at.2
        refine e25_appK K hB S1 ez em (by (try simp only [List.length_append, List.length_cons, List.length_nil]); omega) fun h2 S2 => ?_
        simp (disch := first | assumption | omega | decide) only [gB, I_all, zK_v, zK_n, true_and, and_true, Nat.reduceAdd, Nat.reduceMul, Nat.reduceSub, z_lt, z_le, z_neq, not_false_eq_true, or_true, true_or, or_false, false_or, false_and, and_false, gX3_board_2_1, gX3_board_2_2, S2.k]
        refine e25_appI hc K.2.2.1 S2 (by omega) (by (try simp only [List.length_append, List.length_cons, List.length_nil]); omega) fun h3 S3 => ?_
        have i2 := i1 h3 (by omega) (by simp only [List.append_assoc] at S3 ⊢; exact S3)
        simp (disch := first | assumption | omega | decide) only [gB, I_all, zK_v, zK_n, true_and, and_true, Nat.reduceAdd, Nat.reduceMul, Nat.reduceSub, z_lt, z_le, z_neq, not_false_eq_true, or_true, true_or, or_false, false_or, false_and, and_false, gX3_board_2_1, gX3_board_2_2]
        exact i2
      · rw [if_neg (fun z => c2 z.1), List.append_nil] at i1
        have i2 := i1 h1 (by omega) S1
        simp (disch := first | assumption | omega | decide) only [gB, I_all, zK_v, zK_n, true_and, and_true, Nat.reduceAdd, Nat.reduceMul, Nat.reduceSub, z_lt, z_le, z_neq, not_false_eq_true, or_true, true_or, or_false, false_or, false_and, and_false, gX3_board_2_h]
        simp (disch := first | assumption | omega | decide) only [gB, I_all, zK_v, zK_n, true_and, and_true, Nat.reduceAdd, Nat.reduceMul, Nat.reduceSub, z_lt, z_le, z_neq, not_false_eq_true, or_true, true_or, or_false, false_or, false_and, and_false, gX3_board_2_1, gX3_board_2_2, N, R, Kk, z13, kB, v60, v61]
        exact i2
    · rw [if_neg (fun z => by have := of_decide_eq_false z.2.2; omega), List.append_nil] at i1
      have i2 := i1 h1 (by omega) S1
      simp (disch := first | assumption | omega | decide) only [gB, I_all, zK_v, zK_n, true_and, and_true, Nat.reduceAdd, Nat.reduceMul, Nat.reduceSub, z_lt, z_le, z_neq, not_false_eq_true, or_true, true_or, or_false, false_or, false_and, and_false, gX3_board_2_h]
      simp (disch := first | assumption | omega | decide) only [gB, I_all, zK_v, zK_n, true_and, and_true, Nat.reduceAdd, Nat.reduceMul, Nat.reduceSub, z_lt, z_le, z_neq, not_false_eq_true, or_true, true_or, or_false, false_or, false_and, and_false, gX3_board_2_1, gX3_board_2_2, N, R, Kk, z13, kB, v60, v61]
      exact i2
theorem e3_boardT (T : TX κ h a p Y A q0 q) (OK : sOk (yP Y) (yS Y)) (hq : ∀ h' s v, NwS h h' h' s v (bdL Y (plN (yP Y) 0)) → hN h' ≤ hN h + 40000 → hU h' ≤ hU h + 100000 → Q (.inl (some (.ref s))) h') : Ev κ mX3_board_2 [.ref a] h Q := by
  have K := T.1
  have hc := K.1
  have hB := T.2.2.1.2.2
  have O := T.2.1.1.2.2.1
  have h10 := O.1.2
  have h6 := O.2.1.2
  have lp : ∀ (d s : Nat) (h1 : zH) (a3 : Option Value), s + d = plN (yP Y) 0 → SBw κ h h1 (hN h) (bdL Y s) → Go κ mX3_board_2 10 [some (.ref a), some (.ref (hN h)), some (.int (Int32.ofNat s)), a3] [] h1 Q := by
    intro d
    induction d with
    | zero =>
      intro s h1 a3 hs S1
      have hs' : s = plN (yP Y) 0 := by omega
      subst hs'
      have len := bdL_len Y h6 (plN (yP Y) 0)
      have N := soN (T.sb S1)
      have E := soE (κ := κ) (T.sb S1)
      have kb := S1.k
      simp (disch := first | assumption | omega | decide) only [gB, I_all, zK_v, zK_n, true_and, and_true, Nat.reduceAdd, Nat.reduceMul, Nat.reduceSub, z_lt, z_le, z_neq, not_false_eq_true, or_true, true_or, or_false, false_or, false_and, and_false, gX3_board_2_h]
      simp (disch := first | assumption | omega | decide) only [gB, I_all, zK_v, zK_n, true_and, and_true, Nat.reduceAdd, Nat.reduceMul, Nat.reduceSub, z_lt, z_le, z_neq, not_false_eq_true, or_true, true_or, or_false, false_or, false_and, and_false, gX3_board_2_1, gX3_board_2_2, N, E, kb]
      refine e25_toString hc S1 (by omega) fun h2 s v N2 n2 u2 => ?_
      have q1 := hq h2 s v N2 (by omega) (by omega)
      simp (disch := first | assumption | omega | decide) only [gB, I_all, zK_v, zK_n, true_and, and_true, Nat.reduceAdd, Nat.reduceMul, Nat.reduceSub, z_lt, z_le, z_neq, not_false_eq_true, or_true, true_or, or_false, false_or, false_and, and_false, gX3_board_2_1, gX3_board_2_2]
      exact q1
    | succ d ih =>
      intro s h1 a3 hs S1
      have hsB : s < plN (yP Y) 0 := by omega
      have len := bdL_len Y h6 s
      have N := soN (T.sb S1)
      have E := soE (κ := κ) (T.sb S1)
      have kb := S1.k
      obtain ⟨vn, sn, n1, n2⟩ := T.2.2.2 s hsB
      have Pp := soP (T.sb S1).1.2.1
      have kst := Pp.2.2.2.2.2.2.2.2.2.2.2.2.2.2.2.2.2.1 s hsB
      have nst := Pp.2.2.2.2.2.2.2.2.2.2.2.2.2.2.2.1 s hsB
      have nl : (nmL Y s).length ≤ 9 := wordL_len _
      have e2 := fun (Q : zQ) => E.2 s Q hsB
      have e1 := E.1
      simp (disch := first | assumption | omega | decide) only [gB, I_all, zK_v, zK_n, true_and, and_true, Nat.reduceAdd, Nat.reduceMul, Nat.reduceSub, z_lt, z_le, z_neq, not_false_eq_true, or_true, true_or, or_false, false_or, false_and, and_false, gX3_board_2_h]
      simp (disch := first | assumption | omega | decide) only [gB, I_all, zK_v, zK_n, true_and, and_true, Nat.reduceAdd, Nat.reduceMul, Nat.reduceSub, z_lt, z_le, z_neq, not_false_eq_true, or_true, true_or, or_false, false_or, false_and, and_false, gX3_board_2_1, gX3_board_2_2, N, e1, e2, kb, kst, nst]
      refine e25_appS hc S1 sn ⟨n1, n2⟩ (by omega) fun h2 S2 => ?_
      simp (disch := first | assumption | omega | decide) only [gB, I_all, zK_v, zK_n, true_and, and_true, Nat.reduceAdd, Nat.reduceMul, Nat.reduceSub, z_lt, z_le, z_neq, not_false_eq_true, or_true, true_or, or_false, false_or, false_and, and_false, gX3_board_2_1, gX3_board_2_2, S2.k]
      refine e25_appN hc S2 (by simp only [List.length_append]; omega) (by decide) fun h3 S3 => ?_
      have N3 := soN (T.sb S3)
      have R3 := soR (T.sb S3)
      have K3 := soK (T.sb S3)
      have Rw := soRow (T.sb S3) hsB
      have r1 := Rw.1
      have r5 := Rw.2.2.2.2.1
      have z11 : zRef 11 = true := rfl
      have lr := (OK.1 s (by omega)).1
      simp (disch := first | assumption | omega | decide) only [gB, I_all, zK_v, zK_n, true_and, and_true, Nat.reduceAdd, Nat.reduceMul, Nat.reduceSub, z_lt, z_le, z_neq, not_false_eq_true, or_true, true_or, or_false, false_or, false_and, and_false, gX3_board_2_1, gX3_board_2_2, N3, R3, K3, r1, r5, z11, S3.k]
      refine e25_appI hc K.2.2.1 S3 (by omega) (by (try simp only [List.length_append, List.length_cons, List.length_nil]); omega) fun h4 S4 => ?_
      have l4 : (bdL Y s ++ nmL Y s ++ [Int32.ofNat 32] ++ decL (sR (yS Y) s).length).length < 50000 := by
        have := decL_len (sR (yS Y) s).length
        simp only [List.length_append, List.length_cons, List.length_nil]
        omega
      have bl := bsL_len (yS Y) s true (plN (yP Y) 1)
      have bl2 := bsL_len (yS Y) s false (plN (yP Y) 1)
      have dl := decL_len (sR (yS Y) s).length
      have b1 := e3_board1 (Q := Q) T OK hsB _ l4 (fun h5 a3 S5 => ?_) (plN (yP Y) 1) 0 h4 (by omega) (by rw [show bsL (yS Y) s true 0 = [] from rfl, List.append_nil]; exact S4)
      · simp (disch := first | assumption | omega | decide) only [gB, I_all, zK_v, zK_n, true_and, and_true, Nat.reduceAdd, Nat.reduceMul, Nat.reduceSub, z_lt, z_le, z_neq, not_false_eq_true, or_true, true_or, or_false, false_or, false_and, and_false, gX3_board_2_1, gX3_board_2_2]
        exact b1
      · have b3 := e3_board3 (Q := Q) T OK hsB _ (show (bdL Y s ++ nmL Y s ++ [Int32.ofNat 32] ++ decL (sR (yS Y) s).length ++ bsL (yS Y) s true (plN (yP Y) 1)).length < 50000 by simp only [List.length_append, List.length_cons, List.length_nil]; omega) (fun h6 a3 S6 => ?_) (plN (yP Y) 1) 0 h5 (by omega) (by rw [show bsL (yS Y) s false 0 = [] from rfl, List.append_nil]; exact S5)
        · simp (disch := first | assumption | omega | decide) only [gB, I_all, zK_v, zK_n, true_and, and_true, Nat.reduceAdd, Nat.reduceMul, Nat.reduceSub, z_lt, z_le, z_neq, not_false_eq_true, or_true, true_or, or_false, false_or, false_and, and_false, gX3_board_2_1, gX3_board_2_2]
          exact b3
        · simp (disch := first | assumption | omega | decide) only [gB, I_all, zK_v, zK_n, true_and, and_true, Nat.reduceAdd, Nat.reduceMul, Nat.reduceSub, z_lt, z_le, z_neq, not_false_eq_true, or_true, true_or, or_false, false_or, false_and, and_false, gX3_board_2_1, gX3_board_2_2, S6.k]
          refine e25_appN hc S6 (by (try simp only [List.length_append, List.length_cons, List.length_nil]); omega) (by decide) fun h7 S7 => ?_
          have i1 := ih (s + 1) h7 a3 (by omega) (by
            have e : bdL Y (s + 1) = bdL Y s ++ nmL Y s ++ [Int32.ofNat 32] ++ decL (sR (yS Y) s).length ++ bsL (yS Y) s true (plN (yP Y) 1) ++ bsL (yS Y) s false (plN (yP Y) 1) ++ [Int32.ofNat 10] := by
              show bdL Y s ++ bdS Y s = _
              unfold bdS
              simp only [List.append_assoc]
            rw [e]
            exact S7)
          simp (disch := first | assumption | omega | decide) only [gB, I_all, zK_v, zK_n, true_and, and_true, Nat.reduceAdd, Nat.reduceMul, Nat.reduceSub, z_lt, z_le, z_neq, not_false_eq_true, or_true, true_or, or_false, false_or, false_and, and_false, gX3_board_2_1, gX3_board_2_2]
          exact i1
  simp (disch := first | assumption | omega | decide) only [gB, I_all, zK_v, zK_n, true_and, and_true, Nat.reduceAdd, Nat.reduceMul, Nat.reduceSub, z_lt, z_le, z_neq, not_false_eq_true, or_true, true_or, or_false, false_or, false_and, and_false, gX3_board_2_1, gX3_board_2_2]
  refine e25_init hc hB fun h1 S1 => ?_
  have i0 := lp (plN (yP Y) 0) 0 h1 none (by omega) S1
  simp (disch := first | assumption | omega | decide) only [gB, I_all, zK_v, zK_n, true_and, and_true, Nat.reduceAdd, Nat.reduceMul, Nat.reduceSub, z_lt, z_le, z_neq, not_false_eq_true, or_true, true_or, or_false, false_or, false_and, and_false, gX3_board_2_1, gX3_board_2_2]
  exact i0
end
