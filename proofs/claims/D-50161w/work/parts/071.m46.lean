/-! the twin: the setup -/
def nOk (σ : Sg) : Prop := ∀ j, 1 ≤ j → j ≤ 5 → 0 ≤ (sN σ j).toInt
def suN (Y : Sy) : List Int32 := prL (Int64.ofNat 508078) (plT (yP Y) 0 0) (Int32.ofNat 32) ++ prL (Int64.ofNat 494) (plT (yP Y) 0 1) (Int32.ofNat 32) ++ prL (Int64.ofNat 147182) (plT (yP Y) 0 2) (Int32.ofNat 32) ++ prL (Int64.ofNat 8758910009) (sN (yS Y) 2) (Int32.ofNat 32)
  ++ prL (Int64.ofNat 3120) (sN (yS Y) 3) (Int32.ofNat 32) ++ prL (Int64.ofNat 551510259813) (sN (yS Y) 4) (Int32.ofNat 32) ++ prL (Int64.ofNat 19387844) (sN (yS Y) 5) (Int32.ofNat 32) ++ prL (Int64.ofNat 441477) (sN (yS Y) 1) (Int32.ofNat 59)
def suS (Y : Sy) (s : Nat) : List Int32 := naL (Int64.ofNat 643568) (plT (yP Y) 3 s) ++ prL (Int64.ofNat 4794053) (plT (yP Y) 4 s) (Int32.ofNat 32) ++
  (if sN (yS Y) (13 + s) = Int32.ofNat 1 then prL (Int64.ofNat 15558) (plT (yP Y) 5 s) (Int32.ofNat 32) ++ wordL (Int64.ofNat 17278420) ++ [Int32.ofNat 59] else prL (Int64.ofNat 15558) (plT (yP Y) 5 s) (Int32.ofNat 59))
def suB (Y : Sy) (b : Nat) : List Int32 := prL (Int64.ofNat 2739) (plT (yP Y) 7 b) (Int32.ofNat 32) ++ prL (Int64.ofNat 20579924) (plT (yP Y) 8 b) (Int32.ofNat 59)
def suF (Y : Sy) (f : Nat) : List Int32 := naL (Int64.ofNat 215533) (plT (yP Y) 3 (plI (yP Y) 9 f)) ++ naL (Int64.ofNat 655) (plT (yP Y) 3 (plI (yP Y) 10 f)) ++ prL (Int64.ofNat 5969497) (plT (yP Y) 11 f) (Int32.ofNat 32) ++ prL (Int64.ofNat 6605428) (plT (yP Y) 12 f) (Int32.ofNat 59)
def catL (g : Nat → List Int32) : Nat → List Int32
  | 0 => []
  | k + 1 => catL g k ++ g k
def suL (Y : Sy) : List Int32 := suN Y ++ catL (suS Y) (plN (yP Y) 0) ++ catL (suB Y) (plN (yP Y) 1) ++ catL (suF Y) (plN (yP Y) 2)
theorem catL_len {g : Nat → List Int32} {c : Nat} (h : ∀ k, (g k).length ≤ c) : ∀ k, (catL g k).length ≤ c * k := by
  intro k
  induction k with
  | zero => exact Nat.le_refl _
  | succ k ih =>
    have := h k
    unfold catL
    rw [List.length_append, Nat.mul_succ]
    omega
theorem suS_len (Y : Sy) (s : Nat) : (suS Y s).length ≤ 100 := by
  have h1 := naL_len (Int64.ofNat 643568) (plT (yP Y) 3 s)
  have h2 := prL_len (Int64.ofNat 4794053) (plT (yP Y) 4 s) (Int32.ofNat 32)
  have h3 := prL_len (Int64.ofNat 15558) (plT (yP Y) 5 s) (Int32.ofNat 32)
  have h4 := prL_len (Int64.ofNat 15558) (plT (yP Y) 5 s) (Int32.ofNat 59)
  have h5 := wordL_len (Int64.ofNat 17278420)
  unfold suS
  split <;> simp only [List.length_append, List.length_cons, List.length_nil] <;> omega
theorem suB_len (Y : Sy) (s : Nat) : (suB Y s).length ≤ 100 := by
  have h1 := prL_len (Int64.ofNat 2739) (plT (yP Y) 7 s) (Int32.ofNat 32)
  have h2 := prL_len (Int64.ofNat 20579924) (plT (yP Y) 8 s) (Int32.ofNat 59)
  unfold suB
  simp only [List.length_append]
  omega
theorem suF_len (Y : Sy) (s : Nat) : (suF Y s).length ≤ 100 := by
  have h1 := naL_len (Int64.ofNat 215533) (plT (yP Y) 3 (plI (yP Y) 9 s))
  have h2 := naL_len (Int64.ofNat 655) (plT (yP Y) 3 (plI (yP Y) 10 s))
  have h3 := prL_len (Int64.ofNat 5969497) (plT (yP Y) 11 s) (Int32.ofNat 32)
  have h4 := prL_len (Int64.ofNat 6605428) (plT (yP Y) 12 s) (Int32.ofNat 59)
  unfold suF
  simp only [List.length_append]
  omega
theorem suN_len (Y : Sy) : (suN Y).length ≤ 200 := by
  have h1 := prL_len (Int64.ofNat 508078) (plT (yP Y) 0 0) (Int32.ofNat 32)
  have h2 := prL_len (Int64.ofNat 494) (plT (yP Y) 0 1) (Int32.ofNat 32)
  have h3 := prL_len (Int64.ofNat 147182) (plT (yP Y) 0 2) (Int32.ofNat 32)
  have h4 := prL_len (Int64.ofNat 8758910009) (sN (yS Y) 2) (Int32.ofNat 32)
  have h5 := prL_len (Int64.ofNat 3120) (sN (yS Y) 3) (Int32.ofNat 32)
  have h6 := prL_len (Int64.ofNat 551510259813) (sN (yS Y) 4) (Int32.ofNat 32)
  have h7 := prL_len (Int64.ofNat 19387844) (sN (yS Y) 5) (Int32.ofNat 32)
  have h8 := prL_len (Int64.ofNat 441477) (sN (yS Y) 1) (Int32.ofNat 59)
  unfold suN
  simp only [List.length_append]
  omega
section
variable {κ : zC} {h : zH} {b : Nat} {W : Nat → Nat → Int32} {SM : Nat → Nat → Int64} {Q : zQ} {Y : Sy} {π : Pl}
theorem e7_saysNumbers {i : Int32} (S : TSh κ h b) (T : TIn W SM Y) (N : nOk (yS Y)) : Ev κ mX7_saysNumbers [.ref b] (hX h b 33 (txW W i []) SM) Q = Q (.inl none) (hX h b 33 (txW W i (suN Y)) SM) := by
  have F := xF S
  have R := xR S
  have K := xK S
  have O := T.2.2.2.2.2.2
  obtain ⟨-, -, -, p78, p79, p80, -⟩ := T.1
  obtain ⟨-, -, -, -, -, -, z1, z2, z3, z4, z5, z6⟩ := O
  have n1 : W 13 1 = sN (yS Y) 1 := T.2.1.1.1 1 (by unfold nat1; omega)
  have n2 : W 13 2 = sN (yS Y) 2 := T.2.1.1.1 2 (by unfold nat1; omega)
  have n3 : W 13 3 = sN (yS Y) 3 := T.2.1.1.1 3 (by unfold nat1; omega)
  have n4 : W 13 4 = sN (yS Y) 4 := T.2.1.1.1 4 (by unfold nat1; omega)
  have n5 : W 13 5 = sN (yS Y) 5 := T.2.1.1.1 5 (by unfold nat1; omega)
  have ep := fun (l : List Int32) (w : Int64) (v c : Int32) (hl : l.length + 30 < 1000000) (hv : 0 ≤ v.toInt) (Q : zQ) => e7_saysPair (κ := κ) (W := W) (SM := SM) (Q := Q) (i := i) (l := l) (w := w) (v := v) (c := c) S hl hv
  have m1 := N 1 (by decide) (by decide)
  have m2 := N 2 (by decide) (by decide)
  have m3 := N 3 (by decide) (by decide)
  have m4 := N 4 (by decide) (by decide)
  have m5 := N 5 (by decide) (by decide)
  have h1 := prL_len (Int64.ofNat 508078) (plT (yP Y) 0 0) (Int32.ofNat 32)
  have h2 := prL_len (Int64.ofNat 494) (plT (yP Y) 0 1) (Int32.ofNat 32)
  have h3 := prL_len (Int64.ofNat 147182) (plT (yP Y) 0 2) (Int32.ofNat 32)
  have h4 := prL_len (Int64.ofNat 8758910009) (sN (yS Y) 2) (Int32.ofNat 32)
  have h5 := prL_len (Int64.ofNat 3120) (sN (yS Y) 3) (Int32.ofNat 32)
  have h6 := prL_len (Int64.ofNat 551510259813) (sN (yS Y) 4) (Int32.ofNat 32)
  have h7 := prL_len (Int64.ofNat 19387844) (sN (yS Y) 5) (Int32.ofNat 32)
  unfold suN
  rw [show prL (Int64.ofNat 508078) (plT (yP Y) 0 0) (Int32.ofNat 32) = [] ++ prL (Int64.ofNat 508078) (plT (yP Y) 0 0) (Int32.ofNat 32) from rfl]
  have g0 : ([] : List Int32).length + 30 < 1000000 := by decide
  generalize l1e : prL (Int64.ofNat 508078) (plT (yP Y) 0 0) (Int32.ofNat 32) = l1 at *
  generalize l2e : prL (Int64.ofNat 494) (plT (yP Y) 0 1) (Int32.ofNat 32) = l2 at *
  generalize l3e : prL (Int64.ofNat 147182) (plT (yP Y) 0 2) (Int32.ofNat 32) = l3 at *
  generalize l4e : prL (Int64.ofNat 8758910009) (sN (yS Y) 2) (Int32.ofNat 32) = l4 at *
  generalize l5e : prL (Int64.ofNat 3120) (sN (yS Y) 3) (Int32.ofNat 32) = l5 at *
  generalize l6e : prL (Int64.ofNat 551510259813) (sN (yS Y) 4) (Int32.ofNat 32) = l6 at *
  generalize l7e : prL (Int64.ofNat 19387844) (sN (yS Y) 5) (Int32.ofNat 32) = l7 at *
  have g1 : ([] ++ l1).length + 30 < 1000000 := by simp only [List.length_append, List.length_nil]; omega
  have g2 : ([] ++ l1 ++ l2).length + 30 < 1000000 := by simp only [List.length_append, List.length_nil]; omega
  have g3 : ([] ++ l1 ++ l2 ++ l3).length + 30 < 1000000 := by simp only [List.length_append, List.length_nil]; omega
  have g4 : ([] ++ l1 ++ l2 ++ l3 ++ l4).length + 30 < 1000000 := by simp only [List.length_append, List.length_nil]; omega
  have g5 : ([] ++ l1 ++ l2 ++ l3 ++ l4 ++ l5).length + 30 < 1000000 := by simp only [List.length_append, List.length_nil]; omega
  have g6 : ([] ++ l1 ++ l2 ++ l3 ++ l4 ++ l5 ++ l6).length + 30 < 1000000 := by simp only [List.length_append, List.length_nil]; omega
  have g7 : ([] ++ l1 ++ l2 ++ l3 ++ l4 ++ l5 ++ l6 ++ l7).length + 30 < 1000000 := by simp only [List.length_append, List.length_nil]; omega
  simp (disch := first | assumption | omega | decide) only [gB, I_all, zK_v, zK_n, true_and, and_true, Nat.reduceAdd, Nat.reduceMul, Nat.reduceSub, z_lt, z_le, z_neq, not_false_eq_true, or_true, true_or, or_false, false_or, false_and, and_false, gX7_saysNumbers, F, R, K, tx_n, p78, p79, p80, n1, n2, n3, n4, n5, ep, l1e, l2e, l3e, l4e, l5e, l6e, l7e]
theorem e7_saysSetup {i : Int32} (S : TSh κ h b) (T : TIn W SM Y) (N : nOk (yS Y)) : Ev κ mX7_saysSetup [.ref b, .int i] (hX h b 33 W SM) Q = Q (.inl none) (hX h b 33 (txW W i (suL Y)) SM) := by
  have F := xF S
  have R := xR S
  have K := xK S
  have O := T.2.2.2.2.2.2
  have hns := O.1
  have hnb := O.2.1
  have hnf := O.2.2.1
  have P := T.1
  have e0 := P.1
  have e1 := P.2.1
  have e2 := P.2.2.1
  have p3 : ∀ j, j < plN (yP Y) 0 → W 3 j = plT (yP Y) 3 j := P.2.2.2.2.2.2.1 3 (by decide)
  have p4 : ∀ j, j < plN (yP Y) 0 → W 4 j = plT (yP Y) 4 j := P.2.2.2.2.2.2.1 4 (by decide)
  have p5 : ∀ j, j < plN (yP Y) 0 → W 5 j = plT (yP Y) 5 j := P.2.2.2.2.2.2.1 5 (by decide)
  have p7 : ∀ j, j < plN (yP Y) 1 → W 7 j = plT (yP Y) 7 j := P.2.2.2.2.2.2.2.1 7 (by decide)
  have p8 : ∀ j, j < plN (yP Y) 1 → W 8 j = plT (yP Y) 8 j := P.2.2.2.2.2.2.2.1 8 (by decide)
  have p9 : ∀ j, j < plN (yP Y) 2 → W 9 j = plT (yP Y) 9 j := P.2.2.2.2.2.2.2.2 9 (by decide)
  have p10 : ∀ j, j < plN (yP Y) 2 → W 10 j = plT (yP Y) 10 j := P.2.2.2.2.2.2.2.2 10 (by decide)
  have p11 : ∀ j, j < plN (yP Y) 2 → W 11 j = plT (yP Y) 11 j := P.2.2.2.2.2.2.2.2 11 (by decide)
  have p12 : ∀ j, j < plN (yP Y) 2 → W 12 j = plT (yP Y) 12 j := P.2.2.2.2.2.2.2.2 12 (by decide)
  have ep := fun (l : List Int32) (w : Int64) (v c : Int32) (hl : l.length + 30 < 1000000) (hv : 0 ≤ v.toInt) (Q : zQ) => e7_saysPair (κ := κ) (W := W) (SM := SM) (Q := Q) (i := i) (l := l) (w := w) (v := v) (c := c) S hl hv
  have ea := fun (l : List Int32) (w : Int64) (v : Int32) (hl : l.length + 30 < 1000000) (Q : zQ) => e7_saysName (κ := κ) (W := W) (SM := SM) (Q := Q) (i := i) (l := l) (w := w) (v := v) S hl
  have es := fun (l : List Int32) (c : Int32) (hl : l.length < 1000000) (Q : zQ) => e7_says (κ := κ) (W := W) (SM := SM) (Q := Q) (i := i) (l := l) (c := c) S hl
  have ew := fun (l : List Int32) (w : Int64) (hl : l.length + 9 < 1000000) (Q : zQ) => e7_saysWord (κ := κ) (W := W) (SM := SM) (Q := Q) (i := i) (l := l) (w := w) S hl
  -- flows
  have lp3 : ∀ d k (l : List Int32), k + d = plN (yP Y) 2 → l.length + 2000 < 1000000 → Go κ mX7_saysSetup 160 [some (.ref b), some (.int i), some (.int (Int32.ofNat k))] [] (hX h b 33 (txW W i (l ++ catL (suF Y) k)) SM) Q = Q (.inl none) (hX h b 33 (txW W i (l ++ catL (suF Y) (plN (yP Y) 2))) SM) := by
    intro d
    induction d with
    | zero =>
      intro k l hk hl
      have hk' : k = plN (yP Y) 2 := by omega
      rw [← hk']
      have e2' : W 0 77 = Int32.ofNat k := by rw [e2, hk']
      simp (disch := first | assumption | omega | decide) only [gB, I_all, zK_v, zK_n, true_and, and_true, Nat.reduceAdd, Nat.reduceMul, Nat.reduceSub, z_lt, z_le, z_neq, not_false_eq_true, or_true, true_or, or_false, false_or, false_and, and_false, gX7_saysSetup_h.2.2]
      simp (disch := first | assumption | omega | decide) only [gB, I_all, zK_v, zK_n, true_and, and_true, Nat.reduceAdd, Nat.reduceMul, Nat.reduceSub, z_lt, z_le, z_neq, not_false_eq_true, or_true, true_or, or_false, false_or, false_and, and_false, gX7_saysSetup_1, gX7_saysSetup_2, F, R, K, tx_n, e2']
    | succ d ih =>
      intro k l hk hl
      have hk1 : k < plN (yP Y) 2 := by omega
      have ih' := ih (k + 1) l (by omega) hl
      obtain ⟨f1, f2, f3, f4, f5, f6, f7, f8⟩ := O.2.2.2.1 k hk1
      have hc := catL_len (suF_len Y) k
      have ex : l ++ catL (suF Y) (k + 1) = l ++ catL (suF Y) k ++ naL (Int64.ofNat 215533) (plT (yP Y) 3 (plI (yP Y) 9 k)) ++ naL (Int64.ofNat 655) (plT (yP Y) 3 (plI (yP Y) 10 k)) ++ prL (Int64.ofNat 5969497) (plT (yP Y) 11 k) (Int32.ofNat 32) ++ prL (Int64.ofNat 6605428) (plT (yP Y) 12 k) (Int32.ofNat 59) := by
        show l ++ (catL (suF Y) k ++ suF Y k) = _
        unfold suF
        simp only [List.append_assoc]
      rw [ex] at ih'
      have hl0 : (l ++ catL (suF Y) k).length + 200 < 1000000 := by rw [List.length_append]; omega
      generalize l ++ catL (suF Y) k = l0 at *
      have h1 := naL_len (Int64.ofNat 215533) (plT (yP Y) 3 (plI (yP Y) 9 k))
      have h2 := naL_len (Int64.ofNat 655) (plT (yP Y) 3 (plI (yP Y) 10 k))
      have h3 := prL_len (Int64.ofNat 5969497) (plT (yP Y) 11 k) (Int32.ofNat 32)
      generalize l1e : naL (Int64.ofNat 215533) (plT (yP Y) 3 (plI (yP Y) 9 k)) = l1 at *
      generalize l2e : naL (Int64.ofNat 655) (plT (yP Y) 3 (plI (yP Y) 10 k)) = l2 at *
      generalize l3e : prL (Int64.ofNat 5969497) (plT (yP Y) 11 k) (Int32.ofNat 32) = l3 at *
      have g0 : l0.length + 30 < 1000000 := by omega
      have g1 : (l0 ++ l1).length + 30 < 1000000 := by simp only [List.length_append]; omega
      have g2 : (l0 ++ l1 ++ l2).length + 30 < 1000000 := by simp only [List.length_append]; omega
      have g3 : (l0 ++ l1 ++ l2 ++ l3).length + 30 < 1000000 := by simp only [List.length_append]; omega
      have v1 : 0 ≤ (plT (yP Y) 11 k).toInt := by omega
      simp (disch := first | assumption | omega | decide) only [gB, I_all, zK_v, zK_n, true_and, and_true, Nat.reduceAdd, Nat.reduceMul, Nat.reduceSub, z_lt, z_le, z_neq, not_false_eq_true, or_true, true_or, or_false, false_or, false_and, and_false, gX7_saysSetup_h.2.2]
      simp (disch := first | assumption | omega | decide) only [gB, I_all, zK_v, zK_n, true_and, and_true, Nat.reduceAdd, Nat.reduceMul, Nat.reduceSub, z_lt, z_le, z_neq, not_false_eq_true, or_true, true_or, or_false, false_or, false_and, and_false, gX7_saysSetup_1, gX7_saysSetup_2, F, R, K, tx_n, e2, p3, p9, p10, p11, p12, f1, f3, ea, ep, l1e, l2e, l3e]
      exact ih'
  -- buses
  have lp2 : ∀ d k (l : List Int32), k + d = plN (yP Y) 1 → l.length + 3000 < 1000000 → Go κ mX7_saysSetup 114 [some (.ref b), some (.int i), some (.int (Int32.ofNat k))] [] (hX h b 33 (txW W i (l ++ catL (suB Y) k)) SM) Q = Q (.inl none) (hX h b 33 (txW W i (l ++ catL (suB Y) (plN (yP Y) 1) ++ catL (suF Y) (plN (yP Y) 2))) SM) := by
    intro d
    induction d with
    | zero =>
      intro k l hk hl
      have hk' : k = plN (yP Y) 1 := by omega
      rw [← hk']
      have e1' : W 0 76 = Int32.ofNat k := by rw [e1, hk']
      have hc := catL_len (suB_len Y) k
      have l3 := lp3 (plN (yP Y) 2) 0 (l ++ catL (suB Y) k) (by omega) (by rw [List.length_append]; omega)
      rw [show catL (suF Y) 0 = [] from rfl, List.append_nil] at l3
      simp (disch := first | assumption | omega | decide) only [gB, I_all, zK_v, zK_n, true_and, and_true, Nat.reduceAdd, Nat.reduceMul, Nat.reduceSub, z_lt, z_le, z_neq, not_false_eq_true, or_true, true_or, or_false, false_or, false_and, and_false, gX7_saysSetup_h.2.1]
      simp (disch := first | assumption | omega | decide) only [gB, I_all, zK_v, zK_n, true_and, and_true, Nat.reduceAdd, Nat.reduceMul, Nat.reduceSub, z_lt, z_le, z_neq, not_false_eq_true, or_true, true_or, or_false, false_or, false_and, and_false, gX7_saysSetup_1, gX7_saysSetup_2, F, R, K, tx_n, e1']
      exact l3
    | succ d ih =>
      intro k l hk hl
      have hk1 : k < plN (yP Y) 1 := by omega
      have ih' := ih (k + 1) l (by omega) hl
      obtain ⟨f1, f2, f3, f4, f5⟩ := O.2.2.2.2.1 k hk1
      have hc := catL_len (suB_len Y) k
      have ex : l ++ catL (suB Y) (k + 1) = l ++ catL (suB Y) k ++ prL (Int64.ofNat 2739) (plT (yP Y) 7 k) (Int32.ofNat 32) ++ prL (Int64.ofNat 20579924) (plT (yP Y) 8 k) (Int32.ofNat 59) := by
        show l ++ (catL (suB Y) k ++ suB Y k) = _
        unfold suB
        simp only [List.append_assoc]
      rw [ex] at ih'
      have hl0 : (l ++ catL (suB Y) k).length + 200 < 1000000 := by rw [List.length_append]; omega
      generalize l ++ catL (suB Y) k = l0 at *
      have h1 := prL_len (Int64.ofNat 2739) (plT (yP Y) 7 k) (Int32.ofNat 32)
      generalize l1e : prL (Int64.ofNat 2739) (plT (yP Y) 7 k) (Int32.ofNat 32) = l1 at *
      have g0 : l0.length + 30 < 1000000 := by omega
      have g1 : (l0 ++ l1).length + 30 < 1000000 := by simp only [List.length_append]; omega
      have v1 : 0 ≤ (plT (yP Y) 7 k).toInt := by rw [f1, I_toInt (by omega)]; omega
      simp (disch := first | assumption | omega | decide) only [gB, I_all, zK_v, zK_n, true_and, and_true, Nat.reduceAdd, Nat.reduceMul, Nat.reduceSub, z_lt, z_le, z_neq, not_false_eq_true, or_true, true_or, or_false, false_or, false_and, and_false, gX7_saysSetup_h.2.1]
      simp (disch := first | assumption | omega | decide) only [gB, I_all, zK_v, zK_n, true_and, and_true, Nat.reduceAdd, Nat.reduceMul, Nat.reduceSub, z_lt, z_le, z_neq, not_false_eq_true, or_true, true_or, or_false, false_or, false_and, and_false, gX7_saysSetup_1, gX7_saysSetup_2, F, R, K, tx_n, e1, p7, p8, ep, l1e]
      exact ih'
  -- stops
  have lp1 : ∀ d k (l : List Int32), k + d = plN (yP Y) 0 → l.length + 5000 < 1000000 → Go κ mX7_saysSetup 11 [some (.ref b), some (.int i), some (.int (Int32.ofNat k))] [] (hX h b 33 (txW W i (l ++ catL (suS Y) k)) SM) Q = Q (.inl none) (hX h b 33 (txW W i (l ++ catL (suS Y) (plN (yP Y) 0) ++ catL (suB Y) (plN (yP Y) 1) ++ catL (suF Y) (plN (yP Y) 2))) SM) := by
    intro d
    induction d with
    | zero =>
      intro k l hk hl
      have hk' : k = plN (yP Y) 0 := by omega
      rw [← hk']
      have e0' : W 0 75 = Int32.ofNat k := by rw [e0, hk']
      have hc := catL_len (suS_len Y) k
      have l3 := lp2 (plN (yP Y) 1) 0 (l ++ catL (suS Y) k) (by omega) (by rw [List.length_append]; omega)
      rw [show catL (suB Y) 0 = [] from rfl, List.append_nil] at l3
      simp (disch := first | assumption | omega | decide) only [gB, I_all, zK_v, zK_n, true_and, and_true, Nat.reduceAdd, Nat.reduceMul, Nat.reduceSub, z_lt, z_le, z_neq, not_false_eq_true, or_true, true_or, or_false, false_or, false_and, and_false, gX7_saysSetup_h.1]
      simp (disch := first | assumption | omega | decide) only [gB, I_all, zK_v, zK_n, true_and, and_true, Nat.reduceAdd, Nat.reduceMul, Nat.reduceSub, z_lt, z_le, z_neq, not_false_eq_true, or_true, true_or, or_false, false_or, false_and, and_false, gX7_saysSetup_1, gX7_saysSetup_2, F, R, K, tx_n, e0']
      exact l3
    | succ d ih =>
      intro k l hk hl
      have hk1 : k < plN (yP Y) 0 := by omega
      have ih' := ih (k + 1) l (by omega) hl
      obtain ⟨f1, f2, f3, f4⟩ := O.2.2.2.2.2.1 k hk1
      have hc := catL_len (suS_len Y) k
      have n13 : W 13 (13 + k) = sN (yS Y) (13 + k) := T.2.1.1.1 _ (by unfold nat1; omega)
      have ex : l ++ catL (suS Y) (k + 1) = l ++ catL (suS Y) k ++ (naL (Int64.ofNat 643568) (plT (yP Y) 3 k) ++ prL (Int64.ofNat 4794053) (plT (yP Y) 4 k) (Int32.ofNat 32) ++
          (if sN (yS Y) (13 + k) = Int32.ofNat 1 then prL (Int64.ofNat 15558) (plT (yP Y) 5 k) (Int32.ofNat 32) ++ wordL (Int64.ofNat 17278420) ++ [Int32.ofNat 59] else prL (Int64.ofNat 15558) (plT (yP Y) 5 k) (Int32.ofNat 59))) := by
        show l ++ (catL (suS Y) k ++ suS Y k) = _
        rw [List.append_assoc]
        rfl
      rw [ex] at ih'
      have hl0 : (l ++ catL (suS Y) k).length + 200 < 1000000 := by rw [List.length_append]; omega
      generalize l ++ catL (suS Y) k = l0 at *
      have h1 := naL_len (Int64.ofNat 643568) (plT (yP Y) 3 k)
      have h2 := prL_len (Int64.ofNat 4794053) (plT (yP Y) 4 k) (Int32.ofNat 32)
      have h3 := prL_len (Int64.ofNat 15558) (plT (yP Y) 5 k) (Int32.ofNat 32)
      have h5 := wordL_len (Int64.ofNat 17278420)
      generalize l1e : naL (Int64.ofNat 643568) (plT (yP Y) 3 k) = l1 at *
      generalize l2e : prL (Int64.ofNat 4794053) (plT (yP Y) 4 k) (Int32.ofNat 32) = l2 at *
      have g0 : l0.length + 30 < 1000000 := by omega
      have g1 : (l0 ++ l1).length + 30 < 1000000 := by simp only [List.length_append]; omega
      have g2 : (l0 ++ l1 ++ l2).length + 30 < 1000000 := by simp only [List.length_append]; omega
      have v1 : 0 ≤ (plT (yP Y) 4 k).toInt := by omega
      simp (disch := first | assumption | omega | decide) only [gB, I_all, zK_v, zK_n, true_and, and_true, Nat.reduceAdd, Nat.reduceMul, Nat.reduceSub, z_lt, z_le, z_neq, not_false_eq_true, or_true, true_or, or_false, false_or, false_and, and_false, gX7_saysSetup_h.1]
      by_cases c : sN (yS Y) (13 + k) = Int32.ofNat 1
      · rw [if_pos c] at ih'
        generalize l3e : prL (Int64.ofNat 15558) (plT (yP Y) 5 k) (Int32.ofNat 32) = l3 at *
        generalize l4e : wordL (Int64.ofNat 17278420) = l4 at *
        have g3 : (l0 ++ l1 ++ l2 ++ l3).length + 9 < 1000000 := by simp only [List.length_append]; omega
        have g4 : (l0 ++ l1 ++ l2 ++ l3 ++ l4).length < 1000000 := by simp only [List.length_append]; omega
        simp only [← List.append_assoc] at ih'
        simp (disch := first | assumption | omega | decide) only [gB, I_all, zK_v, zK_n, true_and, and_true, Nat.reduceAdd, Nat.reduceMul, Nat.reduceSub, z_lt, z_le, z_neq, not_false_eq_true, or_true, true_or, or_false, false_or, false_and, and_false, gX7_saysSetup_1, gX7_saysSetup_2, F, R, K, tx_n, e0, p3, p4, p5, n13, c, ea, ep, es, ew, l1e, l2e, l3e, l4e]
        exact ih'
      · rw [if_neg c] at ih'
        simp only [← List.append_assoc] at ih'
        simp (disch := first | assumption | omega | decide) only [gB, I_all, zK_v, zK_n, true_and, and_true, Nat.reduceAdd, Nat.reduceMul, Nat.reduceSub, z_lt, z_le, z_neq, not_false_eq_true, or_true, true_or, or_false, false_or, false_and, and_false, gX7_saysSetup_1, gX7_saysSetup_2, F, R, K, tx_n, e0, p3, p4, p5, n13, ea, ep, l1e, l2e]
        exact ih'
  have hl := suN_len Y
  have := lp1 (plN (yP Y) 0) 0 (suN Y) (by omega) (by omega)
  rw [show catL (suS Y) 0 = [] from rfl, List.append_nil] at this
  have st := fun (Q : zQ) => e7_startsText (κ := κ) (W := W) (SM := SM) (Q := Q) (i := i) S
  have en := fun (Q : zQ) => e7_saysNumbers (κ := κ) (Q := Q) (i := i) S T N
  simp (disch := first | assumption | omega | decide) only [gB, I_all, zK_v, zK_n, true_and, and_true, Nat.reduceAdd, Nat.reduceMul, Nat.reduceSub, z_lt, z_le, z_neq, not_false_eq_true, or_true, true_or, or_false, false_or, false_and, and_false, gX7_saysSetup_1, gX7_saysSetup_2, R, hK_X, st, en]
  exact this
theorem e7_setupLength (S : TSh κ h b) (T : TIn W SM Y) (N : nOk (yS Y)) (hq : ∀ W', TIn W' SM Y → Q (.inl (some (.int (Int32.ofNat (suL Y).length)))) (hX h b 33 W' SM)) : Ev κ mX7_setupLength [.ref b] (hX h b 33 W SM) Q := by
  have F := xF S
  have R := xR S
  have es := fun (Q : zQ) => e7_saysSetup (κ := κ) (Q := Q) (i := Int32.ofInt (-1)) S T N
  simp (disch := first | assumption | omega | decide) only [gB, I_all, zK_v, zK_n, true_and, and_true, Nat.reduceAdd, Nat.reduceMul, Nat.reduceSub, z_lt, z_le, z_neq, not_false_eq_true, or_true, true_or, or_false, false_or, false_and, and_false, gX7_setupLength, F, R, es, tx_5]
  exact hq _ (T.tx _ _)
theorem e7_setupByte {i : Int32} (S : TSh κ h b) (T : TIn W SM Y) (N : nOk (yS Y)) (hq : ∀ W', TIn W' SM Y → Q (.inl (some (.int (byA (suL Y) i)))) (hX h b 33 W' SM)) : Ev κ mX7_setupByte [.ref b, .int i] (hX h b 33 W SM) Q := by
  have F := xF S
  have R := xR S
  have es := fun (Q : zQ) => e7_saysSetup (κ := κ) (Q := Q) (i := i) S T N
  unfold byA at hq
  by_cases c : i < Int32.ofNat 0
  · have c' : ¬ Int32.ofNat 0 ≤ i := Int32.not_le.mpr c
    rw [if_pos c] at hq
    simp (disch := first | assumption | omega | decide) only [gB, I_all, zK_v, zK_n, true_and, and_true, Nat.reduceAdd, Nat.reduceMul, Nat.reduceSub, z_lt, z_le, z_neq, not_false_eq_true, or_true, true_or, or_false, false_or, false_and, and_false, gX7_setupByte, F, R]
    exact hq _ T
  · have c' : Int32.ofNat 0 ≤ i := Int32.not_lt.mp c
    rw [if_neg c] at hq
    simp (disch := first | assumption | omega | decide) only [gB, I_all, zK_v, zK_n, true_and, and_true, Nat.reduceAdd, Nat.reduceMul, Nat.reduceSub, z_lt, z_le, z_neq, not_false_eq_true, or_true, true_or, or_false, false_or, false_and, and_false, gX7_setupByte, F, R, es, tx_7]
    exact hq _ (T.tx _ _)
end
