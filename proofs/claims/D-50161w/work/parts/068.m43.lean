/-! the twin: texts, a byte, a word, a number -/
def fdB (l : List Int32) (i : Int32) : Int32 := if 0 ≤ i.toInt then (l[i.toNatClampNeg]?).getD (Int32.ofInt (-2)) else Int32.ofInt (-2)
theorem fdB_snoc {l : List Int32} {c i : Int32} (hl : l.length < 2147483648) : fdB (l ++ [c]) i = if Int32.ofNat l.length = i then c else fdB l i := by
  unfold fdB
  by_cases h0 : 0 ≤ i.toInt
  · obtain ⟨n, hn, -, -, hn2⟩ := btw_nat (x := i) (l := 0) (u := 2147483647) ⟨h0, by have := Int32.toInt_lt i; omega⟩
    subst hn
    rw [if_pos h0, if_pos h0, I_nat hn2]
    by_cases e : l.length = n
    · rw [if_pos (by rw [e]), ← e]
      simp
    · rw [if_neg (by rw [I_eq hl hn2]; exact e), List.getElem?_append]
      split
      · rfl
      · rw [List.getElem?_eq_none (by simp; omega), List.getElem?_eq_none (by omega)]
  · rw [if_neg h0, if_neg h0, if_neg]
    intro e
    rw [← e, I_toInt hl] at h0
    omega
/-- the text l has been said, the byte at i is looked for -/
def txW (W : Nat → Nat → Int32) (i : Int32) (l : List Int32) : Nat → Nat → Int32 := fun k j => if k = 0 ∧ j = 125 then Int32.ofNat l.length else if k = 0 ∧ j = 126 then i else if k = 0 ∧ j = 127 then fdB l i else W k j
theorem tx_5 (W : Nat → Nat → Int32) (i : Int32) (l : List Int32) : txW W i l 0 125 = Int32.ofNat l.length := if_pos ⟨rfl, rfl⟩
theorem tx_6 (W : Nat → Nat → Int32) (i : Int32) (l : List Int32) : txW W i l 0 126 = i := by
  unfold txW
  rw [if_neg (by decide), if_pos ⟨rfl, rfl⟩]
theorem tx_7 (W : Nat → Nat → Int32) (i : Int32) (l : List Int32) : txW W i l 0 127 = fdB l i := by
  unfold txW
  rw [if_neg (by decide), if_neg (by decide), if_pos ⟨rfl, rfl⟩]
theorem tx_n {W : Nat → Nat → Int32} {i : Int32} {l : List Int32} {k j : Nat} (h : ¬ (k = 0 ∧ 125 ≤ j ∧ j ≤ 127)) : txW W i l k j = W k j := by
  unfold txW
  rw [if_neg (by omega), if_neg (by omega), if_neg (by omega)]
theorem tx_up {W : Nat → Nat → Int32} {i c v : Int32} {l : List Int32} (hv : v = fdB (l ++ [c]) i) : zv (zv (txW W i l) 0 127 v) 0 125 (Int32.ofNat (l.length + 1)) = txW W i (l ++ [c]) := by
  have e : l.length + 1 = (l ++ [c]).length := by rw [List.length_append]; rfl
  funext k j
  unfold zv txW
  rw [e, hv]
  by_cases h1 : k = 0 ∧ j = 125
  · rw [if_pos h1, if_pos h1]
  · simp only [if_neg h1]
    by_cases h2 : k = 0 ∧ j = 127
    · simp only [if_pos h2, if_neg (show ¬ (k = 0 ∧ j = 126) by omega)]
    · simp only [if_neg h2]
theorem tx_st (W : Nat → Nat → Int32) (i : Int32) : zv (zv (zv W 0 125 (Int32.ofNat 0)) 0 126 i) 0 127 (Int32.ofInt (-2)) = txW W i [] := by
  have e : fdB [] i = Int32.ofInt (-2) := by
    unfold fdB
    split <;> rfl
  funext k j
  unfold zv txW
  rw [e]
  by_cases h1 : k = 0 ∧ j = 125
  · rw [if_neg (by omega), if_neg (by omega), if_pos h1, if_pos h1]; rfl
  · by_cases h2 : k = 0 ∧ j = 126
    · rw [if_neg (by omega), if_pos h2, if_neg h1, if_pos h2]
    · by_cases h3 : k = 0 ∧ j = 127
      · rw [if_pos h3, if_neg h1, if_neg h2, if_pos h3]
      · rw [if_neg h3, if_neg h2, if_neg h1, if_neg h1, if_neg h2, if_neg h3]
/-- letters of a packed word -/
def wdC (w : Int64) (k : Nat) : Int32 := ((w >>> ((Int32.ofNat (5 * k)).toInt64 &&& 63)) &&& Int64.ofNat 31).toInt32
def wdF (w : Int64) : Nat → List Int32
  | 0 => []
  | k + 1 => (if Int32.ofNat 0 < wdC w k then [Int32.ofNat 96 + wdC w k] else []) ++ wdF w k
def wordL (w : Int64) : List Int32 := wdF w 9
theorem wdF_len (w : Int64) : ∀ k, (wdF w k).length ≤ k := by
  intro k
  induction k with
  | zero => exact Nat.le_refl _
  | succ k ih =>
    unfold wdF
    rw [List.length_append]
    split <;> simp <;> omega
/-- digits -/
def dgs (n : Nat) : Nat → List Int32
  | 0 => []
  | p + 1 => Int32.ofNat (48 + n / 10 ^ p % 10) :: dgs n p
def nd (n : Nat) : Nat := if n < 10 then 1 else if n < 100 then 2 else if n < 1000 then 3 else if n < 10000 then 4 else if n < 100000 then 5 else if n < 1000000 then 6 else if n < 10000000 then 7 else if n < 100000000 then 8 else if n < 1000000000 then 9 else 10
def decL (n : Nat) : List Int32 := dgs n (nd n)
theorem dgs_len (n : Nat) : ∀ p, (dgs n p).length = p := by
  intro p
  induction p with
  | zero => rfl
  | succ p ih =>
    unfold dgs
    rw [List.length_cons, ih]
theorem nd_le (n : Nat) : 1 ≤ nd n ∧ nd n ≤ 10 := by
  unfold nd
  repeat' split
  all_goals omega
theorem nd_lt {n p : Nat} (h : p + 1 < nd n) (hn : n < 2147483648) : 9 < n / 10 ^ p := by
  have h10 := nd_le n
  have hp : p = 0 ∨ p = 1 ∨ p = 2 ∨ p = 3 ∨ p = 4 ∨ p = 5 ∨ p = 6 ∨ p = 7 ∨ p = 8 := by omega
  unfold nd at h
  rcases hp with rfl | rfl | rfl | rfl | rfl | rfl | rfl | rfl | rfl <;> simp only [Nat.reducePow] <;> repeat' split at h
  all_goals omega
theorem nd_ge {n p : Nat} (h : p + 1 = nd n) (hn : n < 2147483648) : n / 10 ^ p ≤ 9 := by
  have h10 := nd_le n
  have hp : p = 0 ∨ p = 1 ∨ p = 2 ∨ p = 3 ∨ p = 4 ∨ p = 5 ∨ p = 6 ∨ p = 7 ∨ p = 8 ∨ p = 9 := by omega
  unfold nd at h
  rcases hp with rfl | rfl | rfl | rfl | rfl | rfl | rfl | rfl | rfl | rfl <;> simp only [Nat.reducePow] <;> repeat' split at h
  all_goals omega
theorem I_div {a b : Nat} (ha : a < 2147483648) (hb : b < 2147483648) : Int32.ofNat a / Int32.ofNat b = Int32.ofNat (a / b) := by
  rw [← Int32.toInt_inj, Int32.toInt_div_of_ne_left, I_toInt ha, I_toInt hb, I_toInt (Nat.lt_of_le_of_lt (Nat.div_le_self _ _) ha)]
  · rfl
  · intro h
    have := I_toInt ha
    rw [h] at this
    have z : Int32.minValue.toInt = -2147483648 := by decide
    omega
theorem p10 {p : Nat} (h : p ≤ 9) : 10 ^ p ≤ 1000000000 ∧ 1 ≤ 10 ^ p := by
  have hp : p = 0 ∨ p = 1 ∨ p = 2 ∨ p = 3 ∨ p = 4 ∨ p = 5 ∨ p = 6 ∨ p = 7 ∨ p = 8 ∨ p = 9 := by omega
  rcases hp with rfl | rfl | rfl | rfl | rfl | rfl | rfl | rfl | rfl | rfl <;> decide
section
variable {κ : zC} {h : zH} {b : Nat} {W : Nat → Nat → Int32} {SM : Nat → Nat → Int64} {Q : zQ} {Y : Sy} {π : Pl}
theorem e7_startsText {i : Int32} (S : TSh κ h b) : Ev κ mX7_startsText [.ref b, .int i] (hX h b 33 W SM) Q = Q (.inl none) (hX h b 33 (txW W i []) SM) := by
  have F := xF S
  have R := xR S
  have hB : kB κ ≤ b := S.1.1
  simp (disch := first | assumption | omega | decide) only [gB, I_all, zK_v, zK_n, true_and, and_true, Nat.reduceAdd, Nat.reduceMul, Nat.reduceSub, z_lt, z_le, z_neq, not_false_eq_true, or_true, true_or, or_false, false_or, false_and, and_false, gX7_startsText, F, R, tx_st]
theorem e7_says {i c : Int32} {l : List Int32} (S : TSh κ h b) (hl : l.length < 1000000) : Ev κ mX7_says [.ref b, .int c] (hX h b 33 (txW W i l) SM) Q = Q (.inl none) (hX h b 33 (txW W i (l ++ [c])) SM) := by
  have F := xF S
  have R := xR S
  have hB : kB κ ≤ b := S.1.1
  have e : zv (txW W i l) 0 127 (fdB l i) = zv (txW W i l) 0 127 (fdB l i) := rfl
  by_cases c1 : Int32.ofNat l.length = i
  · have hv : c = fdB (l ++ [c]) i := by rw [fdB_snoc (by omega), if_pos c1]
    have u := tx_up (W := W) (i := i) (l := l) hv
    simp (disch := first | assumption | omega | decide) only [gB, I_all, zK_v, zK_n, true_and, and_true, Nat.reduceAdd, Nat.reduceMul, Nat.reduceSub, z_lt, z_le, z_neq, not_false_eq_true, or_true, true_or, or_false, false_or, false_and, and_false, gX7_says, F, R, tx_5, tx_6, zv_nx, u]
  · have hv : fdB l i = fdB (l ++ [c]) i := by rw [fdB_snoc (by omega), if_neg c1]
    have u := tx_up (W := W) (i := i) (l := l) hv
    simp (disch := first | assumption | omega | decide) only [gB, I_all, zK_v, zK_n, true_and, and_true, Nat.reduceAdd, Nat.reduceMul, Nat.reduceSub, z_lt, z_le, z_neq, not_false_eq_true, or_true, true_or, or_false, false_or, false_and, and_false, gX7_says, F, R, tx_5, tx_6, tx_7, zv_nx, u]
theorem e7_saysWord {i : Int32} {l : List Int32} {w : Int64} (S : TSh κ h b) (hl : l.length + 9 < 1000000) : Ev κ mX7_saysWord [.ref b, .long w] (hX h b 33 (txW W i l) SM) Q = Q (.inl none) (hX h b 33 (txW W i (l ++ wordL w)) SM) := by
  have R := xR S
  have lp : ∀ (k : Nat) (l : List Int32) (a4 : Option Value), k ≤ 9 → l.length + k < 1000000 → Go κ mX7_saysWord 3 [some (.ref b), some (.long w), none, some (.int (if k = 0 then Int32.ofInt (-5) else Int32.ofNat (5 * (k - 1)))), a4] [] (hX h b 33 (txW W i l) SM) Q = Q (.inl none) (hX h b 33 (txW W i (l ++ wdF w k)) SM) := by
    intro k
    induction k with
    | zero =>
      intro l a4 _ hl
      rw [if_pos rfl, show wdF w 0 = [] from rfl, List.append_nil]
      have z : Int32.ofInt (-5) < Int32.ofNat 0 := by decide
      simp (disch := first | assumption | omega | decide) only [gB, I_all, zK_v, zK_n, true_and, and_true, Nat.reduceAdd, Nat.reduceMul, Nat.reduceSub, z_lt, z_le, z_neq, not_false_eq_true, or_true, true_or, or_false, false_or, false_and, and_false, gX7_saysWord_h]
      simp (disch := first | assumption | omega | decide) only [gB, I_all, zK_v, zK_n, true_and, and_true, Nat.reduceAdd, Nat.reduceMul, Nat.reduceSub, z_lt, z_le, z_neq, not_false_eq_true, or_true, true_or, or_false, false_or, false_and, and_false, gX7_saysWord]
    | succ k ih =>
      intro l a4 hk hl
      rw [if_neg (by omega), Nat.add_sub_cancel]
      have ez : Int32.ofNat (5 * k) + Int32.ofInt (-5) = if k = 0 then Int32.ofInt (-5) else Int32.ofNat (5 * (k - 1)) := by
        by_cases k0 : k = 0
        · rw [if_pos k0, k0]; decide
        · rw [if_neg k0, show 5 * k = 5 * (k - 1) + 5 by omega, ← I_add, Int32.add_assoc, show Int32.ofNat 5 + Int32.ofInt (-5) = Int32.ofNat 0 from by decide]
          exact Int32.add_zero _
      have ex : wdF w (k + 1) = (if Int32.ofNat 0 < wdC w k then [Int32.ofNat 96 + wdC w k] else []) ++ wdF w k := rfl
      rw [ex]
      have ec : ((w >>> ((Int32.ofNat (5 * k)).toInt64 &&& 63)) &&& Int64.ofNat 31).toInt32 = wdC w k := rfl
      simp (disch := first | assumption | omega | decide) only [gB, I_all, zK_v, zK_n, true_and, and_true, Nat.reduceAdd, Nat.reduceMul, Nat.reduceSub, z_lt, z_le, z_neq, not_false_eq_true, or_true, true_or, or_false, false_or, false_and, and_false, gX7_saysWord_h]
      by_cases c : Int32.ofNat 0 < wdC w k
      · have c' : ¬ wdC w k ≤ Int32.ofNat 0 := Int32.not_le.mpr c
        have es := fun (Q : zQ) => e7_says (κ := κ) (W := W) (SM := SM) (Q := Q) (i := i) (l := l) (c := Int32.ofNat 96 + wdC w k) S (by omega)
        have ih' := fun a4 => ih (l ++ [Int32.ofNat 96 + wdC w k]) a4 (by omega) (by rw [List.length_append]; simp; omega)
        rw [if_pos c, ← List.append_assoc]
        simp (disch := first | assumption | omega | decide) only [gB, I_all, zK_v, zK_n, true_and, and_true, Nat.reduceAdd, Nat.reduceMul, Nat.reduceSub, z_lt, z_le, z_neq, not_false_eq_true, or_true, true_or, or_false, false_or, false_and, and_false, gX7_saysWord, R, ec, hK_X, ez, es]
        exact ih' _
      · have c' : wdC w k ≤ Int32.ofNat 0 := Int32.not_lt.mp c
        have ih' := fun a4 => ih l a4 (by omega) (by omega)
        rw [if_neg c, List.nil_append]
        simp (disch := first | assumption | omega | decide) only [gB, I_all, zK_v, zK_n, true_and, and_true, Nat.reduceAdd, Nat.reduceMul, Nat.reduceSub, z_lt, z_le, z_neq, not_false_eq_true, or_true, true_or, or_false, false_or, false_and, and_false, gX7_saysWord, R, ec, hK_X, ez]
        exact ih' _
  have := lp 9 l none (by omega) hl
  rw [if_neg (by decide)] at this
  simp only [Nat.reduceSub, Nat.reduceMul] at this
  simp (disch := first | assumption | omega | decide) only [gB, I_all, zK_v, zK_n, true_and, and_true, Nat.reduceAdd, Nat.reduceMul, Nat.reduceSub, z_lt, z_le, z_neq, not_false_eq_true, or_true, true_or, or_false, false_or, false_and, and_false, gX7_saysWord]
  exact this
theorem e7_saysNumber {i : Int32} {l : List Int32} {n : Nat} (S : TSh κ h b) (hl : l.length + 10 < 1000000) (hn : n < 2147483648) : Ev κ mX7_saysNumber [.ref b, .int (Int32.ofNat n)] (hX h b 33 (txW W i l) SM) Q = Q (.inl none) (hX h b 33 (txW W i (l ++ decL n)) SM) := by
  have R := xR S
  have h10 := nd_le n
  have lp2 : ∀ (p : Nat) (l : List Int32), p ≤ 10 → l.length + p < 1000000 → Go κ mX7_saysNumber 18 [some (.ref b), some (.int (Int32.ofNat n)), some (.int (Int32.ofNat (if p = 0 then 0 else 10 ^ (p - 1))))] [] (hX h b 33 (txW W i l) SM) Q = Q (.inl none) (hX h b 33 (txW W i (l ++ dgs n p)) SM) := by
    intro p
    induction p with
    | zero =>
      intro l _ hl
      rw [if_pos rfl, show dgs n 0 = [] from rfl, List.append_nil]
      simp (disch := first | assumption | omega | decide) only [gB, I_all, zK_v, zK_n, true_and, and_true, Nat.reduceAdd, Nat.reduceMul, Nat.reduceSub, z_lt, z_le, z_neq, not_false_eq_true, or_true, true_or, or_false, false_or, false_and, and_false, gX7_saysNumber_h.2]
      simp (disch := first | assumption | omega | decide) only [gB, I_all, zK_v, zK_n, true_and, and_true, Nat.reduceAdd, Nat.reduceMul, Nat.reduceSub, z_lt, z_le, z_neq, not_false_eq_true, or_true, true_or, or_false, false_or, false_and, and_false, gX7_saysNumber]
    | succ p ih =>
      intro l hp hl
      rw [if_neg (by omega), Nat.add_sub_cancel]
      obtain ⟨b1, b2⟩ := p10 (p := p) (by omega)
      have ex : dgs n (p + 1) = Int32.ofNat (48 + n / 10 ^ p % 10) :: dgs n p := rfl
      have hq : n / 10 ^ p < 2147483648 := Nat.lt_of_le_of_lt (Nat.div_le_self _ _) hn
      have em : 48 + (n / 10 ^ p - n / 10 ^ p / 10 * 10) = 48 + n / 10 ^ p % 10 := by omega
      have es := fun (Q : zQ) => e7_says (κ := κ) (W := W) (SM := SM) (Q := Q) (i := i) (l := l) (c := Int32.ofNat (48 + n / 10 ^ p % 10)) S (by omega)
      have ih' := ih (l ++ [Int32.ofNat (48 + n / 10 ^ p % 10)]) (by omega) (by rw [List.length_append]; simp; omega)
      have ez : 10 ^ p / 10 = if p = 0 then 0 else 10 ^ (p - 1) := by
        by_cases p0 : p = 0
        · rw [if_pos p0, p0]
        · rw [if_neg p0]
          obtain ⟨q, rfl⟩ : ∃ q, p = q + 1 := ⟨p - 1, by omega⟩
          rw [Nat.pow_succ, Nat.mul_div_cancel _ (by decide), Nat.add_sub_cancel]
      rw [← ez] at ih'
      rw [ex, show l ++ Int32.ofNat (48 + n / 10 ^ p % 10) :: dgs n p = (l ++ [Int32.ofNat (48 + n / 10 ^ p % 10)]) ++ dgs n p by simp]
      generalize 10 ^ p = t at *
      have nz : ¬ Int32.ofNat t = Int32.ofNat 0 := by rw [I_eq (by omega) (by omega)]; omega
      have nz' : ¬ Int32.ofNat 10 = Int32.ofNat 0 := by decide
      simp (disch := first | assumption | omega | decide) only [gB, I_all, zK_v, zK_n, true_and, and_true, Nat.reduceAdd, Nat.reduceMul, Nat.reduceSub, z_lt, z_le, z_neq, not_false_eq_true, or_true, true_or, or_false, false_or, false_and, and_false, gX7_saysNumber_h.2]
      simp (disch := first | assumption | omega | decide) only [gB, I_all, zK_v, zK_n, true_and, and_true, Nat.reduceAdd, Nat.reduceMul, Nat.reduceSub, z_lt, z_le, z_neq, not_false_eq_true, or_true, true_or, or_false, false_or, false_and, and_false, gX7_saysNumber, R, hK_X, I_div, I_sub, em, es, nz]
      exact ih'
  have lp1 : ∀ d p, p + d + 1 = nd n → Go κ mX7_saysNumber 2 [some (.ref b), some (.int (Int32.ofNat n)), some (.int (Int32.ofNat (10 ^ p)))] [] (hX h b 33 (txW W i l) SM) Q = Q (.inl none) (hX h b 33 (txW W i (l ++ decL n)) SM) := by
    intro d
    induction d with
    | zero =>
      intro p hp
      obtain ⟨b1, b2⟩ := p10 (p := p) (by omega)
      have hq := nd_ge (p := p) (by omega) hn
      have l2 := lp2 (p + 1) l (by omega) (by omega)
      rw [if_neg (by omega), Nat.add_sub_cancel] at l2
      have ed : dgs n (p + 1) = decL n := by unfold decL; rw [← hp]
      rw [ed] at l2
      generalize 10 ^ p = t at *
      have nz : ¬ Int32.ofNat t = Int32.ofNat 0 := by rw [I_eq (by omega) (by omega)]; omega
      simp (disch := first | assumption | omega | decide) only [gB, I_all, zK_v, zK_n, true_and, and_true, Nat.reduceAdd, Nat.reduceMul, Nat.reduceSub, z_lt, z_le, z_neq, not_false_eq_true, or_true, true_or, or_false, false_or, false_and, and_false, gX7_saysNumber_h.1]
      simp (disch := first | assumption | omega | decide) only [gB, I_all, zK_v, zK_n, true_and, and_true, Nat.reduceAdd, Nat.reduceMul, Nat.reduceSub, z_lt, z_le, z_neq, not_false_eq_true, or_true, true_or, or_false, false_or, false_and, and_false, gX7_saysNumber, I_div, nz]
      exact l2
    | succ d ih =>
      intro p hp
      obtain ⟨b1, b2⟩ := p10 (p := p) (by omega)
      obtain ⟨b3, b4⟩ := p10 (p := p + 1) (by omega)
      have hq := nd_lt (n := n) (p := p) (by omega) hn
      have ih' := ih (p + 1) (by omega)
      have hle : n / 10 ^ p < 2147483648 := Nat.lt_of_le_of_lt (Nat.div_le_self _ _) hn
      rw [Nat.pow_succ] at ih' b3
      generalize 10 ^ p = t at *
      have nz : ¬ Int32.ofNat t = Int32.ofNat 0 := by rw [I_eq (by omega) (by omega)]; omega
      simp (disch := first | assumption | omega | decide) only [gB, I_all, zK_v, zK_n, true_and, and_true, Nat.reduceAdd, Nat.reduceMul, Nat.reduceSub, z_lt, z_le, z_neq, not_false_eq_true, or_true, true_or, or_false, false_or, false_and, and_false, gX7_saysNumber_h.1]
      simp (disch := first | assumption | omega | decide) only [gB, I_all, zK_v, zK_n, true_and, and_true, Nat.reduceAdd, Nat.reduceMul, Nat.reduceSub, z_lt, z_le, z_neq, not_false_eq_true, or_true, true_or, or_false, false_or, false_and, and_false, gX7_saysNumber, I_div, nz]
      exact ih'
  have := lp1 (nd n - 1) 0 (by omega)
  rw [Nat.pow_zero] at this
  simp (disch := first | assumption | omega | decide) only [gB, I_all, zK_v, zK_n, true_and, and_true, Nat.reduceAdd, Nat.reduceMul, Nat.reduceSub, z_lt, z_le, z_neq, not_false_eq_true, or_true, true_or, or_false, false_or, false_and, and_false, gX7_saysNumber]
  exact this
end
