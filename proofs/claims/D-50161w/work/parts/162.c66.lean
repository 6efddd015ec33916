/-! strings: a number's digits -/
/-- negated numbers -/
theorem iN {n : Nat} (h : n < 2147483648) : (-(Int32.ofNat n)).toInt = -(n : Int) := by
  rw [Int32.toInt_neg, I_toInt h]
  have : (-(n : Int)).bmod (2 ^ 32) = -(n : Int) := by rw [Int.bmod_eq_of_le] <;> omega
  exact this
theorem iN_le {n c : Nat} {p : Int32} (h : n < 2147483648) (hp : p.toInt = -(c : Int)) : -(Int32.ofNat n) ≤ p ↔ c ≤ n := by
  rw [Int32.le_iff_toInt_le, iN h, hp]
  omega
theorem iN_lt {n c : Nat} {p : Int32} (h : n < 2147483648) (hp : p.toInt = -(c : Int)) : p < -(Int32.ofNat n) ↔ n < c := by
  rw [Int32.lt_iff_toInt_lt, iN h, hp]
  omega
/-- the last k digits of n stand in v ahead of e -/
def gBf (h : zH) (v e n k : Nat) : zH := (h.1, h.2.1, fun b j => if b = v ∧ e - k ≤ j ∧ j < e then .int (Int32.ofNat (48 + n / 10 ^ (e - 1 - j) % 10)) else h.2.2.1 b j, h.2.2.2)
theorem gBf_V (h : zH) (v e n k b j : Nat) : hV (gBf h v e n k) b j = if b = v ∧ e - k ≤ j ∧ j < e then .int (Int32.ofNat (48 + n / 10 ^ (e - 1 - j) % 10)) else hV h b j := rfl
theorem gBf_0 (h : zH) (v e n : Nat) : gBf h v e n 0 = h := by
  unfold gBf
  have : (fun b j => if b = v ∧ e - 0 ≤ j ∧ j < e then Value.int (Int32.ofNat (48 + n / 10 ^ (e - 1 - j) % 10)) else h.2.2.1 b j) = h.2.2.1 := by
    funext b j
    rw [if_neg (by omega)]
  rw [this]
theorem gBf_up (h : zH) (v e n k : Nat) (hk : k < e) : hW (gBf h v e n k) v (e - 1 - k) (.int (Int32.ofNat (48 + n / 10 ^ k % 10))) = gBf h v e n (k + 1) := by
  unfold gBf hW
  dsimp only
  congr 3
  funext b j
  by_cases hb : b = v
  · rw [if_pos hb]
    by_cases hj : j = e - 1 - k
    · rw [if_pos hj, if_pos ⟨hb, by omega, by omega⟩, show e - 1 - j = k by omega]
    · rw [if_neg hj]
      by_cases hc : e - k ≤ j ∧ j < e
      · rw [if_pos ⟨hb, hc⟩, if_pos ⟨hb, by omega, by omega⟩]
      · rw [if_neg (fun z => hc z.2), if_neg (fun z => hc ⟨by omega, z.2.2⟩)]
  · rw [if_neg hb, if_neg (fun z => hb z.1), if_neg (fun z => hb z.1)]
theorem dgs_get (n : Nat) : ∀ {p i : Nat} {x : Int32}, (dgs n p)[i]? = some x → i < p ∧ x = Int32.ofNat (48 + n / 10 ^ (p - 1 - i) % 10) := by
  intro p
  induction p with
  | zero => intro i x h; cases h
  | succ p ih =>
    intro i x h
    unfold dgs at h
    cases i with
    | zero =>
      cases h
      exact ⟨by omega, by rw [show p + 1 - 1 - 0 = p by omega]⟩
    | succ i =>
      obtain ⟨h1, h2⟩ := ih h
      exact ⟨by omega, by rw [h2, show p + 1 - 1 - (i + 1) = p - 1 - i by omega]⟩
/-- the tables of digits -/
def KD (κ : zC) (h : zH) : Prop := ∃ (d t : Nat), kS κ 28 = .ref d ∧ kS κ 29 = .ref t ∧ (d < kB κ ∧ hK h d = 3 ∧ hL h d = 100 ∧ ∀ j, j < 100 → hV h d j = .int (Int32.ofNat (48 + j % 10))) ∧ t < kB κ ∧ hK h t = 3 ∧ hL h t = 100 ∧ ∀ j, j < 100 → hV h t j = .int (Int32.ofNat (48 + j / 10))
theorem KD.ag {κ : zC} {h h' : zH} {n : Nat} (D : KD κ h) (g : Ag h h' 0 n) (hn : kB κ ≤ n) : KD κ h' := by
  obtain ⟨d, t, e1, e2, ⟨d1, d2, d3, d4⟩, t1, t2, t3, t4⟩ := D
  obtain ⟨a1, a2, a3⟩ := g d (Nat.zero_le _) (by omega)
  obtain ⟨b1, b2, b3⟩ := g t (Nat.zero_le _) (by omega)
  exact ⟨d, t, e1, e2, ⟨d1, a1.trans d2, a2.trans d3, fun j hj => (a3 j).trans (d4 j hj)⟩, t1, b1.trans t2, b2.trans t3, fun j hj => (b3 j).trans (t4 j hj)⟩
section
variable {κ : zC} {h h0 : zH} {b v e n : Nat} {l : List Int32} {Q : zQ}
theorem e6_stringSize (hn : n < 2147483648) : Ev κ mJ6_stringSize [.int (Int32.ofNat n)] h Q = Q (.inl (some (.int (Int32.ofNat (nd n))))) h := by
  have st : ∀ (i c : Nat) (p p' : Int32), i < 10 → p.toInt = -(c : Int) → Int32.ofNat 10 * p = p' → Go κ mJ6_stringSize 16 [some (.int (-(Int32.ofNat n))), some (.int (Int32.ofNat 0)), some (.int p), some (.int (Int32.ofNat i))] [] h Q = if n < c then Q (.inl (some (.int (Int32.ofNat i)))) h else Go κ mJ6_stringSize 16 [some (.int (-(Int32.ofNat n))), some (.int (Int32.ofNat 0)), some (.int p'), some (.int (Int32.ofNat (i + 1)))] [] h Q := by
    intro i c p p' hi hp hm
    by_cases c1 : n < c
    · have c2 : ¬ -(Int32.ofNat n) ≤ p := fun z => by have := (iN_le hn hp).mp z; omega
      rw [if_pos c1]
      simp (disch := first | assumption | omega | decide) only [gB, I_all, zK_v, zK_n, true_and, and_true, Nat.reduceAdd, Nat.reduceMul, Nat.reduceSub, z_lt, z_le, z_neq, not_false_eq_true, or_true, true_or, or_false, false_or, false_and, and_false, gJ6_stringSize_h]
      simp (disch := first | assumption | omega | decide) only [gB, I_all, zK_v, zK_n, true_and, and_true, Nat.reduceAdd, Nat.reduceMul, Nat.reduceSub, z_lt, z_le, z_neq, not_false_eq_true, or_true, true_or, or_false, false_or, false_and, and_false, gJ6_stringSize, I_add, Nat.add_zero]
    · have c2 : -(Int32.ofNat n) ≤ p := (iN_le hn hp).mpr (by omega)
      rw [if_neg c1]
      generalize hR : Go κ mJ6_stringSize 16 [some (.int (-(Int32.ofNat n))), some (.int (Int32.ofNat 0)), some (.int p'), some (.int (Int32.ofNat (i + 1)))] [] h Q = R
      simp (disch := first | assumption | omega | decide) only [gB, I_all, zK_v, zK_n, true_and, and_true, Nat.reduceAdd, Nat.reduceMul, Nat.reduceSub, z_lt, z_le, z_neq, not_false_eq_true, or_true, true_or, or_false, false_or, false_and, and_false, gJ6_stringSize_h]
      simp (disch := first | assumption | omega | decide) only [gB, I_all, zK_v, zK_n, true_and, and_true, Nat.reduceAdd, Nat.reduceMul, Nat.reduceSub, z_lt, z_le, z_neq, not_false_eq_true, or_true, true_or, or_false, false_or, false_and, and_false, gJ6_stringSize, hm]
      exact hR
  simp (disch := first | assumption | omega | decide) only [gB, I_all, zK_v, zK_n, true_and, and_true, Nat.reduceAdd, Nat.reduceMul, Nat.reduceSub, z_lt, z_le, z_neq, not_false_eq_true, or_true, true_or, or_false, false_or, false_and, and_false, gJ6_stringSize]
  unfold nd
  rw [st 1 10 (Int32.ofInt (-10)) _ (by decide) (by decide) rfl]
  by_cases c1 : n < 10
  · rw [if_pos c1, if_pos c1]
  rw [if_neg c1, if_neg c1]
  rw [show Int32.ofNat 10 * Int32.ofInt (-10) = Int32.ofInt (-100) from by decide]
  rw [st 2 100 (Int32.ofInt (-100)) _ (by decide) (by decide) rfl]
  by_cases c2 : n < 100
  · rw [if_pos c2, if_pos c2]
  rw [if_neg c2, if_neg c2]
  rw [show Int32.ofNat 10 * Int32.ofInt (-100) = Int32.ofInt (-1000) from by decide]
  rw [st 3 1000 (Int32.ofInt (-1000)) _ (by decide) (by decide) rfl]
  by_cases c3 : n < 1000
  · rw [if_pos c3, if_pos c3]
  rw [if_neg c3, if_neg c3]
  rw [show Int32.ofNat 10 * Int32.ofInt (-1000) = Int32.ofInt (-10000) from by decide]
  rw [st 4 10000 (Int32.ofInt (-10000)) _ (by decide) (by decide) rfl]
  by_cases c4 : n < 10000
  · rw [if_pos c4, if_pos c4]
  rw [if_neg c4, if_neg c4]
  rw [show Int32.ofNat 10 * Int32.ofInt (-10000) = Int32.ofInt (-100000) from by decide]
  rw [st 5 100000 (Int32.ofInt (-100000)) _ (by decide) (by decide) rfl]
  by_cases c5 : n < 100000
  · rw [if_pos c5, if_pos c5]
  rw [if_neg c5, if_neg c5]
  rw [show Int32.ofNat 10 * Int32.ofInt (-100000) = Int32.ofInt (-1000000) from by decide]
  rw [st 6 1000000 (Int32.ofInt (-1000000)) _ (by decide) (by decide) rfl]
  by_cases c6 : n < 1000000
  · rw [if_pos c6, if_pos c6]
  rw [if_neg c6, if_neg c6]
  rw [show Int32.ofNat 10 * Int32.ofInt (-1000000) = Int32.ofInt (-10000000) from by decide]
  rw [st 7 10000000 (Int32.ofInt (-10000000)) _ (by decide) (by decide) rfl]
  by_cases c7 : n < 10000000
  · rw [if_pos c7, if_pos c7]
  rw [if_neg c7, if_neg c7]
  rw [show Int32.ofNat 10 * Int32.ofInt (-10000000) = Int32.ofInt (-100000000) from by decide]
  rw [st 8 100000000 (Int32.ofInt (-100000000)) _ (by decide) (by decide) rfl]
  by_cases c8 : n < 100000000
  · rw [if_pos c8, if_pos c8]
  rw [if_neg c8, if_neg c8]
  rw [show Int32.ofNat 10 * Int32.ofInt (-100000000) = Int32.ofInt (-1000000000) from by decide]
  rw [st 9 1000000000 (Int32.ofInt (-1000000000)) _ (by decide) (by decide) rfl]
  by_cases c9 : n < 1000000000
  · rw [if_pos c9, if_pos c9]
  rw [if_neg c9, if_neg c9]
  simp (disch := first | assumption | omega | decide) only [gB, I_all, zK_v, zK_n, true_and, and_true, Nat.reduceAdd, Nat.reduceMul, Nat.reduceSub, z_lt, z_le, z_neq, not_false_eq_true, or_true, true_or, or_false, false_or, false_and, and_false, gJ6_stringSize_h]
  simp (disch := first | assumption | omega | decide) only [gB, I_all, zK_v, zK_n, true_and, and_true, Nat.reduceAdd, Nat.reduceMul, Nat.reduceSub, z_lt, z_le, z_neq, not_false_eq_true, or_true, true_or, or_false, false_or, false_and, and_false, gJ6_stringSize, I_add]
end
