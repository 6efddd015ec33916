/-! the twin: what was read becomes the plan; a clear world -/
/-- tables lo..hi taken over, k entries -/
def bcW (W : Nat → Nat → Int32) (lo hi k : Nat) : Nat → Nat → Int32 := fun k' j => if lo ≤ k' ∧ k' ≤ hi ∧ j < k then W (k' + 20) j else W k' j
theorem bcW_0 (W : Nat → Nat → Int32) (lo hi : Nat) : bcW W lo hi 0 = W := by
  funext k j
  unfold bcW
  rw [if_neg (by omega)]
theorem bcW_s {W : Nat → Nat → Int32} {lo hi k m j : Nat} (h : hi < m) : bcW W lo hi k m j = W m j := by
  unfold bcW
  rw [if_neg (by omega)]
theorem bcW_4 (W : Nat → Nat → Int32) (lo k : Nat) (hl : lo = 3 ∨ lo = 9) : zv (zv (zv (zv (bcW W lo (lo + 3) k) lo k (W (lo + 20) k)) (lo + 1) k (W (lo + 21) k)) (lo + 2) k (W (lo + 22) k)) (lo + 3) k (W (lo + 23) k) = bcW W lo (lo + 3) (k + 1) := by
  funext m j
  unfold zv bcW
  rcases hl with rfl | rfl
  · by_cases h3 : m = 3 + 3 ∧ j = k
    · rw [if_pos h3, if_pos (by omega), h3.1, h3.2]
    · rw [if_neg h3]
      by_cases h2 : m = 3 + 2 ∧ j = k
      · rw [if_pos h2, if_pos (by omega), h2.1, h2.2]
      · rw [if_neg h2]
        by_cases h1 : m = 3 + 1 ∧ j = k
        · rw [if_pos h1, if_pos (by omega), h1.1, h1.2]
        · rw [if_neg h1]
          by_cases h0 : m = 3 ∧ j = k
          · rw [if_pos h0, if_pos (by omega), h0.1, h0.2]
          · rw [if_neg h0]
            by_cases hc : 3 ≤ m ∧ m ≤ 3 + 3 ∧ j < k
            · rw [if_pos hc, if_pos (by omega)]
            · rw [if_neg hc, if_neg (by omega)]
  · by_cases h3 : m = 9 + 3 ∧ j = k
    · rw [if_pos h3, if_pos (by omega), h3.1, h3.2]
    · rw [if_neg h3]
      by_cases h2 : m = 9 + 2 ∧ j = k
      · rw [if_pos h2, if_pos (by omega), h2.1, h2.2]
      · rw [if_neg h2]
        by_cases h1 : m = 9 + 1 ∧ j = k
        · rw [if_pos h1, if_pos (by omega), h1.1, h1.2]
        · rw [if_neg h1]
          by_cases h0 : m = 9 ∧ j = k
          · rw [if_pos h0, if_pos (by omega), h0.1, h0.2]
          · rw [if_neg h0]
            by_cases hc : 9 ≤ m ∧ m ≤ 9 + 3 ∧ j < k
            · rw [if_pos hc, if_pos (by omega)]
            · rw [if_neg hc, if_neg (by omega)]
theorem bcW_2 (W : Nat → Nat → Int32) (k : Nat) : zv (zv (bcW W 7 8 k) 7 k (W 27 k)) 8 k (W 28 k) = bcW W 7 8 (k + 1) := by
  funext m j
  unfold zv bcW
  by_cases h1 : m = 8 ∧ j = k
  · rw [if_pos h1, if_pos (by omega), h1.1, h1.2]
  · rw [if_neg h1]
    by_cases h0 : m = 7 ∧ j = k
    · rw [if_pos h0, if_pos (by omega), h0.1, h0.2]
    · rw [if_neg h0]
      by_cases hc : 7 ≤ m ∧ m ≤ 8 ∧ j < k
      · rw [if_pos hc, if_pos (by omega)]
      · rw [if_neg hc, if_neg (by omega)]
/-- the counts and the first numbers taken over -/
def bcA (W : Nat → Nat → Int32) : Nat → Nat → Int32 := zv (cpy (zv (zv (zv (zv (zv (zv W 0 75 (W 0 111)) 0 76 (W 0 112)) 0 77 (W 0 113)) 0 78 (W 22 0)) 0 79 (W 22 1)) 0 80 (W 22 2)) 2 0 22 3 4) 0 81 (W 22 7)
def bcZ (W : Nat → Nat → Int32) (ns nb nf : Nat) : Nat → Nat → Int32 := bcW (bcW (bcW (bcA W) 3 6 ns) 7 8 nb) 9 12 nf
section
variable {κ : zC} {h : zH} {b : Nat} {W : Nat → Nat → Int32} {SM : Nat → Nat → Int64} {Q : zQ}
theorem e7_becomes {ns nb nf : Nat} (S : TSh κ h b) (h1 : W 0 111 = Int32.ofNat ns) (h2 : W 0 112 = Int32.ofNat nb) (h3 : W 0 113 = Int32.ofNat nf) (l1 : ns ≤ 10) (l2 : nb ≤ 6) (l3 : nf ≤ 16) : Ev κ mX7_becomes [.ref b] (hX h b 33 W SM) Q = Q (.inl none) (hX h b 33 (bcZ W ns nb nf) SM) := by
  have F := xF S
  have R := xR S
  have K := xK S
  have hB : kB κ ≤ b := S.1.1
  -- flows
  have lp4 := fun (W3 : Nat → Nat → Int32) (e : W3 0 77 = Int32.ofNat nf) => Go_fr (κ := κ) (m := mX7_becomes) (pc := 198) (n := nf) (Q := Q) (R := Q (.inl none) (hX h b 33 (bcW W3 9 12 nf) SM)) (fun k => [some (.ref b), some (.int (Int32.ofNat k))]) (fun k => hX h b 33 (bcW W3 9 12 k) SM) (fun k hk ih => by
    have e2 := bcW_4 W3 9 k (Or.inr rfl)
    simp only [Nat.reduceAdd] at e2
    rw [← e2] at ih
    have e0 : bcW W3 9 12 k 0 77 = Int32.ofNat nf := by unfold bcW; rw [if_neg (by omega)]; exact e
    have e3 : ∀ m, 12 < m → bcW W3 9 12 k m k = W3 m k := fun m hm => bcW_s hm
    simp (disch := first | assumption | omega | decide) only [gB, I_all, zK_v, zK_n, true_and, and_true, Nat.reduceAdd, Nat.reduceMul, Nat.reduceSub, z_lt, z_le, z_neq, not_false_eq_true, or_true, true_or, or_false, false_or, false_and, and_false, gX7_becomes_h.2.2.2]
    simp (disch := first | assumption | omega | decide) only [gB, I_all, zK_v, zK_n, true_and, and_true, Nat.reduceAdd, Nat.reduceMul, Nat.reduceSub, z_lt, z_le, z_neq, not_false_eq_true, or_true, true_or, or_false, false_or, false_and, and_false, gX7_becomes_1, gX7_becomes_2, F, R, K, e0, e3, zv_nx]
    exact ih) (by
    have e0 : bcW W3 9 12 nf 0 77 = Int32.ofNat nf := by unfold bcW; rw [if_neg (by omega)]; exact e
    simp (disch := first | assumption | omega | decide) only [gB, I_all, zK_v, zK_n, true_and, and_true, Nat.reduceAdd, Nat.reduceMul, Nat.reduceSub, z_lt, z_le, z_neq, not_false_eq_true, or_true, true_or, or_false, false_or, false_and, and_false, gX7_becomes_h.2.2.2]
    simp (disch := first | assumption | omega | decide) only [gB, I_all, zK_v, zK_n, true_and, and_true, Nat.reduceAdd, Nat.reduceMul, Nat.reduceSub, z_lt, z_le, z_neq, not_false_eq_true, or_true, true_or, or_false, false_or, false_and, and_false, gX7_becomes_1, gX7_becomes_2, F, R, K, e0])
  have lp3 := fun (W2 : Nat → Nat → Int32) (e : W2 0 77 = Int32.ofNat nf) (e' : W2 0 76 = Int32.ofNat nb) => Go_fr (κ := κ) (m := mX7_becomes) (pc := 158) (n := nb) (Q := Q) (R := Q (.inl none) (hX h b 33 (bcW (bcW W2 7 8 nb) 9 12 nf) SM)) (fun k => [some (.ref b), some (.int (Int32.ofNat k))]) (fun k => hX h b 33 (bcW W2 7 8 k) SM) (fun k hk ih => by
    have e2 := bcW_2 W2 k
    rw [← e2] at ih
    have e0 : bcW W2 7 8 k 0 76 = Int32.ofNat nb := by unfold bcW; rw [if_neg (by omega)]; exact e'
    have e3 : ∀ m, 8 < m → bcW W2 7 8 k m k = W2 m k := fun m hm => bcW_s hm
    simp (disch := first | assumption | omega | decide) only [gB, I_all, zK_v, zK_n, true_and, and_true, Nat.reduceAdd, Nat.reduceMul, Nat.reduceSub, z_lt, z_le, z_neq, not_false_eq_true, or_true, true_or, or_false, false_or, false_and, and_false, gX7_becomes_h.2.2.1]
    simp (disch := first | assumption | omega | decide) only [gB, I_all, zK_v, zK_n, true_and, and_true, Nat.reduceAdd, Nat.reduceMul, Nat.reduceSub, z_lt, z_le, z_neq, not_false_eq_true, or_true, true_or, or_false, false_or, false_and, and_false, gX7_becomes_1, gX7_becomes_2, F, R, K, e0, e3, zv_nx]
    exact ih) (by
    have e0 : bcW W2 7 8 nb 0 76 = Int32.ofNat nb := by unfold bcW; rw [if_neg (by omega)]; exact e'
    have l4 := lp4 (bcW W2 7 8 nb) (by unfold bcW; rw [if_neg (by omega)]; exact e)
    rw [bcW_0] at l4
    simp (disch := first | assumption | omega | decide) only [gB, I_all, zK_v, zK_n, true_and, and_true, Nat.reduceAdd, Nat.reduceMul, Nat.reduceSub, z_lt, z_le, z_neq, not_false_eq_true, or_true, true_or, or_false, false_or, false_and, and_false, gX7_becomes_h.2.2.1]
    simp (disch := first | assumption | omega | decide) only [gB, I_all, zK_v, zK_n, true_and, and_true, Nat.reduceAdd, Nat.reduceMul, Nat.reduceSub, z_lt, z_le, z_neq, not_false_eq_true, or_true, true_or, or_false, false_or, false_and, and_false, gX7_becomes_1, gX7_becomes_2, F, R, K, e0]
    exact l4)
  have lp2 := fun (W1 : Nat → Nat → Int32) (e : W1 0 77 = Int32.ofNat nf) (e' : W1 0 76 = Int32.ofNat nb) (e'' : W1 0 75 = Int32.ofNat ns) => Go_fr (κ := κ) (m := mX7_becomes) (pc := 94) (n := ns) (Q := Q) (R := Q (.inl none) (hX h b 33 (bcW (bcW (bcW W1 3 6 ns) 7 8 nb) 9 12 nf) SM)) (fun k => [some (.ref b), some (.int (Int32.ofNat k))]) (fun k => hX h b 33 (bcW W1 3 6 k) SM) (fun k hk ih => by
    have e2 := bcW_4 W1 3 k (Or.inl rfl)
    simp only [Nat.reduceAdd] at e2
    rw [← e2] at ih
    have e0 : bcW W1 3 6 k 0 75 = Int32.ofNat ns := by unfold bcW; rw [if_neg (by omega)]; exact e''
    have e3 : ∀ m, 6 < m → bcW W1 3 6 k m k = W1 m k := fun m hm => bcW_s hm
    simp (disch := first | assumption | omega | decide) only [gB, I_all, zK_v, zK_n, true_and, and_true, Nat.reduceAdd, Nat.reduceMul, Nat.reduceSub, z_lt, z_le, z_neq, not_false_eq_true, or_true, true_or, or_false, false_or, false_and, and_false, gX7_becomes_h.2.1]
    simp (disch := first | assumption | omega | decide) only [gB, I_all, zK_v, zK_n, true_and, and_true, Nat.reduceAdd, Nat.reduceMul, Nat.reduceSub, z_lt, z_le, z_neq, not_false_eq_true, or_true, true_or, or_false, false_or, false_and, and_false, gX7_becomes_1, gX7_becomes_2, F, R, K, e0, e3, zv_nx]
    exact ih) (by
    have e0 : bcW W1 3 6 ns 0 75 = Int32.ofNat ns := by unfold bcW; rw [if_neg (by omega)]; exact e''
    have l3 := lp3 (bcW W1 3 6 ns) (by unfold bcW; rw [if_neg (by omega)]; exact e) (by unfold bcW; rw [if_neg (by omega)]; exact e')
    rw [bcW_0] at l3
    simp (disch := first | assumption | omega | decide) only [gB, I_all, zK_v, zK_n, true_and, and_true, Nat.reduceAdd, Nat.reduceMul, Nat.reduceSub, z_lt, z_le, z_neq, not_false_eq_true, or_true, true_or, or_false, false_or, false_and, and_false, gX7_becomes_h.2.1]
    simp (disch := first | assumption | omega | decide) only [gB, I_all, zK_v, zK_n, true_and, and_true, Nat.reduceAdd, Nat.reduceMul, Nat.reduceSub, z_lt, z_le, z_neq, not_false_eq_true, or_true, true_or, or_false, false_or, false_and, and_false, gX7_becomes_1, gX7_becomes_2, F, R, K, e0]
    exact l3)
  have lp1 := fun (W0 : Nat → Nat → Int32) (e : W0 0 77 = Int32.ofNat nf) (e' : W0 0 76 = Int32.ofNat nb) (e'' : W0 0 75 = Int32.ofNat ns) => Go_fr (κ := κ) (m := mX7_becomes) (pc := 56) (n := 4) (Q := Q) (R := Q (.inl none) (hX h b 33 (bcW (bcW (bcW (zv (cpy W0 2 0 22 3 4) 0 81 (W0 22 7)) 3 6 ns) 7 8 nb) 9 12 nf) SM)) (fun k => [some (.ref b), some (.int (Int32.ofNat k))]) (fun k => hX h b 33 (cpy W0 2 0 22 3 k) SM) (fun k hk ih => by
    have e2 := cpy_up W0 2 0 22 3 k (Or.inl (by decide))
    simp only [Nat.zero_add] at e2
    rw [← e2] at ih
    simp (disch := first | assumption | omega | decide) only [gB, I_all, zK_v, zK_n, true_and, and_true, Nat.reduceAdd, Nat.reduceMul, Nat.reduceSub, z_lt, z_le, z_neq, not_false_eq_true, or_true, true_or, or_false, false_or, false_and, and_false, gX7_becomes_h.1]
    simp (disch := first | assumption | omega | decide) only [gB, I_all, zK_v, zK_n, true_and, and_true, Nat.reduceAdd, Nat.reduceMul, Nat.reduceSub, z_lt, z_le, z_neq, not_false_eq_true, or_true, true_or, or_false, false_or, false_and, and_false, gX7_becomes_1, gX7_becomes_2, F, R, K]
    exact ih) (by
    have e0 : cpy W0 2 0 22 3 4 22 7 = W0 22 7 := cpy_out (by omega)
    have l2 := lp2 (zv (cpy W0 2 0 22 3 4) 0 81 (W0 22 7)) (by rw [zv_nx (by omega), cpy_out (by omega)]; exact e) (by rw [zv_nx (by omega), cpy_out (by omega)]; exact e') (by rw [zv_nx (by omega), cpy_out (by omega)]; exact e'')
    rw [bcW_0] at l2
    simp (disch := first | assumption | omega | decide) only [gB, I_all, zK_v, zK_n, true_and, and_true, Nat.reduceAdd, Nat.reduceMul, Nat.reduceSub, z_lt, z_le, z_neq, not_false_eq_true, or_true, true_or, or_false, false_or, false_and, and_false, gX7_becomes_h.1]
    simp (disch := first | assumption | omega | decide) only [gB, I_all, zK_v, zK_n, true_and, and_true, Nat.reduceAdd, Nat.reduceMul, Nat.reduceSub, z_lt, z_le, z_neq, not_false_eq_true, or_true, true_or, or_false, false_or, false_and, and_false, gX7_becomes_1, gX7_becomes_2, F, R, K, e0]
    exact l2)
  have l1' := lp1 (zv (zv (zv (zv (zv (zv W 0 75 (W 0 111)) 0 76 (W 0 112)) 0 77 (W 0 113)) 0 78 (W 22 0)) 0 79 (W 22 1)) 0 80 (W 22 2))
    (by rw [zv_nx (by omega), zv_nx (by omega), zv_nx (by omega), zv_at rfl rfl, h3]) (by rw [zv_nx (by omega), zv_nx (by omega), zv_nx (by omega), zv_nx (by omega), zv_at rfl rfl, h2]) (by rw [zv_nx (by omega), zv_nx (by omega), zv_nx (by omega), zv_nx (by omega), zv_nx (by omega), zv_at rfl rfl, h1])
  rw [cpy_0] at l1'
  have e7 : zv (zv (zv (zv (zv (zv W 0 75 (W 0 111)) 0 76 (W 0 112)) 0 77 (W 0 113)) 0 78 (W 22 0)) 0 79 (W 22 1)) 0 80 (W 22 2) 22 7 = W 22 7 := by
    rw [zv_nx (by omega), zv_nx (by omega), zv_nx (by omega), zv_nx (by omega), zv_nx (by omega), zv_nx (by omega)]
  rw [e7] at l1'
  simp (disch := first | assumption | omega | decide) only [gB, I_all, zK_v, zK_n, true_and, and_true, Nat.reduceAdd, Nat.reduceMul, Nat.reduceSub, z_lt, z_le, z_neq, not_false_eq_true, or_true, true_or, or_false, false_or, false_and, and_false, gX7_becomes_1, gX7_becomes_2, F, R, K, zv_nx]
  exact l1'
/-- points and the time of the last leaving, of the first k stops -/
def c3W (W : Nat → Nat → Int32) (k : Nat) : Nat → Nat → Int32 := fun m j => if m = 13 ∧ 13 ≤ j ∧ j < 13 + k then W 6 (j - 13) else if m = 13 ∧ 33 ≤ j ∧ j < 33 + k then Int32.ofInt (-2) else W m j
theorem c3W_up (W : Nat → Nat → Int32) (k : Nat) (hk : k < 10) : zv (zv (c3W W k) 13 (13 + k) (W 6 k)) 13 (33 + k) (Int32.ofInt (-2)) = c3W W (k + 1) := by
  funext m j
  unfold zv c3W
  by_cases h1 : m = 13 ∧ j = 33 + k
  · rw [if_pos h1, if_neg (by omega), if_pos (by omega)]
  · rw [if_neg h1]
    by_cases h2 : m = 13 ∧ j = 13 + k
    · rw [if_pos h2, if_pos (by omega), h2.2, Nat.add_sub_cancel_left]
    · rw [if_neg h2]
      by_cases h3 : m = 13 ∧ 13 ≤ j ∧ j < 13 + k
      · rw [if_pos h3, if_pos (by omega)]
      · rw [if_neg h3, if_neg (show ¬ (m = 13 ∧ 13 ≤ j ∧ j < 13 + (k + 1)) by omega)]
        by_cases h4 : m = 13 ∧ 33 ≤ j ∧ j < 33 + k
        · rw [if_pos h4, if_pos (by omega)]
        · rw [if_neg h4, if_neg (by omega)]
/-- buses at their start, of the first k -/
def c5W (W : Nat → Nat → Int32) (k : Nat) : Nat → Nat → Int32 := fun m j => if m = 13 ∧ 164 ≤ j ∧ j < 164 + 13 * k ∧ (j - 164) % 13 = 2 then W 8 ((j - 164) / 13) else if m = 13 ∧ 164 ≤ j ∧ j < 164 + 13 * k ∧ ((j - 164) % 13 = 6 ∨ (j - 164) % 13 = 10) then Int32.ofInt (-2) else W m j
theorem c5W_up (W : Nat → Nat → Int32) (k : Nat) : zv (zv (zv (c5W W k) 13 (164 + 13 * k + 2) (W 8 k)) 13 (164 + 13 * k + 6) (Int32.ofInt (-2))) 13 (164 + 13 * k + 10) (Int32.ofInt (-2)) = c5W W (k + 1) := by
  funext m j
  unfold zv c5W
  by_cases h1 : m = 13 ∧ j = 164 + 13 * k + 10
  · rw [if_pos h1, if_neg (by omega), if_pos (by omega)]
  · rw [if_neg h1]
    by_cases h2 : m = 13 ∧ j = 164 + 13 * k + 6
    · rw [if_pos h2, if_neg (by omega), if_pos (by omega)]
    · rw [if_neg h2]
      by_cases h0 : m = 13 ∧ j = 164 + 13 * k + 2
      · rw [if_pos h0, if_pos (by omega)]
        congr 1
        omega
      · rw [if_neg h0]
        by_cases h3 : m = 13 ∧ 164 ≤ j ∧ j < 164 + 13 * k ∧ (j - 164) % 13 = 2
        · rw [if_pos h3, if_pos (by omega)]
        · rw [if_neg h3, if_neg (show ¬ (m = 13 ∧ 164 ≤ j ∧ j < 164 + 13 * (k + 1) ∧ (j - 164) % 13 = 2) by omega)]
          by_cases h4 : m = 13 ∧ 164 ≤ j ∧ j < 164 + 13 * k ∧ ((j - 164) % 13 = 6 ∨ (j - 164) % 13 = 10)
          · rw [if_pos h4, if_pos (by omega)]
          · rw [if_neg h4, if_neg (by omega)]
def c1W (W : Nat → Nat → Int32) (k : Nat) : Nat → Nat → Int32 := fun m j => if m = 13 ∧ j < k then Int32.ofNat 0 else W m j
theorem c1W_up (W : Nat → Nat → Int32) (k : Nat) : zv (c1W W k) 13 k (Int32.ofNat 0) = c1W W (k + 1) := by
  funext m j
  unfold zv c1W
  by_cases h1 : m = 13 ∧ j = k
  · rw [if_pos h1, if_pos (by omega)]
  · rw [if_neg h1]
    by_cases h2 : m = 13 ∧ j < k
    · rw [if_pos h2, if_pos (by omega)]
    · rw [if_neg h2, if_neg (by omega)]
/-- the world cleared -/
def clW (W : Nat → Nat → Int32) (ns nb nf : Nat) : Nat → Nat → Int32 := zv (zv (zv (c5W (cpy (c3W (cpy (zv (c1W W 3614) 13 1 (W 0 81)) 13 2 2 0 4) ns) 13 63 12 0 nf) nb) 21 0 (Int32.ofNat 0)) 21 1 (Int32.ofNat 0)) 0 102 (Int32.ofNat 0)
def clS (SM : Nat → Nat → Int64) : Nat → Nat → Int64 := zv (zv SM 14 0 (Int64.ofNat 0)) 14 1 (Int64.ofNat 0)
theorem e7_clear {ns nb nf : Nat} (S : TSh κ h b) (h1 : W 0 75 = Int32.ofNat ns) (h2 : W 0 76 = Int32.ofNat nb) (h3 : W 0 77 = Int32.ofNat nf) (l1 : ns ≤ 10) (l2 : nb ≤ 6) (l3 : nf ≤ 16) : Ev κ mX7_clear [.ref b] (hX h b 33 W SM) Q = Q (.inl none) (hX h b 33 (clW W ns nb nf) (clS SM)) := by
  have F := xF S
  have R := xR S
  have K := xK S
  have hB : kB κ ≤ b := S.1.1
  have z1 : narrow (zElT 4) (Value.int (Int32.ofNat 0)) = Value.int (Int32.ofNat 0) := by decide
  have lp5 := fun (W4 : Nat → Nat → Int32) (SM : Nat → Nat → Int64) (e : W4 0 76 = Int32.ofNat nb) => Go_fr (κ := κ) (m := mX7_clear) (pc := 148) (n := nb) (Q := Q) (R := Q (.inl none) (hX h b 33 (zv (zv (zv (c5W W4 nb) 21 0 (Int32.ofNat 0)) 21 1 (Int32.ofNat 0)) 0 102 (Int32.ofNat 0)) SM)) (fun k => [some (.ref b), some (.int (Int32.ofNat k))]) (fun k => hX h b 33 (c5W W4 k) SM) (fun k hk ih => by
    rw [← c5W_up] at ih
    have e0 : c5W W4 k 0 76 = Int32.ofNat nb := by unfold c5W; rw [if_neg (by omega), if_neg (by omega)]; exact e
    have e8 : c5W W4 k 8 k = W4 8 k := by unfold c5W; rw [if_neg (by omega), if_neg (by omega)]
    have es := fun (W : Nat → Nat → Int32) (c : Nat) (v : Int32) (hc : c < 13) (Q : zQ) => setsX (κ := κ) (W := W) (SM := SM) (Q := Q) (k := k) (c := c) (v := v) S (by omega)
    simp (disch := first | assumption | omega | decide) only [gB, I_all, zK_v, zK_n, true_and, and_true, Nat.reduceAdd, Nat.reduceMul, Nat.reduceSub, z_lt, z_le, z_neq, not_false_eq_true, or_true, true_or, or_false, false_or, false_and, and_false, gX7_clear_h.2.2.2.2]
    simp (disch := first | assumption | omega | decide) only [gB, I_all, zK_v, zK_n, true_and, and_true, Nat.reduceAdd, Nat.reduceMul, Nat.reduceSub, z_lt, z_le, z_neq, not_false_eq_true, or_true, true_or, or_false, false_or, false_and, and_false, gX7_clear_1, gX7_clear_2, F, R, K, e0, e8, es]
    exact ih) (by
    have e0 : c5W W4 nb 0 76 = Int32.ofNat nb := by unfold c5W; rw [if_neg (by omega), if_neg (by omega)]; exact e
    simp (disch := first | assumption | omega | decide) only [gB, I_all, zK_v, zK_n, true_and, and_true, Nat.reduceAdd, Nat.reduceMul, Nat.reduceSub, z_lt, z_le, z_neq, not_false_eq_true, or_true, true_or, or_false, false_or, false_and, and_false, gX7_clear_h.2.2.2.2]
    simp (disch := first | assumption | omega | decide) only [gB, I_all, zK_v, zK_n, true_and, and_true, Nat.reduceAdd, Nat.reduceMul, Nat.reduceSub, z_lt, z_le, z_neq, not_false_eq_true, or_true, true_or, or_false, false_or, false_and, and_false, gX7_clear_1, gX7_clear_2, F, R, K, e0, z1])
  have lp4 := fun (W3 : Nat → Nat → Int32) (SM : Nat → Nat → Int64) (e : W3 0 76 = Int32.ofNat nb) (e' : W3 0 77 = Int32.ofNat nf) => Go_fr (κ := κ) (m := mX7_clear) (pc := 117) (n := nf) (Q := Q) (R := Q (.inl none) (hX h b 33 (zv (zv (zv (c5W (cpy W3 13 63 12 0 nf) nb) 21 0 (Int32.ofNat 0)) 21 1 (Int32.ofNat 0)) 0 102 (Int32.ofNat 0)) SM)) (fun k => [some (.ref b), some (.int (Int32.ofNat k))]) (fun k => hX h b 33 (cpy W3 13 63 12 0 k) SM) (fun k hk ih => by
    have e2 := cpy_up W3 13 63 12 0 k (Or.inl (by decide))
    simp only [Nat.zero_add] at e2
    rw [← e2] at ih
    have e0 : cpy W3 13 63 12 0 k 0 77 = Int32.ofNat nf := by rw [cpy_out (by omega)]; exact e'
    simp (disch := first | assumption | omega | decide) only [gB, I_all, zK_v, zK_n, true_and, and_true, Nat.reduceAdd, Nat.reduceMul, Nat.reduceSub, z_lt, z_le, z_neq, not_false_eq_true, or_true, true_or, or_false, false_or, false_and, and_false, gX7_clear_h.2.2.2.1]
    simp (disch := first | assumption | omega | decide) only [gB, I_all, zK_v, zK_n, true_and, and_true, Nat.reduceAdd, Nat.reduceMul, Nat.reduceSub, z_lt, z_le, z_neq, not_false_eq_true, or_true, true_or, or_false, false_or, false_and, and_false, gX7_clear_1, gX7_clear_2, F, R, K, e0]
    exact ih) (by
    have e0 : cpy W3 13 63 12 0 nf 0 77 = Int32.ofNat nf := by rw [cpy_out (by omega)]; exact e'
    have l5 := lp5 (cpy W3 13 63 12 0 nf) SM (by rw [cpy_out (by omega)]; exact e)
    have z5 : ∀ W, c5W W 0 = W := fun W => by
      funext m j
      unfold c5W
      rw [if_neg (by omega), if_neg (by omega)]
    rw [z5] at l5
    simp (disch := first | assumption | omega | decide) only [gB, I_all, zK_v, zK_n, true_and, and_true, Nat.reduceAdd, Nat.reduceMul, Nat.reduceSub, z_lt, z_le, z_neq, not_false_eq_true, or_true, true_or, or_false, false_or, false_and, and_false, gX7_clear_h.2.2.2.1]
    simp (disch := first | assumption | omega | decide) only [gB, I_all, zK_v, zK_n, true_and, and_true, Nat.reduceAdd, Nat.reduceMul, Nat.reduceSub, z_lt, z_le, z_neq, not_false_eq_true, or_true, true_or, or_false, false_or, false_and, and_false, gX7_clear_1, gX7_clear_2, F, R, K, e0]
    exact l5)
  have lp3 := fun (W2 : Nat → Nat → Int32) (SM : Nat → Nat → Int64) (e : W2 0 76 = Int32.ofNat nb) (e' : W2 0 77 = Int32.ofNat nf) (e'' : W2 0 75 = Int32.ofNat ns) => Go_fr (κ := κ) (m := mX7_clear) (pc := 75) (n := ns) (Q := Q) (R := Q (.inl none) (hX h b 33 (zv (zv (zv (c5W (cpy (c3W W2 ns) 13 63 12 0 nf) nb) 21 0 (Int32.ofNat 0)) 21 1 (Int32.ofNat 0)) 0 102 (Int32.ofNat 0)) SM)) (fun k => [some (.ref b), some (.int (Int32.ofNat k))]) (fun k => hX h b 33 (c3W W2 k) SM) (fun k hk ih => by
    rw [← c3W_up _ _ (by omega)] at ih
    have e0 : c3W W2 k 0 75 = Int32.ofNat ns := by unfold c3W; rw [if_neg (by omega), if_neg (by omega)]; exact e''
    have e6 : c3W W2 k 6 k = W2 6 k := by unfold c3W; rw [if_neg (by omega), if_neg (by omega)]
    simp (disch := first | assumption | omega | decide) only [gB, I_all, zK_v, zK_n, true_and, and_true, Nat.reduceAdd, Nat.reduceMul, Nat.reduceSub, z_lt, z_le, z_neq, not_false_eq_true, or_true, true_or, or_false, false_or, false_and, and_false, gX7_clear_h.2.2.1]
    simp (disch := first | assumption | omega | decide) only [gB, I_all, zK_v, zK_n, true_and, and_true, Nat.reduceAdd, Nat.reduceMul, Nat.reduceSub, z_lt, z_le, z_neq, not_false_eq_true, or_true, true_or, or_false, false_or, false_and, and_false, gX7_clear_1, gX7_clear_2, F, R, K, e0, e6]
    exact ih) (by
    have e0 : c3W W2 ns 0 75 = Int32.ofNat ns := by unfold c3W; rw [if_neg (by omega), if_neg (by omega)]; exact e''
    have l4 := lp4 (c3W W2 ns) SM (by unfold c3W; rw [if_neg (by omega), if_neg (by omega)]; exact e) (by unfold c3W; rw [if_neg (by omega), if_neg (by omega)]; exact e')
    rw [cpy_0] at l4
    simp (disch := first | assumption | omega | decide) only [gB, I_all, zK_v, zK_n, true_and, and_true, Nat.reduceAdd, Nat.reduceMul, Nat.reduceSub, z_lt, z_le, z_neq, not_false_eq_true, or_true, true_or, or_false, false_or, false_and, and_false, gX7_clear_h.2.2.1]
    simp (disch := first | assumption | omega | decide) only [gB, I_all, zK_v, zK_n, true_and, and_true, Nat.reduceAdd, Nat.reduceMul, Nat.reduceSub, z_lt, z_le, z_neq, not_false_eq_true, or_true, true_or, or_false, false_or, false_and, and_false, gX7_clear_1, gX7_clear_2, F, R, K, e0]
    exact l4)
  have lp2 := fun (W1 : Nat → Nat → Int32) (SM : Nat → Nat → Int64) (e : W1 0 76 = Int32.ofNat nb) (e' : W1 0 77 = Int32.ofNat nf) (e'' : W1 0 75 = Int32.ofNat ns) => Go_fr (κ := κ) (m := mX7_clear) (pc := 48) (n := 4) (Q := Q) (R := Q (.inl none) (hX h b 33 (zv (zv (zv (c5W (cpy (c3W (cpy W1 13 2 2 0 4) ns) 13 63 12 0 nf) nb) 21 0 (Int32.ofNat 0)) 21 1 (Int32.ofNat 0)) 0 102 (Int32.ofNat 0)) SM)) (fun k => [some (.ref b), some (.int (Int32.ofNat k))]) (fun k => hX h b 33 (cpy W1 13 2 2 0 k) SM) (fun k hk ih => by
    have e2 := cpy_up W1 13 2 2 0 k (Or.inl (by decide))
    simp only [Nat.zero_add] at e2
    rw [← e2] at ih
    simp (disch := first | assumption | omega | decide) only [gB, I_all, zK_v, zK_n, true_and, and_true, Nat.reduceAdd, Nat.reduceMul, Nat.reduceSub, z_lt, z_le, z_neq, not_false_eq_true, or_true, true_or, or_false, false_or, false_and, and_false, gX7_clear_h.2.1]
    simp (disch := first | assumption | omega | decide) only [gB, I_all, zK_v, zK_n, true_and, and_true, Nat.reduceAdd, Nat.reduceMul, Nat.reduceSub, z_lt, z_le, z_neq, not_false_eq_true, or_true, true_or, or_false, false_or, false_and, and_false, gX7_clear_1, gX7_clear_2, F, R, K]
    exact ih) (by
    have l3 := lp3 (cpy W1 13 2 2 0 4) SM (by rw [cpy_out (by omega)]; exact e) (by rw [cpy_out (by omega)]; exact e') (by rw [cpy_out (by omega)]; exact e'')
    have z3 : ∀ W, c3W W 0 = W := fun W => by
      funext m j
      unfold c3W
      rw [if_neg (by omega), if_neg (by omega)]
    rw [z3] at l3
    simp (disch := first | assumption | omega | decide) only [gB, I_all, zK_v, zK_n, true_and, and_true, Nat.reduceAdd, Nat.reduceMul, Nat.reduceSub, z_lt, z_le, z_neq, not_false_eq_true, or_true, true_or, or_false, false_or, false_and, and_false, gX7_clear_h.2.1]
    simp (disch := first | assumption | omega | decide) only [gB, I_all, zK_v, zK_n, true_and, and_true, Nat.reduceAdd, Nat.reduceMul, Nat.reduceSub, z_lt, z_le, z_neq, not_false_eq_true, or_true, true_or, or_false, false_or, false_and, and_false, gX7_clear_1, gX7_clear_2, F, R, K]
    exact l3)
  have lp1 := Go_fr (κ := κ) (m := mX7_clear) (pc := 2) (n := 3614) (Q := Q) (R := Q (.inl none) (hX h b 33 (clW W ns nb nf) (clS SM))) (fun k => [some (.ref b), some (.int (Int32.ofNat k))]) (fun k => hX h b 33 (c1W W k) SM) (fun k hk ih => by
    rw [← c1W_up] at ih
    simp (disch := first | assumption | omega | decide) only [gB, I_all, zK_v, zK_n, true_and, and_true, Nat.reduceAdd, Nat.reduceMul, Nat.reduceSub, z_lt, z_le, z_neq, not_false_eq_true, or_true, true_or, or_false, false_or, false_and, and_false, gX7_clear_h.1]
    simp (disch := first | assumption | omega | decide) only [gB, I_all, zK_v, zK_n, true_and, and_true, Nat.reduceAdd, Nat.reduceMul, Nat.reduceSub, z_lt, z_le, z_neq, not_false_eq_true, or_true, true_or, or_false, false_or, false_and, and_false, gX7_clear_1, gX7_clear_2, F, R, K]
    exact ih) (by
    have eo : ∀ j, c1W W 3614 0 j = W 0 j := fun j => by unfold c1W; rw [if_neg (by omega)]
    have l2' := lp2 (zv (c1W W 3614) 13 1 (W 0 81)) (clS SM) (by rw [zv_nx (by omega), eo]; exact h2) (by rw [zv_nx (by omega), eo]; exact h3) (by rw [zv_nx (by omega), eo]; exact h1)
    rw [cpy_0] at l2'
    unfold clS at l2' ⊢
    unfold clW
    simp (disch := first | assumption | omega | decide) only [gB, I_all, zK_v, zK_n, true_and, and_true, Nat.reduceAdd, Nat.reduceMul, Nat.reduceSub, z_lt, z_le, z_neq, not_false_eq_true, or_true, true_or, or_false, false_or, false_and, and_false, gX7_clear_h.1]
    simp (disch := first | assumption | omega | decide) only [gB, I_all, zK_v, zK_n, true_and, and_true, Nat.reduceAdd, Nat.reduceMul, Nat.reduceSub, z_lt, z_le, z_neq, not_false_eq_true, or_true, true_or, or_false, false_or, false_and, and_false, gX7_clear_1, gX7_clear_2, F, R, K, eo]
    exact l2')
  have z0 : c1W W 0 = W := by
    funext m j
    unfold c1W
    rw [if_neg (by omega)]
  rw [z0] at lp1
  simp (disch := first | assumption | omega | decide) only [gB, I_all, zK_v, zK_n, true_and, and_true, Nat.reduceAdd, Nat.reduceMul, Nat.reduceSub, z_lt, z_le, z_neq, not_false_eq_true, or_true, true_or, or_false, false_or, false_and, and_false, gX7_clear_1, gX7_clear_2]
  exact lp1
end
