/-! the component: a rider removed; counts of riders -/
section
variable {κ : zC} {h : zH} {a n K cap : Nat} {W : Nat → Nat → Int32} {SM : Nat → Nat → Int64} {Q : zQ}
/-- those from x on, up to k, moved down by one; many is m -/
def rmW (W : Nat → Nat → Int32) (K x k m : Nat) : Nat → Nat → Int32 := fun c j => if c = K ∧ j = 50 then Int32.ofNat m else if K + 1 ≤ c ∧ c ≤ K + 3 ∧ x ≤ j ∧ j < k then W c (j + 1) else W c j
theorem rmW_0 (W : Nat → Nat → Int32) (K x m : Nat) : rmW W K x x m = zv W K 50 (Int32.ofNat m) := by
  funext c j
  unfold rmW zv
  by_cases h1 : c = K ∧ j = 50
  · rw [if_pos h1, if_pos h1]
  · rw [if_neg h1, if_neg h1, if_neg (by omega)]
theorem rmW_s (W : Nat → Nat → Int32) (K x k m : Nat) (hk : x ≤ k) : zv (zv (zv (rmW W K x k m) (K + 1) k (W (K + 1) (k + 1))) (K + 2) k (W (K + 2) (k + 1))) (K + 3) k (W (K + 3) (k + 1)) = rmW W K x (k + 1) m := by
  funext c j
  unfold zv rmW
  by_cases h1 : c = K + 3 ∧ j = k
  · rw [if_pos h1, if_neg (by omega), if_pos (by omega), h1.1, h1.2]
  · rw [if_neg h1]
    by_cases h2 : c = K + 2 ∧ j = k
    · rw [if_pos h2, if_neg (by omega), if_pos (by omega), h2.1, h2.2]
    · rw [if_neg h2]
      by_cases h3 : c = K + 1 ∧ j = k
      · rw [if_pos h3, if_neg (by omega), if_pos (by omega), h3.1, h3.2]
      · rw [if_neg h3]
        by_cases h4 : c = K ∧ j = 50
        · rw [if_pos h4, if_pos h4]
        · rw [if_neg h4, if_neg h4]
          by_cases h5 : K + 1 ≤ c ∧ c ≤ K + 3 ∧ x ≤ j ∧ j < k
          · rw [if_pos h5, if_pos (by omega)]
          · rw [if_neg h5, if_neg (by omega)]
theorem e4_remove {x m : Nat} (S : RSh h a n K cap) (hB : kB κ ≤ a) (hm : W K 50 = Int32.ofNat (m + 1)) (hx : x ≤ m) (hc : m + 1 ≤ cap) (hc2 : cap < 1000) : Ev κ mX4_remove [.ref (a + K), .int (Int32.ofNat x)] (hX h a n W SM) Q = Q (.inl none) (hX h a n (rmW W K x m m) SM) := by
  have F := rF S
  have lp : ∀ d k, k + d = m → x ≤ k → Go κ mX4_remove 12 [some (.ref (a + K)), some (.int (Int32.ofNat x)), some (.int (Int32.ofNat k))] [] (hX h a n (rmW W K x k m) SM) Q = Q (.inl none) (hX h a n (rmW W K x m m) SM) := by
    intro d
    induction d with
    | zero =>
      intro k hk hxk
      have hk' : k = m := by omega
      subst hk'
      have e0 : rmW W K x k k K 50 = Int32.ofNat k := if_pos ⟨rfl, rfl⟩
      simp (disch := first | assumption | omega | decide) only [gB, I_all, zK_v, zK_n, true_and, and_true, Nat.reduceAdd, Nat.reduceMul, Nat.reduceSub, z_lt, z_le, z_neq, not_false_eq_true, or_true, true_or, or_false, false_or, false_and, and_false, gX4_remove_h]
      simp (disch := first | assumption | omega | decide) only [gB, I_all, zK_v, zK_n, true_and, and_true, Nat.reduceAdd, Nat.reduceMul, Nat.reduceSub, z_lt, z_le, z_neq, not_false_eq_true, or_true, true_or, or_false, false_or, false_and, and_false, gX4_remove, F, e0]
    | succ d ih =>
      intro k hk hxk
      have e0 : rmW W K x k m K 50 = Int32.ofNat m := if_pos ⟨rfl, rfl⟩
      have ev : ∀ c, K + 1 ≤ c → c ≤ K + 3 → rmW W K x k m c (k + 1) = W c (k + 1) := fun c h1 h2 => by
        unfold rmW
        rw [if_neg (by omega), if_neg (by omega)]
      have e1 := ev (K + 1) (by omega) (by omega)
      have e2 := ev (K + 2) (by omega) (by omega)
      have e3 := ev (K + 3) (by omega) (by omega)
      have i := ih (k + 1) (by omega) (by omega)
      rw [← rmW_s W K x k m hxk] at i
      simp (disch := first | assumption | omega | decide) only [gB, I_all, zK_v, zK_n, true_and, and_true, Nat.reduceAdd, Nat.reduceMul, Nat.reduceSub, z_lt, z_le, z_neq, not_false_eq_true, or_true, true_or, or_false, false_or, false_and, and_false, gX4_remove_h]
      simp (disch := first | assumption | omega | decide) only [gB, I_all, zK_v, zK_n, true_and, and_true, Nat.reduceAdd, Nat.reduceMul, Nat.reduceSub, z_lt, z_le, z_neq, not_false_eq_true, or_true, true_or, or_false, false_or, false_and, and_false, gX4_remove, F, e0, e1, e2, e3, zv_nx]
      exact i
  have l0 := lp (m - x) x (by omega) (Nat.le_refl _)
  rw [rmW_0] at l0
  have es : Int32.ofNat (m + 1) - Int32.ofNat 1 = Int32.ofNat m := by rw [I_sub (by omega), Nat.add_sub_cancel]
  simp (disch := first | assumption | omega | decide) only [gB, I_all, zK_v, zK_n, true_and, and_true, Nat.reduceAdd, Nat.reduceMul, Nat.reduceSub, z_lt, z_le, z_neq, not_false_eq_true, or_true, true_or, or_false, false_or, false_and, and_false, gX4_remove, F, hm, es]
  exact l0
theorem RC_rm {x : Nat} {l : List Rd} (R : RC W K l) {m : Nat} (hm : l.length = m + 1) (hx : x ≤ m) : RC (rmW W K x m m) K (l.eraseIdx x) := by
  obtain ⟨r1, r2⟩ := R
  refine ⟨?_, fun i r hi => ?_⟩
  · rw [List.length_eraseIdx, if_pos (by omega), hm]
    exact if_pos ⟨rfl, rfl⟩
  · have hl := (List.getElem?_eq_some_iff.mp hi).1
    rw [List.length_eraseIdx, if_pos (by omega)] at hl
    rw [List.getElem?_eraseIdx] at hi
    by_cases h1 : i < x
    · rw [if_pos h1] at hi
      obtain ⟨t1, t2, t3⟩ := r2 i r hi
      unfold rmW
      exact ⟨by rw [if_neg (by omega), if_neg (by omega), t1], by rw [if_neg (by omega), if_neg (by omega), t2], by rw [if_neg (by omega), if_neg (by omega), t3]⟩
    · rw [if_neg h1] at hi
      obtain ⟨t1, t2, t3⟩ := r2 (i + 1) r hi
      unfold rmW
      exact ⟨by rw [if_neg (by omega), if_pos (by omega), t1], by rw [if_neg (by omega), if_pos (by omega), t2], by rw [if_neg (by omega), if_pos (by omega), t3]⟩
theorem rmW_o {x k m c j : Nat} (hk : c < K ∨ K + 3 < c) : rmW W K x k m c j = W c j := by
  unfold rmW
  rw [if_neg (by omega), if_neg (by omega)]
end
