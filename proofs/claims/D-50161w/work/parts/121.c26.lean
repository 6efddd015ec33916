/-! the component: riders, leavings, buses copied -/
/-- a heap after copying: three arrays' first m from s to t, t's field f set -/
def rc (h : zH) (s t m : Nat) : zH := hC (hC (hC (hW h t 50 (.int (Int32.ofNat m))) (s + 1) 0 (t + 1) 0 m) (s + 2) 0 (t + 2) 0 m) (s + 3) 0 (t + 3) 0 m
section
variable {κ : zC} {h : zH} {Q : zQ} {s t m c c' : Nat}
theorem rc_K (x : Nat) : hK (rc h s t m) x = hK h x := rfl
theorem rc_L (x : Nat) : hL (rc h s t m) x = hL h x := rfl
theorem rc_N : hN (rc h s t m) = hN h := rfl
theorem rc_U : hU (rc h s t m) = hU h := rfl
theorem rc_o {x : Nat} (hx : x < t ∨ t + 4 ≤ x) (j : Nat) : hV (rc h s t m) x j = hV h x j := by
  unfold rc
  rw [hV_Cn (by omega), hV_Cn (by omega), hV_Cn (by omega), hV_Wn (by omega)]
theorem rc_t (j : Nat) : hV (rc h s t m) t j = if j = 50 then .int (Int32.ofNat m) else hV h t j := by
  unfold rc
  rw [hV_Cn (by omega), hV_Cn (by omega), hV_Cn (by omega), hV_W, if_pos rfl]
theorem rc_i {i : Nat} (h1 : 1 ≤ i) (h3 : i ≤ 3) (hs : s + 4 ≤ t ∨ t + 4 ≤ s) (j : Nat) : hV (rc h s t m) (t + i) j = if j < m then hV h (s + i) j else hV h (t + i) j := by
  have hi : i = 1 ∨ i = 2 ∨ i = 3 := by omega
  unfold rc
  rcases hi with rfl | rfl | rfl
  · rw [hV_Cn (by omega), hV_Cn (by omega), hV_C, if_pos rfl]
    by_cases d : j < m
    · rw [if_pos (by omega), if_pos d, hV_Wn (by omega)]; congr 1; omega
    · rw [if_neg (by omega), if_neg d, hV_Wn (by omega)]
  · rw [hV_Cn (by omega), hV_C, if_pos rfl]
    by_cases d : j < m
    · rw [if_pos (by omega), if_pos d, hV_Cn (by omega), hV_Wn (by omega)]; congr 1; omega
    · rw [if_neg (by omega), if_neg d, hV_Cn (by omega), hV_Wn (by omega)]
  · rw [hV_C, if_pos rfl]
    by_cases d : j < m
    · rw [if_pos (by omega), if_pos d, hV_Cn (by omega), hV_Cn (by omega), hV_Wn (by omega)]; congr 1; omega
    · rw [if_neg (by omega), if_neg d, hV_Cn (by omega), hV_Cn (by omega), hV_Wn (by omega)]
/-- three arrays of ints behind an object -/
def R3 (h : zH) (r g cap : Nat) : Prop := (∀ i, 1 ≤ i → i ≤ 3 → hV h r (g + i) = .ref (r + i)) ∧ ∀ i, 1 ≤ i → i ≤ 3 → hK h (r + i) = 1 ∧ hL h (r + i) = cap ∧ ∀ j, isI (hV h (r + i) j)
theorem zOks_I {h : zH} {a b sp n : Nat} (ka : hK h b = 1) (e : ∀ j, isI (hV h a j)) : zOks h a b sp n := by
  intro j _
  obtain ⟨x, hx⟩ := e (sp + j)
  rw [ka, hx]
  rfl
theorem e4_copyTo (ks : hK h s = 104) (Rs : R3 h s 46 c) (ms : hV h s 50 = .int (Int32.ofNat m)) (kt : hK h t = 104) (Rt : R3 h t 46 c') (hm : m ≤ c) (hm' : m ≤ c') (hc : m < 1000) (hB : kB κ ≤ t) (hs : s + 4 ≤ t ∨ t + 4 ≤ s) : Ev κ mX4_copyTo [.ref s, .ref t] h Q = Q (.inl none) (rc h s t m) := by
  obtain ⟨r1, r2⟩ := Rs
  obtain ⟨t1, t2⟩ := Rt
  have a1 := r1 1 (by omega) (by omega)
  have a2 := r1 2 (by omega) (by omega)
  have a3 := r1 3 (by omega) (by omega)
  have b1 := t1 1 (by omega) (by omega)
  have b2 := t1 2 (by omega) (by omega)
  have b3 := t1 3 (by omega) (by omega)
  obtain ⟨p1, p2, p3⟩ := r2 1 (by omega) (by omega)
  obtain ⟨p4, p5, p6⟩ := r2 2 (by omega) (by omega)
  obtain ⟨p7, p8, p9⟩ := r2 3 (by omega) (by omega)
  obtain ⟨q1, q2, q3⟩ := t2 1 (by omega) (by omega)
  obtain ⟨q4, q5, q6⟩ := t2 2 (by omega) (by omega)
  obtain ⟨q7, q8, q9⟩ := t2 3 (by omega) (by omega)
  have z1 : zArr 1 = true := rfl
  have hB1 : ∀ i, kB κ ≤ t + i := fun i => by omega
  have vW : ∀ x j v, (x ≠ t ∨ j ≠ 50) → hV (hW h t 50 v) x j = hV h x j := fun x j v hx => by
    rcases hx with hx | hx
    · exact hV_Wn hx j
    · exact hV_Wj hx
  have w0 : hV (hW h t 50 (.int (Int32.ofNat m))) s 50 = .int (Int32.ofNat m) := by rw [vW _ _ _ (Or.inl (by omega)), ms]
  have w1 : hV (hW h t 50 (.int (Int32.ofNat m))) s 47 = .ref (s + 1) := by rw [vW _ _ _ (Or.inl (by omega))]; exact a1
  have w2 : hV (hW h t 50 (.int (Int32.ofNat m))) t 47 = .ref (t + 1) := by rw [vW _ _ _ (Or.inr (by omega))]; exact b1
  have o1 : zOks (hW h t 50 (.int (Int32.ofNat m))) (s + 1) (t + 1) 0 m := zOks_I q1 fun j => by rw [vW _ _ _ (Or.inl (by omega))]; exact p3 j
  have c1 : ∀ x j, x ≠ t + 1 → hV (hC (hW h t 50 (.int (Int32.ofNat m))) (s + 1) 0 (t + 1) 0 m) x j = hV (hW h t 50 (.int (Int32.ofNat m))) x j := fun x j hx => hV_Cn hx j
  have w3 : hV (hC (hW h t 50 (.int (Int32.ofNat m))) (s + 1) 0 (t + 1) 0 m) s 48 = .ref (s + 2) := by rw [c1 _ _ (by omega), vW _ _ _ (Or.inl (by omega))]; exact a2
  have w4 : hV (hC (hW h t 50 (.int (Int32.ofNat m))) (s + 1) 0 (t + 1) 0 m) t 48 = .ref (t + 2) := by rw [c1 _ _ (by omega), vW _ _ _ (Or.inr (by omega))]; exact b2
  have w5 : hV (hC (hW h t 50 (.int (Int32.ofNat m))) (s + 1) 0 (t + 1) 0 m) s 50 = .int (Int32.ofNat m) := by rw [c1 _ _ (by omega)]; exact w0
  have o2 : zOks (hC (hW h t 50 (.int (Int32.ofNat m))) (s + 1) 0 (t + 1) 0 m) (s + 2) (t + 2) 0 m := zOks_I q4 fun j => by rw [c1 _ _ (by omega), vW _ _ _ (Or.inl (by omega))]; exact p6 j
  have c2 : ∀ x j, x ≠ t + 2 → hV (hC (hC (hW h t 50 (.int (Int32.ofNat m))) (s + 1) 0 (t + 1) 0 m) (s + 2) 0 (t + 2) 0 m) x j = hV (hC (hW h t 50 (.int (Int32.ofNat m))) (s + 1) 0 (t + 1) 0 m) x j := fun x j hx => hV_Cn hx j
  have w6 : hV (hC (hC (hW h t 50 (.int (Int32.ofNat m))) (s + 1) 0 (t + 1) 0 m) (s + 2) 0 (t + 2) 0 m) s 49 = .ref (s + 3) := by rw [c2 _ _ (by omega), c1 _ _ (by omega), vW _ _ _ (Or.inl (by omega))]; exact a3
  have w7 : hV (hC (hC (hW h t 50 (.int (Int32.ofNat m))) (s + 1) 0 (t + 1) 0 m) (s + 2) 0 (t + 2) 0 m) t 49 = .ref (t + 3) := by rw [c2 _ _ (by omega), c1 _ _ (by omega), vW _ _ _ (Or.inr (by omega))]; exact b3
  have w8 : hV (hC (hC (hW h t 50 (.int (Int32.ofNat m))) (s + 1) 0 (t + 1) 0 m) (s + 2) 0 (t + 2) 0 m) s 50 = .int (Int32.ofNat m) := by rw [c2 _ _ (by omega)]; exact w5
  have o3 : zOks (hC (hC (hW h t 50 (.int (Int32.ofNat m))) (s + 1) 0 (t + 1) 0 m) (s + 2) 0 (t + 2) 0 m) (s + 3) (t + 3) 0 m := zOks_I q7 fun j => by rw [c2 _ _ (by omega), c1 _ _ (by omega), vW _ _ _ (Or.inl (by omega))]; exact p9 j
  have o1' := eq_true o1
  have o2' := eq_true o2
  have o3' := eq_true o3
  simp (disch := first | assumption | omega | decide) only [gB, I_all, zK_v, zK_n, true_and, and_true, Nat.reduceAdd, Nat.reduceMul, Nat.reduceSub, z_lt, z_le, z_neq, not_false_eq_true, or_true, true_or, or_false, false_or, false_and, and_false, gX4_copyTo, ks, kt, ms, w0, w1, w2, w3, w4, w5, w6, w7, w8, o1', o2', o3', hK_W, hL_W, hK_C, hL_C, p1, p2, p4, p5, p7, p8, q1, q2, q4, q5, q7, q8, z1, hB1, I_0le, I_nat]
  rfl
/-- leavings copied -/
def lc (h : zH) (s t : Nat) (x y z : Int32) : zH := hC (hC (hC (hW (hW (hW h t 54 (.int x)) t 55 (.int y)) t 56 (.int z)) (s + 1) 0 (t + 1) 0 8) (s + 2) 0 (t + 2) 0 8) (s + 3) 0 (t + 3) 0 8
theorem lc_K {x y z : Int32} (u : Nat) : hK (lc h s t x y z) u = hK h u := rfl
theorem lc_L {x y z : Int32} (u : Nat) : hL (lc h s t x y z) u = hL h u := rfl
theorem lc_N {x y z : Int32} : hN (lc h s t x y z) = hN h := rfl
theorem lc_U {x y z : Int32} : hU (lc h s t x y z) = hU h := rfl
theorem lc_o {x y z : Int32} {u : Nat} (hu : u < t ∨ t + 4 ≤ u) (j : Nat) : hV (lc h s t x y z) u j = hV h u j := by
  unfold lc
  rw [hV_Cn (by omega), hV_Cn (by omega), hV_Cn (by omega), hV_Wn (by omega), hV_Wn (by omega), hV_Wn (by omega)]
theorem lc_t {x y z : Int32} (j : Nat) : hV (lc h s t x y z) t j = if j = 56 then .int z else if j = 55 then .int y else if j = 54 then .int x else hV h t j := by
  unfold lc
  rw [hV_Cn (by omega), hV_Cn (by omega), hV_Cn (by omega), hV_W, if_pos rfl, hV_W, if_pos rfl, hV_W, if_pos rfl]
theorem lc_i {x y z : Int32} {i : Nat} (h1 : 1 ≤ i) (h3 : i ≤ 3) (hs : s + 4 ≤ t ∨ t + 4 ≤ s) (j : Nat) : hV (lc h s t x y z) (t + i) j = if j < 8 then hV h (s + i) j else hV h (t + i) j := by
  have hi : i = 1 ∨ i = 2 ∨ i = 3 := by omega
  have w : ∀ u j, u ≠ t → hV (hW (hW (hW h t 54 (.int x)) t 55 (.int y)) t 56 (.int z)) u j = hV h u j := fun u j hu => by rw [hV_Wn hu, hV_Wn hu, hV_Wn hu]
  unfold lc
  rcases hi with rfl | rfl | rfl
  · rw [hV_Cn (by omega), hV_Cn (by omega), hV_C, if_pos rfl]
    by_cases d : j < 8
    · rw [if_pos (by omega), if_pos d, w _ _ (by omega)]; congr 1; omega
    · rw [if_neg (by omega), if_neg d, w _ _ (by omega)]
  · rw [hV_Cn (by omega), hV_C, if_pos rfl]
    by_cases d : j < 8
    · rw [if_pos (by omega), if_pos d, hV_Cn (by omega), w _ _ (by omega)]; congr 1; omega
    · rw [if_neg (by omega), if_neg d, hV_Cn (by omega), w _ _ (by omega)]
  · rw [hV_C, if_pos rfl]
    by_cases d : j < 8
    · rw [if_pos (by omega), if_pos d, hV_Cn (by omega), hV_Cn (by omega), w _ _ (by omega)]; congr 1; omega
    · rw [if_neg (by omega), if_neg d, hV_Cn (by omega), hV_Cn (by omega), w _ _ (by omega)]
theorem e5_copyTo {x y z : Int32} (ks : hK h s = 105) (Rs : R3 h s 50 8) (v4 : hV h s 54 = .int x) (v5 : hV h s 55 = .int y) (v6 : hV h s 56 = .int z) (kt : hK h t = 105) (Rt : R3 h t 50 8) (hB : kB κ ≤ t) (hs : s + 4 ≤ t ∨ t + 4 ≤ s) : Ev κ mX5_copyTo [.ref s, .ref t] h Q = Q (.inl none) (lc h s t x y z) := by
  obtain ⟨r1, r2⟩ := Rs
  obtain ⟨t1, t2⟩ := Rt
  have a1 := r1 1 (by omega) (by omega)
  have a2 := r1 2 (by omega) (by omega)
  have a3 := r1 3 (by omega) (by omega)
  have b1 := t1 1 (by omega) (by omega)
  have b2 := t1 2 (by omega) (by omega)
  have b3 := t1 3 (by omega) (by omega)
  obtain ⟨p1, p2, p3⟩ := r2 1 (by omega) (by omega)
  obtain ⟨p4, p5, p6⟩ := r2 2 (by omega) (by omega)
  obtain ⟨p7, p8, p9⟩ := r2 3 (by omega) (by omega)
  obtain ⟨q1, q2, q3⟩ := t2 1 (by omega) (by omega)
  obtain ⟨q4, q5, q6⟩ := t2 2 (by omega) (by omega)
  obtain ⟨q7, q8, q9⟩ := t2 3 (by omega) (by omega)
  have z1 : zArr 1 = true := rfl
  have hB1 : ∀ i, kB κ ≤ t + i := fun i => by omega
  have g4 : hV (hW h t 54 (.int x)) s 55 = .int y := by rw [hV_Wn (by omega)]; exact v5
  have g5 : hV (hW (hW h t 54 (.int x)) t 55 (.int y)) s 56 = .int z := by rw [hV_Wn (by omega), hV_Wn (by omega)]; exact v6
  obtain ⟨H, hH⟩ : ∃ H, H = hW (hW (hW h t 54 (.int x)) t 55 (.int y)) t 56 (.int z) := ⟨_, rfl⟩
  have vW : ∀ u j, (u ≠ t ∨ (j ≠ 54 ∧ j ≠ 55 ∧ j ≠ 56)) → hV H u j = hV h u j := fun u j hu => by
    subst hH
    rcases hu with hu | ⟨h1, h2, h3⟩
    · rw [hV_Wn hu, hV_Wn hu, hV_Wn hu]
    · rw [hV_Wj h3, hV_Wj h2, hV_Wj h1]
  have kH : ∀ u, hK H u = hK h u := fun u => by subst hH; rfl
  have lH : ∀ u, hL H u = hL h u := fun u => by subst hH; rfl
  have w1 : hV H s 51 = .ref (s + 1) := by rw [vW _ _ (Or.inl (by omega))]; exact a1
  have w2 : hV H t 51 = .ref (t + 1) := by rw [vW _ _ (Or.inr (by omega))]; exact b1
  have o1 : zOks H (s + 1) (t + 1) 0 8 := zOks_I ((kH _).trans q1) fun j => by rw [vW _ _ (Or.inl (by omega))]; exact p3 j
  have c1 : ∀ u j, u ≠ t + 1 → hV (hC H (s + 1) 0 (t + 1) 0 8) u j = hV H u j := fun u j hx => hV_Cn hx j
  have w3 : hV (hC H (s + 1) 0 (t + 1) 0 8) s 52 = .ref (s + 2) := by rw [c1 _ _ (by omega), vW _ _ (Or.inl (by omega))]; exact a2
  have w4 : hV (hC H (s + 1) 0 (t + 1) 0 8) t 52 = .ref (t + 2) := by rw [c1 _ _ (by omega), vW _ _ (Or.inr (by omega))]; exact b2
  have o2 : zOks (hC H (s + 1) 0 (t + 1) 0 8) (s + 2) (t + 2) 0 8 := zOks_I ((kH _).trans q4) fun j => by rw [c1 _ _ (by omega), vW _ _ (Or.inl (by omega))]; exact p6 j
  have c2 : ∀ u j, u ≠ t + 2 → hV (hC (hC H (s + 1) 0 (t + 1) 0 8) (s + 2) 0 (t + 2) 0 8) u j = hV (hC H (s + 1) 0 (t + 1) 0 8) u j := fun u j hx => hV_Cn hx j
  have w6 : hV (hC (hC H (s + 1) 0 (t + 1) 0 8) (s + 2) 0 (t + 2) 0 8) s 53 = .ref (s + 3) := by rw [c2 _ _ (by omega), c1 _ _ (by omega), vW _ _ (Or.inl (by omega))]; exact a3
  have w7 : hV (hC (hC H (s + 1) 0 (t + 1) 0 8) (s + 2) 0 (t + 2) 0 8) t 53 = .ref (t + 3) := by rw [c2 _ _ (by omega), c1 _ _ (by omega), vW _ _ (Or.inr (by omega))]; exact b3
  have o3 : zOks (hC (hC H (s + 1) 0 (t + 1) 0 8) (s + 2) 0 (t + 2) 0 8) (s + 3) (t + 3) 0 8 := zOks_I ((kH _).trans q7) fun j => by rw [c2 _ _ (by omega), c1 _ _ (by omega), vW _ _ (Or.inl (by omega))]; exact p9 j
  have o1' := eq_true o1
  have o2' := eq_true o2
  have o3' := eq_true o3
  have fin : lc h s t x y z = hC (hC (hC H (s + 1) 0 (t + 1) 0 8) (s + 2) 0 (t + 2) 0 8) (s + 3) 0 (t + 3) 0 8 := by rw [hH]; rfl
  rw [fin]
  simp (disch := first | assumption | omega | decide) only [gB, I_all, zK_v, zK_n, true_and, and_true, Nat.reduceAdd, Nat.reduceMul, Nat.reduceSub, z_lt, z_le, z_neq, not_false_eq_true, or_true, true_or, or_false, false_or, false_and, and_false, gX5_copyTo, ks, kt, v4, g4, g5, hK_W, ← hH, w1, w2, w3, w4, w6, w7, o1', o2', o3', kH, lH, hK_C, hL_C, p1, p2, p4, p5, p7, p8, q1, q2, q4, q5, q7, q8, z1, hB1, I_0le, I_nat]
end
