/-! the component: new objects -/
theorem hK_An {h : zH} {k n u b : Nat} {f : Nat → Value} (hb : b ≠ hN h) : hK (hA h k n u f) b = hK h b := by rw [hK_A, if_neg hb]
theorem hK_At {h : zH} {k n u b : Nat} {f : Nat → Value} (hb : b = hN h) : hK (hA h k n u f) b = k := by rw [hK_A, if_pos hb]
theorem hL_An {h : zH} {k n u b : Nat} {f : Nat → Value} (hb : b ≠ hN h) : hL (hA h k n u f) b = hL h b := by rw [hL_A, if_neg hb]
theorem hL_At {h : zH} {k n u b : Nat} {f : Nat → Value} (hb : b = hN h) : hL (hA h k n u f) b = n := by rw [hL_A, if_pos hb]
theorem hV_An {h : zH} {k n u b : Nat} {f : Nat → Value} (hb : b ≠ hN h) (j : Nat) : hV (hA h k n u f) b j = hV h b j := by rw [hV_A, if_neg hb]
theorem hV_At {h : zH} {k n u b : Nat} {f : Nat → Value} (hb : b = hN h) (j : Nat) : hV (hA h k n u f) b j = f j := by rw [hV_A, if_pos hb]
theorem hV_We {h : zH} {a i : Nat} {v : Value} {b j : Nat} (hb : b = a) (hj : j = i) : hV (hW h a i v) b j = v := by rw [hV_W, if_pos hb, if_pos hj]
theorem hV_Wj {h : zH} {a i : Nat} {v : Value} {b j : Nat} (hj : j ≠ i) : hV (hW h a i v) b j = hV h b j := by
  rw [hV_W]
  by_cases hb : b = a
  · rw [if_pos hb, if_neg hj]
  · rw [if_neg hb]
section
variable {κ : zC} {h : zH} {Q : zQ}
/-- what a new object with three arrays is -/
def N3 (h h' : zH) (r m g cap : Nat) : Prop := (hN h' = hN h + 3 ∧ hU h' = hU h + 3 * cap) ∧ (∀ x, x < hN h → hK h' x = hK h x ∧ hL h' x = hL h x ∧ (x ≠ r → ∀ j, hV h' x j = hV h x j)) ∧
  (∀ j, (j < g ∨ g + 3 ≤ j) → (j < m ∨ m < j) → hV h' r j = hV h r j) ∧ (∀ i, i < 3 → hV h' r (g + i) = .ref (hN h + i) ∧ hK h' (hN h + i) = 1 ∧ hL h' (hN h + i) = cap ∧ ∀ j, hV h' (hN h + i) j = .int (Int32.ofNat 0))
theorem i00 : (0 : Int32) = Int32.ofNat 0 := rfl
theorem e4_init {r cap : Nat} (hk : hK h r = 104) (hB : kB κ ≤ r) (hr : r < hN h) (hc : cap < 1000)
    (hq : ∀ h', N3 h h' r 0 47 cap → Q (.inl none) h') : Ev κ mX4_init [.ref r, .int (Int32.ofNat cap)] h Q := by
  have e0 : ((0 : Int32) ≤ Int32.ofNat cap) = True := I_0le (by omega)
  have hf := hq (hW (hA (hW (hA (hW (hA h 1 cap cap fun _ => .int 0) r 47 (.ref (hN h))) 1 cap cap fun _ => .int 0) r 48 (.ref (hN h + 1))) 1 cap cap fun _ => .int 0) r 49 (.ref (hN h + 2))) (by
    refine ⟨⟨by rw [hN_W, hN_A, hN_W, hN_A, hN_W, hN_A], by rw [hU_W, hU_A, hU_W, hU_A, hU_W, hU_A]; omega⟩, fun x hx => ⟨?_, ?_, fun hne j => ?_⟩, fun j h1 h2 => ?_, fun i hi => ?_⟩
    · rw [hK_W, hK_An (by rw [hN_W, hN_A, hN_W, hN_A]; omega), hK_W, hK_An (by rw [hN_W, hN_A]; omega), hK_W, hK_An (by omega)]
    · rw [hL_W, hL_An (by rw [hN_W, hN_A, hN_W, hN_A]; omega), hL_W, hL_An (by rw [hN_W, hN_A]; omega), hL_W, hL_An (by omega)]
    · rw [hV_Wn hne, hV_An (by rw [hN_W, hN_A, hN_W, hN_A]; omega), hV_Wn hne, hV_An (by rw [hN_W, hN_A]; omega), hV_Wn hne, hV_An (by omega)]
    · rw [hV_Wj (by omega), hV_An (by rw [hN_W, hN_A, hN_W, hN_A]; omega), hV_Wj (by omega), hV_An (by rw [hN_W, hN_A]; omega), hV_Wj (by omega), hV_An (by omega)]
    · have hi' : i = 0 ∨ i = 1 ∨ i = 2 := by omega
      rcases hi' with rfl | rfl | rfl
      · refine ⟨?_, ?_, ?_, fun j => ?_⟩
        · rw [hV_Wj (by omega), hV_An (by rw [hN_W, hN_A, hN_W, hN_A]; omega), hV_Wj (by omega), hV_An (by rw [hN_W, hN_A]; omega), hV_We rfl rfl]; rfl
        · rw [hK_W, hK_An (by rw [hN_W, hN_A, hN_W, hN_A]; omega), hK_W, hK_An (by rw [hN_W, hN_A]; omega), hK_W, hK_At (by omega)]
        · rw [hL_W, hL_An (by rw [hN_W, hN_A, hN_W, hN_A]; omega), hL_W, hL_An (by rw [hN_W, hN_A]; omega), hL_W, hL_At (by omega)]
        · rw [hV_Wn (by omega), hV_An (by rw [hN_W, hN_A, hN_W, hN_A]; omega), hV_Wn (by omega), hV_An (by rw [hN_W, hN_A]; omega), hV_Wn (by omega), hV_At (by omega)]; rfl
      · refine ⟨?_, ?_, ?_, fun j => ?_⟩
        · rw [hV_Wj (by omega), hV_An (by rw [hN_W, hN_A, hN_W, hN_A]; omega), hV_We rfl rfl]
        · rw [hK_W, hK_An (by rw [hN_W, hN_A, hN_W, hN_A]; omega), hK_W, hK_At (by rw [hN_W, hN_A])]
        · rw [hL_W, hL_An (by rw [hN_W, hN_A, hN_W, hN_A]; omega), hL_W, hL_At (by rw [hN_W, hN_A])]
        · rw [hV_Wn (by omega), hV_An (by rw [hN_W, hN_A, hN_W, hN_A]; omega), hV_Wn (by omega), hV_At (by rw [hN_W, hN_A])]; rfl
      · refine ⟨?_, ?_, ?_, fun j => ?_⟩
        · rw [hV_We rfl rfl]
        · rw [hK_W, hK_At (by rw [hN_W, hN_A, hN_W, hN_A])]
        · rw [hL_W, hL_At (by rw [hN_W, hN_A, hN_W, hN_A])]
        · rw [hV_Wn (by omega), hV_At (by rw [hN_W, hN_A, hN_W, hN_A])]; rfl)
  have k1 := hK_An (h := h) (k := 1) (n := cap) (u := cap) (b := r) (f := fun _ => .int 0) (by omega)
  have k2 := hK_An (h := hW (hA h 1 cap cap fun _ => .int 0) r 47 (.ref (hN h))) (k := 1) (n := cap) (u := cap) (b := r) (f := fun _ => .int 0) (by rw [hN_W, hN_A]; omega)
  have k3 := hK_An (h := hW (hA (hW (hA h 1 cap cap fun _ => .int 0) r 47 (.ref (hN h))) 1 cap cap fun _ => .int 0) r 48 (.ref (hN h + 1))) (k := 1) (n := cap) (u := cap) (b := r) (f := fun _ => .int 0) (by rw [hN_W, hN_A, hN_W, hN_A]; omega)
  simp (disch := first | assumption | omega | decide) only [gB, I_all, zK_v, zK_n, true_and, and_true, Nat.reduceAdd, Nat.reduceMul, Nat.reduceSub, z_lt, z_le, z_neq, not_false_eq_true, or_true, true_or, or_false, false_or, false_and, and_false, gX4_init, hk, e0, k1, k2, k3, hK_W, hN_W, hN_A]
  exact hf
theorem e5_init {r : Nat} (hk : hK h r = 105) (hB : kB κ ≤ r) (hr : r < hN h)
    (hq : ∀ h', N3 h h' r 56 51 8 → hV h' r 56 = .int (Int32.ofInt (-2)) → Q (.inl none) h') : Ev κ mX5_init [.ref r] h Q := by
  have e0 : ((0 : Int32) ≤ Int32.ofNat 8) = True := I_0le (by omega)
  have hf := hq (hW (hW (hA (hW (hA (hW (hA h 1 8 8 fun _ => .int 0) r 51 (.ref (hN h))) 1 8 8 fun _ => .int 0) r 52 (.ref (hN h + 1))) 1 8 8 fun _ => .int 0) r 53 (.ref (hN h + 2))) r 56 (.int (Int32.ofInt (-2)))) (by
    refine ⟨⟨by rw [hN_W, hN_W, hN_A, hN_W, hN_A, hN_W, hN_A], by rw [hU_W, hU_W, hU_A, hU_W, hU_A, hU_W, hU_A]⟩, fun x hx => ⟨?_, ?_, fun hne j => ?_⟩, fun j h1 h2 => ?_, fun i hi => ?_⟩
    · rw [hK_W, hK_W, hK_An (by rw [hN_W, hN_A, hN_W, hN_A]; omega), hK_W, hK_An (by rw [hN_W, hN_A]; omega), hK_W, hK_An (by omega)]
    · rw [hL_W, hL_W, hL_An (by rw [hN_W, hN_A, hN_W, hN_A]; omega), hL_W, hL_An (by rw [hN_W, hN_A]; omega), hL_W, hL_An (by omega)]
    · rw [hV_Wn hne, hV_Wn hne, hV_An (by rw [hN_W, hN_A, hN_W, hN_A]; omega), hV_Wn hne, hV_An (by rw [hN_W, hN_A]; omega), hV_Wn hne, hV_An (by omega)]
    · rw [hV_Wj (by omega), hV_Wj (by omega), hV_An (by rw [hN_W, hN_A, hN_W, hN_A]; omega), hV_Wj (by omega), hV_An (by rw [hN_W, hN_A]; omega), hV_Wj (by omega), hV_An (by omega)]
    · have hi' : i = 0 ∨ i = 1 ∨ i = 2 := by omega
      rcases hi' with rfl | rfl | rfl
      · refine ⟨?_, ?_, ?_, fun j => ?_⟩
        · rw [hV_Wj (by omega), hV_Wj (by omega), hV_An (by rw [hN_W, hN_A, hN_W, hN_A]; omega), hV_Wj (by omega), hV_An (by rw [hN_W, hN_A]; omega), hV_We rfl rfl]; rfl
        · rw [hK_W, hK_W, hK_An (by rw [hN_W, hN_A, hN_W, hN_A]; omega), hK_W, hK_An (by rw [hN_W, hN_A]; omega), hK_W, hK_At (by omega)]
        · rw [hL_W, hL_W, hL_An (by rw [hN_W, hN_A, hN_W, hN_A]; omega), hL_W, hL_An (by rw [hN_W, hN_A]; omega), hL_W, hL_At (by omega)]
        · rw [hV_Wn (by omega), hV_Wn (by omega), hV_An (by rw [hN_W, hN_A, hN_W, hN_A]; omega), hV_Wn (by omega), hV_An (by rw [hN_W, hN_A]; omega), hV_Wn (by omega), hV_At (by omega)]; rfl
      · refine ⟨?_, ?_, ?_, fun j => ?_⟩
        · rw [hV_Wj (by omega), hV_Wj (by omega), hV_An (by rw [hN_W, hN_A, hN_W, hN_A]; omega), hV_We rfl rfl]
        · rw [hK_W, hK_W, hK_An (by rw [hN_W, hN_A, hN_W, hN_A]; omega), hK_W, hK_At (by rw [hN_W, hN_A])]
        · rw [hL_W, hL_W, hL_An (by rw [hN_W, hN_A, hN_W, hN_A]; omega), hL_W, hL_At (by rw [hN_W, hN_A])]
        · rw [hV_Wn (by omega), hV_Wn (by omega), hV_An (by rw [hN_W, hN_A, hN_W, hN_A]; omega), hV_Wn (by omega), hV_At (by rw [hN_W, hN_A])]; rfl
      · refine ⟨?_, ?_, ?_, fun j => ?_⟩
        · rw [hV_Wj (by omega), hV_We rfl rfl]
        · rw [hK_W, hK_W, hK_At (by rw [hN_W, hN_A, hN_W, hN_A])]
        · rw [hL_W, hL_W, hL_At (by rw [hN_W, hN_A, hN_W, hN_A])]
        · rw [hV_Wn (by omega), hV_Wn (by omega), hV_At (by rw [hN_W, hN_A, hN_W, hN_A])]; rfl) (by rw [hV_We rfl rfl])
  have k1 := hK_An (h := h) (k := 1) (n := 8) (u := 8) (b := r) (f := fun _ => .int 0) (by omega)
  have k2 := hK_An (h := hW (hA h 1 8 8 fun _ => .int 0) r 51 (.ref (hN h))) (k := 1) (n := 8) (u := 8) (b := r) (f := fun _ => .int 0) (by rw [hN_W, hN_A]; omega)
  have k3 := hK_An (h := hW (hA (hW (hA h 1 8 8 fun _ => .int 0) r 51 (.ref (hN h))) 1 8 8 fun _ => .int 0) r 52 (.ref (hN h + 1))) (k := 1) (n := 8) (u := 8) (b := r) (f := fun _ => .int 0) (by rw [hN_W, hN_A, hN_W, hN_A]; omega)
  simp (disch := first | assumption | omega | decide) only [gB, I_all, zK_v, zK_n, true_and, and_true, Nat.reduceAdd, Nat.reduceMul, Nat.reduceSub, z_lt, z_le, z_neq, not_false_eq_true, or_true, true_or, or_false, false_or, false_and, and_false, gX5_init, hk, e0, k1, k2, k3, hK_W, hN_W, hN_A]
  exact hf
/-- a new queue -/
theorem e19_init {r : Nat} (hk : hK h r = 131) (hB : kB κ ≤ r) (hr : r < hN h) : Ev κ mJ19_init [.ref r] h Q = Q (.inl none) (hW (hW (hA h 10 11 11 fun _ => .null) r 170 (.ref (hN h))) r 172 .null) := by
  have e0 : ((0 : Int32) ≤ Int32.ofNat 11) = True := I_0le (by omega)
  have k1 := hK_An (h := h) (k := 10) (n := 11) (u := 11) (b := r) (f := fun _ => .null) (by omega)
  have e2 : ∀ (Q : zQ), Ev κ mJ19_init_2 [.ref r, .int (Int32.ofNat 11), .null] h Q = Q (.inl none) (hW (hW (hA h 10 11 11 fun _ => .null) r 170 (.ref (hN h))) r 172 .null) := fun Q => by
    rw [show Ev κ mJ19_init_2 [.ref r, .int (Int32.ofNat 11), .null] h Q = Go κ mJ19_init_2 0 [some (.ref r), some (.int (Int32.ofNat 11)), some .null] [] h Q from rfl]
    simp (disch := first | assumption | omega | decide) only [gB, I_all, zK_v, zK_n, true_and, and_true, Nat.reduceAdd, Nat.reduceMul, Nat.reduceSub, z_lt, z_le, z_neq, not_false_eq_true, or_true, true_or, or_false, false_or, false_and, and_false, gJ19_init_2, gJ18_init, gJ0_init, hk, e0, k1, hK_W]
  simp (disch := first | assumption | omega | decide) only [gB, I_all, zK_v, zK_n, true_and, and_true, Nat.reduceAdd, Nat.reduceMul, Nat.reduceSub, z_lt, z_le, z_neq, not_false_eq_true, or_true, true_or, or_false, false_or, false_and, and_false, gJ19_init, e2]
end
