/-! the component: riders dropped, removed, counted -/
section
variable {κ : zC} {h : zH} {a n K cap : Nat} {W : Nat → Nat → Int32} {SM : Nat → Nat → Int64} {Q : zQ}
theorem zOks_i {k k' sp m : Nat} (hk : k < n) (e : ∀ j, isI (hV h (a + k) j)) (hk' : hK h (a + k') = 1) : zOks (hX h a n W SM) (a + k) (a + k') sp m = True := by
  refine eq_true fun j _ => ?_
  rw [hK_X, hk', hV_Xi hk (e _)]
  rfl
theorem rC (S : RSh h a n K cap) : (∀ W SM sp dp m, hC (hX h a n W SM) (a + (K + 1)) sp (a + (K + 1)) dp m = hX h a n (cpy W (K + 1) dp (K + 1) sp m) SM) ∧ (∀ W SM sp dp m, hC (hX h a n W SM) (a + (K + 2)) sp (a + (K + 2)) dp m = hX h a n (cpy W (K + 2) dp (K + 2) sp m) SM) ∧ (∀ W SM sp dp m, hC (hX h a n W SM) (a + (K + 3)) sp (a + (K + 3)) dp m = hX h a n (cpy W (K + 3) dp (K + 3) sp m) SM) ∧
    (∀ W SM sp m, zOks (hX h a n W SM) (a + (K + 1)) (a + (K + 1)) sp m = True) ∧ (∀ W SM sp m, zOks (hX h a n W SM) (a + (K + 2)) (a + (K + 2)) sp m = True) ∧ (∀ W SM sp m, zOks (hX h a n W SM) (a + (K + 3)) (a + (K + 3)) sp m = True) := by
  obtain ⟨s0, s1, ⟨s2, s3, s4, s5⟩, s6⟩ := S
  have t1 := s6 1 (by omega) (by omega)
  have t2 := s6 2 (by omega) (by omega)
  have t3 := s6 3 (by omega) (by omega)
  exact ⟨fun _ _ _ _ _ => hX_C (by omega) (by omega) t1.2.2 t1.2.2, fun _ _ _ _ _ => hX_C (by omega) (by omega) t2.2.2 t2.2.2, fun _ _ _ _ _ => hX_C (by omega) (by omega) t3.2.2 t3.2.2,
    fun _ _ _ _ => zOks_i (by omega) t1.2.2 t1.1, fun _ _ _ _ => zOks_i (by omega) t2.2.2 t2.1, fun _ _ _ _ => zOks_i (by omega) t3.2.2 t3.1⟩
def rdW (W : Nat → Nat → Int32) (K d m : Nat) : Nat → Nat → Int32 := cpy (cpy (cpy (zv W K 50 (Int32.ofNat (m - d))) (K + 1) 0 (K + 1) d (m - d)) (K + 2) 0 (K + 2) d (m - d)) (K + 3) 0 (K + 3) d (m - d)
theorem e4_dropFirst {d m : Nat} (S : RSh h a n K cap) (hB : kB κ ≤ a) (hm : W K 50 = Int32.ofNat m) (hd : d ≤ m) (hc : m ≤ cap) (hc2 : cap < 1000) : Ev κ mX4_dropFirst [.ref (a + K), .int (Int32.ofNat d)] (hX h a n W SM) Q = Q (.inl none) (hX h a n (rdW W K d m) SM) := by
  have F := rF S
  have C := rC S
  have a1 : zArr 1 = true := rfl
  have e1 : zv W K 50 (Int32.ofNat (m - d)) K 50 = Int32.ofNat (m - d) := zv_at rfl rfl
  have e2 : cpy (zv W K 50 (Int32.ofNat (m - d))) (K + 1) 0 (K + 1) d (m - d) K 50 = Int32.ofNat (m - d) := by rw [cpy_out (by omega), e1]
  have e3 : cpy (cpy (zv W K 50 (Int32.ofNat (m - d))) (K + 1) 0 (K + 1) d (m - d)) (K + 2) 0 (K + 2) d (m - d) K 50 = Int32.ofNat (m - d) := by rw [cpy_out (by omega), e2]
  simp (disch := first | assumption | omega | decide) only [gB, I_all, zK_v, zK_n, true_and, and_true, Nat.reduceAdd, Nat.reduceMul, Nat.reduceSub, z_lt, z_le, z_neq, not_false_eq_true, or_true, true_or, or_false, false_or, false_and, and_false, gX4_dropFirst, F, C, a1, hm, I_sub, e1, e2, e3, I_nat, I_0le]
  rfl
theorem RC_drop {d : Nat} {l : List Rd} (R : RC W K l) (hd : d ≤ l.length) : RC (rdW W K d l.length) K (l.drop d) := by
  obtain ⟨r1, r2⟩ := R
  refine ⟨?_, fun i r hi => ?_⟩
  · unfold rdW
    rw [cpy_out (by omega), cpy_out (by omega), cpy_out (by omega), zv_at rfl rfl, List.length_drop]
  · rw [List.getElem?_drop] at hi
    have hl := (List.getElem?_eq_some_iff.mp hi).1
    obtain ⟨t1, t2, t3⟩ := r2 _ r hi
    unfold rdW
    have c : ∀ (V : Nat → Nat → Int32) k, cpy V k 0 k d (l.length - d) k i = V k (d + i) := fun V k => by
      have := cpy_in (W := V) (kd := k) (od := 0) (ks := k) (os := d) (n := l.length - d) (j := i) (by omega)
      rw [Nat.zero_add] at this
      exact this
    refine ⟨?_, ?_, ?_⟩
    · rw [cpy_out (by omega), cpy_out (by omega), c, zv_nx (by omega), t1]
    · rw [cpy_out (by omega), c, cpy_out (by omega), zv_nx (by omega), t2]
    · rw [c, cpy_out (by omega), cpy_out (by omega), zv_nx (by omega), t3]
theorem RC_add {l : List Rd} {x : Nat} {y : Int32} {z : Nat} (R : RC W K l) : RC (raW W K l.length (Int32.ofNat x) y (Int32.ofNat z)) K (l ++ [(x, y, z)]) := by
  obtain ⟨r1, r2⟩ := R
  refine ⟨by unfold raW; rw [zv_at rfl rfl, List.length_append]; rfl, fun i r hi => ?_⟩
  unfold raW
  by_cases h1 : i < l.length
  · rw [List.getElem?_append_left h1] at hi
    obtain ⟨t1, t2, t3⟩ := r2 i r hi
    exact ⟨by rw [zv_nx (by omega), zv_nx (by omega), zv_nx (by omega), zv_nx (by omega), t1], by rw [zv_nx (by omega), zv_nx (by omega), zv_nx (by omega), zv_nx (by omega), t2], by rw [zv_nx (by omega), zv_nx (by omega), zv_nx (by omega), zv_nx (by omega), t3]⟩
  · have h2 := (List.getElem?_eq_some_iff.mp hi).1
    rw [List.length_append] at h2
    have h3 : i = l.length := by
      have : [((x, y, z) : Rd)].length = 1 := rfl
      omega
    subst h3
    rw [List.getElem?_append_right (Nat.le_refl _), Nat.sub_self] at hi
    cases hi
    exact ⟨by rw [zv_nx (by omega), zv_nx (by omega), zv_nx (by omega), zv_at rfl rfl], by rw [zv_nx (by omega), zv_nx (by omega), zv_at rfl rfl], by rw [zv_nx (by omega), zv_at rfl rfl]⟩
/-- riders depend on their cells alone -/
theorem RC.cg {W' : Nat → Nat → Int32} {l : List Rd} (R : RC W K l) (e : ∀ k j, K ≤ k → k ≤ K + 3 → W' k j = W k j) : RC W' K l :=
  ⟨(e _ _ (by omega) (by omega)).trans R.1, fun i r hi => ⟨(e _ _ (by omega) (by omega)).trans (R.2 i r hi).1, (e _ _ (by omega) (by omega)).trans (R.2 i r hi).2.1, (e _ _ (by omega) (by omega)).trans (R.2 i r hi).2.2⟩⟩
theorem raW_o {m : Nat} {x y z : Int32} {k j : Nat} (hk : k < K ∨ K + 3 < k) : raW W K m x y z k j = W k j := by
  unfold raW
  rw [zv_nx (by omega), zv_nx (by omega), zv_nx (by omega), zv_nx (by omega)]
theorem rdW_o {d m : Nat} {k j : Nat} (hk : k < K ∨ K + 3 < k) : rdW W K d m k j = W k j := by
  unfold rdW
  rw [cpy_out (by omega), cpy_out (by omega), cpy_out (by omega), zv_nx (by omega)]
end
