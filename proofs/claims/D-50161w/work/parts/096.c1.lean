/-! the component: cells of a state's block; riders -/
/-- riders at place K of the block at a (of n cells), room for cap -/
def RSh (h : zH) (a n K cap : Nat) : Prop := K + 3 < n ∧ hK h (a + K) = 104 ∧ (hV h (a + K) 47 = .ref (a + (K + 1)) ∧ hV h (a + K) 48 = .ref (a + (K + 2)) ∧ hV h (a + K) 49 = .ref (a + (K + 3)) ∧ isI (hV h (a + K) 50)) ∧ ∀ i, 1 ≤ i → i ≤ 3 → hK h (a + (K + i)) = 1 ∧ hL h (a + (K + i)) = cap ∧ ∀ j, isI (hV h (a + (K + i)) j)
/-- riders' values at place K -/
def RC (W : Nat → Nat → Int32) (K : Nat) (l : List Rd) : Prop := W K 50 = Int32.ofNat l.length ∧ ∀ i r, l[i]? = some r → W (K + 1) i = Int32.ofNat r.1 ∧ W (K + 2) i = r.2.1 ∧ W (K + 3) i = Int32.ofNat r.2.2
theorem hX_C {h : zH} {a n k k' sp dp m : Nat} {W : Nat → Nat → Int32} {SM : Nat → Nat → Int64} (hk : k < n) (hk' : k' < n) (e : ∀ j, isI (hV h (a + k) j)) (e' : ∀ j, isI (hV h (a + k') j)) : hC (hX h a n W SM) (a + k) sp (a + k') dp m = hX h a n (cpy W k' dp k sp m) SM := by
  refine hX_eq (fun _ => rfl) (fun _ => rfl) (fun x j => ?_) rfl rfl
  rw [hV_C]
  by_cases h1 : x = a + k'
  · subst h1
    rw [if_pos rfl, hV_Xi (W := cpy W k' dp k sp m) hk' (e' j)]
    unfold cpy
    by_cases h2 : dp ≤ j ∧ j < dp + m
    · rw [if_pos h2, if_pos ⟨rfl, h2⟩, hV_Xi hk (e _)]
    · rw [if_neg h2, if_neg (fun c => h2 c.2), hV_Xi hk' (e' j)]
  · rw [if_neg h1]
    by_cases h3 : a ≤ x ∧ x < a + n
    · obtain ⟨y, rfl⟩ : ∃ y, x = a + y := ⟨x - a, by omega⟩
      rw [hV_Xv (by omega), hV_Xv (by omega), cpy_out (by omega)]
    · rw [hV_Xo (by omega), hV_Xo (by omega)]
theorem I_0le {n : Nat} (h : n < 2147483648) : ((0 : Int32) ≤ Int32.ofNat n) = True := eq_true ((I_le (a := 0) (by omega) h).mpr (Nat.zero_le _))
section
variable {κ : zC} {h : zH} {a n K cap : Nat} {W : Nat → Nat → Int32} {SM : Nat → Nat → Int64} {Q : zQ}
theorem rF (S : RSh h a n K cap) : (∀ W SM, hV (hX h a n W SM) (a + K) 47 = .ref (a + (K + 1))) ∧ (∀ W SM, hV (hX h a n W SM) (a + K) 48 = .ref (a + (K + 2))) ∧ (∀ W SM, hV (hX h a n W SM) (a + K) 49 = .ref (a + (K + 3))) ∧
    (∀ W SM, hV (hX h a n W SM) (a + K) 50 = .int (W K 50)) ∧ (∀ W SM j, hV (hX h a n W SM) (a + (K + 1)) j = .int (W (K + 1) j)) ∧ (∀ W SM j, hV (hX h a n W SM) (a + (K + 2)) j = .int (W (K + 2) j)) ∧ (∀ W SM j, hV (hX h a n W SM) (a + (K + 3)) j = .int (W (K + 3) j)) ∧
    (∀ W SM v, hW (hX h a n W SM) (a + K) 50 (.int v) = hX h a n (zv W K 50 v) SM) ∧ (∀ W SM j v, hW (hX h a n W SM) (a + (K + 1)) j (.int v) = hX h a n (zv W (K + 1) j v) SM) ∧ (∀ W SM j v, hW (hX h a n W SM) (a + (K + 2)) j (.int v) = hX h a n (zv W (K + 2) j v) SM) ∧ (∀ W SM j v, hW (hX h a n W SM) (a + (K + 3)) j (.int v) = hX h a n (zv W (K + 3) j v) SM) ∧
    (∀ W SM x, hK (hX h a n W SM) x = hK h x) ∧ (∀ W SM x, hL (hX h a n W SM) x = hL h x) ∧ hK h (a + K) = 104 ∧ hK h (a + (K + 1)) = 1 ∧ hK h (a + (K + 2)) = 1 ∧ hK h (a + (K + 3)) = 1 ∧ hL h (a + (K + 1)) = cap ∧ hL h (a + (K + 2)) = cap ∧ hL h (a + (K + 3)) = cap := by
  obtain ⟨s0, s1, ⟨s2, s3, s4, s5⟩, s6⟩ := S
  have t1 := s6 1 (by omega) (by omega)
  have t2 := s6 2 (by omega) (by omega)
  have t3 := s6 3 (by omega) (by omega)
  exact ⟨fun _ _ => hV_Xr (by omega) s2, fun _ _ => hV_Xr (by omega) s3, fun _ _ => hV_Xr (by omega) s4, fun _ _ => hV_Xi (by omega) s5, fun _ _ j => hV_Xi (by omega) (t1.2.2 j), fun _ _ j => hV_Xi (by omega) (t2.2.2 j), fun _ _ j => hV_Xi (by omega) (t3.2.2 j),
    fun _ _ _ => hX_i (by omega) s5, fun _ _ j _ => hX_i (by omega) (t1.2.2 j), fun _ _ j _ => hX_i (by omega) (t2.2.2 j), fun _ _ j _ => hX_i (by omega) (t3.2.2 j), fun _ _ _ => rfl, fun _ _ _ => rfl, s1, t1.1, t2.1, t3.1, t1.2.1, t2.2.1, t3.2.1⟩
/-- a rider added -/
def raW (W : Nat → Nat → Int32) (K m : Nat) (x y z : Int32) : Nat → Nat → Int32 := zv (zv (zv (zv W (K + 1) m x) (K + 2) m y) (K + 3) m z) K 50 (Int32.ofNat (m + 1))
theorem e4_add {m : Nat} {x y z : Int32} (S : RSh h a n K cap) (hB : kB κ ≤ a) (hm : W K 50 = Int32.ofNat m) (hc : m < cap) (hc2 : cap < 1000) : Ev κ mX4_add [.ref (a + K), .int x, .int y, .int z] (hX h a n W SM) Q = Q (.inl none) (hX h a n (raW W K m x y z) SM) := by
  have F := rF S
  simp (disch := first | assumption | omega | decide) only [gB, I_all, zK_v, zK_n, true_and, and_true, Nat.reduceAdd, Nat.reduceMul, Nat.reduceSub, z_lt, z_le, z_neq, not_false_eq_true, or_true, true_or, or_false, false_or, false_and, and_false, gX4_add, F, hm, zv_nx]
  rfl
end
