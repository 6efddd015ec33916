/-! the twin: worlds laid aside, kept, laid back -/
section
variable {κ : zC} {h : zH} {b : Nat} {W : Nat → Nat → Int32} {SM : Nat → Nat → Int64} {Q : zQ}
def cpS (SM : Nat → Nat → Int64) (kd d ks s : Nat) : Nat → Nat → Int64 := zv (zv SM kd d (SM ks s)) kd (d + 1) (SM ks (s + 1))
theorem e7_thinks (S : TSh κ h b) : Ev κ mX7_thinks [.ref b] (hX h b 33 W SM) Q = Q (.inl none) (hX h b 33 (cpy W 15 0 13 0 3614) (cpS SM 16 0 14 0)) := by
  have F := xF S
  have R := xR S
  have K := xK S
  have hB : kB κ ≤ b := S.1.1
  have lp := Go_fr (κ := κ) (m := mX7_thinks) (pc := 2) (n := 3614) (Q := Q) (R := Q (.inl none) (hX h b 33 (cpy W 15 0 13 0 3614) (cpS SM 16 0 14 0))) (fun k => [some (.ref b), some (.int (Int32.ofNat k))]) (fun k => hX h b 33 (cpy W 15 0 13 0 k) SM) (fun k hk ih => by
    have e := cpy_up W 15 0 13 0 k (Or.inl (by decide))
    simp only [Nat.zero_add] at e
    rw [← e] at ih
    simp (disch := first | assumption | omega | decide) only [gB, I_all, zK_v, zK_n, true_and, and_true, Nat.reduceAdd, Nat.reduceMul, Nat.reduceSub, z_lt, z_le, z_neq, not_false_eq_true, gX7_thinks_h]
    simp (disch := first | assumption | omega | decide) only [gB, I_all, zK_v, zK_n, true_and, and_true, Nat.reduceAdd, Nat.reduceMul, Nat.reduceSub, z_lt, z_le, z_neq, not_false_eq_true, gX7_thinks, F, R, K]
    exact ih) (by
    simp (disch := first | assumption | omega | decide) only [gB, I_all, zK_v, zK_n, true_and, and_true, Nat.reduceAdd, Nat.reduceMul, Nat.reduceSub, z_lt, z_le, z_neq, not_false_eq_true, gX7_thinks_h]
    unfold cpS
    simp (disch := first | assumption | omega | decide) only [gB, I_all, zK_v, zK_n, true_and, and_true, Nat.reduceAdd, Nat.reduceMul, Nat.reduceSub, z_lt, z_le, z_neq, not_false_eq_true, gX7_thinks, F, R, K, zv_nx])
  rw [cpy_0] at lp
  simp (disch := first | assumption | omega | decide) only [gB, I_all, zK_v, zK_n, true_and, and_true, Nat.reduceAdd, Nat.reduceMul, Nat.reduceSub, z_lt, z_le, z_neq, not_false_eq_true, gX7_thinks]
  exact lp
theorem e7_comesBack (S : TSh κ h b) : Ev κ mX7_comesBack [.ref b] (hX h b 33 W SM) Q = Q (.inl none) (hX h b 33 (cpy W 13 0 15 0 3614) (cpS SM 14 0 16 0)) := by
  have F := xF S
  have R := xR S
  have K := xK S
  have hB : kB κ ≤ b := S.1.1
  have lp := Go_fr (κ := κ) (m := mX7_comesBack) (pc := 2) (n := 3614) (Q := Q) (R := Q (.inl none) (hX h b 33 (cpy W 13 0 15 0 3614) (cpS SM 14 0 16 0))) (fun k => [some (.ref b), some (.int (Int32.ofNat k))]) (fun k => hX h b 33 (cpy W 13 0 15 0 k) SM) (fun k hk ih => by
    have e := cpy_up W 13 0 15 0 k (Or.inl (by decide))
    simp only [Nat.zero_add] at e
    rw [← e] at ih
    simp (disch := first | assumption | omega | decide) only [gB, I_all, zK_v, zK_n, true_and, and_true, Nat.reduceAdd, Nat.reduceMul, Nat.reduceSub, z_lt, z_le, z_neq, not_false_eq_true, gX7_comesBack_h]
    simp (disch := first | assumption | omega | decide) only [gB, I_all, zK_v, zK_n, true_and, and_true, Nat.reduceAdd, Nat.reduceMul, Nat.reduceSub, z_lt, z_le, z_neq, not_false_eq_true, gX7_comesBack, F, R, K]
    exact ih) (by
    simp (disch := first | assumption | omega | decide) only [gB, I_all, zK_v, zK_n, true_and, and_true, Nat.reduceAdd, Nat.reduceMul, Nat.reduceSub, z_lt, z_le, z_neq, not_false_eq_true, gX7_comesBack_h]
    unfold cpS
    simp (disch := first | assumption | omega | decide) only [gB, I_all, zK_v, zK_n, true_and, and_true, Nat.reduceAdd, Nat.reduceMul, Nat.reduceSub, z_lt, z_le, z_neq, not_false_eq_true, gX7_comesBack, F, R, K, zv_nx])
  rw [cpy_0] at lp
  simp (disch := first | assumption | omega | decide) only [gB, I_all, zK_v, zK_n, true_and, and_true, Nat.reduceAdd, Nat.reduceMul, Nat.reduceSub, z_lt, z_le, z_neq, not_false_eq_true, gX7_comesBack]
  exact lp
def kpW (W : Nat → Nat → Int32) (n : Nat) : Nat → Nat → Int32 := zv (cpy W 17 (3614 * n) 13 0 3614) 0 102 (Int32.ofNat (n + 1))
def kpW1 (W : Nat → Nat → Int32) : Nat → Nat → Int32 := zv (cpy W 17 0 17 3614 25298) 0 102 (Int32.ofNat 7)
def kpS1 (SM : Nat → Nat → Int64) : Nat → Nat → Int64 := cpy SM 18 0 18 2 14
theorem e7_keeps0 {n : Nat} {a1 : Option Value} (S : TSh κ h b) (hn : n < 8) (e : W 0 102 = Int32.ofNat n) : Go κ mX7_keeps 80 [some (.ref b), a1] [] (hX h b 33 W SM) Q = Q (.inl none) (hX h b 33 (kpW W n) (cpS SM 18 (2 * n) 14 0)) := by
  have F := xF S
  have R := xR S
  have K := xK S
  have hB : kB κ ≤ b := S.1.1
  have e1 : ∀ k, cpy W 17 (3614 * n) 13 0 k 0 102 = Int32.ofNat n := fun k => by rw [cpy_out (by omega)]; exact e
  have lp := Go_fr (κ := κ) (m := mX7_keeps) (pc := 82) (n := 3614) (Q := Q) (R := Q (.inl none) (hX h b 33 (kpW W n) (cpS SM 18 (2 * n) 14 0))) (fun k => [some (.ref b), some (.int (Int32.ofNat k))]) (fun k => hX h b 33 (cpy W 17 (3614 * n) 13 0 k) SM) (fun k hk ih => by
    have e2 := cpy_up W 17 (3614 * n) 13 0 k (Or.inl (by decide))
    simp only [Nat.zero_add] at e2
    rw [← e2] at ih
    simp (disch := first | assumption | omega | decide) only [gB, I_all, zK_v, zK_n, true_and, and_true, Nat.reduceAdd, Nat.reduceMul, Nat.reduceSub, z_lt, z_le, z_neq, not_false_eq_true, gX7_keeps_h]
    simp (disch := first | assumption | omega | decide) only [gB, I_all, zK_v, zK_n, true_and, and_true, Nat.reduceAdd, Nat.reduceMul, Nat.reduceSub, z_lt, z_le, z_neq, not_false_eq_true, gX7_keeps_1, gX7_keeps_2, F, R, K, e1]
    exact ih) (by
    simp (disch := first | assumption | omega | decide) only [gB, I_all, zK_v, zK_n, true_and, and_true, Nat.reduceAdd, Nat.reduceMul, Nat.reduceSub, z_lt, z_le, z_neq, not_false_eq_true, gX7_keeps_h]
    unfold cpS kpW
    simp (disch := first | assumption | omega | decide) only [gB, I_all, zK_v, zK_n, true_and, and_true, Nat.reduceAdd, Nat.reduceMul, Nat.reduceSub, z_lt, z_le, z_neq, not_false_eq_true, gX7_keeps_1, gX7_keeps_2, F, R, K, e1, zv_nx])
  rw [cpy_0] at lp
  simp (disch := first | assumption | omega | decide) only [gB, I_all, zK_v, zK_n, true_and, and_true, Nat.reduceAdd, Nat.reduceMul, Nat.reduceSub, z_lt, z_le, z_neq, not_false_eq_true, gX7_keeps_1, gX7_keeps_2]
  exact lp
theorem e7_keepsR {n : Nat} (S : TSh κ h b) (hn : n ≤ 8) (e : W 0 102 = Int32.ofNat n) : Ev κ mX7_keeps [.ref b] (hX h b 33 W SM) Q = Q (.inl none) (if n = 8 then hX h b 33 (kpW (kpW1 W) 7) (cpS (kpS1 SM) 18 14 14 0) else hX h b 33 (kpW W n) (cpS SM 18 (2 * n) 14 0)) := by
  have F := xF S
  have R := xR S
  have K := xK S
  have hB : kB κ ≤ b := S.1.1
  by_cases h8 : n = 8
  · subst h8
    rw [if_pos rfl]
    have hb := fun a1 => e7_keeps0 (κ := κ) (h := h) (b := b) (Q := Q) (n := 7) (W := kpW1 W) (SM := kpS1 SM) (a1 := a1) S (by decide) (zv_at rfl rfl)
    simp only [Nat.reduceMul] at hb
    have lp2 := Go_fr (κ := κ) (m := mX7_keeps) (pc := 44) (n := 14) (Q := Q) (R := Q (.inl none) (hX h b 33 (kpW (kpW1 W) 7) (cpS (kpS1 SM) 18 14 14 0))) (fun k => [some (.ref b), some (.int (Int32.ofNat (2 + k)))]) (fun k => hX h b 33 (cpy W 17 0 17 3614 25298) (cpy SM 18 0 18 2 k)) (fun k hk ih => by
      have e2 := cpy_up SM 18 0 18 2 k (Or.inr (by decide))
      simp only [Nat.zero_add] at e2
      rw [← e2] at ih
      have e3 : 2 + k - 2 = k := by omega
      have e4 : 2 + k + 1 = 2 + (k + 1) := by omega
      simp (disch := first | assumption | omega | decide) only [gB, I_all, zK_v, zK_n, true_and, and_true, Nat.reduceAdd, Nat.reduceMul, Nat.reduceSub, z_lt, z_le, z_neq, not_false_eq_true, gX7_keeps_h]
      simp (disch := first | assumption | omega | decide) only [gB, I_all, zK_v, zK_n, true_and, and_true, Nat.reduceAdd, Nat.reduceMul, Nat.reduceSub, z_lt, z_le, z_neq, not_false_eq_true, gX7_keeps_1, gX7_keeps_2, F, R, K, I_sub, e3, e4]
      exact ih) (by
      have hb := hb (some (.int (Int32.ofNat 16)))
      have e5 : cpy W 17 0 17 3614 25298 0 102 = Int32.ofNat 8 := by rw [cpy_out (by omega)]; exact e
      simp (disch := first | assumption | omega | decide) only [gB, I_all, zK_v, zK_n, true_and, and_true, Nat.reduceAdd, Nat.reduceMul, Nat.reduceSub, z_lt, z_le, z_neq, not_false_eq_true, gX7_keeps_h]
      simp (disch := first | assumption | omega | decide) only [gB, I_all, zK_v, zK_n, true_and, and_true, Nat.reduceAdd, Nat.reduceMul, Nat.reduceSub, z_lt, z_le, z_neq, not_false_eq_true, gX7_keeps_1, gX7_keeps_2] at hb
      simp (disch := first | assumption | omega | decide) only [gB, I_all, zK_v, zK_n, true_and, and_true, Nat.reduceAdd, Nat.reduceMul, Nat.reduceSub, z_lt, z_le, z_neq, not_false_eq_true, gX7_keeps_1, gX7_keeps_2, F, R, K, I_sub, e5]
      exact hb)
    have lp1 := Go_fr (κ := κ) (m := mX7_keeps) (pc := 13) (n := 25298) (Q := Q) (R := Q (.inl none) (hX h b 33 (kpW (kpW1 W) 7) (cpS (kpS1 SM) 18 14 14 0))) (fun k => [some (.ref b), some (.int (Int32.ofNat (3614 + k)))]) (fun k => hX h b 33 (cpy W 17 0 17 3614 k) SM) (fun k hk ih => by
      have e2 := cpy_up W 17 0 17 3614 k (Or.inr (by decide))
      simp only [Nat.zero_add] at e2
      rw [← e2] at ih
      have e3 : 3614 + k - 3614 = k := by omega
      have e4 : 3614 + k + 1 = 3614 + (k + 1) := by omega
      simp (disch := first | assumption | omega | decide) only [gB, I_all, zK_v, zK_n, true_and, and_true, Nat.reduceAdd, Nat.reduceMul, Nat.reduceSub, z_lt, z_le, z_neq, not_false_eq_true, gX7_keeps_h]
      simp (disch := first | assumption | omega | decide) only [gB, I_all, zK_v, zK_n, true_and, and_true, Nat.reduceAdd, Nat.reduceMul, Nat.reduceSub, z_lt, z_le, z_neq, not_false_eq_true, gX7_keeps_1, gX7_keeps_2, F, R, K, I_sub, e3, e4]
      exact ih) (by
      rw [cpy_0] at lp2
      simp (disch := first | assumption | omega | decide) only [gB, I_all, zK_v, zK_n, true_and, and_true, Nat.reduceAdd, Nat.reduceMul, Nat.reduceSub, z_lt, z_le, z_neq, not_false_eq_true, gX7_keeps_h]
      simp (disch := first | assumption | omega | decide) only [gB, I_all, zK_v, zK_n, true_and, and_true, Nat.reduceAdd, Nat.reduceMul, Nat.reduceSub, z_lt, z_le, z_neq, not_false_eq_true, gX7_keeps_1, gX7_keeps_2]
      exact lp2)
    rw [cpy_0] at lp1
    simp (disch := first | assumption | omega | decide) only [gB, I_all, zK_v, zK_n, true_and, and_true, Nat.reduceAdd, Nat.reduceMul, Nat.reduceSub, z_lt, z_le, z_neq, not_false_eq_true, gX7_keeps_1, gX7_keeps_2, F, R, K, e]
    exact lp1
  · rw [if_neg h8]
    have hb := e7_keeps0 (κ := κ) (h := h) (b := b) (Q := Q) (n := n) (W := W) (SM := SM) (a1 := none) S (by omega) e
    simp (disch := first | assumption | omega | decide) only [gB, I_all, zK_v, zK_n, true_and, and_true, Nat.reduceAdd, Nat.reduceMul, Nat.reduceSub, z_lt, z_le, z_neq, not_false_eq_true, gX7_keeps_1, gX7_keeps_2] at hb
    simp (disch := first | assumption | omega | decide) only [gB, I_all, zK_v, zK_n, true_and, and_true, Nat.reduceAdd, Nat.reduceMul, Nat.reduceSub, z_lt, z_le, z_neq, not_false_eq_true, gX7_keeps_1, gX7_keeps_2, F, R, K, e]
    exact hb
theorem e7_in {v l u : Int64} {h : zH} : Ev κ mX7_in [.long v, .long l, .long u] h Q = Q (.inl (some (.int (if l ≤ v ∧ v ≤ u then Int32.ofNat 1 else Int32.ofNat 0)))) h := by
  by_cases c1 : v < l
  · have c1' : lg_cmp v l < Int32.ofNat 0 := (lg_cmp_lt v l).mpr c1
    rw [if_neg (fun x => absurd x.1 (Int64.not_le.mpr c1))]
    simp (disch := first | assumption | omega | decide) only [gB, I_all, zK_v, zK_n, true_and, and_true, Nat.reduceAdd, Nat.reduceMul, Nat.reduceSub, z_lt, z_le, z_neq, not_false_eq_true, gX7_in, z_b0]
  · have c1' : ¬ lg_cmp v l < Int32.ofNat 0 := fun x => c1 ((lg_cmp_lt v l).mp x)
    by_cases c2 : u < v
    · have c2' : Int32.ofNat 0 < lg_cmp v u := (lg_cmp_gt v u).mpr c2
      rw [if_neg (fun x => absurd x.2 (Int64.not_le.mpr c2))]
      simp (disch := first | assumption | omega | decide) only [gB, I_all, zK_v, zK_n, true_and, and_true, Nat.reduceAdd, Nat.reduceMul, Nat.reduceSub, z_lt, z_le, z_neq, not_false_eq_true, gX7_in, z_b0]
    · have c2' : ¬ Int32.ofNat 0 < lg_cmp v u := fun x => c2 ((lg_cmp_gt v u).mp x)
      rw [if_pos ⟨Int64.not_lt.mp c1, Int64.not_lt.mp c2⟩]
      simp (disch := first | assumption | omega | decide) only [gB, I_all, zK_v, zK_n, true_and, and_true, Nat.reduceAdd, Nat.reduceMul, Nat.reduceSub, z_lt, z_le, z_neq, not_false_eq_true, gX7_in, z_b1]
end


