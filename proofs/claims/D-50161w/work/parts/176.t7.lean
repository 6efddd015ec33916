/-! comparing of names: the program -/
section
variable {κ : zC} {h : zH} {a b v w i n va vb : Nat} {l m : List Int32} {x : Int32} {Q : zQ}
theorem e8_getChar (S : SVa h v l) (hl : l.length < 100000) (hx : l[i]? = some x) (ax : 0 ≤ x.toInt ∧ x.toInt ≤ 127) : Ev κ mJ8_getChar [.ref v, .int (Int32.ofNat i)] h Q = Q (.inl (some (.int x))) h := by
  obtain ⟨k, ln, -, ct⟩ := S
  have hi := (List.getElem?_eq_some_iff.mp hx).1
  have e := ct i x hx
  have ch := ch_asc ax
  have nc := nc_asc ax
  simp (disch := first | assumption | omega | decide) only [gB, I_all, zK_v, zK_n, true_and, and_true, Nat.reduceAdd, Nat.reduceMul, Nat.reduceSub, z_lt, z_le, z_neq, not_false_eq_true, or_true, true_or, or_false, false_or, false_and, and_false, gJ8_getChar, k, ln, e, ch, nc]
theorem e10_mismatch (S1 : SVa h v l) (S2 : SVa h w m) (hn : n = min l.length m.length) (h7 : n ≤ 7) (hl : l.length < 100000) (hm : m.length < 100000) :
    Ev κ mJ10_mismatch [.ref v, .ref w, .int (Int32.ofNat n)] h Q = Q (.inl (some (.int (if mmF l m < n then Int32.ofNat (mmF l m) else Int32.ofInt (-1))))) h := by
  obtain ⟨k1, n1, -, c1⟩ := S1
  obtain ⟨k2, n2, -, c2⟩ := S2
  have le := mmF_le l m
  have nl : n ≤ l.length := by omega
  have nm : n ≤ m.length := by omega
  have lp : ∀ d i, i + d = n → i ≤ mmF l m → Go κ mJ10_mismatch 49 [some (.ref v), some (.ref w), some (.int (Int32.ofNat n)), some (.int (Int32.ofNat i))] [] h Q = Q (.inl (some (.int (if mmF l m < n then Int32.ofNat (mmF l m) else Int32.ofInt (-1))))) h := by
    intro d
    induction d with
    | zero =>
      intro i hi hle
      have e : i = n := by omega
      subst e
      rw [if_neg (by omega)]
      simp (disch := first | assumption | omega | decide) only [gB, I_all, zK_v, zK_n, true_and, and_true, Nat.reduceAdd, Nat.reduceMul, Nat.reduceSub, z_lt, z_le, z_neq, not_false_eq_true, or_true, true_or, or_false, false_or, false_and, and_false, gJ10_mismatch_h]
      simp (disch := first | assumption | omega | decide) only [gB, I_all, zK_v, zK_n, true_and, and_true, Nat.reduceAdd, Nat.reduceMul, Nat.reduceSub, z_lt, z_le, z_neq, not_false_eq_true, or_true, true_or, or_false, false_or, false_and, and_false, gJ10_mismatch]
    | succ d ih =>
      intro i hi hle
      have hx : l[i]? = some l[i] := List.getElem?_eq_getElem (by omega)
      have hy : m[i]? = some m[i] := List.getElem?_eq_getElem (by omega)
      have ex := c1 i _ hx
      have ey := c2 i _ hy
      have hin : i < n := by omega
      have il : i < l.length := by omega
      have im : i < m.length := by omega
      by_cases c : l[i] = m[i]
      · have ne : i ≠ mmF l m := fun e => mmF_at (by rw [← e]; exact hx) (by rw [← e]; exact hy) c
        have i1 := ih (i + 1) (by omega) (by omega)
        generalize l[i] = x at *
        generalize m[i] = y at *
        simp (disch := first | assumption | omega | decide) only [gB, I_all, zK_v, zK_n, true_and, and_true, Nat.reduceAdd, Nat.reduceMul, Nat.reduceSub, z_lt, z_le, z_neq, not_false_eq_true, or_true, true_or, or_false, false_or, false_and, and_false, gJ10_mismatch_h]
        simp (disch := first | assumption | omega | decide) only [gB, I_all, zK_v, zK_n, true_and, and_true, Nat.reduceAdd, Nat.reduceMul, Nat.reduceSub, z_lt, z_le, z_neq, not_false_eq_true, or_true, true_or, or_false, false_or, false_and, and_false, gJ10_mismatch, k1, n1, k2, n2, ex, ey, I_add]
        exact i1
      · have e : mmF l m = i := by
          by_cases d : i < mmF l m
          · have := mmF_lt d
            rw [hx, hy] at this
            exact absurd (Option.some.inj this) c
          · omega
        rw [e, if_pos hin]
        generalize l[i] = x at *
        generalize m[i] = y at *
        simp (disch := first | assumption | omega | decide) only [gB, I_all, zK_v, zK_n, true_and, and_true, Nat.reduceAdd, Nat.reduceMul, Nat.reduceSub, z_lt, z_le, z_neq, not_false_eq_true, or_true, true_or, or_false, false_or, false_and, and_false, gJ10_mismatch_h]
        simp (disch := first | assumption | omega | decide) only [gB, I_all, zK_v, zK_n, true_and, and_true, Nat.reduceAdd, Nat.reduceMul, Nat.reduceSub, z_lt, z_le, z_neq, not_false_eq_true, or_true, true_or, or_false, false_or, false_and, and_false, gJ10_mismatch, k1, n1, k2, n2, ex, ey]
  have l0 := lp n 0 (by omega) (by omega)
  simp (disch := first | assumption | omega | decide) only [gB, I_all, zK_v, zK_n, true_and, and_true, Nat.reduceAdd, Nat.reduceMul, Nat.reduceSub, z_lt, z_le, z_neq, not_false_eq_true, or_true, true_or, or_false, false_or, false_and, and_false, gJ10_mismatch]
  exact l0
theorem e8_compareTo (S1 : SVa h v l) (S2 : SVa h w m) (A : ascL l) (B : ascL m) (h7 : l.length ≤ 7) (hm : m.length ≤ 7) : Ev κ mJ8_compareTo [.ref v, .ref w] h Q = Q (.inl (some (.int (cmpI l m)))) h := by
  have em := fun (Q : zQ) => e10_mismatch (κ := κ) (Q := Q) S1 S2 rfl (by omega) (by omega) (by omega)
  have en := fun (Q : zQ) => e9_minN (κ := κ) (Q := Q) (h := h) (x := l.length) (y := m.length) (by omega) (by omega)
  have n1 := S1.2.1
  have n2 := S2.2.1
  have k1 := S1.1
  have k2 := S2.1
  have z3 : zArr 3 = true := rfl
  have le := mmF_le l m
  unfold cmpI
  by_cases c : mmF l m < min l.length m.length
  · have hx : l[mmF l m]? = some l[mmF l m] := List.getElem?_eq_getElem (by omega)
    have hy : m[mmF l m]? = some m[mmF l m] := List.getElem?_eq_getElem (by omega)
    have gx := fun (Q : zQ) => e8_getChar (κ := κ) (Q := Q) S1 (by omega) hx (A _ (List.getElem_mem _))
    have gy := fun (Q : zQ) => e8_getChar (κ := κ) (Q := Q) S2 (by omega) hy (B _ (List.getElem_mem _))
    rw [if_pos c, hx, hy, Option.getD_some, Option.getD_some]
    simp only [if_pos c] at em
    generalize l[mmF l m] = x at *
    generalize m[mmF l m] = y at *
    simp (disch := first | assumption | omega | decide) only [gB, I_all, zK_v, zK_n, true_and, and_true, Nat.reduceAdd, Nat.reduceMul, Nat.reduceSub, z_lt, z_le, z_neq, not_false_eq_true, or_true, true_or, or_false, false_or, false_and, and_false, gJ8_compareTo, gJ8_compareTo_2, k1, k2, z3, n1, n2, en, em, gx, gy]
  · rw [if_neg c]
    simp only [if_neg c] at em
    simp (disch := first | assumption | omega | decide) only [gB, I_all, zK_v, zK_n, true_and, and_true, Nat.reduceAdd, Nat.reduceMul, Nat.reduceSub, z_lt, z_le, z_neq, not_false_eq_true, or_true, true_or, or_false, false_or, false_and, and_false, gJ8_compareTo, gJ8_compareTo_2, k1, k2, z3, n1, n2, en, em]
theorem eS_cmp (hc : kS κ 3 = .int (Int32.ofNat 1)) (S : St h a va l) (S' : St h b vb m) (A : ascL l) (B : ascL m) (h7 : l.length ≤ 7) (hm : m.length ≤ 7) : Ev κ mJ7_compareTo [.ref a, .ref b] h Q = Q (.inl (some (.int (cmpI l m)))) h := by
  have e1 := fun (Q : zQ) => eS_coder (Q := Q) hc S
  have e2 := fun (Q : zQ) => eS_coder (Q := Q) hc S'
  have e3 := fun (Q : zQ) => e8_compareTo (κ := κ) (Q := Q) S.2.2.2.1 S'.2.2.2.1 A B h7 hm
  have z6 : zCas 119 6 = true := by decide
  have z6b : zCas 200 6 = true := by decide
  have v1 := S.2.1
  have v2 := S'.2.1
  rcases S.1 with k | k
  · rcases S'.1 with k' | k'
    · simp (disch := first | assumption | omega | decide) only [gB, I_all, zK_v, zK_n, true_and, and_true, Nat.reduceAdd, Nat.reduceMul, Nat.reduceSub, z_lt, z_le, z_neq, not_false_eq_true, or_true, true_or, or_false, false_or, false_and, and_false, gJ7_compareTo, gJ7_compareTo_2, k, k', v1, v2, e1, e2, e3, z6, z6b]
    · simp (disch := first | assumption | omega | decide) only [gB, I_all, zK_v, zK_n, true_and, and_true, Nat.reduceAdd, Nat.reduceMul, Nat.reduceSub, z_lt, z_le, z_neq, not_false_eq_true, or_true, true_or, or_false, false_or, false_and, and_false, gJ7_compareTo, gJ7_compareTo_2, k, k', v1, v2, e1, e2, e3, z6, z6b]
  · rcases S'.1 with k' | k'
    · simp (disch := first | assumption | omega | decide) only [gB, I_all, zK_v, zK_n, true_and, and_true, Nat.reduceAdd, Nat.reduceMul, Nat.reduceSub, z_lt, z_le, z_neq, not_false_eq_true, or_true, true_or, or_false, false_or, false_and, and_false, gJ7_compareTo, gJ7_compareTo_2, k, k', v1, v2, e1, e2, e3, z6, z6b]
    · simp (disch := first | assumption | omega | decide) only [gB, I_all, zK_v, zK_n, true_and, and_true, Nat.reduceAdd, Nat.reduceMul, Nat.reduceSub, z_lt, z_le, z_neq, not_false_eq_true, or_true, true_or, or_false, false_or, false_and, and_false, gJ7_compareTo, gJ7_compareTo_2, k, k', v1, v2, e1, e2, e3, z6, z6b]
end
