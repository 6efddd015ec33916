/-! strings: equals, a part of a string -/
section
variable {κ : zC} {h : zH} {a b v w i n va vb p e : Nat} {l m : List Int32} {x : Int32} {Q : zQ}
theorem SVa.inj (S : SVa h v l) (T : SVa h v m) : l = m := by
  obtain ⟨-, s2, -, s4⟩ := S
  obtain ⟨-, t2, -, t4⟩ := T
  have el : l.length = m.length := s2.symm.trans t2
  refine List.ext_getElem el fun i h1 h2 => ?_
  have e1 := s4 i _ (List.getElem?_eq_getElem h1)
  have e2 := t4 i _ (List.getElem?_eq_getElem h2)
  exact Value.int.inj (e1.symm.trans e2)
theorem St.inj (S : St h a va l) (T : St h a vb m) : l = m := by
  have e : va = vb := Value.ref.inj (S.2.1.symm.trans T.2.1)
  subst e
  exact S.2.2.2.1.inj T.2.2.2.1
theorem e8_equals (S1 : SVa h v l) (S2 : SVa h w m) (hl : l.length < 100000) (hm : m.length < 100000) : Ev κ mJ8_equals [.ref v, .ref w] h Q = Q (.inl (some (.int (boI (decide (l = m)))))) h := by
  obtain ⟨k1, n1, -, c1⟩ := S1
  obtain ⟨k2, n2, -, c2⟩ := S2
  have z3 : zArr 3 = true := rfl
  have nb0 : narrow .boolean (.int (Int32.ofNat 0)) = .int (Int32.ofNat 0) := rfl
  have nb1 : narrow .boolean (.int (Int32.ofNat 1)) = .int (Int32.ofNat 1) := rfl
  have bT : boI true = Int32.ofNat 1 := rfl
  have bF : boI false = Int32.ofNat 0 := rfl
  by_cases c : l.length = m.length
  · have lp : ∀ d i, i + d = l.length → (∀ j, j < i → l[j]? = m[j]?) → Go κ mJ8_equals 9 [some (.ref v), some (.ref w), some (.int (Int32.ofNat i))] [] h Q = Q (.inl (some (.int (boI (decide (l = m)))))) h := by
      intro d
      induction d with
      | zero =>
        intro i hi hj
        have e : l = m := by
          refine List.ext_getElem? fun j => ?_
          by_cases cj : j < i
          · exact hj j cj
          · rw [List.getElem?_eq_none (by omega), List.getElem?_eq_none (by omega)]
        have hi' : i = l.length := by omega
        rw [decide_eq_true e, bT]
        subst hi'
        simp (disch := first | assumption | omega | decide) only [gB, I_all, zK_v, zK_n, true_and, and_true, Nat.reduceAdd, Nat.reduceMul, Nat.reduceSub, z_lt, z_le, z_neq, not_false_eq_true, or_true, true_or, or_false, false_or, false_and, and_false, gJ8_equals_h]
        simp (disch := first | assumption | omega | decide) only [gB, I_all, zK_v, zK_n, true_and, and_true, Nat.reduceAdd, Nat.reduceMul, Nat.reduceSub, z_lt, z_le, z_neq, not_false_eq_true, or_true, true_or, or_false, false_or, false_and, and_false, gJ8_equals, k1, z3, n1, nb1]
      | succ d ih =>
        intro i hi hj
        have il : i < l.length := by omega
        have im : i < m.length := by omega
        have hx : l[i]? = some l[i] := List.getElem?_eq_getElem il
        have hy : m[i]? = some m[i] := List.getElem?_eq_getElem im
        have ex := c1 i _ hx
        have ey := c2 i _ hy
        by_cases d1 : l[i] = m[i]
        · have i1 := ih (i + 1) (by omega) fun j hj2 => by
            by_cases cj : j < i
            · exact hj j cj
            · have : j = i := by omega
              rw [this, hx, hy, d1]
          generalize l[i] = x at *
          generalize m[i] = y at *
          simp (disch := first | assumption | omega | decide) only [gB, I_all, zK_v, zK_n, true_and, and_true, Nat.reduceAdd, Nat.reduceMul, Nat.reduceSub, z_lt, z_le, z_neq, not_false_eq_true, or_true, true_or, or_false, false_or, false_and, and_false, gJ8_equals_h]
          simp (disch := first | assumption | omega | decide) only [gB, I_all, zK_v, zK_n, true_and, and_true, Nat.reduceAdd, Nat.reduceMul, Nat.reduceSub, z_lt, z_le, z_neq, not_false_eq_true, or_true, true_or, or_false, false_or, false_and, and_false, gJ8_equals, k1, z3, n1, k2, n2, ex, ey, I_add]
          exact i1
        · have ne : ¬ l = m := fun z => d1 (by simp only [z])
          rw [decide_eq_false ne, bF]
          generalize l[i] = x at *
          generalize m[i] = y at *
          simp (disch := first | assumption | omega | decide) only [gB, I_all, zK_v, zK_n, true_and, and_true, Nat.reduceAdd, Nat.reduceMul, Nat.reduceSub, z_lt, z_le, z_neq, not_false_eq_true, or_true, true_or, or_false, false_or, false_and, and_false, gJ8_equals_h]
          simp (disch := first | assumption | omega | decide) only [gB, I_all, zK_v, zK_n, true_and, and_true, Nat.reduceAdd, Nat.reduceMul, Nat.reduceSub, z_lt, z_le, z_neq, not_false_eq_true, or_true, true_or, or_false, false_or, false_and, and_false, gJ8_equals, k1, z3, n1, k2, n2, ex, ey, nb0]
    have l0 := lp l.length 0 (by omega) fun j hj => by omega
    simp (disch := first | assumption | omega | decide) only [gB, I_all, zK_v, zK_n, true_and, and_true, Nat.reduceAdd, Nat.reduceMul, Nat.reduceSub, z_lt, z_le, z_neq, not_false_eq_true, or_true, true_or, or_false, false_or, false_and, and_false, gJ8_equals, k1, k2, z3, n1, n2, c]
    exact l0
  · have ne : ¬ l = m := fun z => c (by rw [z])
    have ci : ¬ Int32.ofNat l.length = Int32.ofNat m.length := fun z => c (by
      have e1 := I_toInt (n := l.length) (by omega)
      have e2 := I_toInt (n := m.length) (by omega)
      rw [z, e2] at e1
      omega)
    rw [decide_eq_false ne, bF]
    simp (disch := first | assumption | omega | decide) only [gB, I_all, zK_v, zK_n, true_and, and_true, Nat.reduceAdd, Nat.reduceMul, Nat.reduceSub, z_lt, z_le, z_neq, not_false_eq_true, or_true, true_or, or_false, false_or, false_and, and_false, gJ8_equals, k1, k2, z3, n1, n2, nb0]
theorem eS_equals (hc : kS κ 3 = .int (Int32.ofNat 1)) (S : St h a va l) (S' : St h b vb m) : Ev κ mJ7_equals [.ref a, .ref b] h Q = Q (.inl (some (.int (boI (decide (l = m)))))) h := by
  have nb0 : narrow .boolean (.int (Int32.ofNat 0)) = .int (Int32.ofNat 0) := rfl
  have nb1 : narrow .boolean (.int (Int32.ofNat 1)) = .int (Int32.ofNat 1) := rfl
  have bT : boI true = Int32.ofNat 1 := rfl
  have bF : boI false = Int32.ofNat 0 := rfl
  have i1 : (1 : Int32) = Int32.ofNat 1 := rfl
  have e3 := fun (Q : zQ) => e8_equals (κ := κ) (Q := Q) S.2.2.2.1 S'.2.2.2.1 S.2.2.2.2 S'.2.2.2.2
  by_cases c : b = a
  · subst c
    rw [decide_eq_true (S.inj S'), bT]
    simp (disch := first | assumption | omega | decide) only [gB, I_all, zK_v, zK_n, true_and, and_true, Nat.reduceAdd, Nat.reduceMul, Nat.reduceSub, z_lt, z_le, z_neq, not_false_eq_true, or_true, true_or, or_false, false_or, false_and, and_false, gJ7_equals, nb1]
  · obtain ⟨s1, s2, s3, -, -⟩ := S
    obtain ⟨t1, t2, t3, -, -⟩ := S'
    have zz : zCas (hK h b) 6 = true := by rcases t1 with z | z <;> rw [z] <;> decide
    have z100 : 100 ≤ hK h b := by rcases t1 with z | z <;> omega
    cases d : decide (l = m) with
    | true =>
      rw [d] at e3
      rw [bT] at e3 ⊢
      simp (disch := first | assumption | omega | decide) only [gB, I_all, zK_v, zK_n, true_and, and_true, Nat.reduceAdd, Nat.reduceMul, Nat.reduceSub, z_lt, z_le, z_neq, not_false_eq_true, or_true, true_or, or_false, false_or, false_and, and_false, gJ7_equals, s1, t1, zz, z100, hc, s2, s3, t2, t3, e3, nb0, nb1, i1]
    | false =>
      rw [d] at e3
      rw [bF] at e3 ⊢
      simp (disch := first | assumption | omega | decide) only [gB, I_all, zK_v, zK_n, true_and, and_true, Nat.reduceAdd, Nat.reduceMul, Nat.reduceSub, z_lt, z_le, z_neq, not_false_eq_true, or_true, true_or, or_false, false_or, false_and, and_false, gJ7_equals, s1, t1, zz, z100, hc, s2, s3, t2, t3, e3, nb0, nb1, i1]
end
