/-! the component: riders counted -/
section
variable {κ : zC} {h : zH} {a n K cap : Nat} {W : Nat → Nat → Int32} {SM : Nat → Nat → Int64} {Q : zQ}
theorem flt_s {α : Type} {l : List α} {p : α → Bool} {k : Nat} {r : α} (h : l[k]? = some r) : ((l.take (k + 1)).filter p).length = ((l.take k).filter p).length + if p r = true then 1 else 0 := by
  have e : l.take (k + 1) = l.take k ++ [r] := by
    rw [List.take_add_one, h]; rfl
  rw [e, List.filter_append, List.length_append]
  congr 1
  rw [List.filter_cons]
  split <;> rfl
theorem e4_going {s : Nat} {l : List Rd} (S : RSh h a n K cap) (R : RC W K l) (hl : l.length ≤ cap) (hc : cap < 1000) (hs : s < 1000) (hr : ∀ r ∈ l, r.1 < 1000) : Ev κ mX4_going [.ref (a + K), .int (Int32.ofNat s)] (hX h a n W SM) Q = Q (.inl (some (.int (Int32.ofNat (goTo l s))))) (hX h a n W SM) := by
  have F := rF S
  have hm := R.1
  have lp : ∀ d k, k + d = l.length → Go κ mX4_going 4 [some (.ref (a + K)), some (.int (Int32.ofNat s)), some (.int (Int32.ofNat ((l.take k).filter fun r => decide (r.1 = s)).length)), some (.int (Int32.ofNat k))] [] (hX h a n W SM) Q = Q (.inl (some (.int (Int32.ofNat (goTo l s))))) (hX h a n W SM) := by
    intro d
    induction d with
    | zero =>
      intro k hk
      have hk' : k = l.length := by omega
      subst hk'
      rw [List.take_length]
      simp (disch := first | assumption | omega | decide) only [gB, I_all, zK_v, zK_n, true_and, and_true, Nat.reduceAdd, Nat.reduceMul, Nat.reduceSub, z_lt, z_le, z_neq, not_false_eq_true, or_true, true_or, or_false, false_or, false_and, and_false, gX4_going_h]
      simp (disch := first | assumption | omega | decide) only [gB, I_all, zK_v, zK_n, true_and, and_true, Nat.reduceAdd, Nat.reduceMul, Nat.reduceSub, z_lt, z_le, z_neq, not_false_eq_true, or_true, true_or, or_false, false_or, false_and, and_false, gX4_going, F, hm]
      rfl
    | succ d ih =>
      intro k hk
      have i := ih (k + 1) (by omega)
      obtain ⟨r, hr0⟩ : ∃ r, l[k]? = some r := ⟨l[k], List.getElem?_eq_getElem (by omega)⟩
      have e1 : W (K + 1) k = Int32.ofNat r.1 := (R.2 k r hr0).1
      have hr1 := hr r (List.mem_of_getElem? hr0)
      rw [flt_s hr0] at i
      generalize hc' : ((l.take k).filter fun r => decide (r.1 = s)).length = c at *
      by_cases c1 : r.1 = s
      · rw [decide_eq_true c1, if_pos rfl] at i
        simp (disch := first | assumption | omega | decide) only [gB, I_all, zK_v, zK_n, true_and, and_true, Nat.reduceAdd, Nat.reduceMul, Nat.reduceSub, z_lt, z_le, z_neq, not_false_eq_true, or_true, true_or, or_false, false_or, false_and, and_false, gX4_going_h]
        simp (disch := first | assumption | omega | decide) only [gB, I_all, zK_v, zK_n, true_and, and_true, Nat.reduceAdd, Nat.reduceMul, Nat.reduceSub, z_lt, z_le, z_neq, not_false_eq_true, or_true, true_or, or_false, false_or, false_and, and_false, gX4_going, F, hm, e1]
        exact i
      · rw [decide_eq_false c1, if_neg (by decide)] at i
        simp (disch := first | assumption | omega | decide) only [gB, I_all, zK_v, zK_n, true_and, and_true, Nat.reduceAdd, Nat.reduceMul, Nat.reduceSub, z_lt, z_le, z_neq, not_false_eq_true, or_true, true_or, or_false, false_or, false_and, and_false, gX4_going_h]
        simp (disch := first | assumption | omega | decide) only [gB, I_all, zK_v, zK_n, true_and, and_true, Nat.reduceAdd, Nat.reduceMul, Nat.reduceSub, z_lt, z_le, z_neq, not_false_eq_true, or_true, true_or, or_false, false_or, false_and, and_false, gX4_going, F, hm, e1]
        exact i
  have l0 := lp l.length 0 (by omega)
  have z0 : ((l.take 0).filter fun r => decide (r.1 = s)).length = 0 := by rw [List.take_zero]; rfl
  rw [z0] at l0
  simp (disch := first | assumption | omega | decide) only [gB, I_all, zK_v, zK_n, true_and, and_true, Nat.reduceAdd, Nat.reduceMul, Nat.reduceSub, z_lt, z_le, z_neq, not_false_eq_true, or_true, true_or, or_false, false_or, false_and, and_false, gX4_going]
  exact l0
theorem e4_of {s : Nat} {l : List Rd} (S : RSh h a n K cap) (R : RC W K l) (hl : l.length ≤ cap) (hc : cap < 1000) (hs : s < 1000) (hr : ∀ r ∈ l, r.2.2 < 1000) : Ev κ mX4_of [.ref (a + K), .int (Int32.ofNat s)] (hX h a n W SM) Q = Q (.inl (some (.int (Int32.ofNat (cntF l s))))) (hX h a n W SM) := by
  have F := rF S
  have hm := R.1
  have lp : ∀ d k, k + d = l.length → Go κ mX4_of 4 [some (.ref (a + K)), some (.int (Int32.ofNat s)), some (.int (Int32.ofNat ((l.take k).filter fun r => decide (r.2.2 = s)).length)), some (.int (Int32.ofNat k))] [] (hX h a n W SM) Q = Q (.inl (some (.int (Int32.ofNat (cntF l s))))) (hX h a n W SM) := by
    intro d
    induction d with
    | zero =>
      intro k hk
      have hk' : k = l.length := by omega
      subst hk'
      rw [List.take_length]
      simp (disch := first | assumption | omega | decide) only [gB, I_all, zK_v, zK_n, true_and, and_true, Nat.reduceAdd, Nat.reduceMul, Nat.reduceSub, z_lt, z_le, z_neq, not_false_eq_true, or_true, true_or, or_false, false_or, false_and, and_false, gX4_of_h]
      simp (disch := first | assumption | omega | decide) only [gB, I_all, zK_v, zK_n, true_and, and_true, Nat.reduceAdd, Nat.reduceMul, Nat.reduceSub, z_lt, z_le, z_neq, not_false_eq_true, or_true, true_or, or_false, false_or, false_and, and_false, gX4_of, F, hm]
      rfl
    | succ d ih =>
      intro k hk
      have i := ih (k + 1) (by omega)
      obtain ⟨r, hr0⟩ : ∃ r, l[k]? = some r := ⟨l[k], List.getElem?_eq_getElem (by omega)⟩
      have e1 : W (K + 3) k = Int32.ofNat r.2.2 := (R.2 k r hr0).2.2
      have hr1 := hr r (List.mem_of_getElem? hr0)
      rw [flt_s hr0] at i
      generalize hc' : ((l.take k).filter fun r => decide (r.2.2 = s)).length = c at *
      by_cases c1 : r.2.2 = s
      · rw [decide_eq_true c1, if_pos rfl] at i
        simp (disch := first | assumption | omega | decide) only [gB, I_all, zK_v, zK_n, true_and, and_true, Nat.reduceAdd, Nat.reduceMul, Nat.reduceSub, z_lt, z_le, z_neq, not_false_eq_true, or_true, true_or, or_false, false_or, false_and, and_false, gX4_of_h]
        simp (disch := first | assumption | omega | decide) only [gB, I_all, zK_v, zK_n, true_and, and_true, Nat.reduceAdd, Nat.reduceMul, Nat.reduceSub, z_lt, z_le, z_neq, not_false_eq_true, or_true, true_or, or_false, false_or, false_and, and_false, gX4_of, F, hm, e1]
        exact i
      · rw [decide_eq_false c1, if_neg (by decide)] at i
        simp (disch := first | assumption | omega | decide) only [gB, I_all, zK_v, zK_n, true_and, and_true, Nat.reduceAdd, Nat.reduceMul, Nat.reduceSub, z_lt, z_le, z_neq, not_false_eq_true, or_true, true_or, or_false, false_or, false_and, and_false, gX4_of_h]
        simp (disch := first | assumption | omega | decide) only [gB, I_all, zK_v, zK_n, true_and, and_true, Nat.reduceAdd, Nat.reduceMul, Nat.reduceSub, z_lt, z_le, z_neq, not_false_eq_true, or_true, true_or, or_false, false_or, false_and, and_false, gX4_of, F, hm, e1]
        exact i
  have l0 := lp l.length 0 (by omega)
  have z0 : ((l.take 0).filter fun r => decide (r.2.2 = s)).length = 0 := by rw [List.take_zero]; rfl
  rw [z0] at l0
  simp (disch := first | assumption | omega | decide) only [gB, I_all, zK_v, zK_n, true_and, and_true, Nat.reduceAdd, Nat.reduceMul, Nat.reduceSub, z_lt, z_le, z_neq, not_false_eq_true, or_true, true_or, or_false, false_or, false_and, and_false, gX4_of]
  exact l0
end
