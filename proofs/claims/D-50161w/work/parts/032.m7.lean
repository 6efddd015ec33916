/-! the twin: what only reads -/
def dst (π : Pl) (s to : Nat) : Nat := if s ≤ to then to - s else plN π 0 - s + to
theorem dst_nxt {π : Pl} {s to : Nat} (hs : s < plN π 0) (ht : to < plN π 0) (hne : ¬ s = to) : nxt π s < plN π 0 ∧ dst π (nxt π s) to + 1 = dst π s to := by
  unfold nxt dst
  split <;> split <;> split <;> omega
theorem dst_lt {π : Pl} {s to : Nat} (hs : s < plN π 0) (ht : to < plN π 0) : dst π s to < plN π 0 := by
  unfold dst
  split <;> omega
section
variable {κ : zC} {h : zH} {b : Nat} {w : Nat → Int32} {sm : Nat → Int64} {o : Int32} {Q : zQ} {σ : Sg} {π : Pl}
theorem e7_behind {s : Nat} (S : MSh κ h b) (P : MPl h b π) (O : pOk π) (hs : s < plN π 0) : Ev κ mX7_behind [.ref b, .int (Int32.ofNat s)] (hM h b w sm o) Q = Q (.inl (some (.int (Int32.ofNat (nxt π s))))) (hM h b w sm o) := by
  have S1 := mW S
  have P1 := P.1
  have hns := O.1.2
  unfold nxt
  by_cases e : s + 1 = plN π 0
  · rw [if_pos e]
    simp (disch := first | assumption | omega | decide) only [gB, I_all, zK_v, zK_n, true_and, and_true, Nat.reduceAdd, Nat.reduceMul, Nat.reduceSub, z_lt, z_le, z_neq, not_false_eq_true, hM_all, gX7_behind, S1, P1]
  · rw [if_neg e]
    simp (disch := first | assumption | omega | decide) only [gB, I_all, zK_v, zK_n, true_and, and_true, Nat.reduceAdd, Nat.reduceMul, Nat.reduceSub, z_lt, z_le, z_neq, not_false_eq_true, hM_all, gX7_behind, S1, P1]
theorem e7_way {s to : Nat} (S : MSh κ h b) (P : MPl h b π) (O : pOk π) (hs : s < plN π 0) (ht : to < plN π 0) : Ev κ mX7_way [.ref b, .int (Int32.ofNat s), .int (Int32.ofNat to)] (hM h b w sm o) Q = Q (.inl (some (.int (way π s to)))) (hM h b w sm o) := by
  have S1 := mW S
  have S2 := mA S (84, 1, 10) (k := 4) (by decide)
  have P4 := P.2.2.2.2.2.2.1 4 (by decide)
  have hns := O.1.2
  have lp : ∀ (k s : Nat) (x : Int32) (a1 : Option Value), s < plN π 0 → dst π s to ≤ k → Go κ mX7_way 5 [some (.ref b), a1, some (.int (Int32.ofNat to)), some (.int x), some (.int (Int32.ofNat s))] [] (hM h b w sm o) Q = Q (.inl (some (.int (x + wayF π to k s)))) (hM h b w sm o) := by
    intro k
    induction k with
    | zero =>
      intro s x a1 hs hd
      have e : s = to := by unfold dst at hd; split at hd <;> omega
      simp (disch := first | assumption | omega | decide) only [gB, I_all, zK_v, zK_n, true_and, and_true, Nat.reduceAdd, Nat.reduceMul, Nat.reduceSub, z_lt, z_le, z_neq, not_false_eq_true, hM_all, gX7_way_h]
      simp (disch := first | assumption | omega | decide) only [gB, I_all, zK_v, zK_n, true_and, and_true, Nat.reduceAdd, Nat.reduceMul, Nat.reduceSub, z_lt, z_le, z_neq, not_false_eq_true, hM_all, gX7_way, S1]
      show _ = Q (.inl (some (.int (x + Int32.ofNat 0)))) _
      rw [show x + Int32.ofNat 0 = x from Int32.add_zero x]
    | succ k ih =>
      intro s x a1 hs hd
      have eu : wayF π to (k + 1) s = if s = to then Int32.ofNat 0 else plT π 4 s + wayF π to k (nxt π s) := rfl
      have e1 := fun Q => e7_behind (κ := κ) (w := w) (sm := sm) (o := o) (Q := Q) S P O hs
      simp (disch := first | assumption | omega | decide) only [gB, I_all, zK_v, zK_n, true_and, and_true, Nat.reduceAdd, Nat.reduceMul, Nat.reduceSub, z_lt, z_le, z_neq, not_false_eq_true, hM_all, gX7_way_h]
      by_cases e : s = to
      · rw [eu, if_pos e]
        simp (disch := first | assumption | omega | decide) only [gB, I_all, zK_v, zK_n, true_and, and_true, Nat.reduceAdd, Nat.reduceMul, Nat.reduceSub, z_lt, z_le, z_neq, not_false_eq_true, hM_all, gX7_way, S1]
        rw [show x + Int32.ofNat 0 = x from Int32.add_zero x]
      · obtain ⟨d1, d2⟩ := dst_nxt hs ht e
        have ih' := ih (nxt π s) (x + plT π 4 s) a1 d1 (by omega)
        rw [eu, if_neg e, ← Int32.add_assoc]
        simp (disch := first | assumption | omega | decide) only [gB, I_all, zK_v, zK_n, true_and, and_true, Nat.reduceAdd, Nat.reduceMul, Nat.reduceSub, z_lt, z_le, z_neq, not_false_eq_true, hM_all, gX7_way, S1, S2, P4, e1]
        exact ih'
  have hd := dst_lt hs ht
  have := lp (plN π 0) s (Int32.ofNat 0) (some (.int (Int32.ofNat s))) hs (by omega)
  rw [show Int32.ofNat 0 + wayF π to (plN π 0) s = wayF π to (plN π 0) s from Int32.zero_add _] at this
  simp (disch := first | assumption | omega | decide) only [gB, I_all, zK_v, zK_n, true_and, and_true, Nat.reduceAdd, Nat.reduceMul, Nat.reduceSub, z_lt, z_le, z_neq, not_false_eq_true, hM_all, gX7_way]
  exact this
theorem e7_isAt {k st : Nat} (S : MSh κ h b) (hk : k < 6) (hst : st < 4) (e : w (164 + 13 * k + 0) = Int32.ofNat st) : Ev κ mX7_isAt [.ref b, .int (Int32.ofNat k)] (hM h b w sm o) Q = Q (.inl (some (.int (if 2 ≤ st then Int32.ofNat 1 else Int32.ofNat 0)))) (hM h b w sm o) := by
  have S1 := mW S
  have e1 := fun Q => e7_of (κ := κ) (w := w) (sm := sm) (o := o) (Q := Q) (k := k) (c := 0) S (by omega)
  by_cases h2 : 2 ≤ st
  · rw [if_pos h2]
    simp (disch := first | assumption | omega | decide) only [gB, I_all, zK_v, zK_n, true_and, and_true, Nat.reduceAdd, Nat.reduceMul, Nat.reduceSub, z_lt, z_le, z_neq, not_false_eq_true, hM_all, gX7_isAt, S1, e1, e, z_b1]
  · rw [if_neg h2]
    simp (disch := first | assumption | omega | decide) only [gB, I_all, zK_v, zK_n, true_and, and_true, Nat.reduceAdd, Nat.reduceMul, Nat.reduceSub, z_lt, z_le, z_neq, not_false_eq_true, hM_all, gX7_isAt, S1, e1, e, z_b0]
/-- how many riders aboard go to a stop -/
def goTo (l : List Rd) (s : Nat) : Nat := (l.filter fun r => decide (r.1 = s)).length
theorem goTo_up {l : List Rd} {s i : Nat} {r : Rd} (hi : l[i]? = some r) : goTo (l.take (i + 1)) s = goTo (l.take i) s + if r.1 = s then 1 else 0 := by
  unfold goTo
  rw [List.take_add_one, hi]
  show (List.filter _ (l.take i ++ [r])).length = _
  rw [List.filter_append, List.length_append]
  congr 1
  by_cases h : r.1 = s <;> simp [h]
theorem e7_aboardTo {k s : Nat} {l : List Rd} (S : MSh κ h b) (hk : k < 6) (hs : s < 10) (hl : l.length ≤ 99) (hr : ∀ r ∈ l, r.1 < 10) (e : w (164 + 13 * k + 4) = Int32.ofNat l.length) (eR : RAt w (1832 + 297 * k) l) : Ev κ mX7_aboardTo [.ref b, .int (Int32.ofNat k), .int (Int32.ofNat s)] (hM h b w sm o) Q = Q (.inl (some (.int (Int32.ofNat (goTo l s))))) (hM h b w sm o) := by
  have S1 := mW S
  have e1 := fun Q => e7_of (κ := κ) (w := w) (sm := sm) (o := o) (Q := Q) (k := k) (c := 4) S (by omega)
  have lp : ∀ d i, i + d = l.length → Go κ mX7_aboardTo 5 [some (.ref b), some (.int (Int32.ofNat k)), some (.int (Int32.ofNat s)), some (.int (Int32.ofNat (goTo (l.take i) s))), some (.int (Int32.ofNat i))] [] (hM h b w sm o) Q = Q (.inl (some (.int (Int32.ofNat (goTo l s))))) (hM h b w sm o) := by
    intro d
    induction d with
    | zero =>
      intro i hi
      have hi' : i = l.length := by omega
      simp (disch := first | assumption | omega | decide) only [gB, I_all, zK_v, zK_n, true_and, and_true, Nat.reduceAdd, Nat.reduceMul, Nat.reduceSub, z_lt, z_le, z_neq, not_false_eq_true, hM_all, gX7_aboardTo_h]
      simp (disch := first | assumption | omega | decide) only [gB, I_all, zK_v, zK_n, true_and, and_true, Nat.reduceAdd, Nat.reduceMul, Nat.reduceSub, z_lt, z_le, z_neq, not_false_eq_true, hM_all, gX7_aboardTo, S1, e1, e]
      rw [hi', List.take_length]
    | succ d ih =>
      intro i hi
      have hi2 : i < l.length := by omega
      have g1 : l[i]? = some l[i] := List.getElem?_eq_getElem hi2
      obtain ⟨q1, q2, q3⟩ := eR i _ g1
      have hr1 := hr _ (List.getElem_mem hi2)
      have ih' := ih (i + 1) (by omega)
      rw [goTo_up g1] at ih'
      simp (disch := first | assumption | omega | decide) only [gB, I_all, zK_v, zK_n, true_and, and_true, Nat.reduceAdd, Nat.reduceMul, Nat.reduceSub, z_lt, z_le, z_neq, not_false_eq_true, hM_all, gX7_aboardTo_h]
      by_cases hc : l[i].1 = s
      · rw [if_pos hc] at ih'
        simp (disch := first | assumption | omega | decide) only [gB, I_all, zK_v, zK_n, true_and, and_true, Nat.reduceAdd, Nat.reduceMul, Nat.reduceSub, z_lt, z_le, z_neq, not_false_eq_true, hM_all, gX7_aboardTo, S1, e1, e, e7_seatAt, q1]
        exact ih'
      · rw [if_neg hc] at ih'
        simp (disch := first | assumption | omega | decide) only [gB, I_all, zK_v, zK_n, true_and, and_true, Nat.reduceAdd, Nat.reduceMul, Nat.reduceSub, z_lt, z_le, z_neq, not_false_eq_true, hM_all, gX7_aboardTo, S1, e1, e, e7_seatAt, q1]
        exact ih'
  have := lp l.length 0 (by omega)
  simp (disch := first | assumption | omega | decide) only [gB, I_all, zK_v, zK_n, true_and, and_true, Nat.reduceAdd, Nat.reduceMul, Nat.reduceSub, z_lt, z_le, z_neq, not_false_eq_true, hM_all, gX7_aboardTo]
  exact this
end
