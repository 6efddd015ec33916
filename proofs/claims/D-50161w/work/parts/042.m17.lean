/-! the twin: the log, told -/
section
variable {κ : zC} {h : zH} {b : Nat} {w : Nat → Int32} {sm : Nat → Int64} {o : Int32} {Q : zQ} {σ : Sg} {π : Pl}
/-- what is written behind n rows -/
def gW (w : Nat → Int32) (n : Nat) (t k c s v : Int32) : Nat → Int32 := zu (zu (zu (zu (zu (zu w (1682 + 5 * n) t) (1682 + 5 * n + 1) k) (1682 + 5 * n + 2) c) (1682 + 5 * n + 3) s) (1682 + 5 * n + 4) v) 12 (Int32.ofNat (n + 1))
theorem e7_tells {n : Nat} {t k c s v : Int32} (S : MSh κ h b) (hn : n ≤ 30) (e : w 12 = Int32.ofNat n) : Ev κ mX7_tells [.ref b, .int t, .int k, .int c, .int s, .int v] (hM h b w sm o) Q =
    Q (.inl none) (hM h b (if n = 30 then gW (zu (gSk w 145) 12 (Int32.ofNat 29)) 29 t k c s v else gW w n t k c s v) sm o) := by
  have S1 := mW S
  by_cases h30 : n = 30
  · subst h30
    rw [if_pos rfl]
    have lp : ∀ d m, m + d = 145 → Go κ mX7_tells 15 [some (.ref b), some (.int t), some (.int k), some (.int c), some (.int s), some (.int v), some (.int (Int32.ofNat (m + 5)))] [] (hM h b (gSk w m) sm o) Q = Q (.inl none) (hM h b (gW (zu (gSk w 145) 12 (Int32.ofNat 29)) 29 t k c s v) sm o) := by
      intro d
      induction d with
      | zero =>
        intro m hm
        have hm' : m = 145 := by omega
        subst hm'
        have e1 : gSk w 145 12 = Int32.ofNat 30 := by unfold gSk; rw [if_neg (by omega)]; exact e
        simp (disch := first | assumption | omega | decide) only [gB, I_all, zK_v, zK_n, true_and, and_true, Nat.reduceAdd, Nat.reduceMul, Nat.reduceSub, z_lt, z_le, z_neq, not_false_eq_true, hM_all, gX7_tells_h]
        simp (disch := first | assumption | omega | decide) only [gB, I_all, zK_v, zK_n, true_and, and_true, Nat.reduceAdd, Nat.reduceMul, Nat.reduceSub, z_lt, z_le, z_neq, not_false_eq_true, hM_all, gX7_tells, S1, e1, I_sub, zu_nx, zu_at]
        rfl
      | succ d ih =>
        intro m hm
        have ih' := ih (m + 1) (by omega)
        rw [← gSk_up] at ih'
        simp (disch := first | assumption | omega | decide) only [gB, I_all, zK_v, zK_n, true_and, and_true, Nat.reduceAdd, Nat.reduceMul, Nat.reduceSub, z_lt, z_le, z_neq, not_false_eq_true, hM_all, gX7_tells_h]
        have e5 : 1682 + (m + 5) - 5 = 1682 + m := by omega
        have e6 : m + 5 + 1 = m + 1 + 5 := by omega
        simp (disch := first | assumption | omega | decide) only [gB, I_all, zK_v, zK_n, true_and, and_true, Nat.reduceAdd, Nat.reduceMul, Nat.reduceSub, z_lt, z_le, z_neq, not_false_eq_true, hM_all, gX7_tells, S1, I_sub, e5, e6]
        exact ih'
    have := lp 145 0 (by omega)
    rw [gSk_0] at this
    simp (disch := first | assumption | omega | decide) only [gB, I_all, zK_v, zK_n, true_and, and_true, Nat.reduceAdd, Nat.reduceMul, Nat.reduceSub, z_lt, z_le, z_neq, not_false_eq_true, hM_all, gX7_tells, S1, e]
    exact this
  · rw [if_neg h30]
    simp (disch := first | assumption | omega | decide) only [gB, I_all, zK_v, zK_n, true_and, and_true, Nat.reduceAdd, Nat.reduceMul, Nat.reduceSub, z_lt, z_le, z_neq, not_false_eq_true, hM_all, gX7_tells, S1, e, I_sub, zu_nx, zu_at]
    rfl
end
