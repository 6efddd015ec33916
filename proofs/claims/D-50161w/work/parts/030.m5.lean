/-! the twin: its plan; the flow that comes next; all that come by a time -/
def MPl (h : zH) (b : Nat) (π : Pl) : Prop := hV h b 75 = .int (Int32.ofNat (plN π 0)) ∧ hV h b 76 = .int (Int32.ofNat (plN π 1)) ∧ hV h b 77 = .int (Int32.ofNat (plN π 2)) ∧ hV h b 78 = .int (plT π 0 0) ∧ hV h b 79 = .int (plT π 0 1) ∧ hV h b 80 = .int (plT π 0 2) ∧
  (∀ t, t ∈ [3, 4, 5] → ∀ j, j < plN π 0 → hV h (b + t) j = .int (plT π t j)) ∧ (∀ t, t ∈ [7, 8] → ∀ j, j < plN π 1 → hV h (b + t) j = .int (plT π t j)) ∧ (∀ t, t ∈ [9, 10, 11, 12] → ∀ j, j < plN π 2 → hV h (b + t) j = .int (plT π t j))
/-- a plan as it can be -/
def pOk (π : Pl) : Prop := (2 ≤ plN π 0 ∧ plN π 0 ≤ 10) ∧ (1 ≤ plN π 1 ∧ plN π 1 ≤ 6) ∧ plN π 2 ≤ 16 ∧
  (∀ f, f < plN π 2 → plT π 9 f = Int32.ofNat (plI π 9 f) ∧ plI π 9 f < plN π 0 ∧ plT π 10 f = Int32.ofNat (plI π 10 f) ∧ plI π 10 f < plN π 0 ∧ 10 ≤ (plT π 11 f).toInt ∧ (plT π 11 f).toInt ≤ 9999 ∧ 0 ≤ (plT π 12 f).toInt ∧ (plT π 12 f).toInt ≤ 9999) ∧
  (∀ b, b < plN π 1 → plT π 7 b = Int32.ofNat (plI π 7 b) ∧ 1 ≤ plI π 7 b ∧ plI π 7 b ≤ 99 ∧ 0 ≤ (plT π 8 b).toInt ∧ (plT π 8 b).toInt ≤ 9999) ∧
  (∀ s, s < plN π 0 → 20 ≤ (plT π 4 s).toInt ∧ (plT π 4 s).toInt ≤ 900 ∧ 0 ≤ (plT π 5 s).toInt ∧ (plT π 5 s).toInt ≤ 9999) ∧
  (0 ≤ (plT π 0 0).toInt ∧ (plT π 0 0).toInt ≤ 60 ∧ 0 ≤ (plT π 0 1).toInt ∧ (plT π 0 1).toInt ≤ 9 ∧ 0 ≤ (plT π 0 2).toInt ∧ (plT π 0 2).toInt ≤ 9)
def enO : Option Nat → Int32
  | none => Int32.ofInt (-2)
  | some g => Int32.ofNat g
theorem fnx_lt {π : Pl} {n : Nat → Int32} {s : Nat} {t : Int32} : ∀ {k g : Nat}, fnx π n s t k = some g → g < k ∧ plI π 9 g = s ∧ n (63 + g) ≤ t := by
  intro k
  induction k with
  | zero => intro g h; cases h
  | succ k ih =>
    intro g h
    unfold fnx at h
    split at h
    · next hc => cases h; exact ⟨Nat.lt_succ_self _, hc.1, hc.2.1⟩
    · obtain ⟨a, b⟩ := ih h; exact ⟨by omega, b⟩
theorem fnx_congr {π : Pl} {n n' : Nat → Int32} {s : Nat} {t : Int32} : ∀ {k : Nat}, (∀ g, g < k → n' (63 + g) = n (63 + g)) → fnx π n' s t k = fnx π n s t k := by
  intro k
  induction k with
  | zero => intro _; rfl
  | succ k ih =>
    intro h
    have e1 := ih fun g hg => h g (by omega)
    have e3 : ((fnx π n s t k).all fun g => decide (n (63 + k) < n' (63 + g))) = ((fnx π n s t k).all fun g => decide (n (63 + k) < n (63 + g))) := by
      cases hc : fnx π n s t k with
      | none => exact (Option.all_none).trans (Option.all_none).symm
      | some g =>
        have hg := (fnx_lt hc).1
        rw [Option.all_some, Option.all_some, h g (by omega)]
    show (if plI π 9 k = s ∧ n' (63 + k) ≤ t ∧ ((fnx π n' s t k).all fun g => decide (n' (63 + k) < n' (63 + g))) = true then some k else fnx π n' s t k) = (if plI π 9 k = s ∧ n (63 + k) ≤ t ∧ ((fnx π n s t k).all fun g => decide (n (63 + k) < n (63 + g))) = true then some k else fnx π n s t k)
    rw [e1, h k (by omega), e3]
section
variable {κ : zC} {h : zH} {b : Nat} {w : Nat → Int32} {sm : Nat → Int64} {o : Int32} {Q : zQ} {σ : Sg} {π : Pl}
theorem e7_flowNext {s : Nat} {t : Int32} (S : MSh κ h b) (P : MPl h b π) (O : pOk π) (hs : s < 10) : Ev κ mX7_flowNext [.ref b, .int (Int32.ofNat s), .int t] (hM h b w sm o) Q = Q (.inl (some (.int (enO (fnx π w s t (plN π 2)))))) (hM h b w sm o) := by
  have S1 := mW S
  have S2 := mA S (89, 1, 16) (k := 9) (by decide)
  have P3 := P.2.2.1
  have P9 := P.2.2.2.2.2.2.2.2 9 (by decide)
  obtain ⟨⟨-, hns⟩, -, hnf, hfl, -⟩ := O
  have lp : ∀ d k, k + d = plN π 2 → Go κ mX7_flowNext 6 [some (.ref b), some (.int (Int32.ofNat s)), some (.int t), some (.int (enO (fnx π w s t k))), some (.int (Int32.ofNat k))] [] (hM h b w sm o) Q = Q (.inl (some (.int (enO (fnx π w s t (plN π 2)))))) (hM h b w sm o) := by
    intro d
    induction d with
    | zero =>
      intro k hk
      have hk' : k = plN π 2 := by omega
      simp (disch := first | assumption | omega | decide) only [gB, I_all, zK_v, zK_n, true_and, and_true, Nat.reduceAdd, Nat.reduceMul, Nat.reduceSub, z_lt, z_le, z_neq, not_false_eq_true, hM_all, gX7_flowNext_h]
      simp (disch := first | assumption | omega | decide) only [gB, I_all, zK_v, zK_n, true_and, and_true, Nat.reduceAdd, Nat.reduceMul, Nat.reduceSub, z_lt, z_le, z_neq, not_false_eq_true, hM_all, gX7_flowNext, S1, P3]
      rw [hk']
    | succ d ih =>
      intro k hk
      have hk1 : k < plN π 2 := by omega
      have ih' := ih (k + 1) (by omega)
      have e9 := (hfl k hk1).1
      have e8 := (hfl k hk1).2.1
      have ex : fnx π w s t (k + 1) = if plI π 9 k = s ∧ w (63 + k) ≤ t ∧ ((fnx π w s t k).all fun g => decide (w (63 + k) < w (63 + g))) = true then some k else fnx π w s t k := rfl
      simp (disch := first | assumption | omega | decide) only [gB, I_all, zK_v, zK_n, true_and, and_true, Nat.reduceAdd, Nat.reduceMul, Nat.reduceSub, z_lt, z_le, z_neq, not_false_eq_true, hM_all, gX7_flowNext_h]
      by_cases h1 : plI π 9 k = s
      · by_cases h2 : w (63 + k) ≤ t
        · have h2' : ¬ t < w (63 + k) := Int32.not_lt.mpr h2
          cases hb : fnx π w s t k with
          | none =>
            have e0 : enO none = Int32.ofInt (-2) := rfl
            rw [ex, hb, if_pos ⟨h1, h2, rfl⟩] at ih'
            simp (disch := first | assumption | omega | decide) only [gB, I_all, zK_v, zK_n, true_and, and_true, Nat.reduceAdd, Nat.reduceMul, Nat.reduceSub, z_lt, z_le, z_neq, not_false_eq_true, hM_all, gX7_flowNext, S1, S2, P3, P9, e9, e0]
            exact ih'
          | some g =>
            have hg := (fnx_lt hb).1
            have e0 : enO (some g) = Int32.ofNat g := rfl
            by_cases h3 : w (63 + k) < w (63 + g)
            · have h3' : ¬ w (63 + g) ≤ w (63 + k) := Int32.not_le.mpr h3
              rw [ex, hb, if_pos ⟨h1, h2, by simpa using h3⟩] at ih'
              simp (disch := first | assumption | omega | decide) only [gB, I_all, zK_v, zK_n, true_and, and_true, Nat.reduceAdd, Nat.reduceMul, Nat.reduceSub, z_lt, z_le, z_neq, not_false_eq_true, hM_all, gX7_flowNext, S1, S2, P3, P9, e9, e0]
              exact ih'
            · have h3' : w (63 + g) ≤ w (63 + k) := Int32.not_lt.mp h3
              rw [ex, hb, if_neg (fun x => h3 (by simpa using x.2.2))] at ih'
              simp (disch := first | assumption | omega | decide) only [gB, I_all, zK_v, zK_n, true_and, and_true, Nat.reduceAdd, Nat.reduceMul, Nat.reduceSub, z_lt, z_le, z_neq, not_false_eq_true, hM_all, gX7_flowNext, S1, S2, P3, P9, e9, e0]
              exact ih'
        · have h2' : t < w (63 + k) := Int32.not_le.mp h2
          rw [ex, if_neg (fun x => h2 x.2.1)] at ih'
          simp (disch := first | assumption | omega | decide) only [gB, I_all, zK_v, zK_n, true_and, and_true, Nat.reduceAdd, Nat.reduceMul, Nat.reduceSub, z_lt, z_le, z_neq, not_false_eq_true, hM_all, gX7_flowNext, S1, S2, P3, P9, e9]
          exact ih'
      · rw [ex, if_neg (fun x => h1 x.1)] at ih'
        simp (disch := first | assumption | omega | decide) only [gB, I_all, zK_v, zK_n, true_and, and_true, Nat.reduceAdd, Nat.reduceMul, Nat.reduceSub, z_lt, z_le, z_neq, not_false_eq_true, hM_all, gX7_flowNext, S1, S2, P3, P9, e9]
        exact ih'
  have := lp (plN π 2) 0 (by omega)
  simp (disch := first | assumption | omega | decide) only [gB, I_all, zK_v, zK_n, true_and, and_true, Nat.reduceAdd, Nat.reduceMul, Nat.reduceSub, z_lt, z_le, z_neq, not_false_eq_true, hM_all, gX7_flowNext]
  exact this
end
