/-! bounds asked in longs; what is undone, kept, laid back -/
theorem I_64 {n : Nat} (h : n < 2147483648) : (Int32.ofNat n).toInt64 = Int64.ofNat n := by
  rw [← Int64.toInt_inj, Int32.toInt_toInt64, I_toInt h, Int64.toInt_ofNat_of_lt (by omega)]
theorem J_le {x : Int32} {n : Nat} (h : n < 2147483648) : (Int64.ofNat n ≤ x.toInt64) ↔ (n : Int) ≤ x.toInt := by
  rw [Int64.le_iff_toInt_le, Int32.toInt_toInt64, Int64.toInt_ofNat_of_lt (by omega)]
theorem J_ge {x : Int32} {n : Nat} (h : n < 2147483648) : (x.toInt64 ≤ Int64.ofNat n) ↔ x.toInt ≤ n := by
  rw [Int64.le_iff_toInt_le, Int32.toInt_toInt64, Int64.toInt_ofNat_of_lt (by omega)]
/-- an int between two bounds -/
abbrev btw (x : Int32) (l u : Nat) : Prop := (l : Int) ≤ x.toInt ∧ x.toInt ≤ u
theorem btw_nat {x : Int32} {l u : Nat} (h : btw x l u) : ∃ n, x = Int32.ofNat n ∧ l ≤ n ∧ n ≤ u ∧ n < 2147483648 := by
  have h2 := Int32.toInt_lt x
  refine ⟨x.toInt.toNat, ?_, by have := h.1; omega, by have := h.2; have := h.1; omega, by have := h.1; omega⟩
  rw [← Int32.toInt_inj, I_toInt (by have := h.1; omega)]
  have := h.1
  omega
theorem btw_I {n l u : Nat} (h : n < 2147483648) : btw (Int32.ofNat n) l u ↔ l ≤ n ∧ n ≤ u := by
  unfold btw
  rw [I_toInt h]
  omega
section
variable {κ : zC} {h : zH} {b : Nat} {W : Nat → Nat → Int32} {SM : Nat → Nat → Int64} {Q : zQ} {Y : Sy}
theorem e7_inY {x : Int32} {l u : Nat} (hl : l < 2147483648) (hu : u < 2147483648) (c : btw x l u) : Ev κ mX7_in [.long x.toInt64, .long (Int64.ofNat l), .long (Int64.ofNat u)] h Q = Q (.inl (some (.int (Int32.ofNat 1)))) h := by
  rw [e7_in, if_pos ⟨(J_le hl).mpr c.1, (J_ge hu).mpr c.2⟩]
theorem e7_inN {x : Int32} {l u : Nat} (hl : l < 2147483648) (hu : u < 2147483648) (c : ¬ btw x l u) : Ev κ mX7_in [.long x.toInt64, .long (Int64.ofNat l), .long (Int64.ofNat u)] h Q = Q (.inl (some (.int (Int32.ofNat 0)))) h := by
  rw [e7_in, if_neg (fun z => c ⟨(J_le hl).mp z.1, (J_ge hu).mp z.2⟩)]
/-- undo: the answer; what is then -/
def yUn (Y : Sy) : Int32 × Sy := match (yU Y)[(yU Y).length - 1]? with
  | none => (Int32.ofInt (-1), Y)
  | some σ => (Int32.ofNat ((yU Y).length - 1), vSt (vU Y ((yU Y).take ((yU Y).length - 1))) σ)
theorem e7_undo (S : TSh κ h b) (T : TIn W SM Y) (hq : ∀ W' SM', TIn W' SM' (yUn Y).2 → Q (.inl (some (.int (yUn Y).1))) (hX h b 33 W' SM')) : Ev κ mX7_undo [.ref b] (hX h b 33 W SM) Q := by
  obtain ⟨t1, ⟨t2, t2'⟩, t3, t4, t5, t6, t7⟩ := T
  have T : TIn W SM Y := ⟨t1, ⟨t2, t2'⟩, t3, t4, t5, t6, t7⟩
  have hl := t3.2.1
  have F := xF S
  have R := xR S
  have K := xK S
  have hB : kB κ ≤ b := S.1.1
  have e1 := t3.1
  unfold yUn at hq
  by_cases h0 : (yU Y).length = 0
  · rw [show (yU Y)[(yU Y).length - 1]? = none by rw [List.getElem?_eq_none]; omega] at hq
    simp (disch := first | assumption | omega | decide) only [gB, I_all, zK_v, zK_n, true_and, and_true, Nat.reduceAdd, Nat.reduceMul, Nat.reduceSub, z_lt, z_le, z_neq, not_false_eq_true, or_true, true_or, or_false, false_or, false_and, and_false, gX7_undo, F, R, K, e1, h0]
    exact hq _ _ T
  · obtain ⟨n, hn⟩ : ∃ n, (yU Y).length = n + 1 := ⟨(yU Y).length - 1, by omega⟩
    have hg : (yU Y)[n]? = some ((yU Y)[n]'(by omega)) := List.getElem?_eq_getElem (by omega)
    generalize (yU Y)[n]'(by omega) = σ at hg
    rw [hn, Nat.add_sub_cancel, hg] at hq
    rw [hn] at e1
    obtain ⟨q1, q2⟩ := t3.2.2 n σ hg
    have e2 : ∀ k, cpy (zv W 0 102 (Int32.ofNat n)) 13 0 17 (3614 * n) k 0 102 = Int32.ofNat n := fun k => by rw [cpy_out (by omega), zv_at rfl rfl]
    have lp := Go_fr (κ := κ) (m := mX7_undo) (pc := 21) (n := 3614) (Q := Q) (R := Q (.inl (some (.int (Int32.ofNat n)))) (hX h b 33 (cpy (zv W 0 102 (Int32.ofNat n)) 13 0 17 (3614 * n) 3614) (cpS SM 14 0 18 (2 * n)))) (fun k => [some (.ref b), some (.int (Int32.ofNat k))]) (fun k => hX h b 33 (cpy (zv W 0 102 (Int32.ofNat n)) 13 0 17 (3614 * n) k) SM) (fun k hk ih => by
      have e3 := cpy_up (zv W 0 102 (Int32.ofNat n)) 13 0 17 (3614 * n) k (Or.inl (by decide))
      simp only [Nat.zero_add] at e3
      rw [← e3] at ih
      simp (disch := first | assumption | omega | decide) only [gB, I_all, zK_v, zK_n, true_and, and_true, Nat.reduceAdd, Nat.reduceMul, Nat.reduceSub, z_lt, z_le, z_neq, not_false_eq_true, or_true, true_or, or_false, false_or, false_and, and_false, gX7_undo_h]
      simp (disch := first | assumption | omega | decide) only [gB, I_all, zK_v, zK_n, true_and, and_true, Nat.reduceAdd, Nat.reduceMul, Nat.reduceSub, z_lt, z_le, z_neq, not_false_eq_true, or_true, true_or, or_false, false_or, false_and, and_false, gX7_undo, F, R, K, e2]
      exact ih) (by
      simp (disch := first | assumption | omega | decide) only [gB, I_all, zK_v, zK_n, true_and, and_true, Nat.reduceAdd, Nat.reduceMul, Nat.reduceSub, z_lt, z_le, z_neq, not_false_eq_true, or_true, true_or, or_false, false_or, false_and, and_false, gX7_undo_h]
      unfold cpS
      simp (disch := first | assumption | omega | decide) only [gB, I_all, zK_v, zK_n, true_and, and_true, Nat.reduceAdd, Nat.reduceMul, Nat.reduceSub, z_lt, z_le, z_neq, not_false_eq_true, or_true, true_or, or_false, false_or, false_and, and_false, gX7_undo, F, R, K, e2, zv_nx])
    rw [cpy_0] at lp
    simp (disch := first | assumption | omega | decide) only [gB, I_all, zK_v, zK_n, true_and, and_true, Nat.reduceAdd, Nat.reduceMul, Nat.reduceSub, z_lt, z_le, z_neq, not_false_eq_true, or_true, true_or, or_false, false_or, false_and, and_false, gX7_undo, F, R, K, e1, I_sub, Nat.add_sub_cancel]
    rw [lp]
    refine hq _ _ ⟨t1.cg (fun g h1 h2 => ?_) (fun k h1 h2 h3 j => ?_), ⟨q1.cg q2 (fun j hj => ?_) ?_ ?_, q2⟩, ?_, t4.cg (fun j => ?_) (fun j => ?_) (fun j => ?_), t5.cg ?_ (fun j => ?_), ?_, t7⟩
    · rw [cpy_out (by omega), zv_nx (by omega)]
    · rw [cpy_out (by omega), zv_nx (by omega)]
    · have := cpy_in (W := zv W 0 102 (Int32.ofNat n)) (kd := 13) (od := 0) (ks := 17) (os := 3614 * n) (n := 3614) hj
      rw [Nat.zero_add] at this
      rw [this, zv_nx (by omega)]
    · unfold cpS
      rw [zv_nx (by omega), zv_at rfl rfl]; rfl
    · unfold cpS
      rw [zv_at rfl rfl]
    · obtain ⟨u1, u2, u3⟩ := t3
      refine ⟨?_, ?_, fun i τ hi => ?_⟩
      · show _ = Int32.ofNat ((yU Y).take n).length
        rw [List.length_take, cpy_out (by omega), zv_at rfl rfl, Nat.min_eq_left (by omega)]
      · show ((yU Y).take n).length ≤ 8
        rw [List.length_take]; omega
      · have hi' : ((yU Y).take n)[i]? = some τ := hi
        rw [List.getElem?_take] at hi'
        split at hi'
        · obtain ⟨a1, a2⟩ := u3 i τ hi'
          refine ⟨a1.cg a2 (fun j hj => ?_) ?_ ?_, a2⟩
          · rw [cpy_out (by omega), zv_nx (by omega)]
          · unfold cpS
            rw [zv_nx (by omega), zv_nx (by omega)]
          · unfold cpS
            rw [zv_nx (by omega), zv_nx (by omega)]
        · cases hi'
    · rw [cpy_out (by omega), zv_nx (by omega)]
    · rw [cpy_out (by omega), zv_nx (by omega)]
    · unfold cpS
      rw [zv_nx (by omega), zv_nx (by omega)]
    · rw [cpy_out (by omega), zv_nx (by omega)]
    · rw [cpy_out (by omega), zv_nx (by omega)]
    · rw [cpy_out (by omega), zv_nx (by omega)]
      exact t6
/-- keep -/
def yKe (Y : Sy) (x : Int32) : Int32 × Sy := if 0 ≤ x.toInt ∧ x.toInt ≤ 1 then (sN (yS Y) 0, vK Y (zu (yK Y) x.toNatClampNeg (some (yS Y)))) else (Int32.ofInt (-1), Y)
theorem e7_keep {x : Int32} (S : TSh κ h b) (T : TIn W SM Y) (hq : ∀ W' SM', TIn W' SM' (yKe Y x).2 → Q (.inl (some (.int (yKe Y x).1))) (hX h b 33 W' SM')) : Ev κ mX7_keep [.ref b, .int x] (hX h b 33 W SM) Q := by
  obtain ⟨t1, ⟨t2, t2'⟩, t3, t4, t5, t6, t7⟩ := T
  have T : TIn W SM Y := ⟨t1, ⟨t2, t2'⟩, t3, t4, t5, t6, t7⟩
  have F := xF S
  have R := xR S
  have K := xK S
  have hB : kB κ ≤ b := S.1.1
  unfold yKe at hq
  by_cases c : btw x 0 1
  · rw [if_pos (show 0 ≤ x.toInt ∧ x.toInt ≤ 1 from c)] at hq
    have ei := fun (h : zH) (Q : zQ) => e7_inY (κ := κ) (h := h) (Q := Q) (x := x) (l := 0) (u := 1) (by decide) (by decide) c
    obtain ⟨n, hx, -, hn, -⟩ := btw_nat c
    subst hx
    rw [I_nat (by omega)] at hq
    have e0 : ∀ k, cpy W 19 (3614 * n) 13 0 k 13 0 = sN (yS Y) 0 := fun k => by rw [cpy_out (by omega)]; exact t2.1 0 (by unfold nat1; omega)
    have lp := Go_fr (κ := κ) (m := mX7_keep) (pc := 14) (n := 3614) (Q := Q) (R := Q (.inl (some (.int (sN (yS Y) 0)))) (hX h b 33 (zv (cpy W 19 (3614 * n) 13 0 3614) 21 n (Int32.ofNat 1)) (cpS SM 20 (2 * n) 14 0))) (fun k => [some (.ref b), some (.int (Int32.ofNat n)), some (.int (Int32.ofNat k))]) (fun k => hX h b 33 (cpy W 19 (3614 * n) 13 0 k) SM) (fun k hk ih => by
      have e3 := cpy_up W 19 (3614 * n) 13 0 k (Or.inl (by decide))
      simp only [Nat.zero_add] at e3
      rw [← e3] at ih
      simp (disch := first | assumption | omega | decide) only [gB, I_all, zK_v, zK_n, true_and, and_true, Nat.reduceAdd, Nat.reduceMul, Nat.reduceSub, z_lt, z_le, z_neq, not_false_eq_true, or_true, true_or, or_false, false_or, false_and, and_false, gX7_keep_h]
      simp (disch := first | assumption | omega | decide) only [gB, I_all, zK_v, zK_n, true_and, and_true, Nat.reduceAdd, Nat.reduceMul, Nat.reduceSub, z_lt, z_le, z_neq, not_false_eq_true, or_true, true_or, or_false, false_or, false_and, and_false, gX7_keep, F, R, K]
      exact ih) (by
      simp (disch := first | assumption | omega | decide) only [gB, I_all, zK_v, zK_n, true_and, and_true, Nat.reduceAdd, Nat.reduceMul, Nat.reduceSub, z_lt, z_le, z_neq, not_false_eq_true, or_true, true_or, or_false, false_or, false_and, and_false, gX7_keep_h]
      unfold cpS
      have z1 : narrow (zElT 4) (Value.int (Int32.ofNat 1)) = Value.int (Int32.ofNat 1) := by decide
      simp (disch := first | assumption | omega | decide) only [gB, I_all, zK_v, zK_n, true_and, and_true, Nat.reduceAdd, Nat.reduceMul, Nat.reduceSub, z_lt, z_le, z_neq, not_false_eq_true, or_true, true_or, or_false, false_or, false_and, and_false, gX7_keep, F, R, K, e0, zv_nx, z1])
    rw [cpy_0] at lp
    simp (disch := first | assumption | omega | decide) only [gB, I_all, zK_v, zK_n, true_and, and_true, Nat.reduceAdd, Nat.reduceMul, Nat.reduceSub, z_lt, z_le, z_neq, not_false_eq_true, or_true, true_or, or_false, false_or, false_and, and_false, gX7_keep, ei]
    rw [lp]
    refine hq _ _ ⟨t1.cg (fun g h1 h2 => ?_) (fun k h1 h2 h3 j => ?_), ⟨t2.cg t2' (fun j hj => ?_) ?_ ?_, t2'⟩, t3.cg ?_ (fun j => ?_) (fun j => ?_), ?_, t5.cg ?_ (fun j => ?_), ?_, t7⟩
    · rw [zv_nx (by omega), cpy_out (by omega)]
    · rw [zv_nx (by omega), cpy_out (by omega)]
    · rw [zv_nx (by omega), cpy_out (by omega)]
    · unfold cpS
      rw [zv_nx (by omega), zv_nx (by omega)]
    · unfold cpS
      rw [zv_nx (by omega), zv_nx (by omega)]
    · rw [zv_nx (by omega), cpy_out (by omega)]
    · rw [zv_nx (by omega), cpy_out (by omega)]
    · unfold cpS
      rw [zv_nx (by omega), zv_nx (by omega)]
    · intro i hi
      show (zu (yK Y) n (some (yS Y)) i = none ∧ _) ∨ (∃ σ, zu (yK Y) n (some (yS Y)) i = some σ ∧ _)
      by_cases e : i = n
      · subst e
        rw [zu_eq]
        refine Or.inr ⟨yS Y, rfl, zv_at rfl rfl, t2.cg t2' (fun j hj => ?_) ?_ ?_, t2'⟩
        · rw [zv_nx (by omega), cpy_in hj, Nat.zero_add]
        · unfold cpS
          rw [zv_nx (by omega), zv_at rfl (by omega)]
        · unfold cpS
          rw [zv_at rfl rfl]
      · rw [zu_ne _ _ e]
        have f1 : (fun j => zv (cpy W 19 (3614 * n) 13 0 3614) 21 n (Int32.ofNat 1) 19 (3614 * i + j)) = fun j => (cpy W 19 (3614 * n) 13 0 3614) 19 (3614 * i + j) := funext fun j => zv_nx (by omega)
        rcases t4 i hi with ⟨k1, k2⟩ | ⟨σ, k1, k2, k3, k4⟩
        · exact Or.inl ⟨k1, by rw [zv_nx (by omega), cpy_out (by omega)]; exact k2⟩
        · refine Or.inr ⟨σ, k1, by rw [zv_nx (by omega), cpy_out (by omega)]; exact k2, k3.cg k4 (fun j hj => ?_) ?_ ?_, k4⟩
          · rw [zv_nx (by omega), cpy_out (by omega)]
          · unfold cpS
            rw [zv_nx (by omega), zv_nx (by omega)]
          · unfold cpS
            rw [zv_nx (by omega), zv_nx (by omega)]
    · rw [zv_nx (by omega), cpy_out (by omega)]
    · rw [zv_nx (by omega), cpy_out (by omega)]
    · rw [zv_nx (by omega), cpy_out (by omega)]
      exact t6
  · rw [if_neg (show ¬ (0 ≤ x.toInt ∧ x.toInt ≤ 1) from c)] at hq
    have ei := fun (h : zH) (Q : zQ) => e7_inN (κ := κ) (h := h) (Q := Q) (x := x) (l := 0) (u := 1) (by decide) (by decide) c
    simp (disch := first | assumption | omega | decide) only [gB, I_all, zK_v, zK_n, true_and, and_true, Nat.reduceAdd, Nat.reduceMul, Nat.reduceSub, z_lt, z_le, z_neq, not_false_eq_true, or_true, true_or, or_false, false_or, false_and, and_false, gX7_keep, ei]
    exact hq _ _ T
/-- restore -/
def yRs (Y : Sy) (x : Int32) : Int32 × Sy := if 0 ≤ x.toInt ∧ x.toInt ≤ 1 then (match yK Y x.toNatClampNeg with
    | none => (Int32.ofInt (-2), Y)
    | some σ => (sN σ 0, vSt (yKp Y) σ)) else (Int32.ofInt (-1), Y)
theorem e7_restore {x : Int32} (S : TSh κ h b) (T : TIn W SM Y) (hq : ∀ W' SM', TIn W' SM' (yRs Y x).2 → Q (.inl (some (.int (yRs Y x).1))) (hX h b 33 W' SM')) : Ev κ mX7_restore [.ref b, .int x] (hX h b 33 W SM) Q := by
  have t4 := T.2.2.2.1
  have F := xF S
  have R := xR S
  have K := xK S
  have hB : kB κ ≤ b := S.1.1
  unfold yRs at hq
  by_cases c : btw x 0 1
  · rw [if_pos (show 0 ≤ x.toInt ∧ x.toInt ≤ 1 from c)] at hq
    have ei := fun (h : zH) (Q : zQ) => e7_inY (κ := κ) (h := h) (Q := Q) (x := x) (l := 0) (u := 1) (by decide) (by decide) c
    obtain ⟨n, hx, -, hn, -⟩ := btw_nat c
    subst hx
    rw [I_nat (by omega)] at hq
    rcases t4 n (by omega) with ⟨k1, k2⟩ | ⟨σ, k1, k2, k3, k4⟩
    · rw [k1] at hq
      simp (disch := first | assumption | omega | decide) only [gB, I_all, zK_v, zK_n, true_and, and_true, Nat.reduceAdd, Nat.reduceMul, Nat.reduceSub, z_lt, z_le, z_neq, not_false_eq_true, or_true, true_or, or_false, false_or, false_and, and_false, gX7_restore, F, R, K, ei, k2]
      exact hq _ _ T
    · rw [k1] at hq
      simp (disch := first | assumption | omega | decide) only [gB, I_all, zK_v, zK_n, true_and, and_true, Nat.reduceAdd, Nat.reduceMul, Nat.reduceSub, z_lt, z_le, z_neq, not_false_eq_true, or_true, true_or, or_false, false_or, false_and, and_false, gX7_restore, F, R, K, ei, k2]
      refine e7_keeps S T fun W1 SM1 T1 w13 s14 => ?_
      obtain ⟨t1, ⟨t2, t2'⟩, t3, t4, t5, t6, t7⟩ := T1
      have k1' : yK (yKp Y) n = some σ := k1
      rcases t4 n (by omega) with ⟨j1, j2⟩ | ⟨σ', j1, j2, j3, j4⟩
      · rw [k1'] at j1; cases j1
      · rw [k1'] at j1
        cases j1
        have e0 : cpy W1 13 0 19 (3614 * n) 3614 13 0 = sN σ 0 := by
          have := cpy_in (W := W1) (kd := 13) (od := 0) (ks := 19) (os := 3614 * n) (n := 3614) (j := 0) (by decide)
          rw [show 0 + 0 = 0 from rfl] at this
          rw [this]
          exact j3.1 0 (by unfold nat1; omega)
        have lp := Go_fr (κ := κ) (m := mX7_restore) (pc := 30) (n := 3614) (Q := Q) (R := Q (.inl (some (.int (sN σ 0)))) (hX h b 33 (cpy W1 13 0 19 (3614 * n) 3614) (cpS SM1 14 0 20 (2 * n)))) (fun k => [some (.ref b), some (.int (Int32.ofNat n)), some (.int (Int32.ofNat k))]) (fun k => hX h b 33 (cpy W1 13 0 19 (3614 * n) k) SM1) (fun k hk ih => by
          have e3 := cpy_up W1 13 0 19 (3614 * n) k (Or.inl (by decide))
          simp only [Nat.zero_add] at e3
          rw [← e3] at ih
          simp (disch := first | assumption | omega | decide) only [gB, I_all, zK_v, zK_n, true_and, and_true, Nat.reduceAdd, Nat.reduceMul, Nat.reduceSub, z_lt, z_le, z_neq, not_false_eq_true, or_true, true_or, or_false, false_or, false_and, and_false, gX7_restore_h]
          simp (disch := first | assumption | omega | decide) only [gB, I_all, zK_v, zK_n, true_and, and_true, Nat.reduceAdd, Nat.reduceMul, Nat.reduceSub, z_lt, z_le, z_neq, not_false_eq_true, or_true, true_or, or_false, false_or, false_and, and_false, gX7_restore, F, R, K]
          exact ih) (by
          simp (disch := first | assumption | omega | decide) only [gB, I_all, zK_v, zK_n, true_and, and_true, Nat.reduceAdd, Nat.reduceMul, Nat.reduceSub, z_lt, z_le, z_neq, not_false_eq_true, or_true, true_or, or_false, false_or, false_and, and_false, gX7_restore_h]
          unfold cpS
          simp (disch := first | assumption | omega | decide) only [gB, I_all, zK_v, zK_n, true_and, and_true, Nat.reduceAdd, Nat.reduceMul, Nat.reduceSub, z_lt, z_le, z_neq, not_false_eq_true, or_true, true_or, or_false, false_or, false_and, and_false, gX7_restore, F, R, K, e0, zv_nx])
        rw [cpy_0] at lp
        simp (disch := first | assumption | omega | decide) only [gB, I_all, zK_v, zK_n, true_and, and_true, Nat.reduceAdd, Nat.reduceMul, Nat.reduceSub, z_lt, z_le, z_neq, not_false_eq_true, or_true, true_or, or_false, false_or, false_and, and_false, gX7_restore]
        rw [lp]
        refine hq _ _ ⟨t1.cg (fun g h1 h2 => ?_) (fun k h1 h2 h3 j => ?_), ⟨j3.cg j4 (fun j hj => ?_) ?_ ?_, j4⟩, t3.cg ?_ (fun j => ?_) (fun j => ?_), t4.cg (fun j => ?_) (fun j => ?_) (fun j => ?_), t5.cg ?_ (fun j => ?_), ?_, t7⟩
        · rw [cpy_out (by omega)]
        · rw [cpy_out (by omega)]
        · have := cpy_in (W := W1) (kd := 13) (od := 0) (ks := 19) (os := 3614 * n) (n := 3614) hj
          rw [Nat.zero_add] at this
          rw [this]
        · unfold cpS
          rw [zv_nx (by omega), zv_at rfl rfl]; rfl
        · unfold cpS
          rw [zv_at rfl rfl]
        · rw [cpy_out (by omega)]
        · rw [cpy_out (by omega)]
        · unfold cpS
          rw [zv_nx (by omega), zv_nx (by omega)]
        · rw [cpy_out (by omega)]
        · rw [cpy_out (by omega)]
        · unfold cpS
          rw [zv_nx (by omega), zv_nx (by omega)]
        · rw [cpy_out (by omega)]
        · rw [cpy_out (by omega)]
        · rw [cpy_out (by omega)]
          exact t6
  · rw [if_neg (show ¬ (0 ≤ x.toInt ∧ x.toInt ≤ 1) from c)] at hq
    have ei := fun (h : zH) (Q : zQ) => e7_inN (κ := κ) (h := h) (Q := Q) (x := x) (l := 0) (u := 1) (by decide) (by decide) c
    simp (disch := first | assumption | omega | decide) only [gB, I_all, zK_v, zK_n, true_and, and_true, Nat.reduceAdd, Nat.reduceMul, Nat.reduceSub, z_lt, z_le, z_neq, not_false_eq_true, or_true, true_or, or_false, false_or, false_and, and_false, gX7_restore, ei]
    exact hq _ _ T
end
