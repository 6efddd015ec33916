/-! the twin: what there is; printed by gen/gen_m37.py -/
def waF (σ : Sg) : Nat → Int32
  | 0 => Int32.ofNat 0
  | k + 1 => waF σ k + Int32.ofNat (sR σ k).length
def abF (σ : Sg) : Nat → Int32
  | 0 => Int32.ofNat 0
  | k + 1 => abF σ k + Int32.ofNat (bR σ k).length
/-- buses at a stop, of the first k -/
def atF (σ : Sg) (s : Nat) : Nat → Nat
  | 0 => 0
  | k + 1 => atF σ s k + if 2 ≤ bI σ k 0 ∧ bI σ k 1 = s then 1 else 0
def cntF (l : List Rd) (f : Nat) : Nat := (l.filter fun r => decide (r.2.2 = f)).length
theorem cntF_up {l : List Rd} {f i : Nat} {r : Rd} (hi : l[i]? = some r) : cntF (l.take (i + 1)) f = cntF (l.take i) f + if r.2.2 = f then 1 else 0 := by
  unfold cntF
  rw [List.take_add_one, hi]
  show (List.filter _ (l.take i ++ [r])).length = _
  rw [List.filter_append, List.length_append]
  congr 1
  by_cases h : r.2.2 = f <;> simp [h]
theorem cntF_le (l : List Rd) (f : Nat) : cntF l f ≤ l.length := List.length_filter_le _ _
def waO (σ : Sg) (f : Nat) : Nat → Nat
  | 0 => 0
  | k + 1 => waO σ f k + cntF (sR σ k) f
def abO (σ : Sg) (f : Nat) : Nat → Nat
  | 0 => 0
  | k + 1 => abO σ f k + cntF (bR σ k) f
theorem atF_le (σ : Sg) (s : Nat) : ∀ k, atF σ s k ≤ k := by
  intro k
  induction k with
  | zero => exact Nat.le_refl _
  | succ k ih =>
    unfold atF
    split <;> omega
def rVaN (Y : Sy) : Nat → Int32
  | 0 => sN (yS Y) 0
  | 1 => Int32.ofNat (plN (yP Y) 0)
  | 2 => Int32.ofNat (plN (yP Y) 1)
  | 3 => Int32.ofNat (plN (yP Y) 2)
  | 4 => ptF (yS Y) (plN (yP Y) 0)
  | 5 => plT (yP Y) 0 0
  | 6 => plT (yP Y) 0 1
  | 7 => plT (yP Y) 0 2
  | 8 => sN (yS Y) 2
  | 9 => sN (yS Y) 3
  | 10 => sN (yS Y) 4
  | 11 => sN (yS Y) 5
  | 12 => sN (yS Y) 1
  | 13 => waF (yS Y) (plN (yP Y) 0)
  | 14 => abF (yS Y) (plN (yP Y) 1)
  | 15 => sN (yS Y) 6
  | 16 => sN (yS Y) 7
  | 17 => sN (yS Y) 8
  | 18 => sN (yS Y) 9
  | 19 => sN (yS Y) 10
  | 20 => sN (yS Y) 11
  | _ => Int32.ofNat (sG (yS Y)).length
def rVa (Y : Sy) (x : Int32) : Int32 := if btw x 0 21 then rVaN Y x.toNatClampNeg else Int32.ofInt (-1)
def rStN (Y : Sy) (s : Nat) : Nat → Int32
  | 0 => plT (yP Y) 4 s
  | 1 => plT (yP Y) 5 s
  | 2 => sN (yS Y) (13 + s)
  | 3 => Int32.ofNat (sR (yS Y) s).length
  | 4 => sN (yS Y) (33 + s)
  | 5 => sN (yS Y) (43 + s)
  | _ => Int32.ofNat (atF (yS Y) s (plN (yP Y) 1))
def rSt (Y : Sy) (s x : Int32) : Int32 := if btw s 0 (plN (yP Y) 0 - 1) then (if btw x 0 6 then rStN Y s.toNatClampNeg x.toNatClampNeg else Int32.ofInt (-1)) else Int32.ofInt (-1)
def rBuN (Y : Sy) (b : Nat) : Nat → Int32
  | 0 => plT (yP Y) 7 b
  | 1 => plT (yP Y) 8 b
  | 2 => bF (yS Y) b 0
  | 3 => bF (yS Y) b 1
  | 4 => bF (yS Y) b 2
  | 5 => bF (yS Y) b 3
  | 6 => Int32.ofNat (bR (yS Y) b).length
  | 7 => bF (yS Y) b 5
  | 8 => bF (yS Y) b 6
  | 9 => bF (yS Y) b 8
  | _ => bF (yS Y) b 9
def rBu (Y : Sy) (b x : Int32) : Int32 := if btw b 0 (plN (yP Y) 1 - 1) then (if btw x 0 10 then rBuN Y b.toNatClampNeg x.toNatClampNeg else Int32.ofInt (-1)) else Int32.ofInt (-1)
def rWh (Y : Sy) (b : Int32) : Int32 := if btw b 0 (plN (yP Y) 1 - 1) then bF (yS Y) b.toNatClampNeg 7 else Int32.ofInt (-1)
theorem ne_btw {x : Int32} {u : Nat} (hu : u < 2147483648) (c : ¬ btw x 0 u) : ∀ k, k ≤ u → ¬ x = Int32.ofNat k := by
  intro k hk e
  apply c
  rw [e, btw_I (by omega)]
  omega
section
variable {κ : zC} {h : zH} {b : Nat} {W : Nat → Nat → Int32} {SM : Nat → Nat → Int64} {Q : zQ} {Y : Sy} {π : Pl}
theorem e7_waitingAll (S : TSh κ h b) (T : TIn W SM Y) : Ev κ mX7_waitingAll [.ref b] (hX h b 33 W SM) Q = Q (.inl (some (.int (waF (yS Y) (plN (yP Y) 0))))) (hX h b 33 W SM) := by
  have F := xF S
  have R := xR S
  have K := xK S
  have O := T.2.2.2.2.2.2
  have hns := O.1
  have hnb := O.2.1
  have e1 := T.1.1
  have e2 : ∀ k, k < 10 → W 13 (23 + k) = Int32.ofNat (sR (yS Y) k).length := fun k hk => (T.2.1.1.2.1 k hk).1
  have lp := Go_fr (κ := κ) (m := mX7_waitingAll) (pc := 4) (n := plN (yP Y) 0) (Q := Q) (R := Q (.inl (some (.int (waF (yS Y) (plN (yP Y) 0))))) (hX h b 33 W SM)) (fun k => [some (.ref b), some (.int (waF (yS Y) k)), some (.int (Int32.ofNat k))]) (fun k => hX h b 33 W SM) (fun k hk ih => by
    have e3 : waF (yS Y) (k + 1) = waF (yS Y) k + Int32.ofNat (sR (yS Y) k).length := rfl
    rw [e3] at ih
    simp (disch := first | assumption | omega | decide) only [gB, I_all, zK_v, zK_n, true_and, and_true, Nat.reduceAdd, Nat.reduceMul, Nat.reduceSub, z_lt, z_le, z_neq, not_false_eq_true, or_true, true_or, or_false, false_or, false_and, and_false, gX7_waitingAll_h]
    simp (disch := first | assumption | omega | decide) only [gB, I_all, zK_v, zK_n, true_and, and_true, Nat.reduceAdd, Nat.reduceMul, Nat.reduceSub, z_lt, z_le, z_neq, not_false_eq_true, or_true, true_or, or_false, false_or, false_and, and_false, gX7_waitingAll, F, R, K, e1, e2]
    exact ih) (by
    simp (disch := first | assumption | omega | decide) only [gB, I_all, zK_v, zK_n, true_and, and_true, Nat.reduceAdd, Nat.reduceMul, Nat.reduceSub, z_lt, z_le, z_neq, not_false_eq_true, or_true, true_or, or_false, false_or, false_and, and_false, gX7_waitingAll_h]
    simp (disch := first | assumption | omega | decide) only [gB, I_all, zK_v, zK_n, true_and, and_true, Nat.reduceAdd, Nat.reduceMul, Nat.reduceSub, z_lt, z_le, z_neq, not_false_eq_true, or_true, true_or, or_false, false_or, false_and, and_false, gX7_waitingAll, F, R, K, e1])
  have e0 : waF (yS Y) 0 = Int32.ofNat 0 := rfl
  rw [e0] at lp
  simp (disch := first | assumption | omega | decide) only [gB, I_all, zK_v, zK_n, true_and, and_true, Nat.reduceAdd, Nat.reduceMul, Nat.reduceSub, z_lt, z_le, z_neq, not_false_eq_true, or_true, true_or, or_false, false_or, false_and, and_false, gX7_waitingAll]
  exact lp
theorem e7_aboardAll (S : TSh κ h b) (T : TIn W SM Y) : Ev κ mX7_aboardAll [.ref b] (hX h b 33 W SM) Q = Q (.inl (some (.int (abF (yS Y) (plN (yP Y) 1))))) (hX h b 33 W SM) := by
  have F := xF S
  have R := xR S
  have K := xK S
  have O := T.2.2.2.2.2.2
  have hns := O.1
  have hnb := O.2.1
  have e1 := T.1.2.1
  have e2 : ∀ k, k < 6 → W 13 (164 + 13 * k + 4) = Int32.ofNat (bR (yS Y) k).length := fun k hk => (T.2.1.1.2.2.2.1 k hk).2.1
  have eo := fun (k : Nat) (hk : k < 6) (Q : zQ) => ofX (κ := κ) (W := W) (SM := SM) (Q := Q) (k := k) (c := 4) S (by omega)
  have lp := Go_fr (κ := κ) (m := mX7_aboardAll) (pc := 4) (n := plN (yP Y) 1) (Q := Q) (R := Q (.inl (some (.int (abF (yS Y) (plN (yP Y) 1))))) (hX h b 33 W SM)) (fun k => [some (.ref b), some (.int (abF (yS Y) k)), some (.int (Int32.ofNat k))]) (fun k => hX h b 33 W SM) (fun k hk ih => by
    have e3 : abF (yS Y) (k + 1) = abF (yS Y) k + Int32.ofNat (bR (yS Y) k).length := rfl
    rw [e3] at ih
    simp (disch := first | assumption | omega | decide) only [gB, I_all, zK_v, zK_n, true_and, and_true, Nat.reduceAdd, Nat.reduceMul, Nat.reduceSub, z_lt, z_le, z_neq, not_false_eq_true, or_true, true_or, or_false, false_or, false_and, and_false, gX7_aboardAll_h]
    simp (disch := first | assumption | omega | decide) only [gB, I_all, zK_v, zK_n, true_and, and_true, Nat.reduceAdd, Nat.reduceMul, Nat.reduceSub, z_lt, z_le, z_neq, not_false_eq_true, or_true, true_or, or_false, false_or, false_and, and_false, gX7_aboardAll, F, R, K, e1, e2, eo]
    exact ih) (by
    simp (disch := first | assumption | omega | decide) only [gB, I_all, zK_v, zK_n, true_and, and_true, Nat.reduceAdd, Nat.reduceMul, Nat.reduceSub, z_lt, z_le, z_neq, not_false_eq_true, or_true, true_or, or_false, false_or, false_and, and_false, gX7_aboardAll_h]
    simp (disch := first | assumption | omega | decide) only [gB, I_all, zK_v, zK_n, true_and, and_true, Nat.reduceAdd, Nat.reduceMul, Nat.reduceSub, z_lt, z_le, z_neq, not_false_eq_true, or_true, true_or, or_false, false_or, false_and, and_false, gX7_aboardAll, F, R, K, e1])
  have e0 : abF (yS Y) 0 = Int32.ofNat 0 := rfl
  rw [e0] at lp
  simp (disch := first | assumption | omega | decide) only [gB, I_all, zK_v, zK_n, true_and, and_true, Nat.reduceAdd, Nat.reduceMul, Nat.reduceSub, z_lt, z_le, z_neq, not_false_eq_true, or_true, true_or, or_false, false_or, false_and, and_false, gX7_aboardAll]
  exact lp
theorem e7_atStop {s : Nat} (S : TSh κ h b) (T : TIn W SM Y) (hs10 : s < 10) : Ev κ mX7_atStop [.ref b, .int (Int32.ofNat s)] (hX h b 33 W SM) Q = Q (.inl (some (.int (Int32.ofNat (atF (yS Y) s (plN (yP Y) 1)))))) (hX h b 33 W SM) := by
  have F := xF S
  have R := xR S
  have K := xK S
  have O := T.2.2.2.2.2.2
  have hns := O.1
  have hnb := O.2.1
  have e1 := T.1.2.1
  have lp := Go_fr (κ := κ) (m := mX7_atStop) (pc := 4) (n := plN (yP Y) 1) (Q := Q) (R := Q (.inl (some (.int (Int32.ofNat (atF (yS Y) s (plN (yP Y) 1)))))) (hX h b 33 W SM)) (fun k => [some (.ref b), some (.int (Int32.ofNat s)), some (.int (Int32.ofNat (atF (yS Y) s k))), some (.int (Int32.ofNat k))]) (fun k => hX h b 33 W SM) (fun k hk ih => by
    have hk6 : k < 6 := by omega
    obtain ⟨st, s', h4, hs, q0, q1⟩ := bst T.2.1.2 hk hk6
    have eI0 : bI (yS Y) k 0 = st := bI_of (by omega) q0
    have eI1 : bI (yS Y) k 1 = s' := bI_of (by omega) q1
    have e3 : atF (yS Y) s (k + 1) = atF (yS Y) s k + if 2 ≤ st ∧ s' = s then 1 else 0 := by
      conv => lhs; unfold atF
      rw [eI0, eI1]
    have B := T.2.1.1.2.2.2.1 k hk6
    have w0 : W 13 (164 + 13 * k + 0) = Int32.ofNat st := (B.1 0 (by decide)).trans q0
    have w1 : W 13 (164 + 13 * k + 1) = Int32.ofNat s' := (B.1 1 (by decide)).trans q1
    have eo := fun (c : Nat) (hc : c < 13) (Q : zQ) => ofX (κ := κ) (W := W) (SM := SM) (Q := Q) (k := k) (c := c) S (by omega)
    have ea := fun (Q : zQ) => isAtX (κ := κ) (W := W) (SM := SM) (Q := Q) (k := k) S hk6 h4 w0
    have hle := atF_le (yS Y) s k
    rw [e3] at ih
    simp (disch := first | assumption | omega | decide) only [gB, I_all, zK_v, zK_n, true_and, and_true, Nat.reduceAdd, Nat.reduceMul, Nat.reduceSub, z_lt, z_le, z_neq, not_false_eq_true, or_true, true_or, or_false, false_or, false_and, and_false, gX7_atStop_h]
    by_cases c1 : 2 ≤ st
    · simp only [if_pos c1] at ea
      by_cases c2 : s' = s
      · rw [if_pos ⟨c1, c2⟩] at ih
        simp (disch := first | assumption | omega | decide) only [gB, I_all, zK_v, zK_n, true_and, and_true, Nat.reduceAdd, Nat.reduceMul, Nat.reduceSub, z_lt, z_le, z_neq, not_false_eq_true, or_true, true_or, or_false, false_or, false_and, and_false, gX7_atStop, F, R, K, e1, ea, eo, w1]
        exact ih
      · rw [if_neg (fun x => c2 x.2)] at ih
        simp (disch := first | assumption | omega | decide) only [gB, I_all, zK_v, zK_n, true_and, and_true, Nat.reduceAdd, Nat.reduceMul, Nat.reduceSub, z_lt, z_le, z_neq, not_false_eq_true, or_true, true_or, or_false, false_or, false_and, and_false, gX7_atStop, F, R, K, e1, ea, eo, w1]
        exact ih
    · simp only [if_neg c1] at ea
      rw [if_neg (fun x => c1 x.1)] at ih
      simp (disch := first | assumption | omega | decide) only [gB, I_all, zK_v, zK_n, true_and, and_true, Nat.reduceAdd, Nat.reduceMul, Nat.reduceSub, z_lt, z_le, z_neq, not_false_eq_true, or_true, true_or, or_false, false_or, false_and, and_false, gX7_atStop, F, R, K, e1, ea, eo, w1]
      exact ih) (by
    simp (disch := first | assumption | omega | decide) only [gB, I_all, zK_v, zK_n, true_and, and_true, Nat.reduceAdd, Nat.reduceMul, Nat.reduceSub, z_lt, z_le, z_neq, not_false_eq_true, or_true, true_or, or_false, false_or, false_and, and_false, gX7_atStop_h]
    simp (disch := first | assumption | omega | decide) only [gB, I_all, zK_v, zK_n, true_and, and_true, Nat.reduceAdd, Nat.reduceMul, Nat.reduceSub, z_lt, z_le, z_neq, not_false_eq_true, or_true, true_or, or_false, false_or, false_and, and_false, gX7_atStop, F, R, K, e1])
  have e0 : atF (yS Y) s 0 = 0 := rfl
  rw [e0] at lp
  simp (disch := first | assumption | omega | decide) only [gB, I_all, zK_v, zK_n, true_and, and_true, Nat.reduceAdd, Nat.reduceMul, Nat.reduceSub, z_lt, z_le, z_neq, not_false_eq_true, or_true, true_or, or_false, false_or, false_and, and_false, gX7_atStop]
  exact lp
theorem e7_value {x : Int32} (S : TSh κ h b) (T : TIn W SM Y) : Ev κ mX7_value [.ref b, .int x] (hX h b 33 W SM) Q = Q (.inl (some (.int (rVa Y x)))) (hX h b 33 W SM) := by
  have F := xF S
  have R := xR S
  have K := xK S
  have O := T.2.2.2.2.2.2
  have hns := O.1
  have hnb := O.2.1
  obtain ⟨P1, P2, P3, P4, P5, P6, -⟩ := T.1
  have wN : ∀ j, nat1 j → W 13 j = sN (yS Y) j := T.2.1.1.1
  have n0 : W 13 0 = sN (yS Y) 0 := wN 0 (by unfold nat1; omega)
  have n1 : W 13 1 = sN (yS Y) 1 := wN 1 (by unfold nat1; omega)
  have n2 : W 13 2 = sN (yS Y) 2 := wN 2 (by unfold nat1; omega)
  have n3 : W 13 3 = sN (yS Y) 3 := wN 3 (by unfold nat1; omega)
  have n4 : W 13 4 = sN (yS Y) 4 := wN 4 (by unfold nat1; omega)
  have n5 : W 13 5 = sN (yS Y) 5 := wN 5 (by unfold nat1; omega)
  have n6 : W 13 6 = sN (yS Y) 6 := wN 6 (by unfold nat1; omega)
  have n7 : W 13 7 = sN (yS Y) 7 := wN 7 (by unfold nat1; omega)
  have n8 : W 13 8 = sN (yS Y) 8 := wN 8 (by unfold nat1; omega)
  have n9 : W 13 9 = sN (yS Y) 9 := wN 9 (by unfold nat1; omega)
  have n10 : W 13 10 = sN (yS Y) 10 := wN 10 (by unfold nat1; omega)
  have n11 : W 13 11 = sN (yS Y) 11 := wN 11 (by unfold nat1; omega)
  have n12 : W 13 12 = Int32.ofNat (sG (yS Y)).length := T.2.1.1.2.2.2.2.1.1
  have ep := fun (Q : zQ) => e7_pointMany (κ := κ) (Q := Q) S T
  have ew := fun (Q : zQ) => e7_waitingAll (κ := κ) (Q := Q) S T
  have ea := fun (Q : zQ) => e7_aboardAll (κ := κ) (Q := Q) S T
  unfold rVa
  by_cases c : btw x 0 21
  · rw [if_pos c]
    obtain ⟨n, hx, -, hn, -⟩ := btw_nat c
    subst hx
    rw [I_nat (by omega)]
    have hc : n = 0 ∨ n = 1 ∨ n = 2 ∨ n = 3 ∨ n = 4 ∨ n = 5 ∨ n = 6 ∨ n = 7 ∨ n = 8 ∨ n = 9 ∨ n = 10 ∨ n = 11 ∨ n = 12 ∨ n = 13 ∨ n = 14 ∨ n = 15 ∨ n = 16 ∨ n = 17 ∨ n = 18 ∨ n = 19 ∨ n = 20 ∨ n = 21 := by omega
    rcases hc with rfl | rfl | rfl | rfl | rfl | rfl | rfl | rfl | rfl | rfl | rfl | rfl | rfl | rfl | rfl | rfl | rfl | rfl | rfl | rfl | rfl | rfl
    · simp (disch := first | assumption | omega | decide) only [gB, I_all, zK_v, zK_n, true_and, and_true, Nat.reduceAdd, Nat.reduceMul, Nat.reduceSub, z_lt, z_le, z_neq, not_false_eq_true, or_true, true_or, or_false, false_or, false_and, and_false, gX7_value, F, R, K, zSwi_y, zSwi_n, P1, P2, P3, P4, P5, P6, n0, n1, n2, n3, n4, n5, n6, n7, n8, n9, n10, n11, n12, ep, ew, ea, I_sub, rVaN]
    · simp (disch := first | assumption | omega | decide) only [gB, I_all, zK_v, zK_n, true_and, and_true, Nat.reduceAdd, Nat.reduceMul, Nat.reduceSub, z_lt, z_le, z_neq, not_false_eq_true, or_true, true_or, or_false, false_or, false_and, and_false, gX7_value, F, R, K, zSwi_y, zSwi_n, P1, P2, P3, P4, P5, P6, n0, n1, n2, n3, n4, n5, n6, n7, n8, n9, n10, n11, n12, ep, ew, ea, I_sub, rVaN]
    · simp (disch := first | assumption | omega | decide) only [gB, I_all, zK_v, zK_n, true_and, and_true, Nat.reduceAdd, Nat.reduceMul, Nat.reduceSub, z_lt, z_le, z_neq, not_false_eq_true, or_true, true_or, or_false, false_or, false_and, and_false, gX7_value, F, R, K, zSwi_y, zSwi_n, P1, P2, P3, P4, P5, P6, n0, n1, n2, n3, n4, n5, n6, n7, n8, n9, n10, n11, n12, ep, ew, ea, I_sub, rVaN]
    · simp (disch := first | assumption | omega | decide) only [gB, I_all, zK_v, zK_n, true_and, and_true, Nat.reduceAdd, Nat.reduceMul, Nat.reduceSub, z_lt, z_le, z_neq, not_false_eq_true, or_true, true_or, or_false, false_or, false_and, and_false, gX7_value, F, R, K, zSwi_y, zSwi_n, P1, P2, P3, P4, P5, P6, n0, n1, n2, n3, n4, n5, n6, n7, n8, n9, n10, n11, n12, ep, ew, ea, I_sub, rVaN]
    · simp (disch := first | assumption | omega | decide) only [gB, I_all, zK_v, zK_n, true_and, and_true, Nat.reduceAdd, Nat.reduceMul, Nat.reduceSub, z_lt, z_le, z_neq, not_false_eq_true, or_true, true_or, or_false, false_or, false_and, and_false, gX7_value, F, R, K, zSwi_y, zSwi_n, P1, P2, P3, P4, P5, P6, n0, n1, n2, n3, n4, n5, n6, n7, n8, n9, n10, n11, n12, ep, ew, ea, I_sub, rVaN]
    · simp (disch := first | assumption | omega | decide) only [gB, I_all, zK_v, zK_n, true_and, and_true, Nat.reduceAdd, Nat.reduceMul, Nat.reduceSub, z_lt, z_le, z_neq, not_false_eq_true, or_true, true_or, or_false, false_or, false_and, and_false, gX7_value, F, R, K, zSwi_y, zSwi_n, P1, P2, P3, P4, P5, P6, n0, n1, n2, n3, n4, n5, n6, n7, n8, n9, n10, n11, n12, ep, ew, ea, I_sub, rVaN]
    · simp (disch := first | assumption | omega | decide) only [gB, I_all, zK_v, zK_n, true_and, and_true, Nat.reduceAdd, Nat.reduceMul, Nat.reduceSub, z_lt, z_le, z_neq, not_false_eq_true, or_true, true_or, or_false, false_or, false_and, and_false, gX7_value, F, R, K, zSwi_y, zSwi_n, P1, P2, P3, P4, P5, P6, n0, n1, n2, n3, n4, n5, n6, n7, n8, n9, n10, n11, n12, ep, ew, ea, I_sub, rVaN]
    · simp (disch := first | assumption | omega | decide) only [gB, I_all, zK_v, zK_n, true_and, and_true, Nat.reduceAdd, Nat.reduceMul, Nat.reduceSub, z_lt, z_le, z_neq, not_false_eq_true, or_true, true_or, or_false, false_or, false_and, and_false, gX7_value, F, R, K, zSwi_y, zSwi_n, P1, P2, P3, P4, P5, P6, n0, n1, n2, n3, n4, n5, n6, n7, n8, n9, n10, n11, n12, ep, ew, ea, I_sub, rVaN]
    · simp (disch := first | assumption | omega | decide) only [gB, I_all, zK_v, zK_n, true_and, and_true, Nat.reduceAdd, Nat.reduceMul, Nat.reduceSub, z_lt, z_le, z_neq, not_false_eq_true, or_true, true_or, or_false, false_or, false_and, and_false, gX7_value, F, R, K, zSwi_y, zSwi_n, P1, P2, P3, P4, P5, P6, n0, n1, n2, n3, n4, n5, n6, n7, n8, n9, n10, n11, n12, ep, ew, ea, I_sub, rVaN]
    · simp (disch := first | assumption | omega | decide) only [gB, I_all, zK_v, zK_n, true_and, and_true, Nat.reduceAdd, Nat.reduceMul, Nat.reduceSub, z_lt, z_le, z_neq, not_false_eq_true, or_true, true_or, or_false, false_or, false_and, and_false, gX7_value, F, R, K, zSwi_y, zSwi_n, P1, P2, P3, P4, P5, P6, n0, n1, n2, n3, n4, n5, n6, n7, n8, n9, n10, n11, n12, ep, ew, ea, I_sub, rVaN]
    · simp (disch := first | assumption | omega | decide) only [gB, I_all, zK_v, zK_n, true_and, and_true, Nat.reduceAdd, Nat.reduceMul, Nat.reduceSub, z_lt, z_le, z_neq, not_false_eq_true, or_true, true_or, or_false, false_or, false_and, and_false, gX7_value, F, R, K, zSwi_y, zSwi_n, P1, P2, P3, P4, P5, P6, n0, n1, n2, n3, n4, n5, n6, n7, n8, n9, n10, n11, n12, ep, ew, ea, I_sub, rVaN]
    · simp (disch := first | assumption | omega | decide) only [gB, I_all, zK_v, zK_n, true_and, and_true, Nat.reduceAdd, Nat.reduceMul, Nat.reduceSub, z_lt, z_le, z_neq, not_false_eq_true, or_true, true_or, or_false, false_or, false_and, and_false, gX7_value, F, R, K, zSwi_y, zSwi_n, P1, P2, P3, P4, P5, P6, n0, n1, n2, n3, n4, n5, n6, n7, n8, n9, n10, n11, n12, ep, ew, ea, I_sub, rVaN]
    · simp (disch := first | assumption | omega | decide) only [gB, I_all, zK_v, zK_n, true_and, and_true, Nat.reduceAdd, Nat.reduceMul, Nat.reduceSub, z_lt, z_le, z_neq, not_false_eq_true, or_true, true_or, or_false, false_or, false_and, and_false, gX7_value, F, R, K, zSwi_y, zSwi_n, P1, P2, P3, P4, P5, P6, n0, n1, n2, n3, n4, n5, n6, n7, n8, n9, n10, n11, n12, ep, ew, ea, I_sub, rVaN]
    · simp (disch := first | assumption | omega | decide) only [gB, I_all, zK_v, zK_n, true_and, and_true, Nat.reduceAdd, Nat.reduceMul, Nat.reduceSub, z_lt, z_le, z_neq, not_false_eq_true, or_true, true_or, or_false, false_or, false_and, and_false, gX7_value, F, R, K, zSwi_y, zSwi_n, P1, P2, P3, P4, P5, P6, n0, n1, n2, n3, n4, n5, n6, n7, n8, n9, n10, n11, n12, ep, ew, ea, I_sub, rVaN]
    · simp (disch := first | assumption | omega | decide) only [gB, I_all, zK_v, zK_n, true_and, and_true, Nat.reduceAdd, Nat.reduceMul, Nat.reduceSub, z_lt, z_le, z_neq, not_false_eq_true, or_true, true_or, or_false, false_or, false_and, and_false, gX7_value, F, R, K, zSwi_y, zSwi_n, P1, P2, P3, P4, P5, P6, n0, n1, n2, n3, n4, n5, n6, n7, n8, n9, n10, n11, n12, ep, ew, ea, I_sub, rVaN]
    · simp (disch := first | assumption | omega | decide) only [gB, I_all, zK_v, zK_n, true_and, and_true, Nat.reduceAdd, Nat.reduceMul, Nat.reduceSub, z_lt, z_le, z_neq, not_false_eq_true, or_true, true_or, or_false, false_or, false_and, and_false, gX7_value, F, R, K, zSwi_y, zSwi_n, P1, P2, P3, P4, P5, P6, n0, n1, n2, n3, n4, n5, n6, n7, n8, n9, n10, n11, n12, ep, ew, ea, I_sub, rVaN]
    · simp (disch := first | assumption | omega | decide) only [gB, I_all, zK_v, zK_n, true_and, and_true, Nat.reduceAdd, Nat.reduceMul, Nat.reduceSub, z_lt, z_le, z_neq, not_false_eq_true, or_true, true_or, or_false, false_or, false_and, and_false, gX7_value, F, R, K, zSwi_y, zSwi_n, P1, P2, P3, P4, P5, P6, n0, n1, n2, n3, n4, n5, n6, n7, n8, n9, n10, n11, n12, ep, ew, ea, I_sub, rVaN]
    · simp (disch := first | assumption | omega | decide) only [gB, I_all, zK_v, zK_n, true_and, and_true, Nat.reduceAdd, Nat.reduceMul, Nat.reduceSub, z_lt, z_le, z_neq, not_false_eq_true, or_true, true_or, or_false, false_or, false_and, and_false, gX7_value, F, R, K, zSwi_y, zSwi_n, P1, P2, P3, P4, P5, P6, n0, n1, n2, n3, n4, n5, n6, n7, n8, n9, n10, n11, n12, ep, ew, ea, I_sub, rVaN]
    · simp (disch := first | assumption | omega | decide) only [gB, I_all, zK_v, zK_n, true_and, and_true, Nat.reduceAdd, Nat.reduceMul, Nat.reduceSub, z_lt, z_le, z_neq, not_false_eq_true, or_true, true_or, or_false, false_or, false_and, and_false, gX7_value, F, R, K, zSwi_y, zSwi_n, P1, P2, P3, P4, P5, P6, n0, n1, n2, n3, n4, n5, n6, n7, n8, n9, n10, n11, n12, ep, ew, ea, I_sub, rVaN]
    · simp (disch := first | assumption | omega | decide) only [gB, I_all, zK_v, zK_n, true_and, and_true, Nat.reduceAdd, Nat.reduceMul, Nat.reduceSub, z_lt, z_le, z_neq, not_false_eq_true, or_true, true_or, or_false, false_or, false_and, and_false, gX7_value, F, R, K, zSwi_y, zSwi_n, P1, P2, P3, P4, P5, P6, n0, n1, n2, n3, n4, n5, n6, n7, n8, n9, n10, n11, n12, ep, ew, ea, I_sub, rVaN]
    · simp (disch := first | assumption | omega | decide) only [gB, I_all, zK_v, zK_n, true_and, and_true, Nat.reduceAdd, Nat.reduceMul, Nat.reduceSub, z_lt, z_le, z_neq, not_false_eq_true, or_true, true_or, or_false, false_or, false_and, and_false, gX7_value, F, R, K, zSwi_y, zSwi_n, P1, P2, P3, P4, P5, P6, n0, n1, n2, n3, n4, n5, n6, n7, n8, n9, n10, n11, n12, ep, ew, ea, I_sub, rVaN]
    · simp (disch := first | assumption | omega | decide) only [gB, I_all, zK_v, zK_n, true_and, and_true, Nat.reduceAdd, Nat.reduceMul, Nat.reduceSub, z_lt, z_le, z_neq, not_false_eq_true, or_true, true_or, or_false, false_or, false_and, and_false, gX7_value, F, R, K, zSwi_y, zSwi_n, P1, P2, P3, P4, P5, P6, n0, n1, n2, n3, n4, n5, n6, n7, n8, n9, n10, n11, n12, ep, ew, ea, I_sub, rVaN]
  · rw [if_neg c]
    have hne := ne_btw (by decide) c
    simp (disch := first | assumption | omega | decide | (exact hne _ (by decide))) only [gB, I_all, zK_v, zK_n, true_and, and_true, Nat.reduceAdd, Nat.reduceMul, Nat.reduceSub, z_lt, z_le, z_neq, not_false_eq_true, or_true, true_or, or_false, false_or, false_and, and_false, gX7_value, F, R, K, zSwi_n, zSwi_0]
theorem e7_stop {s x : Int32} (S : TSh κ h b) (T : TIn W SM Y) : Ev κ mX7_stop [.ref b, .int s, .int x] (hX h b 33 W SM) Q = Q (.inl (some (.int (rSt Y s x)))) (hX h b 33 W SM) := by
  have F := xF S
  have R := xR S
  have K := xK S
  have O := T.2.2.2.2.2.2
  have hns := O.1
  have hnb := O.2.1
  have P := T.1
  have wN : ∀ j, nat1 j → W 13 j = sN (yS Y) j := T.2.1.1.1
  unfold rSt
  by_cases c : btw s 0 (plN (yP Y) 0 - 1)
  · rw [if_pos c]
    have ei := fun (Q : zQ) => e7_isStopY (κ := κ) (W := W) (SM := SM) (Q := Q) S T.1 O c
    by_cases c2 : btw x 0 6
    · rw [if_pos c2]
      obtain ⟨m, hs, -, hm, -⟩ := btw_nat c
      subst hs
      obtain ⟨n, hx, -, hn, -⟩ := btw_nat c2
      subst hx
      rw [I_nat (by omega), I_nat (by omega)]
      have p4 : ∀ j, j < plN (yP Y) 0 → W 4 j = plT (yP Y) 4 j := P.2.2.2.2.2.2.1 4 (by decide)
      have p5 : ∀ j, j < plN (yP Y) 0 → W 5 j = plT (yP Y) 5 j := P.2.2.2.2.2.2.1 5 (by decide)
      have n13 : W 13 (13 + m) = sN (yS Y) (13 + m) := wN _ (by unfold nat1; omega)
      have n33 : W 13 (33 + m) = sN (yS Y) (33 + m) := wN _ (by unfold nat1; omega)
      have n43 : W 13 (43 + m) = sN (yS Y) (43 + m) := wN _ (by unfold nat1; omega)
      have n23 : W 13 (23 + m) = Int32.ofNat (sR (yS Y) m).length := (T.2.1.1.2.1 m (by omega)).1
      have ea := fun (Q : zQ) => e7_atStop (κ := κ) (Q := Q) (s := m) S T (by omega)
      have hc : n = 0 ∨ n = 1 ∨ n = 2 ∨ n = 3 ∨ n = 4 ∨ n = 5 ∨ n = 6 := by omega
      rcases hc with rfl | rfl | rfl | rfl | rfl | rfl | rfl
      · simp (disch := first | assumption | omega | decide) only [gB, I_all, zK_v, zK_n, true_and, and_true, Nat.reduceAdd, Nat.reduceMul, Nat.reduceSub, z_lt, z_le, z_neq, not_false_eq_true, or_true, true_or, or_false, false_or, false_and, and_false, gX7_stop, F, R, K, zSwi_y, zSwi_n, ei, p4, p5, n13, n33, n43, n23, ea, rStN]
      · simp (disch := first | assumption | omega | decide) only [gB, I_all, zK_v, zK_n, true_and, and_true, Nat.reduceAdd, Nat.reduceMul, Nat.reduceSub, z_lt, z_le, z_neq, not_false_eq_true, or_true, true_or, or_false, false_or, false_and, and_false, gX7_stop, F, R, K, zSwi_y, zSwi_n, ei, p4, p5, n13, n33, n43, n23, ea, rStN]
      · simp (disch := first | assumption | omega | decide) only [gB, I_all, zK_v, zK_n, true_and, and_true, Nat.reduceAdd, Nat.reduceMul, Nat.reduceSub, z_lt, z_le, z_neq, not_false_eq_true, or_true, true_or, or_false, false_or, false_and, and_false, gX7_stop, F, R, K, zSwi_y, zSwi_n, ei, p4, p5, n13, n33, n43, n23, ea, rStN]
      · simp (disch := first | assumption | omega | decide) only [gB, I_all, zK_v, zK_n, true_and, and_true, Nat.reduceAdd, Nat.reduceMul, Nat.reduceSub, z_lt, z_le, z_neq, not_false_eq_true, or_true, true_or, or_false, false_or, false_and, and_false, gX7_stop, F, R, K, zSwi_y, zSwi_n, ei, p4, p5, n13, n33, n43, n23, ea, rStN]
      · simp (disch := first | assumption | omega | decide) only [gB, I_all, zK_v, zK_n, true_and, and_true, Nat.reduceAdd, Nat.reduceMul, Nat.reduceSub, z_lt, z_le, z_neq, not_false_eq_true, or_true, true_or, or_false, false_or, false_and, and_false, gX7_stop, F, R, K, zSwi_y, zSwi_n, ei, p4, p5, n13, n33, n43, n23, ea, rStN]
      · simp (disch := first | assumption | omega | decide) only [gB, I_all, zK_v, zK_n, true_and, and_true, Nat.reduceAdd, Nat.reduceMul, Nat.reduceSub, z_lt, z_le, z_neq, not_false_eq_true, or_true, true_or, or_false, false_or, false_and, and_false, gX7_stop, F, R, K, zSwi_y, zSwi_n, ei, p4, p5, n13, n33, n43, n23, ea, rStN]
      · simp (disch := first | assumption | omega | decide) only [gB, I_all, zK_v, zK_n, true_and, and_true, Nat.reduceAdd, Nat.reduceMul, Nat.reduceSub, z_lt, z_le, z_neq, not_false_eq_true, or_true, true_or, or_false, false_or, false_and, and_false, gX7_stop, F, R, K, zSwi_y, zSwi_n, ei, p4, p5, n13, n33, n43, n23, ea, rStN]
    · rw [if_neg c2]
      have hne := ne_btw (by decide) c2
      simp (disch := first | assumption | omega | decide | (exact hne _ (by decide))) only [gB, I_all, zK_v, zK_n, true_and, and_true, Nat.reduceAdd, Nat.reduceMul, Nat.reduceSub, z_lt, z_le, z_neq, not_false_eq_true, or_true, true_or, or_false, false_or, false_and, and_false, gX7_stop, F, R, K, ei, zSwi_n, zSwi_0]
  · rw [if_neg c]
    have ei := fun (Q : zQ) => e7_isStopN (κ := κ) (W := W) (SM := SM) (Q := Q) S T.1 O c
    simp (disch := first | assumption | omega | decide) only [gB, I_all, zK_v, zK_n, true_and, and_true, Nat.reduceAdd, Nat.reduceMul, Nat.reduceSub, z_lt, z_le, z_neq, not_false_eq_true, or_true, true_or, or_false, false_or, false_and, and_false, gX7_stop, F, R, K, ei]
theorem e7_bus {s x : Int32} (S : TSh κ h b) (T : TIn W SM Y) : Ev κ mX7_bus [.ref b, .int s, .int x] (hX h b 33 W SM) Q = Q (.inl (some (.int (rBu Y s x)))) (hX h b 33 W SM) := by
  have F := xF S
  have R := xR S
  have K := xK S
  have O := T.2.2.2.2.2.2
  have hns := O.1
  have hnb := O.2.1
  have P := T.1
  unfold rBu
  by_cases c : btw s 0 (plN (yP Y) 1 - 1)
  · rw [if_pos c]
    have ei := fun (Q : zQ) => e7_isBusY (κ := κ) (W := W) (SM := SM) (Q := Q) S T.1 O c
    by_cases c2 : btw x 0 10
    · rw [if_pos c2]
      obtain ⟨m, hs, -, hm, -⟩ := btw_nat c
      subst hs
      obtain ⟨n, hx, -, hn, -⟩ := btw_nat c2
      subst hx
      rw [I_nat (by omega), I_nat (by omega)]
      have p7 : ∀ j, j < plN (yP Y) 1 → W 7 j = plT (yP Y) 7 j := P.2.2.2.2.2.2.2.1 7 (by decide)
      have p8 : ∀ j, j < plN (yP Y) 1 → W 8 j = plT (yP Y) 8 j := P.2.2.2.2.2.2.2.1 8 (by decide)
      have B := T.2.1.1.2.2.2.1 m (by omega)
      have w0 : W 13 (164 + 13 * m + 0) = bF (yS Y) m 0 := B.1 0 (by decide)
      have w1 : W 13 (164 + 13 * m + 1) = bF (yS Y) m 1 := B.1 1 (by decide)
      have w2 : W 13 (164 + 13 * m + 2) = bF (yS Y) m 2 := B.1 2 (by decide)
      have w3 : W 13 (164 + 13 * m + 3) = bF (yS Y) m 3 := B.1 3 (by decide)
      have w4 : W 13 (164 + 13 * m + 4) = Int32.ofNat (bR (yS Y) m).length := B.2.1
      have w5 : W 13 (164 + 13 * m + 5) = bF (yS Y) m 5 := B.1 5 (by decide)
      have w6 : W 13 (164 + 13 * m + 6) = bF (yS Y) m 6 := B.1 6 (by decide)
      have w8 : W 13 (164 + 13 * m + 8) = bF (yS Y) m 8 := B.1 8 (by decide)
      have w9 : W 13 (164 + 13 * m + 9) = bF (yS Y) m 9 := B.1 9 (by decide)
      have eo := fun (c : Nat) (hc : c < 13) (Q : zQ) => ofX (κ := κ) (W := W) (SM := SM) (Q := Q) (k := m) (c := c) S (by omega)
      have hc : n = 0 ∨ n = 1 ∨ n = 2 ∨ n = 3 ∨ n = 4 ∨ n = 5 ∨ n = 6 ∨ n = 7 ∨ n = 8 ∨ n = 9 ∨ n = 10 := by omega
      rcases hc with rfl | rfl | rfl | rfl | rfl | rfl | rfl | rfl | rfl | rfl | rfl
      · simp (disch := first | assumption | omega | decide) only [gB, I_all, zK_v, zK_n, true_and, and_true, Nat.reduceAdd, Nat.reduceMul, Nat.reduceSub, z_lt, z_le, z_neq, not_false_eq_true, or_true, true_or, or_false, false_or, false_and, and_false, gX7_bus, F, R, K, zSwi_y, zSwi_n, ei, p7, p8, w0, w1, w2, w3, w4, w5, w6, w8, w9, eo, rBuN]
      · simp (disch := first | assumption | omega | decide) only [gB, I_all, zK_v, zK_n, true_and, and_true, Nat.reduceAdd, Nat.reduceMul, Nat.reduceSub, z_lt, z_le, z_neq, not_false_eq_true, or_true, true_or, or_false, false_or, false_and, and_false, gX7_bus, F, R, K, zSwi_y, zSwi_n, ei, p7, p8, w0, w1, w2, w3, w4, w5, w6, w8, w9, eo, rBuN]
      · simp (disch := first | assumption | omega | decide) only [gB, I_all, zK_v, zK_n, true_and, and_true, Nat.reduceAdd, Nat.reduceMul, Nat.reduceSub, z_lt, z_le, z_neq, not_false_eq_true, or_true, true_or, or_false, false_or, false_and, and_false, gX7_bus, F, R, K, zSwi_y, zSwi_n, ei, p7, p8, w0, w1, w2, w3, w4, w5, w6, w8, w9, eo, rBuN]
      · simp (disch := first | assumption | omega | decide) only [gB, I_all, zK_v, zK_n, true_and, and_true, Nat.reduceAdd, Nat.reduceMul, Nat.reduceSub, z_lt, z_le, z_neq, not_false_eq_true, or_true, true_or, or_false, false_or, false_and, and_false, gX7_bus, F, R, K, zSwi_y, zSwi_n, ei, p7, p8, w0, w1, w2, w3, w4, w5, w6, w8, w9, eo, rBuN]
      · simp (disch := first | assumption | omega | decide) only [gB, I_all, zK_v, zK_n, true_and, and_true, Nat.reduceAdd, Nat.reduceMul, Nat.reduceSub, z_lt, z_le, z_neq, not_false_eq_true, or_true, true_or, or_false, false_or, false_and, and_false, gX7_bus, F, R, K, zSwi_y, zSwi_n, ei, p7, p8, w0, w1, w2, w3, w4, w5, w6, w8, w9, eo, rBuN]
      · simp (disch := first | assumption | omega | decide) only [gB, I_all, zK_v, zK_n, true_and, and_true, Nat.reduceAdd, Nat.reduceMul, Nat.reduceSub, z_lt, z_le, z_neq, not_false_eq_true, or_true, true_or, or_false, false_or, false_and, and_false, gX7_bus, F, R, K, zSwi_y, zSwi_n, ei, p7, p8, w0, w1, w2, w3, w4, w5, w6, w8, w9, eo, rBuN]
      · simp (disch := first | assumption | omega | decide) only [gB, I_all, zK_v, zK_n, true_and, and_true, Nat.reduceAdd, Nat.reduceMul, Nat.reduceSub, z_lt, z_le, z_neq, not_false_eq_true, or_true, true_or, or_false, false_or, false_and, and_false, gX7_bus, F, R, K, zSwi_y, zSwi_n, ei, p7, p8, w0, w1, w2, w3, w4, w5, w6, w8, w9, eo, rBuN]
      · simp (disch := first | assumption | omega | decide) only [gB, I_all, zK_v, zK_n, true_and, and_true, Nat.reduceAdd, Nat.reduceMul, Nat.reduceSub, z_lt, z_le, z_neq, not_false_eq_true, or_true, true_or, or_false, false_or, false_and, and_false, gX7_bus, F, R, K, zSwi_y, zSwi_n, ei, p7, p8, w0, w1, w2, w3, w4, w5, w6, w8, w9, eo, rBuN]
      · simp (disch := first | assumption | omega | decide) only [gB, I_all, zK_v, zK_n, true_and, and_true, Nat.reduceAdd, Nat.reduceMul, Nat.reduceSub, z_lt, z_le, z_neq, not_false_eq_true, or_true, true_or, or_false, false_or, false_and, and_false, gX7_bus, F, R, K, zSwi_y, zSwi_n, ei, p7, p8, w0, w1, w2, w3, w4, w5, w6, w8, w9, eo, rBuN]
      · simp (disch := first | assumption | omega | decide) only [gB, I_all, zK_v, zK_n, true_and, and_true, Nat.reduceAdd, Nat.reduceMul, Nat.reduceSub, z_lt, z_le, z_neq, not_false_eq_true, or_true, true_or, or_false, false_or, false_and, and_false, gX7_bus, F, R, K, zSwi_y, zSwi_n, ei, p7, p8, w0, w1, w2, w3, w4, w5, w6, w8, w9, eo, rBuN]
      · simp (disch := first | assumption | omega | decide) only [gB, I_all, zK_v, zK_n, true_and, and_true, Nat.reduceAdd, Nat.reduceMul, Nat.reduceSub, z_lt, z_le, z_neq, not_false_eq_true, or_true, true_or, or_false, false_or, false_and, and_false, gX7_bus, F, R, K, zSwi_y, zSwi_n, ei, p7, p8, w0, w1, w2, w3, w4, w5, w6, w8, w9, eo, rBuN]
    · rw [if_neg c2]
      have hne := ne_btw (by decide) c2
      simp (disch := first | assumption | omega | decide | (exact hne _ (by decide))) only [gB, I_all, zK_v, zK_n, true_and, and_true, Nat.reduceAdd, Nat.reduceMul, Nat.reduceSub, z_lt, z_le, z_neq, not_false_eq_true, or_true, true_or, or_false, false_or, false_and, and_false, gX7_bus, F, R, K, ei, zSwi_n, zSwi_0]
  · rw [if_neg c]
    have ei := fun (Q : zQ) => e7_isBusN (κ := κ) (W := W) (SM := SM) (Q := Q) S T.1 O c
    simp (disch := first | assumption | omega | decide) only [gB, I_all, zK_v, zK_n, true_and, and_true, Nat.reduceAdd, Nat.reduceMul, Nat.reduceSub, z_lt, z_le, z_neq, not_false_eq_true, or_true, true_or, or_false, false_or, false_and, and_false, gX7_bus, F, R, K, ei]
theorem e7_why {s : Int32} (S : TSh κ h b) (T : TIn W SM Y) : Ev κ mX7_why [.ref b, .int s] (hX h b 33 W SM) Q = Q (.inl (some (.int (rWh Y s)))) (hX h b 33 W SM) := by
  have F := xF S
  have R := xR S
  have K := xK S
  have O := T.2.2.2.2.2.2
  have hns := O.1
  have hnb := O.2.1
  unfold rWh
  by_cases c : btw s 0 (plN (yP Y) 1 - 1)
  · rw [if_pos c]
    have ei := fun (Q : zQ) => e7_isBusY (κ := κ) (W := W) (SM := SM) (Q := Q) S T.1 O c
    obtain ⟨m, hs, -, hm, -⟩ := btw_nat c
    subst hs
    rw [I_nat (by omega)]
    have B := T.2.1.1.2.2.2.1 m (by omega)
    have w6 : W 13 (164 + 13 * m + 6) = bF (yS Y) m 6 := B.1 6 (by decide)
    have eo := fun (c : Nat) (hc : c < 13) (Q : zQ) => ofX (κ := κ) (W := W) (SM := SM) (Q := Q) (k := m) (c := c) S (by omega)
    rcases B.2.2.2.1 with ⟨q1, q2⟩ | ⟨q1, q2⟩
    · have q1' : bF (yS Y) m 6 < Int32.ofNat 0 := q1
      have q3 : ¬ Int32.ofNat 0 ≤ bF (yS Y) m 6 := Int32.not_le.mpr q1
      have q2' : bF (yS Y) m 7 = Int32.ofInt (-2) := q2
      simp (disch := first | assumption | omega | decide) only [gB, I_all, zK_v, zK_n, true_and, and_true, Nat.reduceAdd, Nat.reduceMul, Nat.reduceSub, z_lt, z_le, z_neq, not_false_eq_true, or_true, true_or, or_false, false_or, false_and, and_false, gX7_why, F, R, K, ei, eo, w6, q2']
    · have q1' : ¬ bF (yS Y) m 6 < Int32.ofNat 0 := q1
      have q3 : Int32.ofNat 0 ≤ bF (yS Y) m 6 := Int32.not_lt.mp q1
      have q2' : W 13 (164 + 13 * m + 7) = bF (yS Y) m 7 := q2
      simp (disch := first | assumption | omega | decide) only [gB, I_all, zK_v, zK_n, true_and, and_true, Nat.reduceAdd, Nat.reduceMul, Nat.reduceSub, z_lt, z_le, z_neq, not_false_eq_true, or_true, true_or, or_false, false_or, false_and, and_false, gX7_why, F, R, K, ei, eo, w6, q2']
  · rw [if_neg c]
    have ei := fun (Q : zQ) => e7_isBusN (κ := κ) (W := W) (SM := SM) (Q := Q) S T.1 O c
    simp (disch := first | assumption | omega | decide) only [gB, I_all, zK_v, zK_n, true_and, and_true, Nat.reduceAdd, Nat.reduceMul, Nat.reduceSub, z_lt, z_le, z_neq, not_false_eq_true, or_true, true_or, or_false, false_or, false_and, and_false, gX7_why, F, R, K, ei]
end
