/-! the twin: riders, leavings, the log, gaps, means -/
def rRiN (Y : Sy) (r : Rd) : Nat → Int32
  | 0 => Int32.ofNat r.1
  | 1 => r.2.1
  | _ => if r.2.2 = 16 then Int32.ofNat (plN (yP Y) 2) else Int32.ofNat r.2.2
def rRi (Y : Sy) (s i x : Int32) : Int32 := if btw s 0 (plN (yP Y) 0 - 1) ∧ ¬ i < Int32.ofNat 0 ∧ btw x 0 2 then (match (sR (yS Y) s.toNatClampNeg)[i.toNatClampNeg]? with
    | none => Int32.ofInt (-2)
    | some r => rRiN Y r x.toNatClampNeg) else Int32.ofInt (-1)
def rAb (Y : Sy) (b s : Int32) : Int32 := if btw b 0 (plN (yP Y) 1 - 1) ∧ btw s 0 (plN (yP Y) 0 - 1) then Int32.ofNat (goTo (bR (yS Y) b.toNatClampNeg) s.toNatClampNeg) else Int32.ofInt (-1)
def rLeN (r : Lv) : Nat → Int32
  | 0 => Int32.ofNat r.1
  | 1 => r.2.1
  | _ => r.2.2
def rLf (Y : Sy) (s i x : Int32) : Int32 := if btw s 0 (plN (yP Y) 0 - 1) ∧ ¬ i < Int32.ofNat 0 ∧ btw x 0 2 then
    (if i.toNatClampNeg < (sL (yS Y) s.toNatClampNeg).length then (match (sL (yS Y) s.toNatClampNeg)[(sL (yS Y) s.toNatClampNeg).length - 1 - i.toNatClampNeg]? with
    | none => Int32.ofInt (-2)
    | some r => rLeN r x.toNatClampNeg) else Int32.ofInt (-2)) else Int32.ofInt (-1)
def rLgN (r : Lg) : Nat → Int32
  | 0 => r.1
  | 1 => Int32.ofNat r.2.1
  | 2 => Int32.ofNat r.2.2.1
  | 3 => Int32.ofNat r.2.2.2.1
  | _ => r.2.2.2.2
def rLg (Y : Sy) (i x : Int32) : Int32 := if ¬ i < Int32.ofNat 0 ∧ btw x 0 4 then (match (sG (yS Y))[i.toNatClampNeg]? with
    | none => Int32.ofInt (-2)
    | some r => rLgN r x.toNatClampNeg) else Int32.ofInt (-1)
theorem nn_nat {x : Int32} (h : ¬ x < Int32.ofNat 0) : ∃ n, x = Int32.ofNat n ∧ n < 2147483648 := by
  have h1 : 0 ≤ x.toInt := by
    have := Int32.not_lt.mp h
    rw [Int32.le_iff_toInt_le] at this
    have z : (Int32.ofNat 0).toInt = 0 := by decide
    omega
  obtain ⟨n, h2, -, -, h3⟩ := btw_nat (x := x) (l := 0) (u := 2147483647) ⟨h1, by have := Int32.toInt_lt x; omega⟩
  exact ⟨n, h2, h3⟩
/-- gaps ahead: the best bus of the first k, its way -/
def ahF (π : Pl) (σ : Sg) (b : Nat) : Nat → Option Nat × Int32
  | 0 => (none, Int32.ofNat 0)
  | k + 1 =>
    let q := ahF π σ b k
    if k = b ∨ bI σ k 0 = 0 then q
    else if q.1 = none ∨ way π (bI σ b 1) (bI σ k 1) < q.2 then (some k, way π (bI σ b 1) (bI σ k 1)) else q
def rAh (Y : Sy) (b : Int32) (o : Bool) : Int32 := if btw b 0 (plN (yP Y) 1 - 1) then
    (let q := if bI (yS Y) b.toNatClampNeg 0 = 0 then (none, Int32.ofNat 0) else ahF (yP Y) (yS Y) b.toNatClampNeg (plN (yP Y) 1)
     match q.1 with
     | none => Int32.ofInt (-2)
     | some k => if o = true then Int32.ofNat k else q.2) else Int32.ofInt (-1)
/-- the greatest and the least gap of the first k leavings -/
def spF (l : List Lv) : Nat → Int32 × Int32
  | 0 => (Int32.ofInt (-2), Int32.ofInt (-2))
  | k + 1 =>
    let q := spF l k
    match l[k]? with
    | none => q
    | some r => if r.2.2 < Int32.ofNat 0 then q else (if q.1 < r.2.2 then r.2.2 else q.1, if q.2 < Int32.ofNat 0 ∨ r.2.2 < q.2 then r.2.2 else q.2)
def rSp (Y : Sy) (s : Int32) : Int32 := if btw s 0 (plN (yP Y) 0 - 1) then
    (let q := spF (sL (yS Y) s.toNatClampNeg) (sL (yS Y) s.toNatClampNeg).length
     if q.1 < Int32.ofNat 0 then Int32.ofInt (-2) else q.1 - q.2) else Int32.ofInt (-1)
def rLa (Y : Sy) (b : Int32) : Int32 := if btw b 0 (plN (yP Y) 1 - 1) then bF (yS Y) b.toNatClampNeg 10 - bF (yS Y) b.toNatClampNeg 11 + Int32.ofNat 100000 else Int32.ofInt (-1)
def rWo (Y : Sy) (b m : Int32) : Int32 := if btw b 0 (plN (yP Y) 1 - 1) ∧ btw m 0 3 then (if 2 ≤ bI (yS Y) b.toNatClampNeg 0 then heldB (yP Y) (yS Y) b.toNatClampNeg m (sN (yS Y) 0) else Int32.ofInt (-4)) else Int32.ofInt (-1)
def rCb (Y : Sy) (f t : Int32) : Int32 := if (1 ≤ plN (yP Y) 2 ∧ btw f 0 (plN (yP Y) 2 - 1)) ∧ btw t 0 9999999 then (if t < plT (yP Y) 12 f.toNatClampNeg then Int32.ofNat 0 else (t - plT (yP Y) 12 f.toNatClampNeg) / plT (yP Y) 11 f.toNatClampNeg + Int32.ofNat 1) else Int32.ofInt (-1)
section
variable {κ : zC} {h : zH} {b : Nat} {W : Nat → Nat → Int32} {SM : Nat → Nat → Int64} {Q : zQ} {Y : Sy} {π : Pl}
theorem e7_rider {s i x : Int32} (S : TSh κ h b) (T : TIn W SM Y) : Ev κ mX7_rider [.ref b, .int s, .int i, .int x] (hX h b 33 W SM) Q = Q (.inl (some (.int (rRi Y s i x)))) (hX h b 33 W SM) := by
  have F := xF S
  have R := xR S
  have K := xK S
  have O := T.2.2.2.2.2.2
  have hns := O.1
  have P3 := T.1.2.2.1
  unfold rRi
  by_cases c : ¬ btw s 0 (plN (yP Y) 0 - 1)
  · rw [if_neg (fun z => c z.1)]
    have ei := fun (Q : zQ) => e7_isStopN (κ := κ) (W := W) (SM := SM) (Q := Q) S T.1 O c
    simp (disch := first | assumption | omega | decide) only [gB, I_all, zK_v, zK_n, true_and, and_true, Nat.reduceAdd, Nat.reduceMul, Nat.reduceSub, z_lt, z_le, z_neq, not_false_eq_true, or_true, true_or, or_false, false_or, false_and, and_false, gX7_rider, F, R, K, ei]
  replace c := Decidable.of_not_not c
  have e1 := fun (Q : zQ) => e7_isStopY (κ := κ) (W := W) (SM := SM) (Q := Q) S T.1 O c
  by_cases c1 : i < Int32.ofNat 0
  · rw [if_neg (fun z => z.2.1 c1)]
    simp (disch := first | assumption | omega | decide) only [gB, I_all, zK_v, zK_n, true_and, and_true, Nat.reduceAdd, Nat.reduceMul, Nat.reduceSub, z_lt, z_le, z_neq, not_false_eq_true, or_true, true_or, or_false, false_or, false_and, and_false, gX7_rider, F, R, K, e1]
  by_cases c2 : ¬ btw x 0 2
  · rw [if_neg (fun z => c2 z.2.2)]
    have ei := fun (h : zH) (Q : zQ) => e7_inN (κ := κ) (h := h) (Q := Q) (x := x) (l := 0) (u := 2) (by decide) (by decide) c2
    simp (disch := first | assumption | omega | decide) only [gB, I_all, zK_v, zK_n, true_and, and_true, Nat.reduceAdd, Nat.reduceMul, Nat.reduceSub, z_lt, z_le, z_neq, not_false_eq_true, or_true, true_or, or_false, false_or, false_and, and_false, gX7_rider, F, R, K, e1, ei]
  replace c2 := Decidable.of_not_not c2
  have e2 := fun (h : zH) (Q : zQ) => e7_inY (κ := κ) (h := h) (Q := Q) (x := x) (l := 0) (u := 2) (by decide) (by decide) c2
  rw [if_pos ⟨c, c1, c2⟩]
  obtain ⟨m, hs, -, hm, -⟩ := btw_nat c
  obtain ⟨n, hx, -, hn, -⟩ := btw_nat c2
  obtain ⟨k, hk, hk2⟩ := nn_nat c1
  subst hs; subst hx; subst hk
  have e2' := e2
  rw [I_64 (by omega)] at e2'
  rw [I_nat (by omega), I_nat (by omega), I_nat (by omega)]
  obtain ⟨r1, r2⟩ := T.2.1.1.2.1 m (by omega)
  obtain ⟨o1, o2⟩ := T.2.1.2.1 m (by omega)
  generalize sR (yS Y) m = l at *
  by_cases ck : k < l.length
  · have g1 : l[k]? = some l[k] := List.getElem?_eq_getElem ck
    obtain ⟨q1, q2, q3⟩ := r2 k _ g1
    have hr := o2 _ (List.getElem_mem ck)
    rw [g1]
    generalize l[k] = r at *
    have hc : n = 0 ∨ n = 1 ∨ n = 2 := by omega
    rcases hc with rfl | rfl | rfl
    · simp (disch := first | assumption | omega | decide) only [gB, I_all, zK_v, zK_n, true_and, and_true, Nat.reduceAdd, Nat.reduceMul, Nat.reduceSub, z_lt, z_le, z_neq, not_false_eq_true, or_true, true_or, or_false, false_or, false_and, and_false, gX7_rider, F, R, K, e1, e2', I_64, r1, e7_riderAt, Nat.add_zero, q1, rRiN]
    · simp (disch := first | assumption | omega | decide) only [gB, I_all, zK_v, zK_n, true_and, and_true, Nat.reduceAdd, Nat.reduceMul, Nat.reduceSub, z_lt, z_le, z_neq, not_false_eq_true, or_true, true_or, or_false, false_or, false_and, and_false, gX7_rider, F, R, K, e1, e2', I_64, r1, e7_riderAt, q2, rRiN]
    · by_cases c16 : r.2.2 = 16
      · simp (disch := first | assumption | omega | decide) only [gB, I_all, zK_v, zK_n, true_and, and_true, Nat.reduceAdd, Nat.reduceMul, Nat.reduceSub, z_lt, z_le, z_neq, not_false_eq_true, or_true, true_or, or_false, false_or, false_and, and_false, gX7_rider, F, R, K, e1, e2', I_64, r1, e7_riderAt, q3, rRiN, P3, c16, if_true]
      · simp (disch := first | assumption | omega | decide) only [gB, I_all, zK_v, zK_n, true_and, and_true, Nat.reduceAdd, Nat.reduceMul, Nat.reduceSub, z_lt, z_le, z_neq, not_false_eq_true, or_true, true_or, or_false, false_or, false_and, and_false, gX7_rider, F, R, K, e1, e2', I_64, r1, e7_riderAt, q3, rRiN, P3, if_false]
  · have g1 : l[k]? = none := List.getElem?_eq_none (by omega)
    rw [g1]
    simp (disch := first | assumption | omega | decide) only [gB, I_all, zK_v, zK_n, true_and, and_true, Nat.reduceAdd, Nat.reduceMul, Nat.reduceSub, z_lt, z_le, z_neq, not_false_eq_true, or_true, true_or, or_false, false_or, false_and, and_false, gX7_rider, F, R, K, e1, e2', I_64, r1]
theorem e7_aboard {x s : Int32} (S : TSh κ h b) (T : TIn W SM Y) : Ev κ mX7_aboard [.ref b, .int x, .int s] (hX h b 33 W SM) Q = Q (.inl (some (.int (rAb Y x s)))) (hX h b 33 W SM) := by
  have F := xF S
  have R := xR S
  have K := xK S
  have O := T.2.2.2.2.2.2
  have hns := O.1
  have hnb := O.2.1
  unfold rAb
  by_cases c : ¬ btw x 0 (plN (yP Y) 1 - 1)
  · rw [if_neg (fun z => c z.1)]
    have ei := fun (Q : zQ) => e7_isBusN (κ := κ) (W := W) (SM := SM) (Q := Q) S T.1 O c
    simp (disch := first | assumption | omega | decide) only [gB, I_all, zK_v, zK_n, true_and, and_true, Nat.reduceAdd, Nat.reduceMul, Nat.reduceSub, z_lt, z_le, z_neq, not_false_eq_true, or_true, true_or, or_false, false_or, false_and, and_false, gX7_aboard, F, R, K, ei]
  replace c := Decidable.of_not_not c
  have e1 := fun (Q : zQ) => e7_isBusY (κ := κ) (W := W) (SM := SM) (Q := Q) S T.1 O c
  by_cases c2 : ¬ btw s 0 (plN (yP Y) 0 - 1)
  · rw [if_neg (fun z => c2 z.2)]
    have ei := fun (Q : zQ) => e7_isStopN (κ := κ) (W := W) (SM := SM) (Q := Q) S T.1 O c2
    simp (disch := first | assumption | omega | decide) only [gB, I_all, zK_v, zK_n, true_and, and_true, Nat.reduceAdd, Nat.reduceMul, Nat.reduceSub, z_lt, z_le, z_neq, not_false_eq_true, or_true, true_or, or_false, false_or, false_and, and_false, gX7_aboard, F, R, K, e1, ei]
  replace c2 := Decidable.of_not_not c2
  have e2 := fun (Q : zQ) => e7_isStopY (κ := κ) (W := W) (SM := SM) (Q := Q) S T.1 O c2
  rw [if_pos ⟨c, c2⟩]
  obtain ⟨m, hs, -, hm, -⟩ := btw_nat c
  obtain ⟨n, hx, -, hn, -⟩ := btw_nat c2
  subst hs; subst hx
  rw [I_nat (by omega), I_nat (by omega)]
  have ea := fun (Q : zQ) => aboardToX (κ := κ) (Q := Q) (k := m) (s := n) S T (by omega) (by omega)
  simp (disch := first | assumption | omega | decide) only [gB, I_all, zK_v, zK_n, true_and, and_true, Nat.reduceAdd, Nat.reduceMul, Nat.reduceSub, z_lt, z_le, z_neq, not_false_eq_true, or_true, true_or, or_false, false_or, false_and, and_false, gX7_aboard, F, R, K, e1, e2, ea]
theorem e7_left {s i x : Int32} (S : TSh κ h b) (T : TIn W SM Y) : Ev κ mX7_left [.ref b, .int s, .int i, .int x] (hX h b 33 W SM) Q = Q (.inl (some (.int (rLf Y s i x)))) (hX h b 33 W SM) := by
  have F := xF S
  have R := xR S
  have K := xK S
  have O := T.2.2.2.2.2.2
  have hns := O.1
  unfold rLf
  by_cases c : ¬ btw s 0 (plN (yP Y) 0 - 1)
  · rw [if_neg (fun z => c z.1)]
    have ei := fun (Q : zQ) => e7_isStopN (κ := κ) (W := W) (SM := SM) (Q := Q) S T.1 O c
    simp (disch := first | assumption | omega | decide) only [gB, I_all, zK_v, zK_n, true_and, and_true, Nat.reduceAdd, Nat.reduceMul, Nat.reduceSub, z_lt, z_le, z_neq, not_false_eq_true, or_true, true_or, or_false, false_or, false_and, and_false, gX7_left, F, R, K, ei]
  replace c := Decidable.of_not_not c
  have e1 := fun (Q : zQ) => e7_isStopY (κ := κ) (W := W) (SM := SM) (Q := Q) S T.1 O c
  by_cases c1 : i < Int32.ofNat 0
  · rw [if_neg (fun z => z.2.1 c1)]
    simp (disch := first | assumption | omega | decide) only [gB, I_all, zK_v, zK_n, true_and, and_true, Nat.reduceAdd, Nat.reduceMul, Nat.reduceSub, z_lt, z_le, z_neq, not_false_eq_true, or_true, true_or, or_false, false_or, false_and, and_false, gX7_left, F, R, K, e1]
  by_cases c2 : ¬ btw x 0 2
  · rw [if_neg (fun z => c2 z.2.2)]
    have ei := fun (h : zH) (Q : zQ) => e7_inN (κ := κ) (h := h) (Q := Q) (x := x) (l := 0) (u := 2) (by decide) (by decide) c2
    simp (disch := first | assumption | omega | decide) only [gB, I_all, zK_v, zK_n, true_and, and_true, Nat.reduceAdd, Nat.reduceMul, Nat.reduceSub, z_lt, z_le, z_neq, not_false_eq_true, or_true, true_or, or_false, false_or, false_and, and_false, gX7_left, F, R, K, e1, ei]
  replace c2 := Decidable.of_not_not c2
  have e2 := fun (h : zH) (Q : zQ) => e7_inY (κ := κ) (h := h) (Q := Q) (x := x) (l := 0) (u := 2) (by decide) (by decide) c2
  rw [if_pos ⟨c, c1, c2⟩]
  obtain ⟨m, hs, -, hm, -⟩ := btw_nat c
  obtain ⟨n, hx, -, hn, -⟩ := btw_nat c2
  obtain ⟨k, hk, hk2⟩ := nn_nat c1
  subst hs; subst hx; subst hk
  have e2' := e2
  rw [I_64 (by omega)] at e2'
  rw [I_nat (by omega), I_nat (by omega), I_nat (by omega)]
  obtain ⟨r1, r2⟩ := T.2.1.1.2.2.1 m (by omega)
  obtain ⟨o1, o2⟩ := T.2.1.2.2.1 m (by omega)
  generalize sL (yS Y) m = l at *
  by_cases ck : k < l.length
  · rw [if_pos ck]
    have g1 : l[l.length - 1 - k]? = some (l[l.length - 1 - k]'(by omega)) := List.getElem?_eq_getElem (by omega)
    obtain ⟨q1, q2, q3⟩ := r2 _ _ g1
    rw [g1]
    generalize l[l.length - 1 - k]'(by omega) = r at *
    have hc : n = 0 ∨ n = 1 ∨ n = 2 := by omega
    rcases hc with rfl | rfl | rfl
    · simp (disch := first | assumption | omega | decide) only [gB, I_all, zK_v, zK_n, true_and, and_true, Nat.reduceAdd, Nat.reduceMul, Nat.reduceSub, z_lt, z_le, z_neq, not_false_eq_true, or_true, true_or, or_false, false_or, false_and, and_false, gX7_left, F, R, K, e1, e2', I_64, I_sub, r1, e7_leavingAt, Nat.add_zero, q1, rLeN]
    · simp (disch := first | assumption | omega | decide) only [gB, I_all, zK_v, zK_n, true_and, and_true, Nat.reduceAdd, Nat.reduceMul, Nat.reduceSub, z_lt, z_le, z_neq, not_false_eq_true, or_true, true_or, or_false, false_or, false_and, and_false, gX7_left, F, R, K, e1, e2', I_64, I_sub, r1, e7_leavingAt, q2, rLeN]
    · simp (disch := first | assumption | omega | decide) only [gB, I_all, zK_v, zK_n, true_and, and_true, Nat.reduceAdd, Nat.reduceMul, Nat.reduceSub, z_lt, z_le, z_neq, not_false_eq_true, or_true, true_or, or_false, false_or, false_and, and_false, gX7_left, F, R, K, e1, e2', I_64, I_sub, r1, e7_leavingAt, q3, rLeN]
  · rw [if_neg ck]
    simp (disch := first | assumption | omega | decide) only [gB, I_all, zK_v, zK_n, true_and, and_true, Nat.reduceAdd, Nat.reduceMul, Nat.reduceSub, z_lt, z_le, z_neq, not_false_eq_true, or_true, true_or, or_false, false_or, false_and, and_false, gX7_left, F, R, K, e1, e2', I_64, r1]
theorem e7_log {i x : Int32} (S : TSh κ h b) (T : TIn W SM Y) : Ev κ mX7_log [.ref b, .int i, .int x] (hX h b 33 W SM) Q = Q (.inl (some (.int (rLg Y i x)))) (hX h b 33 W SM) := by
  have F := xF S
  have R := xR S
  have K := xK S
  unfold rLg
  by_cases c1 : i < Int32.ofNat 0
  · rw [if_neg (fun z => z.1 c1)]
    simp (disch := first | assumption | omega | decide) only [gB, I_all, zK_v, zK_n, true_and, and_true, Nat.reduceAdd, Nat.reduceMul, Nat.reduceSub, z_lt, z_le, z_neq, not_false_eq_true, or_true, true_or, or_false, false_or, false_and, and_false, gX7_log, F, R, K]
  by_cases c2 : ¬ btw x 0 4
  · rw [if_neg (fun z => c2 z.2)]
    have ei := fun (h : zH) (Q : zQ) => e7_inN (κ := κ) (h := h) (Q := Q) (x := x) (l := 0) (u := 4) (by decide) (by decide) c2
    simp (disch := first | assumption | omega | decide) only [gB, I_all, zK_v, zK_n, true_and, and_true, Nat.reduceAdd, Nat.reduceMul, Nat.reduceSub, z_lt, z_le, z_neq, not_false_eq_true, or_true, true_or, or_false, false_or, false_and, and_false, gX7_log, F, R, K, ei]
  replace c2 := Decidable.of_not_not c2
  have e2 := fun (h : zH) (Q : zQ) => e7_inY (κ := κ) (h := h) (Q := Q) (x := x) (l := 0) (u := 4) (by decide) (by decide) c2
  rw [if_pos ⟨c1, c2⟩]
  obtain ⟨n, hx, -, hn, -⟩ := btw_nat c2
  obtain ⟨k, hk, hk2⟩ := nn_nat c1
  subst hx; subst hk
  have e2' := e2
  rw [I_64 (by omega)] at e2'
  rw [I_nat (by omega), I_nat (by omega)]
  obtain ⟨r1, r2⟩ := T.2.1.1.2.2.2.2.1
  have o1 := T.2.1.2.2.2.2.1
  generalize sG (yS Y) = l at *
  by_cases ck : k < l.length
  · have g1 : l[k]? = some l[k] := List.getElem?_eq_getElem ck
    obtain ⟨q1, q2, q3, q4, q5⟩ := r2 k _ g1
    rw [g1]
    generalize l[k] = r at *
    have hc : n = 0 ∨ n = 1 ∨ n = 2 ∨ n = 3 ∨ n = 4 := by omega
    rcases hc with rfl | rfl | rfl | rfl | rfl
    · simp (disch := first | assumption | omega | decide) only [gB, I_all, zK_v, zK_n, true_and, and_true, Nat.reduceAdd, Nat.reduceMul, Nat.reduceSub, z_lt, z_le, z_neq, not_false_eq_true, or_true, true_or, or_false, false_or, false_and, and_false, gX7_log, F, R, K, e2', I_64, r1, Nat.add_zero, q1, rLgN]
    · simp (disch := first | assumption | omega | decide) only [gB, I_all, zK_v, zK_n, true_and, and_true, Nat.reduceAdd, Nat.reduceMul, Nat.reduceSub, z_lt, z_le, z_neq, not_false_eq_true, or_true, true_or, or_false, false_or, false_and, and_false, gX7_log, F, R, K, e2', I_64, r1, q2, rLgN]
    · simp (disch := first | assumption | omega | decide) only [gB, I_all, zK_v, zK_n, true_and, and_true, Nat.reduceAdd, Nat.reduceMul, Nat.reduceSub, z_lt, z_le, z_neq, not_false_eq_true, or_true, true_or, or_false, false_or, false_and, and_false, gX7_log, F, R, K, e2', I_64, r1, q3, rLgN]
    · simp (disch := first | assumption | omega | decide) only [gB, I_all, zK_v, zK_n, true_and, and_true, Nat.reduceAdd, Nat.reduceMul, Nat.reduceSub, z_lt, z_le, z_neq, not_false_eq_true, or_true, true_or, or_false, false_or, false_and, and_false, gX7_log, F, R, K, e2', I_64, r1, q4, rLgN]
    · simp (disch := first | assumption | omega | decide) only [gB, I_all, zK_v, zK_n, true_and, and_true, Nat.reduceAdd, Nat.reduceMul, Nat.reduceSub, z_lt, z_le, z_neq, not_false_eq_true, or_true, true_or, or_false, false_or, false_and, and_false, gX7_log, F, R, K, e2', I_64, r1, q5, rLgN]
  · have g1 : l[k]? = none := List.getElem?_eq_none (by omega)
    rw [g1]
    simp (disch := first | assumption | omega | decide) only [gB, I_all, zK_v, zK_n, true_and, and_true, Nat.reduceAdd, Nat.reduceMul, Nat.reduceSub, z_lt, z_le, z_neq, not_false_eq_true, or_true, true_or, or_false, false_or, false_and, and_false, gX7_log, F, R, K, e2', I_64, r1]
theorem e7_late {x : Int32} (S : TSh κ h b) (T : TIn W SM Y) : Ev κ mX7_late [.ref b, .int x] (hX h b 33 W SM) Q = Q (.inl (some (.int (rLa Y x)))) (hX h b 33 W SM) := by
  have F := xF S
  have R := xR S
  have K := xK S
  have O := T.2.2.2.2.2.2
  have hnb := O.2.1
  unfold rLa
  by_cases c : ¬ btw x 0 (plN (yP Y) 1 - 1)
  · rw [if_neg c]
    have ei := fun (Q : zQ) => e7_isBusN (κ := κ) (W := W) (SM := SM) (Q := Q) S T.1 O c
    simp (disch := first | assumption | omega | decide) only [gB, I_all, zK_v, zK_n, true_and, and_true, Nat.reduceAdd, Nat.reduceMul, Nat.reduceSub, z_lt, z_le, z_neq, not_false_eq_true, or_true, true_or, or_false, false_or, false_and, and_false, gX7_late, F, R, K, ei]
  replace c := Decidable.of_not_not c
  have e1 := fun (Q : zQ) => e7_isBusY (κ := κ) (W := W) (SM := SM) (Q := Q) S T.1 O c
  rw [if_pos c]
  obtain ⟨m, hs, -, hm, -⟩ := btw_nat c
  subst hs
  rw [I_nat (by omega)]
  have eo := fun (c : Nat) (hc : c < 13) (Q : zQ) => ofX (κ := κ) (W := W) (SM := SM) (Q := Q) (k := m) (c := c) S (by omega)
  have B := T.2.1.1.2.2.2.1 m (by omega)
  rcases B.2.2.2.2 with ⟨q1, q2⟩ | ⟨q1, q2, q3⟩
  · have q1' : ¬ Int32.ofNat 0 ≤ W 13 (164 + 13 * m + 10) := Int32.not_le.mpr q1
    have q2' : bF (yS Y) m 10 = bF (yS Y) m 11 := q2
    have z : bF (yS Y) m 11 - bF (yS Y) m 11 + Int32.ofNat 100000 = Int32.ofNat 100000 := by
      rw [Int32.sub_self]
      exact Int32.zero_add _
    rw [q2', z]
    simp (disch := first | assumption | omega | decide) only [gB, I_all, zK_v, zK_n, true_and, and_true, Nat.reduceAdd, Nat.reduceMul, Nat.reduceSub, z_lt, z_le, z_neq, not_false_eq_true, or_true, true_or, or_false, false_or, false_and, and_false, gX7_late, F, R, K, e1, eo]
  · have q1' : Int32.ofNat 0 ≤ W 13 (164 + 13 * m + 10) := Int32.not_lt.mp q1
    have q2' : W 13 (164 + 13 * m + 10) = bF (yS Y) m 10 := q2
    have q3' : W 13 (164 + 13 * m + 11) = bF (yS Y) m 11 := q3
    rw [q2'] at q1'
    simp (disch := first | assumption | omega | decide) only [gB, I_all, zK_v, zK_n, true_and, and_true, Nat.reduceAdd, Nat.reduceMul, Nat.reduceSub, z_lt, z_le, z_neq, not_false_eq_true, or_true, true_or, or_false, false_or, false_and, and_false, gX7_late, F, R, K, e1, eo, q2', q3']
theorem heldByX {k : Nat} {m t : Int32} (S : TSh κ h b) (T : TIn W SM Y) (hk : k < plN (yP Y) 1) : Ev κ mX7_heldBy [.ref b, .int (Int32.ofNat k), .int m, .int t] (hX h b 33 W SM) Q = Q (.inl (some (.int (heldB (yP Y) (yS Y) k m t)))) (hX h b 33 W SM) := by
  have := e7_heldBy (κ := κ) (h := hX h b 33 W SM) (w := W 13) (sm := SM 14) (o := W 0 103) (Q := Q) (k := k) (m := m) (t := t) (MSh_X S) (tPm S T.1) T.2.2.2.2.2.2 T.2.1.1 T.2.1.2 hk
  rw [← hX_M S] at this
  exact this
theorem e7_wouldHold {x m : Int32} (S : TSh κ h b) (T : TIn W SM Y) : Ev κ mX7_wouldHold [.ref b, .int x, .int m] (hX h b 33 W SM) Q = Q (.inl (some (.int (rWo Y x m)))) (hX h b 33 W SM) := by
  have F := xF S
  have R := xR S
  have K := xK S
  have O := T.2.2.2.2.2.2
  have hnb := O.2.1
  unfold rWo
  by_cases c : ¬ btw x 0 (plN (yP Y) 1 - 1)
  · rw [if_neg (fun z => c z.1)]
    have ei := fun (Q : zQ) => e7_isBusN (κ := κ) (W := W) (SM := SM) (Q := Q) S T.1 O c
    simp (disch := first | assumption | omega | decide) only [gB, I_all, zK_v, zK_n, true_and, and_true, Nat.reduceAdd, Nat.reduceMul, Nat.reduceSub, z_lt, z_le, z_neq, not_false_eq_true, or_true, true_or, or_false, false_or, false_and, and_false, gX7_wouldHold, F, R, K, ei]
  replace c := Decidable.of_not_not c
  have e1 := fun (Q : zQ) => e7_isBusY (κ := κ) (W := W) (SM := SM) (Q := Q) S T.1 O c
  by_cases c2 : ¬ btw m 0 3
  · rw [if_neg (fun z => c2 z.2)]
    have ei := fun (h : zH) (Q : zQ) => e7_isModeN (κ := κ) (h := h) (Q := Q) c2
    simp (disch := first | assumption | omega | decide) only [gB, I_all, zK_v, zK_n, true_and, and_true, Nat.reduceAdd, Nat.reduceMul, Nat.reduceSub, z_lt, z_le, z_neq, not_false_eq_true, or_true, true_or, or_false, false_or, false_and, and_false, gX7_wouldHold, F, R, K, e1, ei]
  replace c2 := Decidable.of_not_not c2
  have e2 := fun (h : zH) (Q : zQ) => e7_isModeY (κ := κ) (h := h) (Q := Q) c2
  rw [if_pos ⟨c, c2⟩]
  obtain ⟨n, hs, -, hn, -⟩ := btw_nat c
  subst hs
  rw [I_nat (by omega)]
  have hn6 : n < 6 := by omega
  obtain ⟨st, s', h4, hs, q0, q1⟩ := bst T.2.1.2 (by omega : n < plN (yP Y) 1) hn6
  have eI : bI (yS Y) n 0 = st := bI_of (by omega) q0
  rw [eI]
  have w0 : W 13 (164 + 13 * n + 0) = Int32.ofNat st := ((T.2.1.1.2.2.2.1 n hn6).1 0 (by decide)).trans q0
  have wt : W 13 0 = sN (yS Y) 0 := T.2.1.1.1 0 (by unfold nat1; omega)
  have ea := fun (Q : zQ) => isAtX (κ := κ) (W := W) (SM := SM) (Q := Q) (k := n) S hn6 h4 w0
  have eh := fun (t : Int32) (Q : zQ) => heldByX (κ := κ) (Q := Q) (k := n) (m := m) (t := t) S T (by omega)
  by_cases c3 : 2 ≤ st
  · rw [if_pos c3]
    simp only [if_pos c3] at ea
    simp (disch := first | assumption | omega | decide) only [gB, I_all, zK_v, zK_n, true_and, and_true, Nat.reduceAdd, Nat.reduceMul, Nat.reduceSub, z_lt, z_le, z_neq, not_false_eq_true, or_true, true_or, or_false, false_or, false_and, and_false, gX7_wouldHold, F, R, K, e1, e2, ea, eh, wt]
  · rw [if_neg c3]
    simp only [if_neg c3] at ea
    simp (disch := first | assumption | omega | decide) only [gB, I_all, zK_v, zK_n, true_and, and_true, Nat.reduceAdd, Nat.reduceMul, Nat.reduceSub, z_lt, z_le, z_neq, not_false_eq_true, or_true, true_or, or_false, false_or, false_and, and_false, gX7_wouldHold, F, R, K, e1, e2, ea]
end
