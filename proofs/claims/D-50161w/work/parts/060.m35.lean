/-! the twin: operations -/
def yMo (Y : Sy) (x : Int32) : Int32 × Sy := if btw x 0 3 then (if sN (yS Y) 1 = x then (Int32.ofInt (-2), Y) else (sN (yS Y) 1, vSt (yKp Y) (vN (yS Y) (zu (sN (yS Y)) 1 x)))) else (Int32.ofInt (-1), Y)
def boI (p : Bool) : Int32 := if p = true then Int32.ofNat 1 else Int32.ofNat 0
def yPo (Y : Sy) (x : Int32) (p : Bool) : Int32 × Sy := if btw x 0 (plN (yP Y) 0 - 1) then (if decide (sN (yS Y) (13 + x.toNatClampNeg) = Int32.ofNat 1) = p then (Int32.ofInt (-2), Y) else
    (ptF (vN (yS Y) (zu (sN (yS Y)) (13 + x.toNatClampNeg) (boI p))) (plN (yP Y) 0), vSt (yKp Y) (vN (yS Y) (zu (sN (yS Y)) (13 + x.toNatClampNeg) (boI p))))) else (Int32.ofInt (-1), Y)
abbrev okNu (w v : Int32) : Prop := (w = Int32.ofNat 0 ∧ btw v 30 3600) ∨ (w = Int32.ofNat 1 ∧ btw v 0 900) ∨ ((w = Int32.ofNat 2 ∨ w = Int32.ofNat 3) ∧ btw v 60 9999)
def yNu (Y : Sy) (w v : Int32) : Int32 × Sy := if okNu w v then (if sN (yS Y) (2 + w.toNatClampNeg) = v then (Int32.ofInt (-2), Y) else (sN (yS Y) (2 + w.toNatClampNeg), vSt (yKp Y) (vN (yS Y) (zu (sN (yS Y)) (2 + w.toNatClampNeg) v)))) else (Int32.ofInt (-1), Y)
def ySk (Y : Sy) (x : Int32) : Int32 × Sy := if btw x 0 (plN (yP Y) 1 - 1) then
    (if bF (yS Y) x.toNatClampNeg 8 = Int32.ofNat 1 then (Int32.ofInt (-2), Y) else if ¬ bF (yS Y) x.toNatClampNeg 0 = Int32.ofNat 1 then (Int32.ofInt (-4), Y)
      else if 0 < goTo (bR (yS Y) x.toNatClampNeg) (bI (yS Y) x.toNatClampNeg 1) then (Int32.ofInt (-3), Y)
      else (bF (yS Y) x.toNatClampNeg 1, vSt (yKp Y) (sBs (yS Y) x.toNatClampNeg 8 (Int32.ofNat 1)))) else (Int32.ofInt (-1), Y)
def yHo (Y : Sy) (x s : Int32) : Int32 × Sy := if btw x 0 (plN (yP Y) 1 - 1) ∧ btw s 1 900 then
    (if 2 ≤ bI (yS Y) x.toNatClampNeg 0 then (bF (yS Y) x.toNatClampNeg 2 + s, vSt (yKp Y) (sBs (yS Y) x.toNatClampNeg 2 (bF (yS Y) x.toNatClampNeg 2 + s))) else (Int32.ofInt (-4), Y)) else (Int32.ofInt (-1), Y)
/-- a group comes -/
def sGp (σ : Sg) (f t : Nat) (tm : Int32) : Nat → Sg × Nat
  | 0 => (σ, 0)
  | k + 1 => let q := sGp σ f t tm k
    let r := sJn q.1 f t tm 16
    (r.1, q.2 + if r.2 = true then 1 else 0)
def yGr (Y : Sy) (f t m : Int32) : Int32 × Sy := if (btw f 0 (plN (yP Y) 0 - 1) ∧ btw t 0 (plN (yP Y) 0 - 1)) ∧ ¬ f = t ∧ btw m 1 40 then
    let r := sGp (sBr (yP Y) (yS Y) f.toNatClampNeg (sN (yS Y) 0)) f.toNatClampNeg t.toNatClampNeg (sN (yS Y) 0) m.toNatClampNeg
    (Int32.ofNat r.2, vSt (yKp Y) r.1) else (Int32.ofInt (-1), Y)
def yPs (Y : Sy) (x : Int32) : Int32 × Sy := if btw x 1 3600 then
    let r := sPa (yP Y) (yS Y) (sN (yS Y) 0 + x)
    (Int32.ofNat r.2, vSt (yKp Y) r.1) else (Int32.ofInt (-1), Y)
section
variable {κ : zC} {h : zH} {b : Nat} {W : Nat → Nat → Int32} {SM : Nat → Nat → Int64} {Q : zQ} {Y : Sy} {π : Pl}
theorem e7_setMode {x : Int32} (S : TSh κ h b) (T : TIn W SM Y) (hq : ∀ W' SM', TIn W' SM' (yMo Y x).2 → Q (.inl (some (.int (yMo Y x).1))) (hX h b 33 W' SM')) : Ev κ mX7_setMode [.ref b, .int x] (hX h b 33 W SM) Q := by
  have F := xF S
  have R := xR S
  have K := xK S
  have hB : kB κ ≤ b := S.1.1
  have e1 : W 13 1 = sN (yS Y) 1 := T.2.1.1.1 _ (by unfold nat1; omega)
  unfold yMo at hq
  by_cases c : btw x 0 3
  · rw [if_pos c] at hq
    have ei := fun (h : zH) (Q : zQ) => e7_isModeY (κ := κ) (h := h) (Q := Q) c
    by_cases c2 : sN (yS Y) 1 = x
    · rw [if_pos c2] at hq
      simp (disch := first | assumption | omega | decide) only [gB, I_all, zK_v, zK_n, true_and, and_true, Nat.reduceAdd, Nat.reduceMul, Nat.reduceSub, z_lt, z_le, z_neq, not_false_eq_true, or_true, true_or, or_false, false_or, false_and, and_false, gX7_setMode, F, R, K, ei, e1]
      exact hq _ _ T
    · rw [if_neg c2] at hq
      simp (disch := first | assumption | omega | decide) only [gB, I_all, zK_v, zK_n, true_and, and_true, Nat.reduceAdd, Nat.reduceMul, Nat.reduceSub, z_lt, z_le, z_neq, not_false_eq_true, or_true, true_or, or_false, false_or, false_and, and_false, gX7_setMode, F, R, K, ei, e1]
      refine e7_keeps S T fun W1 SM1 T1 w13 s14 => ?_
      have A := WAt_n (i := 1) (v := x) T1.2.1.1 (by unfold nat1; omega)
      have T2 := zv13 T1 A (sOk_n T1.2.1.2 _)
      simp (disch := first | assumption | omega | decide) only [gB, I_all, zK_v, zK_n, true_and, and_true, Nat.reduceAdd, Nat.reduceMul, Nat.reduceSub, z_lt, z_le, z_neq, not_false_eq_true, or_true, true_or, or_false, false_or, false_and, and_false, gX7_setMode, F, R, K]
      exact hq _ _ T2
  · rw [if_neg c] at hq
    have ei := fun (h : zH) (Q : zQ) => e7_isModeN (κ := κ) (h := h) (Q := Q) c
    simp (disch := first | assumption | omega | decide) only [gB, I_all, zK_v, zK_n, true_and, and_true, Nat.reduceAdd, Nat.reduceMul, Nat.reduceSub, z_lt, z_le, z_neq, not_false_eq_true, or_true, true_or, or_false, false_or, false_and, and_false, gX7_setMode, ei]
    exact hq _ _ T
theorem boI_z (p : Bool) : zTy 0 (.int (boI p)) = true := rfl
theorem e7_setPoint {x : Int32} {p : Bool} (S : TSh κ h b) (T : TIn W SM Y) (hq : ∀ W' SM', TIn W' SM' (yPo Y x p).2 → Q (.inl (some (.int (yPo Y x p).1))) (hX h b 33 W' SM')) : Ev κ mX7_setPoint [.ref b, .int x, .int (boI p)] (hX h b 33 W SM) Q := by
  have F := xF S
  have R := xR S
  have K := xK S
  have hB : kB κ ≤ b := S.1.1
  have O := T.2.2.2.2.2.2
  have hns := O.1
  unfold yPo at hq
  by_cases c : btw x 0 (plN (yP Y) 0 - 1)
  · rw [if_pos c] at hq
    have ei := fun (Q : zQ) => e7_isStopY (κ := κ) (W := W) (SM := SM) (Q := Q) S T.1 O c
    obtain ⟨n, hx, -, hn, -⟩ := btw_nat c
    subst hx
    rw [I_nat (by omega)] at hq
    have e1 : W 13 (13 + n) = sN (yS Y) (13 + n) := T.2.1.1.1 _ (by unfold nat1; omega)
    have fin : ∀ v, v = boI p → ¬ (decide (sN (yS Y) (13 + n) = Int32.ofNat 1) = p) → ∀ W1 SM1, TIn W1 SM1 (yKp Y) →
        Q (.inl (some (.int (ptF (vN (yS Y) (zu (sN (yS Y)) (13 + n) v)) (plN (yP Y) 0))))) (hX h b 33 (zv W1 13 (13 + n) v) SM1) := by
      intro v hv c2 W1 SM1 T1
      rw [if_neg c2] at hq
      have A := WAt_n (i := 13 + n) (v := v) T1.2.1.1 (by unfold nat1; omega)
      have T2 := zv13 T1 A (sOk_n T1.2.1.2 _)
      rw [hv] at T2 ⊢
      exact hq _ _ T2
    have pm : ∀ v W1 SM1, TIn W1 SM1 (yKp Y) → ∀ Q, Ev κ mX7_pointMany [.ref b] (hX h b 33 (zv W1 13 (13 + n) v) SM1) Q = Q (.inl (some (.int (ptF (vN (yS Y) (zu (sN (yS Y)) (13 + n) v)) (plN (yP Y) 0))))) (hX h b 33 (zv W1 13 (13 + n) v) SM1) := by
      intro v W1 SM1 T1 Q
      have A := WAt_n (i := 13 + n) (v := v) T1.2.1.1 (by unfold nat1; omega)
      exact e7_pointMany S (zv13 T1 A (sOk_n T1.2.1.2 _))
    cases p with
    | true =>
      have hp : boI true = Int32.ofNat 1 := rfl
      rw [hp]
      by_cases c2 : sN (yS Y) (13 + n) = Int32.ofNat 1
      · rw [if_pos (decide_eq_true c2)] at hq
        simp (disch := first | assumption | omega | decide) only [gB, I_all, zK_v, zK_n, true_and, and_true, Nat.reduceAdd, Nat.reduceMul, Nat.reduceSub, z_lt, z_le, z_neq, not_false_eq_true, or_true, true_or, or_false, false_or, false_and, and_false, gX7_setPoint, F, R, K, ei, e1, c2]
        exact hq _ _ T
      · simp (disch := first | assumption | omega | decide) only [gB, I_all, zK_v, zK_n, true_and, and_true, Nat.reduceAdd, Nat.reduceMul, Nat.reduceSub, z_lt, z_le, z_neq, not_false_eq_true, or_true, true_or, or_false, false_or, false_and, and_false, gX7_setPoint, F, R, K, ei, e1]
        refine e7_keeps S T fun W1 SM1 T1 w13 s14 => ?_
        simp (disch := first | assumption | omega | decide) only [gB, I_all, zK_v, zK_n, true_and, and_true, Nat.reduceAdd, Nat.reduceMul, Nat.reduceSub, z_lt, z_le, z_neq, not_false_eq_true, or_true, true_or, or_false, false_or, false_and, and_false, gX7_setPoint, F, R, K, pm (Int32.ofNat 1) W1 SM1 T1]
        exact fin _ rfl (fun x => c2 (of_decide_eq_true x)) _ _ T1
    | false =>
      have hp : boI false = Int32.ofNat 0 := rfl
      rw [hp]
      by_cases c2 : sN (yS Y) (13 + n) = Int32.ofNat 1
      · simp (disch := first | assumption | omega | decide) only [gB, I_all, zK_v, zK_n, true_and, and_true, Nat.reduceAdd, Nat.reduceMul, Nat.reduceSub, z_lt, z_le, z_neq, not_false_eq_true, or_true, true_or, or_false, false_or, false_and, and_false, gX7_setPoint, F, R, K, ei, e1, c2]
        refine e7_keeps S T fun W1 SM1 T1 w13 s14 => ?_
        simp (disch := first | assumption | omega | decide) only [gB, I_all, zK_v, zK_n, true_and, and_true, Nat.reduceAdd, Nat.reduceMul, Nat.reduceSub, z_lt, z_le, z_neq, not_false_eq_true, or_true, true_or, or_false, false_or, false_and, and_false, gX7_setPoint, F, R, K, pm (Int32.ofNat 0) W1 SM1 T1]
        exact fin _ rfl (fun x => absurd c2 (of_decide_eq_false x)) _ _ T1
      · rw [if_pos (decide_eq_false c2)] at hq
        simp (disch := first | assumption | omega | decide) only [gB, I_all, zK_v, zK_n, true_and, and_true, Nat.reduceAdd, Nat.reduceMul, Nat.reduceSub, z_lt, z_le, z_neq, not_false_eq_true, or_true, true_or, or_false, false_or, false_and, and_false, gX7_setPoint, F, R, K, ei, e1]
        exact hq _ _ T
  · rw [if_neg c] at hq
    have ei := fun (Q : zQ) => e7_isStopN (κ := κ) (W := W) (SM := SM) (Q := Q) S T.1 O c
    simp (disch := first | assumption | omega | decide) only [gB, I_all, zK_v, zK_n, true_and, and_true, Nat.reduceAdd, Nat.reduceMul, Nat.reduceSub, z_lt, z_le, z_neq, not_false_eq_true, or_true, true_or, or_false, false_or, false_and, and_false, gX7_setPoint, F, R, ei]
    exact hq _ _ T
theorem zSwi_0 {f : Nat → Prop} {d : Nat} {x : Int32} : zSwi f d x [] = f d := rfl
theorem zSwi_y {f : Nat → Prop} {d t : Nat} {x k : Int32} {l : List (Int32 × Nat)} (h : x = k) : zSwi f d x ((k, t) :: l) = f t := if_pos h
theorem zSwi_n {f : Nat → Prop} {d t : Nat} {x k : Int32} {l : List (Int32 × Nat)} (h : ¬ x = k) : zSwi f d x ((k, t) :: l) = zSwi f d x l := if_neg h
theorem e7_isNumber {w v : Int32} : Ev κ mX7_isNumber [.int w, .int v] h Q = Q (.inl (some (.int (if okNu w v then Int32.ofNat 1 else Int32.ofNat 0)))) h := by
  have iY := fun (l u : Nat) (hl : l < 2147483648) (hu : u < 2147483648) (c : btw v l u) (h : zH) (Q : zQ) => e7_inY (κ := κ) (h := h) (Q := Q) (x := v) hl hu c
  have iN := fun (l u : Nat) (hl : l < 2147483648) (hu : u < 2147483648) (c : ¬ btw v l u) (h : zH) (Q : zQ) => e7_inN (κ := κ) (h := h) (Q := Q) (x := v) hl hu c
  have key : ∀ l u, l < 2147483648 → u < 2147483648 → ∀ (h : zH) (Q : zQ), Ev κ mX7_in [.long v.toInt64, .long (Int64.ofNat l), .long (Int64.ofNat u)] h Q = Q (.inl (some (.int (if btw v l u then Int32.ofNat 1 else Int32.ofNat 0)))) h := by
    intro l u hl hu h Q
    by_cases c : btw v l u
    · rw [iY l u hl hu c, if_pos c]
    · rw [iN l u hl hu c, if_neg c]
  have nb : ∀ P : Prop, ∀ [Decidable P], (narrow .boolean (.int (if P then Int32.ofNat 1 else Int32.ofNat 0)) = Value.int (if P then Int32.ofNat 1 else Int32.ofNat 0)) = True := by
    intro P _
    by_cases h : P
    · rw [if_pos h]; exact z_b1
    · rw [if_neg h]; exact z_b0
  unfold okNu
  by_cases c0 : w = Int32.ofNat 0
  · subst c0
    have e : ((Int32.ofNat 0 = Int32.ofNat 0 ∧ btw v 30 3600) ∨ (Int32.ofNat 0 = Int32.ofNat 1 ∧ btw v 0 900) ∨ ((Int32.ofNat 0 = Int32.ofNat 2 ∨ Int32.ofNat 0 = Int32.ofNat 3) ∧ btw v 60 9999)) = btw v 30 3600 := by
      apply propext
      constructor
      · rintro (⟨-, h⟩ | ⟨h, -⟩ | ⟨h | h, -⟩)
        · exact h
        · exact absurd h (by decide)
        · exact absurd h (by decide)
        · exact absurd h (by decide)
      · exact fun h => Or.inl ⟨rfl, h⟩
    simp only [e]
    simp (disch := first | assumption | omega | decide) only [gB, I_all, zK_v, zK_n, true_and, and_true, Nat.reduceAdd, Nat.reduceMul, Nat.reduceSub, z_lt, z_le, z_neq, not_false_eq_true, or_true, true_or, or_false, false_or, false_and, and_false, gX7_isNumber, zSwi_y, zSwi_n, zSwi_0, key, nb]
  by_cases c1 : w = Int32.ofNat 1
  · subst c1
    have e : ((Int32.ofNat 1 = Int32.ofNat 0 ∧ btw v 30 3600) ∨ (Int32.ofNat 1 = Int32.ofNat 1 ∧ btw v 0 900) ∨ ((Int32.ofNat 1 = Int32.ofNat 2 ∨ Int32.ofNat 1 = Int32.ofNat 3) ∧ btw v 60 9999)) = btw v 0 900 := by
      apply propext
      constructor
      · rintro (⟨h, -⟩ | ⟨-, h⟩ | ⟨h | h, -⟩)
        · exact absurd h (by decide)
        · exact h
        · exact absurd h (by decide)
        · exact absurd h (by decide)
      · exact fun h => Or.inr (Or.inl ⟨rfl, h⟩)
    simp only [e]
    simp (disch := first | assumption | omega | decide) only [gB, I_all, zK_v, zK_n, true_and, and_true, Nat.reduceAdd, Nat.reduceMul, Nat.reduceSub, z_lt, z_le, z_neq, not_false_eq_true, or_true, true_or, or_false, false_or, false_and, and_false, gX7_isNumber, zSwi_y, zSwi_n, zSwi_0, key, nb]
  by_cases c2 : w = Int32.ofNat 2
  · subst c2
    have e : ((Int32.ofNat 2 = Int32.ofNat 0 ∧ btw v 30 3600) ∨ (Int32.ofNat 2 = Int32.ofNat 1 ∧ btw v 0 900) ∨ ((Int32.ofNat 2 = Int32.ofNat 2 ∨ Int32.ofNat 2 = Int32.ofNat 3) ∧ btw v 60 9999)) = btw v 60 9999 := by
      apply propext
      constructor
      · rintro (⟨h, -⟩ | ⟨h, -⟩ | ⟨-, h⟩)
        · exact absurd h (by decide)
        · exact absurd h (by decide)
        · exact h
      · exact fun h => Or.inr (Or.inr ⟨Or.inl rfl, h⟩)
    simp only [e]
    simp (disch := first | assumption | omega | decide) only [gB, I_all, zK_v, zK_n, true_and, and_true, Nat.reduceAdd, Nat.reduceMul, Nat.reduceSub, z_lt, z_le, z_neq, not_false_eq_true, or_true, true_or, or_false, false_or, false_and, and_false, gX7_isNumber, zSwi_y, zSwi_n, zSwi_0, key, nb]
  by_cases c3 : w = Int32.ofNat 3
  · subst c3
    have e : ((Int32.ofNat 3 = Int32.ofNat 0 ∧ btw v 30 3600) ∨ (Int32.ofNat 3 = Int32.ofNat 1 ∧ btw v 0 900) ∨ ((Int32.ofNat 3 = Int32.ofNat 2 ∨ Int32.ofNat 3 = Int32.ofNat 3) ∧ btw v 60 9999)) = btw v 60 9999 := by
      apply propext
      constructor
      · rintro (⟨h, -⟩ | ⟨h, -⟩ | ⟨-, h⟩)
        · exact absurd h (by decide)
        · exact absurd h (by decide)
        · exact h
      · exact fun h => Or.inr (Or.inr ⟨Or.inr rfl, h⟩)
    simp only [e]
    simp (disch := first | assumption | omega | decide) only [gB, I_all, zK_v, zK_n, true_and, and_true, Nat.reduceAdd, Nat.reduceMul, Nat.reduceSub, z_lt, z_le, z_neq, not_false_eq_true, or_true, true_or, or_false, false_or, false_and, and_false, gX7_isNumber, zSwi_y, zSwi_n, zSwi_0, key, nb]
  have e : ¬ ((w = Int32.ofNat 0 ∧ btw v 30 3600) ∨ (w = Int32.ofNat 1 ∧ btw v 0 900) ∨ ((w = Int32.ofNat 2 ∨ w = Int32.ofNat 3) ∧ btw v 60 9999)) := by
    rintro (⟨h, -⟩ | ⟨h, -⟩ | ⟨h | h, -⟩)
    · exact c0 h
    · exact c1 h
    · exact c2 h
    · exact c3 h
  rw [if_neg e]
  simp (disch := first | assumption | omega | decide) only [gB, I_all, zK_v, zK_n, true_and, and_true, Nat.reduceAdd, Nat.reduceMul, Nat.reduceSub, z_lt, z_le, z_neq, not_false_eq_true, or_true, true_or, or_false, false_or, false_and, and_false, gX7_isNumber, zSwi_y, zSwi_n, zSwi_0, key, z_b0]
theorem okNu_n {w v : Int32} (c : okNu w v) : ∃ n, w = Int32.ofNat n ∧ n < 4 := by
  rcases c with ⟨h, -⟩ | ⟨h, -⟩ | ⟨h | h, -⟩
  · exact ⟨0, h, by decide⟩
  · exact ⟨1, h, by decide⟩
  · exact ⟨2, h, by decide⟩
  · exact ⟨3, h, by decide⟩
theorem e7_setNumber {x v : Int32} (S : TSh κ h b) (T : TIn W SM Y) (hq : ∀ W' SM', TIn W' SM' (yNu Y x v).2 → Q (.inl (some (.int (yNu Y x v).1))) (hX h b 33 W' SM')) : Ev κ mX7_setNumber [.ref b, .int x, .int v] (hX h b 33 W SM) Q := by
  have F := xF S
  have R := xR S
  have K := xK S
  have hB : kB κ ≤ b := S.1.1
  unfold yNu at hq
  have ei := fun (h : zH) (Q : zQ) => e7_isNumber (κ := κ) (h := h) (Q := Q) (w := x) (v := v)
  by_cases c : okNu x v
  · rw [if_pos c] at hq
    obtain ⟨n, hx, hn⟩ := okNu_n c
    subst hx
    simp only [if_pos c] at ei
    rw [I_nat (by omega)] at hq
    have e1 : W 13 (2 + n) = sN (yS Y) (2 + n) := T.2.1.1.1 _ (by unfold nat1; omega)
    by_cases c2 : sN (yS Y) (2 + n) = v
    · rw [if_pos c2] at hq
      simp (disch := first | assumption | omega | decide) only [gB, I_all, zK_v, zK_n, true_and, and_true, Nat.reduceAdd, Nat.reduceMul, Nat.reduceSub, z_lt, z_le, z_neq, not_false_eq_true, or_true, true_or, or_false, false_or, false_and, and_false, gX7_setNumber, F, R, K, ei, e1]
      exact hq _ _ T
    · rw [if_neg c2] at hq
      simp (disch := first | assumption | omega | decide) only [gB, I_all, zK_v, zK_n, true_and, and_true, Nat.reduceAdd, Nat.reduceMul, Nat.reduceSub, z_lt, z_le, z_neq, not_false_eq_true, or_true, true_or, or_false, false_or, false_and, and_false, gX7_setNumber, F, R, K, ei, e1]
      refine e7_keeps S T fun W1 SM1 T1 w13 s14 => ?_
      have A := WAt_n (i := 2 + n) (v := v) T1.2.1.1 (by unfold nat1; omega)
      have T2 := zv13 T1 A (sOk_n T1.2.1.2 _)
      simp (disch := first | assumption | omega | decide) only [gB, I_all, zK_v, zK_n, true_and, and_true, Nat.reduceAdd, Nat.reduceMul, Nat.reduceSub, z_lt, z_le, z_neq, not_false_eq_true, or_true, true_or, or_false, false_or, false_and, and_false, gX7_setNumber, F, R, K]
      exact hq _ _ T2
  · rw [if_neg c] at hq
    simp only [if_neg c] at ei
    simp (disch := first | assumption | omega | decide) only [gB, I_all, zK_v, zK_n, true_and, and_true, Nat.reduceAdd, Nat.reduceMul, Nat.reduceSub, z_lt, z_le, z_neq, not_false_eq_true, or_true, true_or, or_false, false_or, false_and, and_false, gX7_setNumber, ei]
    exact hq _ _ T
end
