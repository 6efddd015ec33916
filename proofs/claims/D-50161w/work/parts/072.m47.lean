/-! reading a tape: tokens -/
def isL (x : Int32) : Bool := decide (Int32.ofNat 97 ≤ x) && decide (x ≤ Int32.ofNat 122)
def isD (x : Int32) : Bool := decide (Int32.ofNat 48 ≤ x) && decide (x ≤ Int32.ofNat 57)
def isW (x : Int32) : Bool := decide (x = Int32.ofNat 32) || decide (x = Int32.ofNat 10)
/-- how many from the front are so -/
def run (p : Int32 → Bool) : List Int32 → Nat
  | [] => 0
  | x :: l => if p x = true then run p l + 1 else 0
theorem run_le (p : Int32 → Bool) (l : List Int32) : run p l ≤ l.length := by
  induction l with
  | nil => exact Nat.le_refl _
  | cons x l ih =>
    unfold run
    split
    · simpa using ih
    · exact Nat.zero_le _
theorem run_lt {p : Int32 → Bool} {l : List Int32} : ∀ {j : Nat}, j < run p l → ∃ x, l[j]? = some x ∧ p x = true := by
  induction l with
  | nil => intro j h; cases h
  | cons x l ih =>
    intro j h
    unfold run at h
    split at h
    · next hc =>
      cases j with
      | zero => exact ⟨x, rfl, hc⟩
      | succ j => obtain ⟨y, h1, h2⟩ := ih (j := j) (by omega); exact ⟨y, by simpa using h1, h2⟩
    · cases h
theorem run_end {p : Int32 → Bool} {l : List Int32} {x : Int32} (h : l[run p l]? = some x) : p x = false := by
  induction l with
  | nil => cases h
  | cons y l ih =>
    by_cases hc : p y = true
    · have e : run p (y :: l) = run p l + 1 := by conv => lhs; unfold run; rw [if_pos hc]
      rw [e] at h
      exact ih (by simpa using h)
    · have e : run p (y :: l) = 0 := by conv => lhs; unfold run; rw [if_neg hc]
      rw [e] at h
      simp at h
      subst h
      simpa using hc
theorem run_pos {p : Int32 → Bool} {l : List Int32} {x : Int32} (h : l[0]? = some x) (hp : p x = true) : 0 < run p l := by
  cases l with
  | nil => cases h
  | cons y l =>
    simp at h
    subst h
    unfold run
    rw [if_pos hp]
    omega
theorem dr_at (tp : List Int32) (b j : Nat) : (tp.drop b)[j]? = tp[b + j]? := List.getElem?_drop
/-- packed letters -/
def ltF (g : List Int32) : Nat → Int32
  | 0 => Int32.ofNat 0
  | k + 1 => ltF g k ||| (if k < 6 then ((g[k]?).getD 0 - Int32.ofNat 96) <<< (Int32.ofNat (25 - 5 * k) &&& 31) else Int32.ofNat 0)
def wdP (g : List Int32) : Nat → Int64
  | 0 => Int64.ofNat 0
  | k + 1 => if k < 8 then Int64.ofNat 32 * wdP g k + ((g[k]?).getD 0 - Int32.ofNat 96).toInt64 else Int64.ofNat 0
def nmF (g : List Int32) : Nat → Int32
  | 0 => Int32.ofNat 0
  | k + 1 => if k < 4 then Int32.ofNat 10 * nmF g k + (g[k]?).getD 0 - Int32.ofNat 48 else nmF g k
def kwC : Nat → Int64
  | 0 => Int64.ofNat 508078
  | 1 => Int64.ofNat 494
  | 2 => Int64.ofNat 147182
  | 3 => Int64.ofNat 8758910009
  | 4 => Int64.ofNat 3120
  | 5 => Int64.ofNat 551510259813
  | 6 => Int64.ofNat 19387844
  | 7 => Int64.ofNat 441477
  | 8 => Int64.ofNat 643568
  | 9 => Int64.ofNat 4794053
  | 10 => Int64.ofNat 15558
  | 11 => Int64.ofNat 17278420
  | 12 => Int64.ofNat 2739
  | 13 => Int64.ofNat 20579924
  | 14 => Int64.ofNat 215533
  | 15 => Int64.ofNat 655
  | 16 => Int64.ofNat 5969497
  | _ => Int64.ofNat 6605428
def isKeyW (w : Int64) : Bool := (List.range 18).any fun k => decide (w = kwC k)
section
variable {κ : zC} {h : zH} {b : Nat} {W : Nat → Nat → Int32} {SM : Nat → Nat → Int64} {Q : zQ}
def inB (tp : List Int32) (i : Nat) (lo hi : Int32) : Bool := match tp[i]? with
  | none => false
  | some x => decide (lo ≤ x) && decide (x ≤ hi)
theorem e7_isByte {tp : List Int32} {i : Nat} {lo hi : Int32} (S : TSh κ h b) (TP : TTp W tp) (e : W 0 104 = Int32.ofNat i) (hi' : i ≤ tp.length) : Ev κ mX7_isByte [.ref b, .int lo, .int hi] (hX h b 33 W SM) Q = Q (.inl (some (.int (boI (inB tp i lo hi))))) (hX h b 33 W SM) := by
  have F := xF S
  have R := xR S
  have K := xK S
  obtain ⟨t1, t2, t3⟩ := TP
  unfold inB
  by_cases c : i < tp.length
  · have g1 : tp[i]? = some tp[i] := List.getElem?_eq_getElem c
    have q := t3 i _ g1
    rw [g1]
    generalize tp[i] = x at *
    dsimp only
    by_cases c1 : lo ≤ x
    · have c1' : ¬ x < lo := Int32.not_lt.mpr c1
      by_cases c2 : x ≤ hi
      · have c2' : ¬ hi < x := Int32.not_lt.mpr c2
        have hb : boI (decide (lo ≤ x) && decide (x ≤ hi)) = Int32.ofNat 1 := by rw [decide_eq_true c1, decide_eq_true c2]; rfl
        rw [hb]
        simp (disch := first | assumption | omega | decide) only [gB, I_all, zK_v, zK_n, true_and, and_true, Nat.reduceAdd, Nat.reduceMul, Nat.reduceSub, z_lt, z_le, z_neq, not_false_eq_true, or_true, true_or, or_false, false_or, false_and, and_false, gX7_isByte, F, R, K, e, t2, q, z_b1]
      · have c2' : hi < x := Int32.not_le.mp c2
        have hb : boI (decide (lo ≤ x) && decide (x ≤ hi)) = Int32.ofNat 0 := by rw [decide_eq_true c1, decide_eq_false c2]; rfl
        rw [hb]
        simp (disch := first | assumption | omega | decide) only [gB, I_all, zK_v, zK_n, true_and, and_true, Nat.reduceAdd, Nat.reduceMul, Nat.reduceSub, z_lt, z_le, z_neq, not_false_eq_true, or_true, true_or, or_false, false_or, false_and, and_false, gX7_isByte, F, R, K, e, t2, q, z_b0]
    · have c1' : x < lo := Int32.not_le.mp c1
      have hb : boI (decide (lo ≤ x) && decide (x ≤ hi)) = Int32.ofNat 0 := by rw [decide_eq_false c1]; rfl
      rw [hb]
      simp (disch := first | assumption | omega | decide) only [gB, I_all, zK_v, zK_n, true_and, and_true, Nat.reduceAdd, Nat.reduceMul, Nat.reduceSub, z_lt, z_le, z_neq, not_false_eq_true, or_true, true_or, or_false, false_or, false_and, and_false, gX7_isByte, F, R, K, e, t2, q, z_b0]
  · have g1 : tp[i]? = none := List.getElem?_eq_none (by omega)
    rw [g1]
    have hb : boI false = Int32.ofNat 0 := rfl
    dsimp only
    rw [hb]
    simp (disch := first | assumption | omega | decide) only [gB, I_all, zK_v, zK_n, true_and, and_true, Nat.reduceAdd, Nat.reduceMul, Nat.reduceSub, z_lt, z_le, z_neq, not_false_eq_true, or_true, true_or, or_false, false_or, false_and, and_false, gX7_isByte, F, R, K, e, t2, z_b0]
theorem lcmp_e {x y : Int64} (h : x = y) : lg_cmp x y = Int32.ofNat 0 := (lg_cmp_eq x y).mpr h
theorem lcmp_n {x y : Int64} (h : ¬ x = y) : ¬ lg_cmp x y = Int32.ofNat 0 := fun e => h ((lg_cmp_eq x y).mp e)
theorem e7_isKey {w : Int64} : Ev κ mX7_isKey [.long w] h Q = Q (.inl (some (.int (boI (isKeyW w))))) h := by
  have key : isKeyW w = true → ∃ k, k < 18 ∧ w = kwC k := by
    intro hk
    obtain ⟨k, h1, h2⟩ := List.any_eq_true.mp hk
    exact ⟨k, List.mem_range.mp h1, of_decide_eq_true h2⟩
  by_cases c : isKeyW w = true
  · have hb : boI (isKeyW w) = Int32.ofNat 1 := by rw [c]; rfl
    rw [hb]
    obtain ⟨k, h1, h2⟩ := key c
    have hc : k = 0 ∨ k = 1 ∨ k = 2 ∨ k = 3 ∨ k = 4 ∨ k = 5 ∨ k = 6 ∨ k = 7 ∨ k = 8 ∨ k = 9 ∨ k = 10 ∨ k = 11 ∨ k = 12 ∨ k = 13 ∨ k = 14 ∨ k = 15 ∨ k = 16 ∨ k = 17 := by omega
    rcases hc with rfl | rfl | rfl | rfl | rfl | rfl | rfl | rfl | rfl | rfl | rfl | rfl | rfl | rfl | rfl | rfl | rfl | rfl <;> subst h2 <;> simp only [kwC] <;> simp (disch := first | assumption | omega | decide) only [gB, I_all, zK_v, zK_n, true_and, and_true, Nat.reduceAdd, Nat.reduceMul, Nat.reduceSub, z_lt, z_le, z_neq, not_false_eq_true, or_true, true_or, or_false, false_or, false_and, and_false, gX7_isKey_1, gX7_isKey_2, lcmp_e, lcmp_n, z_b1]
  · have hb : boI (isKeyW w) = Int32.ofNat 0 := by rw [Bool.eq_false_iff.mpr c]; rfl
    rw [hb]
    have ne : ∀ k, k < 18 → ¬ w = kwC k := by
      intro k hk e
      apply c
      exact List.any_eq_true.mpr ⟨k, List.mem_range.mpr hk, decide_eq_true e⟩
    have c0 := lcmp_n (ne 0 (by decide))
    have c1 := lcmp_n (ne 1 (by decide))
    have c2 := lcmp_n (ne 2 (by decide))
    have c3 := lcmp_n (ne 3 (by decide))
    have c4 := lcmp_n (ne 4 (by decide))
    have c5 := lcmp_n (ne 5 (by decide))
    have c6 := lcmp_n (ne 6 (by decide))
    have c7 := lcmp_n (ne 7 (by decide))
    have c8 := lcmp_n (ne 8 (by decide))
    have c9 := lcmp_n (ne 9 (by decide))
    have c10 := lcmp_n (ne 10 (by decide))
    have c11 := lcmp_n (ne 11 (by decide))
    have c12 := lcmp_n (ne 12 (by decide))
    have c13 := lcmp_n (ne 13 (by decide))
    have c14 := lcmp_n (ne 14 (by decide))
    have c15 := lcmp_n (ne 15 (by decide))
    have c16 := lcmp_n (ne 16 (by decide))
    have c17 := lcmp_n (ne 17 (by decide))
    simp only [kwC] at c0 c1 c2 c3 c4 c5 c6 c7 c8 c9 c10 c11 c12 c13 c14 c15 c16 c17
    simp (disch := first | assumption | omega | decide) only [gB, I_all, zK_v, zK_n, true_and, and_true, Nat.reduceAdd, Nat.reduceMul, Nat.reduceSub, z_lt, z_le, z_neq, not_false_eq_true, or_true, true_or, or_false, false_or, false_and, and_false, gX7_isKey_1, gX7_isKey_2, z_b0]
end
