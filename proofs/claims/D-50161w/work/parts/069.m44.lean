/-! the twin: the texts -/
def nmL (Y : Sy) (s : Nat) : List Int32 := wordL (plT (yP Y) 3 s).toInt64
theorem wordL_len (w : Int64) : (wordL w).length ≤ 9 := wdF_len w 9
theorem decL_len (n : Nat) : (decL n).length ≤ 10 := by
  unfold decL
  rw [dgs_len]
  exact (nd_le n).2
/-- buses at a stop, of the first k -/
def bsL (σ : Sg) (s : Nat) (at_ : Bool) : Nat → List Int32
  | 0 => []
  | k + 1 => bsL σ s at_ k ++ (if bI σ k 1 = s ∧ ¬ bI σ k 0 = 0 ∧ decide (2 ≤ bI σ k 0) = at_ then [Int32.ofNat 32, if at_ = true then Int32.ofNat 42 else Int32.ofNat 45] ++ decL k else [])
theorem bsL_len (σ : Sg) (s : Nat) (a : Bool) : ∀ k, (bsL σ s a k).length ≤ 12 * k := by
  intro k
  induction k with
  | zero => exact Nat.le_refl _
  | succ k ih =>
    have := decL_len k
    unfold bsL
    rw [List.length_append]
    split <;> simp <;> omega
def bdS (Y : Sy) (s : Nat) : List Int32 := nmL Y s ++ [Int32.ofNat 32] ++ decL (sR (yS Y) s).length ++ bsL (yS Y) s true (plN (yP Y) 1) ++ bsL (yS Y) s false (plN (yP Y) 1) ++ [Int32.ofNat 10]
def bdL (Y : Sy) : Nat → List Int32
  | 0 => []
  | k + 1 => bdL Y k ++ bdS Y k
theorem bdS_len (Y : Sy) (s : Nat) (h : plN (yP Y) 1 ≤ 6) : (bdS Y s).length ≤ 200 := by
  have h1 := bsL_len (yS Y) s true (plN (yP Y) 1)
  have h2 := bsL_len (yS Y) s false (plN (yP Y) 1)
  have h3 := decL_len (sR (yS Y) s).length
  have h4 := wordL_len (plT (yP Y) 3 s).toInt64
  unfold bdS nmL
  simp only [List.length_append, List.length_cons, List.length_nil]
  omega
theorem bdL_len (Y : Sy) (h : plN (yP Y) 1 ≤ 6) : ∀ k, (bdL Y k).length ≤ 200 * k := by
  intro k
  induction k with
  | zero => exact Nat.le_refl _
  | succ k ih =>
    have := bdS_len Y k h
    unfold bdL
    rw [List.length_append]
    omega
section
variable {κ : zC} {h : zH} {b : Nat} {W : Nat → Nat → Int32} {SM : Nat → Nat → Int64} {Q : zQ} {Y : Sy} {π : Pl}
theorem TIn.tx (T : TIn W SM Y) (i : Int32) (l : List Int32) : TIn (txW W i l) SM Y := T.scT (fun k j hk => tx_n (by unfold scr at hk; omega)) (fun _ _ _ => rfl)
theorem e7_saysBuses {i : Int32} {l : List Int32} {s : Nat} {a : Bool} (S : TSh κ h b) (T : TIn W SM Y) (hs10 : s < 10) (hl : l.length + 200 < 1000000) : Ev κ mX7_saysBuses [.ref b, .int (Int32.ofNat s), .int (boI a)] (hX h b 33 (txW W i l) SM) Q = Q (.inl none) (hX h b 33 (txW W i (l ++ bsL (yS Y) s a (plN (yP Y) 1))) SM) := by
  have F := xF S
  have R := xR S
  have K := xK S
  have O := T.2.2.2.2.2.2
  have hns := O.1
  have hnb := O.2.1
  have e1 := T.1.2.1
  have lp : ∀ d k, k + d = plN (yP Y) 1 → Go κ mX7_saysBuses 2 [some (.ref b), some (.int (Int32.ofNat s)), some (.int (boI a)), some (.int (Int32.ofNat k))] [] (hX h b 33 (txW W i (l ++ bsL (yS Y) s a k)) SM) Q = Q (.inl none) (hX h b 33 (txW W i (l ++ bsL (yS Y) s a (plN (yP Y) 1))) SM) := by
    intro d
    induction d with
    | zero =>
      intro k hk
      have hk' : k = plN (yP Y) 1 := by omega
      rw [← hk']
      have e1' : W 0 76 = Int32.ofNat k := by rw [e1, hk']
      simp (disch := first | assumption | omega | decide) only [gB, I_all, zK_v, zK_n, true_and, and_true, Nat.reduceAdd, Nat.reduceMul, Nat.reduceSub, z_lt, z_le, z_neq, not_false_eq_true, or_true, true_or, or_false, false_or, false_and, and_false, gX7_saysBuses_h]
      simp (disch := first | assumption | omega | decide) only [gB, I_all, zK_v, zK_n, true_and, and_true, Nat.reduceAdd, Nat.reduceMul, Nat.reduceSub, z_lt, z_le, z_neq, not_false_eq_true, or_true, true_or, or_false, false_or, false_and, and_false, gX7_saysBuses, F, R, K, tx_n, e1']
    | succ d ih =>
      intro k hk
      have hk1 : k < plN (yP Y) 1 := by omega
      have hk6 : k < 6 := by omega
      have ih' := ih (k + 1) (by omega)
      obtain ⟨st, s', h4, hs', q0, q1⟩ := bst T.2.1.2 hk1 hk6
      have eI0 : bI (yS Y) k 0 = st := bI_of (by omega) q0
      have eI1 : bI (yS Y) k 1 = s' := bI_of (by omega) q1
      have B := T.2.1.1.2.2.2.1 k hk6
      have w0 : W 13 (164 + 13 * k + 0) = Int32.ofNat st := (B.1 0 (by decide)).trans q0
      have w1 : W 13 (164 + 13 * k + 1) = Int32.ofNat s' := (B.1 1 (by decide)).trans q1
      have eo := fun (l : List Int32) (c : Nat) (hc : c < 13) (Q : zQ) => ofX (κ := κ) (W := txW W i l) (SM := SM) (Q := Q) (k := k) (c := c) S (by omega)
      have ex : bsL (yS Y) s a (k + 1) = bsL (yS Y) s a k ++ (if s' = s ∧ ¬ st = 0 ∧ decide (2 ≤ st) = a then [Int32.ofNat 32, if a = true then Int32.ofNat 42 else Int32.ofNat 45] ++ decL k else []) := by
        conv => lhs; unfold bsL
        rw [eI0, eI1]
      have hlen := bsL_len (yS Y) s a k
      rw [ex, ← List.append_assoc] at ih'
      have hl2 : (l ++ bsL (yS Y) s a k).length < 900000 + 1000 ∨ True := Or.inr trivial
      have hl3 : (l ++ bsL (yS Y) s a k).length + 30 < 1000000 := by rw [List.length_append]; omega
      generalize l ++ bsL (yS Y) s a k = l0 at *
      have w0' : txW W i l0 13 (164 + 13 * k + 0) = Int32.ofNat st := by rw [tx_n (by omega)]; exact w0
      have ea := fun (Q : zQ) => isAtX (κ := κ) (W := txW W i l0) (SM := SM) (Q := Q) (k := k) S hk6 h4 w0'
      have es := fun (l : List Int32) (c : Int32) (hl : l.length < 1000000) (Q : zQ) => e7_says (κ := κ) (W := W) (SM := SM) (Q := Q) (i := i) (l := l) (c := c) S hl
      simp (disch := first | assumption | omega | decide) only [gB, I_all, zK_v, zK_n, true_and, and_true, Nat.reduceAdd, Nat.reduceMul, Nat.reduceSub, z_lt, z_le, z_neq, not_false_eq_true, or_true, true_or, or_false, false_or, false_and, and_false, gX7_saysBuses_h]
      by_cases c1 : s' = s
      · by_cases c2 : st = 0
        · rw [if_neg (fun z => z.2.1 c2), List.append_nil] at ih'
          simp (disch := first | assumption | omega | decide) only [gB, I_all, zK_v, zK_n, true_and, and_true, Nat.reduceAdd, Nat.reduceMul, Nat.reduceSub, z_lt, z_le, z_neq, not_false_eq_true, or_true, true_or, or_false, false_or, false_and, and_false, gX7_saysBuses, F, R, K, e1, tx_n, eo, w0, w1]
          exact ih'
        · have fin : decide (2 ≤ st) = a → ∀ c, c = (if a = true then Int32.ofNat 42 else Int32.ofNat 45) → Ev κ mX7_saysNumber [.ref b, .int (Int32.ofNat k)] (hX h b 33 (txW W i (l0 ++ [Int32.ofNat 32] ++ [c])) SM) (zK κ mX7_saysBuses 61 3 [some (.ref b), some (.int (Int32.ofNat s)), some (.int (boI a)), some (.int (Int32.ofNat k))] [] Q) = Q (.inl none) (hX h b 33 (txW W i (l ++ bsL (yS Y) s a (plN (yP Y) 1))) SM) := by
            intro c3 c hc
            rw [if_pos ⟨c1, c2, c3⟩, ← hc] at ih'
            rw [e7_saysNumber S (by simp only [List.length_append, List.length_cons, List.length_nil]; omega) (by omega)]
            have el : l0 ++ [Int32.ofNat 32] ++ [c] ++ decL k = l0 ++ ([Int32.ofNat 32, c] ++ decL k) := by simp
            rw [el]
            simp (disch := first | assumption | omega | decide) only [gB, I_all, zK_v, zK_n, true_and, and_true, Nat.reduceAdd, Nat.reduceMul, Nat.reduceSub, z_lt, z_le, z_neq, not_false_eq_true, or_true, true_or, or_false, false_or, false_and, and_false, gX7_saysBuses, R]
            exact ih'
          have l1 : l0.length < 1000000 := by omega
          have l2 : (l0 ++ [Int32.ofNat 32]).length < 1000000 := by rw [List.length_append]; simp; omega
          cases a with
          | true =>
            have hp : boI true = Int32.ofNat 1 := rfl
            rw [hp] at ih' fin ⊢
            by_cases c3 : 2 ≤ st
            · simp only [if_pos c3] at ea
              have f := fin (decide_eq_true c3) (Int32.ofNat 42) (if_pos rfl).symm
              simp (disch := first | assumption | omega | decide) only [gB, I_all, zK_v, zK_n, true_and, and_true, Nat.reduceAdd, Nat.reduceMul, Nat.reduceSub, z_lt, z_le, z_neq, not_false_eq_true, or_true, true_or, or_false, false_or, false_and, and_false, gX7_saysBuses, F, R, K, e1, tx_n, eo, w0, w1, ea, es]
              exact f
            · simp only [if_neg c3] at ea
              rw [if_neg (fun z => by have := z.2.2; rw [decide_eq_true_iff] at this; exact c3 this), List.append_nil] at ih'
              simp (disch := first | assumption | omega | decide) only [gB, I_all, zK_v, zK_n, true_and, and_true, Nat.reduceAdd, Nat.reduceMul, Nat.reduceSub, z_lt, z_le, z_neq, not_false_eq_true, or_true, true_or, or_false, false_or, false_and, and_false, gX7_saysBuses, F, R, K, e1, tx_n, eo, w0, w1, ea, es]
              exact ih'
          | false =>
            have hp : boI false = Int32.ofNat 0 := rfl
            rw [hp] at ih' fin ⊢
            by_cases c3 : 2 ≤ st
            · simp only [if_pos c3] at ea
              rw [if_neg (fun z => by have := z.2.2; rw [decide_eq_false_iff_not] at this; exact this c3), List.append_nil] at ih'
              simp (disch := first | assumption | omega | decide) only [gB, I_all, zK_v, zK_n, true_and, and_true, Nat.reduceAdd, Nat.reduceMul, Nat.reduceSub, z_lt, z_le, z_neq, not_false_eq_true, or_true, true_or, or_false, false_or, false_and, and_false, gX7_saysBuses, F, R, K, e1, tx_n, eo, w0, w1, ea, es]
              exact ih'
            · simp only [if_neg c3] at ea
              have f := fin (decide_eq_false c3) (Int32.ofNat 45) (if_neg (by decide)).symm
              simp (disch := first | assumption | omega | decide) only [gB, I_all, zK_v, zK_n, true_and, and_true, Nat.reduceAdd, Nat.reduceMul, Nat.reduceSub, z_lt, z_le, z_neq, not_false_eq_true, or_true, true_or, or_false, false_or, false_and, and_false, gX7_saysBuses, F, R, K, e1, tx_n, eo, w0, w1, ea, es]
              exact f
      · rw [if_neg (fun z => c1 z.1), List.append_nil] at ih'
        simp (disch := first | assumption | omega | decide) only [gB, I_all, zK_v, zK_n, true_and, and_true, Nat.reduceAdd, Nat.reduceMul, Nat.reduceSub, z_lt, z_le, z_neq, not_false_eq_true, or_true, true_or, or_false, false_or, false_and, and_false, gX7_saysBuses, F, R, K, e1, tx_n, eo, w0, w1]
        exact ih'
  have := lp (plN (yP Y) 1) 0 (by omega)
  rw [show bsL (yS Y) s a 0 = [] from rfl, List.append_nil] at this
  simp (disch := first | assumption | omega | decide) only [gB, I_all, zK_v, zK_n, true_and, and_true, Nat.reduceAdd, Nat.reduceMul, Nat.reduceSub, z_lt, z_le, z_neq, not_false_eq_true, or_true, true_or, or_false, false_or, false_and, and_false, gX7_saysBuses]
  exact this
theorem e7_saysBoard {i : Int32} (S : TSh κ h b) (T : TIn W SM Y) : Ev κ mX7_saysBoard [.ref b, .int i] (hX h b 33 W SM) Q = Q (.inl none) (hX h b 33 (txW W i (bdL Y (plN (yP Y) 0))) SM) := by
  have F := xF S
  have R := xR S
  have K := xK S
  have O := T.2.2.2.2.2.2
  have hns := O.1
  have hnb := O.2.1
  have e1 := T.1.1
  have p3 : ∀ j, j < plN (yP Y) 0 → W 3 j = plT (yP Y) 3 j := T.1.2.2.2.2.2.2.1 3 (by decide)
  have lp : ∀ d k, k + d = plN (yP Y) 0 → Go κ mX7_saysBoard 7 [some (.ref b), some (.int i), some (.int (Int32.ofNat k))] [] (hX h b 33 (txW W i (bdL Y k)) SM) Q = Q (.inl none) (hX h b 33 (txW W i (bdL Y (plN (yP Y) 0))) SM) := by
    intro d
    induction d with
    | zero =>
      intro k hk
      have hk' : k = plN (yP Y) 0 := by omega
      rw [← hk']
      have e1' : W 0 75 = Int32.ofNat k := by rw [e1, hk']
      simp (disch := first | assumption | omega | decide) only [gB, I_all, zK_v, zK_n, true_and, and_true, Nat.reduceAdd, Nat.reduceMul, Nat.reduceSub, z_lt, z_le, z_neq, not_false_eq_true, or_true, true_or, or_false, false_or, false_and, and_false, gX7_saysBoard_h]
      simp (disch := first | assumption | omega | decide) only [gB, I_all, zK_v, zK_n, true_and, and_true, Nat.reduceAdd, Nat.reduceMul, Nat.reduceSub, z_lt, z_le, z_neq, not_false_eq_true, or_true, true_or, or_false, false_or, false_and, and_false, gX7_saysBoard, F, R, K, tx_n, e1']
    | succ d ih =>
      intro k hk
      have ih' := ih (k + 1) (by omega)
      have r1 : W 13 (23 + k) = Int32.ofNat (sR (yS Y) k).length := (T.2.1.1.2.1 k (by omega)).1
      have o1 := (T.2.1.2.1 k (by omega)).1
      have ex : bdL Y (k + 1) = bdL Y k ++ bdS Y k := rfl
      have hlen := bdL_len Y hnb.2 k
      rw [ex] at ih'
      generalize bdL Y k = l0 at *
      have h1 := bsL_len (yS Y) k true (plN (yP Y) 1)
      have h2 := bsL_len (yS Y) k false (plN (yP Y) 1)
      have h3 := decL_len (sR (yS Y) k).length
      have h4 := wordL_len (plT (yP Y) 3 k).toInt64
      have es := fun (l : List Int32) (c : Int32) (hl : l.length < 1000000) (Q : zQ) => e7_says (κ := κ) (W := W) (SM := SM) (Q := Q) (i := i) (l := l) (c := c) S hl
      have ew := fun (l : List Int32) (w : Int64) (hl : l.length + 9 < 1000000) (Q : zQ) => e7_saysWord (κ := κ) (W := W) (SM := SM) (Q := Q) (i := i) (l := l) (w := w) S hl
      have en := fun (l : List Int32) (n : Nat) (hl : l.length + 10 < 1000000) (hn : n < 2147483648) (Q : zQ) => e7_saysNumber (κ := κ) (W := W) (SM := SM) (Q := Q) (i := i) (l := l) (n := n) S hl hn
      have eb := fun (l : List Int32) (a : Bool) (hl : l.length + 200 < 1000000) (Q : zQ) => e7_saysBuses (κ := κ) (Q := Q) (i := i) (l := l) (s := k) (a := a) S T (by omega) hl
      have eb1 := fun (l : List Int32) => eb l true
      have eb0 := fun (l : List Int32) => eb l false
      rw [show boI true = Int32.ofNat 1 from rfl] at eb1
      rw [show boI false = Int32.ofNat 0 from rfl] at eb0
      have el : l0 ++ bdS Y k = l0 ++ wordL (plT (yP Y) 3 k).toInt64 ++ [Int32.ofNat 32] ++ decL (sR (yS Y) k).length ++ bsL (yS Y) k true (plN (yP Y) 1) ++ bsL (yS Y) k false (plN (yP Y) 1) ++ [Int32.ofNat 10] := by
        unfold bdS nmL
        simp only [List.append_assoc]
      rw [el] at ih'
      have g1 : l0.length + 9 < 1000000 := by omega
      have g2 : (l0 ++ wordL (plT (yP Y) 3 k).toInt64).length < 1000000 := by rw [List.length_append]; omega
      have g3 : (l0 ++ wordL (plT (yP Y) 3 k).toInt64 ++ [Int32.ofNat 32]).length + 10 < 1000000 := by simp only [List.length_append, List.length_cons, List.length_nil]; omega
      have g4 : (l0 ++ wordL (plT (yP Y) 3 k).toInt64 ++ [Int32.ofNat 32] ++ decL (sR (yS Y) k).length).length + 200 < 1000000 := by simp only [List.length_append, List.length_cons, List.length_nil]; omega
      have g5 : (l0 ++ wordL (plT (yP Y) 3 k).toInt64 ++ [Int32.ofNat 32] ++ decL (sR (yS Y) k).length ++ bsL (yS Y) k true (plN (yP Y) 1)).length + 200 < 1000000 := by simp only [List.length_append, List.length_cons, List.length_nil]; omega
      have g6 : (l0 ++ wordL (plT (yP Y) 3 k).toInt64 ++ [Int32.ofNat 32] ++ decL (sR (yS Y) k).length ++ bsL (yS Y) k true (plN (yP Y) 1) ++ bsL (yS Y) k false (plN (yP Y) 1)).length < 1000000 := by simp only [List.length_append, List.length_cons, List.length_nil]; omega
      simp (disch := first | assumption | omega | decide) only [gB, I_all, zK_v, zK_n, true_and, and_true, Nat.reduceAdd, Nat.reduceMul, Nat.reduceSub, z_lt, z_le, z_neq, not_false_eq_true, or_true, true_or, or_false, false_or, false_and, and_false, gX7_saysBoard_h]
      simp (disch := first | assumption | omega | decide) only [gB, I_all, zK_v, zK_n, true_and, and_true, Nat.reduceAdd, Nat.reduceMul, Nat.reduceSub, z_lt, z_le, z_neq, not_false_eq_true, or_true, true_or, or_false, false_or, false_and, and_false, gX7_saysBoard, F, R, K, tx_n, e1, p3, r1, es, ew, en, eb1, eb0]
      exact ih'
  have := lp (plN (yP Y) 0) 0 (by omega)
  rw [show bdL Y 0 = [] from rfl] at this
  have st := fun (Q : zQ) => e7_startsText (κ := κ) (W := W) (SM := SM) (Q := Q) (i := i) S
  simp (disch := first | assumption | omega | decide) only [gB, I_all, zK_v, zK_n, true_and, and_true, Nat.reduceAdd, Nat.reduceMul, Nat.reduceSub, z_lt, z_le, z_neq, not_false_eq_true, or_true, true_or, or_false, false_or, false_and, and_false, gX7_saysBoard, R, hK_X, st]
  exact this
theorem e7_boardLength (S : TSh κ h b) (T : TIn W SM Y) : Ev κ mX7_boardLength [.ref b] (hX h b 33 W SM) Q = Q (.inl (some (.int (Int32.ofNat (bdL Y (plN (yP Y) 0)).length)))) (hX h b 33 (txW W (Int32.ofInt (-1)) (bdL Y (plN (yP Y) 0))) SM) := by
  have F := xF S
  have R := xR S
  have es := fun (Q : zQ) => e7_saysBoard (κ := κ) (Q := Q) (i := Int32.ofInt (-1)) S T
  simp (disch := first | assumption | omega | decide) only [gB, I_all, zK_v, zK_n, true_and, and_true, Nat.reduceAdd, Nat.reduceMul, Nat.reduceSub, z_lt, z_le, z_neq, not_false_eq_true, or_true, true_or, or_false, false_or, false_and, and_false, gX7_boardLength, F, R, es, tx_5]
/-- the byte at a place -/
def byA (l : List Int32) (i : Int32) : Int32 := if i < Int32.ofNat 0 then Int32.ofInt (-1) else fdB l i
theorem e7_boardByte {i : Int32} (S : TSh κ h b) (T : TIn W SM Y) (hq : ∀ W', TIn W' SM Y → Q (.inl (some (.int (byA (bdL Y (plN (yP Y) 0)) i)))) (hX h b 33 W' SM)) : Ev κ mX7_boardByte [.ref b, .int i] (hX h b 33 W SM) Q := by
  have F := xF S
  have R := xR S
  have es := fun (Q : zQ) => e7_saysBoard (κ := κ) (Q := Q) (i := i) S T
  unfold byA at hq
  by_cases c : i < Int32.ofNat 0
  · have c' : ¬ Int32.ofNat 0 ≤ i := Int32.not_le.mpr c
    rw [if_pos c] at hq
    simp (disch := first | assumption | omega | decide) only [gB, I_all, zK_v, zK_n, true_and, and_true, Nat.reduceAdd, Nat.reduceMul, Nat.reduceSub, z_lt, z_le, z_neq, not_false_eq_true, or_true, true_or, or_false, false_or, false_and, and_false, gX7_boardByte, F, R]
    exact hq _ T
  · have c' : Int32.ofNat 0 ≤ i := Int32.not_lt.mp c
    rw [if_neg c] at hq
    simp (disch := first | assumption | omega | decide) only [gB, I_all, zK_v, zK_n, true_and, and_true, Nat.reduceAdd, Nat.reduceMul, Nat.reduceSub, z_lt, z_le, z_neq, not_false_eq_true, or_true, true_or, or_false, false_or, false_and, and_false, gX7_boardByte, F, R, es, tx_7]
    exact hq _ (T.tx _ _)
end
