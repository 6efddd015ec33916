/-! the twin: the story, the setup -/
def dcI (x : Int32) : List Int32 := decL x.toNatClampNeg
def knL : Nat → List Int32
  | 0 => wordL (Int64.ofNat 2799720)
  | 1 => wordL (Int64.ofNat 20459828)
  | 2 => wordL (Int64.ofNat 267652)
  | 3 => wordL (Int64.ofNat 398548)
  | _ => wordL (Int64.ofNat 218508)
def lgL (Y : Sy) (r : Lg) : List Int32 := dcI r.1 ++ [Int32.ofNat 32] ++ knL r.2.1 ++ [Int32.ofNat 32] ++ decL r.2.2.1 ++ [Int32.ofNat 32] ++ nmL Y r.2.2.2.1 ++ [Int32.ofNat 32] ++ dcI r.2.2.2.2 ++ [Int32.ofNat 10]
def stL (Y : Sy) : List Lg → List Int32
  | [] => []
  | r :: l => lgL Y r ++ stL Y l
theorem stL_snoc (Y : Sy) (l : List Lg) (r : Lg) : stL Y (l ++ [r]) = stL Y l ++ lgL Y r := by
  induction l with
  | nil => show lgL Y r ++ [] = [] ++ lgL Y r; simp
  | cons q l ih =>
    show lgL Y q ++ stL Y (l ++ [r]) = lgL Y q ++ stL Y l ++ lgL Y r
    rw [ih, List.append_assoc]
theorem knL_len (k : Nat) : (knL k).length ≤ 9 := by
  unfold knL
  split <;> exact wordL_len _
theorem lgL_len (Y : Sy) (r : Lg) : (lgL Y r).length ≤ 100 := by
  have h1 := decL_len r.1.toNatClampNeg
  have h2 := decL_len r.2.2.1
  have h3 := decL_len r.2.2.2.2.toNatClampNeg
  have h4 := wordL_len (plT (yP Y) 3 r.2.2.2.1).toInt64
  have h5 := knL_len r.2.1
  unfold lgL nmL dcI
  simp only [List.length_append, List.length_cons, List.length_nil]
  omega
theorem stL_len (Y : Sy) (l : List Lg) : (stL Y l).length ≤ 100 * l.length := by
  induction l with
  | nil => exact Nat.le_refl _
  | cons r l ih =>
    have := lgL_len Y r
    show (lgL Y r ++ stL Y l).length ≤ 100 * (l.length + 1)
    rw [List.length_append]
    omega
def prL (w : Int64) (v : Int32) (c : Int32) : List Int32 := wordL w ++ [Int32.ofNat 32] ++ dcI v ++ [c]
def naL (w : Int64) (v : Int32) : List Int32 := wordL w ++ [Int32.ofNat 32] ++ wordL v.toInt64 ++ [Int32.ofNat 32]
theorem prL_len (w : Int64) (v c : Int32) : (prL w v c).length ≤ 21 := by
  have h1 := wordL_len w
  have h2 := decL_len v.toNatClampNeg
  unfold prL dcI
  simp only [List.length_append, List.length_cons, List.length_nil]
  omega
theorem naL_len (w : Int64) (v : Int32) : (naL w v).length ≤ 20 := by
  have h1 := wordL_len w
  have h2 := wordL_len v.toInt64
  unfold naL
  simp only [List.length_append, List.length_cons, List.length_nil]
  omega
section
variable {κ : zC} {h : zH} {b : Nat} {W : Nat → Nat → Int32} {SM : Nat → Nat → Int64} {Q : zQ} {Y : Sy} {π : Pl}
theorem nnI {x : Int32} (h : 0 ≤ x.toInt) : x = Int32.ofNat x.toNatClampNeg ∧ x.toNatClampNeg < 2147483648 := by
  obtain ⟨n, h1, -, -, h3⟩ := btw_nat (x := x) (l := 0) (u := 2147483647) ⟨h, by have := Int32.toInt_lt x; omega⟩
  subst h1
  rw [I_nat h3]
  exact ⟨rfl, h3⟩
theorem e7_saysNumberI {i v : Int32} {l : List Int32} (S : TSh κ h b) (hl : l.length + 10 < 1000000) (hv : 0 ≤ v.toInt) : Ev κ mX7_saysNumber [.ref b, .int v] (hX h b 33 (txW W i l) SM) Q = Q (.inl none) (hX h b 33 (txW W i (l ++ dcI v)) SM) := by
  obtain ⟨h1, h2⟩ := nnI hv
  have := e7_saysNumber (κ := κ) (W := W) (SM := SM) (Q := Q) (i := i) (l := l) (n := v.toNatClampNeg) S hl h2
  rw [← h1] at this
  exact this
theorem e7_saysPair {i v c : Int32} {w : Int64} {l : List Int32} (S : TSh κ h b) (hl : l.length + 30 < 1000000) (hv : 0 ≤ v.toInt) : Ev κ mX7_saysPair [.ref b, .long w, .int v, .int c] (hX h b 33 (txW W i l) SM) Q = Q (.inl none) (hX h b 33 (txW W i (l ++ prL w v c)) SM) := by
  have R := xR S
  have h1 := wordL_len w
  have h2 := decL_len v.toNatClampNeg
  have es := fun (l : List Int32) (c : Int32) (hl : l.length < 1000000) (Q : zQ) => e7_says (κ := κ) (W := W) (SM := SM) (Q := Q) (i := i) (l := l) (c := c) S hl
  have ew := fun (l : List Int32) (w : Int64) (hl : l.length + 9 < 1000000) (Q : zQ) => e7_saysWord (κ := κ) (W := W) (SM := SM) (Q := Q) (i := i) (l := l) (w := w) S hl
  have en := fun (l : List Int32) (hl : l.length + 10 < 1000000) (Q : zQ) => e7_saysNumberI (κ := κ) (W := W) (SM := SM) (Q := Q) (i := i) (v := v) (l := l) S hl hv
  have g1 : l.length + 9 < 1000000 := by omega
  have g2 : (l ++ wordL w).length < 1000000 := by rw [List.length_append]; omega
  have g3 : (l ++ wordL w ++ [Int32.ofNat 32]).length + 10 < 1000000 := by simp only [List.length_append, List.length_cons, List.length_nil]; omega
  have g4 : (l ++ wordL w ++ [Int32.ofNat 32] ++ dcI v).length < 1000000 := by unfold dcI; simp only [List.length_append, List.length_cons, List.length_nil]; omega
  have el : l ++ prL w v c = l ++ wordL w ++ [Int32.ofNat 32] ++ dcI v ++ [c] := by
    unfold prL
    simp only [List.append_assoc]
  rw [el]
  simp (disch := first | assumption | omega | decide) only [gB, I_all, zK_v, zK_n, true_and, and_true, Nat.reduceAdd, Nat.reduceMul, Nat.reduceSub, z_lt, z_le, z_neq, not_false_eq_true, or_true, true_or, or_false, false_or, false_and, and_false, gX7_saysPair, R, hK_X, es, ew, en]
theorem e7_saysName {i v : Int32} {w : Int64} {l : List Int32} (S : TSh κ h b) (hl : l.length + 30 < 1000000) : Ev κ mX7_saysName [.ref b, .long w, .int v] (hX h b 33 (txW W i l) SM) Q = Q (.inl none) (hX h b 33 (txW W i (l ++ naL w v)) SM) := by
  have R := xR S
  have h1 := wordL_len w
  have h2 := wordL_len v.toInt64
  have es := fun (l : List Int32) (c : Int32) (hl : l.length < 1000000) (Q : zQ) => e7_says (κ := κ) (W := W) (SM := SM) (Q := Q) (i := i) (l := l) (c := c) S hl
  have ew := fun (l : List Int32) (w : Int64) (hl : l.length + 9 < 1000000) (Q : zQ) => e7_saysWord (κ := κ) (W := W) (SM := SM) (Q := Q) (i := i) (l := l) (w := w) S hl
  have g1 : l.length + 9 < 1000000 := by omega
  have g2 : (l ++ wordL w).length < 1000000 := by rw [List.length_append]; omega
  have g3 : (l ++ wordL w ++ [Int32.ofNat 32]).length + 9 < 1000000 := by simp only [List.length_append, List.length_cons, List.length_nil]; omega
  have g4 : (l ++ wordL w ++ [Int32.ofNat 32] ++ wordL v.toInt64).length < 1000000 := by simp only [List.length_append, List.length_cons, List.length_nil]; omega
  have el : l ++ naL w v = l ++ wordL w ++ [Int32.ofNat 32] ++ wordL v.toInt64 ++ [Int32.ofNat 32] := by
    unfold naL
    simp only [List.append_assoc]
  rw [el]
  simp (disch := first | assumption | omega | decide) only [gB, I_all, zK_v, zK_n, true_and, and_true, Nat.reduceAdd, Nat.reduceMul, Nat.reduceSub, z_lt, z_le, z_neq, not_false_eq_true, or_true, true_or, or_false, false_or, false_and, and_false, gX7_saysName, R, hK_X, es, ew]
theorem e7_wordOf {k : Nat} (hk : k < 5) : Ev κ mX7_wordOf [.int (Int32.ofNat k)] h Q = Q (.inl (some (.long (if k = 0 then Int64.ofNat 2799720 else if k = 1 then Int64.ofNat 20459828 else if k = 2 then Int64.ofNat 267652 else if k = 3 then Int64.ofNat 398548 else Int64.ofNat 218508)))) h := by
  have hc : k = 0 ∨ k = 1 ∨ k = 2 ∨ k = 3 ∨ k = 4 := by omega
  rcases hc with rfl | rfl | rfl | rfl | rfl
  · simp (disch := first | assumption | omega | decide) only [gB, I_all, zK_v, zK_n, true_and, and_true, Nat.reduceAdd, Nat.reduceMul, Nat.reduceSub, z_lt, z_le, z_neq, not_false_eq_true, or_true, true_or, or_false, false_or, false_and, and_false, gX7_wordOf, if_true]
  · simp (disch := first | assumption | omega | decide) only [gB, I_all, zK_v, zK_n, true_and, and_true, Nat.reduceAdd, Nat.reduceMul, Nat.reduceSub, z_lt, z_le, z_neq, not_false_eq_true, or_true, true_or, or_false, false_or, false_and, and_false, gX7_wordOf]; rfl
  · simp (disch := first | assumption | omega | decide) only [gB, I_all, zK_v, zK_n, true_and, and_true, Nat.reduceAdd, Nat.reduceMul, Nat.reduceSub, z_lt, z_le, z_neq, not_false_eq_true, or_true, true_or, or_false, false_or, false_and, and_false, gX7_wordOf]; rfl
  · simp (disch := first | assumption | omega | decide) only [gB, I_all, zK_v, zK_n, true_and, and_true, Nat.reduceAdd, Nat.reduceMul, Nat.reduceSub, z_lt, z_le, z_neq, not_false_eq_true, or_true, true_or, or_false, false_or, false_and, and_false, gX7_wordOf]; rfl
  · simp (disch := first | assumption | omega | decide) only [gB, I_all, zK_v, zK_n, true_and, and_true, Nat.reduceAdd, Nat.reduceMul, Nat.reduceSub, z_lt, z_le, z_neq, not_false_eq_true, or_true, true_or, or_false, false_or, false_and, and_false, gX7_wordOf]; rfl
theorem knL_w {k : Nat} (hk : k < 5) : wordL (if k = 0 then Int64.ofNat 2799720 else if k = 1 then Int64.ofNat 20459828 else if k = 2 then Int64.ofNat 267652 else if k = 3 then Int64.ofNat 398548 else Int64.ofNat 218508) = knL k := by
  have hc : k = 0 ∨ k = 1 ∨ k = 2 ∨ k = 3 ∨ k = 4 := by omega
  rcases hc with rfl | rfl | rfl | rfl | rfl <;> rfl
def lOk (σ : Sg) : Prop := ∀ r ∈ sG σ, 0 ≤ r.1.toInt ∧ 0 ≤ r.2.2.2.2.toInt
theorem e7_saysStory {i : Int32} (S : TSh κ h b) (T : TIn W SM Y) (L : lOk (yS Y)) : Ev κ mX7_saysStory [.ref b, .int i] (hX h b 33 W SM) Q = Q (.inl none) (hX h b 33 (txW W i (stL Y (sG (yS Y)))) SM) := by
  have F := xF S
  have R := xR S
  have K := xK S
  have O := T.2.2.2.2.2.2
  have hns := O.1
  have p3 : ∀ j, j < plN (yP Y) 0 → W 3 j = plT (yP Y) 3 j := T.1.2.2.2.2.2.2.1 3 (by decide)
  obtain ⟨r1, r2⟩ := T.2.1.1.2.2.2.2.1
  obtain ⟨-, -, -, o1, o2⟩ := T.2.1.2
  unfold lOk at L
  generalize sG (yS Y) = l at *
  have lp : ∀ d k (a3 : Option Value), k + d = l.length → Go κ mX7_saysStory 7 [some (.ref b), some (.int i), some (.int (Int32.ofNat k)), a3] [] (hX h b 33 (txW W i (stL Y (l.take k))) SM) Q = Q (.inl none) (hX h b 33 (txW W i (stL Y l)) SM) := by
    intro d
    induction d with
    | zero =>
      intro k a3 hk
      have hk' : k = l.length := by omega
      have r1' : W 13 12 = Int32.ofNat k := by rw [r1, hk']
      have et : l.take k = l := by rw [hk', List.take_length]
      rw [et]
      simp (disch := first | assumption | omega | decide) only [gB, I_all, zK_v, zK_n, true_and, and_true, Nat.reduceAdd, Nat.reduceMul, Nat.reduceSub, z_lt, z_le, z_neq, not_false_eq_true, or_true, true_or, or_false, false_or, false_and, and_false, gX7_saysStory_h]
      simp (disch := first | assumption | omega | decide) only [gB, I_all, zK_v, zK_n, true_and, and_true, Nat.reduceAdd, Nat.reduceMul, Nat.reduceSub, z_lt, z_le, z_neq, not_false_eq_true, or_true, true_or, or_false, false_or, false_and, and_false, gX7_saysStory, F, R, K, tx_n, r1']
    | succ d ih =>
      intro k a3 hk
      have hk1 : k < l.length := by omega
      have ih' := fun a3 => ih (k + 1) a3 (by omega)
      have g1 : l[k]? = some l[k] := List.getElem?_eq_getElem hk1
      obtain ⟨q1, q2, q3, q4, q5⟩ := r2 k _ g1
      obtain ⟨u1, u2, u3⟩ := o2 _ (List.getElem_mem hk1)
      obtain ⟨v1, v2⟩ := L _ (List.getElem_mem hk1)
      have et : l.take (k + 1) = l.take k ++ [l[k]] := by rw [List.take_add_one, g1]; rfl
      rw [et, stL_snoc] at ih'
      have hlen := stL_len Y (l.take k)
      rw [List.length_take, Nat.min_eq_left (by omega)] at hlen
      generalize l[k] = r at *
      generalize stL Y (l.take k) = l0 at *
      have h1 := decL_len r.1.toNatClampNeg
      have h2 := decL_len r.2.2.1
      have h3 := decL_len r.2.2.2.2.toNatClampNeg
      have h4 := wordL_len (plT (yP Y) 3 r.2.2.2.1).toInt64
      have h5 := knL_len r.2.1
      have es := fun (l : List Int32) (c : Int32) (hl : l.length < 1000000) (Q : zQ) => e7_says (κ := κ) (W := W) (SM := SM) (Q := Q) (i := i) (l := l) (c := c) S hl
      have ew := fun (l : List Int32) (w : Int64) (hl : l.length + 9 < 1000000) (Q : zQ) => e7_saysWord (κ := κ) (W := W) (SM := SM) (Q := Q) (i := i) (l := l) (w := w) S hl
      have en := fun (l : List Int32) (n : Nat) (hl : l.length + 10 < 1000000) (hn : n < 2147483648) (Q : zQ) => e7_saysNumber (κ := κ) (W := W) (SM := SM) (Q := Q) (i := i) (l := l) (n := n) S hl hn
      have eI := fun (l : List Int32) (v : Int32) (hv : 0 ≤ v.toInt) (hl : l.length + 10 < 1000000) (Q : zQ) => e7_saysNumberI (κ := κ) (W := W) (SM := SM) (Q := Q) (i := i) (v := v) (l := l) S hl hv
      have eI1 := fun l => eI l r.1 v1
      have eI2 := fun l => eI l r.2.2.2.2 v2
      have eo := fun (h : zH) (Q : zQ) => e7_wordOf (κ := κ) (h := h) (Q := Q) (k := r.2.1) u1
      have ek := knL_w u1
      have el : l0 ++ lgL Y r = l0 ++ dcI r.1 ++ [Int32.ofNat 32] ++ knL r.2.1 ++ [Int32.ofNat 32] ++ decL r.2.2.1 ++ [Int32.ofNat 32] ++ wordL (plT (yP Y) 3 r.2.2.2.1).toInt64 ++ [Int32.ofNat 32] ++ dcI r.2.2.2.2 ++ [Int32.ofNat 10] := by
        unfold lgL nmL
        simp only [List.append_assoc]
      rw [el] at ih'
      generalize (if r.2.1 = 0 then Int64.ofNat 2799720 else if r.2.1 = 1 then Int64.ofNat 20459828 else if r.2.1 = 2 then Int64.ofNat 267652 else if r.2.1 = 3 then Int64.ofNat 398548 else Int64.ofNat 218508) = kw at *
      have d1 : (dcI r.1).length ≤ 10 := h1
      have d2 : (dcI r.2.2.2.2).length ≤ 10 := h3
      have g1 : l0.length + 10 < 1000000 := by omega
      have g2 : (l0 ++ dcI r.1).length < 1000000 := by simp only [List.length_append, List.length_cons, List.length_nil]; omega
      have g3 : (l0 ++ dcI r.1 ++ [Int32.ofNat 32]).length + 9 < 1000000 := by simp only [List.length_append, List.length_cons, List.length_nil]; omega
      have g4 : (l0 ++ dcI r.1 ++ [Int32.ofNat 32] ++ knL r.2.1).length < 1000000 := by simp only [List.length_append, List.length_cons, List.length_nil]; omega
      have g5 : (l0 ++ dcI r.1 ++ [Int32.ofNat 32] ++ knL r.2.1 ++ [Int32.ofNat 32]).length + 10 < 1000000 := by simp only [List.length_append, List.length_cons, List.length_nil]; omega
      have g6 : (l0 ++ dcI r.1 ++ [Int32.ofNat 32] ++ knL r.2.1 ++ [Int32.ofNat 32] ++ decL r.2.2.1).length < 1000000 := by simp only [List.length_append, List.length_cons, List.length_nil]; omega
      have g7 : (l0 ++ dcI r.1 ++ [Int32.ofNat 32] ++ knL r.2.1 ++ [Int32.ofNat 32] ++ decL r.2.2.1 ++ [Int32.ofNat 32]).length + 9 < 1000000 := by simp only [List.length_append, List.length_cons, List.length_nil]; omega
      have g8 : (l0 ++ dcI r.1 ++ [Int32.ofNat 32] ++ knL r.2.1 ++ [Int32.ofNat 32] ++ decL r.2.2.1 ++ [Int32.ofNat 32] ++ wordL (plT (yP Y) 3 r.2.2.2.1).toInt64).length < 1000000 := by simp only [List.length_append, List.length_cons, List.length_nil]; omega
      have g9 : (l0 ++ dcI r.1 ++ [Int32.ofNat 32] ++ knL r.2.1 ++ [Int32.ofNat 32] ++ decL r.2.2.1 ++ [Int32.ofNat 32] ++ wordL (plT (yP Y) 3 r.2.2.2.1).toInt64 ++ [Int32.ofNat 32]).length + 10 < 1000000 := by simp only [List.length_append, List.length_cons, List.length_nil]; omega
      have g10 : (l0 ++ dcI r.1 ++ [Int32.ofNat 32] ++ knL r.2.1 ++ [Int32.ofNat 32] ++ decL r.2.2.1 ++ [Int32.ofNat 32] ++ wordL (plT (yP Y) 3 r.2.2.2.1).toInt64 ++ [Int32.ofNat 32] ++ dcI r.2.2.2.2).length < 1000000 := by simp only [List.length_append, List.length_cons, List.length_nil]; omega
      simp (disch := first | assumption | omega | decide) only [gB, I_all, zK_v, zK_n, true_and, and_true, Nat.reduceAdd, Nat.reduceMul, Nat.reduceSub, z_lt, z_le, z_neq, not_false_eq_true, or_true, true_or, or_false, false_or, false_and, and_false, gX7_saysStory_h]
      simp (disch := first | assumption | omega | decide) only [gB, I_all, zK_v, zK_n, true_and, and_true, Nat.reduceAdd, Nat.reduceMul, Nat.reduceSub, z_lt, z_le, z_neq, not_false_eq_true, or_true, true_or, or_false, false_or, false_and, and_false, gX7_saysStory, F, R, K, tx_n, r1, p3, q1, q2, q3, q4, q5, es, ew, en, eI1, eI2, eo, ek]
      exact ih' _
  have := lp l.length 0 none (by omega)
  rw [List.take_zero, show stL Y [] = [] from rfl] at this
  have st := fun (Q : zQ) => e7_startsText (κ := κ) (W := W) (SM := SM) (Q := Q) (i := i) S
  simp (disch := first | assumption | omega | decide) only [gB, I_all, zK_v, zK_n, true_and, and_true, Nat.reduceAdd, Nat.reduceMul, Nat.reduceSub, z_lt, z_le, z_neq, not_false_eq_true, or_true, true_or, or_false, false_or, false_and, and_false, gX7_saysStory, R, hK_X, st]
  exact this
theorem e7_storyLength (S : TSh κ h b) (T : TIn W SM Y) (L : lOk (yS Y)) (hq : ∀ W', TIn W' SM Y → Q (.inl (some (.int (Int32.ofNat (stL Y (sG (yS Y))).length)))) (hX h b 33 W' SM)) : Ev κ mX7_storyLength [.ref b] (hX h b 33 W SM) Q := by
  have F := xF S
  have R := xR S
  have es := fun (Q : zQ) => e7_saysStory (κ := κ) (Q := Q) (i := Int32.ofInt (-1)) S T L
  simp (disch := first | assumption | omega | decide) only [gB, I_all, zK_v, zK_n, true_and, and_true, Nat.reduceAdd, Nat.reduceMul, Nat.reduceSub, z_lt, z_le, z_neq, not_false_eq_true, or_true, true_or, or_false, false_or, false_and, and_false, gX7_storyLength, F, R, es, tx_5]
  exact hq _ (T.tx _ _)
theorem e7_storyByte {i : Int32} (S : TSh κ h b) (T : TIn W SM Y) (L : lOk (yS Y)) (hq : ∀ W', TIn W' SM Y → Q (.inl (some (.int (byA (stL Y (sG (yS Y))) i)))) (hX h b 33 W' SM)) : Ev κ mX7_storyByte [.ref b, .int i] (hX h b 33 W SM) Q := by
  have F := xF S
  have R := xR S
  have es := fun (Q : zQ) => e7_saysStory (κ := κ) (Q := Q) (i := i) S T L
  unfold byA at hq
  by_cases c : i < Int32.ofNat 0
  · have c' : ¬ Int32.ofNat 0 ≤ i := Int32.not_le.mpr c
    rw [if_pos c] at hq
    simp (disch := first | assumption | omega | decide) only [gB, I_all, zK_v, zK_n, true_and, and_true, Nat.reduceAdd, Nat.reduceMul, Nat.reduceSub, z_lt, z_le, z_neq, not_false_eq_true, or_true, true_or, or_false, false_or, false_and, and_false, gX7_storyByte, F, R]
    exact hq _ T
  · have c' : Int32.ofNat 0 ≤ i := Int32.not_lt.mp c
    rw [if_neg c] at hq
    simp (disch := first | assumption | omega | decide) only [gB, I_all, zK_v, zK_n, true_and, and_true, Nat.reduceAdd, Nat.reduceMul, Nat.reduceSub, z_lt, z_le, z_neq, not_false_eq_true, or_true, true_or, or_false, false_or, false_and, and_false, gX7_storyByte, F, R, es, tx_7]
    exact hq _ (T.tx _ _)
end
