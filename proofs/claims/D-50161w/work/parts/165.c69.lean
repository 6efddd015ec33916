/-! strings: the constants; a byte of a text -/
def strL (s : String) : List Int32 := s.toList.map fun c => Int32.ofNat c.toNat
def ascL (l : List Int32) : Prop := ∀ x ∈ l, 0 ≤ x.toInt ∧ x.toInt ≤ 127
/-- the program's string constants, the statics that its texts want -/
def KT (κ : zC) (h : zH) : Prop := ∀ (i : Nat) (z : String × Nat × String), zTx[i]? = some z → ∃ v, St h (kT κ i) v (strL z.2.2) ∧ kT κ i < kB κ ∧ v < kB κ
theorem KT.ag {κ : zC} {h h' : zH} {n : Nat} (K : KT κ h) (g : Ag h h' 0 n) (hn : kB κ ≤ n) : KT κ h' := fun i z hi => by
  obtain ⟨v, s, h1, h2⟩ := K i z hi
  exact ⟨v, s.ag g ⟨Nat.zero_le _, by omega⟩ ⟨Nat.zero_le _, by omega⟩, h1, h2⟩
theorem KT.at {κ : zC} {h : zH} (K : KT κ h) (i : Nat) {z : String × Nat × String} (e : zTx[i]? = some z) {l : List Int32} (el : strL z.2.2 = l) : ∃ v, St h (kT κ i) v l ∧ kT κ i < kB κ ∧ v < kB κ := by
  rw [← el]
  exact K i z e
/-- all that texts want of the constants -/
def KS (κ : zC) (h : zH) : Prop := kS κ 3 = .int (Int32.ofNat 1) ∧ (kS κ 15 = .null ∨ ∃ r, kS κ 15 = .ref r) ∧ KD κ h ∧ KT κ h
theorem KS.ag {κ : zC} {h h' : zH} {n : Nat} (K : KS κ h) (g : Ag h h' 0 n) (hn : kB κ ≤ n) : KS κ h' := ⟨K.1, K.2.1, K.2.2.1.ag g hn, K.2.2.2.ag g hn⟩
theorem ch_asc {x : Int32} (h : 0 ≤ x.toInt ∧ x.toInt ≤ 127) : ((x &&& Int32.ofNat 255).toUInt32 % 65536).toInt32 = x := by
  obtain ⟨n, rfl, -, hn, hn2⟩ := btw_nat (x := x) (l := 0) (u := 127) h
  have : ∀ n : Fin 128, ((Int32.ofNat n.val &&& Int32.ofNat 255).toUInt32 % 65536).toInt32 = Int32.ofNat n.val := by decide
  exact this ⟨n, by omega⟩
theorem nc_asc {x : Int32} (h : 0 ≤ x.toInt ∧ x.toInt ≤ 127) : narrow .char (.int x) = .int x := by
  obtain ⟨n, rfl, -, hn, hn2⟩ := btw_nat (x := x) (l := 0) (u := 127) h
  have : ∀ n : Fin 128, (Int32.ofNat n.val).toUInt32.toUInt16.toUInt32.toInt32 = Int32.ofNat n.val := by decide
  exact congrArg Value.int (this ⟨n, by omega⟩)
section
variable {κ : zC} {h h0 : zH} {b v a va cap p i m : Nat} {l : List Int32} {Q : zQ} {x : Int32}
theorem e14_checkIdx (hi : i < m) (hm : m < 2147483648) {w : Value} (hw : w = .null ∨ ∃ r, w = .ref r) : Ev κ mJ14_checkIndex [.int (Int32.ofNat i), .int (Int32.ofNat m), w] h Q = Q (.inl (some (.int (Int32.ofNat i)))) h := by
  rcases hw with rfl | ⟨r, rfl⟩
  · rw [show Ev κ mJ14_checkIndex [.int (Int32.ofNat i), .int (Int32.ofNat m), .null] h Q = Go κ mJ14_checkIndex 0 [some (.int (Int32.ofNat i)), some (.int (Int32.ofNat m)), some .null] [] h Q from rfl]
    simp (disch := first | assumption | omega | decide) only [gB, I_all, zK_v, zK_n, true_and, and_true, Nat.reduceAdd, Nat.reduceMul, Nat.reduceSub, z_lt, z_le, z_neq, not_false_eq_true, or_true, true_or, or_false, false_or, false_and, and_false, gJ14_checkIndex]
  · rw [show Ev κ mJ14_checkIndex [.int (Int32.ofNat i), .int (Int32.ofNat m), .ref r] h Q = Go κ mJ14_checkIndex 0 [some (.int (Int32.ofNat i)), some (.int (Int32.ofNat m)), some (.ref r)] [] h Q from rfl]
    simp (disch := first | assumption | omega | decide) only [gB, I_all, zK_v, zK_n, true_and, and_true, Nat.reduceAdd, Nat.reduceMul, Nat.reduceSub, z_lt, z_le, z_neq, not_false_eq_true, or_true, true_or, or_false, false_or, false_and, and_false, gJ14_checkIndex]
theorem e7_checkIdx (K : kS κ 15 = .null ∨ ∃ r, kS κ 15 = .ref r) (hi : i < m) (hm : m < 2147483648) : Ev κ mJ7_checkIndex [.int (Int32.ofNat i), .int (Int32.ofNat m)] h Q = Q (.inl none) h := by
  have e := fun (Q : zQ) => e14_checkIdx (κ := κ) (h := h) (Q := Q) hi hm K
  have ct : (kS κ 15).category = 1 := by rcases K with e | ⟨r, e⟩ <;> rw [e] <;> rfl
  have z3 : 3 ≤ 3 := Nat.le_refl 3
  simp (disch := first | assumption | omega | decide) only [gB, I_all, zK_v, zK_n, true_and, and_true, Nat.reduceAdd, Nat.reduceMul, Nat.reduceSub, z_lt, z_le, z_neq, not_false_eq_true, or_true, true_or, or_false, false_or, false_and, and_false, gJ7_checkIndex, e, ct, Nat.add_zero, z3]
/-- a character of a byte -/
def chV (x : Int32) : Int32 := ((x &&& Int32.ofNat 255).toUInt32 % 65536).toInt32
theorem eS_charAt (hc : kS κ 3 = .int (Int32.ofNat 1)) (K : kS κ 15 = .null ∨ ∃ r, kS κ 15 = .ref r) (S : St h a va l) (hx : l[i]? = some x) (nx : narrow .char (.int (chV x)) = .int (chV x)) : Ev κ mJ7_charAt [.ref a, .int (Int32.ofNat i)] h Q = Q (.inl (some (.int (chV x)))) h := by
  have e1 := fun (Q : zQ) => eS_isLatin1 (Q := Q) hc S
  obtain ⟨s1, s2, s3, ⟨t1, t2, t3, t4⟩, s5⟩ := S
  have hi := (List.getElem?_eq_some_iff.mp hx).1
  have ec := fun (Q : zQ) => e7_checkIdx (κ := κ) (h := h) (Q := Q) K hi (by omega)
  have vx := t4 i x hx
  have z3 : zArr 3 = true := rfl
  have e8 : ∀ Q : zQ, Ev κ mJ8_charAt [.ref va, .int (Int32.ofNat i)] h Q = Q (.inl (some (.int (chV x)))) h := fun Q => by
    have nx' : narrow .char (.int (((x &&& Int32.ofNat 255).toUInt32 % 65536).toInt32)) = .int (((x &&& Int32.ofNat 255).toUInt32 % 65536).toInt32) := nx
    simp (disch := first | assumption | omega | decide) only [gB, I_all, zK_v, zK_n, true_and, and_true, Nat.reduceAdd, Nat.reduceMul, Nat.reduceSub, z_lt, z_le, z_neq, not_false_eq_true, or_true, true_or, or_false, false_or, false_and, and_false, gJ8_charAt, t1, t2, z3, ec, vx, nx']
    rfl
  rcases s1 with k | k
  · simp (disch := first | assumption | omega | decide) only [gB, I_all, zK_v, zK_n, true_and, and_true, Nat.reduceAdd, Nat.reduceMul, Nat.reduceSub, z_lt, z_le, z_neq, not_false_eq_true, or_true, true_or, or_false, false_or, false_and, and_false, gJ7_charAt, k, s2, e1, e8, nx]
  · simp (disch := first | assumption | omega | decide) only [gB, I_all, zK_v, zK_n, true_and, and_true, Nat.reduceAdd, Nat.reduceMul, Nat.reduceSub, z_lt, z_le, z_neq, not_false_eq_true, or_true, true_or, or_false, false_or, false_and, and_false, gJ7_charAt, k, s2, e1, e8, nx]
theorem e0_byteAt {j : Int32} (K : KS κ h) (S : St h a va l) (A : ascL l) (h0 : 0 ≤ j.toInt) : Ev κ mX0_byteAt [.ref a, .int j] h Q = Q (.inl (some (.int (fdB l j)))) h := by
  obtain ⟨hc, k15, -, -⟩ := K
  have el := fun (Q : zQ) => eS_length (Q := Q) hc S
  have s5 := S.2.2.2.2
  obtain ⟨n, rfl, -, -, hn⟩ := btw_nat (x := j) (l := 0) (u := 2147483647) ⟨h0, by have := Int32.toInt_lt j; omega⟩
  unfold fdB
  rw [if_pos h0, I_nat hn]
  by_cases c : n < l.length
  · have hx : l[n]? = some l[n] := List.getElem?_eq_getElem c
    have ax := A l[n] (List.getElem_mem c)
    have ch : chV l[n] = l[n] := ch_asc ax
    have ec := fun (Q : zQ) => eS_charAt (Q := Q) hc k15 S hx (by rw [ch]; exact nc_asc ax)
    rw [ch] at ec
    rw [hx]
    generalize l[n] = x at *
    rcases S.1 with k | k
    · simp (disch := first | assumption | omega | decide) only [gB, I_all, zK_v, zK_n, true_and, and_true, Nat.reduceAdd, Nat.reduceMul, Nat.reduceSub, z_lt, z_le, z_neq, not_false_eq_true, or_true, true_or, or_false, false_or, false_and, and_false, gX0_byteAt, k, el, ec, Option.getD_some]
    · simp (disch := first | assumption | omega | decide) only [gB, I_all, zK_v, zK_n, true_and, and_true, Nat.reduceAdd, Nat.reduceMul, Nat.reduceSub, z_lt, z_le, z_neq, not_false_eq_true, or_true, true_or, or_false, false_or, false_and, and_false, gX0_byteAt, k, el, ec, Option.getD_some]
  · rw [List.getElem?_eq_none (by omega)]
    rcases S.1 with k | k
    · simp (disch := first | assumption | omega | decide) only [gB, I_all, zK_v, zK_n, true_and, and_true, Nat.reduceAdd, Nat.reduceMul, Nat.reduceSub, z_lt, z_le, z_neq, not_false_eq_true, or_true, true_or, or_false, false_or, false_and, and_false, gX0_byteAt, k, el, Option.getD_none]
    · simp (disch := first | assumption | omega | decide) only [gB, I_all, zK_v, zK_n, true_and, and_true, Nat.reduceAdd, Nat.reduceMul, Nat.reduceSub, z_lt, z_le, z_neq, not_false_eq_true, or_true, true_or, or_false, false_or, false_and, and_false, gX0_byteAt, k, el, Option.getD_none]
end
