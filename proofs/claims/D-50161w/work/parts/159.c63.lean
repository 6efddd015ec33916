/-! strings: bytes, a builder, how it grows -/
theorem z_sr0 (x : Int32) : x >>> (Int32.ofNat 0 &&& 31) = x := by
  have e : (Int32.ofNat 0 &&& 31) = 0 := by decide
  rw [e]
  exact Int32.shiftRight_zero
theorem z_sl0 (x : Int32) : x <<< (Int32.ofNat 0 &&& 31) = x := by
  have e : (Int32.ofNat 0 &&& 31) = 0 := by decide
  rw [e]
  exact Int32.shiftLeft_zero
def byO (x : Int32) : Prop := -128 ≤ x.toInt ∧ x.toInt ≤ 127
def byV (v : Value) : Prop := ∃ x, v = .int x ∧ byO x
theorem byV_fits {v : Value} (h : byV v) : fits .byte v = true := by
  obtain ⟨x, rfl, h1, h2⟩ := h
  show (decide ((-128 : Int32) ≤ x) && decide (x ≤ 127)) = true
  have e1 : (-128 : Int32).toInt = -128 := by decide
  have e2 : (127 : Int32).toInt = 127 := by decide
  rw [Bool.and_eq_true, decide_eq_true_eq, decide_eq_true_eq, Int32.le_iff_toInt_le, Int32.le_iff_toInt_le, e1, e2]
  exact ⟨h1, h2⟩
theorem by8_O (x : Int32) : byO (by8 x) := by
  unfold byO by8
  rw [Int8.toInt_toInt32]
  have h1 := Int8.le_toInt x.toInt8
  have h2 := Int8.toInt_lt x.toInt8
  omega
theorem by8_id {x : Int32} (h : byO x) : by8 x = x := by
  unfold by8
  rw [← Int32.toInt_inj, Int8.toInt_toInt32, Int32.toInt_toInt8]
  obtain ⟨h1, h2⟩ := h
  rw [Int.bmod_eq_of_le] <;> omega
theorem byO_nat {n : Nat} (h : n ≤ 127) : byO (Int32.ofNat n) := by
  unfold byO
  rw [I_toInt (by omega)]
  omega
theorem byO_0 : byO 0 := byO_nat (n := 0) (by decide)
theorem I_nn {n : Nat} (h : n < 2147483648) : (0 : Int32) ≤ Int32.ofNat n := by
  rw [Int32.le_iff_toInt_le, I_toInt h]
  exact Int.natCast_nonneg n
theorem zOks_b {h : zH} {s d sp n : Nat} (kd : hK h d = 3) (e : ∀ j, byV (hV h s j)) : zOks h s d sp n := fun j _ => by
  unfold zOkE
  rw [kd, if_neg (by decide)]
  exact byV_fits (e _)
/-- a string's array; a string -/
def SVa (h : zH) (v : Nat) (l : List Int32) : Prop := hK h v = 3 ∧ hL h v = l.length ∧ (∀ j, byV (hV h v j)) ∧ ∀ i x, l[i]? = some x → hV h v i = .int x
def St (h : zH) (a v : Nat) (l : List Int32) : Prop := (hK h a = 119 ∨ hK h a = 200) ∧ hV h a 160 = .ref v ∧ hV h a 161 = .int (Int32.ofNat 0) ∧ SVa h v l ∧ l.length < 100000
theorem St.cg {h h' : zH} {a v : Nat} {l : List Int32} (S : St h a v l) (e1 : hK h' a = hK h a ∧ ∀ j, hV h' a j = hV h a j) (e2 : hK h' v = hK h v ∧ hL h' v = hL h v ∧ ∀ j, hV h' v j = hV h v j) : St h' a v l := by
  obtain ⟨s1, s2, s3, ⟨t1, t2, t3, t4⟩, s5⟩ := S
  exact ⟨by rw [e1.1]; exact s1, (e1.2 _).trans s2, (e1.2 _).trans s3, ⟨e2.1.trans t1, e2.2.1.trans t2, fun j => by rw [e2.2.2]; exact t3 j, fun i x hx => (e2.2.2 i).trans (t4 i x hx)⟩, s5⟩
theorem St.ag {h h' : zH} {a v lo hi : Nat} {l : List Int32} (S : St h a v l) (g : Ag h h' lo hi) (ha : lo ≤ a ∧ a < hi) (hv : lo ≤ v ∧ v < hi) : St h' a v l := S.cg ⟨(g a ha.1 ha.2).1, (g a ha.1 ha.2).2.2⟩ (g v hv.1 hv.2)
/-- a builder: it, its array, how much fits, its text; h0: the heap ahead of it -/
def SBx (κ : zC) (h0 h : zH) (b v cap : Nat) (l : List Int32) : Prop :=
  (hN h0 ≤ b ∧ b < hN h ∧ hN h0 ≤ v ∧ v < hN h ∧ b ≠ v ∧ kB κ ≤ hN h0) ∧
  (hK h b = 137 ∧ hV h b 179 = .ref v ∧ hV h b 180 = .int (Int32.ofNat 0) ∧ hV h b 182 = .int (Int32.ofNat l.length)) ∧
  (hK h v = 3 ∧ hL h v = cap ∧ l.length ≤ cap ∧ (∀ j, byV (hV h v j)) ∧ ∀ i x, l[i]? = some x → hV h v i = .int x) ∧
  Ag h0 h 0 (hN h0) ∧ (hN h ≤ hN h0 + 3 + cap ∧ hU h ≤ hU h0 + 10 + 2 * cap)
def SBw (κ : zC) (h0 h : zH) (b : Nat) (l : List Int32) : Prop := ∃ v cap, SBx κ h0 h b v cap l ∧ cap ≤ 2 * l.length + 34
section
variable {κ : zC} {h h0 : zH} {b v cap : Nat} {l : List Int32} {Q : zQ}
theorem e9_maxN {x y : Nat} (hx : x < 2147483648) (hy : y < 2147483648) {h : zH} : Ev κ mJ9_max [.int (Int32.ofNat x), .int (Int32.ofNat y)] h Q = Q (.inl (some (.int (Int32.ofNat (max x y))))) h := by
  by_cases c : x < y
  · rw [Nat.max_eq_right (by omega)]
    simp (disch := first | assumption | omega | decide) only [gB, I_all, zK_v, zK_n, true_and, and_true, Nat.reduceAdd, Nat.reduceMul, Nat.reduceSub, z_lt, z_le, z_neq, not_false_eq_true, or_true, true_or, or_false, false_or, false_and, and_false, gJ9_max]
  · have c' : y ≤ x := by omega
    rw [Nat.max_eq_left c']
    simp (disch := first | assumption | omega | decide) only [gB, I_all, zK_v, zK_n, true_and, and_true, Nat.reduceAdd, Nat.reduceMul, Nat.reduceSub, z_lt, z_le, z_neq, not_false_eq_true, or_true, true_or, or_false, false_or, false_and, and_false, gJ9_max]
theorem e9_minN {x y : Nat} (hx : x < 2147483648) (hy : y < 2147483648) {h : zH} : Ev κ mJ9_min [.int (Int32.ofNat x), .int (Int32.ofNat y)] h Q = Q (.inl (some (.int (Int32.ofNat (min x y))))) h := by
  by_cases c : x ≤ y
  · rw [Nat.min_eq_left c]
    simp (disch := first | assumption | omega | decide) only [gB, I_all, zK_v, zK_n, true_and, and_true, Nat.reduceAdd, Nat.reduceMul, Nat.reduceSub, z_lt, z_le, z_neq, not_false_eq_true, or_true, true_or, or_false, false_or, false_and, and_false, gJ9_min]
  · have c' : y < x := by omega
    rw [Nat.min_eq_right (by omega)]
    simp (disch := first | assumption | omega | decide) only [gB, I_all, zK_v, zK_n, true_and, and_true, Nat.reduceAdd, Nat.reduceMul, Nat.reduceSub, z_lt, z_le, z_neq, not_false_eq_true, or_true, true_or, or_false, false_or, false_and, and_false, gJ9_min]
theorem e10_newLength {x y z : Nat} (hx : x < 10000000) (hy : y < 10000000) (hz : z < 10000000) (h0 : 0 < y) {h : zH} : Ev κ mJ10_newLength [.int (Int32.ofNat x), .int (Int32.ofNat y), .int (Int32.ofNat z)] h Q = Q (.inl (some (.int (Int32.ofNat (x + max y z))))) h := by
  have em := fun (Q : zQ) => e9_maxN (κ := κ) (h := h) (Q := Q) (x := y) (y := z) (by omega) (by omega)
  have hm : max y z < 10000000 := Nat.max_lt.mpr ⟨hy, hz⟩
  have hp : 0 < max y z := Nat.lt_of_lt_of_le h0 (Nat.le_max_left _ _)
  generalize max y z = m at *
  have c1 : x + m ≤ 2147483639 := by omega
  simp (disch := first | assumption | omega | decide) only [gB, I_all, zK_v, zK_n, true_and, and_true, Nat.reduceAdd, Nat.reduceMul, Nat.reduceSub, z_lt, z_le, z_neq, not_false_eq_true, or_true, true_or, or_false, false_or, false_and, and_false, gJ10_newLength, em, I_add]
theorem e24_newCapacity {m : Nat} (S : SBx κ h0 h b v cap l) (hm : m < 1000000) (hcap : cap < 1000000) (hlt : cap < m) : Ev κ mJ24_newCapacity [.ref b, .int (Int32.ofNat m)] h Q = Q (.inl (some (.int (Int32.ofNat (cap + max (m - cap) (cap + 2)))))) h := by
  obtain ⟨-, ⟨k, v1, v2, v3⟩, ⟨kv, lv, -⟩, -⟩ := S
  have es : Int32.ofNat m - Int32.ofNat cap = Int32.ofNat (m - cap) := I_sub (by omega)
  have en := fun (Q : zQ) => e10_newLength (κ := κ) (h := h) (Q := Q) (x := cap) (y := m - cap) (z := cap + 2) (by omega) (by omega) (by omega) (by omega)
  have e2 : (Int32.ofNat 2) <<< (Int32.ofNat 0 &&& 31) = Int32.ofNat 2 := z_sl0 _
  have hm2 : max (m - cap) (cap + 2) < 1000002 := Nat.max_lt.mpr ⟨by omega, by omega⟩
  have z3 : zArr 3 = true := rfl
  generalize max (m - cap) (cap + 2) = w at *
  simp (disch := first | assumption | omega | decide) only [gB, I_all, zK_v, zK_n, true_and, and_true, Nat.reduceAdd, Nat.reduceMul, Nat.reduceSub, z_lt, z_le, z_neq, not_false_eq_true, or_true, true_or, or_false, false_or, false_and, and_false, gJ24_newCapacity, k, v1, v2, kv, lv, z3, z_sl0, z_sr0, es, I_add, en]
end
