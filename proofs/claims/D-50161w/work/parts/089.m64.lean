/-! numbers of the floating kind that are none of the NaNs (printed by gen/gen_m64.py); the twin: means, full -/
theorem fpc64 : FP.Core.b64.tails = 4503599627370496 ∧ FP.Core.b64.exps = 2048 ∧ FP.Core.b64.qmax = 971 ∧ FP.Core.b64.qmin = (-1074) ∧ (2 : Nat) ^ FP.Core.b64.p = 9007199254740992 := by decide
theorem enI64 (s : Bool) : FP.Core.encode FP.Core.b64 (.inf s) < 18446744073709551616 ∧ FP.Core.encode FP.Core.b64 (.inf s) % 9223372036854775808 ≤ 9218868437227405312 := by cases s <;> decide
theorem enF64 {s : Bool} {c : Nat} {q : Int} (hc : c < 9007199254740992) (hq : q ≤ 971) : FP.Core.encode FP.Core.b64 (.fin s c q) < 18446744073709551616 ∧ FP.Core.encode FP.Core.b64 (.fin s c q) % 9223372036854775808 < 9218868437227405312 ∧ (0 < c → 0 < FP.Core.encode FP.Core.b64 (.fin s c q) % 9223372036854775808) := by
  obtain ⟨e1, e2, -, e4, -⟩ := fpc64
  unfold FP.Core.encode FP.Core.assemble
  simp only [e1, e2, e4]
  cases s
  · rw [show Bool.toNat false = 0 from rfl]
    split
    · omega
    · refine ⟨?_, ?_, fun h => ?_⟩ <;> omega
  · rw [show Bool.toNat true = 1 from rfl]
    split
    · omega
    · refine ⟨?_, ?_, fun h => ?_⟩ <;> omega
theorem enB64 {s : Bool} {c : Nat} {q : Int} (hc : c < 9007199254740992) : FP.Core.encode FP.Core.b64 (FP.Core.bound FP.Core.b64 s c q) < 18446744073709551616 ∧ FP.Core.encode FP.Core.b64 (FP.Core.bound FP.Core.b64 s c q) % 9223372036854775808 ≤ 9218868437227405312 := by
  obtain ⟨-, -, e3, -, -⟩ := fpc64
  unfold FP.Core.bound
  rw [e3]
  split
  · next h =>
    obtain ⟨a, b, -⟩ := enF64 (s := s) hc h
    exact ⟨a, Nat.le_of_lt b⟩
  · exact enI64 s
theorem enR64 {s : Bool} {n d : Nat} {e : Int} : FP.Core.encode FP.Core.b64 (FP.Core.roundRatio FP.Core.b64 s n d e) < 18446744073709551616 ∧ FP.Core.encode FP.Core.b64 (FP.Core.roundRatio FP.Core.b64 s n d e) % 9223372036854775808 ≤ 9218868437227405312 := by
  obtain ⟨e1, -, e3, e4, e5⟩ := fpc64
  unfold FP.Core.roundRatio
  split
  · rw [e4]
    obtain ⟨a, b, -⟩ := enF64 (s := s) (c := 0) (q := (-1074)) (by decide) (by decide)
    exact ⟨a, Nat.le_of_lt b⟩
  · unfold FP.Core.roundAt FP.Core.settle
    rw [e5]
    split
    · next h => exact enB64 h
    · rw [e1]
      exact enB64 (by decide)
theorem de64 {n : Nat} (h : n % 9223372036854775808 ≤ 9218868437227405312) : FP.Core.decode FP.Core.b64 n ≠ .nan := by
  obtain ⟨e1, e2, -, -, -⟩ := fpc64
  unfold FP.Core.decode FP.Core.fieldE FP.Core.fieldT
  rw [e1, e2]
  split
  · rw [if_pos (by omega)]
    exact fun h => by cases h
  · split <;> exact fun h => by cases h
theorem deF64 {n : Nat} (h : n % 9223372036854775808 < 9218868437227405312) (h2 : 0 < n % 9223372036854775808) : ∃ s c q, FP.Core.decode FP.Core.b64 n = .fin s c q ∧ c ≠ 0 := by
  obtain ⟨e1, e2, -, -, -⟩ := fpc64
  unfold FP.Core.decode FP.Core.fieldE FP.Core.fieldT
  rw [e1, e2, if_neg (by omega)]
  split
  · exact ⟨_, _, _, rfl, by omega⟩
  · exact ⟨_, _, _, rfl, by omega⟩
theorem rrO64 (i : Int) : ∃ s n, FP.Core.round FP.Core.b64 (FP.Core.ofInt i) = FP.Core.roundRatio FP.Core.b64 s n 1 0 ∧ n = i.natAbs := ⟨_, _, rfl, rfl⟩
theorem inN64 {i : Int} : FP.Core.fromInt FP.Core.b64 i < 18446744073709551616 ∧ FP.Core.fromInt FP.Core.b64 i % 9223372036854775808 ≤ 9218868437227405312 := enR64
/-- a whole number's encoding, if it is not 0 -/
theorem inF64 {i : Int} (h0 : i ≠ 0) (hb : i.natAbs ≤ 2147483648) : 0 < FP.Core.fromInt FP.Core.b64 i % 9223372036854775808 ∧ FP.Core.fromInt FP.Core.b64 i % 9223372036854775808 < 9218868437227405312 := by
  obtain ⟨e1, -, e3, e4, e5⟩ := fpc64
  have hn : i.natAbs ≠ 0 := by omega
  have hl : i.natAbs.log2 < 32 := (Nat.log2_lt hn).mpr (by omega)
  unfold FP.Core.fromInt
  show 0 < FP.Core.encode FP.Core.b64 (FP.Core.roundRatio FP.Core.b64 (decide (i < 0)) i.natAbs 1 0) % _ ∧ FP.Core.encode FP.Core.b64 (FP.Core.roundRatio FP.Core.b64 (decide (i < 0)) i.natAbs 1 0) % _ < _
  have hq : FP.Core.quantum FP.Core.b64 i.natAbs 1 0 ≤ 0 := by
    unfold FP.Core.quantum FP.Core.leading
    rw [e4, show ((FP.Core.b64.p : Nat) : Int) = 53 from rfl, show Nat.log2 1 = 0 by decide]
    dsimp only
    split <;> omega
  unfold FP.Core.roundRatio
  rw [if_neg hn]
  unfold FP.Core.roundAt
  have hd : FP.Core.unitsDen 1 0 (FP.Core.quantum FP.Core.b64 i.natAbs 1 0) = 1 := by
    unfold FP.Core.unitsDen
    rw [show (FP.Core.quantum FP.Core.b64 i.natAbs 1 0 - 0).toNat = 0 by omega]
  have hN : 0 < FP.Core.unitsNum i.natAbs 0 (FP.Core.quantum FP.Core.b64 i.natAbs 1 0) := Nat.mul_pos (Nat.pos_of_ne_zero hn) (Nat.two_pow_pos _)
  have he : FP.Core.nearest (FP.Core.unitsNum i.natAbs 0 (FP.Core.quantum FP.Core.b64 i.natAbs 1 0)) 1 = FP.Core.unitsNum i.natAbs 0 (FP.Core.quantum FP.Core.b64 i.natAbs 1 0) := by
    unfold FP.Core.nearest
    rw [Nat.mod_one, Nat.div_one, if_pos (by decide)]
  rw [hd, he]
  generalize FP.Core.unitsNum i.natAbs 0 (FP.Core.quantum FP.Core.b64 i.natAbs 1 0) = c at *
  generalize FP.Core.quantum FP.Core.b64 i.natAbs 1 0 = q at *
  unfold FP.Core.settle FP.Core.bound
  rw [e5, e3, e1]
  split
  · next hc =>
    rw [if_pos (by omega)]
    obtain ⟨-, b, d⟩ := enF64 (s := decide (i < 0)) hc (show q ≤ 971 by omega)
    exact ⟨d hN, b⟩
  · rw [if_pos (by omega)]
    obtain ⟨-, b, d⟩ := enF64 (s := decide (i < 0)) (c := 4503599627370496) (q := q + 1) (by decide) (by omega)
    exact ⟨d (by decide), b⟩
theorem dvE64 {x y : Nat} (hx : x % 9223372036854775808 ≤ 9218868437227405312) (hy : 0 < y % 9223372036854775808 ∧ y % 9223372036854775808 < 9218868437227405312) : FP.Core.div FP.Core.b64 x y < 18446744073709551616 ∧ FP.Core.div FP.Core.b64 x y % 9223372036854775808 ≤ 9218868437227405312 := by
  obtain ⟨t, d, r, e, hd⟩ := deF64 hy.2 hy.1
  unfold FP.Core.div
  rw [e]
  have hn := de64 hx
  cases hx' : FP.Core.decode FP.Core.b64 x with
  | nan => exact absurd hx' hn
  | inf s => exact enI64 _
  | fin s c q =>
    unfold FP.Core.quotient
    simp only [if_neg hd]
    exact enR64
theorem fpc32 : FP.Core.b32.tails = 8388608 ∧ FP.Core.b32.exps = 256 ∧ FP.Core.b32.qmax = 104 ∧ FP.Core.b32.qmin = (-149) ∧ (2 : Nat) ^ FP.Core.b32.p = 16777216 := by decide
theorem enI32 (s : Bool) : FP.Core.encode FP.Core.b32 (.inf s) < 4294967296 ∧ FP.Core.encode FP.Core.b32 (.inf s) % 2147483648 ≤ 2139095040 := by cases s <;> decide
theorem enF32 {s : Bool} {c : Nat} {q : Int} (hc : c < 16777216) (hq : q ≤ 104) : FP.Core.encode FP.Core.b32 (.fin s c q) < 4294967296 ∧ FP.Core.encode FP.Core.b32 (.fin s c q) % 2147483648 < 2139095040 ∧ (0 < c → 0 < FP.Core.encode FP.Core.b32 (.fin s c q) % 2147483648) := by
  obtain ⟨e1, e2, -, e4, -⟩ := fpc32
  unfold FP.Core.encode FP.Core.assemble
  simp only [e1, e2, e4]
  cases s
  · rw [show Bool.toNat false = 0 from rfl]
    split
    · omega
    · refine ⟨?_, ?_, fun h => ?_⟩ <;> omega
  · rw [show Bool.toNat true = 1 from rfl]
    split
    · omega
    · refine ⟨?_, ?_, fun h => ?_⟩ <;> omega
theorem enB32 {s : Bool} {c : Nat} {q : Int} (hc : c < 16777216) : FP.Core.encode FP.Core.b32 (FP.Core.bound FP.Core.b32 s c q) < 4294967296 ∧ FP.Core.encode FP.Core.b32 (FP.Core.bound FP.Core.b32 s c q) % 2147483648 ≤ 2139095040 := by
  obtain ⟨-, -, e3, -, -⟩ := fpc32
  unfold FP.Core.bound
  rw [e3]
  split
  · next h =>
    obtain ⟨a, b, -⟩ := enF32 (s := s) hc h
    exact ⟨a, Nat.le_of_lt b⟩
  · exact enI32 s
theorem enR32 {s : Bool} {n d : Nat} {e : Int} : FP.Core.encode FP.Core.b32 (FP.Core.roundRatio FP.Core.b32 s n d e) < 4294967296 ∧ FP.Core.encode FP.Core.b32 (FP.Core.roundRatio FP.Core.b32 s n d e) % 2147483648 ≤ 2139095040 := by
  obtain ⟨e1, -, e3, e4, e5⟩ := fpc32
  unfold FP.Core.roundRatio
  split
  · rw [e4]
    obtain ⟨a, b, -⟩ := enF32 (s := s) (c := 0) (q := (-149)) (by decide) (by decide)
    exact ⟨a, Nat.le_of_lt b⟩
  · unfold FP.Core.roundAt FP.Core.settle
    rw [e5]
    split
    · next h => exact enB32 h
    · rw [e1]
      exact enB32 (by decide)
theorem de32 {n : Nat} (h : n % 2147483648 ≤ 2139095040) : FP.Core.decode FP.Core.b32 n ≠ .nan := by
  obtain ⟨e1, e2, -, -, -⟩ := fpc32
  unfold FP.Core.decode FP.Core.fieldE FP.Core.fieldT
  rw [e1, e2]
  split
  · rw [if_pos (by omega)]
    exact fun h => by cases h
  · split <;> exact fun h => by cases h
theorem deF32 {n : Nat} (h : n % 2147483648 < 2139095040) (h2 : 0 < n % 2147483648) : ∃ s c q, FP.Core.decode FP.Core.b32 n = .fin s c q ∧ c ≠ 0 := by
  obtain ⟨e1, e2, -, -, -⟩ := fpc32
  unfold FP.Core.decode FP.Core.fieldE FP.Core.fieldT
  rw [e1, e2, if_neg (by omega)]
  split
  · exact ⟨_, _, _, rfl, by omega⟩
  · exact ⟨_, _, _, rfl, by omega⟩
theorem rrO32 (i : Int) : ∃ s n, FP.Core.round FP.Core.b32 (FP.Core.ofInt i) = FP.Core.roundRatio FP.Core.b32 s n 1 0 ∧ n = i.natAbs := ⟨_, _, rfl, rfl⟩
theorem inN32 {i : Int} : FP.Core.fromInt FP.Core.b32 i < 4294967296 ∧ FP.Core.fromInt FP.Core.b32 i % 2147483648 ≤ 2139095040 := enR32
/-- a whole number's encoding, if it is not 0 -/
theorem inF32 {i : Int} (h0 : i ≠ 0) (hb : i.natAbs ≤ 1000) : 0 < FP.Core.fromInt FP.Core.b32 i % 2147483648 ∧ FP.Core.fromInt FP.Core.b32 i % 2147483648 < 2139095040 := by
  obtain ⟨e1, -, e3, e4, e5⟩ := fpc32
  have hn : i.natAbs ≠ 0 := by omega
  have hl : i.natAbs.log2 < 10 := (Nat.log2_lt hn).mpr (by omega)
  unfold FP.Core.fromInt
  show 0 < FP.Core.encode FP.Core.b32 (FP.Core.roundRatio FP.Core.b32 (decide (i < 0)) i.natAbs 1 0) % _ ∧ FP.Core.encode FP.Core.b32 (FP.Core.roundRatio FP.Core.b32 (decide (i < 0)) i.natAbs 1 0) % _ < _
  have hq : FP.Core.quantum FP.Core.b32 i.natAbs 1 0 ≤ 0 := by
    unfold FP.Core.quantum FP.Core.leading
    rw [e4, show ((FP.Core.b32.p : Nat) : Int) = 24 from rfl, show Nat.log2 1 = 0 by decide]
    dsimp only
    split <;> omega
  unfold FP.Core.roundRatio
  rw [if_neg hn]
  unfold FP.Core.roundAt
  have hd : FP.Core.unitsDen 1 0 (FP.Core.quantum FP.Core.b32 i.natAbs 1 0) = 1 := by
    unfold FP.Core.unitsDen
    rw [show (FP.Core.quantum FP.Core.b32 i.natAbs 1 0 - 0).toNat = 0 by omega]
  have hN : 0 < FP.Core.unitsNum i.natAbs 0 (FP.Core.quantum FP.Core.b32 i.natAbs 1 0) := Nat.mul_pos (Nat.pos_of_ne_zero hn) (Nat.two_pow_pos _)
  have he : FP.Core.nearest (FP.Core.unitsNum i.natAbs 0 (FP.Core.quantum FP.Core.b32 i.natAbs 1 0)) 1 = FP.Core.unitsNum i.natAbs 0 (FP.Core.quantum FP.Core.b32 i.natAbs 1 0) := by
    unfold FP.Core.nearest
    rw [Nat.mod_one, Nat.div_one, if_pos (by decide)]
  rw [hd, he]
  generalize FP.Core.unitsNum i.natAbs 0 (FP.Core.quantum FP.Core.b32 i.natAbs 1 0) = c at *
  generalize FP.Core.quantum FP.Core.b32 i.natAbs 1 0 = q at *
  unfold FP.Core.settle FP.Core.bound
  rw [e5, e3, e1]
  split
  · next hc =>
    rw [if_pos (by omega)]
    obtain ⟨-, b, d⟩ := enF32 (s := decide (i < 0)) hc (show q ≤ 104 by omega)
    exact ⟨d hN, b⟩
  · rw [if_pos (by omega)]
    obtain ⟨-, b, d⟩ := enF32 (s := decide (i < 0)) (c := 8388608) (q := q + 1) (by decide) (by omega)
    exact ⟨d (by decide), b⟩
theorem dvE32 {x y : Nat} (hx : x % 2147483648 ≤ 2139095040) (hy : 0 < y % 2147483648 ∧ y % 2147483648 < 2139095040) : FP.Core.div FP.Core.b32 x y < 4294967296 ∧ FP.Core.div FP.Core.b32 x y % 2147483648 ≤ 2139095040 := by
  obtain ⟨t, d, r, e, hd⟩ := deF32 hy.2 hy.1
  unfold FP.Core.div
  rw [e]
  have hn := de32 hx
  cases hx' : FP.Core.decode FP.Core.b32 x with
  | nan => exact absurd hx' hn
  | inf s => exact enI32 _
  | fin s c q =>
    unfold FP.Core.quotient
    simp only [if_neg hd]
    exact enR32
theorem ddiv_nn {s : Int64} {n : Int32} (hn : ¬ n = Int32.ofNat 0) : FP.ddiv (FP.l2d s) (FP.i2d n) &&& 0x7fffffffffffffff ≤ 0x7ff0000000000000 := by
  have a := inN64 (i := s.toInt)
  have hz : n.toInt ≠ 0 := fun h => hn (Int32.toInt_inj.mp h)
  have l1 := n.toInt_lt
  have l2 := n.le_toInt
  have b := inF64 hz (by omega)
  have b' := inN64 (i := n.toInt)
  have ea : (FP.l2d s).toNat = FP.Core.fromInt FP.Core.b64 s.toInt := UInt64.toNat_ofNat_of_lt' (by have := a.1; simpa using this)
  have eb : (FP.i2d n).toNat = FP.Core.fromInt FP.Core.b64 n.toInt := UInt64.toNat_ofNat_of_lt' (by have := b'.1; simpa using this)
  have c := dvE64 (x := (FP.l2d s).toNat) (y := (FP.i2d n).toNat) (by rw [ea]; exact a.2) (by rw [eb]; exact b)
  have ec : (FP.ddiv (FP.l2d s) (FP.i2d n)).toNat = FP.Core.div FP.Core.b64 (FP.l2d s).toNat (FP.i2d n).toNat := UInt64.toNat_ofNat_of_lt' (by have := c.1; simpa using this)
  rw [UInt64.le_iff_toNat_le, UInt64.toNat_and, ec, show (0x7fffffffffffffff : UInt64).toNat = 2 ^ 63 - 1 by decide, show (0x7ff0000000000000 : UInt64).toNat = 9218868437227405312 by decide, Nat.and_two_pow_sub_one_eq_mod]
  exact c.2
theorem fdiv_nn {c s : Nat} (hc : c < 1000) (hs : 1 ≤ s) (hs2 : s < 1000) : FP.fdiv (FP.i2f (Int32.ofNat c)) (FP.i2f (Int32.ofNat s)) &&& 0x7fffffff ≤ 0x7f800000 := by
  have e : ∀ n, n < 1000 → (Int32.ofNat n).toInt = n := fun n hn => Int32.toInt_ofNat_of_lt (by omega)
  have a := inN32 (i := (Int32.ofNat c).toInt)
  have b := inF32 (i := (Int32.ofNat s).toInt) (by rw [e s hs2]; omega) (by rw [e s hs2]; omega)
  have b' := inN32 (i := (Int32.ofNat s).toInt)
  have ea : (FP.i2f (Int32.ofNat c)).toNat = FP.Core.fromInt FP.Core.b32 (Int32.ofNat c).toInt := UInt32.toNat_ofNat_of_lt' (by have := a.1; simpa using this)
  have eb : (FP.i2f (Int32.ofNat s)).toNat = FP.Core.fromInt FP.Core.b32 (Int32.ofNat s).toInt := UInt32.toNat_ofNat_of_lt' (by have := b'.1; simpa using this)
  have d := dvE32 (x := (FP.i2f (Int32.ofNat c)).toNat) (y := (FP.i2f (Int32.ofNat s)).toNat) (by rw [ea]; exact a.2) (by rw [eb]; exact b)
  have ec : (FP.fdiv (FP.i2f (Int32.ofNat c)) (FP.i2f (Int32.ofNat s))).toNat = FP.Core.div FP.Core.b32 (FP.i2f (Int32.ofNat c)).toNat (FP.i2f (Int32.ofNat s)).toNat := UInt32.toNat_ofNat_of_lt' (by have := d.1; simpa using this)
  rw [UInt32.le_iff_toNat_le, UInt32.toNat_and, ec, show (0x7fffffff : UInt32).toNat = 2 ^ 31 - 1 by decide, show (0x7f800000 : UInt32).toNat = 2139095040 by decide, Nat.and_two_pow_sub_one_eq_mod]
  exact d.2
def yMw (Y : Sy) (c i : Nat) : UInt64 := if smF (yS Y) c 17 = Int32.ofNat 0 then FP.dconst0 else FP.ddiv (FP.l2d (sS (yS Y) i)) (FP.i2d (smF (yS Y) c 17))
def yFu (Y : Sy) (x : Int32) : UInt32 := if btw x 0 (plN (yP Y) 1 - 1) then FP.fdiv (FP.i2f (Int32.ofNat (bR (yS Y) x.toNatClampNeg).length)) (FP.i2f (plT (yP Y) 7 x.toNatClampNeg)) else 3212836864
section
variable {κ : zC} {h : zH} {b : Nat} {W : Nat → Nat → Int32} {SM : Nat → Nat → Int64} {Q : zQ} {Y : Sy} {π : Pl}
theorem e7_meanWaiting (S : TSh κ h b) (T : TIn W SM Y) : Ev κ mX7_meanWaiting [.ref b] (hX h b 33 W SM) Q = Q (.inl (some (.double (yMw Y 3 0)))) (hX h b 33 W SM) := by
  have F := xF S
  have R := xR S
  have K := xK S
  have es := fun (Q : zQ) => e7_sumOf (κ := κ) (Q := Q) (c := 3) S T (by decide)
  have e0 : SM 14 0 = sS (yS Y) 0 := T.2.1.1.2.2.2.2.2.1
  unfold yMw
  by_cases c : smF (yS Y) 3 17 = Int32.ofNat 0
  · rw [if_pos c]
    rw [c] at es
    simp (disch := first | assumption | omega | decide) only [gB, I_all, zK_v, zK_n, true_and, and_true, Nat.reduceAdd, Nat.reduceMul, Nat.reduceSub, z_lt, z_le, z_neq, not_false_eq_true, or_true, true_or, or_false, false_or, false_and, and_false, gX7_meanWaiting, F, R, K, es]
  · rw [if_neg c]
    have nn := ddiv_nn (s := sS (yS Y) 0) c
    simp (disch := first | assumption | omega | decide) only [gB, I_all, zK_v, zK_n, true_and, and_true, Nat.reduceAdd, Nat.reduceMul, Nat.reduceSub, z_lt, z_le, z_neq, not_false_eq_true, or_true, true_or, or_false, false_or, false_and, and_false, gX7_meanWaiting, F, R, K, es, e0, nn]
theorem e7_meanRide (S : TSh κ h b) (T : TIn W SM Y) : Ev κ mX7_meanRide [.ref b] (hX h b 33 W SM) Q = Q (.inl (some (.double (yMw Y 4 1)))) (hX h b 33 W SM) := by
  have F := xF S
  have R := xR S
  have K := xK S
  have es := fun (Q : zQ) => e7_sumOf (κ := κ) (Q := Q) (c := 4) S T (by decide)
  have e0 : SM 14 1 = sS (yS Y) 1 := T.2.1.1.2.2.2.2.2.2
  unfold yMw
  by_cases c : smF (yS Y) 4 17 = Int32.ofNat 0
  · rw [if_pos c]
    rw [c] at es
    simp (disch := first | assumption | omega | decide) only [gB, I_all, zK_v, zK_n, true_and, and_true, Nat.reduceAdd, Nat.reduceMul, Nat.reduceSub, z_lt, z_le, z_neq, not_false_eq_true, or_true, true_or, or_false, false_or, false_and, and_false, gX7_meanRide, F, R, K, es]
  · rw [if_neg c]
    have nn := ddiv_nn (s := sS (yS Y) 1) c
    simp (disch := first | assumption | omega | decide) only [gB, I_all, zK_v, zK_n, true_and, and_true, Nat.reduceAdd, Nat.reduceMul, Nat.reduceSub, z_lt, z_le, z_neq, not_false_eq_true, or_true, true_or, or_false, false_or, false_and, and_false, gX7_meanRide, F, R, K, es, e0, nn]
theorem e7_full {x : Int32} (S : TSh κ h b) (T : TIn W SM Y) : Ev κ mX7_full [.ref b, .int x] (hX h b 33 W SM) Q = Q (.inl (some (.float (yFu Y x)))) (hX h b 33 W SM) := by
  have F := xF S
  have R := xR S
  have K := xK S
  have O := T.2.2.2.2.2.2
  unfold yFu
  by_cases c : btw x 0 (plN (yP Y) 1 - 1)
  · rw [if_pos c]
    have ei := fun (Q : zQ) => e7_isBusY (κ := κ) (W := W) (SM := SM) (Q := Q) S T.1 O c
    obtain ⟨m, hs, -, hm, -⟩ := btw_nat c
    subst hs
    have hm' : m < plN (yP Y) 1 := by have := O.2.1.1; omega
    have hnb := O.2.1.2
    rw [I_nat (by omega)]
    have p7 : W 7 m = plT (yP Y) 7 m := T.1.2.2.2.2.2.2.2.1 7 (by decide) m hm'
    have o4 := fun (Q : zQ) => ofX (κ := κ) (W := W) (SM := SM) (Q := Q) (k := m) (c := 4) S (by omega)
    have e4 : W 13 (164 + 13 * m + 4) = Int32.ofNat (bR (yS Y) m).length := (T.2.1.1.2.2.2.1 m (by omega)).2.1
    obtain ⟨s7, s1, s2, -⟩ := O.2.2.2.2.1 m hm'
    have lb := (T.2.1.2.2.2.1 m (by omega)).1
    have nn := fdiv_nn (c := (bR (yS Y) m).length) (s := plI (yP Y) 7 m) (by omega) s1 (by omega)
    rw [← s7] at nn
    simp (disch := first | assumption | omega | decide) only [gB, I_all, zK_v, zK_n, true_and, and_true, Nat.reduceAdd, Nat.reduceMul, Nat.reduceSub, z_lt, z_le, z_neq, not_false_eq_true, or_true, true_or, or_false, false_or, false_and, and_false, gX7_full, F, R, K, ei, o4, e4, p7, nn]
  · rw [if_neg c]
    have ei := fun (Q : zQ) => e7_isBusN (κ := κ) (W := W) (SM := SM) (Q := Q) S T.1 O c
    simp (disch := first | assumption | omega | decide) only [gB, I_all, zK_v, zK_n, true_and, and_true, Nat.reduceAdd, Nat.reduceMul, Nat.reduceSub, z_lt, z_le, z_neq, not_false_eq_true, or_true, true_or, or_false, false_or, false_and, and_false, gX7_full, F, R, K, ei]
end
