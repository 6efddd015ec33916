/-! base rules for running AM by simp -/
abbrev I (n : Nat) : Int32 := Int32.ofNat n
theorem I_nat {n : Nat} (h : n < 2147483648) : (Int32.ofNat n).toNatClampNeg = n := by
  rw [Int32.toNatClampNeg_ofNat_of_lt]; omega
theorem I_add (a b : Nat) : Int32.ofNat a + Int32.ofNat b = Int32.ofNat (a + b) := (Int32.ofNat_add a b).symm
theorem I_mul (a b : Nat) : Int32.ofNat a * Int32.ofNat b = Int32.ofNat (a * b) := (Int32.ofNat_mul a b).symm
theorem I_sub {a b : Nat} (h : b ≤ a) : Int32.ofNat a - Int32.ofNat b = Int32.ofNat (a - b) := by
  have e : Int32.ofNat a = Int32.ofNat (a - b) + Int32.ofNat b := by rw [I_add, Nat.sub_add_cancel h]
  rw [e, Int32.add_sub_cancel]
theorem I_inc (a : Nat) : Int32.ofNat a + Int32.ofInt 1 = Int32.ofNat (a + 1) := I_add a 1
theorem I_toInt {n : Nat} (h : n < 2147483648) : (Int32.ofNat n).toInt = n := by
  rw [Int32.toInt_ofNat_of_lt]; omega
theorem I_lt {a b : Nat} (ha : a < 2147483648) (hb : b < 2147483648) : Int32.ofNat a < Int32.ofNat b ↔ a < b := by
  rw [Int32.lt_iff_toInt_lt, I_toInt ha, I_toInt hb]; omega
theorem I_le {a b : Nat} (ha : a < 2147483648) (hb : b < 2147483648) : Int32.ofNat a ≤ Int32.ofNat b ↔ a ≤ b := by
  rw [Int32.le_iff_toInt_le, I_toInt ha, I_toInt hb]; omega
theorem I_eq {a b : Nat} (ha : a < 2147483648) (hb : b < 2147483648) : Int32.ofNat a = Int32.ofNat b ↔ a = b := by
  rw [← Int32.toInt_inj, I_toInt ha, I_toInt hb]; omega
theorem I_in {n l : Nat} (h : n < 2147483648) : (zIn (Int32.ofNat n) l = true) ↔ n < l := by
  unfold zIn
  rw [I_nat h, decide_eq_true_iff, Int32.lt_iff_toInt_lt, I_toInt h]
  show ¬ ((n : Int) < (0 : Int32).toInt ∨ _) ↔ _
  rw [show (0 : Int32).toInt = 0 from rfl]
  omega
theorem gB : (∀ x, (Value.int x).category = 1) ∧ (∀ a, (Value.ref a).category = 1) ∧ (Value.null.category = 1) ∧ (∀ x, (Value.long x).category = 2) ∧ (∀ x, (Value.double x).category = 2) ∧ (∀ x, (Value.float x).category = 1) ∧
    (∀ x, (zTy 0 (.int x) = true) = True) ∧ (∀ x, (zTy 1 (.long x) = true) = True) ∧ (∀ a, (zTy 2 (.ref a) = true) = True) ∧ ((zTy 2 .null = true) = True) ∧ (∀ x, (zTy 3 (.double x) = true) = True) ∧
    (∀ x, zClob 0 (some (.int x)) = some (.int x)) ∧ (∀ x, zClob 0 (some (.ref x)) = some (.ref x)) ∧ (zClob 0 (some .null) = some .null) ∧ (zClob 0 none = none) ∧ (∀ x, zClob 0 (some (.long x)) = none) ∧ (∀ x, zClob 0 (some (.double x)) = none) ∧ (∀ x, zClob 0 (some (.float x)) = some (.float x)) ∧
    (zSum [] = 0) ∧ (∀ v l, zSum (v :: l) = v.category + zSum l) ∧ (zSize [] = 0) ∧ (∀ v l, zSize (v :: l) = v.category + zSize l) ∧
    (∀ x, (zFit .int (.int x) = true) = True) ∧ (∀ x, (zFit .long (.long x) = true) = True) ∧ (∀ c a, (zFit (.object c) (.ref a) = true) = True) ∧ (∀ c, (zFit (.object c) .null = true) = True) ∧ (∀ c a, (zFit (.array c) (.ref a) = true) = True) ∧ (∀ c, (zFit (.array c) .null = true) = True) :=
  ⟨fun _ => rfl, fun _ => rfl, rfl, fun _ => rfl, fun _ => rfl, fun _ => rfl, fun _ => by simp [zTy], fun _ => by simp [zTy], fun _ => by simp [zTy], by simp [zTy], fun _ => by simp [zTy],
   fun _ => rfl, fun _ => rfl, rfl, rfl, fun _ => rfl, fun _ => rfl, fun _ => rfl, rfl, fun v l => by simp [zSum], rfl, fun _ _ => rfl,
   fun x => eq_true (by simp [zFit, narrow, fits]), fun x => eq_true (by simp [zFit, narrow, fits]), fun c a => eq_true (by simp [zFit, narrow, fits]), fun c => eq_true (by simp [zFit, narrow, fits]), fun c a => eq_true (by simp [zFit, narrow, fits]), fun c => eq_true (by simp [zFit, narrow, fits])⟩
theorem zK_v {κ : zC} {m : zM} {pc ln : Nat} {ls : List (Option Value)} {st : List Value} {Q : zQ} {v : Value} {h : zH} : zK κ m pc ln ls st Q (.inl (some v)) h = Go κ m (pc + ln) ls (v :: st) h Q := rfl
theorem zK_n {κ : zC} {m : zM} {pc ln : Nat} {ls : List (Option Value)} {st : List Value} {Q : zQ} {h : zH} : zK κ m pc ln ls st Q (.inl none) h = Go κ m (pc + ln) ls st h Q := rfl
theorem z_b1 : (narrow .boolean (.int (Int32.ofNat 1)) = Value.int (Int32.ofNat 1)) = True := eq_true (by decide)
theorem z_b0 : (narrow .boolean (.int (Int32.ofNat 0)) = Value.int (Int32.ofNat 0)) = True := eq_true (by decide)
theorem z_fb1 : (zFit .boolean (.int (Int32.ofNat 1)) = true) = True := eq_true (by decide)
theorem z_fb0 : (zFit .boolean (.int (Int32.ofNat 0)) = true) = True := eq_true (by decide)
theorem I_ne_m2 {n : Nat} (h : n < 2147483648) : ¬ Int32.ofNat n < Int32.ofNat 0 := by rw [I_lt h (by omega)]; omega
theorem z_lt {a b : Nat} (h : a < b) : (a < b) = True := eq_true h
theorem z_le {a b : Nat} (h : a ≤ b) : (a ≤ b) = True := eq_true h
theorem z_neq {a b : Nat} (h : ¬ a = b) : (a = b) = False := eq_false h
