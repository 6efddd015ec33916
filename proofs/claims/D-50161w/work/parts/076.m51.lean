/-! packed words: letters back out of them -/
theorem J_nat {n : Nat} (h : n < 9223372036854775808) : (Int64.ofNat n).toInt = n := Int64.toInt_ofNat_of_lt (by omega)
theorem J_shr {a k : Nat} (hk : k < 9) (h : a < 2 ^ 62) : Int64.ofNat a >>> ((Int32.ofNat (5 * k)).toInt64 &&& 63) = Int64.ofNat (a / 2 ^ (5 * k)) := by
  have hD : (((Int32.ofNat (5 * k)).toInt64 &&& 63).toBitVec.smod 64).toNat = 5 * k := by
    have : ∀ k, k < 9 → (((Int32.ofNat (5 * k)).toInt64 &&& 63).toBitVec.smod 64).toNat = 5 * k := by decide
    exact this k hk
  generalize (Int32.ofNat (5 * k)).toInt64 &&& 63 = D at *
  have hd : a / 2 ^ (5 * k) ≤ a := Nat.div_le_self _ _
  apply Int64.toInt_inj.mp
  have e : (Int64.ofNat a >>> D).toInt = (Int64.ofNat a).toInt >>> (5 * k) := by
    rw [← hD]
    exact BitVec.toInt_sshiftRight ..
  rw [e, Int.shiftRight_eq_div_pow, J_nat (by omega), J_nat (by omega)]
  rfl
theorem J_and (a b : Nat) : Int64.ofNat a &&& Int64.ofNat b = Int64.ofNat (a &&& b) := by
  apply Int64.toBitVec_inj.1
  show BitVec.ofNat 64 a &&& BitVec.ofNat 64 b = BitVec.ofNat 64 (a &&& b)
  apply BitVec.eq_of_getLsbD_eq
  intro i hi
  simp [hi]
theorem I_or (a b : Nat) : Int32.ofNat a ||| Int32.ofNat b = Int32.ofNat (a ||| b) := by
  apply Int32.toBitVec_inj.1
  show BitVec.ofNat 32 a ||| BitVec.ofNat 32 b = BitVec.ofNat 32 (a ||| b)
  apply BitVec.eq_of_getLsbD_eq
  intro i hi
  simp [hi]
theorem J_32 {n : Nat} (h : n < 2147483648) : (Int64.ofNat n).toInt32 = Int32.ofNat n := by
  rw [← I_64 h]
  exact Int32.toInt32_toInt64 _
theorem wdC_N {a k : Nat} (hk : k < 9) (h : a < 2 ^ 62) : wdC (Int64.ofNat a) k = Int32.ofNat (a / 32 ^ k % 32) := by
  unfold wdC
  rw [J_shr hk h, J_and, Nat.and_two_pow_sub_one_eq_mod _ 5, J_32 (by omega), Nat.pow_mul]
/-- the letters of a number in base 32 -/
def lN1 (d : Nat) : List Int32 := if 0 < d then [Int32.ofNat (96 + d)] else []
theorem wdF_s {a k : Nat} (hk : k < 9) (h : a < 2 ^ 62) : wdF (Int64.ofNat a) (k + 1) = lN1 (a / 32 ^ k % 32) ++ wdF (Int64.ofNat a) k := by
  have hd : a / 32 ^ k % 32 < 32 := Nat.mod_lt _ (by decide)
  conv => lhs; unfold wdF
  rw [wdC_N hk h]
  unfold lN1
  generalize a / 32 ^ k % 32 = d at *
  by_cases c : 0 < d
  · rw [if_pos c, if_pos ((I_lt (by decide) (by omega)).mpr c), I_add]
  · rw [if_neg c, if_neg (fun x => c ((I_lt (by decide) (by omega)).mp x))]
theorem dv_s (a d k : Nat) (hd : d < 32) : (32 * a + d) / 32 ^ (k + 1) = a / 32 ^ k := by
  rw [Nat.pow_succ, Nat.mul_comm (32 ^ k) 32, ← Nat.div_div_eq_div_mul]
  congr 1
  omega
theorem wdF_c {a d : Nat} (hd : d < 32) (h : 32 * a + d < 2 ^ 62) : ∀ n, n < 9 → wdF (Int64.ofNat (32 * a + d)) (n + 1) = wdF (Int64.ofNat a) n ++ lN1 d := by
  intro n
  induction n with
  | zero =>
    intro _
    rw [wdF_s (by decide) h, Nat.pow_zero, Nat.div_one, show (32 * a + d) % 32 = d by omega]
    show lN1 d ++ [] = [] ++ lN1 d
    simp
  | succ n ih =>
    intro hn
    rw [wdF_s hn h, dv_s _ _ _ hd, ih (by omega), wdF_s (a := a) (by omega) (by omega), List.append_assoc]
/-- a letter's number -/
def ltD (x : Int32) : Nat := x.toNatClampNeg - 96
theorem isL_n {x : Int32} (h : isL x = true) : x = Int32.ofNat (96 + ltD x) ∧ 1 ≤ ltD x ∧ ltD x ≤ 26 := by
  unfold isL at h
  obtain ⟨h1, h2⟩ := Bool.and_eq_true_iff.mp h
  have h1 := of_decide_eq_true h1
  have h2 := of_decide_eq_true h2
  rw [Int32.le_iff_toInt_le] at h1 h2
  have z1 : (Int32.ofNat 97).toInt = 97 := by decide
  have z2 : (Int32.ofNat 122).toInt = 122 := by decide
  obtain ⟨n, e, -, -, hn⟩ := btw_nat (x := x) (l := 0) (u := 2147483647) ⟨by omega, by have := Int32.toInt_lt x; omega⟩
  subst e
  rw [I_toInt hn] at h1 h2
  unfold ltD
  rw [I_nat hn]
  exact ⟨by congr 1; omega, by omega, by omega⟩
/-- the first k letters as a number -/
def pn (g : List Int32) : Nat → Nat
  | 0 => 0
  | k + 1 => 32 * pn g k + ltD ((g[k]?).getD 0)
/-- the first r are letters -/
def allL (g : List Int32) (r : Nat) : Prop := ∀ k, k < r → ∃ x, g[k]? = some x ∧ isL x = true
theorem pn_s {g : List Int32} {r : Nat} {x : Int32} (h : g[r]? = some x) : pn g (r + 1) = 32 * pn g r + ltD x := by
  conv => lhs; unfold pn
  rw [h]; rfl
theorem pn_lt {g : List Int32} : ∀ {r : Nat}, allL g r → pn g r < 32 ^ r := by
  intro r
  induction r with
  | zero => intro _; show (0 : Nat) < 1; decide
  | succ r ih =>
    intro h
    have := ih (fun k hk => h k (by omega))
    obtain ⟨x, h1, h2⟩ := h r (by omega)
    obtain ⟨-, -, h3⟩ := isL_n h2
    rw [pn_s h1, Nat.pow_succ]
    omega
theorem p32 {r : Nat} (h : r ≤ 9) : 32 ^ r ≤ 35184372088832 := by
  have hp : r = 0 ∨ r = 1 ∨ r = 2 ∨ r = 3 ∨ r = 4 ∨ r = 5 ∨ r = 6 ∨ r = 7 ∨ r = 8 ∨ r = 9 := by omega
  rcases hp with rfl | rfl | rfl | rfl | rfl | rfl | rfl | rfl | rfl | rfl <;> decide
theorem wdF_pn {g : List Int32} : ∀ {r n : Nat}, r ≤ n → n ≤ 9 → allL g r → wdF (Int64.ofNat (pn g r)) n = g.take r := by
  intro r
  induction r with
  | zero =>
    intro n _ hn _
    have : ∀ n, n ≤ 9 → wdF (Int64.ofNat (pn g 0)) n = [] := by
      intro n
      induction n with
      | zero => intro _; rfl
      | succ n ih =>
        intro hn
        rw [wdF_s (by omega) (by show (0 : Nat) < _; decide), ih (by omega)]
        show lN1 (0 / 32 ^ n % 32) ++ [] = []
        rw [Nat.zero_div]
        rfl
    rw [this n hn]
    rfl
  | succ r ih =>
    intro n hrn hn h
    obtain ⟨m, rfl⟩ : ∃ m, n = m + 1 := ⟨n - 1, by omega⟩
    have hr := fun k hk => h k (by omega : k < r + 1)
    obtain ⟨x, h1, h2⟩ := h r (by omega)
    obtain ⟨h3, h4, h5⟩ := isL_n h2
    have hlt := pn_lt h
    have hp := p32 (r := r + 1) (by omega)
    have ex : pn g (r + 1) = 32 * pn g r + ltD x := by
      conv => lhs; unfold pn
      rw [h1]; rfl
    rw [ex] at hlt
    rw [ex, wdF_c (by omega) (by omega) m (by omega), ih (by omega) (by omega) (fun k hk => h k (by omega)), List.take_add_one, h1]
    unfold lN1
    rw [if_pos (by omega), ← h3]
    rfl
theorem wdP_pn {g : List Int32} : ∀ {r : Nat}, r ≤ 8 → allL g r → wdP g r = Int64.ofNat (pn g r) := by
  intro r
  induction r with
  | zero => intro _ _; rfl
  | succ r ih =>
    intro hr h
    obtain ⟨x, h1, h2⟩ := h r (by omega)
    obtain ⟨h3, h4, h5⟩ := isL_n h2
    unfold wdP
    rw [if_pos (by omega), ih (by omega) (fun k hk => h k (by omega))]
    rw [pn_s h1, h1]
    show Int64.ofNat 32 * Int64.ofNat (pn g r) + (x - Int32.ofNat 96).toInt64 = Int64.ofNat (32 * pn g r + ltD x)
    have e1 : x - Int32.ofNat 96 = Int32.ofNat (ltD x) := by
      conv => lhs; rw [h3]
      rw [I_sub (by omega), Nat.add_sub_cancel_left]
    rw [e1, I_64 (by omega), ← Int64.ofNat_mul, ← Int64.ofNat_add]
theorem wordL_wdP {g : List Int32} {r : Nat} (hr : r ≤ 8) (h : allL g r) : wordL (wdP g r) = g.take r := by
  rw [wdP_pn hr h]
  exact wdF_pn (by omega) (by decide) h
theorem wdF_0s {a : Nat} : ∀ m, m ≤ 9 → a * 32 ^ m < 2 ^ 62 → ∀ n, n + m ≤ 9 → wdF (Int64.ofNat (a * 32 ^ m)) (n + m) = wdF (Int64.ofNat a) n := by
  intro m
  induction m with
  | zero => intro _ _ n _; rw [Nat.pow_zero, Nat.mul_one]; rfl
  | succ m ih =>
    intro hm h n hn
    have e : a * 32 ^ (m + 1) = 32 * (a * 32 ^ m) + 0 := by
      rw [Nat.pow_succ, Nat.add_zero, ← Nat.mul_assoc, Nat.mul_comm]
    rw [e] at h ⊢
    rw [show n + (m + 1) = (n + m) + 1 by omega, wdF_c (by decide) h _ (by omega), ih (by omega) (by omega) n (by omega)]
    show wdF _ n ++ [] = _
    simp
theorem ltF_pn {g : List Int32} : ∀ {r : Nat}, r ≤ 6 → allL g r → ltF g r = Int32.ofNat (pn g r * 32 ^ (6 - r)) := by
  intro r
  induction r with
  | zero => intro _ _; rw [show pn g 0 = 0 from rfl, Nat.zero_mul]; rfl
  | succ r ih =>
    intro hr h
    obtain ⟨x, h1, h2⟩ := h r (by omega)
    obtain ⟨h3, h4, h5⟩ := isL_n h2
    unfold ltF
    rw [if_pos (by omega), ih (by omega) (fun k hk => h k (by omega))]
    rw [pn_s h1, h1]
    show _ ||| (x - Int32.ofNat 96) <<< (Int32.ofNat (25 - 5 * r) &&& 31) = Int32.ofNat ((32 * pn g r + ltD x) * 32 ^ (6 - (r + 1)))
    have e1 : x - Int32.ofNat 96 = Int32.ofNat (ltD x) := by
      conv => lhs; rw [h3]
      rw [I_sub (by omega), Nat.add_sub_cancel_left]
    have e2 : ∀ d, d < 27 → ∀ r, r < 6 → Int32.ofNat d <<< (Int32.ofNat (25 - 5 * r) &&& 31) = Int32.ofNat (d * 2 ^ (5 * (5 - r))) := by decide
    have e3 : pn g r * 32 ^ (6 - r) = pn g r <<< (5 * (6 - r)) := by rw [Nat.shiftLeft_eq, Nat.pow_mul]
    have e4 : ltD x * 2 ^ (5 * (5 - r)) < 2 ^ (5 * (6 - r)) := by
      rw [show 6 - r = (5 - r) + 1 by omega, Nat.mul_add, Nat.pow_add, Nat.mul_comm]
      exact Nat.mul_lt_mul_of_pos_left (by omega) (Nat.pow_pos (by decide))
    rw [e1, e2 _ (by omega) r (by omega), I_or, e3, ← Nat.shiftLeft_add_eq_or_of_lt e4, ← e3]
    congr 1
    rw [show 6 - r = (6 - (r + 1)) + 1 by omega, Nat.pow_succ, Nat.pow_mul, show 5 - r = 6 - (r + 1) by omega, Nat.add_mul]
    congr 1
    rw [Nat.mul_comm (32 ^ _) 32, ← Nat.mul_assoc, Nat.mul_comm (pn g r) 32]
theorem wordL_ltF {g : List Int32} {r : Nat} (hr : r ≤ 6) (h : allL g r) : wordL (ltF g r).toInt64 = g.take r := by
  have hlt := pn_lt h
  have hb : pn g r * 32 ^ (6 - r) < 32 ^ 6 := by
    have : (32 : Nat) ^ 6 = 32 ^ r * 32 ^ (6 - r) := by rw [← Nat.pow_add]; congr 1; omega
    rw [this]
    exact Nat.mul_lt_mul_of_pos_right hlt (Nat.pow_pos (by decide))
  have h6 : (32 : Nat) ^ 6 = 1073741824 := by decide
  rw [ltF_pn hr h, I_64 (by omega)]
  unfold wordL
  have := wdF_0s (a := pn g r) (6 - r) (by omega) (by omega) (9 - (6 - r)) (by omega)
  rw [show 9 - (6 - r) + (6 - r) = 9 by omega] at this
  rw [this]
  exact wdF_pn (by omega) (by omega) h
