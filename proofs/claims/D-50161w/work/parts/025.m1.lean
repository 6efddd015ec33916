/-! the twin over AM: its shape, its heap's normal form; small functions -/
def zu {α : Type} (w : Nat → α) (i : Nat) (v : α) : Nat → α := fun j => if j = i then v else w j
theorem zu_eq {α : Type} (w : Nat → α) (i : Nat) (v : α) : zu w i v i = v := if_pos rfl
theorem zu_ne {α : Type} (w : Nat → α) {i j : Nat} (v : α) (h : j ≠ i) : zu w i v j = w j := if_neg h
def mTab : List (Nat × Nat × Nat × Nat) := [(1, 72, 3, 1400), (2, 82, 1, 4), (3, 83, 1, 10), (4, 84, 1, 10), (5, 85, 1, 10), (6, 86, 1, 10), (7, 87, 1, 6), (8, 88, 1, 6), (9, 89, 1, 16), (10, 90, 1, 16), (11, 91, 1, 16), (12, 92, 1, 16), (13, 93, 1, 3614), (14, 94, 2, 2), (15, 95, 1, 3614), (16, 96, 2, 2), (17, 97, 1, 28912), (18, 98, 2, 16), (19, 99, 1, 7228), (20, 100, 2, 4), (21, 101, 4, 2), (22, 114, 1, 8), (23, 115, 1, 10), (24, 116, 1, 10), (25, 117, 1, 10), (26, 118, 1, 10), (27, 119, 1, 6), (28, 120, 1, 6), (29, 121, 1, 16), (30, 122, 1, 16), (31, 123, 1, 16), (32, 124, 1, 16)]
/-- the twin lies at b: its arrays -/
def MSh (κ : zC) (h : zH) (b : Nat) : Prop := kB κ ≤ b ∧ hK h b = 107 ∧ ∀ q ∈ mTab, hV h b q.2.1 = .ref (b + q.1) ∧ hK h (b + q.1) = q.2.2.1 ∧ hL h (b + q.1) = q.2.2.2
/-- the heap whose twin has the world w, the sums sm, outNow o -/
def hM (h : zH) (b : Nat) (w : Nat → Int32) (sm : Nat → Int64) (o : Int32) : zH := (h.1, h.2.1, fun a j => if a = b + 13 then .int (w j) else if a = b + 14 then .long (sm j) else if a = b then (if j = 103 then .int o else h.2.2.1 a j) else h.2.2.1 a j, h.2.2.2)
section
variable {κ : zC} {h : zH} {b : Nat} {w : Nat → Int32} {sm : Nat → Int64} {o : Int32} {Q : zQ}
theorem hK_M (a : Nat) : hK (hM h b w sm o) a = hK h a := rfl
theorem hL_M (a : Nat) : hL (hM h b w sm o) a = hL h a := rfl
theorem hN_M : hN (hM h b w sm o) = hN h := rfl
theorem hU_M : hU (hM h b w sm o) = hU h := rfl
theorem hV_Mw (j : Nat) : hV (hM h b w sm o) (b + 13) j = .int (w j) := if_pos rfl
theorem hV_Ms (j : Nat) : hV (hM h b w sm o) (b + 14) j = .long (sm j) := by
  show (if b + 14 = b + 13 then _ else _) = _
  rw [if_neg (by omega), if_pos rfl]
theorem hV_Mo : hV (hM h b w sm o) b 103 = .int o := by
  show (if b = b + 13 then _ else _) = _
  rw [if_neg (by omega), if_neg (by omega), if_pos rfl, if_pos rfl]
theorem hV_Mf {g : Nat} (hg : g ≠ 103) : hV (hM h b w sm o) b g = hV h b g := by
  show (if b = b + 13 then _ else _) = _
  rw [if_neg (by omega), if_neg (by omega), if_pos rfl, if_neg hg]; rfl
theorem hV_Mx {k : Nat} (h1 : k ≠ 13) (h2 : k ≠ 14) (h3 : 0 < k) (j : Nat) : hV (hM h b w sm o) (b + k) j = hV h (b + k) j := by
  show (if b + k = b + 13 then _ else _) = _
  rw [if_neg (by omega), if_neg (by omega), if_neg (by omega)]; rfl
theorem hM_w (i : Nat) (v : Int32) : hW (hM h b w sm o) (b + 13) i (.int v) = hM h b (zu w i v) sm o := by
  unfold hW hM
  congr 3
  funext a j
  by_cases h1 : a = b + 13
  · simp only [h1, if_true, zu]
    split <;> rfl
  · simp only [h1, if_false]
theorem hM_s (i : Nat) (v : Int64) : hW (hM h b w sm o) (b + 14) i (.long v) = hM h b w (zu sm i v) o := by
  unfold hW hM
  congr 3
  funext a j
  by_cases h1 : a = b + 14
  · have h2 : ¬ (b + 14 = b + 13) := by omega
    simp only [h1, if_true, zu, h2, if_false]
    split <;> rfl
  · simp only [h1, if_false]
theorem hM_o (v : Int32) : hW (hM h b w sm o) b 103 (.int v) = hM h b w sm v := by
  unfold hW hM
  congr 3
  funext a j
  by_cases h1 : a = b
  · have h2 : ¬ (b = b + 13) := by omega
    have h3 : ¬ (b = b + 14) := by omega
    simp only [h1, if_true, h2, h3, if_false]
    split <;> rfl
  · simp only [h1, if_false]
end
theorem hM_all : (∀ h b w sm o a, hK (hM h b w sm o) a = hK h a) ∧ (∀ h b w sm o a, hL (hM h b w sm o) a = hL h a) ∧ (∀ h b w sm o j, hV (hM h b w sm o) (b + 13) j = .int (w j)) ∧ (∀ h b w sm o j, hV (hM h b w sm o) (b + 14) j = .long (sm j)) ∧ (∀ h b w sm o, hV (hM h b w sm o) b 103 = .int o) ∧
    (∀ h b w sm o g, g ≠ 103 → hV (hM h b w sm o) b g = hV h b g) ∧ (∀ h b w sm o k j, k ≠ 13 → k ≠ 14 → 0 < k → hV (hM h b w sm o) (b + k) j = hV h (b + k) j) ∧
    (∀ h b w sm o i v, hW (hM h b w sm o) (b + 13) i (.int v) = hM h b (zu w i v) sm o) ∧ (∀ h b w sm o i v, hW (hM h b w sm o) (b + 14) i (.long v) = hM h b w (zu sm i v) o) ∧ (∀ h b w sm o v, hW (hM h b w sm o) b 103 (.int v) = hM h b w sm v) :=
  ⟨fun _ _ _ _ _ _ => rfl, fun _ _ _ _ _ _ => rfl, fun _ _ _ _ _ j => hV_Mw j, fun _ _ _ _ _ j => hV_Ms j, fun _ _ _ _ _ => hV_Mo, fun _ _ _ _ _ _ h => hV_Mf h, fun _ _ _ _ _ _ j h1 h2 h3 => hV_Mx h1 h2 h3 j, fun _ _ _ _ _ i v => hM_w i v, fun _ _ _ _ _ i v => hM_s i v, fun _ _ _ _ _ v => hM_o v⟩
theorem I_all : (∀ a b, Int32.ofNat a + Int32.ofNat b = Int32.ofNat (a + b)) ∧ (∀ a b, Int32.ofNat a * Int32.ofNat b = Int32.ofNat (a * b)) ∧ (∀ n, n < 2147483648 → (Int32.ofNat n).toNatClampNeg = n) ∧ (∀ n l, n < 2147483648 → ((zIn (Int32.ofNat n) l = true) ↔ n < l)) ∧
    (∀ a b, a < 2147483648 → b < 2147483648 → (Int32.ofNat a < Int32.ofNat b ↔ a < b)) ∧ (∀ a b, a < 2147483648 → b < 2147483648 → (Int32.ofNat a ≤ Int32.ofNat b ↔ a ≤ b)) ∧ (∀ a b, a < 2147483648 → b < 2147483648 → (Int32.ofNat a = Int32.ofNat b ↔ a = b)) ∧ (∀ a, Int32.ofNat a + Int32.ofInt 1 = Int32.ofNat (a + 1)) :=
  ⟨I_add, I_mul, fun _ h => I_nat h, fun _ _ h => I_in h, fun _ _ h1 h2 => I_lt h1 h2, fun _ _ h1 h2 => I_le h1 h2, fun _ _ h1 h2 => I_eq h1 h2, I_inc⟩
section
variable {κ : zC} {h : zH} {b : Nat} {w : Nat → Int32} {sm : Nat → Int64} {o : Int32} {Q : zQ}
theorem mA {k : Nat} (S : MSh κ h b) (q : Nat × Nat × Nat) (hq : (k, q) ∈ mTab) : hV h b q.1 = .ref (b + k) ∧ hK h (b + k) = q.2.1 ∧ hL h (b + k) = q.2.2 := S.2.2 (k, q) hq
theorem mW (S : MSh κ h b) : kB κ ≤ b + 13 ∧ hK h b = 107 ∧ hV h b 93 = .ref (b + 13) ∧ hK h (b + 13) = 1 ∧ hL h (b + 13) = 3614 := ⟨Nat.le_trans S.1 (by omega), S.2.1, S.2.2 (13, 93, 1, 3614) (by decide)⟩
theorem e7_of {k c : Nat} (S : MSh κ h b) (hi : 164 + 13 * k + c < 3614) : Ev κ mX7_of [.ref b, .int (Int32.ofNat k), .int (Int32.ofNat c)] (hM h b w sm o) Q = Q (.inl (some (.int (w (164 + 13 * k + c))))) (hM h b w sm o) := by
  have S1 := mW S
  simp (disch := first | assumption | omega | decide) only [gB, I_all, zK_v, zK_n, true_and, and_true, Nat.reduceAdd, Nat.reduceMul, Nat.reduceSub, z_lt, z_le, z_neq, not_false_eq_true, hM_all, gX7_of, S1]
theorem e7_sets {k c : Nat} {v : Int32} (S : MSh κ h b) (hi : 164 + 13 * k + c < 3614) : Ev κ mX7_sets [.ref b, .int (Int32.ofNat k), .int (Int32.ofNat c), .int v] (hM h b w sm o) Q = Q (.inl none) (hM h b (zu w (164 + 13 * k + c) v) sm o) := by
  have S1 := mW S
  simp (disch := first | assumption | omega | decide) only [gB, I_all, zK_v, zK_n, true_and, and_true, Nat.reduceAdd, Nat.reduceMul, Nat.reduceSub, z_lt, z_le, z_neq, not_false_eq_true, hM_all, gX7_sets, S1]
theorem e7_counts {f c : Nat} (S : MSh κ h b) (hi : 79 + 5 * f + c < 3614) : Ev κ mX7_counts [.ref b, .int (Int32.ofNat f), .int (Int32.ofNat c)] (hM h b w sm o) Q = Q (.inl none) (hM h b (zu w (79 + 5 * f + c) (w (79 + 5 * f + c) + Int32.ofNat 1)) sm o) := by
  have S1 := mW S
  simp (disch := first | assumption | omega | decide) only [gB, I_all, zK_v, zK_n, true_and, and_true, Nat.reduceAdd, Nat.reduceMul, Nat.reduceSub, z_lt, z_le, z_neq, not_false_eq_true, hM_all, gX7_counts, S1]
theorem e7_account {f c : Nat} (S : MSh κ h b) (hi : 79 + 5 * f + c < 3614) : Ev κ mX7_account [.ref b, .int (Int32.ofNat f), .int (Int32.ofNat c)] (hM h b w sm o) Q = Q (.inl (some (.int (w (79 + 5 * f + c))))) (hM h b w sm o) := by
  have S1 := mW S
  simp (disch := first | assumption | omega | decide) only [gB, I_all, zK_v, zK_n, true_and, and_true, Nat.reduceAdd, Nat.reduceMul, Nat.reduceSub, z_lt, z_le, z_neq, not_false_eq_true, hM_all, gX7_account, S1]
theorem e7_riderAt {s i : Nat} : Ev κ mX7_riderAt [.int (Int32.ofNat s), .int (Int32.ofNat i)] h Q = Q (.inl (some (.int (Int32.ofNat (242 + 120 * s + 3 * i))))) h := by
  simp (disch := first | assumption | omega | decide) only [gB, I_all, zK_v, zK_n, true_and, and_true, Nat.reduceAdd, Nat.reduceMul, Nat.reduceSub, z_lt, z_le, z_neq, not_false_eq_true, gX7_riderAt]
theorem e7_seatAt {s i : Nat} : Ev κ mX7_seatAt [.int (Int32.ofNat s), .int (Int32.ofNat i)] h Q = Q (.inl (some (.int (Int32.ofNat (1832 + 297 * s + 3 * i))))) h := by
  simp (disch := first | assumption | omega | decide) only [gB, I_all, zK_v, zK_n, true_and, and_true, Nat.reduceAdd, Nat.reduceMul, Nat.reduceSub, z_lt, z_le, z_neq, not_false_eq_true, gX7_seatAt]
theorem e7_leavingAt {s i : Nat} : Ev κ mX7_leavingAt [.int (Int32.ofNat s), .int (Int32.ofNat i)] h Q = Q (.inl (some (.int (Int32.ofNat (1442 + 24 * s + 3 * i))))) h := by
  simp (disch := first | assumption | omega | decide) only [gB, I_all, zK_v, zK_n, true_and, and_true, Nat.reduceAdd, Nat.reduceMul, Nat.reduceSub, z_lt, z_le, z_neq, not_false_eq_true, gX7_leavingAt]
/-- a row without its first riders: up to the place k -/
def rSk (w : Nat → Int32) (s m k : Nat) : Nat → Int32 := fun j => if 242 + 120 * s ≤ j ∧ j < 242 + 120 * s + k then w (j + 3 * m) else w j
theorem rSk_0 (w : Nat → Int32) (s m : Nat) : rSk w s m 0 = w := by
  funext j
  unfold rSk
  rw [if_neg (by omega)]
theorem rSk_up (w : Nat → Int32) (s m k : Nat) : zu (rSk w s m k) (242 + 120 * s + k) (rSk w s m k (242 + 120 * s + k + 3 * m)) = rSk w s m (k + 1) := by
  funext j
  unfold zu rSk
  by_cases h1 : j = 242 + 120 * s + k
  · rw [if_pos h1, if_neg (by omega), if_pos (by omega), h1]
  · rw [if_neg h1]
    by_cases h2 : 242 + 120 * s ≤ j ∧ j < 242 + 120 * s + k
    · rw [if_pos h2, if_pos (by omega)]
    · rw [if_neg h2, if_neg (by omega)]
theorem rSk_lo (w : Nat → Int32) (s m k j : Nat) (h : j < 242) : rSk w s m k j = w j := by
  unfold rSk
  rw [if_neg (by omega)]
theorem e7_shifts {s n m : Nat} (S : MSh κ h b) (hs : s < 10) (hn : n ≤ 40) (hm : m ≤ n) (hw : w (23 + s) = Int32.ofNat n) : Ev κ mX7_shifts [.ref b, .int (Int32.ofNat s), .int (Int32.ofNat m)] (hM h b w sm o) Q = Q (.inl none) (hM h b (rSk (zu w (23 + s) (Int32.ofNat (n - m))) s m (3 * (n - m))) sm o) := by
  have S1 := mW S
  have lp : ∀ d k, k + d = 3 * (n - m) → Go κ mX7_shifts 19 [some (.ref b), some (.int (Int32.ofNat s)), some (.int (Int32.ofNat m)), some (.int (Int32.ofNat (242 + 120 * s + k)))] [] (hM h b (rSk (zu w (23 + s) (Int32.ofNat (n - m))) s m k) sm o) Q = Q (.inl none) (hM h b (rSk (zu w (23 + s) (Int32.ofNat (n - m))) s m (3 * (n - m))) sm o) := by
    intro d
    induction d with
    | zero =>
      intro k hk
      have e1 : rSk (zu w (23 + s) (Int32.ofNat (n - m))) s m k (23 + s) = Int32.ofNat (n - m) := by rw [rSk_lo _ _ _ _ _ (by omega), zu_eq]
      have e2 : k = 3 * (n - m) := by omega
      simp (disch := first | assumption | omega | decide) only [gB, I_all, zK_v, zK_n, true_and, and_true, Nat.reduceAdd, Nat.reduceMul, Nat.reduceSub, z_lt, z_le, z_neq, not_false_eq_true, hM_all, gX7_shifts_h]
      simp (disch := first | assumption | omega | decide) only [gB, I_all, zK_v, zK_n, true_and, and_true, Nat.reduceAdd, Nat.reduceMul, Nat.reduceSub, z_lt, z_le, z_neq, not_false_eq_true, hM_all, gX7_shifts, S1, e7_riderAt, e1]
      rw [e2]
    | succ d ih =>
      intro k hk
      have e1 : rSk (zu w (23 + s) (Int32.ofNat (n - m))) s m k (23 + s) = Int32.ofNat (n - m) := by rw [rSk_lo _ _ _ _ _ (by omega), zu_eq]
      simp (disch := first | assumption | omega | decide) only [gB, I_all, zK_v, zK_n, true_and, and_true, Nat.reduceAdd, Nat.reduceMul, Nat.reduceSub, z_lt, z_le, z_neq, not_false_eq_true, hM_all, gX7_shifts_h]
      simp (disch := first | assumption | omega | decide) only [gB, I_all, zK_v, zK_n, true_and, and_true, Nat.reduceAdd, Nat.reduceMul, Nat.reduceSub, z_lt, z_le, z_neq, not_false_eq_true, hM_all, gX7_shifts, S1, e7_riderAt, e1, rSk_up]
      exact ih (k + 1) (by omega)
  simp (disch := first | assumption | omega | decide) only [gB, I_all, zK_v, zK_n, true_and, and_true, Nat.reduceAdd, Nat.reduceMul, Nat.reduceSub, z_lt, z_le, z_neq, not_false_eq_true, hM_all, gX7_shifts, S1, hw, I_sub, e7_riderAt, zu_eq]
  have := lp (3 * (n - m)) 0 (by omega)
  rw [rSk_0] at this
  exact this
end
