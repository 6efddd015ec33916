/-! the component: how long a bus is wanted to stay -/
/-- the first k drives together -/
def ar (π : Pl) : Nat → Int32
  | 0 => Int32.ofNat 0
  | k + 1 => ar π k + plT π 4 k
theorem i_r1 (a b c : Int32) : a + (b - (c + a)) = b - c := by grind
theorem i_r2 (a b c d : Int32) : a + (b - (c + a) + d) = b - c + d := by grind
theorem i_r3 (a b c : Int32) : a + (b - Int32.ofNat 0) = (c + a) - c + b := by
  rw [show b - Int32.ofNat 0 = b from Int32.sub_zero b]
  grind
theorem wayF_ar {π : Pl} {to : Nat} (ht : to < plN π 0) : ∀ (k s : Nat), s < plN π 0 → dst π s to ≤ k → wayF π to k s = if s ≤ to then ar π to - ar π s else ar π (plN π 0) - ar π s + ar π to := by
  intro k
  induction k with
  | zero =>
    intro s hs hd
    have e : s = to := by unfold dst at hd; split at hd <;> omega
    subst e
    rw [if_pos (Nat.le_refl _)]
    exact (Int32.sub_self _).symm
  | succ k ih =>
    intro s hs hd
    show (if s = to then Int32.ofNat 0 else plT π 4 s + wayF π to k (nxt π s)) = _
    by_cases e : s = to
    · subst e
      rw [if_pos rfl, if_pos (Nat.le_refl _)]
      exact (Int32.sub_self _).symm
    · obtain ⟨d1, d2⟩ := dst_nxt hs ht e
      rw [if_neg e, ih _ d1 (by omega)]
      unfold nxt at *
      by_cases c : s + 1 = plN π 0
      · rw [if_pos c, if_pos (Nat.zero_le _), if_neg (by omega), ← c]
        exact i_r3 _ _ _
      · rw [if_neg c]
        by_cases c2 : s + 1 ≤ to
        · rw [if_pos c2, if_pos (by omega)]
          exact i_r1 _ _ _
        · rw [if_neg c2, if_neg (by omega)]
          exact i_r2 _ _ _ _
theorem i_r4 (a b : Int32) : b + (a - Int32.ofNat 0) = a + b := by
  rw [show a - Int32.ofNat 0 = a from Int32.sub_zero a]
  exact Int32.add_comm _ _
theorem i_r5 (a b c : Int32) : b + (c - (a + b) + a) = c := by grind
theorem ar_S {π : Pl} {s : Nat} (hs : s < plN π 0) : ar π (plN π 0) = plT π 4 s + way π (nxt π s) s := by
  have hn : nxt π s < plN π 0 := nxt_lt hs
  have hd := dst_lt hn hs
  unfold way
  rw [wayF_ar hs _ _ hn (by omega)]
  unfold nxt
  by_cases c : s + 1 = plN π 0
  · rw [if_pos c, if_pos (Nat.zero_le _), ← c]
    exact (i_r4 _ _).symm
  · rw [if_neg c, if_neg (by omega)]
    exact (i_r5 _ _ _).symm
/-- what the component wants: may be below 0 -/
def wanC (π : Pl) (σ : Sg) (b : Nat) (m t : Int32) : Int32 :=
  if m = Int32.ofNat 1 then (if sN σ (33 + bI σ b 1) < Int32.ofNat 0 then Int32.ofNat 0 else sN σ (33 + bI σ b 1) + sN σ 2 - t)
  else if m = Int32.ofNat 2 then plT π 8 b + bF σ b 3 * sN σ 5 + plT π 5 (bI σ b 1) - t
  else if m = Int32.ofNat 3 then (if sN σ (33 + bI σ b 1) < Int32.ofNat 0 then Int32.ofNat 0 else if untl π σ b t (plN π 1) < Int32.ofNat 0 then Int32.ofNat 0 else (untl π σ b t (plN π 1) - (t - sN σ (33 + bI σ b 1))) / Int32.ofNat 2)
  else Int32.ofNat 0
theorem i_half {x : Int32} (h : x ≤ Int32.ofNat 0) : x / Int32.ofNat 2 ≤ Int32.ofNat 0 := by
  rw [Int32.le_iff_toInt_le] at h ⊢
  have z : (Int32.ofNat 0).toInt = 0 := by decide
  have t2 : (Int32.ofNat 2).toInt = 2 := by decide
  rw [z] at h ⊢
  have lo := Int32.le_toInt x
  have hd : x.toInt.tdiv 2 ≤ 0 ∧ -2147483648 ≤ x.toInt.tdiv 2 := by
    obtain ⟨k, hk⟩ : ∃ k : Nat, x.toInt = -(k : Int) := ⟨(-x.toInt).toNat, by omega⟩
    rw [hk, Int.neg_tdiv]
    have : (k : Int).tdiv 2 = ((k / 2 : Nat) : Int) := rfl
    omega
  rw [Int32.toInt_div, t2]
  have : (x.toInt.tdiv 2).bmod (2 ^ 32) = x.toInt.tdiv 2 := by
    rw [Int.bmod_eq_of_le] <;> omega
  rw [this]
  exact hd.1
theorem wanC_w (π : Pl) (σ : Sg) (b : Nat) (m t : Int32) : wanC π σ b m t = wantd π σ b m t ∨ (wanC π σ b m t ≤ Int32.ofNat 0 ∧ wantd π σ b m t = Int32.ofNat 0) := by
  have d2 : Int32.ofInt (-2) < Int32.ofNat 0 := by decide
  have n12 : ¬ Int32.ofNat 1 = Int32.ofNat 2 := by decide
  have n13 : ¬ Int32.ofNat 1 = Int32.ofNat 3 := by decide
  have n23 : ¬ Int32.ofNat 2 = Int32.ofNat 3 := by decide
  unfold wanC wantd
  dsimp only
  generalize sN σ (33 + bI σ b 1) = left
  generalize untl π σ b t (plN π 1) = u
  have F : ∀ P : Prop, ¬ P → (P = False) := fun P h => eq_false h
  by_cases hl : left < Int32.ofNat 0
  · have hl' : ¬ Int32.ofNat 0 ≤ left := Int32.not_le.mpr hl
    by_cases m1 : m = Int32.ofNat 1
    · subst m1
      simp only [hl, hl', n12, n13, d2, if_true, if_false, and_false, false_and, true_or]
    · by_cases m2 : m = Int32.ofNat 2
      · subst m2
        simp only [m1, hl, hl', n23, d2, if_true, if_false, and_false, false_and, true_or]
      · by_cases m3 : m = Int32.ofNat 3
        · subst m3
          simp only [m1, m2, hl, hl', d2, if_true, if_false, and_false, false_and, true_or]
        · simp only [m1, m2, m3, hl, hl', d2, if_true, if_false, and_false, false_and, true_or]
  · have hl' : Int32.ofNat 0 ≤ left := Int32.not_lt.mp hl
    by_cases m1 : m = Int32.ofNat 1
    · subst m1
      simp only [hl, hl', if_true, if_false, and_true, true_or]
    · by_cases m2 : m = Int32.ofNat 2
      · subst m2
        simp only [m1, hl, hl', if_true, if_false, and_true, false_and, true_or]
      · by_cases m3 : m = Int32.ofNat 3
        · subst m3
          by_cases u0 : u < Int32.ofNat 0
          · simp only [m1, m2, hl, hl', u0, if_true, if_false, and_true, false_and, true_or]
          · by_cases v0 : u - (t - left) ≤ Int32.ofNat 0
            · right
              simp only [m1, m2, hl, hl', u0, v0, if_true, if_false, and_true, false_and]
              exact i_half v0
            · simp only [m1, m2, hl, hl', u0, v0, if_true, if_false, and_true, false_and, true_or]
        · simp only [m1, m2, m3, hl, hl', d2, if_true, if_false, and_true, false_and, true_or]
def minI (x y : Int32) : Int32 := if x ≤ y then x else y
def max0 (y : Int32) : Int32 := if Int32.ofNat 0 < y then y else Int32.ofNat 0
/-- held: the same on both sides -/
theorem wanC_h {π : Pl} {σ : Sg} {b : Nat} {m t : Int32} (hc : 0 ≤ (sN σ 3).toInt) : max0 (minI (wanC π σ b m t) (sN σ 3)) = heldB π σ b m t := by
  have z : (Int32.ofNat 0).toInt = 0 := by decide
  have key : ∀ x : Int32, x ≤ Int32.ofNat 0 → max0 (minI x (sN σ 3)) = Int32.ofNat 0 := fun x hx => by
    have h1 : x ≤ sN σ 3 := by rw [Int32.le_iff_toInt_le] at hx ⊢; omega
    unfold max0 minI
    rw [if_pos h1, if_neg (Int32.not_lt.mpr hx)]
  unfold heldB
  dsimp only
  rcases wanC_w π σ b m t with e | ⟨e1, e2⟩
  · rw [e]
    generalize wantd π σ b m t = i
    by_cases h : i ≤ Int32.ofNat 0
    · rw [if_pos h, key i h]
    · rw [if_neg h]
      unfold max0 minI
      by_cases h2 : sN σ 3 < i
      · rw [if_pos h2, if_neg (Int32.not_le.mpr h2)]
        by_cases h3 : Int32.ofNat 0 < sN σ 3
        · rw [if_pos h3]
        · rw [if_neg h3]
          rw [← Int32.toInt_inj]
          rw [Int32.lt_iff_toInt_lt] at h3
          omega
      · rw [if_neg h2, if_pos (Int32.not_lt.mp h2), if_pos (Int32.not_le.mp h)]
  · rw [e2, key _ e1, if_pos]
    rw [Int32.le_iff_toInt_le]
    omega
theorem wanC_e {π : Pl} {σ : Sg} {b : Nat} {m t : Int32} (h : ¬ heldB π σ b m t = Int32.ofNat 0) : wanC π σ b m t = wantd π σ b m t := by
  rcases wanC_w π σ b m t with e | ⟨e1, e2⟩
  · exact e
  · exfalso
    apply h
    unfold heldB
    rw [e2]
    rfl
section
variable {κ : zC} {h : zH} {a n p q0 q K cap : Nat} {π : Pl} {A : Nat → Nat → Nat} {W : Nat → Nat → Int32} {SM : Nat → Nat → Int64} {Q : zQ} {σ : Sg}
theorem e9_minI {x y : Int32} {h : zH} : Ev κ mJ9_min [.int x, .int y] h Q = Q (.inl (some (.int (minI x y)))) h := by
  unfold minI
  by_cases c : x ≤ y
  · have c' : ¬ y < x := Int32.not_lt.mpr c
    rw [if_pos c]
    simp (disch := first | assumption | omega | decide) only [gB, I_all, zK_v, zK_n, true_and, and_true, Nat.reduceAdd, Nat.reduceMul, Nat.reduceSub, z_lt, z_le, z_neq, not_false_eq_true, or_true, true_or, or_false, false_or, false_and, and_false, gJ9_min]
  · have c' : y < x := Int32.not_le.mp c
    rw [if_neg c]
    simp (disch := first | assumption | omega | decide) only [gB, I_all, zK_v, zK_n, true_and, and_true, Nat.reduceAdd, Nat.reduceMul, Nat.reduceSub, z_lt, z_le, z_neq, not_false_eq_true, or_true, true_or, or_false, false_or, false_and, and_false, gJ9_min]
theorem e9_max0 {y : Int32} {h : zH} : Ev κ mJ9_max [.int (Int32.ofNat 0), .int y] h Q = Q (.inl (some (.int (max0 y)))) h := by
  unfold max0
  by_cases c : Int32.ofNat 0 < y
  · have c' : ¬ y ≤ Int32.ofNat 0 := Int32.not_le.mpr c
    rw [if_pos c]
    simp (disch := first | assumption | omega | decide) only [gB, I_all, zK_v, zK_n, true_and, and_true, Nat.reduceAdd, Nat.reduceMul, Nat.reduceSub, z_lt, z_le, z_neq, not_false_eq_true, or_true, true_or, or_false, false_or, false_and, and_false, gJ9_max]
  · have c' : y ≤ Int32.ofNat 0 := Int32.not_lt.mp c
    rw [if_neg c]
    simp (disch := first | assumption | omega | decide) only [gB, I_all, zK_v, zK_n, true_and, and_true, Nat.reduceAdd, Nat.reduceMul, Nat.reduceSub, z_lt, z_le, z_neq, not_false_eq_true, or_true, true_or, or_false, false_or, false_and, and_false, gJ9_max]
theorem e6_isOut {st : Nat} (S : BSh h a n K cap) (hs : st < 4) (e : W K 60 = Int32.ofNat st) : Ev κ mX6_isOut [.ref (a + K)] (hX h a n W SM) Q = Q (.inl (some (.int (if st = 0 then Int32.ofNat 0 else Int32.ofNat 1)))) (hX h a n W SM) := by
  have B := bX S
  by_cases c : st = 0
  · rw [if_pos c]
    simp (disch := first | assumption | omega | decide | (refine Eq.trans (hK_X _) ?_; assumption) | fail) only [gB, I_all, zK_v, zK_n, true_and, and_true, Nat.reduceAdd, Nat.reduceMul, Nat.reduceSub, z_lt, z_le, z_neq, not_false_eq_true, or_true, true_or, or_false, false_or, false_and, and_false, gX6_isOut, B, hK_X, e, z_b0]
  · rw [if_neg c]
    simp (disch := first | assumption | omega | decide | (refine Eq.trans (hK_X _) ?_; assumption) | fail) only [gB, I_all, zK_v, zK_n, true_and, and_true, Nat.reduceAdd, Nat.reduceMul, Nat.reduceSub, z_lt, z_le, z_neq, not_false_eq_true, or_true, true_or, or_false, false_or, false_and, and_false, gX6_isOut, B, hK_X, e, z_b1]
theorem e6_isAtStop {st : Nat} (S : BSh h a n K cap) (hs : st < 4) (e : W K 60 = Int32.ofNat st) : Ev κ mX6_isAtStop [.ref (a + K)] (hX h a n W SM) Q = Q (.inl (some (.int (if 2 ≤ st then Int32.ofNat 1 else Int32.ofNat 0)))) (hX h a n W SM) := by
  have B := bX S
  by_cases c : st = 2
  · rw [if_pos (by omega)]
    simp (disch := first | assumption | omega | decide | (refine Eq.trans (hK_X _) ?_; assumption) | fail) only [gB, I_all, zK_v, zK_n, true_and, and_true, Nat.reduceAdd, Nat.reduceMul, Nat.reduceSub, z_lt, z_le, z_neq, not_false_eq_true, or_true, true_or, or_false, false_or, false_and, and_false, gX6_isAtStop, B, hK_X, e, z_b1]
  · by_cases c3 : st = 3
    · rw [if_pos (by omega)]
      simp (disch := first | assumption | omega | decide | (refine Eq.trans (hK_X _) ?_; assumption) | fail) only [gB, I_all, zK_v, zK_n, true_and, and_true, Nat.reduceAdd, Nat.reduceMul, Nat.reduceSub, z_lt, z_le, z_neq, not_false_eq_true, or_true, true_or, or_false, false_or, false_and, and_false, gX6_isAtStop, B, hK_X, e, z_b1]
    · rw [if_neg (by omega)]
      simp (disch := first | assumption | omega | decide | (refine Eq.trans (hK_X _) ?_; assumption) | fail) only [gB, I_all, zK_v, zK_n, true_and, and_true, Nat.reduceAdd, Nat.reduceMul, Nat.reduceSub, z_lt, z_le, z_neq, not_false_eq_true, or_true, true_or, or_false, false_or, false_and, and_false, gX6_isAtStop, B, hK_X, e, z_b0]
theorem e1_way {s to : Nat} (Z : ZS κ h a n p π A q0 q) (hs : s < plN π 0) (ht : to < plN π 0) : Ev κ mX1_way [.ref p, .int (Int32.ofNat s), .int (Int32.ofNat to)] (hX h a n W SM) Q = Q (.inl (some (.int (way π s to)))) (hX h a n W SM) := by
  have F := cF Z.1 Z.2.2.2.2.1
  have P := plX Z
  have G := plY Z
  have h10 := Z.2.2.1.1.2
  have lp : ∀ (k s : Nat) (x : Int32) (a1 : Option Value), s < plN π 0 → dst π s to ≤ k → Go κ mX1_way 5 [some (.ref p), a1, some (.int (Int32.ofNat to)), some (.int x), some (.int (Int32.ofNat s))] [] (hX h a n W SM) Q = Q (.inl (some (.int (x + wayF π to k s)))) (hX h a n W SM) := by
    intro k
    induction k with
    | zero =>
      intro s x a1 hs hd
      have e : s = to := by unfold dst at hd; split at hd <;> omega
      simp (disch := first | assumption | omega | decide | (refine Eq.trans (hK_X _) ?_; assumption) | fail) only [gB, I_all, zK_v, zK_n, true_and, and_true, Nat.reduceAdd, Nat.reduceMul, Nat.reduceSub, z_lt, z_le, z_neq, not_false_eq_true, or_true, true_or, or_false, false_or, false_and, and_false, gX1_way_h]
      simp (disch := first | assumption | omega | decide | (refine Eq.trans (hK_X _) ?_; assumption) | fail) only [gB, I_all, zK_v, zK_n, true_and, and_true, Nat.reduceAdd, Nat.reduceMul, Nat.reduceSub, z_lt, z_le, z_neq, not_false_eq_true, or_true, true_or, or_false, false_or, false_and, and_false, gX1_way]
      show _ = Q (.inl (some (.int (x + Int32.ofNat 0)))) _
      rw [show x + Int32.ofNat 0 = x from Int32.add_zero x]
    | succ k ih =>
      intro s x a1 hs hd
      have eu : wayF π to (k + 1) s = if s = to then Int32.ofNat 0 else plT π 4 s + wayF π to k (nxt π s) := rfl
      have e1 := fun Q => e1_next (W := W) (SM := SM) (Q := Q) Z hs
      simp (disch := first | assumption | omega | decide | (refine Eq.trans (hK_X _) ?_; assumption) | fail) only [gB, I_all, zK_v, zK_n, true_and, and_true, Nat.reduceAdd, Nat.reduceMul, Nat.reduceSub, z_lt, z_le, z_neq, not_false_eq_true, or_true, true_or, or_false, false_or, false_and, and_false, gX1_way_h]
      by_cases e : s = to
      · rw [eu, if_pos e]
        simp (disch := first | assumption | omega | decide | (refine Eq.trans (hK_X _) ?_; assumption) | fail) only [gB, I_all, zK_v, zK_n, true_and, and_true, Nat.reduceAdd, Nat.reduceMul, Nat.reduceSub, z_lt, z_le, z_neq, not_false_eq_true, or_true, true_or, or_false, false_or, false_and, and_false, gX1_way]
        rw [show x + Int32.ofNat 0 = x from Int32.add_zero x]
      · obtain ⟨d1, d2⟩ := dst_nxt hs ht e
        have ih' := ih (nxt π s) (x + plT π 4 s) a1 d1 (by omega)
        rw [eu, if_neg e, ← Int32.add_assoc]
        simp (disch := first | assumption | omega | decide | (refine Eq.trans (hK_X _) ?_; assumption) | fail) only [gB, I_all, zK_v, zK_n, true_and, and_true, Nat.reduceAdd, Nat.reduceMul, Nat.reduceSub, z_lt, z_le, z_neq, not_false_eq_true, or_true, true_or, or_false, false_or, false_and, and_false, gX1_way, F, P, G, e1, zCs]
        exact ih'
  have hd := dst_lt hs ht
  have := lp (plN π 0) s (Int32.ofNat 0) (some (.int (Int32.ofNat s))) hs (by omega)
  rw [show Int32.ofNat 0 + wayF π to (plN π 0) s = wayF π to (plN π 0) s from Int32.zero_add _] at this
  simp (disch := first | assumption | omega | decide | (refine Eq.trans (hK_X _) ?_; assumption) | fail) only [gB, I_all, zK_v, zK_n, true_and, and_true, Nat.reduceAdd, Nat.reduceMul, Nat.reduceSub, z_lt, z_le, z_neq, not_false_eq_true, or_true, true_or, or_false, false_or, false_and, and_false, gX1_way]
  exact this
theorem e1_around (Z : ZS κ h a n p π A q0 q) : Ev κ mX1_around [.ref p] (hX h a n W SM) Q = Q (.inl (some (.int (ar π (plN π 0))))) (hX h a n W SM) := by
  have F := cF Z.1 Z.2.2.2.2.1
  have P := plX Z
  have G := plY Z
  have h10 := Z.2.2.1.1.2
  have lp := Go_fr (κ := κ) (m := mX1_around) (pc := 4) (n := plN π 0) (Q := Q) (R := Q (.inl (some (.int (ar π (plN π 0))))) (hX h a n W SM)) (fun k => [some (.ref p), some (.int (ar π k)), some (.int (Int32.ofNat k))]) (fun k => hX h a n W SM) (fun k hk ih => by
    have e : ar π (k + 1) = ar π k + plT π 4 k := rfl
    rw [e] at ih
    simp (disch := first | assumption | omega | decide | (refine Eq.trans (hK_X _) ?_; assumption) | fail) only [gB, I_all, zK_v, zK_n, true_and, and_true, Nat.reduceAdd, Nat.reduceMul, Nat.reduceSub, z_lt, z_le, z_neq, not_false_eq_true, or_true, true_or, or_false, false_or, false_and, and_false, gX1_around_h]
    simp (disch := first | assumption | omega | decide | (refine Eq.trans (hK_X _) ?_; assumption) | fail) only [gB, I_all, zK_v, zK_n, true_and, and_true, Nat.reduceAdd, Nat.reduceMul, Nat.reduceSub, z_lt, z_le, z_neq, not_false_eq_true, or_true, true_or, or_false, false_or, false_and, and_false, gX1_around, F, P, G, zCs]
    exact ih) (by
    simp (disch := first | assumption | omega | decide | (refine Eq.trans (hK_X _) ?_; assumption) | fail) only [gB, I_all, zK_v, zK_n, true_and, and_true, Nat.reduceAdd, Nat.reduceMul, Nat.reduceSub, z_lt, z_le, z_neq, not_false_eq_true, or_true, true_or, or_false, false_or, false_and, and_false, gX1_around_h]
    simp (disch := first | assumption | omega | decide | (refine Eq.trans (hK_X _) ?_; assumption) | fail) only [gB, I_all, zK_v, zK_n, true_and, and_true, Nat.reduceAdd, Nat.reduceMul, Nat.reduceSub, z_lt, z_le, z_neq, not_false_eq_true, or_true, true_or, or_false, false_or, false_and, and_false, gX1_around, F, P, G])
  have e0 : ar π 0 = Int32.ofNat 0 := rfl
  rw [e0] at lp
  simp (disch := first | assumption | omega | decide | (refine Eq.trans (hK_X _) ?_; assumption) | fail) only [gB, I_all, zK_v, zK_n, true_and, and_true, Nat.reduceAdd, Nat.reduceMul, Nat.reduceSub, z_lt, z_le, z_neq, not_false_eq_true, or_true, true_or, or_false, false_or, false_and, and_false, gX1_around]
  exact lp
theorem e3_due {b s : Nat} (Z : ZS κ h a n p π A q0 q) (C : CAt π W SM σ) (hb : b < plN π 1) (hs : s < plN π 0) (e1 : bF σ b 1 = Int32.ofNat s) : Ev κ mX3_due [.ref a, .ref (a + (15 + 8 * plN π 0 + 5 * b))] (hX h a n W SM) Q = Q (.inl (some (.int (plT π 8 b + bF σ b 3 * sN σ 5 + plT π 5 s)))) (hX h a n W SM) := by
  have F := cF Z.1 Z.2.2.2.2.1
  have F2 := cRf Z.1 Z.2.2.2.2.1
  have F3 := cK Z.1
  have P := plX Z
  obtain ⟨B0, hcap⟩ := cBu Z.1 Z.2.2.2.2.1 hb
  have B := bX B0
  have Cb := C.2.2.2.2.1 b hb
  have w1 : W (15 + 8 * plN π 0 + 5 * b) 61 = Int32.ofNat s := Cb.2.1.2.1.trans e1
  have w2 : W (15 + 8 * plN π 0 + 5 * b) 59 = plT π 8 b := Cb.1.2.2
  have w3 : W (15 + 8 * plN π 0 + 5 * b) 63 = bF σ b 3 := Cb.2.1.2.2.2.1
  have w5 : W 1 3 = sN σ 5 := C.1.1.2.2.1 3 (by omega)
  have es := fun Q => e3_stop (W := W) (SM := SM) (Q := Q) Z hs
  have h10 := Z.2.2.1.1.2
  simp (disch := first | assumption | omega | decide | (refine Eq.trans (hK_X _) ?_; assumption) | fail) only [gB, I_all, zK_v, zK_n, true_and, and_true, Nat.reduceAdd, Nat.reduceMul, Nat.reduceSub, z_lt, z_le, z_neq, not_false_eq_true, or_true, true_or, or_false, false_or, false_and, and_false, gX3_due, F, F2, F3, B, P, w1, w2, w3, w5, es]
theorem i_swp (x t d : Int32) : x - t + d = x + d - t := by grind
theorem e3_wise {b s : Nat} {t u : Int32} (Z : ZS κ h a n p π A q0 q) (C : CAt π W SM σ) (OK : sOk π σ) (hb : b < plN π 1) (hs : s < plN π 0) (e1 : bF σ b 1 = Int32.ofNat s) : Ev κ mX3_wise [.ref a, .ref (a + (15 + 8 * plN π 0 + 5 * b)), .int t, .int u] (hX h a n W SM) Q = Q (.inl (some (.int (if untl π σ b t (plN π 1) < Int32.ofNat 0 then Int32.ofNat 0 else (untl π σ b t (plN π 1) - u) / Int32.ofNat 2)))) (hX h a n W SM) := by
  have F := cF Z.1 Z.2.2.2.2.1
  have F2 := cRf Z.1 Z.2.2.2.2.1
  have F3 := cK Z.1
  have F4 := cE Z.1 Z.2.2.2.2.1
  have P := plX Z
  obtain ⟨B0, hcap⟩ := cBu Z.1 Z.2.2.2.2.1 hb
  have B := bX B0
  have Cb := C.2.2.2.2.1 b hb
  have O := Z.2.2.1
  have hnb := O.2.1.2
  have h10 := O.1.2
  have eI : bI σ b 1 = s := bI_of (by omega) e1
  have w1 : W (15 + 8 * plN π 0 + 5 * b) 61 = Int32.ofNat s := Cb.2.1.2.1.trans e1
  have ea := fun Q => e1_around (W := W) (SM := SM) (Q := Q) Z
  have ew := fun s' Q hs' => e1_way (s := s') (W := W) (SM := SM) (Q := Q) Z hs' hs
  have d2 : Int32.ofInt (-2) < Int32.ofNat 0 := by decide
  have lp : ∀ (d k : Nat) (a6 a7 : Option Value), k + d = plN π 1 → Go κ mX3_wise 7 [some (.ref a), some (.ref (a + (15 + 8 * plN π 0 + 5 * b))), some (.int t), some (.int u), some (.int (untl π σ b t k)), some (.int (Int32.ofNat k)), a6, a7] [] (hX h a n W SM) Q = Q (.inl (some (.int (if untl π σ b t (plN π 1) < Int32.ofNat 0 then Int32.ofNat 0 else (untl π σ b t (plN π 1) - u) / Int32.ofNat 2)))) (hX h a n W SM) := by
    intro d
    induction d with
    | zero =>
      intro k a6 a7 hk
      have hk' : k = plN π 1 := by omega
      subst hk'
      have za : zArr 13 = true := rfl
      by_cases c : untl π σ b t (plN π 1) < Int32.ofNat 0
      · have c' : ¬ Int32.ofNat 0 ≤ untl π σ b t (plN π 1) := Int32.not_le.mpr c
        rw [if_pos c]
        simp (disch := first | assumption | omega | decide | (refine Eq.trans (hK_X _) ?_; assumption) | fail) only [gB, I_all, zK_v, zK_n, true_and, and_true, Nat.reduceAdd, Nat.reduceMul, Nat.reduceSub, z_lt, z_le, z_neq, not_false_eq_true, or_true, true_or, or_false, false_or, false_and, and_false, gX3_wise_h]
        simp (disch := first | assumption | omega | decide | (refine Eq.trans (hK_X _) ?_; assumption) | fail) only [gB, I_all, zK_v, zK_n, true_and, and_true, Nat.reduceAdd, Nat.reduceMul, Nat.reduceSub, z_lt, z_le, z_neq, not_false_eq_true, or_true, true_or, or_false, false_or, false_and, and_false, gX3_wise, F, F2, F3, za]
      · have c' : Int32.ofNat 0 ≤ untl π σ b t (plN π 1) := Int32.not_lt.mp c
        rw [if_neg c]
        simp (disch := first | assumption | omega | decide | (refine Eq.trans (hK_X _) ?_; assumption) | fail) only [gB, I_all, zK_v, zK_n, true_and, and_true, Nat.reduceAdd, Nat.reduceMul, Nat.reduceSub, z_lt, z_le, z_neq, not_false_eq_true, or_true, true_or, or_false, false_or, false_and, and_false, gX3_wise_h]
        simp (disch := first | assumption | omega | decide | (refine Eq.trans (hK_X _) ?_; assumption) | fail) only [gB, I_all, zK_v, zK_n, true_and, and_true, Nat.reduceAdd, Nat.reduceMul, Nat.reduceSub, z_lt, z_le, z_neq, not_false_eq_true, or_true, true_or, or_false, false_or, false_and, and_false, gX3_wise, F, F2, F3, za]
    | succ d ih =>
      intro k a6 a7 hk
      have hk1 : k < plN π 1 := by omega
      have za : zArr 13 = true := rfl
      have i1 := fun x y => ih (k + 1) x y (by omega)
      have ex : untl π σ b t (k + 1) = if k = b ∨ bI σ k 0 = 0 then untl π σ b t k else
        if untl π σ b t k < Int32.ofNat 0 ∨ bF σ k 2 + (if isAt σ k = true ∧ bI σ k 1 = bI σ b 1 then plT π 4 (bI σ b 1) + way π (nxt π (bI σ b 1)) (bI σ b 1) else way π (bI σ k 1) (bI σ b 1)) - t < untl π σ b t k then bF σ k 2 + (if isAt σ k = true ∧ bI σ k 1 = bI σ b 1 then plT π 4 (bI σ b 1) + way π (nxt π (bI σ b 1)) (bI σ b 1) else way π (bI σ k 1) (bI σ b 1)) - t else untl π σ b t k := rfl
      rw [ex, eI, ← ar_S hs] at i1
      simp (disch := first | assumption | omega | decide | (refine Eq.trans (hK_X _) ?_; assumption) | fail) only [gB, I_all, zK_v, zK_n, true_and, and_true, Nat.reduceAdd, Nat.reduceMul, Nat.reduceSub, z_lt, z_le, z_neq, not_false_eq_true, or_true, true_or, or_false, false_or, false_and, and_false, gX3_wise_h]
      by_cases c : k = b
      · rw [if_pos (Or.inl c)] at i1
        simp (disch := first | assumption | omega | decide | (refine Eq.trans (hK_X _) ?_; assumption) | fail) only [gB, I_all, zK_v, zK_n, true_and, and_true, Nat.reduceAdd, Nat.reduceMul, Nat.reduceSub, z_lt, z_le, z_neq, not_false_eq_true, or_true, true_or, or_false, false_or, false_and, and_false, gX3_wise, F, F2, F3, F4, za]
        exact i1 _ _
      · obtain ⟨st, s', h4, hs', q0', q1'⟩ := bst OK hk1 (by omega)
        obtain ⟨D0, -⟩ := cBu Z.1 Z.2.2.2.2.1 hk1
        have D := bX D0
        have Ck := C.2.2.2.2.1 k hk1
        have v0 : W (15 + 8 * plN π 0 + 5 * k) 60 = Int32.ofNat st := Ck.2.1.1.trans q0'
        have v1 : W (15 + 8 * plN π 0 + 5 * k) 61 = Int32.ofNat s' := Ck.2.1.2.1.trans q1'
        have v2 : W (15 + 8 * plN π 0 + 5 * k) 62 = bF σ k 2 := Ck.2.1.2.2.1
        have eo := fun Q => e6_isOut (κ := κ) (SM := SM) (Q := Q) D0 h4 v0
        have et := fun Q => e6_isAtStop (κ := κ) (SM := SM) (Q := Q) D0 h4 v0
        have ne : ¬ a + (15 + 8 * plN π 0 + 5 * k) = a + (15 + 8 * plN π 0 + 5 * b) := by omega
        rw [bI_of (by omega) q0', bI_of (by omega) q1'] at i1
        have eat : isAt σ k = decide (2 ≤ st) := by unfold isAt; rw [bI_of (by omega) q0']
        rw [eat] at i1
        by_cases c0 : st = 0
        · rw [if_pos (Or.inr c0)] at i1
          rw [if_pos c0] at eo
          simp (disch := first | assumption | omega | decide | (refine Eq.trans (hK_X _) ?_; assumption) | fail) only [gB, I_all, zK_v, zK_n, true_and, and_true, Nat.reduceAdd, Nat.reduceMul, Nat.reduceSub, z_lt, z_le, z_neq, not_false_eq_true, or_true, true_or, or_false, false_or, false_and, and_false, gX3_wise, F, F2, F3, F4, D, za, eo]
          exact i1 _ _
        · rw [if_neg (fun x => x.elim c c0)] at i1
          rw [if_neg c0] at eo
          have T : ∀ x : Int32, (∀ a6 a7, Go κ mX3_wise 7 [some (.ref a), some (.ref (a + (15 + 8 * plN π 0 + 5 * b))), some (.int t), some (.int u), some (.int (if untl π σ b t k < Int32.ofNat 0 ∨ x < untl π σ b t k then x else untl π σ b t k)), some (.int (Int32.ofNat (k + 1))), a6, a7] [] (hX h a n W SM) Q = Q (.inl (some (.int (if untl π σ b t (plN π 1) < Int32.ofNat 0 then Int32.ofNat 0 else (untl π σ b t (plN π 1) - u) / Int32.ofNat 2)))) (hX h a n W SM)) →
              Go κ mX3_wise 97 [some (.ref a), some (.ref (a + (15 + 8 * plN π 0 + 5 * b))), some (.int t), some (.int u), some (.int (untl π σ b t k)), some (.int (Int32.ofNat k)), some (.ref (a + (15 + 8 * plN π 0 + 5 * k))), a7] [.int x] (hX h a n W SM) Q = Q (.inl (some (.int (if untl π σ b t (plN π 1) < Int32.ofNat 0 then Int32.ofNat 0 else (untl π σ b t (plN π 1) - u) / Int32.ofNat 2)))) (hX h a n W SM) := by
            intro x i2
            by_cases g : untl π σ b t k < Int32.ofNat 0
            · rw [if_pos (Or.inl g)] at i2
              simp (disch := first | assumption | omega | decide | (refine Eq.trans (hK_X _) ?_; assumption) | fail) only [gB, I_all, zK_v, zK_n, true_and, and_true, Nat.reduceAdd, Nat.reduceMul, Nat.reduceSub, z_lt, z_le, z_neq, not_false_eq_true, or_true, true_or, or_false, false_or, false_and, and_false, gX3_wise]
              exact i2 _ _
            · by_cases g2 : x < untl π σ b t k
              · have g2' : ¬ untl π σ b t k ≤ x := Int32.not_le.mpr g2
                rw [if_pos (Or.inr g2)] at i2
                simp (disch := first | assumption | omega | decide | (refine Eq.trans (hK_X _) ?_; assumption) | fail) only [gB, I_all, zK_v, zK_n, true_and, and_true, Nat.reduceAdd, Nat.reduceMul, Nat.reduceSub, z_lt, z_le, z_neq, not_false_eq_true, or_true, true_or, or_false, false_or, false_and, and_false, gX3_wise]
                exact i2 _ _
              · have g2' : untl π σ b t k ≤ x := Int32.not_lt.mp g2
                rw [if_neg (fun x => x.elim g g2)] at i2
                simp (disch := first | assumption | omega | decide | (refine Eq.trans (hK_X _) ?_; assumption) | fail) only [gB, I_all, zK_v, zK_n, true_and, and_true, Nat.reduceAdd, Nat.reduceMul, Nat.reduceSub, z_lt, z_le, z_neq, not_false_eq_true, or_true, true_or, or_false, false_or, false_and, and_false, gX3_wise]
                exact i2 _ _
          by_cases c2 : 2 ≤ st
          · rw [if_pos c2] at et
            by_cases c3 : s' = s
            · rw [if_pos (⟨decide_eq_true c2, c3⟩ : decide (2 ≤ st) = true ∧ s' = s)] at i1
              have T1 := T _ i1
              rw [← i_swp] at T1
              simp (disch := first | assumption | omega | decide | (refine Eq.trans (hK_X _) ?_; assumption) | fail) only [gB, I_all, zK_v, zK_n, true_and, and_true, Nat.reduceAdd, Nat.reduceMul, Nat.reduceSub, z_lt, z_le, z_neq, not_false_eq_true, or_true, true_or, or_false, false_or, false_and, and_false, gX3_wise] at T1
              simp (disch := first | assumption | omega | decide | (refine Eq.trans (hK_X _) ?_; assumption) | fail) only [gB, I_all, zK_v, zK_n, true_and, and_true, Nat.reduceAdd, Nat.reduceMul, Nat.reduceSub, z_lt, z_le, z_neq, not_false_eq_true, or_true, true_or, or_false, false_or, false_and, and_false, gX3_wise, F, F2, F3, F4, P, B, D, za, eo, et, v1, v2, w1, ea]
              exact T1
            · rw [if_neg (show ¬ (decide (2 ≤ st) = true ∧ s' = s) from fun x => c3 x.2)] at i1
              have T1 := T _ i1
              rw [← i_swp] at T1
              simp (disch := first | assumption | omega | decide | (refine Eq.trans (hK_X _) ?_; assumption) | fail) only [gB, I_all, zK_v, zK_n, true_and, and_true, Nat.reduceAdd, Nat.reduceMul, Nat.reduceSub, z_lt, z_le, z_neq, not_false_eq_true, or_true, true_or, or_false, false_or, false_and, and_false, gX3_wise] at T1
              simp (disch := first | assumption | omega | decide | (refine Eq.trans (hK_X _) ?_; assumption) | fail) only [gB, I_all, zK_v, zK_n, true_and, and_true, Nat.reduceAdd, Nat.reduceMul, Nat.reduceSub, z_lt, z_le, z_neq, not_false_eq_true, or_true, true_or, or_false, false_or, false_and, and_false, gX3_wise, F, F2, F3, F4, P, B, D, za, eo, et, v1, v2, w1, ew]
              exact T1
          · rw [if_neg c2] at et
            rw [if_neg (show ¬ (decide (2 ≤ st) = true ∧ s' = s) from fun x => c2 (of_decide_eq_true x.1))] at i1
            have T1 := T _ i1
            rw [← i_swp] at T1
            simp (disch := first | assumption | omega | decide | (refine Eq.trans (hK_X _) ?_; assumption) | fail) only [gB, I_all, zK_v, zK_n, true_and, and_true, Nat.reduceAdd, Nat.reduceMul, Nat.reduceSub, z_lt, z_le, z_neq, not_false_eq_true, or_true, true_or, or_false, false_or, false_and, and_false, gX3_wise] at T1
            simp (disch := first | assumption | omega | decide | (refine Eq.trans (hK_X _) ?_; assumption) | fail) only [gB, I_all, zK_v, zK_n, true_and, and_true, Nat.reduceAdd, Nat.reduceMul, Nat.reduceSub, z_lt, z_le, z_neq, not_false_eq_true, or_true, true_or, or_false, false_or, false_and, and_false, gX3_wise, F, F2, F3, F4, P, B, D, za, eo, et, v1, v2, w1, ew]
            exact T1
  have l0 := lp (plN π 1) 0 none none (by omega)
  have l1 : Go κ mX3_wise 7 [some (.ref a), some (.ref (a + (15 + 8 * plN π 0 + 5 * b))), some (.int t), some (.int u), some (.int (Int32.ofInt (-2))), some (.int (Int32.ofNat 0)), none, none] [] (hX h a n W SM) Q = _ := l0
  simp (disch := first | assumption | omega | decide | (refine Eq.trans (hK_X _) ?_; assumption) | fail) only [gB, I_all, zK_v, zK_n, true_and, and_true, Nat.reduceAdd, Nat.reduceMul, Nat.reduceSub, z_lt, z_le, z_neq, not_false_eq_true, or_true, true_or, or_false, false_or, false_and, and_false, gX3_wise]
  exact l1
theorem e3_wanted {b s : Nat} {m t : Int32} (Z : ZS κ h a n p π A q0 q) (C : CAt π W SM σ) (OK : sOk π σ) (hb : b < plN π 1) (hs : s < plN π 0) (e1 : bF σ b 1 = Int32.ofNat s) : Ev κ mX3_wanted [.ref a, .ref (a + (15 + 8 * plN π 0 + 5 * b)), .int t, .int m] (hX h a n W SM) Q = Q (.inl (some (.int (wanC π σ b m t)))) (hX h a n W SM) := by
  have F := cF Z.1 Z.2.2.2.2.1
  have F2 := cRf Z.1 Z.2.2.2.2.1
  have F3 := cK Z.1
  have F4 := cE Z.1 Z.2.2.2.2.1
  obtain ⟨B0, hcap⟩ := cBu Z.1 Z.2.2.2.2.1 hb
  have B := bX B0
  have L := lX (cLv Z.1 Z.2.2.2.2.1 hs)
  have Cb := C.2.2.2.2.1 b hb
  have O := Z.2.2.1
  have h10 := O.1.2
  have eI : bI σ b 1 = s := bI_of (by omega) e1
  have w1 : W (15 + 8 * plN π 0 + 5 * b) 61 = Int32.ofNat s := Cb.2.1.2.1.trans e1
  have wl : W (19 + 8 * s) 56 = sN σ (33 + s) := (C.2.2.2.1 s hs).2.2.1
  have w2 : W 1 0 = sN σ 2 := C.1.1.2.2.1 0 (by omega)
  have ed := fun Q => e3_due (SM := SM) (Q := Q) Z C hb hs e1
  have ew := fun t u Q => e3_wise (SM := SM) (t := t) (u := u) (Q := Q) Z C OK hb hs e1
  unfold wanC
  rw [eI]
  generalize sN σ (33 + s) = left at *
  have n12 : ¬ Int32.ofNat 2 = Int32.ofNat 1 := by decide
  have n13 : ¬ Int32.ofNat 3 = Int32.ofNat 1 := by decide
  have n23 : ¬ Int32.ofNat 3 = Int32.ofNat 2 := by decide
  by_cases m1 : m = Int32.ofNat 1
  · subst m1
    rw [if_pos rfl]
    by_cases hl : left < Int32.ofNat 0
    · have hl' : ¬ Int32.ofNat 0 ≤ left := Int32.not_le.mpr hl
      rw [if_pos hl]
      simp (disch := first | assumption | omega | decide | (refine Eq.trans (hK_X _) ?_; assumption) | fail) only [gB, I_all, zK_v, zK_n, true_and, and_true, Nat.reduceAdd, Nat.reduceMul, Nat.reduceSub, z_lt, z_le, z_neq, not_false_eq_true, or_true, true_or, or_false, false_or, false_and, and_false, gX3_wanted, F, F2, F3, F4, B, L, w1, wl, zSwi]
      simp only [if_true]
      try simp (disch := first | assumption | omega | decide | (refine Eq.trans (hK_X _) ?_; assumption) | fail) only [gB, I_all, zK_v, zK_n, true_and, and_true, Nat.reduceAdd, Nat.reduceMul, Nat.reduceSub, z_lt, z_le, z_neq, not_false_eq_true, or_true, true_or, or_false, false_or, false_and, and_false, gX3_wanted, F, F2, F3, F4, B, L, w1, wl, zSwi]
    · have hl' : Int32.ofNat 0 ≤ left := Int32.not_lt.mp hl
      rw [if_neg hl]
      simp (disch := first | assumption | omega | decide | (refine Eq.trans (hK_X _) ?_; assumption) | fail) only [gB, I_all, zK_v, zK_n, true_and, and_true, Nat.reduceAdd, Nat.reduceMul, Nat.reduceSub, z_lt, z_le, z_neq, not_false_eq_true, or_true, true_or, or_false, false_or, false_and, and_false, gX3_wanted, F, F2, F3, F4, B, L, w1, wl, zSwi]
      simp only [if_true]
      try simp (disch := first | assumption | omega | decide | (refine Eq.trans (hK_X _) ?_; assumption) | fail) only [gB, I_all, zK_v, zK_n, true_and, and_true, Nat.reduceAdd, Nat.reduceMul, Nat.reduceSub, z_lt, z_le, z_neq, not_false_eq_true, or_true, true_or, or_false, false_or, false_and, and_false, gX3_wanted, F, F2, F3, F4, B, L, w1, wl, w2]
  · rw [if_neg m1]
    by_cases m2 : m = Int32.ofNat 2
    · subst m2
      rw [if_pos rfl]
      simp (disch := first | assumption | omega | decide | (refine Eq.trans (hK_X _) ?_; assumption) | fail) only [gB, I_all, zK_v, zK_n, true_and, and_true, Nat.reduceAdd, Nat.reduceMul, Nat.reduceSub, z_lt, z_le, z_neq, not_false_eq_true, or_true, true_or, or_false, false_or, false_and, and_false, gX3_wanted, F, F2, F3, F4, B, L, w1, wl, zSwi]
      simp only [n12, if_false, if_true]
      try simp (disch := first | assumption | omega | decide | (refine Eq.trans (hK_X _) ?_; assumption) | fail) only [gB, I_all, zK_v, zK_n, true_and, and_true, Nat.reduceAdd, Nat.reduceMul, Nat.reduceSub, z_lt, z_le, z_neq, not_false_eq_true, or_true, true_or, or_false, false_or, false_and, and_false, gX3_wanted, ed, F]
    · rw [if_neg m2]
      by_cases m3 : m = Int32.ofNat 3
      · subst m3
        rw [if_pos rfl]
        by_cases hl : left < Int32.ofNat 0
        · have hl' : ¬ Int32.ofNat 0 ≤ left := Int32.not_le.mpr hl
          rw [if_pos hl]
          simp (disch := first | assumption | omega | decide | (refine Eq.trans (hK_X _) ?_; assumption) | fail) only [gB, I_all, zK_v, zK_n, true_and, and_true, Nat.reduceAdd, Nat.reduceMul, Nat.reduceSub, z_lt, z_le, z_neq, not_false_eq_true, or_true, true_or, or_false, false_or, false_and, and_false, gX3_wanted, F, F2, F3, F4, B, L, w1, wl, zSwi]
          simp only [n13, n23, if_false, if_true]
          try simp (disch := first | assumption | omega | decide | (refine Eq.trans (hK_X _) ?_; assumption) | fail) only [gB, I_all, zK_v, zK_n, true_and, and_true, Nat.reduceAdd, Nat.reduceMul, Nat.reduceSub, z_lt, z_le, z_neq, not_false_eq_true, or_true, true_or, or_false, false_or, false_and, and_false, gX3_wanted, F]
        · have hl' : Int32.ofNat 0 ≤ left := Int32.not_lt.mp hl
          rw [if_neg hl]
          simp (disch := first | assumption | omega | decide | (refine Eq.trans (hK_X _) ?_; assumption) | fail) only [gB, I_all, zK_v, zK_n, true_and, and_true, Nat.reduceAdd, Nat.reduceMul, Nat.reduceSub, z_lt, z_le, z_neq, not_false_eq_true, or_true, true_or, or_false, false_or, false_and, and_false, gX3_wanted, F, F2, F3, F4, B, L, w1, wl, zSwi]
          simp only [n13, n23, if_false, if_true]
          try simp (disch := first | assumption | omega | decide | (refine Eq.trans (hK_X _) ?_; assumption) | fail) only [gB, I_all, zK_v, zK_n, true_and, and_true, Nat.reduceAdd, Nat.reduceMul, Nat.reduceSub, z_lt, z_le, z_neq, not_false_eq_true, or_true, true_or, or_false, false_or, false_and, and_false, gX3_wanted, F, ew]
      · rw [if_neg m3]
        simp (disch := first | assumption | omega | decide | (refine Eq.trans (hK_X _) ?_; assumption) | fail) only [gB, I_all, zK_v, zK_n, true_and, and_true, Nat.reduceAdd, Nat.reduceMul, Nat.reduceSub, z_lt, z_le, z_neq, not_false_eq_true, or_true, true_or, or_false, false_or, false_and, and_false, gX3_wanted, F, F2, F3, F4, B, L, w1, wl, zSwi]
        simp only [m1, m2, m3, if_false]
        try simp (disch := first | assumption | omega | decide | (refine Eq.trans (hK_X _) ?_; assumption) | fail) only [gB, I_all, zK_v, zK_n, true_and, and_true, Nat.reduceAdd, Nat.reduceMul, Nat.reduceSub, z_lt, z_le, z_neq, not_false_eq_true, or_true, true_or, or_false, false_or, false_and, and_false, gX3_wanted, F]
end
