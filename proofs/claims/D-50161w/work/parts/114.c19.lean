/-! the component: the queue of buses, its program -/
theorem I_ush : ∀ k, k < 16 → ((Int32.ofNat k).toUInt32 >>> ((Int32.ofNat 1).toUInt32 &&& Int32.toUInt32 31)).toInt32 = Int32.ofNat (k / 2) := by decide
theorem I_shl : ∀ k, k < 16 → Int32.ofNat k <<< (Int32.ofNat 1 &&& 31) = Int32.ofNat (2 * k) := by decide
/-- the queue's array holds f -/
def hQ (h : zH) (a : Nat) (f : Nat → Value) : zH := (h.1, h.2.1, fun x j => if x = a + 6 then f j else h.2.2.1 x j, h.2.2.2)
theorem hQ_self (h : zH) (a : Nat) : hQ h a (fun j => hV h (a + 6) j) = h := by
  refine hX_eq (fun _ => rfl) (fun _ => rfl) (fun x j => ?_) rfl rfl
  show (if x = a + 6 then hV h (a + 6) j else hV h x j) = hV h x j
  by_cases c : x = a + 6
  · rw [if_pos c, c]
  · rw [if_neg c]
theorem hQ_V {h : zH} {a : Nat} {f : Nat → Value} (j : Nat) : hV (hQ h a f) (a + 6) j = f j := if_pos rfl
theorem hQ_Vn {h : zH} {a x : Nat} {f : Nat → Value} (hx : x ≠ a + 6) (j : Nat) : hV (hQ h a f) x j = hV h x j := if_neg hx
theorem hQ_hQ (h : zH) (a : Nat) (f g : Nat → Value) : hQ (hQ h a f) a g = hQ h a g := by
  refine hX_eq (fun _ => rfl) (fun _ => rfl) (fun x j => ?_) rfl rfl
  by_cases c : x = a + 6
  · subst c; rw [hQ_V, hQ_V]
  · rw [hQ_Vn c, hQ_Vn c, hQ_Vn c]
def isRN (v : Value) : Prop := v = .null ∨ ∃ r, v = .ref r
theorem xV_rn {v : Value} (h : isRN v) (i : Int32) (l : Int64) : xV v i l = v := by
  rcases h with h | ⟨r, h⟩ <;> subst h <;> rfl
theorem qW {h : zH} {a n i : Nat} {f : Nat → Value} {W : Nat → Nat → Int32} {SM : Nat → Nat → Int64} {v : Value} (hn : 6 < n) (hv : isRN v) : hW (hX (hQ h a f) a n W SM) (a + 6) i v = hX (hQ h a (zu f i v)) a n W SM := by
  refine hX_eq (fun _ => rfl) (fun _ => rfl) (fun x j => ?_) rfl rfl
  rw [hV_W]
  by_cases c : x = a + 6
  · subst c
    rw [if_pos rfl, hV_Xv hn, hV_Xv hn, hQ_V, hQ_V]
    by_cases d : j = i
    · subst d; rw [if_pos rfl, zu_eq, xV_rn hv]
    · rw [if_neg d, zu_ne _ _ d]
  · rw [if_neg c]
    by_cases c3 : a ≤ x ∧ x < a + n
    · obtain ⟨y, rfl⟩ : ∃ y, x = a + y := ⟨x - a, by omega⟩
      rw [hV_Xv (by omega), hV_Xv (by omega), hQ_Vn c, hQ_Vn c]
    · rw [hV_Xo (by omega), hV_Xo (by omega), hQ_Vn c, hQ_Vn c]
section
variable {κ : zC} {h : zH} {a n p q0 q K cap : Nat} {π : Pl} {A : Nat → Nat → Nat} {W : Nat → Nat → Int32} {SM : Nat → Nat → Int64} {Q : zQ} {σ : Sg} {f : Nat → Value}
theorem RSh_q (R : RSh h a n K cap) (hK6 : 15 ≤ K) (f : Nat → Value) : RSh (hQ h a f) a n K cap := by
  obtain ⟨s0, s1, ⟨s2, s3, s4, s5⟩, s6⟩ := R
  have e : ∀ i j, hV (hQ h a f) (a + (K + i)) j = hV h (a + (K + i)) j := fun i j => hQ_Vn (by omega) j
  have e0 := fun j => e 0 j
  refine ⟨s0, s1, ⟨(e0 _).trans s2, (e0 _).trans s3, (e0 _).trans s4, ?_⟩, fun i h1 h2 => ⟨(s6 i h1 h2).1, (s6 i h1 h2).2.1, fun j => ?_⟩⟩
  · have := e0 50; rw [Nat.add_zero] at this; rw [this]; exact s5
  · rw [e]; exact (s6 i h1 h2).2.2 j
theorem ZS_q (Z : ZS κ h a n p π A q0 q) (f : Nat → Value) : ZS κ (hQ h a f) a n p π A q0 q := by
  obtain ⟨Z1, P, O, hq, hn, hk⟩ := Z
  have e : ∀ x j, x ≠ a + 6 → hV (hQ h a f) x j = hV h x j := fun x j hx => hQ_Vn hx j
  have ea : ∀ j, hV (hQ h a f) a j = hV h a j := fun j => e a j (by omega)
  have ek : ∀ k j, k ≠ 6 → hV (hQ h a f) (a + k) j = hV h (a + k) j := fun k j hk => e _ j (by omega)
  refine ⟨?_, P.cg fun x h1 h2 => ⟨rfl, rfl, fun j => e x j (by omega)⟩, O, hq, hn, hk⟩
  obtain ⟨⟨z1, z2, z3, z4, z5⟩, z6, ⟨z7, z8, z9, z10⟩, ⟨y1, y2, y3, y4, y5, y6, y7, y8⟩, ⟨x1, x2, x3⟩, s0, b0⟩ := Z1
  refine ⟨⟨z1, z2, (ea _).trans z3, z4, z5⟩, fun q hq => ⟨(ea _).trans (z6 q hq).1, (z6 q hq).2⟩, ⟨fun g hg => by rw [ea]; exact z7 g hg, by rw [ea]; exact z8, by rw [ea]; exact z9, fun k hk j => by
      have k6 : k ≠ 6 := by
        have a1 : ∀ k ∈ cIK, k ≠ 6 := by decide
        exact a1 k hk
      rw [ek k j k6]; exact z10 k hk j⟩,
    ⟨(ea _).trans y1, y2, (ek 5 _ (by omega)).trans y3, (ek 5 _ (by omega)).trans y4, by rw [ek 5 _ (by omega)]; exact y5, by rw [ek 5 _ (by omega)]; exact y6, y7, y8⟩,
    ⟨(ea _).trans x1, x2, x3⟩, fun s hs => ?_, fun b hb => ?_⟩
  · obtain ⟨a1, a2, a3, a4⟩ := s0 s hs
    refine ⟨(ek 3 _ (by omega)).trans a1, (ek 4 _ (by omega)).trans a2, RSh_q a3 (by omega) f, ?_⟩
    obtain ⟨l0, l1, ⟨l2, l3, l4, l5, l6, l7⟩, l8⟩ := a4
    have e0 := fun j => ek (19 + 8 * s) j (by omega)
    exact ⟨l0, l1, ⟨(e0 _).trans l2, (e0 _).trans l3, (e0 _).trans l4, by rw [e0]; exact l5, by rw [e0]; exact l6, by rw [e0]; exact l7⟩, fun i h1 h2 => ⟨(l8 i h1 h2).1, (l8 i h1 h2).2.1, fun j => by rw [ek _ j (by omega)]; exact (l8 i h1 h2).2.2 j⟩⟩
  · obtain ⟨a1, ⟨b1, b2, b3, b4⟩, b5⟩ := b0 b hb
    have e0 := fun j => ek (15 + 8 * plN π 0 + 5 * b) j (by omega)
    exact ⟨(ek 14 _ (by omega)).trans a1, ⟨b1, (e0 _).trans b2, fun g h1 h2 => by rw [e0]; exact b3 g h1 h2, RSh_q b4 (by omega) f⟩, b5⟩
/-- what the queue's program needs of a block -/
def ZQ (κ : zC) (h : zH) (a n S B : Nat) (ct : Nat → Nat) : Prop := (kB κ ≤ a ∧ n = 15 + 8 * S + 5 * B ∧ B ≤ 6) ∧ (hK h (a + 5) = 131 ∧ hV h (a + 5) 170 = .ref (a + 6) ∧ hV h (a + 5) 172 = .null ∧ isI (hV h (a + 5) 171) ∧ isI (hV h (a + 5) 173) ∧ hK h (a + 6) = 10 ∧ hL h (a + 6) = 11) ∧ ∀ b, b < B → BSh h a n (15 + 8 * S + 5 * b) (ct b)
theorem ZSQ (Z : ZS κ h a n p π A q0 q) : ZQ κ h a n (plN π 0) (plN π 1) (plI π 7) := by
  obtain ⟨⟨⟨z1, z2, z3, z4, z5⟩, z6, z7, ⟨y1, y2⟩, x, s0, b0⟩, P, O, hq, hn, hk⟩ := Z
  subst hn
  exact ⟨⟨z1, rfl, z5⟩, y2, fun b hb => (b0 b hb).2.1⟩
theorem ZQ_q {S B : Nat} {ct : Nat → Nat} (Z : ZQ κ h a n S B ct) (f : Nat → Value) : ZQ κ (hQ h a f) a n S B ct := by
  obtain ⟨z1, ⟨y2, y3, y4, y5, y6, y7, y8⟩, b0⟩ := Z
  have ek : ∀ k j, k ≠ 6 → hV (hQ h a f) (a + k) j = hV h (a + k) j := fun k j hk => hQ_Vn (by omega) j
  refine ⟨z1, ⟨y2, (ek 5 _ (by omega)).trans y3, (ek 5 _ (by omega)).trans y4, by rw [ek 5 _ (by omega)]; exact y5, by rw [ek 5 _ (by omega)]; exact y6, y7, y8⟩, fun b hb => ?_⟩
  obtain ⟨b1, b2, b3, b4⟩ := b0 b hb
  have e0 := fun j => ek (15 + 8 * S + 5 * b) j (by omega)
  exact ⟨b1, (e0 _).trans b2, fun g h1 h2 => by rw [e0]; exact b3 g h1 h2, RSh_q b4 (by omega) f⟩
/-- the buses' times and numbers -/
def TB (W : Nat → Nat → Int32) (S B : Nat) (σ : Sg) : Prop := ∀ x, x < B → W (15 + 8 * S + 5 * x) 62 = bF σ x 2 ∧ W (15 + 8 * S + 5 * x) 57 = Int32.ofNat x
theorem CAt_TB (C : CAt π W SM σ) : TB W (plN π 0) (plN π 1) σ := fun x hx => ⟨(C.2.2.2.2.1 x hx).2.1.2.2.1, (C.2.2.2.2.1 x hx).1.1⟩
theorem TB_5 {S B : Nat} {W' : Nat → Nat → Int32} (T : TB W S B σ) (e : ∀ k j, k ≠ 5 → W' k j = W k j) : TB W' S B σ := fun x hx => ⟨(e _ _ (by omega)).trans (T x hx).1, (e _ _ (by omega)).trans (T x hx).2⟩
/-- where bus x lies -/
def bu (S a x : Nat) : Nat := a + (15 + 8 * S + 5 * x)
variable {S B : Nat} {ct : Nat → Nat}
theorem qX (Z : ZQ κ h a n S B ct) : (∀ f W SM, hV (hX (hQ h a f) a n W SM) (a + 5) 170 = .ref (a + 6)) ∧ (∀ f W SM, hV (hX (hQ h a f) a n W SM) (a + 5) 172 = .null) ∧ (∀ f W SM, hV (hX (hQ h a f) a n W SM) (a + 5) 171 = .int (W 5 171)) ∧ (∀ f W SM, hV (hX (hQ h a f) a n W SM) (a + 5) 173 = .int (W 5 173)) ∧
    (∀ f W SM v, hW (hX (hQ h a f) a n W SM) (a + 5) 171 (.int v) = hX (hQ h a f) a n (zv W 5 171 v) SM) ∧ (∀ f W SM v, hW (hX (hQ h a f) a n W SM) (a + 5) 173 (.int v) = hX (hQ h a f) a n (zv W 5 173 v) SM) ∧
    (∀ f W SM i r, hW (hX (hQ h a f) a n W SM) (a + 6) i (.ref r) = hX (hQ h a (zu f i (.ref r))) a n W SM) ∧ (∀ f W SM i, hW (hX (hQ h a f) a n W SM) (a + 6) i .null = hX (hQ h a (zu f i .null)) a n W SM) ∧
    (∀ f W SM x, hK (hX (hQ h a f) a n W SM) x = hK h x) ∧ (∀ f W SM x, hL (hX (hQ h a f) a n W SM) x = hL h x) ∧ hK h (a + 5) = 131 ∧ hK h (a + 6) = 10 ∧ hL h (a + 6) = 11 ∧ kB κ ≤ a ∧ kB κ ≤ a + 5 ∧ kB κ ≤ a + 6 := by
  have hn : n = 15 + 8 * S + 5 * B := Z.1.2.1
  have Zq := fun f => (ZQ_q Z f).2.1
  obtain ⟨y2, y3, y4, y5, y6, y7, y8⟩ := Z.2.1
  have hB := Z.1.1
  exact ⟨fun f _ _ => hV_Xr (by omega) (Zq f).2.1, fun f _ _ => hV_Xn (by omega) (Zq f).2.2.1, fun f _ _ => hV_Xi (by omega) (Zq f).2.2.2.1, fun f _ _ => hV_Xi (by omega) (Zq f).2.2.2.2.1,
    fun f _ _ _ => hX_i (by omega) (Zq f).2.2.2.1, fun f _ _ _ => hX_i (by omega) (Zq f).2.2.2.2.1, fun f _ _ i r => qW (by omega) (Or.inr ⟨r, rfl⟩), fun f _ _ i => qW (by omega) (Or.inl rfl),
    fun _ _ _ _ => rfl, fun _ _ _ _ => rfl, y2, y7, y8, hB, by omega, by omega⟩
theorem qV (Z : ZQ κ h a n S B ct) {i r : Nat} (e : f i = .ref r) : hV (hX (hQ h a f) a n W SM) (a + 6) i = .ref r := hV_Xr (by have := Z.1.2.1; omega) ((hQ_V i).trans e)
theorem qVn (Z : ZQ κ h a n S B ct) {i : Nat} (e : f i = .null) : hV (hX (hQ h a f) a n W SM) (a + 6) i = .null := hV_Xn (by have := Z.1.2.1; omega) ((hQ_V i).trans e)
theorem bK (Z : ZQ κ h a n S B ct) {x : Nat} (hx : x < B) : hK h (bu S a x) = 106 := (Z.2.2 x hx).1
/-- Integer.compare -/
def cI (x y : Int32) : Int32 := if x < y then Int32.ofInt (-1) else if x = y then Int32.ofNat 0 else Int32.ofNat 1
theorem e6_cmpI {x y : Int32} {h : zH} : Ev κ mJ6_compare [.int x, .int y] h Q = Q (.inl (some (.int (cI x y)))) h := by
  unfold cI
  by_cases c : x < y
  · have c' : ¬ y ≤ x := Int32.not_le.mpr c
    rw [if_pos c]
    simp (disch := first | assumption | omega | decide | (refine Eq.trans (hK_X _) ?_; assumption) | fail) only [gB, I_all, zK_v, zK_n, true_and, and_true, Nat.reduceAdd, Nat.reduceMul, Nat.reduceSub, z_lt, z_le, z_neq, not_false_eq_true, or_true, true_or, or_false, false_or, false_and, and_false, gJ6_compare]
  · have c' : y ≤ x := Int32.not_lt.mp c
    rw [if_neg c]
    by_cases d : x = y
    · rw [if_pos d]
      simp (disch := first | assumption | omega | decide | (refine Eq.trans (hK_X _) ?_; assumption) | fail) only [gB, I_all, zK_v, zK_n, true_and, and_true, Nat.reduceAdd, Nat.reduceMul, Nat.reduceSub, z_lt, z_le, z_neq, not_false_eq_true, or_true, true_or, or_false, false_or, false_and, and_false, gJ6_compare]
    · rw [if_neg d]
      simp (disch := first | assumption | omega | decide | (refine Eq.trans (hK_X _) ?_; assumption) | fail) only [gB, I_all, zK_v, zK_n, true_and, and_true, Nat.reduceAdd, Nat.reduceMul, Nat.reduceSub, z_lt, z_le, z_neq, not_false_eq_true, or_true, true_or, or_false, false_or, false_and, and_false, gJ6_compare]
def cB (σ : Sg) (x y : Nat) : Int32 := if bF σ x 2 = bF σ y 2 then cI (Int32.ofNat x) (Int32.ofNat y) else cI (bF σ x 2) (bF σ y 2)
theorem cB_lt {σ : Sg} {x y : Nat} (hx : x < 6) (hy : y < 6) : (cB σ x y < Int32.ofNat 0 ↔ bLt σ x y) ∧ (Int32.ofNat 0 < cB σ x y ↔ bLt σ y x) := by
  have d1 : Int32.ofInt (-1) < Int32.ofNat 0 := by decide
  have d2 : ¬ Int32.ofNat 0 < Int32.ofNat 0 := by decide
  have d3 : ¬ Int32.ofNat 1 < Int32.ofNat 0 := by decide
  have d4 : ¬ Int32.ofNat 0 < Int32.ofInt (-1) := by decide
  have d5 : Int32.ofNat 0 < Int32.ofNat 1 := by decide
  unfold cB bLt
  by_cases c : bF σ x 2 = bF σ y 2
  · rw [if_pos c, c]
    have n1 : ¬ bF σ y 2 < bF σ y 2 := Int32.lt_irrefl
    unfold cI
    by_cases l : x < y
    · rw [if_pos ((I_lt (by omega) (by omega)).mpr l)]
      exact ⟨⟨fun _ => Or.inr ⟨rfl, l⟩, fun _ => d1⟩, ⟨fun h => absurd h d4, fun h => by rcases h with h | h; exact absurd h n1; omega⟩⟩
    · rw [if_neg (fun h => l ((I_lt (by omega) (by omega)).mp h))]
      by_cases e : x = y
      · rw [if_pos (by rw [e])]
        exact ⟨⟨fun h => absurd h d2, fun h => by rcases h with h | h; exact absurd h n1; omega⟩, ⟨fun h => absurd h d2, fun h => by rcases h with h | h; exact absurd h n1; omega⟩⟩
      · rw [if_neg (fun h => e ((I_eq (by omega) (by omega)).mp h))]
        exact ⟨⟨fun h => absurd h d3, fun h => by rcases h with h | h; exact absurd h n1; omega⟩, ⟨fun _ => Or.inr ⟨rfl, by omega⟩, fun _ => d5⟩⟩
  · rw [if_neg c]
    unfold cI
    by_cases l : bF σ x 2 < bF σ y 2
    · rw [if_pos l]
      exact ⟨⟨fun _ => Or.inl l, fun _ => d1⟩, ⟨fun h => absurd h d4, fun h => by rcases h with h | h; exact absurd h (Int32.lt_asymm l); exact absurd h.1.symm c⟩⟩
    · rw [if_neg l, if_neg c]
      have l' : bF σ y 2 < bF σ x 2 := by
        rw [Int32.lt_iff_toInt_lt] at l ⊢
        rw [← Int32.toInt_inj] at c
        omega
      exact ⟨⟨fun h => absurd h d3, fun h => by rcases h with h | h; exact absurd h l; exact absurd h.1 c⟩, ⟨fun _ => Or.inl l', fun _ => d5⟩⟩
theorem e6_compareTo {x y : Nat} (Z : ZQ κ h a n S B ct) (T : TB W S B σ) (hx : x < B) (hy : y < B) : Ev κ mX6_compareTo [.ref (bu S a x), .ref (bu S a y)] (hX (hQ h a f) a n W SM) Q = Q (.inl (some (.int (cB σ x y)))) (hX (hQ h a f) a n W SM) := by
  have Zf := ZQ_q Z f
  have Bx := bX (Zf.2.2 x hx)
  have By := bX (Zf.2.2 y hy)
  obtain ⟨x2, x0⟩ := T x hx
  obtain ⟨y2, y0⟩ := T y hy
  have ec := fun (x y : Int32) (h : zH) (Q : zQ) => e6_cmpI (κ := κ) (x := x) (y := y) (h := h) (Q := Q)
  have e2 : ∀ (Q : zQ), Ev κ mX6_compareTo_2 [.ref (a + (15 + 8 * S + 5 * x)), .ref (a + (15 + 8 * S + 5 * y))] (hX (hQ h a f) a n W SM) Q = Q (.inl (some (.int (cB σ x y)))) (hX (hQ h a f) a n W SM) := fun Q => by
    unfold cB
    by_cases c : bF σ x 2 = bF σ y 2
    · rw [if_pos c]
      simp (disch := first | assumption | omega | decide | (refine Eq.trans (hK_X _) ?_; assumption) | fail) only [gB, I_all, zK_v, zK_n, true_and, and_true, Nat.reduceAdd, Nat.reduceMul, Nat.reduceSub, z_lt, z_le, z_neq, not_false_eq_true, or_true, true_or, or_false, false_or, false_and, and_false, gX6_compareTo_2, hK_X, Bx, By, x2, y2, x0, y0, ec]
    · rw [if_neg c]
      simp (disch := first | assumption | omega | decide | (refine Eq.trans (hK_X _) ?_; assumption) | fail) only [gB, I_all, zK_v, zK_n, true_and, and_true, Nat.reduceAdd, Nat.reduceMul, Nat.reduceSub, z_lt, z_le, z_neq, not_false_eq_true, or_true, true_or, or_false, false_or, false_and, and_false, gX6_compareTo_2, hK_X, Bx, By, x2, y2, x0, y0, ec]
  unfold bu
  simp (disch := first | assumption | omega | decide | (refine Eq.trans (hK_X _) ?_; assumption) | fail) only [gB, I_all, zK_v, zK_n, true_and, and_true, Nat.reduceAdd, Nat.reduceMul, Nat.reduceSub, z_lt, z_le, z_neq, not_false_eq_true, or_true, true_or, or_false, false_or, false_and, and_false, gX6_compareTo, hK_X, Bx, By, zCs, e2]
theorem zR10 : ((zRef 10 = true) = True) ∧ ((zAss 10 106 = true) = True) ∧ (zArr 10 = true) := ⟨eq_true (by decide), eq_true (by decide), by decide⟩
/-- a bus goes up from k -/
theorem e19_up {m : Nat} (Z : ZQ κ h a n S B ct) (T : TB W S B σ) (hm : m ≤ B) : ∀ (k : Nat) (f : Nat → Value) (F : Nat → Nat) (a4 a5 : Option Value), k < m → (∀ i, i < m → F i < B) → (∀ i, i < m → i ≠ k → f i = .ref (bu S a (F i))) → UpI σ F k m →
    (∀ f' F', (∀ i, i < m → f' i = .ref (bu S a (F' i))) → (∀ P, QP F m P → QP F' m P) → HP σ F' m → (∀ i, m ≤ i → f' i = f i) → Q (.inl none) (hX (hQ h a f') a n W SM)) →
    Go κ mJ19_siftUpComparable 5 [some (.int (Int32.ofNat k)), some (.ref (bu S a (F k))), some (.ref (a + 6)), some (.ref (bu S a (F k))), a4, a5] [] (hX (hQ h a f) a n W SM) Q := by
  have X := qX Z
  have hB6 : B ≤ 6 := Z.1.2.2
  intro k
  induction k using Nat.strongRecOn with
  | _ k ih =>
    intro f F a4 a5 hk hF hf hU hq
    have kx : hK h (bu S a (F k)) = 106 := bK Z (hF k hk)
    have kq : hK (hQ h a f) (bu S a (F k)) = 106 := kx
    have fin : (k = 0 ∨ ¬ bLt σ (F k) (F ((k - 1) / 2))) → Q (.inl none) (hX (hQ h a (zu f k (.ref (bu S a (F k))))) a n W SM) := fun hc => by
      refine hq _ F (fun i hi => ?_) (fun P hP => hP) (UpI_end hU hc) fun i hi => zu_ne _ _ (by omega)
      by_cases e : i = k
      · subst e; exact zu_eq _ _ _
      · rw [zu_ne _ _ e]; exact hf i hi e
    simp (disch := first | assumption | omega | decide | (refine Eq.trans (hK_X _) ?_; assumption) | fail) only [gB, I_all, zK_v, zK_n, true_and, and_true, Nat.reduceAdd, Nat.reduceMul, Nat.reduceSub, z_lt, z_le, z_neq, not_false_eq_true, or_true, true_or, or_false, false_or, false_and, and_false, gJ19_siftUpComparable_h]
    by_cases c0 : k = 0
    · have f0 := fin (Or.inl c0)
      subst c0
      simp (disch := first | assumption | omega | decide | (refine Eq.trans (hK_X _) ?_; assumption) | fail) only [gB, I_all, zK_v, zK_n, true_and, and_true, Nat.reduceAdd, Nat.reduceMul, Nat.reduceSub, z_lt, z_le, z_neq, not_false_eq_true, or_true, true_or, or_false, false_or, false_and, and_false, gJ19_siftUpComparable, X, zR10, kx]
      exact f0
    · have es : Int32.ofNat k - Int32.ofNat 1 = Int32.ofNat (k - 1) := I_sub (by omega)
      have eu := I_ush (k - 1) (by omega)
      have hp : (k - 1) / 2 < k := by omega
      have ef := hf ((k - 1) / 2) (by omega) (by omega)
      have ev := qV (W := W) (SM := SM) Z ef
      have kp : hK h (bu S a (F ((k - 1) / 2))) = 106 := bK Z (hF _ (by omega))
      have ec := fun (Q : zQ) => e6_compareTo (SM := SM) (f := f) (x := F k) (y := F ((k - 1) / 2)) (Q := Q) Z T (hF k hk) (hF _ (by omega))
      have cl := (cB_lt (σ := σ) (x := F k) (y := F ((k - 1) / 2)) (by have := hF k hk; omega) (by have := hF ((k - 1) / 2) (by omega); omega)).1
      by_cases c : bLt σ (F k) (F ((k - 1) / 2))
      · have cc := cl.mpr c
        have U1 := UpI_up hU (by omega) hk c
        have hF1 : ∀ i, i < m → zu (zu F k (F ((k - 1) / 2))) ((k - 1) / 2) (F k) i < B := fun i hi => by
          by_cases e1 : i = (k - 1) / 2
          · rw [e1, zu_eq]; exact hF k hk
          · by_cases e2 : i = k
            · rw [zu_ne _ _ e1, e2, zu_eq]; exact hF _ (by omega)
            · rw [zu_ne _ _ e1, zu_ne _ _ e2]; exact hF i hi
        have i1 := ih ((k - 1) / 2) hp (zu f k (.ref (bu S a (F ((k - 1) / 2))))) (zu (zu F k (F ((k - 1) / 2))) ((k - 1) / 2) (F k)) (some (.int (Int32.ofNat ((k - 1) / 2)))) (some (.ref (bu S a (F ((k - 1) / 2))))) (by omega) hF1 (fun i hi hne => by
          by_cases e2 : i = k
          · subst e2; rw [zu_eq, zu_ne _ _ hne, zu_eq]
          · rw [zu_ne _ _ e2, zu_ne _ _ hne, zu_ne _ _ e2]; exact hf i hi e2) U1 (fun f' F' g1 g2 g3 g4 => hq f' F' g1 (fun P hP => g2 P (QP_sw hP hk (by omega))) g3 fun i hi => (g4 i hi).trans (zu_ne _ _ (by omega)))
        rw [zu_eq] at i1
        generalize cB σ (F k) (F ((k - 1) / 2)) = v at *
        have h0k : 0 < k := by omega
        simp (disch := first | assumption | omega | decide | (refine Eq.trans (hK_X _) ?_; assumption) | fail) only [gB, I_all, zK_v, zK_n, true_and, and_true, Nat.reduceAdd, Nat.reduceMul, Nat.reduceSub, z_lt, z_le, z_neq, not_false_eq_true, or_true, true_or, or_false, false_or, false_and, and_false, gJ19_siftUpComparable, X, zR10, es, eu, ev, kx, kp, ec]
        exact i1
      · have cc : ¬ cB σ (F k) (F ((k - 1) / 2)) < Int32.ofNat 0 := fun x => c (cl.mp x)
        have f0 := fin (Or.inr c)
        generalize cB σ (F k) (F ((k - 1) / 2)) = v at *
        have h0k : 0 < k := by omega
        simp (disch := first | assumption | omega | decide | (refine Eq.trans (hK_X _) ?_; assumption) | fail) only [gB, I_all, zK_v, zK_n, true_and, and_true, Nat.reduceAdd, Nat.reduceMul, Nat.reduceSub, z_lt, z_le, z_neq, not_false_eq_true, or_true, true_or, or_false, false_or, false_and, and_false, gJ19_siftUpComparable, X, zR10, es, eu, ev, kx, kp, ec]
        exact f0
end
