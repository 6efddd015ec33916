/-! the component: lists; the plan of a line -/
theorem zCs : ((zCas 103 0 = true) = True) ∧ ((zCas 110 1 = true) = True) ∧ ((zCas 118 2 = true) = True) ∧ ((zCas 102 3 = true) = True) ∧ ((zCas 106 4 = true) = True) ∧ ((zCas 106 5 = true) = True) ∧ ((zCas 119 5 = true) = True) ∧ ((zCas 119 6 = true) = True) ∧ ((zCas 200 5 = true) = True) ∧ ((zCas 200 6 = true) = True) :=
  ⟨eq_true (by decide), eq_true (by decide), eq_true (by decide), eq_true (by decide), eq_true (by decide), eq_true (by decide), eq_true (by decide), eq_true (by decide), eq_true (by decide), eq_true (by decide)⟩
/-- two heaps have the same cells from q0 on up to q -/
def Ag (h h' : zH) (q0 q : Nat) : Prop := ∀ x, q0 ≤ x → x < q → hK h' x = hK h x ∧ hL h' x = hL h x ∧ ∀ j, hV h' x j = hV h x j
theorem Ag.rfl {h : zH} {q0 q : Nat} : Ag h h q0 q := fun _ _ _ => ⟨Eq.refl _, Eq.refl _, fun _ => Eq.refl _⟩
theorem Ag.trans {h h' h'' : zH} {q0 q : Nat} (a : Ag h h' q0 q) (b : Ag h' h'' q0 q) : Ag h h'' q0 q := fun x h1 h2 => ⟨(b x h1 h2).1.trans (a x h1 h2).1, (b x h1 h2).2.1.trans (a x h1 h2).2.1, fun j => ((b x h1 h2).2.2 j).trans ((a x h1 h2).2.2 j)⟩
theorem Ag.sub {h h' : zH} {q0 q r0 r : Nat} (a : Ag h h' q0 q) (h0 : q0 ≤ r0) (h1 : r ≤ q) : Ag h h' r0 r := fun x g1 g2 => a x (by omega) (by omega)
theorem Ag.symm {h h' : zH} {q0 q : Nat} (a : Ag h h' q0 q) : Ag h' h q0 q := fun x h1 h2 => ⟨(a x h1 h2).1.symm, (a x h1 h2).2.1.symm, fun j => ((a x h1 h2).2.2 j).symm⟩
theorem Ag_X {h : zH} {a n q0 q : Nat} {W : Nat → Nat → Int32} {SM : Nat → Nat → Int64} (hq : q ≤ a ∨ a + n ≤ q0) : Ag h (hX h a n W SM) q0 q := fun x h1 h2 => ⟨hK_X x, hL_X x, fun j => hV_Xo (by omega)⟩
theorem Ag_W {h : zH} {a j q0 q : Nat} {v : Value} (hq : q ≤ a ∨ a < q0) : Ag h (hW h a j v) q0 q := fun x h1 h2 => ⟨hK_W h a j v x, hL_W h a j v x, fun i => by rw [hV_W, if_neg (by omega)]⟩
theorem Ag_A {h : zH} {k n u q0 q : Nat} {f : Nat → Value} (hq : q ≤ hN h) : Ag h (hA h k n u f) q0 q := fun x h1 h2 => ⟨by rw [hK_A, if_neg (by omega)], by rw [hL_A, if_neg (by omega)], fun j => by rw [hV_A, if_neg (by omega)]⟩
theorem Ag_C {h : zH} {s sp d dp n q0 q : Nat} (hq : q ≤ d ∨ d < q0) : Ag h (hC h s sp d dp n) q0 q := fun x h1 h2 => ⟨hK_C h s sp d dp n x, hL_C h s sp d dp n x, fun j => by rw [hV_C, if_neg (by omega)]⟩
/-- an ArrayList -/
def ALt (h : zH) (q0 q L n : Nat) (el : Nat → Value) : Prop := (q0 ≤ L ∧ L < q ∧ hK h L = 114 ∧ hV h L 149 = .int (Int32.ofNat n) ∧ n < 10000) ∧ ∃ E, hV h L 148 = .ref E ∧ (0 < n → q0 ≤ E ∧ E < q ∧ hK h E = 10 ∧ n ≤ hL h E ∧ ∀ i, i < n → hV h E i = el i)
theorem ALt.cg {h h' : zH} {q0 q L n : Nat} {el : Nat → Value} (A : ALt h q0 q L n el) (g : Ag h h' q0 q) : ALt h' q0 q L n el := by
  obtain ⟨⟨a1, a2, a3, a4, a5⟩, E, b1, b2⟩ := A
  obtain ⟨g1, g2, g3⟩ := g L a1 a2
  refine ⟨⟨a1, a2, g1.trans a3, (g3 _).trans a4, a5⟩, E, (g3 _).trans b1, fun hn => ?_⟩
  obtain ⟨c1, c2, c3, c4, c5⟩ := b2 hn
  obtain ⟨k1, k2, k3⟩ := g E c1 c2
  exact ⟨c1, c2, k1.trans c3, by rw [k2]; exact c4, fun i hi => (k3 i).trans (c5 i hi)⟩
theorem ALt.up {h : zH} {q0 q q' L n : Nat} {el : Nat → Value} (A : ALt h q0 q L n el) (hq : q ≤ q') : ALt h q0 q' L n el := by
  obtain ⟨⟨a1, a2, a3⟩, E, b1, b2⟩ := A
  exact ⟨⟨a1, by omega, a3⟩, E, b1, fun hn => ⟨(b2 hn).1, Nat.lt_of_lt_of_le (b2 hn).2.1 hq, (b2 hn).2.2⟩⟩
section
variable {κ : zC} {h : zH} {q0 q L n : Nat} {el : Nat → Value} {Q : zQ}
theorem e14_checkIndex {i m : Nat} (hi : i < m) (hm : m < 2147483648) : Ev κ mJ16_checkIndex [.int (Int32.ofNat i), .int (Int32.ofNat m)] h Q = Q (.inl (some (.int (Int32.ofNat i)))) h := by
  have hE : ∀ (Q : zQ), Ev κ mJ14_checkIndex [.int (Int32.ofNat i), .int (Int32.ofNat m), .null] h Q = Q (.inl (some (.int (Int32.ofNat i)))) h := fun Q => by
    rw [show Ev κ mJ14_checkIndex [.int (Int32.ofNat i), .int (Int32.ofNat m), .null] h Q = Go κ mJ14_checkIndex 0 [some (.int (Int32.ofNat i)), some (.int (Int32.ofNat m)), some .null] [] h Q from rfl]
    simp (disch := first | assumption | omega | decide) only [gB, I_all, zK_v, zK_n, true_and, and_true, Nat.reduceAdd, Nat.reduceMul, Nat.reduceSub, z_lt, z_le, z_neq, not_false_eq_true, or_true, true_or, or_false, false_or, false_and, and_false, gJ14_checkIndex]
  simp (disch := first | assumption | omega | decide) only [gB, I_all, zK_v, zK_n, true_and, and_true, Nat.reduceAdd, Nat.reduceMul, Nat.reduceSub, z_lt, z_le, z_neq, not_false_eq_true, or_true, true_or, or_false, false_or, false_and, and_false, gJ16_checkIndex, hE]
theorem e2_size (A : ALt h q0 q L n el) : Ev κ mJ2_size [.ref L] h Q = Q (.inl (some (.int (Int32.ofNat n)))) h := by
  obtain ⟨⟨a1, a2, a3, a4, a5⟩, -⟩ := A
  simp (disch := first | assumption | omega | decide) only [gB, I_all, zK_v, zK_n, true_and, and_true, Nat.reduceAdd, Nat.reduceMul, Nat.reduceSub, z_lt, z_le, z_neq, not_false_eq_true, or_true, true_or, or_false, false_or, false_and, and_false, gJ2_size, a3, a4]
theorem e2_get {i r : Nat} (A : ALt h q0 q L n el) (hi : i < n) (he : el i = .ref r) : Ev κ mJ2_get [.ref L, .int (Int32.ofNat i)] h Q = Q (.inl (some (.ref r))) h := by
  obtain ⟨⟨a1, a2, a3, a4, a5⟩, E, b1, b2⟩ := A
  obtain ⟨c1, c2, c3, c4, c5⟩ := b2 (by omega)
  have c6 := (c5 i hi).trans he
  have ec := fun Q => e14_checkIndex (κ := κ) (h := h) (Q := Q) hi (by omega)
  have ed : ∀ (Q : zQ), Ev κ mJ2_elementData [.ref L, .int (Int32.ofNat i)] h Q = Q (.inl (some (.ref r))) h := fun Q => by
    simp (disch := first | assumption | omega | decide) only [gB, I_all, zK_v, zK_n, true_and, and_true, Nat.reduceAdd, Nat.reduceMul, Nat.reduceSub, z_lt, z_le, z_neq, not_false_eq_true, or_true, true_or, or_false, false_or, false_and, and_false, gJ2_elementData, a3, b1, c3, c6]
  simp (disch := first | assumption | omega | decide) only [gB, I_all, zK_v, zK_n, true_and, and_true, Nat.reduceAdd, Nat.reduceMul, Nat.reduceSub, z_lt, z_le, z_neq, not_false_eq_true, or_true, true_or, or_false, false_or, false_and, and_false, gJ2_get, a3, a4, ec, ed]
theorem e2_getN {i : Nat} (A : ALt h q0 q L n el) (hi : i < n) (he : el i = .null) : Ev κ mJ2_get [.ref L, .int (Int32.ofNat i)] h Q = Q (.inl (some .null)) h := by
  obtain ⟨⟨a1, a2, a3, a4, a5⟩, E, b1, b2⟩ := A
  obtain ⟨c1, c2, c3, c4, c5⟩ := b2 (by omega)
  have c6 := (c5 i hi).trans he
  have ec := fun Q => e14_checkIndex (κ := κ) (h := h) (Q := Q) hi (by omega)
  have ed : ∀ (Q : zQ), Ev κ mJ2_elementData [.ref L, .int (Int32.ofNat i)] h Q = Q (.inl (some .null)) h := fun Q => by
    simp (disch := first | assumption | omega | decide) only [gB, I_all, zK_v, zK_n, true_and, and_true, Nat.reduceAdd, Nat.reduceMul, Nat.reduceSub, z_lt, z_le, z_neq, not_false_eq_true, or_true, true_or, or_false, false_or, false_and, and_false, gJ2_elementData, a3, b1, c3, c6]
  simp (disch := first | assumption | omega | decide) only [gB, I_all, zK_v, zK_n, true_and, and_true, Nat.reduceAdd, Nat.reduceMul, Nat.reduceSub, z_lt, z_le, z_neq, not_false_eq_true, or_true, true_or, or_false, false_or, false_and, and_false, gJ2_get, a3, a4, ec, ed]
end
/-- the flows from a stop -/
def flF (π : Pl) (s : Nat) : List Nat := (List.range (plN π 2)).filter fun f => decide (plI π 9 f = s)
/-- the plan at p; its addresses: 1 stops, 2 their flows' lists, 3 flows, 4 lists, 5 seats, 6 starts, 7 names -/
def PAt (h : zH) (q0 q p : Nat) (π : Pl) (A : Nat → Nat → Nat) : Prop :=
  (q0 ≤ p ∧ p < q ∧ hK h p = 101 ∧ hV h p 6 = .int (plT π 0 0) ∧ hV h p 7 = .int (plT π 0 1) ∧ hV h p 8 = .int (plT π 0 2)) ∧
  (hV h p 11 = .ref (A 4 0) ∧ ALt h q0 q (A 4 0) (plN π 0) (fun s => .ref (A 1 s))) ∧
  (hV h p 12 = .ref (A 4 1) ∧ ALt h q0 q (A 4 1) (plN π 1) (fun b => .ref (A 5 b))) ∧
  (hV h p 13 = .ref (A 4 2) ∧ ALt h q0 q (A 4 2) (plN π 1) (fun b => .ref (A 6 b))) ∧
  (hV h p 14 = .ref (A 4 3) ∧ ALt h q0 q (A 4 3) (plN π 2) (fun f => .ref (A 3 f))) ∧
  (∀ s, s < plN π 0 → (q0 ≤ A 1 s ∧ A 1 s < q ∧ hK h (A 1 s) = 102) ∧ (hV h (A 1 s) 17 = .int (Int32.ofNat s) ∧ hV h (A 1 s) 18 = .int (plT π 4 s) ∧ hV h (A 1 s) 19 = .int (plT π 5 s) ∧ hV h (A 1 s) 16 = .ref (A 7 s) ∧ hV h (A 1 s) 21 = .ref (A 2 s)) ∧
    ALt h q0 q (A 2 s) (flF π s).length (fun i => .ref (A 3 ((flF π s).getD i 0)))) ∧
  ∀ f, f < plN π 2 → (q0 ≤ A 3 f ∧ A 3 f < q ∧ hK h (A 3 f) = 110) ∧ hV h (A 3 f) 142 = .int (Int32.ofNat f) ∧ hV h (A 3 f) 143 = .int (plT π 10 f) ∧ hV h (A 3 f) 144 = .int (plT π 11 f) ∧ hV h (A 3 f) 145 = .int (plT π 12 f) ∧ hV h (A 3 f) 146 = .ref (A 1 (plI π 9 f))
theorem PAt.cg {h h' : zH} {q0 q p : Nat} {π : Pl} {A : Nat → Nat → Nat} (P : PAt h q0 q p π A) (g : Ag h h' q0 q) : PAt h' q0 q p π A := by
  obtain ⟨⟨p1, p2, p3, p4, p5, p6⟩, ⟨l1, l2⟩, ⟨m1, m2⟩, ⟨n1, n2⟩, ⟨o1, o2⟩, s0, f0⟩ := P
  obtain ⟨g1, g2, g3⟩ := g p p1 p2
  refine ⟨⟨p1, p2, g1.trans p3, (g3 _).trans p4, (g3 _).trans p5, (g3 _).trans p6⟩, ⟨(g3 _).trans l1, l2.cg g⟩, ⟨(g3 _).trans m1, m2.cg g⟩, ⟨(g3 _).trans n1, n2.cg g⟩, ⟨(g3 _).trans o1, o2.cg g⟩, fun s hs => ?_, fun f hf => ?_⟩
  · obtain ⟨⟨a1, a2, a3⟩, ⟨b1, b2, b3, b4, b5⟩, c⟩ := s0 s hs
    obtain ⟨k1, k2, k3⟩ := g _ a1 a2
    exact ⟨⟨a1, a2, k1.trans a3⟩, ⟨(k3 _).trans b1, (k3 _).trans b2, (k3 _).trans b3, (k3 _).trans b4, (k3 _).trans b5⟩, c.cg g⟩
  · obtain ⟨⟨a1, a2, a3⟩, b1, b2, b3, b4, b5⟩ := f0 f hf
    obtain ⟨k1, k2, k3⟩ := g _ a1 a2
    exact ⟨⟨a1, a2, k1.trans a3⟩, (k3 _).trans b1, (k3 _).trans b2, (k3 _).trans b3, (k3 _).trans b4, (k3 _).trans b5⟩
theorem PAt.up {h : zH} {q0 q q' p : Nat} {π : Pl} {A : Nat → Nat → Nat} (P : PAt h q0 q p π A) (hq : q ≤ q') : PAt h q0 q' p π A := by
  obtain ⟨⟨p1, p2, p3⟩, ⟨l1, l2⟩, ⟨m1, m2⟩, ⟨n1, n2⟩, ⟨o1, o2⟩, s0, f0⟩ := P
  refine ⟨⟨p1, by omega, p3⟩, ⟨l1, l2.up hq⟩, ⟨m1, m2.up hq⟩, ⟨n1, n2.up hq⟩, ⟨o1, o2.up hq⟩, fun s hs => ?_, fun f hf => ?_⟩
  · obtain ⟨⟨a1, a2, a3⟩, b, c⟩ := s0 s hs
    exact ⟨⟨a1, by omega, a3⟩, b, c.up hq⟩
  · obtain ⟨⟨a1, a2, a3⟩, b⟩ := f0 f hf
    exact ⟨⟨a1, by omega, a3⟩, b⟩
theorem flF_get {π : Pl} {s i : Nat} (hi : i < (flF π s).length) : (flF π s)[i]? = some ((flF π s).getD i 0) := by
  rw [List.getD_eq_getElem?_getD, List.getElem?_eq_getElem hi]
  rfl
theorem flF_mem {π : Pl} {s f : Nat} (hf : f ∈ flF π s) : f < plN π 2 ∧ plI π 9 f = s := by
  unfold flF at hf
  obtain ⟨h1, h2⟩ := List.mem_filter.mp hf
  exact ⟨List.mem_range.mp h1, of_decide_eq_true h2⟩
/-- a state's block with its plan -/
def ZS (κ : zC) (h : zH) (a n p : Nat) (π : Pl) (A : Nat → Nat → Nat) (q0 q : Nat) : Prop := CSh κ h a p (plN π 0) (plN π 1) (plI π 7) ∧ PAt h q0 q p π A ∧ pOk π ∧ q ≤ a ∧ n = 15 + 8 * plN π 0 + 5 * plN π 1 ∧ kB κ ≤ q0
section
variable {κ : zC} {h : zH} {a n p q0 q : Nat} {π : Pl} {A : Nat → Nat → Nat} {W : Nat → Nat → Int32} {SM : Nat → Nat → Int64} {Q : zQ}
/-- the plan's facts for the run -/
theorem plX (Z : ZS κ h a n p π A q0 q) : hK h p = 101 ∧ (∀ W SM, hV (hX h a n W SM) p 6 = .int (plT π 0 0)) ∧ (∀ W SM, hV (hX h a n W SM) p 7 = .int (plT π 0 1)) ∧ (∀ W SM, hV (hX h a n W SM) p 8 = .int (plT π 0 2)) ∧
    (∀ W SM, hV (hX h a n W SM) p 11 = .ref (A 4 0)) ∧ (∀ W SM, hV (hX h a n W SM) p 12 = .ref (A 4 1)) ∧ (∀ W SM, hV (hX h a n W SM) p 13 = .ref (A 4 2)) ∧ (∀ W SM, hV (hX h a n W SM) p 14 = .ref (A 4 3)) ∧
    hK h (A 4 0) = 114 ∧ hK h (A 4 1) = 114 ∧ hK h (A 4 2) = 114 ∧ hK h (A 4 3) = 114 ∧
    (∀ W SM s, s < plN π 0 → hV (hX h a n W SM) (A 1 s) 17 = .int (Int32.ofNat s)) ∧ (∀ W SM s, s < plN π 0 → hV (hX h a n W SM) (A 1 s) 18 = .int (plT π 4 s)) ∧ (∀ W SM s, s < plN π 0 → hV (hX h a n W SM) (A 1 s) 19 = .int (plT π 5 s)) ∧
    (∀ W SM s, s < plN π 0 → hV (hX h a n W SM) (A 1 s) 16 = .ref (A 7 s)) ∧ (∀ W SM s, s < plN π 0 → hV (hX h a n W SM) (A 1 s) 21 = .ref (A 2 s)) ∧ (∀ s, s < plN π 0 → hK h (A 1 s) = 102) ∧ (∀ s, s < plN π 0 → hK h (A 2 s) = 114) ∧
    (∀ W SM f, f < plN π 2 → hV (hX h a n W SM) (A 3 f) 142 = .int (Int32.ofNat f)) ∧ (∀ W SM f, f < plN π 2 → hV (hX h a n W SM) (A 3 f) 143 = .int (plT π 10 f)) ∧ (∀ W SM f, f < plN π 2 → hV (hX h a n W SM) (A 3 f) 144 = .int (plT π 11 f)) ∧
    (∀ W SM f, f < plN π 2 → hV (hX h a n W SM) (A 3 f) 145 = .int (plT π 12 f)) ∧ (∀ W SM f, f < plN π 2 → hV (hX h a n W SM) (A 3 f) 146 = .ref (A 1 (plI π 9 f))) ∧ (∀ f, f < plN π 2 → hK h (A 3 f) = 110) := by
  obtain ⟨Z1, P, O, hq, hn, hk⟩ := Z
  have P0 := P
  obtain ⟨⟨p1, p2, p3, -⟩, ⟨-, l2⟩, ⟨-, m2⟩, ⟨-, n2⟩, ⟨-, o2⟩, s0, f0⟩ := P0
  have PX := fun W SM => P.cg (Ag_X (h := h) (a := a) (n := n) (W := W) (SM := SM) (Or.inl hq))
  exact ⟨p3, fun W SM => (PX W SM).1.2.2.2.1, fun W SM => (PX W SM).1.2.2.2.2.1, fun W SM => (PX W SM).1.2.2.2.2.2, fun W SM => (PX W SM).2.1.1, fun W SM => (PX W SM).2.2.1.1, fun W SM => (PX W SM).2.2.2.1.1, fun W SM => (PX W SM).2.2.2.2.1.1,
    l2.1.2.2.1, m2.1.2.2.1, n2.1.2.2.1, o2.1.2.2.1,
    fun W SM s hs => ((PX W SM).2.2.2.2.2.1 s hs).2.1.1, fun W SM s hs => ((PX W SM).2.2.2.2.2.1 s hs).2.1.2.1, fun W SM s hs => ((PX W SM).2.2.2.2.2.1 s hs).2.1.2.2.1, fun W SM s hs => ((PX W SM).2.2.2.2.2.1 s hs).2.1.2.2.2.1, fun W SM s hs => ((PX W SM).2.2.2.2.2.1 s hs).2.1.2.2.2.2, fun s hs => (s0 s hs).1.2.2, fun s hs => (s0 s hs).2.2.1.2.2.1,
    fun W SM f hf => ((PX W SM).2.2.2.2.2.2 f hf).2.1, fun W SM f hf => ((PX W SM).2.2.2.2.2.2 f hf).2.2.1, fun W SM f hf => ((PX W SM).2.2.2.2.2.2 f hf).2.2.2.1, fun W SM f hf => ((PX W SM).2.2.2.2.2.2 f hf).2.2.2.2.1, fun W SM f hf => ((PX W SM).2.2.2.2.2.2 f hf).2.2.2.2.2, fun f hf => (f0 f hf).1.2.2⟩
/-- the plan's lists -/
theorem plY (Z : ZS κ h a n p π A q0 q) : (∀ W SM (Q : zQ), Ev κ mJ2_size [.ref (A 4 0)] (hX h a n W SM) Q = Q (.inl (some (.int (Int32.ofNat (plN π 0))))) (hX h a n W SM)) ∧ (∀ W SM (Q : zQ), Ev κ mJ2_size [.ref (A 4 1)] (hX h a n W SM) Q = Q (.inl (some (.int (Int32.ofNat (plN π 1))))) (hX h a n W SM)) ∧ (∀ W SM (Q : zQ), Ev κ mJ2_size [.ref (A 4 3)] (hX h a n W SM) Q = Q (.inl (some (.int (Int32.ofNat (plN π 2))))) (hX h a n W SM)) ∧
    (∀ W SM s (Q : zQ), s < plN π 0 → Ev κ mJ2_get [.ref (A 4 0), .int (Int32.ofNat s)] (hX h a n W SM) Q = Q (.inl (some (.ref (A 1 s)))) (hX h a n W SM)) ∧ (∀ W SM f (Q : zQ), f < plN π 2 → Ev κ mJ2_get [.ref (A 4 3), .int (Int32.ofNat f)] (hX h a n W SM) Q = Q (.inl (some (.ref (A 3 f)))) (hX h a n W SM)) ∧
    (∀ W SM s (Q : zQ), s < plN π 0 → Ev κ mJ2_size [.ref (A 2 s)] (hX h a n W SM) Q = Q (.inl (some (.int (Int32.ofNat (flF π s).length)))) (hX h a n W SM)) ∧
    (∀ W SM s i (Q : zQ), s < plN π 0 → i < (flF π s).length → Ev κ mJ2_get [.ref (A 2 s), .int (Int32.ofNat i)] (hX h a n W SM) Q = Q (.inl (some (.ref (A 3 ((flF π s).getD i 0))))) (hX h a n W SM)) := by
  obtain ⟨Z1, P, O, hq, hn, hk⟩ := Z
  have PX := fun W SM => P.cg (Ag_X (h := h) (a := a) (n := n) (W := W) (SM := SM) (Or.inl hq))
  exact ⟨fun W SM Q => e2_size (PX W SM).2.1.2, fun W SM Q => e2_size (PX W SM).2.2.1.2, fun W SM Q => e2_size (PX W SM).2.2.2.2.1.2, fun W SM s Q hs => e2_get (PX W SM).2.1.2 hs rfl, fun W SM f Q hf => e2_get (PX W SM).2.2.2.2.1.2 hf rfl,
    fun W SM s Q hs => e2_size ((PX W SM).2.2.2.2.2.1 s hs).2.2, fun W SM s i Q hs hi => e2_get ((PX W SM).2.2.2.2.2.1 s hs).2.2 hi rfl⟩
theorem e3_stops (Z : ZS κ h a n p π A q0 q) : Ev κ mX3_stops [.ref a] (hX h a n W SM) Q = Q (.inl (some (.int (Int32.ofNat (plN π 0))))) (hX h a n W SM) := by
  have F := cF Z.1 Z.2.2.2.2.1
  have P := plX Z
  have G := plY Z
  simp (disch := first | assumption | omega | decide) only [gB, I_all, zK_v, zK_n, true_and, and_true, Nat.reduceAdd, Nat.reduceMul, Nat.reduceSub, z_lt, z_le, z_neq, not_false_eq_true, or_true, true_or, or_false, false_or, false_and, and_false, gX3_stops, F, P, G]
theorem e3_stop {s : Nat} (Z : ZS κ h a n p π A q0 q) (hs : s < plN π 0) : Ev κ mX3_stop [.ref a, .int (Int32.ofNat s)] (hX h a n W SM) Q = Q (.inl (some (.ref (A 1 s)))) (hX h a n W SM) := by
  have F := cF Z.1 Z.2.2.2.2.1
  have P := plX Z
  have G := plY Z
  simp (disch := first | assumption | omega | decide) only [gB, I_all, zK_v, zK_n, true_and, and_true, Nat.reduceAdd, Nat.reduceMul, Nat.reduceSub, z_lt, z_le, z_neq, not_false_eq_true, or_true, true_or, or_false, false_or, false_and, and_false, gX3_stop, F, P, G, zCs]
theorem e1_next {s : Nat} (Z : ZS κ h a n p π A q0 q) (hs : s < plN π 0) : Ev κ mX1_next [.ref p, .int (Int32.ofNat s)] (hX h a n W SM) Q = Q (.inl (some (.int (Int32.ofNat (nxt π s))))) (hX h a n W SM) := by
  have F := cF Z.1 Z.2.2.2.2.1
  have P := plX Z
  have G := plY Z
  obtain ⟨h2, h10⟩ := Z.2.2.1.1
  have e0 : ¬ plN π 0 = 0 := by omega
  have er : Int32.ofNat (s + 1) - Int32.ofNat (s + 1) / Int32.ofNat (plN π 0) * Int32.ofNat (plN π 0) = Int32.ofNat (nxt π s) := by
    have ed : Int32.ofNat (s + 1) / Int32.ofNat (plN π 0) = Int32.ofNat ((s + 1) / plN π 0) := I_div (by omega) (by omega)
    rw [ed, I_mul, I_sub (Nat.div_mul_le_self _ _)]
    congr 1
    unfold nxt
    by_cases c : s + 1 = plN π 0
    · rw [if_pos c, c, Nat.div_self (by omega)]; omega
    · rw [if_neg c, Nat.div_eq_of_lt (by omega)]; omega
  simp (disch := first | assumption | omega | decide) only [gB, I_all, zK_v, zK_n, true_and, and_true, Nat.reduceAdd, Nat.reduceMul, Nat.reduceSub, z_lt, z_le, z_neq, not_false_eq_true, or_true, true_or, or_false, false_or, false_and, and_false, gX1_next, F, P, G, er]
theorem e10_at {f : Nat} {k : Int32} (Z : ZS κ h a n p π A q0 q) (hf : f < plN π 2) : Ev κ mX10_at [.ref (A 3 f), .int k] (hX h a n W SM) Q = Q (.inl (some (.int (plT π 12 f + k * plT π 11 f)))) (hX h a n W SM) := by
  have F := cF Z.1 Z.2.2.2.2.1
  have P := plX Z
  simp (disch := first | assumption | omega | decide) only [gB, I_all, zK_v, zK_n, true_and, and_true, Nat.reduceAdd, Nat.reduceMul, Nat.reduceSub, z_lt, z_le, z_neq, not_false_eq_true, or_true, true_or, or_false, false_or, false_and, and_false, gX10_at, F, P]
end
