/-! the component: a state's facts, for programs that only read -/
section
variable {κ : zC} {h : zH} {a p q0 q : Nat} {π : Pl} {A : Nat → Nat → Nat} {Q : zQ} {σ : Sg}
/-- the state's own numbers -/
theorem soN (Z : SAt κ h a p π A q0 q σ) : hK h a = 103 ∧ hV h a 22 = .ref p ∧ hV h a 23 = .int (sN σ 0) ∧ hV h a 24 = .int (sN σ 1) ∧ hV h a 25 = .int (sN σ 6) ∧ hV h a 26 = .int (sN σ 7) ∧ hV h a 27 = .int (sN σ 8) ∧ hV h a 28 = .int (sN σ 9) ∧ hV h a 29 = .int (sN σ 10) ∧ hV h a 30 = .int (sN σ 11) ∧
    hV h a 31 = .int (Int32.ofNat (sG σ).length) ∧ hV h a 32 = .long (sS σ 0) ∧ hV h a 33 = .long (sS σ 1) := by
  obtain ⟨⟨⟨⟨z1, z2, z3, -⟩, -, ⟨zi, j2, j3, -⟩, -⟩, -⟩, ⟨⟨⟨n0, n1, -, n6, -⟩, -⟩, ⟨m0, m1⟩, -, -, -, ⟨g0, -⟩⟩, -⟩ := Z
  have e : ∀ g ∈ cIG, hV h a g = .int (wOf h a 0 g) := fun g hg => wOf_e (k := 0) (zi g hg)
  exact ⟨z2, z3, (e 23 (by decide)).trans (congrArg _ n0), (e 24 (by decide)).trans (congrArg _ n1), (e 25 (by decide)).trans (congrArg _ (n6 0 (by decide))), (e 26 (by decide)).trans (congrArg _ (n6 1 (by decide))), (e 27 (by decide)).trans (congrArg _ (n6 2 (by decide))), (e 28 (by decide)).trans (congrArg _ (n6 3 (by decide))), (e 29 (by decide)).trans (congrArg _ (n6 4 (by decide))), (e 30 (by decide)).trans (congrArg _ (n6 5 (by decide))),
    (e 31 (by decide)).trans (congrArg _ g0), (sOf_e (k := 0) j2).trans (congrArg _ m0), (sOf_e (k := 0) j3).trans (congrArg _ m1)⟩
/-- its references -/
theorem soR (Z : SAt κ h a p π A q0 q σ) : hV h a 34 = .ref (a + 1) ∧ hV h a 35 = .ref (a + 2) ∧ hV h a 36 = .ref (a + 3) ∧ hV h a 37 = .ref (a + 4) ∧ hV h a 38 = .ref (a + 14) ∧ hV h a 39 = .ref (a + 5) ∧ hV h a 40 = .ref (a + 7) ∧ hV h a 41 = .ref (a + 8) ∧ hV h a 42 = .ref (a + 9) ∧ hV h a 43 = .ref (a + 10) ∧ hV h a 44 = .ref (a + 11) ∧ hV h a 45 = .ref (a + 12) ∧ hV h a 46 = .ref (a + 13) ∧
    (∀ s, s < plN π 0 → hV h (a + 3) s = .ref (a + (15 + 8 * s))) ∧ (∀ s, s < plN π 0 → hV h (a + 4) s = .ref (a + (19 + 8 * s))) ∧ (∀ b, b < plN π 1 → hV h (a + 14) b = .ref (a + (15 + 8 * plN π 0 + 5 * b))) := by
  obtain ⟨⟨⟨-, t, -, ⟨q1, -⟩, ⟨b1, -⟩, zs, zb⟩, -⟩, -⟩ := Z
  exact ⟨(t (1, 34, 1, 4) (by decide)).1, (t (2, 35, 4, 10) (by decide)).1, (t (3, 36, 11, 10) (by decide)).1, (t (4, 37, 12, 10) (by decide)).1, b1, q1, (t (7, 40, 1, 17) (by decide)).1, (t (8, 41, 1, 17) (by decide)).1, (t (9, 42, 1, 17) (by decide)).1, (t (10, 43, 1, 17) (by decide)).1, (t (11, 44, 1, 17) (by decide)).1, (t (12, 45, 1, 16) (by decide)).1, (t (13, 46, 1, 150) (by decide)).1,
    fun s hs => (zs s hs).1, fun s hs => (zs s hs).2.1, fun b hb => (zb b hb).1⟩
theorem soK (Z : SAt κ h a p π A q0 q σ) : hK h (a + 1) = 1 ∧ hL h (a + 1) = 4 ∧ hK h (a + 2) = 4 ∧ hL h (a + 2) = 10 ∧ hK h (a + 3) = 11 ∧ hL h (a + 3) = 10 ∧ hK h (a + 4) = 12 ∧ hL h (a + 4) = 10 ∧ hK h (a + 7) = 1 ∧ hL h (a + 7) = 17 ∧ hK h (a + 8) = 1 ∧ hL h (a + 8) = 17 ∧ hK h (a + 9) = 1 ∧ hL h (a + 9) = 17 ∧ hK h (a + 10) = 1 ∧ hL h (a + 10) = 17 ∧
    hK h (a + 11) = 1 ∧ hL h (a + 11) = 17 ∧ hK h (a + 12) = 1 ∧ hL h (a + 12) = 16 ∧ hK h (a + 13) = 1 ∧ hL h (a + 13) = 150 ∧ hK h (a + 14) = 13 ∧ hL h (a + 14) = plN π 1 := cK Z.1.1
/-- its numbers in arrays -/
theorem soA (Z : SAt κ h a p π A q0 q σ) : (∀ j, j < 4 → hV h (a + 1) j = .int (sN σ (2 + j))) ∧ (∀ s, s < 10 → hV h (a + 2) s = .int (sN σ (13 + s))) ∧ (∀ f, f < 17 → hV h (a + 7) f = .int (sN σ (79 + 5 * f + 0))) ∧ (∀ f, f < 17 → hV h (a + 8) f = .int (sN σ (79 + 5 * f + 1))) ∧ (∀ f, f < 17 → hV h (a + 9) f = .int (sN σ (79 + 5 * f + 2))) ∧ (∀ f, f < 17 → hV h (a + 10) f = .int (sN σ (79 + 5 * f + 3))) ∧ (∀ f, f < 17 → hV h (a + 11) f = .int (sN σ (79 + 5 * f + 4))) ∧
    (∀ i r, (sG σ)[i]? = some r → hV h (a + 13) (5 * i) = .int r.1 ∧ hV h (a + 13) (5 * i + 1) = .int (Int32.ofNat r.2.1) ∧ hV h (a + 13) (5 * i + 2) = .int (Int32.ofNat r.2.2.1) ∧ hV h (a + 13) (5 * i + 3) = .int (Int32.ofNat r.2.2.2.1) ∧ hV h (a + 13) (5 * i + 4) = .int r.2.2.2.2) := by
  obtain ⟨⟨⟨-, -, ⟨-, -, -, zk⟩, -⟩, -⟩, ⟨⟨⟨-, -, n2, -, n13⟩, n79, -⟩, -, -, -, -, ⟨-, g1⟩⟩, -⟩ := Z
  have e : ∀ k ∈ cIK, ∀ j, hV h (a + k) j = .int (wOf h a k j) := fun k hk j => wOf_e (zk k hk j)
  exact ⟨fun j hj => (e 1 (by decide) j).trans (congrArg _ (n2 j hj)), fun j hj => (e 2 (by decide) j).trans (congrArg _ (n13 j hj)), fun f hf => (e 7 (by decide) f).trans (congrArg _ (n79 0 f (by decide) hf)), fun f hf => (e 8 (by decide) f).trans (congrArg _ (n79 1 f (by decide) hf)), fun f hf => (e 9 (by decide) f).trans (congrArg _ (n79 2 f (by decide) hf)), fun f hf => (e 10 (by decide) f).trans (congrArg _ (n79 3 f (by decide) hf)), fun f hf => (e 11 (by decide) f).trans (congrArg _ (n79 4 f (by decide) hf)),
    fun i r hi => ⟨(e 13 (by decide) _).trans (congrArg _ (g1 i r hi).1), (e 13 (by decide) _).trans (congrArg _ (g1 i r hi).2.1), (e 13 (by decide) _).trans (congrArg _ (g1 i r hi).2.2.1), (e 13 (by decide) _).trans (congrArg _ (g1 i r hi).2.2.2.1), (e 13 (by decide) _).trans (congrArg _ (g1 i r hi).2.2.2.2)⟩⟩
/-- riders at a place: facts -/
def RF (h : zH) (a K cap : Nat) (l : List Rd) : Prop := hK h (a + K) = 104 ∧ hV h (a + K) 47 = .ref (a + (K + 1)) ∧ hV h (a + K) 48 = .ref (a + (K + 2)) ∧ hV h (a + K) 49 = .ref (a + (K + 3)) ∧ hV h (a + K) 50 = .int (Int32.ofNat l.length) ∧
  hK h (a + (K + 1)) = 1 ∧ hK h (a + (K + 2)) = 1 ∧ hK h (a + (K + 3)) = 1 ∧ hL h (a + (K + 1)) = cap ∧ hL h (a + (K + 2)) = cap ∧ hL h (a + (K + 3)) = cap ∧
  ∀ i r, l[i]? = some r → hV h (a + (K + 1)) i = .int (Int32.ofNat r.1) ∧ hV h (a + (K + 2)) i = .int r.2.1 ∧ hV h (a + (K + 3)) i = .int (Int32.ofNat r.2.2)
theorem RF_of {n K cap : Nat} {l : List Rd} (R : RSh h a n K cap) (C : RC (wOf h a) K l) : RF h a K cap l := by
  obtain ⟨r0, r1, ⟨r2, r3, r4, r5⟩, r6⟩ := R
  have e : ∀ i, 1 ≤ i → i ≤ 3 → ∀ j, hV h (a + (K + i)) j = .int (wOf h a (K + i) j) := fun i h1 h3 j => wOf_e ((r6 i h1 h3).2.2 j)
  exact ⟨r1, r2, r3, r4, (wOf_e r5).trans (congrArg _ C.1), (r6 1 (by decide) (by decide)).1, (r6 2 (by decide) (by decide)).1, (r6 3 (by decide) (by decide)).1, (r6 1 (by decide) (by decide)).2.1, (r6 2 (by decide) (by decide)).2.1, (r6 3 (by decide) (by decide)).2.1,
    fun i r hi => ⟨(e 1 (by decide) (by decide) i).trans (congrArg _ (C.2 i r hi).1), (e 2 (by decide) (by decide) i).trans (congrArg _ (C.2 i r hi).2.1), (e 3 (by decide) (by decide) i).trans (congrArg _ (C.2 i r hi).2.2)⟩⟩
theorem soRow (Z : SAt κ h a p π A q0 q σ) {s : Nat} (hs : s < plN π 0) : RF h a (15 + 8 * s) 40 (sR σ s) := RF_of (cRow Z.1.1 rfl hs) (Z.2.1.2.2.1 s hs)
theorem soRid (Z : SAt κ h a p π A q0 q σ) {b : Nat} (hb : b < plN π 1) : RF h a (15 + 8 * plN π 0 + 5 * b + 1) (plI π 7 b) (bR σ b) := RF_of (cBu Z.1.1 rfl hb).1.2.2.2 (Z.2.1.2.2.2.2.1 b hb).2.2
/-- leavings: facts; the latest comes first -/
theorem soL (Z : SAt κ h a p π A q0 q σ) {s : Nat} (hs : s < plN π 0) : hK h (a + (19 + 8 * s)) = 105 ∧ hV h (a + (19 + 8 * s)) 51 = .ref (a + (19 + 8 * s + 1)) ∧ hV h (a + (19 + 8 * s)) 52 = .ref (a + (19 + 8 * s + 2)) ∧ hV h (a + (19 + 8 * s)) 53 = .ref (a + (19 + 8 * s + 3)) ∧
    hV h (a + (19 + 8 * s)) 54 = .int (Int32.ofNat (sL σ s).length) ∧ hV h (a + (19 + 8 * s)) 55 = .int (sN σ (43 + s)) ∧ hV h (a + (19 + 8 * s)) 56 = .int (sN σ (33 + s)) ∧
    hK h (a + (19 + 8 * s + 1)) = 1 ∧ hK h (a + (19 + 8 * s + 2)) = 1 ∧ hK h (a + (19 + 8 * s + 3)) = 1 ∧ hL h (a + (19 + 8 * s + 1)) = 8 ∧ hL h (a + (19 + 8 * s + 2)) = 8 ∧ hL h (a + (19 + 8 * s + 3)) = 8 ∧
    ∀ i r, (sL σ s).reverse[i]? = some r → hV h (a + (19 + 8 * s + 1)) i = .int (Int32.ofNat r.1) ∧ hV h (a + (19 + 8 * s + 2)) i = .int r.2.1 ∧ hV h (a + (19 + 8 * s + 3)) i = .int r.2.2 := by
  obtain ⟨r0, r1, ⟨r2, r3, r4, r5, r7, r8⟩, r6⟩ := cLv Z.1.1 rfl hs
  obtain ⟨c1, c2, c3, c4⟩ := Z.2.1.2.2.2.1 s hs
  have e : ∀ i, 1 ≤ i → i ≤ 3 → ∀ j, hV h (a + (19 + 8 * s + i)) j = .int (wOf h a (19 + 8 * s + i) j) := fun i h1 h3 j => wOf_e ((r6 i h1 h3).2.2 j)
  exact ⟨r1, r2, r3, r4, (wOf_e r5).trans (congrArg _ c1), (wOf_e r7).trans (congrArg _ c2), (wOf_e r8).trans (congrArg _ c3), (r6 1 (by decide) (by decide)).1, (r6 2 (by decide) (by decide)).1, (r6 3 (by decide) (by decide)).1, (r6 1 (by decide) (by decide)).2.1, (r6 2 (by decide) (by decide)).2.1, (r6 3 (by decide) (by decide)).2.1,
    fun i r hi => ⟨(e 1 (by decide) (by decide) i).trans (congrArg _ (c4 i r hi).1), (e 2 (by decide) (by decide) i).trans (congrArg _ (c4 i r hi).2.1), (e 3 (by decide) (by decide) i).trans (congrArg _ (c4 i r hi).2.2)⟩⟩
/-- a bus: facts -/
theorem soB (Z : SAt κ h a p π A q0 q σ) {b : Nat} (hb : b < plN π 1) : hK h (a + (15 + 8 * plN π 0 + 5 * b)) = 106 ∧ hV h (a + (15 + 8 * plN π 0 + 5 * b)) 57 = .int (Int32.ofNat b) ∧ hV h (a + (15 + 8 * plN π 0 + 5 * b)) 58 = .int (plT π 7 b) ∧ hV h (a + (15 + 8 * plN π 0 + 5 * b)) 59 = .int (plT π 8 b) ∧
    hV h (a + (15 + 8 * plN π 0 + 5 * b)) 60 = .int (bF σ b 0) ∧ hV h (a + (15 + 8 * plN π 0 + 5 * b)) 61 = .int (bF σ b 1) ∧ hV h (a + (15 + 8 * plN π 0 + 5 * b)) 62 = .int (bF σ b 2) ∧ hV h (a + (15 + 8 * plN π 0 + 5 * b)) 63 = .int (bF σ b 3) ∧ hV h (a + (15 + 8 * plN π 0 + 5 * b)) 64 = .int (bF σ b 9) ∧ hV h (a + (15 + 8 * plN π 0 + 5 * b)) 65 = .int (bF σ b 7) ∧
    hV h (a + (15 + 8 * plN π 0 + 5 * b)) 66 = .int (bF σ b 6) ∧ hV h (a + (15 + 8 * plN π 0 + 5 * b)) 67 = .int (bF σ b 10) ∧ hV h (a + (15 + 8 * plN π 0 + 5 * b)) 68 = .int (bF σ b 11) ∧ hV h (a + (15 + 8 * plN π 0 + 5 * b)) 69 = .int (bF σ b 5) ∧ hV h (a + (15 + 8 * plN π 0 + 5 * b)) 70 = .int (bF σ b 8) ∧
    hV h (a + (15 + 8 * plN π 0 + 5 * b)) 71 = .ref (a + (15 + 8 * plN π 0 + 5 * b + 1)) := by
  obtain ⟨b1, b2, b3, b4⟩ := (cBu Z.1.1 rfl hb).1
  obtain ⟨⟨a1, a2, a3⟩, ⟨d1, d2, d3, d4, d5, d6, d7, d8, d9, d10, d11⟩, -⟩ := Z.2.1.2.2.2.2.1 b hb
  have e : ∀ g, 57 ≤ g → g ≤ 70 → hV h (a + (15 + 8 * plN π 0 + 5 * b)) g = .int (wOf h a (15 + 8 * plN π 0 + 5 * b) g) := fun g h1 h3 => wOf_e (b3 g h1 h3)
  exact ⟨b1, (e 57 (by decide) (by decide)).trans (congrArg _ a1), (e 58 (by decide) (by decide)).trans (congrArg _ a2), (e 59 (by decide) (by decide)).trans (congrArg _ a3), (e 60 (by decide) (by decide)).trans (congrArg _ d1), (e 61 (by decide) (by decide)).trans (congrArg _ d2), (e 62 (by decide) (by decide)).trans (congrArg _ d3), (e 63 (by decide) (by decide)).trans (congrArg _ d4), (e 64 (by decide) (by decide)).trans (congrArg _ d5), (e 65 (by decide) (by decide)).trans (congrArg _ d6),
    (e 66 (by decide) (by decide)).trans (congrArg _ d7), (e 67 (by decide) (by decide)).trans (congrArg _ d8), (e 68 (by decide) (by decide)).trans (congrArg _ d9), (e 69 (by decide) (by decide)).trans (congrArg _ d10), (e 70 (by decide) (by decide)).trans (congrArg _ d11), b2⟩
/-- the plan's facts -/
theorem soP (P : PAt h q0 q p π A) : hK h p = 101 ∧ hV h p 6 = .int (plT π 0 0) ∧ hV h p 7 = .int (plT π 0 1) ∧ hV h p 8 = .int (plT π 0 2) ∧ hV h p 11 = .ref (A 4 0) ∧ hV h p 12 = .ref (A 4 1) ∧ hV h p 13 = .ref (A 4 2) ∧ hV h p 14 = .ref (A 4 3) ∧ hK h (A 4 0) = 114 ∧ hK h (A 4 1) = 114 ∧ hK h (A 4 2) = 114 ∧ hK h (A 4 3) = 114 ∧
    (∀ s, s < plN π 0 → hV h (A 1 s) 17 = .int (Int32.ofNat s)) ∧ (∀ s, s < plN π 0 → hV h (A 1 s) 18 = .int (plT π 4 s)) ∧ (∀ s, s < plN π 0 → hV h (A 1 s) 19 = .int (plT π 5 s)) ∧ (∀ s, s < plN π 0 → hV h (A 1 s) 16 = .ref (A 7 s)) ∧ (∀ s, s < plN π 0 → hV h (A 1 s) 21 = .ref (A 2 s)) ∧ (∀ s, s < plN π 0 → hK h (A 1 s) = 102) ∧ (∀ s, s < plN π 0 → hK h (A 2 s) = 114) ∧
    (∀ f, f < plN π 2 → hV h (A 3 f) 142 = .int (Int32.ofNat f)) ∧ (∀ f, f < plN π 2 → hV h (A 3 f) 143 = .int (plT π 10 f)) ∧ (∀ f, f < plN π 2 → hV h (A 3 f) 144 = .int (plT π 11 f)) ∧ (∀ f, f < plN π 2 → hV h (A 3 f) 145 = .int (plT π 12 f)) ∧ (∀ f, f < plN π 2 → hV h (A 3 f) 146 = .ref (A 1 (plI π 9 f))) ∧ (∀ f, f < plN π 2 → hK h (A 3 f) = 110) := by
  obtain ⟨⟨p1, p2, p3, p4, p5, p6⟩, ⟨l1, l2⟩, ⟨m1, m2⟩, ⟨n1, n2⟩, ⟨o1, o2⟩, s0, f0⟩ := P
  exact ⟨p3, p4, p5, p6, l1, m1, n1, o1, l2.1.2.2.1, m2.1.2.2.1, n2.1.2.2.1, o2.1.2.2.1,
    fun s hs => (s0 s hs).2.1.1, fun s hs => (s0 s hs).2.1.2.1, fun s hs => (s0 s hs).2.1.2.2.1, fun s hs => (s0 s hs).2.1.2.2.2.1, fun s hs => (s0 s hs).2.1.2.2.2.2, fun s hs => (s0 s hs).1.2.2, fun s hs => (s0 s hs).2.2.1.2.2.1,
    fun f hf => (f0 f hf).2.1, fun f hf => (f0 f hf).2.2.1, fun f hf => (f0 f hf).2.2.2.1, fun f hf => (f0 f hf).2.2.2.2.1, fun f hf => (f0 f hf).2.2.2.2.2, fun f hf => (f0 f hf).1.2.2⟩
/-- the plan's lists -/
theorem soY (P : PAt h q0 q p π A) : (∀ Q : zQ, Ev κ mJ2_size [.ref (A 4 0)] h Q = Q (.inl (some (.int (Int32.ofNat (plN π 0))))) h) ∧ (∀ Q : zQ, Ev κ mJ2_size [.ref (A 4 1)] h Q = Q (.inl (some (.int (Int32.ofNat (plN π 1))))) h) ∧ (∀ Q : zQ, Ev κ mJ2_size [.ref (A 4 3)] h Q = Q (.inl (some (.int (Int32.ofNat (plN π 2))))) h) ∧
    (∀ s (Q : zQ), s < plN π 0 → Ev κ mJ2_get [.ref (A 4 0), .int (Int32.ofNat s)] h Q = Q (.inl (some (.ref (A 1 s)))) h) ∧ (∀ f (Q : zQ), f < plN π 2 → Ev κ mJ2_get [.ref (A 4 3), .int (Int32.ofNat f)] h Q = Q (.inl (some (.ref (A 3 f)))) h) ∧
    (∀ s (Q : zQ), s < plN π 0 → Ev κ mJ2_size [.ref (A 2 s)] h Q = Q (.inl (some (.int (Int32.ofNat (flF π s).length)))) h) ∧
    (∀ s i (Q : zQ), s < plN π 0 → i < (flF π s).length → Ev κ mJ2_get [.ref (A 2 s), .int (Int32.ofNat i)] h Q = Q (.inl (some (.ref (A 3 ((flF π s).getD i 0))))) h) :=
  ⟨fun Q => e2_size P.2.1.2, fun Q => e2_size P.2.2.1.2, fun Q => e2_size P.2.2.2.2.1.2, fun s Q hs => e2_get P.2.1.2 hs rfl, fun f Q hf => e2_get P.2.2.2.2.1.2 hf rfl, fun s Q hs => e2_size (P.2.2.2.2.2.1 s hs).2.2, fun s i Q hs hi => e2_get (P.2.2.2.2.2.1 s hs).2.2 hi rfl⟩
/-- the state's small readers -/
theorem soE (Z : SAt κ h a p π A q0 q σ) : (∀ Q : zQ, Ev κ mX3_stops [.ref a] h Q = Q (.inl (some (.int (Int32.ofNat (plN π 0))))) h) ∧ (∀ s (Q : zQ), s < plN π 0 → Ev κ mX3_stop [.ref a, .int (Int32.ofNat s)] h Q = Q (.inl (some (.ref (A 1 s)))) h) := by
  have F := soN Z
  have P := soP Z.1.2.1
  have Y := soY (κ := κ) Z.1.2.1
  refine ⟨fun Q => ?_, fun s Q hs => ?_⟩
  · simp (disch := first | assumption | omega | decide | (refine Eq.trans (hK_X _) ?_; assumption) | fail) only [gB, I_all, zK_v, zK_n, true_and, and_true, Nat.reduceAdd, Nat.reduceMul, Nat.reduceSub, z_lt, z_le, z_neq, not_false_eq_true, or_true, true_or, or_false, false_or, false_and, and_false, gX3_stops, F, P, Y]
  · simp (disch := first | assumption | omega | decide | (refine Eq.trans (hK_X _) ?_; assumption) | fail) only [gB, I_all, zK_v, zK_n, true_and, and_true, Nat.reduceAdd, Nat.reduceMul, Nat.reduceSub, z_lt, z_le, z_neq, not_false_eq_true, or_true, true_or, or_false, false_or, false_and, and_false, gX3_stop, F, P, Y, zCs]
end
