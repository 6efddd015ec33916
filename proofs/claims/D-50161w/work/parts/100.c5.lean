/-! the component: the shape of a state's block; a block's values against a state -/
def LSh (h : zH) (a n K : Nat) : Prop := K + 3 < n ∧ hK h (a + K) = 105 ∧ (hV h (a + K) 51 = .ref (a + (K + 1)) ∧ hV h (a + K) 52 = .ref (a + (K + 2)) ∧ hV h (a + K) 53 = .ref (a + (K + 3)) ∧ isI (hV h (a + K) 54) ∧ isI (hV h (a + K) 55) ∧ isI (hV h (a + K) 56)) ∧ ∀ i, 1 ≤ i → i ≤ 3 → hK h (a + (K + i)) = 1 ∧ hL h (a + (K + i)) = 8 ∧ ∀ j, isI (hV h (a + (K + i)) j)
def BSh (h : zH) (a n K cap : Nat) : Prop := hK h (a + K) = 106 ∧ hV h (a + K) 71 = .ref (a + (K + 1)) ∧ (∀ g, 57 ≤ g → g ≤ 70 → isI (hV h (a + K) g)) ∧ RSh h a n (K + 1) cap
def cTab : List (Nat × Nat × Nat × Nat) := [(1, 34, 1, 4), (2, 35, 4, 10), (3, 36, 11, 10), (4, 37, 12, 10), (7, 40, 1, 17), (8, 41, 1, 17), (9, 42, 1, 17), (10, 43, 1, 17), (11, 44, 1, 17), (12, 45, 1, 16), (13, 46, 1, 150)]
def cIG : List Nat := [23, 24, 25, 26, 27, 28, 29, 30, 31]
def cIK : List Nat := [1, 2, 7, 8, 9, 10, 11, 12, 13]
/-- a state's block at a, of the plan at p, with S stops, B buses, seats ct -/
def CSh (κ : zC) (h : zH) (a p S B : Nat) (ct : Nat → Nat) : Prop := (kB κ ≤ a ∧ hK h a = 103 ∧ hV h a 22 = .ref p ∧ S ≤ 10 ∧ B ≤ 6) ∧ (∀ q ∈ cTab, hV h a q.2.1 = .ref (a + q.1) ∧ hK h (a + q.1) = q.2.2.1 ∧ hL h (a + q.1) = q.2.2.2) ∧
  ((∀ g ∈ cIG, isI (hV h a g)) ∧ isJ (hV h a 32) ∧ isJ (hV h a 33) ∧ (∀ k ∈ cIK, ∀ j, isI (hV h (a + k) j))) ∧
  (hV h a 39 = .ref (a + 5) ∧ hK h (a + 5) = 131 ∧ hV h (a + 5) 170 = .ref (a + 6) ∧ hV h (a + 5) 172 = .null ∧ isI (hV h (a + 5) 171) ∧ isI (hV h (a + 5) 173) ∧ hK h (a + 6) = 10 ∧ hL h (a + 6) = 11) ∧
  (hV h a 38 = .ref (a + 14) ∧ hK h (a + 14) = 13 ∧ hL h (a + 14) = B) ∧
  (∀ s, s < S → hV h (a + 3) s = .ref (a + (15 + 8 * s)) ∧ hV h (a + 4) s = .ref (a + (19 + 8 * s)) ∧ RSh h a (15 + 8 * S + 5 * B) (15 + 8 * s) 40 ∧ LSh h a (15 + 8 * S + 5 * B) (19 + 8 * s)) ∧
  ∀ b, b < B → hV h (a + 14) b = .ref (a + (15 + 8 * S + 5 * b)) ∧ BSh h a (15 + 8 * S + 5 * B) (15 + 8 * S + 5 * b) (ct b) ∧ ct b ≤ 99
/-- leavings' values at place K; the latest is the first there, the last in the list -/
def LC (W : Nat → Nat → Int32) (K : Nat) (l : List Lv) (al la : Int32) : Prop := W K 54 = Int32.ofNat l.length ∧ W K 55 = al ∧ W K 56 = la ∧ ∀ i r, l.reverse[i]? = some r → W (K + 1) i = Int32.ofNat r.1 ∧ W (K + 2) i = r.2.1 ∧ W (K + 3) i = r.2.2
/-- a bus's values at place K; its place in the twin's numbers: 0 state 1 stop 2 time 3 round 9 boarded 7 why 6 held 10 left 11 due 5 bunched 8 skips -/
def BC (π : Pl) (W : Nat → Nat → Int32) (K b : Nat) (q : Bs) : Prop := (W K 57 = Int32.ofNat b ∧ W K 58 = plT π 7 b ∧ W K 59 = plT π 8 b) ∧ (W K 60 = q.1 0 ∧ W K 61 = q.1 1 ∧ W K 62 = q.1 2 ∧ W K 63 = q.1 3 ∧ W K 64 = q.1 9 ∧ W K 65 = q.1 7 ∧ W K 66 = q.1 6 ∧ W K 67 = q.1 10 ∧ W K 68 = q.1 11 ∧ W K 69 = q.1 5 ∧ W K 70 = q.1 8) ∧ RC W (K + 1) q.2
/-- the plain numbers -/
def NC (π : Pl) (W : Nat → Nat → Int32) (σ : Sg) : Prop := (W 0 23 = sN σ 0 ∧ W 0 24 = sN σ 1 ∧ (∀ j, j < 4 → W 1 j = sN σ (2 + j)) ∧ (∀ j, j < 6 → W 0 (25 + j) = sN σ (6 + j)) ∧ (∀ s, s < 10 → W 2 s = sN σ (13 + s))) ∧
  (∀ c f, c < 5 → f < 17 → W (7 + c) f = sN σ (79 + 5 * f + c)) ∧ ∀ f, f < plN π 2 → plT π 12 f + W 12 f * plT π 11 f = sN σ (63 + f)
def GC (W : Nat → Nat → Int32) (l : List Lg) : Prop := W 0 31 = Int32.ofNat l.length ∧ ∀ i r, l[i]? = some r → W 13 (5 * i) = r.1 ∧ W 13 (5 * i + 1) = Int32.ofNat r.2.1 ∧ W 13 (5 * i + 2) = Int32.ofNat r.2.2.1 ∧ W 13 (5 * i + 3) = Int32.ofNat r.2.2.2.1 ∧ W 13 (5 * i + 4) = r.2.2.2.2
/-- a block's values are those of a state -/
def CAt (π : Pl) (W : Nat → Nat → Int32) (SM : Nat → Nat → Int64) (σ : Sg) : Prop := NC π W σ ∧ (SM 0 32 = sS σ 0 ∧ SM 0 33 = sS σ 1) ∧ (∀ s, s < plN π 0 → RC W (15 + 8 * s) (sR σ s)) ∧ (∀ s, s < plN π 0 → LC W (19 + 8 * s) (sL σ s) (sN σ (43 + s)) (sN σ (33 + s))) ∧
  (∀ b, b < plN π 1 → BC π W (15 + 8 * plN π 0 + 5 * b) b (sB σ b)) ∧ GC W (sG σ)
theorem LC.cg {W W' : Nat → Nat → Int32} {K : Nat} {l : List Lv} {al la : Int32} (R : LC W K l al la) (e : ∀ k j, K ≤ k → k ≤ K + 3 → W' k j = W k j) : LC W' K l al la :=
  ⟨(e _ _ (by omega) (by omega)).trans R.1, (e _ _ (by omega) (by omega)).trans R.2.1, (e _ _ (by omega) (by omega)).trans R.2.2.1, fun i r hi => ⟨(e _ _ (by omega) (by omega)).trans (R.2.2.2 i r hi).1, (e _ _ (by omega) (by omega)).trans (R.2.2.2 i r hi).2.1, (e _ _ (by omega) (by omega)).trans (R.2.2.2 i r hi).2.2⟩⟩
theorem BC.cg {π : Pl} {W W' : Nat → Nat → Int32} {K b : Nat} {q : Bs} (R : BC π W K b q) (e : ∀ k j, K ≤ k → k ≤ K + 4 → W' k j = W k j) : BC π W' K b q := by
  obtain ⟨⟨a1, a2, a3⟩, ⟨b1, b2, b3, b4, b5, b6, b7, b8, b9, b10, b11⟩, c⟩ := R
  have e0 := fun j => e K j (Nat.le_refl _) (by omega)
  exact ⟨⟨(e0 _).trans a1, (e0 _).trans a2, (e0 _).trans a3⟩, ⟨(e0 _).trans b1, (e0 _).trans b2, (e0 _).trans b3, (e0 _).trans b4, (e0 _).trans b5, (e0 _).trans b6, (e0 _).trans b7, (e0 _).trans b8, (e0 _).trans b9, (e0 _).trans b10, (e0 _).trans b11⟩, c.cg fun k j h1 h2 => e k j (by omega) (by omega)⟩
theorem GC.cg {W W' : Nat → Nat → Int32} {l : List Lg} (R : GC W l) (e0 : W' 0 31 = W 0 31) (e : ∀ j, W' 13 j = W 13 j) : GC W' l :=
  ⟨e0.trans R.1, fun i r hi => ⟨(e _).trans (R.2 i r hi).1, (e _).trans (R.2 i r hi).2.1, (e _).trans (R.2 i r hi).2.2.1, (e _).trans (R.2 i r hi).2.2.2.1, (e _).trans (R.2 i r hi).2.2.2.2⟩⟩
