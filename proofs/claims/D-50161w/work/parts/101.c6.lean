/-! the component: facts of a state's block for the run -/
section
variable {κ : zC} {h : zH} {a p n S B : Nat} {ct : Nat → Nat} {W : Nat → Nat → Int32} {SM : Nat → Nat → Int64} {Q : zQ}
theorem cIKlt : ∀ k ∈ cIK, k < 15 := by decide
theorem cF (Z : CSh κ h a p S B ct) (hn : n = 15 + 8 * S + 5 * B) : (∀ W SM g, g ∈ cIG → hV (hX h a n W SM) a g = .int (W 0 g)) ∧ (∀ W SM, hV (hX h a n W SM) a 32 = .long (SM 0 32)) ∧ (∀ W SM, hV (hX h a n W SM) a 33 = .long (SM 0 33)) ∧ (∀ W SM k j, k ∈ cIK → hV (hX h a n W SM) (a + k) j = .int (W k j)) ∧
    (∀ W SM g v, g ∈ cIG → hW (hX h a n W SM) a g (.int v) = hX h a n (zv W 0 g v) SM) ∧ (∀ W SM v, hW (hX h a n W SM) a 32 (.long v) = hX h a n W (zv SM 0 32 v)) ∧ (∀ W SM v, hW (hX h a n W SM) a 33 (.long v) = hX h a n W (zv SM 0 33 v)) ∧ (∀ W SM k j v, k ∈ cIK → hW (hX h a n W SM) (a + k) j (.int v) = hX h a n (zv W k j v) SM) ∧
    (∀ W SM x, hK (hX h a n W SM) x = hK h x) ∧ (∀ W SM x, hL (hX h a n W SM) x = hL h x) ∧ hK h a = 103 ∧ (∀ W SM, hV (hX h a n W SM) a 22 = .ref p) := by
  subst hn
  obtain ⟨⟨z1, z2, z3, z4, z5⟩, z6, ⟨z7, z8, z9, z10⟩, -⟩ := Z
  exact ⟨fun _ _ g hg => hV_Xi (k := 0) (by omega) (z7 g hg), fun _ _ => hV_Xj (k := 0) (by omega) z8, fun _ _ => hV_Xj (k := 0) (by omega) z9, fun _ _ k j hk => hV_Xi (by have := cIKlt k hk; omega) (z10 k hk j),
    fun _ _ g _ hg => hX_i (k := 0) (by omega) (z7 g hg), fun _ _ _ => hX_j (k := 0) (by omega) z8, fun _ _ _ => hX_j (k := 0) (by omega) z9, fun _ _ k j _ hk => hX_i (by have := cIKlt k hk; omega) (z10 k hk j), fun _ _ _ => rfl, fun _ _ _ => rfl, z2, fun _ _ => hV_Xr (k := 0) (by omega) z3⟩
theorem cRf (Z : CSh κ h a p S B ct) (hn : n = 15 + 8 * S + 5 * B) : (∀ W SM, hV (hX h a n W SM) a 34 = .ref (a + 1)) ∧ (∀ W SM, hV (hX h a n W SM) a 35 = .ref (a + 2)) ∧ (∀ W SM, hV (hX h a n W SM) a 36 = .ref (a + 3)) ∧ (∀ W SM, hV (hX h a n W SM) a 37 = .ref (a + 4)) ∧
    (∀ W SM, hV (hX h a n W SM) a 38 = .ref (a + 14)) ∧ (∀ W SM, hV (hX h a n W SM) a 39 = .ref (a + 5)) ∧ (∀ W SM, hV (hX h a n W SM) a 40 = .ref (a + 7)) ∧ (∀ W SM, hV (hX h a n W SM) a 41 = .ref (a + 8)) ∧ (∀ W SM, hV (hX h a n W SM) a 42 = .ref (a + 9)) ∧ (∀ W SM, hV (hX h a n W SM) a 43 = .ref (a + 10)) ∧ (∀ W SM, hV (hX h a n W SM) a 44 = .ref (a + 11)) ∧
    (∀ W SM, hV (hX h a n W SM) a 45 = .ref (a + 12)) ∧ (∀ W SM, hV (hX h a n W SM) a 46 = .ref (a + 13)) := by
  subst hn
  obtain ⟨-, z6, -, ⟨q1, -⟩, ⟨b1, -⟩, -⟩ := Z
  exact ⟨fun _ _ => hV_Xr (k := 0) (by omega) (z6 (1, 34, 1, 4) (by decide)).1, fun _ _ => hV_Xr (k := 0) (by omega) (z6 (2, 35, 4, 10) (by decide)).1, fun _ _ => hV_Xr (k := 0) (by omega) (z6 (3, 36, 11, 10) (by decide)).1, fun _ _ => hV_Xr (k := 0) (by omega) (z6 (4, 37, 12, 10) (by decide)).1,
    fun _ _ => hV_Xr (k := 0) (by omega) b1, fun _ _ => hV_Xr (k := 0) (by omega) q1, fun _ _ => hV_Xr (k := 0) (by omega) (z6 (7, 40, 1, 17) (by decide)).1, fun _ _ => hV_Xr (k := 0) (by omega) (z6 (8, 41, 1, 17) (by decide)).1, fun _ _ => hV_Xr (k := 0) (by omega) (z6 (9, 42, 1, 17) (by decide)).1, fun _ _ => hV_Xr (k := 0) (by omega) (z6 (10, 43, 1, 17) (by decide)).1, fun _ _ => hV_Xr (k := 0) (by omega) (z6 (11, 44, 1, 17) (by decide)).1,
    fun _ _ => hV_Xr (k := 0) (by omega) (z6 (12, 45, 1, 16) (by decide)).1, fun _ _ => hV_Xr (k := 0) (by omega) (z6 (13, 46, 1, 150) (by decide)).1⟩
theorem cK (Z : CSh κ h a p S B ct) : hK h (a + 1) = 1 ∧ hL h (a + 1) = 4 ∧ hK h (a + 2) = 4 ∧ hL h (a + 2) = 10 ∧ hK h (a + 3) = 11 ∧ hL h (a + 3) = 10 ∧ hK h (a + 4) = 12 ∧ hL h (a + 4) = 10 ∧ hK h (a + 7) = 1 ∧ hL h (a + 7) = 17 ∧ hK h (a + 8) = 1 ∧ hL h (a + 8) = 17 ∧ hK h (a + 9) = 1 ∧ hL h (a + 9) = 17 ∧ hK h (a + 10) = 1 ∧ hL h (a + 10) = 17 ∧
    hK h (a + 11) = 1 ∧ hL h (a + 11) = 17 ∧ hK h (a + 12) = 1 ∧ hL h (a + 12) = 16 ∧ hK h (a + 13) = 1 ∧ hL h (a + 13) = 150 ∧ hK h (a + 14) = 13 ∧ hL h (a + 14) = B := by
  obtain ⟨-, z6, -, -, ⟨-, b2, b3⟩, -⟩ := Z
  exact ⟨(z6 (1, 34, 1, 4) (by decide)).2.1, (z6 (1, 34, 1, 4) (by decide)).2.2, (z6 (2, 35, 4, 10) (by decide)).2.1, (z6 (2, 35, 4, 10) (by decide)).2.2, (z6 (3, 36, 11, 10) (by decide)).2.1, (z6 (3, 36, 11, 10) (by decide)).2.2, (z6 (4, 37, 12, 10) (by decide)).2.1, (z6 (4, 37, 12, 10) (by decide)).2.2,
    (z6 (7, 40, 1, 17) (by decide)).2.1, (z6 (7, 40, 1, 17) (by decide)).2.2, (z6 (8, 41, 1, 17) (by decide)).2.1, (z6 (8, 41, 1, 17) (by decide)).2.2, (z6 (9, 42, 1, 17) (by decide)).2.1, (z6 (9, 42, 1, 17) (by decide)).2.2, (z6 (10, 43, 1, 17) (by decide)).2.1, (z6 (10, 43, 1, 17) (by decide)).2.2,
    (z6 (11, 44, 1, 17) (by decide)).2.1, (z6 (11, 44, 1, 17) (by decide)).2.2, (z6 (12, 45, 1, 16) (by decide)).2.1, (z6 (12, 45, 1, 16) (by decide)).2.2, (z6 (13, 46, 1, 150) (by decide)).2.1, (z6 (13, 46, 1, 150) (by decide)).2.2, b2, b3⟩
/-- rows, leavings, buses by their numbers -/
theorem cE (Z : CSh κ h a p S B ct) (hn : n = 15 + 8 * S + 5 * B) : (∀ W SM s, s < S → hV (hX h a n W SM) (a + 3) s = .ref (a + (15 + 8 * s))) ∧ (∀ W SM s, s < S → hV (hX h a n W SM) (a + 4) s = .ref (a + (19 + 8 * s))) ∧ (∀ W SM b, b < B → hV (hX h a n W SM) (a + 14) b = .ref (a + (15 + 8 * S + 5 * b))) := by
  subst hn
  obtain ⟨-, -, -, -, -, zs, zb⟩ := Z
  exact ⟨fun _ _ s hs => hV_Xr (by omega) (zs s hs).1, fun _ _ s hs => hV_Xr (by omega) (zs s hs).2.1, fun _ _ b hb => hV_Xr (by omega) (zb b hb).1⟩
theorem cRow (Z : CSh κ h a p S B ct) (hn : n = 15 + 8 * S + 5 * B) {s : Nat} (hs : s < S) : RSh h a n (15 + 8 * s) 40 := by subst hn; exact (Z.2.2.2.2.2.1 s hs).2.2.1
theorem cLv (Z : CSh κ h a p S B ct) (hn : n = 15 + 8 * S + 5 * B) {s : Nat} (hs : s < S) : LSh h a n (19 + 8 * s) := by subst hn; exact (Z.2.2.2.2.2.1 s hs).2.2.2
theorem cBu (Z : CSh κ h a p S B ct) (hn : n = 15 + 8 * S + 5 * B) {b : Nat} (hb : b < B) : BSh h a n (15 + 8 * S + 5 * b) (ct b) ∧ ct b ≤ 99 := by subst hn; exact (Z.2.2.2.2.2.2 b hb).2
end
