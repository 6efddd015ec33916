/-! the component: the state at a plan's start -/
section
variable {κ : zC} {h h' H : zH} {a p q0 q S B n : Nat} {π : Pl} {A : Nat → Nat → Nat} {Q : zQ} {σ : Sg} {W : Nat → Nat → Int32} {SM : Nat → Nat → Int64} {ct : Nat → Nat} {f : Nat → Value}
/-- what of the plan is read at the start alone -/
def PIn (h : zH) (q0 q p : Nat) (π : Pl) (A : Nat → Nat → Nat) (m0 : Int32) (nm : Nat → Int32) (pt : Nat → Bool) : Prop :=
  (hV h p 9 = .int m0 ∧ hV h p 10 = .ref (A 0 0) ∧ q0 ≤ A 0 0 ∧ A 0 0 < q ∧ hK h (A 0 0) = 1 ∧ hL h (A 0 0) = 4 ∧ (∀ j, isI (hV h (A 0 0) j)) ∧ ∀ j, j < 4 → hV h (A 0 0) j = .int (nm j)) ∧ (∀ s, s < plN π 0 → hV h (A 1 s) 20 = .int (boI (pt s))) ∧
  (∀ b, b < plN π 1 → A 5 b < q ∧ hK h (A 5 b) = 118 ∧ hV h (A 5 b) 159 = .int (plT π 7 b) ∧ A 6 b < q ∧ hK h (A 6 b) = 118 ∧ hV h (A 6 b) 159 = .int (plT π 8 b))
def Ini (π : Pl) (σ : Sg) (m0 : Int32) (nm : Nat → Int32) (pt : Nat → Bool) : Prop :=
  (sN σ 0 = Int32.ofNat 0 ∧ sN σ 1 = m0 ∧ (∀ j, j < 4 → sN σ (2 + j) = nm j) ∧ (∀ j, j < 6 → sN σ (6 + j) = Int32.ofNat 0) ∧ ∀ s, s < 10 → sN σ (13 + s) = if s < plN π 0 then boI (pt s) else Int32.ofNat 0) ∧
  (∀ s, s < plN π 0 → sN σ (33 + s) = Int32.ofInt (-2) ∧ sN σ (43 + s) = Int32.ofNat 0) ∧ (∀ f, f < plN π 2 → sN σ (63 + f) = plT π 12 f) ∧ (∀ j, 79 ≤ j → j < 164 → sN σ j = Int32.ofNat 0) ∧ (∀ s, s < plN π 0 → sR σ s = [] ∧ sL σ s = []) ∧
  (∀ b, b < plN π 1 → bR σ b = [] ∧ bF σ b 0 = Int32.ofNat 0 ∧ bF σ b 1 = Int32.ofNat 0 ∧ bF σ b 2 = plT π 8 b ∧ bF σ b 3 = Int32.ofNat 0 ∧ bF σ b 9 = Int32.ofNat 0 ∧ bF σ b 7 = Int32.ofInt (-2) ∧ bF σ b 6 = Int32.ofInt (-2) ∧ bF σ b 10 = plT π 8 b ∧ bF σ b 11 = plT π 8 b ∧ bF σ b 5 = Int32.ofNat 0 ∧ bF σ b 8 = Int32.ofNat 0) ∧
  sG σ = [] ∧ sS σ 0 = 0 ∧ sS σ 1 = 0
theorem boN (t : Bool) : narrow (zElT 4) (.int (boI t)) = Value.int (boI t) := by cases t <;> rfl
/-- the flat numbers at the start -/
def FV0 (H : zH) (a : Nat) (m0 : Int32) (nm : Nat → Int32) (pt : Nat → Bool) (S : Nat) : Prop := (∀ g ∈ cIG, hV H a g = .int (if g = 24 then m0 else Int32.ofNat 0)) ∧ hV H a 32 = .long 0 ∧ hV H a 33 = .long 0 ∧ (∀ j, j < 4 → hV H (a + 1) j = .int (nm j)) ∧ (∀ j, hV H (a + 2) j = .int (if j < S then boI (pt j) else Int32.ofNat 0)) ∧ ∀ k ∈ cIK, 7 ≤ k → ∀ j, hV H (a + k) j = .int (Int32.ofNat 0)
/-- its end -/
theorem e3_of3 {H1 : zH} {m0 : Int32} {nm : Nat → Int32} {pt : Nat → Bool} (P : PAt h q0 q p π A) (O : pOk π) (hkb : kB κ ≤ q0) (I0 : Ini π σ m0 nm pt) (hqa : q ≤ a) (g1 : Ag h H1 0 a) (f1 : FV0 H1 a m0 nm pt (plN π 0)) (I : K2 κ H1 H a p π σ (plN π 1))
    (hq : ∀ h', Ag h h' 0 a → hN h' = a + (15 + 8 * plN π 0 + 5 * plN π 1) → hU h' = hU H → SAt κ h' a p π A q0 q σ → Q (.inl (some (.ref a))) h') : Go κ mX3_of 69 [some (.ref p), some (.ref a), some (.int (Int32.ofNat (plN π 1)))] [] H Q := by
  obtain ⟨⟨i1, i2⟩, i3, i4, i5, i6, i7⟩ := I
  have h10 := O.1.2
  have h6 := O.2.1.2
  have za : zArr 13 = true := rfl
  have gH : Ag h H 0 a := g1.trans fun x _ hx => i3 x (by omega) (by omega) (by omega) (by omega)
  have ka : hK H a = 103 := i4.1.2.1
  have t38 : hV H a 38 = .ref (a + 14) := i4.2.2.2.2.1.1
  have k14 : hK H (a + 14) = 13 := i4.2.2.2.2.1.2.1
  have l14 : hL H (a + 14) = plN π 1 := i4.2.2.2.2.1.2.2
  obtain ⟨f2, f3, f4, f5, f6, f7⟩ := f1
  have e0 : ∀ k j, k < 15 → k ≠ 5 → k ≠ 6 → k ≠ 14 → hV H (a + k) j = hV H1 (a + k) j := fun k j h1 h2 h3 h4 => (i3 (a + k) (by omega) (by omega) (by omega) (by omega)).2.2 j
  have ea : ∀ g ∈ cIG, wOf H a 0 g = if g = 24 then m0 else Int32.ofNat 0 := fun g hg => wOf_i (k := 0) ((e0 0 g (by omega) (by omega) (by omega) (by omega)).trans (f2 g hg))
  obtain ⟨⟨n1, n2, n3, n4, n5⟩, n6, n7, n8, n9, n10, n11, n12, n13⟩ := I0
  have C : CAt π (wOf H a) (sOf H a) σ := by
    refine ⟨⟨⟨(ea 23 (by decide)).trans n1.symm, (ea 24 (by decide)).trans n2.symm, fun j hj => (wOf_i ((e0 1 j (by omega) (by omega) (by omega) (by omega)).trans (f5 j hj))).trans (n3 j hj).symm, fun j hj => ?_, fun s hs => (wOf_i ((e0 2 s (by omega) (by omega) (by omega) (by omega)).trans (f6 s))).trans (n5 s hs).symm⟩, fun c g hc hg => ?_, fun g hg => ?_⟩,
      ⟨(sOf_j (k := 0) ((e0 0 32 (by omega) (by omega) (by omega) (by omega)).trans f3)).trans n12.symm, (sOf_j (k := 0) ((e0 0 33 (by omega) (by omega) (by omega) (by omega)).trans f4)).trans n13.symm⟩, fun s hs => (i5 s hs).1, fun s hs => (i5 s hs).2, i6, ?_, fun i r hr => ?_⟩
    · have hg : 25 + j ∈ cIG := by
        have ji : j = 0 ∨ j = 1 ∨ j = 2 ∨ j = 3 ∨ j = 4 ∨ j = 5 := by omega
        rcases ji with rfl | rfl | rfl | rfl | rfl | rfl <;> decide
      rw [ea _ hg, if_neg (by omega), n4 j hj]
    · have hk : 7 + c ∈ cIK := by
        have ci : c = 0 ∨ c = 1 ∨ c = 2 ∨ c = 3 ∨ c = 4 := by omega
        rcases ci with rfl | rfl | rfl | rfl | rfl <;> decide
      rw [wOf_i ((e0 _ g (by omega) (by omega) (by omega) (by omega)).trans (f7 _ hk (by omega) g)), n8 _ (by omega) (by omega)]
    · rw [wOf_i ((e0 12 g (by omega) (by omega) (by omega) (by omega)).trans (f7 12 (by decide) (by omega) g)), n7 g hg, show Int32.ofNat 0 * plT π 11 g = Int32.ofNat 0 from Int32.zero_mul, I_a0]
    · rw [ea 31 (by decide), n11]; rfl
    · rw [n11] at hr; cases hr
  have hf := hq H gH i1 rfl ⟨⟨i4, P.cg (gH.sub (Nat.zero_le _) hqa), O, hqa, rfl, hkb⟩, C, i7⟩
  simp (disch := first | assumption | omega | decide | (refine Eq.trans (hK_X _) ?_; assumption) | fail) only [gB, I_all, zK_v, zK_n, true_and, and_true, Nat.reduceAdd, Nat.reduceMul, Nat.reduceSub, z_lt, z_le, z_neq, not_false_eq_true, or_true, true_or, or_false, false_or, false_and, and_false, gX3_of_h]
  simp (disch := first | assumption | omega | decide | (refine Eq.trans (hK_X _) ?_; assumption) | fail) only [gB, I_all, zK_v, zK_n, true_and, and_true, Nat.reduceAdd, Nat.reduceMul, Nat.reduceSub, z_lt, z_le, z_neq, not_false_eq_true, or_true, true_or, or_false, false_or, false_and, and_false, gX3_of, ka, t38, k14, l14, za]
  exact hf
end
