/-! the twin's constructor, joined -/
/-- a heap's ints and longs from b on -/
def wOf (h : zH) (b : Nat) : Nat → Nat → Int32 := fun k j => match hV h (b + k) j with
  | .int i => i
  | _ => 0
def sOf (h : zH) (b : Nat) : Nat → Nat → Int64 := fun k j => match hV h (b + k) j with
  | .long i => i
  | _ => 0
theorem hX_of (h : zH) (b n : Nat) : hX h b n (wOf h b) (sOf h b) = h := by
  obtain ⟨h1, h2, h3, h4⟩ := h
  unfold hX
  refine Prod.ext rfl (Prod.ext rfl (Prod.ext ?_ rfl))
  funext x j
  show (if b ≤ x ∧ x < b + n then _ else _) = _
  split
  · next hc =>
    have e : b + (x - b) = x := by omega
    unfold wOf sOf hV xV
    rw [e]
    show (match h3 x j with | .int _ => _ | .long _ => _ | v => v) = h3 x j
    cases hx : h3 x j <;> simp [hx]
  · rfl
theorem TSh_A {κ : zC} {h0 h : zH} {b : Nat} {e : Nat → Value} (A : AInv κ h0 h b e mTab) (hi : ∀ g ∈ tIG, ∃ i, e g = .int i) (hj : ∃ i, e 107 = .long i) : TSh κ h b := by
  obtain ⟨⟨a1, a2, a3, a4⟩, a5, a6, a7⟩ := A
  refine ⟨⟨a1, a2, fun q hq => ?_⟩, fun g hg => ?_, ?_, fun k hk j => ?_, fun k hk j => ?_⟩
  · obtain ⟨-, -, c3, c4, c5, -⟩ := a6 q hq
    exact ⟨c3, c4, c5⟩
  · obtain ⟨i, e1⟩ := hi g hg
    exact ⟨i, (a7 g ((by decide : ∀ g ∈ tIG, ∀ q ∈ mTab, q.2.1 ≠ g) g hg)).trans e1⟩
  · obtain ⟨i, e1⟩ := hj
    exact ⟨i, (a7 107 (by decide)).trans e1⟩
  · obtain ⟨q, hq, e1, e2⟩ := (by decide : ∀ k ∈ tIK, ∃ q ∈ mTab, q.1 = k ∧ q.2.2.1 ≠ 2) k hk
    obtain ⟨-, -, -, -, -, c6⟩ := a6 q hq
    rw [e1] at c6
    refine ⟨0, (c6 j).trans ?_⟩
    unfold dfl
    rw [if_neg e2]
  · obtain ⟨q, hq, e1, e2⟩ := (by decide : ∀ k ∈ tLK, ∃ q ∈ mTab, q.1 = k ∧ q.2.2.1 = 2) k hk
    obtain ⟨-, -, -, -, -, c6⟩ := a6 q hq
    rw [e1] at c6
    refine ⟨0, (c6 j).trans ?_⟩
    unfold dfl
    rw [if_pos e2]
theorem wOf_A {κ : zC} {h0 h : zH} {b : Nat} {e : Nat → Value} (A : AInv κ h0 h b e mTab) {k j : Nat} (hk : k ∈ tIK) : wOf h b k j = Int32.ofNat 0 := by
  obtain ⟨q, hq, e1, e2⟩ := (by decide : ∀ k ∈ tIK, ∃ q ∈ mTab, q.1 = k ∧ q.2.2.1 ≠ 2) k hk
  obtain ⟨-, -, -, -, -, c6⟩ := A.2.2.1 q hq
  rw [e1] at c6
  unfold wOf
  rw [c6 j]
  unfold dfl
  rw [if_neg e2]
  rfl
theorem wOf_g {κ : zC} {h0 h : zH} {b : Nat} {e : Nat → Value} (A : AInv κ h0 h b e mTab) {g : Nat} {i : Int32} (hg : g ∈ tIG) (he : e g = .int i) : wOf h b 0 g = i := by
  unfold wOf
  rw [Nat.add_zero, A.2.2.2 g ((by decide : ∀ g ∈ tIG, ∀ q ∈ mTab, q.2.1 ≠ g) g hg), he]
