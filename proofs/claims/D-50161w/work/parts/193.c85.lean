/-! many lists in the making -/
/-- the lists Lf 0 .. Lf (N-1), their arrays, room, counts, members; no two share a cell that is written -/
def MLs (κ : zC) (h : zH) (N : Nat) (Lf Ef cf nf : Nat → Nat) (elf : Nat → Nat → Nat) : Prop :=
  (∀ a, a < N → LA κ h (Lf a) (Ef a) (cf a) (nf a) (elf a)) ∧ ∀ a b, a < N → b < N → a ≠ b → Lf a ≠ Lf b ∧ (cf a = 0 ∨ Ef a ≠ Ef b)
section
variable {κ : zC} {h h' : zH} {L E cap n x N a : Nat} {el Lf Ef cf nf : Nat → Nat} {elf : Nat → Nat → Nat} {Q : zQ}
theorem LA.cg (A : LA κ h L E cap n el) (hm : hN h ≤ hN h') (gk : ∀ y, y < hN h → hK h' y = hK h y ∧ hL h' y = hL h y) (gL : ∀ j, hV h' L j = hV h L j) (gE : ∀ j, hV h' E j = hV h E j) : LA κ h' L E cap n el := by
  obtain ⟨⟨a1, a2, a3⟩, ⟨⟨mc, b1⟩, b2, b3⟩, ⟨c1, c2, c3, c4, c5⟩, d, e⟩ := A
  refine ⟨⟨(gk L a3).1.trans a1, a2, by omega⟩, ⟨⟨mc, (gL _).trans b1⟩, (gL _).trans b2, (gL _).trans b3⟩, ⟨c1, c2, (gk E c5).1.trans c3, (gk E c5).2.trans c4, by omega⟩, d, fun i hi => ?_⟩
  obtain ⟨e1, e2, e3⟩ := e i hi
  exact ⟨(gE i).trans e1, by rw [(gk _ e3).1]; exact e2, by omega⟩
theorem LA.ne (A : LA κ h L E cap n el) {L' E' cap' n' : Nat} {el' : Nat → Nat} (B : LA κ h L' E' cap' n' el') : L ≠ E' := fun z => by
  have a1 := A.1.1
  rw [z, B.2.2.1.2.2.1] at a1
  cases a1
theorem MLs.ext (M : MLs κ h N Lf Ef cf nf elf) (g : Ag h h' 0 (hN h)) (hm : hN h ≤ hN h') : MLs κ h' N Lf Ef cf nf elf := ⟨fun a ha => (M.1 a ha).cg hm (fun y hy => ⟨(g y (Nat.zero_le _) hy).1, (g y (Nat.zero_le _) hy).2.1⟩) (g _ (Nat.zero_le _) (M.1 a ha).1.2.2).2.2 (g _ (Nat.zero_le _) (M.1 a ha).2.2.1.2.2.2.2).2.2, M.2⟩
theorem MLs.fz {z : Nat} (M : MLs κ h N Lf Ef cf nf elf) (f : Fz z h h') (kz : hK h z = 108) : MLs κ h' N Lf Ef cf nf elf := ⟨fun a ha => by
  have A := M.1 a ha
  have nL : Lf a ≠ z := fun e => by have := A.1.1; rw [e, kz] at this; cases this
  have nE : Ef a ≠ z := fun e => by have := A.2.2.1.2.2.1; rw [e, kz] at this; cases this
  exact A.cg f.2 (fun y hy => ⟨(f.1 y hy).1, (f.1 y hy).2.1⟩) (f.at_ A.1.2.2 nL).2.2 (f.at_ A.2.2.1.2.2.2.2 nE).2.2, M.2⟩
theorem e2_addM (M : MLs κ h N Lf Ef cf nf elf) (ha : a < N) (hn : nf a < 600) (hx : zAss 10 (hK h x) = true ∧ x < hN h)
    (hq : ∀ h' Ef' cf', MLs κ h' N Lf Ef' cf' (zu nf a (nf a + 1)) (zu elf a (fun i => if i = nf a then x else elf a i)) → Fl (Lf a) (Ef a) (cf a) h h' → hN h' ≤ hN h + 1 → hU h' ≤ hU h + 20 + 2 * nf a → Q (.inl (some (.int (Int32.ofNat 1)))) h') : Ev κ mJ2_add [.ref (Lf a), .ref x] h Q := by
  have A := M.1 a ha
  refine e2_add A hn hx fun h' E' cap' A' F hE n1 u1 => hq h' (zu Ef a E') (zu cf a cap') ⟨fun b hb => ?_, fun b c hb hc hne => ?_⟩ F n1 u1
  · by_cases e : b = a
    · subst e
      rw [zu_eq, zu_eq, zu_eq, zu_eq]
      exact A'
    · rw [zu_ne _ _ e, zu_ne _ _ e, zu_ne _ _ e, zu_ne _ _ e]
      have B := M.1 b hb
      have d := M.2 a b ha hb (fun z => e z.symm)
      refine B.cg F.2 (fun y hy => ⟨(F.1 y hy).1, (F.1 y hy).2.1⟩) ((F.1 _ B.1.2.2).2.2 (fun z => d.1 z.symm) (Or.inl (B.ne A))) ((F.1 _ B.2.2.1.2.2.2.2).2.2 (fun z => A.ne B z.symm) ?_)
      exact d.2.elim Or.inr fun z => Or.inl fun w => z w.symm
  · have fresh : ∀ b, b < N → b ≠ a → E' ≠ Ef b := fun b hb e => by
      have B := M.1 b hb
      rcases hE with z | z
      · rw [z]
        rcases (M.2 a b ha hb (fun w => e w.symm)).2 with c0 | c0
        · have l1 := A'.2.2.1.2.2.2.1
          have l2 := (F.1 _ A.2.2.1.2.2.2.2).2.1
          rw [z, l2, A.2.2.1.2.2.2.1, c0] at l1
          have := A'.2.2.1.1
          omega
        · exact c0
      · rw [z]
        have := B.2.2.1.2.2.2.2
        omega
    by_cases e1 : b = a
    · subst e1
      have e2 : c ≠ b := fun z => hne z.symm
      rw [zu_eq, zu_eq, zu_ne _ _ e2]
      exact ⟨(M.2 b c hb hc hne).1, Or.inr (fresh c hc e2)⟩
    · rw [zu_ne _ _ e1, zu_ne _ _ e1]
      by_cases e2 : c = a
      · subst e2
        rw [zu_eq]
        exact ⟨(M.2 b c hb hc hne).1, Or.inr fun z => fresh b hb e1 z.symm⟩
      · rw [zu_ne _ _ e2]
        exact M.2 b c hb hc hne
end
