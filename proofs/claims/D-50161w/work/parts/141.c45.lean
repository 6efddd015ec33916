/-! the component: a state whose numbers have been changed is again a state -/
section
variable {κ : zC} {h : zH} {a n p q0 q K cap : Nat} {π : Pl} {A : Nat → Nat → Nat} {W : Nat → Nat → Int32} {SM : Nat → Nat → Int64} {σ : Sg} {f : Nat → Value}
theorem RC_X {l : List Rd} (R : RSh h a n K cap) (C : RC W K l) : RC (wOf (hX h a n W SM) a) K l := by
  obtain ⟨r0, r1, ⟨r2, r3, r4, r5⟩, r6⟩ := R
  exact ⟨(wOf_X (by omega) (Or.inl r5)).trans C.1, fun i r hi => ⟨(wOf_X (by omega) (Or.inl ((r6 1 (by decide) (by decide)).2.2 i))).trans (C.2 i r hi).1, (wOf_X (by omega) (Or.inl ((r6 2 (by decide) (by decide)).2.2 i))).trans (C.2 i r hi).2.1, (wOf_X (by omega) (Or.inl ((r6 3 (by decide) (by decide)).2.2 i))).trans (C.2 i r hi).2.2⟩⟩
theorem LC_X {l : List Lv} {al la : Int32} (R : LSh h a n K) (C : LC W K l al la) : LC (wOf (hX h a n W SM) a) K l al la := by
  obtain ⟨r0, r1, ⟨r2, r3, r4, r5, r7, r8⟩, r6⟩ := R
  obtain ⟨c1, c2, c3, c4⟩ := C
  exact ⟨(wOf_X (by omega) (Or.inl r5)).trans c1, (wOf_X (by omega) (Or.inl r7)).trans c2, (wOf_X (by omega) (Or.inl r8)).trans c3, fun i r hi => ⟨(wOf_X (by omega) (Or.inl ((r6 1 (by decide) (by decide)).2.2 i))).trans (c4 i r hi).1, (wOf_X (by omega) (Or.inl ((r6 2 (by decide) (by decide)).2.2 i))).trans (c4 i r hi).2.1, (wOf_X (by omega) (Or.inl ((r6 3 (by decide) (by decide)).2.2 i))).trans (c4 i r hi).2.2⟩⟩
theorem BC_X {b : Nat} {q : Bs} (R : BSh h a n K cap) (C : BC π W K b q) : BC π (wOf (hX h a n W SM) a) K b q := by
  obtain ⟨r1, r2, r3, r4⟩ := R
  obtain ⟨⟨a1, a2, a3⟩, ⟨b1, b2, b3, b4, b5, b6, b7, b8, b9, b10, b11⟩, c⟩ := C
  have hK := r4.1
  have e : ∀ g, 57 ≤ g → g ≤ 70 → wOf (hX h a n W SM) a K g = W K g := fun g h1 h2 => wOf_X (by omega) (Or.inl (r3 g h1 h2))
  exact ⟨⟨(e 57 (by decide) (by decide)).trans a1, (e 58 (by decide) (by decide)).trans a2, (e 59 (by decide) (by decide)).trans a3⟩, ⟨(e 60 (by decide) (by decide)).trans b1, (e 61 (by decide) (by decide)).trans b2, (e 62 (by decide) (by decide)).trans b3, (e 63 (by decide) (by decide)).trans b4, (e 64 (by decide) (by decide)).trans b5, (e 65 (by decide) (by decide)).trans b6, (e 66 (by decide) (by decide)).trans b7, (e 67 (by decide) (by decide)).trans b8, (e 68 (by decide) (by decide)).trans b9, (e 69 (by decide) (by decide)).trans b10, (e 70 (by decide) (by decide)).trans b11⟩, RC_X r4 c⟩
theorem CAt_X (Z : CSh κ h a p (plN π 0) (plN π 1) (plI π 7)) (hn : n = 15 + 8 * plN π 0 + 5 * plN π 1) (C : CAt π W SM σ) : CAt π (wOf (hX h a n W SM) a) (sOf (hX h a n W SM) a) σ := by
  subst hn
  obtain ⟨⟨z1, z2, z3, z4, z5⟩, z6, ⟨z7, z8, z9, z10⟩, -, -, s0, b0⟩ := Z
  obtain ⟨⟨⟨n0, n1, n2, n6, n13⟩, n79, n63⟩, ⟨m0, m1⟩, c3, c4, c5, ⟨g0, g1⟩⟩ := C
  have e0 : ∀ g ∈ cIG, wOf (hX h a (15 + 8 * plN π 0 + 5 * plN π 1) W SM) a 0 g = W 0 g := fun g hg => wOf_X (by omega) (Or.inl (z7 g hg))
  have ek : ∀ k ∈ cIK, ∀ j, wOf (hX h a (15 + 8 * plN π 0 + 5 * plN π 1) W SM) a k j = W k j := fun k hk j => wOf_X (by have := cIKlt k hk; omega) (Or.inl (z10 k hk j))
  refine ⟨⟨⟨(e0 23 (by decide)).trans n0, (e0 24 (by decide)).trans n1, fun j hj => (ek 1 (by decide) j).trans (n2 j hj), fun j hj => ?_, fun s hs => (ek 2 (by decide) s).trans (n13 s hs)⟩, fun c f hc hf => ?_, fun f hf => by rw [ek 12 (by decide) f]; exact n63 f hf⟩, ⟨(sOf_X (by omega) z8).trans m0, (sOf_X (by omega) z9).trans m1⟩, fun s hs => RC_X (s0 s hs).2.2.1 (c3 s hs), fun s hs => LC_X (s0 s hs).2.2.2 (c4 s hs), fun b hb => BC_X (b0 b hb).2.1 (c5 b hb), (e0 31 (by decide)).trans g0, fun i r hi => ⟨(ek 13 (by decide) _).trans (g1 i r hi).1, (ek 13 (by decide) _).trans (g1 i r hi).2.1, (ek 13 (by decide) _).trans (g1 i r hi).2.2.1, (ek 13 (by decide) _).trans (g1 i r hi).2.2.2.1, (ek 13 (by decide) _).trans (g1 i r hi).2.2.2.2⟩⟩
  · have : ∀ j, j < 6 → 25 + j ∈ cIG := by decide
    exact (e0 (25 + j) (this j hj)).trans (n6 j hj)
  · have : ∀ c, c < 5 → 7 + c ∈ cIK := by decide
    exact (ek (7 + c) (this c hc) f).trans (n79 c f hc hf)
theorem SAt_X (Z : ZS κ h a n p π A q0 q) (C : CAt π W SM σ) (qi : QI (plN π 0) σ a f W (plN π 1) (fun x => x < plN π 1)) : SAt κ (hX (hQ h a f) a n W SM) a p π A q0 q σ := by
  have Zq := ZS_q Z f
  obtain ⟨Z1, P, O, hqa, hn, hk⟩ := Zq
  have hn0 := hn
  subst hn
  refine ⟨⟨(FSh_C.mp (FSh_X (FSh_C.mpr Z1) rfl)), P.cg (Ag_X (Or.inl hqa)), O, hqa, rfl, hk⟩, CAt_X Z1 rfl C, ?_⟩
  obtain ⟨s1, F, f1, f2⟩ := qi
  refine ⟨(wOf_X (by omega) (Or.inl Z1.2.2.2.1.2.2.2.2.1)).trans s1, F, fun i hi => ?_, f2⟩
  exact hV_Xr (by omega) ((hQ_V i).trans (f1 i hi))
/-- outside its block nothing changed -/
theorem Ag_qX {q1 q2 : Nat} (hq : q2 ≤ a ∨ a + n ≤ q1) (hn : 6 < n) : Ag h (hX (hQ h a f) a n W SM) q1 q2 := fun x h1 h2 => ⟨rfl, rfl, fun j => by rw [hV_Xo (by omega), hQ_Vn (by omega)]⟩
/-- a state's heap as a block -/
theorem SAt_eq (h : zH) (a n : Nat) : h = hX (hQ h a (fun j => hV h (a + 6) j)) a n (wOf h a) (sOf h a) := by rw [hQ_self, hX_of]
end
