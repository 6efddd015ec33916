/-! the component: a state's block in the making: k0 of its buses are there -/
def FSh (κ : zC) (h : zH) (a p S B k0 : Nat) (ct : Nat → Nat) : Prop := (kB κ ≤ a ∧ hK h a = 103 ∧ hV h a 22 = .ref p ∧ S ≤ 10 ∧ B ≤ 6) ∧ (∀ q ∈ cTab, hV h a q.2.1 = .ref (a + q.1) ∧ hK h (a + q.1) = q.2.2.1 ∧ hL h (a + q.1) = q.2.2.2) ∧
  ((∀ g ∈ cIG, isI (hV h a g)) ∧ isJ (hV h a 32) ∧ isJ (hV h a 33) ∧ (∀ k ∈ cIK, ∀ j, isI (hV h (a + k) j))) ∧
  (hV h a 39 = .ref (a + 5) ∧ hK h (a + 5) = 131 ∧ hV h (a + 5) 170 = .ref (a + 6) ∧ hV h (a + 5) 172 = .null ∧ isI (hV h (a + 5) 171) ∧ isI (hV h (a + 5) 173) ∧ hK h (a + 6) = 10 ∧ hL h (a + 6) = 11) ∧
  (hV h a 38 = .ref (a + 14) ∧ hK h (a + 14) = 13 ∧ hL h (a + 14) = B) ∧
  (∀ s, s < S → hV h (a + 3) s = .ref (a + (15 + 8 * s)) ∧ hV h (a + 4) s = .ref (a + (19 + 8 * s)) ∧ RSh h a (15 + 8 * S + 5 * k0) (15 + 8 * s) 40 ∧ LSh h a (15 + 8 * S + 5 * k0) (19 + 8 * s)) ∧
  ∀ b, b < k0 → hV h (a + 14) b = .ref (a + (15 + 8 * S + 5 * b)) ∧ BSh h a (15 + 8 * S + 5 * k0) (15 + 8 * S + 5 * b) (ct b) ∧ ct b ≤ 99
theorem FSh_C {κ : zC} {h : zH} {a p S B : Nat} {ct : Nat → Nat} : FSh κ h a p S B B ct ↔ CSh κ h a p S B ct := Iff.rfl
section
variable {κ : zC} {h : zH} {a p n S B k0 : Nat} {ct : Nat → Nat} {W : Nat → Nat → Int32} {SM : Nat → Nat → Int64} {Q : zQ}
theorem fcF (Z : FSh κ h a p S B k0 ct) (hn : n = 15 + 8 * S + 5 * k0) : (∀ W SM g, g ∈ cIG → hV (hX h a n W SM) a g = .int (W 0 g)) ∧ (∀ W SM, hV (hX h a n W SM) a 32 = .long (SM 0 32)) ∧ (∀ W SM, hV (hX h a n W SM) a 33 = .long (SM 0 33)) ∧ (∀ W SM k j, k ∈ cIK → hV (hX h a n W SM) (a + k) j = .int (W k j)) ∧
    (∀ W SM g v, g ∈ cIG → hW (hX h a n W SM) a g (.int v) = hX h a n (zv W 0 g v) SM) ∧ (∀ W SM v, hW (hX h a n W SM) a 32 (.long v) = hX h a n W (zv SM 0 32 v)) ∧ (∀ W SM v, hW (hX h a n W SM) a 33 (.long v) = hX h a n W (zv SM 0 33 v)) ∧ (∀ W SM k j v, k ∈ cIK → hW (hX h a n W SM) (a + k) j (.int v) = hX h a n (zv W k j v) SM) ∧
    (∀ W SM x, hK (hX h a n W SM) x = hK h x) ∧ (∀ W SM x, hL (hX h a n W SM) x = hL h x) ∧ hK h a = 103 ∧ (∀ W SM, hV (hX h a n W SM) a 22 = .ref p) := by
  subst hn
  obtain ⟨⟨z1, z2, z3, z4, z5⟩, z6, ⟨z7, z8, z9, z10⟩, -⟩ := Z
  exact ⟨fun _ _ g hg => hV_Xi (k := 0) (by omega) (z7 g hg), fun _ _ => hV_Xj (k := 0) (by omega) z8, fun _ _ => hV_Xj (k := 0) (by omega) z9, fun _ _ k j hk => hV_Xi (by have := cIKlt k hk; omega) (z10 k hk j),
    fun _ _ g _ hg => hX_i (k := 0) (by omega) (z7 g hg), fun _ _ _ => hX_j (k := 0) (by omega) z8, fun _ _ _ => hX_j (k := 0) (by omega) z9, fun _ _ k j _ hk => hX_i (by have := cIKlt k hk; omega) (z10 k hk j), fun _ _ _ => rfl, fun _ _ _ => rfl, z2, fun _ _ => hV_Xr (k := 0) (by omega) z3⟩
theorem fcRf (Z : FSh κ h a p S B k0 ct) (hn : n = 15 + 8 * S + 5 * k0) : (∀ W SM, hV (hX h a n W SM) a 34 = .ref (a + 1)) ∧ (∀ W SM, hV (hX h a n W SM) a 35 = .ref (a + 2)) ∧ (∀ W SM, hV (hX h a n W SM) a 36 = .ref (a + 3)) ∧ (∀ W SM, hV (hX h a n W SM) a 37 = .ref (a + 4)) ∧
    (∀ W SM, hV (hX h a n W SM) a 38 = .ref (a + 14)) ∧ (∀ W SM, hV (hX h a n W SM) a 39 = .ref (a + 5)) ∧ (∀ W SM, hV (hX h a n W SM) a 40 = .ref (a + 7)) ∧ (∀ W SM, hV (hX h a n W SM) a 41 = .ref (a + 8)) ∧ (∀ W SM, hV (hX h a n W SM) a 42 = .ref (a + 9)) ∧ (∀ W SM, hV (hX h a n W SM) a 43 = .ref (a + 10)) ∧ (∀ W SM, hV (hX h a n W SM) a 44 = .ref (a + 11)) ∧
    (∀ W SM, hV (hX h a n W SM) a 45 = .ref (a + 12)) ∧ (∀ W SM, hV (hX h a n W SM) a 46 = .ref (a + 13)) := by
  subst hn
  obtain ⟨-, z6, -, ⟨q1, -⟩, ⟨b1, -⟩, -⟩ := Z
  exact ⟨fun _ _ => hV_Xr (k := 0) (by omega) (z6 (1, 34, 1, 4) (by decide)).1, fun _ _ => hV_Xr (k := 0) (by omega) (z6 (2, 35, 4, 10) (by decide)).1, fun _ _ => hV_Xr (k := 0) (by omega) (z6 (3, 36, 11, 10) (by decide)).1, fun _ _ => hV_Xr (k := 0) (by omega) (z6 (4, 37, 12, 10) (by decide)).1,
    fun _ _ => hV_Xr (k := 0) (by omega) b1, fun _ _ => hV_Xr (k := 0) (by omega) q1, fun _ _ => hV_Xr (k := 0) (by omega) (z6 (7, 40, 1, 17) (by decide)).1, fun _ _ => hV_Xr (k := 0) (by omega) (z6 (8, 41, 1, 17) (by decide)).1, fun _ _ => hV_Xr (k := 0) (by omega) (z6 (9, 42, 1, 17) (by decide)).1, fun _ _ => hV_Xr (k := 0) (by omega) (z6 (10, 43, 1, 17) (by decide)).1, fun _ _ => hV_Xr (k := 0) (by omega) (z6 (11, 44, 1, 17) (by decide)).1,
    fun _ _ => hV_Xr (k := 0) (by omega) (z6 (12, 45, 1, 16) (by decide)).1, fun _ _ => hV_Xr (k := 0) (by omega) (z6 (13, 46, 1, 150) (by decide)).1⟩
theorem fcK (Z : FSh κ h a p S B k0 ct) : hK h (a + 1) = 1 ∧ hL h (a + 1) = 4 ∧ hK h (a + 2) = 4 ∧ hL h (a + 2) = 10 ∧ hK h (a + 3) = 11 ∧ hL h (a + 3) = 10 ∧ hK h (a + 4) = 12 ∧ hL h (a + 4) = 10 ∧ hK h (a + 7) = 1 ∧ hL h (a + 7) = 17 ∧ hK h (a + 8) = 1 ∧ hL h (a + 8) = 17 ∧ hK h (a + 9) = 1 ∧ hL h (a + 9) = 17 ∧ hK h (a + 10) = 1 ∧ hL h (a + 10) = 17 ∧
    hK h (a + 11) = 1 ∧ hL h (a + 11) = 17 ∧ hK h (a + 12) = 1 ∧ hL h (a + 12) = 16 ∧ hK h (a + 13) = 1 ∧ hL h (a + 13) = 150 ∧ hK h (a + 14) = 13 ∧ hL h (a + 14) = B := by
  obtain ⟨-, z6, -, -, ⟨-, b2, b3⟩, -⟩ := Z
  exact ⟨(z6 (1, 34, 1, 4) (by decide)).2.1, (z6 (1, 34, 1, 4) (by decide)).2.2, (z6 (2, 35, 4, 10) (by decide)).2.1, (z6 (2, 35, 4, 10) (by decide)).2.2, (z6 (3, 36, 11, 10) (by decide)).2.1, (z6 (3, 36, 11, 10) (by decide)).2.2, (z6 (4, 37, 12, 10) (by decide)).2.1, (z6 (4, 37, 12, 10) (by decide)).2.2,
    (z6 (7, 40, 1, 17) (by decide)).2.1, (z6 (7, 40, 1, 17) (by decide)).2.2, (z6 (8, 41, 1, 17) (by decide)).2.1, (z6 (8, 41, 1, 17) (by decide)).2.2, (z6 (9, 42, 1, 17) (by decide)).2.1, (z6 (9, 42, 1, 17) (by decide)).2.2, (z6 (10, 43, 1, 17) (by decide)).2.1, (z6 (10, 43, 1, 17) (by decide)).2.2,
    (z6 (11, 44, 1, 17) (by decide)).2.1, (z6 (11, 44, 1, 17) (by decide)).2.2, (z6 (12, 45, 1, 16) (by decide)).2.1, (z6 (12, 45, 1, 16) (by decide)).2.2, (z6 (13, 46, 1, 150) (by decide)).2.1, (z6 (13, 46, 1, 150) (by decide)).2.2, b2, b3⟩
/-- rows, leavings, buses by their numbers -/
theorem fcE (Z : FSh κ h a p S B k0 ct) (hn : n = 15 + 8 * S + 5 * k0) : (∀ W SM s, s < S → hV (hX h a n W SM) (a + 3) s = .ref (a + (15 + 8 * s))) ∧ (∀ W SM s, s < S → hV (hX h a n W SM) (a + 4) s = .ref (a + (19 + 8 * s))) ∧ (∀ W SM b, b < k0 → hV (hX h a n W SM) (a + 14) b = .ref (a + (15 + 8 * S + 5 * b))) := by
  subst hn
  obtain ⟨-, -, -, -, -, zs, zb⟩ := Z
  exact ⟨fun _ _ s hs => hV_Xr (by omega) (zs s hs).1, fun _ _ s hs => hV_Xr (by omega) (zs s hs).2.1, fun _ _ b hb => hV_Xr (by omega) (zb b hb).1⟩
theorem fcRow (Z : FSh κ h a p S B k0 ct) (hn : n = 15 + 8 * S + 5 * k0) {s : Nat} (hs : s < S) : RSh h a n (15 + 8 * s) 40 := by subst hn; exact (Z.2.2.2.2.2.1 s hs).2.2.1
theorem fcLv (Z : FSh κ h a p S B k0 ct) (hn : n = 15 + 8 * S + 5 * k0) {s : Nat} (hs : s < S) : LSh h a n (19 + 8 * s) := by subst hn; exact (Z.2.2.2.2.2.1 s hs).2.2.2
theorem fcBu (Z : FSh κ h a p S B k0 ct) (hn : n = 15 + 8 * S + 5 * k0) {b : Nat} (hb : b < k0) : BSh h a n (15 + 8 * S + 5 * b) (ct b) ∧ ct b ≤ 99 := by subst hn; exact (Z.2.2.2.2.2.2 b hb).2

theorem RSh.cg {h h' : zH} {K cap n' : Nat} (R : RSh h a n K cap) (g : Ag h h' (a + K) (a + (K + 4))) (hn : K + 3 < n') : RSh h' a n' K cap := by
  obtain ⟨s0, s1, ⟨s2, s3, s4, s5⟩, s6⟩ := R
  obtain ⟨g1, g2, g3⟩ := g (a + K) (by omega) (by omega)
  exact ⟨hn, g1.trans s1, ⟨(g3 _).trans s2, (g3 _).trans s3, (g3 _).trans s4, by rw [g3]; exact s5⟩, fun i h1 h2 => by
    obtain ⟨k1, k2, k3⟩ := g (a + (K + i)) (by omega) (by omega)
    obtain ⟨c1, c2, c3⟩ := s6 i h1 h2
    exact ⟨k1.trans c1, k2.trans c2, fun j => by rw [k3]; exact c3 j⟩⟩
theorem LSh.cg {h h' : zH} {K n' : Nat} (R : LSh h a n K) (g : Ag h h' (a + K) (a + (K + 4))) (hn : K + 3 < n') : LSh h' a n' K := by
  obtain ⟨s0, s1, ⟨s2, s3, s4, s5, s7, s8⟩, s6⟩ := R
  obtain ⟨g1, g2, g3⟩ := g (a + K) (by omega) (by omega)
  exact ⟨hn, g1.trans s1, ⟨(g3 _).trans s2, (g3 _).trans s3, (g3 _).trans s4, by rw [g3]; exact s5, by rw [g3]; exact s7, by rw [g3]; exact s8⟩, fun i h1 h2 => by
    obtain ⟨k1, k2, k3⟩ := g (a + (K + i)) (by omega) (by omega)
    obtain ⟨c1, c2, c3⟩ := s6 i h1 h2
    exact ⟨k1.trans c1, k2.trans c2, fun j => by rw [k3]; exact c3 j⟩⟩
theorem BSh.cg {h h' : zH} {K cap n' : Nat} (R : BSh h a n K cap) (g : Ag h h' (a + K) (a + (K + 5))) (hn : K + 4 < n') : BSh h' a n' K cap := by
  obtain ⟨s1, s2, s3, s4⟩ := R
  obtain ⟨g1, g2, g3⟩ := g (a + K) (by omega) (by omega)
  exact ⟨g1.trans s1, (g3 _).trans s2, fun j h1 h2 => by rw [g3]; exact s3 j h1 h2, s4.cg (g.sub (by omega) (by omega)) (by omega)⟩
/-- the shape depends on the block's cells alone -/
theorem CSh.cg {h h' : zH} (Z : CSh κ h a p S B ct) (g : Ag h h' a (a + (15 + 8 * S + 5 * B))) : CSh κ h' a p S B ct := by
  obtain ⟨⟨z1, z2, z3, z4, z5⟩, z6, ⟨z7, z8, z9, z10⟩, ⟨y1, y2, y3, y4, y5, y6, y7, y8⟩, ⟨x1, x2, x3⟩, s0, b0⟩ := Z
  obtain ⟨g1, g2, g3⟩ := g a (by omega) (by omega)
  have gk := fun k (hk : k < 15) => g (a + k) (by omega) (by omega)
  refine ⟨⟨z1, g1.trans z2, (g3 _).trans z3, z4, z5⟩, fun q hq => ?_, ⟨fun j hj => by rw [g3]; exact z7 j hj, by rw [g3]; exact z8, by rw [g3]; exact z9, fun k hk j => by rw [(gk k (cIKlt k hk)).2.2]; exact z10 k hk j⟩,
    ⟨(g3 _).trans y1, (gk 5 (by omega)).1.trans y2, ((gk 5 (by omega)).2.2 _).trans y3, ((gk 5 (by omega)).2.2 _).trans y4, by rw [(gk 5 (by omega)).2.2]; exact y5, by rw [(gk 5 (by omega)).2.2]; exact y6, (gk 6 (by omega)).1.trans y7, (gk 6 (by omega)).2.1.trans y8⟩,
    ⟨(g3 _).trans x1, (gk 14 (by omega)).1.trans x2, (gk 14 (by omega)).2.1.trans x3⟩, fun s hs => ?_, fun b hb => ?_⟩
  · obtain ⟨q1, q2, q3⟩ := z6 q hq
    have hlt : q.1 < 15 := (by decide : ∀ q ∈ cTab, q.1 < 15) q hq
    exact ⟨(g3 _).trans q1, (gk _ hlt).1.trans q2, (gk _ hlt).2.1.trans q3⟩
  · obtain ⟨a1, a2, a3, a4⟩ := s0 s hs
    exact ⟨((gk 3 (by omega)).2.2 _).trans a1, ((gk 4 (by omega)).2.2 _).trans a2, a3.cg (g.sub (by omega) (by omega)) (by omega), a4.cg (g.sub (by omega) (by omega)) (by omega)⟩
  · obtain ⟨a1, a2, a3⟩ := b0 b hb
    exact ⟨((gk 14 (by omega)).2.2 _).trans a1, a2.cg (g.sub (by omega) (by omega)) (by omega), a3⟩
end
/-- a state's values, of any heap that has the block's cells -/
theorem wOf_Ag {h h' : zH} {a n k j : Nat} (g : Ag h h' a (a + n)) (hk : k < n) : wOf h' a k j = wOf h a k j := by
  unfold wOf
  rw [(g (a + k) (by omega) (by omega)).2.2]
theorem sOf_Ag {h h' : zH} {a n k j : Nat} (g : Ag h h' a (a + n)) (hk : k < n) : sOf h' a k j = sOf h a k j := by
  unfold sOf
  rw [(g (a + k) (by omega) (by omega)).2.2]
theorem wOf_i {h : zH} {a k j : Nat} {x : Int32} (e : hV h (a + k) j = .int x) : wOf h a k j = x := by unfold wOf; rw [e]
theorem sOf_j {h : zH} {a k j : Nat} {x : Int64} (e : hV h (a + k) j = .long x) : sOf h a k j = x := by unfold sOf; rw [e]
theorem wOf_e {h : zH} {a k j : Nat} (e : isI (hV h (a + k) j)) : hV h (a + k) j = .int (wOf h a k j) := by
  obtain ⟨x, e⟩ := e
  rw [wOf_i e, e]
theorem sOf_e {h : zH} {a k j : Nat} (e : isJ (hV h (a + k) j)) : hV h (a + k) j = .long (sOf h a k j) := by
  obtain ⟨x, e⟩ := e
  rw [sOf_j e, e]
theorem CAt.cg {π : Pl} {W W' : Nat → Nat → Int32} {SM SM' : Nat → Nat → Int64} {σ : Sg} (C : CAt π W SM σ) (e : ∀ k j, k < 15 + 8 * plN π 0 + 5 * plN π 1 → W' k j = W k j) (e' : ∀ j, SM' 0 j = SM 0 j) : CAt π W' SM' σ := by
  obtain ⟨c1, ⟨c2, c2'⟩, c3, c4, c5, c6⟩ := C
  exact ⟨c1.cg fun k j h1 h2 h3 => e k j (by omega), ⟨(e' _).trans c2, (e' _).trans c2'⟩, fun s hs => (c3 s hs).cg fun k j h1 h2 => e k j (by omega), fun s hs => (c4 s hs).cg fun k j h1 h2 => e k j (by omega), fun b hb => (c5 b hb).cg fun k j h1 h2 => e k j (by omega), c6.cg (e _ _ (by omega)) fun j => e _ _ (by omega)⟩
/-- a state σ lies at a, with its plan at p -/
def SAt (κ : zC) (h : zH) (a p : Nat) (π : Pl) (A : Nat → Nat → Nat) (q0 q : Nat) (σ : Sg) : Prop := ZS κ h a (15 + 8 * plN π 0 + 5 * plN π 1) p π A q0 q ∧ CAt π (wOf h a) (sOf h a) σ ∧ QI (plN π 0) σ a (fun j => hV h (a + 6) j) (wOf h a) (plN π 1) (fun x => x < plN π 1)
theorem SAt.cg {κ : zC} {h h' : zH} {a p q0 q : Nat} {π : Pl} {A : Nat → Nat → Nat} {σ : Sg} (Z : SAt κ h a p π A q0 q σ) (g : Ag h h' a (a + (15 + 8 * plN π 0 + 5 * plN π 1))) (g' : Ag h h' q0 q) : SAt κ h' a p π A q0 q σ := by
  obtain ⟨⟨z1, z2, z3, z4, z5, z6⟩, C, s1, F, f1, f2⟩ := Z
  refine ⟨⟨z1.cg g, z2.cg g', z3, z4, z5, z6⟩, C.cg (fun k j hk => wOf_Ag g hk) (fun j => sOf_Ag g (by omega)), (wOf_Ag g (by omega)).trans s1, F, fun i hi => ?_, f2⟩
  exact ((g (a + 6) (by omega) (by omega)).2.2 i).trans (f1 i hi)
