/-! the component: a new state's block, whole; what is read of another block -/
section
variable {κ : zC} {h h' H : zH} {a a0 p q0 q S B n : Nat} {π : Pl} {A : Nat → Nat → Nat} {Q : zQ} {ct : Nat → Nat} {W : Nat → Nat → Int32} {SM : Nat → Nat → Int64}
def FVal (h : zH) (a S : Nat) : Prop := (∀ g ∈ cIG, hV h a g = .int (Int32.ofNat 0)) ∧ hV h a 32 = .long 0 ∧ hV h a 33 = .long 0 ∧ (∀ k ∈ cIK, ∀ j, hV h (a + k) j = .int (Int32.ofNat 0)) ∧ hV h (a + 5) 171 = .int (Int32.ofNat 0) ∧ ∀ s, s < S → FRow h (a + (15 + 8 * s)) 40 ∧ FLv h (a + (19 + 8 * s))
theorem RSh_F {K cap : Nat} (F : FRow h (a + K) cap) (hn : K + 3 < n) : RSh h a n K cap :=
  ⟨hn, F.1, ⟨F.2.1.1, F.2.1.2.1, F.2.1.2.2.1, ⟨_, F.2.1.2.2.2⟩⟩, fun i h1 h2 => by
    rw [← Nat.add_assoc]
    exact ⟨(F.2.2 i h1 h2).1, (F.2.2 i h1 h2).2.1, fun j => ⟨_, (F.2.2 i h1 h2).2.2 j⟩⟩⟩
theorem LSh_F {K : Nat} (F : FLv h (a + K)) (hn : K + 3 < n) : LSh h a n K :=
  ⟨hn, F.1, ⟨F.2.1.1, F.2.1.2.1, F.2.1.2.2.1, ⟨_, F.2.1.2.2.2.1⟩, ⟨_, F.2.1.2.2.2.2.1⟩, ⟨_, F.2.1.2.2.2.2.2⟩⟩, fun i h1 h2 => by
    rw [← Nat.add_assoc]
    exact ⟨(F.2.2 i h1 h2).1, (F.2.2 i h1 h2).2.1, fun j => ⟨_, (F.2.2 i h1 h2).2.2 j⟩⟩⟩
theorem e3_initT (P : PAt h q0 q p π A) (O : pOk π) (hq0 : q ≤ a) (hB : kB κ ≤ a) (hn : hN h = a) (ct : Nat → Nat)
    (hq : ∀ h', Ag h h' 0 a → hN h' = a + (15 + 8 * plN π 0) → hU h' = hU h + (cN 3 + 300 + plN π 1) + (cN 4 + 120 + cN 5 + 24) * plN π 0 → FSh κ h' a p (plN π 0) (plN π 1) 0 ct → FVal h' a (plN π 0) → Q (.inl none) h') : Ev κ mX3_init [.ref a, .ref p] (hD h a [(103, 0, gD)] (cN 3)) Q := by
  have hp : p < a := Nat.lt_of_lt_of_le P.1.2.1 hq0
  have kp := P.1.2.2.1
  have vp := P.2.1.1
  have L0 := P.2.1.2
  have kL : hK h (A 4 0) = 114 := L0.1.2.2.1
  have aL : A 4 0 < a := Nat.lt_of_lt_of_le L0.1.2.1 hq0
  refine e3_init0 P O hq0 hB hn ?_
  obtain ⟨h1, hh1⟩ : ∃ h1, h1 = hD h a (Da a p (plN π 1)) (cN 3 + 300 + plN π 1) := ⟨_, rfl⟩
  have lD : (Da a p (plN π 1)).length = 15 := rfl
  have g1 : Ag h h1 0 a := by rw [hh1]; exact Ag_D
  have kD : ∀ i, i < 15 → hK h1 (a + i) = (dAt (Da a p (plN π 1)) i).1 := fun i hi => by rw [hh1]; exact hK_D (by rw [lD]; exact hi)
  have nD : ∀ i, i < 15 → hL h1 (a + i) = (dAt (Da a p (plN π 1)) i).2.1 := fun i hi => by rw [hh1]; exact hL_D (by rw [lD]; exact hi)
  have vD : ∀ i j, i < 15 → hV h1 (a + i) j = (dAt (Da a p (plN π 1)) i).2.2 j := fun i j hi => by rw [hh1]; exact hV_D (by rw [lD]; exact hi) j
  have v0 : ∀ j, hV h1 a j = (dAt (Da a p (plN π 1)) 0).2.2 j := fun j => vD 0 j (by omega)
  have k0 : hK h1 a = 103 := kD 0 (by omega)
  rw [← hh1]
  refine e3_init1 (S := plN π 0) hB (by rw [hh1]; rfl) k0 ((v0 36).trans rfl) ((v0 37).trans rfl) (kD 3 (by omega)) (nD 3 (by omega)) (kD 4 (by omega)) (nD 4 (by omega)) O.1.2 (fun h2 Q g2 => ?_) fun h' I => ?_
  · have ag : Ag h h2 0 a := g1.trans (g2.sub (Nat.le_refl _) (by omega))
    have ka : hK h2 a = 103 := (g2 a (by omega) (by omega)).1.trans k0
    have va : hV h2 a 22 = .ref p := ((g2 a (by omega) (by omega)).2.2 22).trans ((v0 22).trans rfl)
    have kp2 : hK h2 p = 101 := (ag p (by omega) hp).1.trans kp
    have vp2 : hV h2 p 11 = .ref (A 4 0) := ((ag p (by omega) hp).2.2 11).trans vp
    have kL2 : hK h2 (A 4 0) = 114 := (ag _ (by omega) aL).1.trans kL
    have es := fun (Q : zQ) => e2_size (κ := κ) (Q := Q) ((P.cg (ag.sub (Nat.zero_le _) hq0)).2.1.2)
    simp (disch := first | assumption | omega | decide | (refine Eq.trans (hK_X _) ?_; assumption) | fail) only [gB, I_all, zK_v, zK_n, true_and, and_true, Nat.reduceAdd, Nat.reduceMul, Nat.reduceSub, z_lt, z_le, z_neq, not_false_eq_true, or_true, true_or, or_false, false_or, false_and, and_false, gX3_stops, ka, va, kp2, vp2, kL2, es]
  · obtain ⟨⟨i1, i2⟩, i3, i4⟩ := I
    have e0 : ∀ i j, i < 15 → i ≠ 3 → i ≠ 4 → hV h' (a + i) j = (dAt (Da a p (plN π 1)) i).2.2 j := fun i j h1 h2 h3 => ((i3 (a + i) (by omega)).2.2 (by omega) (by omega) j).trans (vD i j h1)
    have ea : ∀ j, hV h' a j = (dAt (Da a p (plN π 1)) 0).2.2 j := fun j => e0 0 j (by omega) (by omega) (by omega)
    have ek : ∀ i, i < 15 → hK h' (a + i) = (dAt (Da a p (plN π 1)) i).1 := fun i hi => (i3 (a + i) (by omega)).1.trans (kD i hi)
    have el : ∀ i, i < 15 → hL h' (a + i) = (dAt (Da a p (plN π 1)) i).2.1 := fun i hi => (i3 (a + i) (by omega)).2.1.trans (nD i hi)
    have fg : ∀ g ∈ cIG, hV h' a g = .int (Int32.ofNat 0) := fun g hg => by
      have gi : g = 23 ∨ g = 24 ∨ g = 25 ∨ g = 26 ∨ g = 27 ∨ g = 28 ∨ g = 29 ∨ g = 30 ∨ g = 31 := by simpa [cIG] using hg
      rw [ea]
      rcases gi with rfl | rfl | rfl | rfl | rfl | rfl | rfl | rfl | rfl <;> rfl
    have fk : ∀ k ∈ cIK, ∀ j, hV h' (a + k) j = .int (Int32.ofNat 0) := fun k hk j => by
      have ki : k = 1 ∨ k = 2 ∨ k = 7 ∨ k = 8 ∨ k = 9 ∨ k = 10 ∨ k = 11 ∨ k = 12 ∨ k = 13 := by simpa [cIK] using hk
      rw [e0 k j (by omega) (by omega) (by omega)]
      rcases ki with rfl | rfl | rfl | rfl | rfl | rfl | rfl | rfl | rfl <;> rfl
    have f5 : hV h' (a + 5) 171 = .int (Int32.ofNat 0) := (e0 5 171 (by omega) (by omega) (by omega)).trans rfl
    refine hq h' (g1.trans fun x _ hx => ⟨(i3 x (by omega)).1, (i3 x (by omega)).2.1, (i3 x (by omega)).2.2 (by omega) (by omega)⟩) i1 (by rw [i2, hh1]; rfl) ⟨⟨hB, ek 0 (by omega), (ea 22).trans rfl, O.1.2, O.2.1.2⟩, fun q hq => ?_, ⟨fun g hg => ⟨_, fg g hg⟩, ⟨0, (ea 32).trans rfl⟩, ⟨0, (ea 33).trans rfl⟩, fun k hk j => ⟨_, fk k hk j⟩⟩,
      ⟨(ea 39).trans rfl, ek 5 (by omega), (e0 5 170 (by omega) (by omega) (by omega)).trans rfl, (e0 5 172 (by omega) (by omega) (by omega)).trans rfl, ⟨_, f5⟩, ⟨0, (e0 5 173 (by omega) (by omega) (by omega)).trans rfl⟩, ek 6 (by omega), el 6 (by omega)⟩,
      ⟨(ea 38).trans rfl, ek 14 (by omega), el 14 (by omega)⟩, fun s hs => ?_, fun b hb => absurd hb (Nat.not_lt_zero _)⟩ ⟨fg, (ea 32).trans rfl, (ea 33).trans rfl, fk, f5, fun s hs => ⟨(i4 s hs).2.2.1, (i4 s hs).2.2.2⟩⟩
    · have qi : q = (1, 34, 1, 4) ∨ q = (2, 35, 4, 10) ∨ q = (3, 36, 11, 10) ∨ q = (4, 37, 12, 10) ∨ q = (7, 40, 1, 17) ∨ q = (8, 41, 1, 17) ∨ q = (9, 42, 1, 17) ∨ q = (10, 43, 1, 17) ∨ q = (11, 44, 1, 17) ∨ q = (12, 45, 1, 16) ∨ q = (13, 46, 1, 150) := by simpa [cTab] using hq
      rcases qi with rfl | rfl | rfl | rfl | rfl | rfl | rfl | rfl | rfl | rfl | rfl <;> exact ⟨(ea _).trans rfl, (ek _ (by decide)).trans rfl, (el _ (by decide)).trans rfl⟩
    · obtain ⟨t1, t2, t3, t4⟩ := i4 s hs
      exact ⟨t1, t2, RSh_F t3 (by omega), LSh_F t4 (by omega)⟩
/-- what is read of a block that lies in H as it did in h -/
theorem srcF (Z : CSh κ h a0 p S B ct) (g : Ag h H a0 (a0 + (15 + 8 * S + 5 * B))) : (∀ g ∈ cIG, hV H a0 g = .int (wOf h a0 0 g)) ∧ hV H a0 32 = .long (sOf h a0 0 32) ∧ hV H a0 33 = .long (sOf h a0 0 33) ∧ (∀ k ∈ cIK, ∀ j, hV H (a0 + k) j = .int (wOf h a0 k j)) ∧ hK H a0 = 103 ∧ hV H a0 22 = .ref p ∧
    (hV H a0 34 = .ref (a0 + 1) ∧ hV H a0 35 = .ref (a0 + 2) ∧ hV H a0 36 = .ref (a0 + 3) ∧ hV H a0 37 = .ref (a0 + 4) ∧ hV H a0 38 = .ref (a0 + 14) ∧ hV H a0 39 = .ref (a0 + 5) ∧ hV H a0 40 = .ref (a0 + 7) ∧ hV H a0 41 = .ref (a0 + 8) ∧ hV H a0 42 = .ref (a0 + 9) ∧ hV H a0 43 = .ref (a0 + 10) ∧ hV H a0 44 = .ref (a0 + 11) ∧ hV H a0 45 = .ref (a0 + 12) ∧ hV H a0 46 = .ref (a0 + 13)) ∧
    (hK H (a0 + 1) = 1 ∧ hL H (a0 + 1) = 4 ∧ hK H (a0 + 2) = 4 ∧ hL H (a0 + 2) = 10 ∧ hK H (a0 + 3) = 11 ∧ hL H (a0 + 3) = 10 ∧ hK H (a0 + 4) = 12 ∧ hL H (a0 + 4) = 10 ∧ hK H (a0 + 7) = 1 ∧ hL H (a0 + 7) = 17 ∧ hK H (a0 + 8) = 1 ∧ hL H (a0 + 8) = 17 ∧ hK H (a0 + 9) = 1 ∧ hL H (a0 + 9) = 17 ∧ hK H (a0 + 10) = 1 ∧ hL H (a0 + 10) = 17 ∧
      hK H (a0 + 11) = 1 ∧ hL H (a0 + 11) = 17 ∧ hK H (a0 + 12) = 1 ∧ hL H (a0 + 12) = 16 ∧ hK H (a0 + 13) = 1 ∧ hL H (a0 + 13) = 150 ∧ hK H (a0 + 14) = 13 ∧ hL H (a0 + 14) = B) ∧
    (∀ s, s < S → hV H (a0 + 3) s = .ref (a0 + (15 + 8 * s))) ∧ (∀ s, s < S → hV H (a0 + 4) s = .ref (a0 + (19 + 8 * s))) ∧ (∀ b, b < B → hV H (a0 + 14) b = .ref (a0 + (15 + 8 * S + 5 * b))) := by
  have Z2 := Z.cg g
  have K := cK Z2
  obtain ⟨⟨z1, z2, z3, z4, z5⟩, z6, ⟨z7, z8, z9, z10⟩, y, ⟨x1, x2, x3⟩, s0, b0⟩ := Z2
  have eW : ∀ k j, k < 15 + 8 * S + 5 * B → wOf H a0 k j = wOf h a0 k j := fun k j hk => wOf_Ag g hk
  refine ⟨fun j hj => by rw [← eW 0 j (by omega)]; exact wOf_e (k := 0) (z7 j hj), by rw [← sOf_Ag g (k := 0) (j := 32) (by omega)]; exact sOf_e (k := 0) z8, by rw [← sOf_Ag g (k := 0) (j := 33) (by omega)]; exact sOf_e (k := 0) z9,
    fun k hk j => by rw [← eW k j (by have := cIKlt k hk; omega)]; exact wOf_e (z10 k hk j), z2, z3,
    ⟨(z6 (1, 34, 1, 4) (by decide)).1, (z6 (2, 35, 4, 10) (by decide)).1, (z6 (3, 36, 11, 10) (by decide)).1, (z6 (4, 37, 12, 10) (by decide)).1, x1, y.1, (z6 (7, 40, 1, 17) (by decide)).1, (z6 (8, 41, 1, 17) (by decide)).1, (z6 (9, 42, 1, 17) (by decide)).1, (z6 (10, 43, 1, 17) (by decide)).1, (z6 (11, 44, 1, 17) (by decide)).1, (z6 (12, 45, 1, 16) (by decide)).1, (z6 (13, 46, 1, 150) (by decide)).1⟩,
    K, fun s hs => (s0 s hs).1, fun s hs => (s0 s hs).2.1, fun b hb => (b0 b hb).1⟩
def cpG (W : Nat → Nat → Int32) (k d m : Nat) (g : Nat → Int32) : Nat → Nat → Int32 := fun k' j => if k' = k ∧ d ≤ j ∧ j < d + m then g (j - d) else W k' j
theorem cpG_in {k m j : Nat} {g : Nat → Int32} (h : j < m) : cpG W k 0 m g k j = g j := by
  unfold cpG
  rw [if_pos (by omega), Nat.sub_zero]
theorem cpG_o {k d m k' j : Nat} {g : Nat → Int32} (h : k' ≠ k) : cpG W k d m g k' j = W k' j := by
  unfold cpG
  rw [if_neg (fun x => h x.1)]
theorem hX_Cx {src k' m : Nat} {g : Nat → Int32} (hk' : k' < n) (hs : src < a ∨ a + n ≤ src) (e : ∀ j, hV h src j = .int (g j)) (e' : ∀ j, isI (hV h (a + k') j)) : hC (hX h a n W SM) src 0 (a + k') 0 m = hX h a n (cpG W k' 0 m g) SM := by
  refine hX_eq (fun _ => rfl) (fun _ => rfl) (fun x j => ?_) rfl rfl
  rw [hV_C]
  by_cases h1 : x = a + k'
  · subst h1
    rw [if_pos rfl, hV_Xi (W := cpG W k' 0 m g) hk' (e' j)]
    unfold cpG
    by_cases h2 : 0 ≤ j ∧ j < 0 + m
    · rw [if_pos h2, if_pos ⟨rfl, h2⟩, hV_Xo hs, e, Nat.zero_add]
    · rw [if_neg h2, if_neg (fun c => h2 c.2), hV_Xi hk' (e' j)]
  · rw [if_neg h1]
    by_cases h3 : a ≤ x ∧ x < a + n
    · obtain ⟨y, rfl⟩ : ∃ y, x = a + y := ⟨x - a, by omega⟩
      rw [hV_Xv (by omega), hV_Xv (by omega), cpG_o (by omega)]
    · rw [hV_Xo (by omega), hV_Xo (by omega)]
theorem wOf_X {k j : Nat} (hk : k < n) (e : isI (hV h (a + k) j) ∨ W k j = wOf h a k j) : wOf (hX h a n W SM) a k j = W k j := by
  by_cases c : isI (hV h (a + k) j)
  · exact wOf_i (hV_Xi hk c)
  · have e2 := e.resolve_left c
    rw [e2]
    unfold wOf
    rw [hV_Xv hk]
    generalize hV h (a + k) j = v at *
    cases v with
    | int i => exact absurd ⟨i, rfl⟩ c
    | _ => rfl
theorem sOf_X {k j : Nat} (hk : k < n) (e : isJ (hV h (a + k) j)) : sOf (hX h a n W SM) a k j = SM k j := sOf_j (hV_Xj hk e)
theorem isI_X {k j : Nat} (hk : k < n) (e : isI (hV h (a + k) j)) : isI (hV (hX h a n W SM) (a + k) j) := ⟨_, hV_Xi hk e⟩
theorem RSh_X {K cap : Nat} (R : RSh h a n K cap) : RSh (hX h a n W SM) a n K cap := by
  obtain ⟨s0, s1, ⟨s2, s3, s4, s5⟩, s6⟩ := R
  exact ⟨s0, s1, ⟨hV_Xr (by omega) s2, hV_Xr (by omega) s3, hV_Xr (by omega) s4, isI_X (by omega) s5⟩, fun i h1 h2 => ⟨(s6 i h1 h2).1, (s6 i h1 h2).2.1, fun j => isI_X (by omega) ((s6 i h1 h2).2.2 j)⟩⟩
theorem LSh_X {K : Nat} (R : LSh h a n K) : LSh (hX h a n W SM) a n K := by
  obtain ⟨s0, s1, ⟨s2, s3, s4, s5, s7, s8⟩, s6⟩ := R
  exact ⟨s0, s1, ⟨hV_Xr (by omega) s2, hV_Xr (by omega) s3, hV_Xr (by omega) s4, isI_X (by omega) s5, isI_X (by omega) s7, isI_X (by omega) s8⟩, fun i h1 h2 => ⟨(s6 i h1 h2).1, (s6 i h1 h2).2.1, fun j => isI_X (by omega) ((s6 i h1 h2).2.2 j)⟩⟩
theorem BSh_X {K cap : Nat} (R : BSh h a n K cap) : BSh (hX h a n W SM) a n K cap := by
  obtain ⟨s1, s2, s3, s4⟩ := R
  exact ⟨s1, hV_Xr (by have := s4.1; omega) s2, fun g h1 h2 => isI_X (by have := s4.1; omega) (s3 g h1 h2), RSh_X s4⟩
theorem FSh_X {k0 : Nat} (Z : FSh κ h a p S B k0 ct) (hn : n = 15 + 8 * S + 5 * k0) : FSh κ (hX h a n W SM) a p S B k0 ct := by
  subst hn
  obtain ⟨⟨z1, z2, z3, z4, z5⟩, z6, ⟨z7, z8, z9, z10⟩, ⟨y1, y2, y3, y4, y5, y6, y7, y8⟩, ⟨x1, x2, x3⟩, s0, b0⟩ := Z
  exact ⟨⟨z1, z2, hV_Xr (k := 0) (by omega) z3, z4, z5⟩, fun q hq => ⟨hV_Xr (k := 0) (by omega) (z6 q hq).1, (z6 q hq).2⟩, ⟨fun g hg => isI_X (k := 0) (by omega) (z7 g hg), ⟨_, hV_Xj (k := 0) (by omega) z8⟩, ⟨_, hV_Xj (k := 0) (by omega) z9⟩, fun k hk j => isI_X (by have := cIKlt k hk; omega) (z10 k hk j)⟩,
    ⟨hV_Xr (k := 0) (by omega) y1, y2, hV_Xr (by omega) y3, hV_Xn (by omega) y4, isI_X (by omega) y5, isI_X (by omega) y6, y7, y8⟩, ⟨hV_Xr (k := 0) (by omega) x1, x2, x3⟩,
    fun s hs => ⟨hV_Xr (by omega) (s0 s hs).1, hV_Xr (by omega) (s0 s hs).2.1, RSh_X (s0 s hs).2.2.1, LSh_X (s0 s hs).2.2.2⟩, fun b hb => ⟨hV_Xr (by omega) (b0 b hb).1, BSh_X (b0 b hb).2.1, (b0 b hb).2.2⟩⟩
/-- behind riders' and leavings' moves: the shape of a block in the making -/
theorem FSh.cg {k0 : Nat} {h h' : zH} (Z : FSh κ h a p S B k0 ct) (gk : ∀ k, k < 15 → hK h' (a + k) = hK h (a + k) ∧ hL h' (a + k) = hL h (a + k)) (gv : ∀ k j, k < 15 → k ≠ 6 → hV h' (a + k) j = hV h (a + k) j) (gr : ∀ s, s < S → RSh h' a (15 + 8 * S + 5 * k0) (15 + 8 * s) 40 ∧ LSh h' a (15 + 8 * S + 5 * k0) (19 + 8 * s)) (gb : ∀ b, b < k0 → BSh h' a (15 + 8 * S + 5 * k0) (15 + 8 * S + 5 * b) (ct b)) : FSh κ h' a p S B k0 ct := by
  obtain ⟨⟨z1, z2, z3, z4, z5⟩, z6, ⟨z7, z8, z9, z10⟩, ⟨y1, y2, y3, y4, y5, y6, y7, y8⟩, ⟨x1, x2, x3⟩, s0, b0⟩ := Z
  have g3 : ∀ j, hV h' a j = hV h a j := fun j => gv 0 j (by omega) (by omega)
  refine ⟨⟨z1, (gk 0 (by omega)).1.trans z2, (g3 _).trans z3, z4, z5⟩, fun q hq => ?_, ⟨fun j hj => by rw [g3]; exact z7 j hj, by rw [g3]; exact z8, by rw [g3]; exact z9, fun k hk j => by rw [gv k j (cIKlt k hk) ((by decide : ∀ k ∈ cIK, k ≠ 6) k hk)]; exact z10 k hk j⟩,
    ⟨(g3 _).trans y1, (gk 5 (by omega)).1.trans y2, (gv 5 _ (by omega) (by omega)).trans y3, (gv 5 _ (by omega) (by omega)).trans y4, by rw [gv 5 _ (by omega) (by omega)]; exact y5, by rw [gv 5 _ (by omega) (by omega)]; exact y6, (gk 6 (by omega)).1.trans y7, (gk 6 (by omega)).2.trans y8⟩,
    ⟨(g3 _).trans x1, (gk 14 (by omega)).1.trans x2, (gk 14 (by omega)).2.trans x3⟩, fun s hs => ⟨(gv 3 _ (by omega) (by omega)).trans (s0 s hs).1, (gv 4 _ (by omega) (by omega)).trans (s0 s hs).2.1, (gr s hs).1, (gr s hs).2⟩, fun b hb => ⟨(gv 14 _ (by omega) (by omega)).trans (b0 b hb).1, gb b hb, (b0 b hb).2.2⟩⟩
  obtain ⟨q1, q2, q3⟩ := z6 q hq
  have hlt : q.1 < 15 := (by decide : ∀ q ∈ cTab, q.1 < 15) q hq
  exact ⟨(g3 _).trans q1, (gk _ hlt).1.trans q2, (gk _ hlt).2.trans q3⟩
end
