/-! the component: a state copied: its buses -/
section
variable {κ : zC} {h h' H : zH} {a a0 p q0 q S B n : Nat} {π : Pl} {A : Nat → Nat → Nat} {Q : zQ} {σ : Sg} {W : Nat → Nat → Int32} {SM : Nat → Nat → Int64} {ct : Nat → Nat} {f : Nat → Value}
theorem hX_5V {k j : Nat} (hk : k < n) (e : W k j = wOf h a k j) : hV (hX h a n W (sOf h a)) (a + k) j = hV h (a + k) j := by
  rw [hV_Xv hk, e]
  unfold wOf sOf
  generalize hV h (a + k) j = v
  cases v <;> rfl
theorem FSh_q {k0 : Nat} (Z : FSh κ h a p S B k0 ct) (f : Nat → Value) : FSh κ (hQ h a f) a p S B k0 ct := by
  have ek : ∀ k j, k ≠ 6 → hV (hQ h a f) (a + k) j = hV h (a + k) j := fun k j hk => hQ_Vn (by omega) j
  refine Z.cg (fun k hk => ⟨rfl, rfl⟩) (fun k j _ h6 => ek k j h6) (fun s hs => ⟨RSh_q (Z.2.2.2.2.2.1 s hs).2.2.1 (by omega) f, ?_⟩) (fun b hb => ?_)
  · exact (Z.2.2.2.2.2.1 s hs).2.2.2.cg (fun x h1 h2 => ⟨rfl, rfl, fun j => hQ_Vn (by omega) j⟩) (Z.2.2.2.2.2.1 s hs).2.2.2.1
  · have := (Z.2.2.2.2.2.2 b hb).2.1
    exact this.cg (fun x h1 h2 => ⟨rfl, rfl, fun j => hQ_Vn (by omega) j⟩) (by have := this.2.2.2.1; omega)
theorem FSh_ZQ {k0 : Nat} (Z : FSh κ h a p S B k0 ct) (hk : k0 ≤ B) : ZQ κ h a (15 + 8 * S + 5 * k0) S k0 ct :=
  ⟨⟨Z.1.1, rfl, Nat.le_trans hk Z.1.2.2.2.2⟩, Z.2.2.2.1.2, fun b hb => (Z.2.2.2.2.2.2 b hb).2.1⟩
theorem FSh_up {k0 : Nat} (Z : FSh κ H a p S B k0 ct) (g : Ag H h 0 (a + (15 + 8 * S + 5 * k0))) (Bn : BSh h a (15 + 8 * S + 5 * (k0 + 1)) (15 + 8 * S + 5 * k0) (ct k0)) (hc : ct k0 ≤ 99) : FSh κ (hW h (a + 14) k0 (.ref (a + (15 + 8 * S + 5 * k0)))) a p S B (k0 + 1) ct := by
  obtain ⟨⟨z1, z2, z3, z4, z5⟩, z6, ⟨z7, z8, z9, z10⟩, ⟨y1, y2, y3, y4, y5, y6, y7, y8⟩, ⟨x1, x2, x3⟩, s0, b0⟩ := Z
  have gk : ∀ k, k < 15 → hK (hW h (a + 14) k0 (.ref (a + (15 + 8 * S + 5 * k0)))) (a + k) = hK H (a + k) ∧ hL (hW h (a + 14) k0 (.ref (a + (15 + 8 * S + 5 * k0)))) (a + k) = hL H (a + k) := fun k hk => ⟨(hK_W _ _ _ _ _).trans (g _ (by omega) (by omega)).1, (hL_W _ _ _ _ _).trans (g _ (by omega) (by omega)).2.1⟩
  have gv : ∀ k j, k < 14 → hV (hW h (a + 14) k0 (.ref (a + (15 + 8 * S + 5 * k0)))) (a + k) j = hV H (a + k) j := fun k j hk => by rw [hV_Wn (by omega)]; exact (g _ (by omega) (by omega)).2.2 j
  have g3 : ∀ j, hV (hW h (a + 14) k0 (.ref (a + (15 + 8 * S + 5 * k0)))) a j = hV H a j := fun j => gv 0 j (by omega)
  have gw : Ag h (hW h (a + 14) k0 (.ref (a + (15 + 8 * S + 5 * k0)))) (a + 15) (a + (15 + 8 * S + 5 * (k0 + 1))) := Ag_W (by omega)
  have gt : Ag H (hW h (a + 14) k0 (.ref (a + (15 + 8 * S + 5 * k0)))) (a + 15) (a + (15 + 8 * S + 5 * k0)) := (g.sub (Nat.zero_le _) (Nat.le_refl _)).trans (gw.sub (Nat.le_refl _) (by omega))
  refine ⟨⟨z1, (gk 0 (by omega)).1.trans z2, (g3 _).trans z3, z4, z5⟩, fun q hq => ?_, ⟨fun j hj => by rw [g3]; exact z7 j hj, by rw [g3]; exact z8, by rw [g3]; exact z9, fun k hk j => by rw [gv k j ((by decide : ∀ k ∈ cIK, k < 14) k hk)]; exact z10 k hk j⟩,
    ⟨(g3 _).trans y1, (gk 5 (by omega)).1.trans y2, (gv 5 _ (by omega)).trans y3, (gv 5 _ (by omega)).trans y4, by rw [gv 5 _ (by omega)]; exact y5, by rw [gv 5 _ (by omega)]; exact y6, (gk 6 (by omega)).1.trans y7, (gk 6 (by omega)).2.trans y8⟩,
    ⟨(g3 _).trans x1, (gk 14 (by omega)).1.trans x2, (gk 14 (by omega)).2.trans x3⟩, fun s hs => ?_, fun b hb => ?_⟩
  · obtain ⟨q1, q2, q3⟩ := z6 q hq
    have hlt : q.1 < 15 := (by decide : ∀ q ∈ cTab, q.1 < 15) q hq
    exact ⟨(g3 _).trans q1, (gk _ hlt).1.trans q2, (gk _ hlt).2.trans q3⟩
  · obtain ⟨a1, a2, a3, a4⟩ := s0 s hs
    exact ⟨(gv 3 _ (by omega)).trans a1, (gv 4 _ (by omega)).trans a2, a3.cg (gt.sub (by omega) (by omega)) (by omega), a4.cg (gt.sub (by omega) (by omega)) (by omega)⟩
  · by_cases c : b = k0
    · subst c
      exact ⟨hV_We rfl rfl, Bn.cg (gw.sub (by omega) (by omega)) (by omega), hc⟩
    · obtain ⟨a1, a2, a3⟩ := b0 b (by omega)
      refine ⟨?_, a2.cg (gt.sub (by omega) (by omega)) (by omega), a3⟩
      rw [hV_Wj c, (g _ (by omega) (by omega)).2.2]
      exact a1
/-- the second loop: buses copied, queued -/
def K2 (κ : zC) (H1 H : zH) (a p : Nat) (π : Pl) (σ : Sg) (b : Nat) : Prop := (hN H = a + (15 + 8 * plN π 0 + 5 * b) ∧ hU H ≤ hU H1 + 400 * b) ∧ (∀ x, x < a + 15 → x ≠ a + 5 → x ≠ a + 6 → x ≠ a + 14 → hK H x = hK H1 x ∧ hL H x = hL H1 x ∧ ∀ j, hV H x j = hV H1 x j) ∧ FSh κ H a p (plN π 0) (plN π 1) b (plI π 7) ∧
  (∀ s, s < plN π 0 → RC (wOf H a) (15 + 8 * s) (sR σ s) ∧ LC (wOf H a) (19 + 8 * s) (sL σ s) (sN σ (43 + s)) (sN σ (33 + s))) ∧ (∀ b', b' < b → BC π (wOf H a) (15 + 8 * plN π 0 + 5 * b') b' (sB σ b')) ∧ QI (plN π 0) σ a (fun j => hV H (a + 6) j) (wOf H a) b (fun x => x < b)
/-- flat numbers as in the source -/
def FV1 (h H : zH) (a0 a : Nat) : Prop := (∀ g ∈ cIG, hV H a g = .int (wOf h a0 0 g)) ∧ hV H a 32 = .long (sOf h a0 0 32) ∧ hV H a 33 = .long (sOf h a0 0 33) ∧ (∀ j, j < 4 → hV H (a + 1) j = .int (wOf h a0 1 j)) ∧ ∀ j, j < 10 → hV H (a + 2) j = .int (wOf h a0 2 j)
theorem cp_o {k d m k' j : Nat} {g : Nat → Int32} (h : k' < k ∨ k < k') : cpG W k d m g k' j = W k' j := cpG_o (by omega)
/-- the end -/
theorem e3_cp3 {H1 : zH} (Z : SAt κ h a0 p π A q0 q σ) (OK : sOk π σ) (hqa : q ≤ a) (ha : a0 + (15 + 8 * plN π 0 + 5 * plN π 1) ≤ a) (g1 : Ag h H1 0 a) (f1 : FV1 h H1 a0 a) (I : K2 κ H1 H a p π σ (plN π 1))
    (hq : ∀ h', Ag h h' 0 a → hN h' = a + (15 + 8 * plN π 0 + 5 * plN π 1) → hU h' = hU H → SAt κ h' a p π A q0 q σ → Q (.inl (some (.ref a))) h') : Go κ mX3_copy 177 [some (.ref a0), some (.ref a), some (.int (Int32.ofNat (plN π 1)))] [] H Q := by
  obtain ⟨⟨Zc, P, O, hq0, hn, hkb⟩, C, -⟩ := Z
  obtain ⟨⟨i1, i2⟩, i3, i4, i5, i6, i7⟩ := I
  have h10 := O.1.2
  have h6 := O.2.1.2
  have hB : kB κ ≤ a := i4.1.1
  have za : zArr 13 = true := rfl
  have za1 : zArr 1 = true := rfl
  have gH : Ag h H 0 a := g1.trans fun x _ hx => i3 x (by omega) (by omega) (by omega) (by omega)
  have gX := fun (W : Nat → Nat → Int32) (SM : Nat → Nat → Int64) => (gH.sub (Nat.zero_le _) ha).trans (Ag_X (h := H) (a := a) (n := 15 + 8 * plN π 0 + 5 * plN π 1) (W := W) (SM := SM) (q0 := a0) (q := a0 + (15 + 8 * plN π 0 + 5 * plN π 1)) (Or.inl ha))
  have SF := fun W SM => srcF Zc (gX W SM)
  have SF0 := srcF Zc (gH.sub (Nat.zero_le _) ha)
  have F := fcF i4 rfl
  have F2 := fcRf i4 rfl
  have F3 := fcK i4
  have hBk : ∀ k, kB κ ≤ a + k := fun k => by omega
  have sI := i4.2.2.1.2.2.2
  have eC : ∀ k, k ∈ cIK → ∀ W SM m, hC (hX H a (15 + 8 * plN π 0 + 5 * plN π 1) W SM) (a0 + k) 0 (a + k) 0 m = hX H a (15 + 8 * plN π 0 + 5 * plN π 1) (cpG W k 0 m (wOf h a0 k)) SM := fun k hk W SM m => hX_Cx (by have := cIKlt k hk; omega) (by have := cIKlt k hk; omega) (fun j => by
      have := (srcF Zc (gH.sub (Nat.zero_le _) ha)).2.2.2.1 k hk j
      exact this) (fun j => sI k hk j)
  have eO : ∀ k, k ∈ cIK → hK H (a + k) = 1 → ∀ W SM m, zOks (hX H a (15 + 8 * plN π 0 + 5 * plN π 1) W SM) (a0 + k) (a + k) 0 m = True := fun k hk k1 W SM m => eq_true (zOks_I k1 fun j => ⟨_, (SF W SM).2.2.2.1 k hk j⟩)
  have c7 := eC 7 (by decide)
  have c8 := eC 8 (by decide)
  have c9 := eC 9 (by decide)
  have c10 := eC 10 (by decide)
  have c11 := eC 11 (by decide)
  have c12 := eC 12 (by decide)
  have c13 := eC 13 (by decide)
  have k7 : hK H (a + 7) = 1 := (i4.2.1 (7, 40, 1, 17) (by decide)).2.1
  have k8 : hK H (a + 8) = 1 := (i4.2.1 (8, 41, 1, 17) (by decide)).2.1
  have k9 : hK H (a + 9) = 1 := (i4.2.1 (9, 42, 1, 17) (by decide)).2.1
  have k10 : hK H (a + 10) = 1 := (i4.2.1 (10, 43, 1, 17) (by decide)).2.1
  have k11 : hK H (a + 11) = 1 := (i4.2.1 (11, 44, 1, 17) (by decide)).2.1
  have k12 : hK H (a + 12) = 1 := (i4.2.1 (12, 45, 1, 16) (by decide)).2.1
  have k13 : hK H (a + 13) = 1 := (i4.2.1 (13, 46, 1, 150) (by decide)).2.1
  have o7 := eO 7 (by decide) k7
  have o8 := eO 8 (by decide) k8
  have o9 := eO 9 (by decide) k9
  have o10 := eO 10 (by decide) k10
  have o11 := eO 11 (by decide) k11
  have o12 := eO 12 (by decide) k12
  have o13 := eO 13 (by decide) k13
  obtain ⟨W3, hW3⟩ : ∃ W3, W3 = cpG (cpG (cpG (cpG (cpG (cpG (cpG (wOf H a) 7 0 17 (wOf h a0 7)) 8 0 17 (wOf h a0 8)) 9 0 17 (wOf h a0 9)) 10 0 17 (wOf h a0 10)) 11 0 17 (wOf h a0 11)) 12 0 16 (wOf h a0 12)) 13 0 150 (wOf h a0 13) := ⟨_, rfl⟩
  have wlo : ∀ k j, ¬ (7 ≤ k ∧ k ≤ 13) → W3 k j = wOf H a k j := fun k j hk => by
    rw [hW3, cp_o (by omega), cp_o (by omega), cp_o (by omega), cp_o (by omega), cp_o (by omega), cp_o (by omega), cp_o (by omega)]
  have w13 : ∀ j, j < 150 → W3 13 j = wOf h a0 13 j := fun j hj => by rw [hW3, cpG_in hj]
  have w12 : ∀ j, j < 16 → W3 12 j = wOf h a0 12 j := fun j hj => by rw [hW3, cp_o (by omega), cpG_in hj]
  have w7 : ∀ c j, c < 5 → j < 17 → W3 (7 + c) j = wOf h a0 (7 + c) j := fun c j hc hj => by
    have ci : c = 0 ∨ c = 1 ∨ c = 2 ∨ c = 3 ∨ c = 4 := by omega
    rw [hW3]
    rcases ci with rfl | rfl | rfl | rfl | rfl
    · rw [cp_o (by omega), cp_o (by omega), cp_o (by omega), cp_o (by omega), cp_o (by omega), cp_o (by omega), cpG_in hj]
    · rw [cp_o (by omega), cp_o (by omega), cp_o (by omega), cp_o (by omega), cp_o (by omega), cpG_in hj]
    · rw [cp_o (by omega), cp_o (by omega), cp_o (by omega), cp_o (by omega), cpG_in hj]
    · rw [cp_o (by omega), cp_o (by omega), cp_o (by omega), cpG_in hj]
    · rw [cp_o (by omega), cp_o (by omega), cpG_in hj]
  have fin : Q (.inl (some (.ref a))) (hX H a (15 + 8 * plN π 0 + 5 * plN π 1) W3 (sOf H a)) := by
    have Zf := FSh_X (W := W3) (SM := sOf H a) i4 rfl
    have gF : Ag h (hX H a (15 + 8 * plN π 0 + 5 * plN π 1) W3 (sOf H a)) 0 a := gH.trans (Ag_X (Or.inl (Nat.le_refl _)))
    -- values
    have ei : ∀ k j, k < 15 + 8 * plN π 0 + 5 * plN π 1 → ¬ (7 ≤ k ∧ k ≤ 13) → wOf (hX H a (15 + 8 * plN π 0 + 5 * plN π 1) W3 (sOf H a)) a k j = wOf H a k j := fun k j hk hk2 => by rw [wOf_X hk (Or.inr (wlo k j hk2)), wlo k j hk2]
    have ek : ∀ k j, k ∈ cIK → wOf (hX H a (15 + 8 * plN π 0 + 5 * plN π 1) W3 (sOf H a)) a k j = W3 k j := fun k j hk => wOf_X (by have := cIKlt k hk; omega) (Or.inl (sI k hk j))
    have f0 : ∀ g ∈ cIG, wOf H a 0 g = wOf h a0 0 g := fun g hg => wOf_i (k := 0) (((i3 a (by omega) (by omega) (by omega) (by omega)).2.2 g).trans (f1.1 g hg))
    have f01 : ∀ j, j < 4 → wOf H a 1 j = wOf h a0 1 j := fun j hj => wOf_i (((i3 (a + 1) (by omega) (by omega) (by omega) (by omega)).2.2 j).trans (f1.2.2.2.1 j hj))
    have f02 : ∀ j, j < 10 → wOf H a 2 j = wOf h a0 2 j := fun j hj => wOf_i (((i3 (a + 2) (by omega) (by omega) (by omega) (by omega)).2.2 j).trans (f1.2.2.2.2 j hj))
    have e32 : sOf (hX H a (15 + 8 * plN π 0 + 5 * plN π 1) W3 (sOf H a)) a 0 32 = sOf h a0 0 32 := by
      rw [sOf_X (k := 0) (by omega) i4.2.2.1.2.1]
      exact sOf_j (k := 0) (((i3 a (by omega) (by omega) (by omega) (by omega)).2.2 32).trans f1.2.1)
    have e33 : sOf (hX H a (15 + 8 * plN π 0 + 5 * plN π 1) W3 (sOf H a)) a 0 33 = sOf h a0 0 33 := by
      rw [sOf_X (k := 0) (by omega) i4.2.2.1.2.2.1]
      exact sOf_j (k := 0) (((i3 a (by omega) (by omega) (by omega) (by omega)).2.2 33).trans f1.2.2.1)
    obtain ⟨⟨⟨n1, n2, n3, n4, n5⟩, n6, n7⟩, ⟨m1, m2⟩, -, -, -, G1, G2⟩ := C
    refine hq _ gF i1 rfl ⟨⟨Zf, P.cg (gF.sub (Nat.zero_le _) hqa), O, hqa, rfl, hkb⟩, ⟨⟨⟨?_, ?_, fun j hj => ?_, fun j hj => ?_, fun s hs => ?_⟩, fun c f hc hf => ?_, fun f hf => ?_⟩, ⟨e32.trans m1, e33.trans m2⟩, fun s hs => (i5 s hs).1.cg fun k j h1 h2 => ei k j (by omega) (by omega), fun s hs => (i5 s hs).2.cg fun k j h1 h2 => ei k j (by omega) (by omega), fun b hb => (i6 b hb).cg fun k j h1 h2 => ei k j (by omega) (by omega), ?_, fun i r hr => ?_⟩, ?_⟩
    · rw [ei _ _ (by omega) (by omega), f0 23 (by decide)]; exact n1
    · rw [ei _ _ (by omega) (by omega), f0 24 (by decide)]; exact n2
    · rw [ei _ _ (by omega) (by omega), f01 j hj]; exact n3 j hj
    · have hg : 25 + j ∈ cIG := by
        have ji : j = 0 ∨ j = 1 ∨ j = 2 ∨ j = 3 ∨ j = 4 ∨ j = 5 := by omega
        rcases ji with rfl | rfl | rfl | rfl | rfl | rfl <;> decide
      rw [ei _ _ (by omega) (by omega), f0 _ hg]; exact n4 j hj
    · rw [ei _ _ (by omega) (by omega), f02 s hs]; exact n5 s hs
    · have hk : 7 + c ∈ cIK := by
        have ci : c = 0 ∨ c = 1 ∨ c = 2 ∨ c = 3 ∨ c = 4 := by omega
        rcases ci with rfl | rfl | rfl | rfl | rfl <;> decide
      rw [ek _ _ hk, w7 c f hc hf]; exact n6 c f hc hf
    · rw [ek _ _ (by decide), w12 f (by have := O.2.2.1; omega)]; exact n7 f hf
    · rw [ei _ _ (by omega) (by omega), f0 31 (by decide)]; exact G1
    · have hl := (List.getElem?_eq_some_iff.mp hr).1
      have h30 := OK.2.2.2.1
      obtain ⟨t1, t2, t3, t4, t5⟩ := G2 i r hr
      refine ⟨?_, ?_, ?_, ?_, ?_⟩
      · rw [ek _ _ (by decide), w13 _ (by omega)]; exact t1
      · rw [ek _ _ (by decide), w13 _ (by omega)]; exact t2
      · rw [ek _ _ (by decide), w13 _ (by omega)]; exact t3
      · rw [ek _ _ (by decide), w13 _ (by omega)]; exact t4
      · rw [ek _ _ (by decide), w13 _ (by omega)]; exact t5
    · obtain ⟨s1, F', f', g'⟩ := i7
      refine ⟨by rw [ei _ _ (by omega) (by omega)]; exact s1, F', fun i hi => hV_Xr (by omega) (f' i hi), g'⟩
  rw [hW3] at fin
  rw [← hX_of H a (15 + 8 * plN π 0 + 5 * plN π 1)]
  simp (disch := first | assumption | omega | decide | (refine Eq.trans (hK_X _) ?_; assumption) | fail) only [gB, I_all, zK_v, zK_n, true_and, and_true, Nat.reduceAdd, Nat.reduceMul, Nat.reduceSub, z_lt, z_le, z_neq, not_false_eq_true, or_true, true_or, or_false, false_or, false_and, and_false, gX3_copy_h]
  simp (disch := first | assumption | omega | decide | (refine Eq.trans (hK_X _) ?_; assumption) | fail) only [gB, I_all, zK_v, zK_n, true_and, and_true, Nat.reduceAdd, Nat.reduceMul, Nat.reduceSub, z_lt, z_le, z_neq, not_false_eq_true, or_true, true_or, or_false, false_or, false_and, and_false, gX3_copy_1, gX3_copy_2, F, F2, F3, SF, SF0, za, za1, k7, k8, k9, k10, k11, k12, k13, c7, c8, c9, c10, c11, c12, c13, o7, o8, o9, o10, o11, o12, o13, I_nat, I_0le, hBk]
  exact fin
end
