/-! the component: a state copied, whole -/
section
variable {κ : zC} {h h' H : zH} {a a0 p q0 q S B n : Nat} {π : Pl} {A : Nat → Nat → Nat} {Q : zQ} {σ : Sg} {W : Nat → Nat → Int32} {SM : Nat → Nat → Int64} {ct : Nat → Nat} {f : Nat → Value}
theorem e3_cp2 {H1 : zH} (Z : SAt κ h a0 p π A q0 q σ) (OK : sOk π σ) (V : vOk σ) (hqa : q ≤ a) (ha : a0 + (15 + 8 * plN π 0 + 5 * plN π 1) ≤ a) (g1 : Ag h H1 0 a) (f1 : FV1 h H1 a0 a) (I1 : K2 κ H1 H1 a p π σ 0)
    (hq : ∀ h', Ag h h' 0 a → hN h' = a + (15 + 8 * plN π 0 + 5 * plN π 1) → hU h' ≤ hU H1 + 2400 → SAt κ h' a p π A q0 q σ → Q (.inl (some (.ref a))) h') : Go κ mX3_copy 177 [some (.ref a0), some (.ref a), some (.int (Int32.ofNat 0))] [] H1 Q := by
  have Z0 := Z
  obtain ⟨⟨Zc, P, O, hq0, hn, hkb⟩, C, -⟩ := Z
  have h10 := O.1.2
  have h6 := O.2.1.2
  have hB : kB κ ≤ a := I1.2.2.1.1.1
  have za : zArr 13 = true := rfl
  have zr : (zRef 13 = true) = True ∧ (zAss 13 106 = true) = True := ⟨eq_true (by decide), eq_true (by decide)⟩
  have lp : ∀ d b H, b + d = plN π 1 → K2 κ H1 H a p π σ b → Go κ mX3_copy 177 [some (.ref a0), some (.ref a), some (.int (Int32.ofNat b))] [] H Q := by
    intro d
    induction d with
    | zero =>
      intro b H hs I
      have hs' : b = plN π 1 := by omega
      subst hs'
      refine e3_cp3 Z0 OK hqa ha g1 f1 I fun h' e1 e2 e3 e4 => hq h' e1 e2 ?_ e4
      have := I.1.2
      omega
    | succ d ih =>
      intro b H hs I
      have I0 := I
      obtain ⟨⟨i1, i2⟩, i3, i4, i5, i6, i7⟩ := I
      have hbB : b < plN π 1 := by omega
      have gH : Ag h H 0 a := g1.trans fun x _ hx => i3 x (by omega) (by omega) (by omega) (by omega)
      have SF := srcF Zc (gH.sub (Nat.zero_le _) ha)
      have gs : ∀ x, x < a → hK H x = hK h x ∧ hL H x = hL h x ∧ ∀ j, hV H x j = hV h x j := fun x hx => gH x (Nat.zero_le _) hx
      -- the source's bus
      obtain ⟨Bs, hct⟩ := cBu Zc rfl hbB
      have Cb := C.2.2.2.2.1 b hbB
      have ob := OK.2.2.1 b (by omega)
      obtain ⟨s7, s1, s99, -⟩ := O.2.2.2.2.1 b hbB
      obtain ⟨r0, r1, ⟨r2, r3, r4, r5⟩, r6⟩ := Bs.2.2.2
      have vb := V.2 b (by omega)
      have kb0 : hK H (a0 + (15 + 8 * plN π 0 + 5 * b)) = 106 := (gs _ (by omega)).1.trans Bs.1
      have vbg : ∀ g, 57 ≤ g → g ≤ 70 → hV H (a0 + (15 + 8 * plN π 0 + 5 * b)) g = .int (wOf h a0 (15 + 8 * plN π 0 + 5 * b) g) := fun g h1 h2 => by rw [(gs _ (by omega)).2.2]; exact wOf_e (Bs.2.2.1 g h1 h2)
      have v71 : hV H (a0 + (15 + 8 * plN π 0 + 5 * b)) 71 = .ref (a0 + (15 + 8 * plN π 0 + 5 * b) + 1) := by rw [(gs _ (by omega)).2.2]; exact Bs.2.1
      have kr0 : hK H (a0 + (15 + 8 * plN π 0 + 5 * b) + 1) = 104 := (gs _ (by omega)).1.trans Bs.2.2.2.2.1
      have R3s : R3 H (a0 + (15 + 8 * plN π 0 + 5 * b) + 1) 46 (plI π 7 b) := (R3_R Bs.2.2.2).cg fun x h1 h2 => gs x (by omega)
      have vm : hV H (a0 + (15 + 8 * plN π 0 + 5 * b) + 1) 50 = .int (Int32.ofNat (bR σ b).length) := by
        rw [(gs _ (by omega)).2.2]
        have := wOf_e (h := h) (a := a0) (k := 15 + 8 * plN π 0 + 5 * b + 1) (j := 50) r5
        rw [Cb.2.2.1] at this
        exact this
      have hlen := ob.2.1 hbB
      have c14 : hK H (a + 14) = 13 := i4.2.2.2.2.1.2.1
      have l14 : hL H (a + 14) = plN π 1 := i4.2.2.2.2.1.2.2
      have t38 : hV H a 38 = .ref (a + 14) := i4.2.2.2.2.1.1
      have ka : hK H a = 103 := i4.1.2.1
      have kN : hN H = a + (15 + 8 * plN π 0 + 5 * b) := i1
      simp (disch := first | assumption | omega | decide | (refine Eq.trans (hK_X _) ?_; assumption) | fail) only [gB, I_all, zK_v, zK_n, true_and, and_true, Nat.reduceAdd, Nat.reduceMul, Nat.reduceSub, z_lt, z_le, z_neq, not_false_eq_true, or_true, true_or, or_false, false_or, false_and, and_false, gX3_copy_h]
      simp (disch := first | assumption | omega | decide | (refine Eq.trans (hK_X _) ?_; assumption) | fail) only [gB, I_all, zK_v, zK_n, true_and, and_true, Nat.reduceAdd, Nat.reduceMul, Nat.reduceSub, z_lt, z_le, z_neq, not_false_eq_true, or_true, true_or, or_false, false_or, false_and, and_false, gX3_copy_1, gX3_copy_2, SF, za, ka, t38, c14, l14, kb0]
      refine e6_copy (κ := κ) (h := H) (b0 := a0 + (15 + 8 * plN π 0 + 5 * b)) (m := (bR σ b).length) (n := plI π 7 b) (c := plI π 7 b) kb0 vbg (Cb.1.2.1.trans s7) (by omega) v71 kr0 R3s vm hlen hlen (by rw [Cb.2.1.2.2.2.2.2.2.2.2.2.1]; exact vb.1) (by rw [Cb.2.1.2.2.2.2.2.2.2.2.2.2]; exact vb.2) (by omega) (by omega) fun h2 g2 n2 u2 k2 v2 w71 kr2 R2 m2 a2 => ?_
      rw [kN] at g2 n2 k2 v2 w71 kr2 R2 m2 a2
      rw [kN]
      -- the new bus
      have Bn : BSh h2 a (15 + 8 * plN π 0 + 5 * (b + 1)) (15 + 8 * plN π 0 + 5 * b) (plI π 7 b) := by
        refine ⟨k2, w71, fun g h1 h3 => ⟨_, v2 g h1 h3⟩, by omega, kr2, ⟨R2.1 1 (by omega) (by omega), R2.1 2 (by omega) (by omega), R2.1 3 (by omega) (by omega), ⟨_, m2⟩⟩, fun i h1 h3 => ?_⟩
        have := R2.2 i h1 h3
        rw [show a + (15 + 8 * plN π 0 + 5 * b) + 1 + i = a + (15 + 8 * plN π 0 + 5 * b + 1 + i) by omega] at this
        exact this
      have i4' := FSh_up i4 (g2.sub (Nat.le_refl _) (by omega)) Bn hct
      obtain ⟨H3, hH3⟩ : ∃ H3, H3 = hW h2 (a + 14) b (.ref (a + (15 + 8 * plN π 0 + 5 * b))) := ⟨_, rfl⟩
      rw [← hH3] at i4'
      have o3 : ∀ x, x < a + (15 + 8 * plN π 0 + 5 * b) → x ≠ a + 14 → ∀ j, hV H3 x j = hV H x j := fun x h1 h3 j => by rw [hH3, hV_Wn h3]; exact (g2 x (by omega) (by omega)).2.2 j
      have o3' : ∀ x, a + (15 + 8 * plN π 0 + 5 * b) ≤ x → ∀ j, hV H3 x j = hV h2 x j := fun x h1 j => by rw [hH3, hV_Wn (by omega)]
      have e3 : ∀ k j, k < 15 + 8 * plN π 0 + 5 * b → k ≠ 14 → wOf H3 a k j = wOf H a k j := fun k j h1 h3 => by
        unfold wOf
        rw [o3 _ (by omega) (by omega)]
      have Bc : BC π (wOf H3 a) (15 + 8 * plN π 0 + 5 * b) b (sB σ b) := by
        have eg : ∀ g, 57 ≤ g → g ≤ 70 → wOf H3 a (15 + 8 * plN π 0 + 5 * b) g = wOf h a0 (15 + 8 * plN π 0 + 5 * b) g := fun g h1 h3 => wOf_i (by rw [o3' _ (by omega)]; exact v2 g h1 h3)
        obtain ⟨⟨b1, b2, b3⟩, ⟨d1, d2, d3, d4, d5, d6, d7, d8, d9, d10, d11⟩, d12⟩ := Cb
        refine ⟨⟨(eg _ (by omega) (by omega)).trans b1, (eg _ (by omega) (by omega)).trans b2, (eg _ (by omega) (by omega)).trans b3⟩, ⟨(eg _ (by omega) (by omega)).trans d1, (eg _ (by omega) (by omega)).trans d2, (eg _ (by omega) (by omega)).trans d3, (eg _ (by omega) (by omega)).trans d4, (eg _ (by omega) (by omega)).trans d5, (eg _ (by omega) (by omega)).trans d6, (eg _ (by omega) (by omega)).trans d7, (eg _ (by omega) (by omega)).trans d8, (eg _ (by omega) (by omega)).trans d9, (eg _ (by omega) (by omega)).trans d10, (eg _ (by omega) (by omega)).trans d11⟩, d12.cw ?_ fun i j h1 h3 h4 => ?_⟩
        · rw [d12.1]
          exact wOf_i (by rw [o3' _ (by omega)]; exact m2)
        · refine wOf_i ?_
          rw [o3' _ (by omega), show a + (15 + 8 * plN π 0 + 5 * b + 1 + i) = a + (15 + 8 * plN π 0 + 5 * b) + 1 + i by omega, a2 i h1 h3 j h4, show a0 + (15 + 8 * plN π 0 + 5 * b) + 1 + i = a0 + (15 + 8 * plN π 0 + 5 * b + 1 + i) by omega, (gs _ (by omega)).2.2]
          exact wOf_e ((r6 i h1 h3).2.2 j)
      have i6' : ∀ b', b' < b + 1 → BC π (wOf H3 a) (15 + 8 * plN π 0 + 5 * b') b' (sB σ b') := fun b' hb' => by
        by_cases c : b' = b
        · subst c; exact Bc
        · exact (i6 b' (by omega)).cg fun k j h1 h3 => e3 k j (by omega) (by omega)
      have TB3 : TB (wOf H3 a) (plN π 0) (b + 1) σ := fun x hx => ⟨(i6' x hx).2.1.2.2.1, (i6' x hx).1.1⟩
      have Zq := FSh_ZQ i4' (by omega)
      obtain ⟨f3, hf3⟩ : ∃ f3 : Nat → Value, f3 = fun j => hV H3 (a + 6) j := ⟨_, rfl⟩
      have eH3 : H3 = hX (hQ H3 a f3) a (15 + 8 * plN π 0 + 5 * (b + 1)) (wOf H3 a) (sOf H3 a) := by rw [hf3, hQ_self, hX_of]
      have qi : QI (plN π 0) σ a f3 (wOf H3 a) b (fun x => x < b) := by
        obtain ⟨q1, F', q2, q3⟩ := i7
        exact ⟨(e3 5 171 (by omega) (by omega)).trans q1, F', fun i hi => by rw [hf3]; exact (o3 _ (by omega) (by omega) i).trans (q2 i hi), q3⟩
      have ka2 : hK h2 a = 103 := (g2 a (by omega) (by omega)).1.trans ka
      have k142 : hK h2 (a + 14) = 13 := (g2 _ (by omega) (by omega)).1.trans c14
      have l142 : hL h2 (a + 14) = plN π 1 := (g2 _ (by omega) (by omega)).2.1.trans l14
      have ka3 : hK H3 a = 103 := i4'.1.2.1
      have t39 : hV H3 a 39 = .ref (a + 5) := i4'.2.2.2.1.1
      have t383 : hV H3 a 38 = .ref (a + 14) := i4'.2.2.2.2.1.1
      have k143 : hK H3 (a + 14) = 13 := i4'.2.2.2.2.1.2.1
      have l143 : hL H3 (a + 14) = plN π 1 := i4'.2.2.2.2.1.2.2
      have tb : hV H3 (a + 14) b = .ref (a + (15 + 8 * plN π 0 + 5 * b)) := (i4'.2.2.2.2.2.2 b (by omega)).1
      have k5 : hK H3 (a + 5) = 131 := i4'.2.2.2.1.2.1
      have hB14 : kB κ ≤ a + 14 := by omega
      have fin : Ev κ mJ19_add [.ref (a + 5), .ref (a + (15 + 8 * plN π 0 + 5 * b))] H3 (zK κ mX3_copy 211 3 [some (.ref a0), some (.ref a), some (.int (Int32.ofNat b))] [] Q) := by
        have ead := e19_add (κ := κ) (h := H3) (f := f3) (SM := sOf H3 a) (x := b) (Q := zK κ mX3_copy 211 3 [some (.ref a0), some (.ref a), some (.int (Int32.ofNat b))] [] Q) Zq TB3 (by omega) (Nat.le_refl _) qi (fun y hy => by omega) (by omega) (fun f' W' d' q' => by
          obtain ⟨H4, hH4⟩ : ∃ H4, H4 = hX (hQ H3 a f') a (15 + 8 * plN π 0 + 5 * (b + 1)) W' (sOf H3 a) := ⟨_, rfl⟩
          have kH4 : ∀ x, hK H4 x = hK H3 x := fun x => by rw [hH4]; rfl
          have lH4 : ∀ x, hL H4 x = hL H3 x := fun x => by rw [hH4]; rfl
          have v4 : ∀ k j, k < 15 + 8 * plN π 0 + 5 * (b + 1) → k ≠ 5 → k ≠ 6 → hV H4 (a + k) j = hV H3 (a + k) j := fun k j h1 h5 h6 => by
            have e1 : hV (hQ H3 a f') (a + k) j = hV H3 (a + k) j := hQ_Vn (by omega) j
            rw [hH4, hV_Xv h1, e1, d' k j h5]
            unfold wOf sOf
            generalize hV H3 (a + k) j = v
            cases v <;> rfl
          have v4o : ∀ x j, x < a → hV H4 x j = hV H3 x j := fun x j hx => by rw [hH4, hV_Xo (by omega), hQ_Vn (by omega)]
          have e4 : ∀ k j, k < 15 + 8 * plN π 0 + 5 * (b + 1) → k ≠ 5 → k ≠ 6 → wOf H4 a k j = wOf H3 a k j := fun k j h1 h5 h6 => by
            unfold wOf
            rw [v4 k j h1 h5 h6]
          have Z4 : FSh κ H4 a p (plN π 0) (plN π 1) (b + 1) (plI π 7) := by
            rw [hH4]
            exact FSh_X (FSh_q i4' f') rfl
          have hI : K2 κ H1 H4 a p π σ (b + 1) := by
            refine ⟨⟨by rw [hH4]; show hN H3 = _; rw [hH3, hN_W, n2]; omega, ?_⟩, fun x h1 h2 h3 h4 => ?_, Z4, fun s hs => ?_, fun b' hb' => (i6' b' hb').cg fun k j h1 h3 => e4 k j (by omega) (by omega) (by omega), ?_⟩
            · rw [hH4]
              show hU H3 ≤ _
              rw [hH3, hU_W, u2]
              have c6 : cN 6 = 15 := rfl
              have c4 : cN 4 = 4 := rfl
              rw [c6, c4]
              omega
            · obtain ⟨y1, y2, y3⟩ := i3 x h1 h2 h3 h4
              obtain ⟨x1, x2, x3⟩ := g2 x (by omega) (by omega)
              refine ⟨(kH4 x).trans (by rw [hH3, hK_W, x1, y1]), (lH4 x).trans (by rw [hH3, hL_W, x2, y2]), fun j => ?_⟩
              by_cases c : x < a
              · rw [v4o x j c, o3 x (by omega) h4, y3]
              · obtain ⟨k, rfl⟩ : ∃ k, x = a + k := ⟨x - a, by omega⟩
                rw [v4 k j (by omega) (by omega) (by omega), o3 _ (by omega) h4, y3]
            · obtain ⟨q1, q2⟩ := i5 s hs
              exact ⟨q1.cg fun k j h1 h3 => (e4 k j (by omega) (by omega) (by omega)).trans (e3 k j (by omega) (by omega)), q2.cg fun k j h1 h3 => (e4 k j (by omega) (by omega) (by omega)).trans (e3 k j (by omega) (by omega))⟩
            · obtain ⟨q1, F', q2, q3, q4⟩ := q'
              refine ⟨?_, F', fun i hi => ?_, QP_cg q3 fun x => ⟨fun y => by omega, fun y => by omega⟩, q4⟩
              · rw [hH4, wOf_X (by omega) (Or.inl (by rw [hQ_Vn (by omega)]; exact i4'.2.2.2.1.2.2.2.2.1))]
                exact q1
              · rw [hH4]
                exact hV_Xr (by omega) ((hQ_V i).trans (q2 i hi))
          have i1' := ih (b + 1) H4 (by omega) hI
          rw [← hH4]
          simp (disch := first | assumption | omega | decide | (refine Eq.trans (hK_X _) ?_; assumption) | fail) only [gB, I_all, zK_v, zK_n, true_and, and_true, Nat.reduceAdd, Nat.reduceMul, Nat.reduceSub, z_lt, z_le, z_neq, not_false_eq_true, or_true, true_or, or_false, false_or, false_and, and_false, gX3_copy_1, gX3_copy_2]
          exact i1')
        rw [← eH3] at ead
        exact ead
      simp (disch := first | assumption | omega | decide | (refine Eq.trans (hK_X _) ?_; assumption) | fail) only [gB, I_all, zK_v, zK_n, true_and, and_true, Nat.reduceAdd, Nat.reduceMul, Nat.reduceSub, z_lt, z_le, z_neq, not_false_eq_true, or_true, true_or, or_false, false_or, false_and, and_false, gX3_copy_1, gX3_copy_2, ka2, k142, l142, k2, zr, hB14]
      rw [← hH3]
      simp (disch := first | assumption | omega | decide | (refine Eq.trans (hK_X _) ?_; assumption) | fail) only [gB, I_all, zK_v, zK_n, true_and, and_true, Nat.reduceAdd, Nat.reduceMul, Nat.reduceSub, z_lt, z_le, z_neq, not_false_eq_true, or_true, true_or, or_false, false_or, false_and, and_false, gX3_copy_1, gX3_copy_2, ka3, t39, t383, k143, l143, tb, k5]
      exact fin
  exact lp (plN π 1) 0 H1 (by omega) I1
end
