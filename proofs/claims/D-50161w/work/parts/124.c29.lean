/-! the component: a state copied -/
section
variable {κ : zC} {h h' H : zH} {a a0 p q0 q S B n : Nat} {π : Pl} {A : Nat → Nat → Nat} {Q : zQ} {σ : Sg} {W : Nat → Nat → Int32} {SM : Nat → Nat → Int64}
theorem R3_R {K cap : Nat} (R : RSh h a n K cap) : R3 h (a + K) 46 cap := by
  obtain ⟨s0, s1, ⟨s2, s3, s4, s5⟩, s6⟩ := R
  refine ⟨fun i h1 h2 => ?_, fun i h1 h2 => by rw [Nat.add_assoc]; exact s6 i h1 h2⟩
  have hi : i = 1 ∨ i = 2 ∨ i = 3 := by omega
  rcases hi with rfl | rfl | rfl
  · exact s2
  · exact s3
  · exact s4
theorem R3_L {K : Nat} (R : LSh h a n K) : R3 h (a + K) 50 8 := by
  obtain ⟨s0, s1, ⟨s2, s3, s4, -⟩, s6⟩ := R
  refine ⟨fun i h1 h2 => ?_, fun i h1 h2 => by rw [Nat.add_assoc]; exact s6 i h1 h2⟩
  have hi : i = 1 ∨ i = 2 ∨ i = 3 := by omega
  rcases hi with rfl | rfl | rfl
  · exact s2
  · exact s3
  · exact s4
theorem R3.cg {r g cap : Nat} (R : R3 h r g cap) (e : Ag h h' r (r + 4)) : R3 h' r g cap :=
  ⟨fun i h1 h2 => ((e r (by omega) (by omega)).2.2 _).trans (R.1 i h1 h2), fun i h1 h2 => by
    obtain ⟨e1, e2, e3⟩ := e (r + i) (by omega) (by omega)
    exact ⟨e1.trans (R.2 i h1 h2).1, e2.trans (R.2 i h1 h2).2.1, fun j => by rw [e3]; exact (R.2 i h1 h2).2.2 j⟩⟩
theorem RC.cw {V : Nat → Nat → Int32} {K : Nat} {l : List Rd} (R : RC V K l) (e0 : W K 50 = V K 50) (e : ∀ i j, 1 ≤ i → i ≤ 3 → j < l.length → W (K + i) j = V (K + i) j) : RC W K l :=
  ⟨e0.trans R.1, fun i r hi => by
    have hl := (List.getElem?_eq_some_iff.mp hi).1
    exact ⟨(e 1 i (by omega) (by omega) hl).trans (R.2 i r hi).1, (e 2 i (by omega) (by omega) hl).trans (R.2 i r hi).2.1, (e 3 i (by omega) (by omega) hl).trans (R.2 i r hi).2.2⟩⟩
theorem LC.cw {V : Nat → Nat → Int32} {K : Nat} {l : List Lv} {al la : Int32} (R : LC V K l al la) (hl : l.length ≤ 8) (e0 : ∀ g, 54 ≤ g → g ≤ 56 → W K g = V K g) (e : ∀ i j, 1 ≤ i → i ≤ 3 → j < 8 → W (K + i) j = V (K + i) j) : LC W K l al la :=
  ⟨(e0 _ (by omega) (by omega)).trans R.1, (e0 _ (by omega) (by omega)).trans R.2.1, (e0 _ (by omega) (by omega)).trans R.2.2.1, fun i r hi => by
    have hl2 := (List.getElem?_eq_some_iff.mp hi).1
    rw [List.length_reverse] at hl2
    exact ⟨(e 1 i (by omega) (by omega) (by omega)).trans (R.2.2.2 i r hi).1, (e 2 i (by omega) (by omega) (by omega)).trans (R.2.2.2 i r hi).2.1, (e 3 i (by omega) (by omega) (by omega)).trans (R.2.2.2 i r hi).2.2⟩⟩
/-- the first loop: rows and leavings copied -/
def K1 (κ : zC) (h H1 H : zH) (a p : Nat) (π : Pl) (σ : Sg) (s : Nat) : Prop := (hN H = hN H1 ∧ hU H = hU H1) ∧ (∀ x, x < a + 15 → hK H x = hK H1 x ∧ hL H x = hL H1 x ∧ ∀ j, hV H x j = hV H1 x j) ∧ FSh κ H a p (plN π 0) (plN π 1) 0 (plI π 7) ∧
  ∀ s', s' < s → RC (wOf H a) (15 + 8 * s') (sR σ s') ∧ LC (wOf H a) (19 + 8 * s') (sL σ s') (sN σ (43 + s')) (sN σ (33 + s'))
theorem e3_cp1 {H1 : zH} (Z : SAt κ h a0 p π A q0 q σ) (OK : sOk π σ) (ha : a0 + (15 + 8 * plN π 0 + 5 * plN π 1) ≤ a) (g1 : Ag h H1 0 a) (F1 : FSh κ H1 a p (plN π 0) (plN π 1) 0 (plI π 7))
    (hq : ∀ H, K1 κ h H1 H a p π σ (plN π 0) → Go κ mX3_copy 177 [some (.ref a0), some (.ref a), some (.int (Int32.ofNat 0))] [] H Q) : Go κ mX3_copy 131 [some (.ref a0), some (.ref a), some (.int (Int32.ofNat 0))] [] H1 Q := by
  obtain ⟨⟨Zc, P, O, hq0, hn, hkb⟩, C, -⟩ := Z
  have h10 := O.1.2
  have hB : kB κ ≤ a := F1.1.1
  have lp : ∀ d s H, s + d = plN π 0 → K1 κ h H1 H a p π σ s → Go κ mX3_copy 131 [some (.ref a0), some (.ref a), some (.int (Int32.ofNat s))] [] H Q := by
    intro d
    induction d with
    | zero =>
      intro s H hs I
      have hs' : s = plN π 0 := by omega
      subst hs'
      have I0 := I
      obtain ⟨⟨i1, i2⟩, i3, i4, i5⟩ := I
      have gH : Ag h H 0 a := g1.trans fun x _ hx => i3 x (by omega)
      have SF := srcF Zc (gH.sub (Nat.zero_le _) ha)
      have es : ∀ (Q : zQ), Ev κ mX3_stops [.ref a0] H Q = Q (.inl (some (.int (Int32.ofNat (plN π 0))))) H := fun Q => by
        have := e3_stops (κ := κ) (W := wOf H a0) (SM := sOf H a0) (Q := Q) (A := A) (q0 := q0) (q := q) ⟨Zc.cg (gH.sub (Nat.zero_le _) ha), P.cg (gH.sub (Nat.zero_le _) (by omega)), O, hq0, rfl, hkb⟩
        rw [hX_of] at this
        exact this
      have hf := hq H I0
      simp (disch := first | assumption | omega | decide | (refine Eq.trans (hK_X _) ?_; assumption) | fail) only [gB, I_all, zK_v, zK_n, true_and, and_true, Nat.reduceAdd, Nat.reduceMul, Nat.reduceSub, z_lt, z_le, z_neq, not_false_eq_true, or_true, true_or, or_false, false_or, false_and, and_false, gX3_copy_h]
      simp (disch := first | assumption | omega | decide | (refine Eq.trans (hK_X _) ?_; assumption) | fail) only [gB, I_all, zK_v, zK_n, true_and, and_true, Nat.reduceAdd, Nat.reduceMul, Nat.reduceSub, z_lt, z_le, z_neq, not_false_eq_true, or_true, true_or, or_false, false_or, false_and, and_false, gX3_copy_1, gX3_copy_2, SF, es]
      exact hf
    | succ d ih =>
      intro s H hs I
      have I0 := I
      obtain ⟨⟨i1, i2⟩, i3, i4, i5⟩ := I
      have hsS : s < plN π 0 := by omega
      have gH : Ag h H 0 a := g1.trans fun x _ hx => i3 x (by omega)
      have SF := srcF Zc (gH.sub (Nat.zero_le _) ha)
      have es : ∀ (Q : zQ), Ev κ mX3_stops [.ref a0] H Q = Q (.inl (some (.int (Int32.ofNat (plN π 0))))) H := fun Q => by
        have := e3_stops (κ := κ) (W := wOf H a0) (SM := sOf H a0) (Q := Q) (A := A) (q0 := q0) (q := q) ⟨Zc.cg (gH.sub (Nat.zero_le _) ha), P.cg (gH.sub (Nat.zero_le _) (by omega)), O, hq0, rfl, hkb⟩
        rw [hX_of] at this
        exact this
      -- the source's row, leavings
      have Rs := cRow Zc rfl hsS
      have Ls := cLv Zc rfl hsS
      have Cr := C.2.2.1 s hsS
      have Cl := C.2.2.2.1 s hsS
      have ok := OK.1 s (by omega)
      have okl := OK.2.1 s (by omega)
      have Rt := fcRow i4 rfl hsS
      have Lt := fcLv i4 rfl hsS
      have t1 := i4.2.2.2.2.2.1 s hsS
      have tv36 : hV H a 36 = .ref (a + 3) := (i4.2.1 (3, 36, 11, 10) (by decide)).1
      have tv37 : hV H a 37 = .ref (a + 4) := (i4.2.1 (4, 37, 12, 10) (by decide)).1
      have tk3 : hK H (a + 3) = 11 := (i4.2.1 (3, 36, 11, 10) (by decide)).2.1
      have tl3 : hL H (a + 3) = 10 := (i4.2.1 (3, 36, 11, 10) (by decide)).2.2
      have tk4 : hK H (a + 4) = 12 := (i4.2.1 (4, 37, 12, 10) (by decide)).2.1
      have tl4 : hL H (a + 4) = 10 := (i4.2.1 (4, 37, 12, 10) (by decide)).2.2
      have gs : ∀ x, x < a → hK H x = hK h x ∧ hL H x = hL h x ∧ ∀ j, hV H x j = hV h x j := fun x hx => gH x (Nat.zero_le _) hx
      have ks : hK H (a0 + (15 + 8 * s)) = 104 := (gs _ (by omega)).1.trans Rs.2.1
      have R3s : R3 H (a0 + (15 + 8 * s)) 46 40 := (R3_R Rs).cg fun x h1 h2 => gs x (by omega)
      have vs50 : hV H (a0 + (15 + 8 * s)) 50 = .int (Int32.ofNat (sR σ s).length) := by rw [(gs _ (by omega)).2.2, wOf_e Rs.2.2.1.2.2.2, Cr.1]
      have ec := fun (Q : zQ) => e4_copyTo (κ := κ) (h := H) (Q := Q) (s := a0 + (15 + 8 * s)) (t := a + (15 + 8 * s)) (m := (sR σ s).length) (c := 40) (c' := 40) ks R3s vs50 Rt.2.1 (R3_R Rt) ok.1 ok.1 (by omega) (by omega) (Or.inl (by omega))
      obtain ⟨H2, hH2⟩ : ∃ H2, H2 = rc H (a0 + (15 + 8 * s)) (a + (15 + 8 * s)) (sR σ s).length := ⟨_, rfl⟩
      rw [← hH2] at ec
      have o2 : ∀ x, (x < a + (15 + 8 * s) ∨ a + (19 + 8 * s) ≤ x) → ∀ j, hV H2 x j = hV H x j := fun x hx j => by rw [hH2]; exact rc_o (by omega) j
      have k2 : ∀ x, hK H2 x = hK H x := fun x => by rw [hH2]; rfl
      have l2 : ∀ x, hL H2 x = hL H x := fun x => by rw [hH2]; rfl
      -- leavings
      have gs2 : ∀ x, x < a → hK H2 x = hK h x ∧ hL H2 x = hL h x ∧ ∀ j, hV H2 x j = hV h x j := fun x hx => ⟨(k2 x).trans (gs x hx).1, (l2 x).trans (gs x hx).2.1, fun j => (o2 x (by omega) j).trans ((gs x hx).2.2 j)⟩
      have kls : hK H2 (a0 + (19 + 8 * s)) = 105 := (gs2 _ (by omega)).1.trans Ls.2.1
      have L3s : R3 H2 (a0 + (19 + 8 * s)) 50 8 := (R3_L Ls).cg fun x h1 h2 => gs2 x (by omega)
      have v4 : hV H2 (a0 + (19 + 8 * s)) 54 = .int (wOf h a0 (19 + 8 * s) 54) := by rw [(gs2 _ (by omega)).2.2, wOf_e Ls.2.2.1.2.2.2.1]
      have v5 : hV H2 (a0 + (19 + 8 * s)) 55 = .int (wOf h a0 (19 + 8 * s) 55) := by rw [(gs2 _ (by omega)).2.2, wOf_e Ls.2.2.1.2.2.2.2.1]
      have v6 : hV H2 (a0 + (19 + 8 * s)) 56 = .int (wOf h a0 (19 + 8 * s) 56) := by rw [(gs2 _ (by omega)).2.2, wOf_e Ls.2.2.1.2.2.2.2.2]
      have klt : hK H2 (a + (19 + 8 * s)) = 105 := (k2 _).trans Lt.2.1
      have L3t : R3 H2 (a + (19 + 8 * s)) 50 8 := (R3_L Lt).cg fun x h1 h2 => ⟨k2 x, l2 x, fun j => o2 x (by omega) j⟩
      have ed := fun (Q : zQ) => e5_copyTo (κ := κ) (h := H2) (Q := Q) kls L3s v4 v5 v6 klt L3t (by omega) (Or.inl (by omega))
      obtain ⟨H3, hH3⟩ : ∃ H3, H3 = lc H2 (a0 + (19 + 8 * s)) (a + (19 + 8 * s)) (wOf h a0 (19 + 8 * s) 54) (wOf h a0 (19 + 8 * s) 55) (wOf h a0 (19 + 8 * s) 56) := ⟨_, rfl⟩
      rw [← hH3] at ed
      have o3 : ∀ x, (x < a + (19 + 8 * s) ∨ a + (23 + 8 * s) ≤ x) → ∀ j, hV H3 x j = hV H2 x j := fun x hx j => by rw [hH3]; exact lc_o (by omega) j
      have k3 : ∀ x, hK H3 x = hK H2 x := fun x => by rw [hH3]; rfl
      have l3 : ∀ x, hL H3 x = hL H2 x := fun x => by rw [hH3]; rfl
      have o13 : ∀ x, (x < a + (15 + 8 * s) ∨ a + (23 + 8 * s) ≤ x) → hK H3 x = hK H x ∧ hL H3 x = hL H x ∧ ∀ j, hV H3 x j = hV H x j := fun x hx => ⟨(k3 x).trans (k2 x), (l3 x).trans (l2 x), fun j => (o3 x (by omega) j).trans (o2 x (by omega) j)⟩
      have rsh : RSh H3 a (15 + 8 * plN π 0 + 5 * 0) (15 + 8 * s) 40 := by
        obtain ⟨s0, s1, ⟨s2, s3, s4, s5⟩, s6⟩ := Rt
        have e47 : ∀ j, j ≠ 50 → hV H3 (a + (15 + 8 * s)) j = hV H (a + (15 + 8 * s)) j := fun j hj => by rw [o3 _ (by omega), hH2, rc_t, if_neg hj]
        refine ⟨s0, (k3 _).trans ((k2 _).trans s1), ⟨(e47 _ (by omega)).trans s2, (e47 _ (by omega)).trans s3, (e47 _ (by omega)).trans s4, ⟨_, by rw [o3 _ (by omega), hH2, rc_t, if_pos rfl]⟩⟩, fun i h1 h2 => ⟨(k3 _).trans ((k2 _).trans (s6 i h1 h2).1), (l3 _).trans ((l2 _).trans (s6 i h1 h2).2.1), fun j => ?_⟩⟩
        rw [o3 _ (by omega), hH2, ← Nat.add_assoc a (15 + 8 * s) i, rc_i h1 h2 (Or.inl (by omega))]
        split
        · exact (R3s.2 i h1 h2).2.2 j
        · rw [Nat.add_assoc a]; exact (s6 i h1 h2).2.2 j
      have lsh : LSh H3 a (15 + 8 * plN π 0 + 5 * 0) (19 + 8 * s) := by
        obtain ⟨s0, s1, ⟨s2, s3, s4, s5, s7, s8⟩, s6⟩ := Lt
        have e47 : ∀ j, j ≠ 54 → j ≠ 55 → j ≠ 56 → hV H3 (a + (19 + 8 * s)) j = hV H (a + (19 + 8 * s)) j := fun j h4 h5 h6 => by rw [hH3, lc_t, if_neg h6, if_neg h5, if_neg h4, o2 _ (by omega)]
        refine ⟨s0, (k3 _).trans ((k2 _).trans s1), ⟨(e47 _ (by omega) (by omega) (by omega)).trans s2, (e47 _ (by omega) (by omega) (by omega)).trans s3, (e47 _ (by omega) (by omega) (by omega)).trans s4, ⟨wOf h a0 (19 + 8 * s) 54, by rw [hH3, lc_t]; rfl⟩, ⟨wOf h a0 (19 + 8 * s) 55, by rw [hH3, lc_t]; rfl⟩, ⟨wOf h a0 (19 + 8 * s) 56, by rw [hH3, lc_t]; rfl⟩⟩, fun i h1 h2 => ⟨(k3 _).trans ((k2 _).trans (s6 i h1 h2).1), (l3 _).trans ((l2 _).trans (s6 i h1 h2).2.1), fun j => ?_⟩⟩
        rw [hH3, ← Nat.add_assoc a (19 + 8 * s) i, lc_i h1 h2 (Or.inl (by omega))]
        split
        · exact (L3s.2 i h1 h2).2.2 j
        · exact (L3t.2 i h1 h2).2.2 j
      have hI : K1 κ h H1 H3 a p π σ (s + 1) := by
        refine ⟨⟨by rw [hH3, lc_N, hH2, rc_N, i1], by rw [hH3, lc_U, hH2, rc_U, i2]⟩, fun x hx => ?_, i4.cg (fun k hk => ⟨(o13 _ (by omega)).1, (o13 _ (by omega)).2.1⟩) (fun k j hk _ => (o13 _ (by omega)).2.2 j) (fun s' hs' => ?_) (fun b hb => absurd hb (Nat.not_lt_zero _)), fun s' hs' => ?_⟩
        · obtain ⟨x1, x2, x3⟩ := o13 x (by omega)
          obtain ⟨y1, y2, y3⟩ := i3 x hx
          exact ⟨x1.trans y1, x2.trans y2, fun j => (x3 j).trans (y3 j)⟩
        · by_cases c : s' = s
          · subst c; exact ⟨rsh, lsh⟩
          · have ag : ∀ lo, (15 + 8 * s' ≤ lo ∧ lo + 4 ≤ 23 + 8 * s') → Ag H H3 (a + lo) (a + (lo + 4)) := fun lo hlo x h1 h2 => o13 x (by omega)
            exact ⟨(fcRow i4 rfl hs').cg (ag _ (by omega)) (by omega), (fcLv i4 rfl hs').cg (ag _ (by omega)) (by omega)⟩
        · by_cases c : s' = s
          · subst c
            refine ⟨Cr.cw ?_ fun i j h1 h2 h3 => ?_, Cl.cw okl.1 (fun g h1 h2 => ?_) fun i j h1 h2 h3 => ?_⟩
            · rw [Cr.1]
              refine wOf_i ?_
              rw [o3 _ (by omega), hH2, rc_t, if_pos rfl]
            · refine wOf_i ?_
              rw [o3 _ (by omega), hH2, ← Nat.add_assoc a (15 + 8 * s') i, rc_i h1 h2 (Or.inl (by omega)), if_pos h3, (gs _ (by omega)).2.2, Nat.add_assoc a0]
              exact wOf_e ((Rs.2.2.2 i h1 h2).2.2 j)
            · refine wOf_i ?_
              rw [hH3, lc_t]
              have gi : g = 54 ∨ g = 55 ∨ g = 56 := by omega
              rcases gi with rfl | rfl | rfl <;> rfl
            · refine wOf_i ?_
              rw [hH3, ← Nat.add_assoc a (19 + 8 * s') i, lc_i h1 h2 (Or.inl (by omega)), if_pos h3, (gs2 _ (by omega)).2.2, Nat.add_assoc a0]
              exact wOf_e ((Ls.2.2.2 i h1 h2).2.2 j)
          · obtain ⟨r1, r2⟩ := i5 s' (by omega)
            have eW : ∀ k j, 15 + 8 * s' ≤ k → k < 23 + 8 * s' → wOf H3 a k j = wOf H a k j := fun k j h1 h2 => by
              unfold wOf
              rw [(o13 _ (by omega)).2.2]
            exact ⟨r1.cg fun k j h1 h2 => eW k j (by omega) (by omega), r2.cg fun k j h1 h2 => eW k j (by omega) (by omega)⟩
      have i1' := ih (s + 1) H3 (by omega) hI
      have ka : hK H a = 103 := i4.1.2.1
      have ka2 : hK H2 a = 103 := (k2 a).trans ka
      have kt4 : hK H (a + (15 + 8 * s)) = 104 := Rt.2.1
      have SF2 := srcF Zc (H := H2) fun x h1 h2 => gs2 x (by omega)
      have t37 : hV H2 a 37 = .ref (a + 4) := (o2 a (by omega) 37).trans tv37
      have tk42 : hK H2 (a + 4) = 12 := (k2 _).trans tk4
      have tl42 : hL H2 (a + 4) = 10 := (l2 _).trans tl4
      have t42 : hV H2 (a + 4) s = .ref (a + (19 + 8 * s)) := (o2 _ (by omega) s).trans t1.2.1
      have t31 := t1.1
      simp (disch := first | assumption | omega | decide | (refine Eq.trans (hK_X _) ?_; assumption) | fail) only [gB, I_all, zK_v, zK_n, true_and, and_true, Nat.reduceAdd, Nat.reduceMul, Nat.reduceSub, z_lt, z_le, z_neq, not_false_eq_true, or_true, true_or, or_false, false_or, false_and, and_false, gX3_copy_h]
      simp (disch := first | assumption | omega | decide | (refine Eq.trans (hK_X _) ?_; assumption) | fail) only [gB, I_all, zK_v, zK_n, true_and, and_true, Nat.reduceAdd, Nat.reduceMul, Nat.reduceSub, z_lt, z_le, z_neq, not_false_eq_true, or_true, true_or, or_false, false_or, false_and, and_false, gX3_copy_1, gX3_copy_2, SF, es, ka, tv36, tk3, tl3, t31, ks, kt4, ec, SF2, ka2, t37, tk42, tl42, t42, kls, klt, ed]
      exact i1'
  exact lp (plN π 0) 0 H1 (by omega) ⟨⟨rfl, rfl⟩, fun x _ => ⟨rfl, rfl, fun _ => rfl⟩, F1, fun s' hs' => absurd hs' (Nat.not_lt_zero _)⟩
end
