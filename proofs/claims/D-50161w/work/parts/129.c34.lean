/-! the component: the state at a plan's start, whole -/
section
variable {κ : zC} {h h' H : zH} {a p q0 q S B n : Nat} {π : Pl} {A : Nat → Nat → Nat} {Q : zQ} {σ : Sg} {W : Nat → Nat → Int32} {SM : Nat → Nat → Int64} {ct : Nat → Nat} {f : Nat → Value}
theorem e6_intValue {r : Nat} {x : Int32} {h : zH} (hk : hK h r = 118) (hv : hV h r 159 = .int x) : Ev κ mJ6_intValue [.ref r] h Q = Q (.inl (some (.int x))) h := by
  simp (disch := first | assumption | omega | decide) only [gB, I_all, zK_v, zK_n, true_and, and_true, Nat.reduceAdd, Nat.reduceMul, Nat.reduceSub, z_lt, z_le, z_neq, not_false_eq_true, or_true, true_or, or_false, false_or, false_and, and_false, gJ6_intValue, hk, hv]
theorem e3_of2 {H1 : zH} {m0 : Int32} {nm : Nat → Int32} {pt : Nat → Bool} (P : PAt h q0 q p π A) (O : pOk π) (hkb : kB κ ≤ q0) (PI : PIn h q0 q p π A m0 nm pt) (IN : Ini π σ m0 nm pt) (hqa : q ≤ a) (g1 : Ag h H1 0 a) (f1 : FV0 H1 a m0 nm pt (plN π 0)) (I1 : K2 κ H1 H1 a p π σ 0)
    (hq : ∀ h', Ag h h' 0 a → hN h' = a + (15 + 8 * plN π 0 + 5 * plN π 1) → hU h' ≤ hU H1 + 2400 → SAt κ h' a p π A q0 q σ → Q (.inl (some (.ref a))) h') : Go κ mX3_of 69 [some (.ref p), some (.ref a), some (.int (Int32.ofNat 0))] [] H1 Q := by
  have h10 := O.1.2
  have h6 := O.2.1.2
  have hB : kB κ ≤ a := I1.2.2.1.1.1
  have hp : p < a := Nat.lt_of_lt_of_le P.1.2.1 hqa
  have za : zArr 13 = true := rfl
  have zr : (zRef 13 = true) = True ∧ (zAss 13 106 = true) = True := ⟨eq_true (by decide), eq_true (by decide)⟩
  have lp : ∀ d b H, b + d = plN π 1 → K2 κ H1 H a p π σ b → Go κ mX3_of 69 [some (.ref p), some (.ref a), some (.int (Int32.ofNat b))] [] H Q := by
    intro d
    induction d with
    | zero =>
      intro b H hs I
      have hs' : b = plN π 1 := by omega
      subst hs'
      refine e3_of3 P O hkb IN hqa g1 f1 I fun h' e1 e2 e3 e4 => hq h' e1 e2 ?_ e4
      have := I.1.2
      omega
    | succ d ih =>
      intro b H hs I
      have I0 := I
      obtain ⟨⟨i1, i2⟩, i3, i4, i5, i6, i7⟩ := I
      have hbB : b < plN π 1 := by omega
      have gH : Ag h H 0 a := g1.trans fun x _ hx => i3 x (by omega) (by omega) (by omega) (by omega)
      have hct : plI π 7 b ≤ 99 := (O.2.2.2.2.1 b hbB).2.2.1
      obtain ⟨s7, s1, s99, -⟩ := O.2.2.2.2.1 b hbB
      obtain ⟨j1, j2, j3, j4, j5, j6⟩ := PI.2.2 b hbB
      have c14 : hK H (a + 14) = 13 := i4.2.2.2.2.1.2.1
      have l14 : hL H (a + 14) = plN π 1 := i4.2.2.2.2.1.2.2
      have t38 : hV H a 38 = .ref (a + 14) := i4.2.2.2.2.1.1
      have ka : hK H a = 103 := i4.1.2.1
      have kN : hN H = a + (15 + 8 * plN π 0 + 5 * b) := i1
      obtain ⟨Hn, hHn⟩ : ∃ Hn, Hn = hA H 106 0 15 gD := ⟨_, rfl⟩
      have gn : Ag H Hn 0 (a + (15 + 8 * plN π 0 + 5 * b)) := by rw [hHn]; exact Ag_A (by omega)
      have ghn : Ag h Hn 0 a := gH.trans (gn.sub (Nat.le_refl _) (by omega))
      have Pn := P.cg (ghn.sub (Nat.zero_le _) hqa)
      have kp : hK Hn p = 101 := Pn.1.2.2.1
      have v12 : hV Hn p 12 = .ref (A 4 1) := Pn.2.2.1.1
      have v13 : hV Hn p 13 = .ref (A 4 2) := Pn.2.2.2.1.1
      have kl1 : hK Hn (A 4 1) = 114 := Pn.2.2.1.2.1.2.2.1
      have kl2 : hK Hn (A 4 2) = 114 := Pn.2.2.2.1.2.1.2.2.1
      have eg1 := fun (Q : zQ) => e2_get (κ := κ) (Q := Q) Pn.2.2.1.2 hbB rfl
      have eg2 := fun (Q : zQ) => e2_get (κ := κ) (Q := Q) Pn.2.2.2.1.2 hbB rfl
      have k5 : hK Hn (A 5 b) = 118 := (ghn _ (by omega) (by omega)).1.trans j2
      have k6 : hK Hn (A 6 b) = 118 := (ghn _ (by omega) (by omega)).1.trans j5
      have ei1 := fun (Q : zQ) => e6_intValue (κ := κ) (Q := Q) (x := Int32.ofNat (plI π 7 b)) k5 (((ghn _ (by omega) (by omega)).2.2 159).trans (j3.trans (congrArg Value.int s7)))
      have ei2 := fun (Q : zQ) => e6_intValue (κ := κ) (Q := Q) k6 (((ghn _ (by omega) (by omega)).2.2 159).trans j6)
      simp (disch := first | assumption | omega | decide | (refine Eq.trans (hK_X _) ?_; assumption) | fail) only [gB, I_all, zK_v, zK_n, true_and, and_true, Nat.reduceAdd, Nat.reduceMul, Nat.reduceSub, z_lt, z_le, z_neq, not_false_eq_true, or_true, true_or, or_false, false_or, false_and, and_false, gX3_of_h]
      simp (disch := first | assumption | omega | decide | (refine Eq.trans (hK_X _) ?_; assumption) | fail) only [gB, I_all, zK_v, zK_n, true_and, and_true, Nat.reduceAdd, Nat.reduceMul, Nat.reduceSub, z_lt, z_le, z_neq, not_false_eq_true, or_true, true_or, or_false, false_or, false_and, and_false, gX3_of, za, ka, t38, c14, l14]
      rw [← hHn, kN]
      simp (disch := first | assumption | omega | decide | (refine Eq.trans (hK_X _) ?_; assumption) | fail) only [gB, I_all, zK_v, zK_n, true_and, and_true, Nat.reduceAdd, Nat.reduceMul, Nat.reduceSub, z_lt, z_le, z_neq, not_false_eq_true, or_true, true_or, or_false, false_or, false_and, and_false, gX3_of, kp, v12, v13, kl1, kl2, eg1, eg2, zCs, k5, k6, ei1, ei2]
      refine e6_init (κ := κ) (r := a + (15 + 8 * plN π 0 + 5 * b)) (by rw [hHn]; exact hK_At kN.symm) (by omega) (by rw [hHn, hN_A, kN]) (by omega) (fun g x1 x2 => ?_) fun h2 g2 n2 u2 k2 v2 w71 FR => ?_
      · rw [hHn, hV_At kN.symm]
        have gi : g = 57 ∨ g = 58 ∨ g = 59 ∨ g = 60 ∨ g = 61 ∨ g = 62 ∨ g = 63 ∨ g = 64 ∨ g = 65 ∨ g = 66 ∨ g = 67 ∨ g = 68 ∨ g = 69 ∨ g = 70 := by omega
        rcases gi with rfl | rfl | rfl | rfl | rfl | rfl | rfl | rfl | rfl | rfl | rfl | rfl | rfl | rfl <;> rfl
      have g2 := gn.trans g2
      -- the new bus
      have Bn : BSh h2 a (15 + 8 * plN π 0 + 5 * (b + 1)) (15 + 8 * plN π 0 + 5 * b) (plI π 7 b) := ⟨k2, w71, fun g h1 h3 => ⟨_, v2 g h1 h3⟩, RSh_F FR (by omega)⟩
      have i4' := FSh_up i4 (g2.sub (Nat.le_refl _) (by omega)) Bn hct
      obtain ⟨H3, hH3⟩ : ∃ H3, H3 = hW h2 (a + 14) b (.ref (a + (15 + 8 * plN π 0 + 5 * b))) := ⟨_, rfl⟩
      rw [← hH3] at i4'
      have o3 : ∀ x, x < a + (15 + 8 * plN π 0 + 5 * b) → x ≠ a + 14 → ∀ j, hV H3 x j = hV H x j := fun x h1 h3 j => by rw [hH3, hV_Wn h3]; exact (g2 x (by omega) (by omega)).2.2 j
      have o3' : ∀ x, a + (15 + 8 * plN π 0 + 5 * b) ≤ x → ∀ j, hV H3 x j = hV h2 x j := fun x h1 j => by rw [hH3, hV_Wn (by omega)]
      have e3 : ∀ k j, k < 15 + 8 * plN π 0 + 5 * b → k ≠ 14 → wOf H3 a k j = wOf H a k j := fun k j h1 h3 => by
        unfold wOf
        rw [o3 _ (by omega) (by omega)]
      have Bc : BC π (wOf H3 a) (15 + 8 * plN π 0 + 5 * b) b (sB σ b) := by
        have eg : ∀ g, 57 ≤ g → g ≤ 70 → wOf H3 a (15 + 8 * plN π 0 + 5 * b) g = bz (Int32.ofNat b) (plI π 7 b) (plT π 8 b) g := fun g h1 h3 => wOf_i (by rw [o3' _ (by omega)]; exact v2 g h1 h3)
        obtain ⟨d0, d1, d2, d3, d4, d5, d6, d7, d8, d9, d10, d11⟩ := IN.2.2.2.2.2.1 b hbB
        have d0' : (sB σ b).2 = [] := d0
        refine ⟨⟨eg 57 (by omega) (by omega), (eg 58 (by omega) (by omega)).trans s7.symm, eg 59 (by omega) (by omega)⟩, ⟨(eg 60 (by omega) (by omega)).trans d1.symm, (eg 61 (by omega) (by omega)).trans d2.symm, (eg 62 (by omega) (by omega)).trans d3.symm, (eg 63 (by omega) (by omega)).trans d4.symm, (eg 64 (by omega) (by omega)).trans d5.symm, (eg 65 (by omega) (by omega)).trans d6.symm, (eg 66 (by omega) (by omega)).trans d7.symm, (eg 67 (by omega) (by omega)).trans d8.symm, (eg 68 (by omega) (by omega)).trans d9.symm, (eg 69 (by omega) (by omega)).trans d10.symm, (eg 70 (by omega) (by omega)).trans d11.symm⟩, ?_, fun i r hr => ?_⟩
        · rw [d0']
          exact wOf_i (by rw [o3' _ (by omega)]; exact FR.2.1.2.2.2)
        · rw [d0'] at hr; cases hr
      have i6' : ∀ b', b' < b + 1 → BC π (wOf H3 a) (15 + 8 * plN π 0 + 5 * b') b' (sB σ b') := fun b' hb' => by
        by_cases c : b' = b
        · subst c; exact Bc
        · exact (i6 b' (by omega)).cg fun k j h1 h3 => e3 k j (by omega) (by omega)
      have TB3 : TB (wOf H3 a) (plN π 0) (b + 1) σ := fun x hx => ⟨(i6' x hx).2.1.2.2.1, (i6' x hx).1.1⟩
      have Zq := FSh_ZQ i4' (by omega)
      obtain ⟨f3, hf3⟩ : ∃ f3 : Nat → Value, f3 = fun j => hV H3 (a + 6) j := ⟨_, rfl⟩
      have eH3 : H3 = hX (hQ H3 a f3) a (15 + 8 * plN π 0 + 5 * (b + 1)) (wOf H3 a) (sOf H3 a) := by rw [hf3, hQ_self, hX_of]
      have qi : QI (plN π 0) σ a f3 (wOf H3 a) b (fun x => x < b) := by
        obtain ⟨q1, F', q2, q3⟩ := i7
        exact ⟨(e3 5 171 (by omega) (by omega)).trans q1, F', fun i hi => by rw [hf3]; exact (o3 _ (by omega) (by omega) i).trans (q2 i hi), q3⟩
      have ka2 : hK h2 a = 103 := (g2 a (by omega) (by omega)).1.trans ka
      have k142 : hK h2 (a + 14) = 13 := (g2 _ (by omega) (by omega)).1.trans c14
      have l142 : hL h2 (a + 14) = plN π 1 := (g2 _ (by omega) (by omega)).2.1.trans l14
      have ka3 : hK H3 a = 103 := i4'.1.2.1
      have t39 : hV H3 a 39 = .ref (a + 5) := i4'.2.2.2.1.1
      have t383 : hV H3 a 38 = .ref (a + 14) := i4'.2.2.2.2.1.1
      have k143 : hK H3 (a + 14) = 13 := i4'.2.2.2.2.1.2.1
      have l143 : hL H3 (a + 14) = plN π 1 := i4'.2.2.2.2.1.2.2
      have tb : hV H3 (a + 14) b = .ref (a + (15 + 8 * plN π 0 + 5 * b)) := (i4'.2.2.2.2.2.2 b (by omega)).1
      have k5' : hK H3 (a + 5) = 131 := i4'.2.2.2.1.2.1
      have hB14 : kB κ ≤ a + 14 := by omega
      have fin : Ev κ mJ19_add [.ref (a + 5), .ref (a + (15 + 8 * plN π 0 + 5 * b))] H3 (zK κ mX3_of 130 3 [some (.ref p), some (.ref a), some (.int (Int32.ofNat b))] [] Q) := by
        have ead := e19_add (κ := κ) (h := H3) (f := f3) (SM := sOf H3 a) (x := b) (Q := zK κ mX3_of 130 3 [some (.ref p), some (.ref a), some (.int (Int32.ofNat b))] [] Q) Zq TB3 (by omega) (Nat.le_refl _) qi (fun y hy => by omega) (by omega) (fun f' W' d' q' => by
          obtain ⟨H4, hH4⟩ : ∃ H4, H4 = hX (hQ H3 a f') a (15 + 8 * plN π 0 + 5 * (b + 1)) W' (sOf H3 a) := ⟨_, rfl⟩
          have kH4 : ∀ x, hK H4 x = hK H3 x := fun x => by rw [hH4]; rfl
          have lH4 : ∀ x, hL H4 x = hL H3 x := fun x => by rw [hH4]; rfl
          have v4 : ∀ k j, k < 15 + 8 * plN π 0 + 5 * (b + 1) → k ≠ 5 → k ≠ 6 → hV H4 (a + k) j = hV H3 (a + k) j := fun k j h1 h5 h6 => by
            have e1 : hV (hQ H3 a f') (a + k) j = hV H3 (a + k) j := hQ_Vn (by omega) j
            rw [hH4, hV_Xv h1, e1, d' k j h5]
            unfold wOf sOf
            generalize hV H3 (a + k) j = v
            cases v <;> rfl
          have v4o : ∀ x j, x < a → hV H4 x j = hV H3 x j := fun x j hx => by rw [hH4, hV_Xo (by omega), hQ_Vn (by omega)]
          have e4 : ∀ k j, k < 15 + 8 * plN π 0 + 5 * (b + 1) → k ≠ 5 → k ≠ 6 → wOf H4 a k j = wOf H3 a k j := fun k j h1 h5 h6 => by
            unfold wOf
            rw [v4 k j h1 h5 h6]
          have Z4 : FSh κ H4 a p (plN π 0) (plN π 1) (b + 1) (plI π 7) := by
            rw [hH4]
            exact FSh_X (FSh_q i4' f') rfl
          have hI : K2 κ H1 H4 a p π σ (b + 1) := by
            refine ⟨⟨by rw [hH4]; show hN H3 = _; rw [hH3, hN_W, n2]; omega, ?_⟩, fun x h1 h2 h3 h4 => ?_, Z4, fun s hs => ?_, fun b' hb' => (i6' b' hb').cg fun k j h1 h3 => e4 k j (by omega) (by omega) (by omega), ?_⟩
            · rw [hH4]
              show hU H3 ≤ _
              rw [hH3, hU_W, u2, hHn, hU_A]
              have c4 : cN 4 = 4 := rfl
              rw [c4]
              omega
            · obtain ⟨y1, y2, y3⟩ := i3 x h1 h2 h3 h4
              obtain ⟨x1, x2, x3⟩ := g2 x (by omega) (by omega)
              refine ⟨(kH4 x).trans (by rw [hH3, hK_W, x1, y1]), (lH4 x).trans (by rw [hH3, hL_W, x2, y2]), fun j => ?_⟩
              by_cases c : x < a
              · rw [v4o x j c, o3 x (by omega) h4, y3]
              · obtain ⟨k, rfl⟩ : ∃ k, x = a + k := ⟨x - a, by omega⟩
                rw [v4 k j (by omega) (by omega) (by omega), o3 _ (by omega) h4, y3]
            · obtain ⟨q1, q2⟩ := i5 s hs
              exact ⟨q1.cg fun k j h1 h3 => (e4 k j (by omega) (by omega) (by omega)).trans (e3 k j (by omega) (by omega)), q2.cg fun k j h1 h3 => (e4 k j (by omega) (by omega) (by omega)).trans (e3 k j (by omega) (by omega))⟩
            · obtain ⟨q1, F', q2, q3, q4⟩ := q'
              refine ⟨?_, F', fun i hi => ?_, QP_cg q3 fun x => ⟨fun y => by omega, fun y => by omega⟩, q4⟩
              · rw [hH4, wOf_X (by omega) (Or.inl (by rw [hQ_Vn (by omega)]; exact i4'.2.2.2.1.2.2.2.2.1))]
                exact q1
              · rw [hH4]
                exact hV_Xr (by omega) ((hQ_V i).trans (q2 i hi))
          have i1' := ih (b + 1) H4 (by omega) hI
          rw [← hH4]
          simp (disch := first | assumption | omega | decide | (refine Eq.trans (hK_X _) ?_; assumption) | fail) only [gB, I_all, zK_v, zK_n, true_and, and_true, Nat.reduceAdd, Nat.reduceMul, Nat.reduceSub, z_lt, z_le, z_neq, not_false_eq_true, or_true, true_or, or_false, false_or, false_and, and_false, gX3_of]
          exact i1')
        rw [← eH3] at ead
        exact ead
      simp (disch := first | assumption | omega | decide | (refine Eq.trans (hK_X _) ?_; assumption) | fail) only [gB, I_all, zK_v, zK_n, true_and, and_true, Nat.reduceAdd, Nat.reduceMul, Nat.reduceSub, z_lt, z_le, z_neq, not_false_eq_true, or_true, true_or, or_false, false_or, false_and, and_false, gX3_of, ka2, k142, l142, k2, zr, hB14]
      rw [← hH3]
      simp (disch := first | assumption | omega | decide | (refine Eq.trans (hK_X _) ?_; assumption) | fail) only [gB, I_all, zK_v, zK_n, true_and, and_true, Nat.reduceAdd, Nat.reduceMul, Nat.reduceSub, z_lt, z_le, z_neq, not_false_eq_true, or_true, true_or, or_false, false_or, false_and, and_false, gX3_of, ka3, t39, t383, k143, l143, tb, k5']
      exact fin
  exact lp (plN π 1) 0 H1 (by omega) I1
theorem RC_0 {W : Nat → Nat → Int32} {K : Nat} (e : W K 50 = Int32.ofNat 0) : RC W K [] := ⟨e, fun i r hr => by cases hr⟩
theorem LC_0 {W : Nat → Nat → Int32} {K : Nat} {al la : Int32} (e : W K 54 = Int32.ofNat 0) (e5 : W K 55 = al) (e6 : W K 56 = la) : LC W K [] al la := ⟨e, e5, e6, fun i r hr => by cases hr⟩
theorem e3_of {m0 : Int32} {nm : Nat → Int32} {pt : Nat → Bool} (P : PAt h q0 q p π A) (O : pOk π) (hkb : kB κ ≤ q0) (PI : PIn h q0 q p π A m0 nm pt) (IN : Ini π σ m0 nm pt) (hqa : q ≤ hN h)
    (hq : ∀ h', Ag h h' 0 (hN h) → hN h' = hN h + (15 + 8 * plN π 0 + 5 * plN π 1) → hU h' ≤ hU h + 4300 → SAt κ h' (hN h) p π A q0 q σ → Q (.inl (some (.ref (hN h)))) h') : Ev κ mX3_of [.ref p] h Q := by
  obtain ⟨a, haN⟩ : ∃ a, a = hN h := ⟨_, rfl⟩
  rw [← haN] at hqa hq
  have h10 := O.1.2
  have h6 := O.2.1.2
  have hqp : q0 ≤ p ∧ p < q := ⟨P.1.1, P.1.2.1⟩
  have hB : kB κ ≤ a := by omega
  have hp : p < a := by omega
  simp (disch := first | assumption | omega | decide | (refine Eq.trans (hK_X _) ?_; assumption) | fail) only [gB, I_all, zK_v, zK_n, true_and, and_true, Nat.reduceAdd, Nat.reduceMul, Nat.reduceSub, z_lt, z_le, z_neq, not_false_eq_true, or_true, true_or, or_false, false_or, false_and, and_false, gX3_of]
  rw [hA_nD, ← haN]
  refine e3_initT P O hqa hB haN.symm (plI π 7) fun h1 g1 n1 u1 F1 V1 => ?_
  obtain ⟨⟨m1, m2, m3, m4, m5, m6, m7, m8⟩, pp, ps⟩ := PI
  have gp : ∀ x, x < a → hK h1 x = hK h x ∧ hL h1 x = hL h x ∧ ∀ j, hV h1 x j = hV h x j := fun x hx => g1 x (Nat.zero_le _) hx
  have F := fcF F1 rfl
  have F2 := fcRf F1 rfl
  have F3 := fcK F1
  have sI := F1.2.2.1.2.2.2
  have hB1 : ∀ k, kB κ ≤ a + k := fun k => by omega
  have ro : ∀ W SM x j, x < a → hV (hX h1 a (15 + 8 * plN π 0 + 5 * 0) W SM) x j = hV h x j := fun W SM x j hx => by rw [hV_Xo (by omega), (gp x hx).2.2]
  have kp : hK h1 p = 101 := (gp p hp).1.trans P.1.2.2.1
  have v9 : ∀ W SM, hV (hX h1 a (15 + 8 * plN π 0 + 5 * 0) W SM) p 9 = .int m0 := fun W SM => (ro W SM p 9 hp).trans m1
  have v10 : ∀ W SM, hV (hX h1 a (15 + 8 * plN π 0 + 5 * 0) W SM) p 10 = .ref (A 0 0) := fun W SM => (ro W SM p 10 hp).trans m2
  have kA : hK h1 (A 0 0) = 1 := (gp _ (by omega)).1.trans m5
  have lA : hL h1 (A 0 0) = 4 := (gp _ (by omega)).2.1.trans m6
  have k1 : hK h1 (a + 1) = 1 := (F1.2.1 (1, 34, 1, 4) (by decide)).2.1
  have k2 : hK h1 (a + 2) = 4 := (F1.2.1 (2, 35, 4, 10) (by decide)).2.1
  have l2 : hL h1 (a + 2) = 10 := (F1.2.1 (2, 35, 4, 10) (by decide)).2.2
  have nmI : ∃ nm' : Nat → Int32, ∀ j, hV h (A 0 0) j = .int (nm' j) := ⟨wOf h (A 0 0) 0, fun j => wOf_e (k := 0) (m7 j)⟩
  obtain ⟨nm', hnm'⟩ := nmI
  have enm : ∀ j, j < 4 → nm' j = nm j := fun j hj => Value.int.inj ((hnm' j).symm.trans (m8 j hj))
  have c1 : ∀ W SM m, hC (hX h1 a (15 + 8 * plN π 0 + 5 * 0) W SM) (A 0 0) 0 (a + 1) 0 m = hX h1 a (15 + 8 * plN π 0 + 5 * 0) (cpG W 1 0 m nm') SM := fun W SM m => hX_Cx (by omega) (by omega) (fun j => ((gp _ (by omega)).2.2 j).trans (hnm' j)) (fun j => sI 1 (by decide) j)
  have o1 : ∀ W SM m, zOks (hX h1 a (15 + 8 * plN π 0 + 5 * 0) W SM) (A 0 0) (a + 1) 0 m = True := fun W SM m => eq_true (zOks_I k1 fun j => ⟨_, (ro W SM _ j (by omega)).trans (hnm' j)⟩)
  have za1 : zArr 1 = true := rfl
  -- points
  obtain ⟨W0, hW0⟩ : ∃ W0, W0 = cpG (zv (wOf h1 a) 0 24 m0) 1 0 4 nm' := ⟨_, rfl⟩
  have wpt : ∀ s, (fun k j => if k = 2 ∧ j < s then boI (pt j) else W0 k j : Nat → Nat → Int32) = (fun k j => if k = 2 ∧ j < s then boI (pt j) else W0 k j) := fun s => rfl
  obtain ⟨Wp, hWp⟩ : ∃ Wp : Nat → Nat → Nat → Int32, Wp = fun s k j => if k = 2 ∧ j < s then boI (pt j) else W0 k j := ⟨_, rfl⟩
  have Wp0 : Wp 0 = W0 := by
    rw [hWp]
    funext k j
    exact if_neg (by omega)
  have Wps : ∀ s, zv (Wp s) 2 s (boI (pt s)) = Wp (s + 1) := fun s => by
    rw [hWp]
    funext k j
    unfold zv
    dsimp only
    by_cases c : k = 2 ∧ j = s
    · rw [if_pos c, if_pos (by omega), c.2]
    · rw [if_neg c]
      by_cases d : k = 2 ∧ j < s
      · rw [if_pos d, if_pos (by omega)]
      · rw [if_neg d, if_neg (by omega)]
  have lp : ∀ d s, s + d = plN π 0 → Go κ mX3_of 33 [some (.ref p), some (.ref a), some (.int (Int32.ofNat s))] [] (hX h1 a (15 + 8 * plN π 0 + 5 * 0) (Wp s) (sOf h1 a)) Q := by
    intro d
    induction d with
    | zero =>
      intro s hs
      have hs' : s = plN π 0 := by omega
      subst hs'
      obtain ⟨H, hH⟩ : ∃ H, H = hX h1 a (15 + 8 * plN π 0 + 5 * 0) (Wp (plN π 0)) (sOf h1 a) := ⟨_, rfl⟩
      have gH : Ag h H 0 a := by rw [hH]; exact g1.trans (Ag_X (Or.inl (Nat.le_refl _)))
      have ZH : FSh κ H a p (plN π 0) (plN π 1) 0 (plI π 7) := by rw [hH]; exact FSh_X F1 rfl
      have wv : ∀ k j, k ≠ 0 → k ≠ 1 → k ≠ 2 → Wp (plN π 0) k j = wOf h1 a k j := fun k j h0 h1 h2 => by
        rw [hWp]
        dsimp only
        rw [if_neg (by omega), hW0, cpG_o h1, zv_nx (by omega)]
      have fv : FV0 H a m0 nm pt (plN π 0) := by
        rw [hH]
        refine ⟨fun g hg => ?_, ?_, ?_, fun j hj => ?_, fun j => ?_, fun k hk h7 j => ?_⟩
        · rw [show hV (hX h1 a (15 + 8 * plN π 0 + 5 * 0) (Wp (plN π 0)) (sOf h1 a)) a g = .int (Wp (plN π 0) 0 g) from hV_Xi (k := 0) (by omega) (F1.2.2.1.1 g hg), hWp]
          dsimp only
          rw [if_neg (by omega), hW0, cpG_o (by omega)]
          by_cases c : g = 24
          · rw [zv_at rfl c, if_pos c]
          · rw [zv_nx (by omega), if_neg c, wOf_i (k := 0) (V1.1 g hg)]
        · rw [show hV (hX h1 a (15 + 8 * plN π 0 + 5 * 0) (Wp (plN π 0)) (sOf h1 a)) a 32 = .long (sOf h1 a 0 32) from hV_Xj (k := 0) (by omega) F1.2.2.1.2.1, sOf_j (k := 0) V1.2.1]
        · rw [show hV (hX h1 a (15 + 8 * plN π 0 + 5 * 0) (Wp (plN π 0)) (sOf h1 a)) a 33 = .long (sOf h1 a 0 33) from hV_Xj (k := 0) (by omega) F1.2.2.1.2.2.1, sOf_j (k := 0) V1.2.2.1]
        · rw [hV_Xi (by omega) (sI 1 (by decide) j), hWp]
          dsimp only
          rw [if_neg (by omega), hW0, cpG_in hj, enm j hj]
        · rw [hV_Xi (by omega) (sI 2 (by decide) j), hWp]
          dsimp only
          by_cases c : j < plN π 0
          · rw [if_pos ⟨rfl, c⟩, if_pos c]
          · rw [if_neg (by omega), if_neg c, hW0, cpG_o (by omega), zv_nx (by omega), wOf_i (V1.2.2.2.1 2 (by decide) j)]
        · rw [hV_Xi (by have := cIKlt k hk; omega) (sI k hk j), wv k j (by omega) (by omega) (by omega), wOf_i (V1.2.2.2.1 k hk j)]
      have eW : ∀ k j, 3 ≤ k → k < 15 + 8 * plN π 0 → wOf H a k j = wOf h1 a k j := fun k j h3 h4 => by
        have := wv k j (by omega) (by omega) (by omega)
        rw [hH, wOf_X (by omega) (Or.inr this), this]
      have I0 : K2 κ H H a p π σ 0 := by
        refine ⟨⟨by rw [hH]; exact n1, by omega⟩, fun x _ _ _ _ => ⟨rfl, rfl, fun _ => rfl⟩, ZH, fun s hs => ?_, fun b hb => absurd hb (Nat.not_lt_zero _), (eW 5 171 (by omega) (by omega)).trans (wOf_i V1.2.2.2.2.1), fun _ => 0, fun i hi => absurd hi (Nat.not_lt_zero _), ⟨fun i hi => absurd hi (Nat.not_lt_zero _), fun x hx => absurd hx (Nat.not_lt_zero _), fun i j hi => absurd hi (Nat.not_lt_zero _)⟩, fun i _ hi => absurd hi (Nat.not_lt_zero _)⟩
        obtain ⟨y1, y2⟩ := IN.2.2.2.2.1 s hs
        obtain ⟨y3, y4⟩ := IN.2.1 s hs
        obtain ⟨x1, x2⟩ := V1.2.2.2.2.2 s hs
        rw [y1, y2, y3, y4]
        exact ⟨RC_0 ((eW _ _ (by omega) (by omega)).trans (wOf_i x1.2.1.2.2.2)), LC_0 ((eW _ _ (by omega) (by omega)).trans (wOf_i x2.2.1.2.2.2.1)) ((eW _ _ (by omega) (by omega)).trans (wOf_i x2.2.1.2.2.2.2.1)) ((eW _ _ (by omega) (by omega)).trans (wOf_i x2.2.1.2.2.2.2.2))⟩
      have fin := e3_of2 (κ := κ) (Q := Q) P O hkb ⟨⟨m1, m2, m3, m4, m5, m6, m7, m8⟩, pp, ps⟩ IN hqa gH fv I0 (fun h' e1 e2 e3 e4 => hq h' e1 e2 (by
        have c3 : cN 3 = 25 := rfl
        have c4 : cN 4 = 4 := rfl
        have c5 : cN 5 = 6 := rfl
        have uH : hU H = hU h1 := by rw [hH]; rfl
        rw [uH, u1, c3, c4, c5] at e3
        omega) e4)
      have es : ∀ (Q : zQ), Ev κ mX3_stops [.ref a] H Q = Q (.inl (some (.int (Int32.ofNat (plN π 0))))) H := fun Q => by
        have ka : hK H a = 103 := ZH.1.2.1
        have va : hV H a 22 = .ref p := ZH.1.2.2.1
        have PH := P.cg (gH.sub (Nat.zero_le _) hqa)
        have kp2 : hK H p = 101 := PH.1.2.2.1
        have vp2 : hV H p 11 = .ref (A 4 0) := PH.2.1.1
        have kL2 : hK H (A 4 0) = 114 := PH.2.1.2.1.2.2.1
        have es := fun (Q : zQ) => e2_size (κ := κ) (Q := Q) PH.2.1.2
        simp (disch := first | assumption | omega | decide | (refine Eq.trans (hK_X _) ?_; assumption) | fail) only [gB, I_all, zK_v, zK_n, true_and, and_true, Nat.reduceAdd, Nat.reduceMul, Nat.reduceSub, z_lt, z_le, z_neq, not_false_eq_true, or_true, true_or, or_false, false_or, false_and, and_false, gX3_stops, ka, va, kp2, vp2, kL2, es]
      have ka : hK H a = 103 := ZH.1.2.1
      rw [← hH]
      simp (disch := first | assumption | omega | decide | (refine Eq.trans (hK_X _) ?_; assumption) | fail) only [gB, I_all, zK_v, zK_n, true_and, and_true, Nat.reduceAdd, Nat.reduceMul, Nat.reduceSub, z_lt, z_le, z_neq, not_false_eq_true, or_true, true_or, or_false, false_or, false_and, and_false, gX3_of_h]
      simp (disch := first | assumption | omega | decide | (refine Eq.trans (hK_X _) ?_; assumption) | fail) only [gB, I_all, zK_v, zK_n, true_and, and_true, Nat.reduceAdd, Nat.reduceMul, Nat.reduceSub, z_lt, z_le, z_neq, not_false_eq_true, or_true, true_or, or_false, false_or, false_and, and_false, gX3_of, es, ka]
      exact fin
    | succ d ih =>
      intro s hs
      have hsS : s < plN π 0 := by omega
      obtain ⟨H, hH⟩ : ∃ H, H = hX h1 a (15 + 8 * plN π 0 + 5 * 0) (Wp s) (sOf h1 a) := ⟨_, rfl⟩
      have gH : Ag h H 0 a := by rw [hH]; exact g1.trans (Ag_X (Or.inl (Nat.le_refl _)))
      have ZH : FSh κ H a p (plN π 0) (plN π 1) 0 (plI π 7) := by rw [hH]; exact FSh_X F1 rfl
      have PH := P.cg (gH.sub (Nat.zero_le _) hqa)
      have kp2 : hK H p = 101 := PH.1.2.2.1
      have vp2 : hV H p 11 = .ref (A 4 0) := PH.2.1.1
      have kL2 : hK H (A 4 0) = 114 := PH.2.1.2.1.2.2.1
      have ka : hK H a = 103 := ZH.1.2.1
      have va : hV H a 22 = .ref p := ZH.1.2.2.1
      have va35 : hV H a 35 = .ref (a + 2) := (ZH.2.1 (2, 35, 4, 10) (by decide)).1
      have kH2 : hK H (a + 2) = 4 := (ZH.2.1 (2, 35, 4, 10) (by decide)).2.1
      have lH2 : hL H (a + 2) = 10 := (ZH.2.1 (2, 35, 4, 10) (by decide)).2.2
      have es : ∀ (Q : zQ), Ev κ mX3_stops [.ref a] H Q = Q (.inl (some (.int (Int32.ofNat (plN π 0))))) H := fun Q => by
        have es := fun (Q : zQ) => e2_size (κ := κ) (Q := Q) PH.2.1.2
        simp (disch := first | assumption | omega | decide | (refine Eq.trans (hK_X _) ?_; assumption) | fail) only [gB, I_all, zK_v, zK_n, true_and, and_true, Nat.reduceAdd, Nat.reduceMul, Nat.reduceSub, z_lt, z_le, z_neq, not_false_eq_true, or_true, true_or, or_false, false_or, false_and, and_false, gX3_stops, ka, va, kp2, vp2, kL2, es]
      have eg := fun (Q : zQ) => e2_get (κ := κ) (Q := Q) PH.2.1.2 hsS rfl
      have kS : hK H (A 1 s) = 102 := (PH.2.2.2.2.2.1 s hsS).1.2.2
      have aS : A 1 s < a := by have := (P.2.2.2.2.2.1 s hsS).1.2.1; omega
      have vS : hV H (A 1 s) 20 = .int (boI (pt s)) := ((gH _ (by omega) aS).2.2 20).trans (pp s hsS)
      have eW : hW H (a + 2) s (.int (boI (pt s))) = hX h1 a (15 + 8 * plN π 0 + 5 * 0) (Wp (s + 1)) (sOf h1 a) := by
        rw [hH, hX_i (by omega) (sI 2 (by decide) s), Wps]
      have i1 := ih (s + 1) (by omega)
      have hB2 : kB κ ≤ a + 2 := by omega
      have hbn := boN (pt s)
      rw [← hH]
      simp (disch := first | assumption | omega | decide | (refine Eq.trans (hK_X _) ?_; assumption) | fail) only [gB, I_all, zK_v, zK_n, true_and, and_true, Nat.reduceAdd, Nat.reduceMul, Nat.reduceSub, z_lt, z_le, z_neq, not_false_eq_true, or_true, true_or, or_false, false_or, false_and, and_false, gX3_of_h]
      simp (disch := first | assumption | omega | decide | (refine Eq.trans (hK_X _) ?_; assumption) | fail) only [gB, I_all, zK_v, zK_n, true_and, and_true, Nat.reduceAdd, Nat.reduceMul, Nat.reduceSub, z_lt, z_le, z_neq, not_false_eq_true, or_true, true_or, or_false, false_or, false_and, and_false, gX3_of, es, ka, va35, kH2, lH2, kp2, vp2, kL2, eg, zCs, kS, vS, hB2, hbn, eW]
      exact i1
  have l0 := lp (plN π 0) 0 (by omega)
  rw [Wp0, hW0] at l0
  rw [← hX_of h1 a (15 + 8 * plN π 0 + 5 * 0)]
  simp (disch := first | assumption | omega | decide | (refine Eq.trans (hK_X _) ?_; assumption) | fail) only [gB, I_all, zK_v, zK_n, true_and, and_true, Nat.reduceAdd, Nat.reduceMul, Nat.reduceSub, z_lt, z_le, z_neq, not_false_eq_true, or_true, true_or, or_false, false_or, false_and, and_false, gX3_of, F, F2, F3, kp, v9, v10, kA, lA, k1, c1, o1, za1, I_nat, I_0le, hB1]
  exact l0
end
