/-! the component: a new state's block -/
section
variable {κ : zC} {h h0 : zH} {a p q0 q S B : Nat} {π : Pl} {A : Nat → Nat → Nat} {Q : zQ}
/-- the first cells -/
def Da (a p B : Nat) : zDl :=
  [(103, 0, zu (zu (zu (zu (zu (zu (zu (zu (zu (zu (zu (zu (zu (zu gD 34 (.ref (a + 1))) 35 (.ref (a + 2))) 36 (.ref (a + 3))) 37 (.ref (a + 4))) 39 (.ref (a + 5))) 40 (.ref (a + 7))) 41 (.ref (a + 8))) 42 (.ref (a + 9))) 43 (.ref (a + 10))) 44 (.ref (a + 11))) 45 (.ref (a + 12))) 46 (.ref (a + 13))) 22 (.ref p)) 38 (.ref (a + 14))),
   (1, 4, fun _ => .int 0), (4, 10, fun _ => .int 0), (11, 10, fun _ => .null), (12, 10, fun _ => .null), (131, 0, zu (zu gD 170 (.ref (a + 6))) 172 .null), (10, 11, fun _ => .null), (1, 17, fun _ => .int 0), (1, 17, fun _ => .int 0), (1, 17, fun _ => .int 0), (1, 17, fun _ => .int 0), (1, 17, fun _ => .int 0), (1, 16, fun _ => .int 0), (1, 150, fun _ => .int 0), (13, B, fun _ => .null)]
theorem dD : (∀ (c : Nat × Nat × (Nat → Value)) D j v, dS (c :: D) 0 j v = (c.1, c.2.1, zu c.2.2 j v) :: D) ∧ (∀ c D i j v, dS (c :: D) (i + 1) j v = c :: dS D i j v) := ⟨fun _ _ _ _ => rfl, fun _ _ _ _ _ => rfl⟩
/-- up to the loop -/
theorem e3_init0 (P : PAt h0 q0 q p π A) (O : pOk π) (hq0 : q ≤ a) (hB : kB κ ≤ a) (hn : hN h0 = a)
    (hq : Go κ mX3_init 126 [some (.ref a), some (.ref p), some (.int (Int32.ofNat 0))] [] (hD h0 a (Da a p (plN π 1)) (cN 3 + 300 + plN π 1)) Q) : Ev κ mX3_init [.ref a, .ref p] (hD h0 a [(103, 0, gD)] (cN 3)) Q := by
  have e0 : ∀ k, k < 1000 → ((0 : Int32) ≤ Int32.ofNat k) = True := fun k hk => I_0le (by omega)
  have hp : p < a := Nat.lt_of_lt_of_le P.1.2.1 hq0
  have kp := P.1.2.2.1
  have vp := P.2.2.1.1
  have hL1 := P.2.2.1.2
  have kL : hK h0 (A 4 1) = 114 := hL1.1.2.2.1
  have aL : A 4 1 < a := Nat.lt_of_lt_of_le hL1.1.2.1 hq0
  have es := fun (D : zDl) (u : Nat) (Q : zQ) => e2_size (κ := κ) (Q := Q) (P.cg ((Ag_D (h0 := h0) (a := a) (D := D) (u := u)).sub (Nat.zero_le _) hq0)).2.2.1.2
  have hb6 := O.2.1.2
  have hB5 : kB κ ≤ a + 5 := by omega
  simp (disch := first | assumption | omega | decide | (refine Eq.trans (hK_X _) ?_; assumption) | fail) only [gB, I_all, zK_v, zK_n, true_and, and_true, Nat.reduceAdd, Nat.reduceMul, Nat.reduceSub, z_lt, z_le, z_neq, not_false_eq_true, or_true, true_or, or_false, false_or, false_and, and_false, gX3_init, hA_D, hK_D0, hW_D0, hN_D, List.cons_append, List.nil_append, List.length_cons, List.length_nil, e0]
  rw [e19_init (hK_D (i := 5) (by simp)) hB5 (by rw [hN_D]; exact Nat.add_lt_add_left (by simp) a), hN_D, hA_D, hW_D (i := 5) (by simp), hW_D (i := 5) (by rw [dS_len]; simp)]
  simp (disch := first | assumption | omega | decide | (refine Eq.trans (hK_X _) ?_; assumption) | fail) only [gB, I_all, zK_v, zK_n, true_and, and_true, Nat.reduceAdd, Nat.reduceMul, Nat.reduceSub, z_lt, z_le, z_neq, not_false_eq_true, or_true, true_or, or_false, false_or, false_and, and_false, gX3_init, hA_D, hK_D0, hW_D0, hN_D, hV_Do, hK_Do, List.cons_append, List.nil_append, List.length_cons, List.length_nil, e0, dD, kp, vp, kL, es]
  exact hq
end
section
variable {κ : zC} {h h0 : zH} {a p q0 q S B : Nat} {π : Pl} {A : Nat → Nat → Nat} {Q : zQ}
/-- in the loop: s stops' rows and leavings made -/
def LI (h1 h : zH) (a s : Nat) : Prop := (hN h = a + (15 + 8 * s) ∧ hU h = hU h1 + (cN 4 + 120 + cN 5 + 24) * s) ∧ (∀ x, x < a + 15 → hK h x = hK h1 x ∧ hL h x = hL h1 x ∧ (x ≠ a + 3 → x ≠ a + 4 → ∀ j, hV h x j = hV h1 x j)) ∧
  ∀ s', s' < s → hV h (a + 3) s' = .ref (a + (15 + 8 * s')) ∧ hV h (a + 4) s' = .ref (a + (19 + 8 * s')) ∧ FRow h (a + (15 + 8 * s')) 40 ∧ FLv h (a + (19 + 8 * s'))
theorem e3_init1 {h1 : zH} (hB : kB κ ≤ a) (hN1 : hN h1 = a + 15) (k0 : hK h1 a = 103) (v36 : hV h1 a 36 = .ref (a + 3)) (v37 : hV h1 a 37 = .ref (a + 4)) (k3 : hK h1 (a + 3) = 11) (l3 : hL h1 (a + 3) = 10) (k4 : hK h1 (a + 4) = 12) (l4 : hL h1 (a + 4) = 10) (hS : S ≤ 10)
    (es : ∀ h (Q : zQ), Ag h1 h 0 (a + 3) → Ev κ mX3_stops [.ref a] h Q = Q (.inl (some (.int (Int32.ofNat S)))) h)
    (hq : ∀ h', LI h1 h' a S → Q (.inl none) h') : Go κ mX3_init 126 [some (.ref a), some (.ref p), some (.int (Int32.ofNat 0))] [] h1 Q := by
  have zr : (zRef 11 = true) = True ∧ (zRef 12 = true) = True ∧ (zAss 11 104 = true) = True ∧ (zAss 12 105 = true) = True := ⟨eq_true (by decide), eq_true (by decide), eq_true (by decide), eq_true (by decide)⟩
  have hB3 : kB κ ≤ a + 3 := by omega
  have hB4 : kB κ ≤ a + 4 := by omega
  have lp : ∀ d s h, s + d = S → LI h1 h a s → Go κ mX3_init 126 [some (.ref a), some (.ref p), some (.int (Int32.ofNat s))] [] h Q := by
    intro d
    induction d with
    | zero =>
      intro s h hs I
      have hs' : s = S := by omega
      subst hs'
      obtain ⟨⟨i1, i2⟩, i3, i4⟩ := I
      have ka := (i3 a (by omega)).1.trans k0
      have e := fun Q => es h Q fun x _ h2 => ⟨(i3 x (by omega)).1, (i3 x (by omega)).2.1, (i3 x (by omega)).2.2 (by omega) (by omega)⟩
      have hf := hq h ⟨⟨i1, i2⟩, i3, i4⟩
      simp (disch := first | assumption | omega | decide | (refine Eq.trans (hK_X _) ?_; assumption) | fail) only [gB, I_all, zK_v, zK_n, true_and, and_true, Nat.reduceAdd, Nat.reduceMul, Nat.reduceSub, z_lt, z_le, z_neq, not_false_eq_true, or_true, true_or, or_false, false_or, false_and, and_false, gX3_init_h]
      simp (disch := first | assumption | omega | decide | (refine Eq.trans (hK_X _) ?_; assumption) | fail) only [gB, I_all, zK_v, zK_n, true_and, and_true, Nat.reduceAdd, Nat.reduceMul, Nat.reduceSub, z_lt, z_le, z_neq, not_false_eq_true, or_true, true_or, or_false, false_or, false_and, and_false, gX3_init, ka, e]
      exact hf
    | succ d ih =>
      intro s h hs I
      have I0 := I
      obtain ⟨⟨i1, i2⟩, i3, i4⟩ := I
      have ka := (i3 a (by omega)).1.trans k0
      have e := fun Q => es h Q fun x _ h2 => ⟨(i3 x (by omega)).1, (i3 x (by omega)).2.1, (i3 x (by omega)).2.2 (by omega) (by omega)⟩
      have va36 := ((i3 a (by omega)).2.2 (by omega) (by omega) 36).trans v36
      simp (disch := first | assumption | omega | decide | (refine Eq.trans (hK_X _) ?_; assumption) | fail) only [gB, I_all, zK_v, zK_n, true_and, and_true, Nat.reduceAdd, Nat.reduceMul, Nat.reduceSub, z_lt, z_le, z_neq, not_false_eq_true, or_true, true_or, or_false, false_or, false_and, and_false, gX3_init_h]
      simp (disch := first | assumption | omega | decide | (refine Eq.trans (hK_X _) ?_; assumption) | fail) only [gB, I_all, zK_v, zK_n, true_and, and_true, Nat.reduceAdd, Nat.reduceMul, Nat.reduceSub, z_lt, z_le, z_neq, not_false_eq_true, or_true, true_or, or_false, false_or, false_and, and_false, gX3_init, ka, va36, e, hK_At]
      refine e4_init (κ := κ) (r := hN h) (cap := 40) (hK_At rfl) (by omega) (by rw [hN_A]; omega) (by omega) fun h2 N => ?_
      have N0 := N
      obtain ⟨⟨n1, n2⟩, n3, n4, n5⟩ := N
      have eN : hN (hA h 104 0 4 gD) = a + (16 + 8 * s) := by rw [hN_A, i1]; omega
      rw [eN] at n1 n3
      have o2 : ∀ x, x < a + (15 + 8 * s) → hK h2 x = hK h x ∧ hL h2 x = hL h x ∧ ∀ j, hV h2 x j = hV h x j := fun x hx => by
        obtain ⟨q1, q2, q3⟩ := n3 x (by omega)
        exact ⟨q1.trans (hK_An (by omega)), q2.trans (hL_An (by omega)), fun j => (q3 (by omega) j).trans (hV_An (by omega) j)⟩
      have FR := FRow_N (r := hN h) rfl N0
      have ka2 : hK h2 a = 103 := (o2 a (by omega)).1.trans ka
      have k32 : hK h2 (a + 3) = 11 := ((o2 _ (by omega)).1.trans (i3 _ (by omega)).1).trans k3
      have l32 : hL h2 (a + 3) = 10 := ((o2 _ (by omega)).2.1.trans (i3 _ (by omega)).2.1).trans l3
      have k42 : hK h2 (a + 4) = 12 := ((o2 _ (by omega)).1.trans (i3 _ (by omega)).1).trans k4
      have l42 : hL h2 (a + 4) = 10 := ((o2 _ (by omega)).2.1.trans (i3 _ (by omega)).2.1).trans l4
      have v372 : hV h2 a 37 = .ref (a + 4) := ((o2 a (by omega)).2.2 37).trans (((i3 a (by omega)).2.2 (by omega) (by omega) 37).trans v37)
      have kr : hK h2 (hN h) = 104 := FR.1
      have w37 : hV (hW h2 (a + 3) s (.ref (hN h))) a 37 = .ref (a + 4) := by rw [hV_Wn (by omega)]; exact v372
      simp (disch := first | assumption | omega | decide | (refine Eq.trans (hK_X _) ?_; assumption) | fail) only [gB, I_all, zK_v, zK_n, true_and, and_true, Nat.reduceAdd, Nat.reduceMul, Nat.reduceSub, z_lt, z_le, z_neq, not_false_eq_true, or_true, true_or, or_false, false_or, false_and, and_false, gX3_init, ka2, k32, l32, kr, zr, hB3, hK_W, hL_W, w37, hK_At]
      refine e5_init (κ := κ) (r := hN (hW h2 (a + 3) s (.ref (hN h)))) (hK_At rfl) (by rw [hN_W]; omega) (by rw [hN_A]; omega) fun h3 M e56 => ?_
      have M0 := M
      obtain ⟨⟨m1, m2⟩, m3, m4, m5⟩ := M
      have eM : hN (hA (hW h2 (a + 3) s (.ref (hN h))) 105 0 6 gD) = a + (20 + 8 * s) := by rw [hN_A, hN_W, n1]; omega
      have eM' : hN (hW h2 (a + 3) s (.ref (hN h))) = a + (19 + 8 * s) := by rw [hN_W, n1]; omega
      rw [eM] at m1 m3
      have o3 : ∀ x, x < a + (19 + 8 * s) → hK h3 x = hK h2 x ∧ hL h3 x = hL h2 x ∧ ∀ j, hV h3 x j = hV (hW h2 (a + 3) s (.ref (hN h))) x j := fun x hx => by
        obtain ⟨q1, q2, q3⟩ := m3 x (by omega)
        exact ⟨q1.trans (hK_An (by omega)), q2.trans (hL_An (by omega)), fun j => (q3 (by omega) j).trans (hV_An (by omega) j)⟩
      have FL := FLv_N (r := hN (hW h2 (a + 3) s (.ref (hN h)))) rfl M0 e56
      have k43 : hK h3 (a + 4) = 12 := (o3 _ (by omega)).1.trans k42
      have l43 : hL h3 (a + 4) = 10 := (o3 _ (by omega)).2.1.trans l42
      have kl : hK h3 (hN (hW h2 (a + 3) s (.ref (hN h)))) = 105 := FL.1
      rw [eM'] at FL kl
      have hI : LI h1 (hW h3 (a + 4) s (.ref (a + (19 + 8 * s)))) a (s + 1) := by
        refine ⟨⟨by rw [hN_W, m1]; omega, ?_⟩, fun x hx => ?_, fun s' hs' => ?_⟩
        · rw [hU_W, m2, hU_A, hU_W, n2, hU_A, i2]
          show hU h1 + (cN 4 + 120 + cN 5 + 24) * s + 4 + 3 * 40 + 6 + 3 * 8 = hU h1 + (cN 4 + 120 + cN 5 + 24) * (s + 1)
          have c4 : cN 4 = 4 := rfl
          have c5 : cN 5 = 6 := rfl
          rw [c4, c5]
          omega
        · obtain ⟨q1, q2, q3⟩ := o3 x (by omega)
          obtain ⟨p1, p2, p3⟩ := o2 x (by omega)
          obtain ⟨r1, r2, r3⟩ := i3 x hx
          exact ⟨by rw [hK_W, q1, p1, r1], by rw [hL_W, q2, p2, r2], fun x3 x4 j => by rw [hV_Wn x4, q3, hV_Wn x3, p3, r3 x3 x4]⟩
        · by_cases c : s' = s
          · subst c
            refine ⟨?_, ?_, ?_, ?_⟩
            · rw [hV_Wn (by omega), (o3 _ (by omega)).2.2, hV_We rfl rfl, i1]
            · rw [hV_We rfl rfl]
            · rw [i1] at FR
              exact FR.cg fun x g1 g2 => ⟨by rw [hK_W, (o3 x (by omega)).1], by rw [hL_W, (o3 x (by omega)).2.1], fun j => by rw [hV_Wn (by omega), (o3 x (by omega)).2.2, hV_Wn (by omega)]⟩
            · exact FL.cg fun x g1 g2 => ⟨hK_W _ _ _ _ _, hL_W _ _ _ _ _, fun j => hV_Wn (by omega) j⟩
          · obtain ⟨t1, t2, t3, t4⟩ := i4 s' (by omega)
            have ag : Ag h (hW h3 (a + 4) s (.ref (a + (19 + 8 * s)))) (a + 15) (a + (15 + 8 * s)) := fun x g1 g2 => ⟨by rw [hK_W, (o3 x (by omega)).1, (o2 x (by omega)).1], by rw [hL_W, (o3 x (by omega)).2.1, (o2 x (by omega)).2.1], fun j => by rw [hV_Wn (by omega), (o3 x (by omega)).2.2, hV_Wn (by omega), (o2 x (by omega)).2.2]⟩
            refine ⟨?_, ?_, t3.cg (ag.sub (by omega) (by omega)), t4.cg (ag.sub (by omega) (by omega))⟩
            · rw [hV_Wn (by omega), (o3 _ (by omega)).2.2, hV_Wj c, (o2 _ (by omega)).2.2]; exact t1
            · rw [hV_Wj c, (o3 _ (by omega)).2.2, hV_Wn (by omega), (o2 _ (by omega)).2.2]; exact t2
      have i1' := ih (s + 1) _ (by omega) hI
      simp (disch := first | assumption | omega | decide | (refine Eq.trans (hK_X _) ?_; assumption) | fail) only [gB, I_all, zK_v, zK_n, true_and, and_true, Nat.reduceAdd, Nat.reduceMul, Nat.reduceSub, z_lt, z_le, z_neq, not_false_eq_true, or_true, true_or, or_false, false_or, false_and, and_false, gX3_init, k43, l43, kl, zr, hB4, eM']
      exact i1'
  exact lp S 0 h1 (by omega) ⟨⟨hN1, by simp⟩, fun x _ => ⟨rfl, rfl, fun _ _ _ => rfl⟩, fun s' h => absurd h (Nat.not_lt_zero _)⟩
end
