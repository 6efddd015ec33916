/-! the component: later, would -/
section
variable {κ : zC} {h h' : zH} {g : Nat → Nat} {p q0 q a hd : Nat} {us : List Nat} {ks : Nat → Nat} {A : Nat → Nat → Nat} {Q : zQ} {Y : Sy}
/-- more cells, the old ones as they were -/
theorem CI.ext (I : CI κ h g Y p A q0 q a hd us ks) (o : Ag h h' 0 (hN h)) (hn : hN h ≤ hN h') : CI κ h' g Y p A q0 q a hd us ks := by
  have I0 := I
  obtain ⟨⟨x1, x2, x3, x4, x5, x6, x7⟩, ⟨t1, t2, t3, t4⟩, ⟨l1, l2, l3, l4, l5⟩, ⟨⟨⟨d1, d2, d3, d4, d5, d6, d7, d8⟩, d9⟩, dl⟩, iu, ik, ia, G⟩ := I
  have w := fun i (hi : i < 6) => o (g i) (Nat.zero_le _) (G.1 i hi).2
  refine CI_mk I0 (Om_A o hn) rfl ⟨(w 0 (by decide)).1.trans x1, ((w 0 (by decide)).2.2 _).trans x2, ((w 0 (by decide)).2.2 _).trans x3, ((w 0 (by decide)).2.2 _).trans x4, ((w 0 (by decide)).2.2 _).trans x5, ((w 0 (by decide)).2.2 _).trans x6, ((w 0 (by decide)).2.2 _).trans x7⟩
    ⟨(w 1 (by decide)).1.trans t1, (w 1 (by decide)).2.1.trans t2, t3, fun i v hi => ((w 1 (by decide)).2.2 _).trans (t4 i v hi)⟩
    ⟨(w 2 (by decide)).1.trans l1, ((w 2 (by decide)).2.2 _).trans l2, ((w 2 (by decide)).2.2 _).trans l3, (w 3 (by decide)).1.trans l4, (w 3 (by decide)).2.1.trans l5⟩
    ⟨⟨⟨(w 4 (by decide)).1.trans d1, ((w 4 (by decide)).2.2 _).trans d2, ((w 4 (by decide)).2.2 _).trans d3, ((w 4 (by decide)).2.2 _).trans d4, d5, d6, (w 5 (by decide)).1.trans d7, (w 5 (by decide)).2.1.trans d8⟩, fun i y hi => ((w 5 (by decide)).2.2 _).trans (d9 i y hi)⟩, dl⟩ iu (fun i hi => ?_) ia
  rcases ik i hi with ⟨k1, k2⟩ | ⟨σ, k1, k2, k3⟩
  · exact Or.inl ⟨k1, ((w 3 (by decide)).2.2 _).trans k2⟩
  · exact Or.inr ⟨σ, k1, ((w 3 (by decide)).2.2 _).trans k2, k3⟩
theorem e0_later {m s : Int32} {U : Int} (I : CI κ h g Y p A q0 q a hd us ks) (Gk : gOk (yP Y) (yS Y) U) (ht : (sN (yS Y) 0 + s).toInt + 1400 ≤ U) (hUb : U ≤ 1073741400)
    (hq : ∀ h', CI κ h' g Y p A q0 q a hd us ks → SAt κ h' (hN h) p (yP Y) A q0 q (sPa (yP Y) (sMd (yS Y) m) (sN (yS Y) 0 + s)).1 → Ag h h' 0 (hN h) → hN h' = hN h + (15 + 8 * plN (yP Y) 0 + 5 * plN (yP Y) 1) → hU h' ≤ hU h + 4300 → Q (.inl (some (.ref (hN h)))) h') : Ev κ mX0_later [.ref (g 0), .int m, .int s] h Q := by
  have I0 := I
  have Z0 := I.cx
  obtain ⟨kx, vx, S, OK, V⟩ := Z0
  have N := soN S
  have O := S.1.2.2.1
  have G := I.2.2.2.2.2.2.2
  simp (disch := first | assumption | omega | decide | (refine Eq.trans (hK_X _) ?_; assumption) | fail) only [gB, I_all, zK_v, zK_n, true_and, and_true, Nat.reduceAdd, Nat.reduceMul, Nat.reduceSub, z_lt, z_le, z_neq, not_false_eq_true, or_true, true_or, or_false, false_or, false_and, and_false, gX0_later, kx, vx, N]
  refine e3_copy S OK V G.2.2.2.2.1 I.2.2.2.2.2.2.1.2.1 fun h1 g1 n1 u1 S1 => ?_
  have Z := S1.1
  have ka : hK h1 (hN h) = 103 := Z.1.1.2.1
  have hBa : kB κ ≤ hN h := Z.1.1.1
  have e := SAt_eq h1 (hN h) (15 + 8 * plN (yP Y) 0 + 5 * plN (yP Y) 1)
  have C := S1.2.1
  have qi := S1.2.2
  generalize wOf h1 (hN h) = W at *
  generalize sOf h1 (hN h) = SM at *
  generalize (fun j => hV h1 (hN h + 6) j) = f at *
  rw [e]
  have Ff := cF (ZS_q Z f).1 (ZS_q Z f).2.2.2.2.1
  have C2 := CAt_set C (k := 0) (j := 24) (i := 1) m (by unfold fm; omega) O.2.2.1 O.1.2
  have q2 : QI (plN (yP Y) 0) (sMd (yS Y) m) (hN h) f (zv W 0 24 m) (plN (yP Y) 1) (fun x => x < plN (yP Y) 1) := QI_cg qi (zv_nx (by omega)) fun _ => rfl
  have V2 : vOk (sMd (yS Y) m) := vOk_cg V (fun j h1 h2 => (show zu (sN (yS Y)) 1 m j = sN (yS Y) j from zu_ne _ _ (by omega))) fun b => ⟨Or.inl rfl, Or.inl rfl⟩
  have s0 : sN (vN (yS Y) (zu (sN (yS Y)) 1 m)) 0 = sN (yS Y) 0 := (show zu (sN (yS Y)) 1 m 0 = sN (yS Y) 0 from zu_ne _ _ (by decide))
  simp (disch := first | assumption | omega | decide | (refine Eq.trans (hK_X _) ?_; assumption) | fail) only [gB, I_all, zK_v, zK_n, true_and, and_true, Nat.reduceAdd, Nat.reduceMul, Nat.reduceSub, z_lt, z_le, z_neq, not_false_eq_true, or_true, true_or, or_false, false_or, false_and, and_false, gX0_later, hK_hQ, hL_hQ, hK_X, hL_X, ka, Ff, hBa]
  refine e3_pass Z C2 (gOk_md Gk) V2 q2 (by rw [s0]; exact ht) hUb fun f' W' SM' C' q' => ?_
  rw [s0] at C' q'
  have S' := SAt_X Z C' q'
  have o : Ag h (hX (hQ h1 (hN h) f') (hN h) (15 + 8 * plN (yP Y) 0 + 5 * plN (yP Y) 1) W' SM') 0 (hN h) := g1.trans (Ag_qX (Or.inl (Nat.le_refl _)) (by omega))
  have q1 := hq _ (I0.ext o (by show hN h ≤ hN h1; omega)) S' o n1 u1
  simp (disch := first | assumption | omega | decide | (refine Eq.trans (hK_X _) ?_; assumption) | fail) only [gB, I_all, zK_v, zK_n, true_and, and_true, Nat.reduceAdd, Nat.reduceMul, Nat.reduceSub, z_lt, z_le, z_neq, not_false_eq_true, or_true, true_or, or_false, false_or, false_and, and_false, gX0_later]
  exact q1
theorem e0_would {m s x : Int32} {U : Int} (I : CI κ h g Y p A q0 q a hd us ks) (Gk : gOk (yP Y) (yS Y) U) (ht : btw s 1 3600 → (sN (yS Y) 0 + s).toInt + 1400 ≤ U) (hUb : U ≤ 1073741400) (hq : OQ κ h g p A q0 q (rWd Y m s x, Y) Q) : Ev κ mX0_would [.ref (g 0), .int m, .int s, .int x] h Q := by
  have kx := I.1.1
  unfold rWd at hq
  by_cases c : ¬ btw m 0 3
  · rw [if_neg (fun z => c z.1.1)] at hq
    have ei := fun (h : zH) (Q : zQ) => e0_isModeN (κ := κ) (h := h) (Q := Q) c
    have q1 := I.nop hq
    simp (disch := first | assumption | omega | decide | (refine Eq.trans (hK_X _) ?_; assumption) | fail) only [gB, I_all, zK_v, zK_n, true_and, and_true, Nat.reduceAdd, Nat.reduceMul, Nat.reduceSub, z_lt, z_le, z_neq, not_false_eq_true, or_true, true_or, or_false, false_or, false_and, and_false, gX0_would, ei]
    exact q1
  replace c := Decidable.of_not_not c
  have e1 := fun (h : zH) (Q : zQ) => e0_isModeY (κ := κ) (h := h) (Q := Q) c
  by_cases c2 : ¬ btw s 1 3600
  · rw [if_neg (fun z => c2 z.1.2)] at hq
    have ei := fun (h : zH) (Q : zQ) => e0_isPassN (κ := κ) (h := h) (Q := Q) c2
    have q1 := I.nop hq
    simp (disch := first | assumption | omega | decide | (refine Eq.trans (hK_X _) ?_; assumption) | fail) only [gB, I_all, zK_v, zK_n, true_and, and_true, Nat.reduceAdd, Nat.reduceMul, Nat.reduceSub, z_lt, z_le, z_neq, not_false_eq_true, or_true, true_or, or_false, false_or, false_and, and_false, gX0_would, e1, ei]
    exact q1
  replace c2 := Decidable.of_not_not c2
  have e2 := fun (h : zH) (Q : zQ) => e0_isPassY (κ := κ) (h := h) (Q := Q) c2
  have O := I.2.2.2.2.2.2.1.1.1.2.2.1
  have h10 : plN (yP Y) 0 ≤ 10 := O.1.2
  have h6 : plN (yP Y) 1 ≤ 6 := O.2.1.2
  simp (disch := first | assumption | omega | decide | (refine Eq.trans (hK_X _) ?_; assumption) | fail) only [gB, I_all, zK_v, zK_n, true_and, and_true, Nat.reduceAdd, Nat.reduceMul, Nat.reduceSub, z_lt, z_le, z_neq, not_false_eq_true, or_true, true_or, or_false, false_or, false_and, and_false, gX0_would, kx, e1, e2]
  refine e0_later I Gk (ht c2) hUb fun h1 I1 S1 o1 n1 u1 => ?_
  have fin := fun r => fun (hr : OQ κ h g p A q0 q (r, Y) Q) => hr h1 ⟨a, hd, us, ks, I1⟩ (Om_A o1 (by omega)) (by omega) u1
  have k1 := I1.1.1
  have v1 := I1.1.2.2.2.2.1
  have S0 := I1.cx.2.2.1
  have N := soN S0
  have R := soR S0
  have es := so_sums (κ := κ) S0
  have el := fun (Q : zQ) => so_lost (κ := κ) (Q := Q) S0
  have N' := soN S1
  have R' := soR S1
  have es' := so_sums (κ := κ) S1
  have el' := fun (Q : zQ) => so_lost (κ := κ) (Q := Q) S1
  generalize (sPa (yP Y) (sMd (yS Y) m) (sN (yS Y) 0 + s)).1 = τ at *
  by_cases c3 : ¬ btw x 0 5
  · rw [if_neg (fun z => c3 z.2)] at hq
    have q1 := fin _ hq
    have hne := ne_btw (by decide) c3
    simp (disch := first | assumption | omega | decide | (exact hne _ (by decide))) only [gB, I_all, zK_v, zK_n, true_and, and_true, Nat.reduceAdd, Nat.reduceMul, Nat.reduceSub, z_lt, z_le, z_neq, not_false_eq_true, or_true, true_or, or_false, false_or, false_and, and_false, gX0_would, zSwi_n, zSwi_0]
    exact q1
  replace c3 := Decidable.of_not_not c3
  rw [if_pos ⟨⟨c, c2⟩, c3⟩] at hq
  have q1 := fin _ hq
  obtain ⟨n, hn, -, hn5, -⟩ := btw_nat c3
  subst hn
  rw [I_nat (by omega)] at q1
  have hc : n = 0 ∨ n = 1 ∨ n = 2 ∨ n = 3 ∨ n = 4 ∨ n = 5 := by omega
  rcases hc with rfl | rfl | rfl | rfl | rfl | rfl
  · rw [if_neg (by decide)] at q1
    simp (disch := first | assumption | omega | decide | (refine Eq.trans (hK_X _) ?_; assumption) | fail) only [gB, I_all, zK_v, zK_n, true_and, and_true, Nat.reduceAdd, Nat.reduceMul, Nat.reduceSub, z_lt, z_le, z_neq, not_false_eq_true, or_true, true_or, or_false, false_or, false_and, and_false, gX0_would, zSwi_y, zSwi_n, k1, v1, N, R, es, el, N', R', es', el']
    exact q1
  · rw [if_neg (by decide)] at q1
    simp (disch := first | assumption | omega | decide | (refine Eq.trans (hK_X _) ?_; assumption) | fail) only [gB, I_all, zK_v, zK_n, true_and, and_true, Nat.reduceAdd, Nat.reduceMul, Nat.reduceSub, z_lt, z_le, z_neq, not_false_eq_true, or_true, true_or, or_false, false_or, false_and, and_false, gX0_would, zSwi_y, zSwi_n, k1, v1, N, R, es, el, N', R', es', el']
    exact q1
  · rw [if_neg (by decide)] at q1
    have e3 : ∀ τ : Sg, toldS τ 2 = smF τ 1 17 + smF τ 2 17 := fun τ => Int32.add_comm _ _
    rw [e3, e3] at q1
    simp (disch := first | assumption | omega | decide | (refine Eq.trans (hK_X _) ?_; assumption) | fail) only [gB, I_all, zK_v, zK_n, true_and, and_true, Nat.reduceAdd, Nat.reduceMul, Nat.reduceSub, z_lt, z_le, z_neq, not_false_eq_true, or_true, true_or, or_false, false_or, false_and, and_false, gX0_would, zSwi_y, zSwi_n, k1, v1, N, R, es, el, N', R', es', el']
    exact q1
  · rw [if_pos rfl] at q1
    simp (disch := first | assumption | omega | decide | (refine Eq.trans (hK_X _) ?_; assumption) | fail) only [gB, I_all, zK_v, zK_n, true_and, and_true, Nat.reduceAdd, Nat.reduceMul, Nat.reduceSub, z_lt, z_le, z_neq, not_false_eq_true, or_true, true_or, or_false, false_or, false_and, and_false, gX0_would, zSwi_y, zSwi_n, k1, v1, N, R, es, el, N', R', es', el']
    exact q1
  · rw [if_neg (by decide)] at q1
    simp (disch := first | assumption | omega | decide | (refine Eq.trans (hK_X _) ?_; assumption) | fail) only [gB, I_all, zK_v, zK_n, true_and, and_true, Nat.reduceAdd, Nat.reduceMul, Nat.reduceSub, z_lt, z_le, z_neq, not_false_eq_true, or_true, true_or, or_false, false_or, false_and, and_false, gX0_would, zSwi_y, zSwi_n, k1, v1, N, R, es, el, N', R', es', el']
    exact q1
  · rw [if_neg (by decide)] at q1
    simp (disch := first | assumption | omega | decide | (refine Eq.trans (hK_X _) ?_; assumption) | fail) only [gB, I_all, zK_v, zK_n, true_and, and_true, Nat.reduceAdd, Nat.reduceMul, Nat.reduceSub, z_lt, z_le, z_neq, not_false_eq_true, or_true, true_or, or_false, false_or, false_and, and_false, gX0_would, zSwi_y, zSwi_n, k1, v1, N, R, es, el, N', R', es', el']
    exact q1
end
