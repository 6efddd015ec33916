/-! the component: operations: setMode, setPoint, setNumber -/
def CJ (κ : zC) (h : zH) (g : Nat → Nat) (p : Nat) (A : Nat → Nat → Nat) (q0 q : Nat) (Y : Sy) : Prop := ∃ a hd us ks, CI κ h g Y p A q0 q a hd us ks
theorem hK_hQ (h : zH) (a : Nat) (f : Nat → Value) (x : Nat) : hK (hQ h a f) x = hK h x := rfl
theorem hL_hQ (h : zH) (a : Nat) (f : Nat → Value) (x : Nat) : hL (hQ h a f) x = hL h x := rfl
/-- what an operation promises -/
def OQ (κ : zC) (h : zH) (g : Nat → Nat) (p : Nat) (A : Nat → Nat → Nat) (q0 q : Nat) (r : Int32 × Sy) (Q : zQ) : Prop := ∀ h', CJ κ h' g p A q0 q r.2 → Om g h h' → hN h' ≤ hN h + 130 → hU h' ≤ hU h + 4300 → Q (.inl (some (.int r.1))) h'
section
variable {κ : zC} {h h' : zH} {g : Nat → Nat} {p q0 q a hd y : Nat} {us : List Nat} {ks : Nat → Nat} {π : Pl} {A : Nat → Nat → Nat} {Q : zQ} {σ : Sg} {Y : Sy}
theorem act_do (I : CI κ h g Y p A q0 q a hd us ks) (hq : ∀ h1 f W SM, ZS κ h1 (hN h) (15 + 8 * plN (yP Y) 0 + 5 * plN (yP Y) 1) p (yP Y) A q0 q → CAt (yP Y) W SM (yS Y) → QI (plN (yP Y) 0) (yS Y) (hN h) f W (plN (yP Y) 1) (fun x => x < plN (yP Y) 1) →
      hK h1 (g 0) = 100 → (∀ f W SM, hV (hX (hQ h1 (hN h) f) (hN h) (15 + 8 * plN (yP Y) 0 + 5 * plN (yP Y) 1) W SM) (g 0) 3 = .ref (hN h)) →
      (∀ f' W' SM' σ', CAt (yP Y) W' SM' σ' → QI (plN (yP Y) 0) σ' (hN h) f' W' (plN (yP Y) 1) (fun x => x < plN (yP Y) 1) → sOk (yP Y) σ' → vOk σ' → CJ κ (hX (hQ h1 (hN h) f') (hN h) (15 + 8 * plN (yP Y) 0 + 5 * plN (yP Y) 1) W' SM') g p A q0 q (vSt (yKp Y) σ') ∧ Om g h (hX (hQ h1 (hN h) f') (hN h) (15 + 8 * plN (yP Y) 0 + 5 * plN (yP Y) 1) W' SM') ∧ hN (hX (hQ h1 (hN h) f') (hN h) (15 + 8 * plN (yP Y) 0 + 5 * plN (yP Y) 1) W' SM') ≤ hN h + 130 ∧ hU (hX (hQ h1 (hN h) f') (hN h) (15 + 8 * plN (yP Y) 0 + 5 * plN (yP Y) 1) W' SM') ≤ hU h + 4300) →
      Q (.inl (some (.ref (hN h)))) (hX (hQ h1 (hN h) f) (hN h) (15 + 8 * plN (yP Y) 0 + 5 * plN (yP Y) 1) W SM)) : Ev κ mX0_act [.ref (g 0)] h Q := by
  refine e0_act I fun h1 hd1 us1 I1 F1 o1 n1 u1 => ?_
  have S1 := I1.2.2.2.2.2.2.1
  have O := S1.1.1.2.2.1
  have h10 : plN (yP Y) 0 ≤ 10 := O.1.2
  have h6 : plN (yP Y) 1 ≤ 6 := O.2.1.2
  have g0 : g 0 < hN h := F1.2.2.2.1 0 (by decide)
  have e := SAt_eq h1 (hN h) (15 + 8 * plN (yP Y) 0 + 5 * plN (yP Y) 1)
  rw [e]
  refine hq h1 _ _ _ S1.1.1 S1.1.2.1 S1.1.2.2 I1.1.1 (fun f W SM => ?_) fun f' W' SM' σ' C' q' OK V => ?_
  · rw [hV_Xo (by omega), hQ_Vn (by omega)]
    exact I1.1.2.2.2.2.1
  · have Z' := SAt_X S1.1.1 C' q'
    have ag : ∀ y, y < hN h → hK (hX (hQ h1 (hN h) f') (hN h) (15 + 8 * plN (yP Y) 0 + 5 * plN (yP Y) 1) W' SM') y = hK h1 y ∧ hL (hX (hQ h1 (hN h) f') (hN h) (15 + 8 * plN (yP Y) 0 + 5 * plN (yP Y) 1) W' SM') y = hL h1 y ∧ ∀ j, hV (hX (hQ h1 (hN h) f') (hN h) (15 + 8 * plN (yP Y) 0 + 5 * plN (yP Y) 1) W' SM') y j = hV h1 y j := fun y hy => ⟨rfl, rfl, fun j => by rw [hV_Xo (by omega), hQ_Vn (by omega)]⟩
    refine ⟨⟨hN h, hd1, us1, ks, CI_now I1 F1 Z' ag rfl OK V⟩, ⟨fun y hy ho => ?_, o1.2⟩, ?_, u1⟩
    · obtain ⟨a1, a2, a3⟩ := o1.1 y hy ho
      obtain ⟨b1, b2, b3⟩ := ag y hy
      exact ⟨b1.trans a1, b2.trans a2, fun j => (b3 j).trans (a3 j)⟩
    · show hN h1 ≤ _
      omega
theorem CI.nop (I : CI κ h g Y p A q0 q a hd us ks) {r : Int32} (hq : OQ κ h g p A q0 q (r, Y) Q) : Q (.inl (some (.int r))) h := hq h ⟨a, hd, us, ks, I⟩ Om.rfl (by omega) (by omega)
theorem e0_setMode {x : Int32} (I : CI κ h g Y p A q0 q a hd us ks) (hq : OQ κ h g p A q0 q (yMo Y x) Q) : Ev κ mX0_setMode [.ref (g 0), .int x] h Q := by
  have Z0 := I.cx
  obtain ⟨kx, vx, S, OK, V⟩ := Z0
  have N := soN S
  unfold yMo at hq
  by_cases c : ¬ btw x 0 3
  · rw [if_neg c] at hq
    have ei := fun (Q : zQ) => e0_isModeN (κ := κ) (h := h) (Q := Q) c
    have q1 := I.nop hq
    simp (disch := first | assumption | omega | decide | (refine Eq.trans (hK_X _) ?_; assumption) | fail) only [gB, I_all, zK_v, zK_n, true_and, and_true, Nat.reduceAdd, Nat.reduceMul, Nat.reduceSub, z_lt, z_le, z_neq, not_false_eq_true, or_true, true_or, or_false, false_or, false_and, and_false, gX0_setMode, ei]
    exact q1
  replace c := Decidable.of_not_not c
  rw [if_pos c] at hq
  have ei := fun (Q : zQ) => e0_isModeY (κ := κ) (h := h) (Q := Q) c
  by_cases c2 : sN (yS Y) 1 = x
  · rw [if_pos c2] at hq
    have q1 := I.nop hq
    simp (disch := first | assumption | omega | decide | (refine Eq.trans (hK_X _) ?_; assumption) | fail) only [gB, I_all, zK_v, zK_n, true_and, and_true, Nat.reduceAdd, Nat.reduceMul, Nat.reduceSub, z_lt, z_le, z_neq, not_false_eq_true, or_true, true_or, or_false, false_or, false_and, and_false, gX0_setMode, ei, kx, vx, N]
    exact q1
  · rw [if_neg c2] at hq
    simp (disch := first | assumption | omega | decide | (refine Eq.trans (hK_X _) ?_; assumption) | fail) only [gB, I_all, zK_v, zK_n, true_and, and_true, Nat.reduceAdd, Nat.reduceMul, Nat.reduceSub, z_lt, z_le, z_neq, not_false_eq_true, or_true, true_or, or_false, false_or, false_and, and_false, gX0_setMode, ei, kx, vx, N]
    refine act_do I fun h1 f W SM Z C qi k0 v3 fin => ?_
    have Ff := cF (ZS_q Z f).1 (ZS_q Z f).2.2.2.2.1
    have O := Z.2.2.1
    have ka : hK h1 (hN h) = 103 := Z.1.1.2.1
    have hBa : kB κ ≤ hN h := Z.1.1.1
    have C2 := CAt_set C (k := 0) (j := 24) (i := 1) x (by unfold fm; omega) O.2.2.1 O.1.2
    obtain ⟨f1, f2, f3, f4⟩ := fin f _ _ _ C2 (QI_cg qi (zv_nx (by omega)) fun _ => rfl) (sOk_n OK _) (vOk_cg V (fun j h1 h2 => zu_ne _ _ (by omega)) fun b => ⟨Or.inl rfl, Or.inl rfl⟩)
    have q1 := hq _ f1 f2 f3 f4
    simp (disch := first | assumption | omega | decide | (refine Eq.trans (hK_X _) ?_; assumption) | fail) only [gB, I_all, zK_v, zK_n, true_and, and_true, Nat.reduceAdd, Nat.reduceMul, Nat.reduceSub, z_lt, z_le, z_neq, not_false_eq_true, or_true, true_or, or_false, false_or, false_and, and_false, gX0_setMode, ka, Ff, hBa]
    exact q1
theorem e0_setPoint {x : Int32} {b : Bool} (I : CI κ h g Y p A q0 q a hd us ks) (hq : OQ κ h g p A q0 q (yPo Y x b) Q) : Ev κ mX0_setPoint [.ref (g 0), .int x, .int (boI b)] h Q := by
  have Z0 := I.cx
  have Z1 := Z0
  obtain ⟨kx, vx, S, OK, V⟩ := Z0
  have N := soN S
  have R := soR S
  have K := soK S
  have A2 := soA S
  have O := S.1.2.2.1
  have h10 := O.1
  unfold yPo at hq
  by_cases c : ¬ btw x 0 (plN (yP Y) 0 - 1)
  · rw [if_neg c] at hq
    have ei := fun (Q : zQ) => e0_isStopN (κ := κ) (Q := Q) Z1 c
    have q1 := I.nop hq
    simp (disch := first | assumption | omega | decide | (refine Eq.trans (hK_X _) ?_; assumption) | fail) only [gB, I_all, zK_v, zK_n, true_and, and_true, Nat.reduceAdd, Nat.reduceMul, Nat.reduceSub, z_lt, z_le, z_neq, not_false_eq_true, or_true, true_or, or_false, false_or, false_and, and_false, gX0_setPoint, kx, ei]
    exact q1
  replace c := Decidable.of_not_not c
  rw [if_pos c] at hq
  have ei := fun (Q : zQ) => e0_isStopY (κ := κ) (Q := Q) Z1 c
  obtain ⟨s, hs, -, hm, -⟩ := btw_nat c
  subst hs
  rw [I_nat (by omega)] at hq
  have hv := V.1 s (by omega)
  by_cases c2 : decide (sN (yS Y) (13 + s) = Int32.ofNat 1) = b
  · rw [if_pos c2] at hq
    have e2 : sN (yS Y) (13 + s) = boI b := by
      rw [← c2]
      rcases hv with v | v
      · rw [v]; decide
      · rw [v]; decide
    have q1 := I.nop hq
    simp (disch := first | assumption | omega | decide | (refine Eq.trans (hK_X _) ?_; assumption) | fail) only [gB, I_all, zK_v, zK_n, true_and, and_true, Nat.reduceAdd, Nat.reduceMul, Nat.reduceSub, z_lt, z_le, z_neq, not_false_eq_true, or_true, true_or, or_false, false_or, false_and, and_false, gX0_setPoint, kx, vx, N, R, K, A2, ei]
    exact q1
  · rw [if_neg c2] at hq
    have e2 : ¬ sN (yS Y) (13 + s) = boI b := by
      intro e
      apply c2
      rw [e]
      cases b <;> decide
    have hbn := boN b
    simp (disch := first | assumption | omega | decide | (refine Eq.trans (hK_X _) ?_; assumption) | fail) only [gB, I_all, zK_v, zK_n, true_and, and_true, Nat.reduceAdd, Nat.reduceMul, Nat.reduceSub, z_lt, z_le, z_neq, not_false_eq_true, or_true, true_or, or_false, false_or, false_and, and_false, gX0_setPoint, kx, vx, N, R, K, A2, ei]
    refine act_do I fun h1 f W SM Z C qi k0 v3 fin => ?_
    have Ff := cF (ZS_q Z f).1 (ZS_q Z f).2.2.2.2.1
    have Fr := cRf (ZS_q Z f).1 (ZS_q Z f).2.2.2.2.1
    have Fk := cK (ZS_q Z f).1
    have ka : hK h1 (hN h) = 103 := Z.1.1.2.1
    have hBa : kB κ ≤ hN h + 2 := by have := Z.1.1.1; omega
    have k2 : hK h1 (hN h + 2) = 4 := (Z.1.2.1 (2, 35, 4, 10) (by decide)).2.1
    have l2 : hL h1 (hN h + 2) = 10 := (Z.1.2.1 (2, 35, 4, 10) (by decide)).2.2
    have C2 := CAt_set C (k := 2) (j := s) (i := 13 + s) (boI b) (by unfold fm; omega) O.2.2.1 O.1.2
    have V2 : vOk (vN (yS Y) (zu (sN (yS Y)) (13 + s) (boI b))) := by
      refine ⟨fun s' hs' => ?_, V.2⟩
      by_cases e : s' = s
      · subst e
        rw [show sN (vN (yS Y) (zu (sN (yS Y)) (13 + s') (boI b))) (13 + s') = boI b from zu_eq _ _ _]
        cases b
        · exact Or.inl rfl
        · exact Or.inr rfl
      · rw [show sN (vN (yS Y) (zu (sN (yS Y)) (13 + s) (boI b))) (13 + s') = sN (yS Y) (13 + s') from zu_ne _ _ (by omega)]
        exact V.1 s' hs'
    obtain ⟨f1, f2, f3, f4⟩ := fin f _ _ _ C2 (QI_cg qi (zv_nx (by omega)) fun _ => rfl) (sOk_n OK _) V2
    have q1 := hq _ f1 f2 f3 f4
    obtain ⟨a', hd', us', ks', I'⟩ := f1
    have ep := fun (Q : zQ) => e0_points (κ := κ) (Q := Q) I'.cx
    have ep' : ∀ Q : zQ, Ev κ mX0_points [.ref (g 0)] (hX (hQ h1 (hN h) f) (hN h) (15 + 8 * plN (yP Y) 0 + 5 * plN (yP Y) 1) (zv W 2 s (boI b)) SM) Q = Q (.inl (some (.int (ptF (vN (yS Y) (zu (sN (yS Y)) (13 + s) (boI b))) (plN (yP Y) 0))))) (hX (hQ h1 (hN h) f) (hN h) (15 + 8 * plN (yP Y) 0 + 5 * plN (yP Y) 1) (zv W 2 s (boI b)) SM) := ep
    simp (disch := first | assumption | omega | decide | (refine Eq.trans (hK_X _) ?_; assumption) | fail) only [gB, I_all, zK_v, zK_n, true_and, and_true, Nat.reduceAdd, Nat.reduceMul, Nat.reduceSub, z_lt, z_le, z_neq, not_false_eq_true, or_true, true_or, or_false, false_or, false_and, and_false, gX0_setPoint, hK_hQ, hL_hQ, hK_X, hL_X, ka, Ff, Fr, k0, k2, l2, hBa, hbn, ep']
    exact q1
theorem e0_setNumber {w v : Int32} (I : CI κ h g Y p A q0 q a hd us ks) (hq : OQ κ h g p A q0 q (yNu Y w v) Q) : Ev κ mX0_setNumber [.ref (g 0), .int w, .int v] h Q := by
  have Z0 := I.cx
  obtain ⟨kx, vx, S, OK, V⟩ := Z0
  have N := soN S
  have R := soR S
  have K := soK S
  have A2 := soA S
  have O := S.1.2.2.1
  unfold yNu at hq
  by_cases cw : ¬ btw w 0 3
  · have cn : ¬ okNu w v := by
      rintro (⟨rfl, -⟩ | ⟨rfl, -⟩ | ⟨rfl | rfl, -⟩) <;> exact cw (by unfold btw; decide)
    rw [if_neg cn] at hq
    have ei := fun (h : zH) (Q : zQ) => e0_btN (κ := κ) (h := h) (Q := Q) (x := w) (l := 0) (u := 3) (by decide) (by decide) cw
    have q1 := I.nop hq
    simp (disch := first | assumption | omega | decide | (refine Eq.trans (hK_X _) ?_; assumption) | fail) only [gB, I_all, zK_v, zK_n, true_and, and_true, Nat.reduceAdd, Nat.reduceMul, Nat.reduceSub, z_lt, z_le, z_neq, not_false_eq_true, or_true, true_or, or_false, false_or, false_and, and_false, gX0_setNumber, ei]
    exact q1
  replace cw := Decidable.of_not_not cw
  have ew := fun (h : zH) (Q : zQ) => e0_btY (κ := κ) (h := h) (Q := Q) (x := w) (l := 0) (u := 3) (by decide) (by decide) cw
  obtain ⟨n, hn, -, hn3, -⟩ := btw_nat cw
  subst hn
  have hc : n = 0 ∨ n = 1 ∨ n = 2 ∨ n = 3 := by omega
  have en : ∀ Q : zQ, Ev κ mX0_isNumber [.int (Int32.ofNat n), .int v] h Q = Q (.inl (some (.int (if okNu (Int32.ofNat n) v then Int32.ofNat 1 else Int32.ofNat 0)))) h := fun Q => by
    have key : ∀ l u, l < 2147483648 → u < 2147483648 → Ev κ mX0_isBetween [.int v, .int (Int32.ofNat l), .int (Int32.ofNat u)] h = fun Q => Q (.inl (some (.int (if btw v l u then Int32.ofNat 1 else Int32.ofNat 0)))) h := fun l u hl hu => by
      funext Q
      by_cases c : btw v l u
      · rw [if_pos c]; exact e0_btY hl hu c
      · rw [if_neg c]; exact e0_btN hl hu c
    have nb : ∀ P : Prop, ∀ [Decidable P], (narrow .boolean (.int (if P then Int32.ofNat 1 else Int32.ofNat 0)) = Value.int (if P then Int32.ofNat 1 else Int32.ofNat 0)) = True := fun P _ => by
      by_cases c : P
      · rw [if_pos c]; exact eq_true (by decide)
      · rw [if_neg c]; exact eq_true (by decide)
    have k1 := fun Q => congrFun (key 30 3600 (by decide) (by decide)) Q
    have k2 := fun Q => congrFun (key 0 900 (by decide) (by decide)) Q
    have k3 := fun Q => congrFun (key 60 9999 (by decide) (by decide)) Q
    rcases hc with rfl | rfl | rfl | rfl
    · have e : okNu (Int32.ofNat 0) v ↔ btw v 30 3600 := ⟨fun x => by rcases x with ⟨-, x⟩ | ⟨x, -⟩ | ⟨x | x, -⟩; exact x; all_goals exact absurd x (by decide), fun x => Or.inl ⟨rfl, x⟩⟩
      simp only [e]
      simp (disch := first | assumption | omega | decide | (refine Eq.trans (hK_X _) ?_; assumption) | fail) only [gB, I_all, zK_v, zK_n, true_and, and_true, Nat.reduceAdd, Nat.reduceMul, Nat.reduceSub, z_lt, z_le, z_neq, not_false_eq_true, or_true, true_or, or_false, false_or, false_and, and_false, gX0_isNumber, zSwi_y, zSwi_n, k1, nb]
    · have e : okNu (Int32.ofNat 1) v ↔ btw v 0 900 := ⟨fun x => by rcases x with ⟨x, -⟩ | ⟨-, x⟩ | ⟨x | x, -⟩; exact absurd x (by decide); exact x; all_goals exact absurd x (by decide), fun x => Or.inr (Or.inl ⟨rfl, x⟩)⟩
      simp only [e]
      simp (disch := first | assumption | omega | decide | (refine Eq.trans (hK_X _) ?_; assumption) | fail) only [gB, I_all, zK_v, zK_n, true_and, and_true, Nat.reduceAdd, Nat.reduceMul, Nat.reduceSub, z_lt, z_le, z_neq, not_false_eq_true, or_true, true_or, or_false, false_or, false_and, and_false, gX0_isNumber, zSwi_y, zSwi_n, k2, nb]
    · have e : okNu (Int32.ofNat 2) v ↔ btw v 60 9999 := ⟨fun x => by rcases x with ⟨x, -⟩ | ⟨x, -⟩ | ⟨-, x⟩; exact absurd x (by decide); exact absurd x (by decide); exact x, fun x => Or.inr (Or.inr ⟨Or.inl rfl, x⟩)⟩
      simp only [e]
      simp (disch := first | assumption | omega | decide | (refine Eq.trans (hK_X _) ?_; assumption) | fail) only [gB, I_all, zK_v, zK_n, true_and, and_true, Nat.reduceAdd, Nat.reduceMul, Nat.reduceSub, z_lt, z_le, z_neq, not_false_eq_true, or_true, true_or, or_false, false_or, false_and, and_false, gX0_isNumber, zSwi_y, zSwi_n, zSwi_0, k3, nb]
    · have e : okNu (Int32.ofNat 3) v ↔ btw v 60 9999 := ⟨fun x => by rcases x with ⟨x, -⟩ | ⟨x, -⟩ | ⟨-, x⟩; exact absurd x (by decide); exact absurd x (by decide); exact x, fun x => Or.inr (Or.inr ⟨Or.inr rfl, x⟩)⟩
      simp only [e]
      simp (disch := first | assumption | omega | decide | (refine Eq.trans (hK_X _) ?_; assumption) | fail) only [gB, I_all, zK_v, zK_n, true_and, and_true, Nat.reduceAdd, Nat.reduceMul, Nat.reduceSub, z_lt, z_le, z_neq, not_false_eq_true, or_true, true_or, or_false, false_or, false_and, and_false, gX0_isNumber, zSwi_y, zSwi_n, zSwi_0, k3, nb]
  by_cases c : ¬ okNu (Int32.ofNat n) v
  · rw [if_neg c] at hq
    simp only [if_neg c] at en
    have q1 := I.nop hq
    simp (disch := first | assumption | omega | decide | (refine Eq.trans (hK_X _) ?_; assumption) | fail) only [gB, I_all, zK_v, zK_n, true_and, and_true, Nat.reduceAdd, Nat.reduceMul, Nat.reduceSub, z_lt, z_le, z_neq, not_false_eq_true, or_true, true_or, or_false, false_or, false_and, and_false, gX0_setNumber, ew, en]
    exact q1
  replace c := Decidable.of_not_not c
  rw [if_pos c, I_nat (by omega)] at hq
  simp only [if_pos c] at en
  have hn4 : n < 4 := by omega
  by_cases c2 : sN (yS Y) (2 + n) = v
  · rw [if_pos c2] at hq
    have q1 := I.nop hq
    simp (disch := first | assumption | omega | decide | (refine Eq.trans (hK_X _) ?_; assumption) | fail) only [gB, I_all, zK_v, zK_n, true_and, and_true, Nat.reduceAdd, Nat.reduceMul, Nat.reduceSub, z_lt, z_le, z_neq, not_false_eq_true, or_true, true_or, or_false, false_or, false_and, and_false, gX0_setNumber, kx, vx, N, R, K, A2, ew, en]
    exact q1
  · rw [if_neg c2] at hq
    simp (disch := first | assumption | omega | decide | (refine Eq.trans (hK_X _) ?_; assumption) | fail) only [gB, I_all, zK_v, zK_n, true_and, and_true, Nat.reduceAdd, Nat.reduceMul, Nat.reduceSub, z_lt, z_le, z_neq, not_false_eq_true, or_true, true_or, or_false, false_or, false_and, and_false, gX0_setNumber, kx, vx, N, R, K, A2, ew, en]
    refine act_do I fun h1 f W SM Z C qi k0 v3 fin => ?_
    have Ff := cF (ZS_q Z f).1 (ZS_q Z f).2.2.2.2.1
    have Fr := cRf (ZS_q Z f).1 (ZS_q Z f).2.2.2.2.1
    have ka : hK h1 (hN h) = 103 := Z.1.1.2.1
    have hBa : kB κ ≤ hN h + 1 := by have := Z.1.1.1; omega
    have k2 : hK h1 (hN h + 1) = 1 := (Z.1.2.1 (1, 34, 1, 4) (by decide)).2.1
    have l2 : hL h1 (hN h + 1) = 4 := (Z.1.2.1 (1, 34, 1, 4) (by decide)).2.2
    have C2 := CAt_set C (k := 1) (j := n) (i := 2 + n) v (by unfold fm; omega) O.2.2.1 O.1.2
    obtain ⟨f1, f2, f3, f4⟩ := fin f _ _ _ C2 (QI_cg qi (zv_nx (by omega)) fun _ => rfl) (sOk_n OK _) (vOk_cg V (fun j h1 h2 => zu_ne _ _ (by omega)) fun b => ⟨Or.inl rfl, Or.inl rfl⟩)
    have q1 := hq _ f1 f2 f3 f4
    simp (disch := first | assumption | omega | decide | (refine Eq.trans (hK_X _) ?_; assumption) | fail) only [gB, I_all, zK_v, zK_n, true_and, and_true, Nat.reduceAdd, Nat.reduceMul, Nat.reduceSub, z_lt, z_le, z_neq, not_false_eq_true, or_true, true_or, or_false, false_or, false_and, and_false, gX0_setNumber, hK_hQ, hL_hQ, hK_X, hL_X, ka, Ff, Fr, k2, l2, hBa]
    exact q1
end
