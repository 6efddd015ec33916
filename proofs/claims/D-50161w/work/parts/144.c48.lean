/-! the component: operations: skip, hold, group -/
section
variable {κ : zC} {h h' : zH} {g : Nat → Nat} {p q0 q a hd y : Nat} {us : List Nat} {ks : Nat → Nat} {π : Pl} {A : Nat → Nat → Nat} {Q : zQ} {σ : Sg} {Y : Sy}
theorem e0_skip {x : Int32} (I : CI κ h g Y p A q0 q a hd us ks) (hq : OQ κ h g p A q0 q (ySk Y x) Q) : Ev κ mX0_skip [.ref (g 0), .int x] h Q := by
  have Z0 := I.cx
  have Z1 := Z0
  obtain ⟨kx, vx, S, OK, V⟩ := Z0
  have N := soN S
  have R := soR S
  have K := soK S
  have O := S.1.2.2.1
  have h6 := O.2.1
  have h10 := O.1
  unfold ySk at hq
  by_cases c : ¬ btw x 0 (plN (yP Y) 1 - 1)
  · rw [if_neg c] at hq
    have ei := fun (Q : zQ) => e0_isBusN (κ := κ) (Q := Q) Z1 c
    have q1 := I.nop hq
    simp (disch := first | assumption | omega | decide | (refine Eq.trans (hK_X _) ?_; assumption) | fail) only [gB, I_all, zK_v, zK_n, true_and, and_true, Nat.reduceAdd, Nat.reduceMul, Nat.reduceSub, z_lt, z_le, z_neq, not_false_eq_true, or_true, true_or, or_false, false_or, false_and, and_false, gX0_skip, kx, ei]
    exact q1
  replace c := Decidable.of_not_not c
  rw [if_pos c] at hq
  have ei := fun (Q : zQ) => e0_isBusY (κ := κ) (Q := Q) Z1 c
  obtain ⟨b, hs, -, hm, -⟩ := btw_nat c
  subst hs
  rw [I_nat (by omega)] at hq
  have hb : b < plN (yP Y) 1 := by omega
  have B := soB S hb
  obtain ⟨hv5, hv8⟩ := V.2 b (by omega)
  obtain ⟨st, s, h4, hs, q0', q1'⟩ := bst OK hb (by omega)
  have eI1 : bI (yS Y) b 1 = s := bI_of (by omega) q1'
  have F1 := (soRid S hb).1
  have eg := fun (Q : zQ) => so_going (κ := κ) (Q := Q) (to := s) S OK hb (by omega)
  by_cases c2 : bF (yS Y) b 8 = Int32.ofNat 1
  · rw [if_pos c2] at hq
    have q1 := I.nop hq
    rw [c2] at B
    simp (disch := first | assumption | omega | decide | (refine Eq.trans (hK_X _) ?_; assumption) | fail) only [gB, I_all, zK_v, zK_n, true_and, and_true, Nat.reduceAdd, Nat.reduceMul, Nat.reduceSub, z_lt, z_le, z_neq, not_false_eq_true, or_true, true_or, or_false, false_or, false_and, and_false, gX0_skip, kx, vx, N, R, K, zA13, B, ei]
    exact q1
  rw [if_neg c2] at hq
  have c2' : bF (yS Y) b 8 = Int32.ofNat 0 := hv8.resolve_right c2
  by_cases c3 : ¬ bF (yS Y) b 0 = Int32.ofNat 1
  · rw [if_pos c3] at hq
    have q1 := I.nop hq
    rw [c2'] at B
    simp (disch := first | assumption | omega | decide | (refine Eq.trans (hK_X _) ?_; assumption) | fail) only [gB, I_all, zK_v, zK_n, true_and, and_true, Nat.reduceAdd, Nat.reduceMul, Nat.reduceSub, z_lt, z_le, z_neq, not_false_eq_true, or_true, true_or, or_false, false_or, false_and, and_false, gX0_skip, kx, vx, N, R, K, zA13, B, ei]
    exact q1
  rw [if_neg c3] at hq
  replace c3 := Decidable.of_not_not c3
  rw [eI1] at hq
  rw [c2', c3, q1'] at B
  have gl : goTo (bR (yS Y) b) s ≤ 99 := Nat.le_trans (List.length_filter_le _ _) (OK.2.2.1 b (by omega)).1
  by_cases c4 : 0 < goTo (bR (yS Y) b) s
  · rw [if_pos c4] at hq
    have q1 := I.nop hq
    simp (disch := first | assumption | omega | decide | (refine Eq.trans (hK_X _) ?_; assumption) | fail) only [gB, I_all, zK_v, zK_n, true_and, and_true, Nat.reduceAdd, Nat.reduceMul, Nat.reduceSub, z_lt, z_le, z_neq, not_false_eq_true, or_true, true_or, or_false, false_or, false_and, and_false, gX0_skip, kx, vx, N, R, K, zA13, B, F1, ei, eg]
    exact q1
  rw [if_neg c4] at hq
  have ig : goTo (bR (yS Y) b) s = 0 := by omega
  rw [ig] at eg
  simp (disch := first | assumption | omega | decide | (refine Eq.trans (hK_X _) ?_; assumption) | fail) only [gB, I_all, zK_v, zK_n, true_and, and_true, Nat.reduceAdd, Nat.reduceMul, Nat.reduceSub, z_lt, z_le, z_neq, not_false_eq_true, or_true, true_or, or_false, false_or, false_and, and_false, gX0_skip, kx, vx, N, R, K, zA13, B, F1, ei, eg]
  refine act_do I fun h1 f W SM Z C qi k0 v3 fin => ?_
  have Ff := cF (ZS_q Z f).1 (ZS_q Z f).2.2.2.2.1
  have Fr := cRf (ZS_q Z f).1 (ZS_q Z f).2.2.2.2.1
  have Fe := cE (ZS_q Z f).1 (ZS_q Z f).2.2.2.2.1
  have Fb := bX (cBu (ZS_q Z f).1 (ZS_q Z f).2.2.2.2.1 hb).1
  have ka : hK h1 (hN h) = 103 := Z.1.1.2.1
  have k14 : hK h1 (hN h + 14) = 13 := Z.1.2.2.2.2.1.2.1
  have l14 : hL h1 (hN h + 14) = plN (yP Y) 1 := Z.1.2.2.2.2.1.2.2
  have hBa : kB κ ≤ hN h + (15 + 8 * plN (yP Y) 0 + 5 * b) := by have := Z.1.1.1; omega
  have C2 := CAt_bs C (g := 70) (c := 8) (Int32.ofNat 1) (by unfold bm; omega) hb
  obtain ⟨f1, f2, f3, f4⟩ := fin f _ _ _ C2 (QI_cg qi (zv_nx (by omega)) fun b' => sBs_Fc _ _ _ _ (by omega)) (sOk_bs OK (fun e => by omega) fun e => by omega) (vOk_cg V (fun j h1 h2 => rfl) fun b' => ⟨Or.inl (sBs_Fc _ _ _ _ (by omega)), by
    rw [sBs_F]
    split
    · exact Or.inr (Or.inr rfl)
    · exact Or.inl rfl⟩)
  have q1 := hq _ f1 f2 f3 f4
  have hya : a + (15 + 8 * plN (yP Y) 0 + 5 * b) < hN h := by have := I.2.2.2.2.2.2.1.2.1; omega
  have own : ¬ Ow g (a + (15 + 8 * plN (yP Y) 0 + 5 * b)) := fun ⟨i, hi, e⟩ => by have := I.2.2.2.2.2.2.1.2.2.1 i hi; omega
  obtain ⟨b1, b2, b3⟩ := f2.1 _ hya own
  have b61 := (b3 61).trans B.2.2.2.2.2.1
  have b106 : hK h1 (a + (15 + 8 * plN (yP Y) 0 + 5 * b)) = 106 := b1.trans B.1
  rw [show bF (yS Y) b 1 = Int32.ofNat s from q1'] at q1
  simp (disch := first | assumption | omega | decide | (refine Eq.trans (hK_X _) ?_; assumption) | fail) only [gB, I_all, zK_v, zK_n, true_and, and_true, Nat.reduceAdd, Nat.reduceMul, Nat.reduceSub, z_lt, z_le, z_neq, not_false_eq_true, or_true, true_or, or_false, false_or, false_and, and_false, gX0_skip, hK_hQ, hL_hQ, hK_X, hL_X, zA13, ka, Ff, Fr, Fe, k14, l14, Fb, hBa, b61, b106, z_fb1]
  exact q1
theorem e0_hold {x s : Int32} (I : CI κ h g Y p A q0 q a hd us ks) (hq : OQ κ h g p A q0 q (yHo Y x s) Q) : Ev κ mX0_hold [.ref (g 0), .int x, .int s] h Q := by
  have Z0 := I.cx
  have Z1 := Z0
  obtain ⟨kx, vx, S, OK, V⟩ := Z0
  have N := soN S
  have R := soR S
  have K := soK S
  have O := S.1.2.2.1
  have h6 := O.2.1
  unfold yHo at hq
  by_cases c : ¬ btw x 0 (plN (yP Y) 1 - 1)
  · rw [if_neg (fun z => c z.1)] at hq
    have ei := fun (Q : zQ) => e0_isBusN (κ := κ) (Q := Q) Z1 c
    have q1 := I.nop hq
    simp (disch := first | assumption | omega | decide | (refine Eq.trans (hK_X _) ?_; assumption) | fail) only [gB, I_all, zK_v, zK_n, true_and, and_true, Nat.reduceAdd, Nat.reduceMul, Nat.reduceSub, z_lt, z_le, z_neq, not_false_eq_true, or_true, true_or, or_false, false_or, false_and, and_false, gX0_hold, kx, ei]
    exact q1
  replace c := Decidable.of_not_not c
  have ei := fun (Q : zQ) => e0_isBusY (κ := κ) (Q := Q) Z1 c
  by_cases c1 : ¬ btw s 1 900
  · rw [if_neg (fun z => c1 z.2)] at hq
    have e2 := fun (h : zH) (Q : zQ) => e0_btN (κ := κ) (h := h) (Q := Q) (x := s) (l := 1) (u := 900) (by decide) (by decide) c1
    have q1 := I.nop hq
    simp (disch := first | assumption | omega | decide | (refine Eq.trans (hK_X _) ?_; assumption) | fail) only [gB, I_all, zK_v, zK_n, true_and, and_true, Nat.reduceAdd, Nat.reduceMul, Nat.reduceSub, z_lt, z_le, z_neq, not_false_eq_true, or_true, true_or, or_false, false_or, false_and, and_false, gX0_hold, kx, ei, e2]
    exact q1
  replace c1 := Decidable.of_not_not c1
  have e2 := fun (h : zH) (Q : zQ) => e0_btY (κ := κ) (h := h) (Q := Q) (x := s) (l := 1) (u := 900) (by decide) (by decide) c1
  rw [if_pos ⟨c, c1⟩] at hq
  obtain ⟨b, hs, -, hm, -⟩ := btw_nat c
  subst hs
  rw [I_nat (by omega)] at hq
  have hb : b < plN (yP Y) 1 := by omega
  have B := soB S hb
  have ea := fun (Q : zQ) => so_isAt (κ := κ) (Q := Q) S OK hb
  by_cases c2 : 2 ≤ bI (yS Y) b 0
  · rw [if_pos c2] at hq
    simp only [if_pos c2] at ea
    simp (disch := first | assumption | omega | decide | (refine Eq.trans (hK_X _) ?_; assumption) | fail) only [gB, I_all, zK_v, zK_n, true_and, and_true, Nat.reduceAdd, Nat.reduceMul, Nat.reduceSub, z_lt, z_le, z_neq, not_false_eq_true, or_true, true_or, or_false, false_or, false_and, and_false, gX0_hold, kx, vx, N, R, K, zA13, B, ei, e2, ea]
    refine act_do I fun h1 f W SM Z C qi k0 v3 fin => ?_
    have Fr := cRf (ZS_q Z f).1 (ZS_q Z f).2.2.2.2.1
    have Fe := cE (ZS_q Z f).1 (ZS_q Z f).2.2.2.2.1
    have ka : hK h1 (hN h) = 103 := Z.1.1.2.1
    have k14 : hK h1 (hN h + 14) = 13 := Z.1.2.2.2.2.1.2.1
    have l14 : hL h1 (hN h + 14) = plN (yP Y) 1 := Z.1.2.2.2.2.1.2.2
    simp (disch := first | assumption | omega | decide | (refine Eq.trans (hK_X _) ?_; assumption) | fail) only [gB, I_all, zK_v, zK_n, true_and, and_true, Nat.reduceAdd, Nat.reduceMul, Nat.reduceSub, z_lt, z_le, z_neq, not_false_eq_true, or_true, true_or, or_false, false_or, false_and, and_false, gX0_hold, hK_hQ, hL_hQ, hK_X, hL_X, zA13, k0, v3, ka, Fr, Fe, k14, l14]
    refine e3_delay Z C qi hb fun f' W' C' q' => ?_
    obtain ⟨f1, f2, f3, f4⟩ := fin f' W' SM _ C' q' (sOk_bs OK (fun e => by omega) fun e => by omega) (vOk_cg V (fun j h1 h2 => rfl) fun b' => ⟨Or.inl (sBs_Fc _ _ _ _ (by omega)), Or.inl (sBs_Fc _ _ _ _ (by omega))⟩)
    have q1 := hq _ f1 f2 f3 f4
    simp (disch := first | assumption | omega | decide | (refine Eq.trans (hK_X _) ?_; assumption) | fail) only [gB, I_all, zK_v, zK_n, true_and, and_true, Nat.reduceAdd, Nat.reduceMul, Nat.reduceSub, z_lt, z_le, z_neq, not_false_eq_true, or_true, true_or, or_false, false_or, false_and, and_false, gX0_hold]
    exact q1
  · rw [if_neg c2] at hq
    simp only [if_neg c2] at ea
    have q1 := I.nop hq
    simp (disch := first | assumption | omega | decide | (refine Eq.trans (hK_X _) ?_; assumption) | fail) only [gB, I_all, zK_v, zK_n, true_and, and_true, Nat.reduceAdd, Nat.reduceMul, Nat.reduceSub, z_lt, z_le, z_neq, not_false_eq_true, or_true, true_or, or_false, false_or, false_and, and_false, gX0_hold, kx, vx, N, R, K, zA13, B, ei, e2, ea]
    exact q1
theorem sGp_fr (σ : Sg) (f t : Nat) (tm : Int32) : ∀ k, Fr σ (sGp σ f t tm k).1 := by
  intro k
  induction k with
  | zero => exact Fr.rfl
  | succ k ih => exact ih.trans (sJn_fr _ _ _ _ _)
theorem sGr_fr (π : Pl) (σ : Sg) (f f' t : Nat) (tm : Int32) (k : Nat) : Fr σ (sGp (sBr π σ f tm) f' t tm k).1 := (sBr_fr π σ f tm).trans (sGp_fr _ _ _ _ k)
theorem vOk_fr {σ σ' : Sg} (V : vOk σ) (F : Fr σ σ') : vOk σ' := vOk_cg V (fun j h1 h2 => F.2.2.2.2 j (by omega)) fun b => ⟨Or.inl (F.fF b 5), Or.inl (F.fF b 8)⟩
theorem e0_group {x y m : Int32} (I : CI κ h g Y p A q0 q a hd us ks) (h0 : (sN (yS Y) 0).toInt ≤ 1073741824) (hq : OQ κ h g p A q0 q (yGr Y x y m) Q) : Ev κ mX0_group [.ref (g 0), .int x, .int y, .int m] h Q := by
  have Z0 := I.cx
  have Z1 := Z0
  obtain ⟨kx, vx, S, OK, V⟩ := Z0
  have N := soN S
  have O := S.1.2.2.1
  have h10 := O.1
  unfold yGr at hq
  by_cases c : ¬ btw x 0 (plN (yP Y) 0 - 1)
  · rw [if_neg (fun z => c z.1.1)] at hq
    have ei := fun (Q : zQ) => e0_isStopN (κ := κ) (Q := Q) Z1 c
    have q1 := I.nop hq
    simp (disch := first | assumption | omega | decide | (refine Eq.trans (hK_X _) ?_; assumption) | fail) only [gB, I_all, zK_v, zK_n, true_and, and_true, Nat.reduceAdd, Nat.reduceMul, Nat.reduceSub, z_lt, z_le, z_neq, not_false_eq_true, or_true, true_or, or_false, false_or, false_and, and_false, gX0_group, kx, ei]
    exact q1
  replace c := Decidable.of_not_not c
  have ei := fun (Q : zQ) => e0_isStopY (κ := κ) (Q := Q) Z1 c
  by_cases c1 : ¬ btw y 0 (plN (yP Y) 0 - 1)
  · rw [if_neg (fun z => c1 z.1.2)] at hq
    have e1 := fun (Q : zQ) => e0_isStopN (κ := κ) (Q := Q) Z1 c1
    have q1 := I.nop hq
    simp (disch := first | assumption | omega | decide | (refine Eq.trans (hK_X _) ?_; assumption) | fail) only [gB, I_all, zK_v, zK_n, true_and, and_true, Nat.reduceAdd, Nat.reduceMul, Nat.reduceSub, z_lt, z_le, z_neq, not_false_eq_true, or_true, true_or, or_false, false_or, false_and, and_false, gX0_group, kx, ei, e1]
    exact q1
  replace c1 := Decidable.of_not_not c1
  have e1 := fun (Q : zQ) => e0_isStopY (κ := κ) (Q := Q) Z1 c1
  by_cases c2 : x = y
  · rw [if_neg (fun z => z.2.1 c2)] at hq
    have q1 := I.nop hq
    simp (disch := first | assumption | omega | decide | (refine Eq.trans (hK_X _) ?_; assumption) | fail) only [gB, I_all, zK_v, zK_n, true_and, and_true, Nat.reduceAdd, Nat.reduceMul, Nat.reduceSub, z_lt, z_le, z_neq, not_false_eq_true, or_true, true_or, or_false, false_or, false_and, and_false, gX0_group, kx, ei, e1]
    exact q1
  by_cases c3 : ¬ btw m 1 40
  · rw [if_neg (fun z => c3 z.2.2)] at hq
    have e2 := fun (h : zH) (Q : zQ) => e0_btN (κ := κ) (h := h) (Q := Q) (x := m) (l := 1) (u := 40) (by decide) (by decide) c3
    have q1 := I.nop hq
    simp (disch := first | assumption | omega | decide | (refine Eq.trans (hK_X _) ?_; assumption) | fail) only [gB, I_all, zK_v, zK_n, true_and, and_true, Nat.reduceAdd, Nat.reduceMul, Nat.reduceSub, z_lt, z_le, z_neq, not_false_eq_true, or_true, true_or, or_false, false_or, false_and, and_false, gX0_group, kx, ei, e1, e2]
    exact q1
  replace c3 := Decidable.of_not_not c3
  have e2 := fun (h : zH) (Q : zQ) => e0_btY (κ := κ) (h := h) (Q := Q) (x := m) (l := 1) (u := 40) (by decide) (by decide) c3
  rw [if_pos ⟨⟨c, c1⟩, c2, c3⟩] at hq
  obtain ⟨f, hf, -, hfm, -⟩ := btw_nat c
  obtain ⟨t, ht, -, htm, -⟩ := btw_nat c1
  obtain ⟨k, hk, -, hkm, -⟩ := btw_nat c3
  subst hf; subst ht; subst hk
  rw [I_nat (by omega), I_nat (by omega), I_nat (by omega)] at hq
  dsimp only at hq
  simp (disch := first | assumption | omega | decide | (refine Eq.trans (hK_X _) ?_; assumption) | fail) only [gB, I_all, zK_v, zK_n, true_and, and_true, Nat.reduceAdd, Nat.reduceMul, Nat.reduceSub, z_lt, z_le, z_neq, not_false_eq_true, or_true, true_or, or_false, false_or, false_and, and_false, gX0_group, kx, ei, e1, e2]
  refine act_do I fun h1 fq W SM Z C qi k0 v3 fin => ?_
  have ka : hK h1 (hN h) = 103 := Z.1.1.2.1
  have Zf := ZS_q Z fq
  simp (disch := first | assumption | omega | decide | (refine Eq.trans (hK_X _) ?_; assumption) | fail) only [gB, I_all, zK_v, zK_n, true_and, and_true, Nat.reduceAdd, Nat.reduceMul, Nat.reduceSub, z_lt, z_le, z_neq, not_false_eq_true, or_true, true_or, or_false, false_or, false_and, and_false, gX0_group, hK_hQ, hL_hQ, hK_X, hL_X, ka]
  refine e3_group Zf C OK (by omega) (by omega) (by omega) h0 fun W' C' Kw => ?_
  obtain ⟨f1, f2, f3, f4⟩ := fin fq W' SM _ C' (QI_cg qi (Kw 171) fun b => (sGr_fr _ _ _ _ _ _ k).fF b 2) (sOk_gp (sOk_br O OK (by omega)) (by omega) (by omega) k) (vOk_fr V (sGr_fr _ _ _ _ _ _ k))
  have q1 := hq _ f1 f2 f3 f4
  simp (disch := first | assumption | omega | decide | (refine Eq.trans (hK_X _) ?_; assumption) | fail) only [gB, I_all, zK_v, zK_n, true_and, and_true, Nat.reduceAdd, Nat.reduceMul, Nat.reduceSub, z_lt, z_le, z_neq, not_false_eq_true, or_true, true_or, or_false, false_or, false_and, and_false, gX0_group]
  exact q1
end
