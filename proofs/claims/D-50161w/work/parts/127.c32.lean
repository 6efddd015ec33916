/-! the component: a state copied, from the start -/
section
variable {κ : zC} {h h' H : zH} {a a0 p q0 q S B n : Nat} {π : Pl} {A : Nat → Nat → Nat} {Q : zQ} {σ : Sg} {W : Nat → Nat → Int32} {SM : Nat → Nat → Int64} {ct : Nat → Nat} {f : Nat → Value}
theorem hA_nD (h : zH) (k n u : Nat) (f : Nat → Value) : hA h k n u f = hD h (hN h) [(k, n, f)] u := by
  refine zH_ext (fun x => ?_) (fun x => ?_) (fun x j => ?_) rfl rfl
  · rw [hK_A]
    show _ = if hN h ≤ x ∧ x < hN h + 1 then (dAt [(k, n, f)] (x - hN h)).1 else hK h x
    by_cases c : x = hN h
    · rw [if_pos c, if_pos (by omega), c, Nat.sub_self]; rfl
    · rw [if_neg c, if_neg (by omega)]
  · rw [hL_A]
    show _ = if hN h ≤ x ∧ x < hN h + 1 then (dAt [(k, n, f)] (x - hN h)).2.1 else hL h x
    by_cases c : x = hN h
    · rw [if_pos c, if_pos (by omega), c, Nat.sub_self]; rfl
    · rw [if_neg c, if_neg (by omega)]
  · rw [hV_A]
    show _ = if hN h ≤ x ∧ x < hN h + 1 then (dAt [(k, n, f)] (x - hN h)).2.2 j else hV h x j
    by_cases c : x = hN h
    · rw [if_pos c, if_pos (by omega), c, Nat.sub_self]; rfl
    · rw [if_neg c, if_neg (by omega)]
theorem e3_copy (Z : SAt κ h a0 p π A q0 q σ) (OK : sOk π σ) (V : vOk σ) (hqa : q ≤ hN h) (ha : a0 + (15 + 8 * plN π 0 + 5 * plN π 1) ≤ hN h)
    (hq : ∀ h', Ag h h' 0 (hN h) → hN h' = hN h + (15 + 8 * plN π 0 + 5 * plN π 1) → hU h' ≤ hU h + 4300 → SAt κ h' (hN h) p π A q0 q σ → Q (.inl (some (.ref (hN h)))) h') : Ev κ mX3_copy [.ref a0] h Q := by
  have Z0 := Z
  obtain ⟨⟨Zc, P, O, hq0, hn, hkb⟩, C, -⟩ := Z
  obtain ⟨a, haN⟩ : ∃ a, a = hN h := ⟨_, rfl⟩
  rw [← haN] at hqa ha hq
  have h10 := O.1.2
  have h6 := O.2.1.2
  have hB : kB κ ≤ a := Nat.le_trans Zc.1.1 (by omega)
  have kA : hK (hA h 103 0 25 gD) a0 = 103 := (hK_An (by omega)).trans Zc.1.2.1
  have vA : hV (hA h 103 0 25 gD) a0 22 = .ref p := (hV_An (by omega) _).trans Zc.1.2.2.1
  simp (disch := first | assumption | omega | decide | (refine Eq.trans (hK_X _) ?_; assumption) | fail) only [gB, I_all, zK_v, zK_n, true_and, and_true, Nat.reduceAdd, Nat.reduceMul, Nat.reduceSub, z_lt, z_le, z_neq, not_false_eq_true, or_true, true_or, or_false, false_or, false_and, and_false, gX3_copy_1, gX3_copy_2, kA, vA]
  rw [hA_nD, ← haN]
  refine e3_initT P O hqa hB haN.symm (plI π 7) fun h1 g1 n1 u1 F1 V1 => ?_
  have gX := fun (W : Nat → Nat → Int32) (SM : Nat → Nat → Int64) => (g1.sub (Nat.zero_le _) ha).trans (Ag_X (h := h1) (a := a) (n := 15 + 8 * plN π 0 + 5 * 0) (W := W) (SM := SM) (q0 := a0) (q := a0 + (15 + 8 * plN π 0 + 5 * plN π 1)) (Or.inl ha))
  have SF := fun W SM => srcF Zc (gX W SM)
  have SF0 := srcF Zc (g1.sub (Nat.zero_le _) ha)
  have F := fcF F1 rfl
  have F2 := fcRf F1 rfl
  have F3 := fcK F1
  have sI := F1.2.2.1.2.2.2
  have hB1 : ∀ k, kB κ ≤ a + k := fun k => by omega
  have c1 : ∀ W SM m, hC (hX h1 a (15 + 8 * plN π 0 + 5 * 0) W SM) (a0 + 1) 0 (a + 1) 0 m = hX h1 a (15 + 8 * plN π 0 + 5 * 0) (cpG W 1 0 m (wOf h a0 1)) SM := fun W SM m => hX_Cx (by omega) (by omega) (fun j => SF0.2.2.2.1 1 (by decide) j) (fun j => sI 1 (by decide) j)
  have c2 : ∀ W SM m, hC (hX h1 a (15 + 8 * plN π 0 + 5 * 0) W SM) (a0 + 2) 0 (a + 2) 0 m = hX h1 a (15 + 8 * plN π 0 + 5 * 0) (cpG W 2 0 m (wOf h a0 2)) SM := fun W SM m => hX_Cx (by omega) (by omega) (fun j => SF0.2.2.2.1 2 (by decide) j) (fun j => sI 2 (by decide) j)
  have k1 : hK h1 (a + 1) = 1 := (F1.2.1 (1, 34, 1, 4) (by decide)).2.1
  have k2 : hK h1 (a + 2) = 4 := (F1.2.1 (2, 35, 4, 10) (by decide)).2.1
  have o1 : ∀ W SM m, zOks (hX h1 a (15 + 8 * plN π 0 + 5 * 0) W SM) (a0 + 1) (a + 1) 0 m = True := fun W SM m => eq_true (zOks_I k1 fun j => ⟨_, (SF W SM).2.2.2.1 1 (by decide) j⟩)
  have o2 : ∀ W SM, zOks (hX h1 a (15 + 8 * plN π 0 + 5 * 0) W SM) (a0 + 2) (a + 2) 0 10 = True := fun W SM => eq_true (fun j hj => by
    rw [hK_X, k2, Nat.zero_add, (SF W SM).2.2.2.1 2 (by decide) j, C.1.1.2.2.2.2 j hj]
    rcases V.1 j hj with e | e <;> rw [e] <;> rfl)
  have za1 : zArr 1 = true := rfl
  have za4 : zArr 4 = true := rfl
  obtain ⟨W0, hW0⟩ : ∃ W0, W0 = wOf h1 a := ⟨_, rfl⟩
  obtain ⟨SM0, hSM0⟩ : ∃ SM0, SM0 = sOf h1 a := ⟨_, rfl⟩
  obtain ⟨V0, hV0⟩ : ∃ V0, V0 = wOf h a0 := ⟨_, rfl⟩
  obtain ⟨VS, hVS⟩ : ∃ VS, VS = sOf h a0 := ⟨_, rfl⟩
  obtain ⟨W1, hW1⟩ : ∃ W1, W1 = cpG (cpG (zv (zv (zv (zv (zv (zv (zv (zv (zv W0 0 23 (V0 0 23)) 0 24 (V0 0 24)) 0 25 (V0 0 25)) 0 26 (V0 0 26)) 0 27 (V0 0 27)) 0 28 (V0 0 28)) 0 29 (V0 0 29)) 0 30 (V0 0 30)) 0 31 (V0 0 31)) 1 0 4 (V0 1)) 2 0 10 (V0 2) := ⟨_, rfl⟩
  obtain ⟨SM1, hSM1⟩ : ∃ SM1, SM1 = zv (zv SM0 0 32 (VS 0 32)) 0 33 (VS 0 33) := ⟨_, rfl⟩
  have w0 : ∀ g ∈ cIG, W1 0 g = V0 0 g := fun g hg => by
    have gi : g = 23 ∨ g = 24 ∨ g = 25 ∨ g = 26 ∨ g = 27 ∨ g = 28 ∨ g = 29 ∨ g = 30 ∨ g = 31 := by simpa [cIG] using hg
    rw [hW1, cp_o (by omega), cp_o (by omega)]
    rcases gi with rfl | rfl | rfl | rfl | rfl | rfl | rfl | rfl | rfl <;> rfl
  have w1 : ∀ j, j < 4 → W1 1 j = V0 1 j := fun j hj => by rw [hW1, cp_o (by omega), cpG_in hj]
  have w2 : ∀ j, j < 10 → W1 2 j = V0 2 j := fun j hj => by rw [hW1, cpG_in hj]
  have wo : ∀ k j, 3 ≤ k → W1 k j = W0 k j := fun k j hk => by
    rw [hW1, cp_o (by omega), cp_o (by omega), zv_nx (by omega), zv_nx (by omega), zv_nx (by omega), zv_nx (by omega), zv_nx (by omega), zv_nx (by omega), zv_nx (by omega), zv_nx (by omega), zv_nx (by omega)]
  have s32 : SM1 0 32 = VS 0 32 := by rw [hSM1]; rfl
  have s33 : SM1 0 33 = VS 0 33 := by rw [hSM1]; rfl
  -- the heap behind the flat numbers
  obtain ⟨H1, hH1⟩ : ∃ H1, H1 = hX h1 a (15 + 8 * plN π 0 + 5 * 0) W1 SM1 := ⟨_, rfl⟩
  have G1 : Ag h H1 0 a := by rw [hH1]; exact g1.trans (Ag_X (Or.inl (Nat.le_refl _)))
  have Z1 : FSh κ H1 a p (plN π 0) (plN π 1) 0 (plI π 7) := by rw [hH1]; exact FSh_X F1 rfl
  have f1 : FV1 h H1 a0 a := by
    rw [hH1]
    refine ⟨fun g hg => ?_, ?_, ?_, fun j hj => ?_, fun j hj => ?_⟩
    · rw [← hV0, ← w0 g hg]; exact hV_Xi (k := 0) (by omega) (F1.2.2.1.1 g hg)
    · rw [← hVS, ← s32]; exact hV_Xj (k := 0) (by omega) F1.2.2.1.2.1
    · rw [← hVS, ← s33]; exact hV_Xj (k := 0) (by omega) F1.2.2.1.2.2.1
    · rw [← hV0, ← w1 j hj]; exact hV_Xi (by omega) (sI 1 (by decide) j)
    · rw [← hV0, ← w2 j hj]; exact hV_Xi (by omega) (sI 2 (by decide) j)
  have v5 : hV H1 (a + 5) 171 = .int (Int32.ofNat 0) := by
    rw [hH1, hV_Xi (by omega) F1.2.2.2.1.2.2.2.2.1, wo _ _ (by omega), hW0, wOf_i V1.2.2.2.2.1]
  have fin : Go κ mX3_copy 131 [some (.ref a0), some (.ref a), some (.int (Int32.ofNat 0))] [] H1 Q := by
    refine e3_cp1 Z0 OK ha G1 Z1 fun H K => ?_
    obtain ⟨⟨m1, m2⟩, m3, m4, m5⟩ := K
    have gH : Ag h H 0 a := G1.trans fun x _ hx => m3 x (by omega)
    have f1H : FV1 h H a0 a := ⟨fun g hg => ((m3 a (by omega)).2.2 g).trans (f1.1 g hg), ((m3 a (by omega)).2.2 _).trans f1.2.1, ((m3 a (by omega)).2.2 _).trans f1.2.2.1, fun j hj => ((m3 (a + 1) (by omega)).2.2 j).trans (f1.2.2.2.1 j hj), fun j hj => ((m3 (a + 2) (by omega)).2.2 j).trans (f1.2.2.2.2 j hj)⟩
    have nH : hN H = a + (15 + 8 * plN π 0 + 5 * 0) := by rw [m1, hH1]; exact n1
    refine e3_cp2 Z0 OK V hqa ha gH f1H ⟨⟨nH, by omega⟩, fun x _ _ _ _ => ⟨rfl, rfl, fun _ => rfl⟩, m4, m5, fun b hb => absurd hb (Nat.not_lt_zero _), wOf_i (((m3 (a + 5) (by omega)).2.2 171).trans v5), fun _ => 0, fun i hi => absurd hi (Nat.not_lt_zero _), ⟨fun i hi => absurd hi (Nat.not_lt_zero _), fun x hx => absurd hx (Nat.not_lt_zero _), fun i j hi => absurd hi (Nat.not_lt_zero _)⟩, fun i _ hi => absurd hi (Nat.not_lt_zero _)⟩ fun h' e1 e2 e3 e4 => hq h' e1 e2 ?_ e4
    have c3 : cN 3 = 25 := rfl
    have c4 : cN 4 = 4 := rfl
    have c5 : cN 5 = 6 := rfl
    have uH : hU H = hU h1 := by rw [m2, hH1]; rfl
    rw [uH, u1, c3, c4, c5] at e3
    omega
  rw [hH1, hW1, hSM1, hW0, hSM0, hV0, hVS] at fin
  rw [← hX_of h1 a (15 + 8 * plN π 0 + 5 * 0)]
  simp (disch := first | assumption | omega | decide | (refine Eq.trans (hK_X _) ?_; assumption) | fail) only [gB, I_all, zK_v, zK_n, true_and, and_true, Nat.reduceAdd, Nat.reduceMul, Nat.reduceSub, z_lt, z_le, z_neq, not_false_eq_true, or_true, true_or, or_false, false_or, false_and, and_false, gX3_copy_1, gX3_copy_2, F, F2, F3, SF, SF0, za1, za4, k1, k2, c1, c2, o1, o2, I_nat, I_0le, hB1]
  exact fin
end
