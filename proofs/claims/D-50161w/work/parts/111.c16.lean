/-! the component: a bus bunches, leaves -/
def vOk (σ : Sg) : Prop := (∀ s, s < 10 → sN σ (13 + s) = Int32.ofNat 0 ∨ sN σ (13 + s) = Int32.ofNat 1) ∧ ∀ b, b < 6 → (bF σ b 5 = Int32.ofNat 0 ∨ bF σ b 5 = Int32.ofNat 1) ∧ (bF σ b 8 = Int32.ofNat 0 ∨ bF σ b 8 = Int32.ofNat 1)
theorem sNo_B (σ : Sg) (b s : Nat) (t g : Int32) : sB (sNo σ b s t g) = sB σ := rfl
theorem sNo_R (σ : Sg) (b s : Nat) (t g : Int32) : sR (sNo σ b s t g) = sR σ := rfl
theorem sL2_no (σ : Sg) (b s : Nat) (t g : Int32) : sL2 (sNo σ b s t g) b s t g = sNo (sL2 σ b s t g) b s t g := by
  have e2 : sN (sNo σ b s t g) 2 = sN σ 2 := sNo_N _ _ _ _ _ _ (by omega)
  have e5 : bF (sNo σ b s t g) b 5 = bF σ b 5 := rfl
  have ec : ∀ i, i < 33 → inc (inc (zu (sN σ) (33 + s) t) (43 + s)) i = inc (zu (inc (sN σ) i) (33 + s) t) (43 + s) := fun i hi => by
    rw [inc_zu (by omega)]
    funext j
    unfold inc zu
    by_cases h1 : j = i
    · subst h1
      rw [if_pos rfl, if_neg (by omega), if_neg (by omega), if_neg (by omega), if_neg (by omega), if_pos rfl]
    · rw [if_neg h1]
      by_cases h2 : j = 43 + s
      · rw [if_pos h2, if_pos h2, if_neg (by omega), if_neg (by omega), if_neg (by omega)]
      · rw [if_neg h2, if_neg h2]
        by_cases h3 : j = 33 + s
        · rw [if_pos h3, if_pos h3]
        · rw [if_neg h3, if_neg h3, if_neg h1]
  unfold sL2
  rw [e2, e5]
  split
  · unfold sLa sNo sTe
    simp only [vs, sBs_N]
    have e6 := ec 6 (by omega)
    show (inc (inc (zu (sN σ) (33 + s) t) (43 + s)) 6, _) = (inc (zu (inc (sN σ) 6) (33 + s) t) (43 + s), _)
    rw [e6]
    rfl
  · split
    · unfold sLb sNo sTe
      simp only [vs, sBs_N]
      have e7 := ec 7 (by omega)
      show (inc (inc (zu (sN σ) (33 + s) t) (43 + s)) 7, _) = (inc (zu (inc (sN σ) 7) (33 + s) t) (43 + s), _)
      rw [e7]
      rfl
    · rfl
section
variable {κ : zC} {h : zH} {a n p q0 q K cap : Nat} {π : Pl} {A : Nat → Nat → Nat} {W : Nat → Nat → Int32} {SM : Nat → Nat → Int64} {Q : zQ} {σ : Sg}
theorem CAt_no {s b : Nat} {t g : Int32} (C : CAt π W SM σ) (OK : sOk π σ) (O : pOk π) (hs : s < plN π 0) : CAt π (laW W (19 + 8 * s) (min 8 ((sL σ s).length + 1) - 1) b t g) SM (sNo σ b s t g) := by
  have h10 := O.1.2
  have L := LC_add (b := b) (t := t) (g := g) (C.2.2.2.1 s hs) (OK.2.1 s (by omega)).1
  have := CAt_lv C hs O.1.2 O.2.2.1 (fun k j h1 => laW_o (by omega)) L
  have e : sNo σ b s t g = vN (vL σ (zu (sL σ) s ((if (sL σ s).length = 8 then (sL σ s).drop 1 else sL σ s) ++ [(b, t, g)]))) (zu (zu (sN σ) (33 + s) t) (43 + s) (sN σ (43 + s) + Int32.ofNat 1)) := by
    unfold sNo inc
    simp only [vs]
    rw [zu_ne _ _ (by omega : 43 + s ≠ 33 + s)]
    rfl
  rw [e]
  exact this
theorem e3_bunch {b s : Nat} {t g : Int32} (Z : ZS κ h a n p π A q0 q) (C : CAt π W SM σ) (OK : sOk π σ) (V : vOk σ) (hb : b < plN π 1) (hg : Int32.ofNat 0 ≤ g) (e1 : bF σ b 1 = Int32.ofNat s) (e2 : bF σ b 2 = t)
    (hq : ∀ W', CAt π W' SM (sL2 σ b s t g) → Kp W W' → Q (.inl none) (hX h a n W' SM)) :
    Ev κ mX3_bunch [.ref a, .ref (a + (15 + 8 * plN π 0 + 5 * b)), .int g] (hX h a n W SM) Q := by
  have F := cF Z.1 Z.2.2.2.2.1
  have F2 := cRf Z.1 Z.2.2.2.2.1
  have F3 := cK Z.1
  obtain ⟨B0, hcap⟩ := cBu Z.1 Z.2.2.2.2.1 hb
  have B := bX B0
  have Cb := C.2.2.2.2.1 b hb
  have O := Z.2.2.1
  have hb6 : b < 6 := by have := O.2.1.2; omega
  have hB : kB κ ≤ a := Z.1.1.1
  have hBK : kB κ ≤ a + (15 + 8 * plN π 0 + 5 * b) := by omega
  have w5 : W (15 + 8 * plN π 0 + 5 * b) 69 = bF σ b 5 := Cb.2.1.2.2.2.2.2.2.2.2.2.1
  have w2 : W 1 0 = sN σ 2 := C.1.1.2.2.1 0 (by omega)
  have d01 : ¬ Int32.ofNat 1 = Int32.ofNat 0 := by decide
  have d10 : ¬ Int32.ofNat 0 = Int32.ofNat 1 := by decide
  unfold sL2 at hq
  rcases (V.2 b hb6).1 with v5 | v5
  · rw [v5] at w5
    by_cases c : Int32.ofNat 4 * g < sN σ 2
    · have c' : ¬ sN σ 2 ≤ Int32.ofNat 4 * g := Int32.not_le.mpr c
      rw [if_pos ⟨hg, c, v5⟩] at hq
      have C1 := CAt_bs (g := 69) (c := 5) C (Int32.ofNat 1) (by unfold bm; omega) hb
      have C2 := CAt_inc (k := 0) (j := 25) (i := 6) C1 (by unfold fm; omega) O.2.2.1 O.1.2 (C1.1.1.2.2.2.1 0 (by omega))
      have OK1 : sOk π (sBs σ b 5 (Int32.ofNat 1)) := sOk_bs OK (fun h => absurd h (by decide)) (fun h => absurd h (by decide))
      have et := e3_tell (κ := κ) (k := 0) (t := t) (s := s) (v := g) (Q := zK κ mX3_bunch 38 3 [some (.ref a), some (.ref (a + (15 + 8 * plN π 0 + 5 * b))), some (.int g)] [] Q) Z C2 (sOk_n OK1 _) hb ((sBs_Fc _ _ _ _ (by decide)).trans e1) ((sBs_Fc _ _ _ _ (by decide)).trans e2) (fun W' C' K' => by
        simp (disch := first | assumption | omega | decide | (refine Eq.trans (hK_X _) ?_; assumption) | fail) only [gB, I_all, zK_v, zK_n, true_and, and_true, Nat.reduceAdd, Nat.reduceMul, Nat.reduceSub, z_lt, z_le, z_neq, not_false_eq_true, or_true, true_or, or_false, false_or, false_and, and_false, gX3_bunch, F]
        exact hq _ C' (((Kp_zv (by omega)).trans (Kp_zv (by omega))).trans K'))
      simp (disch := first | assumption | omega | decide | (refine Eq.trans (hK_X _) ?_; assumption) | fail) only [gB, I_all, zK_v, zK_n, true_and, and_true, Nat.reduceAdd, Nat.reduceMul, Nat.reduceSub, z_lt, z_le, z_neq, not_false_eq_true, or_true, true_or, or_false, false_or, false_and, and_false, gX3_bunch, F, F2, F3, B, w5, w2, hBK, z_fb1, zv_nx]
      simp (disch := omega) only [zv_nx] at et
      exact et
    · have c' : sN σ 2 ≤ Int32.ofNat 4 * g := Int32.not_lt.mp c
      rw [if_neg (fun x => c x.2.1), if_neg (fun x => d10 (v5.symm.trans x.2.2))] at hq
      have := hq _ C Kp.rfl
      simp (disch := first | assumption | omega | decide | (refine Eq.trans (hK_X _) ?_; assumption) | fail) only [gB, I_all, zK_v, zK_n, true_and, and_true, Nat.reduceAdd, Nat.reduceMul, Nat.reduceSub, z_lt, z_le, z_neq, not_false_eq_true, or_true, true_or, or_false, false_or, false_and, and_false, gX3_bunch, F, F2, F3, B, w5, w2]
      exact this
  · rw [v5] at w5
    rw [if_neg (fun x => d10 (x.2.2.symm.trans v5))] at hq
    by_cases c : sN σ 2 ≤ Int32.ofNat 2 * g
    · have c' : ¬ Int32.ofNat 2 * g < sN σ 2 := Int32.not_lt.mpr c
      rw [if_pos ⟨hg, c, v5⟩] at hq
      have C1 := CAt_bs (g := 69) (c := 5) C (Int32.ofNat 0) (by unfold bm; omega) hb
      have C2 := CAt_inc (k := 0) (j := 26) (i := 7) C1 (by unfold fm; omega) O.2.2.1 O.1.2 (C1.1.1.2.2.2.1 1 (by omega))
      have OK1 : sOk π (sBs σ b 5 (Int32.ofNat 0)) := sOk_bs OK (fun h => absurd h (by decide)) (fun h => absurd h (by decide))
      have et := e3_tell (κ := κ) (k := 1) (t := t) (s := s) (v := g) (Q := zK κ mX3_bunch 82 3 [some (.ref a), some (.ref (a + (15 + 8 * plN π 0 + 5 * b))), some (.int g)] [] Q) Z C2 (sOk_n OK1 _) hb ((sBs_Fc _ _ _ _ (by decide)).trans e1) ((sBs_Fc _ _ _ _ (by decide)).trans e2) (fun W' C' K' => by
        simp (disch := first | assumption | omega | decide | (refine Eq.trans (hK_X _) ?_; assumption) | fail) only [gB, I_all, zK_v, zK_n, true_and, and_true, Nat.reduceAdd, Nat.reduceMul, Nat.reduceSub, z_lt, z_le, z_neq, not_false_eq_true, or_true, true_or, or_false, false_or, false_and, and_false, gX3_bunch, F]
        exact hq _ C' (((Kp_zv (by omega)).trans (Kp_zv (by omega))).trans K'))
      simp (disch := first | assumption | omega | decide | (refine Eq.trans (hK_X _) ?_; assumption) | fail) only [gB, I_all, zK_v, zK_n, true_and, and_true, Nat.reduceAdd, Nat.reduceMul, Nat.reduceSub, z_lt, z_le, z_neq, not_false_eq_true, or_true, true_or, or_false, false_or, false_and, and_false, gX3_bunch, F, F2, F3, B, w5, w2, hBK, z_fb0, zv_nx]
      simp (disch := omega) only [zv_nx] at et
      exact et
    · have c' : Int32.ofNat 2 * g < sN σ 2 := Int32.not_le.mp c
      rw [if_neg (fun x => c x.2.1)] at hq
      have := hq _ C Kp.rfl
      simp (disch := first | assumption | omega | decide | (refine Eq.trans (hK_X _) ?_; assumption) | fail) only [gB, I_all, zK_v, zK_n, true_and, and_true, Nat.reduceAdd, Nat.reduceMul, Nat.reduceSub, z_lt, z_le, z_neq, not_false_eq_true, or_true, true_or, or_false, false_or, false_and, and_false, gX3_bunch, F, F2, F3, B, w5, w2]
      exact this
theorem vOk_cg {σ σ' : Sg} (V : vOk σ) (eN : ∀ j, 13 ≤ j → j < 23 → sN σ' j = sN σ j) (eF : ∀ b, (bF σ' b 5 = bF σ b 5 ∨ bF σ' b 5 = Int32.ofNat 0 ∨ bF σ' b 5 = Int32.ofNat 1) ∧ (bF σ' b 8 = bF σ b 8 ∨ bF σ' b 8 = Int32.ofNat 0 ∨ bF σ' b 8 = Int32.ofNat 1)) : vOk σ' := by
  refine ⟨fun s hs => by rw [eN _ (by omega) (by omega)]; exact V.1 s hs, fun b hb => ⟨?_, ?_⟩⟩
  · rcases (eF b).1 with e | e
    · rw [e]; exact (V.2 b hb).1
    · exact e
  · rcases (eF b).2 with e | e
    · rw [e]; exact (V.2 b hb).2
    · exact e
theorem e3_leave {b s : Nat} {t : Int32} (Z : ZS κ h a n p π A q0 q) (C : CAt π W SM σ) (OK : sOk π σ) (V : vOk σ) (hb : b < plN π 1) (hs : s < plN π 0) (e1 : bF σ b 1 = Int32.ofNat s) (e2 : bF σ b 2 = t) (ht : t.toInt ≤ 1073741824)
    (hq : ∀ W' SM', CAt π W' SM' (sLe π σ b t) → Kp W W' → Q (.inl none) (hX h a n W' SM')) :
    Ev κ mX3_leave [.ref a, .ref (a + (15 + 8 * plN π 0 + 5 * b))] (hX h a n W SM) Q := by
  have F := cF Z.1 Z.2.2.2.2.1
  have F2 := cRf Z.1 Z.2.2.2.2.1
  have F3 := cK Z.1
  have F4 := cE Z.1 Z.2.2.2.2.1
  obtain ⟨B0, hcap⟩ := cBu Z.1 Z.2.2.2.2.1 hb
  have B := bX B0
  have G := rF B0.2.2.2
  have T := rF (cRow Z.1 Z.2.2.2.2.1 hs)
  have O := Z.2.2.1
  have h10 := O.1.2
  have hb6 : b < 6 := by have := O.2.1.2; omega
  have hB : kB κ ≤ a := Z.1.1.1
  have hBK : kB κ ≤ a + (15 + 8 * plN π 0 + 5 * b) := by omega
  have Cb := C.2.2.2.2.1 b hb
  have eI : bI σ b 1 = s := bI_of (by omega) e1
  have w1 : W (15 + 8 * plN π 0 + 5 * b) 61 = Int32.ofNat s := Cb.2.1.2.1.trans e1
  have w2 : W (15 + 8 * plN π 0 + 5 * b) 62 = t := Cb.2.1.2.2.1.trans e2
  have s7 := (O.2.2.2.2.1 b hb).1
  rw [sLe_eq, eI] at hq
  have Bf := sBr_fr π σ s t
  have OK1 := sOk_br (s := s) (t := t) O OK (by omega)
  have e10 : sL0 π σ b t = (sBo π (sBr π σ s t) b s t).1 := by unfold sL0; rw [eI]
  simp (disch := first | assumption | omega | decide | (refine Eq.trans (hK_X _) ?_; assumption) | fail) only [gB, I_all, zK_v, zK_n, true_and, and_true, Nat.reduceAdd, Nat.reduceMul, Nat.reduceSub, z_lt, z_le, z_neq, not_false_eq_true, or_true, true_or, or_false, false_or, false_and, and_false, gX3_leave, F, B, w1, w2]
  refine e3_bring Z C OK hs ht fun W1 C1 K1 => ?_
  simp (disch := first | assumption | omega | decide | (refine Eq.trans (hK_X _) ?_; assumption) | fail) only [gB, I_all, zK_v, zK_n, true_and, and_true, Nat.reduceAdd, Nat.reduceMul, Nat.reduceSub, z_lt, z_le, z_neq, not_false_eq_true, or_true, true_or, or_false, false_or, false_and, and_false, gX3_leave, F, B, T]
  refine e3_board (t := t) Z C1 OK1 hb hs ((Bf.fF _ _).trans e1) ((Bf.fF _ _).trans e2) fun W2 SM2 C2 K2 => ?_
  have OK2 := sOk_bo (t := t) O OK1 hb (by omega : s < 10)
  have f2 : ∀ c, c ≠ 9 → bF (sBo π (sBr π σ s t) b s t).1 b c = bF σ b c := fun c hc => (sBo_F _ _ _ _ _ _ _ hc).trans (Bf.fF _ _)
  have f2n : ∀ k c, c ≠ 9 → bF (sBo π (sBr π σ s t) b s t).1 k c = bF σ k c := fun k c hc => (sBo_F _ _ _ _ _ _ _ hc).trans (Bf.fF _ _)
  have n2 : ∀ j, j < 63 → sN (sBo π (sBr π σ s t) b s t).1 j = sN σ j := fun j hj => (sBo_N _ _ _ _ _ _ (by omega)).trans (Bf.2.2.2.2 j hj)
  rw [← e10] at C2 OK2 f2 f2n n2
  generalize sL0 π σ b t = σ2 at *
  have C2b := C2.2.2.2.2.1 b hb
  have y0 : W2 (15 + 8 * plN π 0 + 5 * b) 57 = Int32.ofNat b := C2b.1.1
  have y1 : W2 (15 + 8 * plN π 0 + 5 * b) 61 = Int32.ofNat s := C2b.2.1.2.1.trans ((f2 1 (by omega)).trans e1)
  have y2 : W2 (15 + 8 * plN π 0 + 5 * b) 62 = t := C2b.2.1.2.2.1.trans ((f2 2 (by omega)).trans e2)
  have y8 : W2 (15 + 8 * plN π 0 + 5 * b) 58 = Int32.ofNat (plI π 7 b) := C2b.1.2.1.trans s7
  have ym : W2 (15 + 8 * plN π 0 + 5 * b + 1) 50 = Int32.ofNat (bR σ2 b).length := C2b.2.2.1
  have yr : W2 (15 + 8 * s) 50 = Int32.ofNat (sR σ2 s).length := (C2.2.2.1 s hs).1
  have lr := (OK2.1 s (by omega)).1
  have lb := (OK2.2.2.1 b hb6).2.1 hb
  have ef : ∀ (Q : zQ), Ev κ mX6_free [.ref (a + (15 + 8 * plN π 0 + 5 * b))] (hX h a n W2 SM2) Q = Q (.inl (some (.int (Int32.ofNat (plI π 7 b - (bR σ2 b).length))))) (hX h a n W2 SM2) := fun Q => by
    simp (disch := first | assumption | omega | decide | (refine Eq.trans (hK_X _) ?_; assumption) | fail) only [gB, I_all, zK_v, zK_n, true_and, and_true, Nat.reduceAdd, Nat.reduceMul, Nat.reduceSub, z_lt, z_le, z_neq, not_false_eq_true, or_true, true_or, or_false, false_or, false_and, and_false, gX6_free, F, B, G, y8, ym, I_sub]
  -- behind the row of the log
  have T3 : ∀ (W3 : Nat → Nat → Int32) (a2 : Int32), CAt π W3 SM2 (sL1 π σ2 b s t) → Kp W W3 → Go κ mX3_leave 49 [some (.ref a), some (.ref (a + (15 + 8 * plN π 0 + 5 * b))), some (.int a2), none] [] (hX h a n W3 SM2) Q := by
    intro W3 a2 C3 K3
    have OK3 := sOk_l1 (s := s) (t := t) OK2 hb6 hs
    have f3 : ∀ k c, c ≠ 9 → bF (sL1 π σ2 b s t) k c = bF σ k c := fun k c hc => by unfold bF; rw [sL1_F]; exact f2n k c hc
    have n3 : ∀ j, j < 63 → sN (sL1 π σ2 b s t) j = sN σ j := fun j hj => by
      rw [← n2 j hj]
      unfold sL1
      split <;> rfl
    generalize sL1 π σ2 b s t = σ3 at *
    have L := lX (cLv Z.1 Z.2.2.2.2.1 hs)
    have C3l := C3.2.2.2.1 s hs
    have C3b := C3.2.2.2.2.1 b hb
    have x0 : W3 (15 + 8 * plN π 0 + 5 * b) 57 = Int32.ofNat b := C3b.1.1
    have x1 : W3 (15 + 8 * plN π 0 + 5 * b) 61 = Int32.ofNat s := C3b.2.1.2.1.trans ((f3 b 1 (by omega)).trans e1)
    have x2 : W3 (15 + 8 * plN π 0 + 5 * b) 62 = t := C3b.2.1.2.2.1.trans ((f3 b 2 (by omega)).trans e2)
    have C4 := CAt_no (b := b) (t := t) (g := gapO σ3 s t) C3 OK3 O hs
    have OK4 := sOk_no (s := s) (t := t) (g := gapO σ3 s t) OK3 hb6
    have el := fun Q => e5_add (κ := κ) (SM := SM2) (Q := Q) (b := b) (t := t) (cLv Z.1 Z.2.2.2.2.1 hs) hB C3l.1 (OK3.2.1 s (by omega)).1 C3l.2.2.1
    have eg : (if sN σ3 (33 + s) < Int32.ofNat 0 then Int32.ofInt (-2) else t - sN σ3 (33 + s)) = gapO σ3 s t := rfl
    rw [eg] at el
    have K4 : Kp W (laW W3 (19 + 8 * s) (min 8 ((sL σ3 s).length + 1) - 1) b t (gapO σ3 s t)) := K3.trans fun j => laW_o (by omega)
    generalize laW W3 (19 + 8 * s) (min 8 ((sL σ3 s).length + 1) - 1) b t (gapO σ3 s t) = W4 at *
    have hq2 := hq
    generalize gapO σ3 s t = g at *
    -- behind the bunching
    have T5 : ∀ (W5 : Nat → Nat → Int32), CAt π W5 SM2 (sNo (sL2 σ3 b s t g) b s t g) → Kp W W5 → Go κ mX3_leave 80 [some (.ref a), some (.ref (a + (15 + 8 * plN π 0 + 5 * b))), some (.int a2), some (.int g)] [] (hX h a n W5 SM2) Q := by
      intro W5 C5 K5
      have f5 : ∀ c, c ≠ 9 → c ≠ 5 → bF (sNo (sL2 σ3 b s t g) b s t g) b c = bF σ b c := fun c h9 h5 => (sL2_F σ3 b s t g b c h5).trans (f3 b c h9)
      unfold sL3 at hq2
      generalize sNo (sL2 σ3 b s t g) b s t g = σ5 at *
      have C5b := C5.2.2.2.2.1 b hb
      have z2 : W5 (15 + 8 * plN π 0 + 5 * b) 62 = t := C5b.2.1.2.2.1.trans ((f5 2 (by omega) (by omega)).trans e2)
      have C6 := CAt_bs (g := 67) (c := 10) C5 t (by unfold bm; omega) hb
      have f6 : ∀ c, c ≠ 9 → c ≠ 5 → c ≠ 10 → bF (sBs σ5 b 10 t) b c = bF σ b c := fun c h9 h5 h10 => (sBs_Fc _ _ _ _ h10).trans (f5 c h9 h5)
      have ed := fun Q => e3_due (SM := SM2) (Q := Q) Z C6 hb hs ((f6 1 (by omega) (by omega) (by omega)).trans e1)
      have C7 := CAt_bs (g := 68) (c := 11) C6 (plT π 8 b + bF (sBs σ5 b 10 t) b 3 * sN (sBs σ5 b 10 t) 5 + plT π 5 s) (by unfold bm; omega) hb
      have eo := e3_driveOn (κ := κ) (SM := SM2) (t := t) (Q := zK κ mX3_leave 99 3 [some (.ref a), some (.ref (a + (15 + 8 * plN π 0 + 5 * b))), some (.int a2), some (.int g)] [] Q) Z C7 hb hs ((sBs_Fc _ _ _ _ (by decide)).trans ((f6 1 (by omega) (by omega) (by omega)).trans e1)) ((sBs_Fc _ _ _ _ (by decide)).trans ((f6 2 (by omega) (by omega) (by omega)).trans e2)) (fun W' C' K' => by
        simp (disch := first | assumption | omega | decide | (refine Eq.trans (hK_X _) ?_; assumption) | fail) only [gB, I_all, zK_v, zK_n, true_and, and_true, Nat.reduceAdd, Nat.reduceMul, Nat.reduceSub, z_lt, z_le, z_neq, not_false_eq_true, or_true, true_or, or_false, false_or, false_and, and_false, gX3_leave, F, B, L]
        exact hq2 _ _ C' (((K5.trans (Kp_zv (by omega))).trans (Kp_zv (by omega))).trans K'))
      simp (disch := first | assumption | omega | decide | (refine Eq.trans (hK_X _) ?_; assumption) | fail) only [gB, I_all, zK_v, zK_n, true_and, and_true, Nat.reduceAdd, Nat.reduceMul, Nat.reduceSub, z_lt, z_le, z_neq, not_false_eq_true, or_true, true_or, or_false, false_or, false_and, and_false, gX3_leave, F, B, L, z2, hBK, ed]
      exact eo
    simp (disch := first | assumption | omega | decide | (refine Eq.trans (hK_X _) ?_; assumption) | fail) only [gB, I_all, zK_v, zK_n, true_and, and_true, Nat.reduceAdd, Nat.reduceMul, Nat.reduceSub, z_lt, z_le, z_neq, not_false_eq_true, or_true, true_or, or_false, false_or, false_and, and_false, gX3_leave, F, F2, F3, F4, B, x0, x1, x2, el]
    by_cases c : g < Int32.ofNat 0
    · have c' : ¬ Int32.ofNat 0 ≤ g := Int32.not_le.mpr c
      have e6 : sL2 σ3 b s t g = σ3 := by
        unfold sL2
        rw [if_neg (fun x => c' x.1), if_neg (fun x => c' x.1)]
      have := T5 W4 (by rw [e6]; exact C4) K4
      simp (disch := first | assumption | omega | decide | (refine Eq.trans (hK_X _) ?_; assumption) | fail) only [gB, I_all, zK_v, zK_n, true_and, and_true, Nat.reduceAdd, Nat.reduceMul, Nat.reduceSub, z_lt, z_le, z_neq, not_false_eq_true, or_true, true_or, or_false, false_or, false_and, and_false, gX3_leave, F, B, L]
      simp (disch := first | assumption | omega | decide | (refine Eq.trans (hK_X _) ?_; assumption) | fail) only [gB, I_all, zK_v, zK_n, true_and, and_true, Nat.reduceAdd, Nat.reduceMul, Nat.reduceSub, z_lt, z_le, z_neq, not_false_eq_true, or_true, true_or, or_false, false_or, false_and, and_false, gX3_leave, F, B, L] at this
      exact this
    · have c' : Int32.ofNat 0 ≤ g := Int32.not_lt.mp c
      have V4 : vOk (sNo σ3 b s t g) := vOk_cg V (fun j h1 h2 => (sNo_N _ _ _ _ _ _ (by omega)).trans (n3 j (by omega))) fun k => ⟨Or.inl (f3 k 5 (by omega)), Or.inl (f3 k 8 (by omega))⟩
      have eb := e3_bunch (κ := κ) (SM := SM2) (Q := zK κ mX3_leave 77 3 [some (.ref a), some (.ref (a + (15 + 8 * plN π 0 + 5 * b))), some (.int a2), some (.int g)] [] Q) (s := s) (t := t) Z C4 OK4 V4 hb c' ((f3 b 1 (by omega)).trans e1) ((f3 b 2 (by omega)).trans e2) (fun W' C' K' => by
        rw [sL2_no] at C'
        have := T5 W' C' (K4.trans K')
        simp (disch := first | assumption | omega | decide | (refine Eq.trans (hK_X _) ?_; assumption) | fail) only [gB, I_all, zK_v, zK_n, true_and, and_true, Nat.reduceAdd, Nat.reduceMul, Nat.reduceSub, z_lt, z_le, z_neq, not_false_eq_true, or_true, true_or, or_false, false_or, false_and, and_false, gX3_leave, F, B, L]
        simp (disch := first | assumption | omega | decide | (refine Eq.trans (hK_X _) ?_; assumption) | fail) only [gB, I_all, zK_v, zK_n, true_and, and_true, Nat.reduceAdd, Nat.reduceMul, Nat.reduceSub, z_lt, z_le, z_neq, not_false_eq_true, or_true, true_or, or_false, false_or, false_and, and_false, gX3_leave, F, B, L] at this
        exact this)
      simp (disch := first | assumption | omega | decide | (refine Eq.trans (hK_X _) ?_; assumption) | fail) only [gB, I_all, zK_v, zK_n, true_and, and_true, Nat.reduceAdd, Nat.reduceMul, Nat.reduceSub, z_lt, z_le, z_neq, not_false_eq_true, or_true, true_or, or_false, false_or, false_and, and_false, gX3_leave, F, B, L]
      exact eb
  simp (disch := first | assumption | omega | decide | (refine Eq.trans (hK_X _) ?_; assumption) | fail) only [gB, I_all, zK_v, zK_n, true_and, and_true, Nat.reduceAdd, Nat.reduceMul, Nat.reduceSub, z_lt, z_le, z_neq, not_false_eq_true, or_true, true_or, or_false, false_or, false_and, and_false, gX3_leave, F, F2, F3, F4, B, T, y1, yr]
  by_cases c0 : 0 < (sR σ2 s).length
  · by_cases c1 : (bR σ2 b).length = plI π 7 b
    · have ez : plI π 7 b - (bR σ2 b).length = 0 := by omega
      rw [ez] at ef
      have el1 : sL1 π σ2 b s t = sTe σ2 t 4 b s (Int32.ofNat (sR σ2 s).length) := if_pos ⟨c1, c0⟩
      have et := e3_tell (κ := κ) (SM := SM2) (k := 4) (t := t) (s := s) (v := Int32.ofNat (sR σ2 s).length) (Q := zK κ mX3_leave 46 3 [some (.ref a), some (.ref (a + (15 + 8 * plN π 0 + 5 * b))), some (.int (Int32.ofNat (sR σ2 s).length)), none] [] Q) Z C2 OK2 hb ((f2 1 (by omega)).trans e1) ((f2 2 (by omega)).trans e2) (fun W' C' K' => by
        rw [← el1] at C'
        have := T3 W' (Int32.ofNat (sR σ2 s).length) C' ((K1.trans K2).trans K')
        simp (disch := first | assumption | omega | decide | (refine Eq.trans (hK_X _) ?_; assumption) | fail) only [gB, I_all, zK_v, zK_n, true_and, and_true, Nat.reduceAdd, Nat.reduceMul, Nat.reduceSub, z_lt, z_le, z_neq, not_false_eq_true, or_true, true_or, or_false, false_or, false_and, and_false, gX3_leave, F, B, T]
        simp (disch := first | assumption | omega | decide | (refine Eq.trans (hK_X _) ?_; assumption) | fail) only [gB, I_all, zK_v, zK_n, true_and, and_true, Nat.reduceAdd, Nat.reduceMul, Nat.reduceSub, z_lt, z_le, z_neq, not_false_eq_true, or_true, true_or, or_false, false_or, false_and, and_false, gX3_leave, F, B, T] at this
        exact this)
      simp (disch := first | assumption | omega | decide | (refine Eq.trans (hK_X _) ?_; assumption) | fail) only [gB, I_all, zK_v, zK_n, true_and, and_true, Nat.reduceAdd, Nat.reduceMul, Nat.reduceSub, z_lt, z_le, z_neq, not_false_eq_true, or_true, true_or, or_false, false_or, false_and, and_false, gX3_leave, F, B, T, ef]
      exact et
    · have el1 : sL1 π σ2 b s t = σ2 := if_neg (fun x => c1 x.1)
      have h0 : ¬ plI π 7 b - (bR σ2 b).length = 0 := by omega
      have h1 : plI π 7 b ≤ 99 := (O.2.2.2.2.1 b hb).2.2.1
      have := T3 W2 (Int32.ofNat (sR σ2 s).length) (by rw [el1]; exact C2) (K1.trans K2)
      simp (disch := first | assumption | omega | decide | (refine Eq.trans (hK_X _) ?_; assumption) | fail) only [gB, I_all, zK_v, zK_n, true_and, and_true, Nat.reduceAdd, Nat.reduceMul, Nat.reduceSub, z_lt, z_le, z_neq, not_false_eq_true, or_true, true_or, or_false, false_or, false_and, and_false, gX3_leave, F, B, T, ef]
      simp (disch := first | assumption | omega | decide | (refine Eq.trans (hK_X _) ?_; assumption) | fail) only [gB, I_all, zK_v, zK_n, true_and, and_true, Nat.reduceAdd, Nat.reduceMul, Nat.reduceSub, z_lt, z_le, z_neq, not_false_eq_true, or_true, true_or, or_false, false_or, false_and, and_false, gX3_leave, F, B, T] at this
      exact this
  · have el1 : sL1 π σ2 b s t = σ2 := if_neg (fun x => c0 x.2)
    have := T3 W2 (Int32.ofNat (sR σ2 s).length) (by rw [el1]; exact C2) (K1.trans K2)
    simp (disch := first | assumption | omega | decide | (refine Eq.trans (hK_X _) ?_; assumption) | fail) only [gB, I_all, zK_v, zK_n, true_and, and_true, Nat.reduceAdd, Nat.reduceMul, Nat.reduceSub, z_lt, z_le, z_neq, not_false_eq_true, or_true, true_or, or_false, false_or, false_and, and_false, gX3_leave, F, B, T]
    simp (disch := first | assumption | omega | decide | (refine Eq.trans (hK_X _) ?_; assumption) | fail) only [gB, I_all, zK_v, zK_n, true_and, and_true, Nat.reduceAdd, Nat.reduceMul, Nat.reduceSub, z_lt, z_le, z_neq, not_false_eq_true, or_true, true_or, or_false, false_or, false_and, and_false, gX3_leave, F, B, T] at this
    exact this
end
