/-! the component: a bus is ready, arrives; its event happens -/
section
variable {κ : zC} {h : zH} {a n p q0 q K cap : Nat} {π : Pl} {A : Nat → Nat → Nat} {W : Nat → Nat → Int32} {SM : Nat → Nat → Int64} {Q : zQ} {σ : Sg}
theorem e3_ready {b s : Nat} {t : Int32} (Z : ZS κ h a n p π A q0 q) (C : CAt π W SM σ) (OK : sOk π σ) (V : vOk σ) (hb : b < plN π 1) (hs : s < plN π 0) (e1 : bF σ b 1 = Int32.ofNat s) (e2 : bF σ b 2 = t) (ht : t.toInt ≤ 1073741824) (hc : 0 ≤ (sN σ 3).toInt)
    (hq : ∀ W' SM', CAt π W' SM' (sRe π σ b t) → Kp W W' → Q (.inl none) (hX h a n W' SM')) :
    Ev κ mX3_ready [.ref a, .ref (a + (15 + 8 * plN π 0 + 5 * b))] (hX h a n W SM) Q := by
  have F := cF Z.1 Z.2.2.2.2.1
  have F2 := cRf Z.1 Z.2.2.2.2.1
  have F3 := cK Z.1
  have F4 := cE Z.1 Z.2.2.2.2.1
  obtain ⟨B0, hcap⟩ := cBu Z.1 Z.2.2.2.2.1 hb
  have B := bX B0
  have O := Z.2.2.1
  have h10 := O.1.2
  have hb6 : b < 6 := by have := O.2.1.2; omega
  have hB : kB κ ≤ a := Z.1.1.1
  have hBK : kB κ ≤ a + (15 + 8 * plN π 0 + 5 * b) := by omega
  have Cb := C.2.2.2.2.1 b hb
  have eI : bI σ b 1 = s := bI_of (by omega) e1
  have w1 : W (15 + 8 * plN π 0 + 5 * b) 61 = Int32.ofNat s := Cb.2.1.2.1.trans e1
  have w2 : W (15 + 8 * plN π 0 + 5 * b) 62 = t := Cb.2.1.2.2.1.trans e2
  have wm : W 0 24 = sN σ 1 := C.1.1.2.1
  have wc : W 1 1 = sN σ 3 := C.1.1.2.2.1 1 (by omega)
  have wp : W 2 s = sN σ (13 + s) := C.1.1.2.2.2.2 s (by omega)
  have w8 : W 0 27 = sN σ 8 := C.1.1.2.2.2.1 2 (by omega)
  have w9 : W 0 28 = sN σ 9 := C.1.1.2.2.2.1 3 (by omega)
  have ew := fun Q => e3_wanted (SM := SM) (m := sN σ 1) (t := t) (Q := Q) Z C OK hb hs e1
  have em := fun (x y : Int32) (h : zH) (Q : zQ) => e9_minI (κ := κ) (x := x) (y := y) (h := h) (Q := Q)
  have ex := fun (y : Int32) (h : zH) (Q : zQ) => e9_max0 (κ := κ) (y := y) (h := h) (Q := Q)
  rw [sRe_eq, eI] at hq
  have T : ∀ w : Int32, max0 (minI w (sN σ 3)) = sRh π σ b t → (¬ sRh π σ b t = Int32.ofNat 0 → w = wantd π σ b (sN σ 1) t) → Go κ mX3_ready 29 [some (.ref a), some (.ref (a + (15 + 8 * plN π 0 + 5 * b))), none, none] [.int w] (hX h a n W SM) Q := by
    intro w hw hw2
    have ev : sRw π σ b t = if sRh π σ b t = Int32.ofNat 0 then Int32.ofNat 0 else sN σ 1 + (if sRh π σ b t < wantd π σ b (sN σ 1) t then Int32.ofNat 10 else Int32.ofNat 0) := rfl
    generalize sRw π σ b t = v at *
    generalize sRh π σ b t = u at *
    have C1 := CAt_bs (g := 66) (c := 6) C u (by unfold bm; omega) hb
    have C2 := CAt_bs (g := 65) (c := 7) C1 v (by unfold bm; omega) hb
    have OK2 : sOk π (sR1 σ b u v) := sOk_hw OK
    have fR : ∀ c, c ≠ 6 → c ≠ 7 → bF (sR1 σ b u v) b c = bF σ b c := fun c h1 h2 => sR1_F _ _ _ _ _ _ h1 h2
    have K2 : Kp W (zv (zv W (15 + 8 * plN π 0 + 5 * b) 66 u) (15 + 8 * plN π 0 + 5 * b) 65 v) := (Kp_zv (by omega)).trans (Kp_zv (by omega))
    have C2' : CAt π (zv (zv W (15 + 8 * plN π 0 + 5 * b) 66 u) (15 + 8 * plN π 0 + 5 * b) 65 v) SM (sR1 σ b u v) := C2
    by_cases c0 : u = Int32.ofNat 0
    · subst c0
      rw [if_pos rfl] at hq ev
      subst ev
      have V2 : vOk (sR1 σ b (Int32.ofNat 0) (Int32.ofNat 0)) := vOk_cg V (fun j h1 h2 => rfl) fun k => ⟨Or.inl (sR1_F _ _ _ _ _ _ (by decide) (by decide)), Or.inl (sR1_F _ _ _ _ _ _ (by decide) (by decide))⟩
      have el := e3_leave (κ := κ) (t := t) (Q := zK κ mX3_ready 87 3 [some (.ref a), some (.ref (a + (15 + 8 * plN π 0 + 5 * b))), some (.int w), some (.int (Int32.ofNat 0))] [] Q) Z C2' OK2 V2 hb hs ((fR 1 (by omega) (by omega)).trans e1) ((fR 2 (by omega) (by omega)).trans e2) ht (fun W' SM' C' K' => by
        simp (disch := first | assumption | omega | decide | (refine Eq.trans (hK_X _) ?_; assumption) | fail) only [gB, I_all, zK_v, zK_n, true_and, and_true, Nat.reduceAdd, Nat.reduceMul, Nat.reduceSub, z_lt, z_le, z_neq, not_false_eq_true, or_true, true_or, or_false, false_or, false_and, and_false, gX3_ready, F, B]
        exact hq _ _ C' (K2.trans K'))
      simp (disch := first | assumption | omega | decide | (refine Eq.trans (hK_X _) ?_; assumption) | fail) only [gB, I_all, zK_v, zK_n, true_and, and_true, Nat.reduceAdd, Nat.reduceMul, Nat.reduceSub, z_lt, z_le, z_neq, not_false_eq_true, or_true, true_or, or_false, false_or, false_and, and_false, gX3_ready, F, F2, F3, B, wc, em, ex, hw, hBK]
      exact el
    · rw [if_neg c0] at hq ev
      have hw3 := hw2 c0
      subst hw3
      have C3 := CAt_inc (k := 0) (j := 27) (i := 8) C2' (by unfold fm; omega) O.2.2.1 O.1.2 (C2'.1.1.2.2.2.1 2 (by omega))
      have C4 := CAt_set (k := 0) (j := 28) (i := 9) C3 (inc (sN (sR1 σ b u v)) 8 9 + u) (by unfold fm; omega) O.2.2.1 O.1.2
      have i9 : inc (sN (sR1 σ b u v)) 8 9 = sN σ 9 := zu_ne _ _ (by omega)
      have OK4 := sOk_n (sOk_n OK2 (inc (sN (sR1 σ b u v)) 8)) (zu (inc (sN (sR1 σ b u v)) 8) 9 (inc (sN (sR1 σ b u v)) 8 9 + u))
      have et := e3_tell (κ := κ) (SM := SM) (k := 2) (t := t) (s := s) (v := u) (Q := zK κ mX3_ready 115 3 [some (.ref a), some (.ref (a + (15 + 8 * plN π 0 + 5 * b))), some (.int (wantd π σ b (sN σ 1) t)), some (.int u)] [] Q) Z C4 OK4 hb ((fR 1 (by omega) (by omega)).trans e1) ((fR 2 (by omega) (by omega)).trans e2) (fun W' C' K' => by
        have C5 := CAt_bs (g := 60) (c := 0) C' (Int32.ofNat 3) (by unfold bm; omega) hb
        have C6 := CAt_bs (g := 62) (c := 2) C5 (t + u) (by unfold bm; omega) hb
        have z2 : W' (15 + 8 * plN π 0 + 5 * b) 62 = t := (C'.2.2.2.2.1 b hb).2.1.2.2.1.trans ((fR 2 (by omega) (by omega)).trans e2)
        simp (disch := first | assumption | omega | decide | (refine Eq.trans (hK_X _) ?_; assumption) | fail) only [gB, I_all, zK_v, zK_n, true_and, and_true, Nat.reduceAdd, Nat.reduceMul, Nat.reduceSub, z_lt, z_le, z_neq, not_false_eq_true, or_true, true_or, or_false, false_or, false_and, and_false, gX3_ready, F, B, z2, hBK, zv_nx]
        refine hq _ _ ?_ ((((K2.trans (Kp_zv (by omega))).trans (Kp_zv (by omega))).trans K').trans ((Kp_zv (by omega)).trans (Kp_zv (by omega))))
        exact C6)
      rw [i9] at et
      by_cases c1 : u < wantd π σ b (sN σ 1) t
      · have c1' : ¬ wantd π σ b (sN σ 1) t ≤ u := Int32.not_le.mpr c1
        rw [if_pos c1] at ev
        subst ev
        simp (disch := first | assumption | omega | decide | (refine Eq.trans (hK_X _) ?_; assumption) | fail) only [gB, I_all, zK_v, zK_n, true_and, and_true, Nat.reduceAdd, Nat.reduceMul, Nat.reduceSub, z_lt, z_le, z_neq, not_false_eq_true, or_true, true_or, or_false, false_or, false_and, and_false, gX3_ready, F, F2, F3, B, wc, wm, w8, w9, em, ex, hw, hBK, zv_nx]
        simp (disch := omega) only [zv_nx, w8] at et
        exact et
      · have c1' : wantd π σ b (sN σ 1) t ≤ u := Int32.not_lt.mp c1
        rw [if_neg c1, I_a0] at ev
        subst ev
        simp (disch := first | assumption | omega | decide | (refine Eq.trans (hK_X _) ?_; assumption) | fail) only [gB, I_all, zK_v, zK_n, true_and, and_true, Nat.reduceAdd, Nat.reduceMul, Nat.reduceSub, z_lt, z_le, z_neq, not_false_eq_true, or_true, true_or, or_false, false_or, false_and, and_false, gX3_ready, F, F2, F3, B, wc, wm, w8, w9, em, ex, hw, hBK, zv_nx]
        simp (disch := omega) only [zv_nx, w8] at et
        exact et
  rcases V.1 s (by omega) with v0 | v0
  · have hh : sRh π σ b t = Int32.ofNat 0 := by
      unfold sRh
      rw [eI, v0, if_neg (by decide)]
    have T1 := T (Int32.ofNat 0) (by
      rw [hh]
      have z : (Int32.ofNat 0).toInt = 0 := by decide
      have h1 : Int32.ofNat 0 ≤ sN σ 3 := by rw [Int32.le_iff_toInt_le]; omega
      unfold max0 minI
      rw [if_pos h1, if_neg (by decide)]) (fun x => absurd hh x)
    rw [v0] at wp
    simp (disch := first | assumption | omega | decide | (refine Eq.trans (hK_X _) ?_; assumption) | fail) only [gB, I_all, zK_v, zK_n, true_and, and_true, Nat.reduceAdd, Nat.reduceMul, Nat.reduceSub, z_lt, z_le, z_neq, not_false_eq_true, or_true, true_or, or_false, false_or, false_and, and_false, gX3_ready, F, F2, F3, B, w1, wp]
    simp (disch := first | assumption | omega | decide | (refine Eq.trans (hK_X _) ?_; assumption) | fail) only [gB, I_all, zK_v, zK_n, true_and, and_true, Nat.reduceAdd, Nat.reduceMul, Nat.reduceSub, z_lt, z_le, z_neq, not_false_eq_true, or_true, true_or, or_false, false_or, false_and, and_false, gX3_ready, F, F2, F3, B] at T1
    exact T1
  · have hh : sRh π σ b t = heldB π σ b (sN σ 1) t := by
      unfold sRh
      rw [eI, v0, if_pos rfl]
    have T1 := T (wanC π σ b (sN σ 1) t) (by rw [hh]; exact wanC_h hc) (fun x => wanC_e (by rw [← hh]; exact x))
    rw [v0] at wp
    simp (disch := first | assumption | omega | decide | (refine Eq.trans (hK_X _) ?_; assumption) | fail) only [gB, I_all, zK_v, zK_n, true_and, and_true, Nat.reduceAdd, Nat.reduceMul, Nat.reduceSub, z_lt, z_le, z_neq, not_false_eq_true, or_true, true_or, or_false, false_or, false_and, and_false, gX3_ready, F, F2, F3, B, w1, w2, wm, wp, ew]
    simp (disch := first | assumption | omega | decide | (refine Eq.trans (hK_X _) ?_; assumption) | fail) only [gB, I_all, zK_v, zK_n, true_and, and_true, Nat.reduceAdd, Nat.reduceMul, Nat.reduceSub, z_lt, z_le, z_neq, not_false_eq_true, or_true, true_or, or_false, false_or, false_and, and_false, gX3_ready, F, F2, F3, B] at T1
    exact T1
theorem sCu_t (π : Pl) (σ : Sg) (b s : Nat) (t : Int32) (x y : Nat) : sCu (sCt π σ b t x y) b s t = sCt π (sCu σ b s t) b t x y := by
  unfold sCu
  have e : sR (sCt π σ b t x y) = sR σ := rfl
  rw [e]
  split <;> rfl
theorem e3_arrive {b s : Nat} {t : Int32} (Z : ZS κ h a n p π A q0 q) (C : CAt π W SM σ) (OK : sOk π σ) (V : vOk σ) (hb : b < plN π 1) (hs : s < plN π 0) (e1 : bF σ b 1 = Int32.ofNat s) (e2 : bF σ b 2 = t) (ht : t.toInt ≤ 1073741824)
    (hq : ∀ W' SM', CAt π W' SM' (sCo π σ b t).1 → Kp W W' → Q (.inl none) (hX h a n W' SM')) :
    Ev κ mX3_arrive [.ref a, .ref (a + (15 + 8 * plN π 0 + 5 * b))] (hX h a n W SM) Q := by
  have F := cF Z.1 Z.2.2.2.2.1
  have F2 := cRf Z.1 Z.2.2.2.2.1
  have F3 := cK Z.1
  have F4 := cE Z.1 Z.2.2.2.2.1
  have P := plX Z
  obtain ⟨B0, hcap⟩ := cBu Z.1 Z.2.2.2.2.1 hb
  have B := bX B0
  have T := rF (cRow Z.1 Z.2.2.2.2.1 hs)
  have O := Z.2.2.1
  have h10 := O.1.2
  have hb6 : b < 6 := by have := O.2.1.2; omega
  have hB : kB κ ≤ a := Z.1.1.1
  have hBK : kB κ ≤ a + (15 + 8 * plN π 0 + 5 * b) := by omega
  have Cb := C.2.2.2.2.1 b hb
  have eI : bI σ b 1 = s := bI_of (by omega) e1
  obtain ⟨st, s', h4, -, e0, -⟩ := bst OK hb hb6
  have w0 : W (15 + 8 * plN π 0 + 5 * b) 60 = Int32.ofNat st := Cb.2.1.1.trans e0
  have w1 : W (15 + 8 * plN π 0 + 5 * b) 61 = Int32.ofNat s := Cb.2.1.2.1.trans e1
  have w2 : W (15 + 8 * plN π 0 + 5 * b) 62 = t := Cb.2.1.2.2.1.trans e2
  have w3 : W (15 + 8 * plN π 0 + 5 * b) 63 = bF σ b 3 := Cb.2.1.2.2.2.1
  rw [sCo_eq, eI] at hq
  -- behind the round
  have T1 : ∀ (W1 : Nat → Nat → Int32) (τ : Sg), CAt π W1 SM τ → Kp W W1 → sOk π τ → vOk τ → sBr π τ s t = sC0 π σ b t → (∀ c, c ≠ 3 → bF τ b c = bF σ b c) → Go κ mX3_arrive 25 [some (.ref a), some (.ref (a + (15 + 8 * plN π 0 + 5 * b))), none, none, none] [] (hX h a n W1 SM) Q := by
    intro W1 τ C1 K1 OK1 V1 eτ f1
    have C1b := C1.2.2.2.2.1 b hb
    have y1 : W1 (15 + 8 * plN π 0 + 5 * b) 61 = Int32.ofNat s := C1b.2.1.2.1.trans ((f1 1 (by omega)).trans e1)
    have y2 : W1 (15 + 8 * plN π 0 + 5 * b) 62 = t := C1b.2.1.2.2.1.trans ((f1 2 (by omega)).trans e2)
    have Bf := sBr_fr π τ s t
    have OK2 := sOk_br (s := s) (t := t) O OK1 (by omega)
    simp (disch := first | assumption | omega | decide | (refine Eq.trans (hK_X _) ?_; assumption) | fail) only [gB, I_all, zK_v, zK_n, true_and, and_true, Nat.reduceAdd, Nat.reduceMul, Nat.reduceSub, z_lt, z_le, z_neq, not_false_eq_true, or_true, true_or, or_false, false_or, false_and, and_false, gX3_arrive, F, B, y1, y2]
    refine e3_bring Z C1 OK1 hs ht fun W2 C2 K2 => ?_
    have f2 : ∀ c, c ≠ 3 → bF (sBr π τ s t) b c = bF σ b c := fun c hc => (Bf.fF _ _).trans (f1 c hc)
    have v8 : bF (sBr π τ s t) b 8 = Int32.ofNat 0 ∨ bF (sBr π τ s t) b 8 = Int32.ofNat 1 := by rw [Bf.fF]; exact (V1.2 b hb6).2
    rw [eτ] at C2 OK2 f2 v8
    have K12 := K1.trans K2
    generalize sC0 π σ b t = σ2 at *
    have C2b := C2.2.2.2.2.1 b hb
    have x8 : W2 (15 + 8 * plN π 0 + 5 * b) 70 = bF σ2 b 8 := C2b.2.1.2.2.2.2.2.2.2.2.2.2
    rcases v8 with v8 | v8
    · rw [v8] at x8
      rw [v8, if_neg (by decide)] at hq
      have g1 := (f2 1 (by omega)).trans e1
      have g2 := (f2 2 (by omega)).trans e2
      simp (disch := first | assumption | omega | decide | (refine Eq.trans (hK_X _) ?_; assumption) | fail) only [gB, I_all, zK_v, zK_n, true_and, and_true, Nat.reduceAdd, Nat.reduceMul, Nat.reduceSub, z_lt, z_le, z_neq, not_false_eq_true, or_true, true_or, or_false, false_or, false_and, and_false, gX3_arrive, F, B, x8]
      refine e3_alight (t := t) Z C2 OK2 hb hs g1 g2 fun W3 SM3 C3 K3 => ?_
      have OK3 := sOk_al (b := b) (s := s) (t := t) OK2
      have g31 := (sAl_F σ2 b s t b 1).trans g1
      have g32 := (sAl_F σ2 b s t b 2).trans g2
      have hA : (sAl σ2 b s t).2 ≤ 99 := by
        have a1 : (sAl σ2 b s t).2 = ((bR σ2 b).filter fun r => decide (r.1 = s)).length := rfl
        have a2 := List.length_filter_le (fun r : Rd => decide (r.1 = s)) (bR σ2 b)
        have a3 := (OK2.2.2.1 b hb6).1
        omega
      generalize sAl σ2 b s t = r3 at *
      obtain ⟨σ3, x3⟩ := r3
      dsimp only at *
      simp (disch := first | assumption | omega | decide | (refine Eq.trans (hK_X _) ?_; assumption) | fail) only [gB, I_all, zK_v, zK_n, true_and, and_true, Nat.reduceAdd, Nat.reduceMul, Nat.reduceSub, z_lt, z_le, z_neq, not_false_eq_true, or_true, true_or, or_false, false_or, false_and, and_false, gX3_arrive, F, B, T]
      refine e3_board (t := t) Z C3 OK3 hb hs g31 g32 fun W4 SM4 C4 K4 => ?_
      have OK4 := sOk_bo (t := t) O OK3 hb (by omega : s < 10)
      have g41 := (sBo_F π σ3 b s t b 1 (by omega)).trans g31
      have g42 := (sBo_F π σ3 b s t b 2 (by omega)).trans g32
      have hA4 : (sBo π σ3 b s t).2 ≤ 40 := by
        have a1 := sBo_k π σ3 b s t
        have a3 := (OK3.1 s (by omega)).1
        omega
      generalize sBo π σ3 b s t = r4 at *
      obtain ⟨σ4, x4⟩ := r4
      dsimp only at *
      have C4b := C4.2.2.2.2.1 b hb
      have z1 : W4 (15 + 8 * plN π 0 + 5 * b) 61 = Int32.ofNat s := C4b.2.1.2.1.trans g41
      have zr : W4 (15 + 8 * s) 50 = Int32.ofNat (sR σ4 s).length := (C4.2.2.1 s hs).1
      have zl : W4 0 29 = sN σ4 10 := C4.1.1.2.2.2.1 4 (by omega)
      have lr := (OK4.1 s (by omega)).1
      rw [sCu_t] at hq
      have K4' := (K12.trans K3).trans K4
      have T5 : ∀ (W5 : Nat → Nat → Int32) (x : Value), CAt π W5 SM4 (sCu σ4 b s t) → Kp W W5 → bF (sCu σ4 b s t) b 2 = t → Go κ mX3_arrive 115 [some (.ref a), some (.ref (a + (15 + 8 * plN π 0 + 5 * b))), some (.int (Int32.ofNat x3)), some (.int (Int32.ofNat x4)), some x] [] (hX h a n W5 SM4) Q := by
        intro W5 x C5 K5 g52
        have C5b := C5.2.2.2.2.1 b hb
        have u2 : W5 (15 + 8 * plN π 0 + 5 * b) 62 = t := C5b.2.1.2.2.1.trans g52
        have C6 := CAt_bs (g := 60) (c := 0) C5 (Int32.ofNat 2) (by unfold bm; omega) hb
        have C7 := CAt_bs (g := 62) (c := 2) C6 (t + (plT π 0 0 + plT π 0 2 * Int32.ofNat x3 + plT π 0 1 * Int32.ofNat x4)) (by unfold bm; omega) hb
        have ea : t + (plT π 0 0 + plT π 0 2 * Int32.ofNat x3 + plT π 0 1 * Int32.ofNat x4) = t + plT π 0 0 + plT π 0 2 * Int32.ofNat x3 + plT π 0 1 * Int32.ofNat x4 := by rw [← Int32.add_assoc, ← Int32.add_assoc]
        have hq2 := hq (zv (zv W5 (15 + 8 * plN π 0 + 5 * b) 60 (Int32.ofNat 2)) (15 + 8 * plN π 0 + 5 * b) 62 (t + (plT π 0 0 + plT π 0 2 * Int32.ofNat x3 + plT π 0 1 * Int32.ofNat x4))) SM4 (by
          unfold sCt
          rw [← ea]
          exact C7) ((K5.trans (Kp_zv (by omega))).trans (Kp_zv (by omega)))
        simp (disch := first | assumption | omega | decide | (refine Eq.trans (hK_X _) ?_; assumption) | fail) only [gB, I_all, zK_v, zK_n, true_and, and_true, Nat.reduceAdd, Nat.reduceMul, Nat.reduceSub, z_lt, z_le, z_neq, not_false_eq_true, or_true, true_or, or_false, false_or, false_and, and_false, gX3_arrive, F, B, P, u2, hBK, zv_nx]
        exact hq2
      simp (disch := first | assumption | omega | decide | (refine Eq.trans (hK_X _) ?_; assumption) | fail) only [gB, I_all, zK_v, zK_n, true_and, and_true, Nat.reduceAdd, Nat.reduceMul, Nat.reduceSub, z_lt, z_le, z_neq, not_false_eq_true, or_true, true_or, or_false, false_or, false_and, and_false, gX3_arrive, F, F2, F3, F4, B, T, z1, zr]
      by_cases c0 : 0 < (sR σ4 s).length
      · have eu : sCu σ4 b s t = sTe (vN σ4 (zu (sN σ4) 10 (sN σ4 10 + Int32.ofNat (sR σ4 s).length))) t 3 b s (Int32.ofNat (sR σ4 s).length) := if_pos c0
        have C5 := CAt_set (k := 0) (j := 29) (i := 10) C4 (sN σ4 10 + Int32.ofNat (sR σ4 s).length) (by unfold fm; omega) O.2.2.1 O.1.2
        have et := e3_tell (κ := κ) (SM := SM4) (k := 3) (t := t) (s := s) (v := Int32.ofNat (sR σ4 s).length) (Q := zK κ mX3_arrive 112 3 [some (.ref a), some (.ref (a + (15 + 8 * plN π 0 + 5 * b))), some (.int (Int32.ofNat x3)), some (.int (Int32.ofNat x4)), some (.int (Int32.ofNat (sR σ4 s).length))] [] Q) Z C5 (sOk_n OK4 _) hb g41 g42 (fun W' C' K' => by
          rw [← eu] at C'
          have := T5 W' (.int (Int32.ofNat (sR σ4 s).length)) C' ((K4'.trans (Kp_zv (by omega))).trans K') (by rw [eu]; exact g42)
          simp (disch := first | assumption | omega | decide | (refine Eq.trans (hK_X _) ?_; assumption) | fail) only [gB, I_all, zK_v, zK_n, true_and, and_true, Nat.reduceAdd, Nat.reduceMul, Nat.reduceSub, z_lt, z_le, z_neq, not_false_eq_true, or_true, true_or, or_false, false_or, false_and, and_false, gX3_arrive, F, B, T]
          simp (disch := first | assumption | omega | decide | (refine Eq.trans (hK_X _) ?_; assumption) | fail) only [gB, I_all, zK_v, zK_n, true_and, and_true, Nat.reduceAdd, Nat.reduceMul, Nat.reduceSub, z_lt, z_le, z_neq, not_false_eq_true, or_true, true_or, or_false, false_or, false_and, and_false, gX3_arrive, F, B, T] at this
          exact this)
        simp (disch := first | assumption | omega | decide | (refine Eq.trans (hK_X _) ?_; assumption) | fail) only [gB, I_all, zK_v, zK_n, true_and, and_true, Nat.reduceAdd, Nat.reduceMul, Nat.reduceSub, z_lt, z_le, z_neq, not_false_eq_true, or_true, true_or, or_false, false_or, false_and, and_false, gX3_arrive, F, B, T, zl]
        exact et
      · have eu : sCu σ4 b s t = σ4 := if_neg c0
        have := T5 W4 (.int (Int32.ofNat (sR σ4 s).length)) (by rw [eu]; exact C4) K4' (by rw [eu]; exact g42)
        simp (disch := first | assumption | omega | decide | (refine Eq.trans (hK_X _) ?_; assumption) | fail) only [gB, I_all, zK_v, zK_n, true_and, and_true, Nat.reduceAdd, Nat.reduceMul, Nat.reduceSub, z_lt, z_le, z_neq, not_false_eq_true, or_true, true_or, or_false, false_or, false_and, and_false, gX3_arrive, F, B, T]
        simp (disch := first | assumption | omega | decide | (refine Eq.trans (hK_X _) ?_; assumption) | fail) only [gB, I_all, zK_v, zK_n, true_and, and_true, Nat.reduceAdd, Nat.reduceMul, Nat.reduceSub, z_lt, z_le, z_neq, not_false_eq_true, or_true, true_or, or_false, false_or, false_and, and_false, gX3_arrive, F, B, T] at this
        exact this
    · rw [v8] at x8
      rw [v8, if_pos rfl] at hq
      have C3 := CAt_bs (g := 70) (c := 8) C2 (Int32.ofNat 0) (by unfold bm; omega) hb
      have C4 := CAt_inc (k := 0) (j := 30) (i := 11) C3 (by unfold fm; omega) O.2.2.1 O.1.2 (C3.1.1.2.2.2.1 5 (by omega))
      have eo := e3_driveOn (κ := κ) (SM := SM) (t := t) (Q := zK κ mX3_arrive 61 3 [some (.ref a), some (.ref (a + (15 + 8 * plN π 0 + 5 * b))), none, none, none] [] Q) Z C4 hb hs ((sBs_Fc _ _ _ _ (by decide)).trans ((f2 1 (by omega)).trans e1)) ((sBs_Fc _ _ _ _ (by decide)).trans ((f2 2 (by omega)).trans e2)) (fun W' C' K' => by
        simp (disch := first | assumption | omega | decide | (refine Eq.trans (hK_X _) ?_; assumption) | fail) only [gB, I_all, zK_v, zK_n, true_and, and_true, Nat.reduceAdd, Nat.reduceMul, Nat.reduceSub, z_lt, z_le, z_neq, not_false_eq_true, or_true, true_or, or_false, false_or, false_and, and_false, gX3_arrive, F, B, T]
        exact hq _ _ C' (((K12.trans (Kp_zv (by omega))).trans (Kp_zv (by omega))).trans K'))
      simp (disch := first | assumption | omega | decide | (refine Eq.trans (hK_X _) ?_; assumption) | fail) only [gB, I_all, zK_v, zK_n, true_and, and_true, Nat.reduceAdd, Nat.reduceMul, Nat.reduceSub, z_lt, z_le, z_neq, not_false_eq_true, or_true, true_or, or_false, false_or, false_and, and_false, gX3_arrive, F, B, x8, hBK, z_fb0, zv_nx]
      simp (disch := omega) only [zv_nx] at eo
      exact eo
  by_cases c : st = 1 ∧ s = 0
  · have ec : sC0 π σ b t = sBr π (sBs σ b 3 (bF σ b 3 + Int32.ofNat 1)) s t := by
      unfold sC0
      rw [eI, if_pos ⟨by rw [e0, c.1], c.2⟩]
    have C1 := CAt_bs (g := 63) (c := 3) C (bF σ b 3 + Int32.ofNat 1) (by unfold bm; omega) hb
    have := T1 _ _ C1 (Kp_zv (by omega)) (sOk_bs OK (fun h => absurd h (by decide)) (fun h => absurd h (by decide))) (vOk_cg V (fun j h1 h2 => rfl) fun k => ⟨Or.inl (sBs_Fc _ _ _ _ (by decide)), Or.inl (sBs_Fc _ _ _ _ (by decide))⟩) ec.symm fun c hc => sBs_Fc _ _ _ _ hc
    obtain ⟨c1, c2⟩ := c
    simp (disch := first | assumption | omega | decide | (refine Eq.trans (hK_X _) ?_; assumption) | fail) only [gB, I_all, zK_v, zK_n, true_and, and_true, Nat.reduceAdd, Nat.reduceMul, Nat.reduceSub, z_lt, z_le, z_neq, not_false_eq_true, or_true, true_or, or_false, false_or, false_and, and_false, gX3_arrive, F, B, w0, w1, w3, hBK]
    simp (disch := first | assumption | omega | decide | (refine Eq.trans (hK_X _) ?_; assumption) | fail) only [gB, I_all, zK_v, zK_n, true_and, and_true, Nat.reduceAdd, Nat.reduceMul, Nat.reduceSub, z_lt, z_le, z_neq, not_false_eq_true, or_true, true_or, or_false, false_or, false_and, and_false, gX3_arrive, F, B, T] at this
    exact this
  · have ec : sC0 π σ b t = sBr π σ s t := by
      unfold sC0
      rw [eI, if_neg]
      rintro ⟨c1, c2⟩
      rw [e0, I_eq (by omega) (by omega)] at c1
      exact c ⟨c1, c2⟩
    have := T1 _ _ C Kp.rfl OK V ec.symm fun c hc => rfl
    by_cases c1 : st = 1
    · have c2 : ¬ s = 0 := fun x => c ⟨c1, x⟩
      simp (disch := first | assumption | omega | decide | (refine Eq.trans (hK_X _) ?_; assumption) | fail) only [gB, I_all, zK_v, zK_n, true_and, and_true, Nat.reduceAdd, Nat.reduceMul, Nat.reduceSub, z_lt, z_le, z_neq, not_false_eq_true, or_true, true_or, or_false, false_or, false_and, and_false, gX3_arrive, F, B, w0, w1]
      simp (disch := first | assumption | omega | decide | (refine Eq.trans (hK_X _) ?_; assumption) | fail) only [gB, I_all, zK_v, zK_n, true_and, and_true, Nat.reduceAdd, Nat.reduceMul, Nat.reduceSub, z_lt, z_le, z_neq, not_false_eq_true, or_true, true_or, or_false, false_or, false_and, and_false, gX3_arrive, F, B, w1] at this
      exact this
    · simp (disch := first | assumption | omega | decide | (refine Eq.trans (hK_X _) ?_; assumption) | fail) only [gB, I_all, zK_v, zK_n, true_and, and_true, Nat.reduceAdd, Nat.reduceMul, Nat.reduceSub, z_lt, z_le, z_neq, not_false_eq_true, or_true, true_or, or_false, false_or, false_and, and_false, gX3_arrive, F, B, w0, w1]
      simp (disch := first | assumption | omega | decide | (refine Eq.trans (hK_X _) ?_; assumption) | fail) only [gB, I_all, zK_v, zK_n, true_and, and_true, Nat.reduceAdd, Nat.reduceMul, Nat.reduceSub, z_lt, z_le, z_neq, not_false_eq_true, or_true, true_or, or_false, false_or, false_and, and_false, gX3_arrive, F, B, w1] at this
      exact this
theorem e3_happen {b : Nat} (Z : ZS κ h a n p π A q0 q) (C : CAt π W SM σ) (OK : sOk π σ) (V : vOk σ) (hb : b < plN π 1) (ht : (bF σ b 2).toInt ≤ 1073741824) (hc : 0 ≤ (sN σ 3).toInt)
    (hq : ∀ W' SM', CAt π W' SM' (sHa π σ b).1 → Kp W W' → Q (.inl none) (hX h a n W' SM')) :
    Ev κ mX3_happen [.ref a, .ref (a + (15 + 8 * plN π 0 + 5 * b))] (hX h a n W SM) Q := by
  have F := cF Z.1 Z.2.2.2.2.1
  obtain ⟨B0, hcap⟩ := cBu Z.1 Z.2.2.2.2.1 hb
  have B := bX B0
  have O := Z.2.2.1
  have hb6 : b < 6 := by have := O.2.1.2; omega
  have Cb := C.2.2.2.2.1 b hb
  obtain ⟨st, s, h4, hs, e0, e1⟩ := bst OK hb hb6
  have w0 : W (15 + 8 * plN π 0 + 5 * b) 60 = Int32.ofNat st := Cb.2.1.1.trans e0
  unfold sHa at hq
  dsimp only at hq
  rw [e0] at hq
  by_cases c2 : st = 2
  · subst c2
    rw [if_pos rfl] at hq
    simp (disch := first | assumption | omega | decide | (refine Eq.trans (hK_X _) ?_; assumption) | fail) only [gB, I_all, zK_v, zK_n, true_and, and_true, Nat.reduceAdd, Nat.reduceMul, Nat.reduceSub, z_lt, z_le, z_neq, not_false_eq_true, or_true, true_or, or_false, false_or, false_and, and_false, gX3_happen, F, B, w0]
    refine e3_ready Z C OK V hb hs e1 rfl ht hc fun W1 SM1 C1 K1 => ?_
    simp (disch := first | assumption | omega | decide | (refine Eq.trans (hK_X _) ?_; assumption) | fail) only [gB, I_all, zK_v, zK_n, true_and, and_true, Nat.reduceAdd, Nat.reduceMul, Nat.reduceSub, z_lt, z_le, z_neq, not_false_eq_true, or_true, true_or, or_false, false_or, false_and, and_false, gX3_happen, F, B]
    exact hq _ _ C1 K1
  · have n2 : ¬ Int32.ofNat st = Int32.ofNat 2 := by rw [I_eq (by omega) (by omega)]; exact c2
    rw [if_neg n2] at hq
    by_cases c3 : st = 3
    · subst c3
      rw [if_pos rfl] at hq
      simp (disch := first | assumption | omega | decide | (refine Eq.trans (hK_X _) ?_; assumption) | fail) only [gB, I_all, zK_v, zK_n, true_and, and_true, Nat.reduceAdd, Nat.reduceMul, Nat.reduceSub, z_lt, z_le, z_neq, not_false_eq_true, or_true, true_or, or_false, false_or, false_and, and_false, gX3_happen, F, B, w0]
      refine e3_leave Z C OK V hb hs e1 rfl ht fun W1 SM1 C1 K1 => ?_
      simp (disch := first | assumption | omega | decide | (refine Eq.trans (hK_X _) ?_; assumption) | fail) only [gB, I_all, zK_v, zK_n, true_and, and_true, Nat.reduceAdd, Nat.reduceMul, Nat.reduceSub, z_lt, z_le, z_neq, not_false_eq_true, or_true, true_or, or_false, false_or, false_and, and_false, gX3_happen, F, B]
      exact hq _ _ C1 K1
    · have n3 : ¬ Int32.ofNat st = Int32.ofNat 3 := by rw [I_eq (by omega) (by omega)]; exact c3
      rw [if_neg n3] at hq
      simp (disch := first | assumption | omega | decide | (refine Eq.trans (hK_X _) ?_; assumption) | fail) only [gB, I_all, zK_v, zK_n, true_and, and_true, Nat.reduceAdd, Nat.reduceMul, Nat.reduceSub, z_lt, z_le, z_neq, not_false_eq_true, or_true, true_or, or_false, false_or, false_and, and_false, gX3_happen, F, B, w0]
      refine e3_arrive Z C OK V hb hs e1 rfl ht fun W1 SM1 C1 K1 => ?_
      simp (disch := first | assumption | omega | decide | (refine Eq.trans (hK_X _) ?_; assumption) | fail) only [gB, I_all, zK_v, zK_n, true_and, and_true, Nat.reduceAdd, Nat.reduceMul, Nat.reduceSub, z_lt, z_le, z_neq, not_false_eq_true, or_true, true_or, or_false, false_or, false_and, and_false, gX3_happen, F, B]
      exact hq _ _ C1 K1
end
