/-! the component: riders board; a bus drives on -/
theorem zu_comm {α : Type} (w : Nat → α) {i j : Nat} (u v : α) (h : i ≠ j) : zu (zu w i u) j v = zu (zu w j v) i u := by
  funext m
  unfold zu
  by_cases e1 : m = j
  · subst e1
    rw [if_pos rfl, if_neg (fun x => h x.symm), if_pos rfl]
  · rw [if_neg e1]
    by_cases e2 : m = i
    · rw [if_pos e2, if_pos e2]
    · rw [if_neg e2, if_neg e2, if_neg e1]
theorem sBs_comm (σ : Sg) (b : Nat) {c d : Nat} (u v : Int32) (h : c ≠ d) : sBs (sBs σ b c u) b d v = sBs (sBs σ b d v) b c u := by
  rw [sBs2, sBs2, zu_comm _ _ _ h]
section
variable {κ : zC} {h : zH} {a n p q0 q K cap : Nat} {π : Pl} {A : Nat → Nat → Nat} {W : Nat → Nat → Int32} {SM : Nat → Nat → Int64} {Q : zQ} {σ : Sg}
/-- the riders l have boarded, the row as it was -/
def sCm (σ : Sg) (b : Nat) (t : Int32) (l : List Rd) : Sg := sBq (vS (vN σ (incs (sN σ) 3 l)) (zu (sS σ) 0 (sS σ 0 + waits t l))) b (bR σ b ++ l.map fun r => (r.1, t, r.2.2))
theorem sCm_R (σ : Sg) (b : Nat) (t : Int32) (l : List Rd) : bR (sCm σ b t l) b = bR σ b ++ l.map fun r => (r.1, t, r.2.2) := congrArg Prod.snd (sBq_eq _ b _)
theorem sCm_F (σ : Sg) (b : Nat) (t : Int32) (l : List Rd) (c : Nat) : bF (sCm σ b t l) b c = bF σ b c := congrFun (congrArg Prod.fst (sBq_eq (vS (vN σ (incs (sN σ) 3 l)) (zu (sS σ) 0 (sS σ 0 + waits t l))) b (bR σ b ++ l.map fun r => (r.1, t, r.2.2)))) c
theorem sCm_nil (σ : Sg) (b : Nat) (t : Int32) : sCm σ b t [] = σ := by
  have e2 : zu (sS σ) 0 (sS σ 0 + waits t []) = sS σ := by
    rw [show sS σ 0 + waits t [] = sS σ 0 from Int64.add_zero _]
    exact zu_self _ _
  unfold sCm
  rw [incs_nil, e2, List.map_nil, List.append_nil]
  show vB σ (zu (sB σ) b (sB σ b)) = σ
  rw [zu_self]
  rfl
theorem sCm_snoc (σ : Sg) (b : Nat) (t : Int32) (l : List Rd) (r : Rd) :
    sBq (vS (vN (sCm σ b t l) (inc (sN (sCm σ b t l)) (79 + 5 * r.2.2 + 3))) (zu (sS (sCm σ b t l)) 0 (sS (sCm σ b t l) 0 + (t - r.2.1).toInt64))) b (bR (sCm σ b t l) b ++ [(r.1, t, r.2.2)]) = sCm σ b t (l ++ [r]) := by
  have e1 : sN (sCm σ b t l) = incs (sN σ) 3 l := rfl
  have e2 : sS (sCm σ b t l) = zu (sS σ) 0 (sS σ 0 + waits t l) := rfl
  have e7 : (l.map fun r => ((r.1, t, r.2.2) : Rd)) ++ [(r.1, t, r.2.2)] = (l ++ [r]).map fun r => (r.1, t, r.2.2) := by rw [List.map_append]; rfl
  rw [e1, e2, sCm_R, zu_eq, zu_zu, Int64.add_assoc, ← waits_snoc, incs_snoc, List.append_assoc, e7]
  unfold sCm sBq
  simp only [vs, zu_eq, zu_zu]
  rfl
theorem sBo_Cm (π : Pl) (σ : Sg) (b s : Nat) (t : Int32) : (sBo π σ b s t).1 = sBs (vR (sCm σ b t ((sR σ s).take (sBo π σ b s t).2)) (zu (sR σ) s ((sR σ s).drop (sBo π σ b s t).2))) b 9 (bF σ b 9 + Int32.ofNat (sBo π σ b s t).2) := rfl
theorem e3_board {b s : Nat} {t : Int32} (Z : ZS κ h a n p π A q0 q) (C : CAt π W SM σ) (OK : sOk π σ) (hb : b < plN π 1) (hs : s < plN π 0) (e1 : bF σ b 1 = Int32.ofNat s) (e2 : bF σ b 2 = t)
    (hq : ∀ W' SM', CAt π W' SM' (sBo π σ b s t).1 → Kp W W' → Q (.inl (some (.int (Int32.ofNat (sBo π σ b s t).2)))) (hX h a n W' SM')) :
    Ev κ mX3_board [.ref a, .ref (a + (15 + 8 * plN π 0 + 5 * b))] (hX h a n W SM) Q := by
  have F := cF Z.1 Z.2.2.2.2.1
  have F2 := cRf Z.1 Z.2.2.2.2.1
  have F3 := cK Z.1
  have F4 := cE Z.1 Z.2.2.2.2.1
  obtain ⟨B0, hcap⟩ := cBu Z.1 Z.2.2.2.2.1 hb
  have B := bX B0
  have R0 := B0.2.2.2
  have G := rF R0
  have T0 := cRow Z.1 Z.2.2.2.2.1 hs
  have T := rF T0
  have O := Z.2.2.1
  have h10 := O.1.2
  have hB : kB κ ≤ a := Z.1.1.1
  have hB10 : kB κ ≤ a + 10 := by omega
  have hBK : kB κ ≤ a + (15 + 8 * plN π 0 + 5 * b) := by omega
  have hb6 : b < 6 := by have := O.2.1.2; omega
  obtain ⟨o1, o2, o3, -⟩ := OK.2.2.1 b hb6
  have o2 := o2 hb
  obtain ⟨r1, r2⟩ := OK.1 s (by omega)
  have s7 := (O.2.2.2.2.1 b hb).1
  have hk : (sBo π σ b s t).2 = min (plI π 7 b - (bR σ b).length) (sR σ s).length := rfl
  rw [sBo_Cm] at hq
  generalize (sBo π σ b s t).2 = k at *
  have Cb := C.2.2.2.2.1 b hb
  have w0 : W (15 + 8 * plN π 0 + 5 * b) 58 = Int32.ofNat (plI π 7 b) := Cb.1.2.1.trans s7
  have w1 : W (15 + 8 * plN π 0 + 5 * b) 61 = Int32.ofNat s := Cb.2.1.2.1.trans e1
  have wm : W (15 + 8 * plN π 0 + 5 * b + 1) 50 = Int32.ofNat (bR σ b).length := Cb.2.2.1
  have wr : W (15 + 8 * s) 50 = Int32.ofNat (sR σ s).length := (C.2.2.1 s hs).1
  have ef : ∀ (Q : zQ), Ev κ mX6_free [.ref (a + (15 + 8 * plN π 0 + 5 * b))] (hX h a n W SM) Q = Q (.inl (some (.int (Int32.ofNat (plI π 7 b - (bR σ b).length))))) (hX h a n W SM) := fun Q => by
    simp (disch := first | assumption | omega | decide | (refine Eq.trans (hK_X _) ?_; assumption) | fail) only [gB, I_all, zK_v, zK_n, true_and, and_true, Nat.reduceAdd, Nat.reduceMul, Nat.reduceSub, z_lt, z_le, z_neq, not_false_eq_true, or_true, true_or, or_false, false_or, false_and, and_false, gX6_free, F, B, G, w0, wm, I_sub]
  have em := fun (h : zH) (Q : zQ) => e9_min (κ := κ) (h := h) (Q := Q) (x := plI π 7 b - (bR σ b).length) (y := (sR σ s).length) (by omega) (by omega)
  rw [← hk] at em
  have lp : ∀ (d i : Nat) (W1 : Nat → Nat → Int32) (SM1 : Nat → Nat → Int64), i + d = k → CAt π W1 SM1 (sCm σ b t ((sR σ s).take i)) → Kp W W1 →
      Go κ mX3_board 25 [some (.ref a), some (.ref (a + (15 + 8 * plN π 0 + 5 * b))), some (.ref (a + (15 + 8 * s))), some (.int (Int32.ofNat k)), some (.int (Int32.ofNat i))] [] (hX h a n W1 SM1) Q := by
    intro d
    induction d with
    | zero =>
      intro i W1 SM1 hi C1 K1
      have hi' : i = k := by omega
      subst hi'
      have R1 := C1.2.2.1 s hs
      have wr1 : W1 (15 + 8 * s) 50 = Int32.ofNat (sR σ s).length := R1.1
      have C2 := CAt_row (W' := rdW W1 (15 + 8 * s) i (sR σ s).length) C1 hs (fun k j h1 => rdW_o (by omega)) (RC_drop (d := i) R1 (by show i ≤ (sR σ s).length; omega))
      have eb : W1 (15 + 8 * plN π 0 + 5 * b) 64 = bF σ b 9 := (C1.2.2.2.2.1 b hb).2.1.2.2.2.2.1.trans (sCm_F σ b t _ 9)
      have ed := fun SM Q => e4_dropFirst (κ := κ) (Q := Q) (SM := SM) (d := i) T0 hB wr1 (by omega) r1 (by omega)
      have C3 := CAt_bs (g := 64) (c := 9) C2 (bF σ b 9 + Int32.ofNat i) (by unfold bm; omega) hb
      have hbo : rdW W1 (15 + 8 * s) i (sR σ s).length (15 + 8 * plN π 0 + 5 * b) 64 = bF σ b 9 := (rdW_o (by omega)).trans eb
      simp (disch := first | assumption | omega | decide | (refine Eq.trans (hK_X _) ?_; assumption) | fail) only [gB, I_all, zK_v, zK_n, true_and, and_true, Nat.reduceAdd, Nat.reduceMul, Nat.reduceSub, z_lt, z_le, z_neq, not_false_eq_true, or_true, true_or, or_false, false_or, false_and, and_false, gX3_board_h]
      simp (disch := first | assumption | omega | decide | (refine Eq.trans (hK_X _) ?_; assumption) | fail) only [gB, I_all, zK_v, zK_n, true_and, and_true, Nat.reduceAdd, Nat.reduceMul, Nat.reduceSub, z_lt, z_le, z_neq, not_false_eq_true, or_true, true_or, or_false, false_or, false_and, and_false, gX3_board, F, B, T, ed, hbo, hBK]
      exact hq _ _ C3 (K1.trans fun j => (zv_nx (by omega)).trans (rdW_o (by omega)))
    | succ d ih =>
      intro i W1 SM1 hi C1 K1
      have hi1 : i < (sR σ s).length := by omega
      obtain ⟨r, hr0⟩ : ∃ r, (sR σ s)[i]? = some r := ⟨_, List.getElem?_eq_getElem hi1⟩
      have hrr := r2 r (List.mem_of_getElem? hr0)
      have et : (sR σ s).take (i + 1) = (sR σ s).take i ++ [r] := by rw [List.take_add_one, hr0]; rfl
      obtain ⟨v1, v2, v3⟩ := (C1.2.2.1 s hs).2 i r hr0
      have Cb := C1.2.2.2.2.1 b hb
      have w2 : W1 (15 + 8 * plN π 0 + 5 * b) 62 = t := Cb.2.1.2.2.1.trans ((sCm_F σ b t _ 2).trans e2)
      have f4 : fm 10 r.2.2 (79 + 5 * r.2.2 + 3) := by unfold fm; omega
      have C2 := CAt_inc C1 f4 O.2.2.1 O.1.2 (C1.1.2.1 3 r.2.2 (by omega) hrr.2)
      have z4 : SM1 0 32 = sS (sCm σ b t ((sR σ s).take i)) 0 := C1.2.1.1
      have C3 := CAt_S0 C2 (SM1 0 32 + (t - r.2.1).toInt64)
      rw [z4] at C3
      have eL : (sB (sCm σ b t ((sR σ s).take i)) b).2 = bR σ b ++ ((sR σ s).take i).map fun r => (r.1, t, r.2.2) := sCm_R σ b t _
      have hlen : (sB (sCm σ b t ((sR σ s).take i)) b).2.length = (bR σ b).length + i := by
        rw [eL, List.length_append, List.length_map, List.length_take, Nat.min_eq_left (by omega)]
      have Rb2 := (C3.2.2.2.2.1 b hb).2.2
      have C4 := CAt_bq (W' := raW (zv W1 10 r.2.2 (W1 10 r.2.2 + Int32.ofNat 1)) (15 + 8 * plN π 0 + 5 * b + 1) (sB (sCm σ b t ((sR σ s).take i)) b).2.length (Int32.ofNat r.1) t (Int32.ofNat r.2.2)) C3 hb (fun k j h1 => raW_o (by omega)) (RC_add (x := r.1) (y := t) (z := r.2.2) Rb2)
      have C5 : CAt π (raW (zv W1 10 r.2.2 (W1 10 r.2.2 + Int32.ofNat 1)) (15 + 8 * plN π 0 + 5 * b + 1) (sB (sCm σ b t ((sR σ s).take i)) b).2.length (Int32.ofNat r.1) t (Int32.ofNat r.2.2)) (zv SM1 0 32 (sS (sCm σ b t ((sR σ s).take i)) 0 + (t - r.2.1).toInt64)) (sCm σ b t ((sR σ s).take (i + 1))) := by
        rw [et, ← sCm_snoc]
        exact C4
      rw [hlen] at C5
      have i1 := ih (i + 1) _ _ (by omega) C5 (K1.trans fun j => (raW_o (by omega)).trans (zv_nx (by omega)))
      have v0' : zv W1 10 r.2.2 (W1 10 r.2.2 + Int32.ofNat 1) (15 + 8 * plN π 0 + 5 * b + 1) 50 = Int32.ofNat ((bR σ b).length + i) := by rw [zv_nx (by omega), ← hlen]; exact Cb.2.2.1
      have er := fun SM Q => e4_add (κ := κ) (SM := SM) (Q := Q) (x := Int32.ofNat r.1) (y := t) (z := Int32.ofNat r.2.2) R0 hB v0' (by omega) (by omega)
      simp (disch := first | assumption | omega | decide | (refine Eq.trans (hK_X _) ?_; assumption) | fail) only [gB, I_all, zK_v, zK_n, true_and, and_true, Nat.reduceAdd, Nat.reduceMul, Nat.reduceSub, z_lt, z_le, z_neq, not_false_eq_true, or_true, true_or, or_false, false_or, false_and, and_false, gX3_board_h]
      simp (disch := first | assumption | omega | decide | (refine Eq.trans (hK_X _) ?_; assumption) | fail) only [gB, I_all, zK_v, zK_n, true_and, and_true, Nat.reduceAdd, Nat.reduceMul, Nat.reduceSub, z_lt, z_le, z_neq, not_false_eq_true, or_true, true_or, or_false, false_or, false_and, and_false, gX3_board, F, F2, F3, B, G, T, w2, v1, v2, v3, hB10, zv_nx, z4, er]
      exact i1
  have l0 := lp k 0 W SM (by omega) (by rw [List.take_zero, sCm_nil]; exact C) Kp.rfl
  simp (disch := first | assumption | omega | decide | (refine Eq.trans (hK_X _) ?_; assumption) | fail) only [gB, I_all, zK_v, zK_n, true_and, and_true, Nat.reduceAdd, Nat.reduceMul, Nat.reduceSub, z_lt, z_le, z_neq, not_false_eq_true, or_true, true_or, or_false, false_or, false_and, and_false, gX3_board, F, F2, F3, F4, B, T, w1, wr, ef, em]
  exact l0
theorem e3_driveOn {b s : Nat} {t : Int32} (Z : ZS κ h a n p π A q0 q) (C : CAt π W SM σ) (hb : b < plN π 1) (hs : s < plN π 0) (e1 : bF σ b 1 = Int32.ofNat s) (e2 : bF σ b 2 = t)
    (hq : ∀ W', CAt π W' SM (sGo π σ b t) → Kp W W' → Q (.inl none) (hX h a n W' SM)) :
    Ev κ mX3_driveOn [.ref a, .ref (a + (15 + 8 * plN π 0 + 5 * b))] (hX h a n W SM) Q := by
  have F := cF Z.1 Z.2.2.2.2.1
  have P := plX Z
  obtain ⟨B0, hcap⟩ := cBu Z.1 Z.2.2.2.2.1 hb
  have B := bX B0
  have O := Z.2.2.1
  have h10 := O.1.2
  have hBK : kB κ ≤ a + (15 + 8 * plN π 0 + 5 * b) := by have := Z.1.1.1; omega
  have Cb := C.2.2.2.2.1 b hb
  have w1 : W (15 + 8 * plN π 0 + 5 * b) 61 = Int32.ofNat s := Cb.2.1.2.1.trans e1
  have w2 : W (15 + 8 * plN π 0 + 5 * b) 62 = t := Cb.2.1.2.2.1.trans e2
  have C1 := CAt_bs (g := 60) (c := 0) C (Int32.ofNat 1) (by unfold bm; omega) hb
  have C2 := CAt_bs (g := 62) (c := 2) C1 (t + plT π 4 s) (by unfold bm; omega) hb
  have C3 := CAt_bs (g := 61) (c := 1) C2 (Int32.ofNat (nxt π s)) (by unfold bm; omega) hb
  rw [sBs_comm _ _ _ _ (by omega : (2 : Nat) ≠ 1)] at C3
  have eI : bI σ b 1 = s := bI_of (by omega) e1
  have eg : sGo π σ b t = sBs (sBs (sBs σ b 0 (Int32.ofNat 1)) b 1 (Int32.ofNat (nxt π s))) b 2 (t + plT π 4 s) := by unfold sGo; rw [eI]
  rw [← eg] at C3
  have es := fun W Q => e3_stop (W := W) (SM := SM) (Q := Q) Z hs
  have en := fun W Q => e1_next (W := W) (SM := SM) (Q := Q) Z hs
  simp (disch := first | assumption | omega | decide | (refine Eq.trans (hK_X _) ?_; assumption) | fail) only [gB, I_all, zK_v, zK_n, true_and, and_true, Nat.reduceAdd, Nat.reduceMul, Nat.reduceSub, z_lt, z_le, z_neq, not_false_eq_true, or_true, true_or, or_false, false_or, false_and, and_false, gX3_driveOn, F, P, B, w1, w2, hBK, zv_nx, es, en]
  exact hq _ C3 fun j => (zv_nx (by omega)).trans ((zv_nx (by omega)).trans (zv_nx (by omega)))
end
