/-! the component: all riders that come by a time; groups -/
theorem incs_zu {n : Nat → Int32} {i c : Nat} {v : Int32} {l : List Rd} (hi : i < 79) : incs (zu n i v) c l = zu (incs n c l) i v := by
  funext j
  by_cases e : j = i
  · subst e
    rw [incs_lo hi, zu_eq, zu_eq]
  · rw [zu_ne _ _ e]
    unfold incs
    rw [zu_ne _ _ e]
theorem inc_zu {n : Nat → Int32} {i j : Nat} {v : Int32} (h : j ≠ i) : inc (zu n i v) j = zu (inc n j) i v := by
  funext m
  unfold inc zu
  by_cases e1 : m = j
  · subst e1
    simp only [if_true, h, if_false]
  · simp only [e1, if_false]
theorem sGv_zu {σ : Sg} {s i : Nat} {t v : Int32} (hi : i < 79) (h4 : i ≠ 4) : sGv (vN σ (zu (sN σ) i v)) s t = vN (sGv σ s t) (zu (sN (sGv σ s t)) i v) := by
  unfold sGv
  simp only [vs]
  rw [zu_ne _ _ (fun x => h4 x.symm), incs_zu hi]
  rfl
theorem sJn_zu {σ : Sg} {s to f i : Nat} {t v : Int32} (hi : i < 79) (h4 : i ≠ 4) : (sJn (vN σ (zu (sN σ) i v)) s to t f).1 = vN (sJn σ s to t f).1 (zu (sN (sJn σ s to t f).1) i v) ∧ (sJn (vN σ (zu (sN σ) i v)) s to t f).2 = (sJn σ s to t f).2 := by
  unfold sJn
  rw [sGv_zu hi h4]
  generalize sGv σ s t = σ1
  simp only [vs]
  rw [inc_zu (by omega)]
  split
  · simp only [vs]
    rw [inc_zu (by omega)]
    refine ⟨?_, ?_⟩ <;> first | rfl | trivial
  · simp only [vs]
    refine ⟨?_, ?_⟩ <;> first | rfl | trivial
section
variable {κ : zC} {h : zH} {a n p q0 q : Nat} {π : Pl} {A : Nat → Nat → Nat} {W : Nat → Nat → Int32} {SM : Nat → Nat → Int64} {Q : zQ} {σ : Sg}
theorem e3_bring {s : Nat} {t : Int32} (Z : ZS κ h a n p π A q0 q) (C : CAt π W SM σ) (OK : sOk π σ) (hs : s < plN π 0) (ht : t.toInt ≤ 1073741824)
    (hq : ∀ W', CAt π W' SM (sBr π σ s t) → Kp W W' → Q (.inl none) (hX h a n W' SM)) : Ev κ mX3_bring [.ref a, .int (Int32.ofNat s), .int t] (hX h a n W SM) Q := by
  have F := cF Z.1 Z.2.2.2.2.1
  have F2 := cRf Z.1 Z.2.2.2.2.1
  have F3 := cK Z.1
  have F4 := cE Z.1 Z.2.2.2.2.1
  have P := plX Z
  have O := Z.2.2.1
  have h10 := O.1.2
  have h16 := O.2.2.1
  have hfl := O.2.2.2.1
  have hB12 : kB κ ≤ a + 12 := by have := Z.1.1.1; omega
  have ea := fun W f k Q hf => e10_at (f := f) (k := k) (W := W) (SM := SM) (Q := Q) Z hf
  have s13 : ∀ (o : Option Nat) (x4 x5 : Option Value) (h' : zH) (Q : zQ), Go κ mX3_bring 13 [some (.ref a), some (.int (Int32.ofNat s)), some (.int t), some (.ref (a + (15 + 8 * s))), x4, x5] [fO A o] h' Q = Go κ mX3_bring 15 [some (.ref a), some (.int (Int32.ofNat s)), some (.int t), some (.ref (a + (15 + 8 * s))), some (fO A o), x5] [] h' Q := by
    intro o x4 x5 h' Q
    cases o with
    | none =>
      show Go κ mX3_bring 13 _ [.null] _ _ = Go κ mX3_bring 15 [_, _, _, _, some .null, _] _ _ _
      simp (disch := first | assumption | omega | decide | (refine Eq.trans (hK_X _) ?_; assumption) | fail) only [gB, I_all, zK_v, zK_n, true_and, and_true, Nat.reduceAdd, Nat.reduceMul, Nat.reduceSub, z_lt, z_le, z_neq, not_false_eq_true, or_true, true_or, or_false, false_or, false_and, and_false, gX3_bring]
    | some f =>
      show Go κ mX3_bring 13 _ [.ref (A 3 f)] _ _ = Go κ mX3_bring 15 [_, _, _, _, some (.ref (A 3 f)), _] _ _ _
      simp (disch := first | assumption | omega | decide | (refine Eq.trans (hK_X _) ?_; assumption) | fail) only [gB, I_all, zK_v, zK_n, true_and, and_true, Nat.reduceAdd, Nat.reduceMul, Nat.reduceSub, z_lt, z_le, z_neq, not_false_eq_true, or_true, true_or, or_false, false_or, false_and, and_false, gX3_bring]
  have s75 : ∀ (o : Option Nat) (x4 x5 : Option Value) (h' : zH) (Q : zQ), Go κ mX3_bring 75 [some (.ref a), some (.int (Int32.ofNat s)), some (.int t), some (.ref (a + (15 + 8 * s))), x4, x5] [fO A o] h' Q = Go κ mX3_bring 15 [some (.ref a), some (.int (Int32.ofNat s)), some (.int t), some (.ref (a + (15 + 8 * s))), some (fO A o), x5] [] h' Q := by
    intro o x4 x5 h' Q
    cases o with
    | none =>
      show Go κ mX3_bring 75 _ [.null] _ _ = Go κ mX3_bring 15 [_, _, _, _, some .null, _] _ _ _
      simp (disch := first | assumption | omega | decide | (refine Eq.trans (hK_X _) ?_; assumption) | fail) only [gB, I_all, zK_v, zK_n, true_and, and_true, Nat.reduceAdd, Nat.reduceMul, Nat.reduceSub, z_lt, z_le, z_neq, not_false_eq_true, or_true, true_or, or_false, false_or, false_and, and_false, gX3_bring]
    | some f =>
      show Go κ mX3_bring 75 _ [.ref (A 3 f)] _ _ = Go κ mX3_bring 15 [_, _, _, _, some (.ref (A 3 f)), _] _ _ _
      simp (disch := first | assumption | omega | decide | (refine Eq.trans (hK_X _) ?_; assumption) | fail) only [gB, I_all, zK_v, zK_n, true_and, and_true, Nat.reduceAdd, Nat.reduceMul, Nat.reduceSub, z_lt, z_le, z_neq, not_false_eq_true, or_true, true_or, or_false, false_or, false_and, and_false, gX3_bring]
  have lp : ∀ (k : Nat) (σ : Sg) (W1 : Nat → Nat → Int32) (x5 : Option Value), CAt π W1 SM σ → Kp W W1 → sOk π σ → bMu t (sN σ) (plN π 2) < k → (∀ W', CAt π W' SM (sGv (sBf π s t k σ) s t) → Kp W W' → Q (.inl none) (hX h a n W' SM)) →
      Go κ mX3_bring 15 [some (.ref a), some (.int (Int32.ofNat s)), some (.int t), some (.ref (a + (15 + 8 * s))), some (fO A (fnx π (sN σ) s t (plN π 2))), x5] [] (hX h a n W1 SM) Q := by
    intro k
    induction k with
    | zero => intro σ W1 x5 _ _ _ hm; cases hm
    | succ k ih =>
      intro σ W1 x5 C K OK hm hq
      cases hf : fnx π (sN σ) s t (plN π 2) with
      | none =>
        have eb : sBf π s t (k + 1) σ = σ := by unfold sBf; rw [hf]
        rw [eb] at hq
        show Go κ mX3_bring 15 [_, _, _, _, some .null, _] _ _ _
        simp (disch := first | assumption | omega | decide | (refine Eq.trans (hK_X _) ?_; assumption) | fail) only [gB, I_all, zK_v, zK_n, true_and, and_true, Nat.reduceAdd, Nat.reduceMul, Nat.reduceSub, z_lt, z_le, z_neq, not_false_eq_true, or_true, true_or, or_false, false_or, false_and, and_false, gX3_bring_h]
        simp (disch := first | assumption | omega | decide | (refine Eq.trans (hK_X _) ?_; assumption) | fail) only [gB, I_all, zK_v, zK_n, true_and, and_true, Nat.reduceAdd, Nat.reduceMul, Nat.reduceSub, z_lt, z_le, z_neq, not_false_eq_true, or_true, true_or, or_false, false_or, false_and, and_false, gX3_bring, F]
        refine e3_gv Z C OK hs fun W2 C2 K2 => ?_
        simp (disch := first | assumption | omega | decide | (refine Eq.trans (hK_X _) ?_; assumption) | fail) only [gB, I_all, zK_v, zK_n, true_and, and_true, Nat.reduceAdd, Nat.reduceMul, Nat.reduceSub, z_lt, z_le, z_neq, not_false_eq_true, or_true, true_or, or_false, false_or, false_and, and_false, gX3_bring]
        exact hq _ C2 (K.trans K2)
      | some f =>
        obtain ⟨hf1, hf2, hf3⟩ := fnx_lt hf
        obtain ⟨g1, g2, g3, g4, g5, g6, -⟩ := hfl f hf1
        have e7 := C.1.2.2 f hf1
        have eb : sBf π s t (k + 1) σ = sBf π s t k (vN (sJn σ s (plI π 10 f) (sN σ (63 + f)) f).1 (zu (sN (sJn σ s (plI π 10 f) (sN σ (63 + f)) f).1) (63 + f) (sN (sJn σ s (plI π 10 f) (sN σ (63 + f)) f).1 (63 + f) + plT π 11 f))) := by
          conv => lhs; unfold sBf; rw [hf]
        rw [eb] at hq
        have hj : ∀ j, (j < 79 ∨ 164 ≤ j) → sN (sJn σ s (plI π 10 f) (sN σ (63 + f)) f).1 j = sN σ j := fun j hj => sJn_n (fun r hr => ((OK.1 s (by omega)).2 r hr).2) (by omega) hj
        have OK1 := sOk_jn (s := s) (to := plI π 10 f) (t := sN σ (63 + f)) OK (by omega) (by omega) (by omega : f < 17)
        have C1 := CAt_nxt C hf1 h16 h10
        have K1 := K.trans (Kp_zv (W := W1) (k := 12) (j := f) (v := W1 12 f + Int32.ofNat 1) (by omega))
        have ez := sJn_zu (σ := σ) (s := s) (to := plI π 10 f) (f := f) (i := 63 + f) (t := sN σ (63 + f)) (v := sN σ (63 + f) + plT π 11 f) (by omega) (by omega)
        show Go κ mX3_bring 15 [_, _, _, _, some (.ref (A 3 f)), _] _ _ _
        simp (disch := first | assumption | omega | decide | (refine Eq.trans (hK_X _) ?_; assumption) | fail) only [gB, I_all, zK_v, zK_n, true_and, and_true, Nat.reduceAdd, Nat.reduceMul, Nat.reduceSub, z_lt, z_le, z_neq, not_false_eq_true, or_true, true_or, or_false, false_or, false_and, and_false, gX3_bring_h]
        simp (disch := first | assumption | omega | decide | (refine Eq.trans (hK_X _) ?_; assumption) | fail) only [gB, I_all, zK_v, zK_n, true_and, and_true, Nat.reduceAdd, Nat.reduceMul, Nat.reduceSub, z_lt, z_le, z_neq, not_false_eq_true, or_true, true_or, or_false, false_or, false_and, and_false, gX3_bring, F, F2, F3, P, ea, e7, g3]
        refine e3_comes (to := plI π 10 f) (f := f) Z C1 (sOk_n OK _) hs (by omega) fun W2 C2 K2 => ?_
        rw [ez.1] at C2
        rw [ez.2]
        generalize sJn σ s (plI π 10 f) (sN σ (63 + f)) f = r at *
        have e8 : sN r.1 (63 + f) = sN σ (63 + f) := hj _ (by omega)
        rw [e8] at hq
        have ef := fun Q => e3_firstOf (W := W2) (SM := SM) (t := t) (Q := Q) Z C2 hs
        have ih' := ih _ _ (some (.int (sN σ (63 + f)))) C2 (K1.trans K2) (sOk_n OK1 _) ?_ hq
        · simp (disch := first | assumption | omega | decide | (refine Eq.trans (hK_X _) ?_; assumption) | fail) only [gB, I_all, zK_v, zK_n, true_and, and_true, Nat.reduceAdd, Nat.reduceMul, Nat.reduceSub, z_lt, z_le, z_neq, not_false_eq_true, or_true, true_or, or_false, false_or, false_and, and_false, gX3_bring, F, ef, s75]
          exact ih'
        · refine Nat.lt_of_lt_of_le (bMu_lt (n := sN σ) (f := f) (fun g hg16 hg => ?_) ?_ ?_ h16 hf1) (Nat.le_of_lt_succ hm)
          · simp only [vs]
            rw [zu_ne _ _ (by omega)]
            exact hj _ (by omega)
          · exact Int32.le_iff_toInt_le.mp hf3
          · simp only [vs]
            rw [zu_eq, i_add (by omega)]
            · omega
            · have := Int32.le_iff_toInt_le.mp hf3
              omega
  have ef := fun Q => e3_firstOf (W := W) (SM := SM) (t := t) (Q := Q) Z C hs
  have hb : bMu t (sN σ) (plN π 2) < big := by
    have := bMu_big t (sN σ) (plN π 2) h16
    unfold big
    omega
  have l0 := lp big σ W none C Kp.rfl OK hb hq
  simp (disch := first | assumption | omega | decide | (refine Eq.trans (hK_X _) ?_; assumption) | fail) only [gB, I_all, zK_v, zK_n, true_and, and_true, Nat.reduceAdd, Nat.reduceMul, Nat.reduceSub, z_lt, z_le, z_neq, not_false_eq_true, or_true, true_or, or_false, false_or, false_and, and_false, gX3_bring, F, F2, F3, F4, ef, s13]
  exact l0
theorem sOk_gp {σ : Sg} {f t : Nat} {tm : Int32} (OK : sOk π σ) (hf : f < 10) (ht : t < 10) : ∀ k, sOk π (sGp σ f t tm k).1 := by
  intro k
  induction k with
  | zero => exact OK
  | succ k ih => exact sOk_jn ih hf ht (by omega)
theorem sGp_le (σ : Sg) (f t : Nat) (tm : Int32) : ∀ k, (sGp σ f t tm k).2 ≤ k := by
  intro k
  induction k with
  | zero => exact Nat.le_refl _
  | succ k ih =>
    show (sGp σ f t tm k).2 + _ ≤ _
    split <;> omega
theorem sGp_0 (σ : Sg) (f t : Nat) (tm : Int32) (hr : ∀ k, ∀ r ∈ sR (sGp σ f t tm k).1 f, r.2.2 < 17) : ∀ k, sN (sGp σ f t tm k).1 0 = sN σ 0 := by
  intro k
  induction k with
  | zero => rfl
  | succ k ih =>
    show sN (sJn _ _ _ _ _).1 0 = _
    rw [sJn_n (hr k) (by omega) (by omega), ih]
theorem e3_group {f t m : Nat} (Z : ZS κ h a n p π A q0 q) (C : CAt π W SM σ) (OK : sOk π σ) (hf : f < plN π 0) (ht : t < plN π 0) (hm : m ≤ 40) (h0 : (sN σ 0).toInt ≤ 1073741824)
    (hq : ∀ W', CAt π W' SM (sGp (sBr π σ f (sN σ 0)) f t (sN σ 0) m).1 → Kp W W' → Q (.inl (some (.int (Int32.ofNat (sGp (sBr π σ f (sN σ 0)) f t (sN σ 0) m).2)))) (hX h a n W' SM)) :
    Ev κ mX3_group [.ref a, .int (Int32.ofNat f), .int (Int32.ofNat t), .int (Int32.ofNat m)] (hX h a n W SM) Q := by
  have F := cF Z.1 Z.2.2.2.2.1
  have F2 := cRf Z.1 Z.2.2.2.2.1
  have F3 := cK Z.1
  have F4 := cE Z.1 Z.2.2.2.2.1
  have O := Z.2.2.1
  have h10 := O.1.2
  have e0 : W 0 23 = sN σ 0 := C.1.1.1
  have OK1 := sOk_br (s := f) (t := sN σ 0) O OK (by omega)
  have b0 : sN (sBr π σ f (sN σ 0)) 0 = sN σ 0 := (sBr_fr π σ f (sN σ 0)).2.2.2.2 0 (by omega)
  generalize hτ : sBr π σ f (sN σ 0) = τ at *
  have OKk := fun k => sOk_gp (σ := τ) (tm := sN σ 0) OK1 (by omega : f < 10) (by omega : t < 10) k
  have z0 := sGp_0 τ f t (sN σ 0) fun k r hr => ((OKk k).1 f (by omega)).2 r hr |>.2
  have lp : ∀ (d k : Nat) (W1 : Nat → Nat → Int32), k + d = m → CAt π W1 SM (sGp τ f t (sN σ 0) k).1 → Kp W W1 →
      Go κ mX3_group 15 [some (.ref a), some (.int (Int32.ofNat f)), some (.int (Int32.ofNat t)), some (.int (Int32.ofNat m)), some (.int (Int32.ofNat (sGp τ f t (sN σ 0) k).2)), some (.int (Int32.ofNat k))] [] (hX h a n W1 SM) Q := by
    intro d
    induction d with
    | zero =>
      intro k W1 hk C1 K1
      have hk' : k = m := by omega
      subst hk'
      simp (disch := first | assumption | omega | decide | (refine Eq.trans (hK_X _) ?_; assumption) | fail) only [gB, I_all, zK_v, zK_n, true_and, and_true, Nat.reduceAdd, Nat.reduceMul, Nat.reduceSub, z_lt, z_le, z_neq, not_false_eq_true, or_true, true_or, or_false, false_or, false_and, and_false, gX3_group_h]
      simp (disch := first | assumption | omega | decide | (refine Eq.trans (hK_X _) ?_; assumption) | fail) only [gB, I_all, zK_v, zK_n, true_and, and_true, Nat.reduceAdd, Nat.reduceMul, Nat.reduceSub, z_lt, z_le, z_neq, not_false_eq_true, or_true, true_or, or_false, false_or, false_and, and_false, gX3_group]
      exact hq _ C1 K1
    | succ d ih =>
      intro k W1 hk C1 K1
      have e1 : W1 0 23 = sN σ 0 := C1.1.1.1.trans ((z0 k).trans b0)
      have hl := sGp_le τ f t (sN σ 0) k
      simp (disch := first | assumption | omega | decide | (refine Eq.trans (hK_X _) ?_; assumption) | fail) only [gB, I_all, zK_v, zK_n, true_and, and_true, Nat.reduceAdd, Nat.reduceMul, Nat.reduceSub, z_lt, z_le, z_neq, not_false_eq_true, or_true, true_or, or_false, false_or, false_and, and_false, gX3_group_h]
      simp (disch := first | assumption | omega | decide | (refine Eq.trans (hK_X _) ?_; assumption) | fail) only [gB, I_all, zK_v, zK_n, true_and, and_true, Nat.reduceAdd, Nat.reduceMul, Nat.reduceSub, z_lt, z_le, z_neq, not_false_eq_true, or_true, true_or, or_false, false_or, false_and, and_false, gX3_group, F, F2, F3, F4, e1]
      refine e3_comes (to := t) (f := 16) Z C1 (OKk k) hf (by omega) fun W2 C2 K2 => ?_
      have ih' := ih (k + 1) W2 (by omega) C2 (K1.trans K2)
      rw [show (sGp τ f t (sN σ 0) (k + 1)).2 = (sGp τ f t (sN σ 0) k).2 + if (sJn (sGp τ f t (sN σ 0) k).1 f t (sN σ 0) 16).2 = true then 1 else 0 from rfl] at ih'
      by_cases c : (sJn (sGp τ f t (sN σ 0) k).1 f t (sN σ 0) 16).2 = true
      · rw [if_pos c] at ih' ⊢
        simp (disch := first | assumption | omega | decide | (refine Eq.trans (hK_X _) ?_; assumption) | fail) only [gB, I_all, zK_v, zK_n, true_and, and_true, Nat.reduceAdd, Nat.reduceMul, Nat.reduceSub, z_lt, z_le, z_neq, not_false_eq_true, or_true, true_or, or_false, false_or, false_and, and_false, gX3_group]
        exact ih'
      · rw [if_neg c] at ih' ⊢
        simp (disch := first | assumption | omega | decide | (refine Eq.trans (hK_X _) ?_; assumption) | fail) only [gB, I_all, zK_v, zK_n, true_and, and_true, Nat.reduceAdd, Nat.reduceMul, Nat.reduceSub, z_lt, z_le, z_neq, not_false_eq_true, or_true, true_or, or_false, false_or, false_and, and_false, gX3_group]
        exact ih'
  simp (disch := first | assumption | omega | decide | (refine Eq.trans (hK_X _) ?_; assumption) | fail) only [gB, I_all, zK_v, zK_n, true_and, and_true, Nat.reduceAdd, Nat.reduceMul, Nat.reduceSub, z_lt, z_le, z_neq, not_false_eq_true, or_true, true_or, or_false, false_or, false_and, and_false, gX3_group, F, e0]
  refine e3_bring Z C OK hf h0 fun W1 C1 K1 => ?_
  rw [hτ] at C1
  have l0 := lp m 0 W1 (by omega) C1 K1
  simp (disch := first | assumption | omega | decide | (refine Eq.trans (hK_X _) ?_; assumption) | fail) only [gB, I_all, zK_v, zK_n, true_and, and_true, Nat.reduceAdd, Nat.reduceMul, Nat.reduceSub, z_lt, z_le, z_neq, not_false_eq_true, or_true, true_or, or_false, false_or, false_and, and_false, gX3_group, F]
  exact l0
end
