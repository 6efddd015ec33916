/-! the component: riders come -/
/-- the queue's own numbers stay -/
def Kp (W W' : Nat → Nat → Int32) : Prop := ∀ j, W' 5 j = W 5 j
theorem Kp.rfl {W : Nat → Nat → Int32} : Kp W W := fun _ => Eq.refl _
theorem Kp.trans {W W' W'' : Nat → Nat → Int32} (a : Kp W W') (b : Kp W' W'') : Kp W W'' := fun j => (b j).trans (a j)
theorem Kp_zv {W : Nat → Nat → Int32} {k j : Nat} {v : Int32} (h : k ≠ 5) : Kp W (zv W k j v) := fun i => zv_nx (by omega)
section
variable {κ : zC} {h : zH} {a n p q0 q : Nat} {π : Pl} {A : Nat → Nat → Nat} {W : Nat → Nat → Int32} {SM : Nat → Nat → Int64} {Q : zQ} {σ : Sg}
theorem guW_o {K : Nat} {l : List Rd} {k c j : Nat} (h9 : c ≠ 9) (hk : c < K ∨ K + 3 < c) : guW W K l k c j = W c j := by
  unfold guW
  split
  · rw [rdW_o hk, adW_o h9]
  · rw [adW_o h9]
theorem CAt_gv {s : Nat} {t : Int32} (C : CAt π W SM σ) (O : pOk π) (hs : s < plN π 0) : CAt π (guW W (15 + 8 * s) (sR σ s) (gvK (sN σ 4) t (sR σ s))) SM (sGv σ s t) := by
  have hle := gvK_le (sN σ 4) t (sR σ s)
  unfold sGv
  generalize gvK (sN σ 4) t (sR σ s) = k at *
  have C1 := CAt_acc (c := 2) C (by omega) ((sR σ s).take k) O.2.2.1 O.1.2
  have R := C1.2.2.1 s hs
  unfold guW
  by_cases h0 : 0 < k
  · rw [if_pos h0]
    exact CAt_row C1 hs (fun k' j h1 => rdW_o (by omega)) (RC_drop R hle)
  · rw [if_neg h0]
    have h0' : k = 0 := by omega
    subst h0'
    have e : zu (sR σ) s ((sR σ s).drop 0) = sR σ := by rw [List.drop_zero, zu_self]
    rw [e]
    exact C1
/-- those who wait too long go -/
theorem e3_gv {s : Nat} {t : Int32} (Z : ZS κ h a n p π A q0 q) (C : CAt π W SM σ) (OK : sOk π σ) (hs : s < plN π 0) (hq : ∀ W', CAt π W' SM (sGv σ s t) → Kp W W' → Q (.inl none) (hX h a n W' SM)) :
    Ev κ mX3_giveUp [.ref a, .ref (a + (15 + 8 * s)), .int t] (hX h a n W SM) Q := by
  have h10 := Z.2.2.1.1.2
  have ok := OK.1 s (by omega)
  have e4 : W 1 2 = sN σ 4 := C.1.1.2.2.1 2 (by omega)
  rw [e3_giveUp (l := sR σ s) (pt := sN σ 4) Z.1 Z.2.2.2.2.1 (cRow Z.1 Z.2.2.2.2.1 hs) (by omega) (C.2.2.1 s hs) ok.1 (by omega) (fun r hr => (ok.2 r hr).2) e4]
  exact hq _ (CAt_gv C Z.2.2.1 hs) fun j => guW_o (by omega) (by omega)
theorem CAt_push {s : Nat} {x : Nat} {y : Int32} {z : Nat} (C : CAt π W SM σ) (hs : s < plN π 0) : CAt π (raW W (15 + 8 * s) (sR σ s).length (Int32.ofNat x) y (Int32.ofNat z)) SM (vR σ (zu (sR σ) s (sR σ s ++ [(x, y, z)]))) :=
  CAt_row C hs (fun k j h1 => raW_o (by omega)) (RC_add (C.2.2.1 s hs))
/-- a rider comes -/
theorem e3_comes {s to f : Nat} {t : Int32} (Z : ZS κ h a n p π A q0 q) (C : CAt π W SM σ) (OK : sOk π σ) (hs : s < plN π 0) (hf : f < 17)
    (hq : ∀ W', CAt π W' SM (sJn σ s to t f).1 → Kp W W' → Q (.inl (some (.int (if (sJn σ s to t f).2 = true then Int32.ofNat 1 else Int32.ofNat 0)))) (hX h a n W' SM)) :
    Ev κ mX3_comes [.ref a, .ref (a + (15 + 8 * s)), .int (Int32.ofNat to), .int t, .int (Int32.ofNat f)] (hX h a n W SM) Q := by
  have F := cF Z.1 Z.2.2.2.2.1
  have F2 := cRf Z.1 Z.2.2.2.2.1
  have F3 := cK Z.1
  have R0 := cRow Z.1 Z.2.2.2.2.1 hs
  have G := rF R0
  have hB : kB κ ≤ a := Z.1.1.1
  have hB7 : kB κ ≤ a + 7 := by omega
  have hB8 : kB κ ≤ a + 8 := by omega
  have O := Z.2.2.1
  have h10 := O.1.2
  have OK1 := sOk_gv (s := s) (t := t) OK
  simp (disch := first | assumption | omega | decide) only [gB, I_all, zK_v, zK_n, true_and, and_true, Nat.reduceAdd, Nat.reduceMul, Nat.reduceSub, z_lt, z_le, z_neq, not_false_eq_true, or_true, true_or, or_false, false_or, false_and, and_false, gX3_comes, F]
  refine e3_gv Z C OK hs fun W1 C1 K1 => ?_
  unfold sJn at hq
  simp only [vs] at hq
  generalize sGv σ s t = σ1 at *
  have f0 : fm 7 f (79 + 5 * f) := by unfold fm; omega
  have f1 : fm 8 f (79 + 5 * f + 1) := by unfold fm; omega
  have C2 := CAt_inc C1 f0 O.2.2.1 O.1.2 (C1.1.2.1 0 f (by omega) hf)
  have K2 : Kp W1 (zv W1 7 f (W1 7 f + Int32.ofNat 1)) := Kp_zv (by omega)
  have R1 := C1.2.2.1 s hs
  have e1 : zv W1 7 f (W1 7 f + Int32.ofNat 1) (15 + 8 * s) 50 = Int32.ofNat (sR σ1 s).length := by rw [zv_nx (by omega)]; exact R1.1
  have hlen := (OK1.1 s (by omega)).1
  by_cases h40 : (sR σ1 s).length = 40
  · rw [if_pos h40] at hq
    have C3 := CAt_inc C2 f1 O.2.2.1 O.1.2 (C2.1.2.1 1 f (by omega) hf)
    rw [h40] at e1
    simp (disch := first | assumption | omega | decide) only [gB, I_all, zK_v, zK_n, true_and, and_true, Nat.reduceAdd, Nat.reduceMul, Nat.reduceSub, z_lt, z_le, z_neq, not_false_eq_true, or_true, true_or, or_false, false_or, false_and, and_false, gX3_comes, F, F2, F3, G, hB7, hB8, e1, z_b0]
    exact hq _ C3 ((K1.trans K2).trans (Kp_zv (by omega)))
  · rw [if_neg h40] at hq
    have C3 := CAt_push (x := to) (y := t) (z := f) C2 hs
    have hlt : (sR σ1 s).length < 40 := by omega
    have ea := fun Q => e4_add (κ := κ) (SM := SM) (Q := Q) (x := Int32.ofNat to) (y := t) (z := Int32.ofNat f) R0 hB e1 hlt (by omega)
    simp (disch := first | assumption | omega | decide) only [gB, I_all, zK_v, zK_n, true_and, and_true, Nat.reduceAdd, Nat.reduceMul, Nat.reduceSub, z_lt, z_le, z_neq, not_false_eq_true, or_true, true_or, or_false, false_or, false_and, and_false, gX3_comes, F, F2, F3, G, hB7, hB8, e1, z_b1, ea]
    exact hq _ C3 ((K1.trans K2).trans fun j => raW_o (by omega))
/-- the flows asked one behind another -/
def fnS (n : Nat → Int32) (t : Int32) (b : Option Nat) (f : Nat) : Option Nat := if n (63 + f) ≤ t ∧ (b.all fun g => decide (n (63 + f) < n (63 + g))) = true then some f else b
theorem fnx_L (π : Pl) (n : Nat → Int32) (s : Nat) (t : Int32) (k : Nat) : ((List.range k).filter fun f => decide (plI π 9 f = s)).foldl (fnS n t) none = fnx π n s t k := by
  induction k with
  | zero => rfl
  | succ k ih =>
    rw [List.range_succ, List.filter_append, List.foldl_append, ih]
    show _ = if plI π 9 k = s ∧ n (63 + k) ≤ t ∧ ((fnx π n s t k).all fun g => decide (n (63 + k) < n (63 + g))) = true then some k else fnx π n s t k
    by_cases c : plI π 9 k = s
    · have e : List.filter (fun f => decide (plI π 9 f = s)) [k] = [k] := by simp [c]
      rw [e]
      show fnS n t (fnx π n s t k) k = _
      unfold fnS
      by_cases d : n (63 + k) ≤ t ∧ ((fnx π n s t k).all fun g => decide (n (63 + k) < n (63 + g))) = true
      · rw [if_pos d, if_pos ⟨c, d⟩]
      · rw [if_neg d, if_neg (fun x => d x.2)]
    · have e : List.filter (fun f => decide (plI π 9 f = s)) [k] = [] := by simp [c]
      rw [e, if_neg (fun x => c x.1)]
      rfl
def fO (A : Nat → Nat → Nat) : Option Nat → Value
  | none => .null
  | some f => .ref (A 3 f)
theorem fnS_lt {π : Pl} {n : Nat → Int32} {t : Int32} {s : Nat} : ∀ {i g : Nat}, ((flF π s).take i).foldl (fnS n t) none = some g → g < plN π 2 := by
  intro i
  induction i with
  | zero => intro g h; cases h
  | succ i ih =>
    intro g h
    by_cases hi : i < (flF π s).length
    · have e : (flF π s).take (i + 1) = (flF π s).take i ++ [(flF π s).getD i 0] := by rw [List.take_add_one, flF_get hi]; rfl
      rw [e, List.foldl_append] at h
      have h' : fnS n t (((flF π s).take i).foldl (fnS n t) none) ((flF π s).getD i 0) = some g := h
      unfold fnS at h'
      split at h'
      · cases h'
        exact (flF_mem (List.mem_of_getElem? (flF_get hi))).1
      · exact ih h'
    · rw [List.take_of_length_le (by omega)] at h
      rw [List.take_of_length_le (by omega)] at ih
      exact ih h
theorem e3_firstOf {s : Nat} {t : Int32} (Z : ZS κ h a n p π A q0 q) (C : CAt π W SM σ) (hs : s < plN π 0) :
    Ev κ mX3_firstOf [.ref a, .int (Int32.ofNat s), .int t] (hX h a n W SM) Q = Q (.inl (some (fO A (fnx π (sN σ) s t (plN π 2))))) (hX h a n W SM) := by
  have F := cF Z.1 Z.2.2.2.2.1
  have F2 := cRf Z.1 Z.2.2.2.2.1
  have F3 := cK Z.1
  have P := plX Z
  have G := plY Z
  have O := Z.2.2.1
  have h10 := O.1.2
  have h16 := O.2.2.1
  have es := fun Q => e3_stop (W := W) (SM := SM) (Q := Q) Z hs
  have ea := fun f k Q hf => e10_at (f := f) (k := k) (W := W) (SM := SM) (Q := Q) Z hf
  have e14 : hK h (A 2 s) = 114 := P.2.2.2.2.2.2.2.2.2.2.2.2.2.2.2.2.2.2.1 s hs
  have n7 := C.1.2.2
  have hle : (flF π s).length ≤ 16 := by
    refine Nat.le_trans (List.length_filter_le _ _) ?_
    rw [List.length_range]; exact h16
  have lp : ∀ (d i : Nat) (a6 a7 : Option Value), i + d = (flF π s).length → Go κ mX3_firstOf 15 [some (.ref a), some (.int (Int32.ofNat s)), some (.int t), some (fO A (((flF π s).take i).foldl (fnS (sN σ) t) none)), some (.ref (A 2 s)), some (.int (Int32.ofNat i)), a6, a7] [] (hX h a n W SM) Q = Q (.inl (some (fO A (fnx π (sN σ) s t (plN π 2))))) (hX h a n W SM) := by
    intro d
    induction d with
    | zero =>
      intro i a6 a7 hi
      have hi' : i = (flF π s).length := by omega
      subst hi'
      rw [List.take_length, show (flF π s).foldl (fnS (sN σ) t) none = _ from fnx_L π (sN σ) s t (plN π 2)]
      simp (disch := first | assumption | omega | decide | (refine Eq.trans (hK_X _) ?_; assumption) | fail) only [gB, I_all, zK_v, zK_n, true_and, and_true, Nat.reduceAdd, Nat.reduceMul, Nat.reduceSub, z_lt, z_le, z_neq, not_false_eq_true, or_true, true_or, or_false, false_or, false_and, and_false, gX3_firstOf_h]
      cases fnx π (sN σ) s t (plN π 2) with
      | none =>
        show Go κ mX3_firstOf _ [_, _, _, some .null, _, _, _, _] _ _ _ = Q (.inl (some .null)) _
        simp (disch := first | assumption | omega | decide | (refine Eq.trans (hK_X _) ?_; assumption) | fail) only [gB, I_all, zK_v, zK_n, true_and, and_true, Nat.reduceAdd, Nat.reduceMul, Nat.reduceSub, z_lt, z_le, z_neq, not_false_eq_true, or_true, true_or, or_false, false_or, false_and, and_false, gX3_firstOf, G]
      | some g =>
        show Go κ mX3_firstOf _ [_, _, _, some (.ref (A 3 g)), _, _, _, _] _ _ _ = Q (.inl (some (.ref (A 3 g)))) _
        simp (disch := first | assumption | omega | decide | (refine Eq.trans (hK_X _) ?_; assumption) | fail) only [gB, I_all, zK_v, zK_n, true_and, and_true, Nat.reduceAdd, Nat.reduceMul, Nat.reduceSub, z_lt, z_le, z_neq, not_false_eq_true, or_true, true_or, or_false, false_or, false_and, and_false, gX3_firstOf, G]
    | succ d ih =>
      intro i a6 a7 hi
      have hi1 : i < (flF π s).length := by omega
      have e : (flF π s).take (i + 1) = (flF π s).take i ++ [(flF π s).getD i 0] := by rw [List.take_add_one, flF_get hi1]; rfl
      have hf := (flF_mem (List.mem_of_getElem? (flF_get hi1))).1
      have i1 := fun x y => ih (i + 1) x y (by omega)
      rw [e, List.foldl_append] at i1
      generalize hf0 : (flF π s).getD i 0 = f at *
      have e7 := n7 f hf
      have i2 : ∀ x y, Go κ mX3_firstOf 15 [some (.ref a), some (.int (Int32.ofNat s)), some (.int t), some (fO A (fnS (sN σ) t (((flF π s).take i).foldl (fnS (sN σ) t) none) f)), some (.ref (A 2 s)), some (.int (Int32.ofNat (i + 1))), x, y] [] (hX h a n W SM) Q = Q (.inl (some (fO A (fnx π (sN σ) s t (plN π 2))))) (hX h a n W SM) := i1
      simp (disch := first | assumption | omega | decide | (refine Eq.trans (hK_X _) ?_; assumption) | fail) only [gB, I_all, zK_v, zK_n, true_and, and_true, Nat.reduceAdd, Nat.reduceMul, Nat.reduceSub, z_lt, z_le, z_neq, not_false_eq_true, or_true, true_or, or_false, false_or, false_and, and_false, gX3_firstOf_h]
      cases hb : ((flF π s).take i).foldl (fnS (sN σ) t) none with
      | none =>
        rw [hb] at i2
        show Go κ mX3_firstOf _ [_, _, _, some .null, _, _, _, _] _ _ _ = _
        by_cases c : sN σ (63 + f) ≤ t
        · have c' : ¬ t < sN σ (63 + f) := Int32.not_lt.mpr c
          rw [show fnS (sN σ) t none f = some f from if_pos ⟨c, rfl⟩] at i2
          simp (disch := first | assumption | omega | decide | (refine Eq.trans (hK_X _) ?_; assumption) | fail) only [gB, I_all, zK_v, zK_n, true_and, and_true, Nat.reduceAdd, Nat.reduceMul, Nat.reduceSub, z_lt, z_le, z_neq, not_false_eq_true, or_true, true_or, or_false, false_or, false_and, and_false, gX3_firstOf, F, F2, F3, P, G, zCs, hf0, ea, e7]
          exact i2 _ _
        · have c' : t < sN σ (63 + f) := Int32.not_le.mp c
          rw [show fnS (sN σ) t none f = none from if_neg (fun x => c x.1)] at i2
          simp (disch := first | assumption | omega | decide | (refine Eq.trans (hK_X _) ?_; assumption) | fail) only [gB, I_all, zK_v, zK_n, true_and, and_true, Nat.reduceAdd, Nat.reduceMul, Nat.reduceSub, z_lt, z_le, z_neq, not_false_eq_true, or_true, true_or, or_false, false_or, false_and, and_false, gX3_firstOf, F, F2, F3, P, G, zCs, hf0, ea, e7]
          exact i2 _ _
      | some g =>
        rw [hb] at i2
        have hg := fnS_lt hb
        have e8 := n7 g hg
        show Go κ mX3_firstOf _ [_, _, _, some (.ref (A 3 g)), _, _, _, _] _ _ _ = _
        by_cases c : sN σ (63 + f) ≤ t
        · have c' : ¬ t < sN σ (63 + f) := Int32.not_lt.mpr c
          by_cases c2 : sN σ (63 + f) < sN σ (63 + g)
          · have c2' : ¬ sN σ (63 + g) ≤ sN σ (63 + f) := Int32.not_le.mpr c2
            rw [show fnS (sN σ) t (some g) f = some f from if_pos ⟨c, decide_eq_true c2⟩] at i2
            simp (disch := first | assumption | omega | decide | (refine Eq.trans (hK_X _) ?_; assumption) | fail) only [gB, I_all, zK_v, zK_n, true_and, and_true, Nat.reduceAdd, Nat.reduceMul, Nat.reduceSub, z_lt, z_le, z_neq, not_false_eq_true, or_true, true_or, or_false, false_or, false_and, and_false, gX3_firstOf, F, F2, F3, P, G, zCs, hf0, ea, e7, e8]
            exact i2 _ _
          · have c2' : sN σ (63 + g) ≤ sN σ (63 + f) := Int32.not_lt.mp c2
            rw [show fnS (sN σ) t (some g) f = some g from if_neg (fun x => c2 (of_decide_eq_true x.2))] at i2
            simp (disch := first | assumption | omega | decide | (refine Eq.trans (hK_X _) ?_; assumption) | fail) only [gB, I_all, zK_v, zK_n, true_and, and_true, Nat.reduceAdd, Nat.reduceMul, Nat.reduceSub, z_lt, z_le, z_neq, not_false_eq_true, or_true, true_or, or_false, false_or, false_and, and_false, gX3_firstOf, F, F2, F3, P, G, zCs, hf0, ea, e7, e8]
            exact i2 _ _
        · have c' : t < sN σ (63 + f) := Int32.not_le.mp c
          rw [show fnS (sN σ) t (some g) f = some g from if_neg (fun x => c x.1)] at i2
          simp (disch := first | assumption | omega | decide | (refine Eq.trans (hK_X _) ?_; assumption) | fail) only [gB, I_all, zK_v, zK_n, true_and, and_true, Nat.reduceAdd, Nat.reduceMul, Nat.reduceSub, z_lt, z_le, z_neq, not_false_eq_true, or_true, true_or, or_false, false_or, false_and, and_false, gX3_firstOf, F, F2, F3, P, G, zCs, hf0, ea, e7]
          exact i2 _ _
  have l0 := lp (flF π s).length 0 none none (by omega)
  rw [List.take_zero] at l0
  have l1 : Go κ mX3_firstOf 15 [some (.ref a), some (.int (Int32.ofNat s)), some (.int t), some .null, some (.ref (A 2 s)), some (.int (Int32.ofNat 0)), none, none] [] (hX h a n W SM) Q = Q (.inl (some (fO A (fnx π (sN σ) s t (plN π 2))))) (hX h a n W SM) := l0
  simp (disch := first | assumption | omega | decide | (refine Eq.trans (hK_X _) ?_; assumption) | fail) only [gB, I_all, zK_v, zK_n, true_and, and_true, Nat.reduceAdd, Nat.reduceMul, Nat.reduceSub, z_lt, z_le, z_neq, not_false_eq_true, or_true, true_or, or_false, false_or, false_and, and_false, gX3_firstOf, F, P, es]
  exact l1
end
