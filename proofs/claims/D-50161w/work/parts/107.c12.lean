/-! the component: a bus's cells; riders alight, board; a bus drives on -/
theorem I_m1 (x : Int32) : x + Int32.ofInt (-1) = x - Int32.ofNat 1 := by
  rw [Int32.sub_eq_add_neg]
  rfl
theorem incs_cons (w : Nat → Int32) (c : Nat) (l : List Rd) (r : Rd) : inc (incs w c l) (79 + 5 * r.2.2 + c) = incs w c (r :: l) := by
  rw [incs_snoc]
  funext j
  unfold incs
  congr 2
  unfold cnt
  rw [List.filter_append, List.length_append, List.filter_cons, List.filter_cons, List.filter_nil]
  split
  · rw [List.length_cons]; rfl
  · exact Nat.add_zero _
section
variable {κ : zC} {h : zH} {a n p q0 q K cap : Nat} {π : Pl} {A : Nat → Nat → Nat} {W : Nat → Nat → Int32} {SM : Nat → Nat → Int64} {Q : zQ} {σ : Sg}
theorem bX (S : BSh h a n K cap) : (∀ W SM, hV (hX h a n W SM) (a + K) 71 = .ref (a + (K + 1))) ∧ (∀ W SM g, 57 ≤ g → g ≤ 70 → hV (hX h a n W SM) (a + K) g = .int (W K g)) ∧ (∀ W SM g v, 57 ≤ g → g ≤ 70 → hW (hX h a n W SM) (a + K) g (.int v) = hX h a n (zv W K g v) SM) ∧ hK h (a + K) = 106 := by
  obtain ⟨s1, s2, s3, s4, s5⟩ := S
  exact ⟨fun _ _ => hV_Xr (by omega) s2, fun _ _ g h1 h2 => hV_Xi (by omega) (s3 g h1 h2), fun _ _ g _ h1 h2 => hX_i (by omega) (s3 g h1 h2), s1⟩
theorem e9_min {x y : Nat} (hx : x < 1000) (hy : y < 1000) {h : zH} : Ev κ mJ9_min [.int (Int32.ofNat x), .int (Int32.ofNat y)] h Q = Q (.inl (some (.int (Int32.ofNat (min x y))))) h := by
  by_cases c : x ≤ y
  · rw [Nat.min_eq_left c]
    simp (disch := first | assumption | omega | decide) only [gB, I_all, zK_v, zK_n, true_and, and_true, Nat.reduceAdd, Nat.reduceMul, Nat.reduceSub, z_lt, z_le, z_neq, not_false_eq_true, or_true, true_or, or_false, false_or, false_and, and_false, gJ9_min]
  · have c' : y < x := by omega
    rw [Nat.min_eq_right (by omega)]
    simp (disch := first | assumption | omega | decide) only [gB, I_all, zK_v, zK_n, true_and, and_true, Nat.reduceAdd, Nat.reduceMul, Nat.reduceSub, z_lt, z_le, z_neq, not_false_eq_true, or_true, true_or, or_false, false_or, false_and, and_false, gJ9_min]
/-- riders from m on have been looked at -/
def sAm (σ : Sg) (b s : Nat) (t : Int32) (m : Nat) : Sg := sBq (vS (vN σ (incs (sN σ) 4 (gets s ((bR σ b).drop m)))) (zu (sS σ) 1 (sS σ 1 + waits t (gets s ((bR σ b).drop m))))) b ((bR σ b).take m ++ stays s ((bR σ b).drop m))
theorem sAm_R (σ : Sg) (b s : Nat) (t : Int32) (m : Nat) : bR (sAm σ b s t m) b = (bR σ b).take m ++ stays s ((bR σ b).drop m) := congrArg Prod.snd (sBq_eq _ b _)
theorem sAm_F (σ : Sg) (b s : Nat) (t : Int32) (m c : Nat) : bF (sAm σ b s t m) b c = bF σ b c := congrFun (congrArg Prod.fst (sBq_eq (vS (vN σ (incs (sN σ) 4 (gets s ((bR σ b).drop m)))) (zu (sS σ) 1 (sS σ 1 + waits t (gets s ((bR σ b).drop m))))) b ((bR σ b).take m ++ stays s ((bR σ b).drop m)))) c
theorem sAm_0 (σ : Sg) (b s : Nat) (t : Int32) : sAm σ b s t 0 = (sAl σ b s t).1 := by
  unfold sAm
  rw [List.drop_zero, List.take_zero, List.nil_append]
  rfl
theorem sAm_len (σ : Sg) (b s : Nat) (t : Int32) : sAm σ b s t (bR σ b).length = σ := by
  unfold sAm
  rw [List.drop_length, List.take_length]
  show sBq (vS (vN σ (incs (sN σ) 4 [])) (zu (sS σ) 1 (sS σ 1 + waits t []))) b (bR σ b ++ []) = σ
  have e2 : zu (sS σ) 1 (sS σ 1 + waits t []) = sS σ := by
    rw [show sS σ 1 + waits t [] = sS σ 1 from Int64.add_zero _]
    exact zu_self _ _
  rw [incs_nil, e2, List.append_nil]
  show vB σ (zu (sB σ) b (sB σ b)) = σ
  rw [zu_self]
  rfl
theorem sAm_no {b s m : Nat} {t : Int32} {r : Rd} (h : (bR σ b)[m]? = some r) (hr : ¬ r.1 = s) : sAm σ b s t m = sAm σ b s t (m + 1) := by
  have hl := (List.getElem?_eq_some_iff.mp h)
  have ed : (bR σ b).drop m = r :: (bR σ b).drop (m + 1) := by rw [List.drop_eq_getElem_cons hl.1, hl.2]
  have et : (bR σ b).take (m + 1) = (bR σ b).take m ++ [r] := by rw [List.take_add_one, h]; rfl
  have eg : gets s (r :: (bR σ b).drop (m + 1)) = gets s ((bR σ b).drop (m + 1)) := List.filter_cons_of_neg (by rw [decide_eq_false hr]; decide)
  have es : stays s (r :: (bR σ b).drop (m + 1)) = r :: stays s ((bR σ b).drop (m + 1)) := List.filter_cons_of_pos (by rw [decide_eq_false hr]; rfl)
  unfold sAm
  rw [ed, eg, es, et, List.append_assoc]
  rfl
theorem sAm_yes {b s m : Nat} {t : Int32} {r : Rd} (h : (bR σ b)[m]? = some r) (hr : r.1 = s) :
    sBq (vS (vN (sAm σ b s t (m + 1)) (inc (sN (sAm σ b s t (m + 1))) (79 + 5 * r.2.2 + 4))) (zu (sS (sAm σ b s t (m + 1))) 1 (sS (sAm σ b s t (m + 1)) 1 + (t - r.2.1).toInt64))) b ((bR (sAm σ b s t (m + 1)) b).eraseIdx m) = sAm σ b s t m := by
  have hl := (List.getElem?_eq_some_iff.mp h)
  have ed : (bR σ b).drop m = r :: (bR σ b).drop (m + 1) := by rw [List.drop_eq_getElem_cons hl.1, hl.2]
  have et : (bR σ b).take (m + 1) = (bR σ b).take m ++ [r] := by rw [List.take_add_one, h]; rfl
  have eg : gets s (r :: (bR σ b).drop (m + 1)) = r :: gets s ((bR σ b).drop (m + 1)) := List.filter_cons_of_pos (by rw [decide_eq_true hr])
  have es : stays s (r :: (bR σ b).drop (m + 1)) = stays s ((bR σ b).drop (m + 1)) := List.filter_cons_of_neg (by rw [decide_eq_true hr]; decide)
  have hl1 := hl.1
  have hlen : ((bR σ b).take m).length = m := by rw [List.length_take, Nat.min_eq_left (by omega)]
  have e0 : (bR (sAm σ b s t (m + 1)) b).eraseIdx m = (bR σ b).take m ++ stays s ((bR σ b).drop (m + 1)) := by
    rw [sAm_R, et, List.append_assoc, List.eraseIdx_append_of_length_le (by omega), hlen, Nat.sub_self]
    rfl
  have e1 : sN (sAm σ b s t (m + 1)) = incs (sN σ) 4 (gets s ((bR σ b).drop (m + 1))) := rfl
  have e2 : sS (sAm σ b s t (m + 1)) = zu (sS σ) 1 (sS σ 1 + waits t (gets s ((bR σ b).drop (m + 1)))) := rfl
  have ew : sS σ 1 + waits t (gets s ((bR σ b).drop (m + 1))) + (t - r.2.1).toInt64 = sS σ 1 + waits t (r :: gets s ((bR σ b).drop (m + 1))) := by
    show _ = sS σ 1 + ((t - r.2.1).toInt64 + waits t (gets s ((bR σ b).drop (m + 1))))
    rw [Int64.add_assoc, Int64.add_comm (t - r.2.1).toInt64]
  rw [e0, e1, e2, zu_eq, zu_zu, incs_cons, ew]
  conv => rhs; unfold sAm
  rw [ed, eg, es]
  unfold sAm sBq
  simp only [vs, zu_eq, zu_zu]
  rfl
theorem e3_alight {b s : Nat} {t : Int32} (Z : ZS κ h a n p π A q0 q) (C : CAt π W SM σ) (OK : sOk π σ) (hb : b < plN π 1) (hs : s < plN π 0) (e1 : bF σ b 1 = Int32.ofNat s) (e2 : bF σ b 2 = t)
    (hq : ∀ W' SM', CAt π W' SM' (sAl σ b s t).1 → Kp W W' → Q (.inl (some (.int (Int32.ofNat (sAl σ b s t).2)))) (hX h a n W' SM')) :
    Ev κ mX3_alight [.ref a, .ref (a + (15 + 8 * plN π 0 + 5 * b))] (hX h a n W SM) Q := by
  have F := cF Z.1 Z.2.2.2.2.1
  have F2 := cRf Z.1 Z.2.2.2.2.1
  have F3 := cK Z.1
  obtain ⟨B0, hcap⟩ := cBu Z.1 Z.2.2.2.2.1 hb
  have B := bX B0
  have R0 := B0.2.2.2
  have G := rF R0
  have O := Z.2.2.1
  have h10 := O.1.2
  have hB : kB κ ≤ a := Z.1.1.1
  have hB11 : kB κ ≤ a + 11 := by omega
  have hb6 : b < 6 := by have := O.2.1.2; omega
  obtain ⟨o1, o2, o3, -⟩ := OK.2.2.1 b hb6
  have o2 := o2 hb
  have lp : ∀ (m : Nat) (W1 : Nat → Nat → Int32) (SM1 : Nat → Nat → Int64), m ≤ (bR σ b).length → CAt π W1 SM1 (sAm σ b s t m) → Kp W W1 →
      Go κ mX3_alight 12 [some (.ref a), some (.ref (a + (15 + 8 * plN π 0 + 5 * b))), some (.int (Int32.ofNat (gets s ((bR σ b).drop m)).length)), some (.int (Int32.ofNat m - Int32.ofNat 1))] [] (hX h a n W1 SM1) Q := by
    intro m
    induction m with
    | zero =>
      intro W1 SM1 _ C1 K1
      rw [sAm_0] at C1
      rw [List.drop_zero]
      simp (disch := first | assumption | omega | decide | (refine Eq.trans (hK_X _) ?_; assumption) | fail) only [gB, I_all, zK_v, zK_n, true_and, and_true, Nat.reduceAdd, Nat.reduceMul, Nat.reduceSub, z_lt, z_le, z_neq, not_false_eq_true, or_true, true_or, or_false, false_or, false_and, and_false, gX3_alight_h]
      simp (disch := first | assumption | omega | decide | (refine Eq.trans (hK_X _) ?_; assumption) | fail) only [gB, I_all, zK_v, zK_n, true_and, and_true, Nat.reduceAdd, Nat.reduceMul, Nat.reduceSub, z_lt, z_le, z_neq, not_false_eq_true, or_true, true_or, or_false, false_or, false_and, and_false, gX3_alight]
      exact hq _ _ C1 K1
    | succ m ih =>
      intro W1 SM1 hm C1 K1
      obtain ⟨r, hr0⟩ : ∃ r, (bR σ b)[m]? = some r := ⟨_, List.getElem?_eq_getElem (by omega)⟩
      have hrr := o3 r (List.mem_of_getElem? hr0)
      have hl := (List.getElem?_eq_some_iff.mp hr0)
      have es : Int32.ofNat (m + 1) - Int32.ofNat 1 = Int32.ofNat m := by rw [I_sub (by omega), Nat.add_sub_cancel]
      have Cb := C1.2.2.2.2.1 b hb
      have Rb := Cb.2.2
      have ea1 : (sB (sAm σ b s t (m + 1)) b).1 1 = Int32.ofNat s := (sAm_F σ b s t (m + 1) 1).trans e1
      have ea2 : (sB (sAm σ b s t (m + 1)) b).1 2 = t := (sAm_F σ b s t (m + 1) 2).trans e2
      have w1 : W1 (15 + 8 * plN π 0 + 5 * b) 61 = Int32.ofNat s := Cb.2.1.2.1.trans ea1
      have w2 : W1 (15 + 8 * plN π 0 + 5 * b) 62 = t := Cb.2.1.2.2.1.trans ea2
      have eL : (sB (sAm σ b s t (m + 1)) b).2 = (bR σ b).take (m + 1) ++ stays s ((bR σ b).drop (m + 1)) := sAm_R σ b s t (m + 1)
      have hle := stays_len s ((bR σ b).drop (m + 1))
      rw [List.length_drop] at hle
      have hlt : ((bR σ b).take (m + 1)).length = m + 1 := by rw [List.length_take, Nat.min_eq_left (by omega)]
      have gm : (sB (sAm σ b s t (m + 1)) b).2[m]? = some r := by
        rw [eL, List.getElem?_append_left (by omega), List.getElem?_take_of_lt (by omega)]; exact hr0
      obtain ⟨v1, v2, v3⟩ := Rb.2 m r gm
      have v0 := Rb.1
      obtain ⟨m', hm'⟩ : ∃ m', (sB (sAm σ b s t (m + 1)) b).2.length = m' + 1 := ⟨m + (stays s ((bR σ b).drop (m + 1))).length, by rw [eL, List.length_append]; omega⟩
      have hm2 : m' + 1 ≤ (bR σ b).length := by rw [← hm', eL, List.length_append]; omega
      have hm3 : m ≤ m' := by rw [eL, List.length_append] at hm'; omega
      have eg : (bR σ b).drop m = r :: (bR σ b).drop (m + 1) := by rw [List.drop_eq_getElem_cons hl.1, hl.2]
      have ig := gets s ((bR σ b).drop (m + 1))
      have hgl : (gets s ((bR σ b).drop (m + 1))).length ≤ 99 := by
        have := List.length_filter_le (fun r : Rd => decide (r.1 = s)) ((bR σ b).drop (m + 1))
        rw [List.length_drop] at this
        have h2 : (gets s ((bR σ b).drop (m + 1))).length ≤ (bR σ b).length - (m + 1) := this
        omega
      simp (disch := first | assumption | omega | decide | (refine Eq.trans (hK_X _) ?_; assumption) | fail) only [gB, I_all, zK_v, zK_n, true_and, and_true, Nat.reduceAdd, Nat.reduceMul, Nat.reduceSub, z_lt, z_le, z_neq, not_false_eq_true, or_true, true_or, or_false, false_or, false_and, and_false, gX3_alight_h, es]
      by_cases c : r.1 = s
      · have eg' : gets s ((bR σ b).drop m) = r :: gets s ((bR σ b).drop (m + 1)) := by rw [eg]; exact List.filter_cons_of_pos (by rw [decide_eq_true c])
        have f4 : fm 11 r.2.2 (79 + 5 * r.2.2 + 4) := by unfold fm; omega
        have C2 := CAt_inc C1 f4 O.2.2.1 O.1.2 (C1.1.2.1 4 r.2.2 (by omega) hrr.2)
        have C3 := CAt_S1 C2 (SM1 0 33 + (t - r.2.1).toInt64)
        have Rb2 := (C3.2.2.2.2.1 b hb).2.2
        have C4 := CAt_bq (W' := rmW (zv W1 11 r.2.2 (W1 11 r.2.2 + Int32.ofNat 1)) (15 + 8 * plN π 0 + 5 * b + 1) m m' m') C3 hb (fun k j h1 => rmW_o (by omega)) (RC_rm Rb2 hm' hm3)
        have z4 : SM1 0 33 = sS (sAm σ b s t (m + 1)) 1 := C1.2.1.2
        rw [z4] at C4
        have C5 : CAt π (rmW (zv W1 11 r.2.2 (W1 11 r.2.2 + Int32.ofNat 1)) (15 + 8 * plN π 0 + 5 * b + 1) m m' m') (zv SM1 0 33 (sS (sAm σ b s t (m + 1)) 1 + (t - r.2.1).toInt64)) (sAm σ b s t m) := by
          rw [← sAm_yes hr0 c]
          exact C4
        have i1 := ih _ _ (by omega) C5 (K1.trans fun j => (rmW_o (by omega)).trans (zv_nx (by omega)))
        rw [eg', List.length_cons, ← I_m1] at i1
        have v0' : zv W1 11 r.2.2 (W1 11 r.2.2 + Int32.ofNat 1) (15 + 8 * plN π 0 + 5 * b + 1) 50 = Int32.ofNat (m' + 1) := by rw [zv_nx (by omega), v0, hm']
        have er := fun SM Q => e4_remove (κ := κ) (SM := SM) (Q := Q) (x := m) (m := m') R0 hB v0' hm3 (by omega) (by omega)
        rw [c] at v1
        simp (disch := first | assumption | omega | decide | (refine Eq.trans (hK_X _) ?_; assumption) | fail) only [gB, I_all, zK_v, zK_n, true_and, and_true, Nat.reduceAdd, Nat.reduceMul, Nat.reduceSub, z_lt, z_le, z_neq, not_false_eq_true, or_true, true_or, or_false, false_or, false_and, and_false, gX3_alight, F, F2, F3, B, G, es, w1, w2, v1, v2, v3, hB11, zv_nx, z4, er, I_m1]
        rw [I_m1] at i1
        exact i1
      · have eg' : gets s ((bR σ b).drop m) = gets s ((bR σ b).drop (m + 1)) := by rw [eg]; exact List.filter_cons_of_neg (by rw [decide_eq_false c]; decide)
        rw [← sAm_no hr0 c] at C1
        have i1 := ih _ _ (by omega) C1 K1
        rw [eg'] at i1
        simp (disch := first | assumption | omega | decide | (refine Eq.trans (hK_X _) ?_; assumption) | fail) only [gB, I_all, zK_v, zK_n, true_and, and_true, Nat.reduceAdd, Nat.reduceMul, Nat.reduceSub, z_lt, z_le, z_neq, not_false_eq_true, or_true, true_or, or_false, false_or, false_and, and_false, gX3_alight, F, F2, F3, B, G, es, w1, w2, v1, I_m1]
        exact i1
  have v0 : W (15 + 8 * plN π 0 + 5 * b + 1) 50 = Int32.ofNat (bR σ b).length := (C.2.2.2.2.1 b hb).2.2.1
  have l0 := lp (bR σ b).length W SM (Nat.le_refl _) (by rw [sAm_len]; exact C) Kp.rfl
  rw [List.drop_length] at l0
  have l1 : Go κ mX3_alight 12 [some (.ref a), some (.ref (a + (15 + 8 * plN π 0 + 5 * b))), some (.int (Int32.ofNat 0)), some (.int (Int32.ofNat (bR σ b).length - Int32.ofNat 1))] [] (hX h a n W SM) Q := l0
  simp (disch := first | assumption | omega | decide | (refine Eq.trans (hK_X _) ?_; assumption) | fail) only [gB, I_all, zK_v, zK_n, true_and, and_true, Nat.reduceAdd, Nat.reduceMul, Nat.reduceSub, z_lt, z_le, z_neq, not_false_eq_true, or_true, true_or, or_false, false_or, false_and, and_false, gX3_alight, F, B, G, v0]
  exact l1
end
