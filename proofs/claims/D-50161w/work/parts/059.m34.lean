/-! the twin: bounds, frames of the whole relation -/
/-- cells that hold nothing between calls -/
def scr (k j : Nat) : Prop := k = 15 ∨ 22 ≤ k ∨ (k = 0 ∧ 103 ≤ j) ∨ k = 2 ∨ k = 6 ∨ (k = 0 ∧ j = 81)
theorem TIn.scT {W W' : Nat → Nat → Int32} {SM SM' : Nat → Nat → Int64} {Y : Sy} (T : TIn W SM Y) (e : ∀ k j, ¬ scr k j → W' k j = W k j) (e' : ∀ k j, k = 14 ∨ k = 18 ∨ k = 20 → SM' k j = SM k j) : TIn W' SM' Y := by
  obtain ⟨t1, ⟨t2, t2'⟩, t3, t4, t5, t6, t7⟩ := T
  unfold scr at e
  exact ⟨t1.cg (fun g h1 h2 => e _ _ (by omega)) (fun k h1 h2 h3 j => e _ _ (by omega)), ⟨t2.cg t2' (fun j hj => e _ _ (by omega)) (e' _ _ (by omega)) (e' _ _ (by omega)), t2'⟩, t3.cg (e _ _ (by omega)) (fun j => e _ _ (by omega)) (fun j => e' _ _ (by omega)), t4.cg (fun j => e _ _ (by omega)) (fun j => e _ _ (by omega)) (fun j => e' _ _ (by omega)), t5.cg (e _ _ (by omega)) (fun j => e _ _ (by omega)), (e _ _ (by omega)).trans t6, t7⟩
theorem TIn.wld {W W' : Nat → Nat → Int32} {SM SM' : Nat → Nat → Int64} {Y : Sy} {σ : Sg} (T : TIn W SM Y) (A : WAt (W' 13) (SM' 14) σ) (OK : sOk (yP Y) σ) (e : ∀ k j, ¬ scr k j → k ≠ 13 → W' k j = W k j) (e' : ∀ k j, k = 18 ∨ k = 20 → SM' k j = SM k j) : TIn W' SM' (vSt Y σ) := by
  obtain ⟨t1, ⟨t2, t2'⟩, t3, t4, t5, t6, t7⟩ := T
  unfold scr at e
  exact ⟨t1.cg (fun g h1 h2 => e _ _ (by omega) (by omega)) (fun k h1 h2 h3 j => e _ _ (by omega) (by omega)), ⟨A, OK⟩, t3.cg (e _ _ (by omega) (by omega)) (fun j => e _ _ (by omega) (by omega)) (fun j => e' _ _ (by omega)), t4.cg (fun j => e _ _ (by omega) (by omega)) (fun j => e _ _ (by omega) (by omega)) (fun j => e' _ _ (by omega)), t5.cg (e _ _ (by omega) (by omega)) (fun j => e _ _ (by omega) (by omega)), (e _ _ (by omega) (by omega)).trans t6, t7⟩
/-- behind a method that ran over the world -/
theorem TIn.wu {W : Nat → Nat → Int32} {SM : Nat → Nat → Int64} {Y : Sy} {σ : Sg} {w : Nat → Int32} {sm : Nat → Int64} {o : Int32} (T : TIn W SM Y) (A : WAt w sm σ) (OK : sOk (yP Y) σ) : TIn (tWu W w o) (tSu SM sm) (vSt Y σ) := by
  refine T.wld ?_ OK (fun k j h1 h2 => ?_) (fun k j h1 => ?_)
  · have e1 : tWu W w o 13 = w := funext fun j => if_pos rfl
    have e2 : tSu SM sm 14 = sm := funext fun j => if_pos rfl
    rw [e1, e2]; exact A
  · unfold scr at h1
    unfold tWu
    rw [if_neg h2, if_neg (by omega)]
  · unfold tSu
    rw [if_neg (by omega)]
theorem zv13 {W : Nat → Nat → Int32} {SM : Nat → Nat → Int64} {Y : Sy} {σ : Sg} {i : Nat} {v : Int32} (T : TIn W SM Y) (A : WAt (zu (W 13) i v) (SM 14) σ) (OK : sOk (yP Y) σ) : TIn (zv W 13 i v) SM (vSt Y σ) := by
  refine T.wld (by rw [zv_row]; exact A) OK (fun k j h1 h2 => zv_nx (fun x => h2 x.1)) (fun _ _ _ => rfl)
theorem vSt_S (Y : Sy) (σ : Sg) : yS (vSt Y σ) = σ := rfl
theorem vSt_2 (Y : Sy) (σ τ : Sg) : vSt (vSt Y σ) τ = vSt Y τ := rfl
theorem yKp_S (Y : Sy) : yS (yKp Y) = yS Y := rfl
theorem yKp_P (Y : Sy) : yP (yKp Y) = yP Y := rfl
theorem zv_self {α : Type} {W : Nat → Nat → α} {k j : Nat} : zv W k j (W k j) = W := by
  funext k' j'
  unfold zv
  split
  · next h => rw [h.1, h.2]
  · rfl
section
variable {κ : zC} {h : zH} {b : Nat} {W : Nat → Nat → Int32} {SM : Nat → Nat → Int64} {Q : zQ} {Y : Sy} {π : Pl}
theorem e7_isStopY {x : Int32} (S : TSh κ h b) (P : TPl W π) (O : pOk π) (c : btw x 0 (plN π 0 - 1)) : Ev κ mX7_isStop [.ref b, .int x] (hX h b 33 W SM) Q = Q (.inl (some (.int (Int32.ofNat 1)))) (hX h b 33 W SM) := by
  have F := xF S
  have R := xR S
  have e1 := P.1
  have hns := O.1
  have ei := fun (h : zH) (Q : zQ) => e7_inY (κ := κ) (h := h) (Q := Q) (x := x) (l := 0) (u := plN π 0 - 1) (by decide) (by omega) c
  simp (disch := first | assumption | omega | decide) only [gB, I_all, zK_v, zK_n, true_and, and_true, Nat.reduceAdd, Nat.reduceMul, Nat.reduceSub, z_lt, z_le, z_neq, not_false_eq_true, or_true, true_or, or_false, false_or, false_and, and_false, gX7_isStop, F, R, e1, I_sub, I_64, ei, z_b1]
theorem e7_isStopN {x : Int32} (S : TSh κ h b) (P : TPl W π) (O : pOk π) (c : ¬ btw x 0 (plN π 0 - 1)) : Ev κ mX7_isStop [.ref b, .int x] (hX h b 33 W SM) Q = Q (.inl (some (.int (Int32.ofNat 0)))) (hX h b 33 W SM) := by
  have F := xF S
  have R := xR S
  have e1 := P.1
  have hns := O.1
  have ei := fun (h : zH) (Q : zQ) => e7_inN (κ := κ) (h := h) (Q := Q) (x := x) (l := 0) (u := plN π 0 - 1) (by decide) (by omega) c
  simp (disch := first | assumption | omega | decide) only [gB, I_all, zK_v, zK_n, true_and, and_true, Nat.reduceAdd, Nat.reduceMul, Nat.reduceSub, z_lt, z_le, z_neq, not_false_eq_true, or_true, true_or, or_false, false_or, false_and, and_false, gX7_isStop, F, R, e1, I_sub, I_64, ei, z_b0]
theorem e7_isBusY {x : Int32} (S : TSh κ h b) (P : TPl W π) (O : pOk π) (c : btw x 0 (plN π 1 - 1)) : Ev κ mX7_isBus [.ref b, .int x] (hX h b 33 W SM) Q = Q (.inl (some (.int (Int32.ofNat 1)))) (hX h b 33 W SM) := by
  have F := xF S
  have R := xR S
  have e1 := P.2.1
  have hns := O.2.1
  have ei := fun (h : zH) (Q : zQ) => e7_inY (κ := κ) (h := h) (Q := Q) (x := x) (l := 0) (u := plN π 1 - 1) (by decide) (by omega) c
  simp (disch := first | assumption | omega | decide) only [gB, I_all, zK_v, zK_n, true_and, and_true, Nat.reduceAdd, Nat.reduceMul, Nat.reduceSub, z_lt, z_le, z_neq, not_false_eq_true, or_true, true_or, or_false, false_or, false_and, and_false, gX7_isBus, F, R, e1, I_sub, I_64, ei, z_b1]
theorem e7_isBusN {x : Int32} (S : TSh κ h b) (P : TPl W π) (O : pOk π) (c : ¬ btw x 0 (plN π 1 - 1)) : Ev κ mX7_isBus [.ref b, .int x] (hX h b 33 W SM) Q = Q (.inl (some (.int (Int32.ofNat 0)))) (hX h b 33 W SM) := by
  have F := xF S
  have R := xR S
  have e1 := P.2.1
  have hns := O.2.1
  have ei := fun (h : zH) (Q : zQ) => e7_inN (κ := κ) (h := h) (Q := Q) (x := x) (l := 0) (u := plN π 1 - 1) (by decide) (by omega) c
  simp (disch := first | assumption | omega | decide) only [gB, I_all, zK_v, zK_n, true_and, and_true, Nat.reduceAdd, Nat.reduceMul, Nat.reduceSub, z_lt, z_le, z_neq, not_false_eq_true, or_true, true_or, or_false, false_or, false_and, and_false, gX7_isBus, F, R, e1, I_sub, I_64, ei, z_b0]
theorem e7_isModeY {x : Int32} (c : btw x 0 3) : Ev κ mX7_isMode [.int x] h Q = Q (.inl (some (.int (Int32.ofNat 1)))) h := by
  have ei := fun (h : zH) (Q : zQ) => e7_inY (κ := κ) (h := h) (Q := Q) (x := x) (l := 0) (u := 3) (by decide) (by decide) c
  simp (disch := first | assumption | omega | decide) only [gB, I_all, zK_v, zK_n, true_and, and_true, Nat.reduceAdd, Nat.reduceMul, Nat.reduceSub, z_lt, z_le, z_neq, not_false_eq_true, or_true, true_or, or_false, false_or, false_and, and_false, gX7_isMode, ei, z_b1]
theorem e7_isModeN {x : Int32} (c : ¬ btw x 0 3) : Ev κ mX7_isMode [.int x] h Q = Q (.inl (some (.int (Int32.ofNat 0)))) h := by
  have ei := fun (h : zH) (Q : zQ) => e7_inN (κ := κ) (h := h) (Q := Q) (x := x) (l := 0) (u := 3) (by decide) (by decide) c
  simp (disch := first | assumption | omega | decide) only [gB, I_all, zK_v, zK_n, true_and, and_true, Nat.reduceAdd, Nat.reduceMul, Nat.reduceSub, z_lt, z_le, z_neq, not_false_eq_true, or_true, true_or, or_false, false_or, false_and, and_false, gX7_isMode, ei, z_b0]
/-- points: their sum -/
def ptF (σ : Sg) : Nat → Int32
  | 0 => Int32.ofNat 0
  | k + 1 => ptF σ k + sN σ (13 + k)
theorem e7_pointMany (S : TSh κ h b) (T : TIn W SM Y) : Ev κ mX7_pointMany [.ref b] (hX h b 33 W SM) Q = Q (.inl (some (.int (ptF (yS Y) (plN (yP Y) 0))))) (hX h b 33 W SM) := by
  have F := xF S
  have R := xR S
  have K := xK S
  have e1 := T.1.1
  have hns := T.2.2.2.2.2.2.1
  have e2 : ∀ k, k < 10 → W 13 (13 + k) = sN (yS Y) (13 + k) := fun k hk => T.2.1.1.1 _ (by unfold nat1; omega)
  have lp := Go_fr (κ := κ) (m := mX7_pointMany) (pc := 4) (n := plN (yP Y) 0) (Q := Q) (R := Q (.inl (some (.int (ptF (yS Y) (plN (yP Y) 0))))) (hX h b 33 W SM)) (fun k => [some (.ref b), some (.int (ptF (yS Y) k)), some (.int (Int32.ofNat k))]) (fun k => hX h b 33 W SM) (fun k hk ih => by
    have e3 : ptF (yS Y) (k + 1) = ptF (yS Y) k + sN (yS Y) (13 + k) := rfl
    rw [e3] at ih
    simp (disch := first | assumption | omega | decide) only [gB, I_all, zK_v, zK_n, true_and, and_true, Nat.reduceAdd, Nat.reduceMul, Nat.reduceSub, z_lt, z_le, z_neq, not_false_eq_true, or_true, true_or, or_false, false_or, false_and, and_false, gX7_pointMany_h]
    simp (disch := first | assumption | omega | decide) only [gB, I_all, zK_v, zK_n, true_and, and_true, Nat.reduceAdd, Nat.reduceMul, Nat.reduceSub, z_lt, z_le, z_neq, not_false_eq_true, or_true, true_or, or_false, false_or, false_and, and_false, gX7_pointMany, F, R, K, e1, e2]
    exact ih) (by
    simp (disch := first | assumption | omega | decide) only [gB, I_all, zK_v, zK_n, true_and, and_true, Nat.reduceAdd, Nat.reduceMul, Nat.reduceSub, z_lt, z_le, z_neq, not_false_eq_true, or_true, true_or, or_false, false_or, false_and, and_false, gX7_pointMany_h]
    simp (disch := first | assumption | omega | decide) only [gB, I_all, zK_v, zK_n, true_and, and_true, Nat.reduceAdd, Nat.reduceMul, Nat.reduceSub, z_lt, z_le, z_neq, not_false_eq_true, or_true, true_or, or_false, false_or, false_and, and_false, gX7_pointMany, F, R, K, e1])
  have e0 : ptF (yS Y) 0 = Int32.ofNat 0 := rfl
  rw [e0] at lp
  simp (disch := first | assumption | omega | decide) only [gB, I_all, zK_v, zK_n, true_and, and_true, Nat.reduceAdd, Nat.reduceMul, Nat.reduceSub, z_lt, z_le, z_neq, not_false_eq_true, or_true, true_or, or_false, false_or, false_and, and_false, gX7_pointMany]
  exact lp
end
