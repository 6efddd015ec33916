/-! the twin: the tape; load -/
def by8 (x : Int32) : Int32 := x.toInt8.toInt32
theorem nar8 (x : Int32) : narrow (zElT 3) (Value.int x.toInt8.toInt32) = Value.int x.toInt8.toInt32 := by
  show narrow .byte (Value.int x.toInt8.toInt32) = _
  simp [narrow]
def fdL (v : Int32) : List Int32 := [(v >>> (Int32.ofNat 24 &&& 31)).toInt8.toInt32, (v >>> (Int32.ofNat 16 &&& 31)).toInt8.toInt32, (v >>> (Int32.ofNat 8 &&& 31)).toInt8.toInt32, (v >>> (Int32.ofNat 0 &&& 31)).toInt8.toInt32]
theorem TTp.push {W : Nat → Nat → Int32} {l : List Int32} {n : Nat} (T : TTp W l) (hn : l.length = n) (h : n < 1400) (x : Int32) : TTp (zv (zv W 1 n x) 0 73 (Int32.ofNat (n + 1))) (l ++ [x]) := by
  obtain ⟨t1, t2, t3⟩ := T
  refine ⟨by rw [List.length_append]; simp; omega, by rw [zv_at rfl rfl, List.length_append, hn]; rfl, fun i y hi => ?_⟩
  rw [List.getElem?_append] at hi
  rw [zv_nx (by omega)]
  split at hi
  · rw [zv_nx (by omega)]
    exact t3 i y hi
  · have hl := (List.getElem?_eq_some_iff.mp hi).1
    have h0 : i = n := by simp at hl; omega
    subst h0
    rw [hn, Nat.sub_self] at hi
    simp at hi
    subst hi
    exact zv_at rfl rfl
section
variable {κ : zC} {h : zH} {b : Nat} {W : Nat → Nat → Int32} {SM : Nat → Nat → Int64} {Q : zQ} {Y : Sy}
def TpU (W W' : Nat → Nat → Int32) : Prop := ∀ k j, ¬ k = 1 → ¬ (k = 0 ∧ j = 73) → W' k j = W k j
theorem e7_feeds {l : List Int32} {v : Int32} (S : TSh κ h b) (T : TTp W l) (hl : l.length + 4 ≤ 1400) (hq : ∀ W', TpU W W' → TTp W' (l ++ fdL v) → Q (.inl none) (hX h b 33 W' SM)) : Ev κ mX7_feeds [.ref b, .int v] (hX h b 33 W SM) Q := by
  have F := xF S
  have R := xR S
  have K := xK S
  have hB : kB κ ≤ b := S.1.1
  have z1 : Int32.ofNat 24 + Int32.ofInt (-8) = Int32.ofNat 16 := by decide
  have z2 : Int32.ofNat 16 + Int32.ofInt (-8) = Int32.ofNat 8 := by decide
  have z3 : Int32.ofNat 8 + Int32.ofInt (-8) = Int32.ofNat 0 := by decide
  have z4 : Int32.ofNat 0 + Int32.ofInt (-8) = Int32.ofInt (-8) := by decide
  have z5 : Int32.ofInt (-8) < Int32.ofNat 0 := by decide
  have t0 := T.2.1
  have T1 := T.push rfl (by omega) ((v >>> (Int32.ofNat 24 &&& 31)).toInt8.toInt32)
  have T2 := T1.push (n := l.length + 1) (by rw [List.length_append]; rfl) (by omega) ((v >>> (Int32.ofNat 16 &&& 31)).toInt8.toInt32)
  have T3 := T2.push (n := l.length + 2) (by rw [List.length_append, List.length_append]; rfl) (by omega) ((v >>> (Int32.ofNat 8 &&& 31)).toInt8.toInt32)
  have T4 := T3.push (n := l.length + 3) (by rw [List.length_append, List.length_append, List.length_append]; rfl) (by omega) ((v >>> (Int32.ofNat 0 &&& 31)).toInt8.toInt32)
  have el : l ++ [(v >>> (Int32.ofNat 24 &&& 31)).toInt8.toInt32] ++ [(v >>> (Int32.ofNat 16 &&& 31)).toInt8.toInt32] ++ [(v >>> (Int32.ofNat 8 &&& 31)).toInt8.toInt32] ++ [(v >>> (Int32.ofNat 0 &&& 31)).toInt8.toInt32] = l ++ fdL v := by
    unfold fdL
    simp
  rw [el] at T4
  have f := hq _ (fun k j h1 h2 => by
    rw [zv_nx (by omega), zv_nx (by omega), zv_nx (by omega), zv_nx (by omega), zv_nx (by omega), zv_nx (by omega), zv_nx (by omega), zv_nx (by omega)]) T4
  simp (disch := first | assumption | omega | decide) only [gB, I_all, zK_v, zK_n, true_and, and_true, Nat.reduceAdd, Nat.reduceMul, Nat.reduceSub, z_lt, z_le, z_neq, not_false_eq_true, or_true, true_or, or_false, false_or, false_and, and_false, gX7_feeds, gX7_feeds_h, F, R, K, t0, z1, z2, z3, z4, nar8, zv_nx, zv_at]
  exact f
def vT (Y : Sy) (l : List Int32) : Sy := (Y.1, Y.2.1, Y.2.2.1, Y.2.2.2.1, Y.2.2.2.2.1, l, Y.2.2.2.2.2.2)
def vE (Y : Sy) (e : Int32) : Sy := (Y.1, Y.2.1, Y.2.2.1, Y.2.2.2.1, Y.2.2.2.2.1, Y.2.2.2.2.2.1, e)
theorem TIn.tp {W W' : Nat → Nat → Int32} {l : List Int32} (T : TIn W SM Y) (U : TpU W W') (T' : TTp W' l) : TIn W' SM (vT Y l) := by
  obtain ⟨t1, ⟨t2, t2'⟩, t3, t4, t5, t6, t7⟩ := T
  exact ⟨t1.cg (fun g h1 h2 => U _ _ (by omega) (by omega)) (fun k h1 h2 h3 j => U _ _ (by omega) (by omega)), ⟨t2.cg t2' (fun j hj => U _ _ (by omega) (by omega)) rfl rfl, t2'⟩, t3.cg (U _ _ (by omega) (by omega)) (fun j => U _ _ (by omega) (by omega)) (fun _ => rfl), t4.cg (fun j => U _ _ (by omega) (by omega)) (fun j => U _ _ (by omega) (by omega)) (fun _ => rfl), T', (U _ _ (by omega) (by omega)).trans t6, t7⟩
def yAp (Y : Sy) (a b c d e : Int32) : Int32 × Sy := if 1400 < (yT Y).length + 20 then (Int32.ofInt (-1), Y) else (Int32.ofNat ((yT Y).length + 20), vT Y (yT Y ++ fdL a ++ fdL b ++ fdL c ++ fdL d ++ fdL e))
theorem e7_append {x1 x2 x3 x4 x5 : Int32} (S : TSh κ h b) (T : TIn W SM Y) (hq : ∀ W', TIn W' SM (yAp Y x1 x2 x3 x4 x5).2 → Q (.inl (some (.int (yAp Y x1 x2 x3 x4 x5).1))) (hX h b 33 W' SM)) : Ev κ mX7_append [.ref b, .int x1, .int x2, .int x3, .int x4, .int x5] (hX h b 33 W SM) Q := by
  have F := xF S
  have R := xR S
  have T5 := T.2.2.2.2.1
  have t0 := T5.2.1
  have tl := T5.1
  unfold yAp at hq
  by_cases c : 1400 < (yT Y).length + 20
  · rw [if_pos c] at hq
    simp (disch := first | assumption | omega | decide) only [gB, I_all, zK_v, zK_n, true_and, and_true, Nat.reduceAdd, Nat.reduceMul, Nat.reduceSub, z_lt, z_le, z_neq, not_false_eq_true, or_true, true_or, or_false, false_or, false_and, and_false, gX7_append, F, R, t0]
    exact hq _ T
  · rw [if_neg c] at hq
    have fl : ∀ v, (fdL v).length = 4 := fun _ => rfl
    simp (disch := first | assumption | omega | decide) only [gB, I_all, zK_v, zK_n, true_and, and_true, Nat.reduceAdd, Nat.reduceMul, Nat.reduceSub, z_lt, z_le, z_neq, not_false_eq_true, or_true, true_or, or_false, false_or, false_and, and_false, gX7_append, F, R, t0]
    refine e7_feeds S T5 (by omega) fun W1 U1 T1 => ?_
    simp (disch := first | assumption | omega | decide) only [gB, I_all, zK_v, zK_n, true_and, and_true, Nat.reduceAdd, Nat.reduceMul, Nat.reduceSub, z_lt, z_le, z_neq, not_false_eq_true, or_true, true_or, or_false, false_or, false_and, and_false, gX7_append, F, R]
    refine e7_feeds S T1 (by simp only [List.length_append, fl]; omega) fun W2 U2 T2 => ?_
    simp (disch := first | assumption | omega | decide) only [gB, I_all, zK_v, zK_n, true_and, and_true, Nat.reduceAdd, Nat.reduceMul, Nat.reduceSub, z_lt, z_le, z_neq, not_false_eq_true, or_true, true_or, or_false, false_or, false_and, and_false, gX7_append, F, R]
    refine e7_feeds S T2 (by simp only [List.length_append, fl]; omega) fun W3 U3 T3 => ?_
    simp (disch := first | assumption | omega | decide) only [gB, I_all, zK_v, zK_n, true_and, and_true, Nat.reduceAdd, Nat.reduceMul, Nat.reduceSub, z_lt, z_le, z_neq, not_false_eq_true, or_true, true_or, or_false, false_or, false_and, and_false, gX7_append, F, R]
    refine e7_feeds S T3 (by simp only [List.length_append, fl]; omega) fun W4 U4 T4 => ?_
    simp (disch := first | assumption | omega | decide) only [gB, I_all, zK_v, zK_n, true_and, and_true, Nat.reduceAdd, Nat.reduceMul, Nat.reduceSub, z_lt, z_le, z_neq, not_false_eq_true, or_true, true_or, or_false, false_or, false_and, and_false, gX7_append, F, R]
    refine e7_feeds S T4 (by simp only [List.length_append, fl]; omega) fun W5 U5 T5' => ?_
    have t5 : W5 0 73 = Int32.ofNat ((yT Y).length + 20) := by
      rw [T5'.2.1]
      congr 1
      simp only [List.length_append, fl]
    have f := hq W5 (T.tp (fun k j h1 h2 => by rw [U5 _ _ h1 h2, U4 _ _ h1 h2, U3 _ _ h1 h2, U2 _ _ h1 h2, U1 _ _ h1 h2]) T5')
    simp (disch := first | assumption | omega | decide) only [gB, I_all, zK_v, zK_n, true_and, and_true, Nat.reduceAdd, Nat.reduceMul, Nat.reduceSub, z_lt, z_le, z_neq, not_false_eq_true, or_true, true_or, or_false, false_or, false_and, and_false, gX7_append, F, R, t5]
    exact f
def yTr (Y : Sy) (x : Int32) : Int32 × Sy := if btw x 0 (yT Y).length then (Int32.ofNat ((yT Y).length - x.toNatClampNeg), vT Y ((yT Y).take ((yT Y).length - x.toNatClampNeg))) else (Int32.ofInt (-1), Y)
theorem e7_truncate {x : Int32} (S : TSh κ h b) (T : TIn W SM Y) (hq : ∀ W', TIn W' SM (yTr Y x).2 → Q (.inl (some (.int (yTr Y x).1))) (hX h b 33 W' SM)) : Ev κ mX7_truncate [.ref b, .int x] (hX h b 33 W SM) Q := by
  have F := xF S
  have R := xR S
  have hB : kB κ ≤ b := S.1.1
  have T5 := T.2.2.2.2.1
  have t0 := T5.2.1
  have tl := T5.1
  unfold yTr at hq
  by_cases c : btw x 0 (yT Y).length
  · rw [if_pos c] at hq
    have ei := fun (h : zH) (Q : zQ) => e7_inY (κ := κ) (h := h) (Q := Q) (x := x) (l := 0) (u := (yT Y).length) (by decide) (by omega) c
    obtain ⟨n, hx, -, hn, -⟩ := btw_nat c
    subst hx
    rw [I_nat (by omega)] at hq
    rw [I_64 (by omega)] at ei
    have f := hq (zv W 0 73 (Int32.ofNat ((yT Y).length - n))) (T.tp (fun k j h1 h2 => zv_nx h2) ⟨by rw [List.length_take]; omega, by rw [zv_at rfl rfl, List.length_take, Nat.min_eq_left (by omega)], fun i y hi => by
      rw [zv_nx (by omega)]
      rw [List.getElem?_take] at hi
      split at hi
      · exact T5.2.2 i y hi
      · cases hi⟩)
    simp (disch := first | assumption | omega | decide) only [gB, I_all, zK_v, zK_n, true_and, and_true, Nat.reduceAdd, Nat.reduceMul, Nat.reduceSub, z_lt, z_le, z_neq, not_false_eq_true, or_true, true_or, or_false, false_or, false_and, and_false, gX7_truncate, F, R, t0, I_64, ei, I_sub, zv_at]
    exact f
  · rw [if_neg c] at hq
    have ei := fun (h : zH) (Q : zQ) => e7_inN (κ := κ) (h := h) (Q := Q) (x := x) (l := 0) (u := (yT Y).length) (by decide) (by omega) c
    simp (disch := first | assumption | omega | decide) only [gB, I_all, zK_v, zK_n, true_and, and_true, Nat.reduceAdd, Nat.reduceMul, Nat.reduceSub, z_lt, z_le, z_neq, not_false_eq_true, or_true, true_or, or_false, false_or, false_and, and_false, gX7_truncate, F, R, t0, I_64, ei]
    exact hq _ T
theorem e7_errorPosition (S : TSh κ h b) (T : TIn W SM Y) : Ev κ mX7_errorPosition [.ref b] (hX h b 33 W SM) Q = Q (.inl (some (.int (yE Y)))) (hX h b 33 W SM) := by
  have F := xF S
  have R := xR S
  have t0 := T.2.2.2.2.2.1
  simp (disch := first | assumption | omega | decide) only [gB, I_all, zK_v, zK_n, true_and, and_true, Nat.reduceAdd, Nat.reduceMul, Nat.reduceSub, z_lt, z_le, z_neq, not_false_eq_true, or_true, true_or, or_false, false_or, false_and, and_false, gX7_errorPosition, F, R, t0]
theorem e7_tapeLength (S : TSh κ h b) (T : TIn W SM Y) : Ev κ mX7_tapeLength [.ref b] (hX h b 33 W SM) Q = Q (.inl (some (.int (Int32.ofNat (yT Y).length)))) (hX h b 33 W SM) := by
  have F := xF S
  have R := xR S
  have t0 := T.2.2.2.2.1.2.1
  simp (disch := first | assumption | omega | decide) only [gB, I_all, zK_v, zK_n, true_and, and_true, Nat.reduceAdd, Nat.reduceMul, Nat.reduceSub, z_lt, z_le, z_neq, not_false_eq_true, or_true, true_or, or_false, false_or, false_and, and_false, gX7_tapeLength, F, R, t0]
end
