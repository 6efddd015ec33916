/-! the component: operations: append, truncate; the tape's readers -/
section
variable {κ : zC} {h h' : zH} {g : Nat → Nat} {p q0 q a hd : Nat} {us : List Nat} {ks : Nat → Nat} {A : Nat → Nat → Nat} {Q : zQ} {Y : Sy}
theorem e0_put {v : Int32} (I : CI κ h g Y p A q0 q a hd us ks) (hl : (yT Y).length + 4 ≤ 1400) (hq : ∀ h', CI κ h' g (vT Y (yT Y ++ fdL v)) p A q0 q a hd us ks → Om g h h' → hN h' = hN h → hU h' = hU h → Q (.inl none) h') : Ev κ mX0_put [.ref (g 0), .int v] h Q := by
  have G := I.2.2.2.2.2.2.2
  have kB0 : kB κ ≤ g 0 := (G.1 0 (by decide)).1
  have kB1 : kB κ ≤ g 1 := (G.1 1 (by decide)).1
  have z1 : Int32.ofNat 24 + Int32.ofInt (-8) = Int32.ofNat 16 := by decide
  have z2 : Int32.ofNat 16 + Int32.ofInt (-8) = Int32.ofNat 8 := by decide
  have z3 : Int32.ofNat 8 + Int32.ofInt (-8) = Int32.ofNat 0 := by decide
  have z4 : Int32.ofNat 0 + Int32.ofInt (-8) = Int32.ofInt (-8) := by decide
  have z5 : Int32.ofInt (-8) < Int32.ofNat 0 := by decide
  have z6 : zArr 3 = true := rfl
  -- a byte
  have st : ∀ (H : zH) (Z : Sy) (c : Nat) (R : zQ), CI κ H g Z p A q0 q a hd us ks → (yT Z).length < 1400 → c < 32 → (∀ H', CI κ H' g (vT Z (yT Z ++ [(v >>> (Int32.ofNat c &&& 31)).toInt8.toInt32])) p A q0 q a hd us ks → Om g H H' → hN H' = hN H → hU H' = hU H → Go κ mX0_put 3 [some (.ref (g 0)), some (.int v), some (.int (Int32.ofNat c + Int32.ofInt (-8)))] [] H' R) → Go κ mX0_put 3 [some (.ref (g 0)), some (.int v), some (.int (Int32.ofNat c))] [] H R := by
    intro H Z c R J hl hc hr
    have J2 := CI_push J rfl hl ((v >>> (Int32.ofNat c &&& 31)).toInt8.toInt32)
    have r1 := hr _ J2 ((Om_W (by decide)).trans (Om_W (by decide))) rfl rfl
    obtain ⟨⟨x1, x2, x3, -⟩, ⟨t1, t2, -⟩, -⟩ := J
    have n01 : g 0 ≠ g 1 := G.ne (by decide) (by decide) (by decide)
    have x3' : hV (hW H (g 1) (yT Z).length (.int ((v >>> (Int32.ofNat c &&& 31)).toInt8.toInt32))) (g 0) 1 = .int (Int32.ofNat (yT Z).length) := (hV_Wn n01 1).trans x3
    simp (disch := first | assumption | omega | decide | (refine Eq.trans (hK_X _) ?_; assumption) | fail) only [gB, I_all, zK_v, zK_n, true_and, and_true, Nat.reduceAdd, Nat.reduceMul, Nat.reduceSub, z_lt, z_le, z_neq, not_false_eq_true, or_true, true_or, or_false, false_or, false_and, and_false, gX0_put_h]
    simp (disch := first | assumption | omega | decide | (refine Eq.trans (hK_X _) ?_; assumption) | fail) only [gB, I_all, zK_v, zK_n, true_and, and_true, Nat.reduceAdd, Nat.reduceMul, Nat.reduceSub, z_lt, z_le, z_neq, not_false_eq_true, or_true, true_or, or_false, false_or, false_and, and_false, gX0_put, x1, x2, x3, t1, t2, z6, nar8, hK_W, hL_W, x3', kB0, kB1]
    exact r1
  simp (disch := first | assumption | omega | decide | (refine Eq.trans (hK_X _) ?_; assumption) | fail) only [gB, I_all, zK_v, zK_n, true_and, and_true, Nat.reduceAdd, Nat.reduceMul, Nat.reduceSub, z_lt, z_le, z_neq, not_false_eq_true, or_true, true_or, or_false, false_or, false_and, and_false, gX0_put]
  refine st h Y 24 Q I (by omega) (by decide) fun h1 I1 o1 n1 u1 => ?_
  rw [z1]
  refine st h1 _ 16 Q I1 (by show (yT Y ++ _).length < 1400; rw [List.length_append]; simp only [List.length_cons, List.length_nil]; omega) (by decide) fun h2 I2 o2 n2 u2 => ?_
  rw [z2]
  refine st h2 _ 8 Q I2 (by show (yT Y ++ _ ++ _).length < 1400; rw [List.length_append, List.length_append]; simp only [List.length_cons, List.length_nil]; omega) (by decide) fun h3 I3 o3 n3 u3 => ?_
  rw [z3]
  refine st h3 _ 0 Q I3 (by show (yT Y ++ _ ++ _ ++ _).length < 1400; rw [List.length_append, List.length_append, List.length_append]; simp only [List.length_cons, List.length_nil]; omega) (by decide) fun h4 I4 o4 n4 u4 => ?_
  have el : yT Y ++ [(v >>> (Int32.ofNat 24 &&& 31)).toInt8.toInt32] ++ [(v >>> (Int32.ofNat 16 &&& 31)).toInt8.toInt32] ++ [(v >>> (Int32.ofNat 8 &&& 31)).toInt8.toInt32] ++ [(v >>> (Int32.ofNat 0 &&& 31)).toInt8.toInt32] = yT Y ++ fdL v := by
    unfold fdL
    simp
  have I5 : CI κ h4 g (vT Y (yT Y ++ [(v >>> (Int32.ofNat 24 &&& 31)).toInt8.toInt32] ++ [(v >>> (Int32.ofNat 16 &&& 31)).toInt8.toInt32] ++ [(v >>> (Int32.ofNat 8 &&& 31)).toInt8.toInt32] ++ [(v >>> (Int32.ofNat 0 &&& 31)).toInt8.toInt32])) p A q0 q a hd us ks := I4
  rw [el] at I5
  have q1 := hq h4 I5 (((o1.trans o2).trans o3).trans o4) (by omega) (by omega)
  rw [z4]
  simp (disch := first | assumption | omega | decide | (refine Eq.trans (hK_X _) ?_; assumption) | fail) only [gB, I_all, zK_v, zK_n, true_and, and_true, Nat.reduceAdd, Nat.reduceMul, Nat.reduceSub, z_lt, z_le, z_neq, not_false_eq_true, or_true, true_or, or_false, false_or, false_and, and_false, gX0_put, gX0_put_h]
  exact q1
theorem e0_append {x1 x2 x3 x4 x5 : Int32} (I : CI κ h g Y p A q0 q a hd us ks) (hq : OQ κ h g p A q0 q (yAp Y x1 x2 x3 x4 x5) Q) : Ev κ mX0_append [.ref (g 0), .int x1, .int x2, .int x3, .int x4, .int x5] h Q := by
  have k0 := I.1.1
  have l0 := I.1.2.2.1
  have l14 := I.2.1.2.2.1
  have fl : ∀ v, (fdL v).length = 4 := fun _ => rfl
  unfold yAp at hq
  by_cases c : 1400 < (yT Y).length + 20
  · rw [if_pos c] at hq
    have q1 := I.nop hq
    simp (disch := first | assumption | omega | decide | (refine Eq.trans (hK_X _) ?_; assumption) | fail) only [gB, I_all, zK_v, zK_n, true_and, and_true, Nat.reduceAdd, Nat.reduceMul, Nat.reduceSub, z_lt, z_le, z_neq, not_false_eq_true, or_true, true_or, or_false, false_or, false_and, and_false, gX0_append, k0, l0]
    exact q1
  · rw [if_neg c] at hq
    simp (disch := first | assumption | omega | decide | (refine Eq.trans (hK_X _) ?_; assumption) | fail) only [gB, I_all, zK_v, zK_n, true_and, and_true, Nat.reduceAdd, Nat.reduceMul, Nat.reduceSub, z_lt, z_le, z_neq, not_false_eq_true, or_true, true_or, or_false, false_or, false_and, and_false, gX0_append, k0, l0]
    refine e0_put I (by omega) fun h1 I1 o1 n1 u1 => ?_
    have k1 := I1.1.1
    simp (disch := first | assumption | omega | decide | (refine Eq.trans (hK_X _) ?_; assumption) | fail) only [gB, I_all, zK_v, zK_n, true_and, and_true, Nat.reduceAdd, Nat.reduceMul, Nat.reduceSub, z_lt, z_le, z_neq, not_false_eq_true, or_true, true_or, or_false, false_or, false_and, and_false, gX0_append, k1]
    refine e0_put I1 (by show (yT Y ++ _).length + 4 ≤ 1400; rw [List.length_append, fl]; omega) fun h2 I2 o2 n2 u2 => ?_
    have k2 := I2.1.1
    simp (disch := first | assumption | omega | decide | (refine Eq.trans (hK_X _) ?_; assumption) | fail) only [gB, I_all, zK_v, zK_n, true_and, and_true, Nat.reduceAdd, Nat.reduceMul, Nat.reduceSub, z_lt, z_le, z_neq, not_false_eq_true, or_true, true_or, or_false, false_or, false_and, and_false, gX0_append, k2]
    refine e0_put I2 (by show (yT Y ++ _ ++ _).length + 4 ≤ 1400; rw [List.length_append, List.length_append, fl, fl]; omega) fun h3 I3 o3 n3 u3 => ?_
    have k3 := I3.1.1
    simp (disch := first | assumption | omega | decide | (refine Eq.trans (hK_X _) ?_; assumption) | fail) only [gB, I_all, zK_v, zK_n, true_and, and_true, Nat.reduceAdd, Nat.reduceMul, Nat.reduceSub, z_lt, z_le, z_neq, not_false_eq_true, or_true, true_or, or_false, false_or, false_and, and_false, gX0_append, k3]
    refine e0_put I3 (by show (yT Y ++ _ ++ _ ++ _).length + 4 ≤ 1400; rw [List.length_append, List.length_append, List.length_append, fl, fl, fl]; omega) fun h4 I4 o4 n4 u4 => ?_
    have k4 := I4.1.1
    simp (disch := first | assumption | omega | decide | (refine Eq.trans (hK_X _) ?_; assumption) | fail) only [gB, I_all, zK_v, zK_n, true_and, and_true, Nat.reduceAdd, Nat.reduceMul, Nat.reduceSub, z_lt, z_le, z_neq, not_false_eq_true, or_true, true_or, or_false, false_or, false_and, and_false, gX0_append, k4]
    refine e0_put I4 (by show (yT Y ++ _ ++ _ ++ _ ++ _).length + 4 ≤ 1400; rw [List.length_append, List.length_append, List.length_append, List.length_append, fl, fl, fl, fl]; omega) fun h5 I5 o5 n5 u5 => ?_
    have k5 := I5.1.1
    have l5 : hV h5 (g 0) 1 = .int (Int32.ofNat ((yT Y).length + 20)) := by
      have := I5.1.2.2.1
      rw [this]
      show Value.int (Int32.ofNat (yT Y ++ _ ++ _ ++ _ ++ _ ++ _).length) = _
      rw [List.length_append, List.length_append, List.length_append, List.length_append, List.length_append, fl, fl, fl, fl, fl]
    have q1 := hq h5 ⟨a, hd, us, ks, I5⟩ ((((o1.trans o2).trans o3).trans o4).trans o5) (by omega) (by omega)
    simp (disch := first | assumption | omega | decide | (refine Eq.trans (hK_X _) ?_; assumption) | fail) only [gB, I_all, zK_v, zK_n, true_and, and_true, Nat.reduceAdd, Nat.reduceMul, Nat.reduceSub, z_lt, z_le, z_neq, not_false_eq_true, or_true, true_or, or_false, false_or, false_and, and_false, gX0_append, k5, l5]
    exact q1
theorem e0_truncate {x : Int32} (I : CI κ h g Y p A q0 q a hd us ks) (hq : OQ κ h g p A q0 q (yTr Y x) Q) : Ev κ mX0_truncate [.ref (g 0), .int x] h Q := by
  have k0 := I.1.1
  have l0 := I.1.2.2.1
  have l14 := I.2.1.2.2.1
  have kB0 : kB κ ≤ g 0 := (I.2.2.2.2.2.2.2.1 0 (by decide)).1
  unfold yTr at hq
  by_cases c : btw x 0 (yT Y).length
  · rw [if_pos c] at hq
    have eb := fun (h : zH) (Q : zQ) => e0_btY (κ := κ) (h := h) (Q := Q) (x := x) (l := 0) (u := (yT Y).length) (by decide) (by omega) c
    obtain ⟨n, hx, -, hn, -⟩ := btw_nat c
    subst hx
    rw [I_nat (by omega)] at hq
    have es : Int32.ofNat (yT Y).length - Int32.ofNat n = Int32.ofNat ((yT Y).length - n) := I_sub hn
    have I2 := CI_len I (n := (yT Y).length - n) (by omega)
    have q1 := hq _ ⟨a, hd, us, ks, I2⟩ (Om_W (by decide)) (by show hN h ≤ _; omega) (by show hU h ≤ _; omega)
    have v1 : hV (hW h (g 0) 1 (.int (Int32.ofNat ((yT Y).length - n)))) (g 0) 1 = .int (Int32.ofNat ((yT Y).length - n)) := hV_We rfl rfl
    simp (disch := first | assumption | omega | decide | (refine Eq.trans (hK_X _) ?_; assumption) | fail) only [gB, I_all, zK_v, zK_n, true_and, and_true, Nat.reduceAdd, Nat.reduceMul, Nat.reduceSub, z_lt, z_le, z_neq, not_false_eq_true, or_true, true_or, or_false, false_or, false_and, and_false, gX0_truncate, k0, l0, eb, es, kB0, hK_W, v1]
    exact q1
  · rw [if_neg c] at hq
    have eb := fun (h : zH) (Q : zQ) => e0_btN (κ := κ) (h := h) (Q := Q) (x := x) (l := 0) (u := (yT Y).length) (by decide) (by omega) c
    have q1 := I.nop hq
    simp (disch := first | assumption | omega | decide | (refine Eq.trans (hK_X _) ?_; assumption) | fail) only [gB, I_all, zK_v, zK_n, true_and, and_true, Nat.reduceAdd, Nat.reduceMul, Nat.reduceSub, z_lt, z_le, z_neq, not_false_eq_true, or_true, true_or, or_false, false_or, false_and, and_false, gX0_truncate, k0, l0, eb]
    exact q1
theorem e0_tapeLength (I : CI κ h g Y p A q0 q a hd us ks) : Ev κ mX0_tapeLength [.ref (g 0)] h Q = Q (.inl (some (.int (Int32.ofNat (yT Y).length)))) h := by
  have k0 := I.1.1
  have l0 := I.1.2.2.1
  simp (disch := first | assumption | omega | decide | (refine Eq.trans (hK_X _) ?_; assumption) | fail) only [gB, I_all, zK_v, zK_n, true_and, and_true, Nat.reduceAdd, Nat.reduceMul, Nat.reduceSub, z_lt, z_le, z_neq, not_false_eq_true, or_true, true_or, or_false, false_or, false_and, and_false, gX0_tapeLength, k0, l0]
theorem e0_errorPosition (I : CI κ h g Y p A q0 q a hd us ks) : Ev κ mX0_errorPosition [.ref (g 0)] h Q = Q (.inl (some (.int (yE Y)))) h := by
  have k0 := I.1.1
  have l0 := I.1.2.2.2.1
  simp (disch := first | assumption | omega | decide | (refine Eq.trans (hK_X _) ?_; assumption) | fail) only [gB, I_all, zK_v, zK_n, true_and, and_true, Nat.reduceAdd, Nat.reduceMul, Nat.reduceSub, z_lt, z_le, z_neq, not_false_eq_true, or_true, true_or, or_false, false_or, false_and, and_false, gX0_errorPosition, k0, l0]
end
