/-! the component: operations: keep, undo, restore, append, truncate -/
section
variable {κ : zC} {h h' : zH} {g : Nat → Nat} {p q0 q a a' hd hd' y : Nat} {us us' : List Nat} {ks ks' : Nat → Nat} {π : Pl} {A : Nat → Nat → Nat} {Q : zQ} {σ : Sg} {Y Y' : Sy}
theorem CI_mk (I : CI κ h g Y p A q0 q a hd us ks) (o : Om g h h') (hP : yP Y' = yP Y)
    (c1 : hK h' (g 0) = 100 ∧ hV h' (g 0) 0 = .ref (g 1) ∧ hV h' (g 0) 1 = .int (Int32.ofNat (yT Y').length) ∧ hV h' (g 0) 2 = .int (yE Y') ∧ hV h' (g 0) 3 = .ref a' ∧ hV h' (g 0) 4 = .ref (g 2) ∧ hV h' (g 0) 5 = .ref (g 4))
    (c2 : hK h' (g 1) = 3 ∧ hL h' (g 1) = 1400 ∧ (yT Y').length ≤ 1400 ∧ ∀ i v, (yT Y')[i]? = some v → hV h' (g 1) i = .int v)
    (c3 : hK h' (g 2) = 114 ∧ hV h' (g 2) 148 = .ref (g 3) ∧ hV h' (g 2) 149 = .int (Int32.ofNat 2) ∧ hK h' (g 3) = 10 ∧ hL h' (g 3) = 2)
    (c4 : DQ h' (g 4) (g 5) hd' us' ∧ us'.length = (yU Y').length)
    (c5 : ∀ (i y : Nat) (σ : Sg), us'[i]? = some y → (yU Y')[i]? = some σ → Sa κ h g p (yP Y) A q0 q y σ)
    (c6 : ∀ i, i < 2 → (yK Y' i = none ∧ hV h' (g 3) i = .null) ∨ ∃ σ, yK Y' i = some σ ∧ hV h' (g 3) i = .ref (ks' i) ∧ Sa κ h g p (yP Y) A q0 q (ks' i) σ)
    (c7 : Sa κ h g p (yP Y) A q0 q a' (yS Y')) : CI κ h' g Y' p A q0 q a' hd' us' ks' := by
  have G := I.2.2.2.2.2.2.2
  refine ⟨c1, c2, c3, c4, fun i y σ h1 h2 => ?_, fun i hi => ?_, ?_, G.om o.2⟩
  · rw [hP]; exact (c5 i y σ h1 h2).om o G
  · rcases c6 i hi with k | ⟨σ, k1, k2, k3⟩
    · exact Or.inl k
    · exact Or.inr ⟨σ, k1, k2, by rw [hP]; exact k3.om o G⟩
  · rw [hP]; exact c7.om o G
/-- another state is the one now -/
theorem CI_x3 (I : CI κ h g Y p A q0 q a hd us ks) (S : Sa κ h g p (yP Y) A q0 q y σ) : CI κ (hW h (g 0) 3 (.ref y)) g (vSt Y σ) p A q0 q y hd us ks := by
  have I0 := I
  obtain ⟨⟨x1, x2, x3, x4, x5, x6, x7⟩, ⟨t1, t2, t3, t4⟩, ⟨l1, l2, l3, l4, l5⟩, ⟨⟨⟨d1, d2, d3, d4, d5, d6, d7, d8⟩, d9⟩, dl⟩, iu, ik, ia, G⟩ := I
  have n : ∀ i, 0 < i → i < 6 → ∀ j, hV (hW h (g 0) 3 (.ref y)) (g i) j = hV h (g i) j := fun i h0 hi j => hV_Wn (G.ne hi (by decide) (by omega)) j
  have n0 : ∀ j, j ≠ 3 → hV (hW h (g 0) 3 (.ref y)) (g 0) j = hV h (g 0) j := fun j hj => hV_Wj hj
  refine CI_mk I0 (Om_W (by decide)) rfl ⟨(hK_W ..).trans x1, (n0 0 (by decide)).trans x2, (n0 1 (by decide)).trans x3, (n0 2 (by decide)).trans x4, hV_We rfl rfl, (n0 4 (by decide)).trans x6, (n0 5 (by decide)).trans x7⟩
    ⟨(hK_W ..).trans t1, (hL_W ..).trans t2, t3, fun i v hi => (n 1 (by decide) (by decide) _).trans (t4 i v hi)⟩
    ⟨(hK_W ..).trans l1, (n 2 (by decide) (by decide) _).trans l2, (n 2 (by decide) (by decide) _).trans l3, (hK_W ..).trans l4, (hL_W ..).trans l5⟩
    ⟨⟨⟨(hK_W ..).trans d1, (n 4 (by decide) (by decide) _).trans d2, (n 4 (by decide) (by decide) _).trans d3, (n 4 (by decide) (by decide) _).trans d4, d5, d6, (hK_W ..).trans d7, (hL_W ..).trans d8⟩, fun i y hi => (n 5 (by decide) (by decide) _).trans (d9 i y hi)⟩, dl⟩ iu (fun i hi => ?_) S
  rcases ik i hi with ⟨k1, k2⟩ | ⟨σ, k1, k2, k3⟩
  · exact Or.inl ⟨k1, (n 3 (by decide) (by decide) _).trans k2⟩
  · exact Or.inr ⟨σ, k1, (n 3 (by decide) (by decide) _).trans k2, k3⟩
/-- a slot -/
theorem CI_sl (I : CI κ h g Y p A q0 q a hd us ks) {i : Nat} : CI κ (hW h (g 3) i (.ref a)) g (vK Y (zu (yK Y) i (some (yS Y)))) p A q0 q a hd us (zu ks i a) := by
  have I0 := I
  obtain ⟨⟨x1, x2, x3, x4, x5, x6, x7⟩, ⟨t1, t2, t3, t4⟩, ⟨l1, l2, l3, l4, l5⟩, ⟨⟨⟨d1, d2, d3, d4, d5, d6, d7, d8⟩, d9⟩, dl⟩, iu, ik, ia, G⟩ := I
  have n : ∀ k, k ≠ 3 → k < 6 → ∀ j, hV (hW h (g 3) i (.ref a)) (g k) j = hV h (g k) j := fun k h0 hk j => hV_Wn (G.ne hk (by decide) h0) j
  refine CI_mk I0 (Om_W (by decide)) rfl ⟨(hK_W ..).trans x1, (n 0 (by decide) (by decide) _).trans x2, (n 0 (by decide) (by decide) _).trans x3, (n 0 (by decide) (by decide) _).trans x4, (n 0 (by decide) (by decide) _).trans x5, (n 0 (by decide) (by decide) _).trans x6, (n 0 (by decide) (by decide) _).trans x7⟩
    ⟨(hK_W ..).trans t1, (hL_W ..).trans t2, t3, fun i v hi => (n 1 (by decide) (by decide) _).trans (t4 i v hi)⟩
    ⟨(hK_W ..).trans l1, (n 2 (by decide) (by decide) _).trans l2, (n 2 (by decide) (by decide) _).trans l3, (hK_W ..).trans l4, (hL_W ..).trans l5⟩
    ⟨⟨⟨(hK_W ..).trans d1, (n 4 (by decide) (by decide) _).trans d2, (n 4 (by decide) (by decide) _).trans d3, (n 4 (by decide) (by decide) _).trans d4, d5, d6, (hK_W ..).trans d7, (hL_W ..).trans d8⟩, fun i y hi => (n 5 (by decide) (by decide) _).trans (d9 i y hi)⟩, dl⟩ iu (fun k hk => ?_) ia
  by_cases c : k = i
  · subst c
    exact Or.inr ⟨yS Y, zu_eq _ _ _, by rw [zu_eq]; exact hV_We rfl rfl, by rw [zu_eq]; exact ia⟩
  · rcases ik k hk with ⟨k1, k2⟩ | ⟨σ, k1, k2, k3⟩
    · exact Or.inl ⟨(zu_ne _ _ c).trans k1, (hV_Wj c).trans k2⟩
    · exact Or.inr ⟨σ, (zu_ne _ _ c).trans k1, by rw [zu_ne _ _ c]; exact (hV_Wj c).trans k2, by rw [zu_ne _ _ c]; exact k3⟩
theorem e0_isSlotY {m : Int32} {h : zH} (c : btw m 0 1) : Ev κ mX0_isSlot [.int m] h Q = Q (.inl (some (.int (Int32.ofNat 1)))) h := by
  have eb := fun (Q : zQ) => e0_btY (κ := κ) (Q := Q) (h := h) (by omega) (by omega) c
  simp (disch := first | assumption | omega | decide | (refine Eq.trans (hK_X _) ?_; assumption) | fail) only [gB, I_all, zK_v, zK_n, true_and, and_true, Nat.reduceAdd, Nat.reduceMul, Nat.reduceSub, z_lt, z_le, z_neq, not_false_eq_true, or_true, true_or, or_false, false_or, false_and, and_false, gX0_isSlot, eb, z_b1]
theorem e0_isSlotN {m : Int32} {h : zH} (c : ¬ btw m 0 1) : Ev κ mX0_isSlot [.int m] h Q = Q (.inl (some (.int (Int32.ofNat 0)))) h := by
  have eb := fun (Q : zQ) => e0_btN (κ := κ) (Q := Q) (h := h) (by omega) (by omega) c
  simp (disch := first | assumption | omega | decide | (refine Eq.trans (hK_X _) ?_; assumption) | fail) only [gB, I_all, zK_v, zK_n, true_and, and_true, Nat.reduceAdd, Nat.reduceMul, Nat.reduceSub, z_lt, z_le, z_neq, not_false_eq_true, or_true, true_or, or_false, false_or, false_and, and_false, gX0_isSlot, eb, z_b0]
theorem e0_keep {x : Int32} (I : CI κ h g Y p A q0 q a hd us ks) (hq : OQ κ h g p A q0 q (yKe Y x) Q) : Ev κ mX0_keep [.ref (g 0), .int x] h Q := by
  have I0 := I
  obtain ⟨⟨x1, x2, x3, x4, x5, x6, x7⟩, -, ⟨l1, l2, l3, l4, l5⟩, -, -, ik, ia, G⟩ := I
  have N := soN ia.1
  unfold yKe at hq
  by_cases c : btw x 0 1
  · rw [if_pos (show 0 ≤ x.toInt ∧ x.toInt ≤ 1 from c)] at hq
    have ei := fun (h : zH) (Q : zQ) => e0_isSlotY (κ := κ) (h := h) (Q := Q) c
    obtain ⟨n, hx, -, hn, -⟩ := btw_nat c
    subst hx
    rw [I_nat (by omega)] at hq
    have q1 := hq (hW h (g 3) n (.ref a)) ⟨a, hd, us, zu ks n a, CI_sl I0⟩ (Om_W (by decide)) (by show hN h ≤ _; omega) (by show hU h ≤ _; omega)
    have ho : hV h (g 3) n = .null ∨ ∃ y, hV h (g 3) n = .ref y := (ik n (by omega)).elim (fun k => Or.inl k.2) fun ⟨σ, _, k, _⟩ => Or.inr ⟨_, k⟩
    have n03 : g 0 ≠ g 3 := G.ne (by decide) (by decide) (by decide)
    have na3 : a ≠ g 3 := fun e => by
      have := ia.2.2.1 3 (by decide)
      omega
    have va : hV (hW h (g 3) n (.ref a)) (g 0) 3 = .ref a := (hV_Wn n03 3).trans x5
    have v23 : hV (hW h (g 3) n (.ref a)) a 23 = .int (sN (yS Y) 0) := (hV_Wn na3 23).trans N.2.2.1
    simp (disch := first | assumption | omega | decide | (refine Eq.trans (hK_X _) ?_; assumption) | fail) only [gB, I_all, zK_v, zK_n, true_and, and_true, Nat.reduceAdd, Nat.reduceMul, Nat.reduceSub, z_lt, z_le, z_neq, not_false_eq_true, or_true, true_or, or_false, false_or, false_and, and_false, gX0_keep, ei, x1, x5, x6, l1]
    refine e2_set l1 l2 l3 l4 l5 (by omega) ho (Or.inr ⟨a, rfl, by rw [N.1]; decide⟩) (G.1 3 (by decide)).1 fun w hw => ?_
    simp (disch := first | assumption | omega | decide | (refine Eq.trans (hK_X _) ?_; assumption) | fail) only [gB, I_all, zK_v, zK_n, true_and, and_true, Nat.reduceAdd, Nat.reduceMul, Nat.reduceSub, z_lt, z_le, z_neq, not_false_eq_true, or_true, true_or, or_false, false_or, false_and, and_false, gX0_keep, hK_W, x1, va, N.1, v23, hw]
    exact q1
  · rw [if_neg (show ¬ (0 ≤ x.toInt ∧ x.toInt ≤ 1) from c)] at hq
    have ei := fun (h : zH) (Q : zQ) => e0_isSlotN (κ := κ) (h := h) (Q := Q) c
    have q1 := I0.nop hq
    simp (disch := first | assumption | omega | decide | (refine Eq.trans (hK_X _) ?_; assumption) | fail) only [gB, I_all, zK_v, zK_n, true_and, and_true, Nat.reduceAdd, Nat.reduceMul, Nat.reduceSub, z_lt, z_le, z_neq, not_false_eq_true, or_true, true_or, or_false, false_or, false_and, and_false, gX0_keep, ei]
    exact q1
theorem e0_undo (I : CI κ h g Y p A q0 q a hd us ks) (hq : OQ κ h g p A q0 q (yUn Y) Q) : Ev κ mX0_undo [.ref (g 0)] h Q := by
  have I0 := I
  obtain ⟨⟨x1, x2, x3, x4, x5, x6, x7⟩, ⟨t1, t2, t3, t4⟩, ⟨l1, l2, l3, l4, l5⟩, ⟨dq, dl⟩, iu, ik, ia, G⟩ := I
  have kD : hK h (g 4) = 135 := dq.1.1
  have ee := fun (Q : zQ) => e23_isEmpty (κ := κ) (Q := Q) dq
  have n45 : g 4 ≠ g 5 := G.ne (by decide) (by decide) (by decide)
  have n04 : g 0 ≠ g 4 := G.ne (by decide) (by decide) (by decide)
  have n05 : g 0 ≠ g 5 := G.ne (by decide) (by decide) (by decide)
  unfold yUn at hq
  by_cases c : us.length = 0
  · rw [show (yU Y)[(yU Y).length - 1]? = none by rw [List.getElem?_eq_none]; omega] at hq
    simp only [if_pos c] at ee
    have q1 := I0.nop hq
    simp (disch := first | assumption | omega | decide | (refine Eq.trans (hK_X _) ?_; assumption) | fail) only [gB, I_all, zK_v, zK_n, true_and, and_true, Nat.reduceAdd, Nat.reduceMul, Nat.reduceSub, z_lt, z_le, z_neq, not_false_eq_true, or_true, true_or, or_false, false_or, false_and, and_false, gX0_undo, x1, x7, kD, ee]
    exact q1
  · simp only [if_neg c] at ee
    have hne : us ≠ [] := fun e => c (by rw [e]; rfl)
    obtain ⟨us0, y, hus⟩ : ∃ us0 y, us = us0 ++ [y] := ⟨us.dropLast, us.getLast hne, (List.dropLast_concat_getLast hne).symm⟩
    subst hus
    have hl : (us0 ++ [y]).length = us0.length + 1 := by rw [List.length_append]; rfl
    have hn : (yU Y).length = us0.length + 1 := by omega
    have hg : (yU Y)[us0.length]? = some ((yU Y)[us0.length]'(by omega)) := List.getElem?_eq_getElem (by omega)
    generalize (yU Y)[us0.length]'(by omega) = σ at hg
    rw [hn, Nat.add_sub_cancel, hg] at hq
    have S := iu us0.length y σ (by rw [List.getElem?_append_right (Nat.le_refl _), Nat.sub_self]; rfl) hg
    have ky : hK h y = 103 := (soN S.1).1
    simp (disch := first | assumption | omega | decide | (refine Eq.trans (hK_X _) ?_; assumption) | fail) only [gB, I_all, zK_v, zK_n, true_and, and_true, Nat.reduceAdd, Nat.reduceMul, Nat.reduceSub, z_lt, z_le, z_neq, not_false_eq_true, or_true, true_or, or_false, false_or, false_and, and_false, gX0_undo, x1, x7, kD, ee]
    refine e23_removeLast dq n45 (G.1 4 (by decide)).1 (G.1 5 (by decide)).1 fun h1 df dq1 => ?_
    have v := fun i (h4 : g i ≠ g 4) (h5 : g i ≠ g 5) j => df.2.1 (g i) h4 h5 j
    have o1 : Om g h h1 := Om_D df
    have I1 : CI κ h1 g (vU Y ((yU Y).take us0.length)) p A q0 q a hd us0 ks := by
      have w : ∀ i, i < 4 → ∀ j, hV h1 (g i) j = hV h (g i) j := fun i hi j => v i (G.ne (by omega) (by decide) (by omega)) (G.ne (by omega) (by decide) (by omega)) j
      have kk := fun i => df.1 (g i)
      refine CI_mk I0 o1 rfl ⟨(kk 0).1.trans x1, (w 0 (by decide) _).trans x2, (w 0 (by decide) _).trans x3, (w 0 (by decide) _).trans x4, (w 0 (by decide) _).trans x5, (w 0 (by decide) _).trans x6, (w 0 (by decide) _).trans x7⟩
        ⟨(kk 1).1.trans t1, (kk 1).2.trans t2, t3, fun i v hi => (w 1 (by decide) _).trans (t4 i v hi)⟩
        ⟨(kk 2).1.trans l1, (w 2 (by decide) _).trans l2, (w 2 (by decide) _).trans l3, (kk 3).1.trans l4, (kk 3).2.trans l5⟩
        ⟨dq1, by show us0.length = ((yU Y).take us0.length).length; rw [List.length_take]; omega⟩ (fun i z τ hi ht => ?_) (fun i hi => ?_) ia
      · have hil := (List.getElem?_eq_some_iff.mp hi).1
        have ht' : ((yU Y).take us0.length)[i]? = some τ := ht
        rw [List.getElem?_take_of_lt hil] at ht'
        exact iu i z τ (by rw [List.getElem?_append_left hil]; exact hi) ht'
      · rcases ik i hi with ⟨k1, k2⟩ | ⟨τ, k1, k2, k3⟩
        · exact Or.inl ⟨k1, (w 3 (by decide) _).trans k2⟩
        · exact Or.inr ⟨τ, k1, (w 3 (by decide) _).trans k2, k3⟩
    have S1 : Sa κ h1 g p (yP (vU Y ((yU Y).take us0.length))) A q0 q y σ := S.om o1 G
    have I2 := CI_x3 I1 S1
    have q1 := hq _ ⟨y, hd, us0, ks, I2⟩ (o1.trans (Om_W (by decide))) (by show hN h1 ≤ _; rw [df.2.2.1]; omega) (by show hU h1 ≤ _; rw [df.2.2.2]; omega)
    have x1' : hK h1 (g 0) = 100 := (df.1 _).1.trans x1
    have ky' : hK h1 y = 103 := (df.1 _).1.trans ky
    have kD' : hK h1 (g 4) = 135 := (df.1 _).1.trans kD
    have x7' : hV (hW h1 (g 0) 3 (.ref y)) (g 0) 5 = .ref (g 4) := I2.1.2.2.2.2.2.2
    have es := fun (Q : zQ) => e23_size (κ := κ) (Q := Q) I2.2.2.2.1.1
    have hB0 : kB κ ≤ g 0 := (G.1 0 (by decide)).1
    simp (disch := first | assumption | omega | decide | (refine Eq.trans (hK_X _) ?_; assumption) | fail) only [gB, I_all, zK_v, zK_n, true_and, and_true, Nat.reduceAdd, Nat.reduceMul, Nat.reduceSub, z_lt, z_le, z_neq, not_false_eq_true, or_true, true_or, or_false, false_or, false_and, and_false, gX0_undo, x1', ky', zCs, hK_W, hB0, kD', x7', es]
    exact q1
theorem e0_restore {x : Int32} (I : CI κ h g Y p A q0 q a hd us ks) (hq : OQ κ h g p A q0 q (yRs Y x) Q) : Ev κ mX0_restore [.ref (g 0), .int x] h Q := by
  have I0 := I
  obtain ⟨⟨x1, x2, x3, x4, x5, x6, x7⟩, -, ⟨l1, l2, l3, l4, l5⟩, -, -, ik, ia, G⟩ := I
  have al : ∀ (h : zH) (v : Value), hK h (g 2) = 114 → hV h (g 2) 148 = .ref (g 3) → hV h (g 2) 149 = .int (Int32.ofNat 2) → hK h (g 3) = 10 → hL h (g 3) = 2 → ALt h 0 (g 2 + g 3 + 1) (g 2) 2 (fun i => hV h (g 3) i) := fun h v l1 l2 l3 l4 l5 => by
    have b2 : g 2 < g 2 + g 3 + 1 := by omega
    have b3 : g 3 < g 2 + g 3 + 1 := by omega
    exact ⟨⟨Nat.zero_le _, b2, l1, l3, by decide⟩, g 3, l2, fun _ => ⟨Nat.zero_le _, b3, l4, Nat.le_of_eq l5.symm, fun i _ => rfl⟩⟩
  unfold yRs at hq
  by_cases c : btw x 0 1
  · rw [if_pos (show 0 ≤ x.toInt ∧ x.toInt ≤ 1 from c)] at hq
    have ei := fun (h : zH) (Q : zQ) => e0_isSlotY (κ := κ) (h := h) (Q := Q) c
    obtain ⟨n, hx, -, hn, -⟩ := btw_nat c
    subst hx
    rw [I_nat (by omega)] at hq
    rcases ik n (by omega) with ⟨k1, k2⟩ | ⟨σ, k1, k2, k3⟩
    · rw [k1] at hq
      have q1 := I0.nop hq
      have eg := fun (Q : zQ) => e2_getN (κ := κ) (Q := Q) (al h .null l1 l2 l3 l4 l5) (i := n) (by omega) k2
      simp (disch := first | assumption | omega | decide | (refine Eq.trans (hK_X _) ?_; assumption) | fail) only [gB, I_all, zK_v, zK_n, true_and, and_true, Nat.reduceAdd, Nat.reduceMul, Nat.reduceSub, z_lt, z_le, z_neq, not_false_eq_true, or_true, true_or, or_false, false_or, false_and, and_false, gX0_restore, ei, x1, x6, l1, eg]
      exact q1
    · rw [k1] at hq
      have eg := fun (Q : zQ) => e2_get (κ := κ) (Q := Q) (al h .null l1 l2 l3 l4 l5) (i := n) (by omega) k2
      simp (disch := first | assumption | omega | decide | (refine Eq.trans (hK_X _) ?_; assumption) | fail) only [gB, I_all, zK_v, zK_n, true_and, and_true, Nat.reduceAdd, Nat.reduceMul, Nat.reduceSub, z_lt, z_le, z_neq, not_false_eq_true, or_true, true_or, or_false, false_or, false_and, and_false, gX0_restore, ei, x1, x6, l1, eg]
      refine e0_act I0 fun h1 hd1 us1 I1 F1 o1 n1 u1 => ?_
      have I1' := I1
      obtain ⟨⟨y1, y2, y3, y4, y5, y6, y7⟩, -, ⟨m1, m2, m3, m4, m5⟩, -, -, jk, ja, G1⟩ := I1
      rcases jk n (by omega) with ⟨j1, j2⟩ | ⟨σ', j1, j2, j3⟩
      · rw [show yK (yKp Y) n = some σ from k1] at j1; cases j1
      · rw [show yK (yKp Y) n = some σ from k1] at j1
        cases j1
        have I2 := CI_x3 I1' j3
        have h10 := ia.1.1.2.2.1.1.2
        have h6 := ia.1.1.2.2.1.2.1.2
        have q1 := hq _ ⟨ks n, hd1, us1, ks, I2⟩ (o1.trans (Om_W (by decide))) (by show hN h1 ≤ _; omega) (by show hU h1 ≤ _; omega)
        have eg1 := fun (Q : zQ) => e2_get (κ := κ) (Q := Q) (al h1 .null m1 m2 m3 m4 m5) (i := n) (by omega) j2
        have N := soN j3.1
        have kk : hK h1 (ks n) = 103 := N.1
        have n0 : ks n ≠ g 0 := fun e => by have := j3.2.2.1 0 (by decide); omega
        have v3 : hV (hW h1 (g 0) 3 (.ref (ks n))) (g 0) 3 = .ref (ks n) := hV_We rfl rfl
        have v23 : hV (hW h1 (g 0) 3 (.ref (ks n))) (ks n) 23 = .int (sN σ 0) := (hV_Wn n0 23).trans N.2.2.1
        have hB0 : kB κ ≤ g 0 := (G.1 0 (by decide)).1
        simp (disch := first | assumption | omega | decide | (refine Eq.trans (hK_X _) ?_; assumption) | fail) only [gB, I_all, zK_v, zK_n, true_and, and_true, Nat.reduceAdd, Nat.reduceMul, Nat.reduceSub, z_lt, z_le, z_neq, not_false_eq_true, or_true, true_or, or_false, false_or, false_and, and_false, gX0_restore, y1, y6, m1, eg1, kk, zCs, hB0, hK_W, v3, v23]
        exact q1
  · rw [if_neg (show ¬ (0 ≤ x.toInt ∧ x.toInt ≤ 1) from c)] at hq
    have ei := fun (h : zH) (Q : zQ) => e0_isSlotN (κ := κ) (h := h) (Q := Q) c
    have q1 := I0.nop hq
    simp (disch := first | assumption | omega | decide | (refine Eq.trans (hK_X _) ?_; assumption) | fail) only [gB, I_all, zK_v, zK_n, true_and, and_true, Nat.reduceAdd, Nat.reduceMul, Nat.reduceSub, z_lt, z_le, z_neq, not_false_eq_true, or_true, true_or, or_false, false_or, false_and, and_false, gX0_restore, ei]
    exact q1
/-- the tape: a byte more -/
theorem CI_push (I : CI κ h g Y p A q0 q a hd us ks) {n : Nat} (hn : (yT Y).length = n) (h14 : n < 1400) (v : Int32) : CI κ (hW (hW h (g 1) n (.int v)) (g 0) 1 (.int (Int32.ofNat (n + 1)))) g (vT Y (yT Y ++ [v])) p A q0 q a hd us ks := by
  have I0 := I
  obtain ⟨⟨x1, x2, x3, x4, x5, x6, x7⟩, ⟨t1, t2, t3, t4⟩, ⟨l1, l2, l3, l4, l5⟩, ⟨⟨⟨d1, d2, d3, d4, d5, d6, d7, d8⟩, d9⟩, dl⟩, iu, ik, ia, G⟩ := I
  have hl : (yT Y ++ [v]).length = n + 1 := by rw [List.length_append, hn]; rfl
  have n01 : g 0 ≠ g 1 := G.ne (by decide) (by decide) (by decide)
  have n10 : g 1 ≠ g 0 := Ne.symm n01
  have w : ∀ i, 1 < i → i < 6 → ∀ j, hV (hW (hW h (g 1) n (.int v)) (g 0) 1 (.int (Int32.ofNat (n + 1)))) (g i) j = hV h (g i) j := fun i h1 hi j => by rw [hV_Wn (G.ne hi (by decide) (by omega)), hV_Wn (G.ne hi (by decide) (by omega))]
  have w0 : ∀ j, j ≠ 1 → hV (hW (hW h (g 1) n (.int v)) (g 0) 1 (.int (Int32.ofNat (n + 1)))) (g 0) j = hV h (g 0) j := fun j hj => by rw [hV_Wj hj, hV_Wn n01]
  have kk : ∀ y, hK (hW (hW h (g 1) n (.int v)) (g 0) 1 (.int (Int32.ofNat (n + 1)))) y = hK h y := fun y => rfl
  have ll : ∀ y, hL (hW (hW h (g 1) n (.int v)) (g 0) 1 (.int (Int32.ofNat (n + 1)))) y = hL h y := fun y => rfl
  refine CI_mk I0 ((Om_W (by decide)).trans (Om_W (by decide))) rfl ⟨(kk _).trans x1, (w0 0 (by decide)).trans x2, by rw [hV_We rfl rfl]; show _ = Value.int (Int32.ofNat (yT Y ++ [v]).length); rw [hl], (w0 2 (by decide)).trans x4, (w0 3 (by decide)).trans x5, (w0 4 (by decide)).trans x6, (w0 5 (by decide)).trans x7⟩
    ⟨(kk _).trans t1, (ll _).trans t2, by show (yT Y ++ [v]).length ≤ 1400; omega, fun i u hi => ?_⟩
    ⟨(kk _).trans l1, (w 2 (by decide) (by decide) _).trans l2, (w 2 (by decide) (by decide) _).trans l3, (kk _).trans l4, (ll _).trans l5⟩
    ⟨⟨⟨(kk _).trans d1, (w 4 (by decide) (by decide) _).trans d2, (w 4 (by decide) (by decide) _).trans d3, (w 4 (by decide) (by decide) _).trans d4, d5, d6, (kk _).trans d7, (ll _).trans d8⟩, fun i y hi => (w 5 (by decide) (by decide) _).trans (d9 i y hi)⟩, dl⟩ iu (fun i hi => ?_) ia
  · have hi' : (yT Y ++ [v])[i]? = some u := hi
    have hil := (List.getElem?_eq_some_iff.mp hi').1
    rw [hV_Wn n10]
    by_cases c : i < n
    · rw [hV_Wj (by omega)]
      rw [List.getElem?_append_left (by omega)] at hi'
      exact t4 i u hi'
    · have e : i = n := by omega
      subst e
      rw [List.getElem?_append_right (by omega), hn, Nat.sub_self] at hi'
      have e2 : v = u := Option.some.inj hi'
      rw [hV_We rfl rfl, e2]
  · rcases ik i hi with ⟨k1, k2⟩ | ⟨σ, k1, k2, k3⟩
    · exact Or.inl ⟨k1, (w 3 (by decide) (by decide) _).trans k2⟩
    · exact Or.inr ⟨σ, k1, (w 3 (by decide) (by decide) _).trans k2, k3⟩
/-- the tape's length -/
theorem CI_len (I : CI κ h g Y p A q0 q a hd us ks) {n : Nat} (hn : n ≤ (yT Y).length) : CI κ (hW h (g 0) 1 (.int (Int32.ofNat n))) g (vT Y ((yT Y).take n)) p A q0 q a hd us ks := by
  have I0 := I
  obtain ⟨⟨x1, x2, x3, x4, x5, x6, x7⟩, ⟨t1, t2, t3, t4⟩, ⟨l1, l2, l3, l4, l5⟩, ⟨⟨⟨d1, d2, d3, d4, d5, d6, d7, d8⟩, d9⟩, dl⟩, iu, ik, ia, G⟩ := I
  have hl : ((yT Y).take n).length = n := by rw [List.length_take]; omega
  have w : ∀ i, 0 < i → i < 6 → ∀ j, hV (hW h (g 0) 1 (.int (Int32.ofNat n))) (g i) j = hV h (g i) j := fun i h1 hi j => hV_Wn (G.ne hi (by decide) (by omega)) j
  have w0 : ∀ j, j ≠ 1 → hV (hW h (g 0) 1 (.int (Int32.ofNat n))) (g 0) j = hV h (g 0) j := fun j hj => hV_Wj hj
  have kk : ∀ y, hK (hW h (g 0) 1 (.int (Int32.ofNat n))) y = hK h y := fun y => rfl
  have ll : ∀ y, hL (hW h (g 0) 1 (.int (Int32.ofNat n))) y = hL h y := fun y => rfl
  refine CI_mk I0 (Om_W (by decide)) rfl ⟨(kk _).trans x1, (w0 0 (by decide)).trans x2, by rw [hV_We rfl rfl]; show _ = Value.int (Int32.ofNat ((yT Y).take n).length); rw [hl], (w0 2 (by decide)).trans x4, (w0 3 (by decide)).trans x5, (w0 4 (by decide)).trans x6, (w0 5 (by decide)).trans x7⟩
    ⟨(kk _).trans t1, (ll _).trans t2, by show ((yT Y).take n).length ≤ 1400; omega, fun i u hi => ?_⟩
    ⟨(kk _).trans l1, (w 2 (by decide) (by decide) _).trans l2, (w 2 (by decide) (by decide) _).trans l3, (kk _).trans l4, (ll _).trans l5⟩
    ⟨⟨⟨(kk _).trans d1, (w 4 (by decide) (by decide) _).trans d2, (w 4 (by decide) (by decide) _).trans d3, (w 4 (by decide) (by decide) _).trans d4, d5, d6, (kk _).trans d7, (ll _).trans d8⟩, fun i y hi => (w 5 (by decide) (by decide) _).trans (d9 i y hi)⟩, dl⟩ iu (fun i hi => ?_) ia
  · have hi' : ((yT Y).take n)[i]? = some u := hi
    have hil := (List.getElem?_eq_some_iff.mp hi').1
    rw [List.getElem?_take_of_lt (by omega)] at hi'
    exact (w 1 (by decide) (by decide) _).trans (t4 i u hi')
  · rcases ik i hi with ⟨k1, k2⟩ | ⟨σ, k1, k2, k3⟩
    · exact Or.inl ⟨k1, (w 3 (by decide) (by decide) _).trans k2⟩
    · exact Or.inr ⟨σ, k1, (w 3 (by decide) (by decide) _).trans k2, k3⟩
end
