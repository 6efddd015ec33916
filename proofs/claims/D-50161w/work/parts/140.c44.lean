/-! the component: ArrayDeque (17 places), ArrayList.set -/
def DQ (h : zH) (D E hd : Nat) (l : List Nat) : Prop := (hK h D = 135 ∧ hV h D 176 = .ref E ∧ hV h D 177 = .int (Int32.ofNat hd) ∧ hV h D 178 = .int (Int32.ofNat ((hd + l.length) % 17)) ∧ hd < 17 ∧ l.length ≤ 8 ∧ hK h E = 10 ∧ hL h E = 17) ∧ ∀ i y, l[i]? = some y → hV h E ((hd + i) % 17) = .ref y
/-- all but the contents of D, E as it was -/
def Df (D E : Nat) (h h' : zH) : Prop := (∀ x, hK h' x = hK h x ∧ hL h' x = hL h x) ∧ (∀ x, x ≠ D → x ≠ E → ∀ j, hV h' x j = hV h x j) ∧ hN h' = hN h ∧ hU h' = hU h
theorem Df.rfl {D E : Nat} {h : zH} : Df D E h h := ⟨fun _ => ⟨Eq.refl _, Eq.refl _⟩, fun _ _ _ _ => Eq.refl _, Eq.refl _, Eq.refl _⟩
theorem Df.trans {D E : Nat} {h h' h'' : zH} (a : Df D E h h') (b : Df D E h' h'') : Df D E h h'' := ⟨fun x => ⟨(b.1 x).1.trans (a.1 x).1, (b.1 x).2.trans (a.1 x).2⟩, fun x h1 h2 j => (b.2.1 x h1 h2 j).trans (a.2.1 x h1 h2 j), b.2.2.1.trans a.2.2.1, b.2.2.2.trans a.2.2.2⟩
theorem Df_W {D E r j : Nat} {h : zH} {v : Value} (hr : r = D ∨ r = E) : Df D E h (hW h r j v) := ⟨fun x => ⟨hK_W h r j v x, hL_W h r j v x⟩, fun x h1 h2 i => by rw [hV_Wn (by omega)], hN_W .., hU_W ..⟩
theorem I_sb : ∀ t, t < 17 → ∀ u, u < 17 → (u ≤ t → Int32.ofNat t - Int32.ofNat u = Int32.ofNat (t - u)) ∧ (t < u → Int32.ofNat t - Int32.ofNat u < Int32.ofNat 0 ∧ ¬ Int32.ofNat 0 ≤ Int32.ofNat t - Int32.ofNat u ∧ Int32.ofNat t - Int32.ofNat u + Int32.ofNat 17 = Int32.ofNat (t + 17 - u)) := by decide
section
variable {κ : zC} {h : zH} {D E hd : Nat} {l : List Nat} {Q : zQ}
theorem e23_sub {t u : Nat} (ht : t < 17) (hu : u < 17) : Ev κ mJ23_sub [.int (Int32.ofNat t), .int (Int32.ofNat u), .int (Int32.ofNat 17)] h Q = Q (.inl (some (.int (Int32.ofNat (if u ≤ t then t - u else t + 17 - u))))) h := by
  obtain ⟨a1, a2⟩ := I_sb t ht u hu
  by_cases c : u ≤ t
  · have e := a1 c
    rw [if_pos c]
    simp (disch := first | assumption | omega | decide | (refine Eq.trans (hK_X _) ?_; assumption) | fail) only [gB, I_all, zK_v, zK_n, true_and, and_true, Nat.reduceAdd, Nat.reduceMul, Nat.reduceSub, z_lt, z_le, z_neq, not_false_eq_true, or_true, true_or, or_false, false_or, false_and, and_false, gJ23_sub, e]
  · obtain ⟨b1, b2, b3⟩ := a2 (by omega)
    rw [if_neg c]
    simp (disch := first | assumption | omega | decide | (refine Eq.trans (hK_X _) ?_; assumption) | fail) only [gB, I_all, zK_v, zK_n, true_and, and_true, Nat.reduceAdd, Nat.reduceMul, Nat.reduceSub, z_lt, z_le, z_neq, not_false_eq_true, or_true, true_or, or_false, false_or, false_and, and_false, gJ23_sub, b3]
theorem e23_inc {t : Nat} (ht : t < 17) : Ev κ mJ23_inc [.int (Int32.ofNat t), .int (Int32.ofNat 17)] h Q = Q (.inl (some (.int (Int32.ofNat ((t + 1) % 17))))) h := by
  by_cases c : t + 1 < 17
  · rw [Nat.mod_eq_of_lt c]
    simp (disch := first | assumption | omega | decide | (refine Eq.trans (hK_X _) ?_; assumption) | fail) only [gB, I_all, zK_v, zK_n, true_and, and_true, Nat.reduceAdd, Nat.reduceMul, Nat.reduceSub, z_lt, z_le, z_neq, not_false_eq_true, or_true, true_or, or_false, false_or, false_and, and_false, gJ23_inc]
  · have e : t = 16 := by omega
    subst e
    simp (disch := first | assumption | omega | decide | (refine Eq.trans (hK_X _) ?_; assumption) | fail) only [gB, I_all, zK_v, zK_n, true_and, and_true, Nat.reduceAdd, Nat.reduceMul, Nat.reduceSub, z_lt, z_le, z_neq, not_false_eq_true, or_true, true_or, or_false, false_or, false_and, and_false, gJ23_inc]
theorem e23_dec {t : Nat} (ht : t < 17) : Ev κ mJ23_dec [.int (Int32.ofNat t), .int (Int32.ofNat 17)] h Q = Q (.inl (some (.int (Int32.ofNat ((t + 16) % 17))))) h := by
  by_cases c : t = 0
  · subst c
    have e1 : Int32.ofNat 0 + Int32.ofInt (-1) = Int32.ofInt (-1) := by decide
    have e2 : ¬ Int32.ofNat 0 ≤ Int32.ofInt (-1) := by decide
    have e3 : Int32.ofInt (-1) < Int32.ofNat 0 := by decide
    simp (disch := first | assumption | omega | decide | (refine Eq.trans (hK_X _) ?_; assumption) | fail) only [gB, I_all, zK_v, zK_n, true_and, and_true, Nat.reduceAdd, Nat.reduceMul, Nat.reduceSub, z_lt, z_le, z_neq, not_false_eq_true, or_true, true_or, or_false, false_or, false_and, and_false, gJ23_dec, e1, I_sub]
  · have e1 : Int32.ofNat t + Int32.ofInt (-1) = Int32.ofNat (t - 1) := by
      have : ∀ t, t < 17 → ¬ t = 0 → Int32.ofNat t + Int32.ofInt (-1) = Int32.ofNat (t - 1) := by decide
      exact this t ht c
    have e2 : (t + 16) % 17 = t - 1 := by omega
    rw [e2]
    simp (disch := first | assumption | omega | decide | (refine Eq.trans (hK_X _) ?_; assumption) | fail) only [gB, I_all, zK_v, zK_n, true_and, and_true, Nat.reduceAdd, Nat.reduceMul, Nat.reduceSub, z_lt, z_le, z_neq, not_false_eq_true, or_true, true_or, or_false, false_or, false_and, and_false, gJ23_dec, e1]
theorem e23_size (q : DQ h D E hd l) : Ev κ mJ23_size [.ref D] h Q = Q (.inl (some (.int (Int32.ofNat l.length)))) h := by
  obtain ⟨⟨d1, d2, d3, d4, d5, d6, d7, d8⟩, -⟩ := q
  have ht : (hd + l.length) % 17 < 17 := Nat.mod_lt _ (by decide)
  have es := fun (Q : zQ) => e23_sub (κ := κ) (h := h) (Q := Q) ht d5
  have e : (if hd ≤ (hd + l.length) % 17 then (hd + l.length) % 17 - hd else (hd + l.length) % 17 + 17 - hd) = l.length := by split <;> omega
  rw [e] at es
  have za : zArr 10 = true := rfl
  simp (disch := first | assumption | omega | decide | (refine Eq.trans (hK_X _) ?_; assumption) | fail) only [gB, I_all, zK_v, zK_n, true_and, and_true, Nat.reduceAdd, Nat.reduceMul, Nat.reduceSub, z_lt, z_le, z_neq, not_false_eq_true, or_true, true_or, or_false, false_or, false_and, and_false, gJ23_size, d1, d2, d3, d4, d7, d8, za, es]
theorem e23_isEmpty (q : DQ h D E hd l) : Ev κ mJ23_isEmpty [.ref D] h Q = Q (.inl (some (.int (if l.length = 0 then Int32.ofNat 1 else Int32.ofNat 0)))) h := by
  obtain ⟨⟨d1, d2, d3, d4, d5, d6, d7, d8⟩, -⟩ := q
  have ht : (hd + l.length) % 17 < 17 := Nat.mod_lt _ (by decide)
  by_cases c : l.length = 0
  · have e : hd = (hd + l.length) % 17 := by omega
    rw [if_pos c]
    rw [← e] at d4
    simp (disch := first | assumption | omega | decide | (refine Eq.trans (hK_X _) ?_; assumption) | fail) only [gB, I_all, zK_v, zK_n, true_and, and_true, Nat.reduceAdd, Nat.reduceMul, Nat.reduceSub, z_lt, z_le, z_neq, not_false_eq_true, or_true, true_or, or_false, false_or, false_and, and_false, gJ23_isEmpty, d1, d2, d3, d4, z_b1]
  · have e : ¬ hd = (hd + l.length) % 17 := by omega
    rw [if_neg c]
    simp (disch := first | assumption | omega | decide | (refine Eq.trans (hK_X _) ?_; assumption) | fail) only [gB, I_all, zK_v, zK_n, true_and, and_true, Nat.reduceAdd, Nat.reduceMul, Nat.reduceSub, z_lt, z_le, z_neq, not_false_eq_true, or_true, true_or, or_false, false_or, false_and, and_false, gJ23_isEmpty, d1, d2, d3, d4, z_b0]
theorem e23_removeFirst {y : Nat} (q : DQ h D E hd (y :: l)) (hDE : D ≠ E) (hBD : kB κ ≤ D) (hBE : kB κ ≤ E) (hq : ∀ h', Df D E h h' → DQ h' D E ((hd + 1) % 17) l → Q (.inl (some (.ref y))) h') : Ev κ mJ23_removeFirst [.ref D] h Q := by
  have q0 := q
  obtain ⟨⟨d1, d2, d3, d4, d5, d6, d7, d8⟩, d9⟩ := q
  have hl : (y :: l).length = l.length + 1 := rfl
  rw [hl] at d4 d6
  have e0 : hV h E hd = .ref y := by
    have := d9 0 y rfl
    rw [Nat.add_zero, Nat.mod_eq_of_lt d5] at this
    exact this
  have ei := fun (h : zH) (Q : zQ) => e23_inc (κ := κ) (h := h) (Q := Q) d5
  have za : zArr 10 = true := rfl
  have hED : E ≠ D := Ne.symm hDE
  have q1 := hq (hW (hW h E hd .null) D 177 (.int (Int32.ofNat ((hd + 1) % 17)))) ((Df_W (Or.inr rfl)).trans (Df_W (Or.inl rfl))) ⟨⟨by rw [hK_W, hK_W]; exact d1, by rw [hV_Wj (by decide), hV_Wn hDE]; exact d2, hV_We rfl rfl, by rw [hV_Wj (by decide), hV_Wn hDE, d4, show (hd + (l.length + 1)) % 17 = ((hd + 1) % 17 + l.length) % 17 by omega], Nat.mod_lt _ (by decide), by omega, by rw [hK_W, hK_W]; exact d7, by rw [hL_W, hL_W]; exact d8⟩, fun i z hz => by
    have e := d9 (i + 1) z hz
    have hil := (List.getElem?_eq_some_iff.mp hz).1
    rw [hV_Wn (Ne.symm hDE), hV_Wj (show ¬ ((hd + 1) % 17 + i) % 17 = hd by omega), ← e, show ((hd + 1) % 17 + i) % 17 = (hd + (i + 1)) % 17 by omega]⟩
  simp (disch := first | assumption | omega | decide | (refine Eq.trans (hK_X _) ?_; assumption) | fail) only [gB, I_all, zK_v, zK_n, true_and, and_true, Nat.reduceAdd, Nat.reduceMul, Nat.reduceSub, z_lt, z_le, z_neq, not_false_eq_true, or_true, true_or, or_false, false_or, false_and, and_false, gJ23_removeFirst]
  simp (disch := first | assumption | omega | decide | (refine Eq.trans (hK_X _) ?_; assumption) | fail) only [gB, I_all, zK_v, zK_n, true_and, and_true, Nat.reduceAdd, Nat.reduceMul, Nat.reduceSub, z_lt, z_le, z_neq, not_false_eq_true, or_true, true_or, or_false, false_or, false_and, and_false, gJ23_pollFirst, d1, d2, d3, d7, d8, za, e0, gJ23_elementAt, hDE, hED, hK_W, hL_W, hV_Wn, ei, zR10]
  simp (disch := first | assumption | omega | decide | (refine Eq.trans (hK_X _) ?_; assumption) | fail) only [gB, I_all, zK_v, zK_n, true_and, and_true, Nat.reduceAdd, Nat.reduceMul, Nat.reduceSub, z_lt, z_le, z_neq, not_false_eq_true, or_true, true_or, or_false, false_or, false_and, and_false, gJ23_removeFirst]
  exact q1
theorem e23_addLast {y : Nat} (q : DQ h D E hd l) (hl7 : l.length ≤ 7) (hDE : D ≠ E) (hBD : kB κ ≤ D) (hBE : kB κ ≤ E) (hky : zAss 10 (hK h y) = true) (hq : ∀ h', Df D E h h' → DQ h' D E hd (l ++ [y]) → Q (.inl none) h') : Ev κ mJ23_addLast [.ref D, .ref y] h Q := by
  obtain ⟨⟨d1, d2, d3, d4, d5, d6, d7, d8⟩, d9⟩ := q
  obtain ⟨t, ht⟩ : ∃ t, t = (hd + l.length) % 17 := ⟨_, rfl⟩
  rw [← ht] at d4
  have ht17 : t < 17 := by omega
  have ei := fun (h : zH) (Q : zQ) => e23_inc (κ := κ) (h := h) (Q := Q) ht17
  have za : zArr 10 = true := rfl
  have hED : E ≠ D := Ne.symm hDE
  have hne : ¬ hd = (t + 1) % 17 := by omega
  have hky' := eq_true hky
  have zr : (zRef 10 = true) = True := eq_true (by decide)
  have hlen : (l ++ [y]).length = l.length + 1 := by rw [List.length_append]; rfl
  have q1 := hq (hW (hW h E t (.ref y)) D 178 (.int (Int32.ofNat ((t + 1) % 17)))) ((Df_W (Or.inr rfl)).trans (Df_W (Or.inl rfl))) ⟨⟨by rw [hK_W, hK_W]; exact d1, by rw [hV_Wj (by decide), hV_Wn hDE]; exact d2, by rw [hV_Wj (by decide), hV_Wn hDE]; exact d3, by rw [hV_We rfl rfl, hlen, show (hd + (l.length + 1)) % 17 = (t + 1) % 17 by omega], d5, by omega, by rw [hK_W, hK_W]; exact d7, by rw [hL_W, hL_W]; exact d8⟩, fun i z hz => by
    have hil := (List.getElem?_eq_some_iff.mp hz).1
    rw [hlen] at hil
    rw [hV_Wn (Ne.symm hDE)]
    by_cases c : i < l.length
    · rw [List.getElem?_append_left c] at hz
      rw [hV_Wj (show ¬ (hd + i) % 17 = t by omega)]
      exact d9 i z hz
    · have e : i = l.length := by omega
      subst e
      rw [List.getElem?_append_right (Nat.le_refl _), Nat.sub_self] at hz
      have hz' : y = z := Option.some.inj hz
      rw [← ht, hV_We rfl rfl, hz']⟩
  simp (disch := first | assumption | omega | decide | (refine Eq.trans (hK_X _) ?_; assumption) | fail) only [gB, I_all, zK_v, zK_n, true_and, and_true, Nat.reduceAdd, Nat.reduceMul, Nat.reduceSub, z_lt, z_le, z_neq, not_false_eq_true, or_true, true_or, or_false, false_or, false_and, and_false, gJ23_addLast, d1, d2, d3, d4, d7, d8, za, zr, hky', hDE, hED, hK_W, hL_W, hV_Wn, ei]
  exact q1
theorem e23_removeLast {y : Nat} (q : DQ h D E hd (l ++ [y])) (hDE : D ≠ E) (hBD : kB κ ≤ D) (hBE : kB κ ≤ E) (hq : ∀ h', Df D E h h' → DQ h' D E hd l → Q (.inl (some (.ref y))) h') : Ev κ mJ23_removeLast [.ref D] h Q := by
  obtain ⟨⟨d1, d2, d3, d4, d5, d6, d7, d8⟩, d9⟩ := q
  have hlen : (l ++ [y]).length = l.length + 1 := by rw [List.length_append]; rfl
  rw [hlen] at d4 d6
  obtain ⟨t, ht⟩ : ∃ t, t = (hd + (l.length + 1)) % 17 := ⟨_, rfl⟩
  rw [← ht] at d4
  have ht17 : t < 17 := by omega
  obtain ⟨u, hu⟩ : ∃ u, u = (t + 16) % 17 := ⟨_, rfl⟩
  have hu2 : u = (hd + l.length) % 17 := by omega
  have hu17 : u < 17 := by omega
  have ei := fun (h : zH) (Q : zQ) => e23_dec (κ := κ) (h := h) (Q := Q) ht17
  rw [← hu] at ei
  have za : zArr 10 = true := rfl
  have hED : E ≠ D := Ne.symm hDE
  have e0 : hV h E u = .ref y := by
    have := d9 l.length y (by rw [List.getElem?_append_right (Nat.le_refl _), Nat.sub_self]; rfl)
    rw [hu2]
    exact this
  have q1 := hq (hW (hW h D 178 (.int (Int32.ofNat u))) E u .null) ((Df_W (Or.inl rfl)).trans (Df_W (Or.inr rfl))) ⟨⟨by rw [hK_W, hK_W]; exact d1, by rw [hV_Wn hDE, hV_Wj (by decide)]; exact d2, by rw [hV_Wn hDE, hV_Wj (by decide)]; exact d3, by rw [hV_Wn hDE, hV_We rfl rfl, hu2], d5, by omega, by rw [hK_W, hK_W]; exact d7, by rw [hL_W, hL_W]; exact d8⟩, fun i z hz => by
    have hil := (List.getElem?_eq_some_iff.mp hz).1
    have e := d9 i z (by rw [List.getElem?_append_left hil]; exact hz)
    rw [hV_Wj (show ¬ (hd + i) % 17 = u by omega), hV_Wn (Ne.symm hDE), e]⟩
  simp (disch := first | assumption | omega | decide | (refine Eq.trans (hK_X _) ?_; assumption) | fail) only [gB, I_all, zK_v, zK_n, true_and, and_true, Nat.reduceAdd, Nat.reduceMul, Nat.reduceSub, z_lt, z_le, z_neq, not_false_eq_true, or_true, true_or, or_false, false_or, false_and, and_false, gJ23_removeLast]
  simp (disch := first | assumption | omega | decide | (refine Eq.trans (hK_X _) ?_; assumption) | fail) only [gB, I_all, zK_v, zK_n, true_and, and_true, Nat.reduceAdd, Nat.reduceMul, Nat.reduceSub, z_lt, z_le, z_neq, not_false_eq_true, or_true, true_or, or_false, false_or, false_and, and_false, gJ23_pollLast, d1, d2, d3, d4, d7, d8, za, e0, gJ23_elementAt, hDE, hED, hK_W, hL_W, hV_Wn, ei, zR10]
  simp (disch := first | assumption | omega | decide | (refine Eq.trans (hK_X _) ?_; assumption) | fail) only [gB, I_all, zK_v, zK_n, true_and, and_true, Nat.reduceAdd, Nat.reduceMul, Nat.reduceSub, z_lt, z_le, z_neq, not_false_eq_true, or_true, true_or, or_false, false_or, false_and, and_false, gJ23_removeLast]
  exact q1
theorem e2_set {L i : Nat} {v : Value} (hKL : hK h L = 114) (h1 : hV h L 148 = .ref E) (h2 : hV h L 149 = .int (Int32.ofNat 2)) (hE : hK h E = 10) (hE2 : hL h E = 2) (hi : i < 2) (ho : hV h E i = .null ∨ ∃ y, hV h E i = .ref y) (hv : v = .null ∨ ∃ y, v = .ref y ∧ zAss 10 (hK h y) = true) (hBE : kB κ ≤ E) (hq : ∀ w : Value, w.category = 1 → Q (.inl (some w)) (hW h E i v)) : Ev κ mJ2_set [.ref L, .int (Int32.ofNat i), v] h Q := by
  have ec := fun (Q : zQ) => e14_checkIndex (κ := κ) (h := h) (Q := Q) hi (by decide)
  have zr : (zRef 10 = true) = True := eq_true (by decide)
  have e0 : ∀ Q : zQ, Ev κ mJ2_set [.ref L, .int (Int32.ofNat i), .null] h Q = Go κ mJ2_set 0 [some (.ref L), some (.int (Int32.ofNat i)), some .null, none] [] h Q := fun _ => rfl
  rcases ho with o | ⟨r, o⟩
  · have q1 := hq .null rfl
    rcases hv with rfl | ⟨y, rfl, hy⟩
    · simp (disch := first | assumption | omega | decide | (refine Eq.trans (hK_X _) ?_; assumption) | fail) only [gB, I_all, zK_v, zK_n, true_and, and_true, Nat.reduceAdd, Nat.reduceMul, Nat.reduceSub, z_lt, z_le, z_neq, not_false_eq_true, or_true, true_or, or_false, false_or, false_and, and_false, gJ2_set, gJ2_elementData, e0, hKL, h1, h2, hE, hE2, ec, o, zr, hK_W, hL_W]
      exact q1
    · have hy' := eq_true hy
      simp (disch := first | assumption | omega | decide | (refine Eq.trans (hK_X _) ?_; assumption) | fail) only [gB, I_all, zK_v, zK_n, true_and, and_true, Nat.reduceAdd, Nat.reduceMul, Nat.reduceSub, z_lt, z_le, z_neq, not_false_eq_true, or_true, true_or, or_false, false_or, false_and, and_false, gJ2_set, gJ2_elementData, e0, hKL, h1, h2, hE, hE2, ec, o, zr, hK_W, hL_W, hy']
      exact q1
  · have q1 := hq (.ref r) rfl
    rcases hv with rfl | ⟨y, rfl, hy⟩
    · simp (disch := first | assumption | omega | decide | (refine Eq.trans (hK_X _) ?_; assumption) | fail) only [gB, I_all, zK_v, zK_n, true_and, and_true, Nat.reduceAdd, Nat.reduceMul, Nat.reduceSub, z_lt, z_le, z_neq, not_false_eq_true, or_true, true_or, or_false, false_or, false_and, and_false, gJ2_set, gJ2_elementData, e0, hKL, h1, h2, hE, hE2, ec, o, zr, hK_W, hL_W]
      exact q1
    · have hy' := eq_true hy
      simp (disch := first | assumption | omega | decide | (refine Eq.trans (hK_X _) ?_; assumption) | fail) only [gB, I_all, zK_v, zK_n, true_and, and_true, Nat.reduceAdd, Nat.reduceMul, Nat.reduceSub, z_lt, z_le, z_neq, not_false_eq_true, or_true, true_or, or_false, false_or, false_and, and_false, gJ2_set, gJ2_elementData, e0, hKL, h1, h2, hE, hE2, ec, o, zr, hK_W, hL_W, hy']
      exact q1
end
