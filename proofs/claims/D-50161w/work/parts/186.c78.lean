/-! the parser: digits, words, the next token -/
section
variable {κ : zC} {h h' h'' : zH} {z tx v i b n kl arr j : Nat} {l tp : List Int32} {x nu : Int32} {k w : Value} {Q : zQ}
theorem PP.by (P : PP κ h z tx v tp i b nu k) (hx : tp[j]? = some x) : byO x := by
  obtain ⟨y, y1, y2⟩ := P.2.1.2.1.2.2.2.1.2.2.1 j
  have := (P.2.1.2.1.2.2.2.1.2.2.2 j _ hx).symm.trans y1
  rw [Value.int.inj this]
  exact y2
theorem isD_asc {x : Int32} (h : isD x = true) : 0 ≤ x.toInt ∧ x.toInt ≤ 127 := by
  unfold isD at h
  rw [Bool.and_eq_true, decide_eq_true_eq, decide_eq_true_eq] at h
  have h1 := Int32.le_iff_toInt_le.mp h.1
  have h2 := Int32.le_iff_toInt_le.mp h.2
  have e1 : (Int32.ofNat 48).toInt = 48 := by decide
  have e2 : (Int32.ofNat 57).toInt = 57 := by decide
  omega
theorem herB_D (tp : List Int32) (i : Nat) : herB tp i 48 57 = (match tp[i]? with | some x => isD x | none => false) := by
  unfold herB
  cases tp[i]? <;> rfl
theorem herB_L (tp : List Int32) (i : Nat) : herB tp i 97 122 = (match tp[i]? with | some x => isL x | none => false) := by
  unfold herB
  cases tp[i]? <;> rfl
theorem e8_digits (W : PW κ h z kl arr) (P : PP κ h z tx v tp i i nu k)
    (hq : ∀ h', PP κ h' z tx v tp (i + run isD (tp.drop i)) i (nmF (tp.drop i) (run isD (tp.drop i))) k → Fz z h h' → hN h' = hN h → hU h' = hU h → Q (.inl (some (kS κ (if run isD (tp.drop i) < 5 then 24 else 22)))) h') : Ev κ mX8_digits [.ref z] h Q := by
  have bT : boI true = Int32.ofNat 1 := rfl
  have bF : boI false = Int32.ofNat 0 := rfl
  obtain ⟨rr, hrr, -⟩ := W.2.2.2.2.2
  have r22 := hrr 22 (by decide) (by decide)
  have r24 := hrr 24 (by decide) (by decide)
  have len := P.2.1.2.1.2.2.2.2
  generalize hR : run isD (tp.drop i) = R at *
  have lp : ∀ (d j : Nat) (h1 : zH), j + d = R → PW κ h1 z kl arr → PP κ h1 z tx v tp (i + j) i (nmF (tp.drop i) j) k → Fz z h h1 → hN h1 = hN h → hU h1 = hU h → Go κ mX8_digits 5 [some (.ref z)] [] h1 Q := by
    intro d
    induction d with
    | zero =>
      intro j h1 hj w P1 f n1 u1
      have hj' : j = R := by omega
      subst hj'
      have p1 := P1.1.1
      have e1 := fun (Q : zQ) => e8_isHere (Q := Q) w.1 P1 (a := 48) (c := 57) (by decide) (by decide)
      have hb : herB tp (i + j) 48 57 = false := by
        rw [herB_D]
        cases c : tp[i + j]? with
        | none => rfl
        | some x =>
          have := run_end (p := isD) (l := tp.drop i) (x := x) (by rw [hR, dr_at]; exact c)
          exact this
      rw [hb, bF] at e1
      have v130 := P1.2.2.1
      have v131 := P1.2.2.2.1
      have q1 := hq h1 P1 f n1 u1
      have es : Int32.ofNat (i + j) - Int32.ofNat i = Int32.ofNat j := by
        rw [I_sub (by omega)]
        congr 1
        omega
      have jl : j < 100000 := by
        have := run_le isD (tp.drop i)
        rw [hR, List.length_drop] at this
        omega
      by_cases c : j < 5
      · rw [if_pos c, r24] at q1
        simp (disch := first | assumption | omega | decide) only [gB, I_all, zK_v, zK_n, true_and, and_true, Nat.reduceAdd, Nat.reduceMul, Nat.reduceSub, z_lt, z_le, z_neq, not_false_eq_true, or_true, true_or, or_false, false_or, false_and, and_false, gX8_digits_h]
        simp (disch := first | assumption | omega | decide) only [gB, I_all, zK_v, zK_n, true_and, and_true, Nat.reduceAdd, Nat.reduceMul, Nat.reduceSub, z_lt, z_le, z_neq, not_false_eq_true, or_true, true_or, or_false, false_or, false_and, and_false, gX8_digits, p1, e1, v130, v131, es, r24]
        exact q1
      · rw [if_neg c, r22] at q1
        simp (disch := first | assumption | omega | decide) only [gB, I_all, zK_v, zK_n, true_and, and_true, Nat.reduceAdd, Nat.reduceMul, Nat.reduceSub, z_lt, z_le, z_neq, not_false_eq_true, or_true, true_or, or_false, false_or, false_and, and_false, gX8_digits_h]
        simp (disch := first | assumption | omega | decide) only [gB, I_all, zK_v, zK_n, true_and, and_true, Nat.reduceAdd, Nat.reduceMul, Nat.reduceSub, z_lt, z_le, z_neq, not_false_eq_true, or_true, true_or, or_false, false_or, false_and, and_false, gX8_digits, p1, e1, v130, v131, es, r22]
        exact q1
    | succ d ih =>
      intro j h1 hj w P1 f n1 u1
      have p1 := P1.1.1
      have p2 := P1.1.2.1
      obtain ⟨x, hx, px⟩ := run_lt (p := isD) (l := tp.drop i) (j := j) (by omega)
      have hx0 := hx
      rw [dr_at] at hx
      have hi := (List.getElem?_eq_some_iff.mp hx).1
      have e1 := fun (Q : zQ) => e8_isHere (Q := Q) w.1 P1 (a := 48) (c := 57) (by decide) (by decide)
      have hb : herB tp (i + j) 48 57 = true := by
        rw [herB_D, hx]
        exact px
      rw [hb, bT] at e1
      have v129 := P1.2.1.1
      have v130 := P1.2.2.1
      have v131 := P1.2.2.2.1
      have v132 := P1.2.2.2.2.1
      have es : Int32.ofNat (i + j) - Int32.ofNat i = Int32.ofNat j := by
        rw [I_sub (by omega)]
        congr 1
        omega
      have ef : nmF (tp.drop i) (j + 1) = if j < 4 then Int32.ofNat 10 * nmF (tp.drop i) j + ((tp.drop i)[j]?).getD 0 - Int32.ofNat 48 else nmF (tp.drop i) j := rfl
      rw [hx0, Option.getD_some] at ef
      have ax := isD_asc px
      have ec := fun (Q : zQ) => eS_charAt (Q := Q) w.1.1 w.1.2.1 P1.2.1.2.1 hx (by rw [show chV x = x from ch_asc ax]; exact nc_asc ax)
      rw [show chV x = x from ch_asc ax] at ec
      have zt := P1.1.2.2
      by_cases c : j < 4
      · rw [if_pos c] at ef
        have P2 := P1.w132 (Int32.ofNat 10 * nmF (tp.drop i) j + x - Int32.ofNat 48)
        rw [← ef] at P2
        have P3 := P2.w130 (j := i + j + 1) (by omega) (by omega)
        have F2 : Fz z h1 (hW (hW h1 z 132 (.int (nmF (tp.drop i) (j + 1)))) z 130 (.int (Int32.ofNat (i + j + 1)))) := (Fz.wr (by decide)).trans (Fz.wr (by decide))
        have i2 := ih (j + 1) _ (by omega) (w.fz F2 p1 zt p2) P3 (f.trans F2) n1 u1
        have v130' : hV (hW h1 z 132 (.int (nmF (tp.drop i) (j + 1)))) z 130 = .int (Int32.ofNat (i + j)) := (hV_Wj (by decide)).trans v130
        rcases P1.2.1.2.1.1 with kk | kk
        · simp (disch := first | assumption | omega | decide) only [gB, I_all, zK_v, zK_n, true_and, and_true, Nat.reduceAdd, Nat.reduceMul, Nat.reduceSub, z_lt, z_le, z_neq, not_false_eq_true, or_true, true_or, or_false, false_or, false_and, and_false, gX8_digits_h]
          simp (disch := first | assumption | omega | decide) only [gB, I_all, zK_v, zK_n, true_and, and_true, Nat.reduceAdd, Nat.reduceMul, Nat.reduceSub, z_lt, z_le, z_neq, not_false_eq_true, or_true, true_or, or_false, false_or, false_and, and_false, gX8_digits, p1, e1, v129, v130, v131, v132, es, ec, kk, ← ef, v130', hK_W, I_add]
          exact i2
        · simp (disch := first | assumption | omega | decide) only [gB, I_all, zK_v, zK_n, true_and, and_true, Nat.reduceAdd, Nat.reduceMul, Nat.reduceSub, z_lt, z_le, z_neq, not_false_eq_true, or_true, true_or, or_false, false_or, false_and, and_false, gX8_digits_h]
          simp (disch := first | assumption | omega | decide) only [gB, I_all, zK_v, zK_n, true_and, and_true, Nat.reduceAdd, Nat.reduceMul, Nat.reduceSub, z_lt, z_le, z_neq, not_false_eq_true, or_true, true_or, or_false, false_or, false_and, and_false, gX8_digits, p1, e1, v129, v130, v131, v132, es, ec, kk, ← ef, v130', hK_W, I_add]
          exact i2
      · rw [if_neg c] at ef
        rw [← ef] at P1
        have P3 := P1.w130 (j := i + j + 1) (by omega) (by omega)
        have F2 : Fz z h1 (hW h1 z 130 (.int (Int32.ofNat (i + j + 1)))) := Fz.wr (by decide)
        have i2 := ih (j + 1) _ (by omega) (w.fz F2 p1 zt p2) P3 (f.trans F2) n1 u1
        simp (disch := first | assumption | omega | decide) only [gB, I_all, zK_v, zK_n, true_and, and_true, Nat.reduceAdd, Nat.reduceMul, Nat.reduceSub, z_lt, z_le, z_neq, not_false_eq_true, or_true, true_or, or_false, false_or, false_and, and_false, gX8_digits_h]
        simp (disch := first | assumption | omega | decide) only [gB, I_all, zK_v, zK_n, true_and, and_true, Nat.reduceAdd, Nat.reduceMul, Nat.reduceSub, z_lt, z_le, z_neq, not_false_eq_true, or_true, true_or, or_false, false_or, false_and, and_false, gX8_digits, p1, e1, v130, v131, es, I_add]
        exact i2
  have p1 := P.1.1
  have p2 := P.1.2.1
  have P0 := P.w132 (Int32.ofNat 0)
  have F0 : Fz z h (hW h z 132 (.int (Int32.ofNat 0))) := Fz.wr (by decide)
  have l0 := lp R 0 _ (by omega) (W.fz F0 p1 P.1.2.2 p2) P0 F0 rfl rfl
  simp (disch := first | assumption | omega | decide) only [gB, I_all, zK_v, zK_n, true_and, and_true, Nat.reduceAdd, Nat.reduceMul, Nat.reduceSub, z_lt, z_le, z_neq, not_false_eq_true, or_true, true_or, or_false, false_or, false_and, and_false, gX8_digits, p1]
  exact l0
theorem e8_word (W : PW κ h z kl arr) (P : PP κ h z tx v tp i b nu k)
    (hq : ∀ h' s vs, St h' s vs (subL tp b i) → s < hN h' → vs < hN h' → Ag h h' 0 (hN h) → hN h ≤ hN h' → hN h' ≤ hN h + 2 → hU h' ≤ hU h + 4 + (i - b) → Q (.inl (some (.ref s))) h') : Ev κ mX8_word [.ref z] h Q := by
  obtain ⟨⟨p1, p2, p3⟩, ⟨t1, S, t3, t4, t5⟩, f1, f2, f3, f4, f5, f6⟩ := P
  have key : Ev κ mJ7_substring [.ref tx, .int (Int32.ofNat b), .int (Int32.ofNat i)] h (zK κ mX8_word 12 3 [some (.ref z)] [] Q) := eS_sub W.1 S ⟨t3, t4⟩ f6 f5 t5 fun h' s vs S' a1 a2 g n1 n2 u => by
    have q1 := hq h' s vs S' a1 a2 g n1 n2 u
    simp (disch := first | assumption | omega | decide) only [gB, I_all, zK_v, zK_n, true_and, and_true, Nat.reduceAdd, Nat.reduceMul, Nat.reduceSub, z_lt, z_le, z_neq, not_false_eq_true, or_true, true_or, or_false, false_or, false_and, and_false, gX8_word]
    exact q1
  rcases S.1 with kk | kk
  · simp (disch := first | assumption | omega | decide) only [gB, I_all, zK_v, zK_n, true_and, and_true, Nat.reduceAdd, Nat.reduceMul, Nat.reduceSub, z_lt, z_le, z_neq, not_false_eq_true, or_true, true_or, or_false, false_or, false_and, and_false, gX8_word, p1, t1, f1, f2, kk]
    exact key
  · simp (disch := first | assumption | omega | decide) only [gB, I_all, zK_v, zK_n, true_and, and_true, Nat.reduceAdd, Nat.reduceMul, Nat.reduceSub, z_lt, z_le, z_neq, not_false_eq_true, or_true, true_or, or_false, false_or, false_and, and_false, gX8_word, p1, t1, f1, f2, kk]
    exact key
theorem kwB_ky {g : List Int32} {r : Nat} (h : allL g r) : kwB (g.take r) = isKy g r := by
  have e : kwB (g.take r) = true ↔ isKy g r = true := by
    rw [kwB_t]
    unfold isKy isKeyW
    rw [Bool.and_eq_true, decide_eq_true_eq, List.any_eq_true]
    constructor
    · rintro ⟨j, j1, j2⟩
      have := (kw_iff j1 h).mpr j2.symm
      exact ⟨this.1, j, List.mem_range.mpr j1, decide_eq_true this.2⟩
    · rintro ⟨r9, j, j1, j2⟩
      exact ⟨j, List.mem_range.mp j1, ((kw_iff (List.mem_range.mp j1) h).mp ⟨r9, of_decide_eq_true j2⟩).symm⟩
  cases a : kwB (g.take r) <;> cases c : isKy g r
  · rfl
  · rw [e.mpr c] at a; cases a
  · rw [e.mp a] at c; cases c
  · rfl
/-- letters are passed over -/
theorem next_lt (hq : ∀ h', PP κ h' z tx v tp (i + run isL (tp.drop i)) b nu k → Fz z h h' → hN h' = hN h → hU h' = hU h → Go κ mX8_next 102 [some (.ref z)] [] h' Q) :
    ∀ (r i1 : Nat) (h1 : zH), run isL (tp.drop i1) = r → i1 + r = i + run isL (tp.drop i) → PW κ h1 z kl arr → PP κ h1 z tx v tp i1 b nu k → Fz z h h1 → hN h1 = hN h → hU h1 = hU h → Go κ mX8_next 78 [some (.ref z)] [] h1 Q := by
  have bT : boI true = Int32.ofNat 1 := rfl
  have bF : boI false = Int32.ofNat 0 := rfl
  intro r
  induction r with
  | zero =>
    intro i1 h1 hr hs w P f n1 u1
    have p1 := P.1.1
    have e1 := fun (Q : zQ) => e8_isHere (Q := Q) w.1 P (a := 97) (c := 122) (by decide) (by decide)
    have f1 : herB tp i1 97 122 = false := by
      rw [herB_L]
      cases c : tp[i1]? with
      | none => rfl
      | some x => exact run_0 hr c
    rw [f1, bF] at e1
    rw [show i + run isL (tp.drop i) = i1 by omega] at hq
    have q1 := hq h1 P f n1 u1
    simp (disch := first | assumption | omega | decide) only [gB, I_all, zK_v, zK_n, true_and, and_true, Nat.reduceAdd, Nat.reduceMul, Nat.reduceSub, z_lt, z_le, z_neq, not_false_eq_true, or_true, true_or, or_false, false_or, false_and, and_false, gX8_next_h]
    simp (disch := first | assumption | omega | decide) only [gB, I_all, zK_v, zK_n, true_and, and_true, Nat.reduceAdd, Nat.reduceMul, Nat.reduceSub, z_lt, z_le, z_neq, not_false_eq_true, or_true, true_or, or_false, false_or, false_and, and_false, gX8_next_1, gX8_next_2, p1, e1]
    simp (disch := first | assumption | omega | decide) only [gB, I_all, zK_v, zK_n, true_and, and_true, Nat.reduceAdd, Nat.reduceMul, Nat.reduceSub, z_lt, z_le, z_neq, not_false_eq_true, or_true, true_or, or_false, false_or, false_and, and_false, gX8_next_1, gX8_next_2, p1] at q1
    exact q1
  | succ r ih =>
    intro i1 h1 hr hs w P f n1 u1
    obtain ⟨x, hx, px, hr'⟩ := run_s hr
    have hi := (List.getElem?_eq_some_iff.mp hx).1
    have p1 := P.1.1
    have p2 := P.1.2.1
    have v130 := P.2.2.1
    have e1 := fun (Q : zQ) => e8_isHere (Q := Q) w.1 P (a := 97) (c := 122) (by decide) (by decide)
    have f1 : herB tp i1 97 122 = true := by
      rw [herB_L, hx]
      exact px
    rw [f1, bT] at e1
    have P2 := P.w130 (j := i1 + 1) (by have := P.2.2.2.2.2.2.2; omega) (by omega)
    have F2 : Fz z h1 (hW h1 z 130 (.int (Int32.ofNat (i1 + 1)))) := Fz.wr (by decide)
    have i2 := ih (i1 + 1) _ hr' (by omega) (w.fz F2 p1 P.1.2.2 p2) P2 (f.trans F2) n1 u1
    simp (disch := first | assumption | omega | decide) only [gB, I_all, zK_v, zK_n, true_and, and_true, Nat.reduceAdd, Nat.reduceMul, Nat.reduceSub, z_lt, z_le, z_neq, not_false_eq_true, or_true, true_or, or_false, false_or, false_and, and_false, gX8_next_h]
    simp (disch := first | assumption | omega | decide) only [gB, I_all, zK_v, zK_n, true_and, and_true, Nat.reduceAdd, Nat.reduceMul, Nat.reduceSub, z_lt, z_le, z_neq, not_false_eq_true, or_true, true_or, or_false, false_or, false_and, and_false, gX8_next_1, gX8_next_2, p1, e1, v130, I_add]
    exact i2
end
