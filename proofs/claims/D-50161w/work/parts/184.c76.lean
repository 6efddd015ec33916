/-! the parser: the keywords; what is here -/
def kwB (w : List Int32) : Bool := (List.range 18).any fun j => decide (kwS j = w)
theorem kwB_t {w : List Int32} : kwB w = true ↔ ∃ j, j < 18 ∧ kwS j = w := by
  unfold kwB
  rw [List.any_eq_true]
  constructor
  · rintro ⟨j, h1, h2⟩
    exact ⟨j, List.mem_range.mp h1, of_decide_eq_true h2⟩
  · rintro ⟨j, h1, h2⟩
    exact ⟨j, List.mem_range.mpr h1, decide_eq_true h2⟩
/-- the list of the keywords: its strings are the constants -/
def KWL (κ : zC) (h : zH) (kl arr : Nat) : Prop := hK h kl = 142 ∧ hV h kl 185 = .ref arr ∧ (∃ b : Int32, hV h kl 186 = .int b) ∧ (10 ≤ hK h arr ∧ hK h arr < 100 ∧ zArr (hK h arr) = true) ∧ hL h arr = 18 ∧ ∀ j, j < 18 → hV h arr j = .ref (kT κ (2 + j))
section
variable {κ : zC} {h : zH} {a b v w i n va vb p e kl arr : Nat} {l m : List Int32} {x : Int32} {Q : zQ}
theorem kwS_at {j : Nat} (hj : j < 18) : ∃ z, zTx[2 + j]? = some z ∧ strL z.2.2 = kwS j := by
  have : ∀ k : Fin 18, ((zTx[2 + k.val]?).map fun z => strL z.2.2) = some (kwS k.val) := by decide +kernel
  have e := this ⟨j, hj⟩
  dsimp only at e
  cases c : zTx[2 + j]? with
  | none => rw [c] at e; cases e
  | some z =>
    rw [c] at e
    exact ⟨z, rfl, Option.some.inj e⟩
theorem e16_equals (hc : kS κ 3 = .int (Int32.ofNat 1)) (S : St h a va l) (S' : St h b vb m) : Ev κ mJ16_equals [.ref a, .ref b] h Q = Q (.inl (some (.int (boI (decide (l = m)))))) h := by
  have nb0 : narrow .boolean (.int (Int32.ofNat 0)) = .int (Int32.ofNat 0) := rfl
  have nb1 : narrow .boolean (.int (Int32.ofNat 1)) = .int (Int32.ofNat 1) := rfl
  have bT : boI true = Int32.ofNat 1 := rfl
  have bF : boI false = Int32.ofNat 0 := rfl
  have e3 := fun (Q : zQ) => eS_equals (κ := κ) (Q := Q) hc S S'
  by_cases c : b = a
  · subst c
    rw [decide_eq_true (S.inj S'), bT]
    simp (disch := first | assumption | omega | decide) only [gB, I_all, zK_v, zK_n, true_and, and_true, Nat.reduceAdd, Nat.reduceMul, Nat.reduceSub, z_lt, z_le, z_neq, not_false_eq_true, or_true, true_or, or_false, false_or, false_and, and_false, gJ16_equals, nb1]
  · cases d : decide (l = m) with
    | true =>
      rw [d] at e3
      rw [bT] at e3 ⊢
      rcases S.1 with k | k
      · simp (disch := first | assumption | omega | decide) only [gB, I_all, zK_v, zK_n, true_and, and_true, Nat.reduceAdd, Nat.reduceMul, Nat.reduceSub, z_lt, z_le, z_neq, not_false_eq_true, or_true, true_or, or_false, false_or, false_and, and_false, gJ16_equals, k, e3, nb1]
      · simp (disch := first | assumption | omega | decide) only [gB, I_all, zK_v, zK_n, true_and, and_true, Nat.reduceAdd, Nat.reduceMul, Nat.reduceSub, z_lt, z_le, z_neq, not_false_eq_true, or_true, true_or, or_false, false_or, false_and, and_false, gJ16_equals, k, e3, nb1]
    | false =>
      rw [d] at e3
      rw [bF] at e3 ⊢
      rcases S.1 with k | k
      · simp (disch := first | assumption | omega | decide) only [gB, I_all, zK_v, zK_n, true_and, and_true, Nat.reduceAdd, Nat.reduceMul, Nat.reduceSub, z_lt, z_le, z_neq, not_false_eq_true, or_true, true_or, or_false, false_or, false_and, and_false, gJ16_equals, k, e3, nb0]
      · simp (disch := first | assumption | omega | decide) only [gB, I_all, zK_v, zK_n, true_and, and_true, Nat.reduceAdd, Nat.reduceMul, Nat.reduceSub, z_lt, z_le, z_neq, not_false_eq_true, or_true, true_or, or_false, false_or, false_and, and_false, gJ16_equals, k, e3, nb0]
theorem e28_contains (K : KS κ h) (L : KWL κ h kl arr) (S : St h a va l) : Ev κ mJ28_contains [.ref kl, .ref a] h Q = Q (.inl (some (.int (boI (kwB l))))) h := by
  have hc := K.1
  obtain ⟨l1, l2, ⟨b, l3⟩, ⟨l4, l5, l6⟩, l7, l8⟩ := L
  have nb0 : narrow .boolean (.int (Int32.ofNat 0)) = .int (Int32.ofNat 0) := rfl
  have nb1 : narrow .boolean (.int (Int32.ofNat 1)) = .int (Int32.ofNat 1) := rfl
  have bT : boI true = Int32.ofNat 1 := rfl
  have bF : boI false = Int32.ofNat 0 := rfl
  have lp : ∀ d i, i + d = 18 → (∀ j, j < i → ¬ kwS j = l) → Go κ mJ30_indexOf 26 [some (.ref kl), some (.ref a), some (.ref arr), some (.int (Int32.ofNat i))] [] h (zK κ mJ28_contains 2 3 [some (.ref kl), some (.ref a)] [] Q) = Q (.inl (some (.int (boI (kwB l))))) h := by
    intro d
    induction d with
    | zero =>
      intro i hi hj
      have e : kwB l = false := by
        cases c : kwB l with
        | false => rfl
        | true =>
          obtain ⟨j, j1, j2⟩ := kwB_t.mp c
          exact absurd j2 (hj j (by omega))
      have i18 : i = 18 := by omega
      subst i18
      rw [e, bF]
      have m1 : Int32.ofInt (-1) < Int32.ofNat 0 := by decide
      simp (disch := first | assumption | omega | decide) only [gB, I_all, zK_v, zK_n, true_and, and_true, Nat.reduceAdd, Nat.reduceMul, Nat.reduceSub, z_lt, z_le, z_neq, not_false_eq_true, or_true, true_or, or_false, false_or, false_and, and_false, gJ30_indexOf_h]
      simp (disch := first | assumption | omega | decide) only [gB, I_all, zK_v, zK_n, true_and, and_true, Nat.reduceAdd, Nat.reduceMul, Nat.reduceSub, z_lt, z_le, z_neq, not_false_eq_true, or_true, true_or, or_false, false_or, false_and, and_false, gJ30_indexOf, gJ28_contains, l6, l7, nb0, m1]
    | succ d ih =>
      intro i hi hj
      have hi18 : i < 18 := by omega
      obtain ⟨z, ez, em⟩ := kwS_at hi18
      obtain ⟨v, st, b1, b2⟩ := K.2.2.2.at (2 + i) ez em
      have e8 := l8 i hi18
      have eq := fun (Q : zQ) => e16_equals (κ := κ) (Q := Q) hc S st
      by_cases c : l = kwS i
      · have e : kwB l = true := kwB_t.mpr ⟨i, hi18, c.symm⟩
        rw [decide_eq_true c, bT] at eq
        rw [e, bT]
        have m1 : ¬ Int32.ofNat i < Int32.ofNat 0 := Int32.not_lt.mpr (I_nn (by omega))
        simp (disch := first | assumption | omega | decide) only [gB, I_all, zK_v, zK_n, true_and, and_true, Nat.reduceAdd, Nat.reduceMul, Nat.reduceSub, z_lt, z_le, z_neq, not_false_eq_true, or_true, true_or, or_false, false_or, false_and, and_false, gJ30_indexOf_h]
        simp (disch := first | assumption | omega | decide) only [gB, I_all, zK_v, zK_n, true_and, and_true, Nat.reduceAdd, Nat.reduceMul, Nat.reduceSub, z_lt, z_le, z_neq, not_false_eq_true, or_true, true_or, or_false, false_or, false_and, and_false, gJ30_indexOf, gJ28_contains, l4, l5, l6, l7, e8, eq, nb1]
      · rw [decide_eq_false c, bF] at eq
        have i1 := ih (i + 1) (by omega) fun j hj2 => by
          by_cases cj : j < i
          · exact hj j cj
          · have : j = i := by omega
            rw [this]
            exact fun z => c z.symm
        simp (disch := first | assumption | omega | decide) only [gB, I_all, zK_v, zK_n, true_and, and_true, Nat.reduceAdd, Nat.reduceMul, Nat.reduceSub, z_lt, z_le, z_neq, not_false_eq_true, or_true, true_or, or_false, false_or, false_and, and_false, gJ30_indexOf_h]
        simp (disch := first | assumption | omega | decide) only [gB, I_all, zK_v, zK_n, true_and, and_true, Nat.reduceAdd, Nat.reduceMul, Nat.reduceSub, z_lt, z_le, z_neq, not_false_eq_true, or_true, true_or, or_false, false_or, false_and, and_false, gJ30_indexOf, l4, l5, l6, l7, e8, eq, I_add]
        exact i1
  have l0 := lp 18 0 (by decide) fun j hj => by omega
  by_cases cb : b = Int32.ofNat 0
  · subst cb
    simp (disch := first | assumption | omega | decide) only [gB, I_all, zK_v, zK_n, true_and, and_true, Nat.reduceAdd, Nat.reduceMul, Nat.reduceSub, z_lt, z_le, z_neq, not_false_eq_true, or_true, true_or, or_false, false_or, false_and, and_false, gJ28_contains, gJ30_indexOf, l1, l2, l3]
    exact l0
  · simp (disch := first | assumption | omega | decide) only [gB, I_all, zK_v, zK_n, true_and, and_true, Nat.reduceAdd, Nat.reduceMul, Nat.reduceSub, z_lt, z_le, z_neq, not_false_eq_true, or_true, true_or, or_false, false_or, false_and, and_false, gJ28_contains, gJ30_indexOf, l1, l2, l3]
    exact l0
end
/-- the parser at z, its text l (the string tx, its array v), at i, from b on, its number, its kind -/
def PP (κ : zC) (h : zH) (z tx v : Nat) (l : List Int32) (i b : Nat) (n : Int32) (k : Value) : Prop :=
  (hK h z = 108 ∧ kB κ ≤ z ∧ z < hN h) ∧ (hV h z 129 = .ref tx ∧ St h tx v l ∧ tx < hN h ∧ v < hN h ∧ kB κ ≤ v) ∧ hV h z 130 = .int (Int32.ofNat i) ∧ hV h z 131 = .int (Int32.ofNat b) ∧ hV h z 132 = .int n ∧ hV h z 133 = k ∧ i ≤ l.length ∧ b ≤ i
/-- is a character of these here -/
def herB (l : List Int32) (i : Nat) (a b : Nat) : Bool := match l[i]? with
  | some x => decide (Int32.ofNat a ≤ x) && decide (x ≤ Int32.ofNat b)
  | none => false
theorem chV_rng {x : Int32} (hx : byO x) {a b : Nat} (ha : a ≤ 127) (hb : b ≤ 127) : (narrow .char (.int (chV x)) = .int (chV x)) ∧ (chV x < Int32.ofNat a ↔ ¬ (Int32.ofNat a ≤ x ∨ x < Int32.ofNat 0)) ∧ (Int32.ofNat b < chV x ↔ ¬ (Int32.ofNat 0 ≤ x ∧ x ≤ Int32.ofNat b)) := by
  obtain ⟨h1, h2⟩ := hx
  have ea := I_toInt (n := a) (by omega)
  have eb := I_toInt (n := b) (by omega)
  have e0 : (Int32.ofNat 0).toInt = 0 := by decide
  by_cases c : 0 ≤ x.toInt
  · have e : chV x = x := ch_asc ⟨c, h2⟩
    rw [e]
    refine ⟨nc_asc ⟨c, h2⟩, ?_, ?_⟩
    · rw [Int32.lt_iff_toInt_lt, Int32.le_iff_toInt_le, Int32.lt_iff_toInt_lt]
      omega
    · rw [Int32.lt_iff_toInt_lt, Int32.le_iff_toInt_le, Int32.le_iff_toInt_le]
      omega
  · obtain ⟨n, hn1, hn2⟩ : ∃ n : Nat, n < 128 ∧ x = Int32.ofInt ((n : Int) - 128) := by
      refine ⟨(x.toInt + 128).toNat, by omega, ?_⟩
      apply Int32.toInt_inj.mp
      rw [Int32.toInt_ofInt_of_le (by omega) (by omega)]
      omega
    have key : ∀ n : Fin 128, (narrow .char (.int (chV (Int32.ofInt ((n.val : Int) - 128)))) = .int (chV (Int32.ofInt ((n.val : Int) - 128)))) ∧ (chV (Int32.ofInt ((n.val : Int) - 128))).toInt = n.val + 128 := by decide
    have k := key ⟨n, hn1⟩
    dsimp only at k
    rw [← hn2] at k
    refine ⟨k.1, ?_, ?_⟩
    · rw [Int32.lt_iff_toInt_lt, Int32.le_iff_toInt_le, Int32.lt_iff_toInt_lt, k.2]
      omega
    · rw [Int32.lt_iff_toInt_lt, Int32.le_iff_toInt_le, Int32.le_iff_toInt_le, k.2]
      omega
section
variable {κ : zC} {h : zH} {z tx v i b n : Nat} {l : List Int32} {x nu : Int32} {k : Value} {Q : zQ}
theorem e8_isHere (K : KS κ h) (P : PP κ h z tx v l i b nu k) {a c : Nat} (ha : 1 ≤ a ∧ a ≤ 127) (hb : c ≤ 127) : Ev κ mX8_isHere [.ref z, .int (Int32.ofNat a), .int (Int32.ofNat c)] h Q = Q (.inl (some (.int (boI (herB l i a c))))) h := by
  obtain ⟨⟨p1, p2, p3⟩, ⟨t1, S, t3, t4, t5⟩, f1, f2, f3, f4, f5, f6⟩ := P
  have hc := K.1
  have el := fun (Q : zQ) => eS_length (Q := Q) hc S
  have nb0 : narrow .boolean (.int (Int32.ofNat 0)) = .int (Int32.ofNat 0) := rfl
  have nb1 : narrow .boolean (.int (Int32.ofNat 1)) = .int (Int32.ofNat 1) := rfl
  have bT : boI true = Int32.ofNat 1 := rfl
  have bF : boI false = Int32.ofNat 0 := rfl
  have s5 := S.2.2.2.2
  unfold herB
  by_cases ci : i < l.length
  · have hx : l[i]? = some l[i] := List.getElem?_eq_getElem ci
    rw [hx]
    dsimp only
    have vx : byO l[i] := by
      obtain ⟨y, y1, y2⟩ := S.2.2.2.1.2.2.1 i
      have := (S.2.2.2.1.2.2.2 i _ hx).symm.trans y1
      rw [Value.int.inj this]
      exact y2
    have R := chV_rng vx ha.2 hb
    have ec := fun (Q : zQ) => eS_charAt (Q := Q) hc K.2.1 S hx R.1
    generalize l[i] = y at *
    obtain ⟨-, r2, r3⟩ := R
    have a0 : Int32.ofNat 0 < Int32.ofNat a := by
      rw [Int32.lt_iff_toInt_lt, I_toInt (n := a) (by omega)]
      show (0 : Int) < _
      omega
    by_cases g1 : Int32.ofNat a ≤ y
    · have y0 : Int32.ofNat 0 ≤ y := Int32.le_trans (Int32.le_of_lt a0) g1
      have n1 : ¬ chV y < Int32.ofNat a := fun w => (r2.mp w) (Or.inl g1)
      by_cases g2 : y ≤ Int32.ofNat c
      · have n2 : ¬ Int32.ofNat c < chV y := fun w => (r3.mp w) ⟨y0, g2⟩
        rw [decide_eq_true g1, decide_eq_true g2, show (true && true) = true from rfl, bT]
        rcases S.1 with kk | kk
        · simp (disch := first | assumption | omega | decide) only [gB, I_all, zK_v, zK_n, true_and, and_true, Nat.reduceAdd, Nat.reduceMul, Nat.reduceSub, z_lt, z_le, z_neq, not_false_eq_true, or_true, true_or, or_false, false_or, false_and, and_false, gX8_isHere, p1, f1, t1, kk, el, ec, nb1]
        · simp (disch := first | assumption | omega | decide) only [gB, I_all, zK_v, zK_n, true_and, and_true, Nat.reduceAdd, Nat.reduceMul, Nat.reduceSub, z_lt, z_le, z_neq, not_false_eq_true, or_true, true_or, or_false, false_or, false_and, and_false, gX8_isHere, p1, f1, t1, kk, el, ec, nb1]
      · have n2 : Int32.ofNat c < chV y := r3.mpr fun w => g2 w.2
        rw [decide_eq_true g1, decide_eq_false g2, show (true && false) = false from rfl, bF]
        rcases S.1 with kk | kk
        · simp (disch := first | assumption | omega | decide) only [gB, I_all, zK_v, zK_n, true_and, and_true, Nat.reduceAdd, Nat.reduceMul, Nat.reduceSub, z_lt, z_le, z_neq, not_false_eq_true, or_true, true_or, or_false, false_or, false_and, and_false, gX8_isHere, p1, f1, t1, kk, el, ec, nb0]
        · simp (disch := first | assumption | omega | decide) only [gB, I_all, zK_v, zK_n, true_and, and_true, Nat.reduceAdd, Nat.reduceMul, Nat.reduceSub, z_lt, z_le, z_neq, not_false_eq_true, or_true, true_or, or_false, false_or, false_and, and_false, gX8_isHere, p1, f1, t1, kk, el, ec, nb0]
    · rw [decide_eq_false g1, show (false && decide (y ≤ Int32.ofNat c)) = false from rfl, bF]
      by_cases g3 : y < Int32.ofNat 0
      · have n1 : ¬ chV y < Int32.ofNat a := fun w => (r2.mp w) (Or.inr g3)
        have n2 : Int32.ofNat c < chV y := r3.mpr fun w => absurd g3 (Int32.not_lt.mpr w.1)
        rcases S.1 with kk | kk
        · simp (disch := first | assumption | omega | decide) only [gB, I_all, zK_v, zK_n, true_and, and_true, Nat.reduceAdd, Nat.reduceMul, Nat.reduceSub, z_lt, z_le, z_neq, not_false_eq_true, or_true, true_or, or_false, false_or, false_and, and_false, gX8_isHere, p1, f1, t1, kk, el, ec, nb0]
        · simp (disch := first | assumption | omega | decide) only [gB, I_all, zK_v, zK_n, true_and, and_true, Nat.reduceAdd, Nat.reduceMul, Nat.reduceSub, z_lt, z_le, z_neq, not_false_eq_true, or_true, true_or, or_false, false_or, false_and, and_false, gX8_isHere, p1, f1, t1, kk, el, ec, nb0]
      · have n1 : chV y < Int32.ofNat a := r2.mpr fun w => w.elim g1 g3
        rcases S.1 with kk | kk
        · simp (disch := first | assumption | omega | decide) only [gB, I_all, zK_v, zK_n, true_and, and_true, Nat.reduceAdd, Nat.reduceMul, Nat.reduceSub, z_lt, z_le, z_neq, not_false_eq_true, or_true, true_or, or_false, false_or, false_and, and_false, gX8_isHere, p1, f1, t1, kk, el, ec, nb0]
        · simp (disch := first | assumption | omega | decide) only [gB, I_all, zK_v, zK_n, true_and, and_true, Nat.reduceAdd, Nat.reduceMul, Nat.reduceSub, z_lt, z_le, z_neq, not_false_eq_true, or_true, true_or, or_false, false_or, false_and, and_false, gX8_isHere, p1, f1, t1, kk, el, ec, nb0]
  · rw [List.getElem?_eq_none (by omega)]
    dsimp only
    rw [bF]
    rcases S.1 with kk | kk
    · simp (disch := first | assumption | omega | decide) only [gB, I_all, zK_v, zK_n, true_and, and_true, Nat.reduceAdd, Nat.reduceMul, Nat.reduceSub, z_lt, z_le, z_neq, not_false_eq_true, or_true, true_or, or_false, false_or, false_and, and_false, gX8_isHere, p1, f1, t1, kk, el, nb0]
    · simp (disch := first | assumption | omega | decide) only [gB, I_all, zK_v, zK_n, true_and, and_true, Nat.reduceAdd, Nat.reduceMul, Nat.reduceSub, z_lt, z_le, z_neq, not_false_eq_true, or_true, true_or, or_false, false_or, false_and, and_false, gX8_isHere, p1, f1, t1, kk, el, nb0]
end
