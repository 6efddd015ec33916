/-! the parser: a token known; is, expect -/
theorem zK_x {κ : zC} {m : zM} {pc ln q : Nat} {ls : List (Option Value)} {st : List Value} {Q : zQ} {h : zH} (e : zHan m pc = none) : zK κ m pc ln ls st Q (.inr q) h = Q (.inr q) h := by
  unfold zK
  dsimp only
  rw [e]
/-- the parser has the token from i on -/
def PT (κ : zC) (h : zH) (z tx v : Nat) (tp : List Int32) (kl arr i : Nat) : Prop := ∃ nu, PP κ h z tx v tp (tkE tp i) (tkB tp i) nu (kS κ (kdS (tkK tp i))) ∧ (tkK tp i = 3 → nu = tkV tp i) ∧ PW κ h z kl arr
/-- from h, read up to p, to h', read up to p': frame and room -/
def Gz (z : Nat) (cN cU : Nat) (h : zH) (p : Nat) (h' : zH) (p' : Nat) : Prop := Fz z h h' ∧ hN h' ≤ hN h + cN ∧ hU h' + p ≤ hU h + cU + p'
/-- unreadable: thrown, with its place -/
def Er (κ : zC) (h' : zH) (u e : Nat) : Prop := hK h' u = 109 ∧ hV h' u 141 = .int (Int32.ofNat e) ∧ kB κ ≤ u ∧ u < hN h'
section
variable {κ : zC} {h h' h'' : zH} {z tx v i b n kl arr j cN cU dN dU p p' p'' : Nat} {l tp : List Int32} {x nu : Int32} {k w : Value} {Q : zQ} {c : Bool}
theorem Gz.trans (a : Gz z cN cU h p h' p') (d : Gz z dN dU h' p' h'' p'') : Gz z (cN + dN) (cU + dU) h p h'' p'' := ⟨a.1.trans d.1, by have := a.2.1; have := d.2.1; omega, by have := a.2.2; have := d.2.2; omega⟩
theorem Gz.le (a : Gz z cN cU h p h' p') (h1 : cN ≤ dN) (h2 : cU ≤ dU) : Gz z dN dU h p h' p' := ⟨a.1, by have := a.2.1; omega, by have := a.2.2; omega⟩
theorem Gz.rfl : Gz z 0 0 h p h p := ⟨Fz.rfl, Nat.le_refl _, by omega⟩
theorem PT.ext (T : PT κ h z tx v tp kl arr i) (g : Ag h h' 0 (hN h)) (hn : hN h ≤ hN h') : PT κ h' z tx v tp kl arr i := by
  obtain ⟨nu, P, e, W⟩ := T
  exact ⟨nu, P.ext g hn, e, W.fz (Fz.of g hn) P.1.1 P.1.2.2 P.1.2.1⟩
theorem tkK_2 (e : tkK tp i = 2) : allL (tp.drop (tkB tp i)) (tkE tp i - tkB tp i) ∧ tkE tp i - tkB tp i < 9 := by
  have hE : tkE tp i = tkB tp i + (tkT tp (tkB tp i)).2 := rfl
  have hK0 : tkK tp i = (tkT tp (tkB tp i)).1 := rfl
  rw [hE, Nat.add_sub_cancel_left]
  rw [hK0] at e
  generalize tkB tp i = B at *
  unfold tkT at e ⊢
  cases c : tp[B]? with
  | none => rw [c] at e; cases e
  | some x =>
    rw [c] at e
    dsimp only at e ⊢
    by_cases l : isL x = true
    · rw [if_pos l] at e ⊢
      dsimp only at e ⊢
      refine ⟨fun k hk => run_lt hk, ?_⟩
      by_cases y : isKy (tp.drop B) (run isL (tp.drop B)) = true
      · unfold isKy at y
        rw [Bool.and_eq_true, decide_eq_true_eq] at y
        exact y.1
      · rw [if_neg y] at e
        by_cases s : run isL (tp.drop B) < 7
        · omega
        · rw [if_neg s] at e; cases e
    · rw [if_neg l] at e ⊢
      by_cases d : isD x = true
      · rw [if_pos d] at e
        dsimp only at e
        by_cases s : run isD (tp.drop B) < 5
        · rw [if_pos s] at e; cases e
        · rw [if_neg s] at e; cases e
      · rw [if_neg d] at e
        dsimp only at e
        by_cases s : x = Int32.ofNat 59
        · rw [if_pos s] at e; cases e
        · rw [if_neg s] at e; cases e
theorem kdS_rng (k : Nat) : 20 ≤ kdS k ∧ kdS k ≤ 25 := by
  unfold kdS
  split <;> omega
theorem kdS_inj {a b : Nat} (ha : a ≤ 5) (hb : b ≤ 5) (e : kdS a = kdS b) : a = b := by
  have : ∀ a b : Fin 6, kdS a.val = kdS b.val → a.val = b.val := by decide
  exact this ⟨a, by omega⟩ ⟨b, by omega⟩ e
/-- the token's kind against a kind -/
theorem PT.kd (T : PT κ h z tx v tp kl arr i) {d : Nat} (hd : d ≤ 5) : ∃ r s : Nat, hV h z 133 = .ref r ∧ kS κ (kdS d) = .ref s ∧ (r = s ↔ tkK tp i = d) := by
  obtain ⟨nu, P, -, W⟩ := T
  obtain ⟨rr, hr, inj⟩ := W.2.2.2.2.2
  have a := kdS_rng (tkK tp i)
  have b := kdS_rng d
  refine ⟨rr (kdS (tkK tp i)), rr (kdS d), P.2.2.2.2.2.1.trans (hr _ a.1 a.2), hr _ b.1 b.2, ⟨fun e => ?_, fun e => by rw [e]⟩⟩
  exact kdS_inj (tkK_le tp i) hd (inj _ _ a.1 a.2 b.1 b.2 e)
theorem e8_is (T : PT κ h z tx v tp kl arr i) (hj : j < 18)
    (hq : ∀ h', PT κ h' z tx v tp kl arr i → Ag h h' 0 (hN h) → hN h ≤ hN h' → hN h' ≤ hN h + 2 → hU h' ≤ hU h + 12 → Q (.inl (some (.int (boI (isK tp i j))))) h') : Ev κ mX8_is [.ref z, .ref (kT κ (2 + j))] h Q := by
  have nb0 : narrow .boolean (.int (Int32.ofNat 0)) = .int (Int32.ofNat 0) := rfl
  have nb1 : narrow .boolean (.int (Int32.ofNat 1)) = .int (Int32.ofNat 1) := rfl
  have bT : boI true = Int32.ofNat 1 := rfl
  have bF : boI false = Int32.ofNat 0 := rfl
  obtain ⟨r, s, e1, e2, e3⟩ := T.kd (d := 2) (by decide)
  have e2' : kS κ 21 = .ref s := e2
  have T0 := T
  obtain ⟨nu, P, -, W⟩ := T
  have p1 := P.1.1
  unfold isK at hq
  by_cases c : tkK tp i = 2
  · have rs : s = r := (e3.mpr c).symm
    obtain ⟨aL, l9⟩ := tkK_2 c
    rw [decide_eq_true c, Bool.true_and] at hq
    have wk : Ev κ mX8_word [.ref z] h (zK κ mX8_is 11 3 [some (.ref z), some (.ref (kT κ (2 + j)))] [] Q) := by
      refine e8_word W P fun h4 t vs S4 s1 s2 g4 n4 n5 u4 => ?_
      have W4 := W.fz (Fz.of g4 n4) p1 P.1.2.2 P.1.2.1
      obtain ⟨y, ey, em⟩ := kwS_at hj
      obtain ⟨v', st, b1, b2⟩ := W4.1.2.2.2.at (2 + j) ey em
      have eq := fun (Q : zQ) => eS_equals (κ := κ) (Q := Q) W4.1.1 S4 st
      have sl : subL tp (tkB tp i) (tkE tp i) = (tp.drop (tkB tp i)).take (tkE tp i - tkB tp i) := rfl
      have iff := kw_iff hj aL
      have ed : decide (subL tp (tkB tp i) (tkE tp i) = kwS j) = decide (wdP (tp.drop (tkB tp i)) (tkE tp i - tkB tp i) = kwC j) := by
        rw [sl]
        exact decide_eq_decide.mpr ⟨fun z => (iff.mpr z).2, fun z => iff.mp ⟨l9, z⟩⟩
      rw [ed] at eq
      have q1 := hq h4 (T0.ext g4 n4) g4 n4 n5 (by omega)
      cases d : decide (wdP (tp.drop (tkB tp i)) (tkE tp i - tkB tp i) = kwC j) with
      | true =>
        rw [d, bT] at eq q1
        rcases S4.1 with kk | kk
        · simp (disch := first | assumption | omega | decide) only [gB, I_all, zK_v, zK_n, true_and, and_true, Nat.reduceAdd, Nat.reduceMul, Nat.reduceSub, z_lt, z_le, z_neq, not_false_eq_true, or_true, true_or, or_false, false_or, false_and, and_false, gX8_is, kk, eq, nb1]
          exact q1
        · simp (disch := first | assumption | omega | decide) only [gB, I_all, zK_v, zK_n, true_and, and_true, Nat.reduceAdd, Nat.reduceMul, Nat.reduceSub, z_lt, z_le, z_neq, not_false_eq_true, or_true, true_or, or_false, false_or, false_and, and_false, gX8_is, kk, eq, nb1]
          exact q1
      | false =>
        rw [d, bF] at eq q1
        rcases S4.1 with kk | kk
        · simp (disch := first | assumption | omega | decide) only [gB, I_all, zK_v, zK_n, true_and, and_true, Nat.reduceAdd, Nat.reduceMul, Nat.reduceSub, z_lt, z_le, z_neq, not_false_eq_true, or_true, true_or, or_false, false_or, false_and, and_false, gX8_is, kk, eq, nb0]
          exact q1
        · simp (disch := first | assumption | omega | decide) only [gB, I_all, zK_v, zK_n, true_and, and_true, Nat.reduceAdd, Nat.reduceMul, Nat.reduceSub, z_lt, z_le, z_neq, not_false_eq_true, or_true, true_or, or_false, false_or, false_and, and_false, gX8_is, kk, eq, nb0]
          exact q1
    simp (disch := first | assumption | omega | decide) only [gB, I_all, zK_v, zK_n, true_and, and_true, Nat.reduceAdd, Nat.reduceMul, Nat.reduceSub, z_lt, z_le, z_neq, not_false_eq_true, or_true, true_or, or_false, false_or, false_and, and_false, gX8_is, p1, e1, e2']
    exact wk
  · have rs : ¬ s = r := fun z => c (e3.mp z.symm)
    rw [decide_eq_false c, Bool.false_and, bF] at hq
    have q1 := hq h T0 Ag.rfl (Nat.le_refl _) (by omega) (by omega)
    simp (disch := first | assumption | omega | decide) only [gB, I_all, zK_v, zK_n, true_and, and_true, Nat.reduceAdd, Nat.reduceMul, Nat.reduceSub, z_lt, z_le, z_neq, not_false_eq_true, or_true, true_or, or_false, false_or, false_and, and_false, gX8_is, p1, e1, e2', nb0]
    exact q1
theorem e8_expect (T : PT κ h z tx v tp kl arr i) (hok : c = true → ∀ h', PT κ h' z tx v tp kl arr (tkE tp i) → Gz z 2 4 h (tkE tp i) h' (tkE tp (tkE tp i)) → Q (.inl none) h')
    (her : c = false → ∀ h' u, Er κ h' u (tkB tp i) → Gz z 1 7 h (tkE tp i) h' (tkE tp i) → Q (.inr u) h') : Ev κ mX8_expect [.ref z, .int (boI c)] h Q := by
  have bT : boI true = Int32.ofNat 1 := rfl
  have bF : boI false = Int32.ofNat 0 := rfl
  obtain ⟨nu, P, -, W⟩ := T
  have p1 := P.1.1
  have zl := P.1.2.2
  have hB := P.1.2.1
  cases c with
  | true =>
    rw [bT]
    have nx : Ev κ mX8_next [.ref z] h (zK κ mX8_expect 17 3 [some (.ref z), some (.int (Int32.ofNat 1))] [] Q) := by
      refine e8_next W P fun h1 nu' P1 en W1 f n1 u1 => ?_
      have bl : tkE tp i ≤ tkB tp (tkE tp i) := by unfold tkB; omega
      have q1 := hok rfl h1 ⟨nu', P1, en, W1⟩ ⟨f, n1, by omega⟩
      simp (disch := first | assumption | omega | decide) only [gB, I_all, zK_v, zK_n, true_and, and_true, Nat.reduceAdd, Nat.reduceMul, Nat.reduceSub, z_lt, z_le, z_neq, not_false_eq_true, or_true, true_or, or_false, false_or, false_and, and_false, gX8_expect]
      exact q1
    simp (disch := first | assumption | omega | decide) only [gB, I_all, zK_v, zK_n, true_and, and_true, Nat.reduceAdd, Nat.reduceMul, Nat.reduceSub, z_lt, z_le, z_neq, not_false_eq_true, or_true, true_or, or_false, false_or, false_and, and_false, gX8_expect, p1]
    exact nx
  | false =>
    rw [bF]
    have ks : hK (hA h 109 0 7 gD) (hN h) = 109 := hK_At rfl
    have k1 : hK (hA h 109 0 7 gD) z = 108 := (hK_An (show z ≠ hN h by omega)).trans p1
    have v131 : hV (hA h 109 0 7 gD) z 131 = .int (Int32.ofNat (tkB tp i)) := (hV_An (show z ≠ hN h by omega) _).trans P.2.2.2.1
    have v139 : hV (hA h 109 0 7 gD) (hN h) 139 = .null := (hV_At rfl 139).trans rfl
    have hBn : kB κ ≤ hN h := by omega
    have q1 := her rfl (hW (hA h 109 0 7 gD) (hN h) 141 (.int (Int32.ofNat (tkB tp i)))) (hN h) ⟨ks, hV_We rfl rfl, hBn, Nat.lt_succ_self _⟩ ⟨Fz.of (fun y _ hy => ⟨(show hK (hA h 109 0 7 gD) y = hK h y from hK_An (by omega)), (show hL (hA h 109 0 7 gD) y = hL h y from hL_An (by omega)), fun j => by rw [hV_Wn (by omega), hV_An (by omega)]⟩) (Nat.le_succ _), Nat.le_refl _, by
      show hU h + 7 + _ ≤ _
      omega⟩
    simp (disch := first | assumption | omega | decide) only [gB, I_all, zK_v, zK_n, true_and, and_true, Nat.reduceAdd, Nat.reduceMul, Nat.reduceSub, z_lt, z_le, z_neq, not_false_eq_true, or_true, true_or, or_false, false_or, false_and, and_false, gX8_expect, gX9_init, ks, k1, v131, v139, hK_W]
    exact q1
end
