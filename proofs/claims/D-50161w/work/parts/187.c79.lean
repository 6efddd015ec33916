/-! the parser: the next token -/
section
variable {κ : zC} {h h' h'' : zH} {z tx v i b n kl arr j : Nat} {l tp : List Int32} {x nu : Int32} {k w : Value} {Q : zQ}
theorem e8_next (W : PW κ h z kl arr) (P : PP κ h z tx v tp i b nu k)
    (hq : ∀ h' nu', PP κ h' z tx v tp (tkE tp i) (tkB tp i) nu' (kS κ (kdS (tkK tp i))) → (tkK tp i = 3 → nu' = tkV tp i) → PW κ h' z kl arr → Fz z h h' → hN h' ≤ hN h + 2 → hU h' + tkB tp i ≤ hU h + 4 + tkE tp i → Q (.inl none) h') : Ev κ mX8_next [.ref z] h Q := by
  have bT : boI true = Int32.ofNat 1 := rfl
  have bF : boI false = Int32.ofNat 0 := rfl
  obtain ⟨rr, hrr, -⟩ := W.2.2.2.2.2
  have r20 := hrr 20 (by decide) (by decide)
  have r21 := hrr 21 (by decide) (by decide)
  have r22 := hrr 22 (by decide) (by decide)
  have r23 := hrr 23 (by decide) (by decide)
  have r24 := hrr 24 (by decide) (by decide)
  have r25 := hrr 25 (by decide) (by decide)
  have len := P.2.1.2.1.2.2.2.2
  have Bl : tkB tp i ≤ tp.length := tkB_le P.2.2.2.2.2.2.1
  have bi := P.2.2.2.2.2.2.2
  have hE : tkE tp i = tkB tp i + (tkT tp (tkB tp i)).2 := rfl
  have hK0 : tkK tp i = (tkT tp (tkB tp i)).1 := rfl
  have hVe : tkV tp i = nmF (tp.drop (tkB tp i)) (tkE tp i - tkB tp i) := rfl
  rw [hVe, hE, hK0, Nat.add_sub_cancel_left] at hq
  have ws := next_ws (κ := κ) (Q := Q) (h := h) (z := z) (tx := tx) (v := v) (tp := tp) (i := i) (b := b) (nu := nu) (k := k) (fun h1 P1 f1 n1 u1 => ?_) _ i h rfl rfl W P Fz.rfl rfl rfl
  · simp (disch := first | assumption | omega | decide) only [gB, I_all, zK_v, zK_n, true_and, and_true, Nat.reduceAdd, Nat.reduceMul, Nat.reduceSub, z_lt, z_le, z_neq, not_false_eq_true, or_true, true_or, or_false, false_or, false_and, and_false, gX8_next_1, gX8_next_2]
    exact ws
  · have p1 := P1.1.1
    have p2 := P1.1.2.1
    have W1 := W.fz f1 P.1.1 P.1.2.2 P.1.2.1
    have P2 := P1.w131
    have F2 : Fz z h1 (hW h1 z 131 (.int (Int32.ofNat (i + run isW (tp.drop i))))) := Fz.wr (by decide)
    have W2 := W1.fz F2 p1 P1.1.2.2 p2
    have v130 := P1.2.2.1
    have f2 := f1.trans F2
    have n2 : hN (hW h1 z 131 (.int (Int32.ofNat (i + run isW (tp.drop i))))) = hN h := n1
    have u2 : hU (hW h1 z 131 (.int (Int32.ofNat (i + run isW (tp.drop i))))) = hU h := u1
    have eB : i + run isW (tp.drop i) = tkB tp i := rfl
    rw [eB] at v130 P2 F2 W2 f2 n2 u2
    generalize hH : hW h1 z 131 (.int (Int32.ofNat (tkB tp i))) = H at *
    generalize tkB tp i = B at *
    have q130 := P2.2.2.1
    have q129 := P2.2.1.1
    have q1 := P2.1.1
    have zH := P2.1.2.2
    have el := fun (Q : zQ) => eS_length (Q := Q) W2.1.1 P2.2.1.2.1
    have ks := P2.2.1.2.1.1
    -- from begin on
    have go : Go κ mX8_next 43 [some (.ref z)] [] H Q := by
      by_cases c : B < tp.length
      · have hx : tp[B]? = some tp[B] := List.getElem?_eq_getElem c
        have ne : ¬ B = tp.length := by omega
        have nI : ¬ Int32.ofNat B = Int32.ofNat tp.length := fun z => ne (by
          have e1 := I_toInt (n := B) (by omega)
          have e2 := I_toInt (n := tp.length) (by omega)
          rw [z, e2] at e1
          omega)
        generalize tp[B] = x at *
        have e1 := fun (Q : zQ) => e8_isHere (Q := Q) W2.1 P2 (a := 97) (c := 122) (by decide) (by decide)
        rw [herB_L, hx] at e1
        dsimp only at e1
        have to67 : Go κ mX8_next 67 [some (.ref z)] [] H Q → Go κ mX8_next 43 [some (.ref z)] [] H Q := fun q => by
          rcases ks with kk | kk
          · simp (disch := first | assumption | omega | decide) only [gB, I_all, zK_v, zK_n, true_and, and_true, Nat.reduceAdd, Nat.reduceMul, Nat.reduceSub, z_lt, z_le, z_neq, not_false_eq_true, or_true, true_or, or_false, false_or, false_and, and_false, gX8_next_1, gX8_next_2, q1, q130, q129, kk, el]
            simp (disch := first | assumption | omega | decide) only [gB, I_all, zK_v, zK_n, true_and, and_true, Nat.reduceAdd, Nat.reduceMul, Nat.reduceSub, z_lt, z_le, z_neq, not_false_eq_true, or_true, true_or, or_false, false_or, false_and, and_false, gX8_next_1, gX8_next_2, q1] at q
            exact q
          · simp (disch := first | assumption | omega | decide) only [gB, I_all, zK_v, zK_n, true_and, and_true, Nat.reduceAdd, Nat.reduceMul, Nat.reduceSub, z_lt, z_le, z_neq, not_false_eq_true, or_true, true_or, or_false, false_or, false_and, and_false, gX8_next_1, gX8_next_2, q1, q130, q129, kk, el]
            simp (disch := first | assumption | omega | decide) only [gB, I_all, zK_v, zK_n, true_and, and_true, Nat.reduceAdd, Nat.reduceMul, Nat.reduceSub, z_lt, z_le, z_neq, not_false_eq_true, or_true, true_or, or_false, false_or, false_and, and_false, gX8_next_1, gX8_next_2, q1] at q
            exact q
        refine to67 ?_
        cases cL : isL x with
        | true =>
          have hT : tkT tp B = (if isKy (tp.drop B) (run isL (tp.drop B)) = true then 2 else if run isL (tp.drop B) < 7 then 1 else 5, run isL (tp.drop B)) := by
            unfold tkT
            rw [hx]
            dsimp only
            rw [if_pos cL]
          rw [hT] at hq
          dsimp only at hq
          rw [cL, bT] at e1
          have lt := next_lt (κ := κ) (Q := Q) (h := H) (z := z) (tx := tx) (v := v) (tp := tp) (i := B) (b := B) (nu := nu) (k := k) (fun h3 P3 f3 n3 u3 => ?_) _ B H rfl rfl W2 P2 Fz.rfl rfl rfl
          · simp (disch := first | assumption | omega | decide) only [gB, I_all, zK_v, zK_n, true_and, and_true, Nat.reduceAdd, Nat.reduceMul, Nat.reduceSub, z_lt, z_le, z_neq, not_false_eq_true, or_true, true_or, or_false, false_or, false_and, and_false, gX8_next_1, gX8_next_2, q1, e1]
            exact lt
          · have aL : allL (tp.drop B) (run isL (tp.drop B)) := fun k hk => run_lt hk
            have W3 := W2.fz f3 q1 P2.1.2.2 P2.1.2.1
            have ek := kwB_ky aL
            have rl := run_le isL (tp.drop B)
            rw [List.length_drop] at rl
            generalize run isL (tp.drop B) = R at *
            have k1 := P3.1.1
            have k2 := P3.1.2.1
            have g128 := W3.2.2.1
            have kl1 := W3.2.1.1
            have wk : Ev κ mX8_word [.ref z] h3 (zK κ mX8_next 108 3 [some (.ref z)] [.ref kl, .ref z] Q) := by
              refine e8_word W3 P3 fun h4 s vs S4 s1 s2 g4 n4 n5 u4 => ?_
              have W4 := W3.fz (Fz.of g4 n4) k1 P3.1.2.2 k2
              have P4 := P3.ext g4 n4
              have sl : subL tp B (B + R) = (tp.drop B).take R := by
                unfold subL
                rw [Nat.add_sub_cancel_left]
              rw [sl] at S4
              have ct := fun (Q : zQ) => e28_contains (κ := κ) (Q := Q) W4.1 W4.2.1 S4
              rw [ek] at ct
              have m1 := P4.1.1
              have m2 := P4.1.2.1
              have kl4 := W4.2.1.1
              have m130 := P4.2.2.1
              have m131 := P4.2.2.2.1
              have es : Int32.ofNat (B + R) - Int32.ofNat B = Int32.ofNat R := by
                rw [I_sub (by omega)]
                congr 1
                omega
              have fin := fun (y : Value) => hq (hW h4 z 133 y) nu
              have F4 : ∀ y, Fz z h4 (hW h4 z 133 y) := fun y => Fz.wr (by decide)
              have ff : ∀ y, Fz z h (hW h4 z 133 y) := fun y => f2.trans (f3.trans ((Fz.of g4 n4).trans (F4 y)))
              have un : hU h4 + B ≤ hU h + 4 + (B + R) := by omega
              cases cK : isKy (tp.drop B) R with
              | true =>
                rw [cK, bT] at ct
                rw [if_pos cK] at fin
                have q2 := fin (kS κ 21) (P4.w133 _) (fun z => by cases z) (W4.fz (F4 _) m1 P4.1.2.2 m2) (ff _) (by show hN h4 ≤ _; omega) un
                rw [r21] at q2
                simp (disch := first | assumption | omega | decide) only [gB, I_all, zK_v, zK_n, true_and, and_true, Nat.reduceAdd, Nat.reduceMul, Nat.reduceSub, z_lt, z_le, z_neq, not_false_eq_true, or_true, true_or, or_false, false_or, false_and, and_false, gX8_next_1, gX8_next_2, kl4, ct, m1, r21]
                exact q2
              | false =>
                rw [cK, bF] at ct
                rw [if_neg (by rw [cK]; decide)] at fin
                by_cases c7 : R < 7
                · rw [if_pos c7] at fin
                  have q2 := fin (kS κ 23) (P4.w133 _) (fun z => by cases z) (W4.fz (F4 _) m1 P4.1.2.2 m2) (ff _) (by show hN h4 ≤ _; omega) un
                  rw [r23] at q2
                  simp (disch := first | assumption | omega | decide) only [gB, I_all, zK_v, zK_n, true_and, and_true, Nat.reduceAdd, Nat.reduceMul, Nat.reduceSub, z_lt, z_le, z_neq, not_false_eq_true, or_true, true_or, or_false, false_or, false_and, and_false, gX8_next_1, gX8_next_2, kl4, ct, m1, m130, m131, es, r23]
                  exact q2
                · rw [if_neg c7] at fin
                  have q2 := fin (kS κ 22) (P4.w133 _) (fun z => by cases z) (W4.fz (F4 _) m1 P4.1.2.2 m2) (ff _) (by show hN h4 ≤ _; omega) un
                  rw [r22] at q2
                  simp (disch := first | assumption | omega | decide) only [gB, I_all, zK_v, zK_n, true_and, and_true, Nat.reduceAdd, Nat.reduceMul, Nat.reduceSub, z_lt, z_le, z_neq, not_false_eq_true, or_true, true_or, or_false, false_or, false_and, and_false, gX8_next_1, gX8_next_2, kl4, ct, m1, m130, m131, es, r22]
                  exact q2
            simp (disch := first | assumption | omega | decide) only [gB, I_all, zK_v, zK_n, true_and, and_true, Nat.reduceAdd, Nat.reduceMul, Nat.reduceSub, z_lt, z_le, z_neq, not_false_eq_true, or_true, true_or, or_false, false_or, false_and, and_false, gX8_next_1, gX8_next_2, k1, g128]
            exact wk
        | false =>
          rw [cL, bF] at e1
          have e2 := fun (Q : zQ) => e8_isHere (Q := Q) W2.1 P2 (a := 48) (c := 57) (by decide) (by decide)
          rw [herB_D, hx] at e2
          dsimp only at e2
          have nL : ¬ isL x = true := by rw [cL]; decide
          cases cD : isD x with
          | true =>
            have hT : tkT tp B = (if run isD (tp.drop B) < 5 then 3 else 5, run isD (tp.drop B)) := by
              unfold tkT
              rw [hx]
              dsimp only
              rw [if_neg nL, if_pos cD]
            rw [hT] at hq
            dsimp only at hq
            rw [cD, bT] at e2
            have dg : Ev κ mX8_digits [.ref z] H (zK κ mX8_next 167 3 [some (.ref z)] [.ref z] Q) := by
              refine e8_digits W2 P2 fun h3 P3 f3 n3 u3 => ?_
              have W3 := W2.fz f3 q1 P2.1.2.2 P2.1.2.1
              have k1 := P3.1.1
              have k2 := P3.1.2.1
              have F4 : ∀ y, Fz z h3 (hW h3 z 133 y) := fun y => Fz.wr (by decide)
              have ff : ∀ y, Fz z h (hW h3 z 133 y) := fun y => f2.trans (f3.trans (F4 y))
              have fin := fun (y : Value) => hq (hW h3 z 133 y) (nmF (tp.drop B) (run isD (tp.drop B)))
              generalize run isD (tp.drop B) = R at *
              by_cases c5 : R < 5
              · rw [if_pos c5] at fin ⊢
                have q2 := fin (kS κ 24) (P3.w133 _) (fun _ => rfl) (W3.fz (F4 _) k1 P3.1.2.2 k2) (ff _) (by show hN h3 ≤ _; omega) (by show hU h3 + B ≤ _; omega)
                rw [r24] at q2 ⊢
                simp (disch := first | assumption | omega | decide) only [gB, I_all, zK_v, zK_n, true_and, and_true, Nat.reduceAdd, Nat.reduceMul, Nat.reduceSub, z_lt, z_le, z_neq, not_false_eq_true, or_true, true_or, or_false, false_or, false_and, and_false, gX8_next_1, gX8_next_2, k1]
                exact q2
              · rw [if_neg c5] at fin ⊢
                have q2 := fin (kS κ 22) (P3.w133 _) (fun _ => rfl) (W3.fz (F4 _) k1 P3.1.2.2 k2) (ff _) (by show hN h3 ≤ _; omega) (by show hU h3 + B ≤ _; omega)
                rw [r22] at q2 ⊢
                simp (disch := first | assumption | omega | decide) only [gB, I_all, zK_v, zK_n, true_and, and_true, Nat.reduceAdd, Nat.reduceMul, Nat.reduceSub, z_lt, z_le, z_neq, not_false_eq_true, or_true, true_or, or_false, false_or, false_and, and_false, gX8_next_1, gX8_next_2, k1]
                exact q2
            simp (disch := first | assumption | omega | decide) only [gB, I_all, zK_v, zK_n, true_and, and_true, Nat.reduceAdd, Nat.reduceMul, Nat.reduceSub, z_lt, z_le, z_neq, not_false_eq_true, or_true, true_or, or_false, false_or, false_and, and_false, gX8_next_1, gX8_next_2, q1, e1, e2]
            exact dg
          | false =>
            rw [cD, bF] at e2
            have nD : ¬ isD x = true := by rw [cD]; decide
            have hT : tkT tp B = (if x = Int32.ofNat 59 then 4 else 5, 1) := by
              unfold tkT
              rw [hx]
              dsimp only
              rw [if_neg nL, if_neg nD]
            rw [hT] at hq
            dsimp only at hq
            have e3 := fun (Q : zQ) => e8_isHere (Q := Q) W2.1 P2 (a := 59) (c := 59) (by decide) (by decide)
            rw [herB_one (by decide), hx] at e3
            dsimp only at e3
            have P3 := fun y => (P2.w133 y).w130 (j := B + 1) (by omega) (by omega)
            have F4 : ∀ y, Fz z H (hW (hW H z 133 y) z 130 (.int (Int32.ofNat (B + 1)))) := fun y => (Fz.wr (by decide)).trans (Fz.wr (by decide))
            have fin := fun (y : Value) => hq (hW (hW H z 133 y) z 130 (.int (Int32.ofNat (B + 1)))) nu
            have k2 := P2.1.2.1
            have v1 : ∀ y, hV (hW H z 133 y) z 130 = .int (Int32.ofNat B) := fun y => (hV_Wj (by decide)).trans q130
            by_cases c59 : x = Int32.ofNat 59
            · rw [decide_eq_true c59, bT] at e3
              rw [if_pos c59] at fin
              have q2 := fin (kS κ 25) (P3 _) (fun z => by cases z) (W2.fz (F4 _) q1 P2.1.2.2 k2) (f2.trans (F4 _)) (by show hN H ≤ _; omega) (by show hU H + B ≤ _; omega)
              rw [r25] at q2
              simp (disch := first | assumption | omega | decide) only [gB, I_all, zK_v, zK_n, true_and, and_true, Nat.reduceAdd, Nat.reduceMul, Nat.reduceSub, z_lt, z_le, z_neq, not_false_eq_true, or_true, true_or, or_false, false_or, false_and, and_false, gX8_next_1, gX8_next_2, q1, e1, e2, e3, r25, hK_W, v1, I_add]
              exact q2
            · rw [decide_eq_false c59, bF] at e3
              rw [if_neg c59] at fin
              have q2 := fin (kS κ 22) (P3 _) (fun z => by cases z) (W2.fz (F4 _) q1 P2.1.2.2 k2) (f2.trans (F4 _)) (by show hN H ≤ _; omega) (by show hU H + B ≤ _; omega)
              rw [r22] at q2
              simp (disch := first | assumption | omega | decide) only [gB, I_all, zK_v, zK_n, true_and, and_true, Nat.reduceAdd, Nat.reduceMul, Nat.reduceSub, z_lt, z_le, z_neq, not_false_eq_true, or_true, true_or, or_false, false_or, false_and, and_false, gX8_next_1, gX8_next_2, q1, e1, e2, e3, r22, hK_W, v1, I_add]
              exact q2
      · have eq : B = tp.length := by omega
        have hx : tp[B]? = none := List.getElem?_eq_none (by omega)
        have hT : tkT tp B = (0, 0) := by
          unfold tkT
          rw [hx]
        rw [hT] at hq
        dsimp only at hq
        have F4 : ∀ y, Fz z H (hW H z 133 y) := fun y => Fz.wr (by decide)
        have q2 := hq (hW H z 133 (kS κ 20)) nu (P2.w133 _) (fun z => by cases z) (W2.fz (F4 _) q1 P2.1.2.2 P2.1.2.1) (f2.trans (F4 _)) (by show hN H ≤ _; omega) (by show hU H + B ≤ _; omega)
        have k2 := P2.1.2.1
        rw [r20] at q2
        rw [eq] at q130
        rcases ks with kk | kk
        · simp (disch := first | assumption | omega | decide) only [gB, I_all, zK_v, zK_n, true_and, and_true, Nat.reduceAdd, Nat.reduceMul, Nat.reduceSub, z_lt, z_le, z_neq, not_false_eq_true, or_true, true_or, or_false, false_or, false_and, and_false, gX8_next_1, gX8_next_2, q1, q130, q129, kk, el, r20]
          exact q2
        · simp (disch := first | assumption | omega | decide) only [gB, I_all, zK_v, zK_n, true_and, and_true, Nat.reduceAdd, Nat.reduceMul, Nat.reduceSub, z_lt, z_le, z_neq, not_false_eq_true, or_true, true_or, or_false, false_or, false_and, and_false, gX8_next_1, gX8_next_2, q1, q130, q129, kk, el, r20]
          exact q2
    simp (disch := first | assumption | omega | decide) only [gB, I_all, zK_v, zK_n, true_and, and_true, Nat.reduceAdd, Nat.reduceMul, Nat.reduceSub, z_lt, z_le, z_neq, not_false_eq_true, or_true, true_or, or_false, false_or, false_and, and_false, gX8_next_1, gX8_next_2, q1] at go
    simp (disch := first | assumption | omega | decide) only [gB, I_all, zK_v, zK_n, true_and, and_true, Nat.reduceAdd, Nat.reduceMul, Nat.reduceSub, z_lt, z_le, z_neq, not_false_eq_true, or_true, true_or, or_false, false_or, false_and, and_false, gX8_next_1, gX8_next_2, p1, v130, hH, q1]
    exact go
end
