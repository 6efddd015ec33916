/-! the twin: tokens, checks -/
section
variable {κ : zC} {h : zH} {b : Nat} {W : Nat → Nat → Int32} {SM : Nat → Nat → Int64} {Q : zQ}
theorem e7_nextInt {tp : List Int32} {i : Nat} (S : TSh κ h b) (TP : TTp W tp) (e4 : W 0 104 = Int32.ofNat i) (e5 : W 0 105 = Int32.ofNat i) (hi : i ≤ tp.length)
    (hq : ∀ W', PzU W W' SM SM → W' 0 104 = Int32.ofNat (i + run isD (tp.drop i)) → W' 0 105 = Int32.ofNat i → W' 0 106 = Int32.ofNat (if run isD (tp.drop i) < 5 then 3 else 5) → W' 0 108 = nmF (tp.drop i) (run isD (tp.drop i)) → Q (.inl none) (hX h b 33 W' SM)) :
    Ev κ mX7_nextInt [.ref b] (hX h b 33 W SM) Q := by
  have F := xF S
  have R := xR S
  have K := xK S
  have hB : kB κ ≤ b := S.1.1
  have hn := TP.1
  have hr := run_le isD (tp.drop i)
  rw [List.length_drop] at hr
  generalize hg : tp.drop i = g at *
  generalize hrr : run isD g = r at *
  have gat : ∀ j, g[j]? = tp[i + j]? := fun j => by rw [← hg]; exact dr_at tp i j
  have lp : ∀ (d j : Nat), j + d = r → Go κ mX7_nextInt 5 [some (.ref b)] [] (hX h b 33 (pnW W (nmF g j) (Int32.ofNat (i + j))) SM) Q := by
    intro d
    induction d with
    | zero =>
      intro j hj
      have hj' : j = r := by omega
      subst hj'
      have TP' : TTp (pnW W (nmF g j) (Int32.ofNat (i + j))) tp := TP.cg (by unfold pnW; rw [if_neg (by omega), if_neg (by omega)]) (fun j => by unfold pnW; rw [if_neg (by omega), if_neg (by omega)])
      have p4 : pnW W (nmF g j) (Int32.ofNat (i + j)) 0 104 = Int32.ofNat (i + j) := if_pos ⟨rfl, rfl⟩
      have p5 : pnW W (nmF g j) (Int32.ofNat (i + j)) 0 105 = Int32.ofNat i := by unfold pnW; rw [if_neg (by omega), if_neg (by omega)]; exact e5
      have p8 : pnW W (nmF g j) (Int32.ofNat (i + j)) 0 108 = nmF g j := by unfold pnW; rw [if_neg (by omega), if_pos ⟨rfl, rfl⟩]
      have eb := fun (Q : zQ) => e7_isByte (κ := κ) (SM := SM) (Q := Q) (lo := Int32.ofNat 48) (hi := Int32.ofNat 57) S TP' p4 (by omega)
      have nb : inB tp (i + j) (Int32.ofNat 48) (Int32.ofNat 57) = false := by
        rw [inB_D, ← gat]
        split
        · rfl
        · next x hx =>
          rw [← hrr] at hx
          exact run_end hx
      rw [nb, show boI false = Int32.ofNat 0 from rfl] at eb
      have es : i + j - i = j := by omega
      have fin : ∀ k, k = (if j < 5 then 3 else 5) → Q (.inl none) (hX h b 33 (zv (pnW W (nmF g j) (Int32.ofNat (i + j))) 0 106 (Int32.ofNat k)) SM) := by
        intro k hk
        subst hk
        refine hq _ ⟨fun k' j' h1 => ?_, fun k' j' h1 => rfl⟩ ?_ ?_ ?_ ?_
        · unfold rdC at h1
          rw [zv_nx (by omega)]
          unfold pnW
          rw [if_neg (by omega), if_neg (by omega)]
        · rw [zv_nx (by omega)]; exact p4
        · rw [zv_nx (by omega)]; exact p5
        · rw [zv_at rfl rfl]
        · rw [zv_nx (by omega)]; exact p8
      by_cases c5 : j < 5
      · have f := fin 3 (by rw [if_pos c5])
        simp (disch := first | assumption | omega | decide) only [gB, I_all, zK_v, zK_n, true_and, and_true, Nat.reduceAdd, Nat.reduceMul, Nat.reduceSub, z_lt, z_le, z_neq, not_false_eq_true, or_true, true_or, or_false, false_or, false_and, and_false, gX7_nextInt, F, R, K, gX7_nextInt_h, eb, p4, p5, p8, I_sub, es]
        exact f
      · have f := fin 5 (by rw [if_neg c5])
        simp (disch := first | assumption | omega | decide) only [gB, I_all, zK_v, zK_n, true_and, and_true, Nat.reduceAdd, Nat.reduceMul, Nat.reduceSub, z_lt, z_le, z_neq, not_false_eq_true, or_true, true_or, or_false, false_or, false_and, and_false, gX7_nextInt, F, R, K, gX7_nextInt_h, eb, p4, p5, p8, I_sub, es]
        exact f
    | succ d ih =>
      intro j hj
      have ih' := ih (j + 1) (by omega)
      obtain ⟨x, x1, x2⟩ := run_lt (p := isD) (l := g) (j := j) (by omega)
      have x1' : tp[i + j]? = some x := by rw [← gat]; exact x1
      have hl := (List.getElem?_eq_some_iff.mp x1').1
      have TP' : TTp (pnW W (nmF g j) (Int32.ofNat (i + j))) tp := TP.cg (by unfold pnW; rw [if_neg (by omega), if_neg (by omega)]) (fun j => by unfold pnW; rw [if_neg (by omega), if_neg (by omega)])
      have p4 : pnW W (nmF g j) (Int32.ofNat (i + j)) 0 104 = Int32.ofNat (i + j) := if_pos ⟨rfl, rfl⟩
      have p5 : pnW W (nmF g j) (Int32.ofNat (i + j)) 0 105 = Int32.ofNat i := by unfold pnW; rw [if_neg (by omega), if_neg (by omega)]; exact e5
      have p8 : pnW W (nmF g j) (Int32.ofNat (i + j)) 0 108 = nmF g j := by unfold pnW; rw [if_neg (by omega), if_pos ⟨rfl, rfl⟩]
      have px : pnW W (nmF g j) (Int32.ofNat (i + j)) 1 (i + j) = x := TP'.2.2 _ _ x1'
      have eb := fun (Q : zQ) => e7_isByte (κ := κ) (SM := SM) (Q := Q) (lo := Int32.ofNat 48) (hi := Int32.ofNat 57) S TP' p4 (by omega)
      have nb : inB tp (i + j) (Int32.ofNat 48) (Int32.ofNat 57) = true := by
        rw [inB_D, x1']
        exact x2
      rw [nb, show boI true = Int32.ofNat 1 from rfl] at eb
      have es : i + j - i = j := by omega
      have eN : nmF g (j + 1) = if j < 4 then Int32.ofNat 10 * nmF g j + x - Int32.ofNat 48 else nmF g j := by
        conv => lhs; unfold nmF
        rw [x1]; rfl
      rw [eN, show i + (j + 1) = i + j + 1 by omega] at ih'
      by_cases c4 : j < 4
      · rw [if_pos c4] at ih'
        simp (disch := first | assumption | omega | decide) only [gB, I_all, zK_v, zK_n, true_and, and_true, Nat.reduceAdd, Nat.reduceMul, Nat.reduceSub, z_lt, z_le, z_neq, not_false_eq_true, or_true, true_or, or_false, false_or, false_and, and_false, gX7_nextInt_h]
        simp (disch := first | assumption | omega | decide) only [gB, I_all, zK_v, zK_n, true_and, and_true, Nat.reduceAdd, Nat.reduceMul, Nat.reduceSub, z_lt, z_le, z_neq, not_false_eq_true, or_true, true_or, or_false, false_or, false_and, and_false, gX7_nextInt, F, R, K, eb, p4, p5, p8, px, I_sub, es, zv_nx, pnW_up]
        exact ih'
      · rw [if_neg c4] at ih'
        simp (disch := first | assumption | omega | decide) only [gB, I_all, zK_v, zK_n, true_and, and_true, Nat.reduceAdd, Nat.reduceMul, Nat.reduceSub, z_lt, z_le, z_neq, not_false_eq_true, or_true, true_or, or_false, false_or, false_and, and_false, gX7_nextInt_h]
        simp (disch := first | assumption | omega | decide) only [gB, I_all, zK_v, zK_n, true_and, and_true, Nat.reduceAdd, Nat.reduceMul, Nat.reduceSub, z_lt, z_le, z_neq, not_false_eq_true, or_true, true_or, or_false, false_or, false_and, and_false, gX7_nextInt, F, R, K, eb, p4, p5, p8, px, I_sub, es, zv_nx, pnW_up]
        exact ih'
  have := lp r 0 (by omega)
  have e0 : pnW W (nmF g 0) (Int32.ofNat (i + 0)) = zv W 0 108 (Int32.ofNat 0) := by
    funext k j
    unfold pnW zv
    by_cases h1 : k = 0 ∧ j = 104
    · rw [if_pos h1, if_neg (by omega), h1.1, h1.2, e4]; rfl
    · rw [if_neg h1]; rfl
  rw [e0] at this
  simp (disch := first | assumption | omega | decide) only [gB, I_all, zK_v, zK_n, true_and, and_true, Nat.reduceAdd, Nat.reduceMul, Nat.reduceSub, z_lt, z_le, z_neq, not_false_eq_true, or_true, true_or, or_false, false_or, false_and, and_false, gX7_nextInt, F, R, K]
  exact this
theorem e7_next {tp : List Int32} {i : Nat} (S : TSh κ h b) (TP : TTp W tp) (e4 : W 0 104 = Int32.ofNat i) (hi : i ≤ tp.length)
    (hq : ∀ W' SM', PzU W W' SM SM' → PzR W' SM' tp i → Q (.inl none) (hX h b 33 W' SM')) : Ev κ mX7_next [.ref b] (hX h b 33 W SM) Q := by
  have F := xF S
  have R := xR S
  have K := xK S
  have hB : kB κ ≤ b := S.1.1
  have hn := TP.1
  have hr := run_le isW (tp.drop i)
  rw [List.length_drop] at hr
  have hbe : i + run isW (tp.drop i) = tkB tp i := rfl
  have gat : ∀ j, (tp.drop i)[j]? = tp[i + j]? := fun j => dr_at tp i j
  -- from the token's begin on
  have go : ∀ W0, W0 = zv W 0 104 (Int32.ofNat (tkB tp i)) → Go κ mX7_next 0 [some (.ref b)] [] (hX h b 33 W0 SM) Q := by
    intro W0 hW0
    have hb := tkB_le hi
    have p4 : W0 0 104 = Int32.ofNat (tkB tp i) := by rw [hW0, zv_at rfl rfl]
    have TP0 : TTp W0 tp := TP.cg (by rw [hW0, zv_nx (by omega)]) (fun j => by rw [hW0, zv_nx (by omega)])
    have pn : W0 0 73 = Int32.ofNat tp.length := TP0.2.1
    have U0 : ∀ W' SM', PzU (zv W0 0 105 (Int32.ofNat (tkB tp i))) W' SM SM' → PzU W W' SM SM' := by
      intro W' SM' U
      refine ⟨fun k j hk => ?_, U.2⟩
      have hk' := hk
      unfold rdC at hk'
      rw [U.1 k j hk, zv_nx (by omega), hW0, zv_nx (by omega)]
    have TP1 : TTp (zv W0 0 105 (Int32.ofNat (tkB tp i))) tp := TP0.cg (zv_nx (by omega)) (fun j => zv_nx (by omega))
    have q4 : zv W0 0 105 (Int32.ofNat (tkB tp i)) 0 104 = Int32.ofNat (tkB tp i) := by rw [zv_nx (by omega)]; exact p4
    have q5 : zv W0 0 105 (Int32.ofNat (tkB tp i)) 0 105 = Int32.ofNat (tkB tp i) := zv_at rfl rfl
    by_cases cn : tkB tp i = tp.length
    · have eT : tkT tp (tkB tp i) = (0, 0) := by
        unfold tkT
        rw [List.getElem?_eq_none (by omega)]
      have f := hq (zv (zv W0 0 105 (Int32.ofNat (tkB tp i))) 0 106 (Int32.ofNat 0)) SM (U0 _ _ ⟨fun k j hk => zv_nx (by unfold rdC at hk; omega), fun _ _ _ => rfl⟩) (by
        have eE : tkE tp i = tkB tp i := by unfold tkE; rw [eT]; rfl
        have eK : tkK tp i = 0 := by unfold tkK; rw [eT]
        refine ⟨hi, ?_, ?_, ?_, ?_, ?_, ?_⟩
        · rw [zv_nx (by omega), q4, eE]
        · rw [zv_nx (by omega), q5]
        · rw [zv_at rfl rfl, eK]
        · rw [eK]; intro x; exact absurd x (by decide)
        · rw [eK]; intro x; exact absurd x (by decide)
        · rw [eK]; intro x; exact absurd x (by decide))
      rw [cn] at p4 f
      simp (disch := first | assumption | omega | decide) only [gB, I_all, zK_v, zK_n, true_and, and_true, Nat.reduceAdd, Nat.reduceMul, Nat.reduceSub, z_lt, z_le, z_neq, not_false_eq_true, or_true, true_or, or_false, false_or, false_and, and_false, gX7_next_h, gX7_next, F, R, K, p4, pn, zv_nx]
      exact f
    · have hlt : tkB tp i < tp.length := by omega
      have g1 : tp[tkB tp i]? = some tp[tkB tp i] := List.getElem?_eq_getElem hlt
      have px := TP0.2.2 _ _ g1
      have hns : isW (tp[tkB tp i]) = false := by
        have : (tp.drop i)[run isW (tp.drop i)]? = some tp[tkB tp i] := by rw [gat]; exact g1
        exact run_end this
      generalize tp[tkB tp i] = x at *
      have n32 : ¬ x = Int32.ofNat 32 := by
        intro e
        rw [e] at hns
        exact absurd hns (by decide)
      have n10 : ¬ x = Int32.ofNat 10 := by
        intro e
        rw [e] at hns
        exact absurd hns (by decide)
      have eb := fun (lo hi : Int32) (Q : zQ) => e7_isByte (κ := κ) (SM := SM) (Q := Q) (lo := lo) (hi := hi) S TP1 q4 hb
      have ebL := eb (Int32.ofNat 97) (Int32.ofNat 122)
      have ebD := eb (Int32.ofNat 48) (Int32.ofNat 57)
      rw [inB_L, g1] at ebL
      rw [inB_D, g1] at ebD
      dsimp only at ebL ebD
      have eT : tkT tp (tkB tp i) = if isL x = true then (if isKy (tp.drop (tkB tp i)) (run isL (tp.drop (tkB tp i))) = true then 2 else if run isL (tp.drop (tkB tp i)) < 7 then 1 else 5, run isL (tp.drop (tkB tp i)))
          else if isD x = true then (if run isD (tp.drop (tkB tp i)) < 5 then 3 else 5, run isD (tp.drop (tkB tp i))) else (if x = Int32.ofNat 59 then 4 else 5, 1) := by
        unfold tkT
        rw [g1]
      by_cases cL : isL x = true
      · rw [cL, show boI true = Int32.ofNat 1 from rfl] at ebL
        rw [if_pos cL] at eT
        simp (disch := first | assumption | omega | decide) only [gB, I_all, zK_v, zK_n, true_and, and_true, Nat.reduceAdd, Nat.reduceMul, Nat.reduceSub, z_lt, z_le, z_neq, not_false_eq_true, or_true, true_or, or_false, false_or, false_and, and_false, gX7_next_h, gX7_next, F, R, K, p4, pn, px, zv_nx, ebL]
        refine e7_nextWord S TP1 q4 q5 hb fun W' SM' U r4 r5 r6 r9 r7 => ?_
        simp (disch := first | assumption | omega | decide) only [gB, I_all, zK_v, zK_n, true_and, and_true, Nat.reduceAdd, Nat.reduceMul, Nat.reduceSub, z_lt, z_le, z_neq, not_false_eq_true, or_true, true_or, or_false, false_or, false_and, and_false, gX7_next]
        have eE : tkE tp i = tkB tp i + run isL (tp.drop (tkB tp i)) := by unfold tkE; rw [eT]
        have eK : tkK tp i = if isKy (tp.drop (tkB tp i)) (run isL (tp.drop (tkB tp i))) = true then 2 else if run isL (tp.drop (tkB tp i)) < 7 then 1 else 5 := by unfold tkK; rw [eT]
        refine hq _ _ (U0 _ _ U) ⟨hi, ?_, r5, ?_, ?_, ?_, ?_⟩
        · rw [r4, eE]
        · rw [r6, eK]
        · intro z
          rw [eK] at z
          split at z
          · cases z
          · split at z <;> cases z
        · intro _
          rw [r9, eE, Nat.add_sub_cancel_left]
        · intro _
          rw [r7, eE, Nat.add_sub_cancel_left]
      · rw [Bool.eq_false_iff.mpr cL, show boI false = Int32.ofNat 0 from rfl] at ebL
        rw [if_neg cL] at eT
        by_cases cD : isD x = true
        · rw [cD, show boI true = Int32.ofNat 1 from rfl] at ebD
          rw [if_pos cD] at eT
          simp (disch := first | assumption | omega | decide) only [gB, I_all, zK_v, zK_n, true_and, and_true, Nat.reduceAdd, Nat.reduceMul, Nat.reduceSub, z_lt, z_le, z_neq, not_false_eq_true, or_true, true_or, or_false, false_or, false_and, and_false, gX7_next_h, gX7_next, F, R, K, p4, pn, px, zv_nx, ebL, ebD]
          refine e7_nextInt S TP1 q4 q5 hb fun W' U r4 r5 r6 r8 => ?_
          simp (disch := first | assumption | omega | decide) only [gB, I_all, zK_v, zK_n, true_and, and_true, Nat.reduceAdd, Nat.reduceMul, Nat.reduceSub, z_lt, z_le, z_neq, not_false_eq_true, or_true, true_or, or_false, false_or, false_and, and_false, gX7_next]
          have eE : tkE tp i = tkB tp i + run isD (tp.drop (tkB tp i)) := by unfold tkE; rw [eT]
          have eK : tkK tp i = if run isD (tp.drop (tkB tp i)) < 5 then 3 else 5 := by unfold tkK; rw [eT]
          refine hq _ _ (U0 _ _ U) ⟨hi, ?_, r5, ?_, ?_, ?_, ?_⟩
          · rw [r4, eE]
          · rw [r6, eK]
          · intro _
            unfold tkV
            rw [r8, eE, Nat.add_sub_cancel_left]
          · intro z
            rw [eK] at z
            split at z <;> cases z
          · intro z
            rw [eK] at z
            split at z <;> cases z
        · rw [Bool.eq_false_iff.mpr cD, show boI false = Int32.ofNat 0 from rfl] at ebD
          rw [if_neg cD] at eT
          have fin : ∀ k, k = (if x = Int32.ofNat 59 then 4 else 5) → Q (.inl none) (hX h b 33 (zv (zv (zv W0 0 105 (Int32.ofNat (tkB tp i))) 0 106 (Int32.ofNat k)) 0 104 (Int32.ofNat (tkB tp i + 1))) SM) := by
            intro k hk
            have eE : tkE tp i = tkB tp i + 1 := by unfold tkE; rw [eT]
            have eK : tkK tp i = k := by unfold tkK; rw [eT, hk]
            have k45 : k = 4 ∨ k = 5 := by
              rw [hk]
              split
              · exact Or.inl rfl
              · exact Or.inr rfl
            refine hq _ SM (U0 _ _ ⟨fun k j hk => by unfold rdC at hk; rw [zv_nx (by omega), zv_nx (by omega)], fun _ _ _ => rfl⟩) ⟨hi, ?_, ?_, ?_, ?_, ?_, ?_⟩
            · rw [zv_at rfl rfl, eE]
            · rw [zv_nx (by omega), zv_nx (by omega), q5]
            · rw [zv_nx (by omega), zv_at rfl rfl, eK]
            · rw [eK]; intro z; omega
            · rw [eK]; intro z; omega
            · rw [eK]; intro z; omega
          by_cases c59 : x = Int32.ofNat 59
          · have f := fin 4 (by rw [if_pos c59])
            simp (disch := first | assumption | omega | decide) only [gB, I_all, zK_v, zK_n, true_and, and_true, Nat.reduceAdd, Nat.reduceMul, Nat.reduceSub, z_lt, z_le, z_neq, not_false_eq_true, or_true, true_or, or_false, false_or, false_and, and_false, gX7_next_h, gX7_next, F, R, K, p4, pn, px, zv_nx, ebL, ebD]
            exact f
          · have f := fin 5 (by rw [if_neg c59])
            simp (disch := first | assumption | omega | decide) only [gB, I_all, zK_v, zK_n, true_and, and_true, Nat.reduceAdd, Nat.reduceMul, Nat.reduceSub, z_lt, z_le, z_neq, not_false_eq_true, or_true, true_or, or_false, false_or, false_and, and_false, gX7_next_h, gX7_next, F, R, K, p4, pn, px, zv_nx, ebL, ebD]
            exact f
  have lp : ∀ d j, j + d = run isW (tp.drop i) → Go κ mX7_next 0 [some (.ref b)] [] (hX h b 33 (zv W 0 104 (Int32.ofNat (i + j))) SM) Q := by
    intro d
    induction d with
    | zero =>
      intro j hj
      exact go _ (by rw [← hbe, show j = run isW (tp.drop i) by omega])
    | succ d ih =>
      intro j hj
      have ih' := ih (j + 1) (by omega)
      obtain ⟨x, x1, x2⟩ := run_lt (p := isW) (l := tp.drop i) (j := j) (by omega)
      have x1' : tp[i + j]? = some x := by rw [← gat]; exact x1
      have hl := (List.getElem?_eq_some_iff.mp x1').1
      have p4 : zv W 0 104 (Int32.ofNat (i + j)) 0 104 = Int32.ofNat (i + j) := zv_at rfl rfl
      have pn : zv W 0 104 (Int32.ofNat (i + j)) 0 73 = Int32.ofNat tp.length := by rw [zv_nx (by omega)]; exact TP.2.1
      have px : zv W 0 104 (Int32.ofNat (i + j)) 1 (i + j) = x := by rw [zv_nx (by omega)]; exact TP.2.2 _ _ x1'
      have zz : ∀ v, zv (zv W 0 104 (Int32.ofNat (i + j))) 0 104 v = zv W 0 104 v := by
        intro v
        funext k' j'
        unfold zv
        by_cases h : k' = 0 ∧ j' = 104
        · rw [if_pos h, if_pos h]
        · rw [if_neg h, if_neg h, if_neg h]
      rw [show i + (j + 1) = i + j + 1 by omega] at ih'
      by_cases c : x = Int32.ofNat 32
      · simp (disch := first | assumption | omega | decide) only [gB, I_all, zK_v, zK_n, true_and, and_true, Nat.reduceAdd, Nat.reduceMul, Nat.reduceSub, z_lt, z_le, z_neq, not_false_eq_true, or_true, true_or, or_false, false_or, false_and, and_false, gX7_next_h]
        simp (disch := first | assumption | omega | decide) only [gB, I_all, zK_v, zK_n, true_and, and_true, Nat.reduceAdd, Nat.reduceMul, Nat.reduceSub, z_lt, z_le, z_neq, not_false_eq_true, or_true, true_or, or_false, false_or, false_and, and_false, gX7_next, F, R, K, p4, pn, px, zz]
        exact ih'
      · have c2 : x = Int32.ofNat 10 := by
          unfold isW at x2
          rw [decide_eq_false c, Bool.false_or] at x2
          exact of_decide_eq_true x2
        simp (disch := first | assumption | omega | decide) only [gB, I_all, zK_v, zK_n, true_and, and_true, Nat.reduceAdd, Nat.reduceMul, Nat.reduceSub, z_lt, z_le, z_neq, not_false_eq_true, or_true, true_or, or_false, false_or, false_and, and_false, gX7_next_h]
        simp (disch := first | assumption | omega | decide) only [gB, I_all, zK_v, zK_n, true_and, and_true, Nat.reduceAdd, Nat.reduceMul, Nat.reduceSub, z_lt, z_le, z_neq, not_false_eq_true, or_true, true_or, or_false, false_or, false_and, and_false, gX7_next, F, R, K, p4, pn, px, zz]
        exact ih'
  have := lp (run isW (tp.drop i)) 0 (by omega)
  have e0 : zv W 0 104 (Int32.ofNat (i + 0)) = W := by
    rw [Nat.add_zero, ← e4]
    exact zv_self
  rw [e0] at this
  simp (disch := first | assumption | omega | decide) only [gB, I_all, zK_v, zK_n, true_and, and_true, Nat.reduceAdd, Nat.reduceMul, Nat.reduceSub, z_lt, z_le, z_neq, not_false_eq_true, or_true, true_or, or_false, false_or, false_and, and_false, gX7_next]
  exact this
end
