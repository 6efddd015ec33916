/-! the twin: the next token -/
/-- token at b: its kind (0 end 1 name 2 keyword 3 number 4 sign 5 bad), its length -/
def isKy (g : List Int32) (r : Nat) : Bool := decide (r < 9) && isKeyW (wdP g r)
def tkT (tp : List Int32) (b : Nat) : Nat × Nat := match tp[b]? with
  | none => (0, 0)
  | some x =>
    if isL x = true then (if isKy (tp.drop b) (run isL (tp.drop b)) = true then 2 else if run isL (tp.drop b) < 7 then 1 else 5, run isL (tp.drop b))
    else if isD x = true then (if run isD (tp.drop b) < 5 then 3 else 5, run isD (tp.drop b))
    else (if x = Int32.ofNat 59 then 4 else 5, 1)
/-- scanned from i: where the token begins, ends; its kind, value, word -/
def tkB (tp : List Int32) (i : Nat) : Nat := i + run isW (tp.drop i)
def tkE (tp : List Int32) (i : Nat) : Nat := tkB tp i + (tkT tp (tkB tp i)).2
def tkK (tp : List Int32) (i : Nat) : Nat := (tkT tp (tkB tp i)).1
def tkV (tp : List Int32) (i : Nat) : Int32 := nmF (tp.drop (tkB tp i)) (tkE tp i - tkB tp i)
def tkW (tp : List Int32) (i : Nat) : List Int32 := (tp.drop (tkB tp i)).take (tkE tp i - tkB tp i)
theorem tkB_le {tp : List Int32} {i : Nat} (h : i ≤ tp.length) : tkB tp i ≤ tp.length := by
  have := run_le isW (tp.drop i)
  rw [List.length_drop] at this
  unfold tkB
  omega
theorem tkT_le {tp : List Int32} {b : Nat} (h : b ≤ tp.length) : b + (tkT tp b).2 ≤ tp.length := by
  unfold tkT
  split
  · simpa using h
  · next x hx =>
    have hl := (List.getElem?_eq_some_iff.mp hx).1
    have h1 := run_le isL (tp.drop b)
    have h2 := run_le isD (tp.drop b)
    rw [List.length_drop] at h1 h2
    split
    · dsimp only; omega
    · split <;> dsimp only <;> omega
theorem tkE_le {tp : List Int32} {i : Nat} (h : i ≤ tp.length) : tkE tp i ≤ tp.length := tkT_le (tkB_le h)
/-- what the twin's fields hold when a token has been read -/
def PzR (W : Nat → Nat → Int32) (SM : Nat → Nat → Int64) (tp : List Int32) (i : Nat) : Prop := i ≤ tp.length ∧ W 0 104 = Int32.ofNat (tkE tp i) ∧ W 0 105 = Int32.ofNat (tkB tp i) ∧ W 0 106 = Int32.ofNat (tkK tp i) ∧
  (tkK tp i = 3 → W 0 108 = tkV tp i) ∧ (tkK tp i = 1 → W 0 109 = ltF (tp.drop (tkB tp i)) (tkE tp i - tkB tp i)) ∧ (tkK tp i = 2 → SM 0 107 = wdP (tp.drop (tkB tp i)) (tkE tp i - tkB tp i))
/-- reading changes its own cells alone -/
def rdC (k j : Nat) : Prop := k = 0 ∧ 104 ≤ j ∧ j ≤ 109 ∧ j ≠ 107
def PzU (W W' : Nat → Nat → Int32) (SM SM' : Nat → Nat → Int64) : Prop := (∀ k j, ¬ rdC k j → W' k j = W k j) ∧ (∀ k j, ¬ (k = 0 ∧ j = 107) → SM' k j = SM k j)
theorem TTp.rd {W W' : Nat → Nat → Int32} {SM SM' : Nat → Nat → Int64} {tp : List Int32} (T : TTp W tp) (U : PzU W W' SM SM') : TTp W' tp := T.cg (U.1 _ _ (by unfold rdC; omega)) (fun j => U.1 _ _ (by unfold rdC; omega))
/-- letters read -/
def pwW (W : Nat → Nat → Int32) (l p : Int32) : Nat → Nat → Int32 := fun k j => if k = 0 ∧ j = 104 then p else if k = 0 ∧ j = 109 then l else W k j
theorem pwW_up (W : Nat → Nat → Int32) (l p l' p' : Int32) : zv (zv (pwW W l p) 0 109 l') 0 104 p' = pwW W l' p' := by
  funext k j
  unfold zv pwW
  by_cases h1 : k = 0 ∧ j = 104
  · rw [if_pos h1, if_pos h1]
  · simp only [if_neg h1]
    by_cases h2 : k = 0 ∧ j = 109
    · rw [if_pos h2, if_pos h2]
    · simp only [if_neg h2]
def pnW (W : Nat → Nat → Int32) (l p : Int32) : Nat → Nat → Int32 := fun k j => if k = 0 ∧ j = 104 then p else if k = 0 ∧ j = 108 then l else W k j
theorem pnW_up (W : Nat → Nat → Int32) (l p l' p' : Int32) : zv (zv (pnW W l p) 0 108 l') 0 104 p' = pnW W l' p' := by
  funext k j
  unfold zv pnW
  by_cases h1 : k = 0 ∧ j = 104
  · rw [if_pos h1, if_pos h1]
  · simp only [if_neg h1]
    by_cases h2 : k = 0 ∧ j = 108
    · rw [if_pos h2, if_pos h2]
    · simp only [if_neg h2]
theorem zv_sm (SM : Nat → Nat → Int64) (k j : Nat) (u v : Int64) : zv (zv SM k j u) k j v = zv SM k j v := by
  funext k' j'
  unfold zv
  by_cases h : k' = k ∧ j' = j
  · rw [if_pos h, if_pos h]
  · rw [if_neg h, if_neg h, if_neg h]
theorem inB_L (tp : List Int32) (i : Nat) : inB tp i (Int32.ofNat 97) (Int32.ofNat 122) = match tp[i]? with
    | none => false
    | some x => isL x := by
  unfold inB isL
  cases tp[i]? <;> rfl
theorem inB_D (tp : List Int32) (i : Nat) : inB tp i (Int32.ofNat 48) (Int32.ofNat 57) = match tp[i]? with
    | none => false
    | some x => isD x := by
  unfold inB isD
  cases tp[i]? <;> rfl
section
variable {κ : zC} {h : zH} {b : Nat} {W : Nat → Nat → Int32} {SM : Nat → Nat → Int64} {Q : zQ}
theorem e7_nextWord {tp : List Int32} {i : Nat} (S : TSh κ h b) (TP : TTp W tp) (e4 : W 0 104 = Int32.ofNat i) (e5 : W 0 105 = Int32.ofNat i) (hi : i ≤ tp.length)
    (hq : ∀ W' SM', PzU W W' SM SM' → W' 0 104 = Int32.ofNat (i + run isL (tp.drop i)) → W' 0 105 = Int32.ofNat i → W' 0 106 = Int32.ofNat (if isKy (tp.drop i) (run isL (tp.drop i)) = true then 2 else if run isL (tp.drop i) < 7 then 1 else 5) → W' 0 109 = ltF (tp.drop i) (run isL (tp.drop i)) → SM' 0 107 = wdP (tp.drop i) (run isL (tp.drop i)) → Q (.inl none) (hX h b 33 W' SM')) :
    Ev κ mX7_nextWord [.ref b] (hX h b 33 W SM) Q := by
  have F := xF S
  have R := xR S
  have K := xK S
  have hB : kB κ ≤ b := S.1.1
  have hn := TP.1
  have hr := run_le isL (tp.drop i)
  rw [List.length_drop] at hr
  generalize hg : tp.drop i = g at *
  generalize hrr : run isL g = r at *
  have gat : ∀ j, g[j]? = tp[i + j]? := fun j => by rw [← hg]; exact dr_at tp i j
  have lp : ∀ (d j : Nat) (a1 a2 : Option Value), j + d = r → Go κ mX7_nextWord 10 [some (.ref b), a1, a2] [] (hX h b 33 (pwW W (ltF g j) (Int32.ofNat (i + j))) (zv SM 0 107 (wdP g j))) Q := by
    intro d
    induction d with
    | zero =>
      intro j a1 a2 hj
      have hj' : j = r := by omega
      subst hj'
      have TP' : TTp (pwW W (ltF g j) (Int32.ofNat (i + j))) tp := TP.cg (by unfold pwW; rw [if_neg (by omega), if_neg (by omega)]) (fun j => by unfold pwW; rw [if_neg (by omega), if_neg (by omega)])
      have p4 : pwW W (ltF g j) (Int32.ofNat (i + j)) 0 104 = Int32.ofNat (i + j) := if_pos ⟨rfl, rfl⟩
      have p5 : pwW W (ltF g j) (Int32.ofNat (i + j)) 0 105 = Int32.ofNat i := by unfold pwW; rw [if_neg (by omega), if_neg (by omega)]; exact e5
      have p9 : pwW W (ltF g j) (Int32.ofNat (i + j)) 0 109 = ltF g j := by unfold pwW; rw [if_neg (by omega), if_pos ⟨rfl, rfl⟩]
      have eb := fun (Q : zQ) => e7_isByte (κ := κ) (SM := zv SM 0 107 (wdP g j)) (Q := Q) (lo := Int32.ofNat 97) (hi := Int32.ofNat 122) S TP' p4 (by omega)
      have nb : inB tp (i + j) (Int32.ofNat 97) (Int32.ofNat 122) = false := by
        rw [inB_L, ← gat]
        split
        · rfl
        · next x hx =>
          rw [← hrr] at hx
          exact run_end hx
      rw [nb, show boI false = Int32.ofNat 0 from rfl] at eb
      have ek := fun (h : zH) (Q : zQ) => e7_isKey (κ := κ) (h := h) (Q := Q) (w := wdP g j)
      have es : i + j - i = j := by omega
      have ez := fun v => (zv_at rfl rfl : zv SM 0 107 v 0 107 = v)
      have fin : ∀ k, k = (if isKy g j = true then 2 else if j < 7 then 1 else 5) → Q (.inl none) (hX h b 33 (zv (pwW W (ltF g j) (Int32.ofNat (i + j))) 0 106 (Int32.ofNat k)) (zv SM 0 107 (wdP g j))) := by
        intro k hk
        subst hk
        refine hq _ _ ⟨fun k' j' h1 => ?_, fun k' j' h1 => zv_nx h1⟩ ?_ ?_ ?_ ?_ (zv_at rfl rfl)
        · unfold rdC at h1
          rw [zv_nx (by omega)]
          unfold pwW
          rw [if_neg (by omega), if_neg (by omega)]
        · rw [zv_nx (by omega)]; exact p4
        · rw [zv_nx (by omega)]; exact p5
        · rw [zv_at rfl rfl]
        · rw [zv_nx (by omega)]; exact p9
      by_cases c9 : j < 9
      · by_cases ck : isKeyW (wdP g j) = true
        · have hk : boI (isKeyW (wdP g j)) = Int32.ofNat 1 := by rw [ck]; rfl
          rw [hk] at ek
          have f := fin 2 (by rw [if_pos]; unfold isKy; rw [decide_eq_true c9, ck]; rfl)
          simp (disch := first | assumption | omega | decide) only [gB, I_all, zK_v, zK_n, true_and, and_true, Nat.reduceAdd, Nat.reduceMul, Nat.reduceSub, z_lt, z_le, z_neq, not_false_eq_true, or_true, true_or, or_false, false_or, false_and, and_false, gX7_nextWord_1, gX7_nextWord_2, F, R, K, gX7_nextWord_h, eb, p4, p5, p9, I_sub, es, ez, ek]
          exact f
        · have hk : boI (isKeyW (wdP g j)) = Int32.ofNat 0 := by rw [Bool.eq_false_iff.mpr ck]; rfl
          rw [hk] at ek
          have nk : ¬ isKy g j = true := by unfold isKy; rw [decide_eq_true c9, Bool.eq_false_iff.mpr ck]; decide
          by_cases c7 : j < 7
          · have f := fin 1 (by rw [if_neg nk, if_pos c7])
            simp (disch := first | assumption | omega | decide) only [gB, I_all, zK_v, zK_n, true_and, and_true, Nat.reduceAdd, Nat.reduceMul, Nat.reduceSub, z_lt, z_le, z_neq, not_false_eq_true, or_true, true_or, or_false, false_or, false_and, and_false, gX7_nextWord_1, gX7_nextWord_2, F, R, K, gX7_nextWord_h, eb, p4, p5, p9, I_sub, es, ez, ek]
            exact f
          · have f := fin 5 (by rw [if_neg nk, if_neg c7])
            simp (disch := first | assumption | omega | decide) only [gB, I_all, zK_v, zK_n, true_and, and_true, Nat.reduceAdd, Nat.reduceMul, Nat.reduceSub, z_lt, z_le, z_neq, not_false_eq_true, or_true, true_or, or_false, false_or, false_and, and_false, gX7_nextWord_1, gX7_nextWord_2, F, R, K, gX7_nextWord_h, eb, p4, p5, p9, I_sub, es, ez, ek]
            exact f
      · have nk : ¬ isKy g j = true := by unfold isKy; rw [decide_eq_false c9]; simp
        have f := fin 5 (by rw [if_neg nk, if_neg (by omega)])
        simp (disch := first | assumption | omega | decide) only [gB, I_all, zK_v, zK_n, true_and, and_true, Nat.reduceAdd, Nat.reduceMul, Nat.reduceSub, z_lt, z_le, z_neq, not_false_eq_true, or_true, true_or, or_false, false_or, false_and, and_false, gX7_nextWord_1, gX7_nextWord_2, F, R, K, gX7_nextWord_h, eb, p4, p5, p9, I_sub, es]
        exact f
    | succ d ih =>
      intro j a1 a2 hj
      have ih' := fun a1 a2 => ih (j + 1) a1 a2 (by omega)
      obtain ⟨x, x1, x2⟩ := run_lt (p := isL) (l := g) (j := j) (by omega)
      have x1' : tp[i + j]? = some x := by rw [← gat]; exact x1
      have hl := (List.getElem?_eq_some_iff.mp x1').1
      have TP' : TTp (pwW W (ltF g j) (Int32.ofNat (i + j))) tp := TP.cg (by unfold pwW; rw [if_neg (by omega), if_neg (by omega)]) (fun j => by unfold pwW; rw [if_neg (by omega), if_neg (by omega)])
      have p4 : pwW W (ltF g j) (Int32.ofNat (i + j)) 0 104 = Int32.ofNat (i + j) := if_pos ⟨rfl, rfl⟩
      have p5 : pwW W (ltF g j) (Int32.ofNat (i + j)) 0 105 = Int32.ofNat i := by unfold pwW; rw [if_neg (by omega), if_neg (by omega)]; exact e5
      have p9 : pwW W (ltF g j) (Int32.ofNat (i + j)) 0 109 = ltF g j := by unfold pwW; rw [if_neg (by omega), if_pos ⟨rfl, rfl⟩]
      have px : pwW W (ltF g j) (Int32.ofNat (i + j)) 1 (i + j) = x := TP'.2.2 _ _ x1'
      have eb := fun (Q : zQ) => e7_isByte (κ := κ) (SM := zv SM 0 107 (wdP g j)) (Q := Q) (lo := Int32.ofNat 97) (hi := Int32.ofNat 122) S TP' p4 (by omega)
      have nb : inB tp (i + j) (Int32.ofNat 97) (Int32.ofNat 122) = true := by
        rw [inB_L, x1']
        exact x2
      rw [nb, show boI true = Int32.ofNat 1 from rfl] at eb
      have es : i + j - i = j := by omega
      have ez := fun v => (zv_at rfl rfl : zv SM 0 107 v 0 107 = v)
      have eL : ltF g (j + 1) = ltF g j ||| (if j < 6 then (x - Int32.ofNat 96) <<< (Int32.ofNat (25 - 5 * j) &&& 31) else Int32.ofNat 0) := by
        conv => lhs; unfold ltF
        rw [x1]; rfl
      have eW : wdP g (j + 1) = if j < 8 then Int64.ofNat 32 * wdP g j + (x - Int32.ofNat 96).toInt64 else Int64.ofNat 0 := by
        conv => lhs; unfold wdP
        rw [x1]; rfl
      rw [eL, eW, show i + (j + 1) = i + j + 1 by omega] at ih'
      by_cases c6 : j < 6
      · rw [if_pos c6, if_pos (by omega)] at ih'
        simp (disch := first | assumption | omega | decide) only [gB, I_all, zK_v, zK_n, true_and, and_true, Nat.reduceAdd, Nat.reduceMul, Nat.reduceSub, z_lt, z_le, z_neq, not_false_eq_true, or_true, true_or, or_false, false_or, false_and, and_false, gX7_nextWord_h]
        simp (disch := first | assumption | omega | decide) only [gB, I_all, zK_v, zK_n, true_and, and_true, Nat.reduceAdd, Nat.reduceMul, Nat.reduceSub, z_lt, z_le, z_neq, not_false_eq_true, or_true, true_or, or_false, false_or, false_and, and_false, gX7_nextWord_1, gX7_nextWord_2, F, R, K, eb, p4, p5, p9, px, I_sub, es, ez, zv_nx, pwW_up, zv_sm]
        exact ih' _ _
      · by_cases c8 : j < 8
        · rw [if_neg c6, if_pos c8] at ih'
          simp (disch := first | assumption | omega | decide) only [gB, I_all, zK_v, zK_n, true_and, and_true, Nat.reduceAdd, Nat.reduceMul, Nat.reduceSub, z_lt, z_le, z_neq, not_false_eq_true, or_true, true_or, or_false, false_or, false_and, and_false, gX7_nextWord_h]
          simp (disch := first | assumption | omega | decide) only [gB, I_all, zK_v, zK_n, true_and, and_true, Nat.reduceAdd, Nat.reduceMul, Nat.reduceSub, z_lt, z_le, z_neq, not_false_eq_true, or_true, true_or, or_false, false_or, false_and, and_false, gX7_nextWord_1, gX7_nextWord_2, F, R, K, eb, p4, p5, p9, px, I_sub, es, ez, zv_nx, pwW_up, zv_sm]
          exact ih' _ _
        · rw [if_neg c6, if_neg c8] at ih'
          simp (disch := first | assumption | omega | decide) only [gB, I_all, zK_v, zK_n, true_and, and_true, Nat.reduceAdd, Nat.reduceMul, Nat.reduceSub, z_lt, z_le, z_neq, not_false_eq_true, or_true, true_or, or_false, false_or, false_and, and_false, gX7_nextWord_h]
          simp (disch := first | assumption | omega | decide) only [gB, I_all, zK_v, zK_n, true_and, and_true, Nat.reduceAdd, Nat.reduceMul, Nat.reduceSub, z_lt, z_le, z_neq, not_false_eq_true, or_true, true_or, or_false, false_or, false_and, and_false, gX7_nextWord_1, gX7_nextWord_2, F, R, K, eb, p4, p5, p9, px, I_sub, es, ez, zv_nx, pwW_up, zv_sm]
          exact ih' _ _
  have := lp r 0 none none (by omega)
  have e0 : pwW W (ltF g 0) (Int32.ofNat (i + 0)) = zv W 0 109 (Int32.ofNat 0) := by
    funext k j
    unfold pwW zv
    by_cases h1 : k = 0 ∧ j = 104
    · rw [if_pos h1, if_neg (by omega), h1.1, h1.2, e4]; rfl
    · rw [if_neg h1]; rfl
  rw [e0, show wdP g 0 = Int64.ofNat 0 from rfl] at this
  simp (disch := first | assumption | omega | decide) only [gB, I_all, zK_v, zK_n, true_and, and_true, Nat.reduceAdd, Nat.reduceMul, Nat.reduceSub, z_lt, z_le, z_neq, not_false_eq_true, or_true, true_or, or_false, false_or, false_and, and_false, gX7_nextWord_1, gX7_nextWord_2, F, R, K]
  exact this
end
