/-! the twin: checks of tokens -/
def PzS (W : Nat → Nat → Int32) (SM : Nat → Nat → Int64) (tp : List Int32) (r : Except Nat Nat) : Prop := match r with
  | .ok i => PzR W SM tp i ∧ W 0 110 = Int32.ofNat 1 ∧ W 0 74 = Int32.ofInt (-2)
  | .error e => W 0 110 = Int32.ofNat 0 ∧ W 0 74 = Int32.ofNat e
def tkC (tp : List Int32) (c : Bool) (i : Nat) : Except Nat Nat := if c = true then .ok (tkE tp i) else .error (tkB tp i)
/-- cells of reading and of its failing -/
def rdD (k j : Nat) : Prop := k = 0 ∧ ((104 ≤ j ∧ j ≤ 110 ∧ j ≠ 107) ∨ j = 74)
def PzV (W W' : Nat → Nat → Int32) (SM SM' : Nat → Nat → Int64) : Prop := (∀ k j, ¬ rdD k j → W' k j = W k j) ∧ (∀ k j, ¬ (k = 0 ∧ j = 107) → SM' k j = SM k j)
theorem PzV.rfl {W : Nat → Nat → Int32} {SM : Nat → Nat → Int64} : PzV W W SM SM := ⟨fun _ _ _ => Eq.refl _, fun _ _ _ => Eq.refl _⟩
theorem PzV.trans {W W' W'' : Nat → Nat → Int32} {SM SM' SM'' : Nat → Nat → Int64} (h : PzV W W' SM SM') (g : PzV W' W'' SM' SM'') : PzV W W'' SM SM'' := ⟨fun k j hk => (g.1 k j hk).trans (h.1 k j hk), fun k j hk => (g.2 k j hk).trans (h.2 k j hk)⟩
theorem PzU.v {W W' : Nat → Nat → Int32} {SM SM' : Nat → Nat → Int64} (h : PzU W W' SM SM') : PzV W W' SM SM' := ⟨fun k j hk => h.1 k j (by unfold rdC; unfold rdD at hk; omega), h.2⟩
theorem TTp.rv {W W' : Nat → Nat → Int32} {SM SM' : Nat → Nat → Int64} {tp : List Int32} (T : TTp W tp) (U : PzV W W' SM SM') : TTp W' tp := T.cg (U.1 _ _ (by unfold rdD; omega)) (fun j => U.1 _ _ (by unfold rdD; omega))
def isK (tp : List Int32) (i j : Nat) : Bool := decide (tkK tp i = 2) && decide (wdP (tp.drop (tkB tp i)) (tkE tp i - tkB tp i) = kwC j)
def isWd (tp : List Int32) (r : Except Nat Nat) (j : Nat) : Bool := match r with
  | .ok i => isK tp i j
  | .error _ => false
def okN (tp : List Int32) (i l u : Nat) : Bool := decide (tkK tp i = 3) && decide (btw (tkV tp i) l u)
def nofC (tp : List Int32) (j l u i : Nat) : Except Nat Nat := (tkC tp (isK tp i j) i).bind fun i => tkC tp (okN tp i l u) i
theorem bd_ok {α β : Type} (f : α → Except Nat β) (i : α) : (Except.ok i : Except Nat α).bind f = f i := rfl
theorem bd_er {α β : Type} (f : α → Except Nat β) (e : Nat) : (Except.error e : Except Nat α).bind f = .error e := rfl
theorem isWd_ok (tp : List Int32) (i j : Nat) : isWd tp (.ok i) j = isK tp i j := rfl
theorem tkK_le (tp : List Int32) (i : Nat) : tkK tp i ≤ 5 := by
  unfold tkK tkT
  split
  · decide
  · split
    · dsimp only
      split
      · decide
      · split <;> decide
    · split
      · dsimp only
        split <;> decide
      · dsimp only
        split <;> decide
section
variable {κ : zC} {h : zH} {b : Nat} {W : Nat → Nat → Int32} {SM : Nat → Nat → Int64} {Q : zQ} {tp : List Int32}
theorem e7_takes {r : Except Nat Nat} {c : Bool} (S : TSh κ h b) (TP : TTp W tp) (P : PzS W SM tp r) (hq : ∀ W' SM', PzV W W' SM SM' → PzS W' SM' tp (r.bind (tkC tp c)) → Q (.inl none) (hX h b 33 W' SM')) : Ev κ mX7_takes [.ref b, .int (boI c)] (hX h b 33 W SM) Q := by
  have F := xF S
  have R := xR S
  have hB : kB κ ≤ b := S.1.1
  cases r with
  | error e =>
    obtain ⟨p1, p2⟩ := P
    have f := hq W SM PzV.rfl ⟨p1, p2⟩
    simp (disch := first | assumption | omega | decide) only [gB, I_all, zK_v, zK_n, true_and, and_true, Nat.reduceAdd, Nat.reduceMul, Nat.reduceSub, z_lt, z_le, z_neq, not_false_eq_true, or_true, true_or, or_false, false_or, false_and, and_false, gX7_takes, F, R, p1]
    exact f
  | ok i =>
    obtain ⟨p1, p2, p3⟩ := P
    cases c with
    | true =>
      have hp : boI true = Int32.ofNat 1 := rfl
      rw [hp]
      simp (disch := first | assumption | omega | decide) only [gB, I_all, zK_v, zK_n, true_and, and_true, Nat.reduceAdd, Nat.reduceMul, Nat.reduceSub, z_lt, z_le, z_neq, not_false_eq_true, or_true, true_or, or_false, false_or, false_and, and_false, gX7_takes, F, R, p2]
      refine e7_next S TP p1.2.1 (tkE_le p1.1) fun W' SM' U P' => ?_
      have f := hq W' SM' U.v (show PzS W' SM' tp (.ok (tkE tp i)) from ⟨P', by rw [U.1 _ _ (by unfold rdC; omega)]; exact p2, by rw [U.1 _ _ (by unfold rdC; omega)]; exact p3⟩)
      simp (disch := first | assumption | omega | decide) only [gB, I_all, zK_v, zK_n, true_and, and_true, Nat.reduceAdd, Nat.reduceMul, Nat.reduceSub, z_lt, z_le, z_neq, not_false_eq_true, or_true, true_or, or_false, false_or, false_and, and_false, gX7_takes]
      exact f
    | false =>
      have hp : boI false = Int32.ofNat 0 := rfl
      rw [hp]
      have p5 := p1.2.2.1
      have f := hq (zv (zv W 0 110 (Int32.ofNat 0)) 0 74 (Int32.ofNat (tkB tp i))) SM ⟨fun k j hk => by unfold rdD at hk; rw [zv_nx (by omega), zv_nx (by omega)], fun _ _ _ => rfl⟩ (show PzS _ SM tp (.error (tkB tp i)) from ⟨by rw [zv_nx (by omega), zv_at rfl rfl], by rw [zv_at rfl rfl]⟩)
      have zf := z_fb0
      simp (disch := first | assumption | omega | decide) only [gB, I_all, zK_v, zK_n, true_and, and_true, Nat.reduceAdd, Nat.reduceMul, Nat.reduceSub, z_lt, z_le, z_neq, not_false_eq_true, or_true, true_or, or_false, false_or, false_and, and_false, gX7_takes, F, R, p2, p5, zf, zv_nx, zv_at]
      exact f
theorem e7_isWord {r : Except Nat Nat} {j : Nat} {w : Int64} (S : TSh κ h b) (P : PzS W SM tp r) (hw : w = kwC j) : Ev κ mX7_isWord [.ref b, .long w] (hX h b 33 W SM) Q = Q (.inl (some (.int (boI (isWd tp r j))))) (hX h b 33 W SM) := by
  have F := xF S
  have R := xR S
  cases r with
  | error e =>
    have hp : boI (isWd tp (.error e) j) = Int32.ofNat 0 := rfl
    rw [hp]
    have p1 := P.1
    simp (disch := first | assumption | omega | decide) only [gB, I_all, zK_v, zK_n, true_and, and_true, Nat.reduceAdd, Nat.reduceMul, Nat.reduceSub, z_lt, z_le, z_neq, not_false_eq_true, or_true, true_or, or_false, false_or, false_and, and_false, gX7_isWord, F, R, p1, z_b0]
  | ok i =>
    obtain ⟨⟨q0, q1, q2, q3, q4, q5, q6⟩, p2, p3⟩ := P
    have k5 := tkK_le tp i
    by_cases c2 : tkK tp i = 2
    · have e7 := q6 c2
      by_cases c3 : wdP (tp.drop (tkB tp i)) (tkE tp i - tkB tp i) = w
      · have hp : boI (isWd tp (.ok i) j) = Int32.ofNat 1 := by
          unfold isWd isK
          dsimp only
          rw [decide_eq_true c2, decide_eq_true (c3.trans hw)]; rfl
        rw [hp]
        have lc := lcmp_e c3
        simp (disch := first | assumption | omega | decide) only [gB, I_all, zK_v, zK_n, true_and, and_true, Nat.reduceAdd, Nat.reduceMul, Nat.reduceSub, z_lt, z_le, z_neq, not_false_eq_true, or_true, true_or, or_false, false_or, false_and, and_false, gX7_isWord, F, R, p2, q3, e7, lc, z_b1]
      · have hp : boI (isWd tp (.ok i) j) = Int32.ofNat 0 := by
          unfold isWd isK
          dsimp only
          rw [decide_eq_false (p := wdP (tp.drop (tkB tp i)) (tkE tp i - tkB tp i) = kwC j) (fun e => c3 (e.trans hw.symm)), Bool.and_false]; rfl
        rw [hp]
        have lc := lcmp_n c3
        simp (disch := first | assumption | omega | decide) only [gB, I_all, zK_v, zK_n, true_and, and_true, Nat.reduceAdd, Nat.reduceMul, Nat.reduceSub, z_lt, z_le, z_neq, not_false_eq_true, or_true, true_or, or_false, false_or, false_and, and_false, gX7_isWord, F, R, p2, q3, e7, z_b0]
    · have hp : boI (isWd tp (.ok i) j) = Int32.ofNat 0 := by
        unfold isWd isK
        dsimp only
        rw [decide_eq_false c2]; rfl
      rw [hp]
      simp (disch := first | assumption | omega | decide) only [gB, I_all, zK_v, zK_n, true_and, and_true, Nat.reduceAdd, Nat.reduceMul, Nat.reduceSub, z_lt, z_le, z_neq, not_false_eq_true, or_true, true_or, or_false, false_or, false_and, and_false, gX7_isWord, F, R, p2, q3, z_b0]
theorem bind_isWd (tp : List Int32) (r : Except Nat Nat) (j : Nat) : r.bind (tkC tp (isWd tp r j)) = r.bind fun i => tkC tp (isK tp i j) i := by
  cases r with
  | error e => rw [bd_er, bd_er]
  | ok i => rw [bd_ok, bd_ok, isWd_ok]
theorem e7_number {r : Except Nat Nat} {l u : Nat} (S : TSh κ h b) (TP : TTp W tp) (P : PzS W SM tp r) (hl : l < 2147483648) (hu : u < 2147483648) (hq : ∀ W' SM' v, PzV W W' SM SM' → PzS W' SM' tp (r.bind fun i => tkC tp (okN tp i l u) i) → (∀ i, r = .ok i → okN tp i l u = true → v = tkV tp i) → Q (.inl (some (.int v))) (hX h b 33 W' SM')) :
    Ev κ mX7_number [.ref b, .int (Int32.ofNat l), .int (Int32.ofNat u)] (hX h b 33 W SM) Q := by
  have F := xF S
  have R := xR S
  generalize hv : W 0 108 = v
  -- the check's outcome c
  have go : ∀ c : Bool, (∀ i, r = .ok i → c = okN tp i l u) → Ev κ mX7_takes [.ref b, .int (boI c)] (hX h b 33 W SM) (zK κ mX7_number 31 3 [some (.ref b), some (.int (Int32.ofNat l)), some (.int (Int32.ofNat u)), some (.int v)] [] Q) := by
    intro c hc
    refine e7_takes S TP P fun W' SM' U P' => ?_
    have f := hq W' SM' v U (by
      cases r with
      | error e =>
        rw [bd_er] at P' ⊢
        exact P'
      | ok i =>
        have : c = okN tp i l u := hc i rfl
        rw [bd_ok] at P' ⊢
        rw [← this]
        exact P') (fun i hi hok => by
      subst hi
      obtain ⟨⟨q0, q1, q2, q3, q4, q5, q6⟩, p2, p3⟩ := P
      have k3 : tkK tp i = 3 := by
        unfold okN at hok
        exact of_decide_eq_true (Bool.and_eq_true_iff.mp hok).1
      rw [← hv]
      exact q4 k3)
    simp (disch := first | assumption | omega | decide) only [gB, I_all, zK_v, zK_n, true_and, and_true, Nat.reduceAdd, Nat.reduceMul, Nat.reduceSub, z_lt, z_le, z_neq, not_false_eq_true, or_true, true_or, or_false, false_or, false_and, and_false, gX7_number]
    exact f
  have g1 := go true
  have g0 := go false
  rw [show boI true = Int32.ofNat 1 from rfl] at g1
  rw [show boI false = Int32.ofNat 0 from rfl] at g0
  by_cases c3 : W 0 106 = Int32.ofNat 3
  · by_cases cb : btw v l u
    · have ei := fun (h : zH) (Q : zQ) => e7_inY (κ := κ) (h := h) (Q := Q) hl hu cb
      have f := g1 (fun i hi => by
        subst hi
        obtain ⟨⟨q0, q1, q2, q3, q4, q5, q6⟩, p2, p3⟩ := P
        have k5 := tkK_le tp i
        have k3 : tkK tp i = 3 := by
          rw [q3, I_eq (by omega) (by omega)] at c3
          exact c3
        unfold okN
        rw [decide_eq_true k3, decide_eq_true]
        · rfl
        · rw [← q4 k3, hv]; exact cb)
      simp (disch := first | assumption | omega | decide) only [gB, I_all, zK_v, zK_n, true_and, and_true, Nat.reduceAdd, Nat.reduceMul, Nat.reduceSub, z_lt, z_le, z_neq, not_false_eq_true, or_true, true_or, or_false, false_or, false_and, and_false, gX7_number, F, R, hv, c3, I_64, ei]
      exact f
    · have ei := fun (h : zH) (Q : zQ) => e7_inN (κ := κ) (h := h) (Q := Q) hl hu cb
      have f := g0 (fun i hi => by
        subst hi
        obtain ⟨⟨q0, q1, q2, q3, q4, q5, q6⟩, p2, p3⟩ := P
        have k5 := tkK_le tp i
        have k3 : tkK tp i = 3 := by
          rw [q3, I_eq (by omega) (by omega)] at c3
          exact c3
        unfold okN
        rw [decide_eq_false (p := btw (tkV tp i) l u), Bool.and_false]
        rw [← q4 k3, hv]; exact cb)
      simp (disch := first | assumption | omega | decide) only [gB, I_all, zK_v, zK_n, true_and, and_true, Nat.reduceAdd, Nat.reduceMul, Nat.reduceSub, z_lt, z_le, z_neq, not_false_eq_true, or_true, true_or, or_false, false_or, false_and, and_false, gX7_number, F, R, hv, c3, I_64, ei]
      exact f
  · have f := g0 (fun i hi => by
      subst hi
      obtain ⟨⟨q0, q1, q2, q3, q4, q5, q6⟩, p2, p3⟩ := P
      unfold okN
      rw [decide_eq_false (p := tkK tp i = 3)]
      · rfl
      · intro e
        rw [q3, e] at c3
        exact c3 rfl)
    simp (disch := first | assumption | omega | decide) only [gB, I_all, zK_v, zK_n, true_and, and_true, Nat.reduceAdd, Nat.reduceMul, Nat.reduceSub, z_lt, z_le, z_neq, not_false_eq_true, or_true, true_or, or_false, false_or, false_and, and_false, gX7_number, F, R, hv]
    exact f
theorem e7_numberOf {r : Except Nat Nat} {j l u : Nat} {w : Int64} (S : TSh κ h b) (TP : TTp W tp) (P : PzS W SM tp r) (hw : w = kwC j) (hl : l < 2147483648) (hu : u < 2147483648) (hq : ∀ W' SM' v, PzV W W' SM SM' → PzS W' SM' tp (r.bind (nofC tp j l u)) → (∀ i, r = .ok i → isK tp i j = true → okN tp (tkE tp i) l u = true → v = tkV tp (tkE tp i)) → Q (.inl (some (.int v))) (hX h b 33 W' SM')) :
    Ev κ mX7_numberOf [.ref b, .long w, .int (Int32.ofNat l), .int (Int32.ofNat u)] (hX h b 33 W SM) Q := by
  have F := xF S
  have R := xR S
  have ew := fun (Q : zQ) => e7_isWord (κ := κ) (Q := Q) S P hw
  simp (disch := first | assumption | omega | decide) only [gB, I_all, zK_v, zK_n, true_and, and_true, Nat.reduceAdd, Nat.reduceMul, Nat.reduceSub, z_lt, z_le, z_neq, not_false_eq_true, or_true, true_or, or_false, false_or, false_and, and_false, gX7_numberOf, F, R, ew]
  refine e7_takes S TP P fun W1 SM1 U1 P1 => ?_
  rw [bind_isWd] at P1
  simp (disch := first | assumption | omega | decide) only [gB, I_all, zK_v, zK_n, true_and, and_true, Nat.reduceAdd, Nat.reduceMul, Nat.reduceSub, z_lt, z_le, z_neq, not_false_eq_true, or_true, true_or, or_false, false_or, false_and, and_false, gX7_numberOf, F, R]
  refine e7_number S (TP.rv U1) P1 hl hu fun W2 SM2 v U2 P2 hv => ?_
  have f := hq W2 SM2 v (U1.trans U2) (by
    have e : (r.bind fun i => tkC tp (isK tp i j) i).bind (fun i => tkC tp (okN tp i l u) i) = r.bind (nofC tp j l u) := by
      cases r with
      | error e => rw [bd_er, bd_er, bd_er]
      | ok i => rw [bd_ok, bd_ok]; unfold nofC; exact Eq.refl _
    rw [e] at P2
    exact P2) (fun i hi h1 h2 => hv (tkE tp i) (by
      subst hi
      show tkC tp (isK tp i j) i = _
      unfold tkC
      rw [if_pos h1]) h2)
  simp (disch := first | assumption | omega | decide) only [gB, I_all, zK_v, zK_n, true_and, and_true, Nat.reduceAdd, Nat.reduceMul, Nat.reduceSub, z_lt, z_le, z_neq, not_false_eq_true, or_true, true_or, or_false, false_or, false_and, and_false, gX7_numberOf]
  exact f
/-- the first place where p holds, of n -/
def fst1 (p : Nat → Bool) (n : Nat) : Option Nat := (List.range n).find? p
theorem e7_stopNamed {n : Nat} (S : TSh κ h b) (hn : n ≤ 10) (e : W 0 111 = Int32.ofNat n) : Ev κ mX7_stopNamed [.ref b] (hX h b 33 W SM) Q = Q (.inl (some (.int (enO (fst1 (fun s => decide (W 23 s = W 0 109)) n))))) (hX h b 33 W SM) := by
  have F := xF S
  have R := xR S
  have K := xK S
  have lp : ∀ d k, k + d = n → (∀ j, j < k → ¬ W 23 j = W 0 109) → Go κ mX7_stopNamed 2 [some (.ref b), some (.int (Int32.ofNat k))] [] (hX h b 33 W SM) Q = Q (.inl (some (.int (enO (fst1 (fun s => decide (W 23 s = W 0 109)) n))))) (hX h b 33 W SM) := by
    intro d
    induction d with
    | zero =>
      intro k hk hno
      have hk' : k = n := by omega
      have e0 : fst1 (fun s => decide (W 23 s = W 0 109)) n = none := by
        unfold fst1
        rw [List.find?_eq_none]
        intro x hx
        have := hno x (by rw [hk']; exact List.mem_range.mp hx)
        simpa using this
      rw [e0, show enO none = Int32.ofInt (-2) from rfl]
      simp (disch := first | assumption | omega | decide) only [gB, I_all, zK_v, zK_n, true_and, and_true, Nat.reduceAdd, Nat.reduceMul, Nat.reduceSub, z_lt, z_le, z_neq, not_false_eq_true, or_true, true_or, or_false, false_or, false_and, and_false, gX7_stopNamed_h]
      simp (disch := first | assumption | omega | decide) only [gB, I_all, zK_v, zK_n, true_and, and_true, Nat.reduceAdd, Nat.reduceMul, Nat.reduceSub, z_lt, z_le, z_neq, not_false_eq_true, or_true, true_or, or_false, false_or, false_and, and_false, gX7_stopNamed, F, R, K, e]
    | succ d ih =>
      intro k hk hno
      by_cases c : W 23 k = W 0 109
      · have e0 : fst1 (fun s => decide (W 23 s = W 0 109)) n = some k := by
          unfold fst1
          rw [List.find?_range_eq_some]
          refine ⟨by simpa using c, List.mem_range.mpr (by omega), fun j hj => ?_⟩
          have := hno j hj
          simpa using this
        rw [e0, show enO (some k) = Int32.ofNat k from rfl]
        simp (disch := first | assumption | omega | decide) only [gB, I_all, zK_v, zK_n, true_and, and_true, Nat.reduceAdd, Nat.reduceMul, Nat.reduceSub, z_lt, z_le, z_neq, not_false_eq_true, or_true, true_or, or_false, false_or, false_and, and_false, gX7_stopNamed_h]
        simp (disch := first | assumption | omega | decide) only [gB, I_all, zK_v, zK_n, true_and, and_true, Nat.reduceAdd, Nat.reduceMul, Nat.reduceSub, z_lt, z_le, z_neq, not_false_eq_true, or_true, true_or, or_false, false_or, false_and, and_false, gX7_stopNamed, F, R, K, e]
      · have ih' := ih (k + 1) (by omega) (fun j hj => by
          by_cases hjk : j = k
          · rw [hjk]; exact c
          · exact hno j (by omega))
        simp (disch := first | assumption | omega | decide) only [gB, I_all, zK_v, zK_n, true_and, and_true, Nat.reduceAdd, Nat.reduceMul, Nat.reduceSub, z_lt, z_le, z_neq, not_false_eq_true, or_true, true_or, or_false, false_or, false_and, and_false, gX7_stopNamed_h]
        simp (disch := first | assumption | omega | decide) only [gB, I_all, zK_v, zK_n, true_and, and_true, Nat.reduceAdd, Nat.reduceMul, Nat.reduceSub, z_lt, z_le, z_neq, not_false_eq_true, or_true, true_or, or_false, false_or, false_and, and_false, gX7_stopNamed, F, R, K, e]
        exact ih'
  have := lp n 0 (by omega) (fun j hj => by omega)
  simp (disch := first | assumption | omega | decide) only [gB, I_all, zK_v, zK_n, true_and, and_true, Nat.reduceAdd, Nat.reduceMul, Nat.reduceSub, z_lt, z_le, z_neq, not_false_eq_true, or_true, true_or, or_false, false_or, false_and, and_false, gX7_stopNamed]
  exact this
end
