/-! the twin: names as numbers -/
def nmC (x k : Int32) : Int32 := (x >>> (k &&& 31)) &&& Int32.ofNat 31
def nmS (x k : Int32) (q : Bool × Bool) : Bool × Bool := (q.1 || decide (nmC x k = Int32.ofNat 0), q.2 && decide (nmC x k < Int32.ofNat 27) && !(q.1 && decide (Int32.ofNat 0 < nmC x k)))
def nmR (x : Int32) (g : Bool) : Bool × Bool := nmS x (Int32.ofNat 0) (nmS x (Int32.ofNat 5) (nmS x (Int32.ofNat 10) (nmS x (Int32.ofNat 15) (nmS x (Int32.ofNat 20) (nmS x (Int32.ofNat 25) (false, g))))))
def nmQ (x : Int32) : Bool × Bool := nmR x (decide (Int32.ofNat 0 < x >>> (Int32.ofNat 25 &&& 31)) && decide (x >>> (Int32.ofNat 30 &&& 31) = Int32.ofNat 0))
/-- a number that is a name -/
def nmG (x : Int32) : Bool := (nmQ x).2
theorem narBo (p : Bool) : (narrow .boolean (.int (boI p)) = Value.int (boI p)) = True := eq_true (by cases p <;> decide)
section
variable {κ : zC} {h : zH} {b : Nat} {W : Nat → Nat → Int32} {SM : Nat → Nat → Int64} {Q : zQ} {Y : Sy}
theorem e7_nmS (x k : Int32) (o g : Bool) (a4 : Option Value) (hk : ¬ k < Int32.ofNat 0) : Go κ mX7_isName 25 [some (.int x), some (.int (boI o)), some (.int (boI g)), some (.int k), a4] [] h Q = Go κ mX7_isName 25 [some (.int x), some (.int (boI (nmS x k (o, g)).1)), some (.int (boI (nmS x k (o, g)).2)), some (.int (k + Int32.ofInt (-5))), some (.int (nmC x k))] [] h Q := by
  have e : (x >>> (k &&& 31)) &&& Int32.ofNat 31 = nmC x k := rfl
  have lt : (nmS x k (o, g)).2 = (g && decide (nmC x k < Int32.ofNat 27) && !(o && decide (Int32.ofNat 0 < nmC x k))) := rfl
  have lo : (nmS x k (o, g)).1 = (o || decide (nmC x k = Int32.ofNat 0)) := rfl
  rw [lt, lo]
  rw [gX7_isName_h]
  have c1 : nmC x k < Int32.ofNat 27 ∨ Int32.ofNat 27 ≤ nmC x k := by
    by_cases c : nmC x k < Int32.ofNat 27
    · exact Or.inl c
    · exact Or.inr (Int32.not_lt.mp c)
  have c2 : Int32.ofNat 0 < nmC x k ∨ nmC x k ≤ Int32.ofNat 0 := by
    by_cases c : Int32.ofNat 0 < nmC x k
    · exact Or.inl c
    · exact Or.inr (Int32.not_lt.mp c)
  generalize nmC x k = c at *
  have n1 : c < Int32.ofNat 27 → ¬ Int32.ofNat 27 ≤ c := Int32.not_le.mpr
  have n2 : Int32.ofNat 27 ≤ c → ¬ c < Int32.ofNat 27 := Int32.not_lt.mpr
  have n3 : Int32.ofNat 0 < c → ¬ c ≤ Int32.ofNat 0 := Int32.not_le.mpr
  have n4 : c ≤ Int32.ofNat 0 → ¬ Int32.ofNat 0 < c := Int32.not_lt.mpr
  have bT : boI true = Int32.ofNat 1 := rfl
  have bF : boI false = Int32.ofNat 0 := rfl
  by_cases c3 : c = Int32.ofNat 0
  · have k1 : Int32.ofNat 0 < Int32.ofNat 27 := by decide
    have k2 : ¬ Int32.ofNat 0 < Int32.ofNat 0 := by decide
    have m1 : ¬ Int32.ofNat 27 ≤ Int32.ofNat 0 := by decide
    have m2 : Int32.ofNat 0 ≤ Int32.ofNat 0 := by decide
    subst c3
    clear n1 n2 n3 n4 c1 c2
    have d1 : decide (Int32.ofNat 0 < Int32.ofNat 27) = true := by decide
    have d2 : decide (Int32.ofNat 0 < Int32.ofNat 0) = false := by decide
    rw [d1, d2]
    cases o <;> cases g <;>
    simp (disch := first | assumption | omega | decide) only [gB, I_all, zK_v, zK_n, true_and, and_true, Nat.reduceAdd, Nat.reduceMul, Nat.reduceSub, z_lt, z_le, z_neq, not_false_eq_true, or_true, true_or, or_false, false_or, false_and, and_false, gX7_isName, e, bT, bF, k1, k2, m1, m2, Bool.true_and, Bool.false_and, Bool.and_true, Bool.and_false, Bool.not_true, Bool.not_false, Bool.or_true, Bool.or_false, decide_true, decide_false]
  · cases o <;> cases g <;> rcases c1 with c1 | c1 <;> rcases c2 with c2 | c2 <;>
    first
    | (have m1 := n1 c1
       have m2 := n3 c2
       simp (disch := first | assumption | omega | decide) only [gB, I_all, zK_v, zK_n, true_and, and_true, Nat.reduceAdd, Nat.reduceMul, Nat.reduceSub, z_lt, z_le, z_neq, not_false_eq_true, or_true, true_or, or_false, false_or, false_and, and_false, gX7_isName, e, bT, bF, c1, c2, c3, m1, m2, Bool.true_and, Bool.false_and, Bool.and_true, Bool.and_false, Bool.not_true, Bool.not_false, Bool.or_true, Bool.or_false, decide_true, decide_false])
    | (have m1 := n1 c1
       have m2 := n4 c2
       simp (disch := first | assumption | omega | decide) only [gB, I_all, zK_v, zK_n, true_and, and_true, Nat.reduceAdd, Nat.reduceMul, Nat.reduceSub, z_lt, z_le, z_neq, not_false_eq_true, or_true, true_or, or_false, false_or, false_and, and_false, gX7_isName, e, bT, bF, c1, c2, c3, m1, m2, Bool.true_and, Bool.false_and, Bool.and_true, Bool.and_false, Bool.not_true, Bool.not_false, Bool.or_true, Bool.or_false, decide_true, decide_false])
    | (have m1 := n2 c1
       have m2 := n3 c2
       simp (disch := first | assumption | omega | decide) only [gB, I_all, zK_v, zK_n, true_and, and_true, Nat.reduceAdd, Nat.reduceMul, Nat.reduceSub, z_lt, z_le, z_neq, not_false_eq_true, or_true, true_or, or_false, false_or, false_and, and_false, gX7_isName, e, bT, bF, c1, c2, c3, m1, m2, Bool.true_and, Bool.false_and, Bool.and_true, Bool.and_false, Bool.not_true, Bool.not_false, Bool.or_true, Bool.or_false, decide_true, decide_false])
    | (have m1 := n2 c1
       have m2 := n4 c2
       simp (disch := first | assumption | omega | decide) only [gB, I_all, zK_v, zK_n, true_and, and_true, Nat.reduceAdd, Nat.reduceMul, Nat.reduceSub, z_lt, z_le, z_neq, not_false_eq_true, or_true, true_or, or_false, false_or, false_and, and_false, gX7_isName, e, bT, bF, c1, c2, c3, m1, m2, Bool.true_and, Bool.false_and, Bool.and_true, Bool.and_false, Bool.not_true, Bool.not_false, Bool.or_true, Bool.or_false, decide_true, decide_false])
theorem e7_isName {x : Int32} : Ev κ mX7_isName [.int x] h Q = Q (.inl (some (.int (boI (nmG x))))) h := by
  have st : ∀ g, Go κ mX7_isName 25 [some (.int x), some (.int (boI false)), some (.int (boI g)), some (.int (Int32.ofNat 25)), none] [] h Q = Q (.inl (some (.int (boI (nmR x g).2)))) h := by
    intro g
    rw [e7_nmS x _ _ _ _ (by decide), show Int32.ofNat 25 + Int32.ofInt (-5) = Int32.ofNat 20 by decide, e7_nmS x _ _ _ _ (by decide), show Int32.ofNat 20 + Int32.ofInt (-5) = Int32.ofNat 15 by decide, e7_nmS x _ _ _ _ (by decide), show Int32.ofNat 15 + Int32.ofInt (-5) = Int32.ofNat 10 by decide,
      e7_nmS x _ _ _ _ (by decide), show Int32.ofNat 10 + Int32.ofInt (-5) = Int32.ofNat 5 by decide, e7_nmS x _ _ _ _ (by decide), show Int32.ofNat 5 + Int32.ofInt (-5) = Int32.ofNat 0 by decide, e7_nmS x _ _ _ _ (by decide), show Int32.ofNat 0 + Int32.ofInt (-5) = Int32.ofInt (-5) by decide]
    have m : Int32.ofInt (-5) < Int32.ofNat 0 := by decide
    rw [gX7_isName_h]
    simp (disch := first | assumption | omega | decide) only [gB, I_all, zK_v, zK_n, true_and, and_true, Nat.reduceAdd, Nat.reduceMul, Nat.reduceSub, z_lt, z_le, z_neq, not_false_eq_true, or_true, true_or, or_false, false_or, false_and, and_false, gX7_isName, m, narBo]
    rfl
  have bT : boI true = Int32.ofNat 1 := rfl
  have bF : boI false = Int32.ofNat 0 := rfl
  rw [bF] at st
  have sT := st true
  have sF := st false
  rw [bT] at sT
  rw [bF] at sF
  unfold nmG nmQ
  by_cases c1 : Int32.ofNat 0 < x >>> (Int32.ofNat 25 &&& 31)
  · have m1 : ¬ x >>> (Int32.ofNat 25 &&& 31) ≤ Int32.ofNat 0 := Int32.not_le.mpr c1
    by_cases c2 : x >>> (Int32.ofNat 30 &&& 31) = Int32.ofNat 0
    · have e : (decide (Int32.ofNat 0 < x >>> (Int32.ofNat 25 &&& 31)) && decide (x >>> (Int32.ofNat 30 &&& 31) = Int32.ofNat 0)) = true := by rw [decide_eq_true c1, decide_eq_true c2]; rfl
      rw [e]
      simp (disch := first | assumption | omega | decide) only [gB, I_all, zK_v, zK_n, true_and, and_true, Nat.reduceAdd, Nat.reduceMul, Nat.reduceSub, z_lt, z_le, z_neq, not_false_eq_true, or_true, true_or, or_false, false_or, false_and, and_false, gX7_isName, m1, c2]
      exact sT
    · have e : (decide (Int32.ofNat 0 < x >>> (Int32.ofNat 25 &&& 31)) && decide (x >>> (Int32.ofNat 30 &&& 31) = Int32.ofNat 0)) = false := by rw [decide_eq_false c2, Bool.and_false]
      rw [e]
      simp (disch := first | assumption | omega | decide) only [gB, I_all, zK_v, zK_n, true_and, and_true, Nat.reduceAdd, Nat.reduceMul, Nat.reduceSub, z_lt, z_le, z_neq, not_false_eq_true, or_true, true_or, or_false, false_or, false_and, and_false, gX7_isName, m1, c2]
      exact sF
  · have m1 : x >>> (Int32.ofNat 25 &&& 31) ≤ Int32.ofNat 0 := Int32.not_lt.mp c1
    have e : (decide (Int32.ofNat 0 < x >>> (Int32.ofNat 25 &&& 31)) && decide (x >>> (Int32.ofNat 30 &&& 31) = Int32.ofNat 0)) = false := by rw [decide_eq_false c1, Bool.false_and]
    rw [e]
    simp (disch := first | assumption | omega | decide) only [gB, I_all, zK_v, zK_n, true_and, and_true, Nat.reduceAdd, Nat.reduceMul, Nat.reduceSub, z_lt, z_le, z_neq, not_false_eq_true, or_true, true_or, or_false, false_or, false_and, and_false, gX7_isName, m1]
    exact sF
def yNd (Y : Sy) (x : Int32) : Int32 := if nmG x = true then enO (fst1 (fun s => decide (plT (yP Y) 3 s = x)) (plN (yP Y) 0)) else Int32.ofInt (-1)
theorem e7_named {x : Int32} (S : TSh κ h b) (T : TIn W SM Y) : Ev κ mX7_named [.ref b, .int x] (hX h b 33 W SM) Q = Q (.inl (some (.int (yNd Y x)))) (hX h b 33 W SM) := by
  have F := xF S
  have R := xR S
  have K := xK S
  have e : W 0 75 = Int32.ofNat (plN (yP Y) 0) := T.1.1
  have hn : plN (yP Y) 0 ≤ 10 := T.2.2.2.2.2.2.1.2
  have p3 : ∀ j, j < plN (yP Y) 0 → W 3 j = plT (yP Y) 3 j := T.1.2.2.2.2.2.2.1 3 (by decide)
  have ei := fun (h : zH) (Q : zQ) => e7_isName (κ := κ) (h := h) (Q := Q) (x := x)
  unfold yNd
  generalize hp : plT (yP Y) 3 = p at *
  generalize plN (yP Y) 0 = n at *
  cases hg : nmG x with
  | false =>
    rw [hg, show boI false = Int32.ofNat 0 from rfl] at ei
    rw [if_neg (by decide)]
    simp (disch := first | assumption | omega | decide) only [gB, I_all, zK_v, zK_n, true_and, and_true, Nat.reduceAdd, Nat.reduceMul, Nat.reduceSub, z_lt, z_le, z_neq, not_false_eq_true, or_true, true_or, or_false, false_or, false_and, and_false, gX7_named, F, R, ei]
  | true =>
    rw [hg, show boI true = Int32.ofNat 1 from rfl] at ei
    rw [if_pos rfl]
    have lp : ∀ d k, k + d = n → (∀ j, j < k → ¬ p j = x) → Go κ mX7_named 11 [some (.ref b), some (.int x), some (.int (Int32.ofNat k))] [] (hX h b 33 W SM) Q = Q (.inl (some (.int (enO (fst1 (fun s => decide (p s = x)) n))))) (hX h b 33 W SM) := by
      intro d
      induction d with
      | zero =>
        intro k hk hno
        have hk' : k = n := by omega
        have e0 : fst1 (fun s => decide (p s = x)) n = none := by
          unfold fst1
          rw [List.find?_eq_none]
          intro y hy
          have := hno y (by rw [hk']; exact List.mem_range.mp hy)
          simpa using this
        rw [e0, show enO none = Int32.ofInt (-2) from rfl]
        simp (disch := first | assumption | omega | decide) only [gB, I_all, zK_v, zK_n, true_and, and_true, Nat.reduceAdd, Nat.reduceMul, Nat.reduceSub, z_lt, z_le, z_neq, not_false_eq_true, or_true, true_or, or_false, false_or, false_and, and_false, gX7_named_h]
        simp (disch := first | assumption | omega | decide) only [gB, I_all, zK_v, zK_n, true_and, and_true, Nat.reduceAdd, Nat.reduceMul, Nat.reduceSub, z_lt, z_le, z_neq, not_false_eq_true, or_true, true_or, or_false, false_or, false_and, and_false, gX7_named, F, R, K, e]
      | succ d ih =>
        intro k hk hno
        have ek := p3 k (by omega)
        by_cases c : p k = x
        · have e0 : fst1 (fun s => decide (p s = x)) n = some k := by
            unfold fst1
            rw [List.find?_range_eq_some]
            refine ⟨by simpa using c, List.mem_range.mpr (by omega), fun j hj => ?_⟩
            have := hno j hj
            simpa using this
          rw [e0, show enO (some k) = Int32.ofNat k from rfl]
          have c' : W 3 k = x := ek.trans c
          simp (disch := first | assumption | omega | decide) only [gB, I_all, zK_v, zK_n, true_and, and_true, Nat.reduceAdd, Nat.reduceMul, Nat.reduceSub, z_lt, z_le, z_neq, not_false_eq_true, or_true, true_or, or_false, false_or, false_and, and_false, gX7_named_h]
          simp (disch := first | assumption | omega | decide) only [gB, I_all, zK_v, zK_n, true_and, and_true, Nat.reduceAdd, Nat.reduceMul, Nat.reduceSub, z_lt, z_le, z_neq, not_false_eq_true, or_true, true_or, or_false, false_or, false_and, and_false, gX7_named, F, R, K, e]
        · have ih' := ih (k + 1) (by omega) (fun j hj => by
            by_cases hjk : j = k
            · rw [hjk]; exact c
            · exact hno j (by omega))
          simp (disch := first | assumption | omega | decide) only [gB, I_all, zK_v, zK_n, true_and, and_true, Nat.reduceAdd, Nat.reduceMul, Nat.reduceSub, z_lt, z_le, z_neq, not_false_eq_true, or_true, true_or, or_false, false_or, false_and, and_false, gX7_named_h]
          simp (disch := first | assumption | omega | decide) only [gB, I_all, zK_v, zK_n, true_and, and_true, Nat.reduceAdd, Nat.reduceMul, Nat.reduceSub, z_lt, z_le, z_neq, not_false_eq_true, or_true, true_or, or_false, false_or, false_and, and_false, gX7_named, F, R, K, e, ek, c]
          exact ih'
    have l0 := lp n 0 (by omega) (fun j hj => absurd hj (Nat.not_lt_zero _))
    simp (disch := first | assumption | omega | decide) only [gB, I_all, zK_v, zK_n, true_and, and_true, Nat.reduceAdd, Nat.reduceMul, Nat.reduceSub, z_lt, z_le, z_neq, not_false_eq_true, or_true, true_or, or_false, false_or, false_and, and_false, gX7_named, F, R, ei]
    exact l0
end
