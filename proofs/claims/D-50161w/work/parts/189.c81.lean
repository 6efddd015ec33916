/-! the parser: numbers, the sign at an end -/
section
variable {κ : zC} {h h' h'' : zH} {z tx v i b n kl arr j cN cU dN dU p p' p'' : Nat} {l tp : List Int32} {x nu : Int32} {k w : Value} {Q : zQ} {c : Bool}
theorem tkC_t (e : c = true) : tkC tp c i = .ok (tkE tp i) := by unfold tkC; rw [if_pos e]
theorem tkC_f (e : c = false) : tkC tp c i = .error (tkB tp i) := by unfold tkC; rw [if_neg (by rw [e]; decide)]
theorem tkE_ge : i ≤ tkE tp i := by
  unfold tkE tkB
  omega
theorem e8_close (T : PT κ h z tx v tp kl arr i) (hok : ∀ i', tkC tp (isSg tp i) i = .ok i' → ∀ h', PT κ h' z tx v tp kl arr i' → Gz z 2 7 h (tkE tp i) h' (tkE tp i') → Q (.inl none) h')
    (her : ∀ e, tkC tp (isSg tp i) i = .error e → ∀ h' u, Er κ h' u e → Gz z 2 7 h (tkE tp i) h' (tkE tp i) → Q (.inr u) h') : Ev κ mX8_close [.ref z] h Q := by
  have bT : boI true = Int32.ofNat 1 := rfl
  have bF : boI false = Int32.ofNat 0 := rfl
  obtain ⟨r, s, e1, e2, e3⟩ := T.kd (d := 4) (by decide)
  have e2' : kS κ 25 = .ref s := e2
  have p1 := T.choose_spec.1.1.1
  have ex : Ev κ mX8_expect [.ref z, .int (boI (isSg tp i))] h (zK κ mX8_close 16 3 [some (.ref z)] [] Q) := by
    refine e8_expect T (fun ct h1 T1 g1 => ?_) (fun cf h1 u E g1 => ?_)
    · have q1 := hok _ (tkC_t ct) h1 T1 (g1.le (by omega) (by omega))
      simp (disch := first | assumption | omega | decide) only [gB, I_all, zK_v, zK_n, true_and, and_true, Nat.reduceAdd, Nat.reduceMul, Nat.reduceSub, z_lt, z_le, z_neq, not_false_eq_true, or_true, true_or, or_false, false_or, false_and, and_false, gX8_close]
      exact q1
    · rw [zK_x (by rfl)]
      exact her _ (tkC_f cf) h1 u E (g1.le (by omega) (by omega))
  unfold isSg at ex
  by_cases d : tkK tp i = 4
  · have rs : s = r := (e3.mpr d).symm
    rw [decide_eq_true d, bT] at ex
    simp (disch := first | assumption | omega | decide) only [gB, I_all, zK_v, zK_n, true_and, and_true, Nat.reduceAdd, Nat.reduceMul, Nat.reduceSub, z_lt, z_le, z_neq, not_false_eq_true, or_true, true_or, or_false, false_or, false_and, and_false, gX8_close, p1, e1, e2']
    exact ex
  · have rs : ¬ s = r := fun y => d (e3.mp y.symm)
    rw [decide_eq_false d, bF] at ex
    simp (disch := first | assumption | omega | decide) only [gB, I_all, zK_v, zK_n, true_and, and_true, Nat.reduceAdd, Nat.reduceMul, Nat.reduceSub, z_lt, z_le, z_neq, not_false_eq_true, or_true, true_or, or_false, false_or, false_and, and_false, gX8_close, p1, e1, e2']
    exact ex
theorem e8_number {lo hi : Nat} (hlo : lo < 2147483648) (hhi : hi < 2147483648) (T : PT κ h z tx v tp kl arr i) (hok : ∀ i', tkC tp (okN tp i lo hi) i = .ok i' → ∀ h', PT κ h' z tx v tp kl arr i' → Gz z 2 7 h (tkE tp i) h' (tkE tp i') → Q (.inl (some (.int (tkV tp i)))) h')
    (her : ∀ e, tkC tp (okN tp i lo hi) i = .error e → ∀ h' u, Er κ h' u e → Gz z 2 7 h (tkE tp i) h' (tkE tp i) → Q (.inr u) h') : Ev κ mX8_number [.ref z, .int (Int32.ofNat lo), .int (Int32.ofNat hi)] h Q := by
  have bT : boI true = Int32.ofNat 1 := rfl
  have bF : boI false = Int32.ofNat 0 := rfl
  obtain ⟨r, s, e1, e2, e3⟩ := T.kd (d := 3) (by decide)
  have e2' : kS κ 24 = .ref s := e2
  have T0 := T
  obtain ⟨nu, P, en, W⟩ := T
  have p1 := P.1.1
  have v132 := P.2.2.2.2.1
  have ex : Ev κ mX8_expect [.ref z, .int (boI (okN tp i lo hi))] h (zK κ mX8_number 37 3 [some (.ref z), some (.int (Int32.ofNat lo)), some (.int (Int32.ofNat hi)), some (.int nu)] [] Q) := by
    refine e8_expect T0 (fun ct h1 T1 g1 => ?_) (fun cf h1 u E g1 => ?_)
    · have k3 : tkK tp i = 3 := by
        unfold okN at ct
        rw [Bool.and_eq_true, decide_eq_true_eq] at ct
        exact ct.1
      have q1 := hok _ (tkC_t ct) h1 T1 (g1.le (by omega) (by omega))
      rw [← en k3] at q1
      simp (disch := first | assumption | omega | decide) only [gB, I_all, zK_v, zK_n, true_and, and_true, Nat.reduceAdd, Nat.reduceMul, Nat.reduceSub, z_lt, z_le, z_neq, not_false_eq_true, or_true, true_or, or_false, false_or, false_and, and_false, gX8_number]
      exact q1
    · rw [zK_x (by rfl)]
      exact her _ (tkC_f cf) h1 u E (g1.le (by omega) (by omega))
  unfold okN at ex
  have el := I_toInt hlo
  have eh := I_toInt hhi
  by_cases d : tkK tp i = 3
  · have rs : s = r := (e3.mpr d).symm
    have ev := en d
    rw [decide_eq_true d, Bool.true_and, ← ev] at ex
    by_cases d2 : btw nu lo hi
    · have d2' := d2
      unfold btw at d2'
      have n1 : ¬ nu < Int32.ofNat lo := by rw [Int32.lt_iff_toInt_lt, el]; omega
      have n2 : ¬ Int32.ofNat hi < nu := by rw [Int32.lt_iff_toInt_lt, eh]; omega
      rw [decide_eq_true d2, bT] at ex
      simp (disch := first | assumption | omega | decide) only [gB, I_all, zK_v, zK_n, true_and, and_true, Nat.reduceAdd, Nat.reduceMul, Nat.reduceSub, z_lt, z_le, z_neq, not_false_eq_true, or_true, true_or, or_false, false_or, false_and, and_false, gX8_number, p1, e1, e2', v132]
      exact ex
    · rw [decide_eq_false d2, bF] at ex
      by_cases d3 : nu < Int32.ofNat lo
      · simp (disch := first | assumption | omega | decide) only [gB, I_all, zK_v, zK_n, true_and, and_true, Nat.reduceAdd, Nat.reduceMul, Nat.reduceSub, z_lt, z_le, z_neq, not_false_eq_true, or_true, true_or, or_false, false_or, false_and, and_false, gX8_number, p1, e1, e2', v132]
        exact ex
      · have n2 : Int32.ofNat hi < nu := by
          rw [Int32.lt_iff_toInt_lt, eh]
          rw [Int32.lt_iff_toInt_lt, el] at d3
          unfold btw at d2
          omega
        simp (disch := first | assumption | omega | decide) only [gB, I_all, zK_v, zK_n, true_and, and_true, Nat.reduceAdd, Nat.reduceMul, Nat.reduceSub, z_lt, z_le, z_neq, not_false_eq_true, or_true, true_or, or_false, false_or, false_and, and_false, gX8_number, p1, e1, e2', v132]
        exact ex
  · have rs : ¬ s = r := fun y => d (e3.mp y.symm)
    rw [decide_eq_false d, Bool.false_and, bF] at ex
    simp (disch := first | assumption | omega | decide) only [gB, I_all, zK_v, zK_n, true_and, and_true, Nat.reduceAdd, Nat.reduceMul, Nat.reduceSub, z_lt, z_le, z_neq, not_false_eq_true, or_true, true_or, or_false, false_or, false_and, and_false, gX8_number, p1, e1, e2', v132]
    exact ex
/-- a keyword wanted -/
theorem e8_after {lo hi : Nat} (hlo : lo < 2147483648) (hhi : hi < 2147483648) (hj : j < 18) (T : PT κ h z tx v tp kl arr i) (hok : ∀ i', nofC tp j lo hi i = .ok i' → ∀ h', PT κ h' z tx v tp kl arr i' → Gz z 6 26 h (tkE tp i) h' (tkE tp i') → Q (.inl (some (.int (tkV tp (tkE tp i))))) h')
    (her : ∀ e, nofC tp j lo hi i = .error e → ∀ h' u p', Er κ h' u e → tkE tp i ≤ p' → p' ≤ tp.length → Gz z 6 26 h (tkE tp i) h' p' → Q (.inr u) h') : Ev κ mX8_after [.ref z, .ref (kT κ (2 + j)), .int (Int32.ofNat lo), .int (Int32.ofNat hi)] h Q := by
  have p1 := T.choose_spec.1.1.1
  have il := T.choose_spec.1.2.2.2.2.2.2.1
  have key : Ev κ mX8_is [.ref z, .ref (kT κ (2 + j))] h (zK κ mX8_after 3 3 [some (.ref z), some (.ref (kT κ (2 + j))), some (.int (Int32.ofNat lo)), some (.int (Int32.ofNat hi))] [.ref z] Q) := by
    refine e8_is T hj fun h1 T1 g1 n1 n2 u1 => ?_
    have G1 : Gz z 2 12 h (tkE tp i) h1 (tkE tp i) := ⟨Fz.of g1 n1, n2, by omega⟩
    have k1 := T1.choose_spec.1.1.1
    have ex : Ev κ mX8_expect [.ref z, .int (boI (isK tp i j))] h1 (zK κ mX8_after 6 3 [some (.ref z), some (.ref (kT κ (2 + j))), some (.int (Int32.ofNat lo)), some (.int (Int32.ofNat hi))] [] Q) := by
      refine e8_expect T1 (fun ct h2 T2 g2 => ?_) (fun cf h2 u E g2 => ?_)
      · have k2 := T2.choose_spec.1.1.1
        have eb : nofC tp j lo hi i = tkC tp (okN tp (tkE tp i) lo hi) (tkE tp i) := by
          unfold nofC
          rw [tkC_t ct]
          rfl
        have nb : Ev κ mX8_number [.ref z, .int (Int32.ofNat lo), .int (Int32.ofNat hi)] h2 (zK κ mX8_after 12 3 [some (.ref z), some (.ref (kT κ (2 + j))), some (.int (Int32.ofNat lo)), some (.int (Int32.ofNat hi))] [] Q) := by
          refine e8_number hlo hhi T2 (fun i' ei h3 T3 g3 => ?_) (fun e ee h3 u E g3 => ?_)
          · have q1 := hok i' (eb.trans ei) h3 T3 (((G1.trans g2).trans g3).le (by omega) (by omega))
            simp (disch := first | assumption | omega | decide) only [gB, I_all, zK_v, zK_n, true_and, and_true, Nat.reduceAdd, Nat.reduceMul, Nat.reduceSub, z_lt, z_le, z_neq, not_false_eq_true, or_true, true_or, or_false, false_or, false_and, and_false, gX8_after]
            exact q1
          · rw [zK_x (by rfl)]
            have l2 := T2.choose_spec.1.2.2.2.2.2.2.1
            exact her e (eb.trans ee) h3 u (tkE tp (tkE tp i)) E tkE_ge l2 (((G1.trans g2).trans g3).le (by omega) (by omega))
        simp (disch := first | assumption | omega | decide) only [gB, I_all, zK_v, zK_n, true_and, and_true, Nat.reduceAdd, Nat.reduceMul, Nat.reduceSub, z_lt, z_le, z_neq, not_false_eq_true, or_true, true_or, or_false, false_or, false_and, and_false, gX8_after, k2]
        exact nb
      · rw [zK_x (by rfl)]
        have eb : nofC tp j lo hi i = .error (tkB tp i) := by
          unfold nofC
          rw [tkC_f cf]
          rfl
        exact her _ eb h2 u (tkE tp i) E (Nat.le_refl _) il ((G1.trans g2).le (by omega) (by omega))
    simp (disch := first | assumption | omega | decide) only [gB, I_all, zK_v, zK_n, true_and, and_true, Nat.reduceAdd, Nat.reduceMul, Nat.reduceSub, z_lt, z_le, z_neq, not_false_eq_true, or_true, true_or, or_false, false_or, false_and, and_false, gX8_after, k1]
    exact ex
  simp (disch := first | assumption | omega | decide) only [gB, I_all, zK_v, zK_n, true_and, and_true, Nat.reduceAdd, Nat.reduceMul, Nat.reduceSub, z_lt, z_le, z_neq, not_false_eq_true, or_true, true_or, or_false, false_or, false_and, and_false, gX8_after, p1]
  exact key
end
