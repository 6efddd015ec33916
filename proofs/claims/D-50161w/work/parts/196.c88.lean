/-! named: the object's method -/
/-- what named answers -/
def nmV (t : Tr) (kw : Nat → List Int32) (ix : Nat → Nat) (x : Int32) : Int32 := if x ≤ Int32.ofNat 0 then Int32.ofInt (-1) else if 1073741824 ≤ x.toNatClampNeg then Int32.ofInt (-1) else match nmO x.toNatClampNeg false 6 with
  | none => Int32.ofInt (-1)
  | some [] => Int32.ofInt (-1)
  | some (c :: l) => nmI t kw ix (c :: l)
section
variable {κ : zC} {h h' : zH} {g : Nat → Nat} {p q0 q a hd m : Nat} {us : List Nat} {ks : Nat → Nat} {A : Nat → Nat → Nat} {Q : zQ} {Y : Sy} {T : Tm} {t : Tr} {kf vf ix : Nat → Nat} {kw : Nat → List Int32} {x : Int32}
theorem e0_named (I : CI κ h g Y p A q0 q a hd us ks) (K : KS κ h) (M : NM κ h p m T t kf vf kw ix) (B : NB h p m t kf vf (hN h)) (hq : OR κ h g p A q0 q (nmV t kw ix x, Y) Q) : Ev κ mX0_named [.ref (g 0), .int x] h Q := by
  unfold nmV at hq
  by_cases c0 : x ≤ Int32.ofNat 0
  · rw [if_pos c0] at hq
    have q1 := I.nop hq.q
    simp (disch := first | assumption | omega | decide) only [gB, I_all, zK_v, zK_n, true_and, and_true, Nat.reduceAdd, Nat.reduceMul, Nat.reduceSub, z_lt, z_le, z_neq, not_false_eq_true, or_true, true_or, or_false, false_or, false_and, and_false, gX0_named]
    exact q1
  · rw [if_neg c0] at hq
    have x0 : 0 ≤ x.toInt := by
      have := Int32.not_le.mp c0
      have := Int32.lt_iff_toInt_lt.mp this
      have e : (Int32.ofNat 0).toInt = 0 := by decide
      omega
    obtain ⟨n, rfl, -, -, hn⟩ := btw_nat (x := x) (l := 0) (u := 2147483647) ⟨x0, by have := Int32.toInt_lt x; omega⟩
    rw [I_nat hn] at hq
    have us30 := I_ush30 hn
    by_cases c1 : 1073741824 ≤ n
    · rw [if_pos c1] at hq
      have q1 := I.nop hq.q
      have d1 : n / 1073741824 = 1 := by omega
      rw [d1] at us30
      simp (disch := first | assumption | omega | decide) only [gB, I_all, zK_v, zK_n, true_and, and_true, Nat.reduceAdd, Nat.reduceMul, Nat.reduceSub, z_lt, z_le, z_neq, not_false_eq_true, or_true, true_or, or_false, false_or, false_and, and_false, gX0_named, us30]
      exact q1
    · rw [if_neg c1] at hq
      have d1 : n / 1073741824 = 0 := by omega
      rw [d1] at us30
      have G := I.2.2.2.2.2.2.2
      have hB := G.kb
      have sz : ∀ (h' : zH) (wl : List Int32), SBw κ h h' (hN h) wl → wl.length ≤ 6 → hN h ≤ hN h' ∧ hN h' ≤ hN h + 100 ∧ hU h' ≤ hU h + 300 := fun h' wl S hl => by
        obtain ⟨v, cap, S, hc⟩ := S
        have := S.1
        have := S.2.2.2.2
        omega
      have bad : ∀ (h' : zH) (wl : List Int32), SBw κ h h' (hN h) wl → wl.length ≤ 6 → OR κ h g p A q0 q (Int32.ofInt (-1), Y) Q → Q (.inl (some (.int (Int32.ofInt (-1))))) h' := fun h' wl S hl hr => by
        obtain ⟨z1, z2, z3⟩ := sz h' wl S hl
        exact hr h' ⟨a, hd, us, ks, I.ext S.ag z1⟩ (Om_A S.ag z1) (by omega) (by omega)
      have lp := named_lp (κ := κ) (Q := Q) (h := h) (b := hN h) (i := g 0) (n := n) K.1 hn (fun h' wl S hl e => by
        rw [e] at hq
        exact bad h' wl S hl hq) (fun h' wl a3 a4 a5 S e => by
        obtain ⟨hl, hL, -⟩ := nmO_l e
        rw [e] at hq
        have kb := S.k
        have S0 := S
        obtain ⟨v, cap, S1, -⟩ := S
        have v182 := S1.2.1.2.2.2
        obtain ⟨z1, z2, z3⟩ := sz h' wl S0 hl
        have I' := I.ext S0.ag z1
        have kx := I'.1.1
        have vx := I'.1.2.2.2.2.1
        have Z := I'.2.2.2.2.2.2.1.1
        have N := soN Z
        cases wl with
        | nil =>
          have q1 := bad h' [] S0 (by decide) hq
          have l0 : (List.length ([] : List Int32)) = 0 := rfl
          rw [l0] at v182
          simp (disch := first | assumption | omega | decide) only [gB, I_all, zK_v, zK_n, true_and, and_true, Nat.reduceAdd, Nat.reduceMul, Nat.reduceSub, z_lt, z_le, z_neq, not_false_eq_true, or_true, true_or, or_false, false_or, false_and, and_false, gX0_named, kb, gJ25_length, gJ24_length, v182]
          exact q1
        | cons c l =>
          have ln : ¬ (c :: l).length = 0 := by
            rw [List.length_cons]
            omega
          have l32 : (c :: l).length < 2147483648 := by omega
          dsimp only at hq
          have ts : Ev κ mJ25_toString [.ref (hN h)] h' (zK κ mX0_named 107 3 [some (.ref (g 0)), some (.int (Int32.ofNat n)), some (.ref (hN h)), a3, a4, a5] [.ref p] Q) := by
            refine e25_toString K.1 S0 (by omega) fun h2 s v2 N2 n2 u2 => ?_
            have ns := N2.2.1
            obtain ⟨M2, -⟩ := M.cg (h' := h2) B (fun y hy _ => N2.2.2.2 y (Nat.zero_le _) hy)
            have en := fun (Q : zQ) => e1_named (κ := κ) (Q := Q) K.1 M2 N2.1 ⟨hl, hL⟩
            have eN : (if fnd (fun x => kN (kw x)) (kN (c :: l)) t = 0 then Int32.ofInt (-2) else Int32.ofNat (ix (fnd (fun x => kN (kw x)) (kN (c :: l)) t))) = nmI t kw ix (c :: l) := rfl
            rw [eN] at en
            have kp := M2.1.1
            have q1 := hq h2 ⟨a, hd, us, ks, I.ext N2.2.2.2 (by omega)⟩ (Om_A N2.2.2.2 (by omega)) (by omega) (by omega)
            simp (disch := first | assumption | omega | decide) only [gB, I_all, zK_v, zK_n, true_and, and_true, Nat.reduceAdd, Nat.reduceMul, Nat.reduceSub, z_lt, z_le, z_neq, not_false_eq_true, or_true, true_or, or_false, false_or, false_and, and_false, gX0_named, kp, en]
            exact q1
          generalize (c :: l).length = ll at *
          simp (disch := first | assumption | omega | decide) only [gB, I_all, zK_v, zK_n, true_and, and_true, Nat.reduceAdd, Nat.reduceMul, Nat.reduceSub, z_lt, z_le, z_neq, not_false_eq_true, or_true, true_or, or_false, false_or, false_and, and_false, gX0_named, kb, gJ25_length, gJ24_length, v182, kx, vx, N]
          exact ts) 6 false []
      simp (disch := first | assumption | omega | decide) only [gB, I_all, zK_v, zK_n, true_and, and_true, Nat.reduceAdd, Nat.reduceMul, Nat.reduceSub, z_lt, z_le, z_neq, not_false_eq_true, or_true, true_or, or_false, false_or, false_and, and_false, gX0_named, us30]
      refine e25_init K.1 hB fun h1 S1 => ?_
      have l0 := lp h1 none (by decide) S1 (by decide) (by
        cases nmO n false 6 with
        | none => rfl
        | some r => rfl)
      have b0 : boI false = Int32.ofNat 0 := rfl
      have s6 : shK 6 = Int32.ofNat 25 := rfl
      rw [b0, s6] at l0
      simp (disch := first | assumption | omega | decide) only [gB, I_all, zK_v, zK_n, true_and, and_true, Nat.reduceAdd, Nat.reduceMul, Nat.reduceSub, z_lt, z_le, z_neq, not_false_eq_true, or_true, true_or, or_false, false_or, false_and, and_false, gX0_named]
      exact l0
end
