/-! the component: the best mode -/
/-- what an operation promises, with more room -/
def OR (κ : zC) (h : zH) (g : Nat → Nat) (p : Nat) (A : Nat → Nat → Nat) (q0 q : Nat) (r : Int32 × Sy) (Q : zQ) : Prop := ∀ h', CJ κ h' g p A q0 q r.2 → Om g h h' → hN h' ≤ hN h + 45000 → hU h' ≤ hU h + 220000 → Q (.inl (some (.int r.1))) h'
theorem OR.q {κ : zC} {h : zH} {g : Nat → Nat} {p q0 q : Nat} {A : Nat → Nat → Nat} {r : Int32 × Sy} {Q : zQ} (a : OR κ h g p A q0 q r Q) : OQ κ h g p A q0 q r Q := fun h' c o n u => a h' c o (by omega) (by omega)
/-- longs against ints -/
theorem j_sub {a b : Int64} (h0 : 0 ≤ a.toInt) (h1 : a.toInt ≤ b.toInt) (h2 : b.toInt ≤ a.toInt + 100000000) : (b - a).toInt32.toInt = b.toInt - a.toInt := by
  have a1 := Int64.toInt_lt b
  have e : (b - a).toInt = b.toInt - a.toInt := by
    rw [Int64.toInt_sub]
    have : (b.toInt - a.toInt).bmod (2 ^ 64) = b.toInt - a.toInt := by rw [Int.bmod_eq_of_le] <;> omega
    exact this
  rw [Int64.toInt_toInt32, e]
  have : (b.toInt - a.toInt).bmod (2 ^ 32) = b.toInt - a.toInt := by rw [Int.bmod_eq_of_le] <;> omega
  exact this
section
variable {κ : zC} {h h' : zH} {g : Nat → Nat} {p q0 q a hd : Nat} {us : List Nat} {ks : Nat → Nat} {A : Nat → Nat → Nat} {Q : zQ} {Y : Sy}
/-- the component's choice of the first k modes: none or (it, out, waited) -/
def bcR (Y : Sy) (s : Int32) (m : Nat) : Sg × Nat := sPa (yP Y) (sMd (yS Y) (Int32.ofNat m)) (sN (yS Y) 0 + s)
theorem bcR_b {s : Int32} {k : Nat} (O : pOk (yP Y)) (Ak : aOk (yP Y) k (yS Y)) (hk : k ≤ 23) (hs : btw s 1 3600) (m : Nat) (hm : m < 4) :
    (bcR Y s m).2 ≤ 10000 ∧ smF (bcR Y s m).1 4 17 = smF (yS Y) 4 17 + Int32.ofNat (bcR Y s m).2 ∧ (smF (bcR Y s m).1 4 17).toInt = (smF (yS Y) 4 17).toInt + (bcR Y s m).2 ∧
    (sS (yS Y) 0).toInt ≤ (sS (bcR Y s m).1 0).toInt ∧ (sS (bcR Y s m).1 0).toInt ≤ (sS (yS Y) 0).toInt + 100000000 := by
  have A1 := aOk_md (m := Int32.ofNat m) Ak (by rw [I_toInt (by omega)]; omega)
  have r := aOk_pa O A1 (by omega) hs
  rw [sMd_N (show (0 : Nat) ≠ 1 by decide), smF_md] at r
  obtain ⟨-, -, r3, r4, r5, r6⟩ := r
  unfold bcR
  refine ⟨r3, r6, ?_, r4, r5⟩
  have a6 := Ak.2.2.2.2.2.1
  have h1 : (Int32.ofNat (sPa (yP Y) (sMd (yS Y) (Int32.ofNat m)) (sN (yS Y) 0 + s)).2).toInt = (sPa (yP Y) (sMd (yS Y) (Int32.ofNat m)) (sN (yS Y) 0 + s)).2 := I_toInt (by omega)
  rw [r6, i_add (by rw [h1]; omega) (by rw [h1]; omega), h1]
/-- both choose alike -/
theorem bc_iff {s : Int32} {k : Nat} (O : pOk (yP Y)) (Ak : aOk (yP Y) k (yS Y)) (hk : k ≤ 23) (hs : btw s 1 3600) {m j : Nat} (hm : m < 4) (hj : j < 4) :
    (Int32.ofNat (bcR Y s j).2 < Int32.ofNat (bcR Y s m).2 ∨ (Int32.ofNat (bcR Y s m).2 = Int32.ofNat (bcR Y s j).2 ∧ (sS (bcR Y s m).1 0 - sS (yS Y) 0).toInt32 < (sS (bcR Y s j).1 0 - sS (yS Y) 0).toInt32)) ↔
    ¬ (smF (bcR Y s m).1 4 17 < smF (bcR Y s j).1 4 17 ∨ (smF (bcR Y s m).1 4 17 = smF (bcR Y s j).1 4 17 ∧ ¬ sS (bcR Y s m).1 0 < sS (bcR Y s j).1 0)) := by
  obtain ⟨a1, -, a3, a4, a5⟩ := bcR_b O Ak hk hs m hm
  obtain ⟨b1, -, b3, b4, b5⟩ := bcR_b O Ak hk hs j hj
  have h0 := Ak.2.2.2.2.2.2.1.1
  have e1 := j_sub h0 a4 a5
  have e2 := j_sub h0 b4 b5
  rw [I_lt (by omega) (by omega), I_eq (by omega) (by omega), Int32.lt_iff_toInt_lt, Int32.lt_iff_toInt_lt, ← Int32.toInt_inj, Int64.lt_iff_toInt_lt, e1, e2, a3, b3]
  omega
theorem e0_bestMode {s : Int32} {k : Nat} (I : CI κ h g Y p A q0 q a hd us ks) (Ak : aOk (yP Y) k (yS Y)) (hk : k ≤ 23) (hq : OR κ h g p A q0 q (rBm Y s, Y) Q) : Ev κ mX0_bestMode [.ref (g 0), .int s] h Q := by
  have O := I.2.2.2.2.2.2.1.1.1.2.2.1
  have h10 : plN (yP Y) 0 ≤ 10 := O.1.2
  have h6 : plN (yP Y) 1 ≤ 6 := O.2.1.2
  unfold rBm at hq
  by_cases c : ¬ btw s 1 3600
  · rw [if_neg c] at hq
    have ei := fun (h : zH) (Q : zQ) => e0_isPassN (κ := κ) (h := h) (Q := Q) c
    have q1 := I.nop hq.q
    simp (disch := first | assumption | omega | decide | (refine Eq.trans (hK_X _) ?_; assumption) | fail) only [gB, I_all, zK_v, zK_n, true_and, and_true, Nat.reduceAdd, Nat.reduceMul, Nat.reduceSub, z_lt, z_le, z_neq, not_false_eq_true, or_true, true_or, or_false, false_or, false_and, and_false, gX0_bestMode, ei]
    exact q1
  replace c := Decidable.of_not_not c
  have ei := fun (h : zH) (Q : zQ) => e0_isPassY (κ := κ) (h := h) (Q := Q) c
  rw [if_pos c] at hq
  have hs1 : 1 ≤ s.toInt ∧ s.toInt ≤ 3600 := c
  have Gk := Ak.1
  have ht : (sN (yS Y) 0 + s).toInt + 1400 ≤ 200000 + 1000 * (k : Int) := by
    have := Ak.2.1
    rw [i_add (by omega) (by omega)]
    omega
  have lp : ∀ (d m j : Nat) (h1 : zH) (bv : Int32) (mv : Int32) (lv : Int64) (a7 a8 : Option Value), m + d = 4 → CI κ h1 g Y p A q0 q a hd us ks → Ag h h1 0 (hN h) → hN h1 ≤ hN h + 130 * m → hN h ≤ hN h1 → hU h1 ≤ hU h + 4300 * m →
      (m = 0 → bv = Int32.ofInt (-2)) → (0 < m → j < m ∧ bv = Int32.ofNat j ∧ mv = smF (bcR Y s j).1 4 17 ∧ lv = sS (bcR Y s j).1 0 ∧ bmF Y s m = (j, Int32.ofNat (bcR Y s j).2, (sS (bcR Y s j).1 0 - sS (yS Y) 0).toInt32)) →
      Go κ mX0_bestMode 20 [some (.ref (g 0)), some (.int s), some (.int bv), some (.int mv), some (.long lv), none, some (.int (Int32.ofNat m)), a7, a8] [] h1 Q := by
    intro d
    induction d with
    | zero =>
      intro m j h1 bv mv lv a7 a8 hm I1 o1 n1 n2 u1 _ hj
      have hm4 : m = 4 := by omega
      subst hm4
      obtain ⟨j1, j2, -, -, j5⟩ := hj (by decide)
      rw [j5] at hq
      have q1 := hq h1 ⟨a, hd, us, ks, I1⟩ (Om_A o1 n2) (by omega) (by omega)
      subst j2
      simp (disch := first | assumption | omega | decide | (refine Eq.trans (hK_X _) ?_; assumption) | fail) only [gB, I_all, zK_v, zK_n, true_and, and_true, Nat.reduceAdd, Nat.reduceMul, Nat.reduceSub, z_lt, z_le, z_neq, not_false_eq_true, or_true, true_or, or_false, false_or, false_and, and_false, gX0_bestMode_h]
      simp (disch := first | assumption | omega | decide | (refine Eq.trans (hK_X _) ?_; assumption) | fail) only [gB, I_all, zK_v, zK_n, true_and, and_true, Nat.reduceAdd, Nat.reduceMul, Nat.reduceSub, z_lt, z_le, z_neq, not_false_eq_true, or_true, true_or, or_false, false_or, false_and, and_false, gX0_bestMode]
      exact q1
    | succ d ih =>
      intro m j h1 bv mv lv a7 a8 hm I1 o1 n1 n2 u1 h0 hj
      have hm4 : m < 4 := by omega
      have ex : bmF Y s (m + 1) = if m = 0 ∨ (bmF Y s m).2.1 < Int32.ofNat (bcR Y s m).2 ∨ (Int32.ofNat (bcR Y s m).2 = (bmF Y s m).2.1 ∧ (sS (bcR Y s m).1 0 - sS (yS Y) 0).toInt32 < (bmF Y s m).2.2)
          then (m, Int32.ofNat (bcR Y s m).2, (sS (bcR Y s m).1 0 - sS (yS Y) 0).toInt32) else bmF Y s m := rfl
      have k1 := I1.1.1
      simp (disch := first | assumption | omega | decide | (refine Eq.trans (hK_X _) ?_; assumption) | fail) only [gB, I_all, zK_v, zK_n, true_and, and_true, Nat.reduceAdd, Nat.reduceMul, Nat.reduceSub, z_lt, z_le, z_neq, not_false_eq_true, or_true, true_or, or_false, false_or, false_and, and_false, gX0_bestMode_h]
      simp (disch := first | assumption | omega | decide | (refine Eq.trans (hK_X _) ?_; assumption) | fail) only [gB, I_all, zK_v, zK_n, true_and, and_true, Nat.reduceAdd, Nat.reduceMul, Nat.reduceSub, z_lt, z_le, z_neq, not_false_eq_true, or_true, true_or, or_false, false_or, false_and, and_false, gX0_bestMode, k1]
      refine e0_later I1 Gk ht (by omega) fun h2 I2 S2 o2 n3 u3 => ?_
      have S3 : SAt κ h2 (hN h1) p (yP Y) A q0 q (bcR Y s m).1 := S2
      have b1 : hN h2 ≤ hN h + 130 * (m + 1) := by omega
      have b2 : hN h ≤ hN h2 := by omega
      have b3 : hU h2 ≤ hU h + 4300 * (m + 1) := by
        rw [Nat.mul_succ, ← Nat.add_assoc]
        exact Nat.le_trans u3 (Nat.add_le_add_right u1 _)
      have es := (so_sums (κ := κ) S3).2.2.2.2
      have N2 := soN S3
      have R2 := soR S3
      have o3 : Ag h h2 0 (hN h) := fun y y0 y1 => by
        obtain ⟨p1, p2, p3⟩ := o1 y y0 y1
        obtain ⟨r1, r2, r3⟩ := o2 y y0 (by omega)
        exact ⟨r1.trans p1, r2.trans p2, fun j => (r3 j).trans (p3 j)⟩
      have ih' := ih (m + 1)
      by_cases cm : m = 0
      · subst cm
        have b0 := h0 rfl
        subst b0
        have i1 := ih' 0 h2 (Int32.ofNat 0) (smF (bcR Y s 0).1 4 17) (sS (bcR Y s 0).1 0) (some (.ref (hN h1))) (some (.int (smF (bcR Y s 0).1 4 17))) (by omega) I2 o3 (by omega) (by omega) (by omega) (fun e => by cases e) (fun _ => ⟨by decide, rfl, rfl, rfl, by rw [ex, if_pos (Or.inl rfl)]⟩)
        simp (disch := first | assumption | omega | decide | (refine Eq.trans (hK_X _) ?_; assumption) | fail) only [gB, I_all, zK_v, zK_n, true_and, and_true, Nat.reduceAdd, Nat.reduceMul, Nat.reduceSub, z_lt, z_le, z_neq, not_false_eq_true, or_true, true_or, or_false, false_or, false_and, and_false, gX0_bestMode, N2, R2, es]
        exact i1
      · obtain ⟨j1, j2, j3, j4, j5⟩ := hj (by omega)
        have iff := bc_iff O Ak hk c hm4 (show j < 4 by omega)
        subst j2; subst j3; subst j4
        rw [j5] at ex
        dsimp only at ex
        by_cases ct : Int32.ofNat (bcR Y s j).2 < Int32.ofNat (bcR Y s m).2 ∨ (Int32.ofNat (bcR Y s m).2 = Int32.ofNat (bcR Y s j).2 ∧ (sS (bcR Y s m).1 0 - sS (yS Y) 0).toInt32 < (sS (bcR Y s j).1 0 - sS (yS Y) 0).toInt32)
        · rw [if_pos (Or.inr ct)] at ex
          have nc := iff.mp ct
          have i1 := ih' m h2 (Int32.ofNat m) (smF (bcR Y s m).1 4 17) (sS (bcR Y s m).1 0) (some (.ref (hN h1))) (some (.int (smF (bcR Y s m).1 4 17))) (by omega) I2 o3 b1 b2 b3 (fun e => absurd e (Nat.succ_ne_zero m)) (fun _ => ⟨by omega, rfl, rfl, rfl, ex⟩)
          have n1 : ¬ smF (bcR Y s m).1 4 17 < smF (bcR Y s j).1 4 17 := fun z => nc (Or.inl z)
          by_cases ce : smF (bcR Y s m).1 4 17 = smF (bcR Y s j).1 4 17
          · have nl : sS (bcR Y s m).1 0 < sS (bcR Y s j).1 0 := Decidable.of_not_not fun z => nc (Or.inr ⟨ce, z⟩)
            have nl' : lg_cmp (sS (bcR Y s m).1 0) (sS (bcR Y s j).1 0) < Int32.ofNat 0 := (lg_cmp_lt _ _).mpr nl
            simp (disch := first | assumption | omega | decide | (refine Eq.trans (hK_X _) ?_; assumption) | fail) only [gB, I_all, zK_v, zK_n, true_and, and_true, Nat.reduceAdd, Nat.reduceMul, Nat.reduceSub, z_lt, z_le, z_neq, not_false_eq_true, or_true, true_or, or_false, false_or, false_and, and_false, gX0_bestMode, N2, R2, es]
            exact i1
          · simp (disch := first | assumption | omega | decide | (refine Eq.trans (hK_X _) ?_; assumption) | fail) only [gB, I_all, zK_v, zK_n, true_and, and_true, Nat.reduceAdd, Nat.reduceMul, Nat.reduceSub, z_lt, z_le, z_neq, not_false_eq_true, or_true, true_or, or_false, false_or, false_and, and_false, gX0_bestMode, N2, R2, es]
            exact i1
        · rw [if_neg (fun z => z.elim cm ct)] at ex
          have nc := Decidable.of_not_not (fun z => ct (iff.mpr z))
          have i1 := ih' j h2 (Int32.ofNat j) (smF (bcR Y s j).1 4 17) (sS (bcR Y s j).1 0) (some (.ref (hN h1))) (some (.int (smF (bcR Y s m).1 4 17))) (by omega) I2 o3 b1 b2 b3 (fun e => absurd e (Nat.succ_ne_zero m)) (fun _ => ⟨by omega, rfl, rfl, rfl, ex⟩)
          by_cases cl : smF (bcR Y s m).1 4 17 < smF (bcR Y s j).1 4 17
          · simp (disch := first | assumption | omega | decide | (refine Eq.trans (hK_X _) ?_; assumption) | fail) only [gB, I_all, zK_v, zK_n, true_and, and_true, Nat.reduceAdd, Nat.reduceMul, Nat.reduceSub, z_lt, z_le, z_neq, not_false_eq_true, or_true, true_or, or_false, false_or, false_and, and_false, gX0_bestMode, N2, R2, es]
            exact i1
          · obtain ⟨ce, nl⟩ := nc.resolve_left cl
            have nl' : ¬ lg_cmp (sS (bcR Y s m).1 0) (sS (bcR Y s j).1 0) < Int32.ofNat 0 := fun z => nl ((lg_cmp_lt _ _).mp z)
            simp (disch := first | assumption | omega | decide | (refine Eq.trans (hK_X _) ?_; assumption) | fail) only [gB, I_all, zK_v, zK_n, true_and, and_true, Nat.reduceAdd, Nat.reduceMul, Nat.reduceSub, z_lt, z_le, z_neq, not_false_eq_true, or_true, true_or, or_false, false_or, false_and, and_false, gX0_bestMode, N2, R2, es]
            exact i1
  have l0 := lp 4 0 0 h (Int32.ofInt (-2)) (Int32.ofNat 0) (Int64.ofNat 0) none none rfl I Ag.rfl (by omega) (by omega) (by omega) (fun _ => rfl) (fun z => absurd z (by decide))
  simp (disch := first | assumption | omega | decide | (refine Eq.trans (hK_X _) ?_; assumption) | fail) only [gB, I_all, zK_v, zK_n, true_and, and_true, Nat.reduceAdd, Nat.reduceMul, Nat.reduceSub, z_lt, z_le, z_neq, not_false_eq_true, or_true, true_or, or_false, false_or, false_and, and_false, gX0_bestMode, ei]
  exact l0
end
