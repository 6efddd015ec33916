/-! the spec: events end -/
theorem i_mul {x y : Int32} (h0 : -2147483648 ≤ x.toInt * y.toInt) (h1 : x.toInt * y.toInt < 2147483648) : (x * y).toInt = x.toInt * y.toInt := by
  rw [Int32.toInt_mul]
  have : (x.toInt * y.toInt).bmod (2 ^ 32) = x.toInt * y.toInt := by
    rw [Int.bmod_eq_of_le] <;> omega
  exact this
theorem i_mulB {x : Int32} {n m c : Nat} (h0 : 0 ≤ x.toInt) (h1 : x.toInt ≤ c) (hn : n ≤ m) (hm : c * m < 2147483648) (hm2 : m < 2147483648) : 0 ≤ (x * Int32.ofNat n).toInt ∧ (x * Int32.ofNat n).toInt ≤ c * m := by
  have e1 : (Int32.ofNat n).toInt = n := I_toInt (by omega)
  have h2 : x.toInt * (n : Int) ≤ c * m := by
    have a1 : x.toInt * (n : Int) ≤ c * n := Int.mul_le_mul_of_nonneg_right h1 (by omega)
    have a2 : (c : Int) * n ≤ c * m := Int.mul_le_mul_of_nonneg_left (by omega) (by omega)
    omega
  have h3 : 0 ≤ x.toInt * (n : Int) := Int.mul_nonneg h0 (by omega)
  have hm' : ((c * m : Nat) : Int) < 2147483648 := by omega
  rw [Int.natCast_mul] at hm'
  rw [i_mul (by rw [e1]; omega) (by rw [e1]; omega), e1]
  exact ⟨h3, h2⟩
def gOk (π : Pl) (σ : Sg) (U : Int) : Prop := sOk π σ ∧ (0 ≤ (sN σ 3).toInt ∧ (sN σ 3).toInt ≤ 900) ∧ ∀ b, b < plN π 1 → 0 ≤ (bF σ b 2).toInt ∧ (bF σ b 2).toInt ≤ U
/-- what an event does to its bus's time -/
theorem sHa_t {π : Pl} {σ : Sg} {b : Nat} (O : pOk π) (OK : sOk π σ) (hb : b < plN π 1) (h1 : (bF σ b 2).toInt ≤ 1073740000) (hc : 0 ≤ (sN σ 3).toInt ∧ (sN σ 3).toInt ≤ 900) :
    (bF σ b 2).toInt ≤ (bF (sHa π σ b).1 b 2).toInt ∧ (bF (sHa π σ b).1 b 2).toInt ≤ (bF σ b 2).toInt + 1400 ∧
    ((bF σ b 2).toInt < (bF (sHa π σ b).1 b 2).toInt ∨ ((¬ bF σ b 0 = Int32.ofNat 2 ∧ ¬ bF σ b 0 = Int32.ofNat 3) ∧ bF (sHa π σ b).1 b 0 = Int32.ofNat 2)) := by
  have hb6 : b < 6 := by have := O.2.1; omega
  have hns := O.1.2
  obtain ⟨st, s, h4, hs, e0, e1⟩ := bst OK hb hb6
  have eI : bI σ b 1 = s := bI_of (by omega) e1
  have O0 := O
  obtain ⟨-, -, -, -, -, d1, hq0⟩ := O
  obtain ⟨dr1, dr2, -, -⟩ := d1 s hs
  have hlo := Int32.le_toInt (bF σ b 2)
  have drive : (bF σ b 2 + plT π 4 s).toInt = (bF σ b 2).toInt + (plT π 4 s).toInt := i_add (by omega) (by omega)
  unfold sHa
  dsimp only
  split
  · next c2 =>
    show (bF σ b 2).toInt ≤ (bF (sRe π σ b _) b 2).toInt ∧ (bF (sRe π σ b _) b 2).toInt ≤ _ ∧ (_ ∨ _)
    rw [sRe_eq]
    split
    · have e : bI (sR1 σ b (sRh π σ b (bF σ b 2)) (sRw π σ b (bF σ b 2))) b 1 = s := by
        unfold bI
        rw [sR1_F _ _ _ _ _ _ (by decide) (by decide)]
        exact eI
      rw [sLe_F2, e, drive]
      omega
    · next c3 =>
      rw [sR2_F2]
      have hh : 0 < (sRh π σ b (bF σ b 2)).toInt ∧ (sRh π σ b (bF σ b 2)).toInt ≤ 900 := by
        have a1 : 0 ≤ (sRh π σ b (bF σ b 2)).toInt ∧ (sRh π σ b (bF σ b 2)).toInt ≤ 900 := by
          unfold sRh
          split
          · have := heldB_b (π := π) (b := b) (m := sN σ 1) (t := bF σ b 2) hc.1
            omega
          · have : (Int32.ofNat 0).toInt = 0 := by decide
            omega
        have a2 : (sRh π σ b (bF σ b 2)).toInt ≠ 0 := by
          intro x
          apply c3
          rw [← Int32.toInt_inj, x]
          decide
        omega
      have e : (bF σ b 2 + sRh π σ b (bF σ b 2)).toInt = (bF σ b 2).toInt + (sRh π σ b (bF σ b 2)).toInt := i_add (by omega) (by omega)
      rw [e]
      omega
  · next c2 =>
    split
    · next c3 =>
      show (bF σ b 2).toInt ≤ (bF (sLe π σ b _) b 2).toInt ∧ (bF (sLe π σ b _) b 2).toInt ≤ _ ∧ (_ ∨ _)
      rw [sLe_F2, eI, drive]
      omega
    · next c3 =>
      rw [sCo_eq, eI]
      have e0' : bI (sC0 π σ b (bF σ b 2)) b 1 = s := by
        unfold bI
        rw [sC0_F _ _ _ _ _ _ (by decide)]
        exact eI
      split
      · have e : bF (sCs π (sC0 π σ b (bF σ b 2)) b (bF σ b 2)) b 2 = bF σ b 2 + plT π 4 s := by
          unfold sCs
          rw [sGo_F2]
          have : bI (vN (sBs (sC0 π σ b (bF σ b 2)) b 8 (Int32.ofNat 0)) (inc (sN (sBs (sC0 π σ b (bF σ b 2)) b 8 (Int32.ofNat 0))) 11)) b 1 = s := by
            show bI (sBs (sC0 π σ b (bF σ b 2)) b 8 (Int32.ofNat 0)) b 1 = s
            unfold bI
            rw [sBs_Fc _ _ _ _ (by decide)]
            exact e0'
          rw [this]
        dsimp only
        rw [e, drive]
        omega
      · dsimp only
        have OK0 : sOk π (sC0 π σ b (bF σ b 2)) := sOk_c0 O0 OK (by omega)
        have l1 : (sAl (sC0 π σ b (bF σ b 2)) b s (bF σ b 2)).2 ≤ 99 := by
          have := (OK0.2.2.1 b hb6).1
          have h2 : (sAl (sC0 π σ b (bF σ b 2)) b s (bF σ b 2)).2 ≤ (bR (sC0 π σ b (bF σ b 2)) b).length := List.length_filter_le _ _
          omega
        have l2 : (sBo π (sAl (sC0 π σ b (bF σ b 2)) b s (bF σ b 2)).1 b s (bF σ b 2)).2 ≤ 40 := by
          have h2 := sBo_k π (sAl (sC0 π σ b (bF σ b 2)) b s (bF σ b 2)).1 b s (bF σ b 2)
          have h3 : (sR (sAl (sC0 π σ b (bF σ b 2)) b s (bF σ b 2)).1 s).length ≤ 40 := (OK0.1 s (by omega)).1
          omega
        generalize (sAl (sC0 π σ b (bF σ b 2)) b s (bF σ b 2)).2 = n1 at *
        generalize sBo π (sAl (sC0 π σ b (bF σ b 2)) b s (bF σ b 2)).1 b s (bF σ b 2) = q at *
        have f2 : bF (sCu (sCt π q.1 b (bF σ b 2) n1 q.2) b s (bF σ b 2)) b 2 = bF σ b 2 + plT π 0 0 + plT π 0 2 * Int32.ofNat n1 + plT π 0 1 * Int32.ofNat q.2 := by
          unfold bF
          rw [sCu_F]
          exact sBs_Fe _ _ _ _
        have f0 : bF (sCu (sCt π q.1 b (bF σ b 2) n1 q.2) b s (bF σ b 2)) b 0 = Int32.ofNat 2 := by
          unfold bF
          rw [sCu_F]
          show bF (sBs (sBs q.1 b 0 _) b 2 _) b 0 = _
          rw [sBs_Fc _ _ _ _ (by decide), sBs_Fe]
        rw [f2, f0]
        obtain ⟨p1, p2, p3, p4, p5, p6⟩ := hq0
        have m1 := i_mulB (x := plT π 0 2) (n := n1) (m := 99) (c := 9) p5 p6 l1 (by decide) (by decide)
        have m2 := i_mulB (x := plT π 0 1) (n := q.2) (m := 40) (c := 9) p3 p4 l2 (by decide) (by decide)
        have a1 : (bF σ b 2 + plT π 0 0).toInt = (bF σ b 2).toInt + (plT π 0 0).toInt := i_add p1 (by omega)
        have a2 : (bF σ b 2 + plT π 0 0 + plT π 0 2 * Int32.ofNat n1).toInt = (bF σ b 2).toInt + (plT π 0 0).toInt + (plT π 0 2 * Int32.ofNat n1).toInt := by rw [i_add m1.1 (by omega), a1]
        have a3 : (bF σ b 2 + plT π 0 0 + plT π 0 2 * Int32.ofNat n1 + plT π 0 1 * Int32.ofNat q.2).toInt = (bF σ b 2).toInt + (plT π 0 0).toInt + (plT π 0 2 * Int32.ofNat n1).toInt + (plT π 0 1 * Int32.ofNat q.2).toInt := by rw [i_add m2.1 (by omega), a2]
        rw [a3]
        exact ⟨by omega, by omega, Or.inr ⟨⟨c2, c3⟩, rfl⟩⟩
theorem gOk_ha {π : Pl} {σ : Sg} {b : Nat} {U : Int} (O : pOk π) (G : gOk π σ U) (hb : b < plN π 1) (h1 : (bF σ b 2).toInt + 1400 ≤ U) (hU : U ≤ 1073741400) : gOk π (sHa π σ b).1 U := by
  obtain ⟨OK, hc, ht⟩ := G
  obtain ⟨t1, t2, -⟩ := sHa_t O OK hb (by omega) hc
  refine ⟨sOk_ha O OK hb, by rw [sHa_N _ _ _ _ (by unfold nSm; omega)]; exact hc, fun k hk => ?_⟩
  by_cases e : k = b
  · subst e
    have := ht k hk
    omega
  · rw [sHa_Fn _ _ _ e]
    exact ht k hk
/-- what is left to happen by T -/
def muB (T : Int) (σ : Sg) (b : Nat) : Nat := 2 * (T + 1 - (bF σ b 2).toInt).toNat + (if bF σ b 0 = Int32.ofNat 2 ∨ bF σ b 0 = Int32.ofNat 3 then 0 else 1)
def mu (T : Int) (σ : Sg) : Nat → Nat
  | 0 => 0
  | k + 1 => mu T σ k + muB T σ k
theorem muB_lt {π : Pl} {σ : Sg} {b : Nat} {T : Int} (O : pOk π) (OK : sOk π σ) (hb : b < plN π 1) (h1 : (bF σ b 2).toInt ≤ 1073740000) (hc : 0 ≤ (sN σ 3).toInt ∧ (sN σ 3).toInt ≤ 900) (hT : (bF σ b 2).toInt ≤ T) : muB T (sHa π σ b).1 b < muB T σ b := by
  obtain ⟨t1, t2, t3⟩ := sHa_t O OK hb h1 hc
  unfold muB
  rcases t3 with t3 | ⟨⟨t4, t5⟩, t6⟩
  · split <;> split <;> omega
  · rw [if_pos (Or.inl t6), if_neg (fun x => x.elim t4 t5)]
    omega
theorem mu_cg {σ σ' : Sg} {T : Int} : ∀ {k : Nat}, (∀ g, g < k → muB T σ' g = muB T σ g) → mu T σ' k = mu T σ k := by
  intro k
  induction k with
  | zero => intro _; rfl
  | succ k ih =>
    intro h
    unfold mu
    rw [ih fun g hg => h g (by omega), h k (by omega)]
theorem mu_lt {σ σ' : Sg} {T : Int} {b : Nat} (h1 : ∀ g, ¬ g = b → muB T σ' g = muB T σ g) (h2 : muB T σ' b < muB T σ b) : ∀ {k : Nat}, b < k → mu T σ' k < mu T σ k := by
  intro k
  induction k with
  | zero => intro h; cases h
  | succ k ih =>
    intro h
    unfold mu
    by_cases e : b = k
    · subst e
      rw [mu_cg fun g hg => h1 g (by omega)]
      omega
    · have := ih (by omega)
      rw [h1 k (fun x => e x.symm)]
      omega
theorem mu_ha {π : Pl} {σ : Sg} {b : Nat} {T : Int} (O : pOk π) (OK : sOk π σ) (hb : b < plN π 1) (h1 : (bF σ b 2).toInt ≤ 1073740000) (hc : 0 ≤ (sN σ 3).toInt ∧ (sN σ 3).toInt ≤ 900) (hT : (bF σ b 2).toInt ≤ T) : mu T (sHa π σ b).1 (plN π 1) < mu T σ (plN π 1) := by
  refine mu_lt (b := b) (fun g hg => ?_) (muB_lt O OK hb h1 hc hT) hb
  unfold muB
  rw [sHa_Fn _ _ _ hg, sHa_Fn _ _ _ hg]
theorem mu_big (T : Int) (hT : T ≤ 1073741824) (σ : Sg) : ∀ k : Nat, mu T σ k ≤ k * 8589934593 := by
  intro k
  induction k with
  | zero => exact Nat.zero_le _
  | succ k ih =>
    unfold mu muB
    have a2 := Int32.le_toInt (bF σ k 2)
    split <;> omega
theorem nxB_lt (σ : Sg) : ∀ k, nxB σ k ≤ k := by
  intro k
  induction k with
  | zero => exact Nat.le_refl _
  | succ k ih =>
    unfold nxB
    split <;> omega
