/-! a name looked up by its number -/
theorem I_ush30 {a : Nat} (h : a < 2147483648) : ((Int32.ofNat a).toUInt32 >>> ((Int32.ofNat 30).toUInt32 &&& Int32.toUInt32 31)).toInt32 = Int32.ofNat (a / 1073741824) := by
  have e : ((Int32.ofNat 30).toUInt32 &&& Int32.toUInt32 31) = 30 := by decide
  have e2 : (Int32.ofNat a).toUInt32 = UInt32.ofNat a := rfl
  have e3 : UInt32.ofNat a >>> 30 = UInt32.ofNat (a / 1073741824) := by
    apply UInt32.toNat_inj.mp
    rw [UInt32.toNat_shiftRight, UInt32.toNat_ofNat', UInt32.toNat_ofNat', Nat.shiftRight_eq_div_pow]
    have h1 : a % 2 ^ 32 = a := Nat.mod_eq_of_lt (by omega)
    have h2 : a / 1073741824 % 2 ^ 32 = a / 1073741824 := Nat.mod_eq_of_lt (by omega)
    rw [h1, h2]
    rfl
  rw [e, e2, e3]
  rfl
/-- the shift ahead of k letters -/
def shK (k : Nat) : Int32 := if k = 0 then Int32.ofInt (-5) else Int32.ofNat (5 * (k - 1))
theorem shK_s : ∀ k, k < 6 → Int32.ofNat (5 * k) + Int32.ofInt (-5) = shK k := by decide
theorem ch_let : ∀ d : Fin 27, 0 < d.val → ((Int32.ofNat (97 + d.val) - Int32.ofNat 1).toUInt32 % 65536).toInt32 = Int32.ofNat (96 + d.val) := by decide
section
variable {κ : zC} {h h' : zH} {g : Nat → Nat} {p q0 q a hd n m x0 b i : Nat} {us : List Nat} {ks : Nat → Nat} {A : Nat → Nat → Nat} {Q : zQ} {Y : Sy} {T : Tm} {t : Tr} {kf vf ix : Nat → Nat} {kw : Nat → List Int32} {l : List Int32}
theorem named_lp (hc : kS κ 3 = .int (Int32.ofNat 1)) (hn : n < 2147483648) 
    (h0 : ∀ (h' : zH) (wl : List Int32), SBw κ h h' b wl → wl.length ≤ 6 → nmO n false 6 = none → Q (.inl (some (.int (Int32.ofInt (-1))))) h')
    (h1 : ∀ (h' : zH) (wl : List Int32) (a3 a4 a5 : Option Value), SBw κ h h' b wl → nmO n false 6 = some wl → Go κ mX0_named 88 [some (.ref i), some (.int (Int32.ofNat n)), some (.ref b), a3, a4, a5] [] h' Q) :
    ∀ (k : Nat) (o : Bool) (wl : List Int32) (hh : zH) (a5 : Option Value), k ≤ 6 → SBw κ h hh b wl → wl.length + k ≤ 6 → (nmO n false 6 = (nmO n o k).map fun r => wl ++ r) →
      Go κ mX0_named 27 [some (.ref i), some (.int (Int32.ofNat n)), some (.ref b), some (.int (boI o)), some (.int (shK k)), a5] [] hh Q := by
  have bT : boI true = Int32.ofNat 1 := rfl
  have bF : boI false = Int32.ofNat 0 := rfl
  intro k
  induction k with
  | zero =>
    intro o wl hh a5 hk S wlen e
    have e' : nmO n false 6 = some wl := by
      rw [e]
      unfold nmO
      simp
    have q1 := h1 hh wl (some (.int (boI o))) (some (.int (shK 0))) a5 S e'
    have s0 : shK 0 = Int32.ofInt (-5) := rfl
    have m5 : Int32.ofInt (-5) < Int32.ofNat 0 := by decide
    have kb := S.k
    generalize hG : Go κ mX0_named 88 [some (.ref i), some (.int (Int32.ofNat n)), some (.ref b), some (.int (boI o)), some (.int (shK 0)), a5] [] hh Q = G at q1
    rw [s0] at hG ⊢
    simp (disch := first | assumption | omega | decide) only [gB, I_all, zK_v, zK_n, true_and, and_true, Nat.reduceAdd, Nat.reduceMul, Nat.reduceSub, z_lt, z_le, z_neq, not_false_eq_true, or_true, true_or, or_false, false_or, false_and, and_false, gX0_named_h]
    simp (disch := first | assumption | omega | decide) only [gB, I_all, zK_v, zK_n, true_and, and_true, Nat.reduceAdd, Nat.reduceMul, Nat.reduceSub, z_lt, z_le, z_neq, not_false_eq_true, or_true, true_or, or_false, false_or, false_and, and_false, gX0_named, m5]
    rw [← hG] at q1
    simp (disch := first | assumption | omega | decide) only [gB, I_all, zK_v, zK_n, true_and, and_true, Nat.reduceAdd, Nat.reduceMul, Nat.reduceSub, z_lt, z_le, z_neq, not_false_eq_true, or_true, true_or, or_false, false_or, false_and, and_false, gX0_named] at q1
    exact q1
  | succ k ih =>
    intro o wl hh a5 hk S wlen e
    have sk : shK (k + 1) = Int32.ofNat (5 * k) := rfl
    have s0 : ¬ Int32.ofNat (5 * k) < Int32.ofNat 0 := Int32.not_lt.mpr (I_nn (by omega))
    have nc : Int32.ofNat n >>> (Int32.ofNat (5 * k) &&& 31) &&& Int32.ofNat 31 = Int32.ofNat (n / 32 ^ k % 32) := nmC_N (by omega) hn
    have sh := shK_s k (by omega)
    have hd : n / 32 ^ k % 32 < 32 := Nat.mod_lt _ (by decide)
    have ef : nmO n o (k + 1) = if 26 < n / 32 ^ k % 32 ∨ (0 < n / 32 ^ k % 32 ∧ o = true) then none else (nmO n (o || decide (n / 32 ^ k % 32 = 0)) k).map fun l => lN1 (n / 32 ^ k % 32) ++ l := rfl
    rw [ef] at e
    have kb := S.k
    generalize n / 32 ^ k % 32 = d at *
    rw [sk]
    by_cases c26 : 26 < d
    · rw [if_pos (Or.inl c26)] at e
      have q1 := h0 hh wl S (by omega) e
      simp (disch := first | assumption | omega | decide) only [gB, I_all, zK_v, zK_n, true_and, and_true, Nat.reduceAdd, Nat.reduceMul, Nat.reduceSub, z_lt, z_le, z_neq, not_false_eq_true, or_true, true_or, or_false, false_or, false_and, and_false, gX0_named_h]
      simp (disch := first | assumption | omega | decide) only [gB, I_all, zK_v, zK_n, true_and, and_true, Nat.reduceAdd, Nat.reduceMul, Nat.reduceSub, z_lt, z_le, z_neq, not_false_eq_true, or_true, true_or, or_false, false_or, false_and, and_false, gX0_named, s0, nc]
      exact q1
    · by_cases d0 : d = 0
      · subst d0
        rw [if_neg (by omega)] at e
        have i1 := ih true wl hh (some (.int (Int32.ofNat 0))) (by omega) S (by omega) (by
          rw [e]
          have : (o || decide (0 = 0)) = true := by cases o <;> rfl
          rw [this]
          unfold lN1
          simp)
        rw [bT] at i1
        simp (disch := first | assumption | omega | decide) only [gB, I_all, zK_v, zK_n, true_and, and_true, Nat.reduceAdd, Nat.reduceMul, Nat.reduceSub, z_lt, z_le, z_neq, not_false_eq_true, or_true, true_or, or_false, false_or, false_and, and_false, gX0_named_h]
        simp (disch := first | assumption | omega | decide) only [gB, I_all, zK_v, zK_n, true_and, and_true, Nat.reduceAdd, Nat.reduceMul, Nat.reduceSub, z_lt, z_le, z_neq, not_false_eq_true, or_true, true_or, or_false, false_or, false_and, and_false, gX0_named, s0, nc, sh]
        exact i1
      · cases o with
        | true =>
          rw [if_pos (Or.inr ⟨by omega, rfl⟩)] at e
          have q1 := h0 hh wl S (by omega) e
          rw [bT]
          simp (disch := first | assumption | omega | decide) only [gB, I_all, zK_v, zK_n, true_and, and_true, Nat.reduceAdd, Nat.reduceMul, Nat.reduceSub, z_lt, z_le, z_neq, not_false_eq_true, or_true, true_or, or_false, false_or, false_and, and_false, gX0_named_h]
          simp (disch := first | assumption | omega | decide) only [gB, I_all, zK_v, zK_n, true_and, and_true, Nat.reduceAdd, Nat.reduceMul, Nat.reduceSub, z_lt, z_le, z_neq, not_false_eq_true, or_true, true_or, or_false, false_or, false_and, and_false, gX0_named, s0, nc]
          exact q1
        | false =>
          rw [if_neg (by
            rintro (z | ⟨_, z⟩)
            · exact c26 z
            · cases z)] at e
          have ch := ch_let ⟨d, by omega⟩ (by show 0 < d; omega)
          dsimp only at ch
          rw [bF]
          have ap : Ev κ mJ25_append [.ref b, .int (Int32.ofNat (96 + d))] hh (zK κ mX0_named 78 3 [some (.ref i), some (.int (Int32.ofNat n)), some (.ref b), some (.int (Int32.ofNat 0)), some (.int (Int32.ofNat (5 * k))), some (.int (Int32.ofNat d))] [] Q) := by
            refine e25_appN hc S (by omega) (by omega) fun h2 S2 => ?_
            have i1 := ih false (wl ++ [Int32.ofNat (96 + d)]) h2 (some (.int (Int32.ofNat d))) (by omega) S2 (by rw [List.length_append, List.length_singleton]; omega) (by
              rw [e, decide_eq_false d0]
              show Option.map _ (Option.map _ (nmO n false k)) = _
              unfold lN1
              rw [if_pos (show 0 < d by omega)]
              cases nmO n false k with
              | none => rfl
              | some r =>
                show some (wl ++ ([Int32.ofNat (96 + d)] ++ r)) = some (wl ++ [Int32.ofNat (96 + d)] ++ r)
                rw [List.append_assoc])
            rw [bF] at i1
            simp (disch := first | assumption | omega | decide) only [gB, I_all, zK_v, zK_n, true_and, and_true, Nat.reduceAdd, Nat.reduceMul, Nat.reduceSub, z_lt, z_le, z_neq, not_false_eq_true, or_true, true_or, or_false, false_or, false_and, and_false, gX0_named, sh]
            exact i1
          simp (disch := first | assumption | omega | decide) only [gB, I_all, zK_v, zK_n, true_and, and_true, Nat.reduceAdd, Nat.reduceMul, Nat.reduceSub, z_lt, z_le, z_neq, not_false_eq_true, or_true, true_or, or_false, false_or, false_and, and_false, gX0_named_h]
          simp (disch := first | assumption | omega | decide) only [gB, I_all, zK_v, zK_n, true_and, and_true, Nat.reduceAdd, Nat.reduceMul, Nat.reduceSub, z_lt, z_le, z_neq, not_false_eq_true, or_true, true_or, or_false, false_or, false_and, and_false, gX0_named, s0, nc, ch, kb]
          exact ap
end
