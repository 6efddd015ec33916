/-! the letters of a number (no program in sight) -/
theorem I_and (a b : Nat) : Int32.ofNat a &&& Int32.ofNat b = Int32.ofNat (a &&& b) := by
  apply Int32.toBitVec_inj.1
  show BitVec.ofNat 32 a &&& BitVec.ofNat 32 b = BitVec.ofNat 32 (a &&& b)
  apply BitVec.eq_of_getLsbD_eq
  intro i hi
  simp [hi]
theorem I_shr5 {a k : Nat} (hk : k < 7) (h : a < 2147483648) : Int32.ofNat a >>> (Int32.ofNat (5 * k) &&& 31) = Int32.ofNat (a / 2 ^ (5 * k)) := by
  have hD : ((Int32.ofNat (5 * k) &&& 31).toBitVec.smod 32).toNat = 5 * k := by
    have : ∀ k, k < 7 → ((Int32.ofNat (5 * k) &&& 31).toBitVec.smod 32).toNat = 5 * k := by decide
    exact this k hk
  generalize Int32.ofNat (5 * k) &&& 31 = D at *
  have hd : a / 2 ^ (5 * k) ≤ a := Nat.div_le_self _ _
  apply Int32.toInt_inj.mp
  have e : (Int32.ofNat a >>> D).toInt = (Int32.ofNat a).toInt >>> (5 * k) := by
    rw [← hD]
    exact BitVec.toInt_sshiftRight ..
  rw [e, Int.shiftRight_eq_div_pow, I_toInt h, I_toInt (by omega)]
  rfl
theorem nmC_N {a k : Nat} (hk : k < 6) (h : a < 2147483648) : nmC (Int32.ofNat a) (Int32.ofNat (5 * k)) = Int32.ofNat (a / 32 ^ k % 32) := by
  unfold nmC
  rw [I_shr5 (by omega) h, I_and, Nat.and_two_pow_sub_one_eq_mod _ 5, Nat.pow_mul]
/-- the letters from k on downward, if they are a name's; o: the name is over -/
def nmO (a : Nat) : Bool → Nat → Option (List Int32)
  | _, 0 => some []
  | o, k + 1 => if 26 < a / 32 ^ k % 32 ∨ (0 < a / 32 ^ k % 32 ∧ o = true) then none else (nmO a (o || decide (a / 32 ^ k % 32 = 0)) k).map fun l => lN1 (a / 32 ^ k % 32) ++ l
theorem nmO_w {a : Nat} (ha : a < 2 ^ 62) : ∀ {k : Nat} {o : Bool} {l : List Int32}, k ≤ 6 → nmO a o k = some l → l = wdF (Int64.ofNat a) k := by
  intro k
  induction k with
  | zero =>
    intro o l _ h
    unfold nmO at h
    cases h
    rfl
  | succ k ih =>
    intro o l hk h
    unfold nmO at h
    split at h
    · cases h
    · cases c : nmO a (o || decide (a / 32 ^ k % 32 = 0)) k with
      | none => rw [c] at h; cases h
      | some l' =>
        rw [c] at h
        have e := Option.some.inj h
        rw [wdF_s (by omega) ha, ← ih (by omega) c]
        exact e.symm
theorem nmO_l {a : Nat} : ∀ {k : Nat} {o : Bool} {l : List Int32}, nmO a o k = some l → l.length ≤ k ∧ (∀ x ∈ l, isL x = true) ∧ (o = true → l = []) := by
  intro k
  induction k with
  | zero =>
    intro o l h
    unfold nmO at h
    cases h
    exact ⟨Nat.le_refl _, (fun x hx => by cases hx), fun _ => rfl⟩
  | succ k ih =>
    intro o l h
    unfold nmO at h
    split at h
    · cases h
    · next hn =>
      cases c : nmO a (o || decide (a / 32 ^ k % 32 = 0)) k with
      | none => rw [c] at h; cases h
      | some l' =>
        rw [c] at h
        have e : lN1 (a / 32 ^ k % 32) ++ l' = l := Option.some.inj h
        obtain ⟨i1, i2, i3⟩ := ih c
        subst e
        generalize a / 32 ^ k % 32 = d at *
        unfold lN1
        by_cases d0 : 0 < d
        · rw [if_pos d0]
          refine ⟨by rw [List.length_append, List.length_singleton]; omega, fun x hx => ?_, fun z => absurd (Or.inr ⟨d0, z⟩) hn⟩
          rcases List.mem_append.mp hx with y | y
          · rw [List.mem_singleton.mp y]
            have d26 : d ≤ 26 := Nat.le_of_not_lt fun z => hn (Or.inl z)
            have : ∀ d : Fin 27, 0 < d.val → isL (Int32.ofNat (96 + d.val)) = true := by decide
            exact this ⟨d, by omega⟩ d0
          · exact i2 x y
        · rw [if_neg d0]
          refine ⟨by show l'.length ≤ _; omega, i2, fun z => i3 (by rw [z]; rfl)⟩
/-- what the twin's fold tells -/
theorem nmS_O {a k : Nat} (hk : k < 6) (ha : a < 2147483648) (o g : Bool) : nmS (Int32.ofNat a) (Int32.ofNat (5 * k)) (o, g) = (o || decide (a / 32 ^ k % 32 = 0), g && decide (a / 32 ^ k % 32 < 27) && !(o && decide (0 < a / 32 ^ k % 32))) := by
  unfold nmS
  rw [nmC_N hk ha]
  have hd : a / 32 ^ k % 32 < 32 := Nat.mod_lt _ (by decide)
  generalize a / 32 ^ k % 32 = d at *
  have : ∀ d : Fin 32, decide (Int32.ofNat d.val = Int32.ofNat 0) = decide (d.val = 0) ∧ decide (Int32.ofNat d.val < Int32.ofNat 27) = decide (d.val < 27) ∧ decide (Int32.ofNat 0 < Int32.ofNat d.val) = decide (0 < d.val) := by decide
  obtain ⟨e1, e2, e3⟩ := this ⟨d, hd⟩
  dsimp only at e1 e2 e3 ⊢
  rw [e1, e2, e3]
def nmFo (a : Nat) : Nat → Bool × Bool → Bool × Bool
  | 0, q => q
  | k + 1, q => nmFo a k (q.1 || decide (a / 32 ^ k % 32 = 0), q.2 && decide (a / 32 ^ k % 32 < 27) && !(q.1 && decide (0 < a / 32 ^ k % 32)))
theorem nmFo_O {a : Nat} : ∀ {k : Nat} {o g : Bool}, (nmFo a k (o, g)).2 = (g && (nmO a o k).isSome) := by
  intro k
  induction k with
  | zero =>
    intro o g
    unfold nmFo nmO
    simp
  | succ k ih =>
    intro o g
    unfold nmFo nmO
    dsimp only
    rw [ih]
    generalize a / 32 ^ k % 32 = d at *
    by_cases c : 26 < d ∨ (0 < d ∧ o = true)
    · rw [if_pos c]
      rcases c with c | ⟨c, c'⟩
      · rw [decide_eq_false (show ¬ d < 27 by omega)]
        simp
      · rw [c', decide_eq_true c]
        simp
    · rw [if_neg c]
      have d1 : d < 27 := by omega
      rw [decide_eq_true d1]
      have : (!(o && decide (0 < d))) = true := by
        cases o with
        | false => rfl
        | true =>
          have : ¬ 0 < d := fun z => c (Or.inr ⟨z, rfl⟩)
          rw [decide_eq_false this]
          rfl
      rw [this]
      cases nmO a (o || decide (d = 0)) k <;> simp
theorem nmR_Fo {a : Nat} (ha : a < 2147483648) (g : Bool) : nmR (Int32.ofNat a) g = nmFo a 6 (false, g) := by
  unfold nmR
  have e : ∀ k, k < 6 → ∀ q : Bool × Bool, nmS (Int32.ofNat a) (Int32.ofNat (5 * k)) q = (q.1 || decide (a / 32 ^ k % 32 = 0), q.2 && decide (a / 32 ^ k % 32 < 27) && !(q.1 && decide (0 < a / 32 ^ k % 32))) := fun k hk q => by
    obtain ⟨o, g⟩ := q
    exact nmS_O hk ha o g
  show nmS (Int32.ofNat a) (Int32.ofNat (5 * 0)) (nmS (Int32.ofNat a) (Int32.ofNat (5 * 1)) (nmS (Int32.ofNat a) (Int32.ofNat (5 * 2)) (nmS (Int32.ofNat a) (Int32.ofNat (5 * 3)) (nmS (Int32.ofNat a) (Int32.ofNat (5 * 4)) (nmS (Int32.ofNat a) (Int32.ofNat (5 * 5)) (false, g)))))) = _
  rw [e 5 (by decide), e 4 (by decide), e 3 (by decide), e 2 (by decide), e 1 (by decide), e 0 (by decide)]
  rfl
