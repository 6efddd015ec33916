/-! a state at its start is within the bounds; load (no program in sight) -/
section
variable {nu : Nat → Int32} {S : List Sto} {B : List Bup} {Fl : List Flo} {Y : Sy} {k : Nat}
theorem smF_0 {σ : Sg} {c n : Nat} (e : ∀ k, k < n → sN σ (79 + 5 * k + c) = Int32.ofNat 0) : ∀ k, k ≤ n → smF σ c k = Int32.ofNat 0 := by
  intro k
  induction k with
  | zero => intro _; rfl
  | succ k ih =>
    intro hk
    show smF σ c k + sN σ (79 + 5 * k + c) = _
    rw [ih (by omega), e k (by omega)]
    rfl
theorem aOk_Z (hS : stsOk S ∧ 2 ≤ S.length) (hB : bupsOk B ∧ 1 ≤ B.length) (hF : flosOk S.length Fl) (hN : ∀ k, k < 8 → (nLo k : Int) ≤ (nu k).toInt ∧ (nu k).toInt ≤ (nHi k : Int)) : aOk (plZ nu S B Fl) 0 (stZ nu S B Fl) := by
  have l1 : S.length ≤ 10 := hS.1.1
  have l2 : B.length ≤ 6 := hB.1.1
  have l3 : Fl.length ≤ 16 := hF.1
  have z0 : (Int32.ofNat 0).toInt = 0 := by decide
  have e0 : sN (stZ nu S B Fl) 0 = Int32.ofNat 0 := by
    show stN nu S Fl 0 = _
    unfold stN
    rw [if_neg (by omega), if_neg (by omega), if_neg (by omega), if_neg (by omega), if_neg (by omega)]
  have e1 : sN (stZ nu S B Fl) 1 = nu 7 := by
    show stN nu S Fl 1 = _
    unfold stN
    rw [if_pos rfl]
  have e2 : ∀ j, 2 ≤ j → j < 6 → sN (stZ nu S B Fl) j = nu (j + 1) := fun j h1 h2 => by
    show stN nu S Fl j = _
    unfold stN
    rw [if_neg (by omega), if_pos ⟨h1, h2⟩]
  have ef : ∀ f, f < Fl.length → 0 ≤ (sN (stZ nu S B Fl) (63 + f)).toInt ∧ (sN (stZ nu S B Fl) (63 + f)).toInt ≤ 9999 := fun f hf => by
    obtain ⟨x, hx, -, e⟩ := gtD (fun f : Flo => f.2.2.2) (d := 0) hf
    have e5 : sN (stZ nu S B Fl) (63 + f) = x.2.2.2 := by
      show stN nu S Fl (63 + f) = _
      unfold stN
      rw [if_neg (by omega), if_neg (by omega), if_neg (by omega), if_neg (by omega), if_pos (by omega), show 63 + f - 63 = f by omega]
      exact e
    rw [e5]
    exact (hF.2 x hx).2.2.2.2
  have eb : ∀ b, b < B.length → 0 ≤ (bF (stZ nu S B Fl) b 2).toInt ∧ (bF (stZ nu S B Fl) b 2).toInt ≤ 9999 := fun b hb => by
    obtain ⟨x, hx, -, e⟩ := gtD (fun f : Bup => f.2) (d := 0) hb
    have e5 : bF (stZ nu S B Fl) b 2 = x.2 := by
      show (if b < B.length then _ else _) = _
      rw [if_pos hb, if_pos (Or.inl rfl)]
      exact e
    rw [e5]
    exact (hB.1.2 x hx).2
  have em : smF (stZ nu S B Fl) 4 17 = Int32.ofNat 0 := smF_0 (n := 17) (fun k hk => by
    show stN nu S Fl (79 + 5 * k + 4) = _
    unfold stN
    rw [if_neg (by omega), if_neg (by omega), if_neg (by omega), if_neg (by omega), if_neg (by omega)]) 17 (Nat.le_refl _)
  have z64 : (sS (stZ nu S B Fl) 0).toInt = 0 := by
    show (Int64.ofNat 0).toInt = 0
    decide
  have n4 := hN 4 (by decide)
  have n7 := hN 7 (by decide)
  have h4 : (nLo 4 : Int) = 0 ∧ (nHi 4 : Int) = 900 ∧ (nLo 7 : Int) = 0 := ⟨rfl, rfl, rfl⟩
  refine ⟨⟨sOk_Z hS hB, ?_, fun b hb => ?_⟩, ?_, fun s _ r hr => absurd hr List.not_mem_nil, fun f hf => ?_, fun b hb => ?_, ?_, ?_, fun r hr => absurd hr List.not_mem_nil, fun j h1 h2 => ?_, fun s hs => ?_, fun b _ => ?_⟩
  · rw [e2 3 (by omega) (by omega)]
    show 0 ≤ (nu 4).toInt ∧ (nu 4).toInt ≤ 900
    omega
  · have := eb b hb
    omega
  · rw [e0, z0]
    omega
  · have := ef f hf
    rw [e0, z0]
    omega
  · have := eb b hb
    rw [e0, z0]
    omega
  · rw [em, z0]
    omega
  · rw [z64]
    omega
  · by_cases c : j = 1
    · subst c
      rw [e1]
      omega
    · rw [e2 j (by omega) (by omega)]
      have := (hN (j + 1) (by omega)).1
      have : (0 : Int) ≤ (nLo (j + 1) : Int) := Int.natCast_nonneg _
      omega
  · show stN nu S Fl (13 + s) = _ ∨ stN nu S Fl (13 + s) = _
    unfold stN
    rw [if_neg (by omega), if_neg (by omega)]
    by_cases c : s < S.length
    · obtain ⟨x, hx, -, e⟩ := gtD (fun f : Sto => boI f.2.2.2) (d := 0) c
      rw [if_pos (by omega), show 13 + s - 13 = s by omega, e]
      cases x.2.2.2
      · exact Or.inl rfl
      · exact Or.inr rfl
    · rw [if_neg (by omega), if_neg (by omega), if_neg (by omega)]
      exact Or.inl rfl
  · constructor
    · left
      show (if b < B.length then _ else _) = _
      split <;> rfl
    · left
      show (if b < B.length then _ else _) = _
      split <;> rfl
theorem yOk_Lo (A : yOk Y k) : yOk (yLo Y).2 (k + 1) := by
  unfold yLo
  split
  · exact A.mono (Nat.le_succ k)
  · next q h =>
    obtain ⟨p1, p2, p3, p4⟩ := pzF_ok h
    exact ⟨pOk_Z p1 p2 p3 p4, (aOk_Z p1 p2 p3 p4).mono (Nat.zero_le _), fun σ hs => absurd hs List.not_mem_nil, fun i σ hi => by cases hi⟩
end
