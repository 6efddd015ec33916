/-! a leaving is noted: what an event does to a stop's leavings (no program in sight) -/
theorem sLe_43 (π : Pl) (σ : Sg) (b s : Nat) (t : Int32) (hs : s < 10) (hb : bI σ b 1 < 10) : sN (sLe π σ b t) (43 + s) = sN σ (43 + s) ∨ ∃ l g, sL (sLe π σ b t) s = l ++ [(b, t, g)] := by
  rw [sLe_eq]
  generalize hτ : sL2 (sL1 π (sL0 π σ b t) b (bI σ b 1) t) b (bI σ b 1) t (gapO (sL1 π (sL0 π σ b t) b (bI σ b 1) t) (bI σ b 1) t) = τ
  generalize gapO (sL1 π (sL0 π σ b t) b (bI σ b 1) t) (bI σ b 1) t = g at *
  by_cases e : s = bI σ b 1
  · rw [← e]
    refine Or.inr ⟨if (sL τ s).length = 8 then (sL τ s).drop 1 else sL τ s, g, ?_⟩
    show zu (sL τ) s ((if (sL τ s).length = 8 then (sL τ s).drop 1 else sL τ s) ++ [(b, t, g)]) s = _
    rw [zu_eq]
  · refine Or.inl ?_
    have e1 : sN (sL3 π τ b (bI σ b 1) t g) (43 + s) = sN τ (43 + s) := by
      show inc (zu (sN τ) (33 + bI σ b 1) t) (43 + bI σ b 1) (43 + s) = _
      unfold inc
      rw [zu_ne _ _ (by omega), zu_ne _ _ (by omega)]
    have e2 : sN τ (43 + s) = sN σ (43 + s) := by
      rw [← hτ]
      have a2 : ∀ (ρ : Sg) (u : Nat), sN (sL2 ρ b u t g) (43 + s) = sN ρ (43 + s) := fun ρ u => by
        unfold sL2
        split
        · show inc (sN ρ) 6 _ = _
          exact zu_ne _ _ (by omega)
        · split
          · show inc (sN ρ) 7 _ = _
            exact zu_ne _ _ (by omega)
          · rfl
      rw [a2, sL1_N, sL0_N _ _ _ _ _ (by omega)]
    exact e1.trans e2
theorem sR2_N43 (σ : Sg) (b s : Nat) (t u : Int32) (j : Nat) (hj : 10 ≤ j) : sN (sR2 σ b s t u) j = sN σ j := by
  show zu (inc (sN σ) 8) 9 (inc (sN σ) 8 9 + u) j = _
  unfold inc
  rw [zu_ne _ _ (by omega), zu_ne _ _ (by omega)]
theorem sCs_N43 (π : Pl) (σ : Sg) (b : Nat) (t : Int32) (j : Nat) (hj : 12 ≤ j) : sN (sCs π σ b t) j = sN σ j := by
  show inc (sN σ) 11 j = _
  exact zu_ne _ _ (by omega)
theorem sCu_N43 (π : Pl) (σ : Sg) (b s : Nat) (t : Int32) (m n : Nat) (j : Nat) (hj : 12 ≤ j) : sN (sCu (sCt π σ b t m n) b s t) j = sN σ j := by
  unfold sCu
  split
  · show zu (sN σ) 10 _ j = _
    exact zu_ne _ _ (by omega)
  · rfl
theorem sC0_N43 (π : Pl) (σ : Sg) (b : Nat) (t : Int32) (j : Nat) (hj : j < 63) : sN (sC0 π σ b t) j = sN σ j := by
  unfold sC0
  rw [(sBr_fr _ _ _ _).2.2.2.2 _ hj]
  by_cases c : bF σ b 0 = Int32.ofNat 1 ∧ bI σ b 1 = 0
  · rw [if_pos c]; rfl
  · rw [if_neg c]
theorem sHa_43 {π : Pl} {σ : Sg} (O : pOk π) (OK : sOk π σ) {b s : Nat} (hb : b < plN π 1) (hs : s < 10) : sN (sHa π σ b).1 (43 + s) = sN σ (43 + s) ∨ ∃ l g, sL (sHa π σ b).1 s = l ++ [(b, bF σ b 2, g)] := by
  have h6 : b < 6 := Nat.lt_of_lt_of_le hb O.2.1.2
  obtain ⟨st, s1, q1, q2, q3, q4⟩ := bst OK hb h6
  have hs1 : bI σ b 1 < 10 := by
    have := O.1.2
    rw [bI_of (by omega) q4]
    omega
  have ed : sHa π σ b = if bF σ b 0 = Int32.ofNat 2 then (sRe π σ b (bF σ b 2), 0) else if bF σ b 0 = Int32.ofNat 3 then (sLe π σ b (bF σ b 2), 0) else sCo π σ b (bF σ b 2) := rfl
  rw [ed]
  split
  · dsimp only
    rw [sRe_eq]
    generalize sRh π σ b (bF σ b 2) = u
    generalize sRw π σ b (bF σ b 2) = v
    by_cases c : u = Int32.ofNat 0
    · rw [if_pos c]
      have h1 : bI (sR1 σ b u v) b 1 < 10 := by
        unfold bI at *
        rw [sR1_F _ _ _ _ _ _ (by decide) (by decide)]
        exact hs1
      have e := sLe_43 π (sR1 σ b u v) b s (bF σ b 2) hs h1
      rw [show sN (sR1 σ b u v) = sN σ from rfl] at e
      exact e
    · rw [if_neg c]
      refine Or.inl ?_
      rw [sR2_N43 _ _ _ _ _ _ (by omega)]
      rfl
  · split
    · dsimp only
      exact sLe_43 π σ b s (bF σ b 2) hs hs1
    · refine Or.inl ?_
      have e0 := sC0_N43 π σ b (bF σ b 2) (43 + s) (by omega)
      rw [sCo_eq]
      generalize sC0 π σ b (bF σ b 2) = τ at *
      rw [← e0]
      by_cases c : bF τ b 8 = Int32.ofNat 1
      · rw [if_pos c]
        exact sCs_N43 _ _ _ _ _ (by omega)
      · rw [if_neg c]
        dsimp only
        have a1 := sAl_N τ b (bI σ b 1) (bF σ b 2) (43 + s) (by omega)
        generalize sAl τ b (bI σ b 1) (bF σ b 2) = r1 at *
        have a2 := sBo_N π r1.1 b (bI σ b 1) (bF σ b 2) (43 + s) (by omega)
        generalize sBo π r1.1 b (bI σ b 1) (bF σ b 2) = r at *
        rw [← a1, ← a2]
        exact sCu_N43 _ _ _ _ _ _ _ _ (by omega)
