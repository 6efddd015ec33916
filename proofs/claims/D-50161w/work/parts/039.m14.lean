/-! the twin: a bus's numbers -/
theorem WAt_bs {π : Pl} {w : Nat → Int32} {sm : Nat → Int64} {σ : Sg} {k c : Nat} {v : Int32} (W : WAt w sm σ) (OK : sOk π σ) (hk : k < 6) (hc : c ∈ bKs) (h6 : c ≠ 6) : WAt (zu w (164 + 13 * k + c) v) sm (sBs σ k c v) := by
  obtain ⟨wA, wR, wL, wB, wG, wS⟩ := W
  have hc13 : c < 13 ∧ c ≠ 4 ∧ c ≠ 7 ∧ c ≠ 10 ∧ c ≠ 11 := by
    have a1 : ∀ k ∈ bKs, k < 13 ∧ k ≠ 4 ∧ k ≠ 7 ∧ k ≠ 10 ∧ k ≠ 11 := by decide
    exact a1 c hc
  refine ⟨fun j hj => ?_, fun s' hs' => ?_, fun s' hs' => ?_, fun b' hb' => ?_, ?_, wS⟩
  · rw [zu_ne _ _ (by unfold nat1 at hj; omega)]
    exact wA j hj
  · have := (OK.1 s' hs').1
    exact (wR s' hs').congr (zu_ne _ _ (by omega)) fun j h1 h2 => zu_ne _ _ (by omega)
  · have := (OK.2.1 s' hs').1
    exact (wL s' hs').congr (zu_ne _ _ (by omega)) fun j h1 h2 => zu_ne _ _ (by omega)
  · by_cases e : b' = k
    · subst e
      obtain ⟨q1, q2, q3, q4, q5⟩ := wB b' hb'
      rw [sBs_eq]
      refine ⟨fun d hd => ?_, ?_, q3.congr fun j h1 h2 => zu_ne _ _ (by omega), ?_, ?_⟩
      · dsimp only
        by_cases e : d = c
        · rw [e, zu_eq, zu_eq]
        · rw [zu_ne _ _ (by omega), zu_ne _ _ e]
          exact q1 d hd
      · rw [zu_ne _ _ (by omega)]; exact q2
      · dsimp only
        rw [zu_ne _ _ (by omega : 6 ≠ c), zu_ne _ _ (by omega : 7 ≠ c), zu_ne _ _ (by omega)]
        exact q4
      · dsimp only
        rw [zu_ne _ _ (by omega : 10 ≠ c), zu_ne _ _ (by omega : 11 ≠ c), zu_ne _ _ (by omega), zu_ne _ _ (by omega)]
        exact q5
    · rw [sBs_ne _ _ _ e]
      exact (wB b' hb').congr (fun j hj => zu_ne _ _ (by omega)) fun j h1 h2 => zu_ne _ _ (by omega)
  · exact wG.congr (zu_ne _ _ (by omega)) fun j h1 h2 => zu_ne _ _ (by omega)
