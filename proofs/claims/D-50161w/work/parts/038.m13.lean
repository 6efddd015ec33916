/-! the twin: riders alight, against the spec -/
section
variable {κ : zC} {h : zH} {b : Nat} {w : Nat → Int32} {sm : Nat → Int64} {o : Int32} {Q : zQ} {σ : Sg} {π : Pl}
theorem WAt_al {w' : Nat → Int32} {k s : Nat} {t : Int32} (W : WAt w sm σ) (OK : sOk π σ) (hk : k < 6) (A : AlI w w' k (bR σ k) s (bR σ k).length) : WAt (zu w' (164 + 13 * k + 4) (Int32.ofNat (stays s (bR σ k)).length)) (zu sm 1 (sm 1 + waits t (gets s (bR σ k)))) (sAl σ k s t).1 := by
  obtain ⟨wA, wR, wL, wB, wG, wS0, wS1⟩ := W
  obtain ⟨a1, a2, -⟩ := A
  rw [List.take_length] at a1 a2
  obtain ⟨o1, o2, o3, o4⟩ := OK.2.2.1 k hk
  have hf : ∀ r ∈ gets s (bR σ k), r.2.2 < 17 := fun r hr => (o3 r (gets_mem hr)).2
  have hlen : (stays s (bR σ k)).length ≤ 99 := Nat.le_trans (stays_len _ _) o1
  have ho : ∀ j, (j < 79 ∨ 164 ≤ j) → (j < 1832 + 297 * k ∨ 1832 + 297 * k + 297 ≤ j) → ¬ j = 164 + 13 * k + 4 → zu w' (164 + 13 * k + 4) (Int32.ofNat (stays s (bR σ k)).length) j = w j := fun j h1 h2 h3 => by
    rw [zu_ne _ _ h3, a1 j h2, incs_ne hf (by omega) h1]
  refine ⟨fun j hj => ?_, fun s' hs' => ?_, fun s' hs' => ?_, fun b' hb' => ?_, ?_, ?_, ?_⟩
  · have hj' := hj
    unfold nat1 at hj'
    rw [zu_ne _ _ (by omega), a1 j (by omega)]
    show w j + _ = sN σ j + _
    rw [wA j hj]
    rfl
  · have := (OK.1 s' hs').1
    exact (wR s' hs').congr (ho _ (by omega) (by omega) (by omega)) fun j h1 h2 => ho j (by omega) (by omega) (by omega)
  · have := (OK.2.1 s' hs').1
    exact (wL s' hs').congr (ho _ (by omega) (by omega) (by omega)) fun j h1 h2 => ho j (by omega) (by omega) (by omega)
  · by_cases e : b' = k
    · subst e
      obtain ⟨q1, q2, q3, q4, q5⟩ := wB b' hb'
      have eB : sB (sAl σ b' s t).1 b' = ((sB σ b').1, stays s (bR σ b')) := sBq_eq _ _ _
      rw [eB]
      refine ⟨fun c hc => ?_, zu_eq _ _ _, a2.congr fun j h1 h2 => zu_ne _ _ (by omega), ?_, ?_⟩
      · have hc13 : c < 13 ∧ c ≠ 4 := by
          have a1 : ∀ k ∈ bKs, k < 13 ∧ k ≠ 4 := by decide
          exact a1 c hc
        rw [ho _ (by omega) (by omega) (by omega)]
        exact q1 c hc
      · rw [ho _ (by omega) (by omega) (by omega)]
        exact q4
      · rw [ho _ (by omega) (by omega) (by omega), ho _ (by omega) (by omega) (by omega)]
        exact q5
    · have eB : sB (sAl σ k s t).1 b' = sB σ b' := sBq_ne _ _ e
      rw [eB]
      have := (OK.2.2.1 b' hb').1
      exact (wB b' hb').congr (fun j hj => ho _ (by omega) (by omega) (by omega)) fun j h1 h2 => ho j (by omega) (by unfold bR at this; omega) (by omega)
  · have := OK.2.2.2.1
    exact wG.congr (ho _ (by omega) (by omega) (by omega)) fun j h1 h2 => ho j (by omega) (by omega) (by omega)
  · show zu sm 1 (sm 1 + waits t (gets s (bR σ k))) 0 = zu (sS σ) 1 (sS σ 1 + waits t (gets s (bR σ k))) 0
    rw [zu_ne _ _ (by omega), zu_ne _ _ (by omega)]
    exact wS0
  · show zu sm 1 (sm 1 + waits t (gets s (bR σ k))) 1 = zu (sS σ) 1 (sS σ 1 + waits t (gets s (bR σ k))) 1
    rw [zu_eq, zu_eq, wS1]
theorem e7_alights {k s : Nat} {t : Int32} (S : MSh κ h b) (W : WAt w sm σ) (OK : sOk π σ) (hk : k < 6) (hs : s < 10)
    (hq : ∀ w' sm', WAt w' sm' (sAl σ k s t).1 → Q (.inl (some (.int (Int32.ofNat (sAl σ k s t).2)))) (hM h b w' sm' o)) : Ev κ mX7_alights [.ref b, .int (Int32.ofNat k), .int (Int32.ofNat s), .int t] (hM h b w sm o) Q :=
  e7_alightsL (q := bR σ k) S hk hs (OK.2.2.1 k hk).1 (OK.2.2.1 k hk).2.2.1 (W.2.2.2.1 k hk).2.1 (W.2.2.2.1 k hk).2.2.1 fun w' A => hq _ _ (WAt_al W OK hk A)
end
