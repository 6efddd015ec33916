/-! the twin: on to the next stop -/
theorem sBs_F (σ : Sg) (k c : Nat) (v : Int32) (b d : Nat) : bF (sBs σ k c v) b d = if b = k ∧ d = c then v else bF σ b d := by
  by_cases e : b = k
  · subst e
    show (sB (sBs σ b c v) b).1 d = _
    rw [sBs_eq]
    show zu (sB σ b).1 c v d = _
    by_cases e2 : d = c
    · rw [if_pos ⟨rfl, e2⟩, e2, zu_eq]
    · rw [if_neg (fun x => e2 x.2), zu_ne _ _ e2]; rfl
  · show (sB (sBs σ k c v) b).1 d = _
    rw [sBs_ne _ _ _ e, if_neg (fun x => e x.1)]; rfl
theorem sBs_R (σ : Sg) (k c : Nat) (v : Int32) (b : Nat) : bR (sBs σ k c v) b = bR σ b := by
  by_cases e : b = k
  · subst e
    show (sB (sBs σ b c v) b).2 = _
    rw [sBs_eq]; rfl
  · show (sB (sBs σ k c v) b).2 = _
    rw [sBs_ne _ _ _ e]; rfl
theorem sOk_bs {π : Pl} {σ : Sg} {k c : Nat} {v : Int32} (OK : sOk π σ) (h0 : c = 0 → ∃ n, n < 4 ∧ v = Int32.ofNat n) (h1 : c = 1 → ∃ n, n < plN π 0 ∧ v = Int32.ofNat n) : sOk π (sBs σ k c v) := by
  obtain ⟨o1, o2, o3, o4⟩ := OK
  refine ⟨o1, o2, fun b hb => ?_, o4⟩
  obtain ⟨q1, q2, q3, q4, q5⟩ := o3 b hb
  rw [sBs_R, sBs_F, sBs_F]
  refine ⟨q1, q2, q3, ?_, ?_⟩
  · split
    · next e => exact h0 e.2.symm
    · exact q4
  · split
    · next e =>
      obtain ⟨n, n1, n2⟩ := h1 e.2.symm
      exact ⟨n, Or.inl n1, n2⟩
    · exact q5
section
variable {κ : zC} {h : zH} {b : Nat} {w : Nat → Int32} {sm : Nat → Int64} {o : Int32} {Q : zQ} {σ : Sg} {π : Pl}
theorem bI_of {σ : Sg} {k c n : Nat} (hn : n < 2147483648) (e : bF σ k c = Int32.ofNat n) : bI σ k c = n := by
  unfold bI
  rw [e, I_nat hn]
theorem e7_goesOn {k s : Nat} {t : Int32} (S : MSh κ h b) (P : MPl h b π) (O : pOk π) (W : WAt w sm σ) (OK : sOk π σ) (hk : k < 6) (hs : s < plN π 0) (e1 : bF σ k 1 = Int32.ofNat s)
    (hq : ∀ w', WAt w' sm (sGo π σ k t) → Q (.inl none) (hM h b w' sm o)) : Ev κ mX7_goesOn [.ref b, .int (Int32.ofNat k), .int t] (hM h b w sm o) Q := by
  have S1 := mW S
  have S2 := mA S (84, 1, 10) (k := 4) (by decide)
  have P4 := P.2.2.2.2.2.2.1 4 (by decide)
  have hns := O.1.2
  have eo := fun (w : Nat → Int32) (sm : Nat → Int64) (c : Nat) (hc : c < 13) Q => e7_of (κ := κ) (w := w) (sm := sm) (o := o) (Q := Q) (k := k) (c := c) S (by omega)
  have es := fun (w : Nat → Int32) (sm : Nat → Int64) (c : Nat) (v : Int32) (hc : c < 13) Q => e7_sets (κ := κ) (w := w) (sm := sm) (o := o) (Q := Q) (k := k) (c := c) (v := v) S (by omega)
  have eb := fun (w : Nat → Int32) Q => e7_behind (κ := κ) (w := w) (sm := sm) (o := o) (Q := Q) S P O hs
  have ea : w (164 + 13 * k + 1) = Int32.ofNat s := ((W.2.2.2.1 k hk).1 1 (by decide)).trans e1
  have W1 := WAt_bs (c := 0) (v := Int32.ofNat 1) W OK hk (by decide) (by decide)
  have OK1 : sOk π (sBs σ k 0 (Int32.ofNat 1)) := sOk_bs OK (fun _ => ⟨1, by omega, rfl⟩) (fun h => by cases h)
  have W2 := WAt_bs (c := 1) (v := Int32.ofNat (nxt π s)) W1 OK1 hk (by decide) (by decide)
  have OK2 : sOk π (sBs (sBs σ k 0 (Int32.ofNat 1)) k 1 (Int32.ofNat (nxt π s))) := sOk_bs OK1 (fun h => by cases h) (fun _ => ⟨nxt π s, by unfold nxt; split <;> omega, rfl⟩)
  have W3 := WAt_bs (c := 2) (v := t + plT π 4 s) W2 OK2 hk (by decide) (by decide)
  unfold sGo at hq
  rw [bI_of (by omega) e1] at hq
  simp (disch := first | assumption | omega | decide) only [gB, I_all, zK_v, zK_n, true_and, and_true, Nat.reduceAdd, Nat.reduceMul, Nat.reduceSub, z_lt, z_le, z_neq, not_false_eq_true, hM_all, gX7_goesOn, S1, S2, P4, eo, es, eb, ea]
  exact hq _ W3
end
