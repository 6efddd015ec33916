/-! the twin: riders come -/
theorem RowAt.snoc {w w' : Nat → Int32} {s : Nat} {l : List Rd} {r : Rd} (h : RowAt w s l) (e0 : w' (23 + s) = Int32.ofNat (l.length + 1)) (e : ∀ j, 242 + 120 * s ≤ j → j < 242 + 120 * s + 3 * l.length → w' j = w j)
    (e1 : w' (242 + 120 * s + 3 * l.length) = Int32.ofNat r.1) (e2 : w' (242 + 120 * s + 3 * l.length + 1) = r.2.1) (e3 : w' (242 + 120 * s + 3 * l.length + 2) = Int32.ofNat r.2.2) : RowAt w' s (l ++ [r]) := by
  refine ⟨by rw [e0, List.length_append]; rfl, fun i q hi => ?_⟩
  rw [List.getElem?_append] at hi
  split at hi
  · exact (h.2.congr e) i q hi
  · have hl := (List.getElem?_eq_some_iff.mp hi).1
    have h0 : i = l.length := by simp at hl; omega
    subst h0
    simp at hi
    subst hi
    exact ⟨e1, e2, e3⟩
theorem WAt_n {w : Nat → Int32} {sm : Nat → Int64} {σ : Sg} (W : WAt w sm σ) {i : Nat} (v : Int32) (hi : nat1 i) : WAt (zu w i v) sm (vN σ (zu (sN σ) i v)) := by
  obtain ⟨wA, wR, wL, wB, wG, wS⟩ := W
  have hi' := hi
  unfold nat1 at hi'
  refine ⟨fun j hj => ?_, fun s hs => ?_, fun s hs => ?_, fun b hb => ?_, ?_, wS⟩
  · show zu w i v j = zu (sN σ) i v j
    unfold zu
    split
    · rfl
    · exact wA j hj
  · exact (wR s hs).congr (zu_ne _ _ (by omega)) fun j h1 h2 => zu_ne _ _ (by omega)
  · exact (wL s hs).congr (zu_ne _ _ (by omega)) fun j h1 h2 => zu_ne _ _ (by omega)
  · exact (wB b hb).congr (fun j hj => zu_ne _ _ (by omega)) fun j h1 h2 => zu_ne _ _ (by omega)
  · exact wG.congr (zu_ne _ _ (by omega)) fun j h1 h2 => zu_ne _ _ (by omega)
theorem WAt_inc {w : Nat → Int32} {sm : Nat → Int64} {σ : Sg} (W : WAt w sm σ) {i : Nat} (hi : nat1 i) : WAt (zu w i (w i + Int32.ofNat 1)) sm (vN σ (inc (sN σ) i)) := by
  have := WAt_n W (w i + Int32.ofNat 1) hi
  rw [W.1 i hi] at this ⊢
  exact this
theorem WAt_push {w : Nat → Int32} {sm : Nat → Int64} {σ : Sg} (W : WAt w sm σ) {s : Nat} (hs : s < 10) {r : Rd} {n : Nat} (hn : (sR σ s).length = n) (hn' : n < 40) (hrows : ∀ s, s < 10 → (sR σ s).length ≤ 40) : WAt (zu (zu (zu (zu w (242 + 120 * s + 3 * n) (Int32.ofNat r.1)) (242 + 120 * s + 3 * n + 1) r.2.1) (242 + 120 * s + 3 * n + 2) (Int32.ofNat r.2.2)) (23 + s) (Int32.ofNat (n + 1))) sm (vR σ (zu (sR σ) s (sR σ s ++ [r]))) := by
  obtain ⟨wA, wR, wL, wB, wG, wS⟩ := W
  have ho : ∀ j, j ≠ 23 + s → (j < 242 + 120 * s + 3 * n ∨ 242 + 120 * s + 3 * n + 3 ≤ j) → zu (zu (zu (zu w (242 + 120 * s + 3 * n) (Int32.ofNat r.1)) (242 + 120 * s + 3 * n + 1) r.2.1) (242 + 120 * s + 3 * n + 2) (Int32.ofNat r.2.2)) (23 + s) (Int32.ofNat (n + 1)) j = w j := fun j h1 h2 => by
    rw [zu_ne _ _ h1, zu_ne _ _ (by omega), zu_ne _ _ (by omega), zu_ne _ _ (by omega)]
  refine ⟨fun j hj => ?_, fun s' hs' => ?_, fun s' hs' => ?_, fun b hb => ?_, ?_, wS⟩
  · have hj' := hj
    unfold nat1 at hj'
    rw [ho j (by omega) (by omega)]
    exact wA j hj
  · show RowAt _ s' (zu (sR σ) s (sR σ s ++ [r]) s')
    by_cases e : s' = s
    · subst e
      rw [zu_eq]
      subst hn
      refine (wR s' hs').snoc (zu_eq _ _ _) (fun j h1 h2 => ho j (by omega) (by omega)) ?_ ?_ ?_
      · rw [zu_ne _ _ (by omega), zu_ne _ _ (by omega), zu_ne _ _ (by omega), zu_eq]
      · rw [zu_ne _ _ (by omega), zu_ne _ _ (by omega), zu_eq]
      · rw [zu_ne _ _ (by omega), zu_eq]
    · rw [zu_ne _ _ e]
      have := hrows s' hs'
      exact (wR s' hs').congr (ho _ (by omega) (by omega)) fun j h1 h2 => ho j (by omega) (by omega)
  · exact (wL s' hs').congr (ho _ (by omega) (by omega)) fun j h1 h2 => ho j (by omega) (by omega)
  · exact (wB b hb).congr (fun j hj => ho _ (by omega) (by omega)) fun j h1 h2 => ho j (by omega) (by omega)
  · exact wG.congr (ho _ (by omega) (by omega)) fun j h1 h2 => ho j (by omega) (by omega)
section
variable {κ : zC} {h : zH} {b : Nat} {w : Nat → Int32} {sm : Nat → Int64} {o : Int32} {Q : zQ} {σ : Sg} {π : Pl}
theorem sGv_row (σ : Sg) (s s' : Nat) (t : Int32) : (sR (sGv σ s t) s').length ≤ (sR σ s').length ∧ ∀ r ∈ sR (sGv σ s t) s', r ∈ sR σ s' := by
  show (zu (sR σ) s ((sR σ s).drop _) s').length ≤ _ ∧ ∀ r ∈ zu (sR σ) s ((sR σ s).drop _) s', _
  by_cases e : s' = s
  · subst e
    rw [zu_eq]
    exact ⟨by rw [List.length_drop]; omega, fun r hr => List.mem_of_mem_drop hr⟩
  · rw [zu_ne _ _ e]
    exact ⟨Nat.le_refl _, fun r hr => hr⟩
theorem sOk_gv {s : Nat} {t : Int32} (O : sOk π σ) : sOk π (sGv σ s t) := by
  obtain ⟨o1, o2⟩ := O
  exact ⟨fun s' hs' => ⟨Nat.le_trans (sGv_row σ s s' t).1 (o1 s' hs').1, fun r hr => (o1 s' hs').2 r ((sGv_row σ s s' t).2 r hr)⟩, o2⟩
theorem e7_joins {s to f : Nat} {t : Int32} (S : MSh κ h b) (W : WAt w sm σ) (O : sOk π σ) (hs : s < 10) (hf : f < 17)
    (hq : ∀ w', WAt w' sm (sJn σ s to t f).1 → Q (.inl (some (.int (if (sJn σ s to t f).2 = true then Int32.ofNat 1 else Int32.ofNat 0)))) (hM h b w' sm o)) : Ev κ mX7_joins [.ref b, .int (Int32.ofNat s), .int (Int32.ofNat to), .int t, .int (Int32.ofNat f)] (hM h b w sm o) Q := by
  have S1 := mW S
  have W1 := WAt_gv (t := t) W O hs
  have O1 := sOk_gv (s := s) (t := t) O
  have e1 := fun Q => e7_giveUp (κ := κ) (sm := sm) (o := o) (Q := Q) (t := t) S hs (O.1 s hs).1 (fun r hr => ((O.1 s hs).2 r hr).2) (W.2.1 s hs)
  unfold sJn at hq
  simp only [vs] at hq
  rw [W.1 4 (by unfold nat1; omega)] at e1 W1
  generalize gvW w s (sR σ s) (gvK (sN σ 4) t (sR σ s)) = w1 at e1 W1
  generalize sGv σ s t = σ1 at *
  have hn0 : nat1 (79 + 5 * f + 0) := by unfold nat1; omega
  have hn1 : nat1 (79 + 5 * f + 1) := by unfold nat1; omega
  have e2 := fun Q => e7_counts (κ := κ) (w := w1) (sm := sm) (o := o) (Q := Q) (f := f) (c := 0) S (by omega)
  have W2 := WAt_inc W1 hn0
  generalize zu w1 (79 + 5 * f + 0) (w1 (79 + 5 * f + 0) + Int32.ofNat 1) = w2 at e2 W2
  have e3 : w2 (23 + s) = Int32.ofNat (sR σ1 s).length := (W2.2.1 s hs).1
  have hlen := (O1.1 s hs).1
  by_cases h40 : (sR σ1 s).length = 40
  · have e4 := fun Q => e7_counts (κ := κ) (w := w2) (sm := sm) (o := o) (Q := Q) (f := f) (c := 1) S (by omega)
    have W3 := WAt_inc W2 hn1
    rw [if_pos h40] at hq
    simp (disch := first | assumption | omega | decide) only [gB, I_all, zK_v, zK_n, true_and, and_true, Nat.reduceAdd, Nat.reduceMul, Nat.reduceSub, z_lt, z_le, z_neq, not_false_eq_true, hM_all, gX7_joins, S1, e1, e2, e3, h40, e4, z_b0]
    exact hq _ W3
  · rw [if_neg h40] at hq
    have W3 := WAt_push (r := (to, t, f)) W2 hs (n := (sR σ1 s).length) rfl (by omega) fun s' hs' => (O1.1 s' hs').1
    dsimp only at W3
    have e5 : zu (zu (zu w2 (242 + 120 * s + 3 * (sR σ1 s).length) (Int32.ofNat to)) (242 + 120 * s + 3 * (sR σ1 s).length + 1) t) (242 + 120 * s + 3 * (sR σ1 s).length + 2) (Int32.ofNat f) (23 + s) = Int32.ofNat (sR σ1 s).length := by
      rw [zu_ne _ _ (by omega), zu_ne _ _ (by omega), zu_ne _ _ (by omega)]; exact e3
    simp (disch := first | assumption | omega | decide) only [gB, I_all, zK_v, zK_n, true_and, and_true, Nat.reduceAdd, Nat.reduceMul, Nat.reduceSub, z_lt, z_le, z_neq, not_false_eq_true, hM_all, gX7_joins, S1, e1, e2, e3, e5, e7_riderAt, z_b1]
    exact hq _ W3
end
