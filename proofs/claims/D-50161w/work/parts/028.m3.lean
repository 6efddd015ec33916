/-! the twin: rows of riders -/
def gvW (w : Nat → Int32) (s : Nat) (l : List Rd) (k : Nat) : Nat → Int32 := rSk (zu (incs w 2 (l.take k)) (23 + s) (Int32.ofNat (l.length - k))) s k (3 * (l.length - k))
section
variable {κ : zC} {h : zH} {b : Nat} {w : Nat → Int32} {sm : Nat → Int64} {o : Int32} {Q : zQ} {σ : Sg} {π : Pl}
theorem e7_giveUp {s : Nat} {l : List Rd} {t : Int32} (S : MSh κ h b) (hs : s < 10) (hl : l.length ≤ 40) (hf : ∀ r ∈ l, r.2.2 < 17) (hrow : RowAt w s l) : Ev κ mX7_giveUp [.ref b, .int (Int32.ofNat s), .int t] (hM h b w sm o) Q = Q (.inl none) (hM h b (gvW w s l (gvK (w 4) t l)) sm o) := by
  have S1 := mW S
  obtain ⟨r1, r2⟩ := hrow
  have hle := gvK_le (w 4) t l
  have wi : ∀ i j, (j < 79 ∨ 164 ≤ j) → incs w 2 (l.take i) j = w j := fun i j hj => incs_ne (fun r hr => hf r (List.mem_of_mem_take hr)) (by omega) hj
  have lp : ∀ d i, i + d = gvK (w 4) t l → Go κ mX7_giveUp 2 [some (.ref b), some (.int (Int32.ofNat s)), some (.int t), some (.int (Int32.ofNat i))] [] (hM h b (incs w 2 (l.take i)) sm o) Q = Q (.inl none) (hM h b (gvW w s l (gvK (w 4) t l)) sm o) := by
    intro d
    induction d with
    | zero =>
      intro i hi
      have e1 : incs w 2 (l.take i) (23 + s) = Int32.ofNat l.length := (wi i _ (by omega)).trans r1
      have e4 := wi i 4 (by omega)
      have hi' : i = gvK (w 4) t l := by omega
      have e5 := fun Q => e7_shifts (κ := κ) (sm := sm) (o := o) (Q := Q) (m := i) S hs hl (by omega) e1
      simp (disch := first | assumption | omega | decide) only [gB, I_all, zK_v, zK_n, true_and, and_true, Nat.reduceAdd, Nat.reduceMul, Nat.reduceSub, z_lt, z_le, z_neq, not_false_eq_true, hM_all, gX7_giveUp_h]
      by_cases hlt : i < l.length
      · obtain ⟨r, g1, g2⟩ := gvK_end (p := w 4) (t := t) (l := l) (by omega)
        rw [← hi'] at g1
        obtain ⟨q1, q2, q3⟩ := r2 i r g1
        have e2 : incs w 2 (l.take i) (242 + 120 * s + 3 * i + 1) = r.2.1 := (wi i _ (by omega)).trans q2
        have hc : t - r.2.1 ≤ w 4 := Int32.not_lt.mp g2
        simp (disch := first | assumption | omega | decide) only [gB, I_all, zK_v, zK_n, true_and, and_true, Nat.reduceAdd, Nat.reduceMul, Nat.reduceSub, z_lt, z_le, z_neq, not_false_eq_true, hM_all, gX7_giveUp, S1, e1, e4, e2, e7_riderAt, e5]
        rw [hi']
        rfl
      · simp (disch := first | assumption | omega | decide) only [gB, I_all, zK_v, zK_n, true_and, and_true, Nat.reduceAdd, Nat.reduceMul, Nat.reduceSub, z_lt, z_le, z_neq, not_false_eq_true, hM_all, gX7_giveUp, S1, e1, e4, e7_riderAt, e5]
        rw [hi']
        rfl
    | succ d ih =>
      intro i hi
      have e1 : incs w 2 (l.take i) (23 + s) = Int32.ofNat l.length := (wi i _ (by omega)).trans r1
      have e4 := wi i 4 (by omega)
      obtain ⟨r, g1, g2⟩ := gvK_lt (p := w 4) (t := t) (l := l) (i := i) (by omega)
      obtain ⟨q1, q2, q3⟩ := r2 i r g1
      have hlt := (List.getElem?_eq_some_iff.mp g1).1
      have hfr := hf r (List.mem_of_getElem? g1)
      have e2 : incs w 2 (l.take i) (242 + 120 * s + 3 * i + 1) = r.2.1 := (wi i _ (by omega)).trans q2
      have e3 : incs w 2 (l.take i) (242 + 120 * s + 3 * i + 2) = Int32.ofNat r.2.2 := (wi i _ (by omega)).trans q3
      have hc : ¬ (t - r.2.1 ≤ w 4) := Int32.not_le.mpr g2
      have e6 := fun Q => e7_counts (κ := κ) (w := incs w 2 (l.take i)) (sm := sm) (o := o) (Q := Q) (f := r.2.2) (c := 2) S (by omega)
      simp (disch := first | assumption | omega | decide) only [gB, I_all, zK_v, zK_n, true_and, and_true, Nat.reduceAdd, Nat.reduceMul, Nat.reduceSub, z_lt, z_le, z_neq, not_false_eq_true, hM_all, gX7_giveUp_h]
      simp (disch := first | assumption | omega | decide) only [gB, I_all, zK_v, zK_n, true_and, and_true, Nat.reduceAdd, Nat.reduceMul, Nat.reduceSub, z_lt, z_le, z_neq, not_false_eq_true, hM_all, gX7_giveUp, S1, e1, e4, e2, e3, e7_riderAt, e6, incs_up g1]
      exact ih (i + 1) (by omega)
  have := lp (gvK (w 4) t l) 0 (by omega)
  rw [List.take_zero, incs_nil] at this
  simp (disch := first | assumption | omega | decide) only [gB, I_all, zK_v, zK_n, true_and, and_true, Nat.reduceAdd, Nat.reduceMul, Nat.reduceSub, z_lt, z_le, z_neq, not_false_eq_true, hM_all, gX7_giveUp]
  exact this
/-- the world behind, against the spec -/
theorem WAt_gv {s : Nat} {t : Int32} (W : WAt w sm σ) (O : sOk π σ) (hs : s < 10) : WAt (gvW w s (sR σ s) (gvK (w 4) t (sR σ s))) sm (sGv σ s t) := by
  obtain ⟨wA, wR, wL, wB, wG, wS⟩ := W
  have hp : w 4 = sN σ 4 := wA 4 (by unfold nat1; omega)
  obtain ⟨o1, o2⟩ := O.1 s hs
  have hle := gvK_le (sN σ 4) t (sR σ s)
  rw [hp]
  generalize hk : gvK (sN σ 4) t (sR σ s) = k at *
  have wi : ∀ j, (j < 79 ∨ 164 ≤ j) → incs w 2 ((sR σ s).take k) j = w j := fun j hj => incs_ne (fun r hr => (o2 r (List.mem_of_mem_take hr)).2) (by omega) hj
  have hflat : ∀ j, j < 242 → j ≠ 23 + s → gvW w s (sR σ s) k j = incs w 2 ((sR σ s).take k) j := fun j h1 h2 => by
    unfold gvW
    rw [rSk_lo _ _ _ _ _ h1, zu_ne _ _ h2]
  have hout : ∀ j, 242 ≤ j → (j < 242 + 120 * s ∨ 242 + 120 * s + 120 ≤ j) → gvW w s (sR σ s) k j = w j := fun j h1 h2 => by
    unfold gvW rSk
    rw [if_neg (by omega), zu_ne _ _ (by omega)]
    exact wi j (by omega)
  unfold sGv
  rw [hk]
  refine ⟨fun j hj => ?_, fun s' hs' => ?_, fun s' hs' => ?_, fun b' hb' => ?_, ?_, wS⟩
  · rw [hflat j (by unfold nat1 at hj; omega) (by unfold nat1 at hj; omega)]
    show w j + _ = sN σ j + _
    rw [wA j hj]
  · show RowAt _ s' (zu (sR σ) s ((sR σ s).drop k) s')
    by_cases e : s' = s
    · subst e
      rw [zu_eq]
      refine ⟨?_, fun i r hi => ?_⟩
      · unfold gvW
        rw [rSk_lo _ _ _ _ _ (by omega), zu_eq, List.length_drop]
      · rw [List.getElem?_drop] at hi
        have hl := (List.getElem?_eq_some_iff.mp hi).1
        obtain ⟨h1, h2, h3⟩ := (wR s' hs').2 (k + i) r hi
        have key : ∀ c, c < 3 → gvW w s' (sR σ s') k (242 + 120 * s' + 3 * i + c) = w (242 + 120 * s' + 3 * (k + i) + c) := by
          intro c hc
          unfold gvW rSk
          rw [if_pos (by omega), zu_ne _ _ (by omega), wi _ (by omega)]
          congr 1
          omega
        exact ⟨by rw [← h1]; exact key 0 (by omega), by rw [← h2]; exact key 1 (by omega), by rw [← h3]; exact key 2 (by omega)⟩
    · rw [zu_ne _ _ e]
      refine (wR s' hs').congr ?_ fun j h1 h2 => ?_
      · rw [hflat _ (by omega) (by omega)]; exact wi _ (by omega)
      · have := (O.1 s' hs').1
        exact hout j (by omega) (by omega)
  · refine (wL s' hs').congr ?_ fun j h1 h2 => ?_
    · rw [hflat _ (by omega) (by omega)]; exact wi _ (by omega)
    · exact hout j (by omega) (by omega)
  · refine (wB b' hb').congr (fun j hj => ?_) fun j h1 h2 => ?_
    · rw [hflat _ (by omega) (by omega)]; exact wi _ (by omega)
    · exact hout j (by omega) (by omega)
  · refine wG.congr ?_ fun j h1 h2 => ?_
    · rw [hflat _ (by omega) (by omega)]; exact wi _ (by omega)
    · exact hout j (by omega) (by omega)
end
