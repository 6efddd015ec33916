/-! the twin: rows lose their first, riders board -/
theorem zu_at {α : Type} {w : Nat → α} {i j : Nat} {v : α} (h : j = i) : zu w i v j = v := if_pos h
theorem zu_nx {α : Type} {w : Nat → α} {i j : Nat} {v : α} (h : ¬ j = i) : zu w i v j = w j := if_neg h
theorem WAt_shift {π : Pl} {w : Nat → Int32} {sm : Nat → Int64} {σ : Sg} {s k : Nat} (W : WAt w sm σ) (O : sOk π σ) (hs : s < 10) (hk : k ≤ (sR σ s).length) : WAt (rSk (zu w (23 + s) (Int32.ofNat ((sR σ s).length - k))) s k (3 * ((sR σ s).length - k))) sm (vR σ (zu (sR σ) s ((sR σ s).drop k))) := by
  obtain ⟨wA, wR, wL, wB, wG, wS⟩ := W
  obtain ⟨o1, o2⟩ := O.1 s hs
  have hflat : ∀ j, j < 242 → j ≠ 23 + s → rSk (zu w (23 + s) (Int32.ofNat ((sR σ s).length - k))) s k (3 * ((sR σ s).length - k)) j = w j := fun j h1 h2 => by
    rw [rSk_lo _ _ _ _ _ h1, zu_ne _ _ h2]
  have hout : ∀ j, 242 ≤ j → (j < 242 + 120 * s ∨ 242 + 120 * s + 120 ≤ j) → rSk (zu w (23 + s) (Int32.ofNat ((sR σ s).length - k))) s k (3 * ((sR σ s).length - k)) j = w j := fun j h1 h2 => by
    unfold rSk
    rw [if_neg (by omega), zu_ne _ _ (by omega)]
  refine ⟨fun j hj => ?_, fun s' hs' => ?_, fun s' hs' => ?_, fun b' hb' => ?_, ?_, wS⟩
  · rw [hflat j (by unfold nat1 at hj; omega) (by unfold nat1 at hj; omega)]
    exact wA j hj
  · show RowAt _ s' (zu (sR σ) s ((sR σ s).drop k) s')
    by_cases e : s' = s
    · subst e
      rw [zu_eq]
      refine ⟨?_, fun i r hi => ?_⟩
      · rw [rSk_lo _ _ _ _ _ (by omega), zu_eq, List.length_drop]
      · rw [List.getElem?_drop] at hi
        have hl := (List.getElem?_eq_some_iff.mp hi).1
        obtain ⟨h1, h2, h3⟩ := (wR s' hs').2 (k + i) r hi
        have key : ∀ c, c < 3 → rSk (zu w (23 + s') (Int32.ofNat ((sR σ s').length - k))) s' k (3 * ((sR σ s').length - k)) (242 + 120 * s' + 3 * i + c) = w (242 + 120 * s' + 3 * (k + i) + c) := by
          intro c hc
          unfold rSk
          rw [if_pos (by omega), zu_ne _ _ (by omega)]
          congr 1
          omega
        exact ⟨by rw [← h1]; exact key 0 (by omega), by rw [← h2]; exact key 1 (by omega), by rw [← h3]; exact key 2 (by omega)⟩
    · rw [zu_ne _ _ e]
      refine (wR s' hs').congr (hflat _ (by omega) (by omega)) fun j h1 h2 => ?_
      have := (O.1 s' hs').1
      exact hout j (by omega) (by omega)
  · exact (wL s' hs').congr (hflat _ (by omega) (by omega)) fun j h1 h2 => hout j (by omega) (by omega)
  · exact (wB b' hb').congr (fun j hj => hflat _ (by omega) (by omega)) fun j h1 h2 => hout j (by omega) (by omega)
  · exact wG.congr (hflat _ (by omega) (by omega)) fun j h1 h2 => hout j (by omega) (by omega)
theorem RAt.snoc {w w' : Nat → Int32} {a : Nat} {l : List Rd} {r : Rd} (h : RAt w a l) (e : ∀ j, a ≤ j → j < a + 3 * l.length → w' j = w j) (e1 : w' (a + 3 * l.length) = Int32.ofNat r.1) (e2 : w' (a + 3 * l.length + 1) = r.2.1) (e3 : w' (a + 3 * l.length + 2) = Int32.ofNat r.2.2) : RAt w' a (l ++ [r]) := by
  intro i q hi
  rw [List.getElem?_append] at hi
  split at hi
  · exact (h.congr e) i q hi
  · have hl := (List.getElem?_eq_some_iff.mp hi).1
    have h0 : i = l.length := by simp at hl; omega
    subst h0
    simp at hi
    subst hi
    exact ⟨e1, e2, e3⟩
theorem sBs_eq (σ : Sg) (k c : Nat) (v : Int32) : sB (sBs σ k c v) k = (zu (sB σ k).1 c v, (sB σ k).2) := zu_eq _ _ _
theorem sBs_ne (σ : Sg) {k b : Nat} (c : Nat) (v : Int32) (h : ¬ b = k) : sB (sBs σ k c v) b = sB σ b := zu_ne _ _ h
theorem sBq_eq (σ : Sg) (k : Nat) (l : List Rd) : sB (sBq σ k l) k = ((sB σ k).1, l) := zu_eq _ _ _
theorem sBq_ne (σ : Sg) {k b : Nat} (l : List Rd) (h : ¬ b = k) : sB (sBq σ k l) b = sB σ b := zu_ne _ _ h
/-- one rider r has boarded bus k at t -/
def sB1 (σ : Sg) (k : Nat) (t : Int32) (r : Rd) : Sg :=
  let σ1 := vN σ (inc (sN σ) (79 + 5 * r.2.2 + 3))
  let σ2 := vS σ1 (zu (sS σ1) 0 (sS σ1 0 + (t - r.2.1).toInt64))
  let σ3 := sBq σ2 k (bR σ k ++ [(r.1, t, r.2.2)])
  sBs σ3 k 9 (bF σ k 9 + Int32.ofNat 1)
theorem WAt_b1 {π : Pl} {w w' : Nat → Int32} {sm : Nat → Int64} {σ : Sg} {k : Nat} {t : Int32} {r : Rd} (W : WAt w sm σ) (O : sOk π σ) (hk : k < 6) (hr : r.2.2 < 17) (hn : (bR σ k).length < 99)
    (e1 : w' (1832 + 297 * k + 3 * (bR σ k).length) = Int32.ofNat r.1) (e2 : w' (1832 + 297 * k + 3 * (bR σ k).length + 1) = t) (e3 : w' (1832 + 297 * k + 3 * (bR σ k).length + 2) = Int32.ofNat r.2.2)
    (e4 : w' (164 + 13 * k + 4) = Int32.ofNat ((bR σ k).length + 1)) (e5 : w' (164 + 13 * k + 9) = w (164 + 13 * k + 9) + Int32.ofNat 1) (e6 : w' (79 + 5 * r.2.2 + 3) = w (79 + 5 * r.2.2 + 3) + Int32.ofNat 1)
    (e7 : ∀ j, (j < 1832 + 297 * k + 3 * (bR σ k).length ∨ 1832 + 297 * k + 3 * (bR σ k).length + 3 ≤ j) → ¬ j = 164 + 13 * k + 4 → ¬ j = 164 + 13 * k + 9 → ¬ j = 79 + 5 * r.2.2 + 3 → w' j = w j) :
    WAt w' (zu sm 0 (sm 0 + (t - r.2.1).toInt64)) (sB1 σ k t r) := by
  obtain ⟨wA, wR, wL, wB, wG, wS0, wS1⟩ := W
  unfold sB1
  refine ⟨fun j hj => ?_, fun s' hs' => ?_, fun s' hs' => ?_, fun b' hb' => ?_, ?_, ?_, ?_⟩
  · have hj' := hj
    unfold nat1 at hj'
    show w' j = inc (sN σ) (79 + 5 * r.2.2 + 3) j
    unfold inc
    by_cases e : j = 79 + 5 * r.2.2 + 3
    · rw [e, zu_eq, e6, wA _ (by unfold nat1; omega)]
    · rw [zu_ne _ _ e, e7 j (by omega) (by omega) (by omega) e]
      exact wA j hj
  · have := (O.1 s' hs').1
    exact (wR s' hs').congr (e7 _ (by omega) (by omega) (by omega) (by omega)) fun j h1 h2 => e7 j (by omega) (by omega) (by omega) (by omega)
  · have := (O.2.1 s' hs').1
    exact (wL s' hs').congr (e7 _ (by omega) (by omega) (by omega) (by omega)) fun j h1 h2 => e7 j (by omega) (by omega) (by omega) (by omega)
  · by_cases e : b' = k
    · subst e
      obtain ⟨q1, q2, q3, q4, q5⟩ := wB b' hb'
      have eB : sB (sBs (sBq (vS (vN σ (inc (sN σ) (79 + 5 * r.2.2 + 3))) (zu (sS (vN σ (inc (sN σ) (79 + 5 * r.2.2 + 3)))) 0 (sS (vN σ (inc (sN σ) (79 + 5 * r.2.2 + 3))) 0 + (t - r.2.1).toInt64))) b' (bR σ b' ++ [(r.1, t, r.2.2)])) b' 9 (bF σ b' 9 + Int32.ofNat 1)) b' = (zu (sB σ b').1 9 (bF σ b' 9 + Int32.ofNat 1), bR σ b' ++ [(r.1, t, r.2.2)]) := by
        rw [sBs_eq, sBq_eq]
        rfl
      show BsAt w' b' (sB _ b')
      rw [eB]
      refine ⟨fun c hc => ?_, ?_, ?_, ?_, ?_⟩
      · have hc13 : c < 13 ∧ c ≠ 4 := by
          have a1 : ∀ k ∈ bKs, k < 13 ∧ k ≠ 4 := by decide
          exact a1 c hc
        show w' (164 + 13 * b' + c) = zu (sB σ b').1 9 (bF σ b' 9 + Int32.ofNat 1) c
        by_cases e : c = 9
        · subst e
          rw [zu_eq, e5, q1 9 hc]
          rfl
        · rw [zu_ne _ _ e, e7 _ (by omega) (by omega) (by omega) (by omega)]
          exact q1 c hc
      · rw [e4]
        show _ = Int32.ofNat (bR σ b' ++ [(r.1, t, r.2.2)]).length
        rw [List.length_append]; rfl
      · exact q3.snoc (fun j h1 h2 => e7 j (by unfold bR; omega) (by omega) (by omega) (by omega)) e1 e2 e3
      · dsimp only
        rw [zu_ne _ _ (by omega : 6 ≠ 9), zu_ne _ _ (by omega : 7 ≠ 9), e7 _ (by omega) (by omega) (by omega) (by omega)]
        exact q4
      · dsimp only
        rw [zu_ne _ _ (by omega : 10 ≠ 9), zu_ne _ _ (by omega : 11 ≠ 9), e7 _ (by omega) (by omega) (by omega) (by omega), e7 _ (by omega) (by omega) (by omega) (by omega)]
        exact q5
    · have eB : sB (sBs (sBq (vS (vN σ (inc (sN σ) (79 + 5 * r.2.2 + 3))) (zu (sS (vN σ (inc (sN σ) (79 + 5 * r.2.2 + 3)))) 0 (sS (vN σ (inc (sN σ) (79 + 5 * r.2.2 + 3))) 0 + (t - r.2.1).toInt64))) k (bR σ k ++ [(r.1, t, r.2.2)])) k 9 (bF σ k 9 + Int32.ofNat 1)) b' = sB σ b' := by
        rw [sBs_ne _ _ _ e, sBq_ne _ _ e]
        rfl
      show BsAt w' b' (sB _ b')
      rw [eB]
      have := (O.2.2.1 b' hb').1
      exact (wB b' hb').congr (fun j hj => e7 _ (by omega) (by omega) (by omega) (by omega)) fun j h1 h2 => e7 j (by unfold bR at this; omega) (by omega) (by omega) (by omega)
  · have := O.2.2.2.1
    exact wG.congr (e7 _ (by omega) (by omega) (by omega) (by omega)) fun j h1 h2 => e7 j (by omega) (by omega) (by omega) (by omega)
  · show zu sm 0 _ 0 = zu (sS σ) 0 (sS σ 0 + _) 0
    rw [zu_eq, zu_eq, wS0]
  · show zu sm 0 (sm 0 + (t - r.2.1).toInt64) 1 = zu (sS σ) 0 (sS σ 0 + (t - r.2.1).toInt64) 1
    rw [zu_ne _ _ (by omega), zu_ne _ _ (by omega)]
    exact wS1
