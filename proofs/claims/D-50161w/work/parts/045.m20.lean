/-! the twin: leavings noted -/
def lSk (w : Nat → Int32) (s m : Nat) : Nat → Int32 := fun j => if 1442 + 24 * s ≤ j ∧ j < 1442 + 24 * s + m then w (j + 3) else w j
theorem lSk_0 (w : Nat → Int32) (s : Nat) : lSk w s 0 = w := by
  funext j
  unfold lSk
  rw [if_neg (by omega)]
theorem lSk_up (w : Nat → Int32) (s m : Nat) : zu (lSk w s m) (1442 + 24 * s + m) (lSk w s m (1442 + 24 * s + m + 3)) = lSk w s (m + 1) := by
  funext j
  unfold zu lSk
  by_cases h1 : j = 1442 + 24 * s + m
  · rw [if_pos h1, if_neg (by omega), if_pos (by omega), h1]
  · rw [if_neg h1]
    by_cases h2 : 1442 + 24 * s ≤ j ∧ j < 1442 + 24 * s + m
    · rw [if_pos h2, if_pos (by omega)]
    · rw [if_neg h2, if_neg (by omega)]
theorem LvAt.snoc {w w' : Nat → Int32} {s : Nat} {l : List Lv} {r : Lv} (h : LvAt w s l) (e0 : w' (53 + s) = Int32.ofNat (l.length + 1)) (e : ∀ j, 1442 + 24 * s ≤ j → j < 1442 + 24 * s + 3 * l.length → w' j = w j)
    (e1 : w' (1442 + 24 * s + 3 * l.length) = Int32.ofNat r.1) (e2 : w' (1442 + 24 * s + 3 * l.length + 1) = r.2.1) (e3 : w' (1442 + 24 * s + 3 * l.length + 2) = r.2.2) : LvAt w' s (l ++ [r]) := by
  refine ⟨by rw [e0, List.length_append]; rfl, fun i q hi => ?_⟩
  rw [List.getElem?_append] at hi
  split at hi
  · next hl =>
    obtain ⟨h1, h2, h3⟩ := h.2 i q hi
    exact ⟨by rw [e _ (by omega) (by omega)]; exact h1, by rw [e _ (by omega) (by omega)]; exact h2, by rw [e _ (by omega) (by omega)]; exact h3⟩
  · have hl := (List.getElem?_eq_some_iff.mp hi).1
    have h0 : i = l.length := by simp at hl; omega
    subst h0
    simp at hi
    subst hi
    exact ⟨e1, e2, e3⟩
theorem LvAt_drop {w : Nat → Int32} {s : Nat} {l : List Lv} (G : LvAt w s l) (h : l.length = 8) : LvAt (zu (lSk w s 21) (53 + s) (Int32.ofNat 7)) s (l.drop 1) := by
  refine ⟨by rw [zu_eq, List.length_drop, h], fun i r hi => ?_⟩
  rw [List.getElem?_drop] at hi
  have hl := (List.getElem?_eq_some_iff.mp hi).1
  obtain ⟨h1, h2, h3⟩ := G.2 (1 + i) r hi
  have key : ∀ c, c < 3 → 53 + s < 1442 → zu (lSk w s 21) (53 + s) (Int32.ofNat 7) (1442 + 24 * s + 3 * i + c) = w (1442 + 24 * s + 3 * (1 + i) + c) := by
    intro c hc hs
    rw [zu_ne _ _ (by omega)]
    unfold lSk
    rw [if_pos (by omega)]
    congr 1
    omega
  have key2 : ∀ c, c < 3 → zu (lSk w s 21) (53 + s) (Int32.ofNat 7) (1442 + 24 * s + 3 * i + c) = w (1442 + 24 * s + 3 * (1 + i) + c) := by
    intro c hc
    rw [zu_ne _ _ (by omega)]
    unfold lSk
    rw [if_pos (by omega)]
    congr 1
    omega
  exact ⟨(key2 0 (by omega)).trans h1, (key2 1 (by omega)).trans h2, (key2 2 (by omega)).trans h3⟩
section
variable {κ : zC} {h : zH} {b : Nat} {w : Nat → Int32} {sm : Nat → Int64} {o : Int32} {Q : zQ} {σ : Sg} {π : Pl}
theorem WAt_l {w' : Nat → Int32} {s : Nat} {l : List Lv} (W : WAt w sm σ) (OK : sOk π σ) (hs : s < 10) (L : LvAt w' s l) (e : ∀ j, ¬ j = 53 + s → (j < 1442 + 24 * s ∨ 1442 + 24 * s + 24 ≤ j) → w' j = w j) : WAt w' sm (vL σ (zu (sL σ) s l)) := by
  obtain ⟨wA, wR, wL, wB, wG, wS⟩ := W
  refine ⟨fun j hj => ?_, fun s' hs' => ?_, fun s' hs' => ?_, fun b' hb' => ?_, ?_, wS⟩
  · have hj' := hj
    unfold nat1 at hj'
    rw [e j (by omega) (by omega)]
    exact wA j hj
  · have := (OK.1 s' hs').1
    exact (wR s' hs').congr (e _ (by omega) (by omega)) fun j h1 h2 => e j (by omega) (by omega)
  · show LvAt w' s' (zu (sL σ) s l s')
    by_cases e0 : s' = s
    · subst e0
      rw [zu_eq]; exact L
    · rw [zu_ne _ _ e0]
      have := (OK.2.1 s' hs').1
      exact (wL s' hs').congr (e _ (by omega) (by omega)) fun j h1 h2 => e j (by omega) (by omega)
  · exact (wB b' hb').congr (fun j hj => e _ (by omega) (by omega)) fun j h1 h2 => e j (by omega) (by omega)
  · have := OK.2.2.2.1
    exact wG.congr (e _ (by omega) (by omega)) fun j h1 h2 => e j (by omega) (by omega)
/-- what is written behind n leavings -/
def nW (w : Nat → Int32) (s n : Nat) (k t g : Int32) : Nat → Int32 := zu (zu (zu (zu w (1442 + 24 * s + 3 * n) k) (1442 + 24 * s + 3 * n + 1) t) (1442 + 24 * s + 3 * n + 2) g) (53 + s) (Int32.ofNat (n + 1))
theorem nW_o {w : Nat → Int32} {s n : Nat} {k t g : Int32} {j : Nat} (h0 : ¬ j = 53 + s) (h1 : j < 1442 + 24 * s + 3 * n ∨ 1442 + 24 * s + 3 * n + 3 ≤ j) : nW w s n k t g j = w j := by
  unfold nW
  rw [zu_ne _ _ h0, zu_ne _ _ (by omega), zu_ne _ _ (by omega), zu_ne _ _ (by omega)]
theorem e7_notesW {s n : Nat} {k t g : Int32} (S : MSh κ h b) (hs : s < 10) (hn : n ≤ 8) (e : w (53 + s) = Int32.ofNat n) : ∀ w1, w1 = (if n = 8 then nW (zu (lSk w s 21) (53 + s) (Int32.ofNat 7)) s 7 k t g else nW w s n k t g) →
    Ev κ mX7_notes [.ref b, .int k, .int (Int32.ofNat s), .int t, .int g] (hM h b w sm o) Q = Q (.inl none) (hM h b (zu (zu w1 (33 + s) t) (43 + s) (w1 (43 + s) + Int32.ofNat 1)) sm o) := by
  intro w1 hw1
  have S1 := mW S
  by_cases h8 : n = 8
  · subst h8
    rw [if_pos rfl] at hw1
    have lp : ∀ d m, m + d = 21 → Go κ mX7_notes 21 [some (.ref b), some (.int k), some (.int (Int32.ofNat s)), some (.int t), some (.int g), some (.int (Int32.ofNat (1442 + 24 * s + m)))] [] (hM h b (lSk w s m) sm o) Q = Q (.inl none) (hM h b (zu (zu w1 (33 + s) t) (43 + s) (w1 (43 + s) + Int32.ofNat 1)) sm o) := by
      intro d
      induction d with
      | zero =>
        intro m hm
        have hm' : m = 21 := by omega
        subst hm'
        have e1 : lSk w s 21 (53 + s) = Int32.ofNat 8 := by unfold lSk; rw [if_neg (by omega)]; exact e
        rw [hw1]
        simp (disch := first | assumption | omega | decide) only [gB, I_all, zK_v, zK_n, true_and, and_true, Nat.reduceAdd, Nat.reduceMul, Nat.reduceSub, z_lt, z_le, z_neq, not_false_eq_true, hM_all, gX7_notes_h]
        unfold nW
        simp (disch := first | assumption | omega | decide) only [gB, I_all, zK_v, zK_n, true_and, and_true, Nat.reduceAdd, Nat.reduceMul, Nat.reduceSub, z_lt, z_le, z_neq, not_false_eq_true, hM_all, gX7_notes_1, gX7_notes_2, S1, e1, I_sub, zu_nx, zu_at, e7_leavingAt]
      | succ d ih =>
        intro m hm
        have ih' := ih (m + 1) (by omega)
        rw [← lSk_up] at ih'
        simp (disch := first | assumption | omega | decide) only [gB, I_all, zK_v, zK_n, true_and, and_true, Nat.reduceAdd, Nat.reduceMul, Nat.reduceSub, z_lt, z_le, z_neq, not_false_eq_true, hM_all, gX7_notes_h]
        simp (disch := first | assumption | omega | decide) only [gB, I_all, zK_v, zK_n, true_and, and_true, Nat.reduceAdd, Nat.reduceMul, Nat.reduceSub, z_lt, z_le, z_neq, not_false_eq_true, hM_all, gX7_notes_1, gX7_notes_2, S1, e7_leavingAt]
        exact ih'
    have := lp 21 0 (by omega)
    rw [lSk_0] at this
    simp (disch := first | assumption | omega | decide) only [gB, I_all, zK_v, zK_n, true_and, and_true, Nat.reduceAdd, Nat.reduceMul, Nat.reduceSub, z_lt, z_le, z_neq, not_false_eq_true, hM_all, gX7_notes_1, gX7_notes_2, S1, e, e7_leavingAt]
    exact this
  · rw [if_neg h8] at hw1
    rw [hw1]
    unfold nW
    simp (disch := first | assumption | omega | decide) only [gB, I_all, zK_v, zK_n, true_and, and_true, Nat.reduceAdd, Nat.reduceMul, Nat.reduceSub, z_lt, z_le, z_neq, not_false_eq_true, hM_all, gX7_notes_1, gX7_notes_2, S1, e, I_sub, zu_nx, zu_at, e7_leavingAt]
theorem e7_notes {k s : Nat} {t g : Int32} (S : MSh κ h b) (W : WAt w sm σ) (OK : sOk π σ) (hk : k < 6) (hs : s < 10) (hq : ∀ w', WAt w' sm (sNo σ k s t g) → Q (.inl none) (hM h b w' sm o)) :
    Ev κ mX7_notes [.ref b, .int (Int32.ofNat k), .int (Int32.ofNat s), .int t, .int g] (hM h b w sm o) Q := by
  have G := W.2.2.1 s hs
  have hl := (OK.2.1 s hs).1
  rw [e7_notesW (n := (sL σ s).length) S hs hl G.1 _ rfl]
  have n1 : nat1 (33 + s) := by unfold nat1; omega
  have n2 : nat1 (43 + s) := by unfold nat1; omega
  have fin : ∀ w1, WAt w1 sm (vL σ (zu (sL σ) s ((if (sL σ s).length = 8 then (sL σ s).drop 1 else sL σ s) ++ [(k, t, g)]))) → Q (.inl none) (hM h b (zu (zu w1 (33 + s) t) (43 + s) (w1 (43 + s) + Int32.ofNat 1)) sm o) := by
    intro w1 W1
    have W2 := WAt_n W1 t n1
    have W3 := WAt_inc W2 n2
    rw [zu_ne _ _ (by omega)] at W3
    exact hq _ W3
  apply fin
  by_cases h8 : (sL σ s).length = 8
  · rw [if_pos h8, if_pos h8]
    have G1 := LvAt_drop G h8
    have e7 : ((sL σ s).drop 1).length = 7 := by rw [List.length_drop, h8]
    refine WAt_l W OK hs (G1.snoc (r := (k, t, g)) ?_ (fun j h1 h2 => nW_o (by omega) (by omega)) ?_ ?_ ?_) fun j h1 h2 => ?_
    · rw [e7]; unfold nW; rw [zu_eq]
    · rw [e7]; unfold nW; simp (disch := omega) only [zu_nx, zu_at]
    · rw [e7]; unfold nW; simp (disch := omega) only [zu_nx, zu_at]
    · rw [e7]; unfold nW; simp (disch := omega) only [zu_nx, zu_at]
    · rw [nW_o h1 (by omega), zu_ne _ _ h1]
      unfold lSk
      rw [if_neg (by omega)]
  · rw [if_neg h8, if_neg h8]
    refine WAt_l W OK hs (G.snoc (r := (k, t, g)) ?_ (fun j h1 h2 => nW_o (by omega) (by omega)) ?_ ?_ ?_) fun j h1 h2 => ?_
    · unfold nW; rw [zu_eq]
    · unfold nW; simp (disch := omega) only [zu_nx, zu_at]
    · unfold nW; simp (disch := omega) only [zu_nx, zu_at]
    · unfold nW; simp (disch := omega) only [zu_nx, zu_at]
    · exact nW_o h1 (by omega)
end
