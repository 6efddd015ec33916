/-! the twin: the log -/
def gSk (w : Nat → Int32) (m : Nat) : Nat → Int32 := fun j => if 1682 ≤ j ∧ j < 1682 + m then w (j + 5) else w j
theorem gSk_0 (w : Nat → Int32) : gSk w 0 = w := by
  funext j
  unfold gSk
  rw [if_neg (by omega)]
theorem gSk_up (w : Nat → Int32) (m : Nat) : zu (gSk w m) (1682 + m) (gSk w m (1682 + (m + 5))) = gSk w (m + 1) := by
  funext j
  unfold zu gSk
  by_cases h1 : j = 1682 + m
  · rw [if_pos h1, if_neg (by omega), if_pos (by omega), h1]
    congr 1
  · rw [if_neg h1]
    by_cases h2 : 1682 ≤ j ∧ j < 1682 + m
    · rw [if_pos h2, if_pos (by omega)]
    · rw [if_neg h2, if_neg (by omega)]
/-- one row more in the log -/
theorem GAt.snoc {w w' : Nat → Int32} {l : List Lg} {r : Lg} (h : GAt w l) (e0 : w' 12 = Int32.ofNat (l.length + 1)) (e : ∀ j, 1682 ≤ j → j < 1682 + 5 * l.length → w' j = w j)
    (e1 : w' (1682 + 5 * l.length) = r.1) (e2 : w' (1682 + 5 * l.length + 1) = Int32.ofNat r.2.1) (e3 : w' (1682 + 5 * l.length + 2) = Int32.ofNat r.2.2.1) (e4 : w' (1682 + 5 * l.length + 3) = Int32.ofNat r.2.2.2.1) (e5 : w' (1682 + 5 * l.length + 4) = r.2.2.2.2) : GAt w' (l ++ [r]) := by
  refine ⟨by rw [e0, List.length_append]; rfl, fun i q hi => ?_⟩
  rw [List.getElem?_append] at hi
  split at hi
  · next hl =>
    obtain ⟨h1, h2, h3, h4, h5⟩ := h.2 i q hi
    exact ⟨by rw [e _ (by omega) (by omega)]; exact h1, by rw [e _ (by omega) (by omega)]; exact h2, by rw [e _ (by omega) (by omega)]; exact h3, by rw [e _ (by omega) (by omega)]; exact h4, by rw [e _ (by omega) (by omega)]; exact h5⟩
  · have hl := (List.getElem?_eq_some_iff.mp hi).1
    have h0 : i = l.length := by simp at hl; omega
    subst h0
    simp at hi
    subst hi
    exact ⟨e1, e2, e3, e4, e5⟩
