/-! the twin: the log against the spec -/
section
variable {κ : zC} {h : zH} {b : Nat} {w : Nat → Int32} {sm : Nat → Int64} {o : Int32} {Q : zQ} {σ : Sg} {π : Pl}
theorem gW_o {w : Nat → Int32} {n : Nat} {t k c s v : Int32} {j : Nat} (h0 : ¬ j = 12) (h1 : j < 1682 + 5 * n ∨ 1682 + 5 * n + 5 ≤ j) : gW w n t k c s v j = w j := by
  unfold gW
  rw [zu_ne _ _ h0, zu_ne _ _ (by omega), zu_ne _ _ (by omega), zu_ne _ _ (by omega), zu_ne _ _ (by omega), zu_ne _ _ (by omega)]
theorem GAt_gW {w : Nat → Int32} {l : List Lg} {t v : Int32} {k c s : Nat} (G : GAt w l) : GAt (gW w l.length t (Int32.ofNat k) (Int32.ofNat c) (Int32.ofNat s) v) (l ++ [(t, k, c, s, v)]) := by
  refine G.snoc ?_ (fun j h1 h2 => gW_o (by omega) (by omega)) ?_ ?_ ?_ ?_ ?_ <;> unfold gW <;> simp (disch := omega) only [zu_nx, zu_at]
theorem GAt_drop {w : Nat → Int32} {l : List Lg} (G : GAt w l) (h : l.length = 30) : GAt (zu (gSk w 145) 12 (Int32.ofNat 29)) (l.drop 1) := by
  refine ⟨by rw [zu_eq, List.length_drop, h], fun i r hi => ?_⟩
  rw [List.getElem?_drop] at hi
  have hl := (List.getElem?_eq_some_iff.mp hi).1
  obtain ⟨h1, h2, h3, h4, h5⟩ := G.2 (1 + i) r hi
  have key : ∀ c, c < 5 → zu (gSk w 145) 12 (Int32.ofNat 29) (1682 + 5 * i + c) = w (1682 + 5 * (1 + i) + c) := by
    intro c hc
    rw [zu_ne _ _ (by omega)]
    unfold gSk
    rw [if_pos (by omega)]
    congr 1
    omega
  exact ⟨(key 0 (by omega)).trans h1, (key 1 (by omega)).trans h2, (key 2 (by omega)).trans h3, (key 3 (by omega)).trans h4, (key 4 (by omega)).trans h5⟩
theorem WAt_g {w w' : Nat → Int32} {l : List Lg} (W : WAt w sm σ) (OK : sOk π σ) (G : GAt w' l) (e : ∀ j, ¬ j = 12 → (j < 1682 ∨ 1832 ≤ j) → w' j = w j) : WAt w' sm (vG σ l) := by
  obtain ⟨wA, wR, wL, wB, wG, wS⟩ := W
  refine ⟨fun j hj => ?_, fun s' hs' => ?_, fun s' hs' => ?_, fun b' hb' => ?_, G, wS⟩
  · have hj' := hj
    unfold nat1 at hj'
    rw [e j (by omega) (by omega)]
    exact wA j hj
  · have := (OK.1 s' hs').1
    exact (wR s' hs').congr (e _ (by omega) (by omega)) fun j h1 h2 => e j (by omega) (by omega)
  · have := (OK.2.1 s' hs').1
    exact (wL s' hs').congr (e _ (by omega) (by omega)) fun j h1 h2 => e j (by omega) (by omega)
  · exact (wB b' hb').congr (fun j hj => e _ (by omega) (by omega)) fun j h1 h2 => e j (by omega) (by omega)
end
