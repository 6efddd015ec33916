/-! the twin's world against the spec's state -/
def nat1 (j : Nat) : Prop := j < 164 ∧ j ≠ 12 ∧ ¬ (23 ≤ j ∧ j < 33) ∧ ¬ (53 ≤ j ∧ j < 63)
def RAt (w : Nat → Int32) (a : Nat) (l : List Rd) : Prop := ∀ i r, l[i]? = some r → w (a + 3 * i) = Int32.ofNat r.1 ∧ w (a + 3 * i + 1) = r.2.1 ∧ w (a + 3 * i + 2) = Int32.ofNat r.2.2
def RowAt (w : Nat → Int32) (s : Nat) (l : List Rd) : Prop := w (23 + s) = Int32.ofNat l.length ∧ RAt w (242 + 120 * s) l
def LvAt (w : Nat → Int32) (s : Nat) (l : List Lv) : Prop := w (53 + s) = Int32.ofNat l.length ∧ ∀ i r, l[i]? = some r → w (1442 + 24 * s + 3 * i) = Int32.ofNat r.1 ∧ w (1442 + 24 * s + 3 * i + 1) = r.2.1 ∧ w (1442 + 24 * s + 3 * i + 2) = r.2.2
def bKs : List Nat := [0, 1, 2, 3, 5, 6, 8, 9]
def BsAt (w : Nat → Int32) (b : Nat) (q : Bs) : Prop := (∀ k ∈ bKs, w (164 + 13 * b + k) = q.1 k) ∧ w (164 + 13 * b + 4) = Int32.ofNat q.2.length ∧ RAt w (1832 + 297 * b) q.2 ∧
  ((q.1 6 < Int32.ofNat 0 ∧ q.1 7 = Int32.ofInt (-2)) ∨ (¬ q.1 6 < Int32.ofNat 0 ∧ w (164 + 13 * b + 7) = q.1 7)) ∧ ((w (164 + 13 * b + 10) < Int32.ofNat 0 ∧ q.1 10 = q.1 11) ∨ (¬ w (164 + 13 * b + 10) < Int32.ofNat 0 ∧ w (164 + 13 * b + 10) = q.1 10 ∧ w (164 + 13 * b + 11) = q.1 11))
def GAt (w : Nat → Int32) (l : List Lg) : Prop := w 12 = Int32.ofNat l.length ∧ ∀ i r, l[i]? = some r → w (1682 + 5 * i) = r.1 ∧ w (1682 + 5 * i + 1) = Int32.ofNat r.2.1 ∧ w (1682 + 5 * i + 2) = Int32.ofNat r.2.2.1 ∧ w (1682 + 5 * i + 3) = Int32.ofNat r.2.2.2.1 ∧ w (1682 + 5 * i + 4) = r.2.2.2.2
def WAt (w : Nat → Int32) (sm : Nat → Int64) (σ : Sg) : Prop := (∀ j, nat1 j → w j = sN σ j) ∧ (∀ s, s < 10 → RowAt w s (sR σ s)) ∧ (∀ s, s < 10 → LvAt w s (sL σ s)) ∧ (∀ b, b < 6 → BsAt w b (sB σ b)) ∧ GAt w (sG σ) ∧ sm 0 = sS σ 0 ∧ sm 1 = sS σ 1
/-- sizes -/
def sOk (π : Pl) (σ : Sg) : Prop := (∀ s, s < 10 → (sR σ s).length ≤ 40 ∧ ∀ r ∈ sR σ s, r.1 < 10 ∧ r.2.2 < 17) ∧ (∀ s, s < 10 → (sL σ s).length ≤ 8 ∧ ∀ r ∈ sL σ s, r.1 < 6) ∧
  (∀ b, b < 6 → (bR σ b).length ≤ 99 ∧ (b < plN π 1 → (bR σ b).length ≤ plI π 7 b) ∧ (∀ r ∈ bR σ b, r.1 < 10 ∧ r.2.2 < 17) ∧ (∃ k, k < 4 ∧ bF σ b 0 = Int32.ofNat k) ∧ (∃ s, (s < plN π 0 ∨ (s = 0 ∧ plN π 1 ≤ b)) ∧ bF σ b 1 = Int32.ofNat s)) ∧ (sG σ).length ≤ 30 ∧ ∀ r ∈ sG σ, r.2.1 < 5 ∧ r.2.2.1 < 6 ∧ r.2.2.2.1 < plN π 0
theorem RAt.congr {w w' : Nat → Int32} {a : Nat} {l : List Rd} (h : RAt w a l) (e : ∀ j, a ≤ j → j < a + 3 * l.length → w' j = w j) : RAt w' a l := by
  intro i r hi
  have hl := (List.getElem?_eq_some_iff.mp hi).1
  obtain ⟨h1, h2, h3⟩ := h i r hi
  exact ⟨by rw [e _ (by omega) (by omega)]; exact h1, by rw [e _ (by omega) (by omega)]; exact h2, by rw [e _ (by omega) (by omega)]; exact h3⟩
theorem RowAt.congr {w w' : Nat → Int32} {s : Nat} {l : List Rd} (h : RowAt w s l) (e0 : w' (23 + s) = w (23 + s)) (e : ∀ j, 242 + 120 * s ≤ j → j < 242 + 120 * s + 3 * l.length → w' j = w j) : RowAt w' s l := ⟨e0.trans h.1, h.2.congr e⟩
theorem LvAt.congr {w w' : Nat → Int32} {s : Nat} {l : List Lv} (h : LvAt w s l) (e0 : w' (53 + s) = w (53 + s)) (e : ∀ j, 1442 + 24 * s ≤ j → j < 1442 + 24 * s + 3 * l.length → w' j = w j) : LvAt w' s l := by
  refine ⟨e0.trans h.1, fun i r hi => ?_⟩
  have hl := (List.getElem?_eq_some_iff.mp hi).1
  obtain ⟨h1, h2, h3⟩ := h.2 i r hi
  exact ⟨by rw [e _ (by omega) (by omega)]; exact h1, by rw [e _ (by omega) (by omega)]; exact h2, by rw [e _ (by omega) (by omega)]; exact h3⟩
theorem BsAt.congr {w w' : Nat → Int32} {b : Nat} {q : Bs} (h : BsAt w b q) (e0 : ∀ k, k < 13 → w' (164 + 13 * b + k) = w (164 + 13 * b + k)) (e : ∀ j, 1832 + 297 * b ≤ j → j < 1832 + 297 * b + 3 * q.2.length → w' j = w j) : BsAt w' b q := by
  obtain ⟨h1, h2, h3, h4, h5⟩ := h
  refine ⟨fun k hk => ?_, by rw [e0 4 (by omega)]; exact h2, h3.congr e, by rw [e0 7 (by omega)]; exact h4, by rw [e0 10 (by omega), e0 11 (by omega)]; exact h5⟩
  have : k < 13 := by
    have a1 : ∀ k ∈ bKs, k < 13 := by decide
    exact a1 k hk
  rw [e0 k this]; exact h1 k hk
theorem GAt.congr {w w' : Nat → Int32} {l : List Lg} (h : GAt w l) (e0 : w' 12 = w 12) (e : ∀ j, 1682 ≤ j → j < 1682 + 5 * l.length → w' j = w j) : GAt w' l := by
  refine ⟨e0.trans h.1, fun i r hi => ?_⟩
  have hl := (List.getElem?_eq_some_iff.mp hi).1
  obtain ⟨h1, h2, h3, h4, h5⟩ := h.2 i r hi
  exact ⟨by rw [e _ (by omega) (by omega)]; exact h1, by rw [e _ (by omega) (by omega)]; exact h2, by rw [e _ (by omega) (by omega)]; exact h3, by rw [e _ (by omega) (by omega)]; exact h4, by rw [e _ (by omega) (by omega)]; exact h5⟩
/-- counts -/
theorem cnt_up {c j : Nat} {l : List Rd} {i : Nat} {r : Rd} (hi : l[i]? = some r) : cnt c j (l.take (i + 1)) = cnt c j (l.take i) + if 79 + 5 * r.2.2 + c = j then 1 else 0 := by
  unfold cnt
  rw [List.take_add_one, hi]
  show (List.filter _ (l.take i ++ [r])).length = _
  rw [List.filter_append, List.length_append]
  congr 1
  by_cases h : 79 + 5 * r.2.2 + c = j <;> simp [h]
theorem incs_up {w : Nat → Int32} {c : Nat} {l : List Rd} {i : Nat} {r : Rd} (hi : l[i]? = some r) : zu (incs w c (l.take i)) (79 + 5 * r.2.2 + c) (incs w c (l.take i) (79 + 5 * r.2.2 + c) + Int32.ofNat 1) = incs w c (l.take (i + 1)) := by
  funext j
  unfold zu incs
  rw [cnt_up hi]
  by_cases h : j = 79 + 5 * r.2.2 + c
  · subst h
    rw [if_pos rfl, if_pos rfl, Int32.add_assoc, I_add]
  · rw [if_neg h, if_neg (fun e => h e.symm)]
    rfl
theorem cnt_0 {c j : Nat} {l : List Rd} (hl : ∀ r ∈ l, r.2.2 < 17) (hc : c < 5) (hj : j < 79 ∨ 164 ≤ j) : cnt c j l = 0 := by
  unfold cnt
  rw [List.length_eq_zero_iff, List.filter_eq_nil_iff]
  intro r hr
  have := hl r hr
  simp only [decide_eq_true_eq]
  omega
theorem incs_ne {w : Nat → Int32} {c j : Nat} {l : List Rd} (hl : ∀ r ∈ l, r.2.2 < 17) (hc : c < 5) (hj : j < 79 ∨ 164 ≤ j) : incs w c l j = w j := by
  unfold incs
  rw [cnt_0 hl hc hj]
  exact Int32.add_zero _
theorem incs_nil {w : Nat → Int32} {c : Nat} : incs w c [] = w := by
  funext j
  exact Int32.add_zero _
theorem gvK_le (p t : Int32) (l : List Rd) : gvK p t l ≤ l.length := by
  induction l with
  | nil => exact Nat.le_refl _
  | cons r l ih =>
    unfold gvK
    split
    · simpa using ih
    · exact Nat.zero_le _
theorem gvK_lt {p t : Int32} {l : List Rd} : ∀ {i : Nat}, i < gvK p t l → ∃ r, l[i]? = some r ∧ p < t - r.2.1 := by
  induction l with
  | nil => intro i h; cases h
  | cons r l ih =>
    intro i h
    unfold gvK at h
    split at h
    · next hc =>
      cases i with
      | zero => exact ⟨r, rfl, hc⟩
      | succ i => obtain ⟨r', h1, h2⟩ := ih (i := i) (by omega); exact ⟨r', by simpa using h1, h2⟩
    · cases h
theorem gvK_end {p t : Int32} {l : List Rd} (h : gvK p t l < l.length) : ∃ r, l[gvK p t l]? = some r ∧ ¬ p < t - r.2.1 := by
  induction l with
  | nil => cases h
  | cons r l ih =>
    by_cases hc : p < t - r.2.1
    · have e : gvK p t (r :: l) = gvK p t l + 1 := by conv => lhs; unfold gvK; rw [if_pos hc]
      rw [e] at h ⊢
      obtain ⟨r', h1, h2⟩ := ih (by simpa using h)
      exact ⟨r', by simpa using h1, h2⟩
    · have e : gvK p t (r :: l) = 0 := by conv => lhs; unfold gvK; rw [if_neg hc]
      rw [e]
      exact ⟨r, rfl, hc⟩
