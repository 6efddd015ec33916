/-! the twin: riders alight -/
def stays (s : Nat) (l : List Rd) : List Rd := l.filter fun r => !decide (r.1 = s)
def gets (s : Nat) (l : List Rd) : List Rd := l.filter fun r => decide (r.1 = s)
theorem stays_snoc (s : Nat) (l : List Rd) (r : Rd) : stays s (l ++ [r]) = if r.1 = s then stays s l else stays s l ++ [r] := by
  unfold stays
  rw [List.filter_append]
  by_cases h : r.1 = s <;> simp [h]
theorem gets_snoc (s : Nat) (l : List Rd) (r : Rd) : gets s (l ++ [r]) = if r.1 = s then gets s l ++ [r] else gets s l := by
  unfold gets
  rw [List.filter_append]
  by_cases h : r.1 = s <;> simp [h]
theorem stays_len (s : Nat) (l : List Rd) : (stays s l).length ≤ l.length := List.length_filter_le _ _
theorem gets_mem {s : Nat} {l : List Rd} {r : Rd} (h : r ∈ gets s l) : r ∈ l := (List.mem_filter.mp h).1
theorem stays_mem {s : Nat} {l : List Rd} {r : Rd} (h : r ∈ stays s l) : r ∈ l := (List.mem_filter.mp h).1
/-- the first i riders of q have been looked at -/
def AlI (w w' : Nat → Int32) (k : Nat) (q : List Rd) (s i : Nat) : Prop :=
  (∀ j, (j < 1832 + 297 * k ∨ 1832 + 297 * k + 297 ≤ j) → w' j = incs w 4 (gets s (q.take i)) j) ∧ RAt w' (1832 + 297 * k) (stays s (q.take i)) ∧
  ∀ m r, i ≤ m → q[m]? = some r → w' (1832 + 297 * k + 3 * m) = Int32.ofNat r.1 ∧ w' (1832 + 297 * k + 3 * m + 1) = r.2.1 ∧ w' (1832 + 297 * k + 3 * m + 2) = Int32.ofNat r.2.2
theorem AlI.get {w w' : Nat → Int32} {k s i : Nat} {q : List Rd} {r : Rd} (A : AlI w w' k q s i) (hk : k < 6) (hi : q[i]? = some r) (hr : r.1 = s) (hf : r.2.2 < 17) : AlI w (zu w' (79 + 5 * r.2.2 + 4) (w' (79 + 5 * r.2.2 + 4) + Int32.ofNat 1)) k q s (i + 1) := by
  obtain ⟨a1, a2, a3⟩ := A
  have et : q.take (i + 1) = q.take i ++ [r] := by rw [List.take_add_one, hi]; rfl
  unfold AlI
  rw [et, gets_snoc, if_pos hr, stays_snoc, if_pos hr]
  refine ⟨fun j hj => ?_, a2.congr fun j h1 h2 => zu_ne _ _ (by omega), fun m r' hm hq => ?_⟩
  · rw [← incs_snoc]
    unfold inc
    by_cases e : j = 79 + 5 * r.2.2 + 4
    · rw [e, zu_eq, zu_eq, a1 _ (by omega)]
    · rw [zu_ne _ _ e, zu_ne _ _ e, a1 j hj]
  · rw [zu_ne _ _ (by omega), zu_ne _ _ (by omega), zu_ne _ _ (by omega)]
    exact a3 m r' (by omega) hq
theorem AlI.stay {w w' : Nat → Int32} {k s i : Nat} {q : List Rd} {r : Rd} (A : AlI w w' k q s i) (hi : q[i]? = some r) (hr : ¬ r.1 = s) (hq : q.length ≤ 99) :
    AlI w (zu (zu (zu w' (1832 + 297 * k + 3 * (stays s (q.take i)).length) (Int32.ofNat r.1)) (1832 + 297 * k + 3 * (stays s (q.take i)).length + 1) r.2.1) (1832 + 297 * k + 3 * (stays s (q.take i)).length + 2) (Int32.ofNat r.2.2)) k q s (i + 1) := by
  obtain ⟨a1, a2, a3⟩ := A
  have et : q.take (i + 1) = q.take i ++ [r] := by rw [List.take_add_one, hi]; rfl
  have hl := (List.getElem?_eq_some_iff.mp hi).1
  have hs := stays_len s (q.take i)
  rw [List.length_take, Nat.min_eq_left (by omega)] at hs
  unfold AlI
  rw [et, gets_snoc, if_neg hr, stays_snoc, if_neg hr]
  refine ⟨fun j hj => ?_, ?_, fun m r' hm hq' => ?_⟩
  · rw [zu_ne _ _ (by omega), zu_ne _ _ (by omega), zu_ne _ _ (by omega)]
    exact a1 j hj
  · refine a2.snoc (fun j h1 h2 => ?_) ?_ ?_ ?_
    · rw [zu_ne _ _ (by omega), zu_ne _ _ (by omega), zu_ne _ _ (by omega)]
    · rw [zu_ne _ _ (by omega), zu_ne _ _ (by omega), zu_eq]
    · rw [zu_ne _ _ (by omega), zu_eq]
    · rw [zu_eq]
  · have key : ∀ c, c < 3 → zu (zu (zu w' (1832 + 297 * k + 3 * (stays s (q.take i)).length) (Int32.ofNat r.1)) (1832 + 297 * k + 3 * (stays s (q.take i)).length + 1) r.2.1) (1832 + 297 * k + 3 * (stays s (q.take i)).length + 2) (Int32.ofNat r.2.2) (1832 + 297 * k + 3 * m + c) = w' (1832 + 297 * k + 3 * m + c) := fun c hc => by
      rw [zu_ne _ _ (by omega), zu_ne _ _ (by omega), zu_ne _ _ (by omega)]
    obtain ⟨b1, b2, b3⟩ := a3 m r' (by omega) hq'
    exact ⟨(key 0 (by omega)).trans b1, (key 1 (by omega)).trans b2, (key 2 (by omega)).trans b3⟩
