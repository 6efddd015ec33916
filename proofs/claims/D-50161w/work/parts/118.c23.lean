/-! the component: a new state's block, its first cells -/
abbrev zDl : Type := List (Nat × Nat × (Nat → Value))
def dAt (D : zDl) (i : Nat) : Nat × Nat × (Nat → Value) := (D[i]?).getD (0, 0, fun _ => .null)
def dS : zDl → Nat → Nat → Value → zDl
  | [], _, _, _ => []
  | c :: D, 0, j, v => (c.1, c.2.1, zu c.2.2 j v) :: D
  | c :: D, i + 1, j, v => c :: dS D i j v
/-- h0 up to a, then the cells D, u slots more -/
def hD (h0 : zH) (a : Nat) (D : zDl) (u : Nat) : zH := (fun x => if a ≤ x ∧ x < a + D.length then (dAt D (x - a)).1 else hK h0 x, fun x => if a ≤ x ∧ x < a + D.length then (dAt D (x - a)).2.1 else hL h0 x, fun x j => if a ≤ x ∧ x < a + D.length then (dAt D (x - a)).2.2 j else hV h0 x j, a + D.length, hU h0 + u)
theorem dS_len : ∀ (D : zDl) (i j : Nat) (v : Value), (dS D i j v).length = D.length := by
  intro D
  induction D with
  | nil => intro i j v; rfl
  | cons c D ih =>
    intro i j v
    cases i with
    | zero => rfl
    | succ i => show (dS D i j v).length + 1 = _; rw [ih]; rfl
theorem dS_at : ∀ (D : zDl) (i j : Nat) (v : Value) (k : Nat), i < D.length → dAt (dS D i j v) k = if k = i then ((dAt D i).1, (dAt D i).2.1, zu (dAt D i).2.2 j v) else dAt D k := by
  intro D
  induction D with
  | nil => intro i j v k h; cases h
  | cons c D ih =>
    intro i j v k h
    cases i with
    | zero =>
      cases k with
      | zero => rfl
      | succ k => rw [if_neg (by omega)]; rfl
    | succ i =>
      cases k with
      | zero => rw [if_neg (by omega)]; rfl
      | succ k =>
        have := ih i j v k (by simpa using h)
        show dAt (dS D i j v) k = _
        rw [this]
        by_cases e : k = i
        · rw [if_pos e, if_pos (by omega)]; rfl
        · rw [if_neg e, if_neg (by omega)]; rfl
theorem zH_ext {h h' : zH} (e1 : ∀ x, hK h x = hK h' x) (e2 : ∀ x, hL h x = hL h' x) (e3 : ∀ x j, hV h x j = hV h' x j) (e4 : hN h = hN h') (e5 : hU h = hU h') : h = h' := hX_eq e1 e2 e3 e4 e5
section
variable {h0 : zH} {a i u x : Nat} {D : zDl}
theorem hK_D (hi : i < D.length) : hK (hD h0 a D u) (a + i) = (dAt D i).1 := by
  show (if a ≤ a + i ∧ a + i < a + D.length then _ else _) = _
  rw [if_pos (by omega), Nat.add_sub_cancel_left]
theorem hL_D (hi : i < D.length) : hL (hD h0 a D u) (a + i) = (dAt D i).2.1 := by
  show (if a ≤ a + i ∧ a + i < a + D.length then _ else _) = _
  rw [if_pos (by omega), Nat.add_sub_cancel_left]
theorem hV_D (hi : i < D.length) (j : Nat) : hV (hD h0 a D u) (a + i) j = (dAt D i).2.2 j := by
  show (if a ≤ a + i ∧ a + i < a + D.length then (dAt D (a + i - a)).2.2 j else _) = _
  rw [if_pos (by omega), Nat.add_sub_cancel_left]
theorem hK_Do (hx : x < a) : hK (hD h0 a D u) x = hK h0 x := if_neg (by omega)
theorem hL_Do (hx : x < a) : hL (hD h0 a D u) x = hL h0 x := if_neg (by omega)
theorem hV_Do (hx : x < a) (j : Nat) : hV (hD h0 a D u) x j = hV h0 x j := if_neg (by omega)
theorem Ag_D : Ag h0 (hD h0 a D u) 0 a := fun _ _ h2 => ⟨hK_Do h2, hL_Do h2, hV_Do h2⟩
theorem hN_D : hN (hD h0 a D u) = a + D.length := rfl
theorem hU_D : hU (hD h0 a D u) = hU h0 + u := rfl
theorem hK_D0 {c : Nat × Nat × (Nat → Value)} : hK (hD h0 a (c :: D) u) a = c.1 := hK_D (i := 0) (by simp)
theorem hV_D0 {c : Nat × Nat × (Nat → Value)} (j : Nat) : hV (hD h0 a (c :: D) u) a j = c.2.2 j := hV_D (i := 0) (by simp) j
theorem hA_D (k n u' : Nat) (f : Nat → Value) : hA (hD h0 a D u) k n u' f = hD h0 a (D ++ [(k, n, f)]) (u + u') := by
  have el : (D ++ [(k, n, f)]).length = D.length + 1 := by rw [List.length_append]; rfl
  have ea : ∀ i, i < D.length → dAt (D ++ [(k, n, f)]) i = dAt D i := fun i hi => by unfold dAt; rw [List.getElem?_append_left hi]
  have eb : dAt (D ++ [(k, n, f)]) D.length = (k, n, f) := by unfold dAt; rw [List.getElem?_append_right (Nat.le_refl _), Nat.sub_self]; rfl
  refine zH_ext (fun x => ?_) (fun x => ?_) (fun x j => ?_) ?_ ?_
  · rw [hK_A, hN_D]
    show _ = if a ≤ x ∧ x < a + (D ++ [(k, n, f)]).length then (dAt (D ++ [(k, n, f)]) (x - a)).1 else hK h0 x
    rw [el]
    by_cases c : x = a + D.length
    · rw [if_pos c, if_pos (by omega), c, Nat.add_sub_cancel_left, eb]
    · rw [if_neg c]
      show (if a ≤ x ∧ x < a + D.length then (dAt D (x - a)).1 else hK h0 x) = _
      by_cases d : a ≤ x ∧ x < a + D.length
      · rw [if_pos d, if_pos (by omega), ea _ (by omega)]
      · rw [if_neg d, if_neg (by omega)]
  · rw [hL_A, hN_D]
    show _ = if a ≤ x ∧ x < a + (D ++ [(k, n, f)]).length then (dAt (D ++ [(k, n, f)]) (x - a)).2.1 else hL h0 x
    rw [el]
    by_cases c : x = a + D.length
    · rw [if_pos c, if_pos (by omega), c, Nat.add_sub_cancel_left, eb]
    · rw [if_neg c]
      show (if a ≤ x ∧ x < a + D.length then (dAt D (x - a)).2.1 else hL h0 x) = _
      by_cases d : a ≤ x ∧ x < a + D.length
      · rw [if_pos d, if_pos (by omega), ea _ (by omega)]
      · rw [if_neg d, if_neg (by omega)]
  · rw [hV_A, hN_D]
    show _ = if a ≤ x ∧ x < a + (D ++ [(k, n, f)]).length then (dAt (D ++ [(k, n, f)]) (x - a)).2.2 j else hV h0 x j
    rw [el]
    by_cases c : x = a + D.length
    · rw [if_pos c, if_pos (by omega), c, Nat.add_sub_cancel_left, eb]
    · rw [if_neg c]
      show (if a ≤ x ∧ x < a + D.length then (dAt D (x - a)).2.2 j else hV h0 x j) = _
      by_cases d : a ≤ x ∧ x < a + D.length
      · rw [if_pos d, if_pos (by omega), ea _ (by omega)]
      · rw [if_neg d, if_neg (by omega)]
  · rw [hN_A, hN_D, hN_D, el]; omega
  · rw [hU_A, hU_D, hU_D]; omega
theorem hW_D (hi : i < D.length) (j : Nat) (v : Value) : hW (hD h0 a D u) (a + i) j v = hD h0 a (dS D i j v) u := by
  have el := dS_len D i j v
  refine zH_ext (fun x => ?_) (fun x => ?_) (fun x m => ?_) ?_ rfl
  · rw [hK_W]
    show (if a ≤ x ∧ x < a + D.length then (dAt D (x - a)).1 else hK h0 x) = if a ≤ x ∧ x < a + (dS D i j v).length then (dAt (dS D i j v) (x - a)).1 else hK h0 x
    rw [el, dS_at _ _ _ _ _ hi]
    by_cases d : x - a = i
    · rw [if_pos d, d]
    · rw [if_neg d]
  · rw [hL_W]
    show (if a ≤ x ∧ x < a + D.length then (dAt D (x - a)).2.1 else hL h0 x) = if a ≤ x ∧ x < a + (dS D i j v).length then (dAt (dS D i j v) (x - a)).2.1 else hL h0 x
    rw [el, dS_at _ _ _ _ _ hi]
    by_cases d : x - a = i
    · rw [if_pos d, d]
    · rw [if_neg d]
  · rw [hV_W]
    show (if x = a + i then (if m = j then v else (if a ≤ x ∧ x < a + D.length then (dAt D (x - a)).2.2 m else hV h0 x m)) else (if a ≤ x ∧ x < a + D.length then (dAt D (x - a)).2.2 m else hV h0 x m)) = if a ≤ x ∧ x < a + (dS D i j v).length then (dAt (dS D i j v) (x - a)).2.2 m else hV h0 x m
    rw [el, dS_at _ _ _ _ _ hi]
    by_cases c : x = a + i
    · have d1 : a ≤ x ∧ x < a + D.length := by omega
      have d2 : x - a = i := by omega
      rw [if_pos c, if_pos d1, if_pos d1, if_pos d2, d2]
      rfl
    · rw [if_neg c]
      by_cases d : a ≤ x ∧ x < a + D.length
      · rw [if_pos d, if_pos d, if_neg (by omega)]
      · rw [if_neg d, if_neg d]
  · rw [hN_W, hN_D, hN_D, el]
theorem hW_D0 {c : Nat × Nat × (Nat → Value)} (j : Nat) (v : Value) : hW (hD h0 a (c :: D) u) a j v = hD h0 a ((c.1, c.2.1, zu c.2.2 j v) :: D) u := hW_D (i := 0) (by simp) j v
end
/-- new riders, leavings -/
def FRow (h : zH) (r cap : Nat) : Prop := hK h r = 104 ∧ (hV h r 47 = .ref (r + 1) ∧ hV h r 48 = .ref (r + 2) ∧ hV h r 49 = .ref (r + 3) ∧ hV h r 50 = .int (Int32.ofNat 0)) ∧ ∀ i, 1 ≤ i → i ≤ 3 → hK h (r + i) = 1 ∧ hL h (r + i) = cap ∧ ∀ j, hV h (r + i) j = .int (Int32.ofNat 0)
def FLv (h : zH) (r : Nat) : Prop := hK h r = 105 ∧ (hV h r 51 = .ref (r + 1) ∧ hV h r 52 = .ref (r + 2) ∧ hV h r 53 = .ref (r + 3) ∧ hV h r 54 = .int (Int32.ofNat 0) ∧ hV h r 55 = .int (Int32.ofNat 0) ∧ hV h r 56 = .int (Int32.ofInt (-2))) ∧ ∀ i, 1 ≤ i → i ≤ 3 → hK h (r + i) = 1 ∧ hL h (r + i) = 8 ∧ ∀ j, hV h (r + i) j = .int (Int32.ofNat 0)
theorem FRow.cg {h h' : zH} {r cap : Nat} (F : FRow h r cap) (g : Ag h h' r (r + 4)) : FRow h' r cap := by
  obtain ⟨f1, ⟨f2, f3, f4, f5⟩, f6⟩ := F
  obtain ⟨g1, g2, g3⟩ := g r (by omega) (by omega)
  exact ⟨g1.trans f1, ⟨(g3 _).trans f2, (g3 _).trans f3, (g3 _).trans f4, (g3 _).trans f5⟩, fun i h1 h2 => by
    obtain ⟨k1, k2, k3⟩ := g (r + i) (by omega) (by omega)
    obtain ⟨c1, c2, c3⟩ := f6 i h1 h2
    exact ⟨k1.trans c1, k2.trans c2, fun j => (k3 j).trans (c3 j)⟩⟩
theorem FLv.cg {h h' : zH} {r : Nat} (F : FLv h r) (g : Ag h h' r (r + 4)) : FLv h' r := by
  obtain ⟨f1, ⟨f2, f3, f4, f5, f7, f8⟩, f6⟩ := F
  obtain ⟨g1, g2, g3⟩ := g r (by omega) (by omega)
  exact ⟨g1.trans f1, ⟨(g3 _).trans f2, (g3 _).trans f3, (g3 _).trans f4, (g3 _).trans f5, (g3 _).trans f7, (g3 _).trans f8⟩, fun i h1 h2 => by
    obtain ⟨k1, k2, k3⟩ := g (r + i) (by omega) (by omega)
    obtain ⟨c1, c2, c3⟩ := f6 i h1 h2
    exact ⟨k1.trans c1, k2.trans c2, fun j => (k3 j).trans (c3 j)⟩⟩
theorem FRow_N {h h' : zH} {r cap u : Nat} (er : r = hN h) (N : N3 (hA h 104 0 u gD) h' r 0 47 cap) : FRow h' r cap := by
  obtain ⟨⟨n1, n2⟩, n3, n4, n5⟩ := N
  have e1 : hN (hA h 104 0 u gD) = r + 1 := by rw [hN_A, er]
  rw [e1] at n1 n3 n5
  obtain ⟨q1, q2, q3⟩ := n3 r (by omega)
  obtain ⟨a0, b0⟩ := n5 0 (by omega)
  obtain ⟨a1, b1⟩ := n5 1 (by omega)
  obtain ⟨a2, b2⟩ := n5 2 (by omega)
  refine ⟨q1.trans (hK_At er), ⟨a0, a1, a2, (n4 50 (by omega) (by omega)).trans ((hV_At er _).trans rfl)⟩, fun i h1 h2 => ?_⟩
  have hi : i = 1 ∨ i = 2 ∨ i = 3 := by omega
  rcases hi with rfl | rfl | rfl
  · exact b0
  · exact b1
  · exact b2
theorem FLv_N {h h' : zH} {r u : Nat} (er : r = hN h) (N : N3 (hA h 105 0 u gD) h' r 56 51 8) (e56 : hV h' r 56 = .int (Int32.ofInt (-2))) : FLv h' r := by
  obtain ⟨⟨n1, n2⟩, n3, n4, n5⟩ := N
  have e1 : hN (hA h 105 0 u gD) = r + 1 := by rw [hN_A, er]
  rw [e1] at n1 n3 n5
  obtain ⟨q1, q2, q3⟩ := n3 r (by omega)
  obtain ⟨a0, b0⟩ := n5 0 (by omega)
  obtain ⟨a1, b1⟩ := n5 1 (by omega)
  obtain ⟨a2, b2⟩ := n5 2 (by omega)
  refine ⟨q1.trans (hK_At er), ⟨a0, a1, a2, (n4 54 (by omega) (by omega)).trans ((hV_At er _).trans rfl), (n4 55 (by omega) (by omega)).trans ((hV_At er _).trans rfl), e56⟩, fun i h1 h2 => ?_⟩
  have hi : i = 1 ∨ i = 2 ∨ i = 3 := by omega
  rcases hi with rfl | rfl | rfl
  · exact b0
  · exact b1
  · exact b2
