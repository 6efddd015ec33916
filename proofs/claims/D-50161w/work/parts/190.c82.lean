/-! lists in the making: add -/
/-- the list L, its array E with room for cap, n members el -/
def LA (κ : zC) (h : zH) (L E cap n : Nat) (el : Nat → Nat) : Prop :=
  (hK h L = 114 ∧ kB κ ≤ L ∧ L < hN h) ∧ ((∃ mc : Int32, hV h L 147 = .int mc) ∧ hV h L 148 = .ref E ∧ hV h L 149 = .int (Int32.ofNat n)) ∧ (n ≤ cap ∧ cap < 1000 ∧ hK h E = 10 ∧ hL h E = cap ∧ E < hN h) ∧
  ((cap = 0 ∧ kS κ 0 = .ref E) ∨ (0 < cap ∧ kB κ ≤ E)) ∧ ∀ i, i < n → hV h E i = .ref (el i) ∧ zAss 10 (hK h (el i)) = true ∧ el i < hN h
/-- all but the list and its array as it was -/
def Fl (L E cap : Nat) (h h' : zH) : Prop := (∀ y, y < hN h → hK h' y = hK h y ∧ hL h' y = hL h y ∧ (y ≠ L → (y ≠ E ∨ cap = 0) → ∀ j, hV h' y j = hV h y j)) ∧ hN h ≤ hN h'
theorem I_shr1 {k : Nat} (h : k < 1000) : Int32.ofNat k >>> (Int32.ofNat 1 &&& 31) = Int32.ofNat (k / 2) := by
  have : ∀ k : Fin 1000, Int32.ofNat k.val >>> (Int32.ofNat 1 &&& 31) = Int32.ofNat (k.val / 2) := by decide +kernel
  exact this ⟨k, h⟩
section
variable {κ : zC} {h : zH} {L E cap n x : Nat} {el : Nat → Nat} {Q : zQ}
theorem e17_copyOf10 {m : Nat} (kE : hK h E = 10) (lE : hL h E = cap) (hc : cap < m) (hm : m < 100000) (hB : kB κ ≤ E) (hE : E < hN h) (el : ∀ i, i < cap → ∃ r : Nat, hV h E i = .ref r ∧ zAss 10 (hK h r) = true ∧ r < hN h) :
    Ev κ mJ17_copyOf [.ref E, .int (Int32.ofNat m)] h Q = Q (.inl (some (.ref (hN h)))) (hC (hA h 10 m m (fun _ => .null)) E 0 (hN h) 0 cap) := by
  have zz : zArr 10 = true := rfl
  have k1 : hK (hA h 10 m m (fun _ => .null)) E = 10 := (hK_An (show E ≠ hN h by omega)).trans kE
  have k2 : hK (hA h 10 m m (fun _ => .null)) (hN h) = 10 := hK_At rfl
  have l1 : hL (hA h 10 m m (fun _ => .null)) E = cap := (hL_An (show E ≠ hN h by omega)).trans lE
  have l2 : hL (hA h 10 m m (fun _ => .null)) (hN h) = m := hL_At rfl
  have hBn : kB κ ≤ hN h := by omega
  have zo : zOks (hA h 10 m m (fun _ => .null)) E (hN h) 0 cap := fun j hj => by
    obtain ⟨r, r1, r2, r3⟩ := el j hj
    unfold zOkE
    rw [k2, if_pos (by decide), Nat.zero_add, hV_An (show E ≠ hN h by omega), r1]
    dsimp only
    rw [hK_An (show r ≠ hN h by omega)]
    exact r2
  have em := fun (h : zH) (Q : zQ) => e9_minN (κ := κ) (h := h) (Q := Q) (x := cap) (y := m) (by omega) (by omega)
  rw [Nat.min_eq_left (by omega)] at em
  have p1 := I_nn (n := m) (by omega)
  have p2 := I_nn (n := cap) (by omega)
  have p3 := I_nn (n := 0) (by decide)
  simp (disch := first | assumption | omega | decide) only [gB, I_all, zK_v, zK_n, true_and, and_true, Nat.reduceAdd, Nat.reduceMul, Nat.reduceSub, z_lt, z_le, z_neq, not_false_eq_true, or_true, true_or, or_false, false_or, false_and, and_false, gJ17_copyOf, gJ17_copyOf_2, kE, lE, zz, k1, k2, l1, l2, zo, em, p1, p2, p3]
theorem LA_end (A : LA κ h L E cap n el) (hx : zAss 10 (hK h x) = true ∧ x < hN h) {h2 : zH} {E' cap' : Nat} (hn : n < 900) (k2 : hK h2 L = 114) (w147 : ∃ mc : Int32, hV h2 L 147 = .int mc) (w148 : hV h2 L 148 = .ref E') (c1 : n < cap') (c2 : cap' < 1000) (kE : hK h2 E' = 10) (lE : hL h2 E' = cap') (bE : kB κ ≤ E') (nE : E' < hN h2)
    (g : ∀ y, y < hN h → hK h2 y = hK h y) (hm : hN h ≤ hN h2) (ce : ∀ i, i < n → hV h2 E' i = .ref (el i)) : LA κ (hW (hW h2 E' n (.ref x)) L 149 (.int (Int32.ofNat (n + 1)))) L E' cap' (n + 1) (fun i => if i = n then x else el i) := by
  obtain ⟨⟨a1, a2, a3⟩, -, -, -, a5⟩ := A
  have ne : L ≠ E' := fun z => by rw [z, kE] at k2; cases k2
  obtain ⟨mc, w147⟩ := w147
  refine ⟨⟨k2, a2, Nat.lt_of_lt_of_le a3 hm⟩, ⟨⟨mc, ?_⟩, ?_, hV_We rfl rfl⟩, ⟨by omega, c2, kE, lE, nE⟩, Or.inr ⟨by omega, bE⟩, fun i hi => ?_⟩
  · rw [hV_Wj (by decide), hV_Wn ne]
    exact w147
  · rw [hV_Wj (by decide), hV_Wn ne]
    exact w148
  · rw [hV_Wn (fun z => ne z.symm)]
    by_cases c : i = n
    · subst c
      dsimp only
      rw [if_pos rfl]
      exact ⟨hV_We rfl rfl, (g x hx.2 ▸ hx.1 : zAss 10 (hK h2 x) = true), Nat.lt_of_lt_of_le hx.2 hm⟩
    · dsimp only
      rw [if_neg c]
      obtain ⟨b1, b2, b3⟩ := a5 i (by omega)
      exact ⟨(hV_Wj c).trans (ce i (by omega)), (g _ b3 ▸ b2 : zAss 10 (hK h2 (el i)) = true), Nat.lt_of_lt_of_le b3 hm⟩
theorem e2_add (A : LA κ h L E cap n el) (hn : n < 600) (hx : zAss 10 (hK h x) = true ∧ x < hN h)
    (hq : ∀ h' E' cap', LA κ h' L E' cap' (n + 1) (fun i => if i = n then x else el i) → Fl L E cap h h' → (E' = E ∨ E' = hN h) → hN h' ≤ hN h + 1 → hU h' ≤ hU h + 20 + 2 * n → Q (.inl (some (.int (Int32.ofNat 1)))) h') : Ev κ mJ2_add [.ref L, .ref x] h Q := by
  have A0 := A
  obtain ⟨⟨a1, a2, a3⟩, ⟨⟨mc, b1⟩, b2, b3⟩, ⟨c1, c2, c3, c4, c5⟩, d, el1⟩ := A
  have ne : L ≠ E := fun z => by rw [z, c3] at a1; cases a1
  have nb1 : narrow .boolean (.int (Int32.ofNat 1)) = .int (Int32.ofNat 1) := rfl
  have zr : zRef 10 = true := by decide
  have za : zArr 10 = true := rfl
  have i147 : ∀ j, j ≠ 147 → hV (hW h L 147 (.int (mc + Int32.ofNat 1))) L j = hV h L j := fun j hj => hV_Wj hj
  have v148 : hV (hW h L 147 (.int (mc + Int32.ofNat 1))) L 148 = .ref E := (i147 _ (by decide)).trans b2
  have v149 : hV (hW h L 147 (.int (mc + Int32.ofNat 1))) L 149 = .int (Int32.ofNat n) := (i147 _ (by decide)).trans b3
  by_cases cc : n < cap
  · have bE : kB κ ≤ E := d.elim (fun z => by omega) fun z => z.2
    have nI : ¬ Int32.ofNat n = Int32.ofNat cap := fun z => by
      have e1 := I_toInt (n := n) (by omega)
      have e2 := I_toInt (n := cap) (by omega)
      rw [z, e2] at e1
      omega
    have q1 := hq _ E cap (LA_end A0 hx (h2 := hW h L 147 (.int (mc + Int32.ofNat 1))) (by omega) a1 ⟨_, hV_We rfl rfl⟩ v148 cc c2 c3 c4 bE c5 (fun _ _ => rfl) (Nat.le_refl _) (fun i hi => (hV_Wn (fun z => ne z.symm) _).trans (el1 i hi).1))
      ⟨fun y hy => ⟨rfl, rfl, fun y1 y2 j => by rw [hV_Wn y1, hV_Wn (y2.elim id fun z => by omega), hV_Wn y1]⟩, Nat.le_refl _⟩ (Or.inl rfl) (Nat.le_succ _) (by show hU h ≤ _; omega)
    simp (disch := first | assumption | omega | decide) only [gB, I_all, zK_v, zK_n, true_and, and_true, Nat.reduceAdd, Nat.reduceMul, Nat.reduceSub, z_lt, z_le, z_neq, not_false_eq_true, or_true, true_or, or_false, false_or, false_and, and_false, gJ2_add, gJ2_add_2, a1, b1, v148, v149, hK_W, hL_W, c3, c4, zr, za, hx, nI, I_add, nb1]
    exact q1
  · have en : cap = n := by omega
    subst en
    have nI : Int32.ofNat cap = Int32.ofNat cap := rfl
    by_cases c0 : cap = 0
    · obtain ⟨-, d2⟩ := d.resolve_right (fun z => by omega)
      subst c0
      have em := fun (h : zH) (Q : zQ) => e9_maxN (κ := κ) (h := h) (Q := Q) (x := 10) (y := 1) (by decide) (by decide)
      rw [show max 10 1 = 10 from rfl] at em
      have p10 := I_nn (n := 10) (by decide)
      have hBn : kB κ ≤ hN h := by omega
      have n00 : ¬ Int32.ofNat 0 < Int32.ofNat 0 := by decide
      have i01 : Int32.ofNat 0 + Int32.ofNat 1 = Int32.ofNat 1 := by decide
      have kn : ∀ y, y ≠ hN h → hK (hA (hW h L 147 (.int (mc + Int32.ofNat 1))) 10 10 10 (fun _ => .null)) y = hK h y := fun y hy => hK_An (show y ≠ hN (hW h L 147 (.int (mc + Int32.ofNat 1))) from hy)
      have kL : hK (hA (hW h L 147 (.int (mc + Int32.ofNat 1))) 10 10 10 (fun _ => .null)) L = 114 := (kn L (by omega)).trans a1
      have kE2 : hK (hA (hW h L 147 (.int (mc + Int32.ofNat 1))) 10 10 10 (fun _ => .null)) (hN h) = 10 := hK_At rfl
      have lE2 : hL (hA (hW h L 147 (.int (mc + Int32.ofNat 1))) 10 10 10 (fun _ => .null)) (hN h) = 10 := hL_At rfl
      have kx : hK (hA (hW h L 147 (.int (mc + Int32.ofNat 1))) 10 10 10 (fun _ => .null)) x = hK h x := kn x (by omega)
      have vL : ∀ j, hV (hA (hW h L 147 (.int (mc + Int32.ofNat 1))) 10 10 10 (fun _ => .null)) L j = hV (hW h L 147 (.int (mc + Int32.ofNat 1))) L j := hV_An (show L ≠ hN (hW h L 147 (.int (mc + Int32.ofNat 1))) from by show L ≠ hN h; omega)
      have q1 := hq _ (hN h) 10 (LA_end A0 hx (h2 := hW (hA (hW h L 147 (.int (mc + Int32.ofNat 1))) 10 10 10 (fun _ => .null)) L 148 (.ref (hN h))) (by omega) kL ⟨mc + Int32.ofNat 1, by rw [hV_Wj (by decide), vL, hV_We rfl rfl]⟩ (hV_We rfl rfl) (by decide) (by decide) kE2 lE2 hBn (Nat.lt_succ_self _) (fun y hy => kn y (by omega)) (Nat.le_succ _) (fun i hi => absurd hi (Nat.not_lt_zero _)))
        ⟨fun y hy => ⟨kn y (by omega), (show hL (hA (hW h L 147 (.int (mc + Int32.ofNat 1))) 10 10 10 (fun _ => .null)) y = hL h y from hL_An (show y ≠ hN (hW h L 147 (.int (mc + Int32.ofNat 1))) from by show y ≠ hN h; omega)), fun y1 _ j => by rw [hV_Wn y1, hV_Wn (by omega), hV_Wn y1, hV_An (show y ≠ hN (hW h L 147 (.int (mc + Int32.ofNat 1))) from by show y ≠ hN h; omega), hV_Wn y1]⟩, Nat.le_succ _⟩ (Or.inr rfl) (Nat.le_refl _) (by show hU h + 10 ≤ _; omega)
      have hnW : hN (hW h L 147 (.int (mc + Int32.ofNat 1))) = hN h := rfl
      simp (disch := first | assumption | omega | decide) only [gB, I_all, zK_v, zK_n, true_and, and_true, Nat.reduceAdd, Nat.reduceMul, Nat.reduceSub, z_lt, z_le, z_neq, not_false_eq_true, or_true, true_or, or_false, false_or, false_and, and_false, gJ2_add, gJ2_add_2, gJ2_grow, gJ2_grow_2, a1, b1, v148, v149, hK_W, hL_W, c3, c4, zr, za, hx, nb1, d2, em, p10, n00, i01, hnW, kL, kE2, lE2, kx]
      exact q1
    · have bE : kB κ ≤ E := d.elim (fun z => absurd z.1 c0) fun z => z.2
      have i1 : Int32.ofNat (cap + 1) - Int32.ofNat cap = Int32.ofNat 1 := by
        rw [I_sub (by omega)]
        congr 1
        omega
      have sh := I_shr1 (k := cap) c2
      have nl := fun (h : zH) (Q : zQ) => e10_newLength (κ := κ) (h := h) (Q := Q) (x := cap) (y := 1) (z := cap / 2) (by omega) (by decide) (by omega) (by decide)
      have mx : 1 ≤ max 1 (cap / 2) ∧ max 1 (cap / 2) ≤ 1 + cap / 2 := ⟨Nat.le_max_left _ _, Nat.max_le.mpr ⟨by omega, by omega⟩⟩
      generalize max 1 (cap / 2) = m1 at *
      have hm : cap + m1 < 1000 := by omega
      have hBn : kB κ ≤ hN h := by omega
      obtain ⟨H1, hH1⟩ : ∃ H1, H1 = hW h L 147 (.int (mc + Int32.ofNat 1)) := ⟨_, rfl⟩
      have n1 : hN H1 = hN h := by rw [hH1]; rfl
      have k1 : ∀ y, hK H1 y = hK h y := fun y => by rw [hH1]; rfl
      have l1 : ∀ y, hL H1 y = hL h y := fun y => by rw [hH1]; rfl
      have vE1 : ∀ j, hV H1 E j = hV h E j := fun j => by rw [hH1, hV_Wn (fun z => ne z.symm)]
      have cp := fun (Q : zQ) => e17_copyOf10 (κ := κ) (h := H1) (E := E) (cap := cap) (m := cap + m1) (Q := Q) ((k1 E).trans c3) ((l1 E).trans c4) (by omega) (by omega) bE (by rw [n1]; exact c5) (fun i hi => by
        obtain ⟨e1, e2, e3⟩ := el1 i (by omega)
        exact ⟨el i, (vE1 i).trans e1, by rw [k1]; exact e2, by rw [n1]; exact e3⟩)
      rw [n1] at cp
      obtain ⟨H2, hH2⟩ : ∃ H2, H2 = hC (hA H1 10 (cap + m1) (cap + m1) (fun _ => .null)) E 0 (hN h) 0 cap := ⟨_, rfl⟩
      rw [← hH2] at cp
      have n2 : hN H2 = hN h + 1 := by rw [hH2]; show hN H1 + 1 = _; rw [n1]
      have u2 : hU H2 = hU h + (cap + m1) := by rw [hH2, hH1]; rfl
      have k2 : ∀ y, y ≠ hN h → hK H2 y = hK h y := fun y hy => by rw [hH2]; exact (hK_CAn (by rw [n1]; exact hy)).trans (k1 y)
      have l2 : ∀ y, y ≠ hN h → hL H2 y = hL h y := fun y hy => by rw [hH2]; exact (hL_CAn (by rw [n1]; exact hy)).trans (l1 y)
      have kE2 : hK H2 (hN h) = 10 := by rw [hH2]; exact hK_CAt n1.symm
      have lE2 : hL H2 (hN h) = cap + m1 := by rw [hH2]; exact hL_CAt n1.symm
      have v2 : ∀ y, y ≠ hN h → ∀ j, hV H2 y j = hV H1 y j := fun y hy j => by rw [hH2, hV_Cn hy, hV_An (by rw [n1]; exact hy)]
      have vN : ∀ i, i < cap → hV H2 (hN h) i = hV h E i := fun i hi => by
        rw [hH2, hV_C, if_pos rfl, if_pos (by omega), hV_An (by omega), vE1]
        congr 1
        omega
      have kL : hK H2 L = 114 := (k2 L (by omega)).trans a1
      have kx : hK H2 x = hK h x := k2 x (by omega)
      have q1 := hq _ (hN h) (cap + m1) (LA_end A0 hx (h2 := hW H2 L 148 (.ref (hN h))) (by omega) kL ⟨mc + Int32.ofNat 1, by rw [hV_Wj (by decide), v2 L (by omega), hH1, hV_We rfl rfl]⟩ (hV_We rfl rfl) (by omega) hm kE2 lE2 hBn (by show hN h < hN H2; omega) (fun y hy => k2 y (by omega)) (by show hN h ≤ hN H2; omega) (fun i hi => by rw [hV_Wn (by omega), vN i (by omega)]; exact (el1 i hi).1))
        ⟨fun y hy => ⟨k2 y (by omega), l2 y (by omega), fun y1 _ j => by rw [hV_Wn y1, hV_Wn (by omega), hV_Wn y1, v2 y (by omega), hH1, hV_Wn y1]⟩, by show hN h ≤ hN H2; omega⟩ (Or.inr rfl) (by show hN H2 ≤ _; omega) (by show hU H2 ≤ _; omega)
      have kL1 : hK H1 L = 114 := (k1 L).trans a1
      have kE1 : hK H1 E = 10 := (k1 E).trans c3
      have lE1 : hL H1 E = cap := (l1 E).trans c4
      rw [← hH1] at v148 v149
      have cp0 : Int32.ofNat 0 < Int32.ofNat cap := by
        rw [Int32.lt_iff_toInt_lt, I_toInt (n := cap) (by omega)]
        show (0 : Int) < _
        omega
      simp (disch := first | assumption | omega | decide) only [gB, I_all, zK_v, zK_n, true_and, and_true, Nat.reduceAdd, Nat.reduceMul, Nat.reduceSub, z_lt, z_le, z_neq, not_false_eq_true, or_true, true_or, or_false, false_or, false_and, and_false, gJ2_add, gJ2_add_2, gJ2_grow, gJ2_grow_2, a1, b1, ← hH1, v148, v149, kL1, kE1, lE1, zr, za, hx, nb1, I_add, i1, sh, nl, cp, cp0, kL, hK_W, hL_W, kE2, lE2, kx]
      exact q1
end
