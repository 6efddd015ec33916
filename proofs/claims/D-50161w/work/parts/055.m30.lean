/-! a block of cells whose ints and longs are given by functions; printed by gen/gen_tx.py -/
def isI (v : Value) : Prop := ∃ i, v = .int i
def isJ (v : Value) : Prop := ∃ i, v = .long i
def xV (v : Value) (i : Int32) (l : Int64) : Value := match v with
  | .int _ => .int i
  | .long _ => .long l
  | v => v
def hX (h : zH) (b n : Nat) (W : Nat → Nat → Int32) (SM : Nat → Nat → Int64) : zH := (h.1, h.2.1, fun x j => if b ≤ x ∧ x < b + n then xV (h.2.2.1 x j) (W (x - b) j) (SM (x - b) j) else h.2.2.1 x j, h.2.2.2)
def zv {α : Type} (W : Nat → Nat → α) (k j : Nat) (v : α) : Nat → Nat → α := fun k' j' => if k' = k ∧ j' = j then v else W k' j'
theorem zv_at {α : Type} {W : Nat → Nat → α} {k j k' j' : Nat} {v : α} (h1 : k' = k) (h2 : j' = j) : zv W k j v k' j' = v := if_pos ⟨h1, h2⟩
theorem zv_nx {α : Type} {W : Nat → Nat → α} {k j k' j' : Nat} {v : α} (h : ¬ (k' = k ∧ j' = j)) : zv W k j v k' j' = W k' j' := if_neg h
theorem zv_row {α : Type} (W : Nat → Nat → α) (k j : Nat) (v : α) : zv W k j v k = zu (W k) j v := by
  funext j'
  unfold zv zu
  by_cases h : j' = j <;> simp [h]
theorem zv_rne {α : Type} (W : Nat → Nat → α) {k k' : Nat} (j : Nat) (v : α) (h : ¬ k' = k) : zv W k j v k' = W k' := by
  funext j'
  exact zv_nx (fun x => h x.1)
section
variable {h : zH} {b n k j a : Nat} {W : Nat → Nat → Int32} {SM : Nat → Nat → Int64}
theorem hK_X (a : Nat) : hK (hX h b n W SM) a = hK h a := rfl
theorem hL_X (a : Nat) : hL (hX h b n W SM) a = hL h a := rfl
theorem hN_X : hN (hX h b n W SM) = hN h := rfl
theorem hU_X : hU (hX h b n W SM) = hU h := rfl
theorem hV_Xv (hk : k < n) : hV (hX h b n W SM) (b + k) j = xV (hV h (b + k) j) (W k j) (SM k j) := by
  show (if b ≤ b + k ∧ b + k < b + n then _ else _) = _
  rw [if_pos (by omega), show b + k - b = k by omega]
  rfl
theorem hV_Xo (ha : a < b ∨ b + n ≤ a) : hV (hX h b n W SM) a j = hV h a j := by
  show (if b ≤ a ∧ a < b + n then _ else _) = _
  rw [if_neg (by omega)]
  rfl
theorem hV_Xi (hk : k < n) (e : isI (hV h (b + k) j)) : hV (hX h b n W SM) (b + k) j = .int (W k j) := by
  obtain ⟨i, e⟩ := e
  rw [hV_Xv hk, e]; rfl
theorem hV_Xj (hk : k < n) (e : isJ (hV h (b + k) j)) : hV (hX h b n W SM) (b + k) j = .long (SM k j) := by
  obtain ⟨i, e⟩ := e
  rw [hV_Xv hk, e]; rfl
theorem hV_Xr {r : Nat} (hk : k < n) (e : hV h (b + k) j = .ref r) : hV (hX h b n W SM) (b + k) j = .ref r := by
  rw [hV_Xv hk, e]; rfl
theorem hV_Xn (hk : k < n) (e : hV h (b + k) j = .null) : hV (hX h b n W SM) (b + k) j = .null := by
  rw [hV_Xv hk, e]; rfl
theorem hX_i {v : Int32} (hk : k < n) (e : isI (hV h (b + k) j)) : hW (hX h b n W SM) (b + k) j (.int v) = hX h b n (zv W k j v) SM := by
  obtain ⟨i, e⟩ := e
  unfold hW hX
  congr 3
  funext x y
  dsimp only
  by_cases h1 : x = b + k
  · subst h1
    have hr : b ≤ b + k ∧ b + k < b + n := by omega
    have e0 : b + k - b = k := by omega
    rw [if_pos rfl]
    by_cases h2 : y = j
    · subst h2
      rw [if_pos rfl, if_pos hr, e0, zv_at rfl rfl]
      have e' : h.2.2.1 (b + k) y = .int i := e
      rw [e']; rfl
    · rw [if_neg h2, if_pos hr, if_pos hr, e0, zv_nx (fun x => h2 x.2)]
  · rw [if_neg h1]
    by_cases h3 : b ≤ x ∧ x < b + n
    · rw [if_pos h3, if_pos h3, zv_nx (by omega)]
    · rw [if_neg h3, if_neg h3]
theorem hX_j {v : Int64} (hk : k < n) (e : isJ (hV h (b + k) j)) : hW (hX h b n W SM) (b + k) j (.long v) = hX h b n W (zv SM k j v) := by
  obtain ⟨i, e⟩ := e
  unfold hW hX
  congr 3
  funext x y
  dsimp only
  by_cases h1 : x = b + k
  · subst h1
    have hr : b ≤ b + k ∧ b + k < b + n := by omega
    have e0 : b + k - b = k := by omega
    rw [if_pos rfl]
    by_cases h2 : y = j
    · subst h2
      rw [if_pos rfl, if_pos hr, e0, zv_at rfl rfl]
      have e' : h.2.2.1 (b + k) y = .long i := e
      rw [e']; rfl
    · rw [if_neg h2, if_pos hr, if_pos hr, e0, zv_nx (fun x => h2 x.2)]
  · rw [if_neg h1]
    by_cases h3 : b ≤ x ∧ x < b + n
    · rw [if_pos h3, if_pos h3, zv_nx (by omega)]
    · rw [if_neg h3, if_neg h3]
theorem hX_eq {h h' : zH} (e1 : ∀ a, hK h' a = hK h a) (e2 : ∀ a, hL h' a = hL h a) (e3 : ∀ a j, hV h' a j = hV h a j) (e4 : hN h' = hN h) (e5 : hU h' = hU h) : h' = h := by
  obtain ⟨x1, x2, x3, x4, x5⟩ := h
  obtain ⟨y1, y2, y3, y4, y5⟩ := h'
  have f1 : y1 = x1 := funext e1
  have f2 : y2 = x2 := funext e2
  have f3 : y3 = x3 := funext fun a => funext (e3 a)
  have f4 : y4 = x4 := e4
  have f5 : y5 = x5 := e5
  rw [f1, f2, f3, f4, f5]
end
def tIG : List Nat := [73, 74, 75, 76, 77, 78, 79, 80, 81, 102, 103, 104, 105, 106, 108, 109, 110, 111, 112, 113, 125, 126, 127]
def tIK : List Nat := [1, 2, 3, 4, 5, 6, 7, 8, 9, 10, 11, 12, 13, 15, 17, 19, 21, 22, 23, 24, 25, 26, 27, 28, 29, 30, 31, 32]
def tLK : List Nat := [14, 16, 18, 20]
/-- the twin's block, its ints and longs -/
def TSh (κ : zC) (h : zH) (b : Nat) : Prop := MSh κ h b ∧ (∀ g ∈ tIG, isI (hV h b g)) ∧ isJ (hV h b 107) ∧ (∀ k ∈ tIK, ∀ j, isI (hV h (b + k) j)) ∧ (∀ k ∈ tLK, ∀ j, isJ (hV h (b + k) j))
section
variable {κ : zC} {h : zH} {b : Nat} {W : Nat → Nat → Int32} {SM : Nat → Nat → Int64}
theorem tIKlt : ∀ k ∈ tIK, k < 33 := by decide
theorem tLKlt : ∀ k ∈ tLK, k < 33 := by decide
theorem xF (S : TSh κ h b) : (∀ W SM g, g ∈ tIG → hV (hX h b 33 W SM) b g = .int (W 0 g)) ∧ (∀ W SM, hV (hX h b 33 W SM) b 107 = .long (SM 0 107)) ∧
    (∀ W SM k j, k ∈ tIK → hV (hX h b 33 W SM) (b + k) j = .int (W k j)) ∧ (∀ W SM k j, k ∈ tLK → hV (hX h b 33 W SM) (b + k) j = .long (SM k j)) ∧
    (∀ W SM g v, g ∈ tIG → hW (hX h b 33 W SM) b g (.int v) = hX h b 33 (zv W 0 g v) SM) ∧ (∀ W SM v, hW (hX h b 33 W SM) b 107 (.long v) = hX h b 33 W (zv SM 0 107 v)) ∧
    (∀ W SM k j v, k ∈ tIK → hW (hX h b 33 W SM) (b + k) j (.int v) = hX h b 33 (zv W k j v) SM) ∧ (∀ W SM k j v, k ∈ tLK → hW (hX h b 33 W SM) (b + k) j (.long v) = hX h b 33 W (zv SM k j v)) ∧
    (∀ W SM a, hK (hX h b 33 W SM) a = hK h a) ∧ (∀ W SM a, hL (hX h b 33 W SM) a = hL h a) :=
  ⟨fun _ _ g hg => hV_Xi (k := 0) (by omega) (S.2.1 g hg), fun _ _ => hV_Xj (k := 0) (by omega) S.2.2.1, fun _ _ k j hk => hV_Xi (tIKlt k hk) (S.2.2.2.1 k hk j), fun _ _ k j hk => hV_Xj (tLKlt k hk) (S.2.2.2.2 k hk j),
   fun _ _ g _ hg => hX_i (k := 0) (by omega) (S.2.1 g hg), fun _ _ _ => hX_j (k := 0) (by omega) S.2.2.1, fun _ _ k j _ hk => hX_i (tIKlt k hk) (S.2.2.2.1 k hk j), fun _ _ k j _ hk => hX_j (tLKlt k hk) (S.2.2.2.2 k hk j), fun _ _ _ => rfl, fun _ _ _ => rfl⟩
theorem xR (S : TSh κ h b) : hK h b = 107 ∧ (∀ W SM, hV (hX h b 33 W SM) b 72 = .ref (b + 1)) ∧ (∀ W SM, hV (hX h b 33 W SM) b 82 = .ref (b + 2)) ∧ (∀ W SM, hV (hX h b 33 W SM) b 83 = .ref (b + 3)) ∧ (∀ W SM, hV (hX h b 33 W SM) b 84 = .ref (b + 4)) ∧ (∀ W SM, hV (hX h b 33 W SM) b 85 = .ref (b + 5)) ∧ (∀ W SM, hV (hX h b 33 W SM) b 86 = .ref (b + 6)) ∧ (∀ W SM, hV (hX h b 33 W SM) b 87 = .ref (b + 7)) ∧ (∀ W SM, hV (hX h b 33 W SM) b 88 = .ref (b + 8)) ∧ (∀ W SM, hV (hX h b 33 W SM) b 89 = .ref (b + 9)) ∧ (∀ W SM, hV (hX h b 33 W SM) b 90 = .ref (b + 10)) ∧ (∀ W SM, hV (hX h b 33 W SM) b 91 = .ref (b + 11)) ∧ (∀ W SM, hV (hX h b 33 W SM) b 92 = .ref (b + 12)) ∧ (∀ W SM, hV (hX h b 33 W SM) b 93 = .ref (b + 13)) ∧ (∀ W SM, hV (hX h b 33 W SM) b 94 = .ref (b + 14)) ∧ (∀ W SM, hV (hX h b 33 W SM) b 95 = .ref (b + 15)) ∧ (∀ W SM, hV (hX h b 33 W SM) b 96 = .ref (b + 16)) ∧ (∀ W SM, hV (hX h b 33 W SM) b 97 = .ref (b + 17)) ∧ (∀ W SM, hV (hX h b 33 W SM) b 98 = .ref (b + 18)) ∧ (∀ W SM, hV (hX h b 33 W SM) b 99 = .ref (b + 19)) ∧ (∀ W SM, hV (hX h b 33 W SM) b 100 = .ref (b + 20)) ∧ (∀ W SM, hV (hX h b 33 W SM) b 101 = .ref (b + 21)) ∧ (∀ W SM, hV (hX h b 33 W SM) b 114 = .ref (b + 22)) ∧ (∀ W SM, hV (hX h b 33 W SM) b 115 = .ref (b + 23)) ∧ (∀ W SM, hV (hX h b 33 W SM) b 116 = .ref (b + 24)) ∧ (∀ W SM, hV (hX h b 33 W SM) b 117 = .ref (b + 25)) ∧ (∀ W SM, hV (hX h b 33 W SM) b 118 = .ref (b + 26)) ∧ (∀ W SM, hV (hX h b 33 W SM) b 119 = .ref (b + 27)) ∧ (∀ W SM, hV (hX h b 33 W SM) b 120 = .ref (b + 28)) ∧ (∀ W SM, hV (hX h b 33 W SM) b 121 = .ref (b + 29)) ∧ (∀ W SM, hV (hX h b 33 W SM) b 122 = .ref (b + 30)) ∧ (∀ W SM, hV (hX h b 33 W SM) b 123 = .ref (b + 31)) ∧ (∀ W SM, hV (hX h b 33 W SM) b 124 = .ref (b + 32)) :=
  ⟨S.1.2.1, fun _ _ => hV_Xr (k := 0) (by omega) (S.1.2.2 (1, 72, 3, 1400) (by decide)).1, fun _ _ => hV_Xr (k := 0) (by omega) (S.1.2.2 (2, 82, 1, 4) (by decide)).1, fun _ _ => hV_Xr (k := 0) (by omega) (S.1.2.2 (3, 83, 1, 10) (by decide)).1, fun _ _ => hV_Xr (k := 0) (by omega) (S.1.2.2 (4, 84, 1, 10) (by decide)).1, fun _ _ => hV_Xr (k := 0) (by omega) (S.1.2.2 (5, 85, 1, 10) (by decide)).1, fun _ _ => hV_Xr (k := 0) (by omega) (S.1.2.2 (6, 86, 1, 10) (by decide)).1, fun _ _ => hV_Xr (k := 0) (by omega) (S.1.2.2 (7, 87, 1, 6) (by decide)).1, fun _ _ => hV_Xr (k := 0) (by omega) (S.1.2.2 (8, 88, 1, 6) (by decide)).1, fun _ _ => hV_Xr (k := 0) (by omega) (S.1.2.2 (9, 89, 1, 16) (by decide)).1, fun _ _ => hV_Xr (k := 0) (by omega) (S.1.2.2 (10, 90, 1, 16) (by decide)).1, fun _ _ => hV_Xr (k := 0) (by omega) (S.1.2.2 (11, 91, 1, 16) (by decide)).1, fun _ _ => hV_Xr (k := 0) (by omega) (S.1.2.2 (12, 92, 1, 16) (by decide)).1, fun _ _ => hV_Xr (k := 0) (by omega) (S.1.2.2 (13, 93, 1, 3614) (by decide)).1, fun _ _ => hV_Xr (k := 0) (by omega) (S.1.2.2 (14, 94, 2, 2) (by decide)).1, fun _ _ => hV_Xr (k := 0) (by omega) (S.1.2.2 (15, 95, 1, 3614) (by decide)).1, fun _ _ => hV_Xr (k := 0) (by omega) (S.1.2.2 (16, 96, 2, 2) (by decide)).1, fun _ _ => hV_Xr (k := 0) (by omega) (S.1.2.2 (17, 97, 1, 28912) (by decide)).1, fun _ _ => hV_Xr (k := 0) (by omega) (S.1.2.2 (18, 98, 2, 16) (by decide)).1, fun _ _ => hV_Xr (k := 0) (by omega) (S.1.2.2 (19, 99, 1, 7228) (by decide)).1, fun _ _ => hV_Xr (k := 0) (by omega) (S.1.2.2 (20, 100, 2, 4) (by decide)).1, fun _ _ => hV_Xr (k := 0) (by omega) (S.1.2.2 (21, 101, 4, 2) (by decide)).1, fun _ _ => hV_Xr (k := 0) (by omega) (S.1.2.2 (22, 114, 1, 8) (by decide)).1, fun _ _ => hV_Xr (k := 0) (by omega) (S.1.2.2 (23, 115, 1, 10) (by decide)).1, fun _ _ => hV_Xr (k := 0) (by omega) (S.1.2.2 (24, 116, 1, 10) (by decide)).1, fun _ _ => hV_Xr (k := 0) (by omega) (S.1.2.2 (25, 117, 1, 10) (by decide)).1, fun _ _ => hV_Xr (k := 0) (by omega) (S.1.2.2 (26, 118, 1, 10) (by decide)).1, fun _ _ => hV_Xr (k := 0) (by omega) (S.1.2.2 (27, 119, 1, 6) (by decide)).1, fun _ _ => hV_Xr (k := 0) (by omega) (S.1.2.2 (28, 120, 1, 6) (by decide)).1, fun _ _ => hV_Xr (k := 0) (by omega) (S.1.2.2 (29, 121, 1, 16) (by decide)).1, fun _ _ => hV_Xr (k := 0) (by omega) (S.1.2.2 (30, 122, 1, 16) (by decide)).1, fun _ _ => hV_Xr (k := 0) (by omega) (S.1.2.2 (31, 123, 1, 16) (by decide)).1, fun _ _ => hV_Xr (k := 0) (by omega) (S.1.2.2 (32, 124, 1, 16) (by decide)).1⟩
theorem xK (S : TSh κ h b) : hK h (b + 1) = 3 ∧ hL h (b + 1) = 1400 ∧ hK h (b + 2) = 1 ∧ hL h (b + 2) = 4 ∧ hK h (b + 3) = 1 ∧ hL h (b + 3) = 10 ∧ hK h (b + 4) = 1 ∧ hL h (b + 4) = 10 ∧ hK h (b + 5) = 1 ∧ hL h (b + 5) = 10 ∧ hK h (b + 6) = 1 ∧ hL h (b + 6) = 10 ∧ hK h (b + 7) = 1 ∧ hL h (b + 7) = 6 ∧ hK h (b + 8) = 1 ∧ hL h (b + 8) = 6 ∧ hK h (b + 9) = 1 ∧ hL h (b + 9) = 16 ∧ hK h (b + 10) = 1 ∧ hL h (b + 10) = 16 ∧ hK h (b + 11) = 1 ∧ hL h (b + 11) = 16 ∧ hK h (b + 12) = 1 ∧ hL h (b + 12) = 16 ∧ hK h (b + 13) = 1 ∧ hL h (b + 13) = 3614 ∧ hK h (b + 14) = 2 ∧ hL h (b + 14) = 2 ∧ hK h (b + 15) = 1 ∧ hL h (b + 15) = 3614 ∧ hK h (b + 16) = 2 ∧ hL h (b + 16) = 2 ∧ hK h (b + 17) = 1 ∧ hL h (b + 17) = 28912 ∧ hK h (b + 18) = 2 ∧ hL h (b + 18) = 16 ∧ hK h (b + 19) = 1 ∧ hL h (b + 19) = 7228 ∧ hK h (b + 20) = 2 ∧ hL h (b + 20) = 4 ∧ hK h (b + 21) = 4 ∧ hL h (b + 21) = 2 ∧ hK h (b + 22) = 1 ∧ hL h (b + 22) = 8 ∧ hK h (b + 23) = 1 ∧ hL h (b + 23) = 10 ∧ hK h (b + 24) = 1 ∧ hL h (b + 24) = 10 ∧ hK h (b + 25) = 1 ∧ hL h (b + 25) = 10 ∧ hK h (b + 26) = 1 ∧ hL h (b + 26) = 10 ∧ hK h (b + 27) = 1 ∧ hL h (b + 27) = 6 ∧ hK h (b + 28) = 1 ∧ hL h (b + 28) = 6 ∧ hK h (b + 29) = 1 ∧ hL h (b + 29) = 16 ∧ hK h (b + 30) = 1 ∧ hL h (b + 30) = 16 ∧ hK h (b + 31) = 1 ∧ hL h (b + 31) = 16 ∧ hK h (b + 32) = 1 ∧ hL h (b + 32) = 16 :=
  ⟨(S.1.2.2 (1, 72, 3, 1400) (by decide)).2.1, (S.1.2.2 (1, 72, 3, 1400) (by decide)).2.2, (S.1.2.2 (2, 82, 1, 4) (by decide)).2.1, (S.1.2.2 (2, 82, 1, 4) (by decide)).2.2, (S.1.2.2 (3, 83, 1, 10) (by decide)).2.1, (S.1.2.2 (3, 83, 1, 10) (by decide)).2.2, (S.1.2.2 (4, 84, 1, 10) (by decide)).2.1, (S.1.2.2 (4, 84, 1, 10) (by decide)).2.2, (S.1.2.2 (5, 85, 1, 10) (by decide)).2.1, (S.1.2.2 (5, 85, 1, 10) (by decide)).2.2, (S.1.2.2 (6, 86, 1, 10) (by decide)).2.1, (S.1.2.2 (6, 86, 1, 10) (by decide)).2.2, (S.1.2.2 (7, 87, 1, 6) (by decide)).2.1, (S.1.2.2 (7, 87, 1, 6) (by decide)).2.2, (S.1.2.2 (8, 88, 1, 6) (by decide)).2.1, (S.1.2.2 (8, 88, 1, 6) (by decide)).2.2, (S.1.2.2 (9, 89, 1, 16) (by decide)).2.1, (S.1.2.2 (9, 89, 1, 16) (by decide)).2.2, (S.1.2.2 (10, 90, 1, 16) (by decide)).2.1, (S.1.2.2 (10, 90, 1, 16) (by decide)).2.2, (S.1.2.2 (11, 91, 1, 16) (by decide)).2.1, (S.1.2.2 (11, 91, 1, 16) (by decide)).2.2, (S.1.2.2 (12, 92, 1, 16) (by decide)).2.1, (S.1.2.2 (12, 92, 1, 16) (by decide)).2.2, (S.1.2.2 (13, 93, 1, 3614) (by decide)).2.1, (S.1.2.2 (13, 93, 1, 3614) (by decide)).2.2, (S.1.2.2 (14, 94, 2, 2) (by decide)).2.1, (S.1.2.2 (14, 94, 2, 2) (by decide)).2.2, (S.1.2.2 (15, 95, 1, 3614) (by decide)).2.1, (S.1.2.2 (15, 95, 1, 3614) (by decide)).2.2, (S.1.2.2 (16, 96, 2, 2) (by decide)).2.1, (S.1.2.2 (16, 96, 2, 2) (by decide)).2.2, (S.1.2.2 (17, 97, 1, 28912) (by decide)).2.1, (S.1.2.2 (17, 97, 1, 28912) (by decide)).2.2, (S.1.2.2 (18, 98, 2, 16) (by decide)).2.1, (S.1.2.2 (18, 98, 2, 16) (by decide)).2.2, (S.1.2.2 (19, 99, 1, 7228) (by decide)).2.1, (S.1.2.2 (19, 99, 1, 7228) (by decide)).2.2, (S.1.2.2 (20, 100, 2, 4) (by decide)).2.1, (S.1.2.2 (20, 100, 2, 4) (by decide)).2.2, (S.1.2.2 (21, 101, 4, 2) (by decide)).2.1, (S.1.2.2 (21, 101, 4, 2) (by decide)).2.2, (S.1.2.2 (22, 114, 1, 8) (by decide)).2.1, (S.1.2.2 (22, 114, 1, 8) (by decide)).2.2, (S.1.2.2 (23, 115, 1, 10) (by decide)).2.1, (S.1.2.2 (23, 115, 1, 10) (by decide)).2.2, (S.1.2.2 (24, 116, 1, 10) (by decide)).2.1, (S.1.2.2 (24, 116, 1, 10) (by decide)).2.2, (S.1.2.2 (25, 117, 1, 10) (by decide)).2.1, (S.1.2.2 (25, 117, 1, 10) (by decide)).2.2, (S.1.2.2 (26, 118, 1, 10) (by decide)).2.1, (S.1.2.2 (26, 118, 1, 10) (by decide)).2.2, (S.1.2.2 (27, 119, 1, 6) (by decide)).2.1, (S.1.2.2 (27, 119, 1, 6) (by decide)).2.2, (S.1.2.2 (28, 120, 1, 6) (by decide)).2.1, (S.1.2.2 (28, 120, 1, 6) (by decide)).2.2, (S.1.2.2 (29, 121, 1, 16) (by decide)).2.1, (S.1.2.2 (29, 121, 1, 16) (by decide)).2.2, (S.1.2.2 (30, 122, 1, 16) (by decide)).2.1, (S.1.2.2 (30, 122, 1, 16) (by decide)).2.2, (S.1.2.2 (31, 123, 1, 16) (by decide)).2.1, (S.1.2.2 (31, 123, 1, 16) (by decide)).2.2, (S.1.2.2 (32, 124, 1, 16) (by decide)).2.1, (S.1.2.2 (32, 124, 1, 16) (by decide)).2.2⟩
/-- the twin's methods that run over the world alone -/
theorem hX_M (S : TSh κ h b) : hX h b 33 W SM = hM (hX h b 33 W SM) b (W 13) (SM 14) (W 0 103) := by
  refine hX_eq (fun _ => rfl) (fun _ => rfl) (fun a j => ?_) rfl rfl
  show _ = if a = b + 13 then _ else if a = b + 14 then _ else if a = b then (if j = 103 then _ else _) else _
  have F := xF S
  by_cases h1 : a = b + 13
  · rw [if_pos h1, h1, F.2.2.1 _ _ _ _ (by decide)]
  · rw [if_neg h1]
    by_cases h2 : a = b + 14
    · rw [if_pos h2, h2, F.2.2.2.1 _ _ _ _ (by decide)]
    · rw [if_neg h2]
      by_cases h3 : a = b
      · rw [if_pos h3, h3]
        by_cases h4 : j = 103
        · rw [if_pos h4, h4, F.1 _ _ _ (by decide)]
        · rw [if_neg h4]; rfl
      · rw [if_neg h3]; rfl
def tWu (W : Nat → Nat → Int32) (w : Nat → Int32) (o : Int32) : Nat → Nat → Int32 := fun k j => if k = 13 then w j else if k = 0 ∧ j = 103 then o else W k j
def tSu (SM : Nat → Nat → Int64) (sm : Nat → Int64) : Nat → Nat → Int64 := fun k j => if k = 14 then sm j else SM k j
theorem hM_X (S : TSh κ h b) (w : Nat → Int32) (sm : Nat → Int64) (o : Int32) : hM (hX h b 33 W SM) b w sm o = hX h b 33 (tWu W w o) (tSu SM sm) := by
  refine hX_eq (fun _ => rfl) (fun _ => rfl) (fun a j => ?_) rfl rfl
  have F := xF S
  show (if a = b + 13 then _ else if a = b + 14 then _ else if a = b then (if j = 103 then _ else _) else _) = _
  by_cases h1 : a = b + 13
  · rw [if_pos h1, h1, F.2.2.1 _ _ _ _ (by decide)]
    rfl
  · rw [if_neg h1]
    by_cases h2 : a = b + 14
    · rw [if_pos h2, h2, F.2.2.2.1 _ _ _ _ (by decide)]
      rfl
    · rw [if_neg h2]
      by_cases h3 : a = b
      · rw [if_pos h3, h3]
        by_cases h4 : j = 103
        · rw [if_pos h4, h4, F.1 _ _ _ (by decide)]
          rfl
        · rw [if_neg h4]
          have e1 := hV_Xv (h := h) (b := b) (n := 33) (k := 0) (j := j) (W := W) (SM := SM) (by omega)
          have e2 := hV_Xv (h := h) (b := b) (n := 33) (k := 0) (j := j) (W := tWu W w o) (SM := tSu SM sm) (by omega)
          have e3 : tWu W w o 0 j = W 0 j := by
            unfold tWu
            rw [if_neg (by omega), if_neg (fun x => h4 x.2)]
          have e4 : tSu SM sm 0 j = SM 0 j := by
            unfold tSu
            rw [if_neg (by omega)]
          rw [e3, e4] at e2
          exact e1.trans e2.symm
      · rw [if_neg h3]
        by_cases h5 : b ≤ a ∧ a < b + 33
        · obtain ⟨k, rfl⟩ : ∃ k, a = b + k := ⟨a - b, by omega⟩
          have e1 := hV_Xv (h := h) (b := b) (n := 33) (k := k) (j := j) (W := W) (SM := SM) (by omega)
          have e2 := hV_Xv (h := h) (b := b) (n := 33) (k := k) (j := j) (W := tWu W w o) (SM := tSu SM sm) (by omega)
          have e3 : tWu W w o k j = W k j := by
            unfold tWu
            rw [if_neg (by omega), if_neg (by omega)]
          have e4 : tSu SM sm k j = SM k j := by
            unfold tSu
            rw [if_neg (by omega)]
          rw [e3, e4] at e2
          exact e1.trans e2.symm
        · rw [hV_Xo (by omega)]
          exact hV_Xo (by omega)
theorem MSh_X (S : TSh κ h b) : MSh κ (hX h b 33 W SM) b := by
  refine ⟨S.1.1, S.1.2.1, fun q hq => ?_⟩
  have := S.1.2.2 q hq
  exact ⟨hV_Xr (k := 0) (by omega) this.1, this.2⟩
end
/-- a loop whose heap is a function of its index -/
theorem Go_for {κ : zC} {m : zM} {pc n : Nat} {Q : zQ} (ls : Nat → List (Option Value)) (H : Nat → zH) (step : ∀ k, k < n → Go κ m pc (ls k) [] (H k) Q = Go κ m pc (ls (k + 1)) [] (H (k + 1)) Q) : ∀ d k, k + d = n → Go κ m pc (ls k) [] (H k) Q = Go κ m pc (ls n) [] (H n) Q := by
  intro d
  induction d with
  | zero => intro k hk; rw [show k = n by omega]
  | succ d ih => intro k hk; rw [step k (by omega)]; exact ih (k + 1) (by omega)
theorem Go_fr {κ : zC} {m : zM} {pc n : Nat} {Q : zQ} {R : Prop} (ls : Nat → List (Option Value)) (H : Nat → zH) (step : ∀ k, k < n → Go κ m pc (ls (k + 1)) [] (H (k + 1)) Q = R → Go κ m pc (ls k) [] (H k) Q = R) (fin : Go κ m pc (ls n) [] (H n) Q = R) : Go κ m pc (ls 0) [] (H 0) Q = R := by
  have : ∀ d k, k + d = n → Go κ m pc (ls k) [] (H k) Q = R := by
    intro d
    induction d with
    | zero => intro k hk; rw [show k = n by omega]; exact fin
    | succ d ih => intro k hk; exact step k (by omega) (ih (k + 1) (by omega))
  exact this n 0 (by omega)
/-- copied cells -/
def cpy {α : Type} (W : Nat → Nat → α) (kd od ks os n : Nat) : Nat → Nat → α := fun k j => if k = kd ∧ od ≤ j ∧ j < od + n then W ks (os + (j - od)) else W k j
theorem cpy_0 {α : Type} (W : Nat → Nat → α) (kd od ks os : Nat) : cpy W kd od ks os 0 = W := by
  funext k j
  unfold cpy
  rw [if_neg (by omega)]
theorem cpy_up {α : Type} (W : Nat → Nat → α) (kd od ks os n : Nat) (h : ¬ ks = kd ∨ od ≤ os) : zv (cpy W kd od ks os n) kd (od + n) (cpy W kd od ks os n ks (os + n)) = cpy W kd od ks os (n + 1) := by
  funext k j
  unfold zv cpy
  by_cases h1 : k = kd ∧ j = od + n
  · rw [if_pos h1, if_neg (by omega), if_pos (by omega), h1.2]
    congr 1
    omega
  · rw [if_neg h1]
    by_cases h2 : k = kd ∧ od ≤ j ∧ j < od + n
    · rw [if_pos h2, if_pos (by omega)]
    · rw [if_neg h2, if_neg (by omega)]
theorem cpy_in {α : Type} {W : Nat → Nat → α} {kd od ks os n j : Nat} (h : j < n) : cpy W kd od ks os n kd (od + j) = W ks (os + j) := by
  unfold cpy
  rw [if_pos (by omega)]
  congr 1
  omega
theorem cpy_out {α : Type} {W : Nat → Nat → α} {kd od ks os n k j : Nat} (h : ¬ (k = kd ∧ od ≤ j ∧ j < od + n)) : cpy W kd od ks os n k j = W k j := by
  unfold cpy
  rw [if_neg h]
