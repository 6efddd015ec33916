/-! the component: buses made, copied -/
section
variable {κ : zC} {h : zH} {Q : zQ}
def bz (x : Int32) (n : Nat) (y : Int32) (g : Nat) : Int32 := if g = 57 then x else if g = 58 then Int32.ofNat n else if g = 59 ∨ g = 62 ∨ g = 67 ∨ g = 68 then y else if g = 65 ∨ g = 66 then Int32.ofInt (-2) else Int32.ofNat 0
theorem R3_F {h : zH} {r cap : Nat} (F : FRow h r cap) : R3 h r 46 cap := ⟨fun i h1 h2 => by
    have hi : i = 1 ∨ i = 2 ∨ i = 3 := by omega
    rcases hi with rfl | rfl | rfl
    · exact F.2.1.1
    · exact F.2.1.2.1
    · exact F.2.1.2.2.1, fun i h1 h2 => ⟨(F.2.2 i h1 h2).1, (F.2.2 i h1 h2).2.1, fun j => ⟨_, (F.2.2 i h1 h2).2.2 j⟩⟩⟩
theorem e6_init {r n : Nat} {x y : Int32} (hk : hK h r = 106) (hB : kB κ ≤ r) (hr : hN h = r + 1) (hc : n < 1000) (h0 : ∀ g, 57 ≤ g → g ≤ 70 → hV h r g = .int (Int32.ofNat 0))
    (hq : ∀ h', Ag h h' 0 r → hN h' = r + 5 → hU h' = hU h + cN 4 + 3 * n → hK h' r = 106 → (∀ g, 57 ≤ g → g ≤ 70 → hV h' r g = .int (bz x n y g)) → hV h' r 71 = .ref (r + 1) → FRow h' (r + 1) n → Q (.inl none) h') :
    Ev κ mX6_init [.ref r, .int x, .int (Int32.ofNat n), .int y] h Q := by
  simp (disch := first | assumption | omega | decide) only [gB, I_all, zK_v, zK_n, true_and, and_true, Nat.reduceAdd, Nat.reduceMul, Nat.reduceSub, z_lt, z_le, z_neq, not_false_eq_true, or_true, true_or, or_false, false_or, false_and, and_false, gX6_init, hk, hK_W]
  obtain ⟨H, hH⟩ : ∃ H, H = hW (hW (hW (hW (hW (hW h r 60 (.int (Int32.ofNat 0))) r 65 (.int (Int32.ofInt (-2)))) r 66 (.int (Int32.ofInt (-2)))) r 57 (.int x)) r 58 (.int (Int32.ofNat n))) r 59 (.int y) := ⟨_, rfl⟩
  have eN : hN H = r + 1 := by rw [hH]; exact hr
  have eU : hU H = hU h := by rw [hH]; rfl
  have eK : ∀ u, hK H u = hK h u := fun u => by rw [hH]; rfl
  have eL : ∀ u, hL H u = hL h u := fun u => by rw [hH]; rfl
  have eV : ∀ u j, u ≠ r → hV H u j = hV h u j := fun u j hu => by rw [hH, hV_Wn hu, hV_Wn hu, hV_Wn hu, hV_Wn hu, hV_Wn hu, hV_Wn hu]
  have eR : ∀ g, 57 ≤ g → g ≤ 70 → g ≠ 62 → g ≠ 67 → g ≠ 68 → hV H r g = .int (bz x n y g) := fun g g1 g2 g3 g4 g5 => by
    rw [hH, hV_W, if_pos rfl, hV_W, if_pos rfl, hV_W, if_pos rfl, hV_W, if_pos rfl, hV_W, if_pos rfl, hV_W, if_pos rfl, h0 g g1 g2]
    unfold bz
    by_cases c1 : g = 57
    · subst c1; rfl
    · by_cases c2 : g = 58
      · subst c2; rfl
      · by_cases c3 : g = 59
        · subst c3; rfl
        · by_cases c4 : g = 65
          · subst c4; rfl
          · by_cases c5 : g = 66
            · subst c5; rfl
            · simp only [c1, c2, c3, c4, c5, g3, g4, g5, if_false, or_false]
              split <;> rfl
  rw [← hH]
  refine e4_init (κ := κ) (r := hN H) (cap := n) (hK_At rfl) (by omega) (by rw [hN_A]; omega) hc fun h2 N => ?_
  have FR := FRow_N (r := hN H) rfl N
  obtain ⟨⟨n1, n2⟩, n3, n4, n5⟩ := N
  rw [hN_A, eN] at n1 n3
  have o2 : ∀ u, u < r + 1 → hK h2 u = hK h u ∧ hL h2 u = hL h u ∧ ∀ j, hV h2 u j = hV H u j := fun u hu => by
    obtain ⟨q1, q2, q3⟩ := n3 u (by omega)
    exact ⟨(q1.trans (hK_An (by omega))).trans (eK u), (q2.trans (hL_An (by omega))).trans (eL u), fun j => (q3 (by omega) j).trans (hV_An (by omega) j)⟩
  have kr : hK h2 r = 106 := (o2 r (by omega)).1.trans hk
  rw [eN] at FR
  have hf := hq (hW (hW (hW (hW h2 r 71 (.ref (r + 1))) r 62 (.int y)) r 67 (.int y)) r 68 (.int y)) (fun u _ hu => ⟨(o2 u (by omega)).1, (o2 u (by omega)).2.1, fun j => by
      rw [hV_Wn (by omega), hV_Wn (by omega), hV_Wn (by omega), hV_Wn (by omega), (o2 u (by omega)).2.2, eV _ _ (by omega)]⟩) n1 (by
      rw [hU_W, hU_W, hU_W, hU_W, n2, hU_A, eU]; rfl) kr (fun g g1 g2 => by
      rw [hV_W, if_pos rfl, hV_W, if_pos rfl, hV_W, if_pos rfl, hV_W, if_pos rfl, (o2 r (by omega)).2.2]
      by_cases c1 : g = 68
      · subst c1; rfl
      · by_cases c2 : g = 67
        · subst c2; rfl
        · by_cases c3 : g = 62
          · subst c3; rfl
          · rw [if_neg c1, if_neg c2, if_neg c3, if_neg (by omega), eR g g1 g2 c3 c2 c1]) (by
      rw [hV_Wj (by omega), hV_Wj (by omega), hV_Wj (by omega), hV_We rfl rfl]) (FR.cg fun u g1 g2 => ⟨rfl, rfl, fun j => by
      rw [hV_Wn (by omega), hV_Wn (by omega), hV_Wn (by omega), hV_Wn (by omega)]⟩)
  simp (disch := first | assumption | omega | decide) only [gB, I_all, zK_v, zK_n, true_and, and_true, Nat.reduceAdd, Nat.reduceMul, Nat.reduceSub, z_lt, z_le, z_neq, not_false_eq_true, or_true, true_or, or_false, false_or, false_and, and_false, gX6_init, kr, eN, hK_W]
  exact hf
theorem e6_copy {b0 m n c : Nat} {v : Nat → Int32} (hk : hK h b0 = 106) (hv : ∀ g, 57 ≤ g → g ≤ 70 → hV h b0 g = .int (v g)) (v58 : v 58 = Int32.ofNat n) (hn : n < 1000) (h71 : hV h b0 71 = .ref (b0 + 1)) (kr : hK h (b0 + 1) = 104) (Rs : R3 h (b0 + 1) 46 c) (vm : hV h (b0 + 1) 50 = .int (Int32.ofNat m)) (hm : m ≤ c) (hmn : m ≤ n)
    (v69 : v 69 = Int32.ofNat 0 ∨ v 69 = Int32.ofNat 1) (v70 : v 70 = Int32.ofNat 0 ∨ v 70 = Int32.ofNat 1) (hb : b0 + 5 ≤ hN h) (hB : kB κ ≤ hN h)
    (hq : ∀ h', Ag h h' 0 (hN h) → hN h' = hN h + 5 → hU h' = hU h + cN 6 + cN 4 + 3 * n → hK h' (hN h) = 106 → (∀ g, 57 ≤ g → g ≤ 70 → hV h' (hN h) g = .int (v g)) → hV h' (hN h) 71 = .ref (hN h + 1) → hK h' (hN h + 1) = 104 → R3 h' (hN h + 1) 46 n → hV h' (hN h + 1) 50 = .int (Int32.ofNat m) →
      (∀ i, 1 ≤ i → i ≤ 3 → ∀ j, j < m → hV h' (hN h + 1 + i) j = hV h (b0 + 1 + i) j) → Q (.inl (some (.ref (hN h)))) h') : Ev κ mX6_copy [.ref b0] h Q := by
  obtain ⟨r, hr⟩ : ∃ r, r = hN h := ⟨_, rfl⟩
  have z69 : (zFit .boolean (.int (v 69)) = true) = True := by rcases v69 with e | e <;> rw [e] <;> exact eq_true (by decide)
  have z70 : (zFit .boolean (.int (v 70)) = true) = True := by rcases v70 with e | e <;> rw [e] <;> exact eq_true (by decide)
  have hA0 : ∀ j, hV (hA h 106 0 15 gD) b0 j = hV h b0 j := fun j => hV_An (by omega) j
  have kA0 : hK (hA h 106 0 15 gD) b0 = 106 := (hK_An (by omega)).trans hk
  have w57 := (hA0 57).trans (hv 57 (by omega) (by omega))
  have w58 := (hA0 58).trans (hv 58 (by omega) (by omega))
  have w59 := (hA0 59).trans (hv 59 (by omega) (by omega))
  rw [v58] at w58
  have hB' : kB κ ≤ r := by omega
  simp (disch := first | assumption | omega | decide) only [gB, I_all, zK_v, zK_n, true_and, and_true, Nat.reduceAdd, Nat.reduceMul, Nat.reduceSub, z_lt, z_le, z_neq, not_false_eq_true, or_true, true_or, or_false, false_or, false_and, and_false, gX6_copy, kA0, w57, w58, w59]
  rw [← hr]
  refine e6_init (κ := κ) (hK_At hr) hB' (by rw [hN_A, hr]) hn (fun g g1 g2 => (hV_At hr g).trans ?_) fun h1 a1 n1 u1 k1 g1 r1 F1 => ?_
  · have gi : g = 57 ∨ g = 58 ∨ g = 59 ∨ g = 60 ∨ g = 61 ∨ g = 62 ∨ g = 63 ∨ g = 64 ∨ g = 65 ∨ g = 66 ∨ g = 67 ∨ g = 68 ∨ g = 69 ∨ g = 70 := by omega
    rcases gi with rfl | rfl | rfl | rfl | rfl | rfl | rfl | rfl | rfl | rfl | rfl | rfl | rfl | rfl <;> rfl
  · have a2 : Ag h h1 0 r := Ag.trans (Ag_A (h := h) (k := 106) (n := 0) (u := 15) (f := gD) (by omega)) a1
    obtain ⟨s1, s2, s3⟩ := a2 b0 (by omega) (by omega)
    have k1b : hK h1 b0 = 106 := s1.trans hk
    have x := fun g g1 g2 => (s3 g).trans (hv g g1 g2)
    have x60 := x 60 (by omega) (by omega)
    have x61 := x 61 (by omega) (by omega)
    have x62 := x 62 (by omega) (by omega)
    have x63 := x 63 (by omega) (by omega)
    have x64 := x 64 (by omega) (by omega)
    have x65 := x 65 (by omega) (by omega)
    have x66 := x 66 (by omega) (by omega)
    have x67 := x 67 (by omega) (by omega)
    have x68 := x 68 (by omega) (by omega)
    have x69 := x 69 (by omega) (by omega)
    have x70 := x 70 (by omega) (by omega)
    have x71 := (s3 71).trans h71
    have kb1 : hK h1 (b0 + 1) = 104 := (a2 (b0 + 1) (by omega) (by omega)).1.trans kr
    have vb : ∀ (H : zH) i w j, hV (hW H r i w) b0 j = hV H b0 j := fun H i w j => hV_Wn (by omega) j
    obtain ⟨H, hH⟩ : ∃ H, H = hW (hW (hW (hW (hW (hW (hW (hW (hW (hW (hW h1 r 60 (.int (v 60))) r 61 (.int (v 61))) r 62 (.int (v 62))) r 63 (.int (v 63))) r 64 (.int (v 64))) r 65 (.int (v 65))) r 66 (.int (v 66))) r 67 (.int (v 67))) r 68 (.int (v 68))) r 69 (.int (v 69))) r 70 (.int (v 70)) := ⟨_, rfl⟩
    have eK : ∀ u, hK H u = hK h1 u := fun u => by rw [hH]; rfl
    have eL : ∀ u, hL H u = hL h1 u := fun u => by rw [hH]; rfl
    have eN : hN H = r + 5 := by rw [hH]; exact n1
    have eU : hU H = hU h1 := by rw [hH]; rfl
    have eV : ∀ u j, u ≠ r → hV H u j = hV h1 u j := fun u j hu => by
      rw [hH, hV_Wn hu, hV_Wn hu, hV_Wn hu, hV_Wn hu, hV_Wn hu, hV_Wn hu, hV_Wn hu, hV_Wn hu, hV_Wn hu, hV_Wn hu, hV_Wn hu]
    have e71 : hV H r 71 = .ref (r + 1) := by
      rw [hH, hV_Wj (by omega), hV_Wj (by omega), hV_Wj (by omega), hV_Wj (by omega), hV_Wj (by omega), hV_Wj (by omega), hV_Wj (by omega), hV_Wj (by omega), hV_Wj (by omega), hV_Wj (by omega), hV_Wj (by omega)]; exact r1
    have eG : ∀ g, 57 ≤ g → g ≤ 70 → hV H r g = .int (v g) := fun g g2 g3 => by
      have gi : g = 57 ∨ g = 58 ∨ g = 59 ∨ g = 60 ∨ g = 61 ∨ g = 62 ∨ g = 63 ∨ g = 64 ∨ g = 65 ∨ g = 66 ∨ g = 67 ∨ g = 68 ∨ g = 69 ∨ g = 70 := by omega
      rw [hH]
      rcases gi with rfl | rfl | rfl | rfl | rfl | rfl | rfl | rfl | rfl | rfl | rfl | rfl | rfl | rfl
      · rw [hV_Wj (by omega), hV_Wj (by omega), hV_Wj (by omega), hV_Wj (by omega), hV_Wj (by omega), hV_Wj (by omega), hV_Wj (by omega), hV_Wj (by omega), hV_Wj (by omega), hV_Wj (by omega), hV_Wj (by omega)]; exact (g1 57 g2 g3).trans rfl
      · rw [hV_Wj (by omega), hV_Wj (by omega), hV_Wj (by omega), hV_Wj (by omega), hV_Wj (by omega), hV_Wj (by omega), hV_Wj (by omega), hV_Wj (by omega), hV_Wj (by omega), hV_Wj (by omega), hV_Wj (by omega)]; exact (g1 58 g2 g3).trans (congrArg Value.int v58.symm)
      · rw [hV_Wj (by omega), hV_Wj (by omega), hV_Wj (by omega), hV_Wj (by omega), hV_Wj (by omega), hV_Wj (by omega), hV_Wj (by omega), hV_Wj (by omega), hV_Wj (by omega), hV_Wj (by omega), hV_Wj (by omega)]; exact (g1 59 g2 g3).trans rfl
      · rw [hV_Wj (by omega), hV_Wj (by omega), hV_Wj (by omega), hV_Wj (by omega), hV_Wj (by omega), hV_Wj (by omega), hV_Wj (by omega), hV_Wj (by omega), hV_Wj (by omega), hV_Wj (by omega), hV_We rfl rfl]
      · rw [hV_Wj (by omega), hV_Wj (by omega), hV_Wj (by omega), hV_Wj (by omega), hV_Wj (by omega), hV_Wj (by omega), hV_Wj (by omega), hV_Wj (by omega), hV_Wj (by omega), hV_We rfl rfl]
      · rw [hV_Wj (by omega), hV_Wj (by omega), hV_Wj (by omega), hV_Wj (by omega), hV_Wj (by omega), hV_Wj (by omega), hV_Wj (by omega), hV_Wj (by omega), hV_We rfl rfl]
      · rw [hV_Wj (by omega), hV_Wj (by omega), hV_Wj (by omega), hV_Wj (by omega), hV_Wj (by omega), hV_Wj (by omega), hV_Wj (by omega), hV_We rfl rfl]
      · rw [hV_Wj (by omega), hV_Wj (by omega), hV_Wj (by omega), hV_Wj (by omega), hV_Wj (by omega), hV_Wj (by omega), hV_We rfl rfl]
      · rw [hV_Wj (by omega), hV_Wj (by omega), hV_Wj (by omega), hV_Wj (by omega), hV_Wj (by omega), hV_We rfl rfl]
      · rw [hV_Wj (by omega), hV_Wj (by omega), hV_Wj (by omega), hV_Wj (by omega), hV_We rfl rfl]
      · rw [hV_Wj (by omega), hV_Wj (by omega), hV_Wj (by omega), hV_We rfl rfl]
      · rw [hV_Wj (by omega), hV_Wj (by omega), hV_We rfl rfl]
      · rw [hV_Wj (by omega), hV_We rfl rfl]
      · rw [hV_We rfl rfl]
    have vbH : ∀ j, hV H b0 j = hV h1 b0 j := fun j => eV b0 j (by omega)
    have kHb : hK H b0 = 106 := (eK _).trans k1b
    have kHr : hK H r = 106 := (eK _).trans k1
    have k1r : hK h1 r = 106 := k1
    have x71H := (vbH 71).trans x71
    have F2 : FRow H (r + 1) n := F1.cg fun u q1 q2 => ⟨eK u, eL u, fun j => eV u j (by omega)⟩
    have agH : ∀ u, u < r → hK H u = hK h u ∧ hL H u = hL h u ∧ ∀ j, hV H u j = hV h u j := fun u hu => ⟨(eK u).trans (a2 u (by omega) hu).1, (eL u).trans (a2 u (by omega) hu).2.1, fun j => (eV u j (by omega)).trans ((a2 u (by omega) hu).2.2 j)⟩
    have Rs2 : R3 H (b0 + 1) 46 c := ⟨fun i h1 h2 => ((agH _ (by omega)).2.2 _).trans (Rs.1 i h1 h2), fun i h1 h2 => ⟨(agH _ (by omega)).1.trans (Rs.2 i h1 h2).1, (agH _ (by omega)).2.1.trans (Rs.2 i h1 h2).2.1, fun j => by rw [(agH _ (by omega)).2.2]; exact (Rs.2 i h1 h2).2.2 j⟩⟩
    have ec := fun (Q : zQ) => e4_copyTo (κ := κ) (h := H) (Q := Q) (s := b0 + 1) (t := r + 1) (m := m) (c := c) (c' := n) ((agH _ (by omega)).1.trans kr) Rs2 (((agH _ (by omega)).2.2 _).trans vm) F2.1 (R3_F F2) hm hmn (by omega) (by omega) (Or.inl (by omega))
    have hf := hq (rc H (b0 + 1) (r + 1) m)
    rw [← hr] at hf
    have hf' := hf (fun u _ hu => ⟨(agH u hu).1, (agH u hu).2.1, fun j => (rc_o (by omega) j).trans ((agH u hu).2.2 j)⟩) eN (by rw [rc_U, eU, u1, hU_A]; rfl) kHr (fun g g1 g2 => (rc_o (by omega) g).trans (eG g g1 g2)) ((rc_o (by omega) 71).trans e71) F2.1 ⟨fun i i1 i2 => by rw [rc_t, if_neg (by omega)]; exact (R3_F F2).1 i i1 i2, fun i i1 i2 => ⟨((R3_F F2).2 i i1 i2).1, ((R3_F F2).2 i i1 i2).2.1, fun j => by
        rw [rc_i i1 i2 (Or.inl (by omega))]
        split
        · exact (Rs2.2 i i1 i2).2.2 j
        · exact ((R3_F F2).2 i i1 i2).2.2 j⟩⟩ (by rw [rc_t, if_pos rfl]) (fun i i1 i2 j hj => by rw [rc_i i1 i2 (Or.inl (by omega)), if_pos hj]; exact (agH _ (by omega)).2.2 j)
    simp (disch := first | assumption | omega | decide) only [gB, I_all, zK_v, zK_n, true_and, and_true, Nat.reduceAdd, Nat.reduceMul, Nat.reduceSub, z_lt, z_le, z_neq, not_false_eq_true, or_true, true_or, or_false, false_or, false_and, and_false, gX6_copy, kb1, k1b, k1r, hK_W, vb, x60, x61, x62, x63, x64, x65, x66, x67, x68, x69, x70, x71, hB', z69, z70]
    rw [← hH]
    simp (disch := first | assumption | omega | decide) only [gB, I_all, zK_v, zK_n, true_and, and_true, Nat.reduceAdd, Nat.reduceMul, Nat.reduceSub, z_lt, z_le, z_neq, not_false_eq_true, or_true, true_or, or_false, false_or, false_and, and_false, gX6_copy, x71H, kHb, kHr, e71, F2.1, kb1, eK, ec, rc_K]
    exact hf'
end
