/-! strings: a part of a string -/
def subL (l : List Int32) (p e : Nat) : List Int32 := (l.drop p).take (e - p)
section
variable {κ : zC} {h : zH} {a b v w i n va vb p e : Nat} {l m : List Int32} {x : Int32} {Q : zQ}
theorem subL_len (he : e ≤ l.length) : (subL l p e).length = e - p := by
  unfold subL
  rw [List.length_take, List.length_drop]
  omega
theorem subL_get (he : e ≤ l.length) (h : (subL l p e)[i]? = some x) : i < e - p ∧ l[p + i]? = some x := by
  have hi := (List.getElem?_eq_some_iff.mp h).1
  rw [subL_len he] at hi
  unfold subL at h
  rw [List.getElem?_take_of_lt hi, List.getElem?_drop] at h
  exact ⟨hi, h⟩
theorem subL_all : subL l 0 l.length = l := by
  unfold subL
  rw [List.drop_zero, Nat.sub_zero, List.take_length]
theorem e14_fromTo (hp : p ≤ e) (he : e ≤ n) (hn : n < 2147483648) (K : kS κ 15 = .null ∨ ∃ r, kS κ 15 = .ref r) : Ev κ mJ14_checkFromToIndex [.int (Int32.ofNat p), .int (Int32.ofNat e), .int (Int32.ofNat n), kS κ 15] h Q = Q (.inl (some (.int (Int32.ofNat p)))) h := by
  rcases K with k | ⟨r, k⟩
  · rw [k, show Ev κ mJ14_checkFromToIndex [.int (Int32.ofNat p), .int (Int32.ofNat e), .int (Int32.ofNat n), .null] h Q = Go κ mJ14_checkFromToIndex 0 [some (.int (Int32.ofNat p)), some (.int (Int32.ofNat e)), some (.int (Int32.ofNat n)), some .null] [] h Q from rfl]
    have h0 : ¬ Int32.ofNat p < Int32.ofNat 0 := Int32.not_lt.mpr (I_nn (by omega))
    simp (disch := first | assumption | omega | decide) only [gB, I_all, zK_v, zK_n, true_and, and_true, Nat.reduceAdd, Nat.reduceMul, Nat.reduceSub, z_lt, z_le, z_neq, not_false_eq_true, or_true, true_or, or_false, false_or, false_and, and_false, gJ14_checkFromToIndex]
  · rw [k]
    have h0 : ¬ Int32.ofNat p < Int32.ofNat 0 := Int32.not_lt.mpr (I_nn (by omega))
    simp (disch := first | assumption | omega | decide) only [gB, I_all, zK_v, zK_n, true_and, and_true, Nat.reduceAdd, Nat.reduceMul, Nat.reduceSub, z_lt, z_le, z_neq, not_false_eq_true, or_true, true_or, or_false, false_or, false_and, and_false, gJ14_checkFromToIndex]
theorem e7_bounds (hp : p ≤ e) (he : e ≤ n) (hn : n < 2147483648) (K : kS κ 15 = .null ∨ ∃ r, kS κ 15 = .ref r) : Ev κ mJ7_checkBoundsBeginEnd [.int (Int32.ofNat p), .int (Int32.ofNat e), .int (Int32.ofNat n)] h Q = Q (.inl none) h := by
  have ee := fun (Q : zQ) => e14_fromTo (κ := κ) (h := h) (Q := Q) hp he hn K
  have ct : (kS κ 15).category = 1 := by rcases K with e | ⟨r, e⟩ <;> rw [e] <;> rfl
  have z4 : 4 ≤ 4 := Nat.le_refl 4
  simp (disch := first | assumption | omega | decide) only [gB, I_all, zK_v, zK_n, true_and, and_true, Nat.reduceAdd, Nat.reduceMul, Nat.reduceSub, z_lt, z_le, z_neq, not_false_eq_true, or_true, true_or, or_false, false_or, false_and, and_false, gJ7_checkBoundsBeginEnd, ee, ct, Nat.add_zero, z4]
theorem e8_newString (kv : hK h v = 3) (hlv : hL h v < 10000000) (by0 : ∀ j, byV (hV h v j)) (ct : ∀ i x, m[i]? = some x → hV h v (p + i) = .int x) (hle : p + m.length ≤ hL h v) (hB : kB κ ≤ v) (hv : v < hN h) (m0 : m.length ≠ 0) (hm : m.length < 100000)
    (hq : ∀ h', St h' (hN h) (hN h + 1) m → Ag h h' 0 (hN h) → hN h' = hN h + 2 → hU h' = hU h + 4 + m.length → Q (.inl (some (.ref (hN h)))) h') : Ev κ mJ8_newString [.ref v, .int (Int32.ofNat p), .int (Int32.ofNat m.length)] h Q := by
  have hBn : kB κ ≤ hN h := by omega
  have ks : hK (hA h 119 0 4 gD) (hN h) = 119 := hK_At rfl
  have k1 : hK (hA h 119 0 4 gD) v = 3 := (hK_An (show v ≠ hN h by omega)).trans kv
  have l1 : hL (hA h 119 0 4 gD) v = hL h v := hL_An (show v ≠ hN h by omega)
  have v1 : ∀ j, hV (hA h 119 0 4 gD) v j = hV h v j := hV_An (show v ≠ hN h by omega)
  have n1 : hN (hA h 119 0 4 gD) = hN h + 1 := rfl
  have zf : zFit .byte (.int (Int32.ofNat 0)) = true := by decide
  have key : Ev κ mJ17_copyOfRange_2 [.ref v, .int (Int32.ofNat p), .int (Int32.ofNat (p + m.length))] (hA h 119 0 4 gD) (zK κ mJ8_newString 16 3 [some (.ref v), some (.int (Int32.ofNat p)), some (.int (Int32.ofNat m.length))] [.ref (hN h), .ref (hN h)] Q) := by
    refine e17_copyOfRange k1 l1 (fun j => by rw [v1]; exact by0 j) (fun i x hi => by rw [v1]; exact ct i x hi) hle hlv hB (by rw [n1]; omega) fun h2 N => ?_
    obtain ⟨⟨c1, c2, c3, c4⟩, g, nn, uu⟩ := N
    rw [n1] at c1 c2 c3 c4 g nn ⊢
    have gs := g (hN h) (Nat.zero_le _) (by omega)
    have k2 : hK h2 (hN h) = 119 := gs.1.trans ks
    have q1 := hq (hW (hW h2 (hN h) 160 (.ref (hN h + 1))) (hN h) 161 (.int (Int32.ofNat 0))) ⟨Or.inl k2, (hV_Wj (by decide)).trans (hV_We rfl rfl), hV_We rfl rfl, ⟨c1, c2, fun j => by rw [hV_Wn (by omega), hV_Wn (by omega)]; exact c3 j, fun i x hi => by rw [hV_Wn (by omega), hV_Wn (by omega)]; exact c4 i x hi⟩, hm⟩
      (fun y _ hy => ⟨(g y (Nat.zero_le _) (by omega)).1.trans (hK_An (show y ≠ hN h by omega)), (g y (Nat.zero_le _) (by omega)).2.1.trans (hL_An (show y ≠ hN h by omega)), fun j => by rw [hV_Wn (by omega), hV_Wn (by omega), (g y (Nat.zero_le _) (by omega)).2.2 j, hV_An (show y ≠ hN h by omega)]⟩) (by show hN h2 = _; omega) (by show hU h2 = _; rw [uu]; rfl)
    simp (disch := first | assumption | omega | decide) only [gB, I_all, zK_v, zK_n, true_and, and_true, Nat.reduceAdd, Nat.reduceMul, Nat.reduceSub, z_lt, z_le, z_neq, not_false_eq_true, or_true, true_or, or_false, false_or, false_and, and_false, gJ8_newString, gJ7_init_3, k2, hK_W, zf]
    exact q1
  have m0' : ¬ m.length = 0 := m0
  simp (disch := first | assumption | omega | decide) only [gB, I_all, zK_v, zK_n, true_and, and_true, Nat.reduceAdd, Nat.reduceMul, Nat.reduceSub, z_lt, z_le, z_neq, not_false_eq_true, or_true, true_or, or_false, false_or, false_and, and_false, gJ8_newString, I_add]
  exact key
theorem eS_sub (K : KS κ h) (S : St h a va l) (ha : a < hN h ∧ va < hN h) (hp : p ≤ e) (he : e ≤ l.length) (hB : kB κ ≤ va)
    (hq : ∀ h' s v, St h' s v (subL l p e) → s < hN h' → v < hN h' → Ag h h' 0 (hN h) → hN h ≤ hN h' → hN h' ≤ hN h + 2 → hU h' ≤ hU h + 4 + (e - p) → Q (.inl (some (.ref s))) h') : Ev κ mJ7_substring [.ref a, .int (Int32.ofNat p), .int (Int32.ofNat e)] h Q := by
  have hc := K.1
  have el := fun (Q : zQ) => eS_length (Q := Q) hc S
  have ei := fun (Q : zQ) => eS_isLatin1 (Q := Q) hc S
  have S0 := S
  obtain ⟨s1, s2, s3, ⟨t1, t2, t3, t4⟩, s5⟩ := S
  have eb := fun (Q : zQ) => e7_bounds (κ := κ) (h := h) (Q := Q) hp he (by omega) K.2.1
  have hcl : (subL l p e).length = e - p := subL_len he
  by_cases c : p = 0 ∧ e = l.length
  · obtain ⟨c1, c2⟩ := c
    subst c1
    subst c2
    rw [subL_all] at hq
    have q1 := hq h a va S0 ha.1 ha.2 Ag.rfl (Nat.le_refl _) (by omega) (by omega)
    rcases s1 with k | k
    · simp (disch := first | assumption | omega | decide) only [gB, I_all, zK_v, zK_n, true_and, and_true, Nat.reduceAdd, Nat.reduceMul, Nat.reduceSub, z_lt, z_le, z_neq, not_false_eq_true, or_true, true_or, or_false, false_or, false_and, and_false, gJ7_substring, k, el, eb]
      exact q1
    · simp (disch := first | assumption | omega | decide) only [gB, I_all, zK_v, zK_n, true_and, and_true, Nat.reduceAdd, Nat.reduceMul, Nat.reduceSub, z_lt, z_le, z_neq, not_false_eq_true, or_true, true_or, or_false, false_or, false_and, and_false, gJ7_substring, k, el, eb]
      exact q1
  · have es : Int32.ofNat e - Int32.ofNat p = Int32.ofNat (e - p) := I_sub (by omega)
    have key : Ev κ mJ8_newString [.ref va, .int (Int32.ofNat p), .int (Int32.ofNat (e - p))] h (zK κ mJ7_substring 41 3 [some (.ref a), some (.int (Int32.ofNat p)), some (.int (Int32.ofNat e)), some (.int (Int32.ofNat l.length)), some (.int (Int32.ofNat (e - p)))] [] Q) := by
      by_cases c0 : e - p = 0
      · obtain ⟨z, ez, em⟩ := txL_at (i := 20) (by decide)
        obtain ⟨v, st, b1, b2⟩ := K.2.2.2.at 20 ez em
        have e20 : txL 20 = [] := by decide +kernel
        have e2 : subL l p e = [] := List.eq_nil_of_length_eq_zero (by rw [hcl]; exact c0)
        rw [e20] at st
        rw [e2] at hq
        have q1 := hq h (kT κ 20) v st (by omega) (by omega) Ag.rfl (Nat.le_refl _) (by omega) (by omega)
        rw [c0]
        simp (disch := first | assumption | omega | decide) only [gB, I_all, zK_v, zK_n, true_and, and_true, Nat.reduceAdd, Nat.reduceMul, Nat.reduceSub, z_lt, z_le, z_neq, not_false_eq_true, or_true, true_or, or_false, false_or, false_and, and_false, gJ8_newString, gJ7_substring]
        exact q1
      · rw [← hcl]
        refine e8_newString t1 (by omega) t3 (fun i x hi => ?_) (by omega) hB ha.2 (by omega) (by omega) fun h' S' g nn uu => ?_
        · obtain ⟨i1, i2⟩ := subL_get he hi
          exact t4 _ x i2
        · have q1 := hq h' (hN h) (hN h + 1) S' (by omega) (by omega) g (by omega) (by omega) (by omega)
          simp (disch := first | assumption | omega | decide) only [gB, I_all, zK_v, zK_n, true_and, and_true, Nat.reduceAdd, Nat.reduceMul, Nat.reduceSub, z_lt, z_le, z_neq, not_false_eq_true, or_true, true_or, or_false, false_or, false_and, and_false, gJ7_substring]
          exact q1
    by_cases c1 : p = 0
    · have c2 : ¬ e = l.length := fun z => c ⟨c1, z⟩
      rcases s1 with k | k
      · simp (disch := first | assumption | omega | decide) only [gB, I_all, zK_v, zK_n, true_and, and_true, Nat.reduceAdd, Nat.reduceMul, Nat.reduceSub, z_lt, z_le, z_neq, not_false_eq_true, or_true, true_or, or_false, false_or, false_and, and_false, gJ7_substring, k, el, eb, es, ei, s2]
        exact key
      · simp (disch := first | assumption | omega | decide) only [gB, I_all, zK_v, zK_n, true_and, and_true, Nat.reduceAdd, Nat.reduceMul, Nat.reduceSub, z_lt, z_le, z_neq, not_false_eq_true, or_true, true_or, or_false, false_or, false_and, and_false, gJ7_substring, k, el, eb, es, ei, s2]
        exact key
    · rcases s1 with k | k
      · simp (disch := first | assumption | omega | decide) only [gB, I_all, zK_v, zK_n, true_and, and_true, Nat.reduceAdd, Nat.reduceMul, Nat.reduceSub, z_lt, z_le, z_neq, not_false_eq_true, or_true, true_or, or_false, false_or, false_and, and_false, gJ7_substring, k, el, eb, es, ei, s2]
        exact key
      · simp (disch := first | assumption | omega | decide) only [gB, I_all, zK_v, zK_n, true_and, and_true, Nat.reduceAdd, Nat.reduceMul, Nat.reduceSub, z_lt, z_le, z_neq, not_false_eq_true, or_true, true_or, or_false, false_or, false_and, and_false, gJ7_substring, k, el, eb, es, ei, s2]
        exact key
end
