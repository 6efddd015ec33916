/-! strings: length, a string appended; a builder's start, its string -/
theorem z_by0 : (narrow .byte (.int (Int32.ofNat 0)) = Value.int (Int32.ofNat 0)) = True := eq_true (by decide)
theorem z_fy0 : (zFit .byte (.int (Int32.ofNat 0)) = true) = True := eq_true (by decide)
section
variable {κ : zC} {h h0 : zH} {a b v va cap : Nat} {l m : List Int32} {Q : zQ}
theorem eS_coder (hc : kS κ 3 = .int (Int32.ofNat 1)) (S : St h a v l) : Ev κ mJ7_coder [.ref a] h Q = Q (.inl (some (.int (Int32.ofNat 0)))) h := by
  obtain ⟨s1, s2, s3, s4, s5⟩ := S
  simp (disch := first | assumption | omega | decide) only [gB, I_all, zK_v, zK_n, true_and, and_true, Nat.reduceAdd, Nat.reduceMul, Nat.reduceSub, z_lt, z_le, z_neq, not_false_eq_true, or_true, true_or, or_false, false_or, false_and, and_false, gJ7_coder, hc, s1, s3, z_by0]
theorem eS_isLatin1 (hc : kS κ 3 = .int (Int32.ofNat 1)) (S : St h a v l) : Ev κ mJ7_isLatin1 [.ref a] h Q = Q (.inl (some (.int (Int32.ofNat 1)))) h := by
  obtain ⟨s1, s2, s3, s4, s5⟩ := S
  simp (disch := first | assumption | omega | decide) only [gB, I_all, zK_v, zK_n, true_and, and_true, Nat.reduceAdd, Nat.reduceMul, Nat.reduceSub, z_lt, z_le, z_neq, not_false_eq_true, or_true, true_or, or_false, false_or, false_and, and_false, gJ7_isLatin1, hc, s1, s3, z_b1]
theorem eS_length (hc : kS κ 3 = .int (Int32.ofNat 1)) (S : St h a v l) : Ev κ mJ7_length [.ref a] h Q = Q (.inl (some (.int (Int32.ofNat l.length)))) h := by
  have ec := fun (Q : zQ) => eS_coder (Q := Q) hc S
  obtain ⟨s1, s2, s3, ⟨t1, t2, -⟩, s5⟩ := S
  have z3 : zArr 3 = true := rfl
  rcases s1 with k | k
  · simp (disch := first | assumption | omega | decide) only [gB, I_all, zK_v, zK_n, true_and, and_true, Nat.reduceAdd, Nat.reduceMul, Nat.reduceSub, z_lt, z_le, z_neq, not_false_eq_true, or_true, true_or, or_false, false_or, false_and, and_false, gJ7_length, k, s2, t1, t2, z3, ec, z_sr0]
  · simp (disch := first | assumption | omega | decide) only [gB, I_all, zK_v, zK_n, true_and, and_true, Nat.reduceAdd, Nat.reduceMul, Nat.reduceSub, z_lt, z_le, z_neq, not_false_eq_true, or_true, true_or, or_false, false_or, false_and, and_false, gJ7_length, k, s2, t1, t2, z3, ec, z_sr0]
theorem eS_getBytes {j : Nat} (hc : kS κ 3 = .int (Int32.ofNat 1)) (S : St h a va m) (kv : hK h v = 3) (hl : j + m.length ≤ hL h v) (hj : hL h v < 10000000) (hB : kB κ ≤ v) : Ev κ mJ7_getBytes [.ref a, .ref v, .int (Int32.ofNat j), .int (Int32.ofNat 0)] h Q = Q (.inl none) (hC h va 0 v j m.length) := by
  have ec := fun (Q : zQ) => eS_coder (Q := Q) hc S
  obtain ⟨s1, s2, s3, ⟨t1, t2, t3, t4⟩, s5⟩ := S
  have z3 : zArr 3 = true := rfl
  have zo : ∀ s n, zOks h va v s n := fun s n => zOks_b kv t3
  have p1 := I_nn (n := 0) (by decide)
  have p2 := I_nn (n := j) (by omega)
  have p3 := I_nn (n := m.length) (by omega)
  rcases s1 with k | k
  · simp (disch := first | assumption | omega | decide) only [gB, I_all, zK_v, zK_n, true_and, and_true, Nat.reduceAdd, Nat.reduceMul, Nat.reduceSub, z_lt, z_le, z_neq, not_false_eq_true, or_true, true_or, or_false, false_or, false_and, and_false, gJ7_getBytes, k, s2, t1, t2, kv, z3, ec, z_sl0, zo, p1, p2, p3]
  · simp (disch := first | assumption | omega | decide) only [gB, I_all, zK_v, zK_n, true_and, and_true, Nat.reduceAdd, Nat.reduceMul, Nat.reduceSub, z_lt, z_le, z_neq, not_false_eq_true, or_true, true_or, or_false, false_or, false_and, and_false, gJ7_getBytes, k, s2, t1, t2, kv, z3, ec, z_sl0, zo, p1, p2, p3]
theorem e25_appS (hc : kS κ 3 = .int (Int32.ofNat 1)) (S : SBw κ h0 h b l) (T : St h0 a va m) (ha : a < hN h0 ∧ va < hN h0) (hl : l.length + m.length < 100000) (hq : ∀ h', SBw κ h0 h' b (l ++ m) → Q (.inl (some (.ref b))) h') : Ev κ mJ25_append_2 [.ref b, .ref a] h Q := by
  obtain ⟨v, cap, S, hcap⟩ := S
  have k := S.2.1.1
  have v3 := S.2.1.2.2.2
  have T0 := T.ag S.2.2.2.1 ⟨Nat.zero_le _, ha.1⟩ ⟨Nat.zero_le _, ha.2⟩
  have el := fun (Q : zQ) => eS_length (Q := Q) hc T0
  have ka := T0.1
  have key : Ev κ mJ24_ensureCapacityInternal [.ref b, .int (Int32.ofNat (l.length + m.length))] h (zK κ mJ24_append_2 21 3 [some (.ref b), some (.ref a), some (.int (Int32.ofNat m.length))] [] (zK κ mJ25_append_2 2 3 [some (.ref b), some (.ref a)] [] Q)) := by
    refine e24_ensure S (by omega) (by omega) fun h1 v' cap' S1 hle hb => ?_
    have S1' := S1
    have T1 := T.ag S1.2.2.2.1 ⟨Nat.zero_le _, ha.1⟩ ⟨Nat.zero_le _, ha.2⟩
    obtain ⟨⟨b1, b2, b3, b4, b5, b6⟩, ⟨k1, w1, w2, w3⟩, ⟨kv, lv, -⟩, -⟩ := S1
    have hB : kB κ ≤ b := by omega
    have hBv : kB κ ≤ v' := by omega
    have ec := fun (Q : zQ) => eS_coder (Q := Q) hc T1
    have eg := fun (Q : zQ) => eS_getBytes (κ := κ) (Q := Q) (v := v') (j := l.length) hc T1 kv (by omega) (by omega) hBv
    have k1a := T1.1
    have ei : ∀ Q : zQ, Ev κ mJ24_inflateIfNeededFor [.ref b, .ref a] h1 Q = Q (.inl none) h1 := fun Q => by
      rcases k1a with ka | ka
      · simp (disch := first | assumption | omega | decide) only [gB, I_all, zK_v, zK_n, true_and, and_true, Nat.reduceAdd, Nat.reduceMul, Nat.reduceSub, z_lt, z_le, z_neq, not_false_eq_true, or_true, true_or, or_false, false_or, false_and, and_false, gJ24_inflateIfNeededFor, hc, k1, w2, ec]
      · simp (disch := first | assumption | omega | decide) only [gB, I_all, zK_v, zK_n, true_and, and_true, Nat.reduceAdd, Nat.reduceMul, Nat.reduceSub, z_lt, z_le, z_neq, not_false_eq_true, or_true, true_or, or_false, false_or, false_and, and_false, gJ24_inflateIfNeededFor, hc, k1, w2, ec]
    have ep : ∀ Q : zQ, Ev κ mJ24_putStringAt [.ref b, .int (Int32.ofNat l.length), .ref a] h1 Q = Q (.inl none) (hC h1 va 0 v' l.length m.length) := fun Q => by
      rcases k1a with ka | ka
      · simp (disch := first | assumption | omega | decide) only [gB, I_all, zK_v, zK_n, true_and, and_true, Nat.reduceAdd, Nat.reduceMul, Nat.reduceSub, z_lt, z_le, z_neq, not_false_eq_true, or_true, true_or, or_false, false_or, false_and, and_false, gJ24_putStringAt, k1, w1, w2, ei, eg]
      · simp (disch := first | assumption | omega | decide) only [gB, I_all, zK_v, zK_n, true_and, and_true, Nat.reduceAdd, Nat.reduceMul, Nat.reduceSub, z_lt, z_le, z_neq, not_false_eq_true, or_true, true_or, or_false, false_or, false_and, and_false, gJ24_putStringAt, k1, w1, w2, ei, eg]
    have S2 := SBx_app S1' T1 (by omega) hle
    have q1 := hq _ ⟨v', cap', S2, by rw [List.length_append]; omega⟩
    have c1 : hV (hC h1 va 0 v' l.length m.length) b 182 = .int (Int32.ofNat l.length) := (hV_Cn b5 _).trans w3
    have c2 : hK (hC h1 va 0 v' l.length m.length) b = 137 := k1
    simp (disch := first | assumption | omega | decide) only [gB, I_all, zK_v, zK_n, true_and, and_true, Nat.reduceAdd, Nat.reduceMul, Nat.reduceSub, z_lt, z_le, z_neq, not_false_eq_true, or_true, true_or, or_false, false_or, false_and, and_false, gJ25_append_2, gJ24_append_2, k1, w3, ep, I_add, c1, c2]
    exact q1
  rcases ka with ka | ka
  · simp (disch := first | assumption | omega | decide) only [gB, I_all, zK_v, zK_n, true_and, and_true, Nat.reduceAdd, Nat.reduceMul, Nat.reduceSub, z_lt, z_le, z_neq, not_false_eq_true, or_true, true_or, or_false, false_or, false_and, and_false, gJ25_append_2, gJ24_append_2, k, v3, el, I_add]
    exact key
  · simp (disch := first | assumption | omega | decide) only [gB, I_all, zK_v, zK_n, true_and, and_true, Nat.reduceAdd, Nat.reduceMul, Nat.reduceSub, z_lt, z_le, z_neq, not_false_eq_true, or_true, true_or, or_false, false_or, false_and, and_false, gJ25_append_2, gJ24_append_2, k, v3, el, I_add]
    exact key
/-- a builder made -/
theorem e25_init (hc : kS κ 3 = .int (Int32.ofNat 1)) (hB : kB κ ≤ hN h) (hq : ∀ h', SBw κ h h' (hN h) [] → Q (.inl none) h') : Ev κ mJ25_init [.ref (hN h)] (hA h 137 0 4 gD) Q := by
  have k1 : hK (hA h 137 0 4 gD) (hN h) = 137 := hK_At rfl
  have z3 : zArr 3 = true := rfl
  have q1 := hq (hW (hW (hA (hA h 137 0 4 gD) 3 16 16 (fun _ => .int 0)) (hN h) 179 (.ref (hN h + 1))) (hN h) 180 (.int (Int32.ofNat 0))) ⟨hN h + 1, 16, ?_, by decide⟩
  · have k2 : hK (hA (hA h 137 0 4 gD) 3 16 16 (fun _ => .int 0)) (hN h) = 137 := (hK_An (by show hN h ≠ hN h + 1; omega)).trans k1
    have p16 := I_nn (n := 16) (by decide)
    have en : hN (hA h 137 0 4 gD) = hN h + 1 := rfl
    simp (disch := first | assumption | omega | decide) only [gB, I_all, zK_v, zK_n, true_and, and_true, Nat.reduceAdd, Nat.reduceMul, Nat.reduceSub, z_lt, z_le, z_neq, not_false_eq_true, or_true, true_or, or_false, false_or, false_and, and_false, gJ25_init, gJ24_init, hc, k1, k2, z3, hK_W, z_by0, z_fy0, p16, en]
    exact q1
  · have n1 : hN (hA h 137 0 4 gD) = hN h + 1 := rfl
    have g182 : gD 182 = .int (Int32.ofNat 0) := rfl
    have e : ∀ j, j ≠ 179 → j ≠ 180 → hV (hW (hW (hA (hA h 137 0 4 gD) 3 16 16 (fun _ => .int 0)) (hN h) 179 (.ref (hN h + 1))) (hN h) 180 (.int (Int32.ofNat 0))) (hN h) j = gD j := fun j h1 h2 => by
      rw [hV_Wj h2, hV_Wj h1, hV_An (by omega), hV_At rfl]
    have ev : ∀ j, hV (hW (hW (hA (hA h 137 0 4 gD) 3 16 16 (fun _ => .int 0)) (hN h) 179 (.ref (hN h + 1))) (hN h) 180 (.int (Int32.ofNat 0))) (hN h + 1) j = .int 0 := fun j => by
      rw [hV_Wn (by omega), hV_Wn (by omega), hV_At n1.symm]
    refine ⟨⟨Nat.le_refl _, by show hN h < hN h + 2; omega, by omega, by show hN h + 1 < hN h + 2; omega, by omega, hB⟩, ⟨(show hK (hA (hA h 137 0 4 gD) 3 16 16 (fun _ => .int 0)) (hN h) = 137 from (hK_An (by omega)).trans k1), ?_, hV_We rfl rfl, (e _ (by decide) (by decide)).trans g182⟩, ⟨(show hK (hA (hA h 137 0 4 gD) 3 16 16 (fun _ => .int 0)) (hN h + 1) = 3 from hK_At n1.symm), (show hL (hA (hA h 137 0 4 gD) 3 16 16 (fun _ => .int 0)) (hN h + 1) = 16 from hL_At n1.symm), Nat.zero_le _, fun j => ⟨0, ev j, byO_0⟩, fun i x hi => by cases hi⟩, fun x _ hx => ⟨?_, ?_, fun j => ?_⟩, ?_, ?_⟩
    · rw [hV_Wj (by decide)]
      exact hV_We rfl rfl
    · exact (show hK (hA (hA h 137 0 4 gD) 3 16 16 (fun _ => .int 0)) x = hK h x from (hK_An (by omega)).trans (hK_An (by omega)))
    · exact (show hL (hA (hA h 137 0 4 gD) 3 16 16 (fun _ => .int 0)) x = hL h x from (hL_An (by omega)).trans (hL_An (by omega)))
    · rw [hV_Wn (by omega), hV_Wn (by omega), hV_An (by omega), hV_An (by omega)]
    · show hN h + 2 ≤ _
      omega
    · show hU h + 4 + 16 ≤ _
      omega
end
