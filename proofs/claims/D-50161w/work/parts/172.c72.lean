/-! the component: texts: the setup (written by gen_c72.py) -/
def txL (i : Nat) : List Int32 := match zTx[i]? with
  | some z => strL z.2.2
  | none => []
theorem txL_len {i : Nat} (h : i < 48) : (txL i).length ≤ 10 := by
  have : ∀ i : Fin 48, (txL i.val).length ≤ 10 := by decide +kernel
  exact this ⟨i, h⟩
theorem txL_at {i : Nat} (h : i < 48) : ∃ z, zTx[i]? = some z ∧ strL z.2.2 = txL i := by
  have hl : zTx.length = 48 := by decide
  refine ⟨_, List.getElem?_eq_getElem (by omega), ?_⟩
  unfold txL
  rw [List.getElem?_eq_getElem (by omega)]
theorem tx_su : txL 29 = wordL (Int64.ofNat 508078) ++ [Int32.ofNat 32] ∧ txL 30 = [Int32.ofNat 32] ++ (wordL (Int64.ofNat 494) ++ [Int32.ofNat 32]) ∧ txL 31 = [Int32.ofNat 32] ++ (wordL (Int64.ofNat 147182) ++ [Int32.ofNat 32]) ∧
    txL 32 = [Int32.ofNat 32] ++ (wordL (Int64.ofNat 8758910009) ++ [Int32.ofNat 32]) ∧ txL 33 = [Int32.ofNat 32] ++ (wordL (Int64.ofNat 3120) ++ [Int32.ofNat 32]) ∧ txL 34 = [Int32.ofNat 32] ++ (wordL (Int64.ofNat 551510259813) ++ [Int32.ofNat 32]) ∧
    txL 35 = [Int32.ofNat 32] ++ (wordL (Int64.ofNat 19387844) ++ [Int32.ofNat 32]) ∧ txL 36 = [Int32.ofNat 32] ++ (wordL (Int64.ofNat 441477) ++ [Int32.ofNat 32]) := by decide +kernel
theorem tx_suS : txL 37 = wordL (Int64.ofNat 643568) ++ [Int32.ofNat 32] ∧ txL 38 = [Int32.ofNat 32] ++ (wordL (Int64.ofNat 4794053) ++ [Int32.ofNat 32]) ∧ txL 39 = [Int32.ofNat 32] ++ (wordL (Int64.ofNat 15558) ++ [Int32.ofNat 32]) ∧
    txL 40 = [Int32.ofNat 32] ++ (wordL (Int64.ofNat 17278420) ++ [Int32.ofNat 59]) ∧ txL 41 = [Int32.ofNat 59] := by decide +kernel
theorem tx_suB : txL 42 = wordL (Int64.ofNat 2739) ++ [Int32.ofNat 32] ∧ txL 43 = [Int32.ofNat 32] ++ (wordL (Int64.ofNat 20579924) ++ [Int32.ofNat 32]) := by decide +kernel
theorem tx_suF : txL 44 = wordL (Int64.ofNat 215533) ++ [Int32.ofNat 32] ∧ txL 45 = [Int32.ofNat 32] ++ (wordL (Int64.ofNat 655) ++ [Int32.ofNat 32]) ∧ txL 46 = [Int32.ofNat 32] ++ (wordL (Int64.ofNat 5969497) ++ [Int32.ofNat 32]) ∧
    txL 47 = [Int32.ofNat 32] ++ (wordL (Int64.ofNat 6605428) ++ [Int32.ofNat 32]) := by decide +kernel
theorem dcI_len (x : Int32) : (dcI x).length ≤ 10 := decL_len _
section
variable {κ : zC} {h h0 : zH} {a b p q0 q n : Nat} {l m : List Int32} {Y : Sy} {A : Nat → Nat → Nat} {Q : zQ}
theorem e25_appT {i : Nat} (hi : i < 48) (K : KS κ h0) (hB : kB κ ≤ hN h0) (S : SBw κ h0 h b l) (hl : l.length + 10 < 100000) (hq : ∀ h', SBw κ h0 h' b (l ++ txL i) → Q (.inl (some (.ref b))) h') : Ev κ mJ25_append_2 [.ref b, .ref (kT κ i)] h Q := by
  obtain ⟨z, ez, em⟩ := txL_at hi
  have := txL_len hi
  exact e25_appK K hB S ez em (by omega) hq
/-- a builder made with a text -/
theorem e25_initS {va : Nat} (hc : kS κ 3 = .int (Int32.ofNat 1)) (hB : kB κ ≤ hN h) (T : St h n va m) (ha : n < hN h ∧ va < hN h) (hm : m.length ≤ 16) (hq : ∀ h', SBw κ h h' (hN h) m → Q (.inl none) h') : Ev κ mJ25_init_2 [.ref (hN h), .ref n] (hA h 137 0 4 gD) Q := by
  have k1 : hK (hA h 137 0 4 gD) (hN h) = 137 := hK_At rfl
  have z3 : zArr 3 = true := rfl
  have T1 : St (hA h 137 0 4 gD) n va m := T.cg ⟨hK_An (show n ≠ hN h by omega), hV_An (show n ≠ hN h by omega)⟩ ⟨hK_An (show va ≠ hN h by omega), hL_An (show va ≠ hN h by omega), hV_An (show va ≠ hN h by omega)⟩
  have T2 : St (hW (hA h 137 0 4 gD) (hN h) 180 (.int (Int32.ofNat 0))) n va m := T1.cg ⟨rfl, hV_Wn (show n ≠ hN h by omega)⟩ ⟨rfl, rfl, hV_Wn (show va ≠ hN h by omega)⟩
  have el := fun (Q : zQ) => eS_length (Q := Q) hc T1
  have ec := fun (Q : zQ) => eS_coder (Q := Q) hc T1
  have en : hN (hW (hA h 137 0 4 gD) (hN h) 180 (.int (Int32.ofNat 0))) = hN h + 1 := rfl
  have S0 : SBw κ h (hW (hA (hW (hA h 137 0 4 gD) (hN h) 180 (.int (Int32.ofNat 0))) 3 (m.length + 16) (m.length + 16) (fun _ => .int 0)) (hN h) 179 (.ref (hN h + 1))) (hN h) [] := by
    refine ⟨hN h + 1, m.length + 16, ?_, by show m.length + 16 ≤ 2 * 0 + 34; omega⟩
    have n1 : hN (hW (hA h 137 0 4 gD) (hN h) 180 (.int (Int32.ofNat 0))) = hN h + 1 := rfl
    have g182 : gD 182 = .int (Int32.ofNat 0) := rfl
    have ev : ∀ j, hV (hW (hA (hW (hA h 137 0 4 gD) (hN h) 180 (.int (Int32.ofNat 0))) 3 (m.length + 16) (m.length + 16) (fun _ => .int 0)) (hN h) 179 (.ref (hN h + 1))) (hN h + 1) j = .int 0 := fun j => by
      rw [hV_Wn (by omega), hV_At n1.symm]
    refine ⟨⟨Nat.le_refl _, by show hN h < hN h + 2; omega, by omega, by show hN h + 1 < hN h + 2; omega, by omega, hB⟩, ⟨(show hK (hA (hW (hA h 137 0 4 gD) (hN h) 180 (.int (Int32.ofNat 0))) 3 (m.length + 16) (m.length + 16) (fun _ => .int 0)) (hN h) = 137 from (hK_An (show hN h ≠ hN h + 1 by omega)).trans k1), hV_We rfl rfl, ?_, ?_⟩, ⟨(show hK (hA (hW (hA h 137 0 4 gD) (hN h) 180 (.int (Int32.ofNat 0))) 3 (m.length + 16) (m.length + 16) (fun _ => .int 0)) (hN h + 1) = 3 from hK_At n1.symm), (show hL (hA (hW (hA h 137 0 4 gD) (hN h) 180 (.int (Int32.ofNat 0))) 3 (m.length + 16) (m.length + 16) (fun _ => .int 0)) (hN h + 1) = m.length + 16 from hL_At n1.symm), Nat.zero_le _, fun j => ⟨0, ev j, byO_0⟩, fun i x hi => by cases hi⟩, fun x _ hx => ⟨?_, ?_, fun j => ?_⟩, ?_, ?_⟩
    · rw [hV_Wj (by decide), hV_An (by omega)]
      exact hV_We rfl rfl
    · rw [hV_Wj (by decide), hV_An (by omega), hV_Wj (by decide), hV_At rfl]
      exact g182
    · exact (show hK (hA (hW (hA h 137 0 4 gD) (hN h) 180 (.int (Int32.ofNat 0))) 3 (m.length + 16) (m.length + 16) (fun _ => .int 0)) x = hK h x from (hK_An (show x ≠ hN h + 1 by omega)).trans (show hK (hA h 137 0 4 gD) x = hK h x from hK_An (show x ≠ hN h by omega)))
    · exact (show hL (hA (hW (hA h 137 0 4 gD) (hN h) 180 (.int (Int32.ofNat 0))) 3 (m.length + 16) (m.length + 16) (fun _ => .int 0)) x = hL h x from (hL_An (show x ≠ hN h + 1 by omega)).trans (show hL (hA h 137 0 4 gD) x = hL h x from hL_An (show x ≠ hN h by omega)))
    · rw [hV_Wn (by omega), hV_An (by omega), hV_Wn (by omega), hV_An (by omega)]
    · show hN h + 2 ≤ _
      omega
    · show hU h + 4 + (m.length + 16) ≤ _
      omega
  have ka := T1.1
  have k0 : hK (hA (hW (hA h 137 0 4 gD) (hN h) 180 (.int (Int32.ofNat 0))) 3 (m.length + 16) (m.length + 16) (fun _ => .int 0)) (hN h) = 137 := (hK_An (by omega)).trans k1
  have sk := S0.k
  have i16 : Int32.ofNat m.length + Int32.ofNat 16 = Int32.ofNat (m.length + 16) := I_add _ _
  have p16 : (0 : Int32) ≤ Int32.ofNat (m.length + 16) := I_nn (by omega)
  have key : ∀ Q' : zQ, (∀ h', SBw κ h h' (hN h) m → Q' (.inl (some (.ref (hN h)))) h') → Ev κ mJ25_append_2 [.ref (hN h), .ref n] (hW (hA (hW (hA h 137 0 4 gD) (hN h) 180 (.int (Int32.ofNat 0))) 3 (m.length + 16) (m.length + 16) (fun _ => .int 0)) (hN h) 179 (.ref (hN h + 1))) Q' := fun Q' hq' => e25_appS hc S0 T ha (by show 0 + m.length < 100000; omega) hq'
  have end1 : ∀ h' a0 a1 a2 a3 a4 b0 b1, SBw κ h h' (hN h) m → Go κ mJ24_init_2 61 [a0, a1, a2, a3, a4] [.ref (hN h)] h' (zK κ mJ25_init_2 2 3 [b0, b1] [] Q) := fun h' a0 a1 a2 a3 a4 b0 b1 S' => by
    have q1 := hq h' S'
    simp (disch := first | assumption | omega | decide) only [gB, I_all, zK_v, zK_n, true_and, and_true, Nat.reduceAdd, Nat.reduceMul, Nat.reduceSub, z_lt, z_le, z_neq, not_false_eq_true, or_true, true_or, or_false, false_or, false_and, and_false, gJ24_init_2, gJ25_init_2]
    exact q1
  rcases ka with ka | ka
  · simp (disch := first | assumption | omega | decide) only [gB, I_all, zK_v, zK_n, true_and, and_true, Nat.reduceAdd, Nat.reduceMul, Nat.reduceSub, z_lt, z_le, z_neq, not_false_eq_true, or_true, true_or, or_false, false_or, false_and, and_false, gJ25_init_2, gJ24_init_2, k1, ka, el, ec, hK_W, z3, i16, gJ25_append_4, k0, sk, en, z_by0, z_fy0, p16]
    refine key _ fun h' S' => ?_
    simp (disch := first | assumption | omega | decide) only [gB, I_all, zK_v, zK_n, true_and, and_true, Nat.reduceAdd, Nat.reduceMul, Nat.reduceSub, z_lt, z_le, z_neq, not_false_eq_true, or_true, true_or, or_false, false_or, false_and, and_false, gJ25_append_4]
    exact end1 _ _ _ _ _ _ _ _ S'
  · simp (disch := first | assumption | omega | decide) only [gB, I_all, zK_v, zK_n, true_and, and_true, Nat.reduceAdd, Nat.reduceMul, Nat.reduceSub, z_lt, z_le, z_neq, not_false_eq_true, or_true, true_or, or_false, false_or, false_and, and_false, gJ25_init_2, gJ24_init_2, k1, ka, el, ec, hK_W, z3, i16, gJ25_append_4, k0, sk, en, z_by0, z_fy0, p16]
    refine key _ fun h' S' => ?_
    simp (disch := first | assumption | omega | decide) only [gB, I_all, zK_v, zK_n, true_and, and_true, Nat.reduceAdd, Nat.reduceMul, Nat.reduceSub, z_lt, z_le, z_neq, not_false_eq_true, or_true, true_or, or_false, false_or, false_and, and_false, gJ25_append_4]
    exact end1 _ _ _ _ _ _ _ _ S'
/-- the facts that the setup's parts want -/
theorem su_f (T : TX κ h0 a p Y A q0 q) (S : SBw κ h0 h b l) : hK h a = 103 ∧ hV h a 22 = .ref p ∧ hV h a 24 = .int (sN (yS Y) 1) ∧ hV h a 34 = .ref (a + 1) ∧ hK h (a + 1) = 1 ∧ hL h (a + 1) = 4 ∧ hV h (a + 1) 0 = .int (sN (yS Y) 2) ∧ hV h (a + 1) 1 = .int (sN (yS Y) 3) ∧ hV h (a + 1) 2 = .int (sN (yS Y) 4) ∧ hV h (a + 1) 3 = .int (sN (yS Y) 5) ∧
    hK h p = 101 ∧ hV h p 6 = .int (plT (yP Y) 0 0) ∧ hV h p 7 = .int (plT (yP Y) 0 1) ∧ hV h p 8 = .int (plT (yP Y) 0 2) ∧ hK h b = 137 := by
  have Z := T.sb S
  have N := soN Z
  have K := soK Z
  have P := soP Z.1.2.1
  have AA := (soA Z).1
  exact ⟨N.1, N.2.1, N.2.2.2.1, (soR Z).1, K.1, K.2.1, AA 0 (by decide), AA 1 (by decide), AA 2 (by decide), AA 3 (by decide), P.1, P.2.1, P.2.2.1, P.2.2.2.1, S.k⟩
theorem su_fS (T : TX κ h0 a p Y A q0 q) (S : SBw κ h0 h b l) {s : Nat} (hs : s < plN (yP Y) 0) : hK h a = 103 ∧ hV h a 35 = .ref (a + 2) ∧ hK h (a + 2) = 4 ∧ hL h (a + 2) = 10 ∧ hV h (a + 2) s = .int (sN (yS Y) (13 + s)) ∧
    (∀ Q : zQ, Ev κ mX3_stop [.ref a, .int (Int32.ofNat s)] h Q = Q (.inl (some (.ref (A 1 s)))) h) ∧ hK h (A 1 s) = 102 ∧ hV h (A 1 s) 16 = .ref (A 7 s) ∧ hV h (A 1 s) 18 = .int (plT (yP Y) 4 s) ∧ hV h (A 1 s) 19 = .int (plT (yP Y) 5 s) ∧ hK h b = 137 := by
  have Z := T.sb S
  have N := soN Z
  have R := soR Z
  have K := soK Z
  have P := (soP Z.1.2.1).2.2.2.2.2.2.2.2.2.2.2.2
  have h10 := Z.1.2.2.1.1.2
  exact ⟨N.1, R.2.1, K.2.2.1, K.2.2.2.1, (soA Z).2.1 s (by omega), fun Q => (soE Z).2 s Q hs, P.2.2.2.2.2.1 s hs, P.2.2.2.1 s hs, P.2.1 s hs, P.2.2.1 s hs, S.k⟩
theorem su_fB (T : TX κ h0 a p Y A q0 q) (S : SBw κ h0 h b l) {k : Nat} (hk : k < plN (yP Y) 1) : hK h a = 103 ∧ hV h a 38 = .ref (a + 14) ∧ hK h (a + 14) = 13 ∧ hL h (a + 14) = plN (yP Y) 1 ∧ hV h (a + 14) k = .ref (a + (15 + 8 * plN (yP Y) 0 + 5 * k)) ∧ hK h (a + (15 + 8 * plN (yP Y) 0 + 5 * k)) = 106 ∧
    hV h (a + (15 + 8 * plN (yP Y) 0 + 5 * k)) 58 = .int (plT (yP Y) 7 k) ∧ hV h (a + (15 + 8 * plN (yP Y) 0 + 5 * k)) 59 = .int (plT (yP Y) 8 k) ∧ hK h b = 137 := by
  have Z := T.sb S
  have N := soN Z
  have R := soR Z
  have K := soK Z
  have B := soB Z hk
  exact ⟨N.1, R.2.2.2.2.1, K.2.2.2.2.2.2.2.2.2.2.2.2.2.2.2.2.2.2.2.2.2.2.1, K.2.2.2.2.2.2.2.2.2.2.2.2.2.2.2.2.2.2.2.2.2.2.2, R.2.2.2.2.2.2.2.2.2.2.2.2.2.2.2 k hk, B.1, B.2.2.1, B.2.2.2.1, S.k⟩
theorem su_fF (T : TX κ h0 a p Y A q0 q) (S : SBw κ h0 h b l) {f : Nat} (hf : f < plN (yP Y) 2) : hK h a = 103 ∧ hV h a 22 = .ref p ∧ hK h p = 101 ∧ hV h p 14 = .ref (A 4 3) ∧ hK h (A 4 3) = 114 ∧ (∀ Q : zQ, Ev κ mJ2_size [.ref (A 4 3)] h Q = Q (.inl (some (.int (Int32.ofNat (plN (yP Y) 2))))) h) ∧
    (∀ Q : zQ, Ev κ mJ2_get [.ref (A 4 3), .int (Int32.ofNat f)] h Q = Q (.inl (some (.ref (A 3 f)))) h) ∧ hK h (A 3 f) = 110 ∧ hV h (A 3 f) 143 = .int (Int32.ofNat (plI (yP Y) 10 f)) ∧ hV h (A 3 f) 144 = .int (plT (yP Y) 11 f) ∧ hV h (A 3 f) 145 = .int (plT (yP Y) 12 f) ∧ hV h (A 3 f) 146 = .ref (A 1 (plI (yP Y) 9 f)) ∧
    hK h (A 1 (plI (yP Y) 9 f)) = 102 ∧ hV h (A 1 (plI (yP Y) 9 f)) 16 = .ref (A 7 (plI (yP Y) 9 f)) ∧ hK h (A 1 (plI (yP Y) 10 f)) = 102 ∧ hV h (A 1 (plI (yP Y) 10 f)) 16 = .ref (A 7 (plI (yP Y) 10 f)) ∧ (∀ Q : zQ, Ev κ mX3_stop [.ref a, .int (Int32.ofNat (plI (yP Y) 10 f))] h Q = Q (.inl (some (.ref (A 1 (plI (yP Y) 10 f))))) h) ∧ hK h b = 137 := by
  have Z := T.sb S
  have N := soN Z
  have P0 := soP Z.1.2.1
  have P := P0.2.2.2.2.2.2.2.2.2.2.2.2
  have Yy := soY (κ := κ) Z.1.2.1
  obtain ⟨-, o1, o2, o3, -⟩ := Z.1.2.2.1.2.2.2.1 f hf
  refine ⟨N.1, N.2.1, P0.1, P0.2.2.2.2.2.2.2.1, P0.2.2.2.2.2.2.2.2.2.2.2.1, Yy.2.2.1, fun Q => Yy.2.2.2.2.1 f Q hf, P.2.2.2.2.2.2.2.2.2.2.2.2 f hf, ?_, P.2.2.2.2.2.2.2.2.2.1 f hf, P.2.2.2.2.2.2.2.2.2.2.1 f hf, P.2.2.2.2.2.2.2.2.2.2.2.1 f hf, P.2.2.2.2.2.1 _ o1, P.2.2.2.1 _ o1, P.2.2.2.2.2.1 _ o3, P.2.2.2.1 _ o3, fun Q => (soE Z).2 _ Q o3, S.k⟩
  rw [← o2]
  exact P.2.2.2.2.2.2.2.2.1 f hf
/-- flows -/
theorem e3_setup3 (T : TX κ h a p Y A q0 q) (L0 : List Int32) (hL0 : L0.length < 2000) (hq : ∀ h' s v, NwS h h' h' s v (L0 ++ catL (suF Y) (plN (yP Y) 2)) → hN h' ≤ hN h + 40000 → hU h' ≤ hU h + 100000 → Q (.inl (some (.ref s))) h') :
    ∀ (d k : Nat) (h1 : zH) (a3 : Option Value), k + d = plN (yP Y) 2 → SBw κ h h1 (hN h) (L0 ++ catL (suF Y) k) → Go κ mX3_setup 285 [some (.ref a), some (.ref (hN h)), some (.int (Int32.ofNat k)), a3] [] h1 Q := by
  have K := T.1
  have hc := K.1
  have hB := T.2.2.1.2.2
  have O := T.2.1.1.2.2.1
  have h10 := O.1.2
  have h6 := O.2.1.2
  have h16 := O.2.2.1
  have c1 := (T.2.1.1.2.2.1)
  have z13 := zA13
  intro d
  induction d with
  | zero =>
    intro k h1 a3 hk S1
    have hk' : k = plN (yP Y) 2 := by omega
    subst hk'
    have Z := T.sb S1
    have N := soN Z
    have P0 := soP Z.1.2.1
    have Yy := (soY (κ := κ) Z.1.2.1).2.2.1
    have k1 := S1.k
    have hcl := catL_len (suF_len Y) (plN (yP Y) 2)
    simp (disch := first | assumption | omega | decide) only [gB, I_all, zK_v, zK_n, true_and, and_true, Nat.reduceAdd, Nat.reduceMul, Nat.reduceSub, z_lt, z_le, z_neq, not_false_eq_true, or_true, true_or, or_false, false_or, false_and, and_false, gX3_setup_h.2.2]
    simp (disch := first | assumption | omega | decide) only [gB, I_all, zK_v, zK_n, true_and, and_true, Nat.reduceAdd, Nat.reduceMul, Nat.reduceSub, z_lt, z_le, z_neq, not_false_eq_true, or_true, true_or, or_false, false_or, false_and, and_false, gX3_setup_1, gX3_setup_2, N, P0, Yy, k1]
    refine e25_toString hc S1 (by rw [List.length_append]; omega) fun h2 s v N2 n2 u2 => ?_
    rw [List.length_append] at n2 u2
    have q1 := hq h2 s v N2 (by omega) (by omega)
    simp (disch := first | assumption | omega | decide) only [gB, I_all, zK_v, zK_n, true_and, and_true, Nat.reduceAdd, Nat.reduceMul, Nat.reduceSub, z_lt, z_le, z_neq, not_false_eq_true, or_true, true_or, or_false, false_or, false_and, and_false, gX3_setup_1, gX3_setup_2]
    exact q1
  | succ d ih =>
    intro k h1 a3 hk S1
    have hk1 : k < plN (yP Y) 2 := by omega
    have i1 := fun h1 S => ih (k + 1) h1 (some (.ref (A 3 k))) (by omega) S
    obtain ⟨o1, o2, o3, o4, o5, o6, o7, o8⟩ := O.2.2.2.1 k hk1
    have v1 : 0 ≤ (plT (yP Y) 11 k).toInt := by omega
    have hcl := catL_len (suF_len Y) k
    have ex : L0 ++ catL (suF Y) (k + 1) = L0 ++ catL (suF Y) k ++ txL 44 ++ nmL Y (plI (yP Y) 9 k) ++ txL 45 ++ nmL Y (plI (yP Y) 10 k) ++ txL 46 ++ dcI (plT (yP Y) 11 k) ++ txL 47 ++ dcI (plT (yP Y) 12 k) ++ [Int32.ofNat 59] := by
      obtain ⟨t1, t2, t3, t4⟩ := tx_suF
      show L0 ++ (catL (suF Y) k ++ suF Y k) = _
      rw [t1, t2, t3, t4]
      unfold suF naL prL nmL
      simp only [List.append_assoc]
    rw [ex] at i1
    have hl0 : (L0 ++ catL (suF Y) k).length < 10000 := by rw [List.length_append]; omega
    generalize L0 ++ catL (suF Y) k = l0 at S1 i1 hl0
    have g1 := txL_len (i := 44) (by decide)
    have g2 := txL_len (i := 45) (by decide)
    have g3 := txL_len (i := 46) (by decide)
    have g4 := txL_len (i := 47) (by decide)
    have g5 : (nmL Y (plI (yP Y) 9 k)).length ≤ 9 := wordL_len _
    have g6 : (nmL Y (plI (yP Y) 10 k)).length ≤ 9 := wordL_len _
    have g7 := dcI_len (plT (yP Y) 11 k)
    have g8 := dcI_len (plT (yP Y) 12 k)
    obtain ⟨vn, sn, n1, n2⟩ := T.2.2.2 _ o2
    obtain ⟨vm, sm, m1, m2⟩ := T.2.2.2 _ o4
    simp (disch := first | assumption | omega | decide) only [gB, I_all, zK_v, zK_n, true_and, and_true, Nat.reduceAdd, Nat.reduceMul, Nat.reduceSub, z_lt, z_le, z_neq, not_false_eq_true, or_true, true_or, or_false, false_or, false_and, and_false, gX3_setup_h.2.2]
    have F1 := su_fF T S1 hk1
    simp (disch := first | assumption | omega | decide) only [gB, I_all, zK_v, zK_n, true_and, and_true, Nat.reduceAdd, Nat.reduceMul, Nat.reduceSub, z_lt, z_le, z_neq, not_false_eq_true, or_true, true_or, or_false, false_or, false_and, and_false, gX3_setup_1, gX3_setup_2, F1, zCs]
    refine e25_appT (by decide) K hB S1 (by (try simp only [List.length_append, List.length_cons, List.length_nil]); omega) fun h2 S2 => ?_
    have F2 := su_fF T S2 hk1
    simp (disch := first | assumption | omega | decide) only [gB, I_all, zK_v, zK_n, true_and, and_true, Nat.reduceAdd, Nat.reduceMul, Nat.reduceSub, z_lt, z_le, z_neq, not_false_eq_true, or_true, true_or, or_false, false_or, false_and, and_false, gX3_setup_1, gX3_setup_2, F2, zCs]
    refine e25_appS hc S2 sn ⟨n1, n2⟩ (by (try simp only [List.length_append, List.length_cons, List.length_nil]); omega) fun h3 S3 => ?_
    have F3 := su_fF T S3 hk1
    simp (disch := first | assumption | omega | decide) only [gB, I_all, zK_v, zK_n, true_and, and_true, Nat.reduceAdd, Nat.reduceMul, Nat.reduceSub, z_lt, z_le, z_neq, not_false_eq_true, or_true, true_or, or_false, false_or, false_and, and_false, gX3_setup_1, gX3_setup_2, F3, zCs]
    refine e25_appT (by decide) K hB S3 (by (try simp only [List.length_append, List.length_cons, List.length_nil]); omega) fun h4 S4 => ?_
    have F4 := su_fF T S4 hk1
    simp (disch := first | assumption | omega | decide) only [gB, I_all, zK_v, zK_n, true_and, and_true, Nat.reduceAdd, Nat.reduceMul, Nat.reduceSub, z_lt, z_le, z_neq, not_false_eq_true, or_true, true_or, or_false, false_or, false_and, and_false, gX3_setup_1, gX3_setup_2, F4, zCs]
    refine e25_appS hc S4 sm ⟨m1, m2⟩ (by (try simp only [List.length_append, List.length_cons, List.length_nil]); omega) fun h5 S5 => ?_
    have F5 := su_fF T S5 hk1
    simp (disch := first | assumption | omega | decide) only [gB, I_all, zK_v, zK_n, true_and, and_true, Nat.reduceAdd, Nat.reduceMul, Nat.reduceSub, z_lt, z_le, z_neq, not_false_eq_true, or_true, true_or, or_false, false_or, false_and, and_false, gX3_setup_1, gX3_setup_2, F5, zCs]
    refine e25_appT (by decide) K hB S5 (by (try simp only [List.length_append, List.length_cons, List.length_nil]); omega) fun h6 S6 => ?_
    have F6 := su_fF T S6 hk1
    simp (disch := first | assumption | omega | decide) only [gB, I_all, zK_v, zK_n, true_and, and_true, Nat.reduceAdd, Nat.reduceMul, Nat.reduceSub, z_lt, z_le, z_neq, not_false_eq_true, or_true, true_or, or_false, false_or, false_and, and_false, gX3_setup_1, gX3_setup_2, F6, zCs]
    refine e25_appV hc K.2.2.1 S6 v1 (by (try simp only [List.length_append, List.length_cons, List.length_nil]); omega) fun h7 S7 => ?_
    have F7 := su_fF T S7 hk1
    simp (disch := first | assumption | omega | decide) only [gB, I_all, zK_v, zK_n, true_and, and_true, Nat.reduceAdd, Nat.reduceMul, Nat.reduceSub, z_lt, z_le, z_neq, not_false_eq_true, or_true, true_or, or_false, false_or, false_and, and_false, gX3_setup_1, gX3_setup_2, F7, zCs]
    refine e25_appT (by decide) K hB S7 (by (try simp only [List.length_append, List.length_cons, List.length_nil]); omega) fun h8 S8 => ?_
    have F8 := su_fF T S8 hk1
    simp (disch := first | assumption | omega | decide) only [gB, I_all, zK_v, zK_n, true_and, and_true, Nat.reduceAdd, Nat.reduceMul, Nat.reduceSub, z_lt, z_le, z_neq, not_false_eq_true, or_true, true_or, or_false, false_or, false_and, and_false, gX3_setup_1, gX3_setup_2, F8, zCs]
    refine e25_appV hc K.2.2.1 S8 o7 (by (try simp only [List.length_append, List.length_cons, List.length_nil]); omega) fun h9 S9 => ?_
    have F9 := su_fF T S9 hk1
    simp (disch := first | assumption | omega | decide) only [gB, I_all, zK_v, zK_n, true_and, and_true, Nat.reduceAdd, Nat.reduceMul, Nat.reduceSub, z_lt, z_le, z_neq, not_false_eq_true, or_true, true_or, or_false, false_or, false_and, and_false, gX3_setup_1, gX3_setup_2, F9, zCs]
    refine e25_appN hc S9 (by (try simp only [List.length_append, List.length_cons, List.length_nil]); omega) (by decide) fun h10 S10 => ?_
    have i2 := i1 h10 S10
    have F10 := su_fF T S10 hk1
    simp (disch := first | assumption | omega | decide) only [gB, I_all, zK_v, zK_n, true_and, and_true, Nat.reduceAdd, Nat.reduceMul, Nat.reduceSub, z_lt, z_le, z_neq, not_false_eq_true, or_true, true_or, or_false, false_or, false_and, and_false, gX3_setup_1, gX3_setup_2, F10, I_add]
    exact i2
/-- buses -/
theorem e3_setup2 (T : TX κ h a p Y A q0 q) (L0 : List Int32) (hL0 : L0.length < 1300) (hq : ∀ h' s v, NwS h h' h' s v (L0 ++ catL (suB Y) (plN (yP Y) 1) ++ catL (suF Y) (plN (yP Y) 2)) → hN h' ≤ hN h + 40000 → hU h' ≤ hU h + 100000 → Q (.inl (some (.ref s))) h') :
    ∀ (d k : Nat) (h1 : zH) (a3 : Option Value), k + d = plN (yP Y) 1 → SBw κ h h1 (hN h) (L0 ++ catL (suB Y) k) → Go κ mX3_setup 225 [some (.ref a), some (.ref (hN h)), some (.int (Int32.ofNat k)), a3] [] h1 Q := by
  have K := T.1
  have hc := K.1
  have hB := T.2.2.1.2.2
  have O := T.2.1.1.2.2.1
  have h10 := O.1.2
  have h6 := O.2.1.2
  have h16 := O.2.2.1
  have c1 := (T.2.1.1.2.2.1)
  have z13 := zA13
  intro d
  induction d with
  | zero =>
    intro k h1 a3 hk S1
    have hk' : k = plN (yP Y) 1 := by omega
    subst hk'
    have Z := T.sb S1
    have N := soN Z
    have R := soR Z
    have Kk := soK Z
    have hcl := catL_len (suB_len Y) (plN (yP Y) 1)
    have i2 := e3_setup3 T (L0 ++ catL (suB Y) (plN (yP Y) 1)) (by rw [List.length_append]; omega) hq (plN (yP Y) 2) 0 h1 a3 (by omega) (by rw [show catL (suF Y) 0 = [] from rfl, List.append_nil]; exact S1)
    simp (disch := first | assumption | omega | decide) only [gB, I_all, zK_v, zK_n, true_and, and_true, Nat.reduceAdd, Nat.reduceMul, Nat.reduceSub, z_lt, z_le, z_neq, not_false_eq_true, or_true, true_or, or_false, false_or, false_and, and_false, gX3_setup_h.2.1]
    simp (disch := first | assumption | omega | decide) only [gB, I_all, zK_v, zK_n, true_and, and_true, Nat.reduceAdd, Nat.reduceMul, Nat.reduceSub, z_lt, z_le, z_neq, not_false_eq_true, or_true, true_or, or_false, false_or, false_and, and_false, gX3_setup_1, gX3_setup_2, N, R, Kk, z13]
    exact i2
  | succ d ih =>
    intro k h1 a3 hk S1
    have hk1 : k < plN (yP Y) 1 := by omega
    have i1 := fun h1 S => ih (k + 1) h1 a3 (by omega) S
    obtain ⟨o1, o2, o3, o4, o5⟩ := O.2.2.2.2.1 k hk1
    have v1 : 0 ≤ (plT (yP Y) 7 k).toInt := by rw [o1, I_toInt (by omega)]; omega
    have hcl := catL_len (suB_len Y) k
    have ex : L0 ++ catL (suB Y) (k + 1) = L0 ++ catL (suB Y) k ++ txL 42 ++ dcI (plT (yP Y) 7 k) ++ txL 43 ++ dcI (plT (yP Y) 8 k) ++ [Int32.ofNat 59] := by
      obtain ⟨t1, t2⟩ := tx_suB
      show L0 ++ (catL (suB Y) k ++ suB Y k) = _
      rw [t1, t2]
      unfold suB prL
      simp only [List.append_assoc]
    rw [ex] at i1
    have hl0 : (L0 ++ catL (suB Y) k).length < 10000 := by rw [List.length_append]; omega
    generalize L0 ++ catL (suB Y) k = l0 at S1 i1 hl0
    have g1 := txL_len (i := 42) (by decide)
    have g2 := txL_len (i := 43) (by decide)
    have g7 := dcI_len (plT (yP Y) 7 k)
    have g8 := dcI_len (plT (yP Y) 8 k)
    simp (disch := first | assumption | omega | decide) only [gB, I_all, zK_v, zK_n, true_and, and_true, Nat.reduceAdd, Nat.reduceMul, Nat.reduceSub, z_lt, z_le, z_neq, not_false_eq_true, or_true, true_or, or_false, false_or, false_and, and_false, gX3_setup_h.2.1]
    have F1 := su_fB T S1 hk1
    simp (disch := first | assumption | omega | decide) only [gB, I_all, zK_v, zK_n, true_and, and_true, Nat.reduceAdd, Nat.reduceMul, Nat.reduceSub, z_lt, z_le, z_neq, not_false_eq_true, or_true, true_or, or_false, false_or, false_and, and_false, gX3_setup_1, gX3_setup_2, F1, z13]
    refine e25_appT (by decide) K hB S1 (by (try simp only [List.length_append, List.length_cons, List.length_nil]); omega) fun h2 S2 => ?_
    have F2 := su_fB T S2 hk1
    simp (disch := first | assumption | omega | decide) only [gB, I_all, zK_v, zK_n, true_and, and_true, Nat.reduceAdd, Nat.reduceMul, Nat.reduceSub, z_lt, z_le, z_neq, not_false_eq_true, or_true, true_or, or_false, false_or, false_and, and_false, gX3_setup_1, gX3_setup_2, F2, z13]
    refine e25_appV hc K.2.2.1 S2 v1 (by (try simp only [List.length_append, List.length_cons, List.length_nil]); omega) fun h3 S3 => ?_
    have F3 := su_fB T S3 hk1
    simp (disch := first | assumption | omega | decide) only [gB, I_all, zK_v, zK_n, true_and, and_true, Nat.reduceAdd, Nat.reduceMul, Nat.reduceSub, z_lt, z_le, z_neq, not_false_eq_true, or_true, true_or, or_false, false_or, false_and, and_false, gX3_setup_1, gX3_setup_2, F3, z13]
    refine e25_appT (by decide) K hB S3 (by (try simp only [List.length_append, List.length_cons, List.length_nil]); omega) fun h4 S4 => ?_
    have F4 := su_fB T S4 hk1
    simp (disch := first | assumption | omega | decide) only [gB, I_all, zK_v, zK_n, true_and, and_true, Nat.reduceAdd, Nat.reduceMul, Nat.reduceSub, z_lt, z_le, z_neq, not_false_eq_true, or_true, true_or, or_false, false_or, false_and, and_false, gX3_setup_1, gX3_setup_2, F4, z13]
    refine e25_appV hc K.2.2.1 S4 o4 (by (try simp only [List.length_append, List.length_cons, List.length_nil]); omega) fun h5 S5 => ?_
    have F5 := su_fB T S5 hk1
    simp (disch := first | assumption | omega | decide) only [gB, I_all, zK_v, zK_n, true_and, and_true, Nat.reduceAdd, Nat.reduceMul, Nat.reduceSub, z_lt, z_le, z_neq, not_false_eq_true, or_true, true_or, or_false, false_or, false_and, and_false, gX3_setup_1, gX3_setup_2, F5, z13]
    refine e25_appN hc S5 (by (try simp only [List.length_append, List.length_cons, List.length_nil]); omega) (by decide) fun h6 S6 => ?_
    have i2 := i1 h6 S6
    have F6 := su_fB T S6 hk1
    simp (disch := first | assumption | omega | decide) only [gB, I_all, zK_v, zK_n, true_and, and_true, Nat.reduceAdd, Nat.reduceMul, Nat.reduceSub, z_lt, z_le, z_neq, not_false_eq_true, or_true, true_or, or_false, false_or, false_and, and_false, gX3_setup_1, gX3_setup_2, F6, I_add]
    exact i2
/-- stops -/
theorem e3_setup1 (T : TX κ h a p Y A q0 q) (L0 : List Int32) (hL0 : L0.length < 300) (hq : ∀ h' s v, NwS h h' h' s v (L0 ++ catL (suS Y) (plN (yP Y) 0) ++ catL (suB Y) (plN (yP Y) 1) ++ catL (suF Y) (plN (yP Y) 2)) → hN h' ≤ hN h + 40000 → hU h' ≤ hU h + 100000 → Q (.inl (some (.ref s))) h') :
    ∀ (d k : Nat) (h1 : zH) (a3 : Option Value), k + d = plN (yP Y) 0 → SBw κ h h1 (hN h) (L0 ++ catL (suS Y) k) → (∀ s, s < plN (yP Y) 0 → sN (yS Y) (13 + s) = Int32.ofNat 0 ∨ sN (yS Y) (13 + s) = Int32.ofNat 1) → Go κ mX3_setup 135 [some (.ref a), some (.ref (hN h)), some (.int (Int32.ofNat k)), a3] [] h1 Q := by
  have K := T.1
  have hc := K.1
  have hB := T.2.2.1.2.2
  have O := T.2.1.1.2.2.1
  have h10 := O.1.2
  have h6 := O.2.1.2
  have h16 := O.2.2.1
  have c1 := (T.2.1.1.2.2.1)
  intro d
  induction d with
  | zero =>
    intro k h1 a3 hk S1 hp
    have hk' : k = plN (yP Y) 0 := by omega
    subst hk'
    have Z := T.sb S1
    have N := soN Z
    have E := soE Z
    have hcl := catL_len (suS_len Y) (plN (yP Y) 0)
    have i2 := e3_setup2 T (L0 ++ catL (suS Y) (plN (yP Y) 0)) (by rw [List.length_append]; omega) hq (plN (yP Y) 1) 0 h1 a3 (by omega) (by rw [show catL (suB Y) 0 = [] from rfl, List.append_nil]; exact S1)
    simp (disch := first | assumption | omega | decide) only [gB, I_all, zK_v, zK_n, true_and, and_true, Nat.reduceAdd, Nat.reduceMul, Nat.reduceSub, z_lt, z_le, z_neq, not_false_eq_true, or_true, true_or, or_false, false_or, false_and, and_false, gX3_setup_h.1]
    simp (disch := first | assumption | omega | decide) only [gB, I_all, zK_v, zK_n, true_and, and_true, Nat.reduceAdd, Nat.reduceMul, Nat.reduceSub, z_lt, z_le, z_neq, not_false_eq_true, or_true, true_or, or_false, false_or, false_and, and_false, gX3_setup_1, gX3_setup_2, N, E]
    exact i2
  | succ d ih =>
    intro k h1 a3 hk S1 hp
    have hk1 : k < plN (yP Y) 0 := by omega
    have i1 := fun h1 S => ih (k + 1) h1 a3 (by omega) S hp
    obtain ⟨o1, o2, o3, o4⟩ := O.2.2.2.2.2.1 k hk1
    have v1 : 0 ≤ (plT (yP Y) 4 k).toInt := by omega
    have hcl := catL_len (suS_len Y) k
    have E1 := (soE (T.sb S1)).1
    have ex : L0 ++ catL (suS Y) (k + 1) = L0 ++ catL (suS Y) k ++ txL 37 ++ nmL Y k ++ txL 38 ++ dcI (plT (yP Y) 4 k) ++ txL 39 ++ dcI (plT (yP Y) 5 k) ++ (if sN (yS Y) (13 + k) = Int32.ofNat 1 then txL 40 else txL 41) := by
      obtain ⟨t1, t2, t3, t4, t5⟩ := tx_suS
      show L0 ++ (catL (suS Y) k ++ suS Y k) = _
      rw [t1, t2, t3, t4, t5]
      unfold suS naL prL nmL
      by_cases c : sN (yS Y) (13 + k) = Int32.ofNat 1
      · rw [if_pos c, if_pos c]
        simp only [List.append_assoc]
      · rw [if_neg c, if_neg c]
        simp only [List.append_assoc]
    rw [ex] at i1
    have hl0 : (L0 ++ catL (suS Y) k).length < 10000 := by rw [List.length_append]; omega
    generalize L0 ++ catL (suS Y) k = l0 at S1 i1 hl0
    have g1 := txL_len (i := 37) (by decide)
    have g2 := txL_len (i := 38) (by decide)
    have g3 := txL_len (i := 39) (by decide)
    have g5 : (nmL Y k).length ≤ 9 := wordL_len _
    have g7 := dcI_len (plT (yP Y) 4 k)
    have g8 := dcI_len (plT (yP Y) 5 k)
    obtain ⟨vn, sn, n1, n2⟩ := T.2.2.2 _ hk1
    simp (disch := first | assumption | omega | decide) only [gB, I_all, zK_v, zK_n, true_and, and_true, Nat.reduceAdd, Nat.reduceMul, Nat.reduceSub, z_lt, z_le, z_neq, not_false_eq_true, or_true, true_or, or_false, false_or, false_and, and_false, gX3_setup_h.1]
    have F1 := su_fS T S1 hk1
    simp (disch := first | assumption | omega | decide) only [gB, I_all, zK_v, zK_n, true_and, and_true, Nat.reduceAdd, Nat.reduceMul, Nat.reduceSub, z_lt, z_le, z_neq, not_false_eq_true, or_true, true_or, or_false, false_or, false_and, and_false, gX3_setup_1, gX3_setup_2, F1, E1]
    refine e25_appT (by decide) K hB S1 (by (try simp only [List.length_append, List.length_cons, List.length_nil]); omega) fun h2 S2 => ?_
    have F2 := su_fS T S2 hk1
    simp (disch := first | assumption | omega | decide) only [gB, I_all, zK_v, zK_n, true_and, and_true, Nat.reduceAdd, Nat.reduceMul, Nat.reduceSub, z_lt, z_le, z_neq, not_false_eq_true, or_true, true_or, or_false, false_or, false_and, and_false, gX3_setup_1, gX3_setup_2, F2, E1]
    refine e25_appS hc S2 sn ⟨n1, n2⟩ (by (try simp only [List.length_append, List.length_cons, List.length_nil]); omega) fun h3 S3 => ?_
    have F3 := su_fS T S3 hk1
    simp (disch := first | assumption | omega | decide) only [gB, I_all, zK_v, zK_n, true_and, and_true, Nat.reduceAdd, Nat.reduceMul, Nat.reduceSub, z_lt, z_le, z_neq, not_false_eq_true, or_true, true_or, or_false, false_or, false_and, and_false, gX3_setup_1, gX3_setup_2, F3, E1]
    refine e25_appT (by decide) K hB S3 (by (try simp only [List.length_append, List.length_cons, List.length_nil]); omega) fun h4 S4 => ?_
    have F4 := su_fS T S4 hk1
    simp (disch := first | assumption | omega | decide) only [gB, I_all, zK_v, zK_n, true_and, and_true, Nat.reduceAdd, Nat.reduceMul, Nat.reduceSub, z_lt, z_le, z_neq, not_false_eq_true, or_true, true_or, or_false, false_or, false_and, and_false, gX3_setup_1, gX3_setup_2, F4, E1]
    refine e25_appV hc K.2.2.1 S4 v1 (by (try simp only [List.length_append, List.length_cons, List.length_nil]); omega) fun h5 S5 => ?_
    have F5 := su_fS T S5 hk1
    simp (disch := first | assumption | omega | decide) only [gB, I_all, zK_v, zK_n, true_and, and_true, Nat.reduceAdd, Nat.reduceMul, Nat.reduceSub, z_lt, z_le, z_neq, not_false_eq_true, or_true, true_or, or_false, false_or, false_and, and_false, gX3_setup_1, gX3_setup_2, F5, E1]
    refine e25_appT (by decide) K hB S5 (by (try simp only [List.length_append, List.length_cons, List.length_nil]); omega) fun h6 S6 => ?_
    have F6 := su_fS T S6 hk1
    simp (disch := first | assumption | omega | decide) only [gB, I_all, zK_v, zK_n, true_and, and_true, Nat.reduceAdd, Nat.reduceMul, Nat.reduceSub, z_lt, z_le, z_neq, not_false_eq_true, or_true, true_or, or_false, false_or, false_and, and_false, gX3_setup_1, gX3_setup_2, F6, E1]
    refine e25_appV hc K.2.2.1 S6 o3 (by (try simp only [List.length_append, List.length_cons, List.length_nil]); omega) fun h7 S7 => ?_
    have F7 := su_fS T S7 hk1
    rcases hp k hk1 with c | c
    · rw [if_neg (by rw [c]; decide)] at i1
      rw [c] at F7
      simp (disch := first | assumption | omega | decide) only [gB, I_all, zK_v, zK_n, true_and, and_true, Nat.reduceAdd, Nat.reduceMul, Nat.reduceSub, z_lt, z_le, z_neq, not_false_eq_true, or_true, true_or, or_false, false_or, false_and, and_false, gX3_setup_1, gX3_setup_2, F7]
      refine e25_appT (by decide) K hB S7 (by (try simp only [List.length_append, List.length_cons, List.length_nil]); omega) fun h8 S8 => ?_
      have i2 := i1 h8 S8
      simp (disch := first | assumption | omega | decide) only [gB, I_all, zK_v, zK_n, true_and, and_true, Nat.reduceAdd, Nat.reduceMul, Nat.reduceSub, z_lt, z_le, z_neq, not_false_eq_true, or_true, true_or, or_false, false_or, false_and, and_false, gX3_setup_1, gX3_setup_2, I_add]
      exact i2
    · rw [if_pos c] at i1
      rw [c] at F7
      simp (disch := first | assumption | omega | decide) only [gB, I_all, zK_v, zK_n, true_and, and_true, Nat.reduceAdd, Nat.reduceMul, Nat.reduceSub, z_lt, z_le, z_neq, not_false_eq_true, or_true, true_or, or_false, false_or, false_and, and_false, gX3_setup_1, gX3_setup_2, F7]
      refine e25_appT (by decide) K hB S7 (by (try simp only [List.length_append, List.length_cons, List.length_nil]); omega) fun h8 S8 => ?_
      have i2 := i1 h8 S8
      simp (disch := first | assumption | omega | decide) only [gB, I_all, zK_v, zK_n, true_and, and_true, Nat.reduceAdd, Nat.reduceMul, Nat.reduceSub, z_lt, z_le, z_neq, not_false_eq_true, or_true, true_or, or_false, false_or, false_and, and_false, gX3_setup_1, gX3_setup_2, I_add]
      exact i2
theorem e3_setup (T : TX κ h a p Y A q0 q) (N : nOk (yS Y)) (hp : ∀ s, s < plN (yP Y) 0 → sN (yS Y) (13 + s) = Int32.ofNat 0 ∨ sN (yS Y) (13 + s) = Int32.ofNat 1) (hq : ∀ h' s v, NwS h h' h' s v (suL Y) → hN h' ≤ hN h + 40000 → hU h' ≤ hU h + 100000 → Q (.inl (some (.ref s))) h') : Ev κ mX3_setup [.ref a] h Q := by
  have K := T.1
  have hc := K.1
  have hB := T.2.2.1.2.2
  have O := T.2.1.1.2.2.1
  have h10 := O.1.2
  have h6 := O.2.1.2
  have h16 := O.2.2.1
  have c1 := (T.2.1.1.2.2.1)
  obtain ⟨-, -, -, -, -, -, z1, z2, z3, z4, z5, z6⟩ := O
  have n1 := N 1 (by decide) (by decide)
  have n2 := N 2 (by decide) (by decide)
  have n3 := N 3 (by decide) (by decide)
  have n4 := N 4 (by decide) (by decide)
  have n5 := N 5 (by decide) (by decide)
  have hl := suN_len Y
  have ex : suN Y = txL 29 ++ dcI (plT (yP Y) 0 0) ++ txL 30 ++ dcI (plT (yP Y) 0 1) ++ txL 31 ++ dcI (plT (yP Y) 0 2) ++ txL 32 ++ dcI (sN (yS Y) 2) ++ txL 33 ++ dcI (sN (yS Y) 3) ++ txL 34 ++ dcI (sN (yS Y) 4) ++ txL 35 ++ dcI (sN (yS Y) 5) ++ txL 36 ++ dcI (sN (yS Y) 1) ++ [Int32.ofNat 59] := by
    obtain ⟨t1, t2, t3, t4, t5, t6, t7, t8⟩ := tx_su
    rw [t1, t2, t3, t4, t5, t6, t7, t8]
    unfold suN prL
    simp only [List.append_assoc]
  have i0 := fun (h1 : zH) (S : SBw κ h h1 (hN h) (suN Y)) => e3_setup1 T (suN Y) (by omega) hq (plN (yP Y) 0) 0 h1 none (by omega) (by rw [show catL (suS Y) 0 = [] from rfl, List.append_nil]; exact S) hp
  rw [ex] at i0
  have g29 := txL_len (i := 29) (by decide)
  have g30 := txL_len (i := 30) (by decide)
  have g31 := txL_len (i := 31) (by decide)
  have g32 := txL_len (i := 32) (by decide)
  have g33 := txL_len (i := 33) (by decide)
  have g34 := txL_len (i := 34) (by decide)
  have g35 := txL_len (i := 35) (by decide)
  have g36 := txL_len (i := 36) (by decide)
  have dp0 := dcI_len (plT (yP Y) 0 0)
  have dp1 := dcI_len (plT (yP Y) 0 1)
  have dp2 := dcI_len (plT (yP Y) 0 2)
  have dq2 := dcI_len (sN (yS Y) 2)
  have dq3 := dcI_len (sN (yS Y) 3)
  have dq4 := dcI_len (sN (yS Y) 4)
  have dq5 := dcI_len (sN (yS Y) 5)
  have dq1 := dcI_len (sN (yS Y) 1)
  obtain ⟨z, ez, em⟩ := txL_at (i := 29) (by decide)
  obtain ⟨v29, s29, l1, l2⟩ := K.2.2.2.at 29 ez em
  simp (disch := first | assumption | omega | decide) only [gB, I_all, zK_v, zK_n, true_and, and_true, Nat.reduceAdd, Nat.reduceMul, Nat.reduceSub, z_lt, z_le, z_neq, not_false_eq_true, or_true, true_or, or_false, false_or, false_and, and_false, gX3_setup_1, gX3_setup_2]
  refine e25_initS hc hB s29 ⟨by omega, by omega⟩ (by omega) fun h1 S1 => ?_
  have F1 := su_f T S1
  simp (disch := first | assumption | omega | decide) only [gB, I_all, zK_v, zK_n, true_and, and_true, Nat.reduceAdd, Nat.reduceMul, Nat.reduceSub, z_lt, z_le, z_neq, not_false_eq_true, or_true, true_or, or_false, false_or, false_and, and_false, gX3_setup_1, gX3_setup_2, F1]
  refine e25_appV hc K.2.2.1 S1 z1 (by (try simp only [List.length_append, List.length_cons, List.length_nil]); omega) fun h2 S2 => ?_
  have F2 := su_f T S2
  simp (disch := first | assumption | omega | decide) only [gB, I_all, zK_v, zK_n, true_and, and_true, Nat.reduceAdd, Nat.reduceMul, Nat.reduceSub, z_lt, z_le, z_neq, not_false_eq_true, or_true, true_or, or_false, false_or, false_and, and_false, gX3_setup_1, gX3_setup_2, F2]
  refine e25_appT (by decide) K hB S2 (by (try simp only [List.length_append, List.length_cons, List.length_nil]); omega) fun h3 S3 => ?_
  have F3 := su_f T S3
  simp (disch := first | assumption | omega | decide) only [gB, I_all, zK_v, zK_n, true_and, and_true, Nat.reduceAdd, Nat.reduceMul, Nat.reduceSub, z_lt, z_le, z_neq, not_false_eq_true, or_true, true_or, or_false, false_or, false_and, and_false, gX3_setup_1, gX3_setup_2, F3]
  refine e25_appV hc K.2.2.1 S3 z3 (by (try simp only [List.length_append, List.length_cons, List.length_nil]); omega) fun h4 S4 => ?_
  have F4 := su_f T S4
  simp (disch := first | assumption | omega | decide) only [gB, I_all, zK_v, zK_n, true_and, and_true, Nat.reduceAdd, Nat.reduceMul, Nat.reduceSub, z_lt, z_le, z_neq, not_false_eq_true, or_true, true_or, or_false, false_or, false_and, and_false, gX3_setup_1, gX3_setup_2, F4]
  refine e25_appT (by decide) K hB S4 (by (try simp only [List.length_append, List.length_cons, List.length_nil]); omega) fun h5 S5 => ?_
  have F5 := su_f T S5
  simp (disch := first | assumption | omega | decide) only [gB, I_all, zK_v, zK_n, true_and, and_true, Nat.reduceAdd, Nat.reduceMul, Nat.reduceSub, z_lt, z_le, z_neq, not_false_eq_true, or_true, true_or, or_false, false_or, false_and, and_false, gX3_setup_1, gX3_setup_2, F5]
  refine e25_appV hc K.2.2.1 S5 z5 (by (try simp only [List.length_append, List.length_cons, List.length_nil]); omega) fun h6 S6 => ?_
  have F6 := su_f T S6
  simp (disch := first | assumption | omega | decide) only [gB, I_all, zK_v, zK_n, true_and, and_true, Nat.reduceAdd, Nat.reduceMul, Nat.reduceSub, z_lt, z_le, z_neq, not_false_eq_true, or_true, true_or, or_false, false_or, false_and, and_false, gX3_setup_1, gX3_setup_2, F6]
  refine e25_appT (by decide) K hB S6 (by (try simp only [List.length_append, List.length_cons, List.length_nil]); omega) fun h7 S7 => ?_
  have F7 := su_f T S7
  simp (disch := first | assumption | omega | decide) only [gB, I_all, zK_v, zK_n, true_and, and_true, Nat.reduceAdd, Nat.reduceMul, Nat.reduceSub, z_lt, z_le, z_neq, not_false_eq_true, or_true, true_or, or_false, false_or, false_and, and_false, gX3_setup_1, gX3_setup_2, F7]
  refine e25_appV hc K.2.2.1 S7 n2 (by (try simp only [List.length_append, List.length_cons, List.length_nil]); omega) fun h8 S8 => ?_
  have F8 := su_f T S8
  simp (disch := first | assumption | omega | decide) only [gB, I_all, zK_v, zK_n, true_and, and_true, Nat.reduceAdd, Nat.reduceMul, Nat.reduceSub, z_lt, z_le, z_neq, not_false_eq_true, or_true, true_or, or_false, false_or, false_and, and_false, gX3_setup_1, gX3_setup_2, F8]
  refine e25_appT (by decide) K hB S8 (by (try simp only [List.length_append, List.length_cons, List.length_nil]); omega) fun h9 S9 => ?_
  have F9 := su_f T S9
  simp (disch := first | assumption | omega | decide) only [gB, I_all, zK_v, zK_n, true_and, and_true, Nat.reduceAdd, Nat.reduceMul, Nat.reduceSub, z_lt, z_le, z_neq, not_false_eq_true, or_true, true_or, or_false, false_or, false_and, and_false, gX3_setup_1, gX3_setup_2, F9]
  refine e25_appV hc K.2.2.1 S9 n3 (by (try simp only [List.length_append, List.length_cons, List.length_nil]); omega) fun h10 S10 => ?_
  have F10 := su_f T S10
  simp (disch := first | assumption | omega | decide) only [gB, I_all, zK_v, zK_n, true_and, and_true, Nat.reduceAdd, Nat.reduceMul, Nat.reduceSub, z_lt, z_le, z_neq, not_false_eq_true, or_true, true_or, or_false, false_or, false_and, and_false, gX3_setup_1, gX3_setup_2, F10]
  refine e25_appT (by decide) K hB S10 (by (try simp only [List.length_append, List.length_cons, List.length_nil]); omega) fun h11 S11 => ?_
  have F11 := su_f T S11
  simp (disch := first | assumption | omega | decide) only [gB, I_all, zK_v, zK_n, true_and, and_true, Nat.reduceAdd, Nat.reduceMul, Nat.reduceSub, z_lt, z_le, z_neq, not_false_eq_true, or_true, true_or, or_false, false_or, false_and, and_false, gX3_setup_1, gX3_setup_2, F11]
  refine e25_appV hc K.2.2.1 S11 n4 (by (try simp only [List.length_append, List.length_cons, List.length_nil]); omega) fun h12 S12 => ?_
  have F12 := su_f T S12
  simp (disch := first | assumption | omega | decide) only [gB, I_all, zK_v, zK_n, true_and, and_true, Nat.reduceAdd, Nat.reduceMul, Nat.reduceSub, z_lt, z_le, z_neq, not_false_eq_true, or_true, true_or, or_false, false_or, false_and, and_false, gX3_setup_1, gX3_setup_2, F12]
  refine e25_appT (by decide) K hB S12 (by (try simp only [List.length_append, List.length_cons, List.length_nil]); omega) fun h13 S13 => ?_
  have F13 := su_f T S13
  simp (disch := first | assumption | omega | decide) only [gB, I_all, zK_v, zK_n, true_and, and_true, Nat.reduceAdd, Nat.reduceMul, Nat.reduceSub, z_lt, z_le, z_neq, not_false_eq_true, or_true, true_or, or_false, false_or, false_and, and_false, gX3_setup_1, gX3_setup_2, F13]
  refine e25_appV hc K.2.2.1 S13 n5 (by (try simp only [List.length_append, List.length_cons, List.length_nil]); omega) fun h14 S14 => ?_
  have F14 := su_f T S14
  simp (disch := first | assumption | omega | decide) only [gB, I_all, zK_v, zK_n, true_and, and_true, Nat.reduceAdd, Nat.reduceMul, Nat.reduceSub, z_lt, z_le, z_neq, not_false_eq_true, or_true, true_or, or_false, false_or, false_and, and_false, gX3_setup_1, gX3_setup_2, F14]
  refine e25_appT (by decide) K hB S14 (by (try simp only [List.length_append, List.length_cons, List.length_nil]); omega) fun h15 S15 => ?_
  have F15 := su_f T S15
  simp (disch := first | assumption | omega | decide) only [gB, I_all, zK_v, zK_n, true_and, and_true, Nat.reduceAdd, Nat.reduceMul, Nat.reduceSub, z_lt, z_le, z_neq, not_false_eq_true, or_true, true_or, or_false, false_or, false_and, and_false, gX3_setup_1, gX3_setup_2, F15]
  refine e25_appV hc K.2.2.1 S15 n1 (by (try simp only [List.length_append, List.length_cons, List.length_nil]); omega) fun h16 S16 => ?_
  have F16 := su_f T S16
  simp (disch := first | assumption | omega | decide) only [gB, I_all, zK_v, zK_n, true_and, and_true, Nat.reduceAdd, Nat.reduceMul, Nat.reduceSub, z_lt, z_le, z_neq, not_false_eq_true, or_true, true_or, or_false, false_or, false_and, and_false, gX3_setup_1, gX3_setup_2, F16]
  refine e25_appN hc S16 (by (try simp only [List.length_append, List.length_cons, List.length_nil]); omega) (by decide) fun h17 S17 => ?_
  have i1 := i0 h17 S17
  simp (disch := first | assumption | omega | decide) only [gB, I_all, zK_v, zK_n, true_and, and_true, Nat.reduceAdd, Nat.reduceMul, Nat.reduceSub, z_lt, z_le, z_neq, not_false_eq_true, or_true, true_or, or_false, false_or, false_and, and_false, gX3_setup_1, gX3_setup_2]
  exact i1
end
