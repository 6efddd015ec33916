/-! strings: a builder's array, a character, a string appended -/
section
variable {κ : zC} {h h0 : zH} {b v cap : Nat} {l : List Int32} {Q : zQ}
theorem e17_copyOf3 {n : Nat} (kv : hK h v = 3) (lv : hL h v = cap) (by0 : ∀ j, byV (hV h v j)) (hlt : cap < n) (hn : n < 10000000) (hB : kB κ ≤ hN h) (hv : v < hN h) :
    Ev κ mJ17_copyOf_3 [.ref v, .int (Int32.ofNat n)] h Q = Q (.inl (some (.ref (hN h)))) (hC (hA h 3 n n (fun _ => .int 0)) v 0 (hN h) 0 cap) := by
  have z3 : zArr 3 = true := rfl
  have k1 : hK (hA h 3 n n (fun _ => .int 0)) v = 3 := (hK_An (by omega)).trans kv
  have k2 : hK (hA h 3 n n (fun _ => .int 0)) (hN h) = 3 := hK_At rfl
  have l1 : hL (hA h 3 n n (fun _ => .int 0)) v = cap := (hL_An (by omega)).trans lv
  have l2 : hL (hA h 3 n n (fun _ => .int 0)) (hN h) = n := hL_At rfl
  have zo : ∀ s m, zOks (hA h 3 n n (fun _ => .int 0)) v (hN h) s m := fun s m => zOks_b k2 fun j => by rw [hV_An (by omega)]; exact by0 j
  have em := fun (h : zH) (Q : zQ) => e9_minN (κ := κ) (h := h) (Q := Q) (x := cap) (y := n) (by omega) (by omega)
  rw [Nat.min_eq_left (by omega)] at em
  have p1 := I_nn (n := n) (by omega)
  have p2 := I_nn (n := cap) (by omega)
  have p3 := I_nn (n := 0) (by decide)
  simp (disch := first | assumption | omega | decide) only [gB, I_all, zK_v, zK_n, true_and, and_true, Nat.reduceAdd, Nat.reduceMul, Nat.reduceSub, z_lt, z_le, z_neq, not_false_eq_true, or_true, true_or, or_false, false_or, false_and, and_false, gJ17_copyOf_3, kv, lv, z3, k1, k2, l1, l2, zo, em, p1, p2, p3]
theorem e24_ensure {m : Nat} (S : SBx κ h0 h b v cap l) (hm : m < 1000000) (hcap : cap < 1000000) (hq : ∀ h' v' cap', SBx κ h0 h' b v' cap' l → m ≤ cap' → (cap' = cap ∨ cap' ≤ 2 * m + 2) → Q (.inl none) h') : Ev κ mJ24_ensureCapacityInternal [.ref b, .int (Int32.ofNat m)] h Q := by
  have S0 := S
  obtain ⟨⟨b1, b2, b3, b4, b5, b6⟩, ⟨k, v1, v2, v3⟩, ⟨kv, lv, ll, by0, ct⟩, ag, n1, u1⟩ := S
  have z3 : zArr 3 = true := rfl
  by_cases c : m ≤ cap
  · have le : Int32.ofNat m - Int32.ofNat cap ≤ Int32.ofNat 0 := by
      have e1 := I_toInt (n := m) (by omega)
      have e2 := I_toInt (n := cap) (by omega)
      rw [Int32.le_iff_toInt_le, Int32.toInt_sub, e1, e2]
      have : ((m : Int) - (cap : Int)).bmod (2 ^ 32) = (m : Int) - (cap : Int) := by rw [Int.bmod_eq_of_le] <;> omega
      rw [this]
      show (m : Int) - (cap : Int) ≤ (Int32.ofNat 0).toInt
      have : (Int32.ofNat 0).toInt = 0 := by decide
      omega
    have q1 := hq h v cap S0 c (Or.inl rfl)
    simp (disch := first | assumption | omega | decide) only [gB, I_all, zK_v, zK_n, true_and, and_true, Nat.reduceAdd, Nat.reduceMul, Nat.reduceSub, z_lt, z_le, z_neq, not_false_eq_true, or_true, true_or, or_false, false_or, false_and, and_false, gJ24_ensureCapacityInternal, k, v1, v2, kv, lv, z3, z_sr0]
    exact q1
  · have es : Int32.ofNat m - Int32.ofNat cap = Int32.ofNat (m - cap) := I_sub (by omega)
    have en := fun (Q : zQ) => e24_newCapacity (Q := Q) S0 hm hcap (by omega)
    have w1 : m ≤ cap + max (m - cap) (cap + 2) ∧ 2 * cap + 2 ≤ cap + max (m - cap) (cap + 2) ∧ cap + max (m - cap) (cap + 2) ≤ 2 * m + 2 := by
      have a1 := Nat.le_max_left (m - cap) (cap + 2)
      have a2 := Nat.le_max_right (m - cap) (cap + 2)
      have a3 : max (m - cap) (cap + 2) ≤ m - cap + (cap + 2) := Nat.max_le.mpr ⟨by omega, by omega⟩
      have a4 : cap + max (m - cap) (cap + 2) = max m (2 * cap + 2) := by omega
      have a5 : max m (2 * cap + 2) ≤ 2 * m + 2 := Nat.max_le.mpr ⟨by omega, by omega⟩
      omega
    generalize cap + max (m - cap) (cap + 2) = w at *
    have ec := fun (Q : zQ) => e17_copyOf3 (κ := κ) (Q := Q) kv lv by0 (show cap < w by omega) (by omega) (by have := ag; omega) b4
    have q1 := hq (hW (hC (hA h 3 w w (fun _ => .int 0)) v 0 (hN h) 0 cap) b 179 (.ref (hN h))) (hN h) w ?_ w1.1 (Or.inr w1.2.2)
    · have kb : hK (hC (hA h 3 w w (fun _ => .int 0)) v 0 (hN h) 0 cap) b = 137 := (hK_C ..).trans ((hK_An (by omega)).trans k)
      have hB : kB κ ≤ b := by omega
      simp (disch := first | assumption | omega | decide) only [gB, I_all, zK_v, zK_n, true_and, and_true, Nat.reduceAdd, Nat.reduceMul, Nat.reduceSub, z_lt, z_le, z_neq, not_false_eq_true, or_true, true_or, or_false, false_or, false_and, and_false, gJ24_ensureCapacityInternal, k, v1, v2, kv, lv, z3, z_sr0, z_sl0, es, en, ec, kb]
      exact q1
    · have vb : ∀ j, j ≠ 179 → hV (hW (hC (hA h 3 w w (fun _ => .int 0)) v 0 (hN h) 0 cap) b 179 (.ref (hN h))) b j = hV h b j := fun j hj => by
        rw [hV_Wj hj, hV_Cn (by omega), hV_An (by omega)]
      have vn : ∀ j, hV (hW (hC (hA h 3 w w (fun _ => .int 0)) v 0 (hN h) 0 cap) b 179 (.ref (hN h))) (hN h) j = if j < cap then hV h v j else .int 0 := fun j => by
        rw [hV_Wn (by omega), hV_C, if_pos rfl]
        by_cases d : j < cap
        · rw [if_pos (by omega), if_pos d, hV_An (by omega)]
          congr 1
          omega
        · rw [if_neg (by omega), if_neg d, hV_At rfl]
      have z0 : byV (.int 0) := ⟨0, rfl, byO_0⟩
      refine ⟨⟨b1, by show b < hN h + 1; omega, by omega, by show hN h < hN h + 1; omega, by omega, b6⟩, ⟨(show hK (hA h 3 w w (fun _ => .int 0)) b = hK h b from hK_An (by omega)).trans k, hV_We rfl rfl, (vb _ (by decide)).trans v2, (vb _ (by decide)).trans v3⟩, ⟨(show hK (hA h 3 w w (fun _ => .int 0)) (hN h) = 3 from hK_At rfl), (show hL (hA h 3 w w (fun _ => .int 0)) (hN h) = w from hL_At rfl), by omega, fun j => ?_, fun i x hx => ?_⟩, fun x hx hx2 => ⟨?_, ?_, fun j => ?_⟩, ?_, ?_⟩
      · rw [vn]
        split
        · exact by0 j
        · exact z0
      · have := (List.getElem?_eq_some_iff.mp hx).1
        rw [vn, if_pos (by omega)]
        exact ct i x hx
      · exact (show hK (hA h 3 w w (fun _ => .int 0)) x = hK h x from hK_An (by omega)).trans (ag x hx hx2).1
      · exact (show hL (hA h 3 w w (fun _ => .int 0)) x = hL h x from hL_An (by omega)).trans (ag x hx hx2).2.1
      · rw [hV_Wn (by omega), hV_Cn (by omega), hV_An (by omega)]
        exact (ag x hx hx2).2.2 j
      · show hN h + 1 ≤ _
        omega
      · show hU h + w ≤ _
        omega
theorem SBx_push (S : SBx κ h0 h b v cap l) (hl : l.length < cap) {x : Int32} (hx : byO x) : SBx κ h0 (hW (hW h b 182 (.int (Int32.ofNat (l.length + 1)))) v l.length (.int x)) b v cap (l ++ [x]) := by
  obtain ⟨⟨b1, b2, b3, b4, b5, b6⟩, ⟨k, v1, v2, v3⟩, ⟨kv, lv, ll, by0, ct⟩, ag, n1, u1⟩ := S
  have el : (l ++ [x]).length = l.length + 1 := by rw [List.length_append]; rfl
  have eb : ∀ j, hV (hW (hW h b 182 (.int (Int32.ofNat (l.length + 1)))) v l.length (.int x)) b j = if j = 182 then .int (Int32.ofNat (l.length + 1)) else hV h b j := fun j => by
    rw [hV_Wn b5, hV_W, if_pos rfl]
  have ev : ∀ j, hV (hW (hW h b 182 (.int (Int32.ofNat (l.length + 1)))) v l.length (.int x)) v j = if j = l.length then .int x else hV h v j := fun j => by
    rw [hV_W, if_pos rfl]
    by_cases d : j = l.length
    · rw [if_pos d, if_pos d]
    · rw [if_neg d, if_neg d, hV_Wn (fun e => b5 e.symm)]
  refine ⟨⟨b1, b2, b3, b4, b5, b6⟩, ⟨k, (eb _).trans v1, (eb _).trans v2, by rw [eb, if_pos rfl, el]⟩, ⟨kv, lv, by omega, fun j => ?_, fun i y hi => ?_⟩, fun y hy hy2 => ⟨(ag y hy hy2).1, (ag y hy hy2).2.1, fun j => by rw [hV_Wn (by omega), hV_Wn (by omega)]; exact (ag y hy hy2).2.2 j⟩, n1, u1⟩
  · rw [ev]
    split
    · exact ⟨x, rfl, hx⟩
    · exact by0 j
  · rw [ev]
    by_cases d : i = l.length
    · subst d
      rw [List.getElem?_append_right (Nat.le_refl _), Nat.sub_self] at hi
      rw [if_pos rfl]
      exact congrArg Value.int (Option.some.inj hi)
    · rw [if_neg d]
      have := (List.getElem?_eq_some_iff.mp hi).1
      rw [List.getElem?_append_left (by omega)] at hi
      exact ct i y hi
theorem SBx_app (S : SBx κ h0 h b v cap l) {m : List Int32} {a va : Nat} (T : St h a va m) (hva : va ≠ b ∧ va ≠ v) (hl : l.length + m.length ≤ cap) : SBx κ h0 (hW (hC h va 0 v l.length m.length) b 182 (.int (Int32.ofNat (l.length + m.length)))) b v cap (l ++ m) := by
  obtain ⟨⟨b1, b2, b3, b4, b5, b6⟩, ⟨k, v1, v2, v3⟩, ⟨kv, lv, ll, by0, ct⟩, ag, n1, u1⟩ := S
  obtain ⟨-, -, -, ⟨t1, t2, t3, t4⟩, -⟩ := T
  have eb : ∀ j, hV (hW (hC h va 0 v l.length m.length) b 182 (.int (Int32.ofNat (l.length + m.length)))) b j = if j = 182 then .int (Int32.ofNat (l.length + m.length)) else hV h b j := fun j => by
    rw [hV_W, if_pos rfl, hV_Cn b5]
  have ev : ∀ j, hV (hW (hC h va 0 v l.length m.length) b 182 (.int (Int32.ofNat (l.length + m.length)))) v j = if l.length ≤ j ∧ j < l.length + m.length then hV h va (0 + (j - l.length)) else hV h v j := fun j => by
    rw [hV_Wn (fun e => b5 e.symm), hV_C, if_pos rfl]
  refine ⟨⟨b1, b2, b3, b4, b5, b6⟩, ⟨k, (eb _).trans v1, (eb _).trans v2, by rw [eb, if_pos rfl, List.length_append]⟩, ⟨kv, lv, by rw [List.length_append]; exact hl, fun j => ?_, fun i y hi => ?_⟩, fun y hy hy2 => ⟨(ag y hy hy2).1, (ag y hy hy2).2.1, fun j => by rw [hV_Wn (by omega), hV_Cn (by omega)]; exact (ag y hy hy2).2.2 j⟩, n1, u1⟩
  · rw [ev]
    split
    · exact t3 _
    · exact by0 j
  · rw [ev]
    by_cases d : i < l.length
    · rw [if_neg (by omega)]
      rw [List.getElem?_append_left d] at hi
      exact ct i y hi
    · have h1 := (List.getElem?_eq_some_iff.mp hi).1
      rw [List.length_append] at h1
      rw [if_pos (by omega)]
      rw [List.getElem?_append_right (by omega)] at hi
      rw [Nat.zero_add]
      exact t4 _ y hi
theorem e25_appC {c : Int32} (hc : kS κ 3 = .int (Int32.ofNat 1)) (S : SBw κ h0 h b l) (hl : l.length < 100000) (h255 : 0 ≤ c.toInt ∧ c.toInt ≤ 255) (hq : ∀ h', SBw κ h0 h' b (l ++ [by8 c]) → Q (.inl (some (.ref b))) h') : Ev κ mJ25_append [.ref b, .int c] h Q := by
  obtain ⟨v, cap, S, hcap⟩ := S
  have k := S.2.1.1
  have v3 := S.2.1.2.2.2
  have ecan : ∀ (h : zH) (Q : zQ), Ev κ mJ8_canEncode [.int c] h Q = Q (.inl (some (.int (Int32.ofNat 1)))) h := fun h Q => by
    have : ¬ Int32.ofNat 255 < c := by
      rw [Int32.lt_iff_toInt_lt, I_toInt (by decide)]
      omega
    simp (disch := first | assumption | omega | decide) only [gB, I_all, zK_v, zK_n, true_and, and_true, Nat.reduceAdd, Nat.reduceMul, Nat.reduceSub, z_lt, z_le, z_neq, not_false_eq_true, or_true, true_or, or_false, false_or, false_and, and_false, gJ8_canEncode, z_b1]
  simp (disch := first | assumption | omega | decide) only [gB, I_all, zK_v, zK_n, true_and, and_true, Nat.reduceAdd, Nat.reduceMul, Nat.reduceSub, z_lt, z_le, z_neq, not_false_eq_true, or_true, true_or, or_false, false_or, false_and, and_false, gJ25_append, gJ24_append, k, v3, I_add]
  refine e24_ensure S (by omega) (by omega) fun h1 v' cap' S1 hle hb => ?_
  have S1' := S1
  obtain ⟨⟨b1, b2, b3, b4, b5, b6⟩, ⟨k1, w1, w2, w3⟩, ⟨kv, lv, -⟩, -⟩ := S1
  have hB : kB κ ≤ b := by omega
  have hBv : kB κ ≤ v' := by omega
  have eL : ∀ Q : zQ, Ev κ mJ24_isLatin1 [.ref b] h1 Q = Q (.inl (some (.int (Int32.ofNat 1)))) h1 := fun Q => by
    simp (disch := first | assumption | omega | decide) only [gB, I_all, zK_v, zK_n, true_and, and_true, Nat.reduceAdd, Nat.reduceMul, Nat.reduceSub, z_lt, z_le, z_neq, not_false_eq_true, or_true, true_or, or_false, false_or, false_and, and_false, gJ24_isLatin1, hc, k1, w2, z_b1]
  have S2 := SBx_push S1' (show l.length < cap' by omega) (by8_O c)
  have q1 := hq _ ⟨v', cap', S2, by rw [List.length_append]; show cap' ≤ 2 * (l.length + 1) + 34; omega⟩
  have n8 : narrow (zElT 3) (.int c.toInt8.toInt32) = .int (by8 c) := nar8 c
  simp (disch := first | assumption | omega | decide) only [gB, I_all, zK_v, zK_n, true_and, and_true, Nat.reduceAdd, Nat.reduceMul, Nat.reduceSub, z_lt, z_le, z_neq, not_false_eq_true, or_true, true_or, or_false, false_or, false_and, and_false, gJ25_append, gJ24_append, k1, w1, w3, eL, ecan, I_add, hK_W, hL_W, kv, lv, n8]
  exact q1
end
