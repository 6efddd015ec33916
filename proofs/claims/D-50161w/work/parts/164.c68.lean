/-! strings: a range copied; a builder's string; a character of a string -/
theorem zC38 : (zCas 3 8 = true) = True := eq_true (by decide)
/-- a fresh array of bytes -/
def NwA (h h' : zH) (l : List Int32) : Prop := SVa h' (hN h) l ∧ Ag h h' 0 (hN h) ∧ hN h' = hN h + 1 ∧ hU h' = hU h + l.length
/-- a fresh string, whatever lay ahead of n0 as it was -/
def NwS (h0 h h' : zH) (s v : Nat) (l : List Int32) : Prop := St h' s v l ∧ (hN h0 ≤ s ∧ s < hN h') ∧ (hN h0 ≤ v ∧ v < hN h') ∧ Ag h0 h' 0 (hN h0)
section
variable {h : zH} {k n u s sp d dp c b : Nat} {f : Nat → Value}
theorem hK_CAn (hb : b ≠ hN h) : hK (hC (hA h k n u f) s sp d dp c) b = hK h b := show hK (hA h k n u f) b = hK h b from hK_An hb
theorem hL_CAn (hb : b ≠ hN h) : hL (hC (hA h k n u f) s sp d dp c) b = hL h b := show hL (hA h k n u f) b = hL h b from hL_An hb
theorem hK_CAt (hb : b = hN h) : hK (hC (hA h k n u f) s sp d dp c) b = k := show hK (hA h k n u f) b = k from hK_At hb
theorem hL_CAt (hb : b = hN h) : hL (hC (hA h k n u f) s sp d dp c) b = n := show hL (hA h k n u f) b = n from hL_At hb
end
section
variable {κ : zC} {h h0 : zH} {b v cap p : Nat} {l : List Int32} {Q : zQ}
theorem e17_copyOfRange (kv : hK h v = 3) (lv : hL h v = cap) (by0 : ∀ j, byV (hV h v j)) (ct : ∀ i x, l[i]? = some x → hV h v (p + i) = .int x) (hle : p + l.length ≤ cap) (hcap : cap < 10000000) (hB : kB κ ≤ v) (hv : v < hN h)
    (hq : ∀ h', NwA h h' l → Q (.inl (some (.ref (hN h)))) h') : Ev κ mJ17_copyOfRange_2 [.ref v, .int (Int32.ofNat p), .int (Int32.ofNat (p + l.length))] h Q := by
  have z3 : zArr 3 = true := rfl
  by_cases c : p = 0 ∧ p + l.length = cap
  · obtain ⟨c1, c2⟩ := c
    subst c1
    have c2' : l.length = cap := by omega
    have fb : ∀ j, j < hL h v → fits .byte (hV h v j) = true := fun j _ => byV_fits (by0 j)
    have k2 : hK (hA h 3 (hL h v) (hL h v) (fun j => hV h v j)) (hN h) = 3 := hK_At rfl
    have hBn : kB κ ≤ hN h := by omega
    have q1 := hq (hA h 3 (hL h v) (hL h v) (fun j => hV h v j)) ⟨⟨hK_At rfl, (hL_At rfl).trans (by omega), fun j => by rw [hV_At rfl]; exact by0 j, fun i x hi => by
      rw [hV_At rfl]
      have := ct i x hi
      rw [Nat.zero_add] at this
      exact this⟩, Ag_A (Nat.le_refl _), rfl, by show hU h + hL h v = _; omega⟩
    simp (disch := first | assumption | omega | decide) only [gB, I_all, zK_v, zK_n, true_and, and_true, Nat.reduceAdd, Nat.reduceMul, Nat.reduceSub, z_lt, z_le, z_neq, not_false_eq_true, or_true, true_or, or_false, false_or, false_and, and_false, gJ17_copyOfRange_2, kv, lv, z3, c2, fb, k2, zC38]
    rw [lv] at q1
    exact ⟨fun j hj => fb j (by rw [lv]; exact hj), by rw [hK_At rfl]; decide, q1⟩
  · have es : Int32.ofNat (p + l.length) - Int32.ofNat p = Int32.ofNat l.length := by
      rw [I_sub (by omega)]
      congr 1
      omega
    have es2 : Int32.ofNat cap - Int32.ofNat p = Int32.ofNat (cap - p) := I_sub (by omega)
    have em := fun (h : zH) (Q : zQ) => e9_minN (κ := κ) (h := h) (Q := Q) (x := cap - p) (y := l.length) (by omega) (by omega)
    rw [Nat.min_eq_right (by omega)] at em
    have ek : ∀ Q : zQ, Ev κ mJ17_checkLength [.int (Int32.ofNat p), .int (Int32.ofNat (p + l.length))] h Q = Q (.inl none) h := fun Q => by
      simp (disch := first | assumption | omega | decide) only [gB, I_all, zK_v, zK_n, true_and, and_true, Nat.reduceAdd, Nat.reduceMul, Nat.reduceSub, z_lt, z_le, z_neq, not_false_eq_true, or_true, true_or, or_false, false_or, false_and, and_false, gJ17_checkLength]
    have k1 : hK (hA h 3 l.length l.length (fun _ => .int 0)) v = 3 := (hK_An (by omega)).trans kv
    have k2 : hK (hA h 3 l.length l.length (fun _ => .int 0)) (hN h) = 3 := hK_At rfl
    have l1 : hL (hA h 3 l.length l.length (fun _ => .int 0)) v = cap := (hL_An (by omega)).trans lv
    have l2 : hL (hA h 3 l.length l.length (fun _ => .int 0)) (hN h) = l.length := hL_At rfl
    have zo : ∀ s m, zOks (hA h 3 l.length l.length (fun _ => .int 0)) v (hN h) s m := fun s m => zOks_b k2 fun j => by rw [hV_An (by omega)]; exact by0 j
    have hBn : kB κ ≤ hN h := by omega
    have q1 := hq (hC (hA h 3 l.length l.length (fun _ => .int 0)) v p (hN h) 0 l.length) ⟨⟨hK_CAt rfl, hL_CAt rfl, fun j => ?_, fun i x hi => ?_⟩, fun x _ hx => ⟨hK_CAn (by omega), hL_CAn (by omega), fun j => by rw [hV_Cn (by omega), hV_An (by omega)]⟩, rfl, rfl⟩
    · have eb : ∀ Q : zQ, Ev κ mJ17_copyOfRangeByte [.ref v, .int (Int32.ofNat p), .int (Int32.ofNat (p + l.length))] h Q = Q (.inl (some (.ref (hN h)))) (hC (hA h 3 l.length l.length (fun _ => .int 0)) v p (hN h) 0 l.length) := fun Q => by
        have p1 := I_nn (n := p) (by omega)
        have p2 := I_nn (n := l.length) (by omega)
        have p3 := I_nn (n := 0) (by decide)
        simp (disch := first | assumption | omega | decide) only [gB, I_all, zK_v, zK_n, true_and, and_true, Nat.reduceAdd, Nat.reduceMul, Nat.reduceSub, z_lt, z_le, z_neq, not_false_eq_true, or_true, true_or, or_false, false_or, false_and, and_false, gJ17_copyOfRangeByte, ek, es, es2, em, z3, k1, k2, l1, l2, zo, p1, p2, p3]
      by_cases c1 : p = 0
      · have c2 : ¬ p + l.length = cap := fun e => c ⟨c1, e⟩
        simp (disch := first | assumption | omega | decide) only [gB, I_all, zK_v, zK_n, true_and, and_true, Nat.reduceAdd, Nat.reduceMul, Nat.reduceSub, z_lt, z_le, z_neq, not_false_eq_true, or_true, true_or, or_false, false_or, false_and, and_false, gJ17_copyOfRange_2, kv, lv, z3, eb]
        exact q1
      · simp (disch := first | assumption | omega | decide) only [gB, I_all, zK_v, zK_n, true_and, and_true, Nat.reduceAdd, Nat.reduceMul, Nat.reduceSub, z_lt, z_le, z_neq, not_false_eq_true, or_true, true_or, or_false, false_or, false_and, and_false, gJ17_copyOfRange_2, kv, lv, z3, eb]
        exact q1
    · rw [hV_C, if_pos rfl]
      split
      · rw [hV_An (by omega)]
        exact by0 _
      · rw [hV_At rfl]
        exact ⟨0, rfl, byO_0⟩
    · have h1 := (List.getElem?_eq_some_iff.mp hi).1
      rw [hV_C, if_pos rfl, if_pos (by omega), hV_An (by omega), Nat.sub_zero]
      exact ct i x hi
theorem e25_toString (hc : kS κ 3 = .int (Int32.ofNat 1)) (S : SBw κ h0 h b l) (hl : l.length < 100000)
    (hq : ∀ h' s v, NwS h0 h h' s v l → hN h' ≤ hN h0 + 2 * l.length + 40 → hU h' ≤ hU h0 + 5 * l.length + 100 → Q (.inl (some (.ref s))) h') : Ev κ mJ25_toString [.ref b] h Q := by
  obtain ⟨v, cap, S, hcap⟩ := S
  obtain ⟨⟨b1, b2, b3, b4, b5, b6⟩, ⟨k, v1, v2, v3⟩, ⟨kv, lv, ll, by0, ct⟩, ag, n1, u1⟩ := S
  obtain ⟨h1, hh1⟩ : ∃ h1, h1 = hW (hA h 119 0 4 gD) (hN h) 161 (.int (Int32.ofNat 0)) := ⟨_, rfl⟩
  have ks : hK (hA h 119 0 4 gD) (hN h) = 119 := hK_At rfl
  have kb : hK (hA h 119 0 4 gD) b = 137 := (hK_An (by omega)).trans k
  have w1 : hV (hA h 119 0 4 gD) b 179 = .ref v := (hV_An (by omega) _).trans v1
  have w2 : hV (hA h 119 0 4 gD) b 180 = .int (Int32.ofNat 0) := (hV_An (by omega) _).trans v2
  have w3 : hV (hA h 119 0 4 gD) b 182 = .int (Int32.ofNat l.length) := (hV_An (by omega) _).trans v3
  have eV : ∀ Q : zQ, Ev κ mJ24_getValue [.ref b] (hA h 119 0 4 gD) Q = Q (.inl (some (.ref v))) (hA h 119 0 4 gD) := fun Q => by
    simp (disch := first | assumption | omega | decide) only [gB, I_all, zK_v, zK_n, true_and, and_true, Nat.reduceAdd, Nat.reduceMul, Nat.reduceSub, z_lt, z_le, z_neq, not_false_eq_true, or_true, true_or, or_false, false_or, false_and, and_false, gJ24_getValue, kb, w1]
  have eN : ∀ Q : zQ, Ev κ mJ25_length [.ref b] (hA h 119 0 4 gD) Q = Q (.inl (some (.int (Int32.ofNat l.length)))) (hA h 119 0 4 gD) := fun Q => by
    simp (disch := first | assumption | omega | decide) only [gB, I_all, zK_v, zK_n, true_and, and_true, Nat.reduceAdd, Nat.reduceMul, Nat.reduceSub, z_lt, z_le, z_neq, not_false_eq_true, or_true, true_or, or_false, false_or, false_and, and_false, gJ25_length, gJ24_length, kb, w3]
  have eL : ∀ Q : zQ, Ev κ mJ24_isLatin1 [.ref b] (hA h 119 0 4 gD) Q = Q (.inl (some (.int (Int32.ofNat 1)))) (hA h 119 0 4 gD) := fun Q => by
    simp (disch := first | assumption | omega | decide) only [gB, I_all, zK_v, zK_n, true_and, and_true, Nat.reduceAdd, Nat.reduceMul, Nat.reduceSub, z_lt, z_le, z_neq, not_false_eq_true, or_true, true_or, or_false, false_or, false_and, and_false, gJ24_isLatin1, hc, kb, w2, z_b1]
  have hBs : kB κ ≤ hN h := by omega
  have nh1 : hN h1 = hN h + 1 := by rw [hh1]; rfl
  have v1' : ∀ j, hV h1 v j = hV h v j := fun j => by rw [hh1, hV_Wn (by omega), hV_An (by omega)]
  have kx1 : ∀ y, y ≠ hN h → hK h1 y = hK h y := fun y hy => by rw [hh1]; exact (show hK (hA h 119 0 4 gD) y = hK h y from hK_An hy)
  have lx1 : ∀ y, y ≠ hN h → hL h1 y = hL h y := fun y hy => by rw [hh1]; exact (show hL (hA h 119 0 4 gD) y = hL h y from hL_An hy)
  have kn1 : hK h1 (hN h) = 119 := by rw [hh1]; exact ks
  have k1' : hK h1 v = 3 := (kx1 v (by omega)).trans kv
  have l1' : hL h1 v = cap := (lx1 v (by omega)).trans lv
  have key : Ev κ mJ17_copyOfRange_2 [.ref v, .int (Int32.ofNat 0), .int (Int32.ofNat l.length)] h1 (zK κ mJ7_init_2 32 3 [some (.ref (hN h)), some (.ref b), some .null, some (.ref v), some (.int (Int32.ofNat l.length))] [.ref (hN h)] (zK κ mJ7_init 3 3 [some (.ref (hN h)), some (.ref b)] [] (zK κ mJ25_toString 5 3 [some (.ref b)] [.ref (hN h)] Q))) := by
    have e0 := e17_copyOfRange (κ := κ) (h := h1) (v := v) (p := 0) (l := l) (cap := cap) (Q := zK κ mJ7_init_2 32 3 [some (.ref (hN h)), some (.ref b), some .null, some (.ref v), some (.int (Int32.ofNat l.length))] [.ref (hN h)] (zK κ mJ7_init 3 3 [some (.ref (hN h)), some (.ref b)] [] (zK κ mJ25_toString 5 3 [some (.ref b)] [.ref (hN h)] Q))) k1' l1' (fun j => by rw [v1']; exact by0 j) (fun i x hi => by rw [v1', Nat.zero_add]; exact ct i x hi) (by omega) (by omega) (by omega) (by omega) fun h2 N => ?_
    · rw [Nat.zero_add] at e0
      exact e0
    · obtain ⟨⟨n1', n2', n3', n4'⟩, na, nn, nu⟩ := N
      rw [nh1] at n1' n2' n3' n4' na nn ⊢
      have a1 : ∀ y, y < hN h → hK h2 y = hK h y ∧ hL h2 y = hL h y ∧ ∀ j, hV h2 y j = hV h y j := fun y hy => by
        obtain ⟨m1, m2, m3⟩ := na y (Nat.zero_le _) (by omega)
        exact ⟨m1.trans (kx1 y (by omega)), m2.trans (lx1 y (by omega)), fun j => (m3 j).trans (by rw [hh1, hV_Wn (by omega), hV_An (by omega)])⟩
      obtain ⟨s1, s2, s3⟩ := na (hN h) (Nat.zero_le _) (by omega)
      have ks2 : hK h2 (hN h) = 119 := s1.trans kn1
      have c2 : hV h2 (hN h) 161 = .int (Int32.ofNat 0) := (s3 _).trans (by rw [hh1]; exact hV_We rfl rfl)
      have q1 := hq (hW h2 (hN h) 160 (.ref (hN h + 1))) (hN h) (hN h + 1) ⟨⟨Or.inl ks2, hV_We rfl rfl, (hV_Wj (by decide)).trans c2, ⟨n1', n2', fun j => by rw [hV_Wn (by omega)]; exact n3' j, fun i x hi => by rw [hV_Wn (by omega)]; exact n4' i x hi⟩, hl⟩, ⟨by omega, by show hN h < hN h2; omega⟩, ⟨by omega, by show hN h + 1 < hN h2; omega⟩, fun y hy hy2 => ?_⟩ (by show hN h2 ≤ _; omega) (by show hU h2 ≤ _; rw [nu, hh1]; show hU h + 4 + l.length ≤ _; omega)
      · simp (disch := first | assumption | omega | decide) only [gB, I_all, zK_v, zK_n, true_and, and_true, Nat.reduceAdd, Nat.reduceMul, Nat.reduceSub, z_lt, z_le, z_neq, not_false_eq_true, or_true, true_or, or_false, false_or, false_and, and_false, gJ7_init_2, gJ7_init, gJ25_toString, ks2]
        exact q1
      · obtain ⟨m1, m2, m3⟩ := a1 y (by omega)
        obtain ⟨g1, g2, g3⟩ := ag y hy hy2
        exact ⟨m1.trans g1, m2.trans g2, fun j => by rw [hV_Wn (by omega)]; exact (m3 j).trans (g3 j)⟩
  have eI : ∀ Q : zQ, Ev κ mJ7_init_2 [.ref (hN h), .ref b, .null] (hA h 119 0 4 gD) Q = Go κ mJ7_init_2 0 [some (.ref (hN h)), some (.ref b), some .null, none, none] [] (hA h 119 0 4 gD) Q := fun Q => rfl
  simp (disch := first | assumption | omega | decide) only [gB, I_all, zK_v, zK_n, true_and, and_true, Nat.reduceAdd, Nat.reduceMul, Nat.reduceSub, z_lt, z_le, z_neq, not_false_eq_true, or_true, true_or, or_false, false_or, false_and, and_false, gJ25_toString, gJ7_init, gJ7_init_2, eI, ks, kb, eV, eN, eL, z_fy0]
  rw [← hh1]
  exact key
end
