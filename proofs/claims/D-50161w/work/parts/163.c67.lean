/-! strings: a number appended -/
theorem nd_gt {n p : Nat} (hn : n < 2147483648) (h : 9 < n / 10 ^ p) : p + 1 < nd n := by
  have h10 := nd_le n
  rcases Nat.lt_or_ge (p + 1) (nd n) with c | c
  · exact c
  · have h1 := nd_ge (n := n) (p := nd n - 1) (by omega) hn
    have h2 : n / 10 ^ p ≤ n / 10 ^ (nd n - 1) := Nat.div_le_div_left (Nat.pow_le_pow_right (by decide) (by omega)) (Nat.pow_pos (by decide))
    omega
theorem nd_is {n p : Nat} (hn : n < 2147483648) (h : n / 10 ^ p ≤ 9) (h0 : p = 0 ∨ 9 < n / 10 ^ (p - 1)) : nd n = p + 1 := by
  have h10 := nd_le n
  have h1 : p + 1 ≤ nd n := by
    rcases h0 with h0 | h0
    · omega
    · have := nd_gt hn h0
      omega
  rcases Nat.lt_or_ge (p + 1) (nd n) with c | c
  · have := nd_lt c hn
    omega
  · omega
theorem d_1 (n p : Nat) : n / 10 ^ (p + 1) = n / 10 ^ p / 10 := by rw [Nat.pow_succ, Nat.div_div_eq_div_mul]
theorem nr_b {x : Nat} (h : x ≤ 127) : narrow (zElT 3) (.int (Int32.ofNat x)) = .int (Int32.ofNat x) := congrArg Value.int (by8_id (byO_nat h))
theorem I_dec1 (k : Nat) : Int32.ofNat (k + 1) + Int32.ofInt (-1) = Int32.ofNat k := by
  rw [← I_add, Int32.add_assoc, show Int32.ofNat 1 + Int32.ofInt (-1) = 0 from by decide]
  exact Int32.add_zero _
theorem iN_div {m : Nat} (h : m < 2147483648) : -(Int32.ofNat m) / Int32.ofNat 100 = -(Int32.ofNat (m / 100)) := by
  rw [← Int32.toInt_inj, iN (by omega), Int32.toInt_div, iN h, I_toInt (by decide)]
  have e : (-(m : Int)).tdiv ((100 : Nat) : Int) = -((m / 100 : Nat) : Int) := by
    rw [Int.neg_tdiv]
    rfl
  rw [e]
  have : (-((m / 100 : Nat) : Int)).bmod (2 ^ 32) = -((m / 100 : Nat) : Int) := by rw [Int.bmod_eq_of_le] <;> omega
  exact this
theorem iN_rem (m : Nat) : -(Int32.ofNat (m / 100)) * Int32.ofNat 100 - -(Int32.ofNat m) = Int32.ofNat (m % 100) := by
  have e : Int32.ofNat m = Int32.ofNat (m % 100) + Int32.ofNat (m / 100) * Int32.ofNat 100 := by
    rw [I_mul, I_add]
    congr 1
    omega
  rw [e]
  generalize Int32.ofNat (m / 100) = x
  generalize Int32.ofNat (m % 100) = y
  generalize Int32.ofNat 100 = z
  grind
section
variable {κ : zC} {h h0 : zH} {b v e n cap : Nat} {l : List Int32} {Q : zQ}
theorem e6_getChars (D : KD κ h) (kv : hK h v = 3) (lv : hL h v = cap) (he : e ≤ cap) (hcap : cap < 10000000) (hnd : nd n ≤ e) (hn : n < 2147483648) (hB : kB κ ≤ v) : Ev κ mJ6_getChars [.int (Int32.ofNat n), .int (Int32.ofNat e), .ref v] h Q = Q (.inl (some (.int (Int32.ofNat (e - nd n))))) (gBf h v e n (nd n)) := by
  obtain ⟨d, t, e1, e2, ⟨d1, d2, d3, d4⟩, t1, t2, t3, t4⟩ := D
  have gd : ∀ k j, j < 100 → hV (gBf h v e n k) d j = .int (Int32.ofNat (48 + j % 10)) := fun k j hj => by
    rw [gBf_V, if_neg (by omega)]
    exact d4 j hj
  have gt : ∀ k j, j < 100 → hV (gBf h v e n k) t j = .int (Int32.ofNat (48 + j / 10)) := fun k j hj => by
    rw [gBf_V, if_neg (by omega)]
    exact t4 j hj
  have kd : ∀ k, hK (gBf h v e n k) d = 3 := fun _ => d2
  have kt : ∀ k, hK (gBf h v e n k) t = 3 := fun _ => t2
  have ld : ∀ k, hL (gBf h v e n k) d = 100 := fun _ => d3
  have lt : ∀ k, hL (gBf h v e n k) t = 100 := fun _ => t3
  have kv' : ∀ k, hK (gBf h v e n k) v = 3 := fun _ => kv
  have lv' : ∀ k, hL (gBf h v e n k) v = cap := fun _ => lv
  have lp : ∀ (f r m : Nat) (a3 a4 : Option Value), m = n / 10 ^ (2 * r) → m < f → (r = 0 ∨ 9 < n / 10 ^ (2 * r - 1)) → 2 * r ≤ e → Go κ mJ6_getChars 22 [some (.int (-(Int32.ofNat m))), some (.int (Int32.ofNat e)), some (.ref v), a3, a4, some (.int (Int32.ofNat (e - 2 * r))), some (.int (Int32.ofNat 0))] [] (gBf h v e n (2 * r)) Q = Q (.inl (some (.int (Int32.ofNat (e - nd n))))) (gBf h v e n (nd n)) := by
    intro f
    induction f with
    | zero => intro r m a3 a4 _ hf; cases hf
    | succ f ih =>
      intro r m a3 a4 hm hf hr h2r
      have hmn : m ≤ n := by rw [hm]; exact Nat.div_le_self _ _
      by_cases c : m < 100
      · have c1 : Int32.ofInt (-100) < -(Int32.ofNat m) := (iN_lt (by omega) (by decide)).mpr c
        have nn : - -(Int32.ofNat m) = Int32.ofNat m := Int32.neg_neg
        by_cases c9 : m ≤ 9
        · have en : nd n = 2 * r + 1 := nd_is hn (by omega) (by rcases hr with h | h; exact Or.inl (by omega); exact Or.inr h)
          obtain ⟨x, hx⟩ : ∃ x, e = x + 1 + 2 * r := ⟨e - 1 - 2 * r, by omega⟩
          have p1 : e - 2 * r = x + 1 := by omega
          have p2 : e - (2 * r + 1) = x := by omega
          have u1 : hW (gBf h v e n (2 * r)) v x (.int (Int32.ofNat (48 + m % 10))) = gBf h v e n (2 * r + 1) := by
            have := gBf_up h v e n (2 * r) (by omega)
            rw [show e - 1 - 2 * r = x by omega, ← hm] at this
            exact this
          have dc := I_dec1 x
          have c2 : Int32.ofInt (-9) ≤ -(Int32.ofNat m) := by
            rw [Int32.le_iff_toInt_le, iN (by omega)]
            have : (Int32.ofInt (-9)).toInt = -9 := by decide
            omega
          rw [en, p1, p2]
          simp (disch := first | assumption | omega | decide) only [gB, I_all, zK_v, zK_n, true_and, and_true, Nat.reduceAdd, Nat.reduceMul, Nat.reduceSub, z_lt, z_le, z_neq, not_false_eq_true, or_true, true_or, or_false, false_or, false_and, and_false, gJ6_getChars_h]
          simp (disch := first | assumption | omega | decide) only [gB, I_all, zK_v, zK_n, true_and, and_true, Nat.reduceAdd, Nat.reduceMul, Nat.reduceSub, z_lt, z_le, z_neq, not_false_eq_true, or_true, true_or, or_false, false_or, false_and, and_false, gJ6_getChars, c1, dc, e1, kd, ld, kv', lv', gd, nn, nr_b, u1]
        · have en : nd n = 2 * r + 1 + 1 := nd_is hn (by rw [d_1, ← hm]; omega) (Or.inr (by rw [show 2 * r + 1 - 1 = 2 * r by omega, ← hm]; omega))
          obtain ⟨x, hx⟩ : ∃ x, e = x + 2 + 2 * r := ⟨e - 2 - 2 * r, by omega⟩
          have p1 : e - 2 * r = x + 1 + 1 := by omega
          have p2 : e - (2 * r + 1 + 1) = x := by omega
          have u1 : hW (gBf h v e n (2 * r)) v (x + 1) (.int (Int32.ofNat (48 + m % 10))) = gBf h v e n (2 * r + 1) := by
            have := gBf_up h v e n (2 * r) (by omega)
            rw [show e - 1 - 2 * r = x + 1 by omega, ← hm] at this
            exact this
          have u2 : hW (gBf h v e n (2 * r + 1)) v x (.int (Int32.ofNat (48 + m / 10))) = gBf h v e n (2 * r + 1 + 1) := by
            have := gBf_up h v e n (2 * r + 1) (by omega)
            rw [show e - 1 - (2 * r + 1) = x by omega, d_1, ← hm, Nat.mod_eq_of_lt (show m / 10 < 10 by omega)] at this
            exact this
          have dc := I_dec1 x
          have dc2 := I_dec1 (x + 1)
          have c2 : ¬ Int32.ofInt (-9) ≤ -(Int32.ofNat m) := by
            rw [Int32.le_iff_toInt_le, iN (by omega)]
            have : (Int32.ofInt (-9)).toInt = -9 := by decide
            omega
          rw [en, p1, p2]
          simp (disch := first | assumption | omega | decide) only [gB, I_all, zK_v, zK_n, true_and, and_true, Nat.reduceAdd, Nat.reduceMul, Nat.reduceSub, z_lt, z_le, z_neq, not_false_eq_true, or_true, true_or, or_false, false_or, false_and, and_false, gJ6_getChars_h]
          simp (disch := first | assumption | omega | decide) only [gB, I_all, zK_v, zK_n, true_and, and_true, Nat.reduceAdd, Nat.reduceMul, Nat.reduceSub, z_lt, z_le, z_neq, not_false_eq_true, or_true, true_or, or_false, false_or, false_and, and_false, gJ6_getChars, c1, dc, dc2, e1, e2, kd, ld, kt, lt, kv', lv', gd, gt, nn, nr_b, u1, u2]
      · have c1 : ¬ Int32.ofInt (-100) < -(Int32.ofNat m) := fun z => c ((iN_lt (by omega) (by decide)).mp z)
        have hg : 2 * r + 2 < nd n := nd_gt hn (by rw [d_1, ← hm]; omega)
        have ne : ¬ Int32.ofNat 100 = Int32.ofNat 0 := by decide
        have dv := iN_div (m := m) (by omega)
        have dr := iN_rem m
        obtain ⟨x, hx⟩ : ∃ x, e = x + 2 + 2 * r := ⟨e - 2 - 2 * r, by omega⟩
        have p1 : e - 2 * r = x + 1 + 1 := by omega
        have p2 : e - 2 * (r + 1) = x := by omega
        have u1 : hW (gBf h v e n (2 * r)) v (x + 1) (.int (Int32.ofNat (48 + m % 100 % 10))) = gBf h v e n (2 * r + 1) := by
          have := gBf_up h v e n (2 * r) (by omega)
          rw [show e - 1 - 2 * r = x + 1 by omega, ← hm] at this
          rw [show m % 100 % 10 = m % 10 by omega]
          exact this
        have u2 : hW (gBf h v e n (2 * r + 1)) v x (.int (Int32.ofNat (48 + m % 100 / 10))) = gBf h v e n (2 * (r + 1)) := by
          have := gBf_up h v e n (2 * r + 1) (by omega)
          rw [show e - 1 - (2 * r + 1) = x by omega, d_1, ← hm] at this
          rw [show m % 100 / 10 = m / 10 % 10 by omega]
          exact this
        have dc := I_dec1 x
        have dc2 := I_dec1 (x + 1)
        have hr100 : m % 100 < 100 := Nat.mod_lt _ (by decide)
        have i1 := ih (r + 1) (m / 100) (some (.int (-(Int32.ofNat (m / 100))))) (some (.int (Int32.ofNat (m % 100)))) (by rw [show 2 * (r + 1) = 2 * r + 1 + 1 by omega, d_1, d_1, ← hm]; omega) (by omega) (Or.inr (by rw [show 2 * (r + 1) - 1 = 2 * r + 1 by omega, d_1, ← hm]; omega)) (by omega)
        rw [p2] at i1
        rw [p1]
        have b1 : 48 + m % 100 % 10 ≤ 127 := by omega
        have b2 : 48 + m % 100 / 10 ≤ 127 := by omega
        simp (disch := first | assumption | omega | decide) only [gB, I_all, zK_v, zK_n, true_and, and_true, Nat.reduceAdd, Nat.reduceMul, Nat.reduceSub, z_lt, z_le, z_neq, not_false_eq_true, or_true, true_or, or_false, false_or, false_and, and_false, gJ6_getChars_h]
        simp (disch := first | assumption | omega | decide) only [gB, I_all, zK_v, zK_n, true_and, and_true, Nat.reduceAdd, Nat.reduceMul, Nat.reduceSub, z_lt, z_le, z_neq, not_false_eq_true, or_true, true_or, or_false, false_or, false_and, and_false, gJ6_getChars, c1, dv, dr, dc, dc2, e1, e2, kd, ld, kt, lt, kv', lv', gd, gt, nr_b, u1, u2]
        exact i1
  have l0 := fun a3 a4 => lp (n + 1) 0 n a3 a4 (by simp) (Nat.lt_succ_self _) (Or.inl rfl) (by omega)
  simp only [Nat.mul_zero, Nat.sub_zero, gBf_0] at l0
  simp (disch := first | assumption | omega | decide) only [gB, I_all, zK_v, zK_n, true_and, and_true, Nat.reduceAdd, Nat.reduceMul, Nat.reduceSub, z_lt, z_le, z_neq, not_false_eq_true, or_true, true_or, or_false, false_or, false_and, and_false, gJ6_getChars]
  exact l0 _ _
theorem SBx_num (S : SBx κ h0 h b v cap l) (hl : l.length + nd n ≤ cap) : SBx κ h0 (hW (gBf h v (l.length + nd n) n (nd n)) b 182 (.int (Int32.ofNat (l.length + nd n)))) b v cap (l ++ decL n) := by
  obtain ⟨⟨b1, b2, b3, b4, b5, b6⟩, ⟨k, v1, v2, v3⟩, ⟨kv, lv, ll, by0, ct⟩, ag, n1, u1⟩ := S
  have ed : (decL n).length = nd n := dgs_len n _
  have eb : ∀ j, hV (hW (gBf h v (l.length + nd n) n (nd n)) b 182 (.int (Int32.ofNat (l.length + nd n)))) b j = if j = 182 then .int (Int32.ofNat (l.length + nd n)) else hV h b j := fun j => by
    have e : hV (gBf h v (l.length + nd n) n (nd n)) b j = hV h b j := by rw [gBf_V, if_neg (fun z => b5 z.1)]
    rw [hV_W, if_pos rfl, e]
  have ev : ∀ j, hV (hW (gBf h v (l.length + nd n) n (nd n)) b 182 (.int (Int32.ofNat (l.length + nd n)))) v j = if l.length ≤ j ∧ j < l.length + nd n then .int (Int32.ofNat (48 + n / 10 ^ (l.length + nd n - 1 - j) % 10)) else hV h v j := fun j => by
    rw [hV_Wn (fun e => b5 e.symm), gBf_V]
    by_cases d : l.length ≤ j ∧ j < l.length + nd n
    · rw [if_pos d, if_pos ⟨rfl, by omega, d.2⟩]
    · rw [if_neg d, if_neg (by omega)]
  refine ⟨⟨b1, b2, b3, b4, b5, b6⟩, ⟨k, (eb _).trans v1, (eb _).trans v2, by rw [eb, if_pos rfl, List.length_append, ed]⟩, ⟨kv, lv, by rw [List.length_append, ed]; exact hl, fun j => ?_, fun i y hi => ?_⟩, fun y hy hy2 => ⟨(ag y hy hy2).1, (ag y hy hy2).2.1, fun j => by rw [hV_Wn (by omega), gBf_V, if_neg (by omega)]; exact (ag y hy hy2).2.2 j⟩, n1, u1⟩
  · rw [ev]
    split
    · exact ⟨_, rfl, byO_nat (by omega)⟩
    · exact by0 j
  · rw [ev]
    by_cases d : i < l.length
    · rw [if_neg (by omega)]
      rw [List.getElem?_append_left d] at hi
      exact ct i y hi
    · rw [List.getElem?_append_right (by omega)] at hi
      obtain ⟨h1, h2⟩ := dgs_get n hi
      rw [if_pos (by omega), h2, show l.length + nd n - 1 - i = nd n - 1 - (i - l.length) by omega]
theorem e25_appI (hc : kS κ 3 = .int (Int32.ofNat 1)) (D : KD κ h0) (S : SBw κ h0 h b l) (hn : n < 2147483648) (hl : l.length < 100000) (hq : ∀ h', SBw κ h0 h' b (l ++ decL n) → Q (.inl (some (.ref b))) h') : Ev κ mJ25_append_3 [.ref b, .int (Int32.ofNat n)] h Q := by
  obtain ⟨v, cap, S, hcap⟩ := S
  have k := S.2.1.1
  have v3 := S.2.1.2.2.2
  have es := fun (h : zH) (Q : zQ) => e6_stringSize (κ := κ) (h := h) (Q := Q) hn
  have h10 := nd_le n
  simp (disch := first | assumption | omega | decide) only [gB, I_all, zK_v, zK_n, true_and, and_true, Nat.reduceAdd, Nat.reduceMul, Nat.reduceSub, z_lt, z_le, z_neq, not_false_eq_true, or_true, true_or, or_false, false_or, false_and, and_false, gJ25_append_3, gJ24_append_3, k, v3, es, I_add]
  refine e24_ensure S (by omega) (by omega) fun h1 v' cap' S1 hle hb => ?_
  have S1' := S1
  have D1 := D.ag S1.2.2.2.1 S1.1.2.2.2.2.2
  obtain ⟨⟨b1, b2, b3, b4, b5, b6⟩, ⟨k1, w1, w2, w3⟩, ⟨kv, lv, -⟩, -⟩ := S1
  have hB : kB κ ≤ b := by omega
  have hBv : kB κ ≤ v' := by omega
  have eL : ∀ Q : zQ, Ev κ mJ24_isLatin1 [.ref b] h1 Q = Q (.inl (some (.int (Int32.ofNat 1)))) h1 := fun Q => by
    simp (disch := first | assumption | omega | decide) only [gB, I_all, zK_v, zK_n, true_and, and_true, Nat.reduceAdd, Nat.reduceMul, Nat.reduceSub, z_lt, z_le, z_neq, not_false_eq_true, or_true, true_or, or_false, false_or, false_and, and_false, gJ24_isLatin1, hc, k1, w2, z_b1]
  have eg := fun (Q : zQ) => e6_getChars (Q := Q) (e := l.length + nd n) D1 kv lv hle (by omega) (by omega) hn hBv
  have S2 := SBx_num (n := n) S1' hle
  have q1 := hq _ ⟨v', cap', S2, by rw [List.length_append, show (decL n).length = nd n from dgs_len n _]; omega⟩
  have kg : hK (gBf h1 v' (l.length + nd n) n (nd n)) b = 137 := k1
  simp (disch := first | assumption | omega | decide) only [gB, I_all, zK_v, zK_n, true_and, and_true, Nat.reduceAdd, Nat.reduceMul, Nat.reduceSub, z_lt, z_le, z_neq, not_false_eq_true, or_true, true_or, or_false, false_or, false_and, and_false, gJ25_append_3, gJ24_append_3, k1, w1, w3, eL, eg, kg]
  exact q1
end
