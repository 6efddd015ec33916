/-! the twin: methods over the world, at the whole relation; operations -/
section
variable {κ : zC} {h : zH} {b : Nat} {W : Nat → Nat → Int32} {SM : Nat → Nat → Int64} {Q : zQ} {Y : Sy} {π : Pl}
theorem ofX {k c : Nat} (S : TSh κ h b) (hi : 164 + 13 * k + c < 3614) : Ev κ mX7_of [.ref b, .int (Int32.ofNat k), .int (Int32.ofNat c)] (hX h b 33 W SM) Q = Q (.inl (some (.int (W 13 (164 + 13 * k + c))))) (hX h b 33 W SM) := by
  have F := xF S
  have R := xR S
  have K := xK S
  simp (disch := first | assumption | omega | decide) only [gB, I_all, zK_v, zK_n, true_and, and_true, Nat.reduceAdd, Nat.reduceMul, Nat.reduceSub, z_lt, z_le, z_neq, not_false_eq_true, or_true, true_or, or_false, false_or, false_and, and_false, gX7_of, F, R, K]
theorem setsX {k c : Nat} {v : Int32} (S : TSh κ h b) (hi : 164 + 13 * k + c < 3614) : Ev κ mX7_sets [.ref b, .int (Int32.ofNat k), .int (Int32.ofNat c), .int v] (hX h b 33 W SM) Q = Q (.inl none) (hX h b 33 (zv W 13 (164 + 13 * k + c) v) SM) := by
  have F := xF S
  have R := xR S
  have K := xK S
  have hB : kB κ ≤ b := S.1.1
  simp (disch := first | assumption | omega | decide) only [gB, I_all, zK_v, zK_n, true_and, and_true, Nat.reduceAdd, Nat.reduceMul, Nat.reduceSub, z_lt, z_le, z_neq, not_false_eq_true, or_true, true_or, or_false, false_or, false_and, and_false, gX7_sets, F, R, K]
theorem isAtX {k st : Nat} (S : TSh κ h b) (hk : k < 6) (hst : st < 4) (e : W 13 (164 + 13 * k + 0) = Int32.ofNat st) : Ev κ mX7_isAt [.ref b, .int (Int32.ofNat k)] (hX h b 33 W SM) Q = Q (.inl (some (.int (if 2 ≤ st then Int32.ofNat 1 else Int32.ofNat 0)))) (hX h b 33 W SM) := by
  have := e7_isAt (κ := κ) (h := hX h b 33 W SM) (w := W 13) (sm := SM 14) (o := W 0 103) (Q := Q) (MSh_X S) hk hst e
  rw [← hX_M S] at this
  exact this
theorem aboardToX {k s : Nat} (S : TSh κ h b) (T : TIn W SM Y) (hk : k < 6) (hs : s < 10) : Ev κ mX7_aboardTo [.ref b, .int (Int32.ofNat k), .int (Int32.ofNat s)] (hX h b 33 W SM) Q = Q (.inl (some (.int (Int32.ofNat (goTo (bR (yS Y) k) s))))) (hX h b 33 W SM) := by
  have B := T.2.1.1.2.2.2.1 k hk
  have OK := T.2.1.2.2.2.1 k hk
  have := e7_aboardTo (κ := κ) (h := hX h b 33 W SM) (w := W 13) (sm := SM 14) (o := W 0 103) (Q := Q) (l := bR (yS Y) k) (MSh_X S) hk hs OK.1 (fun r hr => (OK.2.2.1 r hr).1) B.2.1 B.2.2.1
  rw [← hX_M S] at this
  exact this
theorem wayX {s to : Nat} (S : TSh κ h b) (P : TPl W π) (O : pOk π) (hs : s < plN π 0) (ht : to < plN π 0) : Ev κ mX7_way [.ref b, .int (Int32.ofNat s), .int (Int32.ofNat to)] (hX h b 33 W SM) Q = Q (.inl (some (.int (way π s to)))) (hX h b 33 W SM) := by
  have := e7_way (κ := κ) (h := hX h b 33 W SM) (w := W 13) (sm := SM 14) (o := W 0 103) (Q := Q) (MSh_X S) (tPm S P) O hs ht
  rw [← hX_M S] at this
  exact this
theorem e7_bringsUpT {s : Nat} {t : Int32} (S : TSh κ h b) (T : TIn W SM Y) (hs : s < 10) (ht : t.toInt ≤ 1073741824) (hq : ∀ W' SM', TIn W' SM' (vSt Y (sBr (yP Y) (yS Y) s t)) → Q (.inl none) (hX h b 33 W' SM')) : Ev κ mX7_bringsUp [.ref b, .int (Int32.ofNat s), .int t] (hX h b 33 W SM) Q := by
  have O := T.2.2.2.2.2.2
  rw [hX_M S]
  refine e7_bringsUp (s := s) (MSh_X S) (tPm S T.1) O T.2.1.1 T.2.1.2 hs ht fun w' W' => ?_
  rw [hM_X S]
  exact hq _ _ (T.wu W' (sOk_br O T.2.1.2 hs))
theorem e7_joinsT {s to f : Nat} {t : Int32} (S : TSh κ h b) (T : TIn W SM Y) (hs : s < 10) (hto : to < 10) (hf : f < 17) (hq : ∀ W' SM', TIn W' SM' (vSt Y (sJn (yS Y) s to t f).1) → Q (.inl (some (.int (if (sJn (yS Y) s to t f).2 = true then Int32.ofNat 1 else Int32.ofNat 0)))) (hX h b 33 W' SM')) : Ev κ mX7_joins [.ref b, .int (Int32.ofNat s), .int (Int32.ofNat to), .int t, .int (Int32.ofNat f)] (hX h b 33 W SM) Q := by
  rw [hX_M S]
  refine e7_joins (s := s) (f := f) (MSh_X S) T.2.1.1 T.2.1.2 hs hf fun w' W' => ?_
  rw [hM_X S]
  exact hq _ _ (T.wu W' (sOk_jn T.2.1.2 hs hto hf))
theorem sOk_pa {π : Pl} {σ : Sg} {t : Int32} {U : Int} (O : pOk π) (G : gOk π σ U) (ht : t.toInt + 1400 ≤ U) (hU : U ≤ 1073741400) : sOk π (sPa π σ t).1 := by
  have hns := O.1.2
  exact sOk_n (sOk_ba O (sEv_inv O ht hU big (σ, 0) G).1 _ hns) _
theorem e7_passesToT {t : Int32} {U : Int} (S : TSh κ h b) (T : TIn W SM Y) (G : gOk (yP Y) (yS Y) U) (ht : t.toInt + 1400 ≤ U) (hU : U ≤ 1073741400) (hq : ∀ W' SM', TIn W' SM' (vSt Y (sPa (yP Y) (yS Y) t).1) → (∀ k j, ¬ (k = 13 ∨ (k = 0 ∧ j = 103)) → W' k j = W k j) → (∀ k j, ¬ k = 14 → SM' k j = SM k j) → Q (.inl (some (.int (Int32.ofNat (sPa (yP Y) (yS Y) t).2)))) (hX h b 33 W' SM')) : Ev κ mX7_passesTo [.ref b, .int t] (hX h b 33 W SM) Q := by
  have O := T.2.2.2.2.2.2
  rw [hX_M S]
  refine e7_passesTo (MSh_X S) (tPm S T.1) O T.2.1.1 G ht hU fun w' sm' o' W' => ?_
  rw [hM_X S]
  refine hq _ _ (T.wu W' (sOk_pa O G ht hU)) (fun k j h1 => ?_) fun k j h1 => ?_
  · unfold tWu
    rw [if_neg (by omega), if_neg (by omega)]
  · unfold tSu
    rw [if_neg h1]
theorem e7_skip {x : Int32} (S : TSh κ h b) (T : TIn W SM Y) (hq : ∀ W' SM', TIn W' SM' (ySk Y x).2 → Q (.inl (some (.int (ySk Y x).1))) (hX h b 33 W' SM')) : Ev κ mX7_skip [.ref b, .int x] (hX h b 33 W SM) Q := by
  have F := xF S
  have R := xR S
  have K := xK S
  have hB : kB κ ≤ b := S.1.1
  have O := T.2.2.2.2.2.2
  have hnb := O.2.1
  have hns := O.1
  unfold ySk at hq
  by_cases c : btw x 0 (plN (yP Y) 1 - 1)
  · rw [if_pos c] at hq
    have ei := fun (Q : zQ) => e7_isBusY (κ := κ) (W := W) (SM := SM) (Q := Q) S T.1 O c
    obtain ⟨n, hx, -, hn, -⟩ := btw_nat c
    subst hx
    rw [I_nat (by omega)] at hq
    have hn6 : n < 6 := by omega
    obtain ⟨st, s, h4, hs, e0, e1⟩ := bst T.2.1.2 (by omega : n < plN (yP Y) 1) hn6
    have eI : bI (yS Y) n 1 = s := bI_of (by omega) e1
    rw [eI] at hq
    have B := T.2.1.1.2.2.2.1 n hn6
    have w0 : W 13 (164 + 13 * n + 0) = bF (yS Y) n 0 := B.1 0 (by decide)
    have w1 : W 13 (164 + 13 * n + 1) = Int32.ofNat s := (B.1 1 (by decide)).trans e1
    have w8 : W 13 (164 + 13 * n + 8) = bF (yS Y) n 8 := B.1 8 (by decide)
    have eo := fun (c : Nat) (hc : c < 13) (Q : zQ) => ofX (κ := κ) (W := W) (SM := SM) (Q := Q) (k := n) (c := c) S (by omega)
    have ea := fun (Q : zQ) => aboardToX (κ := κ) (Q := Q) (k := n) (s := s) S T hn6 (by omega)
    have hg : goTo (bR (yS Y) n) s ≤ 99 := Nat.le_trans (List.length_filter_le _ _) (T.2.1.2.2.2.1 n hn6).1
    by_cases c8 : bF (yS Y) n 8 = Int32.ofNat 1
    · rw [if_pos c8] at hq
      simp (disch := first | assumption | omega | decide) only [gB, I_all, zK_v, zK_n, true_and, and_true, Nat.reduceAdd, Nat.reduceMul, Nat.reduceSub, z_lt, z_le, z_neq, not_false_eq_true, or_true, true_or, or_false, false_or, false_and, and_false, gX7_skip, F, R, K, ei, eo, w8, c8]
      exact hq _ _ T
    rw [if_neg c8] at hq
    by_cases c0 : bF (yS Y) n 0 = Int32.ofNat 1
    · rw [if_neg (fun x => x c0)] at hq
      by_cases cg : 0 < goTo (bR (yS Y) n) s
      · rw [if_pos cg] at hq
        simp (disch := first | assumption | omega | decide) only [gB, I_all, zK_v, zK_n, true_and, and_true, Nat.reduceAdd, Nat.reduceMul, Nat.reduceSub, z_lt, z_le, z_neq, not_false_eq_true, or_true, true_or, or_false, false_or, false_and, and_false, gX7_skip, F, R, K, ei, eo, w8, w0, w1, c0, ea]
        exact hq _ _ T
      · rw [if_neg cg, e1] at hq
        have cg' : goTo (bR (yS Y) n) s = 0 := by omega
        simp (disch := first | assumption | omega | decide) only [gB, I_all, zK_v, zK_n, true_and, and_true, Nat.reduceAdd, Nat.reduceMul, Nat.reduceSub, z_lt, z_le, z_neq, not_false_eq_true, or_true, true_or, or_false, false_or, false_and, and_false, gX7_skip, F, R, K, ei, eo, w8, w0, w1, c0, ea, cg']
        refine e7_keeps S T fun W1 SM1 T1 w13 s14 => ?_
        have A := WAt_bs (k := n) (c := 8) (v := Int32.ofNat 1) T1.2.1.1 T1.2.1.2 hn6 (by decide) (by decide)
        have T2 := zv13 T1 A (sOk_bs T1.2.1.2 (fun h => absurd h (by decide)) (fun h => absurd h (by decide)))
        have es := fun (Q : zQ) => setsX (κ := κ) (W := W1) (SM := SM1) (Q := Q) (k := n) (c := 8) (v := Int32.ofNat 1) S (by omega)
        simp (disch := first | assumption | omega | decide) only [gB, I_all, zK_v, zK_n, true_and, and_true, Nat.reduceAdd, Nat.reduceMul, Nat.reduceSub, z_lt, z_le, z_neq, not_false_eq_true, or_true, true_or, or_false, false_or, false_and, and_false, gX7_skip, F, R, K, es]
        exact hq _ _ T2
    · rw [if_pos c0] at hq
      simp (disch := first | assumption | omega | decide) only [gB, I_all, zK_v, zK_n, true_and, and_true, Nat.reduceAdd, Nat.reduceMul, Nat.reduceSub, z_lt, z_le, z_neq, not_false_eq_true, or_true, true_or, or_false, false_or, false_and, and_false, gX7_skip, F, R, K, ei, eo, w8, w0]
      exact hq _ _ T
  · rw [if_neg c] at hq
    have ei := fun (Q : zQ) => e7_isBusN (κ := κ) (W := W) (SM := SM) (Q := Q) S T.1 O c
    simp (disch := first | assumption | omega | decide) only [gB, I_all, zK_v, zK_n, true_and, and_true, Nat.reduceAdd, Nat.reduceMul, Nat.reduceSub, z_lt, z_le, z_neq, not_false_eq_true, or_true, true_or, or_false, false_or, false_and, and_false, gX7_skip, F, R, K, ei]
    exact hq _ _ T
theorem e7_hold {x s : Int32} (S : TSh κ h b) (T : TIn W SM Y) (hq : ∀ W' SM', TIn W' SM' (yHo Y x s).2 → Q (.inl (some (.int (yHo Y x s).1))) (hX h b 33 W' SM')) : Ev κ mX7_hold [.ref b, .int x, .int s] (hX h b 33 W SM) Q := by
  have F := xF S
  have R := xR S
  have K := xK S
  have hB : kB κ ≤ b := S.1.1
  have O := T.2.2.2.2.2.2
  have hnb := O.2.1
  have hns := O.1
  unfold yHo at hq
  by_cases c : btw x 0 (plN (yP Y) 1 - 1)
  · have ei := fun (Q : zQ) => e7_isBusY (κ := κ) (W := W) (SM := SM) (Q := Q) S T.1 O c
    by_cases c2 : btw s 1 900
    · rw [if_pos ⟨c, c2⟩] at hq
      have ej := fun (h : zH) (Q : zQ) => e7_inY (κ := κ) (h := h) (Q := Q) (x := s) (l := 1) (u := 900) (by decide) (by decide) c2
      obtain ⟨n, hx, -, hn, -⟩ := btw_nat c
      subst hx
      rw [I_nat (by omega)] at hq
      have hn6 : n < 6 := by omega
      obtain ⟨st, s', h4, hs, e0, e1⟩ := bst T.2.1.2 (by omega : n < plN (yP Y) 1) hn6
      have eI : bI (yS Y) n 0 = st := bI_of (by omega) e0
      rw [eI] at hq
      have B := T.2.1.1.2.2.2.1 n hn6
      have w0 : W 13 (164 + 13 * n + 0) = Int32.ofNat st := (B.1 0 (by decide)).trans e0
      have ea := fun (Q : zQ) => isAtX (κ := κ) (W := W) (SM := SM) (Q := Q) (k := n) S hn6 h4 w0
      by_cases c3 : 2 ≤ st
      · rw [if_pos c3] at hq
        simp only [if_pos c3] at ea
        simp (disch := first | assumption | omega | decide) only [gB, I_all, zK_v, zK_n, true_and, and_true, Nat.reduceAdd, Nat.reduceMul, Nat.reduceSub, z_lt, z_le, z_neq, not_false_eq_true, or_true, true_or, or_false, false_or, false_and, and_false, gX7_hold, F, R, K, ei, ej, ea]
        refine e7_keeps S T fun W1 SM1 T1 w13 s14 => ?_
        have w2 : W1 13 (164 + 13 * n + 2) = bF (yS Y) n 2 := (T1.2.1.1.2.2.2.1 n hn6).1 2 (by decide)
        have A := WAt_bs (k := n) (c := 2) (v := bF (yS Y) n 2 + s) T1.2.1.1 T1.2.1.2 hn6 (by decide) (by decide)
        have T2 := zv13 T1 A (sOk_bs T1.2.1.2 (fun h => absurd h (by decide)) (fun h => absurd h (by decide)))
        have eo := fun (W : Nat → Nat → Int32) (Q : zQ) => ofX (κ := κ) (W := W) (SM := SM1) (Q := Q) (k := n) (c := 2) S (by omega)
        have es := fun (v : Int32) (Q : zQ) => setsX (κ := κ) (W := W1) (SM := SM1) (Q := Q) (k := n) (c := 2) (v := v) S (by omega)
        simp (disch := first | assumption | omega | decide) only [gB, I_all, zK_v, zK_n, true_and, and_true, Nat.reduceAdd, Nat.reduceMul, Nat.reduceSub, z_lt, z_le, z_neq, not_false_eq_true, or_true, true_or, or_false, false_or, false_and, and_false, gX7_hold, F, R, K, eo, es, w2, zv_at]
        exact hq _ _ T2
      · rw [if_neg c3] at hq
        simp only [if_neg c3] at ea
        simp (disch := first | assumption | omega | decide) only [gB, I_all, zK_v, zK_n, true_and, and_true, Nat.reduceAdd, Nat.reduceMul, Nat.reduceSub, z_lt, z_le, z_neq, not_false_eq_true, or_true, true_or, or_false, false_or, false_and, and_false, gX7_hold, F, R, K, ei, ej, ea]
        exact hq _ _ T
    · rw [if_neg (fun z => c2 z.2)] at hq
      have ej := fun (h : zH) (Q : zQ) => e7_inN (κ := κ) (h := h) (Q := Q) (x := s) (l := 1) (u := 900) (by decide) (by decide) c2
      simp (disch := first | assumption | omega | decide) only [gB, I_all, zK_v, zK_n, true_and, and_true, Nat.reduceAdd, Nat.reduceMul, Nat.reduceSub, z_lt, z_le, z_neq, not_false_eq_true, or_true, true_or, or_false, false_or, false_and, and_false, gX7_hold, F, R, K, ei, ej]
      exact hq _ _ T
  · rw [if_neg (fun z => c z.1)] at hq
    have ei := fun (Q : zQ) => e7_isBusN (κ := κ) (W := W) (SM := SM) (Q := Q) S T.1 O c
    simp (disch := first | assumption | omega | decide) only [gB, I_all, zK_v, zK_n, true_and, and_true, Nat.reduceAdd, Nat.reduceMul, Nat.reduceSub, z_lt, z_le, z_neq, not_false_eq_true, or_true, true_or, or_false, false_or, false_and, and_false, gX7_hold, F, R, K, ei]
    exact hq _ _ T
theorem e7_pass {x : Int32} {U : Int} (S : TSh κ h b) (T : TIn W SM Y) (G : gOk (yP Y) (yS Y) U) (hU : U ≤ 1073741400) (ht : 0 ≤ (sN (yS Y) 0).toInt ∧ (sN (yS Y) 0).toInt + 5000 ≤ U) (hq : ∀ W' SM', TIn W' SM' (yPs Y x).2 → Q (.inl (some (.int (yPs Y x).1))) (hX h b 33 W' SM')) : Ev κ mX7_pass [.ref b, .int x] (hX h b 33 W SM) Q := by
  have F := xF S
  have R := xR S
  have K := xK S
  unfold yPs at hq
  by_cases c : btw x 1 3600
  · rw [if_pos c] at hq
    have ei := fun (h : zH) (Q : zQ) => e7_inY (κ := κ) (h := h) (Q := Q) (x := x) (l := 1) (u := 3600) (by decide) (by decide) c
    simp (disch := first | assumption | omega | decide) only [gB, I_all, zK_v, zK_n, true_and, and_true, Nat.reduceAdd, Nat.reduceMul, Nat.reduceSub, z_lt, z_le, z_neq, not_false_eq_true, or_true, true_or, or_false, false_or, false_and, and_false, gX7_pass, F, R, K, ei]
    refine e7_keeps S T fun W1 SM1 T1 w13 s14 => ?_
    have w0 : W1 13 0 = sN (yS Y) 0 := T1.2.1.1.1 0 (by unfold nat1; omega)
    simp (disch := first | assumption | omega | decide) only [gB, I_all, zK_v, zK_n, true_and, and_true, Nat.reduceAdd, Nat.reduceMul, Nat.reduceSub, z_lt, z_le, z_neq, not_false_eq_true, or_true, true_or, or_false, false_or, false_and, and_false, gX7_pass, F, R, K, w0]
    have c1 := c.1
    have c2 := c.2
    refine e7_passesToT (U := U) S T1 G (by rw [i_add (by omega) (by omega)]; omega) hU fun W2 SM2 T2 _ _ => ?_
    simp (disch := first | assumption | omega | decide) only [gB, I_all, zK_v, zK_n, true_and, and_true, Nat.reduceAdd, Nat.reduceMul, Nat.reduceSub, z_lt, z_le, z_neq, not_false_eq_true, or_true, true_or, or_false, false_or, false_and, and_false, gX7_pass]
    exact hq _ _ T2
  · rw [if_neg c] at hq
    have ei := fun (h : zH) (Q : zQ) => e7_inN (κ := κ) (h := h) (Q := Q) (x := x) (l := 1) (u := 3600) (by decide) (by decide) c
    simp (disch := first | assumption | omega | decide) only [gB, I_all, zK_v, zK_n, true_and, and_true, Nat.reduceAdd, Nat.reduceMul, Nat.reduceSub, z_lt, z_le, z_neq, not_false_eq_true, or_true, true_or, or_false, false_or, false_and, and_false, gX7_pass, F, R, K, ei]
    exact hq _ _ T
theorem e7_group {f t m : Int32} (S : TSh κ h b) (T : TIn W SM Y) (ht0 : (sN (yS Y) 0).toInt ≤ 1073741824) (hq : ∀ W' SM', TIn W' SM' (yGr Y f t m).2 → Q (.inl (some (.int (yGr Y f t m).1))) (hX h b 33 W' SM')) : Ev κ mX7_group [.ref b, .int f, .int t, .int m] (hX h b 33 W SM) Q := by
  have F := xF S
  have R := xR S
  have K := xK S
  have O := T.2.2.2.2.2.2
  have hns := O.1
  have iY := fun (x : Int32) (c : btw x 0 (plN (yP Y) 0 - 1)) (Q : zQ) => e7_isStopY (κ := κ) (W := W) (SM := SM) (Q := Q) S T.1 O c
  have iN := fun (x : Int32) (c : ¬ btw x 0 (plN (yP Y) 0 - 1)) (Q : zQ) => e7_isStopN (κ := κ) (W := W) (SM := SM) (Q := Q) S T.1 O c
  unfold yGr at hq
  by_cases c : ¬ btw f 0 (plN (yP Y) 0 - 1)
  · rw [if_neg (fun z => c z.1.1)] at hq
    have ei := iN f c
    simp (disch := first | assumption | omega | decide) only [gB, I_all, zK_v, zK_n, true_and, and_true, Nat.reduceAdd, Nat.reduceMul, Nat.reduceSub, z_lt, z_le, z_neq, not_false_eq_true, or_true, true_or, or_false, false_or, false_and, and_false, gX7_group, F, R, K, ei]
    exact hq _ _ T
  replace c := Decidable.of_not_not c
  have e1 := iY f c
  by_cases c2 : ¬ btw t 0 (plN (yP Y) 0 - 1)
  · rw [if_neg (fun z => c2 z.1.2)] at hq
    have ei := iN t c2
    simp (disch := first | assumption | omega | decide) only [gB, I_all, zK_v, zK_n, true_and, and_true, Nat.reduceAdd, Nat.reduceMul, Nat.reduceSub, z_lt, z_le, z_neq, not_false_eq_true, or_true, true_or, or_false, false_or, false_and, and_false, gX7_group, F, R, K, e1, ei]
    exact hq _ _ T
  replace c2 := Decidable.of_not_not c2
  have e2 := iY t c2
  by_cases c3 : f = t
  · rw [if_neg (fun z => z.2.1 c3)] at hq
    simp (disch := first | assumption | omega | decide) only [gB, I_all, zK_v, zK_n, true_and, and_true, Nat.reduceAdd, Nat.reduceMul, Nat.reduceSub, z_lt, z_le, z_neq, not_false_eq_true, or_true, true_or, or_false, false_or, false_and, and_false, gX7_group, F, R, K, e1, e2]
    exact hq _ _ T
  by_cases c4 : ¬ btw m 1 40
  · rw [if_neg (fun z => c4 z.2.2)] at hq
    have ei := fun (h : zH) (Q : zQ) => e7_inN (κ := κ) (h := h) (Q := Q) (x := m) (l := 1) (u := 40) (by decide) (by decide) c4
    simp (disch := first | assumption | omega | decide) only [gB, I_all, zK_v, zK_n, true_and, and_true, Nat.reduceAdd, Nat.reduceMul, Nat.reduceSub, z_lt, z_le, z_neq, not_false_eq_true, or_true, true_or, or_false, false_or, false_and, and_false, gX7_group, F, R, K, e1, e2, ei]
    exact hq _ _ T
  replace c4 := Decidable.of_not_not c4
  rw [if_pos ⟨⟨c, c2⟩, c3, c4⟩] at hq
  have e4 := fun (h : zH) (Q : zQ) => e7_inY (κ := κ) (h := h) (Q := Q) (x := m) (l := 1) (u := 40) (by decide) (by decide) c4
  obtain ⟨nf, hf, -, hf1, -⟩ := btw_nat c
  obtain ⟨nt, ht, -, ht1, -⟩ := btw_nat c2
  obtain ⟨nm, hm, hm0, hm1, -⟩ := btw_nat c4
  subst hf; subst ht; subst hm
  rw [I_nat (by omega), I_nat (by omega), I_nat (by omega)] at hq
  dsimp only at hq
  simp (disch := first | assumption | omega | decide) only [gB, I_all, zK_v, zK_n, true_and, and_true, Nat.reduceAdd, Nat.reduceMul, Nat.reduceSub, z_lt, z_le, z_neq, not_false_eq_true, or_true, true_or, or_false, false_or, false_and, and_false, gX7_group, F, R, K, e1, e2, e4]
  refine e7_keeps S T fun W1 SM1 T1 w13 s14 => ?_
  have w0 : W1 13 0 = sN (yS Y) 0 := T1.2.1.1.1 0 (by unfold nat1; omega)
  simp (disch := first | assumption | omega | decide) only [gB, I_all, zK_v, zK_n, true_and, and_true, Nat.reduceAdd, Nat.reduceMul, Nat.reduceSub, z_lt, z_le, z_neq, not_false_eq_true, or_true, true_or, or_false, false_or, false_and, and_false, gX7_group, F, R, K, w0]
  refine e7_bringsUpT (s := nf) S T1 (by omega) ht0 fun W2 SM2 T2 => ?_
  rw [yKp_S, yKp_P] at T2
  have hb0 : sN (sBr (yP Y) (yS Y) nf (sN (yS Y) 0)) 0 = sN (yS Y) 0 := (sBr_fr _ _ _ _).2.2.2.2 0 (by decide)
  generalize sBr (yP Y) (yS Y) nf (sN (yS Y) 0) = σ0 at *
  have lp : ∀ d i W3 SM3, i + d = nm → TIn W3 SM3 (vSt (yKp Y) (sGp σ0 nf nt (sN (yS Y) 0) i).1) → sN (sGp σ0 nf nt (sN (yS Y) 0) i).1 0 = sN (yS Y) 0 → (sGp σ0 nf nt (sN (yS Y) 0) i).2 ≤ i →
      Go κ mX7_group 56 [some (.ref b), some (.int (Int32.ofNat nf)), some (.int (Int32.ofNat nt)), some (.int (Int32.ofNat nm)), some (.int (Int32.ofNat (sGp σ0 nf nt (sN (yS Y) 0) i).2)), some (.int (Int32.ofNat i))] [] (hX h b 33 W3 SM3) Q := by
    intro d
    induction d with
    | zero =>
      intro i W3 SM3 hi T3 h0 hle
      have hi' : i = nm := by omega
      subst hi'
      simp (disch := first | assumption | omega | decide) only [gB, I_all, zK_v, zK_n, true_and, and_true, Nat.reduceAdd, Nat.reduceMul, Nat.reduceSub, z_lt, z_le, z_neq, not_false_eq_true, or_true, true_or, or_false, false_or, false_and, and_false, gX7_group_h]
      simp (disch := first | assumption | omega | decide) only [gB, I_all, zK_v, zK_n, true_and, and_true, Nat.reduceAdd, Nat.reduceMul, Nat.reduceSub, z_lt, z_le, z_neq, not_false_eq_true, or_true, true_or, or_false, false_or, false_and, and_false, gX7_group, F, R, K]
      exact hq _ _ T3
    | succ d ih =>
      intro i W3 SM3 hi T3 h0 hle
      have w3 : W3 13 0 = sN (yS Y) 0 := (T3.2.1.1.1 0 (by unfold nat1; omega)).trans h0
      have ih' := ih (i + 1)
      have ex : sGp σ0 nf nt (sN (yS Y) 0) (i + 1) = ((sJn (sGp σ0 nf nt (sN (yS Y) 0) i).1 nf nt (sN (yS Y) 0) 16).1, (sGp σ0 nf nt (sN (yS Y) 0) i).2 + if (sJn (sGp σ0 nf nt (sN (yS Y) 0) i).1 nf nt (sN (yS Y) 0) 16).2 = true then 1 else 0) := rfl
      rw [ex] at ih'
      generalize sGp σ0 nf nt (sN (yS Y) 0) i = q at *
      have hfr : sN (sJn q.1 nf nt (sN (yS Y) 0) 16).1 0 = sN q.1 0 := (sJn_fr _ _ _ _ _).2.2.2.2 0 (by decide)
      simp (disch := first | assumption | omega | decide) only [gB, I_all, zK_v, zK_n, true_and, and_true, Nat.reduceAdd, Nat.reduceMul, Nat.reduceSub, z_lt, z_le, z_neq, not_false_eq_true, or_true, true_or, or_false, false_or, false_and, and_false, gX7_group_h]
      simp (disch := first | assumption | omega | decide) only [gB, I_all, zK_v, zK_n, true_and, and_true, Nat.reduceAdd, Nat.reduceMul, Nat.reduceSub, z_lt, z_le, z_neq, not_false_eq_true, or_true, true_or, or_false, false_or, false_and, and_false, gX7_group, F, R, K, w3]
      refine e7_joinsT (s := nf) (to := nt) (f := 16) S T3 (by omega) (by omega) (by omega) fun W4 SM4 T4 => ?_
      rw [vSt_S, vSt_2] at T4
      rw [vSt_S]
      generalize sJn q.1 nf nt (sN (yS Y) 0) 16 = r at *
      by_cases cr : r.2 = true
      · rw [if_pos cr] at ih' ⊢
        have ih'' := ih' W4 SM4 (by omega) T4 (hfr.trans h0) (by dsimp only; omega)
        simp (disch := first | assumption | omega | decide) only [gB, I_all, zK_v, zK_n, true_and, and_true, Nat.reduceAdd, Nat.reduceMul, Nat.reduceSub, z_lt, z_le, z_neq, not_false_eq_true, or_true, true_or, or_false, false_or, false_and, and_false, gX7_group, F, R, K]
        exact ih''
      · rw [if_neg cr] at ih' ⊢
        have ih'' := ih' W4 SM4 (by omega) T4 (hfr.trans h0) (by dsimp only; omega)
        simp (disch := first | assumption | omega | decide) only [gB, I_all, zK_v, zK_n, true_and, and_true, Nat.reduceAdd, Nat.reduceMul, Nat.reduceSub, z_lt, z_le, z_neq, not_false_eq_true, or_true, true_or, or_false, false_or, false_and, and_false, gX7_group, F, R, K]
        exact ih''
  have := lp nm 0 W2 SM2 (by omega) T2 hb0 (Nat.le_refl _)
  have e00 : (sGp σ0 nf nt (sN (yS Y) 0) 0).2 = 0 := rfl
  rw [e00] at this
  simp (disch := first | assumption | omega | decide) only [gB, I_all, zK_v, zK_n, true_and, and_true, Nat.reduceAdd, Nat.reduceMul, Nat.reduceSub, z_lt, z_le, z_neq, not_false_eq_true, or_true, true_or, or_false, false_or, false_and, and_false, gX7_group]
  exact this
end
