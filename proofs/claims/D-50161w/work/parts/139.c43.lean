/-! the component: spread, ahead -/
section
variable {κ : zC} {h : zH} {x a p q0 q : Nat} {A : Nat → Nat → Nat} {Q : zQ} {Y : Sy} {π : Pl} {σ : Sg}
theorem e9_maxI {x y : Int32} {h : zH} : Ev κ mJ9_max [.int x, .int y] h Q = Q (.inl (some (.int (if x < y then y else x)))) h := by
  by_cases c : x < y
  · have c' : ¬ y ≤ x := Int32.not_le.mpr c
    rw [if_pos c]
    simp (disch := first | assumption | omega | decide | (refine Eq.trans (hK_X _) ?_; assumption) | fail) only [gB, I_all, zK_v, zK_n, true_and, and_true, Nat.reduceAdd, Nat.reduceMul, Nat.reduceSub, z_lt, z_le, z_neq, not_false_eq_true, or_true, true_or, or_false, false_or, false_and, and_false, gJ9_max]
  · have c' : y ≤ x := Int32.not_lt.mp c
    rw [if_neg c]
    simp (disch := first | assumption | omega | decide | (refine Eq.trans (hK_X _) ?_; assumption) | fail) only [gB, I_all, zK_v, zK_n, true_and, and_true, Nat.reduceAdd, Nat.reduceMul, Nat.reduceSub, z_lt, z_le, z_neq, not_false_eq_true, or_true, true_or, or_false, false_or, false_and, and_false, gJ9_max]
/-- no gap is less than 0 but -2 -/
theorem spS_n (l : List Lv) : ∀ q : Int32 × Int32, (q = (Int32.ofInt (-2), Int32.ofInt (-2)) ∨ (Int32.ofNat 0 ≤ q.1 ∧ Int32.ofNat 0 ≤ q.2)) → (l.foldl spS q = (Int32.ofInt (-2), Int32.ofInt (-2)) ∨ (Int32.ofNat 0 ≤ (l.foldl spS q).1 ∧ Int32.ofNat 0 ≤ (l.foldl spS q).2)) := by
  induction l with
  | nil => intro q h; exact h
  | cons r l ih =>
    intro q h
    refine ih _ ?_
    unfold spS
    by_cases c : r.2.2 < Int32.ofNat 0
    · rw [if_pos c]; exact h
    · rw [if_neg c]
      have c' := Int32.not_lt.mp c
      refine Or.inr ⟨?_, ?_⟩
      · dsimp only
        split
        · exact c'
        · rename_i d
          exact Int32.le_trans c' (Int32.not_lt.mp d)
      · dsimp only
        split
        · exact c'
        · rename_i d
          exact Int32.not_lt.mp fun e => d (Or.inl e)
theorem so_spread {s : Nat} (Z : SAt κ h a p π A q0 q σ) (OK : sOk π σ) (hs : s < plN π 0) : Ev κ mX5_spread [.ref (a + (19 + 8 * s))] h Q = Q (.inl (some (.int (if (spF (sL σ s) (sL σ s).length).1 < Int32.ofNat 0 then Int32.ofInt (-2) else (spF (sL σ s) (sL σ s).length).1 - (spF (sL σ s) (sL σ s).length).2)))) h := by
  have O := Z.1.2.2.1
  have h10 := O.1
  have B := soL Z hs
  obtain ⟨o1, o2⟩ := OK.2.1 s (by omega)
  generalize sL σ s = l at *
  rw [spF_fold l l.length (Nat.le_refl _), List.take_length, ← spS_rev]
  have hlen : l.reverse.length = l.length := List.length_reverse
  rw [← hlen] at B o1
  generalize l.reverse = r at *
  have bq := B.2.2.2.2.2.2.2.2.2.2.2.2.2
  have B1 := B.1
  have B4 := B.2.2.2.1
  have B5 := B.2.2.2.2.1
  have K3 := B.2.2.2.2.2.2.2.2.2.1
  have L3 := B.2.2.2.2.2.2.2.2.2.2.2.2.1
  have em := fun (x y : Int32) (h : zH) (Q : zQ) => e9_maxI (κ := κ) (x := x) (y := y) (h := h) (Q := Q)
  obtain ⟨G, hG⟩ : ∃ G : Nat → Int32 × Int32, G = fun k => (r.take k).foldl spS (Int32.ofInt (-2), Int32.ofInt (-2)) := ⟨_, rfl⟩
  have g0 : G 0 = (Int32.ofInt (-2), Int32.ofInt (-2)) := by rw [hG]; rfl
  have gE : G r.length = r.foldl spS (Int32.ofInt (-2), Int32.ofInt (-2)) := by rw [hG]; dsimp only; rw [List.take_length]
  rw [← gE]
  have gn : ∀ k, G k = (Int32.ofInt (-2), Int32.ofInt (-2)) ∨ (Int32.ofNat 0 ≤ (G k).1 ∧ Int32.ofNat 0 ≤ (G k).2) := fun k => by rw [hG]; exact spS_n _ _ (Or.inl rfl)
  have gs : ∀ k v, r[k]? = some v → G (k + 1) = spS (G k) v := fun k v hk => by
    rw [hG]
    dsimp only
    rw [List.take_add_one, hk]
    show List.foldl spS _ (r.take k ++ [v]) = _
    rw [List.foldl_append]
    rfl
  have lp := Go_fr (κ := κ) (m := mX5_spread) (pc := 8) (n := r.length) (Q := Q) (R := Q (.inl (some (.int (if (G r.length).1 < Int32.ofNat 0 then Int32.ofInt (-2) else (G r.length).1 - (G r.length).2)))) h) (fun k => [some (.ref (a + (19 + 8 * s))), some (.int (G k).2), some (.int (G k).1), some (.int (Int32.ofNat k))]) (fun _ => h) (fun k hk ih => by
    have g1 : r[k]? = some r[k] := List.getElem?_eq_getElem hk
    have bk := (bq k _ g1).2.2
    have gk := gs k _ g1
    have gnk := gn k
    rw [gk] at ih
    generalize G k = w at *
    generalize r[k] = v at *
    unfold spS at ih
    have hmin : ((Int32.ofInt (-2), Int32.ofInt (-2)) : Int32 × Int32).2 < Int32.ofNat 0 := by decide
    simp (disch := first | assumption | omega | decide | (refine Eq.trans (hK_X _) ?_; assumption) | fail) only [gB, I_all, zK_v, zK_n, true_and, and_true, Nat.reduceAdd, Nat.reduceMul, Nat.reduceSub, z_lt, z_le, z_neq, not_false_eq_true, or_true, true_or, or_false, false_or, false_and, and_false, gX5_spread_h]
    by_cases c : v.2.2 < Int32.ofNat 0
    · rw [if_pos c] at ih
      have cn : ¬ Int32.ofNat 0 ≤ v.2.2 := Int32.not_le.mpr c
      simp (disch := first | assumption | omega | decide | (refine Eq.trans (hK_X _) ?_; assumption) | fail) only [gB, I_all, zK_v, zK_n, true_and, and_true, Nat.reduceAdd, Nat.reduceMul, Nat.reduceSub, z_lt, z_le, z_neq, not_false_eq_true, or_true, true_or, or_false, false_or, false_and, and_false, gX5_spread, B1, B4, B5, K3, L3, bk]
      exact ih
    · rw [if_neg c] at ih
      have c' := Int32.not_lt.mp c
      dsimp only at ih
      by_cases d : w.2 < Int32.ofNat 0
      · rw [if_pos (Or.inl d)] at ih
        simp (disch := first | assumption | omega | decide | (refine Eq.trans (hK_X _) ?_; assumption) | fail) only [gB, I_all, zK_v, zK_n, true_and, and_true, Nat.reduceAdd, Nat.reduceMul, Nat.reduceSub, z_lt, z_le, z_neq, not_false_eq_true, or_true, true_or, or_false, false_or, false_and, and_false, gX5_spread, B1, B4, B5, K3, L3, bk, em]
        exact ih
      · have d' := Int32.not_lt.mp d
        by_cases e : v.2.2 < w.2
        · have e' : ¬ w.2 ≤ v.2.2 := Int32.not_le.mpr e
          rw [if_pos (Or.inr e)] at ih
          simp (disch := first | assumption | omega | decide | (refine Eq.trans (hK_X _) ?_; assumption) | fail) only [gB, I_all, zK_v, zK_n, true_and, and_true, Nat.reduceAdd, Nat.reduceMul, Nat.reduceSub, z_lt, z_le, z_neq, not_false_eq_true, or_true, true_or, or_false, false_or, false_and, and_false, gX5_spread, B1, B4, B5, K3, L3, bk, em]
          exact ih
        · have e' : w.2 ≤ v.2.2 := Int32.not_lt.mp e
          rw [if_neg (fun y => y.elim d e)] at ih
          simp (disch := first | assumption | omega | decide | (refine Eq.trans (hK_X _) ?_; assumption) | fail) only [gB, I_all, zK_v, zK_n, true_and, and_true, Nat.reduceAdd, Nat.reduceMul, Nat.reduceSub, z_lt, z_le, z_neq, not_false_eq_true, or_true, true_or, or_false, false_or, false_and, and_false, gX5_spread, B1, B4, B5, K3, L3, bk, em]
          exact ih) (by
    simp (disch := first | assumption | omega | decide | (refine Eq.trans (hK_X _) ?_; assumption) | fail) only [gB, I_all, zK_v, zK_n, true_and, and_true, Nat.reduceAdd, Nat.reduceMul, Nat.reduceSub, z_lt, z_le, z_neq, not_false_eq_true, or_true, true_or, or_false, false_or, false_and, and_false, gX5_spread_h]
    rcases gn r.length with g | ⟨g, g'⟩
    · rw [g, if_pos (show ((Int32.ofInt (-2), Int32.ofInt (-2)) : Int32 × Int32).1 < Int32.ofNat 0 by decide)]
      simp (disch := first | assumption | omega | decide | (refine Eq.trans (hK_X _) ?_; assumption) | fail) only [gB, I_all, zK_v, zK_n, true_and, and_true, Nat.reduceAdd, Nat.reduceMul, Nat.reduceSub, z_lt, z_le, z_neq, not_false_eq_true, or_true, true_or, or_false, false_or, false_and, and_false, gX5_spread, B1, B4, B5]
    · have g2 := Int32.not_lt.mpr g
      have g3 := Int32.not_lt.mpr g'
      rw [if_neg g2]
      simp (disch := first | assumption | omega | decide | (refine Eq.trans (hK_X _) ?_; assumption) | fail) only [gB, I_all, zK_v, zK_n, true_and, and_true, Nat.reduceAdd, Nat.reduceMul, Nat.reduceSub, z_lt, z_le, z_neq, not_false_eq_true, or_true, true_or, or_false, false_or, false_and, and_false, gX5_spread, B1, B4, B5])
  rw [g0] at lp
  simp (disch := first | assumption | omega | decide | (refine Eq.trans (hK_X _) ?_; assumption) | fail) only [gB, I_all, zK_v, zK_n, true_and, and_true, Nat.reduceAdd, Nat.reduceMul, Nat.reduceSub, z_lt, z_le, z_neq, not_false_eq_true, or_true, true_or, or_false, false_or, false_and, and_false, gX5_spread]
  exact lp
theorem e0_spread {y : Int32} (Z : Cx κ h x a p A q0 q Y) : Ev κ mX0_spread [.ref x, .int y] h Q = Q (.inl (some (.int (rSp Y y)))) h := by
  have Z0 := Z
  obtain ⟨kx, vx, S, OK, V⟩ := Z
  have h10 := S.1.2.2.1.1
  have N := soN S
  have R := soR S
  have K := soK S
  unfold rSp
  by_cases c : btw y 0 (plN (yP Y) 0 - 1)
  · rw [if_pos c]
    have ei := fun (Q : zQ) => e0_isStopY (κ := κ) (Q := Q) Z0 c
    obtain ⟨m, hs, -, hm, -⟩ := btw_nat c
    subst hs
    have hmS : m < plN (yP Y) 0 := by omega
    have B := (soL S hmS).1
    have es := fun (Q : zQ) => so_spread (κ := κ) (Q := Q) S OK hmS
    rw [I_nat (by omega)]
    simp (disch := first | assumption | omega | decide | (refine Eq.trans (hK_X _) ?_; assumption) | fail) only [gB, I_all, zK_v, zK_n, true_and, and_true, Nat.reduceAdd, Nat.reduceMul, Nat.reduceSub, z_lt, z_le, z_neq, not_false_eq_true, or_true, true_or, or_false, false_or, false_and, and_false, gX0_spread, ei, kx, vx, N, R, K, B, es]
  · rw [if_neg c]
    have ei := fun (Q : zQ) => e0_isStopN (κ := κ) (Q := Q) Z0 c
    simp (disch := first | assumption | omega | decide | (refine Eq.trans (hK_X _) ?_; assumption) | fail) only [gB, I_all, zK_v, zK_n, true_and, and_true, Nat.reduceAdd, Nat.reduceMul, Nat.reduceSub, z_lt, z_le, z_neq, not_false_eq_true, or_true, true_or, or_false, false_or, false_and, and_false, gX0_spread, ei, kx]
theorem e0_ahead {y : Int32} {o : Bool} (Z : Cx κ h x a p A q0 q Y) : Ev κ mX0_ahead [.ref x, .int y, .int (boI o)] h Q = Q (.inl (some (.int (rAh Y y o)))) h := by
  have Z0 := Z
  obtain ⟨kx, vx, S, OK, V⟩ := Z
  have O := S.1.2.2.1
  have h6 := O.2.1
  have h10 := O.1
  have N := soN S
  have R := soR S
  have K := soK S
  by_cases c : ¬ btw y 0 (plN (yP Y) 1 - 1)
  · unfold rAh
    rw [if_neg c]
    have ei := fun (Q : zQ) => e0_isBusN (κ := κ) (Q := Q) Z0 c
    simp (disch := first | assumption | omega | decide | (refine Eq.trans (hK_X _) ?_; assumption) | fail) only [gB, I_all, zK_v, zK_n, true_and, and_true, Nat.reduceAdd, Nat.reduceMul, Nat.reduceSub, z_lt, z_le, z_neq, not_false_eq_true, or_true, true_or, or_false, false_or, false_and, and_false, gX0_ahead, ei, kx]
  replace c := Decidable.of_not_not c
  have ei := fun (Q : zQ) => e0_isBusY (κ := κ) (Q := Q) Z0 c
  obtain ⟨m, hs, -, hm, -⟩ := btw_nat c
  subst hs
  have hmB : m < plN (yP Y) 1 := by omega
  have B := soB S hmB
  have eo := fun (Q : zQ) => so_isOut (κ := κ) (Q := Q) S OK hmB
  obtain ⟨st, s, h4, hs, q0', q1⟩ := bst OK hmB (by omega)
  have eI1 : bI (yS Y) m 1 = s := bI_of (by omega) q1
  rw [q1] at B
  by_cases c0 : bI (yS Y) m 0 = 0
  · unfold rAh
    rw [if_pos c, I_nat (by omega)]
    dsimp only
    rw [if_pos c0]
    simp only [if_pos c0] at eo
    simp (disch := first | assumption | omega | decide | (refine Eq.trans (hK_X _) ?_; assumption) | fail) only [gB, I_all, zK_v, zK_n, true_and, and_true, Nat.reduceAdd, Nat.reduceMul, Nat.reduceSub, z_lt, z_le, z_neq, not_false_eq_true, or_true, true_or, or_false, false_or, false_and, and_false, gX0_ahead, gX0_ahead_h, ei, kx, vx, N, R, K, zA13, B, eo]
  · simp only [if_neg c0] at eo
    have lp : ∀ d k (a7 : Option Value), k + d = plN (yP Y) 1 → Go κ mX0_ahead 30 [some (.ref x), some (.int (Int32.ofNat m)), some (.int (boI o)), some (.ref (a + (15 + 8 * plN (yP Y) 0 + 5 * m))), some (.int (ahB (ahF (yP Y) (yS Y) m k).1)), some (.int (ahF (yP Y) (yS Y) m k).2), some (.int (Int32.ofNat k)), a7] [] h Q = Q (.inl (some (.int (rAh Y (Int32.ofNat m) o)))) h := by
      intro d
      induction d with
      | zero =>
        intro k a7 hk
        have hk' : k = plN (yP Y) 1 := by omega
        subst hk'
        have hlt := ahF_lt (yP Y) (yS Y) m (plN (yP Y) 1)
        unfold rAh
        rw [if_pos c, I_nat (by omega)]
        dsimp only
        rw [if_neg c0]
        generalize ahF (yP Y) (yS Y) m (plN (yP Y) 1) = w at *
        obtain ⟨u, v⟩ := w
        simp (disch := first | assumption | omega | decide | (refine Eq.trans (hK_X _) ?_; assumption) | fail) only [gB, I_all, zK_v, zK_n, true_and, and_true, Nat.reduceAdd, Nat.reduceMul, Nat.reduceSub, z_lt, z_le, z_neq, not_false_eq_true, or_true, true_or, or_false, false_or, false_and, and_false, gX0_ahead_h]
        cases u with
        | none => simp (disch := first | assumption | omega | decide | (refine Eq.trans (hK_X _) ?_; assumption) | fail) only [gB, I_all, zK_v, zK_n, true_and, and_true, Nat.reduceAdd, Nat.reduceMul, Nat.reduceSub, z_lt, z_le, z_neq, not_false_eq_true, or_true, true_or, or_false, false_or, false_and, and_false, gX0_ahead, ahB, kx, vx, N, R, K, zA13]
        | some g =>
          have hg := hlt g rfl
          cases o with
          | true => simp (disch := first | assumption | omega | decide | (refine Eq.trans (hK_X _) ?_; assumption) | fail) only [gB, I_all, zK_v, zK_n, true_and, and_true, Nat.reduceAdd, Nat.reduceMul, Nat.reduceSub, z_lt, z_le, z_neq, not_false_eq_true, or_true, true_or, or_false, false_or, false_and, and_false, gX0_ahead, ahB, boI, if_true, if_false, Bool.false_eq_true, kx, vx, N, R, K, zA13]
          | false => simp (disch := first | assumption | omega | decide | (refine Eq.trans (hK_X _) ?_; assumption) | fail) only [gB, I_all, zK_v, zK_n, true_and, and_true, Nat.reduceAdd, Nat.reduceMul, Nat.reduceSub, z_lt, z_le, z_neq, not_false_eq_true, or_true, true_or, or_false, false_or, false_and, and_false, gX0_ahead, ahB, boI, if_true, if_false, Bool.false_eq_true, kx, vx, N, R, K, zA13]
      | succ d ih =>
        intro k a7 hk
        have hkB : k < plN (yP Y) 1 := by omega
        have ih1 := fun a7 => ih (k + 1) a7 (by omega)
        have hlt := ahF_lt (yP Y) (yS Y) m k
        have e3 : ahF (yP Y) (yS Y) m (k + 1) = (if k = m ∨ bI (yS Y) k 0 = 0 then ahF (yP Y) (yS Y) m k else if (ahF (yP Y) (yS Y) m k).1 = none ∨ way (yP Y) (bI (yS Y) m 1) (bI (yS Y) k 1) < (ahF (yP Y) (yS Y) m k).2 then (some k, way (yP Y) (bI (yS Y) m 1) (bI (yS Y) k 1)) else ahF (yP Y) (yS Y) m k) := rfl
        rw [e3] at ih1
        generalize ahF (yP Y) (yS Y) m k = w at *
        have Bk := soB S hkB
        have eok := fun (Q : zQ) => so_isOut (κ := κ) (Q := Q) S OK hkB
        obtain ⟨st', s', h4', hs', q0'', q1'⟩ := bst OK hkB (by omega)
        have eI1' : bI (yS Y) k 1 = s' := bI_of (by omega) q1'
        rw [q1'] at Bk
        rw [eI1, eI1'] at ih1
        have ew := fun (Q : zQ) => so_way (κ := κ) (Q := Q) S hs hs'
        simp (disch := first | assumption | omega | decide | (refine Eq.trans (hK_X _) ?_; assumption) | fail) only [gB, I_all, zK_v, zK_n, true_and, and_true, Nat.reduceAdd, Nat.reduceMul, Nat.reduceSub, z_lt, z_le, z_neq, not_false_eq_true, or_true, true_or, or_false, false_or, false_and, and_false, gX0_ahead_h]
        by_cases c1 : k = m
        · rw [if_pos (Or.inl c1)] at ih1
          simp (disch := first | assumption | omega | decide | (refine Eq.trans (hK_X _) ?_; assumption) | fail) only [gB, I_all, zK_v, zK_n, true_and, and_true, Nat.reduceAdd, Nat.reduceMul, Nat.reduceSub, z_lt, z_le, z_neq, not_false_eq_true, or_true, true_or, or_false, false_or, false_and, and_false, gX0_ahead, kx, vx, N, R, K, zA13, B, eo]
          exact ih1 _
        · by_cases c2 : bI (yS Y) k 0 = 0
          · rw [if_pos (Or.inr c2)] at ih1
            simp only [if_pos c2] at eok
            simp (disch := first | assumption | omega | decide | (refine Eq.trans (hK_X _) ?_; assumption) | fail) only [gB, I_all, zK_v, zK_n, true_and, and_true, Nat.reduceAdd, Nat.reduceMul, Nat.reduceSub, z_lt, z_le, z_neq, not_false_eq_true, or_true, true_or, or_false, false_or, false_and, and_false, gX0_ahead, kx, vx, N, R, K, zA13, B, Bk, eo, eok]
            exact ih1 _
          · rw [if_neg (fun y => y.elim c1 c2)] at ih1
            simp only [if_neg c2] at eok
            have kp := (soP S.1.2.1).1
            obtain ⟨u, v⟩ := w
            dsimp only at ih1
            cases u with
            | none =>
              rw [if_pos (Or.inl rfl)] at ih1
              simp (disch := first | assumption | omega | decide | (refine Eq.trans (hK_X _) ?_; assumption) | fail) only [gB, I_all, zK_v, zK_n, true_and, and_true, Nat.reduceAdd, Nat.reduceMul, Nat.reduceSub, z_lt, z_le, z_neq, not_false_eq_true, or_true, true_or, or_false, false_or, false_and, and_false, gX0_ahead, ahB, kx, vx, N, R, K, zA13, B, Bk, eo, eok, kp, ew]
              exact ih1 _
            | some g =>
              have hg := hlt g rfl
              by_cases c3 : way (yP Y) s s' < v
              · rw [if_pos (Or.inr c3)] at ih1
                have c3' : ¬ v ≤ way (yP Y) s s' := Int32.not_le.mpr c3
                simp (disch := first | assumption | omega | decide | (refine Eq.trans (hK_X _) ?_; assumption) | fail) only [gB, I_all, zK_v, zK_n, true_and, and_true, Nat.reduceAdd, Nat.reduceMul, Nat.reduceSub, z_lt, z_le, z_neq, not_false_eq_true, or_true, true_or, or_false, false_or, false_and, and_false, gX0_ahead, ahB, kx, vx, N, R, K, zA13, B, Bk, eo, eok, kp, ew]
                exact ih1 _
              · rw [if_neg (fun y => y.elim (fun z => by cases z) c3)] at ih1
                have c3' : v ≤ way (yP Y) s s' := Int32.not_lt.mp c3
                simp (disch := first | assumption | omega | decide | (refine Eq.trans (hK_X _) ?_; assumption) | fail) only [gB, I_all, zK_v, zK_n, true_and, and_true, Nat.reduceAdd, Nat.reduceMul, Nat.reduceSub, z_lt, z_le, z_neq, not_false_eq_true, or_true, true_or, or_false, false_or, false_and, and_false, gX0_ahead, ahB, kx, vx, N, R, K, zA13, B, Bk, eo, eok, kp, ew]
                exact ih1 _
    have l0 := lp (plN (yP Y) 1) 0 none (by omega)
    have e0 : ahF (yP Y) (yS Y) m 0 = (none, Int32.ofNat 0) := rfl
    rw [e0] at l0
    have e1 : ahB none = Int32.ofInt (-2) := rfl
    rw [e1] at l0
    simp (disch := first | assumption | omega | decide | (refine Eq.trans (hK_X _) ?_; assumption) | fail) only [gB, I_all, zK_v, zK_n, true_and, and_true, Nat.reduceAdd, Nat.reduceMul, Nat.reduceSub, z_lt, z_le, z_neq, not_false_eq_true, or_true, true_or, or_false, false_or, false_and, and_false, gX0_ahead, ei, kx, vx, N, R, K, zA13, B]
    exact l0
end
