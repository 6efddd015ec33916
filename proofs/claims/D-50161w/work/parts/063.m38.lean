/-! the twin: riders of a flow; flows, riders, leavings, the log -/
theorem waO_le {π : Pl} {σ : Sg} (OK : sOk π σ) (f : Nat) : ∀ k, k ≤ 10 → waO σ f k ≤ 40 * k := by
  intro k
  induction k with
  | zero => intro _; exact Nat.le_refl _
  | succ k ih =>
    intro h
    have h1 := ih (by omega)
    have h2 := cntF_le (sR σ k) f
    have h3 := (OK.1 k (by omega)).1
    unfold waO
    omega
theorem abO_le {π : Pl} {σ : Sg} (OK : sOk π σ) (f : Nat) : ∀ k, k ≤ 6 → abO σ f k ≤ 99 * k := by
  intro k
  induction k with
  | zero => intro _; exact Nat.le_refl _
  | succ k ih =>
    intro h
    have h1 := ih (by omega)
    have h2 := cntF_le (bR σ k) f
    have h3 := (OK.2.2.1 k (by omega)).1
    unfold abO
    omega
section
variable {κ : zC} {h : zH} {b : Nat} {W : Nat → Nat → Int32} {SM : Nat → Nat → Int64} {Q : zQ} {Y : Sy} {π : Pl}
theorem e7_waitingOf {f : Nat} (S : TSh κ h b) (T : TIn W SM Y) (hf : f < 17) : Ev κ mX7_waitingOf [.ref b, .int (Int32.ofNat f)] (hX h b 33 W SM) Q = Q (.inl (some (.int (Int32.ofNat (waO (yS Y) f (plN (yP Y) 0)))))) (hX h b 33 W SM) := by
  have F := xF S
  have R := xR S
  have K := xK S
  have O := T.2.2.2.2.2.2
  have hns := O.1
  have e1 := T.1.1
  have OK := T.2.1.2
  have lp : ∀ d k (a4 : Option Value), k + d = plN (yP Y) 0 → Go κ mX7_waitingOf 4 [some (.ref b), some (.int (Int32.ofNat f)), some (.int (Int32.ofNat (waO (yS Y) f k))), some (.int (Int32.ofNat k)), a4] [] (hX h b 33 W SM) Q = Q (.inl (some (.int (Int32.ofNat (waO (yS Y) f (plN (yP Y) 0)))))) (hX h b 33 W SM) := by
    intro d
    induction d with
    | zero =>
      intro k a4 hk
      have hk' : k = plN (yP Y) 0 := by omega
      simp (disch := first | assumption | omega | decide) only [gB, I_all, zK_v, zK_n, true_and, and_true, Nat.reduceAdd, Nat.reduceMul, Nat.reduceSub, z_lt, z_le, z_neq, not_false_eq_true, or_true, true_or, or_false, false_or, false_and, and_false, gX7_waitingOf_h]
      simp (disch := first | assumption | omega | decide) only [gB, I_all, zK_v, zK_n, true_and, and_true, Nat.reduceAdd, Nat.reduceMul, Nat.reduceSub, z_lt, z_le, z_neq, not_false_eq_true, or_true, true_or, or_false, false_or, false_and, and_false, gX7_waitingOf, F, R, K, e1]
      rw [hk']
    | succ d ih =>
      intro k a4 hk
      have hk10 : k < 10 := by omega
      have hw := waO_le OK f k (by omega)
      have ih' := fun a4 => ih (k + 1) a4 (by omega)
      have e3 : waO (yS Y) f (k + 1) = waO (yS Y) f k + cntF (sR (yS Y) k) f := rfl
      rw [e3] at ih'
      generalize waO (yS Y) f k = n at *
      obtain ⟨r1, r2⟩ := T.2.1.1.2.1 k hk10
      obtain ⟨o1, o2⟩ := OK.1 k hk10
      generalize sR (yS Y) k = l at *
      have li : ∀ d i, i + d = l.length → Go κ mX7_waitingOf 15 [some (.ref b), some (.int (Int32.ofNat f)), some (.int (Int32.ofNat (n + cntF (l.take i) f))), some (.int (Int32.ofNat k)), some (.int (Int32.ofNat i))] [] (hX h b 33 W SM) Q = Q (.inl (some (.int (Int32.ofNat (waO (yS Y) f (plN (yP Y) 0)))))) (hX h b 33 W SM) := by
        intro d
        induction d with
        | zero =>
          intro i hi
          have hi' : i = l.length := by omega
          have ih'' := ih' (some (.int (Int32.ofNat i)))
          have hc : cntF (l.take i) f = cntF l f := by rw [hi', List.take_length]
          rw [hc]
          simp (disch := first | assumption | omega | decide) only [gB, I_all, zK_v, zK_n, true_and, and_true, Nat.reduceAdd, Nat.reduceMul, Nat.reduceSub, z_lt, z_le, z_neq, not_false_eq_true, or_true, true_or, or_false, false_or, false_and, and_false, gX7_waitingOf_h]
          simp (disch := first | assumption | omega | decide) only [gB, I_all, zK_v, zK_n, true_and, and_true, Nat.reduceAdd, Nat.reduceMul, Nat.reduceSub, z_lt, z_le, z_neq, not_false_eq_true, or_true, true_or, or_false, false_or, false_and, and_false, gX7_waitingOf, F, R, K, r1]
          exact ih''
        | succ d ih2 =>
          intro i hi
          have hi2 : i < l.length := by omega
          have g1 : l[i]? = some l[i] := List.getElem?_eq_getElem hi2
          obtain ⟨q1, q2, q3⟩ := r2 i _ g1
          have hr := o2 _ (List.getElem_mem hi2)
          generalize l[i] = r at *
          have ih2' := ih2 (i + 1) (by omega)
          rw [cntF_up g1] at ih2'
          have hc := cntF_le (l.take i) f
          simp (disch := first | assumption | omega | decide) only [gB, I_all, zK_v, zK_n, true_and, and_true, Nat.reduceAdd, Nat.reduceMul, Nat.reduceSub, z_lt, z_le, z_neq, not_false_eq_true, or_true, true_or, or_false, false_or, false_and, and_false, gX7_waitingOf_h]
          by_cases c : r.2.2 = f
          · rw [if_pos c, ← Nat.add_assoc] at ih2'
            simp (disch := first | assumption | omega | decide) only [gB, I_all, zK_v, zK_n, true_and, and_true, Nat.reduceAdd, Nat.reduceMul, Nat.reduceSub, z_lt, z_le, z_neq, not_false_eq_true, or_true, true_or, or_false, false_or, false_and, and_false, gX7_waitingOf, F, R, K, r1, e7_riderAt, q3]
            exact ih2'
          · rw [if_neg c, Nat.add_zero] at ih2'
            simp (disch := first | assumption | omega | decide) only [gB, I_all, zK_v, zK_n, true_and, and_true, Nat.reduceAdd, Nat.reduceMul, Nat.reduceSub, z_lt, z_le, z_neq, not_false_eq_true, or_true, true_or, or_false, false_or, false_and, and_false, gX7_waitingOf, F, R, K, r1, e7_riderAt, q3, Nat.add_zero]
            exact ih2'
      have := li l.length 0 (by omega)
      rw [List.take_zero, show cntF [] f = 0 from rfl, Nat.add_zero] at this
      simp (disch := first | assumption | omega | decide) only [gB, I_all, zK_v, zK_n, true_and, and_true, Nat.reduceAdd, Nat.reduceMul, Nat.reduceSub, z_lt, z_le, z_neq, not_false_eq_true, or_true, true_or, or_false, false_or, false_and, and_false, gX7_waitingOf_h]
      simp (disch := first | assumption | omega | decide) only [gB, I_all, zK_v, zK_n, true_and, and_true, Nat.reduceAdd, Nat.reduceMul, Nat.reduceSub, z_lt, z_le, z_neq, not_false_eq_true, or_true, true_or, or_false, false_or, false_and, and_false, gX7_waitingOf, F, R, K, e1]
      exact this
  have := lp (plN (yP Y) 0) 0 none (by omega)
  rw [show waO (yS Y) f 0 = 0 from rfl] at this
  simp (disch := first | assumption | omega | decide) only [gB, I_all, zK_v, zK_n, true_and, and_true, Nat.reduceAdd, Nat.reduceMul, Nat.reduceSub, z_lt, z_le, z_neq, not_false_eq_true, or_true, true_or, or_false, false_or, false_and, and_false, gX7_waitingOf]
  exact this
theorem e7_aboardOf {f : Nat} (S : TSh κ h b) (T : TIn W SM Y) (hf : f < 17) : Ev κ mX7_aboardOf [.ref b, .int (Int32.ofNat f)] (hX h b 33 W SM) Q = Q (.inl (some (.int (Int32.ofNat (abO (yS Y) f (plN (yP Y) 1)))))) (hX h b 33 W SM) := by
  have F := xF S
  have R := xR S
  have K := xK S
  have O := T.2.2.2.2.2.2
  have hnb := O.2.1
  have e1 := T.1.2.1
  have OK := T.2.1.2
  have lp : ∀ d k (a4 : Option Value), k + d = plN (yP Y) 1 → Go κ mX7_aboardOf 4 [some (.ref b), some (.int (Int32.ofNat f)), some (.int (Int32.ofNat (abO (yS Y) f k))), some (.int (Int32.ofNat k)), a4] [] (hX h b 33 W SM) Q = Q (.inl (some (.int (Int32.ofNat (abO (yS Y) f (plN (yP Y) 1)))))) (hX h b 33 W SM) := by
    intro d
    induction d with
    | zero =>
      intro k a4 hk
      have hk' : k = plN (yP Y) 1 := by omega
      simp (disch := first | assumption | omega | decide) only [gB, I_all, zK_v, zK_n, true_and, and_true, Nat.reduceAdd, Nat.reduceMul, Nat.reduceSub, z_lt, z_le, z_neq, not_false_eq_true, or_true, true_or, or_false, false_or, false_and, and_false, gX7_aboardOf_h]
      simp (disch := first | assumption | omega | decide) only [gB, I_all, zK_v, zK_n, true_and, and_true, Nat.reduceAdd, Nat.reduceMul, Nat.reduceSub, z_lt, z_le, z_neq, not_false_eq_true, or_true, true_or, or_false, false_or, false_and, and_false, gX7_aboardOf, F, R, K, e1]
      rw [hk']
    | succ d ih =>
      intro k a4 hk
      have hk6 : k < 6 := by omega
      have hw := abO_le OK f k (by omega)
      have ih' := fun a4 => ih (k + 1) a4 (by omega)
      have e3 : abO (yS Y) f (k + 1) = abO (yS Y) f k + cntF (bR (yS Y) k) f := rfl
      rw [e3] at ih'
      generalize abO (yS Y) f k = n at *
      have B := T.2.1.1.2.2.2.1 k hk6
      have r1 : W 13 (164 + 13 * k + 4) = Int32.ofNat (bR (yS Y) k).length := B.2.1
      have r2 : RAt (W 13) (1832 + 297 * k) (bR (yS Y) k) := B.2.2.1
      have eo := fun (Q : zQ) => ofX (κ := κ) (W := W) (SM := SM) (Q := Q) (k := k) (c := 4) S (by omega)
      obtain ⟨o1, -, o2, -⟩ := OK.2.2.1 k hk6
      generalize bR (yS Y) k = l at *
      have li : ∀ d i, i + d = l.length → Go κ mX7_aboardOf 15 [some (.ref b), some (.int (Int32.ofNat f)), some (.int (Int32.ofNat (n + cntF (l.take i) f))), some (.int (Int32.ofNat k)), some (.int (Int32.ofNat i))] [] (hX h b 33 W SM) Q = Q (.inl (some (.int (Int32.ofNat (abO (yS Y) f (plN (yP Y) 1)))))) (hX h b 33 W SM) := by
        intro d
        induction d with
        | zero =>
          intro i hi
          have hi' : i = l.length := by omega
          have ih'' := ih' (some (.int (Int32.ofNat i)))
          have hc : cntF (l.take i) f = cntF l f := by rw [hi', List.take_length]
          rw [hc]
          simp (disch := first | assumption | omega | decide) only [gB, I_all, zK_v, zK_n, true_and, and_true, Nat.reduceAdd, Nat.reduceMul, Nat.reduceSub, z_lt, z_le, z_neq, not_false_eq_true, or_true, true_or, or_false, false_or, false_and, and_false, gX7_aboardOf_h]
          simp (disch := first | assumption | omega | decide) only [gB, I_all, zK_v, zK_n, true_and, and_true, Nat.reduceAdd, Nat.reduceMul, Nat.reduceSub, z_lt, z_le, z_neq, not_false_eq_true, or_true, true_or, or_false, false_or, false_and, and_false, gX7_aboardOf, F, R, K, r1, eo]
          exact ih''
        | succ d ih2 =>
          intro i hi
          have hi2 : i < l.length := by omega
          have g1 : l[i]? = some l[i] := List.getElem?_eq_getElem hi2
          obtain ⟨q1, q2, q3⟩ := r2 i _ g1
          have hr := o2 _ (List.getElem_mem hi2)
          generalize l[i] = r at *
          have ih2' := ih2 (i + 1) (by omega)
          rw [cntF_up g1] at ih2'
          have hc := cntF_le (l.take i) f
          simp (disch := first | assumption | omega | decide) only [gB, I_all, zK_v, zK_n, true_and, and_true, Nat.reduceAdd, Nat.reduceMul, Nat.reduceSub, z_lt, z_le, z_neq, not_false_eq_true, or_true, true_or, or_false, false_or, false_and, and_false, gX7_aboardOf_h]
          by_cases c : r.2.2 = f
          · rw [if_pos c, ← Nat.add_assoc] at ih2'
            simp (disch := first | assumption | omega | decide) only [gB, I_all, zK_v, zK_n, true_and, and_true, Nat.reduceAdd, Nat.reduceMul, Nat.reduceSub, z_lt, z_le, z_neq, not_false_eq_true, or_true, true_or, or_false, false_or, false_and, and_false, gX7_aboardOf, F, R, K, r1, eo, e7_seatAt, q3]
            exact ih2'
          · rw [if_neg c, Nat.add_zero] at ih2'
            simp (disch := first | assumption | omega | decide) only [gB, I_all, zK_v, zK_n, true_and, and_true, Nat.reduceAdd, Nat.reduceMul, Nat.reduceSub, z_lt, z_le, z_neq, not_false_eq_true, or_true, true_or, or_false, false_or, false_and, and_false, gX7_aboardOf, F, R, K, r1, eo, e7_seatAt, q3, Nat.add_zero]
            exact ih2'
      have := li l.length 0 (by omega)
      rw [List.take_zero, show cntF [] f = 0 from rfl, Nat.add_zero] at this
      simp (disch := first | assumption | omega | decide) only [gB, I_all, zK_v, zK_n, true_and, and_true, Nat.reduceAdd, Nat.reduceMul, Nat.reduceSub, z_lt, z_le, z_neq, not_false_eq_true, or_true, true_or, or_false, false_or, false_and, and_false, gX7_aboardOf_h]
      simp (disch := first | assumption | omega | decide) only [gB, I_all, zK_v, zK_n, true_and, and_true, Nat.reduceAdd, Nat.reduceMul, Nat.reduceSub, z_lt, z_le, z_neq, not_false_eq_true, or_true, true_or, or_false, false_or, false_and, and_false, gX7_aboardOf, F, R, K, e1]
      exact this
  have := lp (plN (yP Y) 1) 0 none (by omega)
  rw [show abO (yS Y) f 0 = 0 from rfl] at this
  simp (disch := first | assumption | omega | decide) only [gB, I_all, zK_v, zK_n, true_and, and_true, Nat.reduceAdd, Nat.reduceMul, Nat.reduceSub, z_lt, z_le, z_neq, not_false_eq_true, or_true, true_or, or_false, false_or, false_and, and_false, gX7_aboardOf]
  exact this
def rFlN (Y : Sy) (f : Nat) : Nat → Int32
  | 0 => if f = plN (yP Y) 2 then Int32.ofInt (-2) else plT (yP Y) 9 f
  | 1 => if f = plN (yP Y) 2 then Int32.ofInt (-2) else plT (yP Y) 10 f
  | 2 => if f = plN (yP Y) 2 then Int32.ofInt (-2) else plT (yP Y) 11 f
  | 3 => if f = plN (yP Y) 2 then Int32.ofInt (-2) else plT (yP Y) 12 f
  | 4 => sN (yS Y) (79 + 5 * (if f = plN (yP Y) 2 then 16 else f) + 0)
  | 5 => sN (yS Y) (79 + 5 * (if f = plN (yP Y) 2 then 16 else f) + 1)
  | 6 => sN (yS Y) (79 + 5 * (if f = plN (yP Y) 2 then 16 else f) + 2)
  | 7 => sN (yS Y) (79 + 5 * (if f = plN (yP Y) 2 then 16 else f) + 3)
  | 8 => sN (yS Y) (79 + 5 * (if f = plN (yP Y) 2 then 16 else f) + 4)
  | 9 => Int32.ofNat (waO (yS Y) (if f = plN (yP Y) 2 then 16 else f) (plN (yP Y) 0))
  | _ => Int32.ofNat (abO (yS Y) (if f = plN (yP Y) 2 then 16 else f) (plN (yP Y) 1))
def rFl (Y : Sy) (f x : Int32) : Int32 := if btw f 0 (plN (yP Y) 2) ∧ btw x 0 10 then rFlN Y f.toNatClampNeg x.toNatClampNeg else Int32.ofInt (-1)
theorem accountX {f c : Nat} (S : TSh κ h b) (hi : 79 + 5 * f + c < 3614) : Ev κ mX7_account [.ref b, .int (Int32.ofNat f), .int (Int32.ofNat c)] (hX h b 33 W SM) Q = Q (.inl (some (.int (W 13 (79 + 5 * f + c))))) (hX h b 33 W SM) := by
  have F := xF S
  have R := xR S
  have K := xK S
  simp (disch := first | assumption | omega | decide) only [gB, I_all, zK_v, zK_n, true_and, and_true, Nat.reduceAdd, Nat.reduceMul, Nat.reduceSub, z_lt, z_le, z_neq, not_false_eq_true, or_true, true_or, or_false, false_or, false_and, and_false, gX7_account, F, R, K]
theorem e7_flow {f x : Int32} (S : TSh κ h b) (T : TIn W SM Y) : Ev κ mX7_flow [.ref b, .int f, .int x] (hX h b 33 W SM) Q = Q (.inl (some (.int (rFl Y f x)))) (hX h b 33 W SM) := by
  have F := xF S
  have R := xR S
  have K := xK S
  have O := T.2.2.2.2.2.2
  have hnf := O.2.2.1
  have P := T.1
  have P3 := P.2.2.1
  unfold rFl
  by_cases c : ¬ btw f 0 (plN (yP Y) 2)
  · rw [if_neg (fun z => c z.1)]
    have ei := fun (h : zH) (Q : zQ) => e7_inN (κ := κ) (h := h) (Q := Q) (x := f) (l := 0) (u := plN (yP Y) 2) (by decide) (by omega) c
    simp (disch := first | assumption | omega | decide) only [gB, I_all, zK_v, zK_n, true_and, and_true, Nat.reduceAdd, Nat.reduceMul, Nat.reduceSub, z_lt, z_le, z_neq, not_false_eq_true, or_true, true_or, or_false, false_or, false_and, and_false, gX7_flow, F, R, K, P3, I_64, ei]
  replace c := Decidable.of_not_not c
  have e1 := fun (h : zH) (Q : zQ) => e7_inY (κ := κ) (h := h) (Q := Q) (x := f) (l := 0) (u := plN (yP Y) 2) (by decide) (by omega) c
  by_cases c2 : ¬ btw x 0 10
  · rw [if_neg (fun z => c2 z.2)]
    have ei := fun (h : zH) (Q : zQ) => e7_inN (κ := κ) (h := h) (Q := Q) (x := x) (l := 0) (u := 10) (by decide) (by decide) c2
    simp (disch := first | assumption | omega | decide) only [gB, I_all, zK_v, zK_n, true_and, and_true, Nat.reduceAdd, Nat.reduceMul, Nat.reduceSub, z_lt, z_le, z_neq, not_false_eq_true, or_true, true_or, or_false, false_or, false_and, and_false, gX7_flow, F, R, K, P3, I_64, e1, ei]
  replace c2 := Decidable.of_not_not c2
  have e2 := fun (h : zH) (Q : zQ) => e7_inY (κ := κ) (h := h) (Q := Q) (x := x) (l := 0) (u := 10) (by decide) (by decide) c2
  rw [if_pos ⟨c, c2⟩]
  obtain ⟨m, hf, -, hm, -⟩ := btw_nat c
  obtain ⟨n, hx, -, hn, -⟩ := btw_nat c2
  subst hf; subst hx
  rw [I_64 (by omega)] at e1
  have e2' := e2
  rw [I_64 (by omega)] at e2'
  rw [I_nat (by omega), I_nat (by omega)]
  have p9 : ∀ j, j < plN (yP Y) 2 → W 9 j = plT (yP Y) 9 j := P.2.2.2.2.2.2.2.2 9 (by decide)
  have p10 : ∀ j, j < plN (yP Y) 2 → W 10 j = plT (yP Y) 10 j := P.2.2.2.2.2.2.2.2 10 (by decide)
  have p11 : ∀ j, j < plN (yP Y) 2 → W 11 j = plT (yP Y) 11 j := P.2.2.2.2.2.2.2.2 11 (by decide)
  have p12 : ∀ j, j < plN (yP Y) 2 → W 12 j = plT (yP Y) 12 j := P.2.2.2.2.2.2.2.2 12 (by decide)
  have wN : ∀ f c, f < 17 → c < 5 → W 13 (79 + 5 * f + c) = sN (yS Y) (79 + 5 * f + c) := fun f c h1 h2 => T.2.1.1.1 _ (by unfold nat1; omega)
  have wM : ∀ j, 79 ≤ j → j < 164 → W 13 j = sN (yS Y) j := fun j h1 h2 => T.2.1.1.1 _ (by unfold nat1; omega)
  have ea := fun (f c : Nat) (h1 : f < 17) (h2 : c < 5) (Q : zQ) => accountX (κ := κ) (W := W) (SM := SM) (Q := Q) (f := f) (c := c) S (by omega)
  have ew := fun (f : Nat) (h1 : f < 17) (Q : zQ) => e7_waitingOf (κ := κ) (Q := Q) (f := f) S T h1
  have eb := fun (f : Nat) (h1 : f < 17) (Q : zQ) => e7_aboardOf (κ := κ) (Q := Q) (f := f) S T h1
  have hc : n = 0 ∨ n = 1 ∨ n = 2 ∨ n = 3 ∨ n = 4 ∨ n = 5 ∨ n = 6 ∨ n = 7 ∨ n = 8 ∨ n = 9 ∨ n = 10 := by omega
  by_cases cf : m = plN (yP Y) 2
  · rcases hc with rfl | rfl | rfl | rfl | rfl | rfl | rfl | rfl | rfl | rfl | rfl <;> simp only [rFlN, if_pos cf] <;> simp (disch := first | assumption | omega | decide) only [gB, I_all, zK_v, zK_n, true_and, and_true, Nat.reduceAdd, Nat.reduceMul, Nat.reduceSub, z_lt, z_le, z_neq, not_false_eq_true, or_true, true_or, or_false, false_or, false_and, and_false, gX7_flow, F, R, K, P3, I_64, e1, e2', I_sub, ea, ew, eb, wN, wM]
  · have mlt : m < plN (yP Y) 2 := by omega
    rcases hc with rfl | rfl | rfl | rfl | rfl | rfl | rfl | rfl | rfl | rfl | rfl <;> simp only [rFlN, if_neg cf] <;> simp (disch := first | assumption | omega | decide) only [gB, I_all, zK_v, zK_n, true_and, and_true, Nat.reduceAdd, Nat.reduceMul, Nat.reduceSub, z_lt, z_le, z_neq, not_false_eq_true, or_true, true_or, or_false, false_or, false_and, and_false, gX7_flow, gX7_toldOf, F, R, K, P3, I_64, e1, e2', I_sub, ea, ew, eb, wN, p9, p10, p11, p12]
end
