/-! the twin: gaps, whom a flow has brought -/
section
variable {κ : zC} {h : zH} {b : Nat} {W : Nat → Nat → Int32} {SM : Nat → Nat → Int64} {Q : zQ} {Y : Sy} {π : Pl}
def ahB : Option Nat → Int32
  | none => Int32.ofInt (-2)
  | some k => Int32.ofNat k
theorem ahF_lt (π : Pl) (σ : Sg) (b : Nat) : ∀ k g, (ahF π σ b k).1 = some g → g < k := by
  intro k
  induction k with
  | zero => intro g h; cases h
  | succ k ih =>
    intro g h
    unfold ahF at h
    dsimp only at h
    split at h
    · have := ih g h; omega
    · split at h
      · cases h; omega
      · have := ih g h; omega
theorem e7_ahead {x : Int32} {p : Bool} (S : TSh κ h b) (T : TIn W SM Y) : Ev κ mX7_ahead [.ref b, .int x, .int (boI p)] (hX h b 33 W SM) Q = Q (.inl (some (.int (rAh Y x p)))) (hX h b 33 W SM) := by
  have F := xF S
  have R := xR S
  have K := xK S
  have O := T.2.2.2.2.2.2
  have hns := O.1
  have hnb := O.2.1
  have P2 := T.1.2.1
  have OK := T.2.1.2
  unfold rAh
  by_cases c : ¬ btw x 0 (plN (yP Y) 1 - 1)
  · rw [if_neg c]
    have ei := fun (Q : zQ) => e7_isBusN (κ := κ) (W := W) (SM := SM) (Q := Q) S T.1 O c
    simp (disch := first | assumption | omega | decide) only [gB, I_all, zK_v, zK_n, true_and, and_true, Nat.reduceAdd, Nat.reduceMul, Nat.reduceSub, z_lt, z_le, z_neq, not_false_eq_true, or_true, true_or, or_false, false_or, false_and, and_false, gX7_ahead, F, R, K, ei]
  replace c := Decidable.of_not_not c
  have e1 := fun (Q : zQ) => e7_isBusY (κ := κ) (W := W) (SM := SM) (Q := Q) S T.1 O c
  rw [if_pos c]
  obtain ⟨m, hs, -, hm, -⟩ := btw_nat c
  subst hs
  rw [I_nat (by omega)]
  have hm6 : m < 6 := by omega
  obtain ⟨st, s, h4, hs, q0, q1⟩ := bst OK (by omega : m < plN (yP Y) 1) hm6
  have eI0 : bI (yS Y) m 0 = st := bI_of (by omega) q0
  have eI1 : bI (yS Y) m 1 = s := bI_of (by omega) q1
  have w0 : W 13 (164 + 13 * m + 0) = Int32.ofNat st := ((T.2.1.1.2.2.2.1 m hm6).1 0 (by decide)).trans q0
  have w1 : W 13 (164 + 13 * m + 1) = Int32.ofNat s := ((T.2.1.1.2.2.2.1 m hm6).1 1 (by decide)).trans q1
  have eo := fun (k c : Nat) (hk : k < 6) (hc : c < 13) (Q : zQ) => ofX (κ := κ) (W := W) (SM := SM) (Q := Q) (k := k) (c := c) S (by omega)
  have ew := fun (s to : Nat) (h1 : s < plN (yP Y) 0) (h2 : to < plN (yP Y) 0) (Q : zQ) => wayX (κ := κ) (W := W) (SM := SM) (Q := Q) (s := s) (to := to) S T.1 O h1 h2
  rw [eI0]
  dsimp only
  -- the end
  have fin : ∀ (q : Option Nat × Int32) (a5 a6 : Option Value), (∀ g, q.1 = some g → g < 6) → Go κ mX7_ahead 99 [some (.ref b), some (.int (Int32.ofNat m)), some (.int (boI p)), some (.int (ahB q.1)), some (.int q.2), a5, a6] [] (hX h b 33 W SM) Q =
      Q (.inl (some (.int (match q.1 with
        | none => Int32.ofInt (-2)
        | some k => if p = true then Int32.ofNat k else q.2)))) (hX h b 33 W SM) := by
    intro q a5 a6 hq
    obtain ⟨q1, q2⟩ := q
    cases q1 with
    | none =>
      have e : ahB none = Int32.ofInt (-2) := rfl
      dsimp only
      simp (disch := first | assumption | omega | decide) only [gB, I_all, zK_v, zK_n, true_and, and_true, Nat.reduceAdd, Nat.reduceMul, Nat.reduceSub, z_lt, z_le, z_neq, not_false_eq_true, or_true, true_or, or_false, false_or, false_and, and_false, gX7_ahead, e]
    | some g =>
      have e : ahB (some g) = Int32.ofNat g := rfl
      have hg := hq g rfl
      cases p with
      | true =>
        have hp : boI true = Int32.ofNat 1 := rfl
        dsimp only
        simp (disch := first | assumption | omega | decide) only [gB, I_all, zK_v, zK_n, true_and, and_true, Nat.reduceAdd, Nat.reduceMul, Nat.reduceSub, z_lt, z_le, z_neq, not_false_eq_true, or_true, true_or, or_false, false_or, false_and, and_false, gX7_ahead, e, hp, if_true]
      | false =>
        have hp : boI false = Int32.ofNat 0 := rfl
        dsimp only
        rw [if_neg (by decide)]
        simp (disch := first | assumption | omega | decide) only [gB, I_all, zK_v, zK_n, true_and, and_true, Nat.reduceAdd, Nat.reduceMul, Nat.reduceSub, z_lt, z_le, z_neq, not_false_eq_true, or_true, true_or, or_false, false_or, false_and, and_false, gX7_ahead, e, hp]
  by_cases c0 : st = 0
  · rw [if_pos c0]
    have f := fin (none, Int32.ofNat 0) (some (.int (Int32.ofNat 0))) none (fun g hg => nomatch hg)
    have e : ahB none = Int32.ofInt (-2) := rfl
    dsimp only at f
    rw [e] at f
    have h1 : 0 < plN (yP Y) 1 := by omega
    rw [c0] at w0
    simp (disch := first | assumption | omega | decide) only [gB, I_all, zK_v, zK_n, true_and, and_true, Nat.reduceAdd, Nat.reduceMul, Nat.reduceSub, z_lt, z_le, z_neq, not_false_eq_true, or_true, true_or, or_false, false_or, false_and, and_false, gX7_ahead, gX7_ahead_h, F, R, K, e1, P2, eo, w0]
    try simp (disch := first | assumption | omega | decide) only [gB, I_all, zK_v, zK_n, true_and, and_true, Nat.reduceAdd, Nat.reduceMul, Nat.reduceSub, z_lt, z_le, z_neq, not_false_eq_true, or_true, true_or, or_false, false_or, false_and, and_false, gX7_ahead] at f
    try exact f
  · rw [if_neg c0]
    have lp : ∀ d k (a6 : Option Value), k + d = plN (yP Y) 1 → Go κ mX7_ahead 19 [some (.ref b), some (.int (Int32.ofNat m)), some (.int (boI p)), some (.int (ahB (ahF (yP Y) (yS Y) m k).1)), some (.int (ahF (yP Y) (yS Y) m k).2), some (.int (Int32.ofNat k)), a6] [] (hX h b 33 W SM) Q =
        Q (.inl (some (.int (match (ahF (yP Y) (yS Y) m (plN (yP Y) 1)).1 with
          | none => Int32.ofInt (-2)
          | some k => if p = true then Int32.ofNat k else (ahF (yP Y) (yS Y) m (plN (yP Y) 1)).2)))) (hX h b 33 W SM) := by
      intro d
      induction d with
      | zero =>
        intro k a6 hk
        have hk' : k = plN (yP Y) 1 := by omega
        have f := fin (ahF (yP Y) (yS Y) m k) (some (.int (Int32.ofNat k))) a6 (fun g hg => by have := ahF_lt _ _ _ _ _ hg; omega)
        rw [← hk', ← f]
        conv => lhs; simp (disch := first | assumption | omega | decide) only [gB, I_all, zK_v, zK_n, true_and, and_true, Nat.reduceAdd, Nat.reduceMul, Nat.reduceSub, z_lt, z_le, z_neq, not_false_eq_true, or_true, true_or, or_false, false_or, false_and, and_false, gX7_ahead_h]
        have P2' : W 0 76 = Int32.ofNat k := by rw [P2, hk']
        simp (disch := first | assumption | omega | decide) only [gB, I_all, zK_v, zK_n, true_and, and_true, Nat.reduceAdd, Nat.reduceMul, Nat.reduceSub, z_lt, z_le, z_neq, not_false_eq_true, or_true, true_or, or_false, false_or, false_and, and_false, gX7_ahead, F, R, K, P2']
      | succ d ih =>
        intro k a6 hk
        have hk1 : k < plN (yP Y) 1 := by omega
        have hk6 : k < 6 := by omega
        have ih' := fun a6 => ih (k + 1) a6 (by omega)
        obtain ⟨st2, s2, h42, hs2, u0, u1⟩ := bst OK hk1 hk6
        have fI0 : bI (yS Y) k 0 = st2 := bI_of (by omega) u0
        have fI1 : bI (yS Y) k 1 = s2 := bI_of (by omega) u1
        have v0 : W 13 (164 + 13 * k + 0) = Int32.ofNat st2 := ((T.2.1.1.2.2.2.1 k hk6).1 0 (by decide)).trans u0
        have v1 : W 13 (164 + 13 * k + 1) = Int32.ofNat s2 := ((T.2.1.1.2.2.2.1 k hk6).1 1 (by decide)).trans u1
        have ex : ahF (yP Y) (yS Y) m (k + 1) = if k = m ∨ st2 = 0 then ahF (yP Y) (yS Y) m k else if (ahF (yP Y) (yS Y) m k).1 = none ∨ way (yP Y) s s2 < (ahF (yP Y) (yS Y) m k).2 then (some k, way (yP Y) s s2) else ahF (yP Y) (yS Y) m k := by
          conv => lhs; unfold ahF
          simp only [fI0, fI1, eI1]
        have hlt := fun g => ahF_lt (yP Y) (yS Y) m k g
        rw [ex] at ih'
        generalize hq : ahF (yP Y) (yS Y) m k = q at *
        obtain ⟨qa, qb⟩ := q
        dsimp only at ih' hlt ⊢
        simp (disch := first | assumption | omega | decide) only [gB, I_all, zK_v, zK_n, true_and, and_true, Nat.reduceAdd, Nat.reduceMul, Nat.reduceSub, z_lt, z_le, z_neq, not_false_eq_true, or_true, true_or, or_false, false_or, false_and, and_false, gX7_ahead_h]
        by_cases c1 : k = m
        · rw [if_pos (Or.inl c1)] at ih'
          simp (disch := first | assumption | omega | decide) only [gB, I_all, zK_v, zK_n, true_and, and_true, Nat.reduceAdd, Nat.reduceMul, Nat.reduceSub, z_lt, z_le, z_neq, not_false_eq_true, or_true, true_or, or_false, false_or, false_and, and_false, gX7_ahead, F, R, K, P2, eo, w0]
          exact ih' _
        by_cases c2 : st2 = 0
        · rw [if_pos (Or.inr c2)] at ih'
          simp (disch := first | assumption | omega | decide) only [gB, I_all, zK_v, zK_n, true_and, and_true, Nat.reduceAdd, Nat.reduceMul, Nat.reduceSub, z_lt, z_le, z_neq, not_false_eq_true, or_true, true_or, or_false, false_or, false_and, and_false, gX7_ahead, F, R, K, P2, eo, w0, v0]
          exact ih' _
        rw [if_neg (fun z => z.elim c1 c2)] at ih'
        cases qa with
        | none =>
          rw [if_pos (Or.inl rfl)] at ih'
          have e : ahB none = Int32.ofInt (-2) := rfl
          have e' : ahB (some k) = Int32.ofNat k := rfl
          dsimp only at ih'
          rw [e'] at ih'
          simp (disch := first | assumption | omega | decide) only [gB, I_all, zK_v, zK_n, true_and, and_true, Nat.reduceAdd, Nat.reduceMul, Nat.reduceSub, z_lt, z_le, z_neq, not_false_eq_true, or_true, true_or, or_false, false_or, false_and, and_false, gX7_ahead, F, R, K, P2, eo, w0, w1, v0, v1, ew, e]
          exact ih' _
        | some g =>
          have hg := hlt g rfl
          have e : ahB (some g) = Int32.ofNat g := rfl
          have e' : ahB (some k) = Int32.ofNat k := rfl
          by_cases c3 : way (yP Y) s s2 < qb
          · have c3' : ¬ qb ≤ way (yP Y) s s2 := Int32.not_le.mpr c3
            rw [if_pos (Or.inr c3)] at ih'
            dsimp only at ih'
            rw [e'] at ih'
            simp (disch := first | assumption | omega | decide) only [gB, I_all, zK_v, zK_n, true_and, and_true, Nat.reduceAdd, Nat.reduceMul, Nat.reduceSub, z_lt, z_le, z_neq, not_false_eq_true, or_true, true_or, or_false, false_or, false_and, and_false, gX7_ahead, F, R, K, P2, eo, w0, w1, v0, v1, ew, e]
            exact ih' _
          · have c3' : qb ≤ way (yP Y) s s2 := Int32.not_lt.mp c3
            rw [if_neg (fun z => z.elim (fun y => nomatch y) c3)] at ih'
            dsimp only at ih'
            rw [e] at ih'
            simp (disch := first | assumption | omega | decide) only [gB, I_all, zK_v, zK_n, true_and, and_true, Nat.reduceAdd, Nat.reduceMul, Nat.reduceSub, z_lt, z_le, z_neq, not_false_eq_true, or_true, true_or, or_false, false_or, false_and, and_false, gX7_ahead, F, R, K, P2, eo, w0, w1, v0, v1, ew, e]
            exact ih' _
    have := lp (plN (yP Y) 1) 0 none (by omega)
    have e : ahB (ahF (yP Y) (yS Y) m 0).1 = Int32.ofInt (-2) := rfl
    have e' : (ahF (yP Y) (yS Y) m 0).2 = Int32.ofNat 0 := rfl
    rw [e, e'] at this
    simp (disch := first | assumption | omega | decide) only [gB, I_all, zK_v, zK_n, true_and, and_true, Nat.reduceAdd, Nat.reduceMul, Nat.reduceSub, z_lt, z_le, z_neq, not_false_eq_true, or_true, true_or, or_false, false_or, false_and, and_false, gX7_ahead, F, R, K, e1]
    exact this
theorem e7_spread {x : Int32} (S : TSh κ h b) (T : TIn W SM Y) : Ev κ mX7_spread [.ref b, .int x] (hX h b 33 W SM) Q = Q (.inl (some (.int (rSp Y x)))) (hX h b 33 W SM) := by
  have F := xF S
  have R := xR S
  have K := xK S
  have O := T.2.2.2.2.2.2
  have hns := O.1
  unfold rSp
  by_cases c : ¬ btw x 0 (plN (yP Y) 0 - 1)
  · rw [if_neg c]
    have ei := fun (Q : zQ) => e7_isStopN (κ := κ) (W := W) (SM := SM) (Q := Q) S T.1 O c
    simp (disch := first | assumption | omega | decide) only [gB, I_all, zK_v, zK_n, true_and, and_true, Nat.reduceAdd, Nat.reduceMul, Nat.reduceSub, z_lt, z_le, z_neq, not_false_eq_true, or_true, true_or, or_false, false_or, false_and, and_false, gX7_spread, F, R, K, ei]
  replace c := Decidable.of_not_not c
  have e1 := fun (Q : zQ) => e7_isStopY (κ := κ) (W := W) (SM := SM) (Q := Q) S T.1 O c
  rw [if_pos c]
  obtain ⟨m, hs, -, hm, -⟩ := btw_nat c
  subst hs
  rw [I_nat (by omega)]
  obtain ⟨r1, r2⟩ := T.2.1.1.2.2.1 m (by omega)
  obtain ⟨o1, o2⟩ := T.2.1.2.2.1 m (by omega)
  generalize sL (yS Y) m = l at *
  dsimp only
  have lp : ∀ d k (a5 : Option Value), k + d = l.length → Go κ mX7_spread 19 [some (.ref b), some (.int (Int32.ofNat m)), some (.int (spF l k).1), some (.int (spF l k).2), some (.int (Int32.ofNat k)), a5] [] (hX h b 33 W SM) Q =
      Q (.inl (some (.int (if (spF l l.length).1 < Int32.ofNat 0 then Int32.ofInt (-2) else (spF l l.length).1 - (spF l l.length).2)))) (hX h b 33 W SM) := by
    intro d
    induction d with
    | zero =>
      intro k a5 hk
      have hk' : k = l.length := by omega
      rw [← hk']
      have r1' : W 13 (53 + m) = Int32.ofNat k := by rw [r1, hk']
      simp (disch := first | assumption | omega | decide) only [gB, I_all, zK_v, zK_n, true_and, and_true, Nat.reduceAdd, Nat.reduceMul, Nat.reduceSub, z_lt, z_le, z_neq, not_false_eq_true, or_true, true_or, or_false, false_or, false_and, and_false, gX7_spread_h]
      by_cases c1 : (spF l k).1 < Int32.ofNat 0
      · have c2 : ¬ Int32.ofNat 0 ≤ (spF l k).1 := Int32.not_le.mpr c1
        rw [if_pos c1]
        simp (disch := first | assumption | omega | decide) only [gB, I_all, zK_v, zK_n, true_and, and_true, Nat.reduceAdd, Nat.reduceMul, Nat.reduceSub, z_lt, z_le, z_neq, not_false_eq_true, or_true, true_or, or_false, false_or, false_and, and_false, gX7_spread, F, R, K, r1']
      · have c2 : Int32.ofNat 0 ≤ (spF l k).1 := Int32.not_lt.mp c1
        rw [if_neg c1]
        simp (disch := first | assumption | omega | decide) only [gB, I_all, zK_v, zK_n, true_and, and_true, Nat.reduceAdd, Nat.reduceMul, Nat.reduceSub, z_lt, z_le, z_neq, not_false_eq_true, or_true, true_or, or_false, false_or, false_and, and_false, gX7_spread, F, R, K, r1']
    | succ d ih =>
      intro k a5 hk
      have hk1 : k < l.length := by omega
      have ih' := fun a5 => ih (k + 1) a5 (by omega)
      have g1 : l[k]? = some l[k] := List.getElem?_eq_getElem hk1
      obtain ⟨q1, q2, q3⟩ := r2 k _ g1
      generalize l[k] = r at *
      have ex : spF l (k + 1) = if r.2.2 < Int32.ofNat 0 then spF l k else (if (spF l k).1 < r.2.2 then r.2.2 else (spF l k).1, if (spF l k).2 < Int32.ofNat 0 ∨ r.2.2 < (spF l k).2 then r.2.2 else (spF l k).2) := by
        conv => lhs; unfold spF
        simp only [g1]
      rw [ex] at ih'
      generalize spF l k = q at *
      obtain ⟨qa, qb⟩ := q
      dsimp only at ih' ⊢
      simp (disch := first | assumption | omega | decide) only [gB, I_all, zK_v, zK_n, true_and, and_true, Nat.reduceAdd, Nat.reduceMul, Nat.reduceSub, z_lt, z_le, z_neq, not_false_eq_true, or_true, true_or, or_false, false_or, false_and, and_false, gX7_spread_h]
      by_cases c1 : r.2.2 < Int32.ofNat 0
      · rw [if_pos c1] at ih'
        simp (disch := first | assumption | omega | decide) only [gB, I_all, zK_v, zK_n, true_and, and_true, Nat.reduceAdd, Nat.reduceMul, Nat.reduceSub, z_lt, z_le, z_neq, not_false_eq_true, or_true, true_or, or_false, false_or, false_and, and_false, gX7_spread, F, R, K, r1, e7_leavingAt, q3]
        exact ih' _
      rw [if_neg c1] at ih'
      by_cases c2 : qa < r.2.2
      · have c2' : ¬ r.2.2 ≤ qa := Int32.not_le.mpr c2
        by_cases c3 : qb < Int32.ofNat 0
        · simp only [if_pos c2, if_pos (Or.inl c3 : qb < Int32.ofNat 0 ∨ r.2.2 < qb)] at ih'
          simp (disch := first | assumption | omega | decide) only [gB, I_all, zK_v, zK_n, true_and, and_true, Nat.reduceAdd, Nat.reduceMul, Nat.reduceSub, z_lt, z_le, z_neq, not_false_eq_true, or_true, true_or, or_false, false_or, false_and, and_false, gX7_spread, F, R, K, r1, e7_leavingAt, q3]
          exact ih' _
        · by_cases c4 : r.2.2 < qb
          · have c4' : ¬ qb ≤ r.2.2 := Int32.not_le.mpr c4
            simp only [if_pos c2, if_pos (Or.inr c4 : qb < Int32.ofNat 0 ∨ r.2.2 < qb)] at ih'
            simp (disch := first | assumption | omega | decide) only [gB, I_all, zK_v, zK_n, true_and, and_true, Nat.reduceAdd, Nat.reduceMul, Nat.reduceSub, z_lt, z_le, z_neq, not_false_eq_true, or_true, true_or, or_false, false_or, false_and, and_false, gX7_spread, F, R, K, r1, e7_leavingAt, q3]
            exact ih' _
          · have c4' : qb ≤ r.2.2 := Int32.not_lt.mp c4
            simp only [if_pos c2, if_neg (fun z => z.elim c3 c4 : ¬ (qb < Int32.ofNat 0 ∨ r.2.2 < qb))] at ih'
            simp (disch := first | assumption | omega | decide) only [gB, I_all, zK_v, zK_n, true_and, and_true, Nat.reduceAdd, Nat.reduceMul, Nat.reduceSub, z_lt, z_le, z_neq, not_false_eq_true, or_true, true_or, or_false, false_or, false_and, and_false, gX7_spread, F, R, K, r1, e7_leavingAt, q3]
            exact ih' _
      · have c2' : r.2.2 ≤ qa := Int32.not_lt.mp c2
        by_cases c3 : qb < Int32.ofNat 0
        · simp only [if_neg c2, if_pos (Or.inl c3 : qb < Int32.ofNat 0 ∨ r.2.2 < qb)] at ih'
          simp (disch := first | assumption | omega | decide) only [gB, I_all, zK_v, zK_n, true_and, and_true, Nat.reduceAdd, Nat.reduceMul, Nat.reduceSub, z_lt, z_le, z_neq, not_false_eq_true, or_true, true_or, or_false, false_or, false_and, and_false, gX7_spread, F, R, K, r1, e7_leavingAt, q3]
          exact ih' _
        · by_cases c4 : r.2.2 < qb
          · have c4' : ¬ qb ≤ r.2.2 := Int32.not_le.mpr c4
            simp only [if_neg c2, if_pos (Or.inr c4 : qb < Int32.ofNat 0 ∨ r.2.2 < qb)] at ih'
            simp (disch := first | assumption | omega | decide) only [gB, I_all, zK_v, zK_n, true_and, and_true, Nat.reduceAdd, Nat.reduceMul, Nat.reduceSub, z_lt, z_le, z_neq, not_false_eq_true, or_true, true_or, or_false, false_or, false_and, and_false, gX7_spread, F, R, K, r1, e7_leavingAt, q3]
            exact ih' _
          · have c4' : qb ≤ r.2.2 := Int32.not_lt.mp c4
            simp only [if_neg c2, if_neg (fun z => z.elim c3 c4 : ¬ (qb < Int32.ofNat 0 ∨ r.2.2 < qb))] at ih'
            simp (disch := first | assumption | omega | decide) only [gB, I_all, zK_v, zK_n, true_and, and_true, Nat.reduceAdd, Nat.reduceMul, Nat.reduceSub, z_lt, z_le, z_neq, not_false_eq_true, or_true, true_or, or_false, false_or, false_and, and_false, gX7_spread, F, R, K, r1, e7_leavingAt, q3]
            exact ih' _
  have := lp l.length 0 none (by omega)
  have e : (spF l 0).1 = Int32.ofInt (-2) := rfl
  have e' : (spF l 0).2 = Int32.ofInt (-2) := rfl
  rw [e, e'] at this
  simp (disch := first | assumption | omega | decide) only [gB, I_all, zK_v, zK_n, true_and, and_true, Nat.reduceAdd, Nat.reduceMul, Nat.reduceSub, z_lt, z_le, z_neq, not_false_eq_true, or_true, true_or, or_false, false_or, false_and, and_false, gX7_spread, F, R, K, e1]
  exact this
theorem e7_comeBy {f t : Int32} (S : TSh κ h b) (T : TIn W SM Y) : Ev κ mX7_comeBy [.ref b, .int f, .int t] (hX h b 33 W SM) Q = Q (.inl (some (.int (rCb Y f t)))) (hX h b 33 W SM) := by
  have F := xF S
  have R := xR S
  have K := xK S
  have O := T.2.2.2.2.2.2
  have hnf := O.2.2.1
  have P := T.1
  have P3 := P.2.2.1
  unfold rCb
  by_cases cz : plN (yP Y) 2 = 0
  · rw [if_neg (fun z => by have := z.1.1; omega)]
    rw [cz] at P3
    have ei := fun (h : zH) (Q : zQ) => show Ev κ mX7_in [.long f.toInt64, .long (Int64.ofNat 0), .long (Int32.ofNat 0 - Int32.ofNat 1).toInt64] h Q = Q (.inl (some (.int (Int32.ofNat 0)))) h by
      rw [e7_in, if_neg]
      rintro ⟨a1, a2⟩
      rw [Int64.le_iff_toInt_le] at a1 a2
      have b1 : (Int64.ofNat 0).toInt = 0 := by decide
      have b2 : (Int32.ofNat 0 - Int32.ofNat 1).toInt64.toInt = -1 := by decide
      omega
    simp (disch := first | assumption | omega | decide) only [gB, I_all, zK_v, zK_n, true_and, and_true, Nat.reduceAdd, Nat.reduceMul, Nat.reduceSub, z_lt, z_le, z_neq, not_false_eq_true, or_true, true_or, or_false, false_or, false_and, and_false, gX7_comeBy, F, R, K, P3, ei]
  by_cases c : ¬ btw f 0 (plN (yP Y) 2 - 1)
  · rw [if_neg (fun z => c z.1.2)]
    have ei := fun (h : zH) (Q : zQ) => e7_inN (κ := κ) (h := h) (Q := Q) (x := f) (l := 0) (u := plN (yP Y) 2 - 1) (by decide) (by omega) c
    simp (disch := first | assumption | omega | decide) only [gB, I_all, zK_v, zK_n, true_and, and_true, Nat.reduceAdd, Nat.reduceMul, Nat.reduceSub, z_lt, z_le, z_neq, not_false_eq_true, or_true, true_or, or_false, false_or, false_and, and_false, gX7_comeBy, F, R, K, P3, I_sub, I_64, ei]
  replace c := Decidable.of_not_not c
  have e1 := fun (h : zH) (Q : zQ) => e7_inY (κ := κ) (h := h) (Q := Q) (x := f) (l := 0) (u := plN (yP Y) 2 - 1) (by decide) (by omega) c
  by_cases c2 : ¬ btw t 0 9999999
  · rw [if_neg (fun z => c2 z.2)]
    have ei := fun (h : zH) (Q : zQ) => e7_inN (κ := κ) (h := h) (Q := Q) (x := t) (l := 0) (u := 9999999) (by decide) (by decide) c2
    simp (disch := first | assumption | omega | decide) only [gB, I_all, zK_v, zK_n, true_and, and_true, Nat.reduceAdd, Nat.reduceMul, Nat.reduceSub, z_lt, z_le, z_neq, not_false_eq_true, or_true, true_or, or_false, false_or, false_and, and_false, gX7_comeBy, F, R, K, P3, I_sub, I_64, e1, ei]
  replace c2 := Decidable.of_not_not c2
  have e2 := fun (h : zH) (Q : zQ) => e7_inY (κ := κ) (h := h) (Q := Q) (x := t) (l := 0) (u := 9999999) (by decide) (by decide) c2
  rw [if_pos ⟨⟨by omega, c⟩, c2⟩]
  obtain ⟨m, hf, -, hm, -⟩ := btw_nat c
  subst hf
  rw [I_64 (by omega)] at e1
  rw [I_nat (by omega)]
  have mlt : m < plN (yP Y) 2 := by omega
  have p11 : ∀ j, j < plN (yP Y) 2 → W 11 j = plT (yP Y) 11 j := P.2.2.2.2.2.2.2.2 11 (by decide)
  have p12 : ∀ j, j < plN (yP Y) 2 → W 12 j = plT (yP Y) 12 j := P.2.2.2.2.2.2.2.2 12 (by decide)
  have pe : ¬ plT (yP Y) 11 m = Int32.ofNat 0 := by
    have := (O.2.2.2.1 m mlt).2.2.2.2.1
    intro e
    rw [e] at this
    have z : (Int32.ofNat 0).toInt = 0 := by decide
    omega
  by_cases c3 : t < plT (yP Y) 12 m
  · have c3' : ¬ plT (yP Y) 12 m ≤ t := Int32.not_le.mpr c3
    rw [if_pos c3]
    simp (disch := first | assumption | omega | decide) only [gB, I_all, zK_v, zK_n, true_and, and_true, Nat.reduceAdd, Nat.reduceMul, Nat.reduceSub, z_lt, z_le, z_neq, not_false_eq_true, or_true, true_or, or_false, false_or, false_and, and_false, gX7_comeBy, F, R, K, P3, I_sub, I_64, e1, e2, p11, p12]
  · have c3' : plT (yP Y) 12 m ≤ t := Int32.not_lt.mp c3
    rw [if_neg c3]
    simp (disch := first | assumption | omega | decide) only [gB, I_all, zK_v, zK_n, true_and, and_true, Nat.reduceAdd, Nat.reduceMul, Nat.reduceSub, z_lt, z_le, z_neq, not_false_eq_true, or_true, true_or, or_false, false_or, false_and, and_false, gX7_comeBy, F, R, K, P3, I_sub, I_64, e1, e2, p11, p12]
    simp only [pe, not_false_eq_true, true_and]
end
