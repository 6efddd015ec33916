/-! the twin: reading all -/
def rdSs (tp : List Int32) : Nat → Nat × List Sto → Except Nat (Nat × List Sto)
  | 0, q => .ok q
  | f + 1, q => if isK tp q.1 8 = true then (rdSt tp q.2 q.1).bind fun p => rdSs tp f (p.1, q.2 ++ [p.2]) else .ok q
def rdBs (tp : List Int32) : Nat → Nat × List Bup → Except Nat (Nat × List Bup)
  | 0, q => .ok q
  | f + 1, q => if isK tp q.1 12 = true then (rdBu tp q.2 q.1).bind fun p => rdBs tp f (p.1, q.2 ++ [p.2]) else .ok q
def rdFs (tp : List Int32) (S : List Sto) : Nat → Nat × List Flo → Except Nat (Nat × List Flo)
  | 0, q => .ok q
  | f + 1, q => if tkK tp q.1 = 0 then .ok q else (rdFl tp S q.2 q.1).bind fun p => rdFs tp S f (p.1, q.2 ++ [p.2])
abbrev Pz : Type := List Sto × List Bup × List Flo
def stS (tp : List Int32) (q : Nat × List Sto) : Except Nat (Nat × List Sto) := (rdSt tp q.2 q.1).bind fun p => .ok (p.1, q.2 ++ [p.2])
def buS (tp : List Int32) (q : Nat × List Bup) : Except Nat (Nat × List Bup) := (rdBu tp q.2 q.1).bind fun p => .ok (p.1, q.2 ++ [p.2])
/-- a tape read as a setup: its stops, buses, flows (its numbers: nuV) -/
def pzS (tp : List Int32) : Except Nat (Nat × List Sto) := ((((rdN tp 0).bind fun i => .ok (i, [])).bind (stS tp)).bind (stS tp)).bind (rdSs tp 20)
def pzB (tp : List Int32) : Except Nat (Nat × List Bup) := (((pzS tp).bind fun q => .ok (q.1, [])).bind (buS tp)).bind (rdBs tp 20)
def pzL (tp : List Int32) : List Sto := match pzS tp with
  | .ok q => q.2
  | .error _ => []
def pzM (tp : List Int32) : List Bup := match pzB tp with
  | .ok q => q.2
  | .error _ => []
def pzF (tp : List Int32) : Except Nat (Nat × List Flo) := ((pzB tp).bind fun q => .ok (q.1, [])).bind (rdFs tp (pzL tp) 20)
/-- stops, buses, flows -/
def pz (tp : List Int32) : Except Nat (Nat × Pz) := (pzF tp).bind fun q => .ok (q.1, pzL tp, pzM tp, q.2)
/-- what reading all leaves alone -/
def PzA (W W' : Nat → Nat → Int32) (SM SM' : Nat → Nat → Int64) : Prop := (∀ k j, ¬ (k = 0 ∧ (j = 74 ∨ 104 ≤ j ∧ j ≤ 113)) → k < 22 → W' k j = W k j) ∧ (∀ k j, ¬ (k = 0 ∧ j = 107) → SM' k j = SM k j)
theorem PzA.trans {W W' W'' : Nat → Nat → Int32} {SM SM' SM'' : Nat → Nat → Int64} (h : PzA W W' SM SM') (g : PzA W' W'' SM' SM'') : PzA W W'' SM SM'' := ⟨fun k j hk hk2 => (g.1 k j hk hk2).trans (h.1 k j hk hk2), fun k j hk => (g.2 k j hk).trans (h.2 k j hk)⟩
theorem PzA.rfl {W : Nat → Nat → Int32} {SM : Nat → Nat → Int64} : PzA W W SM SM := ⟨fun _ _ _ _ => Eq.refl _, fun _ _ _ => Eq.refl _⟩
theorem PzV.a {W W' : Nat → Nat → Int32} {SM SM' : Nat → Nat → Int64} (h : PzV W W' SM SM') : PzA W W' SM SM' := ⟨fun k j h1 _ => h.1 k j (by unfold rdD; omega), h.2⟩
theorem PzN.a {W W' : Nat → Nat → Int32} {SM SM' : Nat → Nat → Int64} (h : PzN W W' SM SM') : PzA W W' SM SM' := ⟨fun k j h1 h2 => h.1 k j (by unfold rdD; omega) (by omega), h.2⟩
theorem PzT.a {W W' : Nat → Nat → Int32} {SM SM' : Nat → Nat → Int64} (h : PzT W W' SM SM') : PzA W W' SM SM' := ⟨fun k j h1 h2 => h.1 k j (by unfold rdD; omega) (by omega) (by omega), h.2⟩
theorem PzB.a {W W' : Nat → Nat → Int32} {SM SM' : Nat → Nat → Int64} (h : PzB W W' SM SM') : PzA W W' SM SM' := ⟨fun k j h1 h2 => h.1 k j (by unfold rdD; omega) (by omega) (by omega), h.2⟩
theorem PzF.a {W W' : Nat → Nat → Int32} {SM SM' : Nat → Nat → Int64} (h : PzF W W' SM SM') : PzA W W' SM SM' := ⟨fun k j h1 h2 => h.1 k j (by unfold rdD; omega) (by omega) (by omega), h.2⟩
theorem TTp.ra {W W' : Nat → Nat → Int32} {SM SM' : Nat → Nat → Int64} {tp : List Int32} (T : TTp W tp) (U : PzA W W' SM SM') : TTp W' tp := T.cg (U.1 _ _ (by omega) (by decide)) (fun j => U.1 _ _ (by omega) (by decide))
theorem ePos_ok {α : Type} {e : Except Nat (Nat × α)} {i : Nat} (h : ePos e = .ok i) : ∃ a, e = .ok (i, a) := by
  cases e with
  | error x => cases h
  | ok q =>
    obtain ⟨j, a⟩ := q
    cases h
    exact ⟨a, rfl⟩
theorem ePos_o {α : Type} (q : Nat × α) : ePos (.ok q) = .ok q.1 := rfl
theorem ePos_r {α : Type} (e : Nat) : ePos (.error e : Except Nat (Nat × α)) = .error e := rfl
section
variable {κ : zC} {h : zH} {b : Nat} {W : Nat → Nat → Int32} {SM : Nat → Nat → Int64} {Q : zQ} {tp : List Int32}
theorem e7_stopsL (S : TSh κ h b) :
    ∀ (f : Nat) (W : Nat → Nat → Int32) (SM : Nat → Nat → Int64) (R : Except Nat (Nat × List Sto)) (n : Nat), TTp W tp → PzS W SM tp (ePos R) → W 0 111 = Int32.ofNat n → n ≤ 10 → (∀ q, R = .ok q → AcS W q.2 ∧ q.2.length = n ∧ 11 - n ≤ f) →
      (∀ W' SM' n', PzT W W' SM SM' → PzS W' SM' tp (ePos (R.bind (rdSs tp f))) → W' 0 111 = Int32.ofNat n' → n' ≤ 10 → (∀ q, R.bind (rdSs tp f) = .ok q → AcS W' q.2 ∧ q.2.length = n') → Go κ mX7_readAll 33 [some (.ref b)] [] (hX h b 33 W' SM') Q) →
      Go κ mX7_readAll 16 [some (.ref b)] [] (hX h b 33 W SM) Q := by
  have F := xF S
  have R' := xR S
  intro f
  induction f with
  | zero =>
    intro W SM R n T P hn hn10 A hq
    have ew := fun (Q : zQ) => e7_isWord (κ := κ) (Q := Q) (j := 8) (w := Int64.ofNat 643568) S P rfl
    have hw : isWd tp (ePos R) 8 = false := by
      cases R with
      | error e => rfl
      | ok q =>
        have := (A q rfl).2.2
        omega
    rw [hw, show boI false = Int32.ofNat 0 from rfl] at ew
    have e0 : R.bind (rdSs tp 0) = R := by cases R <;> rfl
    rw [e0] at hq
    have f := hq W SM n ⟨fun _ _ _ _ _ => rfl, fun _ _ _ => rfl⟩ P hn hn10 fun q hq' => ⟨(A q hq').1, (A q hq').2.1⟩
    simp (disch := first | assumption | omega | decide) only [gB, I_all, zK_v, zK_n, true_and, and_true, Nat.reduceAdd, Nat.reduceMul, Nat.reduceSub, z_lt, z_le, z_neq, not_false_eq_true, or_true, true_or, or_false, false_or, false_and, and_false, gX7_readAll_h.1]
    simp (disch := first | assumption | omega | decide) only [gB, I_all, zK_v, zK_n, true_and, and_true, Nat.reduceAdd, Nat.reduceMul, Nat.reduceSub, z_lt, z_le, z_neq, not_false_eq_true, or_true, true_or, or_false, false_or, false_and, and_false, gX7_readAll, F, R', ew]
    simp (disch := first | assumption | omega | decide) only [gB, I_all, zK_v, zK_n, true_and, and_true, Nat.reduceAdd, Nat.reduceMul, Nat.reduceSub, z_lt, z_le, z_neq, not_false_eq_true, or_true, true_or, or_false, false_or, false_and, and_false, gX7_readAll, F, R'] at f
    exact f
  | succ f ih =>
    intro W SM R n T P hn hn10 A hq
    have ew := fun (Q : zQ) => e7_isWord (κ := κ) (Q := Q) (j := 8) (w := Int64.ofNat 643568) S P rfl
    cases hw : isWd tp (ePos R) 8 with
    | false =>
      rw [hw, show boI false = Int32.ofNat 0 from rfl] at ew
      have e0 : R.bind (rdSs tp (f + 1)) = R := by
        cases R with
        | error e => rfl
        | ok q =>
          rw [bd_ok]
          rw [ePos_o, isWd_ok] at hw
          unfold rdSs
          rw [if_neg (by rw [hw]; decide)]
      rw [e0] at hq
      have f := hq W SM n ⟨fun _ _ _ _ _ => rfl, fun _ _ _ => rfl⟩ P hn hn10 fun q hq' => ⟨(A q hq').1, (A q hq').2.1⟩
      simp (disch := first | assumption | omega | decide) only [gB, I_all, zK_v, zK_n, true_and, and_true, Nat.reduceAdd, Nat.reduceMul, Nat.reduceSub, z_lt, z_le, z_neq, not_false_eq_true, or_true, true_or, or_false, false_or, false_and, and_false, gX7_readAll_h.1]
      simp (disch := first | assumption | omega | decide) only [gB, I_all, zK_v, zK_n, true_and, and_true, Nat.reduceAdd, Nat.reduceMul, Nat.reduceSub, z_lt, z_le, z_neq, not_false_eq_true, or_true, true_or, or_false, false_or, false_and, and_false, gX7_readAll, F, R', ew]
      simp (disch := first | assumption | omega | decide) only [gB, I_all, zK_v, zK_n, true_and, and_true, Nat.reduceAdd, Nat.reduceMul, Nat.reduceSub, z_lt, z_le, z_neq, not_false_eq_true, or_true, true_or, or_false, false_or, false_and, and_false, gX7_readAll, F, R'] at f
      exact f
    | true =>
      rw [hw, show boI true = Int32.ofNat 1 from rfl] at ew
      obtain ⟨q, hR⟩ : ∃ q, R = .ok q := by
        cases R with
        | error e => cases hw
        | ok q => exact ⟨q, rfl⟩
      subst hR
      obtain ⟨i, acc⟩ := q
      rw [ePos_o, isWd_ok] at hw
      obtain ⟨a1, a2, a3⟩ := A (i, acc) rfl
      have a2' : acc.length = n := a2
      have e0 : (Except.ok (i, acc) : Except Nat (Nat × List Sto)).bind (rdSs tp (f + 1)) = ((rdSt tp acc i).bind fun p => Except.ok (p.1, acc ++ [p.2])).bind (rdSs tp f) := by
        rw [bd_ok, bd_bd]
        conv => lhs; unfold rdSs
        rw [if_pos hw]
        rfl
      rw [e0] at hq
      simp (disch := first | assumption | omega | decide) only [gB, I_all, zK_v, zK_n, true_and, and_true, Nat.reduceAdd, Nat.reduceMul, Nat.reduceSub, z_lt, z_le, z_neq, not_false_eq_true, or_true, true_or, or_false, false_or, false_and, and_false, gX7_readAll_h.1]
      simp (disch := first | assumption | omega | decide) only [gB, I_all, zK_v, zK_n, true_and, and_true, Nat.reduceAdd, Nat.reduceMul, Nat.reduceSub, z_lt, z_le, z_neq, not_false_eq_true, or_true, true_or, or_false, false_or, false_and, and_false, gX7_readAll, F, R', ew]
      refine e7_readStop (r := .ok i) (acc := acc) S T P hn hn10 (fun i' hi' => ⟨a1, a2⟩) fun W1 SM1 n1 U1 hn1 hn110 P1 A1 => ?_
      rw [bd_ok] at P1
      have i1 := ih W1 SM1 ((rdSt tp acc i).bind fun p => Except.ok (p.1, acc ++ [p.2])) n1 (T.ra U1.a) (by
        have : ePos ((rdSt tp acc i).bind fun p => Except.ok (p.1, acc ++ [p.2])) = ePos (rdSt tp acc i) := by
          cases rdSt tp acc i <;> rfl
        rw [this]
        exact P1) hn1 hn110 (fun q hq' => by
        obtain ⟨p, h1, h2⟩ := bd_okI hq'
        cases h2
        obtain ⟨b1, b2⟩ := A1 i p.1 p.2 rfl h1
        refine ⟨b1, b2, ?_⟩
        have b2' : (acc ++ [p.2]).length = n1 := b2
        rw [List.length_append] at b2'
        simp at b2'
        omega) (fun W' SM' n' U' P' hn' hn10' A' => hq W' SM' n' ⟨fun k j h1 h2 h3 => (U'.1 k j h1 h2 h3).trans (U1.1 k j h1 h2 h3), fun k j h1 => (U'.2 k j h1).trans (U1.2 k j h1)⟩ P' hn' hn10' A')
      simp (disch := first | assumption | omega | decide) only [gB, I_all, zK_v, zK_n, true_and, and_true, Nat.reduceAdd, Nat.reduceMul, Nat.reduceSub, z_lt, z_le, z_neq, not_false_eq_true, or_true, true_or, or_false, false_or, false_and, and_false, gX7_readAll, F, R']
      exact i1
theorem e7_busesL (S : TSh κ h b) :
    ∀ (f : Nat) (W : Nat → Nat → Int32) (SM : Nat → Nat → Int64) (R : Except Nat (Nat × List Bup)) (n : Nat), TTp W tp → PzS W SM tp (ePos R) → W 0 112 = Int32.ofNat n → n ≤ 6 → (∀ q, R = .ok q → AcB W q.2 ∧ q.2.length = n ∧ 7 - n ≤ f) →
      (∀ W' SM' n', PzB W W' SM SM' → PzS W' SM' tp (ePos (R.bind (rdBs tp f))) → W' 0 112 = Int32.ofNat n' → n' ≤ 6 → (∀ q, R.bind (rdBs tp f) = .ok q → AcB W' q.2 ∧ q.2.length = n') → Go κ mX7_readAll 54 [some (.ref b)] [] (hX h b 33 W' SM') Q) →
      Go κ mX7_readAll 37 [some (.ref b)] [] (hX h b 33 W SM) Q := by
  have F := xF S
  have R' := xR S
  intro f
  induction f with
  | zero =>
    intro W SM R n T P hn hn10 A hq
    have ew := fun (Q : zQ) => e7_isWord (κ := κ) (Q := Q) (j := 12) (w := Int64.ofNat 2739) S P rfl
    have hw : isWd tp (ePos R) 12 = false := by
      cases R with
      | error e => rfl
      | ok q =>
        have := (A q rfl).2.2
        omega
    rw [hw, show boI false = Int32.ofNat 0 from rfl] at ew
    have e0 : R.bind (rdBs tp 0) = R := by cases R <;> rfl
    rw [e0] at hq
    have f := hq W SM n ⟨fun _ _ _ _ _ => rfl, fun _ _ _ => rfl⟩ P hn hn10 fun q hq' => ⟨(A q hq').1, (A q hq').2.1⟩
    simp (disch := first | assumption | omega | decide) only [gB, I_all, zK_v, zK_n, true_and, and_true, Nat.reduceAdd, Nat.reduceMul, Nat.reduceSub, z_lt, z_le, z_neq, not_false_eq_true, or_true, true_or, or_false, false_or, false_and, and_false, gX7_readAll_h.2.1]
    simp (disch := first | assumption | omega | decide) only [gB, I_all, zK_v, zK_n, true_and, and_true, Nat.reduceAdd, Nat.reduceMul, Nat.reduceSub, z_lt, z_le, z_neq, not_false_eq_true, or_true, true_or, or_false, false_or, false_and, and_false, gX7_readAll, F, R', ew]
    exact f
  | succ f ih =>
    intro W SM R n T P hn hn10 A hq
    have ew := fun (Q : zQ) => e7_isWord (κ := κ) (Q := Q) (j := 12) (w := Int64.ofNat 2739) S P rfl
    cases hw : isWd tp (ePos R) 12 with
    | false =>
      rw [hw, show boI false = Int32.ofNat 0 from rfl] at ew
      have e0 : R.bind (rdBs tp (f + 1)) = R := by
        cases R with
        | error e => rfl
        | ok q =>
          rw [bd_ok]
          rw [ePos_o, isWd_ok] at hw
          unfold rdBs
          rw [if_neg (by rw [hw]; decide)]
      rw [e0] at hq
      have f := hq W SM n ⟨fun _ _ _ _ _ => rfl, fun _ _ _ => rfl⟩ P hn hn10 fun q hq' => ⟨(A q hq').1, (A q hq').2.1⟩
      simp (disch := first | assumption | omega | decide) only [gB, I_all, zK_v, zK_n, true_and, and_true, Nat.reduceAdd, Nat.reduceMul, Nat.reduceSub, z_lt, z_le, z_neq, not_false_eq_true, or_true, true_or, or_false, false_or, false_and, and_false, gX7_readAll_h.2.1]
      simp (disch := first | assumption | omega | decide) only [gB, I_all, zK_v, zK_n, true_and, and_true, Nat.reduceAdd, Nat.reduceMul, Nat.reduceSub, z_lt, z_le, z_neq, not_false_eq_true, or_true, true_or, or_false, false_or, false_and, and_false, gX7_readAll, F, R', ew]
      exact f
    | true =>
      rw [hw, show boI true = Int32.ofNat 1 from rfl] at ew
      obtain ⟨q, hR⟩ : ∃ q, R = .ok q := by
        cases R with
        | error e => cases hw
        | ok q => exact ⟨q, rfl⟩
      subst hR
      obtain ⟨i, acc⟩ := q
      rw [ePos_o, isWd_ok] at hw
      obtain ⟨a1, a2, a3⟩ := A (i, acc) rfl
      have a2' : acc.length = n := a2
      have e0 : (Except.ok (i, acc) : Except Nat (Nat × List Bup)).bind (rdBs tp (f + 1)) = ((rdBu tp acc i).bind fun p => Except.ok (p.1, acc ++ [p.2])).bind (rdBs tp f) := by
        rw [bd_ok, bd_bd]
        conv => lhs; unfold rdBs
        rw [if_pos hw]
        rfl
      rw [e0] at hq
      simp (disch := first | assumption | omega | decide) only [gB, I_all, zK_v, zK_n, true_and, and_true, Nat.reduceAdd, Nat.reduceMul, Nat.reduceSub, z_lt, z_le, z_neq, not_false_eq_true, or_true, true_or, or_false, false_or, false_and, and_false, gX7_readAll_h.2.1]
      simp (disch := first | assumption | omega | decide) only [gB, I_all, zK_v, zK_n, true_and, and_true, Nat.reduceAdd, Nat.reduceMul, Nat.reduceSub, z_lt, z_le, z_neq, not_false_eq_true, or_true, true_or, or_false, false_or, false_and, and_false, gX7_readAll, F, R', ew]
      refine e7_readBus (r := .ok i) (acc := acc) S T P hn hn10 (fun i' hi' => ⟨a1, a2⟩) fun W1 SM1 n1 U1 hn1 hn110 P1 A1 => ?_
      rw [bd_ok] at P1
      have i1 := ih W1 SM1 ((rdBu tp acc i).bind fun p => Except.ok (p.1, acc ++ [p.2])) n1 (T.ra U1.a) (by
        have : ePos ((rdBu tp acc i).bind fun p => Except.ok (p.1, acc ++ [p.2])) = ePos (rdBu tp acc i) := by
          cases rdBu tp acc i <;> rfl
        rw [this]
        exact P1) hn1 hn110 (fun q hq' => by
        obtain ⟨p, h1, h2⟩ := bd_okI hq'
        cases h2
        obtain ⟨b1, b2⟩ := A1 i p.1 p.2 rfl h1
        refine ⟨b1, b2, ?_⟩
        have b2' : (acc ++ [p.2]).length = n1 := b2
        rw [List.length_append] at b2'
        simp at b2'
        omega) (fun W' SM' n' U' P' hn' hn10' A' => hq W' SM' n' ⟨fun k j h1 h2 h3 => (U'.1 k j h1 h2 h3).trans (U1.1 k j h1 h2 h3), fun k j h1 => (U'.2 k j h1).trans (U1.2 k j h1)⟩ P' hn' hn10' A')
      simp (disch := first | assumption | omega | decide) only [gB, I_all, zK_v, zK_n, true_and, and_true, Nat.reduceAdd, Nat.reduceMul, Nat.reduceSub, z_lt, z_le, z_neq, not_false_eq_true, or_true, true_or, or_false, false_or, false_and, and_false, gX7_readAll, F, R']
      exact i1
theorem e7_flowsL {SS : List Sto} {ns : Nat} (S : TSh κ h b) (hs10 : ns ≤ 10) :
    ∀ (f : Nat) (W : Nat → Nat → Int32) (SM : Nat → Nat → Int64) (R : Except Nat (Nat × List Flo)) (n : Nat), TTp W tp → PzS W SM tp (ePos R) → W 0 113 = Int32.ofNat n → n ≤ 16 → W 0 111 = Int32.ofNat ns → (∀ q, R = .ok q → (AcS W SS ∧ SS.length = ns) ∧ AcF W q.2 ∧ q.2.length = n ∧ 17 - n ≤ f) →
      (∀ W' SM' n', PzF W W' SM SM' → PzS W' SM' tp (ePos (R.bind (rdFs tp SS f))) → W' 0 113 = Int32.ofNat n' → n' ≤ 16 → (∀ q, R.bind (rdFs tp SS f) = .ok q → AcF W' q.2 ∧ q.2.length = n') → Q (.inl none) (hX h b 33 W' SM')) →
      Go κ mX7_readAll 54 [some (.ref b)] [] (hX h b 33 W SM) Q := by
  have F := xF S
  have R' := xR S
  intro f
  induction f with
  | zero =>
    intro W SM R n T P hn hn10 hs A hq
    have e0 : R.bind (rdFs tp SS 0) = R := by cases R <;> rfl
    rw [e0] at hq
    cases R with
    | error e =>
      have p1 := P.1
      have f := hq W SM n ⟨fun _ _ _ _ _ => rfl, fun _ _ _ => rfl⟩ P hn hn10 fun q hq' => (nomatch hq')
      simp (disch := first | assumption | omega | decide) only [gB, I_all, zK_v, zK_n, true_and, and_true, Nat.reduceAdd, Nat.reduceMul, Nat.reduceSub, z_lt, z_le, z_neq, not_false_eq_true, or_true, true_or, or_false, false_or, false_and, and_false, gX7_readAll_h.2.2]
      simp (disch := first | assumption | omega | decide) only [gB, I_all, zK_v, zK_n, true_and, and_true, Nat.reduceAdd, Nat.reduceMul, Nat.reduceSub, z_lt, z_le, z_neq, not_false_eq_true, or_true, true_or, or_false, false_or, false_and, and_false, gX7_readAll, F, R', p1]
      exact f
    | ok q =>
      have := (A q rfl).2.2.2
      omega
  | succ f ih =>
    intro W SM R n T P hn hn10 hs A hq
    cases R with
    | error e =>
      have p1 := P.1
      rw [bd_er] at hq
      have f := hq W SM n ⟨fun _ _ _ _ _ => rfl, fun _ _ _ => rfl⟩ P hn hn10 fun q hq' => (nomatch hq')
      simp (disch := first | assumption | omega | decide) only [gB, I_all, zK_v, zK_n, true_and, and_true, Nat.reduceAdd, Nat.reduceMul, Nat.reduceSub, z_lt, z_le, z_neq, not_false_eq_true, or_true, true_or, or_false, false_or, false_and, and_false, gX7_readAll_h.2.2]
      simp (disch := first | assumption | omega | decide) only [gB, I_all, zK_v, zK_n, true_and, and_true, Nat.reduceAdd, Nat.reduceMul, Nat.reduceSub, z_lt, z_le, z_neq, not_false_eq_true, or_true, true_or, or_false, false_or, false_and, and_false, gX7_readAll, F, R', p1]
      exact f
    | ok q =>
      obtain ⟨i, acc⟩ := q
      obtain ⟨⟨a0, a00⟩, a1, a2, a3⟩ := A (i, acc) rfl
      have a2' : acc.length = n := a2
      have P' := P
      rw [ePos_o] at P'
      obtain ⟨⟨q0, q1, q2, q3, q4, q5, q6⟩, p2, p3⟩ := P'
      have k5 := tkK_le tp i
      by_cases ck : tkK tp i = 0
      · have e0 : (Except.ok (i, acc) : Except Nat (Nat × List Flo)).bind (rdFs tp SS (f + 1)) = .ok (i, acc) := by
          rw [bd_ok]
          unfold rdFs
          rw [if_pos ck]
        rw [e0] at hq
        have f := hq W SM n ⟨fun _ _ _ _ _ => rfl, fun _ _ _ => rfl⟩ P hn hn10 fun q hq' => by
          cases hq'
          exact ⟨a1, a2⟩
        have q3' : W 0 106 = Int32.ofNat 0 := by
          have : W 0 106 = Int32.ofNat (tkK tp i) := q3
          rw [this, ck]
        simp (disch := first | assumption | omega | decide) only [gB, I_all, zK_v, zK_n, true_and, and_true, Nat.reduceAdd, Nat.reduceMul, Nat.reduceSub, z_lt, z_le, z_neq, not_false_eq_true, or_true, true_or, or_false, false_or, false_and, and_false, gX7_readAll_h.2.2]
        simp (disch := first | assumption | omega | decide) only [gB, I_all, zK_v, zK_n, true_and, and_true, Nat.reduceAdd, Nat.reduceMul, Nat.reduceSub, z_lt, z_le, z_neq, not_false_eq_true, or_true, true_or, or_false, false_or, false_and, and_false, gX7_readAll, F, R', p2, q3']
        exact f
      · have e0 : (Except.ok (i, acc) : Except Nat (Nat × List Flo)).bind (rdFs tp SS (f + 1)) = ((rdFl tp SS acc i).bind fun p => Except.ok (p.1, acc ++ [p.2])).bind (rdFs tp SS f) := by
          rw [bd_ok, bd_bd]
          conv => lhs; unfold rdFs
          rw [if_neg ck]
          rfl
        rw [e0] at hq
        have q3' : W 0 106 = Int32.ofNat (tkK tp i) := q3
        have kne : ¬ Int32.ofNat (tkK tp i) = Int32.ofNat 0 := by rw [I_eq (by omega) (by omega)]; exact ck
        simp (disch := first | assumption | omega | decide) only [gB, I_all, zK_v, zK_n, true_and, and_true, Nat.reduceAdd, Nat.reduceMul, Nat.reduceSub, z_lt, z_le, z_neq, not_false_eq_true, or_true, true_or, or_false, false_or, false_and, and_false, gX7_readAll_h.2.2]
        simp (disch := first | assumption | omega | decide) only [gB, I_all, zK_v, zK_n, true_and, and_true, Nat.reduceAdd, Nat.reduceMul, Nat.reduceSub, z_lt, z_le, z_neq, not_false_eq_true, or_true, true_or, or_false, false_or, false_and, and_false, gX7_readAll, F, R', p2, q3']
        refine e7_readFlow (r := .ok i) (acc := acc) (sacc := SS) S T P hn hn10 hs hs10 (fun i' hi' => ⟨⟨a0, a00⟩, a1, a2⟩) fun W1 SM1 n1 U1 hn1 hn110 P1 A1 => ?_
        rw [bd_ok] at P1
        have i1 := ih W1 SM1 ((rdFl tp SS acc i).bind fun p => Except.ok (p.1, acc ++ [p.2])) n1 (T.ra U1.a) (by
          have : ePos ((rdFl tp SS acc i).bind fun p => Except.ok (p.1, acc ++ [p.2])) = ePos (rdFl tp SS acc i) := by
            cases rdFl tp SS acc i <;> rfl
          rw [this]
          exact P1) hn1 hn110 (by rw [U1.1 _ _ (by unfold rdD; omega) (by omega) (by omega)]; exact hs) (fun q hq' => by
          obtain ⟨p, h1, h2⟩ := bd_okI hq'
          cases h2
          obtain ⟨b1, b2⟩ := A1 i p.1 p.2 rfl h1
          refine ⟨⟨a0.cg fun k j h1 h2 => U1.1 _ _ (by unfold rdD; omega) (by omega) (by omega), a00⟩, b1, b2, ?_⟩
          have b2' : (acc ++ [p.2]).length = n1 := b2
          rw [List.length_append] at b2'
          simp at b2'
          omega) (fun W' SM' n' U' P' hn' hn10' A' => hq W' SM' n' ⟨fun k j h1 h2 h3 => (U'.1 k j h1 h2 h3).trans (U1.1 k j h1 h2 h3), fun k j h1 => (U'.2 k j h1).trans (U1.2 k j h1)⟩ P' hn' hn10' A')
        simp (disch := first | assumption | omega | decide) only [gB, I_all, zK_v, zK_n, true_and, and_true, Nat.reduceAdd, Nat.reduceMul, Nat.reduceSub, z_lt, z_le, z_neq, not_false_eq_true, or_true, true_or, or_false, false_or, false_and, and_false, gX7_readAll, F, R']
        exact i1
theorem e7_readStopR {R : Except Nat (Nat × List Sto)} {n : Nat} (S : TSh κ h b) (T : TTp W tp) (P : PzS W SM tp (ePos R)) (hn : W 0 111 = Int32.ofNat n) (hn10 : n ≤ 10) (A : ∀ q, R = .ok q → AcS W q.2 ∧ q.2.length = n)
    (hq : ∀ W' SM' n', PzT W W' SM SM' → W' 0 111 = Int32.ofNat n' → n' ≤ 10 → PzS W' SM' tp (ePos (R.bind (stS tp))) → (∀ q, R.bind (stS tp) = .ok q → AcS W' q.2 ∧ q.2.length = n') → Q (.inl none) (hX h b 33 W' SM')) : Ev κ mX7_readStop [.ref b] (hX h b 33 W SM) Q := by
  cases R with
  | error e =>
    rw [ePos_r] at P
    refine e7_readStop (r := .error e) (acc := []) S T P hn hn10 (fun i hi => (nomatch hi)) fun W1 SM1 n1 U1 h1 h2 P1 A1 => ?_
    rw [bd_er] at P1
    exact hq W1 SM1 n1 U1 h1 h2 (by rw [bd_er, ePos_r]; exact P1) fun q hq' => (nomatch hq')
  | ok q =>
    obtain ⟨i, acc⟩ := q
    rw [ePos_o] at P
    refine e7_readStop (r := .ok i) (acc := acc) S T P hn hn10 (fun i' hi' => A (i, acc) rfl) fun W1 SM1 n1 U1 h1 h2 P1 A1 => ?_
    rw [bd_ok] at P1
    refine hq W1 SM1 n1 U1 h1 h2 (by
      rw [bd_ok]
      have : ePos (stS tp (i, acc)) = ePos (rdSt tp acc i) := by
        unfold stS
        cases rdSt tp acc i <;> rfl
      rw [this]
      exact P1) fun q hq' => ?_
    rw [bd_ok] at hq'
    obtain ⟨p, h3, h4⟩ := bd_okI hq'
    cases h4
    exact A1 i p.1 p.2 rfl h3
theorem e7_readBusR {R : Except Nat (Nat × List Bup)} {n : Nat} (S : TSh κ h b) (T : TTp W tp) (P : PzS W SM tp (ePos R)) (hn : W 0 112 = Int32.ofNat n) (hn10 : n ≤ 6) (A : ∀ q, R = .ok q → AcB W q.2 ∧ q.2.length = n)
    (hq : ∀ W' SM' n', PzB W W' SM SM' → W' 0 112 = Int32.ofNat n' → n' ≤ 6 → PzS W' SM' tp (ePos (R.bind (buS tp))) → (∀ q, R.bind (buS tp) = .ok q → AcB W' q.2 ∧ q.2.length = n') → Q (.inl none) (hX h b 33 W' SM')) : Ev κ mX7_readBus [.ref b] (hX h b 33 W SM) Q := by
  cases R with
  | error e =>
    rw [ePos_r] at P
    refine e7_readBus (r := .error e) (acc := []) S T P hn hn10 (fun i hi => (nomatch hi)) fun W1 SM1 n1 U1 h1 h2 P1 A1 => ?_
    rw [bd_er] at P1
    exact hq W1 SM1 n1 U1 h1 h2 (by rw [bd_er, ePos_r]; exact P1) fun q hq' => (nomatch hq')
  | ok q =>
    obtain ⟨i, acc⟩ := q
    rw [ePos_o] at P
    refine e7_readBus (r := .ok i) (acc := acc) S T P hn hn10 (fun i' hi' => A (i, acc) rfl) fun W1 SM1 n1 U1 h1 h2 P1 A1 => ?_
    rw [bd_ok] at P1
    refine hq W1 SM1 n1 U1 h1 h2 (by
      rw [bd_ok]
      have : ePos (buS tp (i, acc)) = ePos (rdBu tp acc i) := by
        unfold buS
        cases rdBu tp acc i <;> rfl
      rw [this]
      exact P1) fun q hq' => ?_
    rw [bd_ok] at hq'
    obtain ⟨p, h3, h4⟩ := bd_okI hq'
    cases h4
    exact A1 i p.1 p.2 rfl h3
theorem ePos_k {α β : Type} (R : Except Nat (Nat × α)) (c : β) : ePos (R.bind fun q => .ok (q.1, c)) = ePos R := by
  cases R <;> rfl
/-- reading all -/
theorem e7_readAll (S : TSh κ h b) (T : TTp W tp) (h104 : W 0 104 = Int32.ofNat 0) (h110 : W 0 110 = Int32.ofNat 1) (h74 : W 0 74 = Int32.ofInt (-2)) (h111 : W 0 111 = Int32.ofNat 0) (h112 : W 0 112 = Int32.ofNat 0) (h113 : W 0 113 = Int32.ofNat 0)
    (hq : ∀ W' SM', PzA W W' SM SM' → PzS W' SM' tp (ePos (pzF tp)) → (∀ q, pzF tp = .ok q → (AcS W' (pzL tp) ∧ W' 0 111 = Int32.ofNat (pzL tp).length ∧ (pzL tp).length ≤ 10) ∧ (AcB W' (pzM tp) ∧ W' 0 112 = Int32.ofNat (pzM tp).length ∧ (pzM tp).length ≤ 6) ∧ (AcF W' q.2 ∧ W' 0 113 = Int32.ofNat q.2.length ∧ q.2.length ≤ 16) ∧ ∀ k, k < 8 → W' 22 k = nuV tp 0 k) → Q (.inl none) (hX h b 33 W' SM')) :
    Ev κ mX7_readAll [.ref b] (hX h b 33 W SM) Q := by
  have F := xF S
  have R' := xR S
  simp (disch := first | assumption | omega | decide) only [gB, I_all, zK_v, zK_n, true_and, and_true, Nat.reduceAdd, Nat.reduceMul, Nat.reduceSub, z_lt, z_le, z_neq, not_false_eq_true, or_true, true_or, or_false, false_or, false_and, and_false, gX7_readAll, F, R']
  refine e7_next S T h104 (Nat.zero_le _) fun W1 SM1 U1 P1 => ?_
  have T1 := T.ra U1.v.a
  have P1' : PzS W1 SM1 tp (.ok 0) := ⟨P1, by rw [U1.1 _ _ (by unfold rdC; omega)]; exact h110, by rw [U1.1 _ _ (by unfold rdC; omega)]; exact h74⟩
  simp (disch := first | assumption | omega | decide) only [gB, I_all, zK_v, zK_n, true_and, and_true, Nat.reduceAdd, Nat.reduceMul, Nat.reduceSub, z_lt, z_le, z_neq, not_false_eq_true, or_true, true_or, or_false, false_or, false_and, and_false, gX7_readAll, F, R']
  refine e7_readNumbers S T1 P1' fun W2 SM2 U2 P2 N2 => ?_
  have T2 := T1.ra U2.a
  rw [bd_ok] at P2
  have h111' : W2 0 111 = Int32.ofNat 0 := by rw [U2.1 _ _ (by unfold rdD; omega) (by omega), U1.1 _ _ (by unfold rdC; omega)]; exact h111
  have h112' : W2 0 112 = Int32.ofNat 0 := by rw [U2.1 _ _ (by unfold rdD; omega) (by omega), U1.1 _ _ (by unfold rdC; omega)]; exact h112
  have h113' : W2 0 113 = Int32.ofNat 0 := by rw [U2.1 _ _ (by unfold rdD; omega) (by omega), U1.1 _ _ (by unfold rdC; omega)]; exact h113
  have P2' : PzS W2 SM2 tp (ePos ((rdN tp 0).bind fun i => (.ok (i, ([] : List Sto))))) := by
    have : ePos ((rdN tp 0).bind fun i => (Except.ok (i, ([] : List Sto)))) = rdN tp 0 := by cases rdN tp 0 <;> rfl
    rw [this]
    exact P2
  simp (disch := first | assumption | omega | decide) only [gB, I_all, zK_v, zK_n, true_and, and_true, Nat.reduceAdd, Nat.reduceMul, Nat.reduceSub, z_lt, z_le, z_neq, not_false_eq_true, or_true, true_or, or_false, false_or, false_and, and_false, gX7_readAll, F, R']
  refine e7_readStopR S T2 P2' h111' (by decide) (fun q hq' => by
    obtain ⟨i, h1, h2⟩ := bd_okI hq'
    cases h2
    exact ⟨⟨fun k st hk => (nomatch hk), fun st hst => (nomatch hst)⟩, rfl⟩) fun W3 SM3 n3 U3 hn3 hl3 P3 A3 => ?_
  have T3 := T2.ra U3.a
  simp (disch := first | assumption | omega | decide) only [gB, I_all, zK_v, zK_n, true_and, and_true, Nat.reduceAdd, Nat.reduceMul, Nat.reduceSub, z_lt, z_le, z_neq, not_false_eq_true, or_true, true_or, or_false, false_or, false_and, and_false, gX7_readAll, F, R']
  refine e7_readStopR S T3 P3 hn3 hl3 A3 fun W4 SM4 n4 U4 hn4 hl4 P4 A4 => ?_
  have T4 := T3.ra U4.a
  simp (disch := first | assumption | omega | decide) only [gB, I_all, zK_v, zK_n, true_and, and_true, Nat.reduceAdd, Nat.reduceMul, Nat.reduceSub, z_lt, z_le, z_neq, not_false_eq_true, or_true, true_or, or_false, false_or, false_and, and_false, gX7_readAll, F, R']
  refine e7_stopsL S 20 W4 SM4 _ n4 T4 P4 hn4 hl4 (fun q hq' => ⟨(A4 q hq').1, (A4 q hq').2, by omega⟩) fun W5 SM5 n5 U5 P5 hn5 hl5 A5 => ?_
  have T5 := T4.ra U5.a
  rw [show (((((rdN tp 0).bind fun i => Except.ok (i, [])).bind (stS tp)).bind (stS tp)).bind (rdSs tp 20)) = pzS tp from rfl] at P5 A5
  have b112 : W5 0 112 = Int32.ofNat 0 := by rw [U5.1 _ _ (by unfold rdD; omega) (by omega) (by omega), U4.1 _ _ (by unfold rdD; omega) (by omega) (by omega), U3.1 _ _ (by unfold rdD; omega) (by omega) (by omega)]; exact h112'
  have P5' : PzS W5 SM5 tp (ePos ((pzS tp).bind fun q => .ok (q.1, ([] : List Bup)))) := by rw [ePos_k]; exact P5
  simp (disch := first | assumption | omega | decide) only [gB, I_all, zK_v, zK_n, true_and, and_true, Nat.reduceAdd, Nat.reduceMul, Nat.reduceSub, z_lt, z_le, z_neq, not_false_eq_true, or_true, true_or, or_false, false_or, false_and, and_false, gX7_readAll, F, R']
  refine e7_readBusR S T5 P5' b112 (by decide) (fun q hq' => by
    obtain ⟨i, h1, h2⟩ := bd_okI hq'
    cases h2
    exact ⟨fun k st hk => (nomatch hk), rfl⟩) fun W6 SM6 n6 U6 hn6 hl6 P6 A6 => ?_
  have T6 := T5.ra U6.a
  simp (disch := first | assumption | omega | decide) only [gB, I_all, zK_v, zK_n, true_and, and_true, Nat.reduceAdd, Nat.reduceMul, Nat.reduceSub, z_lt, z_le, z_neq, not_false_eq_true, or_true, true_or, or_false, false_or, false_and, and_false, gX7_readAll, F, R']
  refine e7_busesL S 20 W6 SM6 _ n6 T6 P6 hn6 hl6 (fun q hq' => ⟨(A6 q hq').1, (A6 q hq').2, by omega⟩) fun W7 SM7 n7 U7 P7 hn7 hl7 A7 => ?_
  have T7 := T6.ra U7.a
  rw [show ((((pzS tp).bind fun q => Except.ok (q.1, [])).bind (buS tp)).bind (rdBs tp 20)) = pzB tp from rfl] at P7 A7
  have b113 : W7 0 113 = Int32.ofNat 0 := by
    rw [U7.1 _ _ (by unfold rdD; omega) (by omega) (by omega), U6.1 _ _ (by unfold rdD; omega) (by omega) (by omega), U5.1 _ _ (by unfold rdD; omega) (by omega) (by omega), U4.1 _ _ (by unfold rdD; omega) (by omega) (by omega), U3.1 _ _ (by unfold rdD; omega) (by omega) (by omega)]
    exact h113'
  have b111 : W7 0 111 = Int32.ofNat n5 := by rw [U7.1 _ _ (by unfold rdD; omega) (by omega) (by omega), U6.1 _ _ (by unfold rdD; omega) (by omega) (by omega)]; exact hn5
  have sOK : ∀ q, pzB tp = .ok q → ∃ s, pzS tp = .ok s := by
    intro q hq'
    obtain ⟨q1, h1, -⟩ := bd_okI hq'
    obtain ⟨q2, h2, -⟩ := bd_okI h1
    obtain ⟨q3, h3, -⟩ := bd_okI h2
    exact ⟨q3, h3⟩
  have aS : ∀ q, pzB tp = .ok q → AcS W7 (pzL tp) ∧ (pzL tp).length = n5 := by
    intro q hq'
    obtain ⟨s, hs⟩ := sOK q hq'
    have eL : pzL tp = s.2 := by unfold pzL; rw [hs]
    rw [eL]
    obtain ⟨a1, a2⟩ := A5 s hs
    exact ⟨a1.cg fun k j h1 h2 => by rw [U7.1 _ _ (by unfold rdD; omega) (by omega) (by omega), U6.1 _ _ (by unfold rdD; omega) (by omega) (by omega)], a2⟩
  have P7' : PzS W7 SM7 tp (ePos ((pzB tp).bind fun q => .ok (q.1, ([] : List Flo)))) := by rw [ePos_k]; exact P7
  refine e7_flowsL (SS := pzL tp) (ns := n5) S hl5 20 W7 SM7 _ 0 T7 P7' b113 (by decide) b111 (fun q hq' => by
    obtain ⟨i, h1, h2⟩ := bd_okI hq'
    cases h2
    exact ⟨aS i h1, fun k st hk => (nomatch hk), rfl, by decide⟩) fun W8 SM8 n8 U8 P8 hn8 hl8 A8 => ?_
  rw [show (((pzB tp).bind fun q => Except.ok (q.1, [])).bind (rdFs tp (pzL tp) 20)) = pzF tp from rfl] at P8 A8
  have UA : PzA W W8 SM SM8 := ((((((U1.v.a.trans U2.a).trans U3.a).trans U4.a).trans U5.a).trans U6.a).trans U7.a).trans U8.a
  refine hq W8 SM8 UA P8 fun q hq' => ?_
  obtain ⟨q1, h1, h1'⟩ := bd_okI hq'
  obtain ⟨q2, h2, h2'⟩ := bd_okI h1
  obtain ⟨s, hs⟩ := sOK q2 h2
  obtain ⟨a1, a2⟩ := aS q2 h2
  obtain ⟨a3, a4⟩ := A7 q2 h2
  obtain ⟨a5, a6⟩ := A8 q hq'
  have eM : pzM tp = q2.2 := by unfold pzM; rw [h2]
  have e8 : ∀ k j, 22 ≤ k → k ≤ 28 → W8 k j = W7 k j := fun k j h1 h2 => U8.1 _ _ (by unfold rdD; omega) (by omega) (by omega)
  have b111' : W8 0 111 = Int32.ofNat n5 := by rw [U8.1 _ _ (by unfold rdD; omega) (by omega) (by omega)]; exact b111
  have b112' : W8 0 112 = Int32.ofNat n7 := by rw [U8.1 _ _ (by unfold rdD; omega) (by omega) (by omega)]; exact hn7
  refine ⟨⟨a1.cg fun k j h1 h2 => e8 k j (by omega) (by omega), by rw [a2]; exact b111', by omega⟩, ⟨fun k st hk => ?_, by rw [eM, a4]; exact b112', by rw [eM]; omega⟩, ⟨a5, by rw [a6]; exact hn8, by omega⟩, fun k hk => ?_⟩
  · rw [eM] at hk
    rw [e8 _ _ (by decide) (by decide), e8 _ _ (by decide) (by decide)]
    exact a3 k st hk
  · obtain ⟨q3, h3, -⟩ := bd_okI hs
    obtain ⟨q4, h4, -⟩ := bd_okI h3
    obtain ⟨q5, h5, -⟩ := bd_okI h4
    obtain ⟨i0, h6, -⟩ := bd_okI h5
    rw [e8 _ _ (by decide) (by decide), U7.1 _ _ (by unfold rdD; omega) (by omega) (by omega), U6.1 _ _ (by unfold rdD; omega) (by omega) (by omega), U5.1 _ _ (by unfold rdD; omega) (by omega) (by omega), U4.1 _ _ (by unfold rdD; omega) (by omega) (by omega), U3.1 _ _ (by unfold rdD; omega) (by omega) (by omega)]
    exact N2 0 i0 rfl h6 k hk
end
