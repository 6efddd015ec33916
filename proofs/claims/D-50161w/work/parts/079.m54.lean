/-! the twin: reading a bus, a flow -/
abbrev Bup : Type := Int32 × Int32
abbrev Flo : Type := Nat × Nat × Int32 × Int32
def rdBu (tp : List Int32) (acc : List Bup) (i : Nat) : Except Nat (Nat × Bup) :=
  (tkC tp (isK tp i 12 && decide (acc.length < 6)) i).bind fun i1 => (tkC tp (okN tp i1 1 99) i1).bind fun i2 => (nofC tp 13 0 9999 i2).bind fun i3 => (tkC tp (isSg tp i3) i3).bind fun i4 => .ok (i4, (tkV tp i1, tkV tp (tkE tp i2)))
def AcB (W : Nat → Nat → Int32) (acc : List Bup) : Prop := ∀ k st, acc[k]? = some st → W 27 k = st.1 ∧ W 28 k = st.2
def PzB (W W' : Nat → Nat → Int32) (SM SM' : Nat → Nat → Int64) : Prop := (∀ k j, ¬ rdD k j → ¬ (k = 0 ∧ j = 112) → ¬ (27 ≤ k ∧ k ≤ 28) → W' k j = W k j) ∧ (∀ k j, ¬ (k = 0 ∧ j = 107) → SM' k j = SM k j)
theorem ePos_e {α : Type} (x : Except Nat Nat) (g : Nat → α) : (x.bind fun i => ePos (.ok (i, g i))) = x := by
  cases x <;> rfl
theorem ePos_c {α : Type} (x : Except Nat Nat) (st : α) : (x.bind fun i => ePos (.ok (i, st))) = x := ePos_e x (fun _ => st)
theorem rdBu_pos (tp : List Int32) (acc : List Bup) (i : Nat) : ePos (rdBu tp acc i) = ((((tkC tp (isK tp i 12 && decide (acc.length < 6)) i).bind fun i1 => tkC tp (okN tp i1 1 99) i1).bind (nofC tp 13 0 9999)).bind fun i3 => tkC tp (isSg tp i3) i3) := by
  unfold rdBu
  simp only [ePos_bd, bd_bd, ePos_c]
section
variable {κ : zC} {h : zH} {b : Nat} {W : Nat → Nat → Int32} {SM : Nat → Nat → Int64} {Q : zQ} {tp : List Int32}
theorem e7_readBus {r : Except Nat Nat} {n : Nat} {acc : List Bup} (S : TSh κ h b) (T0 : TTp W tp) (P0 : PzS W SM tp r) (hn : W 0 112 = Int32.ofNat n) (hn6 : n ≤ 6) (A0 : ∀ i, r = .ok i → AcB W acc ∧ acc.length = n)
    (hq : ∀ W' SM' n', PzB W W' SM SM' → W' 0 112 = Int32.ofNat n' → n' ≤ 6 → PzS W' SM' tp (r.bind fun i => ePos (rdBu tp acc i)) → (∀ i j st, r = .ok i → rdBu tp acc i = .ok (j, st) → AcB W' (acc ++ [st]) ∧ (acc ++ [st]).length = n') → Q (.inl none) (hX h b 33 W' SM')) :
    Ev κ mX7_readBus [.ref b] (hX h b 33 W SM) Q := by
  have F := xF S
  have R := xR S
  have K := xK S
  have hB : kB κ ≤ b := S.1.1
  have D := fun (W W' : Nat → Nat → Int32) (SM SM' : Nat → Nat → Int64) (U : PzV W W' SM SM') => show PzB W W' SM SM' from ⟨fun k j h1 _ _ => U.1 k j h1, U.2⟩
  have go1 : ∀ c1, c1 = (isWd tp r 12 && decide (n < 6)) → Ev κ mX7_takes [.ref b, .int (boI c1)] (hX h b 33 W SM) (zK κ mX7_readBus 27 3 [some (.ref b), some (.int (Int32.ofNat n)), none, none] [] Q) := by
    intro c1 hc1
    refine e7_takes S T0 P0 fun W1 SM1 U1 P1 => ?_
    replace P1 := bd_c (f := fun i => isK tp i 12 && decide (acc.length < 6)) P1 (fun i hi => by
      subst hi
      rw [hc1, isWd_ok, (A0 i rfl).2])
    have T1 := T0.rv U1
    simp (disch := first | assumption | omega | decide) only [gB, I_all, zK_v, zK_n, true_and, and_true, Nat.reduceAdd, Nat.reduceMul, Nat.reduceSub, z_lt, z_le, z_neq, not_false_eq_true, or_true, true_or, or_false, false_or, false_and, and_false, gX7_readBus, F, R, K]
    refine e7_number (l := 1) (u := 99) S T1 P1 (by decide) (by decide) fun W2 SM2 v2 U2 P2 hv2 => ?_
    have T2 := T1.rv U2
    simp (disch := first | assumption | omega | decide) only [gB, I_all, zK_v, zK_n, true_and, and_true, Nat.reduceAdd, Nat.reduceMul, Nat.reduceSub, z_lt, z_le, z_neq, not_false_eq_true, or_true, true_or, or_false, false_or, false_and, and_false, gX7_readBus, F, R, K]
    refine e7_numberOf (j := 13) (l := 0) (u := 9999) S T2 P2 rfl (by decide) (by decide) fun W3 SM3 v3 U3 P3 hv3 => ?_
    have T3 := T2.rv U3
    have U03 := (U1.trans U2).trans U3
    have fin : ∀ c, c = decide (W3 0 106 = Int32.ofNat 4) → Ev κ mX7_takes [.ref b, .int (boI c)] (hX h b 33 W3 SM3) (zK κ mX7_readBus 64 3 [some (.ref b), some (.int (Int32.ofNat n)), some (.int v2), some (.int v3)] [] Q) := by
      intro c hc
      refine e7_takes S T3 P3 fun W6 SM6 U6 P6 => ?_
      replace P6 := bd_c (f := fun i => isSg tp i) P6 (sg_c P3 hc)
      have e6 : ((((r.bind fun i => tkC tp (isK tp i 12 && decide (acc.length < 6)) i).bind fun i => tkC tp (okN tp i 1 99) i).bind (nofC tp 13 0 9999)).bind fun i => tkC tp (isSg tp i) i) = r.bind fun i => ePos (rdBu tp acc i) := by
        simp only [rdBu_pos, bd_bd]
      rw [e6] at P6
      have T6 := T3.rv U6
      have U06 := U03.trans U6
      have hn6' : W6 0 112 = Int32.ofNat n := by rw [U06.1 _ _ (by unfold rdD; omega)]; exact hn
      cases hr6 : (r.bind fun i => ePos (rdBu tp acc i)) with
      | error e =>
        rw [hr6] at P6
        have p1 := P6.1
        have f := hq W6 SM6 n (D _ _ _ _ U06) hn6' hn6 (by rw [hr6]; exact P6) (fun i j st hi hj => by
          rw [hi, bd_ok, hj] at hr6
          cases hr6)
        simp (disch := first | assumption | omega | decide) only [gB, I_all, zK_v, zK_n, true_and, and_true, Nat.reduceAdd, Nat.reduceMul, Nat.reduceSub, z_lt, z_le, z_neq, not_false_eq_true, or_true, true_or, or_false, false_or, false_and, and_false, gX7_readBus, F, R, K, p1]
        exact f
      | ok j0 =>
        rw [hr6] at P6
        have p1 := P6.2.1
        obtain ⟨i, hi, hj⟩ := bd_okI hr6
        obtain ⟨q, hq1, hq2⟩ := bd_okI hj
        obtain ⟨j, st⟩ := q
        obtain ⟨A, hlen⟩ := A0 i hi
        have hq1' := hq1
        unfold rdBu at hq1'
        obtain ⟨i1, h1, hj'⟩ := bd_okI hq1'
        obtain ⟨i2, h2, hj'⟩ := bd_okI hj'
        obtain ⟨i3, h3, hj'⟩ := bd_okI hj'
        obtain ⟨i4, h4, hj'⟩ := bd_okI hj'
        cases hj'
        have hlt : n < 6 := by
          have := (tkC_ok h1).1
          have := of_decide_eq_true (Bool.and_eq_true_iff.mp this).2
          omega
        have er1 : (r.bind fun i => tkC tp (isK tp i 12 && decide (acc.length < 6)) i) = .ok i1 := by rw [hi, bd_ok]; exact h1
        have er2 : ((r.bind fun i => tkC tp (isK tp i 12 && decide (acc.length < 6)) i).bind fun i => tkC tp (okN tp i 1 99) i) = .ok i2 := by rw [er1, bd_ok]; exact h2
        have s2 := hv2 i1 er1 (tkC_ok h2).1
        obtain ⟨n1, n2, n3⟩ := nofC_ok h3
        have s3 := hv3 i2 er2 n1 n2
        have f := hq (zv (zv (zv W6 27 n v2) 28 n v3) 0 112 (Int32.ofNat (n + 1))) SM6 (n + 1) ⟨fun k j h1 h2 h3 => by
            rw [zv_nx (by omega), zv_nx (by omega), zv_nx (by omega)]
            exact U06.1 k j h1, U06.2⟩ (zv_at rfl rfl) (by omega) (by
            rw [hr6]
            obtain ⟨⟨q0, q1, q2, q3, q4, q5, q6⟩, p2, p3⟩ := P6
            have e0 : ∀ j, ¬ j = 112 → zv (zv (zv W6 27 n v2) 28 n v3) 0 112 (Int32.ofNat (n + 1)) 0 j = W6 0 j := fun j hj => by
              rw [zv_nx (by omega), zv_nx (by omega), zv_nx (by omega)]
            exact ⟨⟨q0, (e0 _ (by decide)).trans q1, (e0 _ (by decide)).trans q2, (e0 _ (by decide)).trans q3, fun z => (e0 _ (by decide)).trans (q4 z), fun z => (e0 _ (by decide)).trans (q5 z), q6⟩, (e0 _ (by decide)).trans p2, (e0 _ (by decide)).trans p3⟩) (fun i' j' st' hi' hj' => by
            have : i' = i := by rw [hi] at hi'; cases hi'; rfl
            subst this
            rw [hq1] at hj'
            cases hj'
            refine ⟨fun k st0 hk => ?_, by rw [List.length_append, hlen]; rfl⟩
            rw [List.getElem?_append] at hk
            split at hk
            · next hkl =>
              have eo : ∀ m, 27 ≤ m → m ≤ 28 → zv (zv (zv W6 27 n v2) 28 n v3) 0 112 (Int32.ofNat (n + 1)) m k = W m k := fun m h1 h2 => by
                rw [zv_nx (by omega), zv_nx (by omega), zv_nx (by omega)]
                exact U06.1 _ _ (by unfold rdD; omega)
              rw [eo _ (by decide) (by decide), eo _ (by decide) (by decide)]
              exact A k st0 hk
            · have hl := (List.getElem?_eq_some_iff.mp hk).1
              have h0 : k = n := by simp at hl; omega
              subst h0
              rw [hlen, Nat.sub_self] at hk
              simp at hk
              subst hk
              refine ⟨?_, ?_⟩
              · rw [zv_nx (by omega), zv_nx (by omega), zv_at rfl rfl]; exact s2
              · rw [zv_nx (by omega), zv_at rfl rfl]; exact s3)
        simp (disch := first | assumption | omega | decide) only [gB, I_all, zK_v, zK_n, true_and, and_true, Nat.reduceAdd, Nat.reduceMul, Nat.reduceSub, z_lt, z_le, z_neq, not_false_eq_true, or_true, true_or, or_false, false_or, false_and, and_false, gX7_readBus, F, R, K, p1, hn6', zv_nx]
        exact f
    have f1 := fin true
    have f0 := fin false
    rw [show boI true = Int32.ofNat 1 from rfl] at f1
    rw [show boI false = Int32.ofNat 0 from rfl] at f0
    by_cases c : W3 0 106 = Int32.ofNat 4
    · have f := f1 (decide_eq_true c).symm
      simp (disch := first | assumption | omega | decide) only [gB, I_all, zK_v, zK_n, true_and, and_true, Nat.reduceAdd, Nat.reduceMul, Nat.reduceSub, z_lt, z_le, z_neq, not_false_eq_true, or_true, true_or, or_false, false_or, false_and, and_false, gX7_readBus, F, R, K, c]
      exact f
    · have f := f0 (decide_eq_false c).symm
      simp (disch := first | assumption | omega | decide) only [gB, I_all, zK_v, zK_n, true_and, and_true, Nat.reduceAdd, Nat.reduceMul, Nat.reduceSub, z_lt, z_le, z_neq, not_false_eq_true, or_true, true_or, or_false, false_or, false_and, and_false, gX7_readBus, F, R, K]
      exact f
  have g1 := go1 true
  have g0 := go1 false
  rw [show boI true = Int32.ofNat 1 from rfl] at g1
  rw [show boI false = Int32.ofNat 0 from rfl] at g0
  have ew := fun (Q : zQ) => e7_isWord (κ := κ) (Q := Q) (j := 12) (w := Int64.ofNat 2739) S P0 rfl
  cases hw : isWd tp r 12 with
  | true =>
    rw [hw, show boI true = Int32.ofNat 1 from rfl] at ew
    by_cases c10 : n < 6
    · have f := g1 (by rw [hw, decide_eq_true c10]; rfl)
      simp (disch := first | assumption | omega | decide) only [gB, I_all, zK_v, zK_n, true_and, and_true, Nat.reduceAdd, Nat.reduceMul, Nat.reduceSub, z_lt, z_le, z_neq, not_false_eq_true, or_true, true_or, or_false, false_or, false_and, and_false, gX7_readBus, F, R, K, hn, ew]
      exact f
    · have f := g0 (by rw [hw, decide_eq_false c10]; rfl)
      simp (disch := first | assumption | omega | decide) only [gB, I_all, zK_v, zK_n, true_and, and_true, Nat.reduceAdd, Nat.reduceMul, Nat.reduceSub, z_lt, z_le, z_neq, not_false_eq_true, or_true, true_or, or_false, false_or, false_and, and_false, gX7_readBus, F, R, K, hn, ew]
      exact f
  | false =>
    rw [hw, show boI false = Int32.ofNat 0 from rfl] at ew
    have f := g0 (by rw [hw]; rfl)
    simp (disch := first | assumption | omega | decide) only [gB, I_all, zK_v, zK_n, true_and, and_true, Nat.reduceAdd, Nat.reduceMul, Nat.reduceSub, z_lt, z_le, z_neq, not_false_eq_true, or_true, true_or, or_false, false_or, false_and, and_false, gX7_readBus, F, R, K, hn, ew]
    exact f
end
