/-! the twin: reading a flow -/
/-- the stop named by a token -/
def stI (sacc : List Sto) (w : List Int32) : Option Nat := fst1 (fun s => (sacc[s]?).any fun st => decide (st.1 = w)) sacc.length
def stT (tp : List Int32) (sacc : List Sto) (i : Nat) : Option Nat := if isNm tp i = true then stI sacc (tkW tp i) else none
def rdFl (tp : List Int32) (sacc : List Sto) (acc : List Flo) (i : Nat) : Except Nat (Nat × Flo) :=
  (tkC tp (isK tp i 14 && decide (acc.length < 16)) i).bind fun i1 => (tkC tp (stT tp sacc i1).isSome i1).bind fun i2 => (tkC tp (isK tp i2 15) i2).bind fun i3 => (tkC tp ((stT tp sacc i3).isSome && !decide (stT tp sacc i3 = stT tp sacc i1)) i3).bind fun i4 =>
    (nofC tp 16 10 9999 i4).bind fun i5 => (nofC tp 17 0 9999 i5).bind fun i6 => (tkC tp (isSg tp i6) i6).bind fun i7 => .ok (i7, ((stT tp sacc i1).getD 0, (stT tp sacc i3).getD 0, tkV tp (tkE tp i4), tkV tp (tkE tp i5)))
def AcF (W : Nat → Nat → Int32) (acc : List Flo) : Prop := ∀ k st, acc[k]? = some st → W 29 k = Int32.ofNat st.1 ∧ W 30 k = Int32.ofNat st.2.1 ∧ W 31 k = st.2.2.1 ∧ W 32 k = st.2.2.2
def PzF (W W' : Nat → Nat → Int32) (SM SM' : Nat → Nat → Int64) : Prop := (∀ k j, ¬ rdD k j → ¬ (k = 0 ∧ j = 113) → ¬ (29 ≤ k ∧ k ≤ 32) → W' k j = W k j) ∧ (∀ k j, ¬ (k = 0 ∧ j = 107) → SM' k j = SM k j)
theorem fst1_cg {p q : Nat → Bool} {n : Nat} (h : ∀ s, s < n → p s = q s) : fst1 p n = fst1 q n := by
  unfold fst1
  have : ∀ l : List Nat, (∀ x ∈ l, p x = q x) → l.find? p = l.find? q := by
    intro l
    induction l with
    | nil => intro _; rfl
    | cons x l ih =>
      intro hl
      rw [List.find?_cons, List.find?_cons, hl x List.mem_cons_self, ih fun y hy => hl y (List.mem_cons_of_mem _ hy)]
  exact this _ fun x hx => h x (List.mem_range.mp hx)
theorem fst1_lt {p : Nat → Bool} {n g : Nat} (h : fst1 p n = some g) : g < n := List.mem_range.mp (List.mem_of_find?_eq_some h)
theorem stI_f {W : Nat → Nat → Int32} {acc : List Sto} {w : List Int32} {x : Int32} (A : AcS W acc) (hw : nmOk w) (hx : x = ltF w w.length) : fst1 (fun s => decide (W 23 s = x)) acc.length = stI acc w := by
  refine fst1_cg fun s hs => ?_
  have g : acc[s]? = some acc[s] := List.getElem?_eq_getElem hs
  rw [g, Option.any_some, (A.1 s _ g).1, hx]
  by_cases e : acc[s].1 = w
  · rw [decide_eq_true e, decide_eq_true (by rw [e])]
  · rw [decide_eq_false e, decide_eq_false fun e' => e (ltF_inj (A.2 _ (List.getElem_mem hs)) hw e')]
theorem stT_lt {tp : List Int32} {sacc : List Sto} {i g : Nat} (h : stT tp sacc i = some g) : g < sacc.length := by
  unfold stT at h
  split at h
  · exact fst1_lt h
  · cases h
theorem rdFl_pos (tp : List Int32) (sacc : List Sto) (acc : List Flo) (i : Nat) : ePos (rdFl tp sacc acc i) = (((((((tkC tp (isK tp i 14 && decide (acc.length < 16)) i).bind fun i1 => (tkC tp (stT tp sacc i1).isSome i1).bind fun i2 => (tkC tp (isK tp i2 15) i2).bind fun i3 => tkC tp ((stT tp sacc i3).isSome && !decide (stT tp sacc i3 = stT tp sacc i1)) i3)).bind (nofC tp 16 10 9999)).bind (nofC tp 17 0 9999)).bind fun i3 => tkC tp (isSg tp i3) i3)) := by
  unfold rdFl
  simp only [ePos_bd, bd_bd, ePos_c]
section
variable {κ : zC} {h : zH} {b : Nat} {W : Nat → Nat → Int32} {SM : Nat → Nat → Int64} {Q : zQ} {tp : List Int32}
theorem enO_lt {x : Option Nat} (h : ∀ g, x = some g → g < 2147483648) : (enO x < Int32.ofNat 0 ↔ x = none) := by
  cases x with
  | none => exact ⟨fun _ => rfl, fun _ => by decide⟩
  | some g =>
    refine ⟨fun e => ?_, fun e => nomatch e⟩
    exact absurd e (I_ne_m2 (h g rfl))
/-- a place asked of a token: -2, or a stop -/
theorem e7_readFlow {r : Except Nat Nat} {n ns : Nat} {acc : List Flo} {sacc : List Sto} (S : TSh κ h b) (T0 : TTp W tp) (P0 : PzS W SM tp r) (hn : W 0 113 = Int32.ofNat n) (hn16 : n ≤ 16) (hs : W 0 111 = Int32.ofNat ns) (hs10 : ns ≤ 10) (A0 : ∀ i, r = .ok i → (AcS W sacc ∧ sacc.length = ns) ∧ AcF W acc ∧ acc.length = n)
    (hq : ∀ W' SM' n', PzF W W' SM SM' → W' 0 113 = Int32.ofNat n' → n' ≤ 16 → PzS W' SM' tp (r.bind fun i => ePos (rdFl tp sacc acc i)) → (∀ i j st, r = .ok i → rdFl tp sacc acc i = .ok (j, st) → AcF W' (acc ++ [st]) ∧ (acc ++ [st]).length = n') → Q (.inl none) (hX h b 33 W' SM')) :
    Ev κ mX7_readFlow [.ref b] (hX h b 33 W SM) Q := by
  have F := xF S
  have R := xR S
  have K := xK S
  have hB : kB κ ≤ b := S.1.1
  have D := fun (W W' : Nat → Nat → Int32) (SM SM' : Nat → Nat → Int64) (U : PzV W W' SM SM') => show PzF W W' SM SM' from ⟨fun k j h1 _ _ => U.1 k j h1, U.2⟩
  have zm2 : ¬ Int32.ofNat 0 ≤ Int32.ofInt (-2) := by decide
  have zm3 : Int32.ofInt (-2) < Int32.ofNat 0 := by decide
  -- what the token names, when all is well: in any world reached by reading alone
  have nam : ∀ (W1 : Nat → Nat → Int32) (SM1 : Nat → Nat → Int64) (r1 : Except Nat Nat), PzV W W1 SM SM1 → PzS W1 SM1 tp r1 → (∀ i, r1 = .ok i → ∃ i0, r = .ok i0) →
      ∃ x : Option Nat, (∀ g, x = some g → g < ns) ∧ (∀ i, r1 = .ok i → x = stT tp sacc i) ∧ ((W1 0 106 = Int32.ofNat 1 ∧ ∀ Q, Ev κ mX7_stopNamed [.ref b] (hX h b 33 W1 SM1) Q = Q (.inl (some (.int (enO x)))) (hX h b 33 W1 SM1)) ∨ (¬ W1 0 106 = Int32.ofNat 1 ∧ x = none)) := by
    intro W1 SM1 r1 U1 P1 hr1
    have hs1 : W1 0 111 = Int32.ofNat ns := by rw [U1.1 _ _ (by unfold rdD; omega)]; exact hs
    by_cases ck : W1 0 106 = Int32.ofNat 1
    · refine ⟨fst1 (fun s => decide (W1 23 s = W1 0 109)) ns, fun g hg => fst1_lt hg, fun i hi => ?_, Or.inl ⟨ck, fun Q => e7_stopNamed S hs10 hs1⟩⟩
      obtain ⟨i0, h0⟩ := hr1 i hi
      obtain ⟨⟨a1, a2⟩, -⟩ := A0 i0 h0
      subst hi
      obtain ⟨⟨q0, q1, q2, q3, q4, q5, q6⟩, p2, p3⟩ := P1
      have k5 := tkK_le tp i
      have k1 : tkK tp i = 1 := by
        rw [q3, I_eq (by omega) (by omega)] at ck
        exact ck
      obtain ⟨t1, t2⟩ := tk_nm k1
      have a1' : AcS W1 sacc := a1.cg fun k j h1 h2 => U1.1 _ _ (by unfold rdD; omega)
      have := stI_f (x := W1 0 109) a1' t1 (by rw [← t2]; exact q5 k1)
      rw [a2] at this
      rw [this]
      unfold stT isNm
      rw [if_pos (decide_eq_true k1)]
    · refine ⟨none, fun g hg => (nomatch hg), fun i hi => ?_, Or.inr ⟨ck, rfl⟩⟩
      subst hi
      obtain ⟨⟨q0, q1, q2, q3, q4, q5, q6⟩, p2, p3⟩ := P1
      have : ¬ tkK tp i = 1 := fun e => ck (by rw [q3, e])
      unfold stT isNm
      rw [if_neg (by rw [decide_eq_false this]; decide)]
  have go1 : ∀ c1, c1 = (isWd tp r 14 && decide (n < 16)) → Ev κ mX7_takes [.ref b, .int (boI c1)] (hX h b 33 W SM) (zK κ mX7_readFlow 27 3 [some (.ref b), some (.int (Int32.ofNat n)), none, none, none, none] [] Q) := by
    intro c1 hc1
    refine e7_takes S T0 P0 fun W1 SM1 U1 P1 => ?_
    replace P1 := bd_c (f := fun i => isK tp i 14 && decide (acc.length < 16)) P1 (fun i hi => by
      subst hi
      rw [hc1, isWd_ok, (A0 i rfl).2.2])
    have T1 := T0.rv U1
    generalize hr1 : (r.bind fun i => tkC tp (isK tp i 14 && decide (acc.length < 16)) i) = r1 at *
    have rr1 : ∀ i, r1 = .ok i → ∃ i0, r = .ok i0 := by
      intro i hi
      rw [← hr1] at hi
      obtain ⟨i0, h1, -⟩ := bd_okI hi
      exact ⟨i0, h1⟩
    obtain ⟨x1, x1l, x1e, x1c⟩ := nam W1 SM1 r1 U1 P1 rr1
    -- from the first place on
    have go2 : ∀ (Wd : Option Value), Go κ mX7_readFlow 48 [some (.ref b), some (.int (Int32.ofNat n)), some (.int (enO x1)), none, none, none] [] (hX h b 33 W1 SM1) Q := by
      intro _
      have tk2 : ∀ c, c = x1.isSome → Ev κ mX7_takes [.ref b, .int (boI c)] (hX h b 33 W1 SM1) (zK κ mX7_readFlow 58 3 [some (.ref b), some (.int (Int32.ofNat n)), some (.int (enO x1)), none, none, none] [] Q) := by
        intro c hc
        refine e7_takes S T1 P1 fun W2 SM2 U2 P2 => ?_
        replace P2 := bd_c (f := fun i => (stT tp sacc i).isSome) P2 (fun i hi => by rw [hc, x1e i hi])
        have T2 := T1.rv U2
        generalize hr2 : (r1.bind fun i => tkC tp (stT tp sacc i).isSome i) = r2 at *
        have ew := fun (Q : zQ) => e7_isWord (κ := κ) (Q := Q) (j := 15) (w := Int64.ofNat 655) S P2 rfl
        simp (disch := first | assumption | omega | decide) only [gB, I_all, zK_v, zK_n, true_and, and_true, Nat.reduceAdd, Nat.reduceMul, Nat.reduceSub, z_lt, z_le, z_neq, not_false_eq_true, or_true, true_or, or_false, false_or, false_and, and_false, gX7_readFlow_1, gX7_readFlow_2, F, R, K, ew]
        refine e7_takes S T2 P2 fun W3 SM3 U3 P3 => ?_
        rw [bind_isWd] at P3
        have T3 := T2.rv U3
        have U03 := (U1.trans U2).trans U3
        generalize hr3 : (r2.bind fun i => tkC tp (isK tp i 15) i) = r3 at *
        have rr3 : ∀ i, r3 = .ok i → ∃ i1 i2, r1 = .ok i1 ∧ tkC tp (stT tp sacc i1).isSome i1 = .ok i2 ∧ r2 = .ok i2 ∧ tkC tp (isK tp i2 15) i2 = .ok i := by
          intro i hi
          rw [← hr3] at hi
          obtain ⟨i2, h1, h2⟩ := bd_okI hi
          have h1' := h1
          rw [← hr2] at h1'
          obtain ⟨i1, h3, h4⟩ := bd_okI h1'
          exact ⟨i1, i2, h3, h4, h1, h2⟩
        obtain ⟨x3, x3l, x3e, x3c⟩ := nam W3 SM3 r3 U03 P3 (fun i hi => by
          obtain ⟨i1, i2, h1, -⟩ := rr3 i hi
          exact rr1 i1 h1)
        -- from the second place on
        have go4 : Go κ mX7_readFlow 90 [some (.ref b), some (.int (Int32.ofNat n)), some (.int (enO x1)), some (.int (enO x3)), none, none] [] (hX h b 33 W3 SM3) Q := by
          have tk4 : ∀ c, c = (x3.isSome && !decide (x3 = x1)) → Ev κ mX7_takes [.ref b, .int (boI c)] (hX h b 33 W3 SM3) (zK κ mX7_readFlow 105 3 [some (.ref b), some (.int (Int32.ofNat n)), some (.int (enO x1)), some (.int (enO x3)), none, none] [] Q) := by
            intro c hc
            refine e7_takes S T3 P3 fun W4 SM4 U4 P4 => ?_
            have T4 := T3.rv U4
            simp (disch := first | assumption | omega | decide) only [gB, I_all, zK_v, zK_n, true_and, and_true, Nat.reduceAdd, Nat.reduceMul, Nat.reduceSub, z_lt, z_le, z_neq, not_false_eq_true, or_true, true_or, or_false, false_or, false_and, and_false, gX7_readFlow_1, gX7_readFlow_2, F, R, K]
            refine e7_numberOf (j := 16) (l := 10) (u := 9999) S T4 P4 rfl (by decide) (by decide) fun W5 SM5 v5 U5 P5 hv5 => ?_
            have T5 := T4.rv U5
            simp (disch := first | assumption | omega | decide) only [gB, I_all, zK_v, zK_n, true_and, and_true, Nat.reduceAdd, Nat.reduceMul, Nat.reduceSub, z_lt, z_le, z_neq, not_false_eq_true, or_true, true_or, or_false, false_or, false_and, and_false, gX7_readFlow_1, gX7_readFlow_2, F, R, K]
            refine e7_numberOf (j := 17) (l := 0) (u := 9999) S T5 P5 rfl (by decide) (by decide) fun W6 SM6 v6 U6 P6 hv6 => ?_
            have T6 := T5.rv U6
            have U06 := ((U03.trans U4).trans U5).trans U6
            have fin : ∀ c, c = decide (W6 0 106 = Int32.ofNat 4) → Ev κ mX7_takes [.ref b, .int (boI c)] (hX h b 33 W6 SM6) (zK κ mX7_readFlow 149 3 [some (.ref b), some (.int (Int32.ofNat n)), some (.int (enO x1)), some (.int (enO x3)), some (.int v5), some (.int v6)] [] Q) := by
              intro c' hc'
              refine e7_takes S T6 P6 fun W7 SM7 U7 P7 => ?_
              replace P7 := bd_c (f := fun i => isSg tp i) P7 (sg_c P6 hc')
              have T7 := T6.rv U7
              have U07 := U06.trans U7
              have hn7 : W7 0 113 = Int32.ofNat n := by rw [U07.1 _ _ (by unfold rdD; omega)]; exact hn
              have e7 : ((((r3.bind (tkC tp c)).bind (nofC tp 16 10 9999)).bind (nofC tp 17 0 9999)).bind fun i => tkC tp (isSg tp i) i) = r.bind fun i => ePos (rdFl tp sacc acc i) := by
                simp only [rdFl_pos, bd_bd]
                rw [← hr3, ← hr2, ← hr1]
                simp only [bd_bd]
                cases hr : r with
                | error e => rw [bd_er, bd_er]
                | ok i0 =>
                  rw [bd_ok, bd_ok]
                  cases ht1 : tkC tp (isK tp i0 14 && decide (acc.length < 16)) i0 with
                  | error e => rw [bd_er, bd_er]
                  | ok i1 =>
                    have er1 : r1 = .ok i1 := by rw [← hr1, hr, bd_ok]; exact ht1
                    rw [bd_ok, bd_ok]
                    cases ht2 : tkC tp (stT tp sacc i1).isSome i1 with
                    | error e => rw [bd_er, bd_er]
                    | ok i2 =>
                      have er2 : r2 = .ok i2 := by rw [← hr2, er1, bd_ok]; exact ht2
                      rw [bd_ok, bd_ok]
                      cases ht3 : tkC tp (isK tp i2 15) i2 with
                      | error e => rw [bd_er, bd_er]
                      | ok i3 =>
                        have er3 : r3 = .ok i3 := by rw [← hr3, er2, bd_ok]; exact ht3
                        rw [bd_ok, bd_ok, ← x1e i1 er1, ← x3e i3 er3, ← hc]
              rw [e7] at P7
              cases hr6 : (r.bind fun i => ePos (rdFl tp sacc acc i)) with
              | error e =>
                rw [hr6] at P7
                have p1 := P7.1
                have f := hq W7 SM7 n (D _ _ _ _ U07) hn7 hn16 (by rw [hr6]; exact P7) (fun i j st hi hj => by
                  rw [hi, bd_ok, hj] at hr6
                  cases hr6)
                simp (disch := first | assumption | omega | decide) only [gB, I_all, zK_v, zK_n, true_and, and_true, Nat.reduceAdd, Nat.reduceMul, Nat.reduceSub, z_lt, z_le, z_neq, not_false_eq_true, or_true, true_or, or_false, false_or, false_and, and_false, gX7_readFlow_1, gX7_readFlow_2, F, R, K, p1]
                exact f
              | ok j0 =>
                rw [hr6] at P7
                have p1 := P7.2.1
                obtain ⟨i, hi, hj⟩ := bd_okI hr6
                obtain ⟨q, hq1, hq2⟩ := bd_okI hj
                obtain ⟨j, st⟩ := q
                obtain ⟨-, A, hlen⟩ := A0 i hi
                have hq1' := hq1
                unfold rdFl at hq1'
                obtain ⟨i1, h1, hj'⟩ := bd_okI hq1'
                obtain ⟨i2, h2, hj'⟩ := bd_okI hj'
                obtain ⟨i3, h3, hj'⟩ := bd_okI hj'
                obtain ⟨i4, h4, hj'⟩ := bd_okI hj'
                obtain ⟨i5, h5, hj'⟩ := bd_okI hj'
                obtain ⟨i6, h6, hj'⟩ := bd_okI hj'
                obtain ⟨i7, h7, hj'⟩ := bd_okI hj'
                cases hj'
                have hlt : n < 16 := by
                  have := (tkC_ok h1).1
                  have := of_decide_eq_true (Bool.and_eq_true_iff.mp this).2
                  omega
                have er1 : r1 = .ok i1 := by rw [← hr1, hi, bd_ok]; exact h1
                have er2 : r2 = .ok i2 := by rw [← hr2, er1, bd_ok]; exact h2
                have er3 : r3 = .ok i3 := by rw [← hr3, er2, bd_ok]; exact h3
                have ex1 := x1e i1 er1
                have ex3 := x3e i3 er3
                have er4 : r3.bind (tkC tp c) = .ok i4 := by rw [er3, bd_ok, hc, ex1, ex3]; exact h4
                have er5 : (r3.bind (tkC tp c)).bind (nofC tp 16 10 9999) = .ok i5 := by rw [er4, bd_ok]; exact h5
                obtain ⟨n1, n2, n3⟩ := nofC_ok h5
                obtain ⟨n4, n5, n6⟩ := nofC_ok h6
                have s5 := hv5 i4 er4 n1 n2
                have s6 := hv6 i5 er5 n4 n5
                have c2 := (tkC_ok h2).1
                have c4 := (Bool.and_eq_true_iff.mp (tkC_ok h4).1).1
                obtain ⟨g1, hg1⟩ := Option.isSome_iff_exists.mp c2
                obtain ⟨g3, hg3⟩ := Option.isSome_iff_exists.mp c4
                have y1 : enO x1 = Int32.ofNat ((stT tp sacc i1).getD 0) := by rw [ex1, hg1]; rfl
                have y3 : enO x3 = Int32.ofNat ((stT tp sacc i3).getD 0) := by rw [ex3, hg3]; rfl
                have f := hq (zv (zv (zv (zv (zv W7 29 n (enO x1)) 30 n (enO x3)) 31 n v5) 32 n v6) 0 113 (Int32.ofNat (n + 1))) SM7 (n + 1) ⟨fun k j h1 h2 h3 => by
                    rw [zv_nx (by omega), zv_nx (by omega), zv_nx (by omega), zv_nx (by omega), zv_nx (by omega)]
                    exact U07.1 k j h1, U07.2⟩ (zv_at rfl rfl) (by omega) (by
                    rw [hr6]
                    obtain ⟨⟨q0, q1, q2, q3, q4, q5, q6⟩, p2, p3⟩ := P7
                    have e0 : ∀ j, ¬ j = 113 → zv (zv (zv (zv (zv W7 29 n (enO x1)) 30 n (enO x3)) 31 n v5) 32 n v6) 0 113 (Int32.ofNat (n + 1)) 0 j = W7 0 j := fun j hj => by
                      rw [zv_nx (by omega), zv_nx (by omega), zv_nx (by omega), zv_nx (by omega), zv_nx (by omega)]
                    exact ⟨⟨q0, (e0 _ (by decide)).trans q1, (e0 _ (by decide)).trans q2, (e0 _ (by decide)).trans q3, fun z => (e0 _ (by decide)).trans (q4 z), fun z => (e0 _ (by decide)).trans (q5 z), q6⟩, (e0 _ (by decide)).trans p2, (e0 _ (by decide)).trans p3⟩) (fun i' j' st' hi' hj' => by
                    have : i' = i := by rw [hi] at hi'; cases hi'; rfl
                    subst this
                    rw [hq1] at hj'
                    cases hj'
                    refine ⟨fun k st0 hk => ?_, by rw [List.length_append, hlen]; rfl⟩
                    rw [List.getElem?_append] at hk
                    split at hk
                    · next hkl =>
                      have eo : ∀ m, 29 ≤ m → m ≤ 32 → zv (zv (zv (zv (zv W7 29 n (enO x1)) 30 n (enO x3)) 31 n v5) 32 n v6) 0 113 (Int32.ofNat (n + 1)) m k = W m k := fun m h1 h2 => by
                        rw [zv_nx (by omega), zv_nx (by omega), zv_nx (by omega), zv_nx (by omega), zv_nx (by omega)]
                        exact U07.1 _ _ (by unfold rdD; omega)
                      rw [eo _ (by decide) (by decide), eo _ (by decide) (by decide), eo _ (by decide) (by decide), eo _ (by decide) (by decide)]
                      exact A k st0 hk
                    · have hl := (List.getElem?_eq_some_iff.mp hk).1
                      have h0 : k = n := by simp at hl; omega
                      subst h0
                      rw [hlen, Nat.sub_self] at hk
                      simp at hk
                      subst hk
                      refine ⟨?_, ?_, ?_, ?_⟩
                      · rw [zv_nx (by omega), zv_nx (by omega), zv_nx (by omega), zv_nx (by omega), zv_at rfl rfl]; exact y1
                      · rw [zv_nx (by omega), zv_nx (by omega), zv_nx (by omega), zv_at rfl rfl]; exact y3
                      · rw [zv_nx (by omega), zv_nx (by omega), zv_at rfl rfl]; exact s5
                      · rw [zv_nx (by omega), zv_at rfl rfl]; exact s6)
                simp (disch := first | assumption | omega | decide) only [gB, I_all, zK_v, zK_n, true_and, and_true, Nat.reduceAdd, Nat.reduceMul, Nat.reduceSub, z_lt, z_le, z_neq, not_false_eq_true, or_true, true_or, or_false, false_or, false_and, and_false, gX7_readFlow_1, gX7_readFlow_2, F, R, K, p1, hn7, zv_nx]
                exact f
            have f1 := fin true
            have f0 := fin false
            rw [show boI true = Int32.ofNat 1 from rfl] at f1
            rw [show boI false = Int32.ofNat 0 from rfl] at f0
            by_cases c' : W6 0 106 = Int32.ofNat 4
            · have f := f1 (decide_eq_true c').symm
              simp (disch := first | assumption | omega | decide) only [gB, I_all, zK_v, zK_n, true_and, and_true, Nat.reduceAdd, Nat.reduceMul, Nat.reduceSub, z_lt, z_le, z_neq, not_false_eq_true, or_true, true_or, or_false, false_or, false_and, and_false, gX7_readFlow_1, gX7_readFlow_2, F, R, K, c']
              exact f
            · have f := f0 (decide_eq_false c').symm
              simp (disch := first | assumption | omega | decide) only [gB, I_all, zK_v, zK_n, true_and, and_true, Nat.reduceAdd, Nat.reduceMul, Nat.reduceSub, z_lt, z_le, z_neq, not_false_eq_true, or_true, true_or, or_false, false_or, false_and, and_false, gX7_readFlow_1, gX7_readFlow_2, F, R, K]
              exact f
          have g1 := tk4 true
          have g0 := tk4 false
          rw [show boI true = Int32.ofNat 1 from rfl] at g1
          rw [show boI false = Int32.ofNat 0 from rfl] at g0
          cases x3 with
          | none =>
            have f := g0 rfl
            rw [show enO none = Int32.ofInt (-2) from rfl] at f ⊢
            simp (disch := first | assumption | omega | decide) only [gB, I_all, zK_v, zK_n, true_and, and_true, Nat.reduceAdd, Nat.reduceMul, Nat.reduceSub, z_lt, z_le, z_neq, not_false_eq_true, or_true, true_or, or_false, false_or, false_and, and_false, gX7_readFlow_1, gX7_readFlow_2, F, R, K]
            exact f
          | some g3 =>
            have l3 := x3l g3 rfl
            cases x1 with
            | none =>
              have f := g1 rfl
              rw [show enO none = Int32.ofInt (-2) from rfl, show enO (some g3) = Int32.ofNat g3 from rfl] at f ⊢
              have ne : ¬ Int32.ofNat g3 = Int32.ofInt (-2) := fun e => by
                have := I_ne_m2 (n := g3) (by omega)
                rw [e] at this
                exact this (by decide)
              simp (disch := first | assumption | omega | decide) only [gB, I_all, zK_v, zK_n, true_and, and_true, Nat.reduceAdd, Nat.reduceMul, Nat.reduceSub, z_lt, z_le, z_neq, not_false_eq_true, or_true, true_or, or_false, false_or, false_and, and_false, gX7_readFlow_1, gX7_readFlow_2, F, R, K]
              exact f
            | some g1' =>
              have l1 := x1l g1' rfl
              rw [show enO (some g1') = Int32.ofNat g1' from rfl, show enO (some g3) = Int32.ofNat g3 from rfl] at g1 g0 ⊢
              by_cases e : g3 = g1'
              · have f := g0 (by rw [e]; simp)
                simp (disch := first | assumption | omega | decide) only [gB, I_all, zK_v, zK_n, true_and, and_true, Nat.reduceAdd, Nat.reduceMul, Nat.reduceSub, z_lt, z_le, z_neq, not_false_eq_true, or_true, true_or, or_false, false_or, false_and, and_false, gX7_readFlow_1, gX7_readFlow_2, F, R, K]
                exact f
              · have f := g1 (by simp [e])
                simp (disch := first | assumption | omega | decide) only [gB, I_all, zK_v, zK_n, true_and, and_true, Nat.reduceAdd, Nat.reduceMul, Nat.reduceSub, z_lt, z_le, z_neq, not_false_eq_true, or_true, true_or, or_false, false_or, false_and, and_false, gX7_readFlow_1, gX7_readFlow_2, F, R, K]
                exact f
        rcases x3c with ⟨k1, k2⟩ | ⟨k1, k2⟩
        · simp (disch := first | assumption | omega | decide) only [gB, I_all, zK_v, zK_n, true_and, and_true, Nat.reduceAdd, Nat.reduceMul, Nat.reduceSub, z_lt, z_le, z_neq, not_false_eq_true, or_true, true_or, or_false, false_or, false_and, and_false, gX7_readFlow_1, gX7_readFlow_2, F, R, K, k1, k2]
          simp (disch := first | assumption | omega | decide) only [gB, I_all, zK_v, zK_n, true_and, and_true, Nat.reduceAdd, Nat.reduceMul, Nat.reduceSub, z_lt, z_le, z_neq, not_false_eq_true, or_true, true_or, or_false, false_or, false_and, and_false, gX7_readFlow_1, gX7_readFlow_2, F, R, K] at go4
          exact go4
        · rw [k2, show enO none = Int32.ofInt (-2) from rfl] at go4
          simp (disch := first | assumption | omega | decide) only [gB, I_all, zK_v, zK_n, true_and, and_true, Nat.reduceAdd, Nat.reduceMul, Nat.reduceSub, z_lt, z_le, z_neq, not_false_eq_true, or_true, true_or, or_false, false_or, false_and, and_false, gX7_readFlow_1, gX7_readFlow_2, F, R, K]
          simp (disch := first | assumption | omega | decide) only [gB, I_all, zK_v, zK_n, true_and, and_true, Nat.reduceAdd, Nat.reduceMul, Nat.reduceSub, z_lt, z_le, z_neq, not_false_eq_true, or_true, true_or, or_false, false_or, false_and, and_false, gX7_readFlow_1, gX7_readFlow_2, F, R, K] at go4
          exact go4
      have g1 := tk2 true
      have g0 := tk2 false
      rw [show boI true = Int32.ofNat 1 from rfl] at g1
      rw [show boI false = Int32.ofNat 0 from rfl] at g0
      cases x1 with
      | none =>
        have f := g0 rfl
        rw [show enO none = Int32.ofInt (-2) from rfl] at f ⊢
        simp (disch := first | assumption | omega | decide) only [gB, I_all, zK_v, zK_n, true_and, and_true, Nat.reduceAdd, Nat.reduceMul, Nat.reduceSub, z_lt, z_le, z_neq, not_false_eq_true, or_true, true_or, or_false, false_or, false_and, and_false, gX7_readFlow_1, gX7_readFlow_2, F, R, K]
        exact f
      | some g1' =>
        have l1 := x1l g1' rfl
        have f := g1 rfl
        rw [show enO (some g1') = Int32.ofNat g1' from rfl] at f ⊢
        simp (disch := first | assumption | omega | decide) only [gB, I_all, zK_v, zK_n, true_and, and_true, Nat.reduceAdd, Nat.reduceMul, Nat.reduceSub, z_lt, z_le, z_neq, not_false_eq_true, or_true, true_or, or_false, false_or, false_and, and_false, gX7_readFlow_1, gX7_readFlow_2, F, R, K]
        exact f
    have g2 := go2 none
    rcases x1c with ⟨k1, k2⟩ | ⟨k1, k2⟩
    · simp (disch := first | assumption | omega | decide) only [gB, I_all, zK_v, zK_n, true_and, and_true, Nat.reduceAdd, Nat.reduceMul, Nat.reduceSub, z_lt, z_le, z_neq, not_false_eq_true, or_true, true_or, or_false, false_or, false_and, and_false, gX7_readFlow_1, gX7_readFlow_2, F, R, K, k1, k2]
      simp (disch := first | assumption | omega | decide) only [gB, I_all, zK_v, zK_n, true_and, and_true, Nat.reduceAdd, Nat.reduceMul, Nat.reduceSub, z_lt, z_le, z_neq, not_false_eq_true, or_true, true_or, or_false, false_or, false_and, and_false, gX7_readFlow_1, gX7_readFlow_2, F, R, K] at g2
      exact g2
    · rw [k2, show enO none = Int32.ofInt (-2) from rfl] at g2
      simp (disch := first | assumption | omega | decide) only [gB, I_all, zK_v, zK_n, true_and, and_true, Nat.reduceAdd, Nat.reduceMul, Nat.reduceSub, z_lt, z_le, z_neq, not_false_eq_true, or_true, true_or, or_false, false_or, false_and, and_false, gX7_readFlow_1, gX7_readFlow_2, F, R, K]
      simp (disch := first | assumption | omega | decide) only [gB, I_all, zK_v, zK_n, true_and, and_true, Nat.reduceAdd, Nat.reduceMul, Nat.reduceSub, z_lt, z_le, z_neq, not_false_eq_true, or_true, true_or, or_false, false_or, false_and, and_false, gX7_readFlow_1, gX7_readFlow_2, F, R, K] at g2
      exact g2
  have g1 := go1 true
  have g0 := go1 false
  rw [show boI true = Int32.ofNat 1 from rfl] at g1
  rw [show boI false = Int32.ofNat 0 from rfl] at g0
  have ew := fun (Q : zQ) => e7_isWord (κ := κ) (Q := Q) (j := 14) (w := Int64.ofNat 215533) S P0 rfl
  cases hw : isWd tp r 14 with
  | true =>
    rw [hw, show boI true = Int32.ofNat 1 from rfl] at ew
    by_cases c10 : n < 16
    · have f := g1 (by rw [hw, decide_eq_true c10]; rfl)
      simp (disch := first | assumption | omega | decide) only [gB, I_all, zK_v, zK_n, true_and, and_true, Nat.reduceAdd, Nat.reduceMul, Nat.reduceSub, z_lt, z_le, z_neq, not_false_eq_true, or_true, true_or, or_false, false_or, false_and, and_false, gX7_readFlow_1, gX7_readFlow_2, F, R, K, hn, ew]
      exact f
    · have f := g0 (by rw [hw, decide_eq_false c10]; rfl)
      simp (disch := first | assumption | omega | decide) only [gB, I_all, zK_v, zK_n, true_and, and_true, Nat.reduceAdd, Nat.reduceMul, Nat.reduceSub, z_lt, z_le, z_neq, not_false_eq_true, or_true, true_or, or_false, false_or, false_and, and_false, gX7_readFlow_1, gX7_readFlow_2, F, R, K, hn, ew]
      exact f
  | false =>
    rw [hw, show boI false = Int32.ofNat 0 from rfl] at ew
    have f := g0 (by rw [hw]; rfl)
    simp (disch := first | assumption | omega | decide) only [gB, I_all, zK_v, zK_n, true_and, and_true, Nat.reduceAdd, Nat.reduceMul, Nat.reduceSub, z_lt, z_le, z_neq, not_false_eq_true, or_true, true_or, or_false, false_or, false_and, and_false, gX7_readFlow_1, gX7_readFlow_2, F, R, K, hn, ew]
    exact f
end
