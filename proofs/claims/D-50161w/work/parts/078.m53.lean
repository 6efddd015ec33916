/-! the twin: reading a stop -/
abbrev Sto : Type := List Int32 × Int32 × Int32 × Bool
def nmOk (l : List Int32) : Prop := 1 ≤ l.length ∧ l.length ≤ 6 ∧ allL l l.length
def isNm (tp : List Int32) (i : Nat) : Bool := decide (tkK tp i = 1)
def nmD (acc : List Sto) (w : List Int32) : Bool := acc.any fun s => decide (s.1 = w)
def pos5 (tp : List Int32) (i j : Nat) : Nat := if isK tp i j = true then tkE tp i else i
def rdSt (tp : List Int32) (acc : List Sto) (i : Nat) : Except Nat (Nat × Sto) :=
  (tkC tp (isK tp i 8 && decide (acc.length < 10)) i).bind fun i1 => (tkC tp (isNm tp i1 && !nmD acc (tkW tp i1)) i1).bind fun i2 => (nofC tp 9 20 900 i2).bind fun i3 => (nofC tp 10 0 9999 i3).bind fun i4 =>
    (tkC tp (isSg tp (pos5 tp i4 11)) (pos5 tp i4 11)).bind fun i6 => .ok (i6, (tkW tp i1, tkV tp (tkE tp i2), tkV tp (tkE tp i3), isK tp i4 11))
def ePos {α : Type} (e : Except Nat (Nat × α)) : Except Nat Nat := e.bind fun q => .ok q.1
def AcS (W : Nat → Nat → Int32) (acc : List Sto) : Prop := (∀ k st, acc[k]? = some st → W 23 k = ltF st.1 st.1.length ∧ W 24 k = st.2.1 ∧ W 25 k = st.2.2.1 ∧ W 26 k = boI st.2.2.2) ∧ ∀ st ∈ acc, nmOk st.1
theorem ltF_tk (g : List Int32) (n : Nat) : ∀ r, r ≤ n → ltF (g.take n) r = ltF g r := by
  intro r
  induction r with
  | zero => intro _; rfl
  | succ r ih =>
    intro h
    have e : (g.take n)[r]? = g[r]? := by rw [List.getElem?_take, if_pos (by omega)]
    show ltF (g.take n) r ||| (if r < 6 then (((g.take n)[r]?).getD 0 - Int32.ofNat 96) <<< (Int32.ofNat (25 - 5 * r) &&& 31) else Int32.ofNat 0) = ltF g r ||| (if r < 6 then ((g[r]?).getD 0 - Int32.ofNat 96) <<< (Int32.ofNat (25 - 5 * r) &&& 31) else Int32.ofNat 0)
    rw [ih (by omega), e]
theorem allL_tk {g : List Int32} {n r : Nat} (h : allL g r) (hr : r ≤ n) : allL (g.take n) r := by
  intro k hk
  rw [List.getElem?_take, if_pos (by omega)]
  exact h k hk
/-- a name's token -/
theorem tk_nm {tp : List Int32} {i : Nat} (h : tkK tp i = 1) : nmOk (tkW tp i) ∧ ltF (tp.drop (tkB tp i)) (tkE tp i - tkB tp i) = ltF (tkW tp i) (tkW tp i).length := by
  have e : ∃ r, tkE tp i - tkB tp i = r ∧ r = run isL (tp.drop (tkB tp i)) ∧ 1 ≤ r ∧ r < 7 := by
    unfold tkK at h
    unfold tkE
    unfold tkT at h ⊢
    split at h
    · cases h
    · next x hx =>
      split at h
      · next hL =>
        rw [if_pos hL]
        dsimp only at h ⊢
        split at h
        · cases h
        · split at h
          · next h7 => exact ⟨_, Nat.add_sub_cancel_left _ _, rfl, run_pos (by rw [dr_at, Nat.add_zero]; exact hx) hL, h7⟩
          · cases h
      · split at h
        · dsimp only at h
          split at h <;> cases h
        · dsimp only at h
          split at h <;> cases h
  obtain ⟨r, e1, e2, e3, e4⟩ := e
  have hr := run_le isL (tp.drop (tkB tp i))
  have hL : allL (tp.drop (tkB tp i)) r := by
    intro k hk
    rw [e2] at hk
    exact run_lt hk
  have hl : (tkW tp i).length = r := by
    unfold tkW
    rw [e1, List.length_take]
    omega
  refine ⟨⟨by omega, by omega, ?_⟩, ?_⟩
  · rw [hl]
    unfold tkW
    rw [e1]
    exact allL_tk hL (Nat.le_refl _)
  · rw [hl, e1]
    unfold tkW
    rw [e1]
    exact (ltF_tk _ _ _ (Nat.le_refl _)).symm
theorem ltF_inj {l l' : List Int32} (h : nmOk l) (h' : nmOk l') (e : ltF l l.length = ltF l' l'.length) : l = l' := by
  have a := wordL_ltF h.2.1 h.2.2
  have b := wordL_ltF h'.2.1 h'.2.2
  rw [List.take_length] at a b
  rw [← a, ← b, e]
/-- what reading a stop leaves alone -/
def PzT (W W' : Nat → Nat → Int32) (SM SM' : Nat → Nat → Int64) : Prop := (∀ k j, ¬ rdD k j → ¬ (k = 0 ∧ j = 111) → ¬ (23 ≤ k ∧ k ≤ 26) → W' k j = W k j) ∧ (∀ k j, ¬ (k = 0 ∧ j = 107) → SM' k j = SM k j)
theorem ePos_bd {α : Type} (r : Except Nat Nat) (f : Nat → Except Nat (Nat × α)) : ePos (r.bind f) = r.bind fun i => ePos (f i) := bd_bd _ _ _
theorem rdSt_pos (tp : List Int32) (acc : List Sto) (i : Nat) : ePos (rdSt tp acc i) = ((((tkC tp (isK tp i 8 && decide (acc.length < 10)) i).bind fun i1 => tkC tp (isNm tp i1 && !nmD acc (tkW tp i1)) i1).bind (nofC tp 9 20 900)).bind (nofC tp 10 0 9999)).bind fun i4 => tkC tp (isSg tp (pos5 tp i4 11)) (pos5 tp i4 11) := by
  unfold rdSt
  simp only [ePos_bd, bd_bd]
  have e : ∀ x : Except Nat Nat, ∀ (g : Nat → Sto), (x.bind fun i => ePos (.ok (i, g i))) = x := by
    intro x g
    cases x <;> rfl
  have e' : ∀ (x : Except Nat Nat) (st : Sto), (x.bind fun i => ePos (.ok (i, st))) = x := fun x st => e x (fun _ => st)
  simp only [e']
section
variable {κ : zC} {h : zH} {b : Nat} {W : Nat → Nat → Int32} {SM : Nat → Nat → Int64} {Q : zQ} {tp : List Int32}
theorem AcS.cg {W W' : Nat → Nat → Int32} {acc : List Sto} (A : AcS W acc) (e : ∀ k j, 23 ≤ k → k ≤ 26 → W' k j = W k j) : AcS W' acc := by
  refine ⟨fun k st hk => ?_, A.2⟩
  rw [e _ _ (by decide) (by decide), e _ _ (by decide) (by decide), e _ _ (by decide) (by decide), e _ _ (by decide) (by decide)]
  exact A.1 k st hk
/-- is the name new, asked of the packed names -/
theorem nmD_f {W : Nat → Nat → Int32} {acc : List Sto} {w : List Int32} {x : Int32} (A : AcS W acc) (hw : nmOk w) (hx : x = ltF w w.length) : fst1 (fun s => decide (W 23 s = x)) acc.length = none ↔ nmD acc w = false := by
  unfold fst1 nmD
  rw [List.find?_eq_none, List.any_eq_false]
  constructor
  · intro h st hst
    obtain ⟨k, hk, hk2⟩ := List.getElem_of_mem hst
    have := h k (List.mem_range.mpr hk)
    have g : acc[k]? = some st := by rw [List.getElem?_eq_getElem hk, hk2]
    rw [(A.1 k st g).1, hx] at this
    intro e
    have e' := of_decide_eq_true e
    rw [e'] at this
    exact this (decide_eq_true rfl)
  · intro h k hk e
    have hk := List.mem_range.mp hk
    have g : acc[k]? = some acc[k] := List.getElem?_eq_getElem hk
    have e' := of_decide_eq_true e
    rw [(A.1 k _ g).1, hx] at e'
    have := ltF_inj (A.2 _ (List.getElem_mem hk)) hw e'
    exact h _ (List.getElem_mem hk) (decide_eq_true this)
theorem e7_readStop {r : Except Nat Nat} {n : Nat} {acc : List Sto} (S : TSh κ h b) (T0 : TTp W tp) (P0 : PzS W SM tp r) (hn : W 0 111 = Int32.ofNat n) (hn10 : n ≤ 10) (A0 : ∀ i, r = .ok i → AcS W acc ∧ acc.length = n)
    (hq : ∀ W' SM' n', PzT W W' SM SM' → W' 0 111 = Int32.ofNat n' → n' ≤ 10 → PzS W' SM' tp (r.bind fun i => ePos (rdSt tp acc i)) → (∀ i j st, r = .ok i → rdSt tp acc i = .ok (j, st) → AcS W' (acc ++ [st]) ∧ (acc ++ [st]).length = n') → Q (.inl none) (hX h b 33 W' SM')) :
    Ev κ mX7_readStop [.ref b] (hX h b 33 W SM) Q := by
  have F := xF S
  have R := xR S
  have K := xK S
  have hB : kB κ ≤ b := S.1.1
  have D := fun (W W' : Nat → Nat → Int32) (SM SM' : Nat → Nat → Int64) (U : PzV W W' SM SM') => show PzT W W' SM SM' from ⟨fun k j h1 _ _ => U.1 k j h1, U.2⟩
  -- from the fine flag on
  have st7 : ∀ (W6 : Nat → Nat → Int32) (SM6 : Nat → Nat → Int64) (lt v3 v4 : Int32) (p : Bool), TTp W6 tp → PzV W W6 SM SM6 → PzS W6 SM6 tp (r.bind fun i => ePos (rdSt tp acc i)) →
      (∀ i j st, r = .ok i → rdSt tp acc i = .ok (j, st) → lt = ltF st.1 st.1.length ∧ v3 = st.2.1 ∧ v4 = st.2.2.1 ∧ p = st.2.2.2 ∧ nmOk st.1) →
      Go κ mX7_readStop 120 [some (.ref b), some (.int (Int32.ofNat n)), some (.int lt), some (.int v3), some (.int v4), some (.int (boI p))] [] (hX h b 33 W6 SM6) Q := by
    intro W6 SM6 lt v3 v4 p T6 U6 P6 hst
    have hn6 : W6 0 111 = Int32.ofNat n := by rw [U6.1 _ _ (by unfold rdD; omega)]; exact hn
    cases hr6 : (r.bind fun i => ePos (rdSt tp acc i)) with
    | error e =>
      rw [hr6] at P6
      have p1 := P6.1
      have f := hq W6 SM6 n (D _ _ _ _ U6) hn6 hn10 (by rw [hr6]; exact P6) (fun i j st hi hj => by
        rw [hi, bd_ok, hj] at hr6
        cases hr6)
      simp (disch := first | assumption | omega | decide) only [gB, I_all, zK_v, zK_n, true_and, and_true, Nat.reduceAdd, Nat.reduceMul, Nat.reduceSub, z_lt, z_le, z_neq, not_false_eq_true, or_true, true_or, or_false, false_or, false_and, and_false, gX7_readStop_1, gX7_readStop_2, F, R, K, p1]
      exact f
    | ok j0 =>
      rw [hr6] at P6
      have p1 := P6.2.1
      obtain ⟨i, hi, hj⟩ := bd_okI hr6
      obtain ⟨q, hq1, hq2⟩ := bd_okI hj
      obtain ⟨j, st⟩ := q
      obtain ⟨s1, s2, s3, s4, s5⟩ := hst i j st hi hq1
      obtain ⟨A, hlen⟩ := A0 i hi
      have hlt : n < 10 := by
        obtain ⟨i1, h1, -⟩ := bd_okI hq1
        have := (tkC_ok h1).1
        have := of_decide_eq_true (Bool.and_eq_true_iff.mp this).2
        omega
      have fin : ∀ v, v = boI p → Q (.inl none) (hX h b 33 (zv (zv (zv (zv (zv W6 23 n lt) 24 n v3) 25 n v4) 26 n v) 0 111 (Int32.ofNat (n + 1))) SM6) := by
        intro v hv
        refine hq _ _ (n + 1) ⟨fun k j h1 h2 h3 => ?_, U6.2⟩ (zv_at rfl rfl) (by omega) ?_ (fun i' j' st' hi' hj' => ?_)
        · rw [zv_nx (by omega), zv_nx (by omega), zv_nx (by omega), zv_nx (by omega), zv_nx (by omega)]
          exact U6.1 k j h1
        · rw [hr6]
          obtain ⟨⟨q0, q1, q2, q3, q4, q5, q6⟩, p2, p3⟩ := P6
          have e0 : ∀ j, ¬ j = 111 → zv (zv (zv (zv (zv W6 23 n lt) 24 n v3) 25 n v4) 26 n v) 0 111 (Int32.ofNat (n + 1)) 0 j = W6 0 j := fun j hj => by
            rw [zv_nx (by omega), zv_nx (by omega), zv_nx (by omega), zv_nx (by omega), zv_nx (by omega)]
          exact ⟨⟨q0, (e0 _ (by decide)).trans q1, (e0 _ (by decide)).trans q2, (e0 _ (by decide)).trans q3, fun z => (e0 _ (by decide)).trans (q4 z), fun z => (e0 _ (by decide)).trans (q5 z), q6⟩, (e0 _ (by decide)).trans p2, (e0 _ (by decide)).trans p3⟩
        · have : i' = i := by rw [hi] at hi'; cases hi'; rfl
          subst this
          rw [hq1] at hj'
          cases hj'
          refine ⟨⟨fun k st0 hk => ?_, fun st0 hst0 => ?_⟩, by rw [List.length_append, hlen]; rfl⟩
          · rw [List.getElem?_append] at hk
            split at hk
            · next hkl =>
              have eo : ∀ m, 23 ≤ m → m ≤ 26 → zv (zv (zv (zv (zv W6 23 n lt) 24 n v3) 25 n v4) 26 n v) 0 111 (Int32.ofNat (n + 1)) m k = W m k := fun m h1 h2 => by
                rw [zv_nx (by omega), zv_nx (by omega), zv_nx (by omega), zv_nx (by omega), zv_nx (by omega)]
                exact U6.1 _ _ (by unfold rdD; omega)
              rw [eo _ (by decide) (by decide), eo _ (by decide) (by decide), eo _ (by decide) (by decide), eo _ (by decide) (by decide)]
              exact A.1 k st0 hk
            · have hl := (List.getElem?_eq_some_iff.mp hk).1
              have h0 : k = n := by simp at hl; omega
              subst h0
              rw [hlen, Nat.sub_self] at hk
              simp at hk
              subst hk
              refine ⟨?_, ?_, ?_, ?_⟩
              · rw [zv_nx (by omega), zv_nx (by omega), zv_nx (by omega), zv_nx (by omega), zv_at rfl rfl]; exact s1
              · rw [zv_nx (by omega), zv_nx (by omega), zv_nx (by omega), zv_at rfl rfl]; exact s2
              · rw [zv_nx (by omega), zv_nx (by omega), zv_at rfl rfl]; exact s3
              · rw [zv_nx (by omega), zv_at rfl rfl, hv, s4]
          · rcases List.mem_append.mp hst0 with h1 | h1
            · exact A.2 st0 h1
            · simp at h1
              subst h1
              exact s5
      cases p with
      | true =>
        have f := fin (Int32.ofNat 1) rfl
        have hp : boI true = Int32.ofNat 1 := rfl
        rw [hp]
        simp (disch := first | assumption | omega | decide) only [gB, I_all, zK_v, zK_n, true_and, and_true, Nat.reduceAdd, Nat.reduceMul, Nat.reduceSub, z_lt, z_le, z_neq, not_false_eq_true, or_true, true_or, or_false, false_or, false_and, and_false, gX7_readStop_1, gX7_readStop_2, F, R, K, p1, hn6, zv_nx]
        exact f
      | false =>
        have f := fin (Int32.ofNat 0) rfl
        have hp : boI false = Int32.ofNat 0 := rfl
        rw [hp]
        simp (disch := first | assumption | omega | decide) only [gB, I_all, zK_v, zK_n, true_and, and_true, Nat.reduceAdd, Nat.reduceMul, Nat.reduceSub, z_lt, z_le, z_neq, not_false_eq_true, or_true, true_or, or_false, false_or, false_and, and_false, gX7_readStop_1, gX7_readStop_2, F, R, K, p1, hn6, zv_nx]
        exact f
  -- one: the word "stop", room for it
  have go1 : ∀ c1, c1 = (isWd tp r 8 && decide (n < 10)) → Ev κ mX7_takes [.ref b, .int (boI c1)] (hX h b 33 W SM) (zK κ mX7_readStop 27 3 [some (.ref b), some (.int (Int32.ofNat n)), none, none, none, none] [] Q) := by
    intro c1 hc1
    refine e7_takes S T0 P0 fun W1 SM1 U1 P1 => ?_
    replace P1 := bd_c (f := fun i => isK tp i 8 && decide (acc.length < 10)) P1 (fun i hi => by
      subst hi
      rw [hc1, isWd_ok, (A0 i rfl).2])
    have T1 := T0.rv U1
    have A1 : ∀ i, (r.bind fun i => tkC tp (isK tp i 8 && decide (acc.length < 10)) i) = .ok i → AcS W1 acc ∧ acc.length = n := by
      intro i hi
      obtain ⟨i0, h1, -⟩ := bd_okI hi
      obtain ⟨a1, a2⟩ := A0 i0 h1
      exact ⟨a1.cg fun k j h1 h2 => U1.1 _ _ (by unfold rdD; omega), a2⟩
    have hn1 : W1 0 111 = Int32.ofNat n := by rw [U1.1 _ _ (by unfold rdD; omega)]; exact hn
    generalize hr1 : (r.bind fun i => tkC tp (isK tp i 8 && decide (acc.length < 10)) i) = r1 at *
    generalize hlt : W1 0 109 = lt
    -- two: a new name
    have go2 : ∀ c2, (∀ i, r1 = .ok i → c2 = (isNm tp i && !nmD acc (tkW tp i))) → Ev κ mX7_takes [.ref b, .int (boI c2)] (hX h b 33 W1 SM1) (zK κ mX7_readStop 56 3 [some (.ref b), some (.int (Int32.ofNat n)), some (.int lt), none, none, none] [] Q) := by
      intro c2 hc2
      refine e7_takes S T1 P1 fun W2 SM2 U2 P2 => ?_
      replace P2 := bd_c (f := fun i => isNm tp i && !nmD acc (tkW tp i)) P2 hc2
      have T2 := T1.rv U2
      simp (disch := first | assumption | omega | decide) only [gB, I_all, zK_v, zK_n, true_and, and_true, Nat.reduceAdd, Nat.reduceMul, Nat.reduceSub, z_lt, z_le, z_neq, not_false_eq_true, or_true, true_or, or_false, false_or, false_and, and_false, gX7_readStop_1, gX7_readStop_2, F, R, K]
      refine e7_numberOf (j := 9) (l := 20) (u := 900) S T2 P2 rfl (by decide) (by decide) fun W3 SM3 v3 U3 P3 hv3 => ?_
      have T3 := T2.rv U3
      simp (disch := first | assumption | omega | decide) only [gB, I_all, zK_v, zK_n, true_and, and_true, Nat.reduceAdd, Nat.reduceMul, Nat.reduceSub, z_lt, z_le, z_neq, not_false_eq_true, or_true, true_or, or_false, false_or, false_and, and_false, gX7_readStop_1, gX7_readStop_2, F, R, K]
      refine e7_numberOf (j := 10) (l := 0) (u := 9999) S T3 P3 rfl (by decide) (by decide) fun W4 SM4 v4 U4 P4 hv4 => ?_
      have T4 := T3.rv U4
      have U04 := ((U1.trans U2).trans U3).trans U4
      generalize hr4 : (((r1.bind fun i => tkC tp (isNm tp i && !nmD acc (tkW tp i)) i).bind (nofC tp 9 20 900)).bind (nofC tp 10 0 9999)) = r4 at P4
      have ew := fun (Q : zQ) => e7_isWord (κ := κ) (Q := Q) (j := 11) (w := Int64.ofNat 17278420) S P4 rfl
      -- six: the sign; and the end
      have go6 : ∀ (p : Bool) (W5 : Nat → Nat → Int32) (SM5 : Nat → Nat → Int64), p = isWd tp r4 11 → PzV W4 W5 SM4 SM5 → PzS W5 SM5 tp (r4.bind fun i => .ok (pos5 tp i 11)) →
          Go κ mX7_readStop 103 [some (.ref b), some (.int (Int32.ofNat n)), some (.int lt), some (.int v3), some (.int v4), some (.int (boI p))] [] (hX h b 33 W5 SM5) Q := by
        intro p W5 SM5 hp U5 P5
        have T5 := T4.rv U5
        have fin : ∀ c, c = decide (W5 0 106 = Int32.ofNat 4) → Ev κ mX7_takes [.ref b, .int (boI c)] (hX h b 33 W5 SM5) (zK κ mX7_readStop 117 3 [some (.ref b), some (.int (Int32.ofNat n)), some (.int lt), some (.int v3), some (.int v4), some (.int (boI p))] [] Q) := by
          intro c hc
          refine e7_takes S T5 P5 fun W6 SM6 U6 P6 => ?_
          replace P6 := bd_c (f := fun i => isSg tp i) P6 (sg_c P5 hc)
          have e6 : ((r4.bind fun i => Except.ok (pos5 tp i 11)).bind fun i => tkC tp (isSg tp i) i) = r.bind fun i => ePos (rdSt tp acc i) := by
            rw [← hr4, ← hr1]
            simp only [rdSt_pos, bd_bd, bd_ok]
          rw [e6] at P6
          have f := st7 W6 SM6 lt v3 v4 p (T5.rv U6) ((U04.trans U5).trans U6) P6 (fun i j st hi hj => by
            unfold rdSt at hj
            obtain ⟨i1, h1, hj⟩ := bd_okI hj
            obtain ⟨i2, h2, hj⟩ := bd_okI hj
            obtain ⟨i3, h3, hj⟩ := bd_okI hj
            obtain ⟨i4, h4, hj⟩ := bd_okI hj
            obtain ⟨i6, h6, hj⟩ := bd_okI hj
            cases hj
            have k1 : tkK tp i1 = 1 := of_decide_eq_true (Bool.and_eq_true_iff.mp (tkC_ok h2).1).1
            obtain ⟨t1, t2⟩ := tk_nm k1
            have er1 : r1 = .ok i1 := by rw [← hr1, hi, bd_ok]; exact h1
            have er2 : (r1.bind fun i => tkC tp (isNm tp i && !nmD acc (tkW tp i)) i) = .ok i2 := by rw [er1, bd_ok]; exact h2
            have er3 : ((r1.bind fun i => tkC tp (isNm tp i && !nmD acc (tkW tp i)) i).bind (nofC tp 9 20 900)) = .ok i3 := by rw [er2, bd_ok]; exact h3
            have er4 : r4 = .ok i4 := by rw [← hr4, er3, bd_ok]; exact h4
            obtain ⟨n1, n2, n3⟩ := nofC_ok h3
            obtain ⟨n4, n5, n6⟩ := nofC_ok h4
            rw [er1] at P1
            refine ⟨?_, hv3 i2 er2 n1 n2, hv4 i3 er3 n4 n5, ?_, t1⟩
            · rw [← hlt, ← t2]
              exact P1.1.2.2.2.2.2.1 k1
            · rw [hp, er4, isWd_ok])
          simp (disch := first | assumption | omega | decide) only [gB, I_all, zK_v, zK_n, true_and, and_true, Nat.reduceAdd, Nat.reduceMul, Nat.reduceSub, z_lt, z_le, z_neq, not_false_eq_true, or_true, true_or, or_false, false_or, false_and, and_false, gX7_readStop_1, gX7_readStop_2, F, R, K]
          simp (disch := first | assumption | omega | decide) only [gB, I_all, zK_v, zK_n, true_and, and_true, Nat.reduceAdd, Nat.reduceMul, Nat.reduceSub, z_lt, z_le, z_neq, not_false_eq_true, or_true, true_or, or_false, false_or, false_and, and_false, gX7_readStop_1, gX7_readStop_2, F, R, K] at f
          exact f
        have f1 := fin true
        have f0 := fin false
        rw [show boI true = Int32.ofNat 1 from rfl] at f1
        rw [show boI false = Int32.ofNat 0 from rfl] at f0
        by_cases c : W5 0 106 = Int32.ofNat 4
        · have f := f1 (decide_eq_true c).symm
          simp (disch := first | assumption | omega | decide) only [gB, I_all, zK_v, zK_n, true_and, and_true, Nat.reduceAdd, Nat.reduceMul, Nat.reduceSub, z_lt, z_le, z_neq, not_false_eq_true, or_true, true_or, or_false, false_or, false_and, and_false, gX7_readStop_1, gX7_readStop_2, F, R, K, c]
          exact f
        · have f := f0 (decide_eq_false c).symm
          simp (disch := first | assumption | omega | decide) only [gB, I_all, zK_v, zK_n, true_and, and_true, Nat.reduceAdd, Nat.reduceMul, Nat.reduceSub, z_lt, z_le, z_neq, not_false_eq_true, or_true, true_or, or_false, false_or, false_and, and_false, gX7_readStop_1, gX7_readStop_2, F, R, K]
          exact f
      cases hp : isWd tp r4 11 with
      | true =>
        rw [hp, show boI true = Int32.ofNat 1 from rfl] at ew
        obtain ⟨i4, hi4⟩ : ∃ i4, r4 = .ok i4 := by
          cases r4 with
          | error e => cases hp
          | ok i => exact ⟨i, rfl⟩
        have P4' := P4
        rw [hi4] at P4'
        obtain ⟨p41, p42, p43⟩ := P4'
        simp (disch := first | assumption | omega | decide) only [gB, I_all, zK_v, zK_n, true_and, and_true, Nat.reduceAdd, Nat.reduceMul, Nat.reduceSub, z_lt, z_le, z_neq, not_false_eq_true, or_true, true_or, or_false, false_or, false_and, and_false, gX7_readStop_1, gX7_readStop_2, F, R, K, ew]
        refine e7_next S T4 p41.2.1 (tkE_le p41.1) fun W5 SM5 U5 P5 => ?_
        have f := go6 true W5 SM5 hp.symm U5.v (by
          rw [hi4, bd_ok]
          rw [hi4, isWd_ok] at hp
          have e5 : pos5 tp i4 11 = tkE tp i4 := by unfold pos5; rw [if_pos hp]
          rw [e5]
          exact ⟨P5, by rw [U5.1 _ _ (by unfold rdC; omega)]; exact p42, by rw [U5.1 _ _ (by unfold rdC; omega)]; exact p43⟩)
        rw [show boI true = Int32.ofNat 1 from rfl] at f
        simp (disch := first | assumption | omega | decide) only [gB, I_all, zK_v, zK_n, true_and, and_true, Nat.reduceAdd, Nat.reduceMul, Nat.reduceSub, z_lt, z_le, z_neq, not_false_eq_true, or_true, true_or, or_false, false_or, false_and, and_false, gX7_readStop_1, gX7_readStop_2, F, R, K]
        simp (disch := first | assumption | omega | decide) only [gB, I_all, zK_v, zK_n, true_and, and_true, Nat.reduceAdd, Nat.reduceMul, Nat.reduceSub, z_lt, z_le, z_neq, not_false_eq_true, or_true, true_or, or_false, false_or, false_and, and_false, gX7_readStop_1, gX7_readStop_2, F, R, K] at f
        exact f
      | false =>
        rw [hp, show boI false = Int32.ofNat 0 from rfl] at ew
        have f := go6 false W4 SM4 hp.symm PzV.rfl (by
          cases hr : r4 with
          | error e =>
            rw [bd_er]
            rw [hr] at P4
            exact P4
          | ok i4 =>
            rw [bd_ok]
            rw [hr] at P4
            rw [hr, isWd_ok] at hp
            have e5 : pos5 tp i4 11 = i4 := by unfold pos5; rw [if_neg (by rw [hp]; decide)]
            rw [e5]
            exact P4)
        rw [show boI false = Int32.ofNat 0 from rfl] at f
        simp (disch := first | assumption | omega | decide) only [gB, I_all, zK_v, zK_n, true_and, and_true, Nat.reduceAdd, Nat.reduceMul, Nat.reduceSub, z_lt, z_le, z_neq, not_false_eq_true, or_true, true_or, or_false, false_or, false_and, and_false, gX7_readStop_1, gX7_readStop_2, F, R, K, ew]
        simp (disch := first | assumption | omega | decide) only [gB, I_all, zK_v, zK_n, true_and, and_true, Nat.reduceAdd, Nat.reduceMul, Nat.reduceSub, z_lt, z_le, z_neq, not_false_eq_true, or_true, true_or, or_false, false_or, false_and, and_false, gX7_readStop_1, gX7_readStop_2, F, R, K] at f
        exact f
    have g1 := go2 true
    have g0 := go2 false
    rw [show boI true = Int32.ofNat 1 from rfl] at g1
    rw [show boI false = Int32.ofNat 0 from rfl] at g0
    have es := fun (Q : zQ) => e7_stopNamed (κ := κ) (W := W1) (SM := SM1) (Q := Q) S hn10 hn1
    rw [hlt] at es
    by_cases ck : W1 0 106 = Int32.ofNat 1
    · cases hf : fst1 (fun s => decide (W1 23 s = lt)) n with
      | none =>
        rw [hf, show enO none = Int32.ofInt (-2) from rfl] at es
        have f := g1 (fun i hi => by
          have P1' := P1
          rw [hi] at P1'
          obtain ⟨⟨q0, q1, q2, q3, q4, q5, q6⟩, p2, p3⟩ := P1'
          obtain ⟨a1, a2⟩ := A1 i hi
          have k5 := tkK_le tp i
          have k1 : tkK tp i = 1 := by
            rw [q3, I_eq (by omega) (by omega)] at ck
            exact ck
          obtain ⟨t1, t2⟩ := tk_nm k1
          have hx : lt = ltF (tkW tp i) (tkW tp i).length := by rw [← hlt, ← t2]; exact q5 k1
          have := (nmD_f a1 t1 hx).mp (by rw [a2]; exact hf)
          unfold isNm
          rw [decide_eq_true k1, this]
          rfl)
        simp (disch := first | assumption | omega | decide) only [gB, I_all, zK_v, zK_n, true_and, and_true, Nat.reduceAdd, Nat.reduceMul, Nat.reduceSub, z_lt, z_le, z_neq, not_false_eq_true, or_true, true_or, or_false, false_or, false_and, and_false, gX7_readStop_1, gX7_readStop_2, F, R, K, hlt, ck, es]
        exact f
      | some g =>
        rw [hf, show enO (some g) = Int32.ofNat g from rfl] at es
        have hg : g < n := by
          unfold fst1 at hf
          exact List.mem_range.mp (List.mem_of_find?_eq_some hf)
        have f := g0 (fun i hi => by
          have P1' := P1
          rw [hi] at P1'
          obtain ⟨⟨q0, q1, q2, q3, q4, q5, q6⟩, p2, p3⟩ := P1'
          obtain ⟨a1, a2⟩ := A1 i hi
          have k5 := tkK_le tp i
          have k1 : tkK tp i = 1 := by
            rw [q3, I_eq (by omega) (by omega)] at ck
            exact ck
          obtain ⟨t1, t2⟩ := tk_nm k1
          have hx : lt = ltF (tkW tp i) (tkW tp i).length := by rw [← hlt, ← t2]; exact q5 k1
          have : nmD acc (tkW tp i) = true := by
            cases hd : nmD acc (tkW tp i) with
            | true => rfl
            | false =>
              have := (nmD_f a1 t1 hx).mpr hd
              rw [a2, hf] at this
              cases this
          rw [this, Bool.not_true, Bool.and_false])
        simp (disch := first | assumption | omega | decide) only [gB, I_all, zK_v, zK_n, true_and, and_true, Nat.reduceAdd, Nat.reduceMul, Nat.reduceSub, z_lt, z_le, z_neq, not_false_eq_true, or_true, true_or, or_false, false_or, false_and, and_false, gX7_readStop_1, gX7_readStop_2, F, R, K, hlt, ck, es]
        exact f
    · have f := g0 (fun i hi => by
        have P1' := P1
        rw [hi] at P1'
        obtain ⟨⟨q0, q1, q2, q3, q4, q5, q6⟩, p2, p3⟩ := P1'
        have : ¬ tkK tp i = 1 := fun e => ck (by rw [q3, e])
        unfold isNm
        rw [decide_eq_false this, Bool.false_and])
      simp (disch := first | assumption | omega | decide) only [gB, I_all, zK_v, zK_n, true_and, and_true, Nat.reduceAdd, Nat.reduceMul, Nat.reduceSub, z_lt, z_le, z_neq, not_false_eq_true, or_true, true_or, or_false, false_or, false_and, and_false, gX7_readStop_1, gX7_readStop_2, F, R, K, hlt]
      exact f
  have g1 := go1 true
  have g0 := go1 false
  rw [show boI true = Int32.ofNat 1 from rfl] at g1
  rw [show boI false = Int32.ofNat 0 from rfl] at g0
  have ew := fun (Q : zQ) => e7_isWord (κ := κ) (Q := Q) (j := 8) (w := Int64.ofNat 643568) S P0 rfl
  cases hw : isWd tp r 8 with
  | true =>
    rw [hw, show boI true = Int32.ofNat 1 from rfl] at ew
    by_cases c10 : n < 10
    · have f := g1 (by rw [hw, decide_eq_true c10]; rfl)
      simp (disch := first | assumption | omega | decide) only [gB, I_all, zK_v, zK_n, true_and, and_true, Nat.reduceAdd, Nat.reduceMul, Nat.reduceSub, z_lt, z_le, z_neq, not_false_eq_true, or_true, true_or, or_false, false_or, false_and, and_false, gX7_readStop_1, gX7_readStop_2, F, R, K, hn, ew]
      exact f
    · have f := g0 (by rw [hw, decide_eq_false c10]; rfl)
      simp (disch := first | assumption | omega | decide) only [gB, I_all, zK_v, zK_n, true_and, and_true, Nat.reduceAdd, Nat.reduceMul, Nat.reduceSub, z_lt, z_le, z_neq, not_false_eq_true, or_true, true_or, or_false, false_or, false_and, and_false, gX7_readStop_1, gX7_readStop_2, F, R, K, hn, ew]
      exact f
  | false =>
    rw [hw, show boI false = Int32.ofNat 0 from rfl] at ew
    have f := g0 (by rw [hw]; rfl)
    simp (disch := first | assumption | omega | decide) only [gB, I_all, zK_v, zK_n, true_and, and_true, Nat.reduceAdd, Nat.reduceMul, Nat.reduceSub, z_lt, z_le, z_neq, not_false_eq_true, or_true, true_or, or_false, false_or, false_and, and_false, gX7_readStop_1, gX7_readStop_2, F, R, K, hn, ew]
    exact f
end
