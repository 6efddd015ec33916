/-! the component: texts: what they read; the story -/
/-- a state, the plan's names, the constants: all that texts read -/
def TX (κ : zC) (h : zH) (a p : Nat) (Y : Sy) (A : Nat → Nat → Nat) (q0 q : Nat) : Prop :=
  KS κ h ∧ SAt κ h a p (yP Y) A q0 q (yS Y) ∧ (a + (15 + 8 * plN (yP Y) 0 + 5 * plN (yP Y) 1) ≤ hN h ∧ q ≤ hN h ∧ kB κ ≤ hN h) ∧ ∀ s, s < plN (yP Y) 0 → ∃ v, St h (A 7 s) v (nmL Y s) ∧ A 7 s < hN h ∧ v < hN h
section
variable {κ : zC} {h h0 : zH} {a b p q0 q n : Nat} {l : List Int32} {Y : Sy} {A : Nat → Nat → Nat} {Q : zQ}
theorem SBw.ag (S : SBw κ h0 h b l) : Ag h0 h 0 (hN h0) := by
  obtain ⟨v, cap, S, _⟩ := S
  exact S.2.2.2.1
theorem TX.sb (T : TX κ h0 a p Y A q0 q) (S : SBw κ h0 h b l) : SAt κ h a p (yP Y) A q0 q (yS Y) := T.2.1.cg (S.ag.sub (Nat.zero_le _) T.2.2.1.1) (S.ag.sub (Nat.zero_le _) T.2.2.1.2.1)
theorem SBw.k (S : SBw κ h0 h b l) : hK h b = 137 := by
  obtain ⟨v, cap, S, _⟩ := S
  exact S.2.1.1
theorem e25_appN {c : Nat} (hc : kS κ 3 = .int (Int32.ofNat 1)) (S : SBw κ h0 h b l) (hl : l.length < 100000) (h127 : c ≤ 127) (hq : ∀ h', SBw κ h0 h' b (l ++ [Int32.ofNat c]) → Q (.inl (some (.ref b))) h') : Ev κ mJ25_append [.ref b, .int (Int32.ofNat c)] h Q := by
  refine e25_appC hc S hl (by rw [I_toInt (by omega)]; omega) fun h' S' => hq h' ?_
  rw [by8_id (byO_nat h127)] at S'
  exact S'
theorem e25_appV {x : Int32} (hc : kS κ 3 = .int (Int32.ofNat 1)) (D : KD κ h0) (S : SBw κ h0 h b l) (hx : 0 ≤ x.toInt) (hl : l.length < 100000) (hq : ∀ h', SBw κ h0 h' b (l ++ dcI x) → Q (.inl (some (.ref b))) h') : Ev κ mJ25_append_3 [.ref b, .int x] h Q := by
  obtain ⟨e, hn⟩ := nnI hx
  unfold dcI at hq
  generalize x.toNatClampNeg = n at *
  subst e
  exact e25_appI hc D S hn hl hq
theorem e25_appK {i : Nat} {z : String × Nat × String} {m : List Int32} (K : KS κ h0) (hB : kB κ ≤ hN h0) (S : SBw κ h0 h b l) (e : zTx[i]? = some z) (em : strL z.2.2 = m) (hl : l.length + m.length < 100000) (hq : ∀ h', SBw κ h0 h' b (l ++ m) → Q (.inl (some (.ref b))) h') : Ev κ mJ25_append_2 [.ref b, .ref (kT κ i)] h Q := by
  obtain ⟨v, s, h1, h2⟩ := K.2.2.2.at i e em
  exact e25_appS K.1 S s ⟨by omega, by omega⟩ hl hq
theorem e3_word {k : Nat} (hk : k < 5) : Ev κ mX3_word [.int (Int32.ofNat k)] h Q = Q (.inl (some (.ref (kT κ (24 + k))))) h := by
  have hc : k = 0 ∨ k = 1 ∨ k = 2 ∨ k = 3 ∨ k = 4 := by omega
  rcases hc with rfl | rfl | rfl | rfl | rfl
  · simp (disch := first | assumption | omega | decide) only [gB, I_all, zK_v, zK_n, true_and, and_true, Nat.reduceAdd, Nat.reduceMul, Nat.reduceSub, z_lt, z_le, z_neq, not_false_eq_true, or_true, true_or, or_false, false_or, false_and, and_false, gX3_word, zSwi_y, zSwi_n, zSwi_0]
  · simp (disch := first | assumption | omega | decide) only [gB, I_all, zK_v, zK_n, true_and, and_true, Nat.reduceAdd, Nat.reduceMul, Nat.reduceSub, z_lt, z_le, z_neq, not_false_eq_true, or_true, true_or, or_false, false_or, false_and, and_false, gX3_word, zSwi_y, zSwi_n, zSwi_0]
  · simp (disch := first | assumption | omega | decide) only [gB, I_all, zK_v, zK_n, true_and, and_true, Nat.reduceAdd, Nat.reduceMul, Nat.reduceSub, z_lt, z_le, z_neq, not_false_eq_true, or_true, true_or, or_false, false_or, false_and, and_false, gX3_word, zSwi_y, zSwi_n, zSwi_0]
  · simp (disch := first | assumption | omega | decide) only [gB, I_all, zK_v, zK_n, true_and, and_true, Nat.reduceAdd, Nat.reduceMul, Nat.reduceSub, z_lt, z_le, z_neq, not_false_eq_true, or_true, true_or, or_false, false_or, false_and, and_false, gX3_word, zSwi_y, zSwi_n, zSwi_0]
  · simp (disch := first | assumption | omega | decide) only [gB, I_all, zK_v, zK_n, true_and, and_true, Nat.reduceAdd, Nat.reduceMul, Nat.reduceSub, z_lt, z_le, z_neq, not_false_eq_true, or_true, true_or, or_false, false_or, false_and, and_false, gX3_word, zSwi_y, zSwi_n, zSwi_0]
theorem kn_tx {k : Nat} (hk : k < 5) : ∃ z, zTx[24 + k]? = some z ∧ strL z.2.2 = knL k := by
  have : ∀ k : Fin 5, ((zTx[24 + k.val]?).map fun z => strL z.2.2) = some (knL k.val) := by decide +kernel
  have e := this ⟨k, hk⟩
  dsimp only at e
  cases c : zTx[24 + k]? with
  | none => rw [c] at e; cases e
  | some z =>
    rw [c] at e
    exact ⟨z, rfl, Option.some.inj e⟩
theorem e3_story (T : TX κ h a p Y A q0 q) (OK : sOk (yP Y) (yS Y)) (L : lOk (yS Y)) (hq : ∀ h' s v, NwS h h' h' s v (stL Y (sG (yS Y))) → hN h' ≤ hN h + 40000 → hU h' ≤ hU h + 100000 → Q (.inl (some (.ref s))) h') : Ev κ mX3_story [.ref a] h Q := by
  have K := T.1
  have hc := K.1
  have hB := T.2.2.1.2.2
  have l30 := OK.2.2.2.1
  have len := stL_len Y (sG (yS Y))
  have lp : ∀ (m pre : List Lg) (h1 : zH), pre ++ m = sG (yS Y) → SBw κ h h1 (hN h) (stL Y pre) → Go κ mX3_story 10 [some (.ref a), some (.ref (hN h)), some (.int (Int32.ofNat (5 * pre.length)))] [] h1 Q := by
    intro m
    induction m with
    | nil =>
      intro pre h1 e S1
      rw [List.append_nil] at e
      have N := soN (T.sb S1)
      rw [← e] at N
      have l30' : pre.length ≤ 30 := by rw [e]; exact l30
      have kb := S1.k
      simp (disch := first | assumption | omega | decide) only [gB, I_all, zK_v, zK_n, true_and, and_true, Nat.reduceAdd, Nat.reduceMul, Nat.reduceSub, z_lt, z_le, z_neq, not_false_eq_true, or_true, true_or, or_false, false_or, false_and, and_false, gX3_story_h]
      simp (disch := first | assumption | omega | decide) only [gB, I_all, zK_v, zK_n, true_and, and_true, Nat.reduceAdd, Nat.reduceMul, Nat.reduceSub, z_lt, z_le, z_neq, not_false_eq_true, or_true, true_or, or_false, false_or, false_and, and_false, gX3_story, N, kb, I_mul]
      refine e25_toString hc S1 (by rw [e]; omega) fun h2 s v N2 n2 u2 => ?_
      have q1 := hq h2 s v (by rw [← e]; exact N2) (by rw [e] at n2; omega) (by rw [e] at u2; omega)
      simp (disch := first | assumption | omega | decide) only [gB, I_all, zK_v, zK_n, true_and, and_true, Nat.reduceAdd, Nat.reduceMul, Nat.reduceSub, z_lt, z_le, z_neq, not_false_eq_true, or_true, true_or, or_false, false_or, false_and, and_false, gX3_story]
      exact q1
    | cons r m ih =>
      intro pre h1 e S1
      have hi : (sG (yS Y))[pre.length]? = some r := by rw [← e, List.getElem?_append_right (Nat.le_refl _), Nat.sub_self]; rfl
      have hr : r ∈ sG (yS Y) := List.mem_of_getElem? hi
      obtain ⟨o1, o2, o3⟩ := OK.2.2.2.2 r hr
      obtain ⟨lt, lv⟩ := L r hr
      have hpl := (List.getElem?_eq_some_iff.mp hi).1
      have h10 := T.2.1.1.2.2.1.1.2
      have len1 := stL_len Y pre
      have lg := lgL_len Y r
      have i1 := ih (pre ++ [r])
      rw [List.append_assoc] at i1
      have ll : (lgL Y r).length = (dcI r.1 ++ [Int32.ofNat 32] ++ knL r.2.1 ++ [Int32.ofNat 32] ++ decL r.2.2.1 ++ [Int32.ofNat 32] ++ nmL Y r.2.2.2.1 ++ [Int32.ofNat 32] ++ dcI r.2.2.2.2 ++ [Int32.ofNat 10]).length := rfl
      simp only [List.length_append, List.length_cons, List.length_nil] at ll
      have al : ∀ h' l', SBw κ h h' (hN h) l' → (hK h' a = 103 ∧ hV h' a 46 = .ref (a + 13) ∧ hK h' (a + 13) = 1 ∧ hL h' (a + 13) = 150) ∧ hV h' (a + 13) (5 * pre.length) = .int r.1 ∧ hV h' (a + 13) (5 * pre.length + 1) = .int (Int32.ofNat r.2.1) ∧ hV h' (a + 13) (5 * pre.length + 2) = .int (Int32.ofNat r.2.2.1) ∧ hV h' (a + 13) (5 * pre.length + 3) = .int (Int32.ofNat r.2.2.2.1) ∧ hV h' (a + 13) (5 * pre.length + 4) = .int r.2.2.2.2 := fun h' l' S' => by
        have Z := T.sb S'
        have R := soR Z
        have Kk := soK Z
        exact ⟨⟨(soN Z).1, R.2.2.2.2.2.2.2.2.2.2.2.2.1, Kk.2.2.2.2.2.2.2.2.2.2.2.2.2.2.2.2.2.2.2.2.1, Kk.2.2.2.2.2.2.2.2.2.2.2.2.2.2.2.2.2.2.2.2.2.1⟩, (soA Z).2.2.2.2.2.2.2 _ r hi⟩
      obtain ⟨N0, -⟩ := soN (T.sb S1)
      have lgd := (soN (T.sb S1)).2.2.2.2.2.2.2.2.2.2.1
      have l30' : pre.length + (m.length + 1) ≤ 30 := by
        have := l30
        rw [← e, List.length_append] at this
        exact this
      rw [show (sG (yS Y)).length = pre.length + (m.length + 1) by rw [← e, List.length_append]; rfl] at lgd
      have hlt : 5 * pre.length < 5 * (pre.length + (m.length + 1)) := by omega
      have z1 : zArr 1 = true := rfl
      simp (disch := first | assumption | omega | decide) only [gB, I_all, zK_v, zK_n, true_and, and_true, Nat.reduceAdd, Nat.reduceMul, Nat.reduceSub, z_lt, z_le, z_neq, not_false_eq_true, or_true, true_or, or_false, false_or, false_and, and_false, gX3_story_h]
      have F1 := al _ _ S1
      have kb1 := S1.k
      simp (disch := first | assumption | omega | decide) only [gB, I_all, zK_v, zK_n, true_and, and_true, Nat.reduceAdd, Nat.reduceMul, Nat.reduceSub, z_lt, z_le, z_neq, not_false_eq_true, or_true, true_or, or_false, false_or, false_and, and_false, gX3_story, F1, kb1, I_mul, I_add, lgd]
      refine e25_appV hc K.2.2.1 S1 lt (by (try simp only [List.length_append, List.length_cons, List.length_nil]); omega) fun h2 S2 => ?_
      have F2 := al _ _ S2
      have kb2 := S2.k
      simp (disch := first | assumption | omega | decide) only [gB, I_all, zK_v, zK_n, true_and, and_true, Nat.reduceAdd, Nat.reduceMul, Nat.reduceSub, z_lt, z_le, z_neq, not_false_eq_true, or_true, true_or, or_false, false_or, false_and, and_false, gX3_story, F2, kb2, I_mul, I_add]
      refine e25_appN hc S2 (by (try simp only [List.length_append, List.length_cons, List.length_nil]); omega) (by decide) fun h3 S3 => ?_
      have F3 := al _ _ S3
      have kb3 := S3.k
      have e3w := fun (Q : zQ) => e3_word (κ := κ) (h := h3) (Q := Q) o1
      obtain ⟨zz, ez, em⟩ := kn_tx o1
      simp (disch := first | assumption | omega | decide) only [gB, I_all, zK_v, zK_n, true_and, and_true, Nat.reduceAdd, Nat.reduceMul, Nat.reduceSub, z_lt, z_le, z_neq, not_false_eq_true, or_true, true_or, or_false, false_or, false_and, and_false, gX3_story, F3, kb3, I_mul, I_add, e3w]
      refine e25_appK K hB S3 ez em (by (try simp only [List.length_append, List.length_cons, List.length_nil]); omega) fun h4 S4 => ?_
      have F4 := al _ _ S4
      have kb4 := S4.k
      simp (disch := first | assumption | omega | decide) only [gB, I_all, zK_v, zK_n, true_and, and_true, Nat.reduceAdd, Nat.reduceMul, Nat.reduceSub, z_lt, z_le, z_neq, not_false_eq_true, or_true, true_or, or_false, false_or, false_and, and_false, gX3_story, F4, kb4, I_mul, I_add]
      refine e25_appN hc S4 (by (try simp only [List.length_append, List.length_cons, List.length_nil]); omega) (by decide) fun h5 S5 => ?_
      have F5 := al _ _ S5
      have kb5 := S5.k
      simp (disch := first | assumption | omega | decide) only [gB, I_all, zK_v, zK_n, true_and, and_true, Nat.reduceAdd, Nat.reduceMul, Nat.reduceSub, z_lt, z_le, z_neq, not_false_eq_true, or_true, true_or, or_false, false_or, false_and, and_false, gX3_story, F5, kb5, I_mul, I_add]
      refine e25_appI hc K.2.2.1 S5 (by omega) (by (try simp only [List.length_append, List.length_cons, List.length_nil]); omega) fun h6 S6 => ?_
      have F6 := al _ _ S6
      have kb6 := S6.k
      simp (disch := first | assumption | omega | decide) only [gB, I_all, zK_v, zK_n, true_and, and_true, Nat.reduceAdd, Nat.reduceMul, Nat.reduceSub, z_lt, z_le, z_neq, not_false_eq_true, or_true, true_or, or_false, false_or, false_and, and_false, gX3_story, F6, kb6, I_mul, I_add]
      refine e25_appN hc S6 (by (try simp only [List.length_append, List.length_cons, List.length_nil]); omega) (by decide) fun h7 S7 => ?_
      have F7 := al _ _ S7
      have kb7 := S7.k
      have eST := (soE (T.sb S7)).2
      obtain ⟨vn, sn, n1, n2⟩ := T.2.2.2 r.2.2.2.1 o3
      have kst := ((T.sb S7).1.2.1.2.2.2.2.2.1 r.2.2.2.1 o3).1.2.2
      have nst := ((T.sb S7).1.2.1.2.2.2.2.2.1 r.2.2.2.1 o3).2.1.2.2.2.1
      simp (disch := first | assumption | omega | decide) only [gB, I_all, zK_v, zK_n, true_and, and_true, Nat.reduceAdd, Nat.reduceMul, Nat.reduceSub, z_lt, z_le, z_neq, not_false_eq_true, or_true, true_or, or_false, false_or, false_and, and_false, gX3_story, F7, kb7, I_mul, I_add, eST, kst, nst]
      refine e25_appS hc S7 sn ⟨n1, n2⟩ (by (try simp only [List.length_append, List.length_cons, List.length_nil]); omega) fun h8 S8 => ?_
      have F8 := al _ _ S8
      have kb8 := S8.k
      simp (disch := first | assumption | omega | decide) only [gB, I_all, zK_v, zK_n, true_and, and_true, Nat.reduceAdd, Nat.reduceMul, Nat.reduceSub, z_lt, z_le, z_neq, not_false_eq_true, or_true, true_or, or_false, false_or, false_and, and_false, gX3_story, F8, kb8, I_mul, I_add]
      refine e25_appN hc S8 (by (try simp only [List.length_append, List.length_cons, List.length_nil]); omega) (by decide) fun h9 S9 => ?_
      have F9 := al _ _ S9
      have kb9 := S9.k
      simp (disch := first | assumption | omega | decide) only [gB, I_all, zK_v, zK_n, true_and, and_true, Nat.reduceAdd, Nat.reduceMul, Nat.reduceSub, z_lt, z_le, z_neq, not_false_eq_true, or_true, true_or, or_false, false_or, false_and, and_false, gX3_story, F9, kb9, I_mul, I_add]
      refine e25_appV hc K.2.2.1 S9 lv (by (try simp only [List.length_append, List.length_cons, List.length_nil]); omega) fun h10 S10 => ?_
      have F10 := al _ _ S10
      have kb10 := S10.k
      simp (disch := first | assumption | omega | decide) only [gB, I_all, zK_v, zK_n, true_and, and_true, Nat.reduceAdd, Nat.reduceMul, Nat.reduceSub, z_lt, z_le, z_neq, not_false_eq_true, or_true, true_or, or_false, false_or, false_and, and_false, gX3_story, F10, kb10, I_mul, I_add]
      refine e25_appN hc S10 (by (try simp only [List.length_append, List.length_cons, List.length_nil]); omega) (by decide) fun h11 S11 => ?_
      have S11' : SBw κ h h11 (hN h) (stL Y (pre ++ [r])) := by
        rw [stL_snoc]
        have : stL Y pre ++ lgL Y r = stL Y pre ++ dcI r.1 ++ [Int32.ofNat 32] ++ knL r.2.1 ++ [Int32.ofNat 32] ++ decL r.2.2.1 ++ [Int32.ofNat 32] ++ nmL Y r.2.2.2.1 ++ [Int32.ofNat 32] ++ dcI r.2.2.2.2 ++ [Int32.ofNat 10] := by
          unfold lgL
          simp only [List.append_assoc]
        rw [this]
        exact S11
      have i2 := i1 h11 e S11'
      rw [List.length_append, show 5 * (pre.length + [r].length) = 5 * pre.length + 5 by show 5 * (pre.length + 1) = _; omega] at i2
      have i5 : Int32.ofInt 5 = Int32.ofNat 5 := by decide
      simp (disch := first | assumption | omega | decide) only [gB, I_all, zK_v, zK_n, true_and, and_true, Nat.reduceAdd, Nat.reduceMul, Nat.reduceSub, z_lt, z_le, z_neq, not_false_eq_true, or_true, true_or, or_false, false_or, false_and, and_false, gX3_story, i5, I_add]
      exact i2
  have hB' : kB κ ≤ hN h := hB
  have S0 := T.2.1
  simp (disch := first | assumption | omega | decide) only [gB, I_all, zK_v, zK_n, true_and, and_true, Nat.reduceAdd, Nat.reduceMul, Nat.reduceSub, z_lt, z_le, z_neq, not_false_eq_true, or_true, true_or, or_false, false_or, false_and, and_false, gX3_story]
  refine e25_init hc hB fun h1 S1 => ?_
  have i0 := lp (sG (yS Y)) [] h1 rfl S1
  simp (disch := first | assumption | omega | decide) only [gB, I_all, zK_v, zK_n, true_and, and_true, Nat.reduceAdd, Nat.reduceMul, Nat.reduceSub, z_lt, z_le, z_neq, not_false_eq_true, or_true, true_or, or_false, false_or, false_and, and_false, gX3_story]
  exact i0
end
