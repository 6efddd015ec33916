/-! the parser: a stop's name read -/
/-- where the map's cells lie: below n -/
def NB (h : zH) (p m : Nat) (t : Tr) (kf vf : Nat → Nat) (n : Nat) : Prop := p < n ∧ m < n ∧ ∀ x ∈ inO t, x < n ∧ kf x < n ∧ vf x < n ∧ ∃ v : Nat, hV h (kf x) 160 = .ref v ∧ v < n
section
variable {κ : zC} {h h' : zH} {z m n p i tx v kl arr : Nat} {T : Tm} {t : Tr} {Q : zQ} {kf vf ix : Nat → Nat} {kw : Nat → List Int32} {w tp : List Int32} {but : Int32}
/-- what keeps the map's cells keeps the map -/
theorem NM.cg (M : NM κ h p m T t kf vf kw ix) (B : NB h p m t kf vf n) (g : ∀ y, y < n → hK h y ≠ 108 → hK h' y = hK h y ∧ hL h' y = hL h y ∧ ∀ j, hV h' y j = hV h y j) : NM κ h' p m T t kf vf kw ix ∧ NB h' p m t kf vf n := by
  obtain ⟨⟨p1, p2⟩, S, W, eh, hz, MM, sr, vals⟩ := M
  obtain ⟨b1, b2, b3⟩ := B
  have gp := g p b1 (by rw [p1]; decide)
  have gm := g m b2 (by rw [S.1]; decide)
  have gx : ∀ x ∈ inO t, hK h' x = hK h x ∧ hL h' x = hL h x ∧ ∀ j, hV h' x j = hV h x j := fun x hx => g x (b3 x hx).1 (by rw [(S.2.2 x hx).1]; decide)
  have gk : ∀ x ∈ inO t, hK h' (kf x) = hK h (kf x) ∧ hL h' (kf x) = hL h (kf x) ∧ ∀ j, hV h' (kf x) j = hV h (kf x) j := fun x hx => g _ (b3 x hx).2.1 (by
    obtain ⟨-, -, ⟨v, st⟩, -⟩ := MM x hx
    rcases st.1 with e | e <;> rw [e] <;> decide)
  refine ⟨⟨⟨gp.1.trans p1, (gp.2.2 _).trans p2⟩, ⟨gm.1.trans S.1, S.2.1, fun x hx => ⟨(gx x hx).1.trans (S.2.2 x hx).1, (S.2.2 x hx).2⟩⟩, W, ?_, (gm.2.2 _).trans hz, fun x hx => ?_, sr, fun x hx => ?_⟩, b1, b2, fun x hx => ?_⟩
  · refine hX_eq (fun _ => rfl) (fun _ => rfl) (fun y j => ?_) rfl rfl
    have e0 : ∀ y j, hV (hT h m (inO t) T) y j = hV h y j := fun y j => by rw [eh]
    rw [hT_V]
    by_cases c : y = m
    · rw [if_pos c]
      by_cases d : j = 153
      · rw [if_pos d, c, d, gm.2.2, ← e0, hT_O]
      · rw [if_neg d]
    · rw [if_neg c]
      by_cases d : y ∈ inO t
      · rw [if_pos d]
        have e := e0 y j
        rw [hT_V, if_neg c, if_pos d] at e
        rw [(gx y d).2.2]
        by_cases j1 : j = 166
        · rw [if_pos j1] at e ⊢; exact e
        · by_cases j2 : j = 167
          · rw [if_neg j1, if_pos j2] at e ⊢; exact e
          · by_cases j3 : j = 168
            · rw [if_neg j1, if_neg j2, if_pos j3] at e ⊢; exact e
            · by_cases j4 : j = 169
              · rw [if_neg j1, if_neg j2, if_neg j3, if_pos j4] at e ⊢; exact e
              · rw [if_neg j1, if_neg j2, if_neg j3, if_neg j4]
      · rw [if_neg d]
  · obtain ⟨m1, m2, ⟨v, st⟩, m4⟩ := MM x hx
    obtain ⟨q1, q2, q3, v', q4, q5⟩ := b3 x hx
    have ev : v = v' := Value.ref.inj (st.2.1.symm.trans q4)
    subst ev
    have gv := g v q5 (by rw [st.2.2.2.1.1]; decide)
    exact ⟨((gx x hx).2.2 _).trans m1, ((gx x hx).2.2 _).trans m2, ⟨v, st.cg ⟨(gk x hx).1, (gk x hx).2.2⟩ gv⟩, m4⟩
  · obtain ⟨v1, v2, v3⟩ := vals x hx
    have gv := g (vf x) (b3 x hx).2.2.1 (by rw [v1]; decide)
    exact ⟨gv.1.trans v1, (gv.2.2 _).trans v2, v3⟩
  · obtain ⟨q1, q2, q3, v', q4, q5⟩ := b3 x hx
    exact ⟨q1, q2, q3, v', ((gk x hx).2.2 _).trans q4, q5⟩
theorem NM.fz (M : NM κ h p m T t kf vf kw ix) (B : NB h p m t kf vf n) (f : Fz z h h') (kz : hK h z = 108) (hn : n ≤ hN h) : NM κ h' p m T t kf vf kw ix ∧ NB h' p m t kf vf n :=
  M.cg B fun y hy ky => f.at_ (by omega) fun e => ky (by rw [e]; exact kz)
/-- the number of the stop at a name, as the map tells it -/
def nmI (t : Tr) (kw : Nat → List Int32) (ix : Nat → Nat) (w : List Int32) : Int32 := if fnd (fun x => kN (kw x)) (kN w) t = 0 then Int32.ofInt (-2) else Int32.ofNat (ix (fnd (fun x => kN (kw x)) (kN w) t))
theorem tkK_1 (e : tkK tp i = 1) : nmL6 (tkW tp i) := by
  have hE : tkE tp i = tkB tp i + (tkT tp (tkB tp i)).2 := rfl
  have hK0 : tkK tp i = (tkT tp (tkB tp i)).1 := rfl
  unfold tkW
  rw [hE, Nat.add_sub_cancel_left]
  rw [hK0] at e
  generalize tkB tp i = B at *
  unfold tkT at e ⊢
  cases c : tp[B]? with
  | none => rw [c] at e; cases e
  | some x =>
    rw [c] at e
    dsimp only at e ⊢
    by_cases l : isL x = true
    · rw [if_pos l] at e ⊢
      dsimp only at e ⊢
      by_cases y : isKy (tp.drop B) (run isL (tp.drop B)) = true
      · rw [if_pos y] at e; cases e
      · rw [if_neg y] at e
        by_cases s : run isL (tp.drop B) < 7
        · refine ⟨by rw [List.length_take]; omega, fun q hq => ?_⟩
          obtain ⟨j, hj, ej⟩ := List.mem_iff_getElem.mp hq
          have hj2 : j < run isL (tp.drop B) := by
            rw [List.length_take] at hj
            omega
          obtain ⟨x', h1, h2⟩ := run_lt (p := isL) (l := tp.drop B) hj2
          have h3 : (tp.drop B).take (run isL (tp.drop B)) = (tp.drop B).take (run isL (tp.drop B)) := rfl
          have h4 : ((tp.drop B).take (run isL (tp.drop B)))[j]? = some q := by rw [List.getElem?_eq_getElem hj, ej]
          rw [List.getElem?_take_of_lt hj2, h1] at h4
          rw [← Option.some.inj h4]
          exact h2
        · rw [if_neg s] at e; cases e
    · rw [if_neg l] at e
      by_cases d : isD x = true
      · rw [if_pos d] at e
        dsimp only at e
        by_cases s : run isD (tp.drop B) < 5
        · rw [if_pos s] at e; cases e
        · rw [if_neg s] at e; cases e
      · rw [if_neg d] at e
        dsimp only at e
        by_cases s : x = Int32.ofNat 59
        · rw [if_pos s] at e; cases e
        · rw [if_neg s] at e; cases e
/-- the stop read here -/
def plc (t : Tr) (kw : Nat → List Int32) (ix : Nat → Nat) (tp : List Int32) (i : Nat) : Int32 := if tkK tp i = 1 then nmI t kw ix (tkW tp i) else Int32.ofInt (-2)
theorem e8_place (T0 : PT κ h z tx v tp kl arr i) (hp : hV h z 134 = .ref p) (M : NM κ h p m T t kf vf kw ix) (B : NB h p m t kf vf n) (hn : n ≤ hN h)
    (hok : ∀ i', tkC tp (decide (Int32.ofNat 0 ≤ plc t kw ix tp i) && decide (¬ plc t kw ix tp i = but)) i = .ok i' → ∀ h', PT κ h' z tx v tp kl arr i' → Gz z 4 20 h (tkE tp i) h' (tkE tp i') → Q (.inl (some (.int (plc t kw ix tp i)))) h')
    (her : ∀ e, tkC tp (decide (Int32.ofNat 0 ≤ plc t kw ix tp i) && decide (¬ plc t kw ix tp i = but)) i = .error e → ∀ h' u, Er κ h' u e → Gz z 4 20 h (tkE tp i) h' (tkE tp i) → Q (.inr u) h') : Ev κ mX8_place [.ref z, .int but] h Q := by
  have bT : boI true = Int32.ofNat 1 := rfl
  have bF : boI false = Int32.ofNat 0 := rfl
  obtain ⟨r, s, e1, e2, e3⟩ := T0.kd (d := 1) (by decide)
  have e2' : kS κ 23 = .ref s := e2
  have T1 := T0
  obtain ⟨nu, P, en, W⟩ := T0
  have p1 := P.1.1
  have fin : ∀ (a : Int32) (h1 : zH), a = plc t kw ix tp i → PT κ h1 z tx v tp kl arr i → Gz z 2 12 h (tkE tp i) h1 (tkE tp i) → Go κ mX8_place 26 [some (.ref z), some (.int but), none] [.int a] h1 Q := by
    intro a h1 ea T2 g1
    rw [← ea] at hok her
    have k1 := T2.choose_spec.1.1.1
    have ex : Ev κ mX8_expect [.ref z, .int (boI (decide (Int32.ofNat 0 ≤ a) && decide (¬ a = but)))] h1 (zK κ mX8_place 42 3 [some (.ref z), some (.int but), some (.int a)] [] Q) := by
      refine e8_expect T2 (fun ct h2 T3 g2 => ?_) (fun cf h2 u E g2 => ?_)
      · have q1 := hok _ (tkC_t ct) h2 T3 ((g1.trans g2).le (by omega) (by omega))
        simp (disch := first | assumption | omega | decide) only [gB, I_all, zK_v, zK_n, true_and, and_true, Nat.reduceAdd, Nat.reduceMul, Nat.reduceSub, z_lt, z_le, z_neq, not_false_eq_true, or_true, true_or, or_false, false_or, false_and, and_false, gX8_place]
        exact q1
      · rw [zK_x (by rfl)]
        exact her _ (tkC_f cf) h2 u E ((g1.trans g2).le (by omega) (by omega))
    by_cases c0 : a < Int32.ofNat 0
    · have c0' : ¬ Int32.ofNat 0 ≤ a := Int32.not_le.mpr c0
      rw [decide_eq_false c0', Bool.false_and, bF] at ex
      simp (disch := first | assumption | omega | decide) only [gB, I_all, zK_v, zK_n, true_and, and_true, Nat.reduceAdd, Nat.reduceMul, Nat.reduceSub, z_lt, z_le, z_neq, not_false_eq_true, or_true, true_or, or_false, false_or, false_and, and_false, gX8_place, k1]
      exact ex
    · rw [decide_eq_true (Int32.not_lt.mp c0), Bool.true_and] at ex
      by_cases c1 : a = but
      · rw [decide_eq_false (fun z => z c1), bF] at ex
        simp (disch := first | assumption | omega | decide) only [gB, I_all, zK_v, zK_n, true_and, and_true, Nat.reduceAdd, Nat.reduceMul, Nat.reduceSub, z_lt, z_le, z_neq, not_false_eq_true, or_true, true_or, or_false, false_or, false_and, and_false, gX8_place, k1]
        exact ex
      · rw [decide_eq_true c1, bT] at ex
        simp (disch := first | assumption | omega | decide) only [gB, I_all, zK_v, zK_n, true_and, and_true, Nat.reduceAdd, Nat.reduceMul, Nat.reduceSub, z_lt, z_le, z_neq, not_false_eq_true, or_true, true_or, or_false, false_or, false_and, and_false, gX8_place, k1]
        exact ex
  by_cases c : tkK tp i = 1
  · have rs : s = r := (e3.mpr c).symm
    have n6 := tkK_1 c
    have wk : Ev κ mX8_word [.ref z] h (zK κ mX8_place 15 3 [some (.ref z), some (.int but), none] [.ref p] Q) := by
      refine e8_word W P fun h4 q vs S4 s1 s2 g4 n4 n5 u4 => ?_
      obtain ⟨M4, -⟩ := M.fz B (Fz.of g4 n4) p1 hn
      have en2 := fun (Q : zQ) => e1_named (κ := κ) (Q := Q) W.1.1 M4 S4 n6
      have kp := M4.1.1
      have tl : tkE tp i - tkB tp i ≤ 6 := by
        have := n6.1
        have hl : (tkW tp i).length = tkE tp i - tkB tp i := by
          have il := P.2.2.2.2.2.2.1
          exact subL_len il
        omega
      have f1 := fin (nmI t kw ix (tkW tp i)) h4 (by unfold plc; rw [if_pos c]) (T1.ext g4 n4) ⟨Fz.of g4 n4, n5, by omega⟩
      have sl : subL tp (tkB tp i) (tkE tp i) = tkW tp i := rfl
      rw [sl] at en2
      have eN : (if fnd (fun x => kN (kw x)) (kN (tkW tp i)) t = 0 then Int32.ofInt (-2) else Int32.ofNat (ix (fnd (fun x => kN (kw x)) (kN (tkW tp i)) t))) = nmI t kw ix (tkW tp i) := rfl
      rw [eN] at en2
      generalize hG : Go κ mX8_place 26 [some (.ref z), some (.int but), none] [.int (nmI t kw ix (tkW tp i))] h4 Q = G at f1
      simp (disch := first | assumption | omega | decide) only [gB, I_all, zK_v, zK_n, true_and, and_true, Nat.reduceAdd, Nat.reduceMul, Nat.reduceSub, z_lt, z_le, z_neq, not_false_eq_true, or_true, true_or, or_false, false_or, false_and, and_false, gX8_place, kp, en2, hG]
      exact f1
    simp (disch := first | assumption | omega | decide) only [gB, I_all, zK_v, zK_n, true_and, and_true, Nat.reduceAdd, Nat.reduceMul, Nat.reduceSub, z_lt, z_le, z_neq, not_false_eq_true, or_true, true_or, or_false, false_or, false_and, and_false, gX8_place, p1, e1, e2', hp]
    exact wk
  · have rs : ¬ s = r := fun y => c (e3.mp y.symm)
    have f1 := fin (Int32.ofInt (-2)) h (by unfold plc; rw [if_neg c]) T1 ((Gz.rfl (h := h) (z := z) (p := tkE tp i)).le (by omega) (by omega))
    generalize hG : Go κ mX8_place 26 [some (.ref z), some (.int but), none] [.int (Int32.ofInt (-2))] h Q = G at f1
    simp (disch := first | assumption | omega | decide) only [gB, I_all, zK_v, zK_n, true_and, and_true, Nat.reduceAdd, Nat.reduceMul, Nat.reduceSub, z_lt, z_le, z_neq, not_false_eq_true, or_true, true_or, or_false, false_or, false_and, and_false, gX8_place, p1, e1, e2', hG]
    exact f1
end
