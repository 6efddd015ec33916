/-! the map of names: a new name -/
/-- the map's base heap with a new entry e in it -/
def PutB (h h' : zH) (m e k vv : Nat) (n1 n2 : Int32) : Prop := (hN h' = hN h + 1 ∧ hU h' = hU h + 6) ∧ (∀ y, y < hN h → hK h' y = hK h y ∧ hL h' y = hL h y ∧ (y ≠ m → ∀ j, hV h' y j = hV h y j)) ∧
  (∀ j, j ≠ 153 → j ≠ 154 → j ≠ 155 → hV h' m j = hV h m j) ∧ hV h' m 154 = .int n1 ∧ hV h' m 155 = .int n2 ∧ hK h' e = 127 ∧ hV h' e 164 = .ref k ∧ hV h' e 165 = .ref vv
/-- a tree with one cell more -/
def tNew (T : Tm) (e par : Nat) : Tm := tsC (tsP (tsR (tsL T e 0) e 0) e par) e true
section
variable {κ : zC} {h h1 : zH} {m x p i j k vk vv e : Nat} {L L' : List Nat} {T T1 : Tm} {t : Tr} {Q : zQ} {kf vf : Nat → Nat} {kw : Nat → List Int32} {w : List Int32}
theorem hT_grow (em : e ≠ m) (hL' : ∀ x, x ∈ L' ↔ x = e ∨ x ∈ L) (eL : e ∉ L) (o : tmO T1 = tmO T) (e0 : ∀ y, y ≠ e → tmL T1 y = tmL T y ∧ tmR T1 y = tmR T y ∧ tmP T1 y = tmP T y ∧ tmC T1 y = tmC T y)
    (v1 : hV h e 166 = rf (tmL T1 e)) (v2 : hV h e 167 = rf (tmR T1 e)) (v3 : hV h e 168 = rf (tmP T1 e)) (v4 : hV h e 169 = .int (Int32.ofNat (tmC T1 e).toNat)) : hT h m L T = hT h m L' T1 := by
  refine hX_eq (fun _ => rfl) (fun _ => rfl) (fun y i => ?_) rfl rfl
  rw [hT_V, hT_V]
  by_cases c : y = m
  · rw [if_pos c, if_pos c, o]
  · rw [if_neg c, if_neg c]
    by_cases d : y = e
    · subst d
      rw [if_neg eL, if_pos ((hL' _).mpr (Or.inl rfl))]
      by_cases i1 : i = 166
      · subst i1; exact v1
      · by_cases i2 : i = 167
        · subst i2; exact v2
        · by_cases i3 : i = 168
          · subst i3; exact v3
          · by_cases i4 : i = 169
            · subst i4; exact v4
            · rw [if_neg i1, if_neg i2, if_neg i3, if_neg i4]
    · obtain ⟨a1, a2, a3, a4⟩ := e0 y d
      rw [a1, a2, a3, a4]
      by_cases f : y ∈ L
      · rw [if_pos f, if_pos ((hL' _).mpr (Or.inr f))]
      · rw [if_neg f, if_neg (fun z => ((hL' _).mp z).elim d f)]
theorem hT_A {k n u : Nat} {f : Nat → Value} (h1 : hN h ≠ m) (h2 : hN h ∉ L) : hA (hT h m L T) k n u f = hT (hA h k n u f) m L T := by
  refine hX_eq (fun _ => rfl) (fun _ => rfl) (fun y i => ?_) rfl rfl
  rw [hV_A, hT_V, hT_V]
  by_cases c : y = hN h
  · subst c
    rw [if_pos (show hN h = hN (hT h m L T) from rfl), if_neg h1, if_neg h2, hV_At rfl]
  · rw [if_neg (show y ≠ hN (hT h m L T) from c), hV_An c]
theorem hT_Wx {j : Nat} {v : Value} (hx : x ≠ m) (hL : x ∉ L) : hW (hT h m L T) x j v = hT (hW h x j v) m L T := by
  refine hX_eq (fun _ => rfl) (fun _ => rfl) (fun y i => ?_) rfl rfl
  rw [hV_W, hT_V, hT_V]
  by_cases c : y = x
  · subst c
    rw [if_pos rfl, if_neg hx, if_neg hx, if_neg hL, if_neg hL, hV_W, if_pos rfl]
  · rw [if_neg c, hV_W, if_neg c]
theorem hT_Wm {j : Nat} {v : Value} (hj : j ≠ 153) : hW (hT h m L T) m j v = hT (hW h m j v) m L T := by
  refine hX_eq (fun _ => rfl) (fun _ => rfl) (fun y i => ?_) rfl rfl
  rw [hV_W, hT_V, hT_V]
  by_cases c : y = m
  · subst c
    rw [if_pos rfl, if_pos rfl, if_pos rfl, hV_W, if_pos rfl]
    by_cases d : i = j
    · rw [if_pos d, if_neg (by omega), if_pos d]
    · rw [if_neg d, if_neg d]
  · rw [if_neg c, if_neg c, if_neg c, hV_W, if_neg c]
/-- where a new name goes -/
theorem put_find (hc : kS κ 3 = .int (Int32.ofNat 1)) (S : TS κ h m (inO t)) (M : MK h (inO t) kf vf kw) (Sk : St h k vk w) (nw : nmL6 w) (no : ∀ i ∈ inO t, kN (kw i) ≠ kN w) {a2 : Option Value} :
    ∀ (t' : Tr) (ptr par : Nat) (b : Bool) (a5 a6 : Option Value), ptr ≠ 0 → TR T t' ptr par → (∀ i ∈ inO t', i ∈ inO t) →
      (∀ c : Int32, (c < Int32.ofNat 0 ↔ (lf (fun x => kN (kw x)) (kN w) t' par b).2 = true) → Go κ mJ4_put_2 201 [some (.ref m), some (.ref k), a2, some (.int (Int32.ofNat 1)), some .null, some (.int c), some (.ref (lf (fun x => kN (kw x)) (kN w) t' par b).1), some .null, some (.ref k), none] [] (hT h m (inO t) T) Q) →
      Go κ mJ4_put_2 123 [some (.ref m), some (.ref k), a2, some (.int (Int32.ofNat 1)), some (.ref ptr), a5, a6, some .null, some (.ref k), none] [] (hT h m (inO t) T) Q := by
  have Sk' := Sk.tr (T := T) S
  intro t'
  induction t' with
  | leaf u =>
    intro ptr par b a5 a6 h0 R
    exact absurd R h0
  | branch i l r ihl ihr =>
    intro ptr par b a5 a6 h0 R hin hq
    obtain ⟨e, i0, -, Rl, Rr⟩ := R
    subst e
    have hi : ptr ∈ inO t := hin ptr (in3.mpr (Or.inr (Or.inl rfl)))
    obtain ⟨f1, -, f3, f4, -⟩ := nodF S hi
    obtain ⟨m1, m2, ⟨v, sx⟩, nx⟩ := M ptr hi
    have sx' := sx.tr (T := T) S
    have n0 := S.ne hi
    have nn := no ptr hi
    have m1' : hV (hT h m (inO t) T) ptr 164 = .ref (kf ptr) := (hT_j n0 (Or.inl (by decide))).trans m1
    have ec := fun (Q : zQ) => eS_cmp (κ := κ) (Q := Q) hc Sk' sx' nw.asc nx.asc (by have := nw.1; omega) (by have := nx.1; omega)
    have ef : lf (fun x => kN (kw x)) (kN w) (.branch ptr l r) par b = if kN w < kN (kw ptr) then lf (fun x => kN (kw x)) (kN w) l ptr true else lf (fun x => kN (kw x)) (kN w) r ptr false := rfl
    rw [ef] at hq
    have cs := cmpI_s nw nx
    generalize hcc : cmpI w (kw ptr) = c at *
    rcases cs with ⟨c1, c2⟩ | ⟨c1, c2⟩ | ⟨c1, c2⟩
    · rw [if_pos c2] at hq
      have c1' : ¬ Int32.ofNat 0 ≤ c := Int32.not_le.mpr c1
      by_cases q0 : tmL T ptr = 0
      · have q1 : Go κ mJ4_put_2 201 [some (.ref m), some (.ref k), a2, some (.int (Int32.ofNat 1)), some .null, some (.int c), some (.ref ptr), some .null, some (.ref k), none] [] (hT h m (inO t) T) Q := by
          rw [q0] at Rl
          have el := TR_0 Rl
          rw [el] at hq
          exact hq c ⟨fun _ => rfl, fun _ => c1⟩
        rcases Sk'.1 with kk | kk
        · simp (disch := first | assumption | omega | decide) only [gB, I_all, zK_v, zK_n, true_and, and_true, Nat.reduceAdd, Nat.reduceMul, Nat.reduceSub, z_lt, z_le, z_neq, not_false_eq_true, or_true, true_or, or_false, false_or, false_and, and_false, gJ4_put_2_h]
          simp (disch := first | assumption | omega | decide) only [gB, I_all, zK_v, zK_n, true_and, and_true, Nat.reduceAdd, Nat.reduceMul, Nat.reduceSub, z_lt, z_le, z_neq, not_false_eq_true, or_true, true_or, or_false, false_or, false_and, and_false, gJ4_put_2_1, gJ4_put_2_2, f1, f3, m1', kk, ec, q0, rf_0]
          simp (disch := first | assumption | omega | decide) only [gB, I_all, zK_v, zK_n, true_and, and_true, Nat.reduceAdd, Nat.reduceMul, Nat.reduceSub, z_lt, z_le, z_neq, not_false_eq_true, or_true, true_or, or_false, false_or, false_and, and_false, gJ4_put_2_1, gJ4_put_2_2] at q1
          exact q1
        · simp (disch := first | assumption | omega | decide) only [gB, I_all, zK_v, zK_n, true_and, and_true, Nat.reduceAdd, Nat.reduceMul, Nat.reduceSub, z_lt, z_le, z_neq, not_false_eq_true, or_true, true_or, or_false, false_or, false_and, and_false, gJ4_put_2_h]
          simp (disch := first | assumption | omega | decide) only [gB, I_all, zK_v, zK_n, true_and, and_true, Nat.reduceAdd, Nat.reduceMul, Nat.reduceSub, z_lt, z_le, z_neq, not_false_eq_true, or_true, true_or, or_false, false_or, false_and, and_false, gJ4_put_2_1, gJ4_put_2_2, f1, f3, m1', kk, ec, q0, rf_0]
          simp (disch := first | assumption | omega | decide) only [gB, I_all, zK_v, zK_n, true_and, and_true, Nat.reduceAdd, Nat.reduceMul, Nat.reduceSub, z_lt, z_le, z_neq, not_false_eq_true, or_true, true_or, or_false, false_or, false_and, and_false, gJ4_put_2_1, gJ4_put_2_2] at q1
          exact q1
      · have i2 := ihl (tmL T ptr) ptr true (some (.int c)) (some (.ref ptr)) q0 Rl (fun i h => hin i (in3.mpr (Or.inl h))) hq
        rcases Sk'.1 with kk | kk
        · simp (disch := first | assumption | omega | decide) only [gB, I_all, zK_v, zK_n, true_and, and_true, Nat.reduceAdd, Nat.reduceMul, Nat.reduceSub, z_lt, z_le, z_neq, not_false_eq_true, or_true, true_or, or_false, false_or, false_and, and_false, gJ4_put_2_h]
          simp (disch := first | assumption | omega | decide) only [gB, I_all, zK_v, zK_n, true_and, and_true, Nat.reduceAdd, Nat.reduceMul, Nat.reduceSub, z_lt, z_le, z_neq, not_false_eq_true, or_true, true_or, or_false, false_or, false_and, and_false, gJ4_put_2_1, gJ4_put_2_2, f1, f3, m1', kk, ec, rf_n q0]
          exact i2
        · simp (disch := first | assumption | omega | decide) only [gB, I_all, zK_v, zK_n, true_and, and_true, Nat.reduceAdd, Nat.reduceMul, Nat.reduceSub, z_lt, z_le, z_neq, not_false_eq_true, or_true, true_or, or_false, false_or, false_and, and_false, gJ4_put_2_h]
          simp (disch := first | assumption | omega | decide) only [gB, I_all, zK_v, zK_n, true_and, and_true, Nat.reduceAdd, Nat.reduceMul, Nat.reduceSub, z_lt, z_le, z_neq, not_false_eq_true, or_true, true_or, or_false, false_or, false_and, and_false, gJ4_put_2_1, gJ4_put_2_2, f1, f3, m1', kk, ec, rf_n q0]
          exact i2
    · rw [if_neg (by omega)] at hq
      have c1' : ¬ c ≤ Int32.ofNat 0 := Int32.not_le.mpr c1
      have c3' : Int32.ofNat 0 ≤ c := Int32.le_of_lt c1
      have c4' : ¬ c < Int32.ofNat 0 := Int32.not_lt.mpr c3'
      by_cases q0 : tmR T ptr = 0
      · have q1 : Go κ mJ4_put_2 201 [some (.ref m), some (.ref k), a2, some (.int (Int32.ofNat 1)), some .null, some (.int c), some (.ref ptr), some .null, some (.ref k), none] [] (hT h m (inO t) T) Q := by
          rw [q0] at Rr
          have el := TR_0 Rr
          rw [el] at hq
          exact hq c ⟨fun z => absurd z c4', fun z => by cases z⟩
        rcases Sk'.1 with kk | kk
        · simp (disch := first | assumption | omega | decide) only [gB, I_all, zK_v, zK_n, true_and, and_true, Nat.reduceAdd, Nat.reduceMul, Nat.reduceSub, z_lt, z_le, z_neq, not_false_eq_true, or_true, true_or, or_false, false_or, false_and, and_false, gJ4_put_2_h]
          simp (disch := first | assumption | omega | decide) only [gB, I_all, zK_v, zK_n, true_and, and_true, Nat.reduceAdd, Nat.reduceMul, Nat.reduceSub, z_lt, z_le, z_neq, not_false_eq_true, or_true, true_or, or_false, false_or, false_and, and_false, gJ4_put_2_1, gJ4_put_2_2, f1, f4, m1', kk, ec, q0, rf_0]
          simp (disch := first | assumption | omega | decide) only [gB, I_all, zK_v, zK_n, true_and, and_true, Nat.reduceAdd, Nat.reduceMul, Nat.reduceSub, z_lt, z_le, z_neq, not_false_eq_true, or_true, true_or, or_false, false_or, false_and, and_false, gJ4_put_2_1, gJ4_put_2_2] at q1
          exact q1
        · simp (disch := first | assumption | omega | decide) only [gB, I_all, zK_v, zK_n, true_and, and_true, Nat.reduceAdd, Nat.reduceMul, Nat.reduceSub, z_lt, z_le, z_neq, not_false_eq_true, or_true, true_or, or_false, false_or, false_and, and_false, gJ4_put_2_h]
          simp (disch := first | assumption | omega | decide) only [gB, I_all, zK_v, zK_n, true_and, and_true, Nat.reduceAdd, Nat.reduceMul, Nat.reduceSub, z_lt, z_le, z_neq, not_false_eq_true, or_true, true_or, or_false, false_or, false_and, and_false, gJ4_put_2_1, gJ4_put_2_2, f1, f4, m1', kk, ec, q0, rf_0]
          simp (disch := first | assumption | omega | decide) only [gB, I_all, zK_v, zK_n, true_and, and_true, Nat.reduceAdd, Nat.reduceMul, Nat.reduceSub, z_lt, z_le, z_neq, not_false_eq_true, or_true, true_or, or_false, false_or, false_and, and_false, gJ4_put_2_1, gJ4_put_2_2] at q1
          exact q1
      · have i2 := ihr (tmR T ptr) ptr false (some (.int c)) (some (.ref ptr)) q0 Rr (fun i h => hin i (in3.mpr (Or.inr (Or.inr h)))) hq
        rcases Sk'.1 with kk | kk
        · simp (disch := first | assumption | omega | decide) only [gB, I_all, zK_v, zK_n, true_and, and_true, Nat.reduceAdd, Nat.reduceMul, Nat.reduceSub, z_lt, z_le, z_neq, not_false_eq_true, or_true, true_or, or_false, false_or, false_and, and_false, gJ4_put_2_h]
          simp (disch := first | assumption | omega | decide) only [gB, I_all, zK_v, zK_n, true_and, and_true, Nat.reduceAdd, Nat.reduceMul, Nat.reduceSub, z_lt, z_le, z_neq, not_false_eq_true, or_true, true_or, or_false, false_or, false_and, and_false, gJ4_put_2_1, gJ4_put_2_2, f1, f4, m1', kk, ec, rf_n q0]
          exact i2
        · simp (disch := first | assumption | omega | decide) only [gB, I_all, zK_v, zK_n, true_and, and_true, Nat.reduceAdd, Nat.reduceMul, Nat.reduceSub, z_lt, z_le, z_neq, not_false_eq_true, or_true, true_or, or_false, false_or, false_and, and_false, gJ4_put_2_h]
          simp (disch := first | assumption | omega | decide) only [gB, I_all, zK_v, zK_n, true_and, and_true, Nat.reduceAdd, Nat.reduceMul, Nat.reduceSub, z_lt, z_le, z_neq, not_false_eq_true, or_true, true_or, or_false, false_or, false_and, and_false, gJ4_put_2_1, gJ4_put_2_2, f1, f4, m1', kk, ec, rf_n q0]
          exact i2
    · exact absurd (congrArg kN c2).symm nn
end
