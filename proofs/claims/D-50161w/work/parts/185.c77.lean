/-! the parser: frames; white space; digits -/
/-- the parser's four moving cells alone were changed -/
def Fz (z : Nat) (h h' : zH) : Prop := (∀ y, y < hN h → hK h' y = hK h y ∧ hL h' y = hL h y ∧ ∀ j, (y = z ∧ 130 ≤ j ∧ j ≤ 133) ∨ hV h' y j = hV h y j) ∧ hN h ≤ hN h'
/-- what the parser reads beside -/
def PW (κ : zC) (h : zH) (z kl arr : Nat) : Prop := KS κ h ∧ KWL κ h kl arr ∧ hV h z 128 = .ref kl ∧ kl < hN h ∧ arr < hN h ∧ (∃ r : Nat → Nat, (∀ k, 20 ≤ k → k ≤ 25 → kS κ k = .ref (r k)) ∧ ∀ i j, 20 ≤ i → i ≤ 25 → 20 ≤ j → j ≤ 25 → r i = r j → i = j)
/-- a token's kind -/
def kdS : Nat → Nat
  | 0 => 20
  | 1 => 23
  | 2 => 21
  | 3 => 24
  | 4 => 25
  | _ => 22
section
variable {κ : zC} {h h' h'' : zH} {z tx v i b n kl arr j : Nat} {l tp : List Int32} {x nu : Int32} {k w : Value} {Q : zQ}
theorem Fz.rfl : Fz z h h := ⟨fun _ _ => ⟨Eq.refl _, Eq.refl _, fun _ => Or.inr (Eq.refl _)⟩, Nat.le_refl _⟩
theorem Fz.trans (a : Fz z h h') (c : Fz z h' h'') : Fz z h h'' := ⟨fun y hy => by
  obtain ⟨a1, a2, a3⟩ := a.1 y hy
  obtain ⟨c1, c2, c3⟩ := c.1 y (Nat.lt_of_lt_of_le hy a.2)
  exact ⟨c1.trans a1, c2.trans a2, fun j => (a3 j).elim Or.inl fun e => (c3 j).elim Or.inl fun f => Or.inr (f.trans e)⟩, Nat.le_trans a.2 c.2⟩
theorem Fz.wr (hj : 130 ≤ j ∧ j ≤ 133) : Fz z h (hW h z j w) := ⟨fun y _ => ⟨hK_W .., hL_W .., fun i => by
  by_cases c : y = z ∧ i = j
  · exact Or.inl ⟨c.1, by omega, by omega⟩
  · refine Or.inr ?_
    rw [hV_W]
    by_cases d : y = z
    · rw [if_pos d, if_neg (fun e => c ⟨d, e⟩)]
    · rw [if_neg d]⟩, Nat.le_refl _⟩
theorem Fz.of (g : Ag h h' 0 (hN h)) (hn : hN h ≤ hN h') : Fz z h h' := ⟨fun y hy => ⟨(g y (Nat.zero_le _) hy).1, (g y (Nat.zero_le _) hy).2.1, fun j => Or.inr ((g y (Nat.zero_le _) hy).2.2 j)⟩, hn⟩
theorem Fz.at_ (a : Fz z h h') {y : Nat} (hy : y < hN h) (hz : y ≠ z) : hK h' y = hK h y ∧ hL h' y = hL h y ∧ ∀ j, hV h' y j = hV h y j := ⟨(a.1 y hy).1, (a.1 y hy).2.1, fun j => ((a.1 y hy).2.2 j).elim (fun e => absurd e.1 hz) id⟩
theorem Fz.ag (a : Fz z h h') {lo hi : Nat} (h1 : hi ≤ hN h) (h2 : z < lo ∨ hi ≤ z) : Ag h h' lo hi := fun y y1 y2 => a.at_ (by omega) (by omega)
theorem St.fz {a : Nat} (S : St h a v l) (f : Fz z h h') (ha : a < hN h) (hv : v < hN h) (kz : hK h z = 108) : St h' a v l := by
  have ka := S.1
  have kv := S.2.2.2.1.1
  have na : a ≠ z := fun e => by rw [e, kz] at ka; rcases ka with c | c <;> cases c
  have nv : v ≠ z := fun e => by rw [e, kz] at kv; cases kv
  exact S.cg ⟨(f.at_ ha na).1, (f.at_ ha na).2.2⟩ (f.at_ hv nv)
theorem PW.fz (P : PW κ h z kl arr) (f : Fz z h h') (kz : hK h z = 108) (hz : z < hN h) (hB : kB κ ≤ z) : PW κ h' z kl arr := by
  obtain ⟨K, ⟨l1, l2, ⟨b, l3⟩, ⟨l4, l5, l6⟩, l7, l8⟩, p1, p2, p3, p4⟩ := P
  have nk : kl ≠ z := fun e => by rw [e, kz] at l1; cases l1
  have na : arr ≠ z := fun e => by rw [e, kz] at l5; omega
  obtain ⟨a1, a2, a3⟩ := f.at_ p2 nk
  obtain ⟨b1, b2, b3⟩ := f.at_ p3 na
  refine ⟨K.ag (f.ag (hi := kB κ) (by omega) (Or.inr hB)) (Nat.le_refl _), ⟨a1.trans l1, (a3 _).trans l2, ⟨b, (a3 _).trans l3⟩, ⟨by rw [b1]; exact l4, by rw [b1]; exact l5, by rw [b1]; exact l6⟩, b2.trans l7, fun j hj => (b3 j).trans (l8 j hj)⟩, ?_, Nat.lt_of_lt_of_le p2 f.2, Nat.lt_of_lt_of_le p3 f.2, p4⟩
  exact ((f.1 z hz).2.2 128).elim (fun e => by omega) fun e => e.trans p1
theorem PP.w130 (P : PP κ h z tx v l i b nu k) (h1 : b ≤ j) (h2 : j ≤ l.length) : PP κ (hW h z 130 (.int (Int32.ofNat j))) z tx v l j b nu k := by
  obtain ⟨⟨p1, p2, p3⟩, ⟨t1, S, t3, t4, t5⟩, f1, f2, f3, f4, f5, f6⟩ := P
  exact ⟨⟨p1, p2, p3⟩, ⟨(hV_Wj (by decide)).trans t1, S.fz (Fz.wr (by decide)) t3 t4 p1, t3, t4, t5⟩, hV_We rfl rfl, (hV_Wj (by decide)).trans f2, (hV_Wj (by decide)).trans f3, (hV_Wj (by decide)).trans f4, h2, h1⟩
theorem PP.w131 (P : PP κ h z tx v l i b nu k) : PP κ (hW h z 131 (.int (Int32.ofNat i))) z tx v l i i nu k := by
  obtain ⟨⟨p1, p2, p3⟩, ⟨t1, S, t3, t4, t5⟩, f1, f2, f3, f4, f5, f6⟩ := P
  exact ⟨⟨p1, p2, p3⟩, ⟨(hV_Wj (by decide)).trans t1, S.fz (Fz.wr (by decide)) t3 t4 p1, t3, t4, t5⟩, (hV_Wj (by decide)).trans f1, hV_We rfl rfl, (hV_Wj (by decide)).trans f3, (hV_Wj (by decide)).trans f4, f5, Nat.le_refl _⟩
theorem PP.w132 (P : PP κ h z tx v l i b nu k) (y : Int32) : PP κ (hW h z 132 (.int y)) z tx v l i b y k := by
  obtain ⟨⟨p1, p2, p3⟩, ⟨t1, S, t3, t4, t5⟩, f1, f2, f3, f4, f5, f6⟩ := P
  exact ⟨⟨p1, p2, p3⟩, ⟨(hV_Wj (by decide)).trans t1, S.fz (Fz.wr (by decide)) t3 t4 p1, t3, t4, t5⟩, (hV_Wj (by decide)).trans f1, (hV_Wj (by decide)).trans f2, hV_We rfl rfl, (hV_Wj (by decide)).trans f4, f5, f6⟩
theorem PP.w133 (P : PP κ h z tx v l i b nu k) (y : Value) : PP κ (hW h z 133 y) z tx v l i b nu y := by
  obtain ⟨⟨p1, p2, p3⟩, ⟨t1, S, t3, t4, t5⟩, f1, f2, f3, f4, f5, f6⟩ := P
  exact ⟨⟨p1, p2, p3⟩, ⟨(hV_Wj (by decide)).trans t1, S.fz (Fz.wr (by decide)) t3 t4 p1, t3, t4, t5⟩, (hV_Wj (by decide)).trans f1, (hV_Wj (by decide)).trans f2, (hV_Wj (by decide)).trans f3, hV_We rfl rfl, f5, f6⟩
theorem PP.ext (P : PP κ h z tx v l i b nu k) (g : Ag h h' 0 (hN h)) (hn : hN h ≤ hN h') : PP κ h' z tx v l i b nu k := by
  obtain ⟨⟨p1, p2, p3⟩, ⟨t1, S, t3, t4, t5⟩, f1, f2, f3, f4, f5, f6⟩ := P
  obtain ⟨a1, a2, a3⟩ := g z (Nat.zero_le _) p3
  exact ⟨⟨a1.trans p1, p2, by omega⟩, ⟨(a3 _).trans t1, S.ag g ⟨Nat.zero_le _, t3⟩ ⟨Nat.zero_le _, t4⟩, by omega, by omega, t5⟩, (a3 _).trans f1, (a3 _).trans f2, (a3 _).trans f3, (a3 _).trans f4, f5, f6⟩
theorem run_0 {p : Int32 → Bool} {i : Nat} (h : run p (tp.drop i) = 0) {x : Int32} (hx : tp[i]? = some x) : p x = false := by
  have e : (tp.drop i)[0]? = some x := by rw [dr_at]; exact hx
  have := run_end (p := p) (l := tp.drop i) (x := x) (by rw [h]; exact e)
  exact this
theorem run_s {p : Int32 → Bool} {i r : Nat} (h : run p (tp.drop i) = r + 1) : ∃ x, tp[i]? = some x ∧ p x = true ∧ run p (tp.drop (i + 1)) = r := by
  obtain ⟨x, h1, h2⟩ := run_lt (p := p) (l := tp.drop i) (j := 0) (by omega)
  rw [dr_at, Nat.add_zero] at h1
  have hi := (List.getElem?_eq_some_iff.mp h1).1
  have e : tp.drop i = x :: tp.drop (i + 1) := by
    rw [List.drop_eq_getElem_cons hi, (List.getElem?_eq_some_iff.mp h1).2]
  rw [e] at h
  unfold run at h
  rw [if_pos h2] at h
  exact ⟨x, h1, h2, by omega⟩
theorem herB_one {c : Nat} (hc : c ≤ 127) : herB tp i c c = (match tp[i]? with
    | some x => decide (x = Int32.ofNat c)
    | none => false) := by
  unfold herB
  cases tp[i]? with
  | none => rfl
  | some x =>
    dsimp only
    by_cases e : x = Int32.ofNat c
    · rw [e, decide_eq_true (Int32.le_refl _), decide_eq_true (Eq.refl (Int32.ofNat c))]
      rfl
    · rw [decide_eq_false e]
      by_cases a : Int32.ofNat c ≤ x
      · by_cases d : x ≤ Int32.ofNat c
        · exact absurd (Int32.le_antisymm d a) e
        · rw [decide_eq_false d, Bool.and_false]
      · rw [decide_eq_false a, Bool.false_and]
/-- white space is passed over -/
theorem next_ws (hq : ∀ h', PP κ h' z tx v tp (i + run isW (tp.drop i)) b nu k → Fz z h h' → hN h' = hN h → hU h' = hU h → Go κ mX8_next 35 [some (.ref z)] [] h' Q) :
    ∀ (r i1 : Nat) (h1 : zH), run isW (tp.drop i1) = r → i1 + r = i + run isW (tp.drop i) → PW κ h1 z kl arr → PP κ h1 z tx v tp i1 b nu k → Fz z h h1 → hN h1 = hN h → hU h1 = hU h → Go κ mX8_next 0 [some (.ref z)] [] h1 Q := by
  have bT : boI true = Int32.ofNat 1 := rfl
  have bF : boI false = Int32.ofNat 0 := rfl
  intro r
  induction r with
  | zero =>
    intro i1 h1 hr hs w P f n1 u1
    have p1 := P.1.1
    have e1 := fun (Q : zQ) => e8_isHere (Q := Q) w.1 P (a := 32) (c := 32) (by decide) (by decide)
    have e2 := fun (Q : zQ) => e8_isHere (Q := Q) w.1 P (a := 10) (c := 10) (by decide) (by decide)
    rw [herB_one (by decide)] at e1 e2
    have f1 : (match tp[i1]? with | some x => decide (x = Int32.ofNat 32) | none => false) = false ∧ (match tp[i1]? with | some x => decide (x = Int32.ofNat 10) | none => false) = false := by
      cases c : tp[i1]? with
      | none => exact ⟨rfl, rfl⟩
      | some x =>
        have := run_0 hr c
        unfold isW at this
        rw [Bool.or_eq_false_iff] at this
        exact this
    rw [f1.1, bF] at e1
    rw [f1.2, bF] at e2
    rw [show i + run isW (tp.drop i) = i1 by omega] at hq
    have q1 := hq h1 P f n1 u1
    simp (disch := first | assumption | omega | decide) only [gB, I_all, zK_v, zK_n, true_and, and_true, Nat.reduceAdd, Nat.reduceMul, Nat.reduceSub, z_lt, z_le, z_neq, not_false_eq_true, or_true, true_or, or_false, false_or, false_and, and_false, gX8_next_h]
    simp (disch := first | assumption | omega | decide) only [gB, I_all, zK_v, zK_n, true_and, and_true, Nat.reduceAdd, Nat.reduceMul, Nat.reduceSub, z_lt, z_le, z_neq, not_false_eq_true, or_true, true_or, or_false, false_or, false_and, and_false, gX8_next_1, gX8_next_2, p1, e1, e2]
    simp (disch := first | assumption | omega | decide) only [gB, I_all, zK_v, zK_n, true_and, and_true, Nat.reduceAdd, Nat.reduceMul, Nat.reduceSub, z_lt, z_le, z_neq, not_false_eq_true, or_true, true_or, or_false, false_or, false_and, and_false, gX8_next_1, gX8_next_2, p1] at q1
    exact q1
  | succ r ih =>
    intro i1 h1 hr hs w P f n1 u1
    obtain ⟨x, hx, px, hr'⟩ := run_s hr
    have hi := (List.getElem?_eq_some_iff.mp hx).1
    have p1 := P.1.1
    have p2 := P.1.2.1
    have v130 := P.2.2.1
    have e1 := fun (Q : zQ) => e8_isHere (Q := Q) w.1 P (a := 32) (c := 32) (by decide) (by decide)
    have e2 := fun (Q : zQ) => e8_isHere (Q := Q) w.1 P (a := 10) (c := 10) (by decide) (by decide)
    rw [herB_one (by decide), hx] at e1 e2
    dsimp only at e1 e2
    have P2 := P.w130 (j := i1 + 1) (by have := P.2.2.2.2.2.2.2; omega) (by omega)
    have F2 : Fz z h1 (hW h1 z 130 (.int (Int32.ofNat (i1 + 1)))) := Fz.wr (by decide)
    have i2 := ih (i1 + 1) _ hr' (by omega) (w.fz F2 p1 P.1.2.2 p2) P2 (f.trans F2) n1 u1
    unfold isW at px
    rw [Bool.or_eq_true] at px
    rcases px with px | px
    · rw [px, bT] at e1
      simp (disch := first | assumption | omega | decide) only [gB, I_all, zK_v, zK_n, true_and, and_true, Nat.reduceAdd, Nat.reduceMul, Nat.reduceSub, z_lt, z_le, z_neq, not_false_eq_true, or_true, true_or, or_false, false_or, false_and, and_false, gX8_next_h]
      simp (disch := first | assumption | omega | decide) only [gB, I_all, zK_v, zK_n, true_and, and_true, Nat.reduceAdd, Nat.reduceMul, Nat.reduceSub, z_lt, z_le, z_neq, not_false_eq_true, or_true, true_or, or_false, false_or, false_and, and_false, gX8_next_1, gX8_next_2, p1, e1, v130, I_add]
      exact i2
    · rw [px, bT] at e2
      have nx : decide (x = Int32.ofNat 32) = false := by
        rw [of_decide_eq_true px]
        decide
      rw [nx, bF] at e1
      simp (disch := first | assumption | omega | decide) only [gB, I_all, zK_v, zK_n, true_and, and_true, Nat.reduceAdd, Nat.reduceMul, Nat.reduceSub, z_lt, z_le, z_neq, not_false_eq_true, or_true, true_or, or_false, false_or, false_and, and_false, gX8_next_h]
      simp (disch := first | assumption | omega | decide) only [gB, I_all, zK_v, zK_n, true_and, and_true, Nat.reduceAdd, Nat.reduceMul, Nat.reduceSub, z_lt, z_le, z_neq, not_false_eq_true, or_true, true_or, or_false, false_or, false_and, and_false, gX8_next_1, gX8_next_2, p1, e1, e2, v130, I_add]
      exact i2
end
