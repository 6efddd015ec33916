/-! the search tree in the heap: made even behind a new leaf (written by gen_t6.py) -/
section
variable {κ : zC} {h : zH} {m x p i j : Nat} {L : List Nat} {T : Tm} {t : Tr} {Q : zQ} {a0 a1 a2 : Option Value} {st : List Value}
theorem fx_54 : Go κ mJ4_fixAfterInsertion 54 [a0, a1, a2] (rf i :: st) h Q = Go κ mJ4_fixAfterInsertion 55 [a0, zClob 0 a1, some (rf i)] st h Q := by
  by_cases c : i = 0
  · rw [c, rf_0]
    simp only [gJ4_fixAfterInsertion_1, gJ4_fixAfterInsertion_2]
  · rw [rf_n c]
    simp only [gJ4_fixAfterInsertion_1, gJ4_fixAfterInsertion_2]
theorem fx_161 : Go κ mJ4_fixAfterInsertion 161 [a0, a1, a2] (rf i :: st) h Q = Go κ mJ4_fixAfterInsertion 162 [a0, zClob 0 a1, some (rf i)] st h Q := by
  by_cases c : i = 0
  · rw [c, rf_0]
    simp only [gJ4_fixAfterInsertion_1, gJ4_fixAfterInsertion_2]
  · rw [rf_n c]
    simp only [gJ4_fixAfterInsertion_1, gJ4_fixAfterInsertion_2]
theorem fx_93 : Go κ mJ4_fixAfterInsertion 93 [a0, a1, a2] (rf i :: st) h Q = Go κ mJ4_fixAfterInsertion 94 [zClob 0 a0, some (rf i), a2] st h Q := by
  by_cases c : i = 0
  · rw [c, rf_0]
    simp only [gJ4_fixAfterInsertion_1, gJ4_fixAfterInsertion_2]
  · rw [rf_n c]
    simp only [gJ4_fixAfterInsertion_1, gJ4_fixAfterInsertion_2]
theorem fx_112 : Go κ mJ4_fixAfterInsertion 112 [a0, a1, a2] (rf i :: st) h Q = Go κ mJ4_fixAfterInsertion 113 [zClob 0 a0, some (rf i), a2] st h Q := by
  by_cases c : i = 0
  · rw [c, rf_0]
    simp only [gJ4_fixAfterInsertion_1, gJ4_fixAfterInsertion_2]
  · rw [rf_n c]
    simp only [gJ4_fixAfterInsertion_1, gJ4_fixAfterInsertion_2]
theorem fx_200 : Go κ mJ4_fixAfterInsertion 200 [a0, a1, a2] (rf i :: st) h Q = Go κ mJ4_fixAfterInsertion 201 [zClob 0 a0, some (rf i), a2] st h Q := by
  by_cases c : i = 0
  · rw [c, rf_0]
    simp only [gJ4_fixAfterInsertion_1, gJ4_fixAfterInsertion_2]
  · rw [rf_n c]
    simp only [gJ4_fixAfterInsertion_1, gJ4_fixAfterInsertion_2]
theorem fx_219 : Go κ mJ4_fixAfterInsertion 219 [a0, a1, a2] (rf i :: st) h Q = Go κ mJ4_fixAfterInsertion 220 [zClob 0 a0, some (rf i), a2] st h Q := by
  by_cases c : i = 0
  · rw [c, rf_0]
    simp only [gJ4_fixAfterInsertion_1, gJ4_fixAfterInsertion_2]
  · rw [rf_n c]
    simp only [gJ4_fixAfterInsertion_1, gJ4_fixAfterInsertion_2]
theorem fx_41y (e : j = i) : Go κ mJ4_fixAfterInsertion 41 [a0, a1, a2] (rf i :: rf j :: st) h Q = Go κ mJ4_fixAfterInsertion 44 [a0, a1, a2] st h Q := by
  subst e
  by_cases c : j = 0
  · rw [c, rf_0]
    simp only [gJ4_fixAfterInsertion_1, gJ4_fixAfterInsertion_2]
  · rw [rf_n c]
    simp only [gJ4_fixAfterInsertion_1, gJ4_fixAfterInsertion_2]
theorem fx_41n (e : ¬ j = i) : Go κ mJ4_fixAfterInsertion 41 [a0, a1, a2] (rf i :: rf j :: st) h Q = Go κ mJ4_fixAfterInsertion 151 [a0, a1, a2] st h Q := by
  have e' : ¬ i = j := fun z => e z.symm
  by_cases c : i = 0
  · have d : j ≠ 0 := fun z => e (z.trans c.symm)
    rw [c, rf_0, rf_n d]
    simp only [gJ4_fixAfterInsertion_1, gJ4_fixAfterInsertion_2]
  · rw [rf_n c]
    by_cases d : j = 0
    · rw [d, rf_0]
      simp only [gJ4_fixAfterInsertion_1, gJ4_fixAfterInsertion_2]
    · rw [rf_n d]
      simp (disch := assumption) only [gJ4_fixAfterInsertion_1, gJ4_fixAfterInsertion_2]
theorem fx_105y (e : j = i) : Go κ mJ4_fixAfterInsertion 105 [a0, a1, a2] (rf i :: rf j :: st) h Q = Go κ mJ4_fixAfterInsertion 108 [a0, a1, a2] st h Q := by
  subst e
  by_cases c : j = 0
  · rw [c, rf_0]
    simp only [gJ4_fixAfterInsertion_1, gJ4_fixAfterInsertion_2]
  · rw [rf_n c]
    simp only [gJ4_fixAfterInsertion_1, gJ4_fixAfterInsertion_2]
theorem fx_105n (e : ¬ j = i) : Go κ mJ4_fixAfterInsertion 105 [a0, a1, a2] (rf i :: rf j :: st) h Q = Go κ mJ4_fixAfterInsertion 118 [a0, a1, a2] st h Q := by
  have e' : ¬ i = j := fun z => e z.symm
  by_cases c : i = 0
  · have d : j ≠ 0 := fun z => e (z.trans c.symm)
    rw [c, rf_0, rf_n d]
    simp only [gJ4_fixAfterInsertion_1, gJ4_fixAfterInsertion_2]
  · rw [rf_n c]
    by_cases d : j = 0
    · rw [d, rf_0]
      simp only [gJ4_fixAfterInsertion_1, gJ4_fixAfterInsertion_2]
    · rw [rf_n d]
      simp (disch := assumption) only [gJ4_fixAfterInsertion_1, gJ4_fixAfterInsertion_2]
theorem fx_212y (e : j = i) : Go κ mJ4_fixAfterInsertion 212 [a0, a1, a2] (rf i :: rf j :: st) h Q = Go κ mJ4_fixAfterInsertion 215 [a0, a1, a2] st h Q := by
  subst e
  by_cases c : j = 0
  · rw [c, rf_0]
    simp only [gJ4_fixAfterInsertion_1, gJ4_fixAfterInsertion_2]
  · rw [rf_n c]
    simp only [gJ4_fixAfterInsertion_1, gJ4_fixAfterInsertion_2]
theorem fx_212n (e : ¬ j = i) : Go κ mJ4_fixAfterInsertion 212 [a0, a1, a2] (rf i :: rf j :: st) h Q = Go κ mJ4_fixAfterInsertion 225 [a0, a1, a2] st h Q := by
  have e' : ¬ i = j := fun z => e z.symm
  by_cases c : i = 0
  · have d : j ≠ 0 := fun z => e (z.trans c.symm)
    rw [c, rf_0, rf_n d]
    simp only [gJ4_fixAfterInsertion_1, gJ4_fixAfterInsertion_2]
  · rw [rf_n c]
    by_cases d : j = 0
    · rw [d, rf_0]
      simp only [gJ4_fixAfterInsertion_1, gJ4_fixAfterInsertion_2]
    · rw [rf_n d]
      simp (disch := assumption) only [gJ4_fixAfterInsertion_1, gJ4_fixAfterInsertion_2]
theorem tpo_n {f : Nat → Nat} (h : x ≠ 0) : tpo f x = f x := if_neg h
theorem zCl_rf (i : Nat) : zClob 0 (some (rf i)) = some (rf i) := by unfold rf; split <;> rfl
theorem tsc_L (T : Tm) (i : Nat) (v : Bool) : tmL (tsc T i v) = tmL T := (tsc_s T i v).1
theorem tsc_R (T : Tm) (i : Nat) (v : Bool) : tmR (tsc T i v) = tmR T := (tsc_s T i v).2.1
theorem tsc_P (T : Tm) (i : Nat) (v : Bool) : tmP (tsc T i v) = tmP T := (tsc_s T i v).2.2.1
/-- the tree's cells all lead into the tree -/
theorem cl_P (W : TW T t) (hx : x = 0 ∨ x ∈ inO t) : tpo (tmP T) x = 0 ∨ tpo (tmP T) x ∈ inO t := by
  rcases hx with rfl | hx
  · exact Or.inl rfl
  · rw [tpo_n (TR_ne W.1 hx)]
    by_cases c : tmP T x = 0
    · exact Or.inl c
    · exact Or.inr (par_in W hx (par_0 W hx c)).1
theorem cl_R (W : TW T t) (hx : x = 0 ∨ x ∈ inO t) : tpo (tmR T) x = 0 ∨ tpo (tmR T) x ∈ inO t := by
  rcases hx with rfl | hx
  · exact Or.inl rfl
  · rw [tpo_n (TR_ne W.1 hx)]
    by_cases c : tmR T x = 0
    · exact Or.inl c
    · exact Or.inr (nb_R W hx rfl c).1
theorem cl_L (W : TW T t) (hx : x = 0 ∨ x ∈ inO t) : tpo (tmL T) x = 0 ∨ tpo (tmL T) x ∈ inO t := by
  rcases hx with rfl | hx
  · exact Or.inl rfl
  · rw [tpo_n (TR_ne W.1 hx)]
    by_cases c : tmL T x = 0
    · exact Or.inl c
    · exact Or.inr (nb_L W hx rfl c).1
theorem fx_head (S : TS κ h m (inO t)) (W : TW T t) (hx : x ∈ inO t) (hr : x ≠ tmO T) (hc : tmC T (tmP T x) = false) :
    Go κ mJ4_fixAfterInsertion 5 [some (.ref m), some (rf x), a2] [] (hT h m (inO t) T) Q = Go κ mJ4_fixAfterInsertion 27 [some (.ref m), some (rf x), a2] [] (hT h m (inO t) T) Q := by
  have x0 := TR_ne W.1 hx
  obtain ⟨pin, p0, -⟩ := par_in W hx hr
  have o0 : tmO T ≠ 0 := fun z => by
    have e := W.1
    rw [z] at e
    rw [TR_0 e] at hx
    cases hx
  have Fx := nodF S hx
  have Fp := nodF S pin
  have Fm := rooF S
  have hr' : ¬ tmO T = x := fun z => hr z.symm
  rw [rf_n x0]
  simp (disch := first | assumption | omega | decide) only [gB, I_all, zK_v, zK_n, true_and, and_true, Nat.reduceAdd, Nat.reduceMul, Nat.reduceSub, z_lt, z_le, z_neq, not_false_eq_true, or_true, true_or, or_false, false_or, false_and, and_false, gJ4_fixAfterInsertion_h, gJ4_fixAfterInsertion_1, Fx, Fp, Fm, rf_n o0, rf_n p0, hc, Bool.toNat_false]
/-- the loop's end: the root made black -/
theorem fx_tail (S : TS κ h m (inO t)) (W : TW T t) (hx : x ∈ inO t) : Go κ mJ4_fixAfterInsertion 258 [some (.ref m), a1, a2] [] (hT h m (inO t) T) Q = Q (.inl none) (hT h m (inO t) (tsc T (tmO T) true)) := by
  have o0 : tmO T ≠ 0 := fun z => by
    have e := W.1
    rw [z] at e
    rw [TR_0 e] at hx
    cases hx
  have oin : tmO T ∈ inO t := (TR_mem W.1).resolve_left o0
  have Fo := nodF S oin
  have Fm := rooF S
  have e : tsc T (tmO T) true = tsC T (tmO T) true := if_neg o0
  rw [e]
  have zf1 : zFit .boolean (.int (Int32.ofNat 1)) = true := by decide
  simp (disch := first | assumption | omega | decide) only [gB, I_all, zK_v, zK_n, true_and, and_true, Nat.reduceAdd, Nat.reduceMul, Nat.reduceSub, z_lt, z_le, z_neq, not_false_eq_true, or_true, true_or, or_false, false_or, false_and, and_false, gJ4_fixAfterInsertion_2, Fo, Fm, rf_n o0, zf1]
theorem fx_root (S : TS κ h m (inO t)) (W : TW T t) (hx : x ∈ inO t) (hr : x = tmO T) :
    Go κ mJ4_fixAfterInsertion 5 [some (.ref m), some (rf x), a2] [] (hT h m (inO t) T) Q = Q (.inl none) (hT h m (inO t) (tsc T (tmO T) true)) := by
  have x0 := TR_ne W.1 hx
  have Fm := rooF S
  have tl := fun a1 => fx_tail (κ := κ) (a1 := a1) (a2 := a2) (Q := Q) S W hx
  have o0 : tmO T ≠ 0 := hr ▸ x0
  rw [rf_n x0]
  simp (disch := first | assumption | omega | decide) only [gB, I_all, zK_v, zK_n, true_and, and_true, Nat.reduceAdd, Nat.reduceMul, Nat.reduceSub, z_lt, z_le, z_neq, not_false_eq_true, or_true, true_or, or_false, false_or, false_and, and_false, gJ4_fixAfterInsertion_h, gJ4_fixAfterInsertion_1, Fm, hr, rf_n o0]
  exact tl _
theorem fx_black (S : TS κ h m (inO t)) (W : TW T t) (hx : x ∈ inO t) (hr : x ≠ tmO T) (hc : tmC T (tmP T x) = true) :
    Go κ mJ4_fixAfterInsertion 5 [some (.ref m), some (rf x), a2] [] (hT h m (inO t) T) Q = Q (.inl none) (hT h m (inO t) (tsc T (tmO T) true)) := by
  have x0 := TR_ne W.1 hx
  obtain ⟨pin, p0, -⟩ := par_in W hx hr
  have o0 : tmO T ≠ 0 := fun z => by
    have e := W.1
    rw [z] at e
    rw [TR_0 e] at hx
    cases hx
  have Fx := nodF S hx
  have Fp := nodF S pin
  have Fm := rooF S
  have hr' : ¬ tmO T = x := fun z => hr z.symm
  have tl := fun a1 => fx_tail (κ := κ) (a1 := a1) (a2 := a2) (Q := Q) S W hx
  rw [rf_n x0]
  simp (disch := first | assumption | omega | decide) only [gB, I_all, zK_v, zK_n, true_and, and_true, Nat.reduceAdd, Nat.reduceMul, Nat.reduceSub, z_lt, z_le, z_neq, not_false_eq_true, or_true, true_or, or_false, false_or, false_and, and_false, gJ4_fixAfterInsertion_h, gJ4_fixAfterInsertion_1, Fx, Fp, Fm, rf_n o0, rf_n p0, hc, Bool.toNat_true]
  exact tl _
theorem roL_P2 (W : TW T t) (hp : p ∈ inO t) (hr : tmR T p = x) (x0 : x ≠ 0) : tmP (roL T p) p = x ∧ tmP (roL T p) x = tmP T p := by
  obtain ⟨d1, d2, d3, d4, d5, d6, d7⟩ := nb_R W hp hr x0
  have E := roL_e (T := T) d7 hr rfl rfl d2 d5 d6 d3 d4
  exact ⟨by rw [E.2.2.1, if_pos rfl], by rw [E.2.2.1, if_neg d2, if_pos rfl]⟩
theorem roL_L2 (W : TW T t) (hp : p ∈ inO t) (hr : tmR T p = x) (x0 : x ≠ 0) (q0 : tmP T p ≠ 0) (e : tmL T (tmP T p) = p) : tmL (roL T p) (tmP T p) = x := by
  obtain ⟨d1, d2, d3, d4, d5, d6, d7⟩ := nb_R W hp hr x0
  have E := roL_e (T := T) d7 hr rfl rfl d2 d5 d6 d3 d4
  rw [E.1, if_neg d6, if_pos ⟨rfl, q0, e⟩]
theorem roR_P2 (W : TW T t) (hp : p ∈ inO t) (hr : tmL T p = x) (x0 : x ≠ 0) : tmP (roR T p) p = x ∧ tmP (roR T p) x = tmP T p := by
  have := roL_P2 (mir_W W) (by rw [mtr_in]; exact List.mem_reverse.mpr hp) (show tmR (mir T) p = x from hr) x0
  rw [roR_mi]
  exact this
theorem roR_R2 (W : TW T t) (hp : p ∈ inO t) (hr : tmL T p = x) (x0 : x ≠ 0) (q0 : tmP T p ≠ 0) (e : tmR T (tmP T p) = p) : tmR (roR T p) (tmP T p) = x := by
  have := roL_L2 (mir_W W) (by rw [mtr_in]; exact List.mem_reverse.mpr hp) (show tmR (mir T) p = x from hr) x0 q0 e
  rw [roR_mi]
  exact this
theorem fxA2_go (S : TS κ h m (inO t)) (W : TW T t) (hx : x ∈ inO t) (pin : tmP T x ∈ inO t) (hg : tmP T (tmP T x) = 0 ∨ (tmP T (tmP T x) ∈ inO t ∧ tmL T (tmP T (tmP T x)) ≠ 0)) :
    Go κ mJ4_fixAfterInsertion 118 [some (.ref m), some (rf x), a2] [] (hT h m (inO t) T) Q = Go κ mJ4_fixAfterInsertion 5 [some (.ref m), some (rf x), a2] [] (hT h m (inO t) (fxA2 T x)) Q := by
  have x0 := TR_ne W.1 hx
  have p0 := TR_ne W.1 pin
  have e1 : tpo (tmP T) x = tmP T x := tpo_n x0
  have e2 : tpo (tmP T) (tmP T x) = tmP T (tmP T x) := tpo_n p0
  have hx0 : x = 0 ∨ x ∈ inO t := Or.inr hx
  have hp0 : tmP T x = 0 ∨ tmP T x ∈ inO t := Or.inr pin
  have hg0 : tmP T (tmP T x) = 0 ∨ tmP T (tmP T x) ∈ inO t := hg.elim Or.inl fun z => Or.inr z.1
  have rp := fun (T : Tm) (y : Nat) (hy : y = 0 ∨ y ∈ inO t) (Q : zQ) => e4_parentOf (κ := κ) (T := T) (Q := Q) S hy
  have sc1 := fun (T : Tm) (y : Nat) (hy : y = 0 ∨ y ∈ inO t) (Q : zQ) => e4_setColor (κ := κ) (T := T) (v := true) (n := 1) (Q := Q) rfl S hy
  have sc0 := fun (T : Tm) (y : Nat) (hy : y = 0 ∨ y ∈ inO t) (Q : zQ) => e4_setColor (κ := κ) (T := T) (v := false) (n := 0) (Q := Q) rfl S hy
  have km : ∀ T, hK (hT h m (inO t) T) m = 116 := (rooF S).1
  have eF : fxA2 T x = roR (tsc (tsc T (tmP T x) true) (tmP T (tmP T x)) false) (tmP T (tmP T x)) := by
    unfold fxA2
    simp only [tsc_P, e1, e2]
  rw [eF]
  generalize hpe : tmP T x = p at *
  generalize hge : tmP T p = g at *
  have rr : ∀ Q : zQ, Ev κ mJ4_rotateRight [.ref m, rf g] (hT h m (inO t) (tsc (tsc T p true) g false)) Q = Q (.inl none) (hT h m (inO t) (roR (tsc (tsc T p true) g false) g)) := fun Q => by
    rcases hg with g0 | ⟨g1, g2⟩
    · subst g0
      rw [rf_0, e4_rotateRight0]
      rfl
    · rw [rf_n (TR_ne W.1 g1)]
      exact e4_rotateRight S (tsc_W (tsc_W W)) g1 (by rw [tsc_L, tsc_L]; exact g2)
  simp (disch := first | assumption | omega | decide) only [gB, I_all, zK_v, zK_n, true_and, and_true, Nat.reduceAdd, Nat.reduceMul, Nat.reduceSub, z_lt, z_le, z_neq, not_false_eq_true, or_true, true_or, or_false, false_or, false_and, and_false, gJ4_fixAfterInsertion_1, gJ4_fixAfterInsertion_2, zTy_rf, cat_rf, rp, sc1, sc0, km, tsc_P, hpe, hge, e1, e2, rr]
theorem fxB2_go (S : TS κ h m (inO t)) (W : TW T t) (hx : x ∈ inO t) (pin : tmP T x ∈ inO t) (hg : tmP T (tmP T x) = 0 ∨ (tmP T (tmP T x) ∈ inO t ∧ tmR T (tmP T (tmP T x)) ≠ 0)) :
    Go κ mJ4_fixAfterInsertion 225 [some (.ref m), some (rf x), a2] [] (hT h m (inO t) T) Q = Go κ mJ4_fixAfterInsertion 5 [some (.ref m), some (rf x), a2] [] (hT h m (inO t) (fxB2 T x)) Q := by
  have x0 := TR_ne W.1 hx
  have p0 := TR_ne W.1 pin
  have e1 : tpo (tmP T) x = tmP T x := tpo_n x0
  have e2 : tpo (tmP T) (tmP T x) = tmP T (tmP T x) := tpo_n p0
  have hx0 : x = 0 ∨ x ∈ inO t := Or.inr hx
  have hp0 : tmP T x = 0 ∨ tmP T x ∈ inO t := Or.inr pin
  have hg0 : tmP T (tmP T x) = 0 ∨ tmP T (tmP T x) ∈ inO t := hg.elim Or.inl fun z => Or.inr z.1
  have rp := fun (T : Tm) (y : Nat) (hy : y = 0 ∨ y ∈ inO t) (Q : zQ) => e4_parentOf (κ := κ) (T := T) (Q := Q) S hy
  have sc1 := fun (T : Tm) (y : Nat) (hy : y = 0 ∨ y ∈ inO t) (Q : zQ) => e4_setColor (κ := κ) (T := T) (v := true) (n := 1) (Q := Q) rfl S hy
  have sc0 := fun (T : Tm) (y : Nat) (hy : y = 0 ∨ y ∈ inO t) (Q : zQ) => e4_setColor (κ := κ) (T := T) (v := false) (n := 0) (Q := Q) rfl S hy
  have km : ∀ T, hK (hT h m (inO t) T) m = 116 := (rooF S).1
  have eF : fxB2 T x = roL (tsc (tsc T (tmP T x) true) (tmP T (tmP T x)) false) (tmP T (tmP T x)) := by
    unfold fxB2
    simp only [tsc_P, e1, e2]
  rw [eF]
  generalize hpe : tmP T x = p at *
  generalize hge : tmP T p = g at *
  have rr : ∀ Q : zQ, Ev κ mJ4_rotateLeft [.ref m, rf g] (hT h m (inO t) (tsc (tsc T p true) g false)) Q = Q (.inl none) (hT h m (inO t) (roL (tsc (tsc T p true) g false) g)) := fun Q => by
    rcases hg with g0 | ⟨g1, g2⟩
    · subst g0
      rw [rf_0, e4_rotateLeft0]
      rfl
    · rw [rf_n (TR_ne W.1 g1)]
      exact e4_rotateLeft S (tsc_W (tsc_W W)) g1 (by rw [tsc_R, tsc_R]; exact g2)
  simp (disch := first | assumption | omega | decide) only [gB, I_all, zK_v, zK_n, true_and, and_true, Nat.reduceAdd, Nat.reduceMul, Nat.reduceSub, z_lt, z_le, z_neq, not_false_eq_true, or_true, true_or, or_false, false_or, false_and, and_false, gJ4_fixAfterInsertion_1, gJ4_fixAfterInsertion_2, zTy_rf, cat_rf, rp, sc1, sc0, km, tsc_P, hpe, hge, e1, e2, rr]
theorem fxA_go (S : TS κ h m (inO t)) (W : TW T t) (hx : x ∈ inO t) (hr : x ≠ tmO T) (hs : tmP T (tmP T x) = 0 ∨ tmL T (tmP T (tmP T x)) = tmP T x) :
    ∃ a3, Go κ mJ4_fixAfterInsertion 44 [some (.ref m), some (rf x), a2] [] (hT h m (inO t) T) Q = Go κ mJ4_fixAfterInsertion 5 [some (.ref m), some (rf (fxA T x).2), a3] [] (hT h m (inO t) (fxA T x).1) Q := by
  have x0 := TR_ne W.1 hx
  obtain ⟨pin, p0, pc⟩ := par_in W hx hr
  have e1 : tpo (tmP T) x = tmP T x := tpo_n x0
  have e2 : tpo (tmP T) (tmP T x) = tmP T (tmP T x) := tpo_n p0
  have e3 : tpo (tmR T) (tmP T x) = tmR T (tmP T x) := tpo_n p0
  have hx0 : x = 0 ∨ x ∈ inO t := Or.inr hx
  have hp0 : tmP T x = 0 ∨ tmP T x ∈ inO t := Or.inr pin
  have hg0 : tmP T (tmP T x) = 0 ∨ tmP T (tmP T x) ∈ inO t := e2 ▸ cl_P W hp0
  have hy0 : tpo (tmR T) (tmP T (tmP T x)) = 0 ∨ tpo (tmR T) (tmP T (tmP T x)) ∈ inO t := cl_R W hg0
  have rp := fun (T : Tm) (y : Nat) (hy : y = 0 ∨ y ∈ inO t) (Q : zQ) => e4_parentOf (κ := κ) (T := T) (Q := Q) S hy
  have sc1 := fun (T : Tm) (y : Nat) (hy : y = 0 ∨ y ∈ inO t) (Q : zQ) => e4_setColor (κ := κ) (T := T) (v := true) (n := 1) (Q := Q) rfl S hy
  have sc0 := fun (T : Tm) (y : Nat) (hy : y = 0 ∨ y ∈ inO t) (Q : zQ) => e4_setColor (κ := κ) (T := T) (v := false) (n := 0) (Q := Q) rfl S hy
  have km : ∀ T, hK (hT h m (inO t) T) m = 116 := (rooF S).1
  have rR := fun (T : Tm) (y : Nat) (hy : y = 0 ∨ y ∈ inO t) (Q : zQ) => e4_rightOf (κ := κ) (T := T) (Q := Q) S hy
  have rc := fun (T : Tm) (y : Nat) (hy : y = 0 ∨ y ∈ inO t) (Q : zQ) => e4_colorOf (κ := κ) (T := T) (Q := Q) S hy
  unfold fxA
  simp only [e1, e2]
  have hgL : tmP T (tmP T x) = 0 ∨ (tmP T (tmP T x) ∈ inO t ∧ tmL T (tmP T (tmP T x)) ≠ 0) := hg0.elim Or.inl fun z => hs.elim Or.inl fun e => Or.inr ⟨z, by rw [e]; exact p0⟩
  cases c : tco T (tpo (tmR T) (tmP T (tmP T x))) with
  | false =>
    rw [if_pos rfl]
    generalize hpe : tmP T x = p at *
    generalize hge : tmP T p = g at *
    generalize hye : tpo (tmR T) g = y at *
    refine ⟨some (rf y), ?_⟩
    simp (disch := first | assumption | omega | decide) only [gB, I_all, zK_v, zK_n, true_and, and_true, Nat.reduceAdd, Nat.reduceMul, Nat.reduceSub, z_lt, z_le, z_neq, not_false_eq_true, or_true, true_or, or_false, false_or, false_and, and_false, gJ4_fixAfterInsertion_1, gJ4_fixAfterInsertion_2, zTy_rf, cat_rf, rp, rR, rc, sc1, sc0, tsc_P, hpe, hge, e1, e2, hye, fx_54, fx_93, c, Bool.toNat_false, zCl_rf]
  | true =>
    rw [if_neg (by decide)]
    by_cases d : x = tpo (tmR T) (tmP T x)
    · rw [if_pos d]
      have d' : tmR T (tmP T x) = x := e3 ▸ d.symm
      have W2 : ∃ t', TW (roL T (tmP T x)) t' ∧ inO t' = inO t := roL_W W pin (by rw [d']; exact x0)
      obtain ⟨t', W', eI⟩ := W2
      refine ⟨some (rf (tpo (tmR T) (tmP T (tmP T x)))), ?_⟩
      have pj := roL_P2 W pin d' x0
      obtain ⟨j1, j2⟩ := pj
      have S' : TS κ h m (inO t') := by rw [eI]; exact S
      have go2 := fxA2_go (κ := κ) (a2 := some (rf (tpo (tmR T) (tmP T (tmP T x))))) (Q := Q) S' W' (x := tmP T x) (by rw [eI]; exact pin) (by rw [j1, eI]; exact hx) (by
        rw [j1, j2, eI]
        refine hg0.elim Or.inl fun z => hs.elim Or.inl fun e => Or.inr ⟨z, ?_⟩
        have := roL_L2 W pin d' x0 (show tmP T (tmP T x) ≠ 0 from TR_ne W.1 z) e
        rw [this]
        exact x0)
      rw [eI] at go2
      have rt := fun (Q : zQ) => e4_rotateLeft (κ := κ) (Q := Q) S W pin (by rw [d']; exact x0)
      have dd : x = tmR T (tmP T x) := d'.symm
      rw [rf_n p0] at go2 ⊢
      generalize hpe : tmP T x = p at *
      generalize hge : tmP T p = g at *
      generalize hye : tpo (tmR T) g = y at *
      have rpx := rp T x hx0
      have rRp := rR T p hp0
      have rpp := rp T p hp0
      rw [e1] at rpx
      rw [e3, d'] at rRp
      rw [e2] at rpp
      rw [rf_n p0] at rpx rRp rpp
      have rRg := rR T g hg0
      rw [hye] at rRg
      have rcy := rc T y hy0
      rw [c] at rcy
      rw [rf_n x0] at rpx rRp
      rw [rf_n x0]
      generalize hG : Go κ mJ4_fixAfterInsertion 118 [some (.ref m), some (.ref p), some (rf y)] [] (hT h m (inO t) (roL T p)) Q = G at go2
      have rt' : Ev κ mJ4_rotateLeft [.ref m, .ref p] (hT h m (inO t) T) (zK κ mJ4_fixAfterInsertion 115 3 [some (.ref m), some (.ref p), some (rf y)] [] Q) = G := (rt _).trans hG
      simp (disch := first | assumption | omega | decide) only [gB, I_all, zK_v, zK_n, true_and, and_true, Nat.reduceAdd, Nat.reduceMul, Nat.reduceSub, z_lt, z_le, z_neq, not_false_eq_true, or_true, true_or, or_false, false_or, false_and, and_false, gJ4_fixAfterInsertion_1, gJ4_fixAfterInsertion_2, zTy_rf, cat_rf, rpx, rRp, rpp, rRg, rcy, fx_54, Bool.toNat_true, km, rt']
      exact go2
    · rw [if_neg d]
      refine ⟨some (rf (tpo (tmR T) (tmP T (tmP T x)))), ?_⟩
      have go2 := fxA2_go (κ := κ) (a2 := some (rf (tpo (tmR T) (tmP T (tmP T x))))) (Q := Q) S W hx pin hgL
      rw [← go2]
      have d2 : ¬ x = tmR T (tmP T x) := e3 ▸ d
      have h118 := fun (a3 : Option Value) => fx_105n (κ := κ) (h := hT h m (inO t) T) (Q := Q) (a0 := some (.ref m)) (a1 := some (rf x)) (a2 := a3) (st := []) d2
      generalize hpe : tmP T x = p at *
      generalize hge : tmP T p = g at *
      generalize hye : tpo (tmR T) g = y at *
      generalize hze : tmR T p = z at *
      generalize hG : Go κ mJ4_fixAfterInsertion 118 [some (.ref m), some (rf x), some (rf y)] [] (hT h m (inO t) T) Q = G
      have h118' := (h118 (some (rf y))).trans hG
      simp (disch := first | assumption | omega | decide) only [gB, I_all, zK_v, zK_n, true_and, and_true, Nat.reduceAdd, Nat.reduceMul, Nat.reduceSub, z_lt, z_le, z_neq, not_false_eq_true, or_true, true_or, or_false, false_or, false_and, and_false, gJ4_fixAfterInsertion_1, gJ4_fixAfterInsertion_2, zTy_rf, cat_rf, rp, rR, rc, tsc_P, hpe, hge, e1, e2, e3, hye, fx_54, c, Bool.toNat_true, h118', zCl_rf]
theorem fxB_go (S : TS κ h m (inO t)) (W : TW T t) (hx : x ∈ inO t) (hr : x ≠ tmO T) (hs : tmP T (tmP T x) = 0 ∨ tmR T (tmP T (tmP T x)) = tmP T x) :
    ∃ a3, Go κ mJ4_fixAfterInsertion 151 [some (.ref m), some (rf x), a2] [] (hT h m (inO t) T) Q = Go κ mJ4_fixAfterInsertion 5 [some (.ref m), some (rf (fxB T x).2), a3] [] (hT h m (inO t) (fxB T x).1) Q := by
  have x0 := TR_ne W.1 hx
  obtain ⟨pin, p0, pc⟩ := par_in W hx hr
  have e1 : tpo (tmP T) x = tmP T x := tpo_n x0
  have e2 : tpo (tmP T) (tmP T x) = tmP T (tmP T x) := tpo_n p0
  have e3 : tpo (tmL T) (tmP T x) = tmL T (tmP T x) := tpo_n p0
  have hx0 : x = 0 ∨ x ∈ inO t := Or.inr hx
  have hp0 : tmP T x = 0 ∨ tmP T x ∈ inO t := Or.inr pin
  have hg0 : tmP T (tmP T x) = 0 ∨ tmP T (tmP T x) ∈ inO t := e2 ▸ cl_P W hp0
  have hy0 : tpo (tmL T) (tmP T (tmP T x)) = 0 ∨ tpo (tmL T) (tmP T (tmP T x)) ∈ inO t := cl_L W hg0
  have rp := fun (T : Tm) (y : Nat) (hy : y = 0 ∨ y ∈ inO t) (Q : zQ) => e4_parentOf (κ := κ) (T := T) (Q := Q) S hy
  have sc1 := fun (T : Tm) (y : Nat) (hy : y = 0 ∨ y ∈ inO t) (Q : zQ) => e4_setColor (κ := κ) (T := T) (v := true) (n := 1) (Q := Q) rfl S hy
  have sc0 := fun (T : Tm) (y : Nat) (hy : y = 0 ∨ y ∈ inO t) (Q : zQ) => e4_setColor (κ := κ) (T := T) (v := false) (n := 0) (Q := Q) rfl S hy
  have km : ∀ T, hK (hT h m (inO t) T) m = 116 := (rooF S).1
  have rR := fun (T : Tm) (y : Nat) (hy : y = 0 ∨ y ∈ inO t) (Q : zQ) => e4_leftOf (κ := κ) (T := T) (Q := Q) S hy
  have rc := fun (T : Tm) (y : Nat) (hy : y = 0 ∨ y ∈ inO t) (Q : zQ) => e4_colorOf (κ := κ) (T := T) (Q := Q) S hy
  unfold fxB
  simp only [e1, e2]
  have hgL : tmP T (tmP T x) = 0 ∨ (tmP T (tmP T x) ∈ inO t ∧ tmR T (tmP T (tmP T x)) ≠ 0) := hg0.elim Or.inl fun z => hs.elim Or.inl fun e => Or.inr ⟨z, by rw [e]; exact p0⟩
  cases c : tco T (tpo (tmL T) (tmP T (tmP T x))) with
  | false =>
    rw [if_pos rfl]
    generalize hpe : tmP T x = p at *
    generalize hge : tmP T p = g at *
    generalize hye : tpo (tmL T) g = y at *
    refine ⟨some (rf y), ?_⟩
    simp (disch := first | assumption | omega | decide) only [gB, I_all, zK_v, zK_n, true_and, and_true, Nat.reduceAdd, Nat.reduceMul, Nat.reduceSub, z_lt, z_le, z_neq, not_false_eq_true, or_true, true_or, or_false, false_or, false_and, and_false, gJ4_fixAfterInsertion_1, gJ4_fixAfterInsertion_2, zTy_rf, cat_rf, rp, rR, rc, sc1, sc0, tsc_P, hpe, hge, e1, e2, hye, fx_161, fx_200, c, Bool.toNat_false, zCl_rf]
  | true =>
    rw [if_neg (by decide)]
    by_cases d : x = tpo (tmL T) (tmP T x)
    · rw [if_pos d]
      have d' : tmL T (tmP T x) = x := e3 ▸ d.symm
      have W2 : ∃ t', TW (roR T (tmP T x)) t' ∧ inO t' = inO t := roR_W W pin (by rw [d']; exact x0)
      obtain ⟨t', W', eI⟩ := W2
      refine ⟨some (rf (tpo (tmL T) (tmP T (tmP T x)))), ?_⟩
      have pj := roR_P2 W pin d' x0
      obtain ⟨j1, j2⟩ := pj
      have S' : TS κ h m (inO t') := by rw [eI]; exact S
      have go2 := fxB2_go (κ := κ) (a2 := some (rf (tpo (tmL T) (tmP T (tmP T x))))) (Q := Q) S' W' (x := tmP T x) (by rw [eI]; exact pin) (by rw [j1, eI]; exact hx) (by
        rw [j1, j2, eI]
        refine hg0.elim Or.inl fun z => hs.elim Or.inl fun e => Or.inr ⟨z, ?_⟩
        have := roR_R2 W pin d' x0 (show tmP T (tmP T x) ≠ 0 from TR_ne W.1 z) e
        rw [this]
        exact x0)
      rw [eI] at go2
      have rt := fun (Q : zQ) => e4_rotateRight (κ := κ) (Q := Q) S W pin (by rw [d']; exact x0)
      have dd : x = tmL T (tmP T x) := d'.symm
      rw [rf_n p0] at go2 ⊢
      generalize hpe : tmP T x = p at *
      generalize hge : tmP T p = g at *
      generalize hye : tpo (tmL T) g = y at *
      have rpx := rp T x hx0
      have rRp := rR T p hp0
      have rpp := rp T p hp0
      rw [e1] at rpx
      rw [e3, d'] at rRp
      rw [e2] at rpp
      rw [rf_n p0] at rpx rRp rpp
      have rRg := rR T g hg0
      rw [hye] at rRg
      have rcy := rc T y hy0
      rw [c] at rcy
      rw [rf_n x0] at rpx rRp
      rw [rf_n x0]
      generalize hG : Go κ mJ4_fixAfterInsertion 225 [some (.ref m), some (.ref p), some (rf y)] [] (hT h m (inO t) (roR T p)) Q = G at go2
      have rt' : Ev κ mJ4_rotateRight [.ref m, .ref p] (hT h m (inO t) T) (zK κ mJ4_fixAfterInsertion 222 3 [some (.ref m), some (.ref p), some (rf y)] [] Q) = G := (rt _).trans hG
      simp (disch := first | assumption | omega | decide) only [gB, I_all, zK_v, zK_n, true_and, and_true, Nat.reduceAdd, Nat.reduceMul, Nat.reduceSub, z_lt, z_le, z_neq, not_false_eq_true, or_true, true_or, or_false, false_or, false_and, and_false, gJ4_fixAfterInsertion_1, gJ4_fixAfterInsertion_2, zTy_rf, cat_rf, rpx, rRp, rpp, rRg, rcy, fx_161, Bool.toNat_true, km, rt']
      exact go2
    · rw [if_neg d]
      refine ⟨some (rf (tpo (tmL T) (tmP T (tmP T x)))), ?_⟩
      have go2 := fxB2_go (κ := κ) (a2 := some (rf (tpo (tmL T) (tmP T (tmP T x))))) (Q := Q) S W hx pin hgL
      rw [← go2]
      have d2 : ¬ x = tmL T (tmP T x) := e3 ▸ d
      have h118 := fun (a3 : Option Value) => fx_212n (κ := κ) (h := hT h m (inO t) T) (Q := Q) (a0 := some (.ref m)) (a1 := some (rf x)) (a2 := a3) (st := []) d2
      generalize hpe : tmP T x = p at *
      generalize hge : tmP T p = g at *
      generalize hye : tpo (tmL T) g = y at *
      generalize hze : tmL T p = z at *
      generalize hG : Go κ mJ4_fixAfterInsertion 225 [some (.ref m), some (rf x), some (rf y)] [] (hT h m (inO t) T) Q = G
      have h118' := (h118 (some (rf y))).trans hG
      simp (disch := first | assumption | omega | decide) only [gB, I_all, zK_v, zK_n, true_and, and_true, Nat.reduceAdd, Nat.reduceMul, Nat.reduceSub, z_lt, z_le, z_neq, not_false_eq_true, or_true, true_or, or_false, false_or, false_and, and_false, gJ4_fixAfterInsertion_1, gJ4_fixAfterInsertion_2, zTy_rf, cat_rf, rp, rR, rc, tsc_P, hpe, hge, e1, e2, e3, hye, fx_161, c, Bool.toNat_true, h118', zCl_rf]
theorem fx_round (S : TS κ h m (inO t)) (W : TW T t) (hx : x ∈ inO t) (hr : x ≠ tmO T) :
    ∃ a3, Go κ mJ4_fixAfterInsertion 27 [some (.ref m), some (rf x), a2] [] (hT h m (inO t) T) Q = Go κ mJ4_fixAfterInsertion 5 [some (.ref m), some (rf (fxS T x).2), a3] [] (hT h m (inO t) (fxS T x).1) Q := by
  have x0 := TR_ne W.1 hx
  obtain ⟨pin, p0, pc⟩ := par_in W hx hr
  have e1 : tpo (tmP T) x = tmP T x := tpo_n x0
  have e2 : tpo (tmP T) (tmP T x) = tmP T (tmP T x) := tpo_n p0
  have hx0 : x = 0 ∨ x ∈ inO t := Or.inr hx
  have hp0 : tmP T x = 0 ∨ tmP T x ∈ inO t := Or.inr pin
  have hg0 : tmP T (tmP T x) = 0 ∨ tmP T (tmP T x) ∈ inO t := e2 ▸ cl_P W hp0
  have rp := fun (T : Tm) (y : Nat) (hy : y = 0 ∨ y ∈ inO t) (Q : zQ) => e4_parentOf (κ := κ) (T := T) (Q := Q) S hy
  have rL := fun (T : Tm) (y : Nat) (hy : y = 0 ∨ y ∈ inO t) (Q : zQ) => e4_leftOf (κ := κ) (T := T) (Q := Q) S hy
  unfold fxS
  rw [e1, e2]
  by_cases c : tmP T x = tpo (tmL T) (tmP T (tmP T x))
  · rw [if_pos c]
    obtain ⟨a3, go⟩ := fxA_go (κ := κ) (a2 := a2) (Q := Q) S W hx hr (by
      by_cases g0 : tmP T (tmP T x) = 0
      · exact Or.inl g0
      · rw [tpo_n g0] at c
        exact Or.inr c.symm)
    refine ⟨a3, ?_⟩
    rw [← go]
    have h41 := fx_41y (κ := κ) (h := hT h m (inO t) T) (Q := Q) (a0 := some (.ref m)) (a1 := some (rf x)) (a2 := a2) (st := []) c
    generalize hG : Go κ mJ4_fixAfterInsertion 44 [some (.ref m), some (rf x), a2] [] (hT h m (inO t) T) Q = G
    have h41' := h41.trans hG
    generalize hpe : tmP T x = p at *
    generalize hge : tmP T p = g at *
    generalize hye : tpo (tmL T) g = y at *
    simp (disch := first | assumption | omega | decide) only [gB, I_all, zK_v, zK_n, true_and, and_true, Nat.reduceAdd, Nat.reduceMul, Nat.reduceSub, z_lt, z_le, z_neq, not_false_eq_true, or_true, true_or, or_false, false_or, false_and, and_false, gJ4_fixAfterInsertion_1, gJ4_fixAfterInsertion_2, zTy_rf, cat_rf, rp, rL, e1, e2, hye, h41']
  · rw [if_neg c]
    obtain ⟨a3, go⟩ := fxB_go (κ := κ) (a2 := a2) (Q := Q) S W hx hr (by
      by_cases g0 : tmP T (tmP T x) = 0
      · exact Or.inl g0
      · rw [tpo_n g0] at c
        rcases (par_in W pin (par_0 W pin g0)).2.2 with z | z
        · exact absurd z.symm c
        · exact Or.inr z)
    refine ⟨a3, ?_⟩
    rw [← go]
    have h41 := fx_41n (κ := κ) (h := hT h m (inO t) T) (Q := Q) (a0 := some (.ref m)) (a1 := some (rf x)) (a2 := a2) (st := []) c
    generalize hG : Go κ mJ4_fixAfterInsertion 151 [some (.ref m), some (rf x), a2] [] (hT h m (inO t) T) Q = G
    have h41' := h41.trans hG
    generalize hpe : tmP T x = p at *
    generalize hge : tmP T p = g at *
    generalize hye : tpo (tmL T) g = y at *
    simp (disch := first | assumption | omega | decide) only [gB, I_all, zK_v, zK_n, true_and, and_true, Nat.reduceAdd, Nat.reduceMul, Nat.reduceSub, z_lt, z_le, z_neq, not_false_eq_true, or_true, true_or, or_false, false_or, false_and, and_false, gJ4_fixAfterInsertion_1, gJ4_fixAfterInsertion_2, zTy_rf, cat_rf, rp, rL, e1, e2, hye, h41']
theorem fx_loop (S : TS κ h m L) (hq : ∀ T' t', TW T' t' → inO t' = L → Q (.inl none) (hT h m L T')) : ∀ (n k : Nat), k ≤ n → ∀ (t : Tr) (T : Tm) (x : Nat) (a2 : Option Value), inO t = L → TW T t → x ∈ L → anc (tmP T) k x = 0 →
    Go κ mJ4_fixAfterInsertion 5 [some (.ref m), some (rf x), a2] [] (hT h m L T) Q := by
  intro n
  induction n with
  | zero =>
    intro k hk t T x a2 e W hx ha
    have k0 : k = 0 := by omega
    subst k0
    exact absurd ha (S.2.2 x hx).2.2
  | succ n ih =>
    intro k hk t T x a2 e W hx ha
    subst e
    have x0 := TR_ne W.1 hx
    cases k with
    | zero => exact absurd ha x0
    | succ k =>
      by_cases hr : x = tmO T
      · rw [fx_root S W hx hr]
        exact hq _ t (tsc_W W) rfl
      · cases hc : tmC T (tmP T x) with
        | true =>
          rw [fx_black S W hx hr hc]
          exact hq _ t (tsc_W W) rfl
        | false =>
          rw [fx_head S W hx hr hc]
          obtain ⟨a3, st⟩ := fx_round (κ := κ) (a2 := a2) (Q := Q) S W hx hr
          rw [st]
          obtain ⟨t', W', eI, out⟩ := fxS_W W hx hr
          obtain ⟨pin, p0, -⟩ := par_in W hx hr
          rcases out with ⟨o1, o2, o3, o4, o5⟩ | ⟨o1, o2⟩
          · have ha1 : anc (tmP T) k (tpo (tmP T) x) = 0 := ha
            rw [tpo_n x0] at ha1
            cases k with
            | zero => exact absurd ha1 p0
            | succ k =>
              have ha2 : anc (tmP T) k (tpo (tmP T) (tmP T x)) = 0 := ha1
              rw [tpo_n p0] at ha2
              exact ih k (by omega) t' _ _ a3 eI W' o5 (by rw [o1, o3]; exact ha2)
          · have S' : TS κ h m (inO t') := by rw [eI]; exact S
            have i1 : (fxS T x).2 ∈ inO t' := by rw [eI]; exact o1
            by_cases hr2 : (fxS T x).2 = tmO (fxS T x).1
            · have := fx_root (κ := κ) (a2 := a3) (Q := Q) S' W' i1 hr2
              rw [eI] at this
              rw [this]
              exact hq _ t' (tsc_W W') eI
            · have := fx_black (κ := κ) (a2 := a3) (Q := Q) S' W' i1 hr2 o2
              rw [eI] at this
              rw [this]
              exact hq _ t' (tsc_W W') eI
theorem e4_fix (S : TS κ h m L) (W : TW T t) (eL : inO t = L) (hx : x ∈ L) (hq : ∀ T' t', TW T' t' → inO t' = L → Q (.inl none) (hT h m L T')) : Ev κ mJ4_fixAfterInsertion [.ref m, .ref x] (hT h m L T) Q := by
  have Fx := nodF S hx
  have x0 := (S.2.2 x hx).2.2
  have e : tsc T x false = tsC T x false := if_neg x0
  have W1 : TW (tsC T x false) t := e ▸ tsc_W W
  obtain ⟨k, a1, -⟩ := anc_in W.1 (show x ∈ inO t by rw [eL]; exact hx)
  have go := fx_loop S hq (k + 1) (k + 1) (Nat.le_refl _) t (tsC T x false) x none eL W1 hx a1
  rw [rf_n x0] at go
  have zf0 : zFit .boolean (.int (Int32.ofNat 0)) = true := by decide
  simp (disch := first | assumption | omega | decide) only [gB, I_all, zK_v, zK_n, true_and, and_true, Nat.reduceAdd, Nat.reduceMul, Nat.reduceSub, z_lt, z_le, z_neq, not_false_eq_true, or_true, true_or, or_false, false_or, false_and, and_false, gJ4_fixAfterInsertion_1, Fx, zf0]
  exact go
end
