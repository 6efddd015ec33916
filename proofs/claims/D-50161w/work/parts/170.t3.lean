/-! a search tree: made even behind a new leaf, as the code goes (no program in sight) -/
def tpo (f : Nat → Nat) (i : Nat) : Nat := if i = 0 then 0 else f i
def tco (T : Tm) (i : Nat) : Bool := if i = 0 then true else tmC T i
def tsc (T : Tm) (i : Nat) (v : Bool) : Tm := if i = 0 then T else tsC T i v
/-- the second half of a round with turnings: on the left, on the right -/
def fxA2 (T : Tm) (x : Nat) : Tm :=
  let T2 := tsc T (tpo (tmP T) x) true
  let T3 := tsc T2 (tpo (tmP T2) (tpo (tmP T2) x)) false
  roR T3 (tpo (tmP T3) (tpo (tmP T3) x))
def fxB2 (T : Tm) (x : Nat) : Tm :=
  let T2 := tsc T (tpo (tmP T) x) true
  let T3 := tsc T2 (tpo (tmP T2) (tpo (tmP T2) x)) false
  roL T3 (tpo (tmP T3) (tpo (tmP T3) x))
def fxA (T : Tm) (x : Nat) : Tm × Nat :=
  let p := tpo (tmP T) x
  let g := tpo (tmP T) p
  let y := tpo (tmR T) g
  if tco T y = false then (tsc (tsc (tsc T p true) y true) g false, g)
  else if x = tpo (tmR T) p then (fxA2 (roL T p) p, p) else (fxA2 T x, x)
def fxB (T : Tm) (x : Nat) : Tm × Nat :=
  let p := tpo (tmP T) x
  let g := tpo (tmP T) p
  let y := tpo (tmL T) g
  if tco T y = false then (tsc (tsc (tsc T p true) y true) g false, g)
  else if x = tpo (tmL T) p then (fxB2 (roR T p) p, p) else (fxB2 T x, x)
def fxS (T : Tm) (x : Nat) : Tm × Nat := if tpo (tmP T) x = tpo (tmL T) (tpo (tmP T) (tpo (tmP T) x)) then fxA T x else fxB T x
theorem roL_C (T : Tm) (p : Nat) : tmC (roL T p) = tmC T := by
  unfold roL
  split
  · rfl
  · show tmC (roL2 (roL1 T p (tmR T p)) p (tmR T p)) = _
    have e1 : tmC (roL1 T p (tmR T p)) = tmC T := by
      unfold roL1
      dsimp only
      split <;> rfl
    rw [← e1]
    generalize roL1 T p (tmR T p) = U
    unfold roL2
    dsimp only
    split
    · rfl
    · split <;> rfl
theorem roR_C (T : Tm) (p : Nat) : tmC (roR T p) = tmC T := by
  rw [roR_mi]
  exact roL_C (mir T) p
theorem tsc_s (T : Tm) (i : Nat) (v : Bool) : tmL (tsc T i v) = tmL T ∧ tmR (tsc T i v) = tmR T ∧ tmP (tsc T i v) = tmP T ∧ tmO (tsc T i v) = tmO T := by
  unfold tsc
  split
  · exact ⟨rfl, rfl, rfl, rfl⟩
  · exact ⟨rfl, rfl, rfl, rfl⟩
theorem tsc_W {T : Tm} {t : Tr} {i : Nat} {v : Bool} (W : TW T t) : TW (tsc T i v) t := by
  obtain ⟨e1, e2, e3, e4⟩ := tsc_s T i v
  refine ⟨?_, W.2⟩
  rw [e4]
  exact TR_cg (fun j _ => ⟨by rw [e1], by rw [e2], by rw [e3]⟩) W.1
theorem tsc_C (T : Tm) (i : Nat) (v : Bool) (j : Nat) : tmC (tsc T i v) j = if j = i ∧ i ≠ 0 then v else tmC T j := by
  unfold tsc
  by_cases c : i = 0
  · rw [if_pos c, if_neg (fun z => z.2 c)]
  · rw [if_neg c]
    show zu (tmC T) i v j = _
    unfold zu
    by_cases d : j = i
    · rw [if_pos d, if_pos ⟨d, c⟩]
    · rw [if_neg d, if_neg (fun z => d z.1)]
/-- children are apart -/
theorem ch_ne {T : Tm} : ∀ {t : Tr} {ptr par p : Nat}, TR T t ptr par → (inO t).Nodup → p ∈ inO t → tmL T p ≠ 0 → tmL T p ≠ tmR T p := by
  intro t
  induction t with
  | leaf u => intro _ _ _ _ _ h; cases h
  | branch i l r ihl ihr =>
    intro ptr par p ⟨h1, h2, h3, h4, h5⟩ nd hp hl
    obtain ⟨n1, n2, n3, n4, n5⟩ := nd3 nd
    rcases in3.mp hp with h | h | h
    · exact ihl h4 n1 h hl
    · subst h
      intro e
      rcases TR_mem h4 with z | z
      · exact hl z
      · rcases TR_mem h5 with y | y
        · exact hl (by rw [e]; exact y)
        · exact n5 _ z (by rw [e]; exact y)
    · exact ihr h5 n2 h hl
/-- the parent of a node that isn't the root -/
theorem par_in {T : Tm} {t : Tr} {x : Nat} (W : TW T t) (hx : x ∈ inO t) (hr : x ≠ tmO T) : tmP T x ∈ inO t ∧ tmP T x ≠ 0 ∧ (tmL T (tmP T x) = x ∨ tmR T (tmP T x) = x) := by
  rcases TR_par W.1 hx with ⟨z, _⟩ | ⟨_, z, z2⟩ | z
  · exact absurd z hr
  · exact ⟨z, TR_ne W.1 z, z2⟩
  · exact absurd W.2 z
theorem par_0 {T : Tm} {t : Tr} {x : Nat} (W : TW T t) (hx : x ∈ inO t) (h : tmP T x ≠ 0) : x ≠ tmO T := by
  intro e
  rcases TR_par W.1 hx with ⟨_, z⟩ | ⟨z, _, _⟩ | z
  · exact h z
  · exact z e
  · exact W.2 |> z
/-- the neighbours of a left child's left child are apart -/
theorem nb_R {T : Tm} {t : Tr} {p r : Nat} (W : TW T t) (hp : p ∈ inO t) (hr : tmR T p = r) (r0 : r ≠ 0) : r ∈ inO t ∧ r ≠ p ∧ tmL T r ≠ p ∧ tmL T r ≠ r ∧ tmP T p ≠ p ∧ tmP T p ≠ r ∧ p ≠ 0 := by
  obtain ⟨c1, c2, c3, c4, c5, c6⟩ := ro_D hr rfl rfl r0 W.1 W.2 hp
  have p0 := TR_ne W.1 hp
  refine ⟨c1, c2, c4, c5, ?_, ?_, p0⟩
  · rcases c6 with z | z
    · rw [z]; exact fun e => p0 e.symm
    · exact z.2.1
  · rcases c6 with z | z
    · rw [z]; exact fun e => r0 e.symm
    · exact z.2.2
theorem nb_L {T : Tm} {t : Tr} {p r : Nat} (W : TW T t) (hp : p ∈ inO t) (hr : tmL T p = r) (r0 : r ≠ 0) : r ∈ inO t ∧ r ≠ p ∧ tmR T r ≠ p ∧ tmR T r ≠ r ∧ tmP T p ≠ p ∧ tmP T p ≠ r ∧ p ≠ 0 := by
  have h := nb_R (mir_W W) (by rw [mtr_in]; exact List.mem_reverse.mpr hp) (show tmR (mir T) p = r from hr) r0
  rw [mtr_in, List.mem_reverse] at h
  exact h
theorem roR_P {T : Tm} {t : Tr} {p r : Nat} (W : TW T t) (hp : p ∈ inO t) (hr : tmL T p = r) (r0 : r ≠ 0) (j : Nat) : tmP (roR T p) j = if j = p then r else if j = r then tmP T p else if j = tmR T r ∧ tmR T r ≠ 0 then p else tmP T j := by
  obtain ⟨a1, a2, a3, a4, a5, a6, a7⟩ := nb_L W hp hr r0
  have := (roL_e (T := mir T) a7 (show tmR (mir T) p = r from hr) rfl rfl a2 a5 a6 a3 a4).2.2.1 j
  rw [roR_mi]
  exact this
theorem fxA2_W {T : Tm} {t : Tr} {x p g : Nat} (W : TW T t) (hx : x ∈ inO t) (hp : tmP T x = p) (hg : tmP T p = g) (p0 : p ≠ 0) (pin : p ∈ inO t) (h : g = 0 ∨ (g ≠ 0 ∧ tmL T g = p ∧ tmL T p = x)) :
    ∃ t', TW (fxA2 T x) t' ∧ inO t' = inO t ∧ tmC (fxA2 T x) (tmP (fxA2 T x) x) = true := by
  have x0 := TR_ne W.1 hx
  unfold fxA2
  have e1 : tpo (tmP T) x = p := by unfold tpo; rw [if_neg x0]; exact hp
  rw [e1]
  obtain ⟨a1, a2, a3, a4⟩ := tsc_s T p true
  have c1 := tsc_C T p true
  have W2 : TW (tsc T p true) t := tsc_W W
  generalize tsc T p true = T2 at *
  have e2 : tpo (tmP T2) x = p := by unfold tpo; rw [if_neg x0, a3]; exact hp
  have e3 : tpo (tmP T2) p = g := by unfold tpo; rw [if_neg p0, a3]; exact hg
  dsimp only
  rw [e2, e3]
  obtain ⟨b1, b2, b3, b4⟩ := tsc_s T2 g false
  have c2 := tsc_C T2 g false
  have W3 : TW (tsc T2 g false) t := tsc_W W2
  generalize tsc T2 g false = T3 at *
  have e4 : tpo (tmP T3) x = p := by unfold tpo; rw [if_neg x0, b3, a3]; exact hp
  have e5 : tpo (tmP T3) p = g := by unfold tpo; rw [if_neg p0, b3, a3]; exact hg
  rw [e4, e5]
  rcases h with h | ⟨g0, h1, h2⟩
  · subst h
    have er : roR T3 0 = T3 := if_pos rfl
    rw [er]
    refine ⟨t, W3, rfl, ?_⟩
    rw [b3, a3, hp, c2, if_neg (fun z => z.2 rfl), c1, if_pos ⟨rfl, p0⟩]
  · have gin : g ∈ inO t := by
      have := (par_in W pin (par_0 W pin (by rw [hg]; exact g0))).1
      rw [hg] at this
      exact this
    have nx := nb_L W pin h2 x0
    rw [hg] at nx
    have xr : x ≠ tmR T p := by
      have := ch_ne W.1 W.2 pin (by rw [h2]; exact x0)
      rw [h2] at this
      exact this
    have l3 : tmL T3 g = p := by rw [b1, a1]; exact h1
    obtain ⟨t', w, e⟩ := roR_W W3 gin (by rw [l3]; exact p0)
    refine ⟨t', w, e, ?_⟩
    have pe : tmP (roR T3 g) x = p := by
      rw [roR_P W3 gin l3 p0, if_neg (fun z => nx.2.2.2.2.2.1 z.symm), if_neg nx.2.1, if_neg (fun z => xr (by rw [z.1, b2, a2])), b3, a3]
      exact hp
    rw [pe, roR_C, c2, if_neg (fun z => nx.2.2.2.2.1 z.1.symm), c1, if_pos ⟨rfl, p0⟩]
theorem fxA_W {T : Tm} {t : Tr} {x : Nat} (W : TW T t) (hx : x ∈ inO t) (hr : x ≠ tmO T) (h : tmP T (tmP T x) = 0 ∨ tmL T (tmP T (tmP T x)) = tmP T x) :
    ∃ t', TW (fxA T x).1 t' ∧ inO t' = inO t ∧ ((tmP (fxA T x).1 = tmP T ∧ tmO (fxA T x).1 = tmO T ∧ (fxA T x).2 = tmP T (tmP T x) ∧ tmP T (tmP T x) ≠ 0 ∧ (fxA T x).2 ∈ inO t) ∨ ((fxA T x).2 ∈ inO t ∧ tmC (fxA T x).1 (tmP (fxA T x).1 (fxA T x).2) = true)) := by
  have x0 := TR_ne W.1 hx
  obtain ⟨pin, p0, pc⟩ := par_in W hx hr
  obtain ⟨p, hp⟩ : ∃ p, p = tmP T x := ⟨_, rfl⟩
  obtain ⟨g, hg⟩ : ∃ g, g = tmP T p := ⟨_, rfl⟩
  rw [← hp] at pin p0 pc h
  rw [← hg] at h
  rw [← hp, ← hg]
  have e1 : tpo (tmP T) x = p := by unfold tpo; rw [if_neg x0, hp]
  have e2 : tpo (tmP T) p = g := by unfold tpo; rw [if_neg p0, hg]
  unfold fxA
  dsimp only
  rw [e1, e2]
  by_cases cy : tco T (tpo (tmR T) g) = false
  · rw [if_pos cy]
    have g0 : g ≠ 0 := by
      intro e
      rw [e] at cy
      cases cy
    have gin : g ∈ inO t := by
      have := (par_in W pin (par_0 W pin (by rw [← hg]; exact g0))).1
      rw [← hg] at this
      exact this
    refine ⟨t, tsc_W (tsc_W (tsc_W W)), rfl, Or.inl ⟨?_, ?_, rfl, g0, gin⟩⟩
    · rw [(tsc_s _ _ _).2.2.1, (tsc_s _ _ _).2.2.1, (tsc_s _ _ _).2.2.1]
    · rw [(tsc_s _ _ _).2.2.2, (tsc_s _ _ _).2.2.2, (tsc_s _ _ _).2.2.2]
  · rw [if_neg cy]
    have er : tpo (tmR T) p = tmR T p := by unfold tpo; rw [if_neg p0]
    rw [er]
    by_cases cx : x = tmR T p
    · rw [if_pos cx]
      dsimp only
      have r0 : tmR T p ≠ 0 := by rw [← cx]; exact x0
      obtain ⟨n1, n2, n3, n4, n5, n6, n7⟩ := nb_R W pin rfl r0
      obtain ⟨r1, r2, r3, r4⟩ := roL_e p0 rfl rfl rfl n2 n5 n6 n3 n4
      obtain ⟨t1, W1, i1⟩ := roL_W W pin r0
      rw [← cx] at r1 r2 r3 r4 n2 n6
      have g1 : tmP (roL T p) p = x := by rw [r3, if_pos rfl]
      have g2 : tmP (roL T p) x = g := by rw [r3, if_neg n2, if_pos rfl, hg]
      have l1 : tmL (roL T p) x = p := by rw [r1, if_pos rfl]
      have hh : g = 0 ∨ (g ≠ 0 ∧ tmL (roL T p) g = x ∧ tmL (roL T p) x = p) := by
        by_cases c : g = 0
        · exact Or.inl c
        · refine Or.inr ⟨c, ?_, l1⟩
          have hlg := h.resolve_left c
          rw [r1, if_neg (fun z => n6 (by rw [← hg]; exact z)), if_pos ⟨hg, by rw [← hg]; exact c, by rw [← hg]; exact hlg⟩]
      obtain ⟨t', w, e, cc⟩ := fxA2_W W1 (by rw [i1]; exact pin) g1 g2 x0 (by rw [i1]; exact hx) hh
      exact ⟨t', w, e.trans i1, Or.inr ⟨pin, cc⟩⟩
    · rw [if_neg cx]
      dsimp only
      have hl : tmL T p = x := pc.resolve_right fun z => cx z.symm
      have hh : g = 0 ∨ (g ≠ 0 ∧ tmL T g = p ∧ tmL T p = x) := by
        by_cases c : g = 0
        · exact Or.inl c
        · exact Or.inr ⟨c, h.resolve_left c, hl⟩
      obtain ⟨t', w, e, cc⟩ := fxA2_W W hx hp.symm hg.symm p0 pin hh
      exact ⟨t', w, e, Or.inr ⟨hx, cc⟩⟩
theorem mir_mir (T : Tm) : mir (mir T) = T := rfl
theorem mir_sc (T : Tm) (i : Nat) (v : Bool) : tsc (mir T) i v = mir (tsc T i v) := by
  unfold tsc
  split <;> rfl
theorem fxB2_mir (T : Tm) (x : Nat) : fxA2 (mir T) x = mir (fxB2 T x) := by
  unfold fxA2 fxB2
  dsimp only
  have a : tmP (mir T) = tmP T := rfl
  rw [a, mir_sc]
  generalize tsc T (tpo (tmP T) x) true = T2
  have a : tmP (mir T2) = tmP T2 := rfl
  rw [a, mir_sc]
  generalize tsc T2 (tpo (tmP T2) (tpo (tmP T2) x)) false = T3
  have a : tmP (mir T3) = tmP T3 := rfl
  rw [a, roR_mi, mir_mir]
theorem roL_mi (T : Tm) (p : Nat) : roL (mir T) p = mir (roR T p) := by
  rw [roR_mi, mir_mir]
theorem fxB_mir (T : Tm) (x : Nat) : fxA (mir T) x = (mir (fxB T x).1, (fxB T x).2) := by
  unfold fxA fxB
  dsimp only
  have a : tmP (mir T) = tmP T := rfl
  have b : tmR (mir T) = tmL T := rfl
  have c : ∀ i, tco (mir T) i = tco T i := fun _ => rfl
  rw [a, b, c]
  split
  · rw [mir_sc, mir_sc, mir_sc]
  · split
    · rw [roL_mi, fxB2_mir]
    · rw [fxB2_mir]
theorem fxS_W {T : Tm} {t : Tr} {x : Nat} (W : TW T t) (hx : x ∈ inO t) (hr : x ≠ tmO T) :
    ∃ t', TW (fxS T x).1 t' ∧ inO t' = inO t ∧ ((tmP (fxS T x).1 = tmP T ∧ tmO (fxS T x).1 = tmO T ∧ (fxS T x).2 = tmP T (tmP T x) ∧ tmP T (tmP T x) ≠ 0 ∧ (fxS T x).2 ∈ inO t) ∨ ((fxS T x).2 ∈ inO t ∧ tmC (fxS T x).1 (tmP (fxS T x).1 (fxS T x).2) = true)) := by
  have x0 := TR_ne W.1 hx
  obtain ⟨pin, p0, pc⟩ := par_in W hx hr
  have e1 : tpo (tmP T) x = tmP T x := by unfold tpo; rw [if_neg x0]
  have e2 : tpo (tmP T) (tmP T x) = tmP T (tmP T x) := by unfold tpo; rw [if_neg p0]
  unfold fxS
  rw [e1, e2]
  by_cases c : tmP T x = tpo (tmL T) (tmP T (tmP T x))
  · rw [if_pos c]
    refine fxA_W W hx hr ?_
    unfold tpo at c
    split at c
    · exact Or.inl (by assumption)
    · exact Or.inr c.symm
  · rw [if_neg c]
    have hm : tmP (mir T) (tmP (mir T) x) = 0 ∨ tmL (mir T) (tmP (mir T) (tmP (mir T) x)) = tmP (mir T) x := by
      show tmP T (tmP T x) = 0 ∨ tmR T (tmP T (tmP T x)) = tmP T x
      by_cases g0 : tmP T (tmP T x) = 0
      · exact Or.inl g0
      · refine Or.inr ?_
        have := (par_in W pin (par_0 W pin g0)).2.2
        rcases this with z | z
        · unfold tpo at c
          rw [if_neg g0] at c
          exact absurd z.symm c
        · exact z
    obtain ⟨t', w, e, r⟩ := fxA_W (mir_W W) (by rw [mtr_in]; exact List.mem_reverse.mpr hx) hr hm
    rw [fxB_mir] at w r
    refine ⟨mtr t', mir_W w, by rw [mtr_in, e, mtr_in, List.reverse_reverse], ?_⟩
    rcases r with ⟨r1, r2, r3, r4, r5⟩ | ⟨r1, r2⟩
    · exact Or.inl ⟨r1, r2, r3, r4, by rw [mtr_in, List.mem_reverse] at r5; exact r5⟩
    · exact Or.inr ⟨by rw [mtr_in, List.mem_reverse] at r1; exact r1, r2⟩
/-- the ancestors come to an end -/
def anc (f : Nat → Nat) : Nat → Nat → Nat
  | 0, x => x
  | k + 1, x => anc f k (tpo f x)
theorem anc_in {T : Tm} : ∀ {t : Tr} {ptr par x : Nat}, TR T t ptr par → x ∈ inO t → ∃ k, anc (tmP T) (k + 1) x = par ∧ k < (inO t).length := by
  intro t
  induction t with
  | leaf u => intro _ _ x _ h; cases h
  | branch i l r ihl ihr =>
    intro ptr par x ⟨h1, h2, h3, h4, h5⟩ hx
    have len : (inO (.branch i l r)).length = (inO l).length + (inO r).length + 1 := by
      show (inO l ++ i :: inO r).length = _
      rw [List.length_append, List.length_cons]
      omega
    have step : ∀ k y, anc (tmP T) (k + 1) y = i → anc (tmP T) (k + 1 + 1) y = par := by
      intro k
      induction k with
      | zero =>
        intro y hy
        show tpo (tmP T) (tpo (tmP T) y) = par
        have hy' : tpo (tmP T) y = i := hy
        rw [hy']
        unfold tpo
        rw [if_neg h2]
        exact h3
      | succ k ih =>
        intro y hy
        exact ih (tpo (tmP T) y) hy
    rcases in3.mp hx with h | h | h
    · obtain ⟨k, e, hk⟩ := ihl h4 h
      exact ⟨k + 1, step k x e, by omega⟩
    · subst h
      refine ⟨0, ?_, by omega⟩
      show tpo (tmP T) x = par
      unfold tpo
      rw [if_neg h2]
      exact h3
    · obtain ⟨k, e, hk⟩ := ihr h5 h
      exact ⟨k + 1, step k x e, by omega⟩
