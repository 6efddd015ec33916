/-! a search tree as pointers (no program in sight): nodes are numbers from 1 on, 0 is none; left, right, parent, black, root -/
abbrev Tm : Type := (Nat → Nat) × (Nat → Nat) × (Nat → Nat) × (Nat → Bool) × Nat
def tmL (T : Tm) : Nat → Nat := T.1
def tmR (T : Tm) : Nat → Nat := T.2.1
def tmP (T : Tm) : Nat → Nat := T.2.2.1
def tmC (T : Tm) : Nat → Bool := T.2.2.2.1
def tmO (T : Tm) : Nat := T.2.2.2.2
def tsL (T : Tm) (i v : Nat) : Tm := (zu T.1 i v, T.2)
def tsR (T : Tm) (i v : Nat) : Tm := (T.1, zu T.2.1 i v, T.2.2)
def tsP (T : Tm) (i v : Nat) : Tm := (T.1, T.2.1, zu T.2.2.1 i v, T.2.2.2)
def tsC (T : Tm) (i : Nat) (v : Bool) : Tm := (T.1, T.2.1, T.2.2.1, zu T.2.2.2.1 i v, T.2.2.2.2)
def tsO (T : Tm) (v : Nat) : Tm := (T.1, T.2.1, T.2.2.1, T.2.2.2.1, v)
abbrev Tr : Type := Lean.RArray Unit
def inO : Tr → List Nat
  | (.leaf ()) => []
  | .branch i l r => inO l ++ i :: inO r
def TR (T : Tm) : Tr → Nat → Nat → Prop
  | (.leaf ()), ptr, _ => ptr = 0
  | .branch i l r, ptr, par => ptr = i ∧ i ≠ 0 ∧ tmP T i = par ∧ TR T l (tmL T i) i ∧ TR T r (tmR T i) i
theorem TR_cg {T T' : Tm} : ∀ {t : Tr} {ptr par : Nat}, (∀ i ∈ inO t, tmL T' i = tmL T i ∧ tmR T' i = tmR T i ∧ tmP T' i = tmP T i) → TR T t ptr par → TR T' t ptr par := by
  intro t
  induction t with
  | leaf u => intro ptr par _ h; exact h
  | branch i l r ihl ihr =>
    intro ptr par h ⟨h1, h2, h3, h4, h5⟩
    have hi := h i (List.mem_append_right _ List.mem_cons_self)
    refine ⟨h1, h2, hi.2.2.trans h3, ?_, ?_⟩
    · rw [hi.1]
      exact ihl (fun j hj => h j (List.mem_append_left _ hj)) h4
    · rw [hi.2.1]
      exact ihr (fun j hj => h j (List.mem_append_right _ (List.mem_cons_of_mem _ hj))) h5
theorem TR_0 {T : Tm} {t : Tr} {par : Nat} (h : TR T t 0 par) : t = (.leaf ()) := by
  cases t with
  | leaf u => rfl
  | branch i l r => exact absurd h.1.symm h.2.1
theorem TR_mem {T : Tm} {t : Tr} {ptr par : Nat} (h : TR T t ptr par) : ptr = 0 ∨ ptr ∈ inO t := by
  cases t with
  | leaf u => exact Or.inl h
  | branch i l r => exact Or.inr (by rw [h.1]; exact List.mem_append_right _ List.mem_cons_self)
theorem TR_ne {T : Tm} : ∀ {t : Tr} {ptr par j : Nat}, TR T t ptr par → j ∈ inO t → j ≠ 0 := by
  intro t
  induction t with
  | leaf u => intro _ _ j _ h; cases h
  | branch i l r ihl ihr =>
    intro ptr par j ⟨_, h2, _, h4, h5⟩ hj
    rcases List.mem_append.mp hj with hj | hj
    · exact ihl h4 hj
    · rcases List.mem_cons.mp hj with hj | hj
      · rw [hj]; exact h2
      · exact ihr h5 hj
/-- a node's parent stands in the tree or above it -/
theorem TR_par {T : Tm} : ∀ {t : Tr} {ptr par j : Nat}, TR T t ptr par → j ∈ inO t → (j = ptr ∧ tmP T j = par) ∨ (j ≠ ptr ∧ tmP T j ∈ inO t ∧ (tmL T (tmP T j) = j ∨ tmR T (tmP T j) = j)) ∨ ¬ (inO t).Nodup := by
  intro t
  induction t with
  | leaf u => intro _ _ j _ h; cases h
  | branch i l r ihl ihr =>
    intro ptr par j ⟨h1, h2, h3, h4, h5⟩ hj
    by_cases nd : (inO (.branch i l r)).Nodup
    · have nd' : (inO l).Nodup ∧ (i :: inO r).Nodup ∧ ∀ a ∈ inO l, ∀ b ∈ i :: inO r, a ≠ b := List.nodup_append.mp nd
      have ndr := List.nodup_cons.mp nd'.2.1
      rcases List.mem_append.mp hj with hl | hj
      · have hne : j ≠ i := nd'.2.2 j hl i List.mem_cons_self
        refine Or.inr (Or.inl ⟨by rw [h1]; exact hne, ?_⟩)
        rcases ihl h4 hl with ⟨e, e2⟩ | ⟨_, e2, e3⟩ | e
        · exact ⟨by rw [e2]; exact List.mem_append_right _ List.mem_cons_self, Or.inl (by rw [e2]; exact e.symm)⟩
        · exact ⟨List.mem_append_left _ e2, e3⟩
        · exact absurd nd'.1 e
      · rcases List.mem_cons.mp hj with hj | hr
        · exact Or.inl ⟨by rw [h1, hj], by rw [hj]; exact h3⟩
        · have hne : j ≠ i := fun e => ndr.1 (by rw [← e]; exact hr)
          refine Or.inr (Or.inl ⟨by rw [h1]; exact hne, ?_⟩)
          rcases ihr h5 hr with ⟨e, e2⟩ | ⟨_, e2, e3⟩ | e
          · exact ⟨by rw [e2]; exact List.mem_append_right _ List.mem_cons_self, Or.inr (by rw [e2]; exact e.symm)⟩
          · exact ⟨List.mem_append_right _ (List.mem_cons_of_mem _ e2), e3⟩
          · exact absurd ndr.2 e
    · exact Or.inr (Or.inr nd)
/-- a rotation to the left, as the code goes -/
def roL1 (T : Tm) (p r : Nat) : Tm := let T := tsR T p (tmL T r); if tmL T r = 0 then T else tsP T (tmL T r) p
def roL2 (T : Tm) (p r : Nat) : Tm := let T := tsP T r (tmP T p); if tmP T p = 0 then tsO T r else if tmL T (tmP T p) = p then tsL T (tmP T p) r else tsR T (tmP T p) r
def roL (T : Tm) (p : Nat) : Tm := if p = 0 then T else tsP (tsL (roL2 (roL1 T p (tmR T p)) p (tmR T p)) (tmR T p) p) p (tmR T p)
def roR1 (T : Tm) (p r : Nat) : Tm := let T := tsL T p (tmR T r); if tmR T r = 0 then T else tsP T (tmR T r) p
def roR2 (T : Tm) (p r : Nat) : Tm := let T := tsP T r (tmP T p); if tmP T p = 0 then tsO T r else if tmR T (tmP T p) = p then tsR T (tmP T p) r else tsL T (tmP T p) r
def roR (T : Tm) (p : Nat) : Tm := if p = 0 then T else tsP (tsR (roR2 (roR1 T p (tmL T p)) p (tmL T p)) (tmL T p) p) p (tmL T p)
/-- what a rotation writes -/
theorem roL_e {T : Tm} {p r q s : Nat} (hp : p ≠ 0) (hr : tmR T p = r) (hq : tmP T p = q) (hs : tmL T r = s) (h1 : r ≠ p) (h2 : q ≠ p) (h3 : q ≠ r) (h4 : s ≠ p) (h5 : s ≠ r) :
    (∀ j, tmL (roL T p) j = if j = r then p else if j = q ∧ q ≠ 0 ∧ tmL T q = p then r else tmL T j) ∧
    (∀ j, tmR (roL T p) j = if j = q ∧ q ≠ 0 ∧ tmL T q ≠ p then r else if j = p then s else tmR T j) ∧
    (∀ j, tmP (roL T p) j = if j = p then r else if j = r then q else if j = s ∧ s ≠ 0 then p else tmP T j) ∧
    (tmO (roL T p) = if q = 0 then r else tmO T) := by
  obtain ⟨L, R, P, C, O⟩ := T
  simp only [tmL, tmR, tmP, tmO] at *
  unfold roL
  rw [if_neg hp]
  have a1 : roL1 (L, R, P, C, O) p (tmR (L, R, P, C, O) p) = if s = 0 then (L, zu R p s, P, C, O) else (L, zu R p s, zu P s p, C, O) := by
    simp only [roL1, tmL, tmR, tsR, tsP, hr, hs]
  rw [a1]
  have a0 : tmR (L, R, P, C, O) p = r := hr
  rw [a0]
  have key : ∀ P' : Nat → Nat, P' p = q → (tsP (tsL (roL2 (L, zu R p s, P', C, O) p r) r p) p r) = if q = 0 then (zu L r p, zu R p s, zu (zu P' r q) p r, C, r) else if L q = p then (zu (zu L q r) r p, zu R p s, zu (zu P' r q) p r, C, O) else (zu L r p, zu (zu R p s) q r, zu (zu P' r q) p r, C, O) := by
    intro P' e
    have z : zu P' r q p = q := by rw [zu_ne _ _ (Ne.symm h1)]; exact e
    simp only [roL2, tmL, tmR, tmP, tsL, tsR, tsP, tsO, e, z]
    by_cases c : q = 0
    · simp only [if_pos c]
    · simp only [if_neg c]
      by_cases c2 : L q = p
      · simp only [if_pos c2]
      · simp only [if_neg c2]
  have fin : ∀ P' : Nat → Nat, (∀ j, P' j = if j = s ∧ s ≠ 0 then p else P j) → ((∀ j, (tsP (tsL (roL2 (L, zu R p s, P', C, O) p r) r p) p r).1 j = if j = r then p else if j = q ∧ q ≠ 0 ∧ L q = p then r else L j) ∧
      (∀ j, (tsP (tsL (roL2 (L, zu R p s, P', C, O) p r) r p) p r).2.1 j = if j = q ∧ q ≠ 0 ∧ L q ≠ p then r else if j = p then s else R j) ∧
      (∀ j, (tsP (tsL (roL2 (L, zu R p s, P', C, O) p r) r p) p r).2.2.1 j = if j = p then r else if j = r then q else if j = s ∧ s ≠ 0 then p else P j) ∧
      ((tsP (tsL (roL2 (L, zu R p s, P', C, O) p r) r p) p r).2.2.2.2 = if q = 0 then r else O)) := by
    intro P' e
    rw [key P' (by rw [e, if_neg (fun z => h4 z.1.symm)]; exact hq)]
    have e' : P' = fun j => if j = s ∧ s ≠ 0 then p else P j := funext e
    by_cases c : q = 0
    · rw [if_pos c, if_pos c]
      refine ⟨fun j => ?_, fun j => ?_, fun j => ?_, rfl⟩
      · show zu L r p j = _
        unfold zu
        simp [c]
      · show zu R p s j = _
        unfold zu
        simp [c]
      · show zu (zu P' r q) p r j = _
        unfold zu
        rw [e']
    · rw [if_neg c, if_neg c]
      by_cases c2 : L q = p
      · rw [if_pos c2]
        refine ⟨fun j => ?_, fun j => ?_, fun j => ?_, rfl⟩
        · show zu (zu L q r) r p j = _
          unfold zu
          simp [c, c2]
        · show zu R p s j = _
          unfold zu
          simp [c2]
        · show zu (zu P' r q) p r j = _
          unfold zu
          rw [e']
      · rw [if_neg c2]
        refine ⟨fun j => ?_, fun j => ?_, fun j => ?_, rfl⟩
        · show zu L r p j = _
          unfold zu
          simp [c2]
        · show zu (zu R p s) q r j = _
          unfold zu
          simp [c, c2]
        · show zu (zu P' r q) p r j = _
          unfold zu
          rw [e']
  by_cases c : s = 0
  · rw [if_pos c]
    exact fin P fun j => by rw [if_neg (fun z => z.2 c)]
  · rw [if_neg c]
    exact fin (zu P s p) fun j => by unfold zu; simp [c]
theorem nd3 {l r : Tr} {i : Nat} (h : (inO (.branch i l r)).Nodup) : (inO l).Nodup ∧ (inO r).Nodup ∧ i ∉ inO l ∧ i ∉ inO r ∧ ∀ a, a ∈ inO l → a ∉ inO r := by
  have h1 : (inO l ++ i :: inO r).Nodup := h
  obtain ⟨a1, a2, a3⟩ := List.nodup_append.mp h1
  obtain ⟨b1, b2⟩ := List.nodup_cons.mp a2
  exact ⟨a1, b2, fun z => a3 i z i List.mem_cons_self rfl, b1, fun a ha hb => a3 a ha a (List.mem_cons_of_mem _ hb) rfl⟩
theorem in3 {l r : Tr} {i j : Nat} : j ∈ inO (.branch i l r) ↔ j ∈ inO l ∨ j = i ∨ j ∈ inO r := by
  show j ∈ inO l ++ i :: inO r ↔ _
  rw [List.mem_append, List.mem_cons]
/-- a node and its neighbours are apart -/
theorem ro_D {T : Tm} {p r q s : Nat} (hr : tmR T p = r) (hq : tmP T p = q) (hs : tmL T r = s) (r0 : r ≠ 0) : ∀ {t : Tr} {ptr par : Nat}, TR T t ptr par → (inO t).Nodup → p ∈ inO t → r ∈ inO t ∧ r ≠ p ∧ (s = 0 ∨ s ∈ inO t) ∧ s ≠ p ∧ s ≠ r ∧ (q = par ∨ (q ∈ inO t ∧ q ≠ p ∧ q ≠ r)) := by
  intro t
  induction t with
  | leaf u => intro _ _ _ _ h; cases h
  | branch i l rr ihl ihr =>
    intro ptr par ⟨h1, h2, h3, h4, h5⟩ nd hp
    obtain ⟨n1, n2, n3, n4, n5⟩ := nd3 nd
    rcases in3.mp hp with hp' | hp' | hp'
    · obtain ⟨c1, c2, c3, c4, c5, c6⟩ := ihl h4 n1 hp'
      refine ⟨in3.mpr (Or.inl c1), c2, c3.imp id fun z => in3.mpr (Or.inl z), c4, c5, Or.inr ?_⟩
      rcases c6 with c6 | ⟨d1, d2, d3⟩
      · subst c6
        exact ⟨in3.mpr (Or.inr (Or.inl rfl)), fun e => n3 (by rw [e]; exact hp'), fun e => n3 (by rw [e]; exact c1)⟩
      · exact ⟨in3.mpr (Or.inl d1), d2, d3⟩
    · subst hp'
      rw [hr] at h5
      cases rr with
      | leaf u => exact absurd h5 r0
      | branch r' rl r2 =>
        obtain ⟨g1, g2, g3, g4, g5⟩ := h5
        subst g1
        rw [hs] at g4
        obtain ⟨m1, m2, m3, m4, m5⟩ := nd3 n2
        have rp : r ≠ p := fun e => n4 (by rw [← e]; exact in3.mpr (Or.inr (Or.inl rfl)))
        refine ⟨in3.mpr (Or.inr (Or.inr (in3.mpr (Or.inr (Or.inl rfl))))), rp, ?_, ?_, ?_, Or.inl (by rw [← hq]; exact h3)⟩
        · rcases TR_mem g4 with z | z
          · exact Or.inl z
          · exact Or.inr (in3.mpr (Or.inr (Or.inr (in3.mpr (Or.inl z)))))
        · rcases TR_mem g4 with z | z
          · rw [z]; exact fun e => h2 e.symm
          · exact fun e => n4 (by rw [← e]; exact in3.mpr (Or.inl z))
        · rcases TR_mem g4 with z | z
          · rw [z]; exact fun e => r0 e.symm
          · exact fun e => m3 (by rw [← e]; exact z)
    · obtain ⟨c1, c2, c3, c4, c5, c6⟩ := ihr h5 n2 hp'
      refine ⟨in3.mpr (Or.inr (Or.inr c1)), c2, c3.imp id fun z => in3.mpr (Or.inr (Or.inr z)), c4, c5, Or.inr ?_⟩
      rcases c6 with c6 | ⟨d1, d2, d3⟩
      · subst c6
        exact ⟨in3.mpr (Or.inr (Or.inl rfl)), fun e => n4 (by rw [e]; exact hp'), fun e => n4 (by rw [e]; exact c1)⟩
      · exact ⟨in3.mpr (Or.inr (Or.inr d1)), d2, d3⟩
theorem TR_rp {T T' : Tm} {t : Tr} {s r p : Nat} (h : TR T t s r) (hs : s ≠ 0 → tmP T' s = p) (e : ∀ j ∈ inO t, tmL T' j = tmL T j ∧ tmR T' j = tmR T j ∧ (j ≠ s → tmP T' j = tmP T j)) (nd : (inO t).Nodup) : TR T' t s p := by
  cases t with
  | leaf u => exact h
  | branch i l rr =>
    obtain ⟨h1, h2, h3, h4, h5⟩ := h
    obtain ⟨n1, n2, n3, n4, n5⟩ := nd3 nd
    subst h1
    have es := e s (in3.mpr (Or.inr (Or.inl rfl)))
    refine ⟨rfl, h2, hs h2, ?_, ?_⟩
    · rw [es.1]
      exact TR_cg (fun j hj => ⟨(e j (in3.mpr (Or.inl hj))).1, (e j (in3.mpr (Or.inl hj))).2.1, (e j (in3.mpr (Or.inl hj))).2.2 fun z => n3 (by rw [← z]; exact hj)⟩) h4
    · rw [es.2.1]
      exact TR_cg (fun j hj => ⟨(e j (in3.mpr (Or.inr (Or.inr hj)))).1, (e j (in3.mpr (Or.inr (Or.inr hj)))).2.1, (e j (in3.mpr (Or.inr (Or.inr hj)))).2.2 fun z => n4 (by rw [← z]; exact hj)⟩) h5
theorem ro_T {T T' : Tm} {p r q s : Nat} (hr : tmR T p = r) (hq : tmP T p = q) (hs : tmL T r = s) (r0 : r ≠ 0)
    (eL : ∀ j, tmL T' j = if j = r then p else if j = q ∧ q ≠ 0 ∧ tmL T q = p then r else tmL T j)
    (eR : ∀ j, tmR T' j = if j = q ∧ q ≠ 0 ∧ tmL T q ≠ p then r else if j = p then s else tmR T j)
    (eP : ∀ j, tmP T' j = if j = p then r else if j = r then q else if j = s ∧ s ≠ 0 then p else tmP T j) :
    ∀ {t : Tr} {ptr par : Nat}, TR T t ptr par → (inO t).Nodup → p ∈ inO t → par ∉ inO t → ∃ t', TR T' t' (if ptr = p then r else ptr) par ∧ inO t' = inO t := by
  intro t
  induction t with
  | leaf u => intro _ _ _ _ h; cases h
  | branch i l rr ihl ihr =>
    intro ptr par h0 nd hp hpar
    obtain ⟨c1, c2, c3, c4, c5, c6⟩ := ro_D hr hq hs r0 h0 nd hp
    have qp : q ≠ p := by
      rcases c6 with z | z
      · rw [z]; exact fun e => hpar (by rw [e]; exact hp)
      · exact z.2.1
    have qr : q ≠ r := by
      rcases c6 with z | z
      · rw [z]; exact fun e => hpar (by rw [e]; exact c1)
      · exact z.2.2
    obtain ⟨h1, h2, h3, h4, h5⟩ := h0
    obtain ⟨n1, n2, n3, n4, n5⟩ := nd3 nd
    -- what is neither of the four stays
    have same : ∀ j, j ≠ r → j ≠ p → j ≠ q → (j ≠ s ∨ s = 0) → tmL T' j = tmL T j ∧ tmR T' j = tmR T j ∧ tmP T' j = tmP T j := fun j a1 a2 a3 a4 => by
      refine ⟨?_, ?_, ?_⟩
      · rw [eL, if_neg a1, if_neg (fun z => a3 z.1)]
      · rw [eR, if_neg (fun z => a3 z.1), if_neg a2]
      · rw [eP, if_neg a2, if_neg a1, if_neg (fun z => by rcases a4 with a4 | a4; exact a4 z.1; exact z.2 a4)]
    rcases in3.mp hp with hp' | hp' | hp'
    · obtain ⟨d1, d2, d3, d4, d5, d6⟩ := ro_D hr hq hs r0 h4 n1 hp'
      have pi : i ≠ p := fun e => n3 (by rw [e]; exact hp')
      have ri : i ≠ r := fun e => n3 (by rw [e]; exact d1)
      have si : i ≠ s ∨ s = 0 := by
        rcases d3 with z | z
        · exact Or.inr z
        · exact Or.inl fun e => n3 (by rw [e]; exact z)
      have qi : i = q → tmL T i = p := fun e => by
        rcases TR_par h4 hp' with ⟨z, _⟩ | ⟨_, z, _⟩ | z
        · exact z.symm
        · rw [hq, ← e] at z
          exact absurd z n3
        · exact absurd n1 z
      obtain ⟨l', g1, g2⟩ := ihl h4 n1 hp' n3
      refine ⟨.branch i l' rr, ⟨by rw [h1, if_neg pi], h2, ?_, ?_, ?_⟩, ?_⟩
      · rw [eP, if_neg pi, if_neg ri, if_neg (fun z => by rcases si with a4 | a4; exact a4 z.1; exact z.2 a4)]
        exact h3
      · have e : tmL T' i = if tmL T i = p then r else tmL T i := by
          rw [eL, if_neg ri]
          by_cases c : i = q
          · subst c
            rw [if_pos ⟨rfl, h2, qi rfl⟩, if_pos (qi rfl)]
          · rw [if_neg (fun z => c z.1), if_neg]
            intro z
            rcases TR_par h4 hp' with ⟨_, z2⟩ | ⟨z1, _, _⟩ | z1
            · exact c (by rw [← hq, z2])
            · exact z1 z.symm
            · exact z1 n1
        rw [e]
        exact g1
      · have e : tmR T' i = tmR T i := by
          rw [eR, if_neg (fun z => z.2.2 (by rw [← z.1]; exact qi z.1)), if_neg pi]
        rw [e]
        refine TR_cg (fun j hj => same j (fun z => n5 r d1 (by rw [← z]; exact hj)) (fun z => n5 p hp' (by rw [← z]; exact hj)) (fun z => ?_) ?_) h5
        · rcases d6 with y | y
          · exact n4 (by rw [← y, ← z]; exact hj)
          · exact n5 q y.1 (by rw [← z]; exact hj)
        · rcases d3 with y | y
          · exact Or.inr y
          · exact Or.inl fun z => n5 s y (by rw [← z]; exact hj)
      · show inO l' ++ i :: inO rr = inO l ++ i :: inO rr
        rw [g2]
    · subst hp'
      have h5' := h5
      rw [hr] at h5'
      cases rr with
      | leaf u => exact absurd h5' r0
      | branch r' rl r2 =>
        obtain ⟨g1, g2, g3, g4, g5⟩ := h5'
        subst g1
        rw [hs] at g4
        obtain ⟨m1, m2, m3, m4, m5⟩ := nd3 n2
        have qpar : q = par := by rw [← hq]; exact h3
        have notq : ∀ j, j ∈ inO (.branch p l (.branch r rl r2)) → j ≠ q := fun j hj z => hpar (by rw [← qpar, ← z]; exact hj)
        refine ⟨.branch r (.branch p l rl) r2, ⟨by rw [h1, if_pos rfl], r0, ?_, ?_, ?_⟩, ?_⟩
        · rw [eP, if_neg c2, if_pos rfl]
          exact qpar
        · rw [eL, if_pos rfl]
          refine ⟨rfl, h2, by rw [eP, if_pos rfl], ?_, ?_⟩
          · rw [eL, if_neg (Ne.symm c2), if_neg (fun z => qp z.1.symm)]
            refine TR_cg (fun j hj => same j (fun z => n5 r (by rw [← z]; exact hj) (in3.mpr (Or.inr (Or.inl rfl)))) (fun z => n3 (by rw [← z]; exact hj)) (notq j (in3.mpr (Or.inl hj))) ?_) h4
            rcases TR_mem g4 with y | y
            · exact Or.inr y
            · exact Or.inl fun z => n5 s (by rw [← z]; exact hj) (in3.mpr (Or.inl y))
          · rw [eR, if_neg (fun z => qp z.1.symm), if_pos rfl]
            refine TR_rp g4 (fun s0 => by rw [eP, if_neg c4, if_neg c5, if_pos ⟨rfl, s0⟩]) (fun j hj => ?_) m1
            have jr : j ≠ r := fun z => m3 (by rw [← z]; exact hj)
            have jp : j ≠ p := fun z => n4 (by rw [← z]; exact in3.mpr (Or.inl hj))
            have jq := notq j (in3.mpr (Or.inr (Or.inr (in3.mpr (Or.inl hj)))))
            refine ⟨by rw [eL, if_neg jr, if_neg (fun z => jq z.1)], by rw [eR, if_neg (fun z => jq z.1), if_neg jp], fun js => (same j jr jp jq (Or.inl js)).2.2⟩
        · rw [eR, if_neg (fun z => qr z.1.symm), if_neg c2]
          refine TR_cg (fun j hj => same j (fun z => m4 (by rw [← z]; exact hj)) (fun z => n4 (by rw [← z]; exact in3.mpr (Or.inr (Or.inr hj)))) (notq j (in3.mpr (Or.inr (Or.inr (in3.mpr (Or.inr (Or.inr hj))))))) ?_) g5
          rcases TR_mem g4 with y | y
          · exact Or.inr y
          · exact Or.inl fun z => m5 s y (by rw [← z]; exact hj)
        · show (inO l ++ p :: inO rl) ++ r :: inO r2 = inO l ++ p :: (inO rl ++ r :: inO r2)
          simp
    · obtain ⟨d1, d2, d3, d4, d5, d6⟩ := ro_D hr hq hs r0 h5 n2 hp'
      have pi : i ≠ p := fun e => n4 (by rw [e]; exact hp')
      have ri : i ≠ r := fun e => n4 (by rw [e]; exact d1)
      have si : i ≠ s ∨ s = 0 := by
        rcases d3 with z | z
        · exact Or.inr z
        · exact Or.inl fun e => n4 (by rw [e]; exact z)
      have qi : i = q → tmR T i = p := fun e => by
        rcases TR_par h5 hp' with ⟨z, _⟩ | ⟨_, z, _⟩ | z
        · exact z.symm
        · rw [hq, ← e] at z
          exact absurd z n4
        · exact absurd n2 z
      have lp : tmL T i ≠ p := fun e => by
        rcases TR_mem h4 with z | z
        · exact TR_ne h5 hp' (by rw [← e]; exact z)
        · exact n5 p (by rw [← e]; exact z) hp'
      obtain ⟨r', g1, g2⟩ := ihr h5 n2 hp' n4
      refine ⟨.branch i l r', ⟨by rw [h1, if_neg pi], h2, ?_, ?_, ?_⟩, ?_⟩
      · rw [eP, if_neg pi, if_neg ri, if_neg (fun z => by rcases si with a4 | a4; exact a4 z.1; exact z.2 a4)]
        exact h3
      · have e : tmL T' i = tmL T i := by
          rw [eL, if_neg ri, if_neg (fun z => lp (by rw [z.1]; exact z.2.2))]
        rw [e]
        refine TR_cg (fun j hj => same j (fun z => n5 j hj (by rw [z]; exact d1)) (fun z => n5 j hj (by rw [z]; exact hp')) (fun z => ?_) ?_) h4
        · rcases d6 with y | y
          · exact n3 (by rw [← y, ← z]; exact hj)
          · exact n5 j hj (by rw [z]; exact y.1)
        · rcases d3 with y | y
          · exact Or.inr y
          · exact Or.inl fun z => n5 j hj (by rw [z]; exact y)
      · have e : tmR T' i = if tmR T i = p then r else tmR T i := by
          rw [eR]
          by_cases c : i = q
          · rw [if_pos ⟨c, by rw [← c]; exact h2, by rw [← c]; exact lp⟩, if_pos (qi c)]
          · rw [if_neg (fun z => c z.1), if_neg pi, if_neg]
            intro z
            rcases TR_par h5 hp' with ⟨_, z2⟩ | ⟨z1, _, _⟩ | z1
            · exact c (by rw [← hq, z2])
            · exact z1 z.symm
            · exact z1 n2
        rw [e]
        exact g1
      · show inO l ++ i :: inO r' = inO l ++ i :: inO rr
        rw [g2]
/-- a tree as a whole -/
def TW (T : Tm) (t : Tr) : Prop := TR T t (tmO T) 0 ∧ (inO t).Nodup
theorem roL_W {T : Tm} {t : Tr} {p : Nat} (W : TW T t) (hp : p ∈ inO t) (r0 : tmR T p ≠ 0) : ∃ t', TW (roL T p) t' ∧ inO t' = inO t := by
  obtain ⟨h, nd⟩ := W
  have h0 : (0 : Nat) ∉ inO t := fun z => TR_ne h z rfl
  have p0 : p ≠ 0 := TR_ne h hp
  obtain ⟨c1, c2, c3, c4, c5, c6⟩ := ro_D rfl rfl rfl r0 h nd hp
  have qp : tmP T p ≠ p := by
    rcases c6 with z | z
    · rw [z]; exact Ne.symm p0
    · exact z.2.1
  have qr : tmP T p ≠ tmR T p := by
    rcases c6 with z | z
    · rw [z]; exact Ne.symm r0
    · exact z.2.2
  obtain ⟨e1, e2, e3, e4⟩ := roL_e p0 rfl rfl rfl c2 qp qr c4 c5
  obtain ⟨t', g1, g2⟩ := ro_T rfl rfl rfl r0 e1 e2 e3 h nd hp h0
  refine ⟨t', ⟨?_, by rw [g2]; exact nd⟩, g2⟩
  rw [e4]
  have ep : (tmP T p = 0) ↔ tmO T = p := by
    rcases TR_par h hp with ⟨z, z2⟩ | ⟨z, z2, _⟩ | z
    · exact ⟨fun _ => z.symm, fun _ => z2⟩
    · exact ⟨fun y => absurd (by rw [← y]; exact z2) h0, fun y => absurd y.symm z⟩
    · exact absurd nd z
  by_cases c : tmO T = p
  · rw [if_pos (ep.mpr c)]
    rw [if_pos c] at g1
    exact g1
  · rw [if_neg (fun z => c (ep.mp z))]
    rw [if_neg c] at g1
    exact g1
