/-! a search tree: mirrored; a new leaf; looking up (no program in sight) -/
def mir (T : Tm) : Tm := (T.2.1, T.1, T.2.2)
def mtr : Tr → Tr
  | (.leaf ()) => (.leaf ())
  | .branch i l r => .branch i (mtr r) (mtr l)
theorem mtr_in (t : Tr) : inO (mtr t) = (inO t).reverse := by
  induction t with
  | leaf u => rfl
  | branch i l r ihl ihr =>
    show inO (mtr r) ++ i :: inO (mtr l) = (inO l ++ i :: inO r).reverse
    rw [ihl, ihr]
    simp
theorem mtr_mtr (t : Tr) : mtr (mtr t) = t := by
  induction t with
  | leaf u => rfl
  | branch i l r ihl ihr =>
    show Lean.RArray.branch i (mtr (mtr l)) (mtr (mtr r)) = _
    rw [ihl, ihr]
theorem mir_TR {T : Tm} : ∀ {t : Tr} {ptr par : Nat}, TR T t ptr par → TR (mir T) (mtr t) ptr par := by
  intro t
  induction t with
  | leaf u => intro ptr par h; exact h
  | branch i l r ihl ihr =>
    intro ptr par ⟨h1, h2, h3, h4, h5⟩
    exact ⟨h1, h2, h3, ihr h5, ihl h4⟩
theorem mir_W {T : Tm} {t : Tr} (W : TW T t) : TW (mir T) (mtr t) := ⟨mir_TR W.1, by rw [mtr_in]; exact List.pairwise_reverse.mpr (List.Pairwise.imp (fun h e => h e.symm) W.2)⟩
theorem roR_mi (T : Tm) (p : Nat) : roR T p = mir (roL (mir T) p) := by
  unfold roR roL
  by_cases c : p = 0
  · rw [if_pos c, if_pos c]
    rfl
  · rw [if_neg c, if_neg c]
    have e1 : roR1 T p (tmL T p) = mir (roL1 (mir T) p (tmR (mir T) p)) := by
      unfold roR1 roL1
      show (if tmR T (tmL T p) = 0 then _ else _) = mir (if tmL (mir T) (tmR (mir T) p) = 0 then _ else _)
      by_cases c2 : tmR T (tmL T p) = 0
      · rw [if_pos c2, if_pos (show tmL (mir T) (tmR (mir T) p) = 0 from c2)]
        rfl
      · rw [if_neg c2, if_neg (show ¬ tmL (mir T) (tmR (mir T) p) = 0 from c2)]
        rfl
    have e2 : ∀ (U : Tm) (r : Nat), roR2 (mir U) p r = mir (roL2 U p r) := fun U r => by
      unfold roR2 roL2
      dsimp only
      have a : tmP (tsP (mir U) r (tmP (mir U) p)) p = tmP (tsP U r (tmP U p)) p := rfl
      rw [a]
      by_cases c2 : tmP (tsP U r (tmP U p)) p = 0
      · rw [if_pos c2, if_pos c2]
        rfl
      · rw [if_neg c2, if_neg c2]
        by_cases c3 : tmL (tsP U r (tmP U p)) (tmP (tsP U r (tmP U p)) p) = p
        · rw [if_pos c3, if_pos (show tmR (tsP (mir U) r (tmP (mir U) p)) (tmP (tsP U r (tmP U p)) p) = p from c3)]
          rfl
        · rw [if_neg c3, if_neg (show ¬ tmR (tsP (mir U) r (tmP (mir U) p)) (tmP (tsP U r (tmP U p)) p) = p from c3)]
          rfl
    rw [e1, e2]
    rfl
theorem roR_W {T : Tm} {t : Tr} {p : Nat} (W : TW T t) (hp : p ∈ inO t) (l0 : tmL T p ≠ 0) : ∃ t', TW (roR T p) t' ∧ inO t' = inO t := by
  obtain ⟨t', w, e⟩ := roL_W (mir_W W) (by rw [mtr_in]; exact List.mem_reverse.mpr hp) l0
  refine ⟨mtr t', ?_, by rw [mtr_in, e, mtr_in, List.reverse_reverse]⟩
  rw [roR_mi]
  exact mir_W w
/-- looking up by the keys kv -/
def fnd (kv : Nat → Nat) (k : Nat) : Tr → Nat
  | (.leaf ()) => 0
  | .branch i l r => if k < kv i then fnd kv k l else if kv i < k then fnd kv k r else i
def srt (kv : Nat → Nat) (t : Tr) : Prop := (inO t).Pairwise fun a b => kv a < kv b
theorem srt3 {kv : Nat → Nat} {l r : Tr} {i : Nat} (h : srt kv (.branch i l r)) : srt kv l ∧ srt kv r ∧ (∀ a ∈ inO l, kv a < kv i) ∧ (∀ a ∈ inO r, kv i < kv a) ∧ ∀ a ∈ inO l, ∀ b ∈ inO r, kv a < kv b := by
  have h1 : (inO l ++ i :: inO r).Pairwise fun a b => kv a < kv b := h
  obtain ⟨a1, a2, a3⟩ := List.pairwise_append.mp h1
  obtain ⟨b1, b2⟩ := List.pairwise_cons.mp a2
  exact ⟨a1, b2, fun a ha => a3 a ha i List.mem_cons_self, b1, fun a ha b hb => a3 a ha b (List.mem_cons_of_mem _ hb)⟩
theorem srt_mk {kv : Nat → Nat} {l r : Tr} {i : Nat} (h1 : srt kv l) (h2 : srt kv r) (h3 : ∀ a ∈ inO l, kv a < kv i) (h4 : ∀ a ∈ inO r, kv i < kv a) : srt kv (.branch i l r) :=
  List.pairwise_append.mpr ⟨h1, List.pairwise_cons.mpr ⟨h4, h2⟩, fun a ha b hb => by
    rcases List.mem_cons.mp hb with e | hb
    · rw [e]; exact h3 a ha
    · exact Nat.lt_trans (h3 a ha) (h4 b hb)⟩
theorem fnd_in {kv : Nat → Nat} : ∀ {t : Tr}, srt kv t → ∀ i ∈ inO t, fnd kv (kv i) t = i := by
  intro t
  induction t with
  | leaf u => intro _ i h; cases h
  | branch j l r ihl ihr =>
    intro hs i hi
    obtain ⟨s1, s2, s3, s4, -⟩ := srt3 hs
    unfold fnd
    rcases in3.mp hi with h | h | h
    · rw [if_pos (s3 i h)]
      exact ihl s1 i h
    · subst h
      rw [if_neg (Nat.lt_irrefl _), if_neg (Nat.lt_irrefl _)]
    · have := s4 i h
      rw [if_neg (by omega), if_pos this]
      exact ihr s2 i h
theorem fnd_no {kv : Nat → Nat} {k : Nat} : ∀ {t : Tr}, (∀ i ∈ inO t, kv i ≠ k) → fnd kv k t = 0 := by
  intro t
  induction t with
  | leaf u => intro _; rfl
  | branch j l r ihl ihr =>
    intro h
    have hj := h j (in3.mpr (Or.inr (Or.inl rfl)))
    unfold fnd
    by_cases c : k < kv j
    · rw [if_pos c]
      exact ihl fun i hi => h i (in3.mpr (Or.inl hi))
    · rw [if_neg c, if_pos (by omega)]
      exact ihr fun i hi => h i (in3.mpr (Or.inr (Or.inr hi)))
/-- a new leaf m with the key k: the tree; its parent and whether it is the left one -/
def ins (kv : Nat → Nat) (k m : Nat) : Tr → Tr
  | (.leaf ()) => .branch m (.leaf ()) (.leaf ())
  | .branch i l r => if k < kv i then .branch i (ins kv k m l) r else .branch i l (ins kv k m r)
def lf (kv : Nat → Nat) (k : Nat) : Tr → Nat → Bool → Nat × Bool
  | (.leaf ()), p, b => (p, b)
  | .branch i l r, _, _ => if k < kv i then lf kv k l i true else lf kv k r i false
theorem ins_in {kv : Nat → Nat} {k m : Nat} : ∀ {t : Tr} {j : Nat}, j ∈ inO (ins kv k m t) ↔ j = m ∨ j ∈ inO t := by
  intro t
  induction t with
  | leaf u =>
    intro j
    show j ∈ [m] ↔ j = m ∨ j ∈ []
    simp
  | branch i l r ihl ihr =>
    intro j
    unfold ins
    split
    · rw [in3, in3, ihl]
      simp only [or_assoc]
    · rw [in3, in3, ihr]
      constructor
      · rintro (h | h | h | h)
        · exact Or.inr (Or.inl h)
        · exact Or.inr (Or.inr (Or.inl h))
        · exact Or.inl h
        · exact Or.inr (Or.inr (Or.inr h))
      · rintro (h | h | h | h)
        · exact Or.inr (Or.inr (Or.inl h))
        · exact Or.inl h
        · exact Or.inr (Or.inl h)
        · exact Or.inr (Or.inr (Or.inr h))
theorem ins_srt {kv : Nat → Nat} {k m : Nat} (hm : kv m = k) : ∀ {t : Tr}, srt kv t → (∀ i ∈ inO t, kv i ≠ k) → srt kv (ins kv k m t) := by
  intro t
  induction t with
  | leaf u =>
    intro _ _
    show [m].Pairwise _
    exact List.pairwise_singleton _ _
  | branch i l r ihl ihr =>
    intro hs hk
    obtain ⟨s1, s2, s3, s4, -⟩ := srt3 hs
    have hi := hk i (in3.mpr (Or.inr (Or.inl rfl)))
    unfold ins
    split
    · next c =>
      refine srt_mk (ihl s1 fun j hj => hk j (in3.mpr (Or.inl hj))) s2 (fun a ha => ?_) s4
      rcases ins_in.mp ha with e | e
      · rw [e, hm]; exact c
      · exact s3 a e
    · next c =>
      refine srt_mk s1 (ihr s2 fun j hj => hk j (in3.mpr (Or.inr (Or.inr hj)))) s3 fun a ha => ?_
      rcases ins_in.mp ha with e | e
      · rw [e, hm]; omega
      · exact s4 a e
theorem srt_nd {kv : Nat → Nat} {t : Tr} (h : srt kv t) : (inO t).Nodup := List.Pairwise.imp (fun h e => by rw [e] at h; exact Nat.lt_irrefl _ h) h
theorem lf_in {kv : Nat → Nat} {k : Nat} : ∀ {t : Tr} {p : Nat} {b : Bool}, (lf kv k t p b).1 = p ∨ (lf kv k t p b).1 ∈ inO t := by
  intro t
  induction t with
  | leaf u => intro p b; exact Or.inl rfl
  | branch i l r ihl ihr =>
    intro p b
    unfold lf
    split
    · rcases ihl (p := i) (b := true) with h | h
      · rw [h]; exact Or.inr (in3.mpr (Or.inr (Or.inl rfl)))
      · exact Or.inr (in3.mpr (Or.inl h))
    · rcases ihr (p := i) (b := false) with h | h
      · rw [h]; exact Or.inr (in3.mpr (Or.inr (Or.inl rfl)))
      · exact Or.inr (in3.mpr (Or.inr (Or.inr h)))
/-- the leaf linked -/
def lnk (T : Tm) (m : Nat) (q : Nat × Bool) : Tm := if q.2 = true then tsL T q.1 m else tsR T q.1 m
theorem ins_TR {T : Tm} {kv : Nat → Nat} {k m : Nat} (m0 : m ≠ 0) (hL : tmL T m = 0) (hR : tmR T m = 0) : ∀ {t : Tr} {ptr par : Nat} {b : Bool}, TR T t ptr par → (inO t).Nodup → m ∉ inO t → par ∉ inO t → m ≠ par → tmP T m = (lf kv k t par b).1 →
    TR (lnk T m (lf kv k t par b)) (ins kv k m t) (match t with | (.leaf ()) => m | .branch _ _ _ => ptr) par := by
  intro t
  induction t with
  | leaf u =>
    intro ptr par b h _ _ _ mp hP
    have e : ∀ v, tmL (lnk T m (par, v)) m = 0 ∧ tmR (lnk T m (par, v)) m = 0 ∧ tmP (lnk T m (par, v)) m = par := fun v => by
      unfold lnk
      cases v
      · exact ⟨hL, (zu_ne _ _ mp).trans hR, hP⟩
      · exact ⟨(zu_ne _ _ mp).trans hL, hR, hP⟩
    obtain ⟨e1, e2, e3⟩ := e b
    exact ⟨rfl, m0, e3, e1, e2⟩
  | branch i l r ihl ihr =>
    intro ptr par b ⟨h1, h2, h3, h4, h5⟩ nd hm hpar mp hP
    obtain ⟨n1, n2, n3, n4, n5⟩ := nd3 nd
    have hmi : m ≠ i := fun e => hm (by rw [e]; exact in3.mpr (Or.inr (Or.inl rfl)))
    have hml : m ∉ inO l := fun e => hm (in3.mpr (Or.inl e))
    have hmr : m ∉ inO r := fun e => hm (in3.mpr (Or.inr (Or.inr e)))
    have oth : ∀ (q : Nat × Bool) j, j ≠ q.1 → tmL (lnk T m q) j = tmL T j ∧ tmR (lnk T m q) j = tmR T j ∧ tmP (lnk T m q) j = tmP T j := fun q j hj => by
      unfold lnk
      split
      · exact ⟨zu_ne _ _ hj, rfl, rfl⟩
      · exact ⟨rfl, zu_ne _ _ hj, rfl⟩
    unfold lf ins
    unfold lf at hP
    by_cases c : k < kv i
    · rw [if_pos c] at hP
      rw [if_pos c, if_pos c]
      have g := ihl (b := true) h4 n1 hml n3 hmi hP
      have hq := lf_in (kv := kv) (k := k) (t := l) (p := i) (b := true)
      refine ⟨h1, h2, ?_, ?_, ?_⟩
      · have : tmP (lnk T m (lf kv k l i true)) i = tmP T i := by unfold lnk; split <;> rfl
        rw [this]
        exact h3
      · cases l with
        | leaf u =>
          show TR (lnk T m (i, true)) (.branch m (.leaf ()) (.leaf ())) (tmL (lnk T m (i, true)) i) i
          rw [show tmL (lnk T m (i, true)) i = m from zu_eq _ _ _]
          exact g
        | branch li l1 l2 =>
          have hne : (lf kv k (.branch li l1 l2) i true).1 ≠ i := by
            unfold lf
            split
            · rcases lf_in (kv := kv) (k := k) (t := l1) (p := li) (b := true) with z | z
              · rw [z]; exact fun e => n3 (by rw [← e]; exact in3.mpr (Or.inr (Or.inl rfl)))
              · exact fun e => n3 (by rw [← e]; exact in3.mpr (Or.inl z))
            · rcases lf_in (kv := kv) (k := k) (t := l2) (p := li) (b := false) with z | z
              · rw [z]; exact fun e => n3 (by rw [← e]; exact in3.mpr (Or.inr (Or.inl rfl)))
              · exact fun e => n3 (by rw [← e]; exact in3.mpr (Or.inr (Or.inr z)))
          rw [(oth _ i (Ne.symm hne)).1]
          exact g
      · have e : tmR (lnk T m (lf kv k l i true)) i = tmR T i := by
          rcases hq with z | z
          · cases l with
            | leaf u => rfl
            | branch li l1 l2 =>
              exfalso
              unfold lf at z
              split at z
              · rcases lf_in (kv := kv) (k := k) (t := l1) (p := li) (b := true) with y | y
                · exact n3 (by rw [← z, y]; exact in3.mpr (Or.inr (Or.inl rfl)))
                · exact n3 (by rw [z] at y; exact in3.mpr (Or.inl y))
              · rcases lf_in (kv := kv) (k := k) (t := l2) (p := li) (b := false) with y | y
                · exact n3 (by rw [← z, y]; exact in3.mpr (Or.inr (Or.inl rfl)))
                · exact n3 (by rw [z] at y; exact in3.mpr (Or.inr (Or.inr y)))
          · exact (oth _ i (fun e => n3 (by rw [e]; exact z))).2.1
        rw [e]
        refine TR_cg (fun j hj => oth _ j fun e => ?_) h5
        rcases hq with z | z
        · exact n4 (by rw [← z, ← e]; exact hj)
        · exact n5 j (by rw [e]; exact z) hj
    · rw [if_neg c] at hP
      rw [if_neg c, if_neg c]
      have g := ihr (b := false) h5 n2 hmr n4 hmi hP
      have hq := lf_in (kv := kv) (k := k) (t := r) (p := i) (b := false)
      refine ⟨h1, h2, ?_, ?_, ?_⟩
      · have : tmP (lnk T m (lf kv k r i false)) i = tmP T i := by unfold lnk; split <;> rfl
        rw [this]
        exact h3
      · have e : tmL (lnk T m (lf kv k r i false)) i = tmL T i := by
          rcases hq with z | z
          · cases r with
            | leaf u => rfl
            | branch li l1 l2 =>
              exfalso
              unfold lf at z
              split at z
              · rcases lf_in (kv := kv) (k := k) (t := l1) (p := li) (b := true) with y | y
                · exact n4 (by rw [← z, y]; exact in3.mpr (Or.inr (Or.inl rfl)))
                · exact n4 (by rw [z] at y; exact in3.mpr (Or.inl y))
              · rcases lf_in (kv := kv) (k := k) (t := l2) (p := li) (b := false) with y | y
                · exact n4 (by rw [← z, y]; exact in3.mpr (Or.inr (Or.inl rfl)))
                · exact n4 (by rw [z] at y; exact in3.mpr (Or.inr (Or.inr y)))
          · exact (oth _ i (fun e => n4 (by rw [e]; exact z))).1
        rw [e]
        refine TR_cg (fun j hj => oth _ j fun e => ?_) h4
        rcases hq with z | z
        · exact n3 (by rw [← z, ← e]; exact hj)
        · exact n5 j hj (by rw [e]; exact z)
      · cases r with
        | leaf u =>
          show TR (lnk T m (i, false)) (.branch m (.leaf ()) (.leaf ())) (tmR (lnk T m (i, false)) i) i
          rw [show tmR (lnk T m (i, false)) i = m from zu_eq _ _ _]
          exact g
        | branch li l1 l2 =>
          have hne : (lf kv k (.branch li l1 l2) i false).1 ≠ i := by
            unfold lf
            split
            · rcases lf_in (kv := kv) (k := k) (t := l1) (p := li) (b := true) with z | z
              · rw [z]; exact fun e => n4 (by rw [← e]; exact in3.mpr (Or.inr (Or.inl rfl)))
              · exact fun e => n4 (by rw [← e]; exact in3.mpr (Or.inl z))
            · rcases lf_in (kv := kv) (k := k) (t := l2) (p := li) (b := false) with z | z
              · rw [z]; exact fun e => n4 (by rw [← e]; exact in3.mpr (Or.inr (Or.inl rfl)))
              · exact fun e => n4 (by rw [← e]; exact in3.mpr (Or.inr (Or.inr z)))
          rw [(oth _ i (Ne.symm hne)).2.1]
          exact g
