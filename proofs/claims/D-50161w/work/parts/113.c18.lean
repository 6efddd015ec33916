/-! the component: the queue of buses: orders, heaps (no program in sight) -/
/-- the event of bus x comes ahead of that of y -/
def bLt (σ : Sg) (x y : Nat) : Prop := bF σ x 2 < bF σ y 2 ∨ (bF σ x 2 = bF σ y 2 ∧ x < y)
theorem bLt_dec (σ : Sg) (x y : Nat) : bLt σ x y ∨ ¬ bLt σ x y := Classical.em _
theorem bLt_tr {σ : Sg} {x y z : Nat} (h1 : ¬ bLt σ x y) (h2 : ¬ bLt σ y z) : ¬ bLt σ x z := by
  unfold bLt at *
  simp only [Int32.lt_iff_toInt_lt, ← Int32.toInt_inj] at *
  omega
theorem bLt_as {σ : Sg} {x y : Nat} (h1 : bLt σ x y) : ¬ bLt σ y x := by
  unfold bLt at *
  simp only [Int32.lt_iff_toInt_lt, ← Int32.toInt_inj] at *
  omega
/-- F's first m are just those with P, once each -/
def QP (F : Nat → Nat) (m : Nat) (P : Nat → Prop) : Prop := (∀ i, i < m → P (F i)) ∧ (∀ x, P x → ∃ i, i < m ∧ F i = x) ∧ ∀ i j, i < m → j < m → F i = F j → i = j
theorem QP_sw {F : Nat → Nat} {m k p : Nat} {P : Nat → Prop} (h : QP F m P) (hk : k < m) (hp : p < m) : QP (zu (zu F k (F p)) p (F k)) m P := by
  obtain ⟨h1, h2, h3⟩ := h
  have key : ∀ i, i < m → ∃ j, j < m ∧ zu (zu F k (F p)) p (F k) i = F j ∧ ((i = p ∧ j = k) ∨ (i ≠ p ∧ i = k ∧ j = p) ∨ (i ≠ p ∧ i ≠ k ∧ j = i)) := fun i hi => by
    by_cases e1 : i = p
    · subst e1
      exact ⟨k, hk, zu_eq _ _ _, Or.inl ⟨rfl, rfl⟩⟩
    · by_cases e2 : i = k
      · subst e2
        exact ⟨p, hp, by rw [zu_ne _ _ e1, zu_eq], Or.inr (Or.inl ⟨e1, rfl, rfl⟩)⟩
      · exact ⟨i, hi, by rw [zu_ne _ _ e1, zu_ne _ _ e2], Or.inr (Or.inr ⟨e1, e2, rfl⟩)⟩
  refine ⟨fun i hi => ?_, fun x hx => ?_, fun i j hi hj e => ?_⟩
  · obtain ⟨j, hj, e, -⟩ := key i hi
    rw [e]; exact h1 j hj
  · obtain ⟨i, hi, e⟩ := h2 x hx
    by_cases e1 : i = p
    · subst e1
      by_cases e2 : k = i
      · subst e2
        exact ⟨k, hk, by rw [zu_eq]; exact e⟩
      · exact ⟨k, hk, by rw [zu_ne _ _ e2, zu_eq]; exact e⟩
    · by_cases e2 : i = k
      · subst e2
        exact ⟨p, hp, by rw [zu_eq]; exact e⟩
      · exact ⟨i, hi, by rw [zu_ne _ _ e1, zu_ne _ _ e2]; exact e⟩
  · obtain ⟨i', hi', ei, ci⟩ := key i hi
    obtain ⟨j', hj', ej, cj⟩ := key j hj
    rw [ei, ej] at e
    have := h3 i' j' hi' hj' e
    omega
/-- each but those at k is in order with its parent -/
def HP (σ : Sg) (F : Nat → Nat) (m : Nat) : Prop := ∀ i, 0 < i → i < m → ¬ bLt σ (F i) (F ((i - 1) / 2))
def UpI (σ : Sg) (F : Nat → Nat) (k m : Nat) : Prop := ∀ i, 0 < i → i < m → i ≠ k → ((i - 1) / 2 = k → ¬ bLt σ (F i) (F k) ∧ (0 < k → ¬ bLt σ (F i) (F ((k - 1) / 2)))) ∧ (¬ (i - 1) / 2 = k → ¬ bLt σ (F i) (F ((i - 1) / 2)))
theorem UpI_end {σ : Sg} {F : Nat → Nat} {k m : Nat} (h : UpI σ F k m) (hk : k = 0 ∨ ¬ bLt σ (F k) (F ((k - 1) / 2))) : HP σ F m := by
  intro i h0 hi
  by_cases e : i = k
  · subst e
    rcases hk with e | e
    · omega
    · exact e
  · by_cases e2 : (i - 1) / 2 = k
    · have := ((h i h0 hi e).1 e2).1
      rw [e2]; exact this
    · exact (h i h0 hi e).2 e2
theorem UpI_up {σ : Sg} {F : Nat → Nat} {k m : Nat} (h : UpI σ F k m) (hk0 : 0 < k) (hk : k < m) (hb : bLt σ (F k) (F ((k - 1) / 2))) : UpI σ (zu (zu F k (F ((k - 1) / 2))) ((k - 1) / 2) (F k)) ((k - 1) / 2) m := by
  generalize hp : (k - 1) / 2 = p at *
  have hpk : p < k := by omega
  intro i h0 hi hne
  have e1 : zu (zu F k (F p)) p (F k) p = F k := zu_eq _ _ _
  have e2 : zu (zu F k (F p)) p (F k) k = F p := by rw [zu_ne _ _ (by omega), zu_eq]
  have e3 : ∀ j, j ≠ p → j ≠ k → zu (zu F k (F p)) p (F k) j = F j := fun j a b => by rw [zu_ne _ _ a, zu_ne _ _ b]
  refine ⟨fun c => ?_, fun c => ?_⟩
  · rw [e1]
    have hpp : 0 < p → zu (zu F k (F p)) p (F k) ((p - 1) / 2) = F ((p - 1) / 2) := fun hp0 => e3 _ (by omega) (by omega)
    by_cases ik : i = k
    · subst ik
      rw [e2]
      refine ⟨bLt_as hb, fun hp0 => ?_⟩
      rw [hpp hp0]
      have := (h p hp0 (by omega) (by omega)).2 (by omega)
      exact this
    · rw [e3 i hne ik]
      have hi2 := (h i h0 hi ik).2 (by omega)
      rw [c] at hi2
      refine ⟨bLt_tr hi2 (bLt_as hb), fun hp0 => ?_⟩
      rw [hpp hp0]
      exact bLt_tr hi2 ((h p hp0 (by omega) (by omega)).2 (by omega))
  · have ik : i ≠ k := by omega
    rw [e3 i hne ik]
    by_cases c2 : (i - 1) / 2 = k
    · rw [c2, e2]
      have := ((h i h0 hi ik).1 c2).2 hk0
      rw [hp] at this
      exact this
    · rw [e3 _ c c2]
      exact (h i h0 hi ik).2 c2
/-- on the way down -/
def DnI (σ : Sg) (F : Nat → Nat) (k m : Nat) : Prop := ∀ i, 0 < i → i < m → i ≠ k → ((i - 1) / 2 = k → (0 < k → ¬ bLt σ (F i) (F ((k - 1) / 2)))) ∧ (¬ (i - 1) / 2 = k → ¬ bLt σ (F i) (F ((i - 1) / 2)))
theorem DnI_end {σ : Sg} {F : Nat → Nat} {k m : Nat} (h : DnI σ F k m) (hk : ∀ i, 0 < i → i < m → (i - 1) / 2 = k → ¬ bLt σ (F i) (F k)) : UpI σ F k m :=
  fun i h0 hi hne => ⟨fun c => ⟨hk i h0 hi c, (h i h0 hi hne).1 c⟩, (h i h0 hi hne).2⟩
/-- c: the lesser child -/
theorem DnI_dn {σ : Sg} {F : Nat → Nat} {k m c : Nat} (h : DnI σ F k m) (hc : c < m) (hp : (c - 1) / 2 = k) (hc0 : 0 < c) (hb : bLt σ (F c) (F k)) (hl : ∀ i, 0 < i → i < m → (i - 1) / 2 = k → ¬ bLt σ (F i) (F c)) : DnI σ (zu (zu F k (F c)) c (F k)) c m ∧ ¬ bLt σ (zu (zu F k (F c)) c (F k) c) (zu (zu F k (F c)) c (F k) ((c - 1) / 2)) ∧ (0 < k → ¬ bLt σ (zu (zu F k (F c)) c (F k) k) (zu (zu F k (F c)) c (F k) ((k - 1) / 2))) := by
  have hkc : k < c := by omega
  have e1 : zu (zu F k (F c)) c (F k) c = F k := zu_eq _ _ _
  have e2 : zu (zu F k (F c)) c (F k) k = F c := by rw [zu_ne _ _ (by omega), zu_eq]
  have e3 : ∀ j, j ≠ c → j ≠ k → zu (zu F k (F c)) c (F k) j = F j := fun j a b => by rw [zu_ne _ _ a, zu_ne _ _ b]
  have hk2 : 0 < k → ¬ bLt σ (F c) (F ((k - 1) / 2)) := (h c hc0 hc (by omega)).1 hp
  refine ⟨fun i h0 hi hne => ⟨fun ic _ => ?_, fun ic => ?_⟩, ?_, fun hk0 => ?_⟩
  · have ik : i ≠ k := by omega
    have := (h i h0 hi ik).2 (by omega)
    rw [ic] at this
    rw [hp, e2, e3 i hne ik]
    exact this
  · by_cases ik : i = k
    · subst ik
      rw [e2, e3 _ (by omega) (by omega)]
      exact hk2 h0
    · rw [e3 i hne ik]
      by_cases c2 : (i - 1) / 2 = k
      · rw [c2, e2]
        exact hl i h0 hi c2
      · rw [e3 _ ic c2]
        exact (h i h0 hi ik).2 c2
  · rw [hp, e1, e2]
    exact bLt_as hb
  · rw [e2, e3 _ (by omega) (by omega)]
    exact hk2 hk0
theorem HP_root {σ : Sg} {F : Nat → Nat} {m : Nat} (h : HP σ F m) : ∀ i, i < m → ¬ bLt σ (F i) (F 0) := by
  intro i
  induction i using Nat.strongRecOn with
  | _ i ih =>
    intro hi
    by_cases c : i = 0
    · subst c
      intro x
      exact bLt_as x x
    · exact bLt_tr (h i (by omega) hi) (ih _ (by omega) (by omega))
/-- the bus whose event comes first -/
theorem nxB_le (σ : Sg) : ∀ k b, b ≤ k → ¬ bLt σ b (nxB σ k) := by
  intro k
  induction k with
  | zero =>
    intro b hb
    have e : b = 0 := by omega
    subst e
    intro x
    exact bLt_as x x
  | succ k ih =>
    intro b hb
    have hn := nxB_lt σ k
    have e : nxB σ (k + 1) = if bF σ (k + 1) 2 < bF σ (nxB σ k) 2 then k + 1 else nxB σ k := rfl
    rw [e]
    by_cases c : bF σ (k + 1) 2 < bF σ (nxB σ k) 2
    · rw [if_pos c]
      by_cases h : b = k + 1
      · subst h
        intro x
        exact bLt_as x x
      · exact bLt_tr (ih b (by omega)) (bLt_as (Or.inl c))
    · rw [if_neg c]
      by_cases h : b = k + 1
      · subst h
        rintro (x | ⟨-, x⟩)
        · exact c x
        · omega
      · exact ih b (by omega)
theorem HP_nx {σ : Sg} {F : Nat → Nat} {m : Nat} (h : HP σ F m) (q : QP F m (fun x => x < m)) (hm : 0 < m) : F 0 = nxB σ (m - 1) := by
  have hn := nxB_lt σ (m - 1)
  obtain ⟨i, hi, e⟩ := q.2.1 (nxB σ (m - 1)) (by omega)
  have a1 := HP_root h i hi
  rw [e] at a1
  have a2 := nxB_le σ (m - 1) (F 0) (by have := q.1 0 hm; omega)
  unfold bLt at a1 a2
  simp only [Int32.lt_iff_toInt_lt, ← Int32.toInt_inj] at a1 a2
  omega
/-- the last one to the root -/
theorem HP_dn {σ : Sg} {F : Nat → Nat} {m k : Nat} (h : HP σ F (m + 1)) (hk : k < m) : DnI σ (zu F k (F m)) k m := by
  intro i h0 hi hne
  rw [zu_ne _ _ hne]
  refine ⟨fun c hk0 => ?_, fun c => ?_⟩
  · rw [zu_ne _ _ (by omega)]
    have a1 := h i h0 (by omega)
    rw [c] at a1
    exact bLt_tr a1 (h k hk0 (by omega))
  · rw [zu_ne _ _ c]
    exact h i h0 (by omega)
theorem HP_cg {σ σ' : Sg} {F : Nat → Nat} {m : Nat} (h : HP σ F m) (e : ∀ i, i < m → bF σ' (F i) 2 = bF σ (F i) 2) : HP σ' F m := by
  intro i h0 hi
  have := h i h0 hi
  unfold bLt at *
  rw [e i hi, e _ (by omega)]
  exact this
theorem HP_sub {σ : Sg} {F : Nat → Nat} {m m' : Nat} (h : HP σ F m) (e : m' ≤ m) : HP σ F m' := fun i h0 hi => h i h0 (by omega)
/-- the first (the one at k) taken away, the last one in its place -/
theorem QP_rm {F : Nat → Nat} {m k : Nat} {P : Nat → Prop} (h : QP F (m + 1) P) (hk : k < m + 1) : QP (zu F k (F m)) m (fun x => P x ∧ x ≠ F k) := by
  obtain ⟨h1, h2, h3⟩ := h
  refine ⟨fun i hi => ?_, fun x hx => ?_, fun i j hi hj e => ?_⟩
  · by_cases c : i = k
    · subst c
      rw [zu_eq]
      exact ⟨h1 _ (by omega), fun e => by have := h3 _ _ (by omega) (by omega) e; omega⟩
    · rw [zu_ne _ _ c]
      exact ⟨h1 _ (by omega), fun e => c (h3 _ _ (by omega) (by omega) e)⟩
  · obtain ⟨i, hi, e⟩ := h2 x hx.1
    have ik : i ≠ k := fun c => hx.2 (by rw [← c]; exact e.symm)
    by_cases c : i = m
    · subst c
      exact ⟨k, by omega, by rw [zu_eq]; exact e⟩
    · exact ⟨i, by omega, by rw [zu_ne _ _ ik]; exact e⟩
  · have key : ∀ i, i < m → ∃ j, j < m + 1 ∧ zu F k (F m) i = F j ∧ ((i = k ∧ j = m) ∨ (i ≠ k ∧ j = i)) := fun i hi => by
      by_cases c : i = k
      · subst c; exact ⟨m, by omega, zu_eq _ _ _, Or.inl ⟨rfl, rfl⟩⟩
      · exact ⟨i, by omega, zu_ne _ _ c, Or.inr ⟨c, rfl⟩⟩
    obtain ⟨i', hi', ei, ci⟩ := key i hi
    obtain ⟨j', hj', ej, cj⟩ := key j hj
    rw [ei, ej] at e
    have := h3 i' j' hi' hj' e
    omega
theorem QP_ad {F : Nat → Nat} {m x : Nat} {P : Nat → Prop} (h : QP F m P) (hx : ¬ P x) : QP (zu F m x) (m + 1) (fun y => P y ∨ y = x) := by
  obtain ⟨h1, h2, h3⟩ := h
  refine ⟨fun i hi => ?_, fun y hy => ?_, fun i j hi hj e => ?_⟩
  · by_cases c : i = m
    · subst c; rw [zu_eq]; exact Or.inr rfl
    · rw [zu_ne _ _ c]; exact Or.inl (h1 i (by omega))
  · rcases hy with hy | hy
    · obtain ⟨i, hi, e⟩ := h2 y hy
      exact ⟨i, by omega, by rw [zu_ne _ _ (by omega)]; exact e⟩
    · exact ⟨m, by omega, by rw [zu_eq]; exact hy.symm⟩
  · by_cases c : i = m
    · by_cases d : j = m
      · omega
      · rw [c, zu_eq, zu_ne _ _ d] at e
        exact absurd (by rw [e]; exact h1 j (by omega)) hx
    · by_cases d : j = m
      · rw [d, zu_eq, zu_ne _ _ c] at e
        exact absurd (by rw [← e]; exact h1 i (by omega)) hx
      · rw [zu_ne _ _ c, zu_ne _ _ d] at e
        exact h3 i j (by omega) (by omega) e
theorem HP_ad {σ : Sg} {F : Nat → Nat} {m x : Nat} (h : HP σ F m) : UpI σ (zu F m x) m (m + 1) := by
  intro i h0 hi hne
  refine ⟨fun c => by omega, fun c => ?_⟩
  rw [zu_ne _ _ hne, zu_ne _ _ c]
  exact h i h0 (by omega)
theorem QP_cg {F : Nat → Nat} {m : Nat} {P P' : Nat → Prop} (h : QP F m P) (e : ∀ x, P x ↔ P' x) : QP F m P' :=
  ⟨fun i hi => (e _).mp (h.1 i hi), fun x hx => h.2.1 x ((e x).mpr hx), h.2.2⟩
