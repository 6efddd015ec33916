/-! words: keywords as texts; the order of names (no program in sight) -/
def kwT : Nat → String
  | 0 => "open"
  | 1 => "on"
  | 2 => "down"
  | 3 => "headway"
  | 4 => "cap"
  | 5 => "patience"
  | 6 => "round"
  | 7 => "mode"
  | 8 => "stop"
  | 9 => "drive"
  | 10 => "off"
  | 11 => "point"
  | 12 => "bus"
  | 13 => "start"
  | 14 => "from"
  | 15 => "to"
  | 16 => "every"
  | _ => "first"
def kwS (j : Nat) : List Int32 := strL (kwT j)
theorem kwS_facts : ∀ j : Fin 18, (kwS j.val).length ≤ 8 ∧ 1 ≤ (kwS j.val).length ∧ wdP (kwS j.val) (kwS j.val).length = kwC j.val ∧ wordL (kwC j.val) = kwS j.val := by decide +kernel
theorem wdP_cg {g g' : List Int32} : ∀ {r : Nat}, (∀ k, k < r → g[k]? = g'[k]?) → wdP g r = wdP g' r := by
  intro r
  induction r with
  | zero => intro _; rfl
  | succ r ih =>
    intro h
    unfold wdP
    rw [ih fun k hk => h k (by omega), h r (by omega)]
theorem allL_len {g : List Int32} {r : Nat} (h : allL g r) : r ≤ g.length := by
  rcases Nat.lt_or_ge g.length r with c | c
  · obtain ⟨x, hx, _⟩ := h g.length c
    rw [List.getElem?_eq_none (Nat.le_refl _)] at hx
    cases hx
  · exact c
theorem kw_iff {g : List Int32} {r j : Nat} (hj : j < 18) (h : allL g r) : (r < 9 ∧ wdP g r = kwC j) ↔ g.take r = kwS j := by
  obtain ⟨f1, f2, f3, f4⟩ := kwS_facts ⟨j, hj⟩
  dsimp only at f1 f2 f3 f4
  have hl := allL_len h
  have tl : (g.take r).length = r := by rw [List.length_take]; omega
  constructor
  · rintro ⟨h9, e⟩
    rw [← f4, ← e]
    exact (wordL_wdP (by omega) h).symm
  · intro e
    have hr : r = (kwS j).length := by rw [← e, tl]
    refine ⟨by omega, ?_⟩
    rw [← f3, ← hr]
    refine wdP_cg fun k hk => ?_
    rw [← e, List.getElem?_take_of_lt hk]
theorem kwS_inj : ∀ i j : Fin 18, kwS i.val = kwS j.val → i = j := by decide +kernel
/-- comparing texts as the library does -/
def mmF : List Int32 → List Int32 → Nat
  | x :: l, y :: m => if x = y then mmF l m + 1 else 0
  | _, _ => 0
theorem mmF_le : ∀ (l m : List Int32), mmF l m ≤ l.length ∧ mmF l m ≤ m.length := by
  intro l
  induction l with
  | nil => intro m; exact ⟨Nat.zero_le _, Nat.zero_le _⟩
  | cons x l ih =>
    intro m
    cases m with
    | nil => exact ⟨Nat.zero_le _, Nat.zero_le _⟩
    | cons y m =>
      unfold mmF
      have := ih m
      split
      · simp only [List.length_cons]; omega
      · exact ⟨Nat.zero_le _, Nat.zero_le _⟩
theorem mmF_lt : ∀ {l m : List Int32} {k : Nat}, k < mmF l m → l[k]? = m[k]? := by
  intro l
  induction l with
  | nil => intro m k h; cases h
  | cons x l ih =>
    intro m k h
    cases m with
    | nil => cases h
    | cons y m =>
      unfold mmF at h
      split at h
      · next e =>
        cases k with
        | zero => rw [e]; rfl
        | succ k => exact ih (by omega)
      · cases h
theorem mmF_at : ∀ {l m : List Int32} {x y : Int32}, l[mmF l m]? = some x → m[mmF l m]? = some y → x ≠ y := by
  intro l
  induction l with
  | nil => intro m x y h; cases h
  | cons a l ih =>
    intro m x y hx hy
    cases m with
    | nil => cases hy
    | cons b m =>
      unfold mmF at hx hy
      split at hx
      · next e =>
        rw [if_pos e] at hy
        exact ih hx hy
      · next e =>
        rw [if_neg e] at hy
        cases hx
        cases hy
        exact e
def cmpI (l m : List Int32) : Int32 := if mmF l m < min l.length m.length then (l[mmF l m]?).getD 0 - (m[mmF l m]?).getD 0 else Int32.ofNat l.length - Int32.ofNat m.length
/-- a name's number -/
def kNp : Nat → List Int32 → Nat
  | 0, _ => 0
  | _, [] => 0
  | p + 1, x :: l => ltD x * 32 ^ p + kNp p l
def kN (l : List Int32) : Nat := kNp 6 l
theorem kNp_lt : ∀ (p : Nat) (l : List Int32), (∀ x ∈ l, isL x = true) → kNp p l < 32 ^ p := by
  intro p
  induction p with
  | zero => intro l _; show kNp 0 l < 1; unfold kNp; exact Nat.zero_lt_one
  | succ p ih =>
    intro l h
    cases l with
    | nil => exact Nat.pow_pos (by decide)
    | cons x l =>
      unfold kNp
      have h1 := ih l fun y hy => h y (List.mem_cons_of_mem _ hy)
      obtain ⟨_, h2, h3⟩ := isL_n (h x List.mem_cons_self)
      have h4 : ltD x * 32 ^ p ≤ 26 * 32 ^ p := Nat.mul_le_mul_right _ h3
      rw [Nat.pow_succ]
      omega
/-- the first difference tells -/
theorem kNp_cmp : ∀ (l m : List Int32) (p : Nat), (∀ x ∈ l, isL x = true) → (∀ x ∈ m, isL x = true) → l.length ≤ p → m.length ≤ p →
    (mmF l m < min l.length m.length → ((l[mmF l m]?).getD 0).toInt < ((m[mmF l m]?).getD 0).toInt ∧ kNp p l < kNp p m ∨ ((m[mmF l m]?).getD 0).toInt < ((l[mmF l m]?).getD 0).toInt ∧ kNp p m < kNp p l) ∧
    (¬ mmF l m < min l.length m.length → (l.length < m.length ∧ kNp p l < kNp p m) ∨ (m.length < l.length ∧ kNp p m < kNp p l) ∨ (l = m)) := by
  intro l
  induction l with
  | nil =>
    intro m p _ hm _ hp
    refine ⟨fun h => by simp at h, fun _ => ?_⟩
    cases m with
    | nil => exact Or.inr (Or.inr rfl)
    | cons y m =>
      left
      cases p with
      | zero => simp at hp
      | succ p =>
        refine ⟨Nat.succ_pos _, ?_⟩
        have : kNp (p + 1) [] = 0 := rfl
        rw [this]
        unfold kNp
        obtain ⟨_, h2, _⟩ := isL_n (hm y List.mem_cons_self)
        have : 1 * 32 ^ p ≤ ltD y * 32 ^ p := Nat.mul_le_mul_right _ h2
        have : 0 < 32 ^ p := Nat.pow_pos (by decide)
        omega
  | cons x l ih =>
    intro m p hl hm hp hq
    cases p with
    | zero => simp at hp
    | succ p =>
      cases m with
      | nil =>
        refine ⟨fun h => by simp at h, fun _ => Or.inr (Or.inl ⟨Nat.succ_pos _, ?_⟩)⟩
        have : kNp (p + 1) [] = 0 := rfl
        rw [this]
        unfold kNp
        obtain ⟨_, h2, _⟩ := isL_n (hl x List.mem_cons_self)
        have : 1 * 32 ^ p ≤ ltD x * 32 ^ p := Nat.mul_le_mul_right _ h2
        have : 0 < 32 ^ p := Nat.pow_pos (by decide)
        omega
      | cons y m =>
        have ex : kNp (p + 1) (x :: l) = ltD x * 32 ^ p + kNp p l := rfl
        have ey : kNp (p + 1) (y :: m) = ltD y * 32 ^ p + kNp p m := rfl
        have hl' : ∀ z ∈ l, isL z = true := fun z hz => hl z (List.mem_cons_of_mem _ hz)
        have hm' : ∀ z ∈ m, isL z = true := fun z hz => hm z (List.mem_cons_of_mem _ hz)
        by_cases c : x = y
        · have e : mmF (x :: l) (y :: m) = mmF l m + 1 := by
            show (if x = y then _ else _) = _
            rw [if_pos c]
          obtain ⟨i1, i2⟩ := ih m p hl' hm' (by simpa using hp) (by simpa using hq)
          rw [e, ex, ey, c]
          have mn : mmF l m + 1 < min (y :: l).length (y :: m).length ↔ mmF l m < min l.length m.length := by
            simp only [List.length_cons, Nat.lt_min]
            omega
          refine ⟨fun h => ?_, fun h => ?_⟩
          · rcases i1 (mn.mp h) with ⟨a, b⟩ | ⟨a, b⟩
            · exact Or.inl ⟨a, by omega⟩
            · exact Or.inr ⟨a, by omega⟩
          · rcases i2 (fun z => h (mn.mpr z)) with ⟨a, b⟩ | ⟨a, b⟩ | a
            · exact Or.inl ⟨by simpa using a, by omega⟩
            · exact Or.inr (Or.inl ⟨by simpa using a, by omega⟩)
            · exact Or.inr (Or.inr (by rw [a]))
        · have e : mmF (x :: l) (y :: m) = 0 := by
            show (if x = y then _ else _) = _
            rw [if_neg c]
          rw [e, ex, ey]
          obtain ⟨x1, x2, x3⟩ := isL_n (hl x List.mem_cons_self)
          obtain ⟨y1, y2, y3⟩ := isL_n (hm y List.mem_cons_self)
          have k1 := kNp_lt p l hl'
          have k2 := kNp_lt p m hm'
          refine ⟨fun _ => ?_, fun h => absurd (show 0 < min (x :: l).length (y :: m).length by simp only [List.length_cons, Nat.lt_min]; omega) h⟩
          show x.toInt < y.toInt ∧ _ ∨ y.toInt < x.toInt ∧ _
          have hx := congrArg Int32.toInt x1
          have hy := congrArg Int32.toInt y1
          rw [I_toInt (by omega)] at hx hy
          have hne : ltD x ≠ ltD y := fun z => c (by rw [x1, y1, z])
          rcases Nat.lt_or_ge (ltD x) (ltD y) with d | d
          · left
            have : (ltD x + 1) * 32 ^ p ≤ ltD y * 32 ^ p := Nat.mul_le_mul_right _ d
            rw [Nat.succ_mul] at this
            omega
          · right
            have : (ltD y + 1) * 32 ^ p ≤ ltD x * 32 ^ p := Nat.mul_le_mul_right _ (by omega)
            rw [Nat.succ_mul] at this
            omega
def nmL6 (l : List Int32) : Prop := l.length ≤ 6 ∧ ∀ x ∈ l, isL x = true
theorem cmpI_s {l m : List Int32} (hl : nmL6 l) (hm : nmL6 m) : (cmpI l m < Int32.ofNat 0 ∧ kN l < kN m) ∨ (Int32.ofNat 0 < cmpI l m ∧ kN m < kN l) ∨ (cmpI l m = Int32.ofNat 0 ∧ l = m) := by
  obtain ⟨h1, h2⟩ := kNp_cmp l m 6 hl.2 hm.2 hl.1 hm.1
  have z : (Int32.ofNat 0).toInt = 0 := by decide
  have le := mmF_le l m
  have asc : ∀ {x : Int32}, isL x = true → 0 ≤ x.toInt ∧ x.toInt ≤ 127 := fun {x} hx => by
    obtain ⟨x1, x2, x3⟩ := isL_n hx
    rw [x1, I_toInt (by omega)]
    omega
  have sb : ∀ x y : Int32, 0 ≤ x.toInt ∧ x.toInt ≤ 127 → 0 ≤ y.toInt ∧ y.toInt ≤ 127 → (x - y).toInt = x.toInt - y.toInt := fun x y hx hy => by
    rw [Int32.toInt_sub]
    have : (x.toInt - y.toInt).bmod (2 ^ 32) = x.toInt - y.toInt := by rw [Int.bmod_eq_of_le] <;> omega
    exact this
  unfold cmpI kN
  by_cases c : mmF l m < min l.length m.length
  · rw [if_pos c]
    have c' := Nat.lt_min.mp c
    have hx : l[mmF l m]? = some l[mmF l m] := List.getElem?_eq_getElem c'.1
    have hy : m[mmF l m]? = some m[mmF l m] := List.getElem?_eq_getElem c'.2
    have ax := asc (hl.2 _ (List.getElem_mem c'.1))
    have ay := asc (hm.2 _ (List.getElem_mem c'.2))
    have h := h1 c
    rw [hx, hy] at h ⊢
    simp only [Option.getD_some] at h ⊢
    generalize l[mmF l m] = x at *
    generalize m[mmF l m] = y at *
    have s := sb x y ax ay
    rcases h with ⟨a, b⟩ | ⟨a, b⟩
    · exact Or.inl ⟨by rw [Int32.lt_iff_toInt_lt, s, z]; omega, b⟩
    · exact Or.inr (Or.inl ⟨by rw [Int32.lt_iff_toInt_lt, s, z]; omega, b⟩)
  · rw [if_neg c]
    have l1 : (Int32.ofNat l.length).toInt = l.length := I_toInt (by have := hl.1; omega)
    have l2 : (Int32.ofNat m.length).toInt = m.length := I_toInt (by have := hm.1; omega)
    have s := sb (Int32.ofNat l.length) (Int32.ofNat m.length) (by have := hl.1; omega) (by have := hm.1; omega)
    rcases h2 c with ⟨a, b⟩ | ⟨a, b⟩ | a
    · exact Or.inl ⟨by rw [Int32.lt_iff_toInt_lt, s, z]; omega, b⟩
    · exact Or.inr (Or.inl ⟨by rw [Int32.lt_iff_toInt_lt, s, z]; omega, b⟩)
    · refine Or.inr (Or.inr ⟨?_, a⟩)
      rw [a]
      exact Int32.sub_self _
