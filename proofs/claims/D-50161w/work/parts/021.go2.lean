/-! running AM: the shapes that the printed rows use -/
section
variable {κ : zC} {m : zM} {pc ln : Nat} {op : Instr} {ls : List (Option Value)} {st : List Value} {h : zH} {Q : zQ}
theorem Go_cst {v w : Int32} {pc' : Nat} (hd : decode (mC m) pc = .ok (op, ln)) (hr : zRet m op ln st = none) (ht : zThr op ln st = none) (hc : zCall m h st op ln = none) (hs : zStep κ m pc op ln ls st h = some (pc', ls, .int v :: st, h)) (e : v = w) : Go κ m pc ls st h Q = Go κ m pc' ls (.int w :: st) h Q := by
  subst e
  exact Go_eq hd hr ht hc hs
theorem Go_csl {v w : Int64} {pc' : Nat} (hd : decode (mC m) pc = .ok (op, ln)) (hr : zRet m op ln st = none) (ht : zThr op ln st = none) (hc : zCall m h st op ln = none) (hs : zStep κ m pc op ln ls st h = some (pc', ls, .long v :: st, h)) (e : v = w) : Go κ m pc ls st h Q = Go κ m pc' ls (.long w :: st) h Q := by
  subst e
  exact Go_eq hd hr ht hc hs
theorem Go_div {y r : Int32} {pc' : Nat} {ls' : List (Option Value)} {st' : List Value} {dc : Decidable (y = 0)} (hd : decode (mC m) pc = .ok (op, ln)) (hr : zRet m op ln st = none) (ht : zThr op ln st = none) (hc : zCall m h st op ln = none) (hs : zStep κ m pc op ln ls st h = (if y = 0 then none else some (Value.int r)).map fun w => (pc', ls', w :: st', h)) : Go κ m pc ls st h Q = ((¬ y = 0) ∧ Go κ m pc' ls' (.int r :: st') h Q) := by
  apply propext
  by_cases h0 : y = 0
  · rw [if_pos h0] at hs
    exact ⟨fun x => absurd x (Go_no hd hr ht hc hs), fun x => absurd h0 x.1⟩
  · rw [if_neg h0] at hs
    rw [Go_eq hd hr ht hc hs]
    exact ⟨fun x => ⟨h0, x⟩, fun x => x.2⟩
theorem Go_ifm {c : Prop} {dc : Decidable c} {v : Value} {pc' : Nat} {ls' : List (Option Value)} {st' : List Value} (hd : decode (mC m) pc = .ok (op, ln)) (hr : zRet m op ln st = none) (ht : zThr op ln st = none) (hc : zCall m h st op ln = none) (hs : zStep κ m pc op ln ls st h = (if c then some v else none).map fun w => (pc', ls', w :: st', h)) : Go κ m pc ls st h Q = (c ∧ Go κ m pc' ls' (v :: st') h Q) := by
  apply propext
  by_cases h0 : c
  · rw [if_pos h0] at hs
    rw [Go_eq hd hr ht hc hs]
    exact ⟨fun x => ⟨h0, x⟩, fun x => x.2⟩
  · rw [if_neg h0] at hs
    exact ⟨fun x => absurd x (Go_no hd hr ht hc hs), fun x => absurd x.1 h0⟩
theorem Go_dup {v : Value} (hd : decode (mC m) pc = .ok (.dup, 1)) : Go κ m pc ls (v :: st) h Q = ((v.category = 1) ∧ Go κ m (pc + 1) ls (v :: v :: st) h Q) := by
  have e : zStep κ m pc .dup 1 ls (v :: st) h = if v.category = 1 then some (pc + 1, ls, v :: v :: st, h) else none := by
    rcases z_cat v with hv | hv <;> cases v <;> first | rfl | cases hv
  exact Go_if hd rfl rfl rfl e rfl
theorem Go_pop {v : Value} (hd : decode (mC m) pc = .ok (.pop, 1)) : Go κ m pc ls (v :: st) h Q = ((v.category = 1) ∧ Go κ m (pc + 1) ls st h Q) := by
  have e : zStep κ m pc .pop 1 ls (v :: st) h = if v.category = 1 then some (pc + 1, ls, st, h) else none := by
    rcases z_cat v with hv | hv <;> cases v <;> first | rfl | cases hv
  exact Go_if hd rfl rfl rfl e rfl
theorem Go_obj {i a : Nat} (hd : decode (mC m) pc = .ok (.invokespecial i, 3)) (hc : zCall m h (.ref a :: st) (.invokespecial i) 3 = none) (hx : zLk (tX (mO m)) i = some 4) : Go κ m pc ls (.ref a :: st) h Q = ((zSum st ≤ 8) ∧ Go κ m (pc + 3) ls st h Q) := by
  have e : zStep κ m pc (.invokespecial i) 3 ls (.ref a :: st) h = if zSum st ≤ 8 then some (pc + 3, ls, st, h) else none := by
    show zSpe κ m pc ls h i 3 (.ref a :: st) = _
    unfold zSpe
    dsimp only
    rw [hx]
    by_cases h0 : zSum st ≤ 8
    · rw [if_pos ⟨rfl, h0⟩, if_pos h0]; rfl
    · rw [if_neg (fun x => h0 x.2), if_neg h0]
  exact Go_if hd rfl rfl hc e rfl
theorem Go_exc {i a : Nat} (hd : decode (mC m) pc = .ok (.invokespecial i, 3)) (hc : zCall m h (.ref a :: st) (.invokespecial i) 3 = none) (hx : zLk (tX (mO m)) i = some 5) : Go κ m pc ls (.ref a :: st) h Q = ((zSum st ≤ 8 ∧ hK h a = 109 ∧ kB κ ≤ a ∧ hV h a 139 = .null) ∧ Go κ m (pc + 3) ls st h Q) := by
  have e : zStep κ m pc (.invokespecial i) 3 ls (.ref a :: st) h = if zSum st ≤ 8 ∧ hK h a = 109 ∧ kB κ ≤ a ∧ hV h a 139 = .null then some (pc + 3, ls, st, h) else none := by
    show zSpe κ m pc ls h i 3 (.ref a :: st) = _
    unfold zSpe
    dsimp only
    rw [hx]
    by_cases h0 : zSum st ≤ 8
    · rw [if_pos ⟨rfl, h0⟩]
      by_cases h1 : hK h a = 109 ∧ kB κ ≤ a ∧ hV h a 139 = .null
      · rw [if_pos ⟨h0, h1⟩]
        show (if _ then _ else _) = _
        rw [if_pos (Or.inr ⟨rfl, h1⟩)]
      · rw [if_neg (fun x => h1 x.2)]
        show (if _ then _ else _) = _
        rw [if_neg]
        rintro (h2 | h2)
        · cases h2
        · exact h1 h2.2
    · rw [if_neg (fun x => h0 x.2), if_neg (fun x => h0 x.1)]
  exact Go_if hd rfl rfl hc e rfl
theorem Go_gcl {i a : Nat} (hd : decode (mC m) pc = .ok (.invokevirtual i, 3)) (hc : zCall m h (.ref a :: st) (.invokevirtual i) 3 = none) (hx : zLk (tX (mO m)) i = some 2) : Go κ m pc ls (.ref a :: st) h Q = ((zSum st ≤ 8 ∧ hK h a = 10 ∧ kB κ ≤ a) ∧ Go κ m (pc + 3) ls (.ref (kM κ 0) :: st) h Q) := by
  have e : zStep κ m pc (.invokevirtual i) 3 ls (.ref a :: st) h = if zSum st ≤ 8 ∧ hK h a = 10 ∧ kB κ ≤ a then some (pc + 3, ls, .ref (kM κ 0) :: st, h) else none := by
    show zVir κ m pc ls h i 3 (.ref a :: st) = _
    unfold zVir
    dsimp only
    rw [hx]
    by_cases h0 : zSum st ≤ 8
    · rw [if_pos ⟨rfl, h0⟩]
      show (if _ then _ else _) = _
      have e2 : ¬ (2 = 3 ∧ hK h a = 3 ∧ kB κ ≤ a ∧ ∀ j, j < hL h a → fits .byte (hV h a j) = true) := fun x => absurd x.1 (by decide)
      rw [if_neg e2]
      by_cases h1 : hK h a = 10 ∧ kB κ ≤ a
      · rw [if_pos (⟨rfl, h1⟩ : 2 = 2 ∧ _), if_pos (⟨h0, h1⟩ : zSum st ≤ 8 ∧ _)]
      · rw [if_neg (fun x : 2 = 2 ∧ hK h a = 10 ∧ kB κ ≤ a => h1 x.2), if_neg (fun x : zSum st ≤ 8 ∧ hK h a = 10 ∧ kB κ ≤ a => h1 x.2)]
    · rw [if_neg (fun x => h0 x.2), if_neg (fun x => h0 x.1)]
  exact Go_if hd rfl rfl hc e rfl
theorem Go_cln {i a : Nat} (hd : decode (mC m) pc = .ok (.invokevirtual i, 3)) (hc : zCall m h (.ref a :: st) (.invokevirtual i) 3 = none) (hx : zLk (tX (mO m)) i = some 3) : Go κ m pc ls (.ref a :: st) h Q = ((zSum st ≤ 8 ∧ hK h a = 3 ∧ kB κ ≤ a ∧ ∀ j, j < hL h a → fits .byte (hV h a j) = true) ∧ Go κ m (pc + 3) ls (.ref (hN h) :: st) (hA h 3 (hL h a) (hL h a) (fun j => hV h a j)) Q) := by
  have e : zStep κ m pc (.invokevirtual i) 3 ls (.ref a :: st) h = if zSum st ≤ 8 ∧ hK h a = 3 ∧ kB κ ≤ a ∧ ∀ j, j < hL h a → fits .byte (hV h a j) = true then some (pc + 3, ls, .ref (hN h) :: st, hA h 3 (hL h a) (hL h a) (fun j => hV h a j)) else none := by
    show zVir κ m pc ls h i 3 (.ref a :: st) = _
    unfold zVir
    dsimp only
    rw [hx]
    by_cases h0 : zSum st ≤ 8
    · rw [if_pos ⟨rfl, h0⟩]
      show (if _ then _ else _) = _
      by_cases h1 : hK h a = 3 ∧ kB κ ≤ a ∧ ∀ j, j < hL h a → fits .byte (hV h a j) = true
      · rw [if_pos (⟨rfl, h1⟩ : 3 = 3 ∧ _), if_pos (⟨h0, h1⟩ : zSum st ≤ 8 ∧ _)]
      · rw [if_neg (fun x : 3 = 3 ∧ _ => h1 x.2), if_neg (fun x : zSum st ≤ 8 ∧ _ => h1 x.2)]
    · rw [if_neg (fun x => h0 x.2), if_neg (fun x => h0 x.1)]
  exact Go_if hd rfl rfl hc e rfl
theorem Go_cv {y : zM} {k b mx : Nat} {vals rest : List Value} (hd : decode (mC m) pc = .ok (op, ln)) (hr : zRet m op ln st = none) (ht : zThr op ln st = none) (hs : zStep κ m pc op ln ls st h = none) (hc : zCall m h st op ln = (zLk [(k, y)] (hK h b)).bind fun y => if zSum rest ≤ 8 ∧ mD y < mD m ∧ zSize vals ≤ mX y then some (y, vals, rest) else none) (hD : mD y < mD m ∧ mX y = mx) : Go κ m pc ls st h Q = ((hK h b = k ∧ zSum rest ≤ 8 ∧ zSize vals ≤ mx) ∧ Ev κ y vals h (zK κ m pc ln ls rest Q)) := by
  obtain ⟨hD, rfl⟩ := hD
  have e : zCall m h st op ln = if hK h b = k ∧ zSum rest ≤ 8 ∧ zSize vals ≤ mX y then some (y, vals, rest) else none := by
    rw [hc]
    show (if k = hK h b then some y else none).bind _ = _
    by_cases h0 : k = hK h b
    · rw [if_pos h0]
      show (if _ then _ else _) = _
      by_cases h1 : zSum rest ≤ 8 ∧ zSize vals ≤ mX y
      · rw [if_pos ⟨h1.1, hD, h1.2⟩, if_pos ⟨h0.symm, h1⟩]
      · rw [if_neg (fun x => h1 ⟨x.1, x.2.2⟩), if_neg (fun x => h1 x.2)]
    · rw [if_neg h0, if_neg (fun x => h0 x.1.symm)]; rfl
  exact Go_ci hd hr ht hs e rfl
theorem Go_cw {y : zM} {tab : List (Nat × zM)} {k b mx : Nat} {vals rest : List Value} (hd : decode (mC m) pc = .ok (op, ln)) (hr : zRet m op ln st = none) (ht : zThr op ln st = none) (hs : zStep κ m pc op ln ls st h = none) (hc : zCall m h st op ln = (zLk tab (hK h b)).bind fun y => if zSum rest ≤ 8 ∧ mD y < mD m ∧ zSize vals ≤ mX y then some (y, vals, rest) else none) (hk : zLk tab k = some y) (hD : mD y < mD m ∧ mX y = mx) (e0 : hK h b = k) : Go κ m pc ls st h Q = ((zSum rest ≤ 8 ∧ zSize vals ≤ mx) ∧ Ev κ y vals h (zK κ m pc ln ls rest Q)) := by
  obtain ⟨hD, rfl⟩ := hD
  have e : zCall m h st op ln = if zSum rest ≤ 8 ∧ zSize vals ≤ mX y then some (y, vals, rest) else none := by
    rw [hc, e0, hk]
    show (if _ then _ else _) = _
    by_cases h1 : zSum rest ≤ 8 ∧ zSize vals ≤ mX y
    · rw [if_pos ⟨h1.1, hD, h1.2⟩, if_pos h1]
    · rw [if_neg (fun x => h1 ⟨x.1, x.2.2⟩), if_neg h1]
  exact Go_ci hd hr ht hs e rfl
end
theorem zr1 {n : Nat} {b : Prop} : (n = n ∧ b) = b := propext ⟨fun x => x.2, fun x => ⟨rfl, x⟩⟩
theorem zr2 {n : Nat} {a a' b : Prop} (e : a = a') : (n = n ∧ a ∧ b) = (a' ∧ b) := by subst e; exact zr1
theorem zr4 {a a' b c d : Prop} (e : a = a') (hd : d) : (a ∧ b ∧ c ∧ d) = (a' ∧ b ∧ c) := by subst e; exact propext ⟨fun x => ⟨x.1, x.2.1, x.2.2.1⟩, fun x => ⟨x.1, x.2.1, x.2.2, hd⟩⟩
theorem zr5 {a b c c' : Prop} (hb : b ∧ c = c') : (a ∧ b ∧ c) = (a ∧ c') := by obtain ⟨hb, rfl⟩ := hb; exact propext ⟨fun x => ⟨x.1, x.2.2⟩, fun x => ⟨x.1, hb, x.2⟩⟩
theorem zr6 {a b c : Prop} {n : Nat} {d : Prop} (hb : b) : (a ∧ b ∧ c ∧ (n = n ∨ d)) = (a ∧ c) := propext ⟨fun x => ⟨x.1, x.2.2.1⟩, fun x => ⟨x.1, hb, x.2, Or.inl rfl⟩⟩
theorem zr7 {a b c d : Prop} (hb : b) : (a ∧ b ∧ c ∧ (1 = 0 ∨ d)) = (a ∧ c ∧ d) := propext ⟨fun x => ⟨x.1, x.2.2.1, x.2.2.2.elim (fun y => absurd y (by decide)) id⟩, fun x => ⟨x.1, hb, x.2.1, Or.inr x.2.2⟩⟩
theorem zr8 {a b c d : Prop} (ha : a) (hc : c) : (a ∧ b ∧ c ∧ d) = (b ∧ d) := propext ⟨fun x => ⟨x.2.1, x.2.2.2⟩, fun x => ⟨ha, x.1, hc, x.2⟩⟩
theorem zq1 {k n : Nat} : (decide (k = n) = true) = (k = n) := by simp
theorem zq2 {k n n' : Nat} : ((decide (k = n) || decide (k = n')) = true) = (k = n ∨ k = n') := by simp
theorem zq3 {k : Nat} : (zRef k = true) = (10 ≤ k ∧ k < 100) := by unfold zRef; simp
def zOks (h : zH) (s d sp n : Nat) : Prop := ∀ j, j < n → zOkE h (hK h d) (hV h s (sp + j)) = true
/-- fields: the kinds that have them -/
theorem zLk_keys {α : Type} {l : List (Nat × α)} (hn : (l.map (·.1)).Nodup) {k : Nat} {b : α} (h : (k, b) ∈ l) : zLk l k = some b := by
  induction l with
  | nil => cases h
  | cons q l ih =>
    obtain ⟨a, c⟩ := q
    rw [List.map_cons, List.nodup_cons] at hn
    unfold zLk
    rcases List.mem_cons.mp h with e | e
    · cases e; rw [if_pos rfl]
    · rw [if_neg, ih hn.2 e]
      intro e2
      subst e2
      exact hn.1 (List.mem_map.mpr ⟨_, e, rfl⟩)
theorem kTab_nd : (kTab.map (·.1)).Nodup := by decide
theorem zpk {g k : Nat} : ((zPos k g).isSome = true) ↔ k ∈ ((kTab.filter fun q => (zLk q.2.2 g).isSome).map (·.1)) := by
  constructor
  · intro h
    obtain ⟨ci, fl, j, h1, h2⟩ := zPos_spec h
    exact List.mem_map.mpr ⟨(k, ci, fl), List.mem_filter.mpr ⟨zLk_mem h1, by dsimp only; rw [h2]; rfl⟩, rfl⟩
  · intro h
    obtain ⟨⟨k', ci, fl⟩, h1, h2⟩ := List.mem_map.mp h
    obtain ⟨h3, h4⟩ := List.mem_filter.mp h1
    dsimp only at h2 h4
    subst h2
    unfold zPos
    rw [zLk_keys kTab_nd h3]
    exact h4
theorem zpOf {g k : Nat} {l : List Nat} (hl : ((kTab.filter fun q => (zLk q.2.2 g).isSome).map (·.1)) = l) : ((zPos k g).isSome = true) = (k ∈ l) := by
  subst hl; exact propext zpk
/-- switches -/
def zSwi (f : Nat → Prop) (d : Nat) (x : Int32) : List (Int32 × Nat) → Prop
  | [] => f d
  | (k, t) :: l => if x = k then f t else zSwi f d x l
def zSwt (d : Nat) (x : Int32) : List (Int32 × Nat) → Nat
  | [] => d
  | (k, t) :: l => if x = k then t else zSwt d x l
theorem zSwi_t {f : Nat → Prop} {d : Nat} {x : Int32} : ∀ {l : List (Int32 × Nat)}, zSwi f d x l = f (zSwt d x l) := by
  intro l
  induction l with
  | nil => rfl
  | cons q l ih =>
    obtain ⟨k, t⟩ := q
    unfold zSwi zSwt
    split
    · rfl
    · exact ih
theorem zSwt_in {d : Nat} {x : Int32} {t : Nat} {l : List (Int32 × Nat)} (hn : (l.map (·.1)).Nodup) (h : (x, t) ∈ l) : zSwt d x l = t := by
  induction l with
  | nil => cases h
  | cons q l ih =>
    obtain ⟨a, c⟩ := q
    rw [List.map_cons, List.nodup_cons] at hn
    unfold zSwt
    rcases List.mem_cons.mp h with e | e
    · cases e; rw [if_pos rfl]
    · rw [if_neg, ih hn.2 e]
      intro e2
      subst e2
      exact hn.1 (List.mem_map.mpr ⟨_, e, rfl⟩)
theorem zSwt_no {d : Nat} {x : Int32} {l : List (Int32 × Nat)} (h : ∀ q ∈ l, q.1 ≠ x) : zSwt d x l = d := by
  induction l with
  | nil => rfl
  | cons q l ih =>
    obtain ⟨a, c⟩ := q
    unfold zSwt
    rw [if_neg (fun e => h _ List.mem_cons_self e.symm)]
    exact ih fun q hq => h q (List.mem_cons_of_mem _ hq)
theorem zJmp_of {pc t : Nat} {off : Int} (h : (pc : Int) + off = t) : zJmp pc off = some t := by
  unfold zJmp
  rw [h, if_pos (Int.natCast_nonneg t)]
  rfl
def zTck (pc : Nat) (d lo hi : Int) (offs : List Int) (dd : Nat) (tab : List (Int32 × Nat)) : Bool :=
  decide ((pc : Int) + d = dd) && (decide (hi + 1 = lo + tab.length) && (decide (offs = tab.map fun q => (q.2 : Int) - pc) && (decide ((tab.map fun q => q.1.toInt) = (List.range tab.length).map fun i : Nat => lo + (i : Int)) && decide (tab.map (·.1)).Nodup)))
theorem zTck_ok {pc : Nat} {d lo hi : Int} {offs : Array Int} {dd : Nat} {tab : List (Int32 × Nat)} (hk : zTck pc d lo hi offs.toList dd tab = true) (x : Int32) : (zSw (.tableswitch d lo hi offs) x).bind (zJmp pc) = some (zSwt dd x tab) := by
  unfold zTck at hk
  simp only [Bool.and_eq_true, decide_eq_true_eq] at hk
  obtain ⟨h1, h2, h3, h4, h5⟩ := hk
  have key : ∀ i : Nat, ∀ hi : i < tab.length, (tab[i]).1.toInt = lo + i := by
    intro i hi
    have e := congrArg (fun l => l[i]?) h4
    simp [hi] at e
    exact e
  unfold zSw
  dsimp only
  by_cases hx : x.toInt < lo ∨ hi < x.toInt
  · rw [if_pos hx]
    show zJmp pc d = _
    rw [zJmp_of h1, zSwt_no]
    intro q hq e
    obtain ⟨i, hi', e2⟩ := List.getElem_of_mem hq
    have := key i hi'
    rw [e2, e] at this
    omega
  · rw [if_neg hx]
    have hl : (x.toInt - lo).toNat < tab.length := by omega
    have hk := key _ hl
    have hkx : (tab[(x.toInt - lo).toNat]).1 = x := Int32.toInt_inj.mp (by rw [hk]; omega)
    have ho : offs[(x.toInt - lo).toNat]? = some (((tab[(x.toInt - lo).toNat]).2 : Int) - pc) := by
      rw [← Array.getElem?_toList, h3]
      simp [hl]
    rw [ho]
    show zJmp pc _ = _
    rw [zJmp_of (t := (tab[(x.toInt - lo).toNat]).2) (by omega), zSwt_in h5]
    have h9 : ∀ q : Int32 × Nat, q ∈ tab → q.1 = x → (x, q.2) ∈ tab := by
      intro q hq e
      rw [← e]
      exact hq
    exact h9 _ (List.getElem_mem hl) hkx
def zLck (pc : Nat) (d : Int) (ps : List (Int × Int)) (dd : Nat) (tab : List (Int32 × Nat)) : Bool :=
  decide ((pc : Int) + d = dd) && decide (ps = tab.map fun q => (q.1.toInt, (q.2 : Int) - pc))
theorem zLck_off {pc : Nat} {d : Int} {dd : Nat} (h1 : (pc : Int) + d = dd) (x : Int32) : ∀ tab : List (Int32 × Nat), zJmp pc (Op.lookupswitch.offset (tab.map fun q => (q.1.toInt, (q.2 : Int) - pc)) d x.toInt) = some (zSwt dd x tab) := by
  intro tab
  induction tab with
  | nil => exact zJmp_of h1
  | cons q l ih =>
    obtain ⟨k, t⟩ := q
    rw [List.map_cons, Op.lookupswitch.offset_cons]
    unfold zSwt
    by_cases e : x = k
    · subst e
      rw [if_pos rfl, if_pos rfl]
      exact zJmp_of (by omega)
    · rw [if_neg e, if_neg (fun e2 => e (Int32.toInt_inj.mp e2).symm)]
      exact ih
section
variable {κ : zC} {m : zM} {pc ln : Nat} {ls : List (Option Value)} {st : List Value} {h : zH} {Q : zQ}
theorem Go_tsw {d lo hi : Int} {offs : Array Int} {dd : Nat} {tab : List (Int32 × Nat)} {x : Int32} (hd : decode (mC m) pc = .ok (.tableswitch d lo hi offs, ln)) (hk : zTck pc d lo hi offs.toList dd tab = true) : Go κ m pc ls (.int x :: st) h Q = zSwi (fun t => Go κ m t ls st h Q) dd x tab := by
  rw [zSwi_t]
  have e := zTck_ok hk x
  refine Go_eq (q := (zSwt dd x tab, ls, st, h)) hd rfl rfl rfl ?_
  show (zSw (.tableswitch d lo hi offs) x).bind (fun off => (zJmp pc off).map fun t => (t, ls, st, h)) = _
  cases hs : zSw (.tableswitch d lo hi offs) x with
  | none => rw [hs] at e; cases e
  | some off => rw [hs] at e; show (zJmp pc off).map _ = _; rw [show zJmp pc off = _ from e]; rfl
theorem Go_lsw {d : Int} {ps : Array (Int × Int)} {dd : Nat} {tab : List (Int32 × Nat)} {x : Int32} (hd : decode (mC m) pc = .ok (.lookupswitch d ps, ln)) (hk : zLck pc d ps.toList dd tab = true) (hs : (ps.toList.zip (ps.toList.drop 1)).all (fun (a, next) => a.1 < next.1) = true) : Go κ m pc ls (.int x :: st) h Q = zSwi (fun t => Go κ m t ls st h Q) dd x tab := by
  rw [zSwi_t]
  unfold zLck at hk
  simp only [Bool.and_eq_true, decide_eq_true_eq] at hk
  obtain ⟨h1, h2⟩ := hk
  have e := zLck_off h1 x tab
  refine Go_eq (q := (zSwt dd x tab, ls, st, h)) hd rfl rfl rfl ?_
  show (if (ps.toList.zip (ps.toList.drop 1)).all (fun (a, next) => a.1 < next.1) = true then some (Op.lookupswitch.offset ps.toList d x.toInt) else none).bind (fun off => (zJmp pc off).map fun t => (t, ls, st, h)) = _
  rw [if_pos hs, h2]
  show (zJmp pc _).map _ = _
  rw [e]; rfl
end
section
variable {κ : zC} {m : zM} {pc : Nat} {ls : List (Option Value)} {st : List Value} {h : zH} {i n : Nat}
theorem zsS (hx : zLk (tX (mO m)) i = none) : zStep κ m pc (.invokestatic i) 3 ls st h = none := by
  show zCpy κ m pc ls h i 3 st = none
  unfold zCpy
  split
  · rw [if_neg]
    rintro ⟨-, -, h2, -⟩
    rw [hx] at h2; cases h2
  · rfl
theorem zsI (hx : zLk (tX (mO m)) i = none) : zStep κ m pc (.invokespecial i) 3 ls st h = none := by
  show zSpe κ m pc ls h i 3 st = none
  unfold zSpe
  split
  · split
    · rw [hx]; rfl
    · rfl
  · rfl
theorem zsV (hx : zLk (tX (mO m)) i = none) : zStep κ m pc (.invokevirtual i) 3 ls st h = none := by
  show zVir κ m pc ls h i 3 st = none
  unfold zVir
  split
  · split
    · rw [hx]; rfl
    · rfl
  · rfl
theorem zsF (hx : zLk (tX (mO m)) i = none) : zStep κ m pc (.invokeinterface i n) 5 ls st h = none := by
  show zItf κ m pc ls h i 5 st = none
  unfold zItf
  split
  · rw [if_neg]
    rintro ⟨-, -, h2, -⟩
    rw [hx] at h2; cases h2
  · rfl
end
section
variable {κ : zC} {m : zM} {pc ln : Nat} {op : Instr} {ls : List (Option Value)} {st : List Value} {h : zH} {Q : zQ}
theorem Go_brT {P : Prop} {dP : Decidable P} {t f : Nat} {st' : List Value} (hd : decode (mC m) pc = .ok (op, ln)) (hr : zRet m op ln st = none) (ht : zThr op ln st = none) (hc : zCall m h st op ln = none) (hs : zStep κ m pc op ln ls st h = some (if decide P = true then t else f, ls, st', h)) (c : P) : Go κ m pc ls st h Q = Go κ m t ls st' h Q := (Go_br hd hr ht hc hs).trans (if_pos c)
theorem Go_brF {P : Prop} {dP : Decidable P} {t f : Nat} {st' : List Value} (hd : decode (mC m) pc = .ok (op, ln)) (hr : zRet m op ln st = none) (ht : zThr op ln st = none) (hc : zCall m h st op ln = none) (hs : zStep κ m pc op ln ls st h = some (if decide P = true then t else f, ls, st', h)) (c : ¬ P) : Go κ m pc ls st h Q = Go κ m f ls st' h Q := (Go_br hd hr ht hc hs).trans (if_neg c)
end
