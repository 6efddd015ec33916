/-! running AM: equations for 'Go', one an opcode; rows are printed by gen/print_rows.py -/
abbrev zQ : Type := (Option Value ⊕ Nat) → zH → Prop
section
variable {κ : zC} {m : zM} {pc ln : Nat} {op : Instr} {ls : List (Option Value)} {st : List Value} {h : zH} {Q : zQ}
theorem Go_run {q : zR} (e : ∀ n, zRun κ (n + 1) m pc ls st h = zRun κ n m q.1 q.2.1 q.2.2.1 q.2.2.2) : Go κ m pc ls st h Q = Go κ m q.1 q.2.1 q.2.2.1 q.2.2.2 Q := by
  apply propext
  constructor
  · rintro ⟨n, r, h', h1, h2⟩
    cases n with
    | zero => cases h1
    | succ n => exact ⟨n, r, h', (e n) ▸ h1, h2⟩
  · rintro ⟨n, r, h', h1, h2⟩
    exact ⟨n + 1, r, h', (e n).trans h1, h2⟩
theorem Go_eq {q : zR} (hd : decode (mC m) pc = .ok (op, ln)) (hr : zRet m op ln st = none) (ht : zThr op ln st = none) (hc : zCall m h st op ln = none) (hs : zStep κ m pc op ln ls st h = some q) : Go κ m pc ls st h Q = Go κ m q.1 q.2.1 q.2.2.1 q.2.2.2 Q := by
  apply Go_run
  intro n
  rw [zRun, hd]
  simp only [hr, ht, hc, hs]
theorem Go_no (hd : decode (mC m) pc = .ok (op, ln)) (hr : zRet m op ln st = none) (ht : zThr op ln st = none) (hc : zCall m h st op ln = none) (hs : zStep κ m pc op ln ls st h = none) : ¬ Go κ m pc ls st h Q := by
  rintro ⟨n, r, h', h1, h2⟩
  cases n with
  | zero => cases h1
  | succ n =>
    rw [zRun, hd] at h1
    simp only [hr, ht, hc, hs] at h1
    cases h1
theorem Go_if {q : zR} {c c' : Prop} {dc : Decidable c} (hd : decode (mC m) pc = .ok (op, ln)) (hr : zRet m op ln st = none) (ht : zThr op ln st = none) (hc : zCall m h st op ln = none) (hs : zStep κ m pc op ln ls st h = if c then some q else none) (e : c = c') : Go κ m pc ls st h Q = (c' ∧ Go κ m q.1 q.2.1 q.2.2.1 q.2.2.2 Q) := by
  subst e
  apply propext
  by_cases h0 : c
  · rw [if_pos h0] at hs
    rw [Go_eq hd hr ht hc hs]
    exact ⟨fun x => ⟨h0, x⟩, fun x => x.2⟩
  · rw [if_neg h0] at hs
    exact ⟨fun x => absurd x (Go_no hd hr ht hc hs), fun x => absurd x.1 h0⟩
theorem Go_br {P : Prop} {dP : Decidable P} {t f : Nat} {st' : List Value} (hd : decode (mC m) pc = .ok (op, ln)) (hr : zRet m op ln st = none) (ht : zThr op ln st = none) (hc : zCall m h st op ln = none) (hs : zStep κ m pc op ln ls st h = some (if decide P = true then t else f, ls, st', h)) : Go κ m pc ls st h Q = if P then Go κ m t ls st' h Q else Go κ m f ls st' h Q := by
  rw [Go_eq hd hr ht hc hs]
  dsimp only
  by_cases h0 : P
  · rw [if_pos h0, if_pos (decide_eq_true h0)]
  · rw [if_neg h0, if_neg (fun x => h0 (of_decide_eq_true x))]
theorem Go_ret {v : Option Value} (hd : decode (mC m) pc = .ok (op, ln)) (hr : zRet m op ln st = some v) : Go κ m pc ls st h Q = Q (.inl v) h := by
  apply propext
  constructor
  · rintro ⟨n, r, h', h1, h2⟩
    cases n with
    | zero => cases h1
    | succ n =>
      rw [zRun, hd] at h1
      simp only [hr] at h1
      cases h1
      exact h2
  · intro h2
    exact ⟨1, _, _, by rw [zRun, hd]; simp only [hr], h2⟩
theorem Go_reti {v : Option Value} {c : Prop} {dc : Decidable c} (hd : decode (mC m) pc = .ok (op, ln)) (ht : zThr op ln st = none) (hc : zCall m h st op ln = none) (hs : zStep κ m pc op ln ls st h = none) (hr : zRet m op ln st = if c then some v else none) : Go κ m pc ls st h Q = (c ∧ Q (.inl v) h) := by
  apply propext
  by_cases h0 : c
  · rw [if_pos h0] at hr
    rw [Go_ret hd hr]
    exact ⟨fun x => ⟨h0, x⟩, fun x => x.2⟩
  · rw [if_neg h0] at hr
    exact ⟨fun x => absurd x (Go_no hd hr ht hc hs), fun x => absurd x.1 h0⟩
/-- behind a call -/
def zK (κ : zC) (m : zM) (pc : Nat) (ln : Nat) (ls : List (Option Value)) (st : List Value) (Q : zQ) : zQ := fun r h => match r with
  | .inl v => Go κ m (pc + ln) ls (v.toList ++ st) h Q
  | .inr q => match zHan m pc with
    | some t => Go κ m t ls [.ref q] h Q
    | none => Q (.inr q) h
theorem zRun_up {κ : zC} : ∀ {n : Nat} {m : zM} {pc : Nat} {ls : List (Option Value)} {st : List Value} {h : zH} {o : zO}, zRun κ n m pc ls st h = some o → zRun κ (n + 1) m pc ls st h = some o := by
  intro n
  induction n with
  | zero => intro m pc ls st h o hz; cases hz
  | succ n ih =>
    intro m pc ls st h o hz
    rw [zRun] at hz
    split at hz
    · cases hz
    · next op ln hd =>
      split at hz
      · next v hr => rw [zRun, hd]; simp only [hr]; exact hz
      · next hr =>
        split at hz
        · next q ht =>
          split at hz
          · next t h1 =>
            split at hz
            · next h2 => rw [zRun, hd]; simp only [hr, ht, h1]; rw [if_pos h2]; exact ih hz
            · cases hz
          · next h1 => rw [zRun, hd]; simp only [hr, ht, h1]; exact hz
        · next ht =>
          split at hz
          · next y args rest hc =>
            split at hz
            · next v h1 he => rw [zRun, hd]; simp only [hr, ht, hc]; rw [ih he]; exact ih hz
            · next q h1 he =>
              split at hz
              · next t h2 => rw [zRun, hd]; simp only [hr, ht, hc]; rw [ih he]; dsimp only; rw [h2]; exact ih hz
              · next h2 => rw [zRun, hd]; simp only [hr, ht, hc]; rw [ih he]; dsimp only; rw [h2]; exact hz
            · cases hz
          · next hc =>
            split at hz
            · next hs => rw [zRun, hd]; simp only [hr, ht, hc, hs]; exact ih hz
            · cases hz
theorem zRun_le_n {κ : zC} {n k : Nat} {m : zM} {pc : Nat} {ls : List (Option Value)} {st : List Value} {h : zH} {o : zO} (hz : zRun κ n m pc ls st h = some o) (hk : n ≤ k) : zRun κ k m pc ls st h = some o := by
  induction hk with
  | refl => exact hz
  | step _ ih => exact zRun_up ih
theorem Go_cs {y : zM} {vals rest : List Value} (hd : decode (mC m) pc = .ok (op, ln)) (hr : zRet m op ln st = none) (ht : zThr op ln st = none) (hc : zCall m h st op ln = some (y, vals, rest)) : Go κ m pc ls st h Q = Ev κ y vals h (zK κ m pc ln ls rest Q) := by
  apply propext
  constructor
  · rintro ⟨n, r, h', h1, h2⟩
    cases n with
    | zero => cases h1
    | succ n =>
      rw [zRun, hd] at h1
      simp only [hr, ht, hc] at h1
      split at h1
      · next v h3 he => exact ⟨n, _, _, he, n, r, h', h1, h2⟩
      · next q h3 he =>
        refine ⟨n, _, _, he, ?_⟩
        show match zHan m pc with
          | some t => Go κ m t ls [.ref q] h3 Q
          | none => Q (.inr q) h3
        split at h1
        · next t e => rw [e]; exact ⟨n, r, h', h1, h2⟩
        · next e => rw [e]; cases h1; exact h2
      · cases h1
  · rintro ⟨n, r, h1, he, hk⟩
    cases r with
    | inl v =>
      obtain ⟨k, r', h', h3, h4⟩ := hk
      refine ⟨n + k + 1, r', h', ?_, h4⟩
      rw [zRun, hd]
      simp only [hr, ht, hc]
      rw [zRun_le_n he (by omega : n ≤ n + k)]
      exact zRun_le_n h3 (by omega)
    | inr q =>
      have hk' : match zHan m pc with
          | some t => Go κ m t ls [.ref q] h1 Q
          | none => Q (.inr q) h1 := hk
      split at hk'
      · next t e =>
        obtain ⟨k, r', h', h3, h4⟩ := hk'
        refine ⟨n + k + 1, r', h', ?_, h4⟩
        rw [zRun, hd]
        simp only [hr, ht, hc]
        rw [zRun_le_n he (by omega : n ≤ n + k)]
        dsimp only
        rw [e]
        exact zRun_le_n h3 (by omega)
      · next e =>
        refine ⟨n + 1, .inr q, h1, ?_, hk'⟩
        rw [zRun, hd]
        simp only [hr, ht, hc]
        rw [he]
        dsimp only
        rw [e]
theorem Go_ci {y : zM} {vals rest : List Value} {c c' : Prop} {dc : Decidable c} (hd : decode (mC m) pc = .ok (op, ln)) (hr : zRet m op ln st = none) (ht : zThr op ln st = none) (hs : zStep κ m pc op ln ls st h = none) (hc : zCall m h st op ln = if c then some (y, vals, rest) else none) (e : c = c') : Go κ m pc ls st h Q = (c' ∧ Ev κ y vals h (zK κ m pc ln ls rest Q)) := by
  subst e
  apply propext
  by_cases h0 : c
  · rw [if_pos h0] at hc
    rw [Go_cs hd hr ht hc]
    exact ⟨fun x => ⟨h0, x⟩, fun x => x.2⟩
  · rw [if_neg h0] at hc
    exact ⟨fun x => absurd x (Go_no hd hr ht hc hs), fun x => absurd x.1 h0⟩
/-- a throw -/
theorem Go_thr {q : Nat} (hd : decode (mC m) pc = .ok (.athrow, 1)) (hn : mT m = []) : Go κ m pc ls [.ref q] h Q = ((hK h q = 109 ∧ kB κ ≤ q) ∧ Q (.inr q) h) := by
  have hh : zHan m pc = none := by unfold zHan; rw [hn]
  apply propext
  constructor
  · rintro ⟨n, r, h', h1, h2⟩
    cases n with
    | zero => cases h1
    | succ n =>
      rw [zRun, hd] at h1
      simp only [zRet, zThr, hh] at h1
      split at h1
      · next h3 => cases h1; exact ⟨h3, h2⟩
      · cases h1
  · rintro ⟨h3, h2⟩
    refine ⟨1, _, _, ?_, h2⟩
    rw [zRun, hd]
    simp only [zRet, zThr, hh]
    rw [if_pos h3]
end
/-- the answer of an interface's or a class's method, by the receiver's kind -/
def zSw1 (κ : zC) (m : zM) (f : Nat → Prop) (d : Nat) (x : Int32) : List (Int32 × Nat) → Prop
  | [] => f d
  | (k, t) :: l => if x = k then f t else zSw1 κ m f d x l
