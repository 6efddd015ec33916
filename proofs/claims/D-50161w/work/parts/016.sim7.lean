/-! the simulation: a step of any kind; what grows; a method's entry; its ends -/
theorem zTake_spec : ∀ {n : Nat} {st acc as rest : List Value}, zTake n st acc = some (as, rest) → acc.reverse ++ st = as.reverse ++ rest ∧ as.length = acc.length + n := by
  intro n
  induction n with
  | zero => intro st acc as rest h; cases h; exact ⟨rfl, rfl⟩
  | succ n ih =>
    intro st acc as rest h
    cases st with
    | nil => cases h
    | cons v st =>
      obtain ⟨h1, h2⟩ := ih (st := st) (acc := v :: acc) h
      refine ⟨by rw [← h1]; simp, ?_⟩
      rw [h2, List.length_cons]; omega
theorem zAll_good {w : Cond} (h : w ∈ zAll) : goodWord w = true := by
  rcases List.mem_append.mp h with h | h
  · exact (List.mem_filter.mp h).2
  · rcases List.mem_append.mp h with h | h
    · exact List.all_eq_true.mp (by decide +kernel : defaultWords_1.all goodWord = true) w h
    · exact List.all_eq_true.mp (by decide +kernel : zXs.all goodWord = true) w h
theorem zAll_at {args : Array Value} {s : State} (hts : ∀ w ∈ zAll, w.before args s = true) {U : State} (hW : s.WarmedH U.vm) : ∀ w ∈ zAll, ∀ a', w.before a' U = true := fun w hw _ => word_at hW (good_of_word (zAll_good hw)) (hts w hw)
/-- heaps grow -/
def zLe (h h1 : zH) : Prop := hN h ≤ hN h1 ∧ hU h ≤ hU h1
theorem zLe.rfl {h : zH} : zLe h h := ⟨Nat.le_refl _, Nat.le_refl _⟩
theorem zLe.trans {h h1 h2 : zH} (a : zLe h h1) (b : zLe h1 h2) : zLe h h2 := ⟨Nat.le_trans a.1 b.1, Nat.le_trans a.2 b.2⟩
theorem zLe.W {h : zH} {a i : Nat} {v : Value} : zLe h (hW h a i v) := zLe.rfl
theorem zLe.C {h : zH} {s sp d dp n : Nat} : zLe h (hC h s sp d dp n) := zLe.rfl
theorem zLe.A {h : zH} {k n u : Nat} {f : Nat → Value} : zLe h (hA h k n u f) := ⟨Nat.le_succ _, Nat.le_add_right _ _⟩
theorem zHp_le {κ : zC} {M : zM} {pc ln : Nat} {ls : List (Option Value)} {h : zH} {st : List Value} {op : Instr} {q : zR} (hz : zHp κ M pc ls h ln st op = some q) : zLe h q.2.2.2 := by
  unfold zHp at hz
  split at hz
  · unfold zGetf at hz; split at hz
    · split at hz
      · obtain ⟨g, -, hz⟩ := Option.bind_eq_some_iff.mp hz
        split at hz <;> cases hz; exact zLe.rfl
      · cases hz
    · cases hz
  · unfold zPutf at hz; split at hz
    · split at hz
      · obtain ⟨g, -, hz⟩ := Option.bind_eq_some_iff.mp hz
        split at hz <;> cases hz; exact zLe.W
      · cases hz
    · cases hz
  · unfold zAlen at hz; split at hz
    · split at hz <;> cases hz; exact zLe.rfl
    · cases hz
  · unfold zAld at hz; split at hz
    · split at hz <;> cases hz; exact zLe.rfl
    · cases hz
  · unfold zAld at hz; split at hz
    · split at hz <;> cases hz; exact zLe.rfl
    · cases hz
  · unfold zAld at hz; split at hz
    · split at hz <;> cases hz; exact zLe.rfl
    · cases hz
  · unfold zAld at hz; split at hz
    · split at hz <;> cases hz; exact zLe.rfl
    · cases hz
  · unfold zIst at hz; split at hz
    · split at hz <;> cases hz; exact zLe.W
    · cases hz
  · unfold zLst at hz; split at hz
    · split at hz <;> cases hz; exact zLe.W
    · cases hz
  · unfold zBst at hz; split at hz
    · split at hz <;> cases hz; exact zLe.W
    · cases hz
  · unfold zAst at hz; split at hz
    · split at hz <;> cases hz; exact zLe.W
    · split at hz <;> cases hz; exact zLe.W
    · cases hz
  · unfold zNew at hz; split at hz
    · obtain ⟨c, -, hz⟩ := Option.map_eq_some_iff.mp hz
      cases hz; exact zLe.A
    · cases hz
  · unfold zNewa at hz; split at hz
    · split at hz
      · obtain ⟨c, -, hz⟩ := Option.map_eq_some_iff.mp hz
        cases hz; exact zLe.A
      · cases hz
    · cases hz
  · unfold zNewq at hz; split at hz
    · split at hz
      · obtain ⟨c, -, hz⟩ := Option.map_eq_some_iff.mp hz
        cases hz; exact zLe.A
      · cases hz
    · cases hz
  · unfold zChk at hz; split at hz
    · split at hz
      · obtain ⟨g, -, hz⟩ := Option.bind_eq_some_iff.mp hz
        split at hz <;> cases hz; exact zLe.rfl
      · cases hz
    · split at hz <;> cases hz; exact zLe.rfl
    · cases hz
  · unfold zIns at hz; split at hz
    · split at hz
      · obtain ⟨g, -, hz⟩ := Option.bind_eq_some_iff.mp hz
        split at hz <;> cases hz; exact zLe.rfl
      · cases hz
    · split at hz <;> cases hz; exact zLe.rfl
    · cases hz
  · unfold zSpe at hz; split at hz
    · split at hz
      · obtain ⟨g, -, hz⟩ := Option.bind_eq_some_iff.mp hz
        split at hz <;> cases hz; exact zLe.rfl
      · cases hz
    · cases hz
  · unfold zCpy at hz; split at hz
    · split at hz <;> cases hz; exact zLe.C
    · cases hz
  · unfold zVir at hz; split at hz
    · split at hz
      · obtain ⟨g, -, hz⟩ := Option.bind_eq_some_iff.mp hz
        split at hz
        · cases hz; exact zLe.rfl
        · split at hz <;> cases hz; exact zLe.A
      · cases hz
    · cases hz
  · unfold zItf at hz; split at hz
    · split at hz <;> cases hz; exact zLe.rfl
    · cases hz
  · cases hz
theorem zStep_le {κ : zC} {M : zM} {pc ln : Nat} {ls : List (Option Value)} {h : zH} {st : List Value} {op : Instr} {q : zR} (hz : zStep κ M pc op ln ls st h = some q) : zLe h q.2.2.2 := by
  unfold zStep at hz
  split at hz
  · split at hz <;> cases hz; exact zLe.rfl
  · split at hz
    · split at hz
      · split at hz <;> cases hz; exact zLe.rfl
      · cases hz
    · split at hz
      · split at hz
        · split at hz <;> cases hz; exact zLe.rfl
        · cases hz
      · split at hz
        · split at hz
          · split at hz
            · obtain ⟨w, -, hz⟩ := Option.map_eq_some_iff.mp hz
              cases hz; exact zLe.rfl
            · cases hz
          · cases hz
        · split at hz
          · split at hz
            · split at hz
              · obtain ⟨w, -, hz⟩ := Option.map_eq_some_iff.mp hz
                cases hz; exact zLe.rfl
              · cases hz
            · cases hz
          · split at hz
            · split at hz <;> cases hz; exact zLe.rfl
            · split at hz
              · split at hz
                · obtain ⟨w, -, hz⟩ := Option.map_eq_some_iff.mp hz
                  cases hz; exact zLe.rfl
                · cases hz
              · split at hz
                · split at hz
                  · split at hz <;> cases hz; exact zLe.rfl
                  · cases hz
                · split at hz
                  · obtain ⟨w, -, hz⟩ := Option.bind_eq_some_iff.mp hz
                    obtain ⟨w, -, hz⟩ := Option.map_eq_some_iff.mp hz
                    cases hz; exact zLe.rfl
                  · cases hz
                · split at hz
                  · obtain ⟨w, -, hz⟩ := Option.bind_eq_some_iff.mp hz
                    obtain ⟨w, -, hz⟩ := Option.map_eq_some_iff.mp hz
                    cases hz; exact zLe.rfl
                  · cases hz
                · exact zHp_le hz
theorem zRun_le {κ : zC} : ∀ {n : Nat} {M : zM} {pc : Nat} {ls : List (Option Value)} {st : List Value} {h h' : zH} {r : Option Value ⊕ Nat}, zRun κ n M pc ls st h = some (r, h') → zLe h h' := by
  intro n
  induction n with
  | zero => intro M pc ls st h h' r hz; cases hz
  | succ n ih =>
    intro M pc ls st h h' r hz
    unfold zRun at hz
    split at hz
    · cases hz
    · split at hz
      · cases hz; exact zLe.rfl
      · split at hz
        · split at hz
          · split at hz
            · exact ih hz
            · cases hz
          · split at hz <;> cases hz; exact zLe.rfl
        · split at hz
          · split at hz
            · next h1 e1 => exact (ih e1).trans (ih hz)
            · next h1 e1 =>
              split at hz
              · exact (ih e1).trans (ih hz)
              · cases hz; exact ih e1
            · cases hz
          · split at hz
            · next e1 => exact (zStep_le e1).trans (ih hz)
            · cases hz
/-! entry -/
theorem zPad_len (n : Nat) : (zPad n).length = n := by
  induction n with
  | zero => rfl
  | succ n ih => show (none :: zPad n).length = _; rw [List.length_cons, ih]
theorem zPad_get (n i : Nat) (v : Value) : zGet (zPad n) i ≠ some v := by
  induction n generalizing i with
  | zero => intro h; cases i <;> cases h
  | succ n ih =>
    intro h
    cases i with
    | zero => cases h
    | succ i => exact ih i h
theorem zEnt_cons1 {v : Value} (hv : v.category = 1) (vs : List Value) (n : Nat) : zEnt (v :: vs) n = some v :: zEnt vs (n - 1) := by cases v <;> first | rfl | cases hv
theorem zEnt_cons2 {v : Value} (hv : v.category = 2) (vs : List Value) (n : Nat) : zEnt (v :: vs) n = some v :: none :: zEnt vs (n - 2) := by cases v <;> first | rfl | cases hv
theorem z_cat (v : Value) : v.category = 1 ∨ v.category = 2 := by cases v <;> first | exact Or.inl rfl | exact Or.inr rfl
theorem zEnt_len : ∀ (vs : List Value) (n : Nat), zSize vs ≤ n → (zEnt vs n).length = n := by
  intro vs
  induction vs with
  | nil => intro n _; exact zPad_len n
  | cons v vs ih =>
    intro n h
    have h0 : v.category + zSize vs ≤ n := h
    rcases z_cat v with hv | hv
    · rw [zEnt_cons1 hv, List.length_cons, ih _ (by omega)]; omega
    · rw [zEnt_cons2 hv, List.length_cons, List.length_cons, ih _ (by omega)]; omega
theorem zEnt_get : ∀ (vs : List Value) (n i k : Nat) (v : Value), zGet (zEnt vs n) i = some v → (k + i, v) ∈ lv_args k vs := by
  intro vs
  induction vs with
  | nil => intro n i k v h; exact absurd h (zPad_get n i v)
  | cons w vs ih =>
    intro n i k v h
    show (k + i, v) ∈ (k, w) :: lv_args (if w.category = 2 then k + 2 else k + 1) vs
    rcases z_cat w with hw | hw
    · rw [zEnt_cons1 hw] at h
      rw [if_neg (by omega)]
      cases i with
      | zero => cases h; exact List.mem_cons_self
      | succ i =>
        have h1 := ih _ i (k + 1) v h
        rw [show k + 1 + i = k + (i + 1) by omega] at h1
        exact List.mem_cons_of_mem _ h1
    · rw [zEnt_cons2 hw] at h
      rw [if_pos hw]
      cases i with
      | zero => cases h; exact List.mem_cons_self
      | succ i =>
        cases i with
        | zero => cases h
        | succ i =>
          have h1 := ih _ i (k + 2) v h
          rw [show k + 2 + i = k + (i + 1 + 1) by omega] at h1
          exact List.mem_cons_of_mem _ h1
theorem zSize_sl : ∀ vs : List Value, (lg_sl vs).length = zSize vs := by
  intro vs
  induction vs with
  | nil => rfl
  | cons v vs ih =>
    have e : lg_sl (v :: vs) = (if v.category = 2 then [.val v, .second] else [.val v]) ++ lg_sl vs := rfl
    rw [e, List.length_append, ih]
    show _ = v.category + zSize vs
    rcases z_cat v with hv | hv
    · rw [if_neg (by omega), hv]; rfl
    · rw [if_pos hv, hv]; rfl
theorem zLs.entry {vs : List Value} {n : Nat} (h : zSize vs ≤ n) : zLs ((lg_sl vs ++ List.replicate (n - (lg_sl vs).length) Slot.unset).toArray) n (zEnt vs n) :=
  zLs.sub (lv_entry vs (by rw [zSize_sl]; exact h)) (fun i v q => by have := zEnt_get vs n i 0 v q; rwa [Nat.zero_add] at this) (zEnt_len vs n h)
/-! what a method owes at its end -/
def zQc (κ : zC) (D : zD) (r : Option Value ⊕ Nat) (h' : zH) : Array Value → State → Outcome → State → Prop := fun _ st o t => (∃ v, r = .inl v ∧ o = .returned v) ∧ zRel κ D t t.heap h' ∧ va_F (fun q => kB κ ≤ q) st t
def zXc (κ : zC) (D : zD) (r : Option Value ⊕ Nat) (h' : zH) : Addr → String → State → State → Prop := fun q E st t => r = .inr q ∧ E = cR 9 ∧ zRel κ D t t.heap h' ∧ va_F (fun q => kB κ ≤ q) st t
def zPc (κ : zC) (D : zD) (h : zH) (vals : List Value) : Array Value → State → Prop := fun a U => a = vals.toArray ∧ zRel κ D U U.heap h ∧ zSs κ U U.heap ∧ zWd κ D U
section
variable {κ : zC} {D : zD} {p : Program} {l : Launch} {e : Env} {R : Room} {s : State} {m : MethodId} {args : Array Value} {below : List Frame} {meth : Method} {c : Code} {M : zM} {H : Heap} {locs : List Loc} {cells slots : Nat} {Q : State → Prop} {pc : Nat} {lr : Array Slot} {ls : List (Option Value)} {st : List Value} {h : zH} {op : Instr} {ln : Nat}
theorem sim_ret (C : zCx κ D p l R s m args meth c M) (X : zRel κ D s H h) (hS : va_S (fun q => kB κ ≤ q) s.heap H locs) {v : Option Value} (hz : zRet M op ln st = some v) (hd : decode (mC M) pc = .ok (op, ln)) (hc : cells ≤ R.cells) (hs : slots ≤ R.slots) :
    W p l e R s m args below meth c H locs cells slots (vx_MQ below (zQc κ D (.inl v) h) (zXc κ D (.inl v) h) args s R.cells R.slots (fun q => kB κ ≤ q)) (F0 m pc lr st) := by
  obtain ⟨hx, hb, hml, hrt, hlk, hown, hts, hnm, hW, hRf, hRl, hSs, hB, hl⟩ := C
  have hq : ∀ t : State, t.heap = H → s.WarmedH t.vm → zQc κ D (.inl v) h args s (.returned v) t := fun t ht hw => ⟨⟨v, rfl, rfl⟩, by rw [ht]; exact X.moved hw.alike, hS.F ht⟩
  have hf : ∀ q ∈ locs, (fun q => kB κ ≤ q) q.base := hS.2.2
  refine vx_ret (W.widen hc hs ?_)
  unfold zRet at hz
  split at hz
  · split at hz
    · next e1 => cases hz; exact W.vret hx hb (hrt.trans e1) hq hf hd hlk
    · cases hz
  · split at hz
    · next e1 => cases hz; exact W.zret hx hb (hrt.trans e1) rfl hq hf hd hlk
    · next e1 =>
      split at hz
      · next e2 => cases hz; exact W.zret hx hb (hrt.trans e1) e2 hq hf hd hlk
      · cases hz
    · next e1 =>
      split at hz
      · next e2 => cases hz; exact W.zret hx hb (hrt.trans e1) e2 hq hf hd hlk
      · cases hz
    · next e1 =>
      split at hz
      · next e2 => cases hz; exact W.zret hx hb (hrt.trans e1) e2 hq hf hd hlk
      · cases hz
    · cases hz
  · split at hz
    · next e1 => cases hz; exact W.lret hx hb (hrt.trans e1) hq hf hd hlk
    · cases hz
  · split at hz
    · next e1 => cases hz; exact W.fret hx hb (hrt.trans e1) hq hf hd hlk
    · cases hz
  · split at hz
    · next e1 => cases hz; exact W.dret hx hb (hrt.trans e1) hq hf hd hlk
    · cases hz
  · next v0 =>
    have hv : ∀ {v : Value}, zTy 2 v = true → v = .null ∨ ∃ a, v = .ref a := by
      intro v hv
      cases v <;> first | exact Or.inl rfl | exact Or.inr ⟨_, rfl⟩ | cases hv
    split at hz
    · next e1 =>
      split at hz
      · next e2 => cases hz; exact W.aret hx hb (hrt.trans e1) (Or.inl ⟨_, rfl⟩) (hv e2) hq hf hd hlk
      · cases hz
    · next e1 =>
      split at hz
      · next e2 => cases hz; exact W.aret hx hb (hrt.trans e1) (Or.inr ⟨_, rfl⟩) (hv e2) hq hf hd hlk
      · cases hz
    · cases hz
  · cases hz
end
