/-! the simulation: any step -/
section
variable {κ : zC} {D : zD} {p : Program} {l : Launch} {e : Env} {R : Room} {s : State} {m : MethodId} {args : Array Value} {below : List Frame} {meth : Method} {c : Code} {M : zM} {H : Heap} {locs : List Loc} {cells slots : Nat} {Q : State → Prop} {pc : Nat} {lr : Array Slot} {ls : List (Option Value)} {st : List Value} {h : zH} {op : Instr} {ln : Nat}
theorem sim_hp (C : zCx κ D p l R s m args meth c M) (L : zLs lr (mX M) ls) (X : zRel κ D s H h) (hS : va_S (fun q => kB κ ≤ q) s.heap H locs) (hd : decode (mC M) pc = .ok (op, ln)) {q : zR} (hz : zHp κ M pc ls h ln st op = some q) (hc : cells + (hN q.2.2.2 - hN h) ≤ R.cells) (hs : slots + (hU q.2.2.2 - hU h) ≤ R.slots)
    (kk : ∀ (H' : Heap) (lr' : Array Slot) (locs' : List Loc) (cells' slots' : Nat), cells' ≤ cells + (hN q.2.2.2 - hN h) → slots' ≤ slots + (hU q.2.2.2 - hU h) → zLs lr' (mX M) q.2.1 → zRel κ D s H' q.2.2.2 → va_S (fun q => kB κ ≤ q) s.heap H' locs' → W p l e R s m args below meth c H' locs' cells' slots' Q (F0 m q.1 lr' q.2.2.1)) : W p l e R s m args below meth c H locs cells slots Q (F0 m pc lr st) := by
  have same : ∀ {q' : zR}, q'.2.2.2 = h → q' = q → q'.2.1 = ls → W p l e R s m args below meth c H locs cells slots Q (F0 m q'.1 lr q'.2.2.1) := fun e1 e2 e3 => by
    subst e2
    exact kk H lr locs cells slots (Nat.le_add_right _ _) (Nat.le_add_right _ _) (by rw [e3]; exact L) (by rw [e1]; exact X) hS
  have put : ∀ {q' : zR}, q' = q → q'.2.1 = ls → ∀ (H' : Heap) (locs' : List Loc), zRel κ D s H' q'.2.2.2 → va_S (fun q => kB κ ≤ q) s.heap H' locs' → W p l e R s m args below meth c H' locs' cells slots Q (F0 m q'.1 lr q'.2.2.1) := fun e2 e3 H' locs' r1 r2 => by
    subst e2
    exact kk H' lr locs' cells slots (Nat.le_add_right _ _) (Nat.le_add_right _ _) (by rw [e3]; exact L) r1 r2
  have mk : ∀ {q' : zR} (k n u : Nat) (f : Nat → Value), q'.2.2.2 = hA h k n u f → q' = q → q'.2.1 = ls → (cells + 1 ≤ R.cells ∧ slots + u ≤ R.slots) ∧ ∀ (H' : Heap), zRel κ D s H' (hA h k n u f) → va_S (fun q => kB κ ≤ q) s.heap H' locs → W p l e R s m args below meth c H' locs (cells + 1) (slots + u) Q (F0 m q'.1 lr q'.2.2.1) := fun k n u f e1 e2 e3 => by
    subst e2
    rw [e1] at hc hs kk
    have a1 : hN (hA h k n u f) - hN h = 1 := by rw [hN_A]; omega
    have a2 : hU (hA h k n u f) - hU h = u := by rw [hU_A]; omega
    rw [a1] at hc kk
    rw [a2] at hs kk
    exact ⟨⟨hc, hs⟩, fun H' r1 r2 => kk H' lr locs _ _ (Nat.le_refl _) (Nat.le_refl _) (by rw [e3]; exact L) r1 r2⟩
  have hx := C.1
  have hb := C.2.1
  unfold zHp at hz
  split at hz
  · unfold zGetf at hz; split at hz
    · split at hz
      · next e1 =>
        subst e1
        obtain ⟨g, t1, hz⟩ := Option.bind_eq_some_iff.mp hz
        split at hz
        · next t2 => exact sim_getf C X t1 t2 hd (same rfl (Option.some.inj hz) rfl)
        · cases hz
      · cases hz
    · cases hz
  · unfold zPutf at hz; split at hz
    · split at hz
      · next e1 =>
        subst e1
        obtain ⟨g, t1, hz⟩ := Option.bind_eq_some_iff.mp hz
        split at hz
        · next t2 => exact sim_putf C X hS t1 t2.1 t2.2.1 t2.2.2.1 t2.2.2.2 hd (put (Option.some.inj hz) rfl)
        · cases hz
      · cases hz
    · cases hz
  · unfold zAlen at hz; split at hz
    · split at hz
      · next e1 => obtain ⟨e1, t1⟩ := e1; subst e1; exact sim_alen C X t1 hd (same rfl (Option.some.inj hz) rfl)
      · cases hz
    · cases hz
  · unfold zAld at hz; split at hz
    · split at hz
      · next e1 => obtain ⟨e1, t1, t2⟩ := e1; subst e1; exact sim_ald C X t2 (Or.inl ⟨rfl, of_decide_eq_true t1⟩) hd (same rfl (Option.some.inj hz) rfl)
      · cases hz
    · cases hz
  · unfold zAld at hz; split at hz
    · split at hz
      · next e1 => obtain ⟨e1, t1, t2⟩ := e1; subst e1; exact sim_ald C X t2 (Or.inr (Or.inl ⟨rfl, of_decide_eq_true t1⟩)) hd (same rfl (Option.some.inj hz) rfl)
      · cases hz
    · cases hz
  · unfold zAld at hz; split at hz
    · split at hz
      · next e1 =>
        obtain ⟨e1, t1, t2⟩ := e1; subst e1
        exact sim_ald C X t2 (Or.inr (Or.inr (Or.inl ⟨rfl, by simpa using t1⟩))) hd (same rfl (Option.some.inj hz) rfl)
      · cases hz
    · cases hz
  · unfold zAld at hz; split at hz
    · split at hz
      · next e1 => obtain ⟨e1, t1, t2⟩ := e1; subst e1; exact sim_ald C X t2 (Or.inr (Or.inr (Or.inr ⟨rfl, t1⟩))) hd (same rfl (Option.some.inj hz) rfl)
      · cases hz
    · cases hz
  · unfold zIst at hz; split at hz
    · split at hz
      · next e1 => obtain ⟨e1, t1, t2, t3⟩ := e1; subst e1; exact sim_ist C X hS t2 t1 t3 hd (put (Option.some.inj hz) rfl)
      · cases hz
    · cases hz
  · unfold zLst at hz; split at hz
    · split at hz
      · next e1 => obtain ⟨e1, t1, t2, t3⟩ := e1; subst e1; exact sim_lst C X hS t2 t1 t3 hd (put (Option.some.inj hz) rfl)
      · cases hz
    · cases hz
  · unfold zBst at hz; split at hz
    · split at hz
      · next e1 => obtain ⟨e1, t1, t2, t3⟩ := e1; subst e1; exact sim_bst C X hS t2 t1 t3 hd (put (Option.some.inj hz) rfl)
      · cases hz
    · cases hz
  · unfold zAst at hz; split at hz
    · split at hz
      · next e1 => obtain ⟨e1, t1, t2, t3, t4⟩ := e1; subst e1; exact sim_aas C X hS t1 t2 t3 t4 hd (put (Option.some.inj hz) rfl)
      · cases hz
    · split at hz
      · next e1 => obtain ⟨e1, t1, t2, t3⟩ := e1; subst e1; exact sim_aasN C X hS t1 t2 t3 hd (put (Option.some.inj hz) rfl)
      · cases hz
    · cases hz
  · unfold zNew at hz; split at hz
    · next e1 =>
      subst e1
      obtain ⟨c0, t1, hz⟩ := Option.map_eq_some_iff.mp hz
      obtain ⟨⟨r1, r2⟩, r3⟩ := mk _ _ _ _ rfl hz rfl
      exact sim_new C X hS t1 r1 r2 hd r3
    · cases hz
  · unfold zNewa at hz; split at hz
    · split at hz
      · next e1 =>
        obtain ⟨e1, t1, t2⟩ := e1
        subst e1
        obtain ⟨⟨k, d⟩, t3, hz⟩ := Option.map_eq_some_iff.mp hz
        obtain ⟨⟨r1, r2⟩, r3⟩ := mk _ _ _ _ rfl hz rfl
        exact sim_newa C X hS t3 t1 t2 r1 r2 hd r3
      · cases hz
    · cases hz
  · unfold zNewq at hz; split at hz
    · split at hz
      · next e1 =>
        obtain ⟨e1, t1, t2⟩ := e1
        subst e1
        obtain ⟨k, t3, hz⟩ := Option.map_eq_some_iff.mp hz
        obtain ⟨⟨r1, r2⟩, r3⟩ := mk _ _ _ _ rfl hz rfl
        exact sim_newq C X hS t3 t1 t2 r1 r2 hd r3
      · cases hz
    · cases hz
  · unfold zChk at hz; split at hz
    · split at hz
      · next e1 =>
        subst e1
        obtain ⟨g, t1, hz⟩ := Option.bind_eq_some_iff.mp hz
        split at hz
        · next t2 => exact sim_chk C X t1 t2.1 t2.2 hd (same rfl (Option.some.inj hz) rfl)
        · cases hz
      · cases hz
    · split at hz
      · next e1 => subst e1; exact lv_castN hx hb hd (same rfl (Option.some.inj hz) rfl)
      · cases hz
    · cases hz
  · unfold zIns at hz; split at hz
    · split at hz
      · next e1 =>
        subst e1
        obtain ⟨g, t1, hz⟩ := Option.bind_eq_some_iff.mp hz
        split at hz
        · next t2 => exact sim_ins C X t1 t2.1 t2.2 hd (same rfl (Option.some.inj hz) rfl)
        · cases hz
      · cases hz
    · split at hz
      · next e1 => subst e1; exact lv_instN hx hb hd (same rfl (Option.some.inj hz) rfl)
      · cases hz
    · cases hz
  · unfold zSpe at hz; split at hz
    · split at hz
      · next e1 =>
        obtain ⟨e1, t0⟩ := e1
        subst e1
        obtain ⟨x, t1, hz⟩ := Option.bind_eq_some_iff.mp hz
        split at hz
        · next t2 =>
          rcases t2 with t2 | ⟨t2, t3, t4, t5⟩
          · subst t2; exact sim_obj C L t1 t0 hd (same rfl (Option.some.inj hz) rfl)
          · subst t2; exact sim_exc C L X hS t1 t0 t3 t4 t5 hd (put (Option.some.inj hz) rfl)
        · cases hz
      · cases hz
    · cases hz
  · unfold zCpy at hz; split at hz
    · split at hz
      · next e1 =>
        obtain ⟨e1, t0, t1, t2, t3, t4, t5, t6, t7, t8, t9, t10⟩ := e1
        subst e1
        exact sim_cpy C L X hS t1 t0 t2 t3 t4 t5 t6 t7 t8 t9 t10 hd (put (Option.some.inj hz) rfl)
      · cases hz
    · cases hz
  · unfold zVir at hz; split at hz
    · split at hz
      · next e1 =>
        obtain ⟨e1, t0⟩ := e1
        subst e1
        obtain ⟨x, t1, hz⟩ := Option.bind_eq_some_iff.mp hz
        split at hz
        · next t2 => obtain ⟨t2, t3, t4⟩ := t2; subst t2; exact sim_gcl C L X t1 t0 t3 t4 hd (same rfl (Option.some.inj hz) rfl)
        · split at hz
          · next t2 =>
            obtain ⟨t2, t3, t4, t5⟩ := t2
            subst t2
            obtain ⟨⟨r1, r2⟩, r3⟩ := mk _ _ _ _ rfl (Option.some.inj hz) rfl
            exact sim_cln C L X hS t1 t0 t3 t4 t5 r1 r2 hd r3
          · cases hz
      · cases hz
    · cases hz
  · unfold zItf at hz; split at hz
    · split at hz
      · next e1 => obtain ⟨e1, t0, t1, t2⟩ := e1; subst e1; exact sim_gci C L X t1 t0 t2 hd (same rfl (Option.some.inj hz) rfl)
      · cases hz
    · cases hz
  · cases hz
theorem sim_step (C : zCx κ D p l R s m args meth c M) (L : zLs lr (mX M) ls) (X : zRel κ D s H h) (hS : va_S (fun q => kB κ ≤ q) s.heap H locs) (hd : decode (mC M) pc = .ok (op, ln)) {q : zR} (hz : zStep κ M pc op ln ls st h = some q) (hc : cells + (hN q.2.2.2 - hN h) ≤ R.cells) (hs : slots + (hU q.2.2.2 - hU h) ≤ R.slots)
    (kk : ∀ (H' : Heap) (lr' : Array Slot) (locs' : List Loc) (cells' slots' : Nat), cells' ≤ cells + (hN q.2.2.2 - hN h) → slots' ≤ slots + (hU q.2.2.2 - hU h) → zLs lr' (mX M) q.2.1 → zRel κ D s H' q.2.2.2 → va_S (fun q => kB κ ≤ q) s.heap H' locs' → W p l e R s m args below meth c H' locs' cells' slots' Q (F0 m q.1 lr' q.2.2.1)) : W p l e R s m args below meth c H locs cells slots Q (F0 m pc lr st) := by
  have same : ∀ {q' : zR}, q'.2.2.2 = h → q' = q → ∀ lr' : Array Slot, zLs lr' (mX M) q'.2.1 → W p l e R s m args below meth c H locs cells slots Q (F0 m q'.1 lr' q'.2.2.1) := fun e1 e2 lr' e3 => by
    subst e2
    exact kk H lr' locs cells slots (Nat.le_add_right _ _) (Nat.le_add_right _ _) e3 (by rw [e1]; exact X) hS
  unfold zStep at hz
  split at hz
  · next t1 =>
    split at hz
    · next e1 => subst e1; exact sim_cst C hS t1 hd (same rfl (Option.some.inj hz) lr L)
    · cases hz
  · split at hz
    · next t1 =>
      split at hz
      · next t2 =>
        split at hz
        · next e1 => obtain ⟨e1, t3⟩ := e1; subst e1; exact sim_lod C L t1 t2 t3 hd (same rfl (Option.some.inj hz) lr L)
        · cases hz
      · cases hz
    · split at hz
      · next t1 =>
        split at hz
        · split at hz
          · next e1 => obtain ⟨e1, t2, t3⟩ := e1; subst e1; exact sim_str C L t1 t2 t3 hd (same rfl (Option.some.inj hz))
          · cases hz
        · cases hz
      · split at hz
        · next t1 =>
          split at hz
          · split at hz
            · next e1 =>
              subst e1
              obtain ⟨w, t2, hz⟩ := Option.map_eq_some_iff.mp hz
              exact sim_un C t1 t2 hd (same rfl hz lr L)
            · cases hz
          · cases hz
        · split at hz
          · next t1 =>
            split at hz
            · split at hz
              · next e1 =>
                subst e1
                obtain ⟨w, t2, hz⟩ := Option.map_eq_some_iff.mp hz
                exact sim_bin C t1 t2 hd (same rfl hz lr L)
              · cases hz
            · cases hz
          · split at hz
            · next t1 =>
              split at hz
              · next e1 => subst e1; exact sim_stk C t1 hd (same rfl (Option.some.inj hz) lr L)
              · cases hz
            · split at hz
              · next t1 =>
                split at hz
                · next e1 =>
                  subst e1
                  obtain ⟨t, t2, hz⟩ := Option.map_eq_some_iff.mp hz
                  exact sim_br C t1 t2 hd (same rfl hz lr L)
                · cases hz
              · split at hz
                · split at hz
                  · next t1 =>
                    split at hz
                    · next e1 => obtain ⟨e1, t2⟩ := e1; subst e1; exact sim_iinc C L t1 t2 hd (same rfl (Option.some.inj hz))
                    · cases hz
                  · cases hz
                · split at hz
                  · obtain ⟨w, t1, hz⟩ := Option.bind_eq_some_iff.mp hz
                    obtain ⟨t, t2, hz⟩ := Option.map_eq_some_iff.mp hz
                    exact sim_tsw C t1 t2 hd (same rfl hz lr L)
                  · cases hz
                · split at hz
                  · obtain ⟨w, t1, hz⟩ := Option.bind_eq_some_iff.mp hz
                    obtain ⟨t, t2, hz⟩ := Option.map_eq_some_iff.mp hz
                    exact sim_lsw C t1 t2 hd (same rfl hz lr L)
                  · cases hz
                · exact sim_hp C L X hS hd hz hc hs kk
end
