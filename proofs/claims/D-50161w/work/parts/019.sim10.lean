/-! the simulation: a whole run -/
theorem z_cov {a b t k pc : Nat} : covers (⟨a, b, t, k⟩ : ExceptionTableEntry) pc = decide (a ≤ pc ∧ pc < b) := by
  unfold covers
  by_cases h1 : a ≤ pc <;> by_cases h2 : pc < b <;> simp [h1, h2]
theorem zHan_none {c : Code} {M : zM} (tb : zTb c M) {pc : Nat} (hz : zHan M pc = none) : ∀ x ∈ c.exceptionTable.toList, covers x pc = false := by
  obtain ⟨t1, t2⟩ := tb
  rw [t1]
  intro x hx
  rcases t2 with t2 | ⟨t2, -⟩
  · rw [t2] at hx; cases hx
  · rw [t2] at hx
    unfold zHan at hz
    rw [t2] at hz
    dsimp only at hz
    split at hz
    · cases hz
    · next hn =>
      rcases List.mem_cons.mp hx with hx | hx
      · rw [hx]
        show covers (⟨51, 72, 75, 103⟩ : ExceptionTableEntry) pc = false
        rw [z_cov]
        exact decide_eq_false hn
      · cases hx
theorem zHan_some {c : Code} {M : zM} (tb : zTb c M) {pc t : Nat} (hz : zHan M pc = some t) : c.exceptionTable.toList = [] ++ (⟨51, 72, 75, 103⟩ : ExceptionTableEntry) :: [] ∧ covers (⟨51, 72, 75, 103⟩ : ExceptionTableEntry) pc = true ∧ t = 75 ∧ mO M = 0 := by
  obtain ⟨t1, t2⟩ := tb
  rcases t2 with t2 | ⟨t2, t3⟩
  · unfold zHan at hz; rw [t2] at hz; cases hz
  · unfold zHan at hz
    rw [t2] at hz
    dsimp only at hz
    split at hz
    · next hn =>
      cases hz
      exact ⟨by rw [t1, t2]; rfl, by rw [z_cov]; exact decide_eq_true hn, rfl, t3⟩
    · cases hz
def zSim (n : Nat) : Prop := ∀ (κ : zC) (D : zD) (p : Program) (l : Launch) (e : Env) (R : Room) (s : State) (m : MethodId) (args : Array Value) (below : List Frame) (meth : Method) (c : Code) (M : zM) (H : Heap) (locs : List Loc) (cells slots pc : Nat) (lr : Array Slot) (ls : List (Option Value)) (st : List Value) (h : zH) (r : Option Value ⊕ Nat) (h' : zH), zRun κ n M pc ls st h = some (r, h') → zCx κ D p l R s m args meth c M → zTb c M → zLs lr (mX M) ls → zRel κ D s H h → va_S (fun q => kB κ ≤ q) s.heap H locs → cells + (hN h' - hN h) ≤ R.cells → slots + (hU h' - hU h) ≤ R.slots →
  W p l e R s m args below meth c H locs cells slots (vx_MQ below (zQc κ D r h') (zXc κ D r h') args s R.cells R.slots (fun q => kB κ ≤ q)) (F0 m pc lr st)
theorem zMet {n : Nat} (ih : zSim n) {κ : zC} {D : zD} {l : Launch} {y : zM} (hl : l.stackTraces = false) {k : Nat} (hmk : zMk y k) {vals : List Value} {h h' : zH} {r : Option Value ⊕ Nat} (hz : zRun κ n y 0 (zEnt vals (mX y)) [] h = some (r, h')) (hv : zSize vals ≤ mX y) :
    vx_Met l (mY y) (zWs y) (zRm y (hN h' - hN h) (hU h' - hU h)) (zPc κ D h vals) (zQc κ D r h') (zXc κ D r h') (hN h' - hN h) (hU h' - hU h) (fun q => kB κ ≤ q) := by
  obtain ⟨w1, w2, w3, w4, w5, w6⟩ := hmk
  have hin : zHd y ∈ zWs y := List.mem_cons_self
  refine MetFree.of_bodySF (code := mC y) (maxLocals := mX y) (ret := mR y) w4 ?_ ?_
  · intro args s m h0 hn
    have h1 := atoms_spec (ws := zWs y) h0 _ hin
    rcases zCd_t w6 with t | ⟨t, -⟩
    · rw [zHd0 t] at h1
      obtain ⟨meth, c, g1, g2, g3, g4, g5, g6, -, -⟩ := Cond.code_spec hn h1
      exact ⟨meth, c, g1, g2, g3, g4, g5, g6⟩
    · rw [zHd1 t] at h1
      obtain ⟨m9, meth, c, hn9, g1, g2, g3, g4, -, g5, g6, -⟩ := Cond.codeWith_spec h1
      cases hn.symm.trans hn9
      exact ⟨meth, c, g1, g2, g3, g4, g5, g6⟩
  · intro p e s m args below meth c s₁ B hml hP _
    obtain ⟨p1, p2, p3, p4⟩ := hP
    subst p1
    have hh0 : s₁.heap = s.heap := by rw [B.state]; rfl
    have hts := atoms_spec (ws := zWs y) B.pre
    have htb : zTb c y := by
      refine ⟨?_, zCd_t w6⟩
      have h1 := hts _ hin
      rcases zCd_t w6 with t | ⟨t, -⟩
      · rw [zHd0 t] at h1
        obtain ⟨meth9, c9, g1, g2, -, -, -, -, g7, -⟩ := Cond.code_spec B.named h1
        cases Option.some.inj (g1.symm.trans B.method)
        cases Option.some.inj (g2.symm.trans (Stand.of_body B).code)
        rw [t, Array.isEmpty_iff.mp g7]
        rfl
      · rw [zHd1 t] at h1
        exact vx_table (x := mY y) B h1
    have hcx : zCx κ D p l (zRm y (hN h' - hN h) (hU h' - hU h)) s m vals.toArray meth c y :=
      ⟨B.exec, B.bytes, hml, B.returns, B.notSynchronized, by rw [← w5]; exact findClass_of_methodNamed B.named, fun w hw => hts w (List.mem_cons_of_mem _ hw), (name_of_methodNamed B.named B.method).1, p4, Nat.le_refl _, Nat.le_refl _, p3, p2.2.1, hl⟩
    have hw := ih κ D p l e (zRm y (hN h' - hN h) (hU h' - hU h)) s m vals.toArray below meth c y s.heap [] 0 0 0 _ (zEnt vals (mX y)) [] h r h' hz hcx htb (zLs.entry hv) p2 ⟨Nat.le_refl _, fun _ _ _ => rfl, fun _ q => nomatch q⟩ (by rw [Nat.zero_add]; exact Nat.le_refl _) (by rw [Nat.zero_add]; exact Nat.le_refl _)
    rw [← lg_entry_eq] at hw
    obtain ⟨t, a1, o, b1, b2, b3⟩ := hw s₁ hh0 (Stand.of_body B)
    exact ⟨t, o, a1, b1, b2, b3⟩
theorem zSim_all : ∀ n, zSim n := by
  intro n
  induction n with
  | zero => intro κ D p l e R s m args below meth c M H locs cells slots pc lr ls st h r h' hz; cases hz
  | succ n ih =>
    intro κ D p l e R s m args below meth c M H locs cells slots pc lr ls st h r h' hz C tb L X hS hc hs
    have hown := C.2.2.2.2.2.1
    have hts := C.2.2.2.2.2.2.1
    have hlk := C.2.2.2.2.1
    have hnst := C.2.2.2.2.2.2.2.2.1.2.2.1
    have hcat : ∀ {q : Nat} {ce : Cell} {H1 : Heap} {locs1 : List Loc} {cells1 slots1 : Nat} {h1 : zH} {rest : List Value}, zRel κ D s H1 h1 → va_S (fun q => kB κ ≤ q) s.heap H1 locs1 → H1[q]? = some ce → ce.vm = .none → s.vm.findClass (cR 9) = some ce.cls →
        ((∃ t, zHan M pc = some t ∧ zRun κ n M t ls [.ref q] h1 = some (r, h') ∧ cells1 + (hN h' - hN h1) ≤ R.cells ∧ slots1 + (hU h' - hU h1) ≤ R.slots) ∨ (zHan M pc = none ∧ r = .inr q ∧ h' = h1 ∧ cells1 ≤ R.cells ∧ slots1 ≤ R.slots)) →
        vx_W p l e R s m args below meth c H1 locs1 cells1 slots1 (vx_MQ below (zQc κ D r h') (zXc κ D r h') args s R.cells R.slots (fun q => kB κ ≤ q)) (F0 m pc lr rest) q := by
      intro q ce H1 locs1 cells1 slots1 h1 rest X1 hS1 hce hcv hcl hh
      rcases hh with ⟨t, t1, t2, t3, t4⟩ | ⟨t1, t2, t3, t4, t5⟩
      · obtain ⟨u1, u2, u3, u4⟩ := zHan_some tb t1
        rw [u4] at hown
        refine vx_catch hown [] _ [] u1 (fun z hz => nomatch hz) u2 (by decide) (hts _ (za q1272)) (va_Nw.use rfl (hnst _ (zn q1689 rfl))) hce hcv hcl ?_
        subst u3
        exact ih κ D p l e R s m args below meth c M H1 locs1 cells1 slots1 75 lr ls [.ref q] h1 r h' t2 C tb L X1 hS1 t3 t4
      · subst t3
        refine vx_out (zHan_none tb t1) hlk hce hcv hcl ?_ hS1.2.2 t4 t5
        intro t ht hal
        exact ⟨t2, rfl, by rw [ht]; exact X1.moved hal, hS1.F ht⟩
    unfold zRun at hz
    split at hz
    · cases hz
    · next op ln hd =>
      split at hz
      · next v hr =>
        cases hz
        exact sim_ret C X hS hr hd (by omega) (by omega)
      · split at hz
        · next q ht =>
          have hop : op = .athrow ∧ ln = 1 ∧ st = [.ref q] := by
            unfold zThr at ht
            split at ht
            · cases ht; exact ⟨rfl, rfl, rfl⟩
            · cases ht
          obtain ⟨e1, e2, e3⟩ := hop
          subst e1; subst e2; subst e3
          refine vx_athrow C.1 C.2.1 hd ?_
          have hobj : ∀ (_ : hK h q = 109 ∧ kB κ ≤ q), ∃ ce : Cell, H[q]? = some ce ∧ ce.vm = .none ∧ s.vm.findClass (cR 9) = some ce.cls := by
            intro hq
            obtain ⟨ci, fl, hkk⟩ : ∃ ci fl, zLk kTab (hK h q) = some (ci, fl) := by rw [hq.1]; exact ⟨_, _, rfl⟩
            obtain ⟨cell, g1, g2, g3, g4, g5, g6⟩ := X.obj hkk
            have hci : ci = 9 := by
              rw [hq.1] at hkk
              have e9 : zLk kTab 109 = some (9, (zLk kTab 109).get!.2) := by decide +kernel
              have := hkk.symm.trans e9
              cases this
              rfl
            subst hci
            refine ⟨cell, g1, g6 hq.2, ?_⟩
            rw [g2]
            exact (C.2.2.2.2.2.2.2.2.1.1 9 (kTab_spec hkk).1).2.1
          split at hz
          · next t t1 =>
            split at hz
            · next hq =>
              obtain ⟨ce, g1, g2, g3⟩ := hobj hq
              exact hcat X hS g1 g2 g3 (Or.inl ⟨t, t1, hz, hc, hs⟩)
            · cases hz
          · next t1 =>
            split at hz
            · next hq =>
              obtain ⟨ce, g1, g2, g3⟩ := hobj hq
              cases hz
              exact hcat X hS g1 g2 g3 (Or.inr ⟨t1, rfl, rfl, by omega, by omega⟩)
            · cases hz
        · split at hz
          · next y vals rest hcall =>
            obtain ⟨⟨k, hmk⟩, -, -, hsz⟩ := zCall_mk hcall
            split at hz
            · next v h1 he =>
              have l1 := zRun_le he
              have l2 := zRun_le hz
              obtain ⟨l11, l12⟩ := l1
              obtain ⟨l21, l22⟩ := l2
              refine sim_after hS (sim_call C L X hS hcall hd (mc := hN h1 - hN h) (ms := hU h1 - hU h) (by omega) (by omega) (zMet ih C.2.2.2.2.2.2.2.2.2.2.2.2.2 hmk he hsz)) ?_ ?_
              · intro v' H' locs' ev X' hS'
                obtain rfl : v = v' := Sum.inl.inj ev
                exact ih κ D p l e R s m args below meth c M H' locs' (cells + (hN h1 - hN h)) (slots + (hU h1 - hU h)) (pc + ln) lr ls (v.toList ++ rest) h1 r h' hz C tb L X' hS' (by omega) (by omega)
              · intro q ce H' locs' ev
                cases ev
            · next q h1 he =>
              have l1 := zRun_le he
              obtain ⟨l11, l12⟩ := l1
              have l2 : zLe h1 h' := by
                split at hz
                · exact zRun_le hz
                · cases hz; exact zLe.rfl
              obtain ⟨l21, l22⟩ := l2
              refine sim_after hS (sim_call C L X hS hcall hd (mc := hN h1 - hN h) (ms := hU h1 - hU h) (by omega) (by omega) (zMet ih C.2.2.2.2.2.2.2.2.2.2.2.2.2 hmk he hsz)) ?_ ?_
              · intro v' H' locs' ev
                cases ev
              · intro q' ce H' locs' ev X' hS' g1 g2 g3
                cases ev
                split at hz
                · next t t1 => exact hcat X' hS' g1 g2 g3 (Or.inl ⟨t, t1, hz, by omega, by omega⟩)
                · next t1 =>
                  cases hz
                  exact hcat X' hS' g1 g2 g3 (Or.inr ⟨t1, rfl, rfl, by omega, by omega⟩)
            · cases hz
          · split at hz
            · next pc1 ls1 st1 h1 hstep =>
              have l1 := zStep_le hstep
              have l2 := zRun_le hz
              obtain ⟨l11, l12⟩ := l1
              obtain ⟨l21, l22⟩ := l2
              dsimp only at l11 l12
              refine sim_step C L X hS hd hstep (by dsimp only; omega) (by dsimp only; omega) ?_
              intro H' lr' locs' cells' slots' a1 a2 L' X' hS'
              dsimp only at a1 a2 L' X'
              exact ih κ D p l e R s m args below meth c M H' locs' cells' slots' pc1 lr' ls1 st1 h1 r h' hz C tb L' X' hS' (by omega) (by omega)
            · cases hz
