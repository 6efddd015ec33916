/-! the simulation: calls, throws -/
def zHd (y : zM) : Cond := match mT y with
  | [] => Cond.code (mY y) (mC y) (mX y) (mR y)
  | _ :: _ => Cond.codeWith (mY y) (mC y) (mX y) (mR y) (mT y)
def zWs (y : zM) : List Cond := zHd y :: zAll
def zRm (y : zM) (mc ms : Nat) : Room := { frames := mD y + 1, cells := mc, slots := ms, locals := 40 * (mD y + 1) }
def zTb (c : Code) (M : zM) : Prop := c.exceptionTable.toList = tableOf (mT M) ∧ (mT M = [] ∨ (mT M = [(51, 72, 75, 103)] ∧ mO M = 0))
theorem zHd0 {y : zM} (h : mT y = []) : zHd y = Cond.code (mY y) (mC y) (mX y) (mR y) := by unfold zHd; rw [h]
theorem zHd1 {y : zM} (h : mT y = [(51, 72, 75, 103)]) : zHd y = Cond.codeWith (mY y) (mC y) (mX y) (mR y) (mT y) := by unfold zHd; rw [h]
theorem zHd_in {y : zM} (h : zCd y) : zHd y ∈ zAll := by
  rcases h with ⟨h1, h2⟩ | ⟨⟨h1, h0⟩, h2⟩
  · rw [zHd0 h1]; exact h2
  · rw [zHd1 h1]; exact h2
theorem zCd_t {y : zM} (h : zCd y) : mT y = [] ∨ (mT y = [(51, 72, 75, 103)] ∧ mO y = 0) := h.elim (fun h => Or.inl h.1) (fun h => Or.inr h.1)
theorem zWs_in {y : zM} (h : zCd y) : ∀ w ∈ zWs y, w ∈ zAll := by
  intro w hw
  rcases List.mem_cons.mp hw with e | e
  · rw [e]; exact zHd_in h
  · exact e
theorem zSame {args : Array Value} {s : State} {r o n d : String} (h : (Cond.sameMethod r o n d).before args s = true) : ∃ m, s.methodFound? r n d = some m ∧ s.methodNamed? ⟨o, n, d⟩ = some m := by
  cases hc : s.vm.findClass r with
  | none => simp [Cond.before, Cond.holds, Cond.value, hc] at h
  | some c =>
    cases hf : s.methodFound? r n d with
    | none => simp [Cond.before, Cond.holds, Cond.value, hc, hf] at h
    | some m => exact ⟨m, rfl, (Cond.sameMethod_spec hc hf h).1⟩
theorem zLen {y : MethodName} {n k : Nat} (h : (parseMethodDescriptor y.desc).map (fun d => d.parameters.length) = some n) (hk : k = n) : ∀ sig, parseMethodDescriptor y.desc = some sig → k = sig.parameters.length := by
  intro sig hs
  rw [hs] at h
  rw [hk]
  exact (Option.some.inj h).symm
theorem zPc_blind {κ : zC} {D : zD} {h : zH} {vals : List Value} : FrameBlind (zPc κ D h vals) := by
  intro a U g mk ⟨h1, h2, h3, h4⟩
  exact ⟨h1, h2.moved (State.WarmedH.refl U).alike, h3.moved (State.WarmedH.refl U).alike, h4.warm (State.WarmedH.refl U)⟩
def zRn (len : Nat) (p : Program) (l : Launch) (e : Env) (R : Room) (s : State) (m : MethodId) (args : Array Value) (below : List Frame) (meth : Method) (c : Code) (H : Heap) (locs : List Loc) (cells slots mc ms : Nat) (g : JFrame) (rest : List Value) (Qa : State → Outcome → State → Prop) (XC : Addr → String → State → State → Prop) (free : Addr → Prop) : Prop :=
  ∀ T : State, T.heap = H → Stand p l e R s m args below meth c T locs cells slots →
    (∃ (v : Option Value) (st₀ t T' : State) (L : List Loc), st₀.heap = H ∧ Stand p l e R s m args below meth c T' (locs ++ L) (cells + mc) (slots + ms) ∧ (∀ q ∈ L, free q.base) ∧ T'.heap = t.heap ∧ T'.vm = t.vm ∧ Qa st₀ (.returned v) t ∧
      Goes p e below T g T' { g with pc := g.pc + len, stack := v.toList ++ rest }) ∨
    (∃ (q : Addr) (st₀ t T' : State) (L : List Loc) (E : String) (ce : Cell), st₀.heap = H ∧ Stand p l e R s m args below meth c T' (locs ++ L) (cells + mc) (slots + ms) ∧ (∀ z ∈ L, free z.base) ∧ T'.heap = t.heap ∧ T'.vm = t.vm ∧ XC q E st₀ t ∧ t.heap[q]? = some ce ∧ ce.vm = .none ∧ s.vm.findClass E = some ce.cls ∧
      Steps p.tables e below (T.setTop g) ((T'.setTop { g with stack := rest }).pushFrame (.throwing q)))
section
variable {κ : zC} {D : zD} {p : Program} {l : Launch} {e : Env} {R : Room} {s : State} {m : MethodId} {args : Array Value} {below : List Frame} {meth : Method} {c : Code} {M : zM} {H : Heap} {locs : List Loc} {cells slots : Nat} {Q : State → Prop} {pc : Nat} {lr : Array Slot} {ls : List (Option Value)} {st : List Value} {h : zH} {op : Instr} {ln : Nat}
theorem zPc_at (C : zCx κ D p l R s m args meth c M) (X : zRel κ D s H h) (hS : va_S (fun q => kB κ ≤ q) s.heap H locs) (vals : List Value) : ∀ U : State, U.heap = H → s.WarmedH U.vm → zPc κ D h vals vals.toArray U := by
  obtain ⟨hx, hb, hml, hrt, hlk, hown, hts, hnm, hW, hRf, hRl, hSs, hB, hl⟩ := C
  intro U hU hw
  refine ⟨rfl, by rw [hU]; exact X.moved hw.alike, ?_, hW.warm hw⟩
  rw [hU]
  exact (hSs.kept hS.2.1).moved hw.alike
/-- behind a call -/
theorem sim_after {len mc ms : Nat} {rest : List Value} {a : Array Value} {r1 : Option Value ⊕ Nat} {h1 : zH} (hS : va_S (fun q => kB κ ≤ q) s.heap H locs)
    (hr : zRn len p l e R s m args below meth c H locs cells slots mc ms (F0 m pc lr st) rest (zQc κ D r1 h1 a) (zXc κ D r1 h1) (fun q => kB κ ≤ q))
    (k1 : ∀ (v : Option Value) (H' : Heap) (locs' : List Loc), r1 = .inl v → zRel κ D s H' h1 → va_S (fun q => kB κ ≤ q) s.heap H' locs' → W p l e R s m args below meth c H' locs' (cells + mc) (slots + ms) Q (F0 m (pc + len) lr (v.toList ++ rest)))
    (k2 : ∀ (q : Nat) (ce : Cell) (H' : Heap) (locs' : List Loc), r1 = .inr q → zRel κ D s H' h1 → va_S (fun q => kB κ ≤ q) s.heap H' locs' → H'[q]? = some ce → ce.vm = .none → s.vm.findClass (cR 9) = some ce.cls → vx_W p l e R s m args below meth c H' locs' (cells + mc) (slots + ms) Q (F0 m pc lr rest) q) :
    W p l e R s m args below meth c H locs cells slots Q (F0 m pc lr st) := by
  intro T hT X0
  rcases hr T hT X0 with ⟨v, st₀, t, T', L, h0, X', hL, e1, e2, ⟨⟨v', hv, ho⟩, hrel, hF⟩, stp⟩ | ⟨q, st₀, t, T', L, E, ce, h0, X', hL, e1, e2, ⟨hr1, hE, hrel, hF⟩, hce, hcv, hcl, stp⟩
  · cases ho
    obtain ⟨-, -, k3⟩ := vx_keep h0 e1 hS (fun _ _ h => h) (fun _ h => h) hL hF
    have hal : t.vm.Alike s.vm := by rw [← e2]; exact X'.warmed.alike.symm
    obtain ⟨t2, a1, b1⟩ := k1 v T'.heap (locs ++ L) hv (by rw [e1]; exact hrel.moved hal) k3 T' rfl X'
    exact ⟨t2, stp t2 a1, b1⟩
  · subst hE
    obtain ⟨-, -, k3⟩ := vx_keep h0 e1 hS (fun _ _ h => h) (fun _ h => h) hL hF
    have hal : t.vm.Alike s.vm := by rw [← e2]; exact X'.warmed.alike.symm
    obtain ⟨t2, a1, b1⟩ := k2 q ce T'.heap (locs ++ L) hr1 (by rw [e1]; exact hrel.moved hal) k3 (by rw [e1]; exact hce) hcv hcl T' rfl X'
    exact ⟨t2, stp.trans a1, b1⟩
theorem zCall_mk {y : zM} {vals rest : List Value} (hz : zCall M h st op ln = some (y, vals, rest)) : (∃ n, zMk y n) ∧ zSum rest ≤ 8 ∧ mD y < mD M ∧ zSize vals ≤ mX y := by
  unfold zCall at hz
  split at hz
  · split at hz
    · obtain ⟨q, t1, hz⟩ := Option.bind_eq_some_iff.mp hz
      obtain ⟨r, t2, hz⟩ := Option.bind_eq_some_iff.mp hz
      split at hz
      · next t3 => cases hz; exact ⟨⟨_, (tI1_ok _ _ (zLk_mem t1)).1⟩, t3⟩
      · cases hz
    · cases hz
  · split at hz
    · obtain ⟨q, t1, hz⟩ := Option.bind_eq_some_iff.mp hz
      obtain ⟨r, t2, hz⟩ := Option.bind_eq_some_iff.mp hz
      split at hz
      · split at hz
        · next t3 => cases hz; exact ⟨⟨_, (tI2_ok _ _ (zLk_mem t1)).1⟩, t3.1, t3.2.1, t3.2.2.1⟩
        · cases hz
      · cases hz
    · cases hz
  · split at hz
    · obtain ⟨q, t1, hz⟩ := Option.bind_eq_some_iff.mp hz
      obtain ⟨r, t2, hz⟩ := Option.bind_eq_some_iff.mp hz
      split at hz
      · obtain ⟨y0, t4, hz⟩ := Option.bind_eq_some_iff.mp hz
        split at hz
        · next t3 => cases hz; exact ⟨⟨_, (tI3_ok _ _ (zLk_mem t1) _ (zLk_mem t4)).1⟩, t3⟩
        · cases hz
      · cases hz
    · cases hz
  · split at hz
    · obtain ⟨q, t1, hz⟩ := Option.bind_eq_some_iff.mp hz
      obtain ⟨r, t2, hz⟩ := Option.bind_eq_some_iff.mp hz
      split at hz
      · obtain ⟨y0, t4, hz⟩ := Option.bind_eq_some_iff.mp hz
        split at hz
        · next t3 => cases hz; exact ⟨⟨_, (tI4_ok _ _ (zLk_mem t1) _ (zLk_mem t4)).1⟩, t3⟩
        · cases hz
      · cases hz
    · cases hz
  · cases hz
/-- the receiver's class -/
theorem z_recv (C : zCx κ D p l R s m args meth c M) (X : zRel κ D s H h) {b ci : Nat} {fl : List (Nat × Nat)} (hk : zLk kTab (hK h b) = some (ci, fl)) : ClassAt s (cR ci) (D.1 ci) ∧ ∃ cellB : Cell, H[b]? = some cellB ∧ cellB.vm.isStatics = false ∧ s.vm.findClass (cR ci) = some cellB.cls := by
  obtain ⟨hx, hb, hml, hrt, hlk, hown, hts, hnm, hW, hRf, hRl, hSs, hB, hl⟩ := C
  obtain ⟨cell, g1, g2, g3, g4, -⟩ := X.obj hk
  have h1 := (hW.1 ci (kTab_spec hk).1).2
  exact ⟨h1, cell, g1, g4, by rw [g2]; exact h1.1⟩
theorem sim_call (C : zCx κ D p l R s m args meth c M) (L : zLs lr (mX M) ls) (X : zRel κ D s H h) (hS : va_S (fun q => kB κ ≤ q) s.heap H locs) {y : zM} {vals rest : List Value} (hz : zCall M h st op ln = some (y, vals, rest)) (hd : decode (mC M) pc = .ok (op, ln)) {mc ms : Nat} (hc : cells + mc ≤ R.cells) (hs : slots + ms ≤ R.slots) {r1 : Option Value ⊕ Nat} {h1 : zH}
    (hM : vx_Met l (mY y) (zWs y) (zRm y mc ms) (zPc κ D h vals) (zQc κ D r1 h1) (zXc κ D r1 h1) mc ms (fun q => kB κ ≤ q)) :
    zRn ln p l e R s m args below meth c H locs cells slots mc ms (F0 m pc lr st) rest (zQc κ D r1 h1 vals.toArray) (zXc κ D r1 h1) (fun q => kB κ ≤ q) := by
  obtain ⟨⟨n, hmk⟩, hsum, hlev, -⟩ := zCall_mk hz
  have hP := zPc_at C X hS vals
  have hrv : ∀ {b ci : Nat} {fl : List (Nat × Nat)}, zLk kTab (hK h b) = some (ci, fl) → _ := fun hk => z_recv C X hk
  obtain ⟨hx, hb, hml, hrt, hlk, hown, hts, hnm, hW, hRf, hRl, hSs, hB, hl⟩ := C
  have hfix : CallFix p m c (mC M) (mX M) s args zAll (cR (mO M)) := ⟨hx, hb, hml, hown, hts⟩
  have hfr : (zRm y mc ms).frames + 1 ≤ R.frames := by show mD y + 1 + 1 ≤ _; omega
  have hlo : 8 + (mX y + 11) + (zRm y mc ms).locals ≤ R.locals := by
    show 8 + (mX y + 11) + 40 * (mD y + 1) ≤ _
    have := hmk.2.2.1
    omega
  have hws : ∀ w ∈ zWs y, ∀ (a' : Array Value) (U : State), s.WarmedH U.vm → w.before a' U = true := fun w hw a' U hu => zAll_at hts hu w (zWs_in hmk.2.2.2.2.2 w hw) a'
  have hhd : zHd y ∈ zWs y := List.mem_cons_self
  have hhw : (zHd y).before args s = true := hts _ (zHd_in hmk.2.2.2.2.2)
  have hsz : (F0 m pc lr st).locals.size = mX M := L.1.1
  have hsm : 2 * (F0 m pc lr st).monitorRoom + (rest.map fun v => v.category).sum ≤ 8 := by
    show 2 * 0 + _ ≤ 8
    unfold zSum at hsum
    omega
  clear hmk
  unfold zCall at hz
  split at hz
  · split at hz
    · next e1 =>
      subst e1
      obtain ⟨q, t1, hz⟩ := Option.bind_eq_some_iff.mp hz
      obtain ⟨r, t2, hz⟩ := Option.bind_eq_some_iff.mp hz
      split at hz
      · cases hz
        obtain ⟨w1, w2, w3, w4, w5⟩ := tI1_ok _ _ (zLk_mem t1)
        obtain ⟨v1, v2⟩ := zTake_spec t2
        dsimp only at w1 w2 w3 w4 w5 hhd hhw
        rw [zHd0 w2] at hhd hhw
        exact vx_runS hfix hM ⟨⟨rfl, rfl, hfr, hlo, hws, hhd, hhw, hts _ w5, w1.1, zLen w1.2.1 rfl, hts _ w3⟩, hts _ w4⟩ ⟨zPc_blind, hP⟩ rfl (by simpa using v2) hsz (by simpa using v1) hsm hd ⟨hc, hs⟩
      · cases hz
    · cases hz
  · split at hz
    · next e1 =>
      subst e1
      obtain ⟨q, t1, hz⟩ := Option.bind_eq_some_iff.mp hz
      obtain ⟨r, t2, hz⟩ := Option.bind_eq_some_iff.mp hz
      split at hz
      · next b rest0 er =>
        split at hz
        · next t3 =>
          cases hz
          obtain ⟨w1, w2, w3, w4, w5⟩ := tI2_ok _ _ (zLk_mem t1)
          obtain ⟨v1, v2⟩ := zTake_spec t2
          dsimp only at w1 w2 w3 w4 w5 hhd hhw
          rw [zHd0 w2] at hhd hhw
          rw [er] at v1
          rcases w5 with ⟨u1, u2, u3, u4⟩ | ⟨u1, u2, u3, u4, u5⟩
          · rw [u3] at hhd hhw
            rcases u4 with u4 | ⟨host, u4⟩
            · exact vx_runI hfix hM ⟨⟨rfl, rfl, hfr, hlo, hws, hhd, hhw, hts _ w4, w1.1, zLen w1.2.1 rfl, hts _ u4⟩, u2, hts _ w3⟩ ⟨zPc_blind, hP⟩ rfl (by simpa using v2) hsz (by simpa using v1) hsm hd ⟨hc, hs⟩
            · exact vx_runIN hfix hM ⟨⟨⟨rfl, rfl, hfr, hlo, hws, hhd⟩, hhw, hts _ w4, w1.1, zLen w1.2.1 rfl, va_Nw.use rfl (hW.2.2.1 _ u4)⟩, u2, hts _ w3⟩ ⟨zPc_blind, hP⟩ rfl (by simpa using v2) hsz (by simpa using v1) hsm hd ⟨hc, hs⟩
          · have hk100 : 100 ≤ hK h b := by
              rcases t3.2.2.2 with z | z
              · rw [z] at u1; cases u1
              · exact z
            have hkk : ∃ ci fl, zLk kTab (hK h b) = some (ci, fl) := by
              rcases X.2.2 b with z | ⟨ty, cell, z, -⟩ | ⟨ci, fl, cell, z, -⟩
              · omega
              · exfalso
                have a1 : ∀ q ∈ aTab, q.1 < 100 := by decide
                have := a1 _ (zLk_mem z)
                dsimp only at this
                omega
              · exact ⟨ci, fl, z⟩
            obtain ⟨ci, fl, hkk⟩ := hkk
            obtain ⟨hat, hcell⟩ := hrv hkk
            exact vx_runSU hat hfix hM ⟨⟨rfl, rfl, hfr, hlo, hws, hhd⟩, hts _ u3, hts _ u4, hts _ u5, hts _ w3, hts _ w4, hhw, u2, zLen w1.2.1 rfl⟩ ⟨zPc_blind, hcell, hP⟩ rfl (by simpa using v2) hsz (by simpa using v1) hsm hd ⟨hc, hs⟩
        · cases hz
      · cases hz
    · cases hz
  · split at hz
    · next e1 =>
      subst e1
      obtain ⟨q, t1, hz⟩ := Option.bind_eq_some_iff.mp hz
      obtain ⟨r, t2, hz⟩ := Option.bind_eq_some_iff.mp hz
      split at hz
      · next b rest0 er =>
        obtain ⟨y0, t4, hz⟩ := Option.bind_eq_some_iff.mp hz
        split at hz
        · cases hz
          obtain ⟨w1, w3, w4, ci, fl, hkk, w5⟩ := tI3_ok _ _ (zLk_mem t1) _ (zLk_mem t4)
          obtain ⟨v1, v2⟩ := zTake_spec t2
          dsimp only at w1 w3 w4 w5 hkk
          rw [er] at v1
          obtain ⟨hat, hcell⟩ := hrv hkk
          rcases w5 with ⟨u1, u2, u3⟩ | ⟨w2, x, owner, u1, u2, u3, u4, u5⟩
          · rcases zCd_t w1.2.2.2.2.2 with w2 | ⟨w2, -⟩
            · rw [zHd0 w2] at hhd hhw
              exact vx_runV hfix hM ⟨⟨rfl, rfl, hfr, hlo, hws, hhd, hhw, hts _ w4, w1.1, zLen w1.2.1 rfl, hts _ u2⟩, hts _ w3, hts _ u3⟩ ⟨zPc_blind, hcell, hP⟩ rfl (by simpa using v2) hsz (by simpa using v1) hsm hd ⟨hc, hs⟩
            · rw [zHd1 w2] at hhd hhw
              exact vx_runVX hfix hM ⟨⟨rfl, rfl, hfr, hlo, hws, hhd⟩, hhw, hts _ w4, w1.1, zLen w1.2.1 rfl, hts _ u2, hts _ w3, hts _ u3⟩ ⟨zPc_blind, hcell, hP⟩ rfl (by simpa using v2) hsz (by simpa using v1) hsm hd ⟨hc, hs⟩
          · rw [zHd0 w2] at hhd hhw
            have hdec : va_Decl s ⟨owner, x.name, x.desc⟩ ∧ (Cond.selects (cR ci) x (mY y)).before args s = true := by
              rcases u5 with ⟨u6, u7⟩ | ⟨u6, u7, b0, m0, r0, u8⟩ | ⟨u6, u7⟩
              · exact ⟨by rw [← u7]; exact va_Decl.of (hts _ w3) hhw, hts _ u6⟩
              · exact ⟨va_Decl.of (hts _ u7) (hts _ u8), hts _ u6⟩
              · refine ⟨va_Decl.abs (hW.2.2.1 _ u7), ?_⟩
                refine z_sel ?_ (hts _ u6)
                obtain ⟨mf, f1, f2⟩ := zSame (hts _ u4)
                rw [f1]
                exact (State.methodFound?_of_named f2 u2).symm
            exact vx_runU hfix hM ⟨⟨rfl, rfl, hfr, hlo, hws, hhd⟩, hhw, hts _ w4, u2, zLen u1 rfl, hts _ u3, hts _ u4, hdec.1, hdec.2, hts _ w3⟩ ⟨zPc_blind, hcell, hP⟩ rfl (by simpa using v2) hsz (by simpa using v1) hsm hd ⟨hc, hs⟩
        · cases hz
      · cases hz
    · cases hz
  · split at hz
    · next e1 =>
      subst e1
      obtain ⟨q, t1, hz⟩ := Option.bind_eq_some_iff.mp hz
      obtain ⟨r, t2, hz⟩ := Option.bind_eq_some_iff.mp hz
      split at hz
      · next b rest0 er =>
        obtain ⟨y0, t4, hz⟩ := Option.bind_eq_some_iff.mp hz
        split at hz
        · cases hz
          obtain ⟨w1, w2, w3, w4, ci, fl, hkk, x, u0, u1, u2, u3, u4⟩ := tI4_ok _ _ (zLk_mem t1) _ (zLk_mem t4)
          obtain ⟨v1, v2⟩ := zTake_spec t2
          dsimp only at w1 w2 w3 w4 hkk u0 u1 u2 u3 u4
          rw [er] at v1
          obtain ⟨hat, hcell⟩ := hrv hkk
          rw [zHd0 w2] at hhd hhw
          obtain ⟨f1, f2, f3, f4, f5⟩ := hW.2.2.2.1 _ u0
          exact vx_runF hat hfix hM ⟨⟨rfl, rfl, hfr, hlo, hws, hhd⟩, hts _ u3, va_any rfl f1, va_any rfl f2, hts _ u4, hts _ w3, va_any rfl f3, va_any rfl f4, va_any rfl f5, hts _ w4, hhw, u2, zLen u1 rfl⟩ ⟨zPc_blind, hcell, hP⟩ rfl (by simpa using v2) hsz (by simpa using v1) hsm hd ⟨hc, hs⟩
        · cases hz
      · cases hz
    · cases hz
  · cases hz
end
