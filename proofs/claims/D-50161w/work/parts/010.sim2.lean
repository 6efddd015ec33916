/-! the simulation: what holds while a method runs; steps that leave the heap -/
def zCx (κ : zC) (D : zD) (p : Program) (l : Launch) (R : Room) (s : State) (m : MethodId) (args : Array Value) (meth : Method) (c : Code) (M : zM) : Prop :=
  p.tables.exec = Jvm.exec ∧ c.code = mC M ∧ c.maxLocals = mX M ∧ meth.sig.returnType = mR M ∧ meth.locks = false ∧ s.vm.findClass (cR (mO M)) = some m.cls ∧ (∀ w ∈ zAll, w.before args s = true) ∧ meth.name = (mY M).name ∧ zWd κ D s ∧ mD M + 1 ≤ R.frames ∧ 40 * (mD M + 1) ≤ R.locals ∧ zSs κ s s.heap ∧ kB κ ≤ s.heap.size ∧ l.stackTraces = false
def zLs (lr : Array Slot) (n : Nat) (ls : List (Option Value)) : Prop := lv_has lr n (zAs 0 ls) ∧ ls.length = n
theorem zLs.get {lr : Array Slot} {n : Nat} {ls : List (Option Value)} (h : zLs lr n ls) {i : Nat} {v : Value} (hi : zGet ls i = some v) : lr[i]? = some (.val v) :=
  h.1.2.2 (i, v) (zAs_mem.mpr ⟨i, by simp, hi⟩)
theorem zPut1_len (l : List (Option Value)) (i : Nat) (v : Value) : (zPut1 l i v).length = l.length := by
  induction l generalizing i with
  | nil => rfl
  | cons x l ih => cases i with
    | zero => rfl
    | succ i => show (zPut1 l i v).length + 1 = _; rw [ih]; rfl
theorem zPut2_len (l : List (Option Value)) (i : Nat) (v : Value) (hi : i + 1 < l.length) : (zPut2 l i v).length = l.length := by
  induction l generalizing i with
  | nil => cases hi
  | cons x l ih => cases i with
    | zero => cases l with
      | nil => rfl
      | cons y l => rfl
    | succ i => show (zPut2 l i v).length + 1 = _; rw [ih i (by simpa using hi)]; rfl
theorem zClob_some {n : Nat} {x : Option Value} {v : Value} (h : zClob n x = some v) : x = some v ∧ (n = 0 → v.category = 1) := by
  unfold zClob at h
  split at h
  · cases h
  · cases h
  · next h1 h2 =>
    refine ⟨h, fun hn => ?_⟩
    subst h; subst hn
    cases v <;> first | rfl | exact absurd rfl (h1 _ rfl) | exact absurd rfl (h2 _ rfl)
theorem zPut1_get {l : List (Option Value)} {i j : Nat} {v w : Value} (h : zGet (zPut1 l i v) j = some w) : (j = i ∧ w = v) ∨ (j ≠ i ∧ zGet l j = some w ∧ (j + 1 = i → w.category = 1)) := by
  induction l generalizing i j with
  | nil => cases h
  | cons x l ih => cases i with
    | zero => cases j with
      | zero => left; cases h; exact ⟨rfl, rfl⟩
      | succ j => right; exact ⟨by omega, h, by omega⟩
    | succ i => cases j with
      | zero =>
        obtain ⟨h1, h2⟩ := zClob_some (show zClob i x = some w from h)
        right; exact ⟨by omega, h1, fun e => h2 (by omega)⟩
      | succ j =>
        rcases ih (show zGet (zPut1 l i v) j = some w from h) with ⟨a, b⟩ | ⟨a, b, c⟩
        · left; exact ⟨by omega, b⟩
        · right; exact ⟨by omega, b, fun e => c (by omega)⟩
theorem zPut2_get {l : List (Option Value)} {i j : Nat} {v w : Value} (h : zGet (zPut2 l i v) j = some w) : (j = i ∧ w = v) ∨ (j ≠ i ∧ j ≠ i + 1 ∧ zGet l j = some w ∧ (j + 1 = i → w.category = 1)) := by
  induction l generalizing i j with
  | nil => cases h
  | cons x l ih => cases i with
    | zero => cases j with
      | zero => left; cases h; exact ⟨rfl, rfl⟩
      | succ j => cases l with
        | nil => cases h
        | cons y l => cases j with
          | zero => cases h
          | succ j => right; exact ⟨by omega, by omega, h, by omega⟩
    | succ i => cases j with
      | zero =>
        obtain ⟨h1, h2⟩ := zClob_some (show zClob i x = some w from h)
        right; exact ⟨by omega, by omega, h1, fun e => h2 (by omega)⟩
      | succ j =>
        rcases ih (show zGet (zPut2 l i v) j = some w from h) with ⟨a, b⟩ | ⟨a, a', b, c⟩
        · left; exact ⟨by omega, b⟩
        · right; exact ⟨by omega, by omega, b, fun e => c (by omega)⟩
theorem zLs.sub {lr : Array Slot} {n : Nat} {L : List (Nat × Value)} {ls : List (Option Value)} (h : lv_has lr n L) (hs : ∀ i v, zGet ls i = some v → (i, v) ∈ L) (hl : ls.length = n) : zLs lr n ls :=
  ⟨⟨h.1, h.2.1, fun q hq => by
    obtain ⟨j, h1, h2⟩ := zAs_mem.mp hq
    have e : q.1 = j := by omega
    have h3 := h.2.2 _ (hs j q.2 h2)
    rw [e]; exact h3⟩, hl⟩
theorem zLs.put1 {lr : Array Slot} {n i : Nat} {ls : List (Option Value)} {v : Value} (h : zLs lr n ls) {lr' : Array Slot} (h' : lv_has lr' n ((i, v) :: (zAs 0 ls).filter (fun q => !(q.1 == i) && !(q.1 + 1 == i && q.2.category == 2)))) : zLs lr' n (zPut1 ls i v) := by
  refine zLs.sub h' (fun j w hj => ?_) (by rw [zPut1_len]; exact h.2)
  rcases zPut1_get hj with ⟨a, b⟩ | ⟨a, b, c⟩
  · subst a; subst b; exact List.mem_cons_self
  · refine List.mem_cons_of_mem _ (List.mem_filter.mpr ⟨zAs_mem.mpr ⟨j, by simp, b⟩, ?_⟩)
    have h1 : (j == i) = false := by simpa using a
    have h2 : (j + 1 == i && w.category == 2) = false := by
      by_cases e : j + 1 = i
      · rw [c e]; simp
      · simp [e]
    show (!(j == i) && !(j + 1 == i && w.category == 2)) = true
    rw [h1, h2]; rfl
theorem zLs.put2 {lr : Array Slot} {n i : Nat} {ls : List (Option Value)} {v : Value} (h : zLs lr n ls) (hi : i + 1 < n) {lr' : Array Slot} (h' : lv_has lr' n ((i, v) :: (zAs 0 ls).filter (fun q => !(q.1 == i) && (!(q.1 == i + 1) && !(q.1 + 1 == i && q.2.category == 2))))) : zLs lr' n (zPut2 ls i v) := by
  refine zLs.sub h' (fun j w hj => ?_) (by rw [zPut2_len _ _ _ (by rw [h.2]; exact hi)]; exact h.2)
  rcases zPut2_get hj with ⟨a, b⟩ | ⟨a, a', b, c⟩
  · subst a; subst b; exact List.mem_cons_self
  · refine List.mem_cons_of_mem _ (List.mem_filter.mpr ⟨zAs_mem.mpr ⟨j, by simp, b⟩, ?_⟩)
    have h1 : (j == i) = false := by simpa using a
    have h3 : (j == i + 1) = false := by simpa using a'
    have h2 : (j + 1 == i && w.category == 2) = false := by
      by_cases e : j + 1 = i
      · rw [c e]; simp
      · simp [e]
    show (!(j == i) && (!(j == i + 1) && !(j + 1 == i && w.category == 2))) = true
    rw [h1, h2, h3]; rfl
section
variable {p : Program} {l : Launch} {e : Env} {R : Room} {s : State} {m : MethodId} {args : Array Value} {below : List Frame} {meth : Method} {c : Code} {T : State} {locs : List Loc} {cells slots : Nat}
theorem z_ldcwS (X : Stand p l e R s m args below meth c T locs cells slots) (hexec : p.tables.exec = Jvm.exec) {own text : String} {index : Nat} {a : Addr} (hown : s.vm.findClass own = some m.cls)
    (hconst : (Cond.stringRef own index text).before args s = true) (hev : (Term.string own index).eval args s none [] s = some (.ref a)) {g : JFrame} (hg : g.method = m) (hdg : decode c.code g.pc = .ok (.ldc_w index, 3)) :
    ∀ target, Steps p.tables e below (T.setTop { g with pc := g.pc + 3, stack := .ref a :: g.stack }) target → Steps p.tables e below (T.setTop g) target := by
  obtain ⟨k, cf, i, a', hk, hcf, hcp, -, hr, hev'⟩ := Cond.stringRef_spec hown hconst
  cases hev.symm.trans hev'
  obtain ⟨k', hk', he⟩ := X.warmed.alike.2.2 _ _ hk
  have hr' : k'.resolved[index]? = some (some (.string a)) := by
    rcases X.warmed.entry hk hk' index with h | ⟨h, -⟩
    · rw [h]; exact hr
    · rw [hr] at h; cases h
  intro target hrest
  subst hg
  jvm_step X.here [hexec, hdg, ldc_w.wp_string (e := e) (s := T) (f := g) X.here.top hk' (by rw [he]; exact hcf) hcp hr']
  exact hrest
theorem z_ldcwF (X : Stand p l e R s m args below meth c T locs cells slots) (hexec : p.tables.exec = Jvm.exec) {own : String} {index : Nat} {b : UInt32} (hown : s.vm.findClass own = some m.cls)
    (hconst : (Cond.constantFloat own index b).before args s = true) {g : JFrame} (hg : g.method = m) (hdg : decode c.code g.pc = .ok (.ldc_w index, 3)) :
    ∀ target, Steps p.tables e below (T.setTop { g with pc := g.pc + 3, stack := .float b :: g.stack }) target → Steps p.tables e below (T.setTop g) target := by
  obtain ⟨k, cf, hk, hcf, hcp⟩ := Cond.constantFloat_spec hown hconst
  obtain ⟨k', hk', he⟩ := X.warmed.alike.2.2 _ _ hk
  intro target hrest
  subst hg
  jvm_step X.here [hexec, hdg, ldc_w.wp_float (e := e) (s := T) (f := g) X.here.top hk' (by rw [he]; exact hcf) hcp]
  exact hrest
end
section
variable {p : Program} {l : Launch} {e : Env} {R : Room} {s : State} {m : MethodId} {args : Array Value} {below : List Frame} {meth : Method} {c : Code} {H : Heap} {locs : List Loc} {cells slots : Nat} {Q : State → Prop}
variable {κ : zC} {D : zD} {M : zM} {pc ln : Nat} {ls : List (Option Value)} {lr : Array Slot} {st : List Value} {h : zH} {op : Instr}
theorem sim_cst (C : zCx κ D p l R s m args meth c M) {v : Value} {ln : Nat} (hS : va_S (fun q => kB κ ≤ q) s.heap H locs) (hz : zCst κ (mO M) op = some (v, ln)) (hd : decode (mC M) pc = .ok (op, ln))
    (k : W p l e R s m args below meth c H locs cells slots Q (F0 m (pc + ln) lr (v :: st))) : W p l e R s m args below meth c H locs cells slots Q (F0 m pc lr st) := by
  obtain ⟨hx, hb, hml, hr, hlk, hown, hts, hnm, hW, hRf, hRl, hSs, hB, hl⟩ := C
  unfold zCst at hz
  split at hz
  · cases hz; exact lv_null hx hb hd k
  · cases hz; exact lv_iconst hx hb hd rfl k
  · cases hz; exact lv_lconst hx hb hd rfl k
  · split at hz
    · next e0 => subst e0; cases hz; exact lv_dconst0 hx hb hd k
    · cases hz
  · cases hz; exact lv_bipush hx hb hd rfl k
  · cases hz; exact lv_sipush hx hb hd rfl k
  · next i =>
    obtain ⟨w, hw, he⟩ := Option.map_eq_some_iff.mp hz
    cases he
    unfold zLdc at hw
    split at hw
    · next v0 h1 =>
      cases hw
      rcases tI_ok _ _ (zLk_mem h1) with ⟨x, hx1, hx2⟩ | ⟨x, hx1, hx2⟩
      · cases hx1; exact lv_ldc hx hb hown (hts _ hx2) hd k
      · cases hx1; exact lv_ldcf hx hb hown (hts _ hx2) hd k
    · split at hw
      · next k0 h1 =>
        cases hw
        obtain ⟨z, z1, z2, z3⟩ := tG_ok _ _ (zLk_mem h1)
        have h6 := hW.2.2.2.2.2.1 _ _ z1
        rw [z2, z3] at h6
        exact va_ldcS hx hb hown h6 hd k
      · split at hw
        · next k0 h1 =>
          cases hw
          obtain ⟨z, z1, z2⟩ := tM_ok _ _ (zLk_mem h1)
          exact va_ldcM hx hb hown (hts _ z2) (hW.2.2.2.2.2.2 _ _ z1) hd k
        · cases hw
  · next i =>
    obtain ⟨w, hw, he⟩ := Option.map_eq_some_iff.mp hz
    cases he
    unfold zLdw at hw
    split at hw
    · next v0 h1 =>
      cases hw
      rcases tI_ok _ _ (zLk_mem h1) with ⟨x, hx1, hx2⟩ | ⟨x, hx1, hx2⟩
      · cases hx1; exact lv_ldcw hx hb hown (hts _ hx2) hd k
      · cases hx1
        intro T hT X
        obtain ⟨t, a, b⟩ := k T hT X
        exact ⟨t, z_ldcwF X hx hown (hts _ hx2) (g := F0 m pc lr st) rfl (by rw [hb]; exact hd) t a, b⟩
    · split at hw
      · next k0 h1 =>
        cases hw
        obtain ⟨z, z1, z2, z3⟩ := tG_ok _ _ (zLk_mem h1)
        have h6 := hW.2.2.2.2.2.1 _ _ z1
        rw [z2, z3] at h6
        intro T hT X
        obtain ⟨t, a, b⟩ := k T hT X
        exact ⟨t, z_ldcwS X hx hown h6.1 h6.2 (g := F0 m pc lr st) rfl (by rw [hb]; exact hd) t a, b⟩
      · cases hw
  · next i =>
    obtain ⟨w, hw, he⟩ := Option.map_eq_some_iff.mp hz
    cases he
    obtain ⟨x, hx1, hx2⟩ := tJ_ok _ _ (zLk_mem hw)
    cases hx1
    exact lv_ldc2 hx hb hown (hts _ hx2) hd k
  · next i =>
    obtain ⟨w, hw, he⟩ := Option.map_eq_some_iff.mp hz
    cases he
    obtain ⟨z, z1, z2⟩ := tS_ok _ _ (zLk_mem hw)
    have hZ := hSs _ _ z1
    rcases z2 with z2 | ⟨host, z2⟩
    · exact va_gets hx hb hZ hS hown (hts _ z2) (fun _ h => h) hd k
    · exact va_getsN hx hb hZ hS hown (va_Nw.use rfl (hW.2.2.1 _ z2)) (fun _ h => h) hd k
  · cases hz
theorem sim_lod (C : zCx κ D p l R s m args meth c M) (L : zLs lr (mX M) ls) {i ln k : Nat} {v : Value} (hz : zLod op = some (i, ln, k)) (hg : zGet ls i = some v) (hk : zTy k v = true) (hd : decode (mC M) pc = .ok (op, ln))
    (kk : W p l e R s m args below meth c H locs cells slots Q (F0 m (pc + ln) lr (v :: st))) : W p l e R s m args below meth c H locs cells slots Q (F0 m pc lr st) := by
  obtain ⟨hx, hb, -⟩ := C
  have hl := L.get hg
  unfold zLod at hz
  split at hz
  all_goals try (cases hz; done)
  all_goals cases hz
  all_goals cases v <;> first | exact Bool.noConfusion (show false = true from hk) | skip
  · exact lv_iload_n hx hb hd rfl hl kk
  · exact lv_iload hx hb hd hl kk
  · exact lv_lload_n hx hb hd rfl hl kk
  · exact lv_lload hx hb hd hl kk
  · exact lv_aload_nN hx hb hd rfl hl kk
  · exact lv_aload_n hx hb hd rfl hl kk
  · exact lv_aloadN hx hb hd hl kk
  · exact lv_aload hx hb hd hl kk
  · exact lv_dload_n hx hb hd rfl hl kk
  · exact lv_dload hx hb hd hl kk
theorem sim_str (C : zCx κ D p l R s m args meth c M) (L : zLs lr (mX M) ls) {i ln k : Nat} {v : Value} (hz : zStr op = some (i, ln, k)) (hk : zTy k v = true) (hi : i + v.category ≤ ls.length) (hd : decode (mC M) pc = .ok (op, ln))
    (kk : ∀ lr' : Array Slot, zLs lr' (mX M) (if v.category = 1 then zPut1 ls i v else zPut2 ls i v) → W p l e R s m args below meth c H locs cells slots Q (F0 m (pc + ln) lr' st)) : W p l e R s m args below meth c H locs cells slots Q (F0 m pc lr (v :: st)) := by
  obtain ⟨hx, hb, -⟩ := C
  rw [L.2] at hi
  unfold zStr at hz
  split at hz
  all_goals try (cases hz; done)
  all_goals cases hz
  all_goals cases v <;> first | exact Bool.noConfusion (show false = true from hk) | skip
  · exact lv_istore_n hx hb hd rfl L.1 (by simp only [Value.category] at hi; omega) rfl (fun lr' h' => kk lr' (L.put1 h'))
  · exact lv_istore hx hb hd L.1 (by simp only [Value.category] at hi; omega) rfl (fun lr' h' => kk lr' (L.put1 h'))
  · exact lv_lstore_n hx hb hd rfl L.1 (by simp only [Value.category] at hi; omega) rfl (fun lr' h' => kk lr' (L.put2 (by simp only [Value.category] at hi; omega) h'))
  · exact lv_lstore hx hb hd L.1 (by simp only [Value.category] at hi; omega) rfl (fun lr' h' => kk lr' (L.put2 (by simp only [Value.category] at hi; omega) h'))
  · exact lv_astore_nN hx hb hd rfl L.1 (by simp only [Value.category] at hi; omega) rfl (fun lr' h' => kk lr' (L.put1 h'))
  · exact lv_astore_n hx hb hd rfl L.1 (by simp only [Value.category] at hi; omega) rfl (fun lr' h' => kk lr' (L.put1 h'))
  · exact lv_astoreN hx hb hd L.1 (by simp only [Value.category] at hi; omega) rfl (fun lr' h' => kk lr' (L.put1 h'))
  · exact lv_astore hx hb hd L.1 (by simp only [Value.category] at hi; omega) rfl (fun lr' h' => kk lr' (L.put1 h'))
  · exact lv_dstore_n hx hb hd rfl L.1 (by simp only [Value.category] at hi; omega) rfl (fun lr' h' => kk lr' (L.put2 (by simp only [Value.category] at hi; omega) h'))
  · exact lv_dstore hx hb hd L.1 (by simp only [Value.category] at hi; omega) rfl (fun lr' h' => kk lr' (L.put2 (by simp only [Value.category] at hi; omega) h'))
theorem sim_un (C : zCx κ D p l R s m args meth c M) {f : Value → Option Value} {v w : Value} (hz : zUn op = some f) (hf : f v = some w) (hd : decode (mC M) pc = .ok (op, 1))
    (k : W p l e R s m args below meth c H locs cells slots Q (F0 m (pc + 1) lr (w :: st))) : W p l e R s m args below meth c H locs cells slots Q (F0 m pc lr (v :: st)) := by
  obtain ⟨hx, hb, -⟩ := C
  unfold zUn at hz
  split at hz
  all_goals try (cases hz; done)
  all_goals cases hz
  all_goals dsimp only at hf
  all_goals split at hf
  all_goals try (cases hf; done)
  · cases hf; exact lv_ineg hx hb hd k
  · cases hf; exact lv_i2l hx hb hd rfl k
  · cases hf; exact lv_l2i hx hb hd rfl k
  · cases hf; exact lv_i2b hx hb hd rfl k
  · cases hf; exact lv_i2c hx hb hd rfl k
  · cases hf; exact lv_i2d hx hb hd k
  · cases hf; exact lv_l2d hx hb hd k
  · cases hf; exact lv_i2f hx hb hd k
  · split at hf
    · next hc => cases hf; exact lv_f2d hx hb hd hc k
    · cases hf
theorem sim_bin (C : zCx κ D p l R s m args meth c M) {f : Value → Value → Option Value} {a b w : Value} (hz : zBin op = some f) (hf : f a b = some w) (hd : decode (mC M) pc = .ok (op, 1))
    (k : W p l e R s m args below meth c H locs cells slots Q (F0 m (pc + 1) lr (w :: st))) : W p l e R s m args below meth c H locs cells slots Q (F0 m pc lr (b :: a :: st)) := by
  obtain ⟨hx, hb, -⟩ := C
  unfold zBin at hz
  split at hz
  all_goals try (cases hz; done)
  all_goals cases hz
  all_goals dsimp only at hf
  all_goals split at hf
  all_goals try (cases hf; done)
  · cases hf; exact lv_iadd hx hb hd k
  · cases hf; exact lv_isub hx hb hd k
  · cases hf; exact lv_imul hx hb hd k
  · split at hf
    · cases hf
    · next hc => cases hf; exact lv_idiv hx hb hd hc k
  · split at hf
    · cases hf
    · next hc => cases hf; exact lv_irem hx hb hd hc k
  · cases hf; exact lv_iand hx hb hd k
  · cases hf; exact lv_ior hx hb hd k
  · cases hf; exact lv_ishl hx hb hd k
  · cases hf; exact lv_ishr hx hb hd k
  · cases hf; exact lv_iushr hx hb hd rfl k
  · cases hf; exact lv_ladd hx hb hd k
  · cases hf; exact lv_lsub hx hb hd k
  · cases hf; exact lv_lmul hx hb hd k
  · cases hf; exact lv_land hx hb hd k
  · cases hf; exact lv_lshr hx hb hd rfl k
  · cases hf; exact W.lcmp hx hb hd k
  · cases hf; exact lv_dcmp hx hb hd k
  · split at hf
    · next hc => cases hf; exact lv_ddiv hx hb hd hc k
    · cases hf
  · split at hf
    · next hc => cases hf; exact lv_fdiv hx hb hd hc k
    · cases hf
theorem sim_stk (C : zCx κ D p l R s m args meth c M) {st' : List Value} (hz : zStk op st = some st') (hd : decode (mC M) pc = .ok (op, 1))
    (k : W p l e R s m args below meth c H locs cells slots Q (F0 m (pc + 1) lr st')) : W p l e R s m args below meth c H locs cells slots Q (F0 m pc lr st) := by
  obtain ⟨hx, hb, -⟩ := C
  unfold zStk at hz
  split at hz
  · split at hz
    · next h1 => cases hz; exact lv_dup hx hb hd h1 k
    · cases hz
  · split at hz
    · next h1 => cases hz; exact lv_pop hx hb hd h1 k
    · cases hz
  · split at hz
    · next h1 => cases hz; exact lv_dup_x1 hx hb hd h1.1 h1.2 k
    · cases hz
  · split at hz
    · next h1 => cases hz; exact lv_dup2_2 hx hb hd h1 k
    · split at hz
      · split at hz
        · next h1 => cases hz; exact lv_dup2_11 hx hb hd h1.1 h1.2 k
        · cases hz
      · cases hz
  · cases hz
theorem zJmp_spec {off : Int} {t : Nat} (hz : zJmp pc off = some t) : (pc : Int) + off = (t : Int) := by
  unfold zJmp at hz
  split at hz
  · cases hz; omega
  · cases hz
end
