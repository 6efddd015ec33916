/-! the simulation: AM's run is the machine's. First: how AM's heap stands to the machine's -/
abbrev zD : Type := (Nat → ClassId) × (Nat → Nat → Nat) × (Nat → ClassId)
def zCa (κ : zC) (D : zD) (s : State) (H : Heap) (h : zH) (a : Nat) : Prop := ∃ ty cell, zLk aTab (hK h a) = some ty ∧ H[a]? = some cell ∧ s.isArrayOf cell ty ∧ cell.vm ≠ .unknown ∧ cell.slots.size = hL h a ∧ (∀ j, j < hL h a → cell.slots[j]? = some (hV h a j)) ∧ (kB κ ≤ a → cell = arrV (D.2.2 (hK h a)) (hL h a) (hV h a))
def zCo (κ : zC) (D : zD) (H : Heap) (h : zH) (a : Nat) : Prop := ∃ ci fl cell, zLk kTab (hK h a) = some (ci, fl) ∧ H[a]? = some cell ∧ cell.cls = D.1 ci ∧ cell.vm ≠ .unknown ∧ cell.vm.isStatics = false ∧ (∀ g k, zLk fl g = some k → cell.slots[D.2.1 ci k]? = some (hV h a g)) ∧ (kB κ ≤ a → cell.vm = .none)
def zCell (κ : zC) (D : zD) (s : State) (H : Heap) (h : zH) (a : Nat) : Prop := hK h a = 0 ∨ zCa κ D s H h a ∨ zCo κ D H h a
def zRel (κ : zC) (D : zD) (s : State) (H : Heap) (h : zH) : Prop := hN h = H.size ∧ kB κ ≤ H.size ∧ ∀ a, zCell κ D s H h a
/-- what a run knows of the tables, and of the statics -/
def zWd (κ : zC) (D : zD) (U : State) : Prop :=
  (∀ c, c ∈ zOb → u_Kn U (cR c) (cT c) (cN c) (D.1 c) (D.2.1 c)) ∧
  (∀ k ty, k ∈ zNa → zLk aTab k = some ty → ArrOfT U (D.2.2 k) ty ∧ va_RA U (D.2.2 k) ty) ∧
  (∀ w ∈ zNst, va_Nw w U) ∧
  (∀ q ∈ zFw, va_Fw q.1 q.2.1 q.2.2 U) ∧
  (∀ C ∈ zAo, va_AO C U) ∧
  (∀ k z, zTx[k]? = some z → vk_R z.1 z.2.1 z.2.2 (kT κ k) U) ∧
  (∀ k z, zMi[k]? = some z → va_Mi z (kM κ k) U)
/-- the statics -/
def zSs (κ : zC) (U : State) (H : Heap) : Prop := ∀ k z, zSt[k]? = some z → va_Z z.1 z.2.1 z.2.2 (kS κ k) (fun a => kB κ ≤ a) U H
theorem zItfM {s : State} {vm' : Vm} {args : Array Value} (h : s.vm.Alike vm') (r o n d : String) : (Cond.interfaceMethod r o n d).before args (s.setVm vm') = (Cond.interfaceMethod r o n d).before args s := by
  have hf : (s.setVm vm').methodFound? r n d = s.methodFound? r n d := State.methodFound?_setVm h r n d
  simp only [Cond.before, Cond.holds, Cond.value, State.vm_setVm, h.findClass, hf, State.methodNamed?_setVm h, arm_isInterface_setVm h]
theorem zNst_warm {w : Cond} (hw : w ∈ zNst) {s U : State} (hW : s.WarmedH U.vm) (h : va_Nw w s) : va_Nw w U := by
  have h1 := (List.mem_filter.mp hw).2
  cases w <;> first
    | exact va_Nw.warmF hW h
    | exact va_Nw.warmM hW h
    | exact va_Nw.warmC hW h
    | exact va_Nw.warmD hW h
    | exact va_tabs rfl (rfl : (s.setVm U.vm).vm = U.vm) (by rw [Cond.publicMethod_setVm hW.alike]; exact h)
    | exact va_tabs rfl (rfl : (s.setVm U.vm).vm = U.vm) (by rw [Cond.unhidden_setVm hW.alike]; exact h)
    | exact va_tabs rfl (rfl : (s.setVm U.vm).vm = U.vm) (by rw [zItfM hW.alike]; exact h)
    | exact Bool.noConfusion (show false = true from h1)
theorem zWd.warm {κ : zC} {D : zD} {s U : State} (hW : s.WarmedH U.vm) (h : zWd κ D s) : zWd κ D U := by
  obtain ⟨h1, h2, h3, h4, h5, h6, h7⟩ := h
  refine ⟨fun c hc => u_Kn_moved hW.alike (h1 c hc), fun k ty hk hty => ⟨arrOfT_moved hW.alike (h2 k ty hk hty).1, (h2 k ty hk hty).2.moved hW.alike⟩, fun w hw => zNst_warm hw hW (h3 w hw), fun q hq => va_Fw.moved (zFw_ok q hq).2.2.2.2.2 hW.alike (h4 q hq), fun C hC => va_AO.moved hW.alike (h5 C hC), fun k z hk => vk_R.warm hW (h6 k z hk), fun k z hk => va_Mi.moved hW.alike (h7 k z hk)⟩
theorem zSs.moved {κ : zC} {s U : State} {H : Heap} (hvm : s.vm.Alike U.vm) (h : zSs κ s H) : zSs κ U H := fun k z hk => va_Z.moved hvm (h k z hk)
theorem zSs.kept {κ : zC} {U : State} {H H1 : Heap} (h : zSs κ U H) (hq : ∀ a : Nat, a < H.size → ¬ kB κ ≤ a → H1[a]? = H[a]?) : zSs κ U H1 := fun k z hk => va_Z.kept (h k z hk) hq
theorem zCa.moved {κ : zC} {D : zD} {s U : State} {H : Heap} {h : zH} {a : Nat} (hvm : s.vm.Alike U.vm) (q : zCa κ D s H h a) : zCa κ D U H h a := by
  obtain ⟨ty, cell, q1, q2, q3, q4⟩ := q
  exact ⟨ty, cell, q1, q2, State.isArrayOf_alike hvm q3, q4⟩
theorem zRel.moved {κ : zC} {D : zD} {s U : State} {H : Heap} {h : zH} (hvm : s.vm.Alike U.vm) (q : zRel κ D s H h) : zRel κ D U H h :=
  ⟨q.1, q.2.1, fun a => (q.2.2 a).elim Or.inl fun z => Or.inr (z.elim (fun z => Or.inl (z.moved hvm)) Or.inr)⟩
theorem hK_W (h : zH) (a i : Nat) (v : Value) (b : Nat) : hK (hW h a i v) b = hK h b := rfl
theorem hL_W (h : zH) (a i : Nat) (v : Value) (b : Nat) : hL (hW h a i v) b = hL h b := rfl
theorem hN_W (h : zH) (a i : Nat) (v : Value) : hN (hW h a i v) = hN h := rfl
theorem hU_W (h : zH) (a i : Nat) (v : Value) : hU (hW h a i v) = hU h := rfl
theorem hV_W (h : zH) (a i : Nat) (v : Value) (b j : Nat) : hV (hW h a i v) b j = if b = a then (if j = i then v else hV h b j) else hV h b j := rfl
theorem hV_Wn {h : zH} {a i : Nat} {v : Value} {b : Nat} (hb : b ≠ a) (j : Nat) : hV (hW h a i v) b j = hV h b j := by rw [hV_W, if_neg hb]
theorem hK_C (h : zH) (s sp d dp n b : Nat) : hK (hC h s sp d dp n) b = hK h b := rfl
theorem hL_C (h : zH) (s sp d dp n b : Nat) : hL (hC h s sp d dp n) b = hL h b := rfl
theorem hN_C (h : zH) (s sp d dp n : Nat) : hN (hC h s sp d dp n) = hN h := rfl
theorem hU_C (h : zH) (s sp d dp n : Nat) : hU (hC h s sp d dp n) = hU h := rfl
theorem hV_C (h : zH) (s sp d dp n b j : Nat) : hV (hC h s sp d dp n) b j = if b = d then (if dp ≤ j ∧ j < dp + n then hV h s (sp + (j - dp)) else hV h b j) else hV h b j := rfl
theorem hV_Cn {h : zH} {s sp d dp n b : Nat} (hb : b ≠ d) (j : Nat) : hV (hC h s sp d dp n) b j = hV h b j := by rw [hV_C, if_neg hb]
theorem hK_A (h : zH) (k n u : Nat) (f : Nat → Value) (b : Nat) : hK (hA h k n u f) b = if b = hN h then k else hK h b := rfl
theorem hL_A (h : zH) (k n u : Nat) (f : Nat → Value) (b : Nat) : hL (hA h k n u f) b = if b = hN h then n else hL h b := rfl
theorem hV_A (h : zH) (k n u : Nat) (f : Nat → Value) (b j : Nat) : hV (hA h k n u f) b j = if b = hN h then f j else hV h b j := by
  show (if b = hN h then f else h.2.2.1 b) j = _
  split <;> rfl
theorem hN_A (h : zH) (k n u : Nat) (f : Nat → Value) : hN (hA h k n u f) = hN h + 1 := rfl
theorem hU_A (h : zH) (k n u : Nat) (f : Nat → Value) : hU (hA h k n u f) = hU h + u := rfl
/-- a cell that nothing touched -/
theorem zCell.kept {κ : zC} {D : zD} {s : State} {H H1 : Heap} {h h1 : zH} {a : Nat} (q : zCell κ D s H h a) (e0 : H1[a]? = H[a]?) (e1 : hK h1 a = hK h a) (e2 : hL h1 a = hL h a) (e3 : ∀ j, hV h1 a j = hV h a j) : zCell κ D s H1 h1 a := by
  have e3 : hV h1 a = hV h a := funext e3
  rcases q with q | q | q
  · exact Or.inl (e1.trans q)
  · refine Or.inr (Or.inl ?_)
    unfold zCa at q ⊢
    rw [e0, e1, e2, e3]
    exact q
  · refine Or.inr (Or.inr ?_)
    unfold zCo at q ⊢
    rw [e0, e1, e3]
    exact q
theorem zRel.arr {κ : zC} {D : zD} {s : State} {H : Heap} {h : zH} (q : zRel κ D s H h) {a : Nat} {ty : FieldType} (hk : zLk aTab (hK h a) = some ty) : ∃ cell, H[a]? = some cell ∧ s.isArrayOf cell ty ∧ cell.vm ≠ .unknown ∧ cell.slots.size = hL h a ∧ (∀ j, j < hL h a → cell.slots[j]? = some (hV h a j)) ∧ (kB κ ≤ a → cell = arrV (D.2.2 (hK h a)) (hL h a) (hV h a)) := by
  rcases q.2.2 a with z | ⟨ty', cell, z1, z2⟩ | ⟨ci, fl, cell, z1, z2⟩
  · rw [z] at hk; cases (show (none : Option FieldType) = some ty from hk)
  · cases hk.symm.trans z1
    exact ⟨cell, z2⟩
  · exfalso
    have h1 := zLk_mem hk
    have h2 := zLk_mem z1
    revert h1 h2
    generalize hK h a = k
    intro h1 h2
    have a1 : ∀ q ∈ aTab, q.1 < 100 := by decide
    have a2 : ∀ q ∈ kTab, 100 ≤ q.1 := by decide
    have b1 := a1 _ h1
    have b2 := a2 _ h2
    omega
theorem zRel.obj {κ : zC} {D : zD} {s : State} {H : Heap} {h : zH} (q : zRel κ D s H h) {a ci : Nat} {fl : List (Nat × Nat)} (hk : zLk kTab (hK h a) = some (ci, fl)) : ∃ cell, H[a]? = some cell ∧ cell.cls = D.1 ci ∧ cell.vm ≠ .unknown ∧ cell.vm.isStatics = false ∧ (∀ g k, zLk fl g = some k → cell.slots[D.2.1 ci k]? = some (hV h a g)) ∧ (kB κ ≤ a → cell.vm = .none) := by
  rcases q.2.2 a with z | ⟨ty', cell, z1, z2⟩ | ⟨ci, fl, cell, z1, z2⟩
  · rw [z] at hk; cases (show (none : Option (Nat × List (Nat × Nat))) = some (ci, fl) from hk)
  · exfalso
    have h1 := zLk_mem z1
    have h2 := zLk_mem hk
    revert h1 h2
    generalize hK h a = k
    intro h1 h2
    have a1 : ∀ q ∈ aTab, q.1 < 100 := by decide
    have a2 : ∀ q ∈ kTab, 100 ≤ q.1 := by decide
    have b1 := a1 _ h1
    have b2 := a2 _ h2
    omega
  · cases hk.symm.trans z1
    exact ⟨cell, z2⟩
/-- behind a store to one cell -/
theorem zRel.put {κ : zC} {D : zD} {s : State} {H H1 : Heap} {h h1 : zH} {a : Nat} (q : zRel κ D s H h) (z : H1.size = H.size) (o : ∀ q : Nat, q ≠ a → H1[q]? = H[q]?) (en : hN h1 = hN h) (ek : ∀ b, hK h1 b = hK h b) (el : ∀ b, hL h1 b = hL h b) (ev : ∀ b, b ≠ a → ∀ j, hV h1 b j = hV h b j) (ha : zCell κ D s H1 h1 a) : zRel κ D s H1 h1 := by
  refine ⟨by rw [en, z]; exact q.1, by rw [z]; exact q.2.1, fun b => ?_⟩
  by_cases hb : b = a
  · subst hb; exact ha
  · exact (q.2.2 b).kept (o b hb) (ek b) (el b) (ev b hb)
/-- behind a new cell -/
theorem zRel.new {κ : zC} {D : zD} {s : State} {H H1 : Heap} {h : zH} {k n u : Nat} {f : Nat → Value} (q : zRel κ D s H h) (z : H1.size = H.size + 1) (o : ∀ q : Nat, q < H.size → H1[q]? = H[q]?) (ha : zCell κ D s H1 (hA h k n u f) (hN h)) : zRel κ D s H1 (hA h k n u f) := by
  have e := q.1
  refine ⟨by rw [hN_A, z, e], by rw [z]; have := q.2.1; omega, fun b => ?_⟩
  by_cases hb : b = hN h
  · subst hb; exact ha
  · rcases q.2.2 b with y | y | y
    · exact Or.inl (by rw [hK_A, if_neg hb]; exact y)
    · have hlt : b < H.size := by obtain ⟨_, cell, _, y2, _⟩ := y; exact (Array.getElem?_eq_some_iff.mp y2).1
      exact zCell.kept (Or.inr (Or.inl y)) (o b hlt) (by rw [hK_A, if_neg hb]) (by rw [hL_A, if_neg hb]) (fun j => by rw [hV_A, if_neg hb])
    · have hlt : b < H.size := by obtain ⟨_, _, cell, _, y2, _⟩ := y; exact (Array.getElem?_eq_some_iff.mp y2).1
      exact zCell.kept (Or.inr (Or.inr y)) (o b hlt) (by rw [hK_A, if_neg hb]) (by rw [hL_A, if_neg hb]) (fun j => by rw [hV_A, if_neg hb])
/-! locals -/
def zAs : Nat → List (Option Value) → List (Nat × Value)
  | _, [] => []
  | i, none :: l => zAs (i + 1) l
  | i, some v :: l => (i, v) :: zAs (i + 1) l
theorem zAs_mem {l : List (Option Value)} {q : Nat × Value} : ∀ {i : Nat}, q ∈ zAs i l ↔ ∃ j, q.1 = i + j ∧ zGet l j = some q.2 := by
  induction l with
  | nil => intro i; constructor; (· intro h; cases h); (· rintro ⟨j, -, h⟩; cases j <;> cases h)
  | cons x l ih =>
    intro i
    cases x with
    | none =>
      show q ∈ zAs (i + 1) l ↔ _
      rw [ih]
      constructor
      · rintro ⟨j, h1, h2⟩; exact ⟨j + 1, by omega, h2⟩
      · rintro ⟨j, h1, h2⟩
        cases j with
        | zero => cases h2
        | succ j => exact ⟨j, by omega, h2⟩
    | some v =>
      show q ∈ (i, v) :: zAs (i + 1) l ↔ _
      rw [List.mem_cons, ih]
      constructor
      · rintro (h | ⟨j, h1, h2⟩)
        · subst h; exact ⟨0, rfl, rfl⟩
        · exact ⟨j + 1, by omega, h2⟩
      · rintro ⟨j, h1, h2⟩
        cases j with
        | zero => left; obtain ⟨a, b⟩ := q; cases h2; exact Prod.ext (by simpa using h1) rfl
        | succ j => right; exact ⟨j, by omega, h2⟩
