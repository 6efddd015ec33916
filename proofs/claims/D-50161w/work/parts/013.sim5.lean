/-! the simulation: arrays, new cells, casts -/
theorem zArr_spec {s : State} {κ : zC} {D : zD} {H : Heap} {h : zH} {a : Nat} (X : zRel κ D s H h) (hr : zArr (hK h a) = true) : ∃ ty, zLk aTab (hK h a) = some ty := by
  unfold zArr at hr
  rw [Bool.and_eq_true, decide_eq_true_eq, decide_eq_true_eq] at hr
  rcases X.2.2 a with z | ⟨ty, cell, z1, -⟩ | ⟨ci, fl, cell, z1, -⟩
  · omega
  · exact ⟨ty, z1⟩
  · have h1 := zLk_mem z1
    have a2 : ∀ q ∈ kTab, 100 ≤ q.1 := by decide
    have b2 := a2 _ h1
    dsimp only at b2
    omega
/-- behind a store to an array -/
theorem zRel.ast {κ : zC} {D : zD} {s : State} {H H1 : Heap} {h : zH} {a j : Nat} {v : Value} {ty : FieldType} (X : zRel κ D s H h) (hk : zLk aTab (hK h a) = some ty) (ha : kB κ ≤ a) (hj : j < hL h a) {cell : Cell} (hc : H[a]? = some cell) (e1 : H1[a]? = some (cell.setSlot j v)) (e2 : H1.size = H.size) (e3 : ∀ q : Nat, q ≠ a → H1[q]? = H[q]?) : zRel κ D s H1 (hW h a j v) := by
  obtain ⟨cell', g1, g2, g3, g4, g5, g6⟩ := X.arr hk
  cases Option.some.inj (hc.symm.trans g1)
  have g6 := g6 ha
  have ef : updV (hV h a) j v = hV (hW h a j v) a := by
    funext q
    rw [hV_W, if_pos rfl]
    rfl
  have e4 : cell.setSlot j v = arrV (D.2.2 (hK h a)) (hL h a) (hV (hW h a j v) a) := by rw [g6, arrV_store, ef]
  refine X.put e2 e3 rfl (fun _ => rfl) (fun _ => rfl) (fun b hb q => hV_Wn hb q) (Or.inr (Or.inl ⟨ty, cell.setSlot j v, hk, e1, ?_, ?_, ?_, ?_, fun _ => e4⟩))
  · rw [g6] at g2
    rw [e4]
    exact g2
  · rw [e4]; exact fun q => by cases q
  · rw [e4, arrV_size]; rfl
  · intro q hq
    rw [e4]
    exact arrV_read _ _ hq
section
variable {p : Program} {l : Launch} {e : Env} {R : Room} {s : State} {m : MethodId} {args : Array Value} {below : List Frame} {meth : Method} {c : Code} {H : Heap} {locs : List Loc} {cells slots : Nat} {Q : State → Prop}
variable {κ : zC} {D : zD} {M : zM} {pc ln : Nat} {ls : List (Option Value)} {lr : Array Slot} {st : List Value} {h : zH} {op : Instr}
theorem sim_alen (C : zCx κ D p l R s m args meth c M) (X : zRel κ D s H h) {a : Nat} (ha : zArr (hK h a) = true) (hd : decode (mC M) pc = .ok (.arraylength, 1))
    (k : W p l e R s m args below meth c H locs cells slots Q (F0 m (pc + 1) lr (.int (Int32.ofNat (hL h a)) :: st))) : W p l e R s m args below meth c H locs cells slots Q (F0 m pc lr (.ref a :: st)) := by
  obtain ⟨hx, hb, -⟩ := C
  obtain ⟨ty, h1⟩ := zArr_spec X ha
  obtain ⟨cell, g1, g2, g3, g4, g5, -⟩ := X.arr h1
  exact W.alen (n := Int32.ofNat (hL h a)) hx hb g1 g2 (by rw [g4]) rfl rfl hd k
theorem sim_ald (C : zCx κ D p l R s m args meth c M) (X : zRel κ D s H h) {a : Nat} {i : Int32} (hi : zIn i (hL h a) = true) (hop : (op = .iaload ∧ hK h a = 1) ∨ (op = .laload ∧ hK h a = 2) ∨ (op = .baload ∧ (hK h a = 3 ∨ hK h a = 4)) ∨ (op = .aaload ∧ zRef (hK h a) = true)) (hd : decode (mC M) pc = .ok (op, 1))
    (k : W p l e R s m args below meth c H locs cells slots Q (F0 m (pc + 1) lr (hV h a i.toNatClampNeg :: st))) : W p l e R s m args below meth c H locs cells slots Q (F0 m pc lr (.int i :: .ref a :: st)) := by
  obtain ⟨hx, hb, -⟩ := C
  have hin := zIn_spec hi
  have hlt : i.toNatClampNeg < hL h a := Nat.not_le.mp fun q => hin (Or.inr q)
  rcases hop with ⟨rfl, hk⟩ | ⟨rfl, hk⟩ | ⟨rfl, hk | hk⟩ | ⟨rfl, hk⟩
  · obtain ⟨cell, g1, g2, g3, g4, g5, -⟩ := X.arr (ty := .int) (by rw [hk]; rfl)
    exact W.iald hx hb g1 g2 g3 (by rw [g4]; exact hin) (g5 _ hlt) rfl rfl hd k
  · obtain ⟨cell, g1, g2, g3, g4, g5, -⟩ := X.arr (ty := .long) (by rw [hk]; rfl)
    exact W.lald hx hb g1 g2 g3 (by rw [g4]; exact hin) (g5 _ hlt) rfl rfl hd k
  · obtain ⟨cell, g1, g2, g3, g4, g5, -⟩ := X.arr (ty := .byte) (by rw [hk]; rfl)
    exact W.bald hx hb g1 g2 g3 (by rw [g4]; exact hin) (g5 _ hlt) rfl rfl hd k
  · obtain ⟨cell, g1, g2, g3, g4, g5, -⟩ := X.arr (ty := .boolean) (by rw [hk]; rfl)
    exact W.zald hx hb g1 g2 g3 (by rw [g4]; exact hin) (g5 _ hlt) rfl rfl hd k
  · obtain ⟨C0, hC⟩ := zRef_spec (k := 0) X hk
    obtain ⟨cell, g1, g2, g3, g4, g5, -⟩ := X.arr hC
    exact W.aald hx hb g1 g2 rfl g3 (by rw [g4]; exact hin) (g5 _ hlt) rfl rfl hd k
theorem sim_ist (C : zCx κ D p l R s m args meth c M) (X : zRel κ D s H h) (hS : va_S (fun q => kB κ ≤ q) s.heap H locs) {a : Nat} {i x : Int32} (hi : zIn i (hL h a) = true) (hk : hK h a = 1) (ha : kB κ ≤ a) (hd : decode (mC M) pc = .ok (.iastore, 1))
    (kk : ∀ (H' : Heap) (locs' : List Loc), zRel κ D s H' (hW h a i.toNatClampNeg (.int x)) → va_S (fun q => kB κ ≤ q) s.heap H' locs' → W p l e R s m args below meth c H' locs' cells slots Q (F0 m (pc + 1) lr st)) : W p l e R s m args below meth c H locs cells slots Q (F0 m pc lr (.int x :: .int i :: .ref a :: st)) := by
  obtain ⟨hx, hb, -⟩ := C
  have hin := zIn_spec hi
  have hlt : i.toNatClampNeg < hL h a := Nat.not_le.mp fun q => hin (Or.inr q)
  have h1 : zLk aTab (hK h a) = some .int := by rw [hk]; rfl
  obtain ⟨cell, g1, g2, g3, g4, g5, -⟩ := X.arr h1
  exact W.iast hx hb g1 g2 g3 (by rw [g4]; exact hin) rfl rfl hd fun H' e1 e2 e3 => kk H' _ (X.ast h1 ha hlt g1 e1 e2 e3) (hS.put e2 e3 ha)
theorem sim_lst (C : zCx κ D p l R s m args meth c M) (X : zRel κ D s H h) (hS : va_S (fun q => kB κ ≤ q) s.heap H locs) {a : Nat} {i : Int32} {x : Int64} (hi : zIn i (hL h a) = true) (hk : hK h a = 2) (ha : kB κ ≤ a) (hd : decode (mC M) pc = .ok (.lastore, 1))
    (kk : ∀ (H' : Heap) (locs' : List Loc), zRel κ D s H' (hW h a i.toNatClampNeg (.long x)) → va_S (fun q => kB κ ≤ q) s.heap H' locs' → W p l e R s m args below meth c H' locs' cells slots Q (F0 m (pc + 1) lr st)) : W p l e R s m args below meth c H locs cells slots Q (F0 m pc lr (.long x :: .int i :: .ref a :: st)) := by
  obtain ⟨hx, hb, -⟩ := C
  have hin := zIn_spec hi
  have hlt : i.toNatClampNeg < hL h a := Nat.not_le.mp fun q => hin (Or.inr q)
  have h1 : zLk aTab (hK h a) = some .long := by rw [hk]; rfl
  obtain ⟨cell, g1, g2, g3, g4, g5, -⟩ := X.arr h1
  exact W.last hx hb g1 g2 g3 (by rw [g4]; exact hin) rfl rfl hd fun H' e1 e2 e3 => kk H' _ (X.ast h1 ha hlt g1 e1 e2 e3) (hS.put e2 e3 ha)
theorem sim_bst (C : zCx κ D p l R s m args meth c M) (X : zRel κ D s H h) (hS : va_S (fun q => kB κ ≤ q) s.heap H locs) {a : Nat} {i x : Int32} (hi : zIn i (hL h a) = true) (hk : hK h a = 3 ∨ hK h a = 4) (ha : kB κ ≤ a) (hd : decode (mC M) pc = .ok (.bastore, 1))
    (kk : ∀ (H' : Heap) (locs' : List Loc), zRel κ D s H' (hW h a i.toNatClampNeg (narrow (zElT (hK h a)) (.int x))) → va_S (fun q => kB κ ≤ q) s.heap H' locs' → W p l e R s m args below meth c H' locs' cells slots Q (F0 m (pc + 1) lr st)) : W p l e R s m args below meth c H locs cells slots Q (F0 m pc lr (.int x :: .int i :: .ref a :: st)) := by
  obtain ⟨hx, hb, -⟩ := C
  have hin := zIn_spec hi
  have hlt : i.toNatClampNeg < hL h a := Nat.not_le.mp fun q => hin (Or.inr q)
  rcases hk with hk | hk
  · have h1 : zLk aTab (hK h a) = some .byte := by rw [hk]; rfl
    obtain ⟨cell, g1, g2, g3, g4, g5, -⟩ := X.arr h1
    rw [hk] at kk
    exact W.bast hx hb g1 g2 g3 (by rw [g4]; exact hin) rfl rfl hd fun H' e1 e2 e3 => kk H' _ (X.ast h1 ha hlt g1 e1 e2 e3) (hS.put e2 e3 ha)
  · have h1 : zLk aTab (hK h a) = some .boolean := by rw [hk]; rfl
    obtain ⟨cell, g1, g2, g3, g4, g5, -⟩ := X.arr h1
    rw [hk] at kk
    exact W.zast hx hb g1 g2 g3 (by rw [g4]; exact hin) rfl rfl hd fun H' e1 e2 e3 => kk H' _ (X.ast h1 ha hlt g1 e1 e2 e3) (hS.put e2 e3 ha)
/-- a value of a kind that may be cast to a class -/
theorem zCk_cast {k : Nat} {z : String} {a : Nat} (C : zCx κ D p l R s m args meth c M) (X : zRel κ D s H h) (hk : zCk (hK h a) z) (hka : 100 ≤ hK h a ∨ kB κ ≤ a) : ∃ cell, H[a]? = some cell ∧ cell.vm.isStatics = false ∧ ((s.vm.findClass z = some cell.cls) ∨ ∃ C0, s.vm.findClass C0 = some cell.cls ∧ va_Nw (.castable C0 z) s) := by
  obtain ⟨hx, hb, hml, hr, hlk, hown, hts, hnm, hW, -⟩ := C
  rcases hk with ⟨ci, fl, h1, h2⟩ | ⟨h0, ty, h1, h2, h3⟩
  · obtain ⟨cell, g1, g2, g3, g4, g5, -⟩ := X.obj h1
    have hfc := (hW.1 ci (kTab_spec h1).1).2.1
    refine ⟨cell, g1, g4, ?_⟩
    rcases h2 with h2 | h2
    · left; rw [← h2, g2]; exact hfc
    · right; exact ⟨cR ci, by rw [g2]; exact hfc, hW.2.2.1 _ h2⟩
  · obtain ⟨cell, g1, g2, g3, g4, g5, g6⟩ := X.arr h1
    have g6 := g6 (hka.resolve_left (by omega))
    refine ⟨cell, g1, by rw [g6]; rfl, Or.inl ?_⟩
    have h4 := (hW.2.1 _ ty h2 h1).2
    rw [g6, ← h3]
    show s.vm.findClass ("[" ++ ty.toString) = some (D.2.2 (hK h a))
    unfold va_RA at h4
    split at h4
    · obtain ⟨_, _, _, _, _, h5⟩ := h4; exact h5
    · exact h4
theorem sim_aas (C : zCx κ D p l R s m args meth c M) (X : zRel κ D s H h) (hS : va_S (fun q => kB κ ≤ q) s.heap H locs) {a v : Nat} {i : Int32} (hr : zRef (hK h a) = true) (hi : zIn i (hL h a) = true) (ha : kB κ ≤ a) (hv : zAss (hK h a) (hK h v) = true) (hd : decode (mC M) pc = .ok (.aastore, 1))
    (kk : ∀ (H' : Heap) (locs' : List Loc), zRel κ D s H' (hW h a i.toNatClampNeg (.ref v)) → va_S (fun q => kB κ ≤ q) s.heap H' locs' → W p l e R s m args below meth c H' locs' cells slots Q (F0 m (pc + 1) lr st)) : W p l e R s m args below meth c H locs cells slots Q (F0 m pc lr (.ref v :: .int i :: .ref a :: st)) := by
  have C' := C
  obtain ⟨hx, hb, hml, hrt, hlk, hown, hts, hnm, hW, -⟩ := C
  have hin := zIn_spec hi
  have hlt : i.toNatClampNeg < hL h a := Nat.not_le.mp fun q => hin (Or.inr q)
  unfold zAss at hv
  split at hv
  · next L hL0 =>
    obtain ⟨C0, h1, h2, h3⟩ := ass_ok _ (zLk_mem hL0)
    dsimp only at h1 h2 h3
    have hck := h3 _ (by simpa using hv)
    have hk100 : 100 ≤ hK h v := by
      rcases hck with ⟨ci, fl, q1, -⟩ | ⟨q0, ty, q1, -⟩
      · have a2 : ∀ q ∈ kTab, 100 ≤ q.1 := by decide
        exact a2 _ (zLk_mem q1)
      · exfalso
        have a3 : ∀ q ∈ assT, ∀ k ∈ q.2, 100 ≤ k := by decide
        have := a3 _ (zLk_mem hL0) _ (by simpa using hv)
        omega
    obtain ⟨cellV, v1, v2, v3⟩ := zCk_cast (k := 0) C' X hck (Or.inl hk100)
    obtain ⟨cell, g1, g2, g3, g4, g5, g6⟩ := X.arr h1
    have g6' := g6 ha
    obtain ⟨kA, comp, r1, r2, r3, -⟩ := (hW.2.1 _ _ h2 h1).2
    have hcls : cell.cls = D.2.2 (hK h a) := by rw [g6']; rfl
    have hvs : ∀ q, cellV.vm ≠ .statics q := fun q h0 => by rw [h0] at v2; cases v2
    have hcomp : ∃ kc, s.vm.classes[comp]? = some kc := by
      obtain ⟨kc, hkc, -⟩ := Vm.findClass_spec r3
      exact ⟨kc, hkc⟩
    obtain ⟨kc, hkc⟩ := hcomp
    have hvk : (∃ kv, s.vm.classes[cellV.cls]? = some kv) ∧ s.vm.assignable cellV.cls comp = true := by
      rcases v3 with v3 | ⟨C1, v3, v4⟩
      · cases r3.symm.trans v3
        refine ⟨⟨kc, hkc⟩, ?_⟩
        rcases hck with ⟨ci, fl, q1, -⟩ | ⟨q0, ty, q1, -⟩
        · obtain ⟨cell2, w1, w2, -⟩ := X.obj q1
          cases v1.symm.trans w1
          rw [w2]
          exact va_assign (hW.1 ci (kTab_spec q1).1).2
        · exfalso; omega
      · obtain ⟨kv, hkv, -⟩ := Vm.findClass_spec v3
        obtain ⟨c3, t3, w1, w2, w3⟩ := Cond.castable_spec v4
        cases v3.symm.trans w1
        cases r3.symm.trans w2
        exact ⟨⟨kv, hkv⟩, w3⟩
    obtain ⟨⟨kv, hkv⟩, hasg⟩ := hvk
    exact W.aast hx hb g1 (fun q h0 => by rw [g6'] at h0; cases h0) g3 (by rw [hcls]; exact r1) r2 rfl hkc ⟨fun q => hin (Or.inl q), by rw [g4]; exact hlt⟩ v1 hvs hkv hasg rfl rfl hd fun H' e1 e2 e3 => kk H' _ (X.ast h1 ha hlt g1 e1 e2 e3) (hS.put e2 e3 ha)
  · cases hv
theorem sim_aasN (C : zCx κ D p l R s m args meth c M) (X : zRel κ D s H h) (hS : va_S (fun q => kB κ ≤ q) s.heap H locs) {a : Nat} {i : Int32} (hr : zRef (hK h a) = true) (hi : zIn i (hL h a) = true) (ha : kB κ ≤ a) (hd : decode (mC M) pc = .ok (.aastore, 1))
    (kk : ∀ (H' : Heap) (locs' : List Loc), zRel κ D s H' (hW h a i.toNatClampNeg .null) → va_S (fun q => kB κ ≤ q) s.heap H' locs' → W p l e R s m args below meth c H' locs' cells slots Q (F0 m (pc + 1) lr st)) : W p l e R s m args below meth c H locs cells slots Q (F0 m pc lr (.null :: .int i :: .ref a :: st)) := by
  obtain ⟨hx, hb, -⟩ := C
  have hin := zIn_spec hi
  have hlt : i.toNatClampNeg < hL h a := Nat.not_le.mp fun q => hin (Or.inr q)
  obtain ⟨C0, h1⟩ := zRef_spec (k := 0) X hr
  obtain ⟨cell, g1, g2, g3, g4, g5, -⟩ := X.arr h1
  exact va_WaastN hx hb g1 g2 g3 (by rw [g4]; exact hin) rfl rfl hd fun H' e1 e2 e3 => kk H' _ (X.ast h1 ha hlt g1 e1 e2 e3) (hS.put e2 e3 ha)
theorem sim_chk (C : zCx κ D p l R s m args meth c M) (X : zRel κ D s H h) {i a c0 : Nat} (ht : zLk (tC (mO M)) i = some c0) (hk : zCas (hK h a) c0 = true) (hka : 100 ≤ hK h a ∨ kB κ ≤ a) (hd : decode (mC M) pc = .ok (.checkcast i, 3))
    (k : W p l e R s m args below meth c H locs cells slots Q (F0 m (pc + 3) lr (.ref a :: st))) : W p l e R s m args below meth c H locs cells slots Q (F0 m pc lr (.ref a :: st)) := by
  have C' := C
  obtain ⟨hx, hb, hml, hrt, hlk, hown, hts, hnm, hW, -⟩ := C
  obtain ⟨z, z1, z2⟩ := tC_ok _ _ (zLk_mem ht)
  unfold zCas at hk
  split at hk
  · next L hL0 =>
    obtain ⟨z', w1, w2⟩ := cst_ok _ (zLk_mem hL0)
    cases z1.symm.trans w1
    obtain ⟨cell, v1, v2, v3⟩ := zCk_cast (k := 0) C' X (w2 _ (by simpa using hk)) hka
    rcases v3 with v3 | ⟨C1, v3, v4⟩
    · exact va_castE hx hb hown (hts _ z2) ⟨cell, v1, v2, v3⟩ hd k
    · exact va_castY hx hb hown (hts _ z2) v4 ⟨cell, v1, v2, v3⟩ hd k
  · cases hk
theorem sim_ins (C : zCx κ D p l R s m args meth c M) (X : zRel κ D s H h) {i a c0 : Nat} (ht : zLk (tC (mO M)) i = some c0) (hk : zCas (hK h a) c0 = true) (hka : 100 ≤ hK h a ∨ kB κ ≤ a) (hd : decode (mC M) pc = .ok (.instanceof i, 3))
    (k : W p l e R s m args below meth c H locs cells slots Q (F0 m (pc + 3) lr (.int 1 :: st))) : W p l e R s m args below meth c H locs cells slots Q (F0 m pc lr (.ref a :: st)) := by
  have C' := C
  obtain ⟨hx, hb, hml, hrt, hlk, hown, hts, hnm, hW, -⟩ := C
  obtain ⟨z, z1, z2⟩ := tC_ok _ _ (zLk_mem ht)
  unfold zCas at hk
  split at hk
  · next L hL0 =>
    obtain ⟨z', w1, w2⟩ := cst_ok _ (zLk_mem hL0)
    cases z1.symm.trans w1
    obtain ⟨cell, v1, v2, v3⟩ := zCk_cast (k := 0) C' X (w2 _ (by simpa using hk)) hka
    rcases v3 with v3 | ⟨C1, v3, v4⟩
    · exact va_instE hx hb hown (hts _ z2) ⟨cell, v1, v2, v3⟩ hd k
    · exact va_instY hx hb hown (hts _ z2) v4 ⟨cell, v1, v2, v3⟩ hd k
  · cases hk
theorem sim_new (C : zCx κ D p l R s m args meth c M) (X : zRel κ D s H h) (hS : va_S (fun q => kB κ ≤ q) s.heap H locs) {i c0 : Nat} (ht : zLk (tN (mO M)) i = some c0) (hcells : cells + 1 ≤ R.cells) (hslots : slots + cN c0 ≤ R.slots) (hd : decode (mC M) pc = .ok (.new i, 3))
    (kk : ∀ (H' : Heap), zRel κ D s H' (hA h (100 + c0) 0 (cN c0) gD) → va_S (fun q => kB κ ≤ q) s.heap H' locs → W p l e R s m args below meth c H' locs (cells + 1) (slots + cN c0) Q (F0 m (pc + 3) lr (.ref (hN h) :: st))) : W p l e R s m args below meth c H locs cells slots Q (F0 m pc lr st) := by
  obtain ⟨hx, hb, hml, hrt, hlk, hown, hts, hnm, hW, -⟩ := C
  obtain ⟨z1, z2, z3, z4⟩ := tN_ok _ _ (zLk_mem ht)
  dsimp only at z1 z2 z3 z4
  have hKn := hW.1 c0 z4
  refine W.newcK hx hb hown (hts _ z1) (hts _ z2) (hts _ z3) rfl hd hcells hslots hKn.2.1 X.1.symm fun H' kC hkC e1 z o => ?_
  obtain ⟨fl, hfl⟩ := kOb_tab c0 z4
  have hsz : hN h = H.size := X.1
  refine kk H' (X.new (by rw [z, hsz]) (fun q hq => o q (by rw [hsz]; exact hq)) (Or.inr (Or.inr ?_))) ⟨Nat.le_trans hS.1 (by omega), fun x h1 h2 => (o x (by have := hS.1; omega)).trans (hS.2.1 x h1 h2), hS.2.2⟩
  obtain ⟨cell, q1, q2, q3, q4⟩ := u_born (cTy c0) hts (cT_in c0 z4) hKn hkC e1 (cT_ty c0 z4)
  refine ⟨c0, fl, cell, by rw [hK_A, if_pos rfl]; exact hfl, q1, q2, by rw [q3]; exact (fun h0 => by cases h0), by rw [q3]; rfl, fun g k hk => ?_, fun _ => q3⟩
  obtain ⟨w1, -, -, -, -, -, w2, -⟩ := (kTab_spec hfl).2 g k hk
  rw [q4 k w1, hV_A, if_pos rfl]
  show some (defaultValue (cTy c0 k)) = some (gD g)
  rw [← w2]; rfl
theorem sim_newa (C : zCx κ D p l R s m args meth c M) (X : zRel κ D s H h) (hS : va_S (fun q => kB κ ≤ q) s.heap H locs) {t : ArrayType} {n : Int32} {k : Nat} {d : Value} (ht : zNewK t = some (k, d)) (h0 : 0 ≤ n) (h1 : n.toNatClampNeg ≤ 60000000) (hcells : cells + 1 ≤ R.cells) (hslots : slots + n.toNatClampNeg ≤ R.slots) (hd : decode (mC M) pc = .ok (.newarray t, 2))
    (kk : ∀ (H' : Heap), zRel κ D s H' (hA h k n.toNatClampNeg n.toNatClampNeg (fun _ => d)) → va_S (fun q => kB κ ≤ q) s.heap H' locs → W p l e R s m args below meth c H' locs (cells + 1) (slots + n.toNatClampNeg) Q (F0 m (pc + 2) lr (.ref (hN h) :: st))) : W p l e R s m args below meth c H locs cells slots Q (F0 m pc lr (.int n :: st)) := by
  obtain ⟨hx, hb, hml, hrt, hlk, hown, hts, hnm, hW, -⟩ := C
  have hn : ¬ n < 0 := Int32.not_lt.mpr h0
  have hsz : hN h = H.size := X.1
  have key : (Cond.arrayClass (newarray.typeOf t)).before args s = true ∧ zLk aTab k = some (newarray.typeOf t) ∧ k ∈ zNa ∧ componentBytes (newarray.typeOf t) ≤ 8 ∧ defaultValue (newarray.typeOf t) = d ∧ ∀ cA, s.vm.findClass ("[" ++ (newarray.typeOf t).toString) = some cA → D.2.2 k = cA := by
    unfold zNewK at ht
    split at ht
    · cases ht; exact ⟨hts _ (za q218), rfl, by decide, by decide, rfl, fun cA q => Option.some.inj ((show s.vm.findClass _ = some (D.2.2 1) from (hW.2.1 1 .int (by decide) rfl).2).symm.trans q)⟩
    · cases ht; exact ⟨hts _ (za q2700), rfl, by decide, by decide, rfl, fun cA q => Option.some.inj ((show s.vm.findClass _ = some (D.2.2 2) from (hW.2.1 2 .long (by decide) rfl).2).symm.trans q)⟩
    · cases ht; exact ⟨hts _ (za q217), rfl, by decide, by decide, rfl, fun cA q => Option.some.inj ((show s.vm.findClass _ = some (D.2.2 3) from (hW.2.1 3 .byte (by decide) rfl).2).symm.trans q)⟩
    · cases ht; exact ⟨hts _ (za q820), rfl, by decide, by decide, rfl, fun cA q => Option.some.inj ((show s.vm.findClass _ = some (D.2.2 4) from (hW.2.1 4 .boolean (by decide) rfl).2).symm.trans q)⟩
    · cases ht
  obtain ⟨w1, w2, w3, w4, w5, w6⟩ := key
  refine va_newaK hx hb w1 rfl hd rfl hn rfl (by
    have := Nat.mul_le_mul h1 w4
    omega) hcells hslots hsz.symm fun H' cA e1 z o hAr hNm => ?_
  have e6 := w6 cA hNm
  subst e6
  refine kk H' (X.new (by rw [z, hsz]) (fun q hq => o q (by rw [hsz]; exact hq)) (Or.inr (Or.inl ?_))) ⟨Nat.le_trans hS.1 (by omega), fun x h1 h2 => (o x (by have := hS.1; omega)).trans (hS.2.1 x h1 h2), hS.2.2⟩
  have ef : (fun _ => defaultValue (newarray.typeOf t)) = hV (hA h k n.toNatClampNeg n.toNatClampNeg (fun _ => d)) (hN h) := by
    funext q; rw [hV_A, if_pos rfl, w5]
  have eL : hL (hA h k n.toNatClampNeg n.toNatClampNeg (fun _ => d)) (hN h) = n.toNatClampNeg := by rw [hL_A, if_pos rfl]
  have eK : hK (hA h k n.toNatClampNeg n.toNatClampNeg (fun _ => d)) (hN h) = k := by rw [hK_A, if_pos rfl]
  refine ⟨newarray.typeOf t, _, by rw [eK]; exact w2, e1, hAr _ _, (fun q => by cases q), by rw [arrV_size, eL], fun j hj => ?_, fun _ => by rw [ef, eL, eK]⟩
  rw [eL] at hj
  rw [arrV_read _ _ hj, ← ef]
theorem sim_newq (C : zCx κ D p l R s m args meth c M) (X : zRel κ D s H h) (hS : va_S (fun q => kB κ ≤ q) s.heap H locs) {i : Nat} {n : Int32} {k : Nat} (ht : zLk (tA (mO M)) i = some k) (h0 : 0 ≤ n) (h1 : n.toNatClampNeg ≤ 60000000) (hcells : cells + 1 ≤ R.cells) (hslots : slots + n.toNatClampNeg ≤ R.slots) (hd : decode (mC M) pc = .ok (.anewarray i, 3))
    (kk : ∀ (H' : Heap), zRel κ D s H' (hA h k n.toNatClampNeg n.toNatClampNeg (fun _ => .null)) → va_S (fun q => kB κ ≤ q) s.heap H' locs → W p l e R s m args below meth c H' locs (cells + 1) (slots + n.toNatClampNeg) Q (F0 m (pc + 3) lr (.ref (hN h) :: st))) : W p l e R s m args below meth c H locs cells slots Q (F0 m pc lr (.int n :: st)) := by
  obtain ⟨hx, hb, hml, hrt, hlk, hown, hts, hnm, hW, -⟩ := C
  have hn : ¬ n < 0 := Int32.not_lt.mpr h0
  have hsz : hN h = H.size := X.1
  obtain ⟨C0, z1, z2, z3⟩ := tA_ok _ _ (zLk_mem ht)
  dsimp only at z1 z2 z3
  have hkN : k ∈ zNa := by
    have h2 := zLk_mem z1
    have a1 : ∀ q ∈ aTab, (∃ C ∈ zAo, q.2 = .object C) → q.1 ∈ zNa := by
      intro q hq
      simp only [aTab, List.mem_cons, List.not_mem_nil, or_false] at hq
      rcases hq with rfl | rfl | rfl | rfl | rfl | rfl | rfl | rfl | rfl | rfl <;> intro hl <;> first | decide | (obtain ⟨C, c1, c2⟩ := hl; cases c2; revert c1; decide)
    exact a1 _ h2 ⟨C0, z3, rfl⟩
  have hRA := (hW.2.1 k _ hkN z1).2
  obtain ⟨kA0, comp0, r1, r2, r3, r4⟩ := hRA
  refine W.anew hx hb hown (hts _ z2) (va_AO.use (hW.2.2.2.2.1 _ z3)) rfl hd rfl hn (by omega) hcells hslots fun cA kA comp f1 f2 f3 f4 => ?_
  have e6 : D.2.2 k = cA := Option.some.inj (r4.symm.trans f1)
  subst e6
  generalize hH1 : H.push ({ cls := D.2.2 k, slots := Array.replicate n.toNatClampNeg .null, vm := .none } : Cell) = H'
  have z : H'.size = H.size + 1 := by rw [← hH1, Array.size_push]
  have e1 : H'[H.size]? = some (arrV (D.2.2 k) n.toNatClampNeg (fun _ => .null)) := by rw [← hH1, Array.getElem?_push_size, ← arrV_new]
  have o : ∀ q : Nat, q < H.size → H'[q]? = H[q]? := fun q hq => by rw [← hH1, Array.getElem?_push, if_neg (Nat.ne_of_lt hq)]
  have kk := kk H' (X.new z o (Or.inr (Or.inl (by
    have ef : (fun _ => Value.null) = hV (hA h k n.toNatClampNeg n.toNatClampNeg (fun _ => .null)) (hN h) := by
      funext q; rw [hV_A, if_pos rfl]
    have eL : hL (hA h k n.toNatClampNeg n.toNatClampNeg (fun _ => .null)) (hN h) = n.toNatClampNeg := by rw [hL_A, if_pos rfl]
    have eK : hK (hA h k n.toNatClampNeg n.toNatClampNeg (fun _ => .null)) (hN h) = k := by rw [hK_A, if_pos rfl]
    refine ⟨.object C0, _, by rw [eK]; exact z1, by rw [hsz]; exact e1, (hW.2.1 k _ hkN z1).1 _ _, (fun q => by cases q), by rw [arrV_size, eL], fun j hj => ?_, fun _ => by rw [eK, eL, ← ef]⟩
    rw [eL] at hj
    rw [arrV_read _ _ hj, ← ef])))) ⟨Nat.le_trans hS.1 (by omega), fun x h1 h2 => (o x (by have := hS.1; omega)).trans (hS.2.1 x h1 h2), hS.2.2⟩
  rw [hsz] at kk
  exact kk
end
