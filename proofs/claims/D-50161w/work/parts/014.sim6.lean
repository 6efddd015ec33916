/-! the simulation: the JDK's natives that a run meets -/
theorem z_nn {z : Int32} (hz : 0 ≤ z) : z.toInt = (z.toNatClampNeg : Int) := by
  have hz0 : (0 : Int) ≤ z.toInt := by simpa using Int32.le_iff_toInt_le.mp hz
  show z.toInt = ((z.toInt.toNat : Nat) : Int)
  omega
theorem z_sel {args : Array Value} {s : State} {C : String} {x z y : MethodName} (hf : s.methodFound? x.cls x.name x.desc = s.methodFound? z.cls z.name z.desc) (h : (Cond.selects C z y).before args s = true) : (Cond.selects C x y).before args s = true := by
  simp only [Cond.before, Cond.holds, Cond.value] at h ⊢
  rw [hf]
  exact h
section
variable {p : Program} {l : Launch} {e : Env} {R : Room} {s : State} {m : MethodId} {args : Array Value} {below : List Frame} {meth : Method} {c : Code} {H : Heap} {locs : List Loc} {cells slots : Nat} {Q : State → Prop}
variable {κ : zC} {D : zD} {M : zM} {pc ln : Nat} {ls : List (Option Value)} {lr : Array Slot} {st : List Value} {h : zH} {op : Instr}
theorem sim_obj (C : zCx κ D p l R s m args meth c M) (L : zLs lr (mX M) ls) {i a : Nat} (ht : zLk (tX (mO M)) i = some 4) (hs : zSum st ≤ 8) (hd : decode (mC M) pc = .ok (.invokespecial i, 3))
    (k : W p l e R s m args below meth c H locs cells slots Q (F0 m (pc + 3) lr st)) : W p l e R s m args below meth c H locs cells slots Q (F0 m pc lr (.ref a :: st)) := by
  obtain ⟨hx, hb, hml, hrt, hlk, hown, hts, hnm, hW, hRf, hRl, -⟩ := C
  rcases tX_ok _ _ (zLk_mem ht) with ⟨t, t2⟩ | ⟨t, t2⟩ | ⟨t, t2⟩ | ⟨t, t2⟩ | ⟨t, t2⟩ | ⟨t, t2⟩
  · cases t
  · cases t
  · cases t
  · exact W.objInit hx hb hown (hts _ t2) (hts _ (za q180)) (hts _ (za q181)) rfl (by rw [hml]; exact L.1.1) rfl hd (by omega) (by show 2 * 0 + _ + 12 ≤ _; unfold zSum at hs; omega) k
  · cases t
  · cases t
theorem sim_cpy (C : zCx κ D p l R s m args meth c M) (L : zLs lr (mX M) ls) (X : zRel κ D s H h) (hS : va_S (fun q => kB κ ≤ q) s.heap H locs) {i d src : Nat} {sp dp n : Int32} (ht : zLk (tX (mO M)) i = some 1) (hs : zSum st ≤ 8) (hk : zArr (hK h src) = true) (hkk : hK h src = hK h d) (h1 : 0 ≤ sp) (h2 : 0 ≤ dp) (h3 : 0 ≤ n) (h4 : sp.toNatClampNeg + n.toNatClampNeg ≤ hL h src) (h5 : dp.toNatClampNeg + n.toNatClampNeg ≤ hL h d) (ha : kB κ ≤ d) (hv : ∀ j, j < n.toNatClampNeg → zOkE h (hK h d) (hV h src (sp.toNatClampNeg + j)) = true) (hd : decode (mC M) pc = .ok (.invokestatic i, 3))
    (kk : ∀ (H' : Heap) (locs' : List Loc), zRel κ D s H' (hC h src sp.toNatClampNeg d dp.toNatClampNeg n.toNatClampNeg) → va_S (fun q => kB κ ≤ q) s.heap H' locs' → W p l e R s m args below meth c H' locs' cells slots Q (F0 m (pc + 3) lr st)) : W p l e R s m args below meth c H locs cells slots Q (F0 m pc lr (.int n :: .int dp :: .ref d :: .int sp :: .ref src :: st)) := by
  have C' := C
  obtain ⟨hx, hb, hml, hrt, hlk, hown, hts, hnm, hW, hRf, hRl, -⟩ := C
  obtain ⟨ty, t1⟩ := zArr_spec X hk
  obtain ⟨cs, a1, a2, a3, a4, a5, -⟩ := X.arr t1
  have t1' : zLk aTab (hK h d) = some ty := by rw [← hkk]; exact t1
  obtain ⟨cd, b1, b2, b3, b4, b5, b6⟩ := X.arr t1'
  have b6' := b6 ha
  have hl0 : (Cond.methodLink (cR (mO M)) i arraycopyName).before args s = true := by
    rcases tX_ok _ _ (zLk_mem ht) with ⟨t, t2⟩ | ⟨t, t2⟩ | ⟨t, t2⟩ | ⟨t, t2⟩ | ⟨t, t2⟩ | ⟨t, t2⟩
    · exact hts _ t2
    all_goals cases t
  intro T hT XT
  obtain ⟨a21, ka, hka, compa, hkinda⟩ := a2
  have b2' := b2
  obtain ⟨b21, kb, hkb, compb, hkindb⟩ := b2'
  have hget : ∀ j, j < n.toNatClampNeg → cs.slots.getD (sp.toNatClampNeg + j) .null = hV h src (sp.toNatClampNeg + j) := fun j hj => by
    rw [Array.getD_eq_getD_getElem?, a5 _ (by omega)]; rfl
  obtain ⟨vm', X', step⟩ := XT.arraycopy hx hown hl0 (hts _ (za q777)) (hts _ (za q776)) (hts _ (za q148)) (src := src) (dst := d) (cs := cs) (cd := cd) (srcPos := sp) (destPos := dp) (n := n) (by rw [hT]; exact a1) (by rw [hT]; exact b1) a21 b21 a3 b3 hka hkb hkinda hkindb (by cases hq : refKind ty <;> simp) (Int32.not_lt.mpr h1) (Int32.not_lt.mpr h2) (Int32.not_lt.mpr h3)
    (by rw [z_nn h1, z_nn h3, a4]; omega) (by rw [z_nn h2, z_nn h3, b4]; omega)
    (fun vm₁ hal j hj => by
      rw [hget j hj]
      have hv := hv j hj
      unfold zOkE at hv
      split at hv
      · next hr =>
        obtain ⟨C0, hC0⟩ := zRef_spec (k := 0) X hr
        cases t1'.symm.trans hC0
        split at hv
        · next e0 => rw [e0]; exact ⟨rfl, trivial⟩
        · next b0 e0 =>
          rw [e0]
          refine ⟨rfl, ?_⟩
          unfold zAss at hv
          split at hv
          · next L0 hL0 =>
            obtain ⟨C1, w1, w2, w3⟩ := ass_ok _ (zLk_mem hL0)
            dsimp only at w1 w2 w3
            cases t1'.symm.trans w1
            have hck := w3 _ (by simpa using hv)
            have hk100 : 100 ≤ hK h b0 := by
              have a3 : ∀ q ∈ assT, ∀ k ∈ q.2, 100 ≤ k := by decide
              exact a3 _ (zLk_mem hL0) _ (by simpa using hv)
            obtain ⟨cellV, v1, v2, v3⟩ := zCk_cast (k := 0) C' X hck (Or.inl hk100)
            obtain ⟨kA, comp, r1, r2, r3, -⟩ := (hW.2.1 _ _ w2 w1).2
            have hcls : cd.cls = D.2.2 (hK h d) := by rw [b6']; rfl
            rw [hcls] at hkb
            cases hkb.symm.trans r1
            cases hkindb.symm.trans r2
            obtain ⟨kc, hkc, -⟩ := Vm.findClass_spec r3
            have hvk : (∃ kv, s.vm.classes[cellV.cls]? = some kv) ∧ s.vm.assignable cellV.cls compb = true := by
              rcases v3 with v3 | ⟨C1, v3, v4⟩
              · cases r3.symm.trans v3
                refine ⟨⟨kc, hkc⟩, ?_⟩
                rcases hck with ⟨ci, fl, q1, -⟩ | ⟨q0, ty, q1, -⟩
                · obtain ⟨cell2, y1, y2, -⟩ := X.obj q1
                  cases v1.symm.trans y1
                  rw [y2]
                  exact va_assign (hW.1 ci (kTab_spec q1).1).2
                · exfalso; omega
              · obtain ⟨kv, hkv, -⟩ := Vm.findClass_spec v3
                obtain ⟨c3, t3, y1, y2, y3⟩ := Cond.castable_spec v4
                cases v3.symm.trans y1
                cases r3.symm.trans y2
                exact ⟨⟨kv, hkv⟩, y3⟩
            obtain ⟨⟨kv, hkv⟩, hasg⟩ := hvk
            obtain ⟨kv', hkv', -⟩ := hal.2.2 _ _ hkv
            obtain ⟨kc', hkc', -⟩ := hal.2.2 _ _ hkc
            exact ⟨cellV, by show T.heap[b0]? = _; rw [hT]; exact v1, (fun q h0 => by rw [h0] at v2; cases v2), ⟨kv', hkv'⟩, ⟨kc', hkc'⟩, (by show vm₁.assignable _ _ = true; rw [hal.assignable]; exact hasg)⟩
          · cases hv
        · cases hv
      · next hr =>
        have e0 : zElT (hK h d) = ty := by
          have h6 := zLk_mem t1'
          revert h6 hr
          generalize hK h d = k
          intro hr h6
          simp only [aTab, List.mem_cons, List.not_mem_nil, or_false] at h6
          rcases h6 with h6 | h6 | h6 | h6 | h6 | h6 | h6 | h6 | h6 | h6 <;> cases h6 <;> first | rfl | exact absurd rfl hr
        rw [e0] at hv
        refine ⟨hv, ?_⟩
        cases hw : hV h src (sp.toNatClampNeg + j) <;> first | exact trivial | skip
        next b0 =>
          exfalso
          rw [hw] at hv
          have h6 := zLk_mem t1'
          revert h6 hr
          generalize hK h d = k
          intro hr h6
          simp only [aTab, List.mem_cons, List.not_mem_nil, or_false] at h6
          rcases h6 with h6 | h6 | h6 | h6 | h6 | h6 | h6 | h6 | h6 | h6 <;> cases h6 <;> first | exact Bool.noConfusion (show false = true from hv) | exact absurd rfl hr)
    (g := F0 m pc lr (.int n :: .int dp :: .ref d :: .int sp :: .ref src :: st)) rfl (by rw [hml]; exact L.1.1) (rest := st) rfl (by rw [hb]; exact hd) (by omega) (by
      have hw : nativeFrameWords "java/lang/System" "arraycopy" 5 = 7 := by decide
      show 2 * 0 + _ + _ ≤ _
      unfold zSum at hs
      omega)
  have hl : d < H.size := (Array.getElem?_eq_some_iff.mp b1).1
  have ecp : copied cs cd sp dp n = arrV (D.2.2 (hK h d)) (hL h d) (hV (hC h src sp.toNatClampNeg d dp.toNatClampNeg n.toNatClampNeg) d) := by
    have e1 : cs.stretch sp.toNatClampNeg n.toNatClampNeg = (arrV (D.2.2 0) (hL h src) (fun j => hV h src j)).stretch sp.toNatClampNeg n.toNatClampNeg := by
      unfold Cell.stretch
      refine List.map_congr_left fun j hj => ?_
      have hj := List.mem_range.mp hj
      rw [hget j hj, Array.getD_eq_getD_getElem?, arrV_read _ _ (by omega)]
      rfl
    show cd.storeRun dp.toNatClampNeg (cs.stretch sp.toNatClampNeg n.toNatClampNeg) = _
    rw [e1, b6']
    have := va_copied (fun z : Value => z) (D.2.2 0) (D.2.2 (hK h d)) (n0 := hL h src) (n1 := hL h d) (sp := sp.toNatClampNeg) (dp := dp.toNatClampNeg) (n := n.toNatClampNeg) (fun j => hV h src j) (fun j => hV h d j) h4
    refine Eq.trans this ?_
    congr 1
    funext j
    rw [hV_C, if_pos rfl]
    rfl
  rw [ecp] at X' step
  have oq : ∀ q : Nat, q ≠ d → (H.setIfInBounds d (arrV (D.2.2 (hK h d)) (hL h d) (hV (hC h src sp.toNatClampNeg d dp.toNatClampNeg n.toNatClampNeg) d)))[q]? = H[q]? := fun q hq => by simp [Array.getElem?_setIfInBounds, Ne.symm hq]
  have e1 : (H.setIfInBounds d (arrV (D.2.2 (hK h d)) (hL h d) (hV (hC h src sp.toNatClampNeg d dp.toNatClampNeg n.toNatClampNeg) d)))[d]? = some (arrV (D.2.2 (hK h d)) (hL h d) (hV (hC h src sp.toNatClampNeg d dp.toNatClampNeg n.toNatClampNeg) d)) := by simp [Array.getElem?_setIfInBounds, hl]
  have hX2 : zRel κ D s (H.setIfInBounds d (arrV (D.2.2 (hK h d)) (hL h d) (hV (hC h src sp.toNatClampNeg d dp.toNatClampNeg n.toNatClampNeg) d))) (hC h src sp.toNatClampNeg d dp.toNatClampNeg n.toNatClampNeg) := by
    refine X.put (by simp) oq rfl (fun _ => rfl) (fun _ => rfl) (fun b hb j => hV_Cn hb j) (Or.inr (Or.inl ⟨ty, _, t1', e1, ?_, (fun q => by cases q), by rw [arrV_size]; rfl, fun j hj => arrV_read _ _ hj, fun _ => rfl⟩))
    rw [b6'] at b2
    exact b2
  obtain ⟨t, w1, w2⟩ := kk _ (locs ++ (cs.stretch sp.toNatClampNeg n.toNatClampNeg).zipIdx.map fun q => ⟨d, dp.toNatClampNeg + q.2⟩) hX2 ⟨by simpa using hS.1, fun q g1 g2 => by
      rw [oq q (fun e0 => g2 (by rw [e0]; exact ha))]
      exact hS.2.1 q g1 g2, fun q hq => by
      rcases List.mem_append.mp hq with h0 | h0
      · exact hS.2.2 q h0
      · obtain ⟨z, -, hz⟩ := List.mem_map.mp h0
        rw [← hz]
        exact ha⟩ _ (by rw [← hT]; rfl) X'
  exact ⟨t, step t w1, w2⟩
theorem sim_gcl (C : zCx κ D p l R s m args meth c M) (L : zLs lr (mX M) ls) (X : zRel κ D s H h) {i a : Nat} (ht : zLk (tX (mO M)) i = some 2) (hs : zSum st ≤ 8) (hk : hK h a = 10) (hka : kB κ ≤ a) (hd : decode (mC M) pc = .ok (.invokevirtual i, 3))
    (kk : W p l e R s m args below meth c H locs cells slots Q (F0 m (pc + 3) lr (.ref (kM κ 0) :: st))) : W p l e R s m args below meth c H locs cells slots Q (F0 m pc lr (.ref a :: st)) := by
  obtain ⟨hx, hb, hml, hrt, hlk, hown, hts, hnm, hW, hRf, hRl, -⟩ := C
  have hN := hW.2.2.1
  have hfw : nativeFrameWords "java/lang/Object" "getClass" 1 = 3 := by decide
  unfold zSum at hs
  obtain ⟨c0, k0, m1, m2, m3⟩ := hW.2.2.2.2.2.2 0 "[Ljava/lang/Object;" rfl
  have t1 : zLk aTab (hK h a) = some (.object "java/lang/Object") := by rw [hk]; rfl
  obtain ⟨cell, g1, g2, g3, g4, g5, g6⟩ := X.arr t1
  have g6 := g6 hka
  obtain ⟨_, _, _, _, _, h5⟩ := (hW.2.1 10 _ (by decide) rfl).2
  have hc0 : cell.cls = c0 := by rw [g6, hk]; exact Option.some.inj (h5.symm.trans m1)
  have hl0 : (Cond.methodLink (cR (mO M)) i zGc).before args s = true := by
    rcases tX_ok _ _ (zLk_mem ht) with ⟨t, t2⟩ | ⟨t, t2⟩ | ⟨t, t2⟩ | ⟨t, t2⟩ | ⟨t, t2⟩ | ⟨t, t2⟩
    · cases t
    · exact hts _ t2
    all_goals cases t
  intro T hT XT
  obtain ⟨vm', X', step⟩ := XT.getClassOf hx hown hl0 (va_Nw.use rfl (hN _ (zn q1205 rfl))) (notFace_of_selects (hts _ (za q3254))) (hts _ (za q3254)) (hts _ (za q380)) (hts _ (za q406)) m1 ⟨cell, by rw [hT]; exact g1, hc0, by rw [g6]; rfl⟩ m2 m3 (g := F0 m pc lr (.ref a :: st)) rfl (by rw [hml]; exact L.1.1) rfl (by rw [hb]; exact hd) (by omega) (by show 2 * 0 + _ + _ ≤ _; omega)
  obtain ⟨t, w1, w2⟩ := kk (T.setVm vm') hT X'
  exact ⟨t, step t w1, w2⟩
theorem sim_gci (C : zCx κ D p l R s m args meth c M) (L : zLs lr (mX M) ls) (X : zRel κ D s H h) {i n a : Nat} (ht : zLk (tX (mO M)) i = some 6) (hs : zSum st ≤ 8) (hk : hK h a = 133) (hd : decode (mC M) pc = .ok (.invokeinterface i n, 5))
    (kk : W p l e R s m args below meth c H locs cells slots Q (F0 m (pc + 5) lr (.ref (kM κ 1) :: st))) : W p l e R s m args below meth c H locs cells slots Q (F0 m pc lr (.ref a :: st)) := by
  obtain ⟨hx, hb, hml, hrt, hlk, hown, hts, hnm, hW, hRf, hRl, -⟩ := C
  have hN := hW.2.2.1
  have hfw : nativeFrameWords "java/lang/Object" "getClass" 1 = 3 := by decide
  unfold zSum at hs
  obtain ⟨c0, k0, m1, m2, m3⟩ := hW.2.2.2.2.2.2 1 "java/util/Collections$CopiesList" rfl
  have t1 : ∃ fl, zLk kTab (hK h a) = some (33, fl) := by rw [hk]; exact ⟨_, rfl⟩
  obtain ⟨fl, t1⟩ := t1
  obtain ⟨cell, g1, g2, g3, g4, -⟩ := X.obj t1
  have hfc := (hW.1 33 (kTab_spec t1).1).2.1
  have hc0 : cell.cls = c0 := by rw [g2]; exact Option.some.inj (hfc.symm.trans m1)
  have hl0 : (Cond.methodLink (cR (mO M)) i zGi).before args s = true := by
    rcases tX_ok _ _ (zLk_mem ht) with ⟨t, t2⟩ | ⟨t, t2⟩ | ⟨t, t2⟩ | ⟨t, t2⟩ | ⟨t, t2⟩ | ⟨t, t2⟩
    · cases t
    · cases t
    · cases t
    · cases t
    · cases t
    · exact hts _ t2
  have hface : (Cond.interfaceMethod zGi.cls "java/lang/Object" zGi.name zGi.desc).before args s = true := va_Nw.use rfl (hN _ (zn q1204 rfl))
  have hsel : (Cond.selects "java/util/Collections$CopiesList" zGi zGc).before args s = true := by
    obtain ⟨_, _, mf, _, _, _, f1, f2⟩ := Cond.interfaceMethod_spec hface
    refine z_sel ?_ (hts _ (za q399))
    rw [f1]
    exact (State.methodFound?_of_named f2 (by decide)).symm
  intro T hT XT
  obtain ⟨vm', X', step⟩ := XT.getClassOfI hx hown hl0 (va_Nw.use rfl (hN _ (zn q1205 rfl))) hface hsel (hts _ (za q380)) (va_Nw.use rfl (hN _ (zn q1207 rfl))) (va_Nw.use rfl (hN _ (zn q1209 rfl))) (va_Nw.use rfl (hN _ (zn q1167 rfl))) (hts _ (za q406)) ⟨by decide, by decide⟩ (by decide) rfl rfl m1 m2 ⟨cell, by rw [hT]; exact g1, hc0, g4⟩ m3 (g := F0 m pc lr (.ref a :: st)) rfl (by rw [hml]; exact L.1.1) rfl (by rw [hb]; exact hd) (by omega) (by show 2 * 0 + _ + _ ≤ _; omega)
  obtain ⟨t, w1, w2⟩ := kk (T.setVm vm') hT X'
  exact ⟨t, step t w1, w2⟩
theorem sim_cln (C : zCx κ D p l R s m args meth c M) (L : zLs lr (mX M) ls) (X : zRel κ D s H h) (hS : va_S (fun q => kB κ ≤ q) s.heap H locs) {i a : Nat} (ht : zLk (tX (mO M)) i = some 3) (hs : zSum st ≤ 8) (hk : hK h a = 3) (hka : kB κ ≤ a) (hfit : ∀ j, j < hL h a → fits .byte (hV h a j) = true) (hcells : cells + 1 ≤ R.cells) (hslots : slots + hL h a ≤ R.slots) (hd : decode (mC M) pc = .ok (.invokevirtual i, 3))
    (kk : ∀ (H' : Heap), zRel κ D s H' (hA h 3 (hL h a) (hL h a) (fun j => hV h a j)) → va_S (fun q => kB κ ≤ q) s.heap H' locs → W p l e R s m args below meth c H' locs (cells + 1) (slots + hL h a) Q (F0 m (pc + 3) lr (.ref (hN h) :: st))) : W p l e R s m args below meth c H locs cells slots Q (F0 m pc lr (.ref a :: st)) := by
  obtain ⟨hx, hb, hml, hrt, hlk, hown, hts, hnm, hW, hRf, hRl, -⟩ := C
  have hN' := hW.2.2.1
  unfold zSum at hs
  have hsz : hN h = H.size := X.1
  have t1 : zLk aTab (hK h a) = some .byte := by rw [hk]; rfl
  obtain ⟨cell, g1, g2, g3, g4, g5, g6⟩ := X.arr t1
  have g6 := g6 hka
  rw [hk] at g6
  have h5 : s.vm.findClass "[B" = some (D.2.2 3) := (hW.2.1 3 .byte (by decide) rfl).2
  have hl0 : (Cond.methodLink (cR (mO M)) i ⟨"[B", "clone", "()Ljava/lang/Object;"⟩).before args s = true := by
    rcases tX_ok _ _ (zLk_mem ht) with ⟨t, t2⟩ | ⟨t, t2⟩ | ⟨t, t2⟩ | ⟨t, t2⟩ | ⟨t, t2⟩ | ⟨t, t2⟩
    · cases t
    · cases t
    · exact hts _ t2
    all_goals cases t
  obtain ⟨c0, t0', f1, f2, f3⟩ := Cond.castable_spec (va_Nw.use (A := args) rfl (hN' _ (zn q1326 rfl)))
  cases h5.symm.trans f1
  have hAr := (hW.2.1 3 .byte (by decide) rfl).1
  intro T hT XT
  have hcellT : T.heap[a]? = some cell := by rw [hT]; exact g1
  obtain ⟨-, kA, hkA, comp, hkind⟩ := State.isArrayOf_alike XT.warmed.alike (hAr 0 (fun _ => .null))
  obtain ⟨-, kS, hkS, compS, hkindS⟩ := hAr 0 (fun _ => .null)
  have hcls : cell.cls = D.2.2 3 := by rw [g6]; rfl
  obtain ⟨vm', X', st'⟩ := XT.cloneArray hx hown hl0 (hts _ (za q1322)) (hts _ (za q1323)) (hts _ (za q1324)) (hts _ (za q1325)) (a := a) (cell := cell) hcellT (fun k h0 => by rw [g6] at h0; cases h0) g3 (by rw [hcls]; exact h5) f2 (by rw [hcls]; exact f3)
    (fun j v hv => by
      rw [hcls]
      have hk' : T.vm.classes[D.2.2 3]? = some kA := hkA
      have hfv : fits .byte v = true := by
        have hj : j < hL h a := by rw [← g4]; exact k2_hasslot hv
        cases (g5 j hj).symm.trans hv
        exact hfit j hj
      simpa [State.fitsSlot, State.slotType?, hk', hkind] using hfv)
    (g := F0 m pc lr (.ref a :: st)) rfl (by rw [hml]; exact L.1.1) rfl (by rw [hb]; exact hd) (by omega) (by show 2 * 0 + _ + 14 ≤ _; omega) hcells (by rw [g4]; exact hslots) (hloader := by rw [hcls]; exact Vm.clonesLoader_of_array hkS hkindS)
  have hcellE : ({ cls := cell.cls, slots := cell.slots } : Cell) = arrV (D.2.2 3) (hL h a) (hV h a) := by rw [g6]; rfl
  rw [hcellE, g4] at X'
  generalize hH1 : H.push (arrV (D.2.2 3) (hL h a) (hV h a)) = H1
  have z : H1.size = H.size + 1 := by rw [← hH1, Array.size_push]
  have e1 : H1[hN h]? = some (arrV (D.2.2 3) (hL h a) (hV h a)) := by rw [← hH1, hsz, Array.getElem?_push_size]
  have o : ∀ q : Nat, q < H.size → H1[q]? = H[q]? := fun q hq => by rw [← hH1, Array.getElem?_push, if_neg (Nat.ne_of_lt hq)]
  have ef : hV h a = hV (hA h 3 (hL h a) (hL h a) (fun j => hV h a j)) (hN h) := by funext q; rw [hV_A, if_pos rfl]
  have eL : hL (hA h 3 (hL h a) (hL h a) (fun j => hV h a j)) (hN h) = hL h a := by rw [hL_A, if_pos rfl]
  have eK : hK (hA h 3 (hL h a) (hL h a) (fun j => hV h a j)) (hN h) = 3 := by rw [hK_A, if_pos rfl]
  have hX2 : zRel κ D s H1 (hA h 3 (hL h a) (hL h a) (fun j => hV h a j)) := X.new z o (Or.inr (Or.inl ⟨.byte, _, by rw [eK]; rfl, e1, hAr _ _, (fun q => by cases q), by rw [arrV_size, eL], fun j hj => by
    rw [eL] at hj
    rw [arrV_read _ _ hj, ← ef], fun _ => by rw [eK, eL, ← ef]⟩))
  obtain ⟨t, b1, b2⟩ := kk H1 hX2 ⟨Nat.le_trans hS.1 (by omega), fun y h1 h2 => (o y (Nat.lt_of_lt_of_le h1 hS.1)).trans (hS.2.1 y h1 h2), hS.2.2⟩ ((T.setVm vm').pushCell (arrV (D.2.2 3) (hL h a) (hV h a))) (by rw [← hH1, ← hT]; rfl) X'
  refine ⟨t, st' t ?_, b2⟩
  rw [hcellE, hT, ← hsz]
  exact b1
end
