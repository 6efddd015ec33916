/-! the simulation: what touches the heap -/
theorem kTab_spec {k ci : Nat} {fl : List (Nat × Nat)} (h : zLk kTab k = some (ci, fl)) : ci ∈ zOb ∧ ∀ g j, zLk fl g = some j → j < cN ci ∧ (cT ci j).1 = (gNm g).1 ∧ (cT ci j).2.1 = (gNm g).2.1 ∧ (cT ci j).2.2.1 = (gNm g).2.2 ∧ (cT ci j).2.2.2 = gFin g ∧ (gNm g).1 = cR (gOwn g) ∧ gT g = cTy ci j ∧ ∀ g', zLk fl g' = some j → g' = g := by
  have h1 := List.all_eq_true.mp kTab_ok _ (zLk_mem h)
  unfold kOk at h1
  rw [Bool.and_eq_true] at h1
  refine ⟨by simpa using h1.1, fun g j hg => ?_⟩
  have h2 := List.all_eq_true.mp h1.2 _ (zLk_mem hg)
  simp only [Bool.and_eq_true, decide_eq_true_eq] at h2
  obtain ⟨⟨⟨⟨⟨⟨⟨a1, a2⟩, a3⟩, a4⟩, a5⟩, a6⟩, a7⟩, a8⟩ := h2
  refine ⟨a1, a2, a3, a4, a5, a6, a7, fun g' hg' => ?_⟩
  have h3 := List.all_eq_true.mp a8 _ (zLk_mem hg')
  rw [decide_eq_true_eq] at h3
  exact (h3 rfl).symm
theorem zPos_spec {k g : Nat} (h : (zPos k g).isSome = true) : ∃ ci fl j, zLk kTab k = some (ci, fl) ∧ zLk fl g = some j := by
  obtain ⟨j, hj⟩ := Option.isSome_iff_exists.mp h
  unfold zPos at hj
  obtain ⟨⟨ci, fl⟩, h1, h2⟩ := Option.bind_eq_some_iff.mp hj
  exact ⟨ci, fl, j, h1, h2⟩
theorem zIn_spec {i : Int32} {n : Nat} (h : zIn i n = true) : ¬ (i < 0 ∨ n ≤ i.toNatClampNeg) := of_decide_eq_true h
theorem zRef_spec {k : Nat} {s : State} {κ : zC} {D : zD} {H : Heap} {h : zH} {a : Nat} (X : zRel κ D s H h) (hr : zRef (hK h a) = true) : ∃ C, zLk aTab (hK h a) = some (.object C) := by
  unfold zRef at hr
  rw [Bool.and_eq_true, decide_eq_true_eq, decide_eq_true_eq] at hr
  rcases X.2.2 a with z | ⟨ty, cell, z1, -⟩ | ⟨ci, fl, cell, z1, -⟩
  · omega
  · have h1 := zLk_mem z1
    revert h1 z1
    generalize hK h a = k at *
    intro z1 h1
    have a1 : ∀ q ∈ aTab, 10 ≤ q.1 → ∃ C, q.2 = .object C := by
      intro q hq
      simp only [aTab, List.mem_cons, List.not_mem_nil, or_false] at hq
      rcases hq with rfl | rfl | rfl | rfl | rfl | rfl | rfl | rfl | rfl | rfl <;> intro hl <;> first | exact ⟨_, rfl⟩ | exact absurd hl (by decide)
    obtain ⟨C, hC⟩ := a1 _ h1 hr.1
    exact ⟨C, by rw [z1, ← hC]⟩
  · have h1 := zLk_mem z1
    have a2 : ∀ q ∈ kTab, 100 ≤ q.1 := by decide
    have b2 := a2 _ h1
    dsimp only at b2
    omega
theorem zApart {args : Array Value} {s : State} {κ : zC} {D : zD} (hts : ∀ w ∈ zAll, w.before args s = true) (hW : zWd κ D s) {ci x y : Nat} (hci : ci ∈ zOb) (hx : x < cN ci) (hy : y < cN ci) (hne : x ≠ y) : D.2.1 ci x ≠ D.2.1 ci y := by
  obtain ⟨hS, -⟩ := hW.1 ci hci
  obtain ⟨_, _, _, fa, hia, ea⟩ := hS x hx
  obtain ⟨_, _, _, fb, hib, eb⟩ := hS y hy
  rw [← ea, ← eb]
  refine u_apart (u_lays hts (cT_in ci hci) hx) (u_lays hts (cT_in ci hci) hy) hia hib ?_
  rw [(State.fieldFound?_type hia (cT_ty ci hci x hx)).1, (State.fieldFound?_type hib (cT_ty ci hci y hy)).1]
  exact cT_nm ci hci x hx y hy hne
section
variable {p : Program} {l : Launch} {e : Env} {R : Room} {s : State} {m : MethodId} {args : Array Value} {below : List Frame} {meth : Method} {c : Code} {H : Heap} {locs : List Loc} {cells slots : Nat} {Q : State → Prop}
variable {κ : zC} {D : zD} {M : zM} {pc ln : Nat} {ls : List (Option Value)} {lr : Array Slot} {st : List Value} {h : zH} {op : Instr}
theorem sim_getf (C : zCx κ D p l R s m args meth c M) (X : zRel κ D s H h) {i g a : Nat} (ht : zLk (tF (mO M)) i = some g) (hp : (zPos (hK h a) g).isSome = true) (hd : decode (mC M) pc = .ok (.getfield i, 3))
    (k : W p l e R s m args below meth c H locs cells slots Q (F0 m (pc + 3) lr (hV h a g :: st))) : W p l e R s m args below meth c H locs cells slots Q (F0 m pc lr (.ref a :: st)) := by
  obtain ⟨hx, hb, hml, hr, hlk, hown, hts, hnm, hW, -⟩ := C
  obtain ⟨ci, fl, j, h1, h2⟩ := zPos_spec hp
  obtain ⟨cell, g1, g2, g3, g4, g5, -⟩ := X.obj h1
  obtain ⟨hci, hf⟩ := kTab_spec h1
  obtain ⟨hj, f1, f2, f3, f4, f5, f6, f7⟩ := hf _ _ h2
  obtain ⟨hS, hfc, kC, hkC, hkind⟩ := hW.1 ci hci
  obtain ⟨cf, kf, fi, fd, hi, hsl⟩ := hS j hj
  have hst := (u_facts hfc hkC (u_lays hts (cT_in ci hci) hj) hi).1
  have hsv : cell.slots[fd.slot]? = some (hV h a g) := by rw [hsl]; exact g5 g j h2
  rw [f1, f2, f3] at hi
  rcases tF_ok _ _ (zLk_mem ht) with t | ⟨-, host, t⟩ | ⟨ref, t, u⟩
  · exact W.getf hx hb hown (hts _ t) hi hst g1 g3 hsv rfl rfl hd k
  · exact va_Wgetf hx hb hown (va_Nw.use rfl (hW.2.2.1 _ t)) hi hst g1 g3 hsv rfl rfl hd k
  · exact W.getf hx hb hown (hts _ t) (u_same (hts _ u) _ hi) hst g1 g3 hsv rfl rfl hd k
theorem sim_putf (C : zCx κ D p l R s m args meth c M) (X : zRel κ D s H h) (hS : va_S (fun q => kB κ ≤ q) s.heap H locs) {i g a : Nat} {v : Value} (ht : zLk (tF (mO M)) i = some g) (hp : (zPos (hK h a) g).isSome = true) (ha : kB κ ≤ a) (hfit : zFit (gT g) v = true) (hfin : gFin g = false ∨ ((mY M).name = "<init>" ∧ gOwn g = mO M)) (hd : decode (mC M) pc = .ok (.putfield i, 3))
    (kk : ∀ (H' : Heap) (locs' : List Loc), zRel κ D s H' (hW h a g v) → va_S (fun q => kB κ ≤ q) s.heap H' locs' → W p l e R s m args below meth c H' locs' cells slots Q (F0 m (pc + 3) lr st)) : W p l e R s m args below meth c H locs cells slots Q (F0 m pc lr (v :: .ref a :: st)) := by
  obtain ⟨hx, hb, hml, hr, hlk, hown, hts, hnm, hW, -⟩ := C
  obtain ⟨ci, fl, j, h1, h2⟩ := zPos_spec hp
  obtain ⟨cell, g1, g2, g3, g4, g5, g6⟩ := X.obj h1
  have g6 := g6 ha
  obtain ⟨hci, hf⟩ := kTab_spec h1
  obtain ⟨hj, f1, f2, f3, f4, f5, f6, f7⟩ := hf _ _ h2
  obtain ⟨hSl, hfc, kC, hkC, hkind⟩ := hW.1 ci hci
  obtain ⟨cf, kf, fi, fd, hi, hsl⟩ := hSl j hj
  have hst := (u_facts hfc hkC (u_lays hts (cT_in ci hci) hj) hi).1
  have hlt : fd.slot < cell.slots.size := by rw [hsl]; exact k2_hasslot (g5 g j h2)
  unfold zFit at hfit
  rw [Bool.and_eq_true, decide_eq_true_eq] at hfit
  have hty : parseFieldDescriptor (gNm g).2.2 = some (gT g) := by
    have := cT_ty ci hci j hj
    rw [f3] at this
    rw [this, f6]
  have fin : ∀ H' : Heap, H'[a]? = some (cell.setSlot fd.slot v) → H'.size = H.size → (∀ q : Nat, q ≠ a → H'[q]? = H[q]?) → W p l e R s m args below meth c H' (locs ++ [⟨a, fd.slot⟩]) cells slots Q (F0 m (pc + 3) lr st) := by
    intro H' e1 e2 e3
    refine kk H' _ ?_ (hS.put e2 e3 ha)
    refine X.put e2 e3 rfl (fun _ => rfl) (fun _ => rfl) (fun b hb j => hV_Wn hb j) (Or.inr (Or.inr ⟨ci, fl, cell.setSlot fd.slot v, h1, e1, g2, g3, g4, fun g' k' hk' => ?_, fun _ => g6⟩))
    rw [hV_W, if_pos rfl]
    by_cases hg : g' = g
    · subst hg
      cases h2.symm.trans hk'
      rw [if_pos rfl, hsl]
      exact Cell.slots_setSlot_self v (by rw [← hsl]; exact hlt)
    · rw [if_neg hg]
      obtain ⟨hk1, -⟩ := hf _ _ hk'
      have hne : k' ≠ j := fun e0 => hg (f7 g' (by rw [← e0]; exact hk'))
      have := zApart hts hW hci hk1 hj hne
      rw [← hsl] at this
      rw [Cell.slots_setSlot_ne v (Ne.symm this)]
      exact g5 g' k' hk'
  by_cases hF : gFin g = false
  · have hlay := hts _ (cT_in ci hci _ (u_in_lay hj))
    unfold u_lay at hlay
    rw [if_neg (by rw [f4, hF]; decide)] at hlay
    have hlay' := hlay
    rw [f1, f2, f3] at hi hlay'
    have h6 := u_store hfc hkC hkind hlay' hi hty hfit.1 hfit.2
    rcases tF_ok _ _ (zLk_mem ht) with t | ⟨-, host, t⟩ | ⟨ref, t, u⟩
    · exact W.putK hx hb ⟨hown, hts _ t, ⟨_, _, _, hi⟩, hst⟩ (by rw [g2]; exact h6) g1 g6 hlt rfl rfl hd fin
    · exact va_WputK hx hb hown (va_Nw.use rfl (hW.2.2.1 _ t)) hi hst (by rw [g2]; exact h6) g1 g6 hlt rfl rfl hd fin
    · exact W.putK hx hb ⟨hown, hts _ t, ⟨_, _, _, u_same (hts _ u) _ hi⟩, hst⟩ (by rw [g2]; exact h6) g1 g6 hlt rfl rfl hd fin
  · obtain ⟨hi1, hi2⟩ := hfin.resolve_left hF
    have h6 := u_fits hfc hkC hkind (u_lays hts (cT_in ci hci) hj) hi (by rw [f3]; exact hty) hfit.1 hfit.2
    have hcf : m.cls = cf := by
      have hlay := hts _ (cT_in ci hci _ (u_in_lay hj))
      unfold u_lay at hlay
      rw [if_pos (by rw [f4]; simpa using hF)] at hlay
      obtain ⟨_, _, c', _, _, _, -, -, hf', -, -, -, hown2, -⟩ := Cond.laysFinal_spec hlay
      have e1 : c' = cf := by have := hi.symm.trans hf'; simp at this; exact this.1.symm
      rw [f1, f5, hi2] at hown2
      rw [← e1]; exact Option.some.inj (hown.symm.trans hown2)
    rw [f1, f2, f3] at hi
    rcases tF_ok _ _ (zLk_mem ht) with t | ⟨t, -⟩ | ⟨ref, t, u⟩
    · exact W.putFinK hx hb hown (hts _ t) hi hst hcf (hnm.trans hi1) (by rw [g2]; exact h6) g1 g6 hlt rfl rfl hd fin
    · exact absurd hi2 t
    · exact W.putFinK hx hb hown (hts _ t) (u_same (hts _ u) _ hi) hst hcf (hnm.trans hi1) (by rw [g2]; exact h6) g1 g6 hlt rfl rfl hd fin
end
