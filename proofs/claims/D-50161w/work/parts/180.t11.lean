/-! the map of names: put, as it is called -/
section
variable {κ : zC} {h h1 : zH} {m x p i j k vk vv e n par : Nat} {L L' : List Nat} {T T1 : Tm} {t : Tr} {Q : zQ} {kf vf kv : Nat → Nat} {kw : Nat → List Int32} {w : List Int32} {n1 n2 : Int32}
theorem e4_put (hc : kS κ 3 = .int (Int32.ofNat 1)) (S : TS κ h m (inO t)) (W : TW T t) (o0 : tmO T ≠ 0) (hz : hV h m 152 = .null) (M : MK h (inO t) kf vf kw) (Sk : St h k vk w) (nw : nmL6 w)
    (hs : srt (fun x => kN (kw x)) t) (no : ∀ i ∈ inO t, kN (kw i) ≠ kN w) (hm : kw (hN h) = w) (hlt : ∀ x ∈ inO t, x < hN h) (hmN : m < hN h) (z1 : hV h m 154 = .int n1) (z2 : hV h m 155 = .int n2)
    (hq : ∀ H' T' t', TW T' t' → inO t' = inO (ins (fun x => kN (kw x)) (kN w) (hN h) t) → PutB h H' m (hN h) k vv (n1 + Int32.ofNat 1) (n2 + Int32.ofNat 1) → TS κ H' m (inO t') → Q (.inl (some .null)) (hT H' m (inO t') T')) :
    Ev κ mJ4_put [.ref m, .ref k, .ref vv] (hT h m (inO t) T) Q := by
  have Sk' := Sk.tr (T := T) S
  have hB := S.2.1
  have km : hK (hT h m (inO t) T) m = 116 := S.1
  have m153 : hV (hT h m (inO t) T) m 153 = .ref (tmO T) := (hT_O _ _ _ T).trans (rf_n o0)
  have z152 : hV (hT h m (inO t) T) m 152 = .null := (hT_m (by decide)).trans hz
  have rn : ∀ Q : zQ, Ev κ mJ16_requireNonNull [.ref k] (hT h m (inO t) T) Q = Q (.inl (some (.ref k))) (hT h m (inO t) T) := fun Q => by simp (disch := first | assumption | omega | decide) only [gB, I_all, zK_v, zK_n, true_and, and_true, Nat.reduceAdd, Nat.reduceMul, Nat.reduceSub, z_lt, z_le, z_neq, not_false_eq_true, or_true, true_or, or_false, false_or, false_and, and_false, gJ16_requireNonNull]
  have pf := put_find (a2 := some (.ref vv)) (T := T) (Q := zK κ mJ4_put 4 3 [some (.ref m), some (.ref k), some (.ref vv)] [] Q) hc S M Sk nw no t (tmO T) 0 false none none o0 W.1 (fun i h => h) (fun c hcb => ?_)
  · rcases Sk'.1 with kk | kk
    · simp (disch := first | assumption | omega | decide) only [gB, I_all, zK_v, zK_n, true_and, and_true, Nat.reduceAdd, Nat.reduceMul, Nat.reduceSub, z_lt, z_le, z_neq, not_false_eq_true, or_true, true_or, or_false, false_or, false_and, and_false, gJ4_put, gJ4_put_2_1, gJ4_put_2_2, km, m153, z152, rn, zCs, kk]
      exact pf
    · simp (disch := first | assumption | omega | decide) only [gB, I_all, zK_v, zK_n, true_and, and_true, Nat.reduceAdd, Nat.reduceMul, Nat.reduceSub, z_lt, z_le, z_neq, not_false_eq_true, or_true, true_or, or_false, false_or, false_and, and_false, gJ4_put, gJ4_put_2_1, gJ4_put_2_2, km, m153, z152, rn, zCs, kk]
      exact pf
  · cases hb : (lf (fun x => kN (kw x)) (kN w) t 0 false).2 with
    | true =>
      have c1 : c < Int32.ofNat 0 := hcb.mpr hb
      have c1' : ¬ Int32.ofNat 0 ≤ c := Int32.not_le.mpr c1
      simp (disch := first | assumption | omega | decide) only [gB, I_all, zK_v, zK_n, true_and, and_true, Nat.reduceAdd, Nat.reduceMul, Nat.reduceSub, z_lt, z_le, z_neq, not_false_eq_true, or_true, true_or, or_false, false_or, false_and, and_false, gJ4_put_2_1, gJ4_put_2_2, km]
      refine e4_addEntry (b := true) S W o0 hs no (by rw [hm]) hlt hmN z1 z2 rfl hb fun H' T' t' W' eI B S' => ?_
      have q1 := hq H' T' t' W' eI B S'
      simp (disch := first | assumption | omega | decide) only [gB, I_all, zK_v, zK_n, true_and, and_true, Nat.reduceAdd, Nat.reduceMul, Nat.reduceSub, z_lt, z_le, z_neq, not_false_eq_true, or_true, true_or, or_false, false_or, false_and, and_false, gJ4_put_2_1, gJ4_put_2_2, gJ4_put]
      exact q1
    | false =>
      have c1' : Int32.ofNat 0 ≤ c := Int32.not_lt.mp fun z => by rw [hcb.mp z] at hb; cases hb
      simp (disch := first | assumption | omega | decide) only [gB, I_all, zK_v, zK_n, true_and, and_true, Nat.reduceAdd, Nat.reduceMul, Nat.reduceSub, z_lt, z_le, z_neq, not_false_eq_true, or_true, true_or, or_false, false_or, false_and, and_false, gJ4_put_2_1, gJ4_put_2_2, km]
      refine e4_addEntry (b := false) S W o0 hs no (by rw [hm]) hlt hmN z1 z2 rfl hb fun H' T' t' W' eI B S' => ?_
      have q1 := hq H' T' t' W' eI B S'
      simp (disch := first | assumption | omega | decide) only [gB, I_all, zK_v, zK_n, true_and, and_true, Nat.reduceAdd, Nat.reduceMul, Nat.reduceSub, z_lt, z_le, z_neq, not_false_eq_true, or_true, true_or, or_false, false_or, false_and, and_false, gJ4_put_2_1, gJ4_put_2_2, gJ4_put]
      exact q1
/-- into an empty map -/
theorem e4_put0 (hc : kS κ 3 = .int (Int32.ofNat 1)) (S : TS κ h m []) (o0 : tmO T = 0) (hz : hV h m 152 = .null) (Sk : St h k vk w) (nw : nmL6 w) (hmN : m < hN h) (z2 : hV h m 155 = .int n2)
    (hq : ∀ H' T' t', TW T' t' → inO t' = [hN h] → PutB h H' m (hN h) k vv (Int32.ofNat 1) (n2 + Int32.ofNat 1) → TS κ H' m [hN h] → Q (.inl (some .null)) (hT H' m [hN h] T')) :
    Ev κ mJ4_put [.ref m, .ref k, .ref vv] (hT h m [] T) Q := by
  have Sk' := Sk.tr (T := T) S
  have hB := S.2.1
  have e0 : hN h ≠ 0 := by omega
  have em : hN h ≠ m := by omega
  have eN : hN h ∉ ([] : List Nat) := fun z => by cases z
  have km : hK (hT h m [] T) m = 116 := S.1
  have m153 : hV (hT h m [] T) m 153 = .null := (hT_O _ _ _ T).trans (by rw [o0]; rfl)
  have z152 : hV (hT h m [] T) m 152 = .null := (hT_m (by decide)).trans hz
  have ec := fun (Q : zQ) => eS_cmp (κ := κ) (Q := Q) hc Sk' Sk' nw.asc nw.asc (by have := nw.1; omega) (by have := nw.1; omega)
  have eC : ∀ Q : zQ, Ev κ mJ4_compare [.ref m, .ref k, .ref k] (hT h m [] T) Q = Q (.inl (some (.int (cmpI w w)))) (hT h m [] T) := fun Q => by
    rcases Sk'.1 with kk | kk
    · simp (disch := first | assumption | omega | decide) only [gB, I_all, zK_v, zK_n, true_and, and_true, Nat.reduceAdd, Nat.reduceMul, Nat.reduceSub, z_lt, z_le, z_neq, not_false_eq_true, or_true, true_or, or_false, false_or, false_and, and_false, gJ4_compare, km, z152, zCs, kk, ec]
    · simp (disch := first | assumption | omega | decide) only [gB, I_all, zK_v, zK_n, true_and, and_true, Nat.reduceAdd, Nat.reduceMul, Nat.reduceSub, z_lt, z_le, z_neq, not_false_eq_true, or_true, true_or, or_false, false_or, false_and, and_false, gJ4_compare, km, z152, zCs, kk, ec]
  have a1 : hA (hT h m [] T) 127 0 6 gD = hT (hA h 127 0 6 gD) m [] T := hT_A em eN
  obtain ⟨h5, hh5⟩ : ∃ h5, h5 = hW (hW (hW (hW (hA h 127 0 6 gD) (hN h) 169 (.int (Int32.ofNat 1))) (hN h) 164 (.ref k)) (hN h) 165 (.ref vv)) (hN h) 168 .null := ⟨_, rfl⟩
  have a2 : hW (hW (hW (hW (hT (hA h 127 0 6 gD) m [] T) (hN h) 169 (.int (Int32.ofNat 1))) (hN h) 164 (.ref k)) (hN h) 165 (.ref vv)) (hN h) 168 .null = hT h5 m [] T := by
    rw [hT_Wx em eN, hT_Wx em eN, hT_Wx em eN, hT_Wx em eN, hh5]
  have vE : ∀ j, j ≠ 164 → j ≠ 165 → j ≠ 168 → j ≠ 169 → hV h5 (hN h) j = gD j := fun j j1 j2 j3 j4 => by
    rw [hh5, hV_Wj j3, hV_Wj j2, hV_Wj j1, hV_Wj j4, hV_At rfl]
  have v164 : hV h5 (hN h) 164 = .ref k := by rw [hh5, hV_Wj (by decide), hV_Wj (by decide), hV_We rfl rfl]
  have v165 : hV h5 (hN h) 165 = .ref vv := by rw [hh5, hV_Wj (by decide), hV_We rfl rfl]
  have v168 : hV h5 (hN h) 168 = .null := by rw [hh5, hV_We rfl rfl]
  have v169 : hV h5 (hN h) 169 = .int (Int32.ofNat 1) := by rw [hh5, hV_Wj (by decide), hV_Wj (by decide), hV_Wj (by decide), hV_We rfl rfl]
  have k5 : ∀ y, y ≠ hN h → hK h5 y = hK h y := fun y hy => by
    rw [hh5]
    exact (show hK (hA h 127 0 6 gD) y = hK h y from hK_An hy)
  have l5 : ∀ y, y ≠ hN h → hL h5 y = hL h y := fun y hy => by
    rw [hh5]
    exact (show hL (hA h 127 0 6 gD) y = hL h y from hL_An hy)
  have kE : hK h5 (hN h) = 127 := by
    rw [hh5]
    exact (show hK (hA h 127 0 6 gD) (hN h) = 127 from hK_At rfl)
  have v5 : ∀ y, y ≠ hN h → ∀ j, hV h5 y j = hV h y j := fun y hy j => by
    rw [hh5, hV_Wn hy, hV_Wn hy, hV_Wn hy, hV_Wn hy, hV_An hy]
  have a3 : hT h5 m [] T = hT h5 m [hN h] (tNew T (hN h) 0) := by
    refine hT_grow em (fun x => by rw [List.mem_singleton]; exact ⟨Or.inl, fun z => z.elim id fun w => by cases w⟩) eN rfl (fun y hy => ⟨zu_ne _ _ hy, zu_ne _ _ hy, zu_ne _ _ hy, zu_ne _ _ hy⟩) ?_ ?_ ?_ ?_
    · rw [vE 166 (by decide) (by decide) (by decide) (by decide), show tmL (tNew T (hN h) 0) (hN h) = 0 from zu_eq _ _ _]
      rfl
    · rw [vE 167 (by decide) (by decide) (by decide) (by decide), show tmR (tNew T (hN h) 0) (hN h) = 0 from zu_eq _ _ _]
      rfl
    · rw [v168, show tmP (tNew T (hN h) 0) (hN h) = 0 from zu_eq _ _ _]
      rfl
    · rw [v169, show tmC (tNew T (hN h) 0) (hN h) = true from zu_eq _ _ _]
      rfl
  have S5 : TS κ h5 m [hN h] := ⟨(k5 m (fun z => em z.symm)).trans S.1, S.2.1, fun x hx => by
    rw [List.mem_singleton] at hx
    rw [hx]
    exact ⟨kE, by omega, e0⟩⟩
  have wo : hW (hT h5 m [hN h] (tNew T (hN h) 0)) m 153 (.ref (hN h)) = hT h5 m [hN h] (tsO (tNew T (hN h) 0) (hN h)) := by
    rw [← rf_n e0]
    exact hT_WO
  have W5 : TW (tsO (tNew T (hN h) 0) (hN h)) (.branch (hN h) (.leaf ()) (.leaf ())) := ⟨⟨rfl, e0, zu_eq _ _ _, zu_eq _ _ _, zu_eq _ _ _⟩, by
    show ([hN h] : List Nat).Nodup
    exact List.pairwise_singleton _ _⟩
  have kA : hK (hT (hA h 127 0 6 gD) m [] T) (hN h) = 127 := (show hK (hA h 127 0 6 gD) (hN h) = 127 from hK_At rfl)
  have hBe : kB κ ≤ hN h := by omega
  have ei := fun (Q : zQ) => e15_init0 (κ := κ) (h := hT (hA h 127 0 6 gD) m [] T) (e := hN h) (k := k) (vv := vv) (Q := Q) kA hBe
  have nT : hN (hT h m [] T) = hN h := rfl
  have k1 : ∀ T, hK (hT h5 m [hN h] T) m = 116 := fun _ => S5.1
  have w4 : hW (hT h5 m [hN h] (tsO (tNew T (hN h) 0) (hN h))) m 154 (.int (Int32.ofNat 1)) = hT (hW h5 m 154 (.int (Int32.ofNat 1))) m [hN h] (tsO (tNew T (hN h) 0) (hN h)) := hT_Wm (by decide)
  have k2 : hK (hT (hW h5 m 154 (.int (Int32.ofNat 1))) m [hN h] (tsO (tNew T (hN h) 0) (hN h))) m = 116 := S5.1
  have m5 : hV (hT (hW h5 m 154 (.int (Int32.ofNat 1))) m [hN h] (tsO (tNew T (hN h) 0) (hN h))) m 155 = .int n2 := (hT_m (by decide)).trans ((hV_Wj (by decide)).trans ((v5 m (fun z => em z.symm) _).trans z2))
  have w5 : hW (hT (hW h5 m 154 (.int (Int32.ofNat 1))) m [hN h] (tsO (tNew T (hN h) 0) (hN h))) m 155 (.int (n2 + Int32.ofNat 1)) = hT (hW (hW h5 m 154 (.int (Int32.ofNat 1))) m 155 (.int (n2 + Int32.ofNat 1))) m [hN h] (tsO (tNew T (hN h) 0) (hN h)) := hT_Wm (by decide)
  have q1 := hq (hW (hW h5 m 154 (.int (Int32.ofNat 1))) m 155 (.int (n2 + Int32.ofNat 1))) _ _ W5 rfl ?_ S5
  · simp (disch := first | assumption | omega | decide) only [gB, I_all, zK_v, zK_n, true_and, and_true, Nat.reduceAdd, Nat.reduceMul, Nat.reduceSub, z_lt, z_le, z_neq, not_false_eq_true, or_true, true_or, or_false, false_or, false_and, and_false, gJ4_put, gJ4_put_2_1, gJ4_put_2_2, gJ4_addEntryToEmptyMap, km, m153, z152, eC, nT, a1, ei, a2, a3, k1, wo, w4, k2, m5, w5]
    exact q1
  · have ym : ∀ y, y ≠ m → y ≠ hN h → ∀ j, hV (hW (hW h5 m 154 (.int (Int32.ofNat 1))) m 155 (.int (n2 + Int32.ofNat 1))) y j = hV h y j := fun y hy hy2 j => by rw [hV_Wn hy, hV_Wn hy, v5 y hy2]
    refine ⟨⟨by rw [hh5]; rfl, by rw [hh5]; rfl⟩, fun y hy => ⟨k5 y (by omega), l5 y (by omega), fun hm2 => ym y hm2 (by omega)⟩, fun j j1 j2 j3 => by rw [hV_Wj j3, hV_Wj j2, v5 m (fun z => em z.symm)], by rw [hV_Wj (by decide), hV_We rfl rfl], hV_We rfl rfl, kE, ?_, ?_⟩
    · rw [hV_Wn em, hV_Wn em, v164]
    · rw [hV_Wn em, hV_Wn em, v165]
end
