/-! the map of names: put -/
section
variable {κ : zC} {h h1 : zH} {m x p i j k vk vv e n par : Nat} {L L' : List Nat} {T T1 : Tm} {t : Tr} {Q : zQ} {kf vf kv : Nat → Nat} {kw : Nat → List Int32} {w : List Int32} {n1 n2 : Int32}
theorem lf_br {i : Nat} {l r : Tr} {p : Nat} {b : Bool} : (lf kv n (.branch i l r) p b).1 ∈ inO (.branch i l r) := by
  have ef : lf kv n (.branch i l r) p b = if n < kv i then lf kv n l i true else lf kv n r i false := rfl
  rw [ef]
  by_cases c : n < kv i
  · rw [if_pos c]
    rcases lf_in (kv := kv) (k := n) (t := l) (p := i) (b := true) with z | z
    · rw [z]; exact in3.mpr (Or.inr (Or.inl rfl))
    · exact in3.mpr (Or.inl z)
  · rw [if_neg c]
    rcases lf_in (kv := kv) (k := n) (t := r) (p := i) (b := false) with z | z
    · rw [z]; exact in3.mpr (Or.inr (Or.inl rfl))
    · exact in3.mpr (Or.inr (Or.inr z))
theorem lf_mem (W : TW T t) (o0 : tmO T ≠ 0) : (lf kv n t 0 false).1 ∈ inO t := by
  cases t with
  | leaf u => exact absurd W.1 o0
  | branch i l r => exact lf_br
theorem ins_W (W : TW T t) (o0 : tmO T ≠ 0) (eN : e ∉ inO t) (e0 : e ≠ 0) (hs : srt kv t) (no : ∀ i ∈ inO t, kv i ≠ n) (hm : kv e = n) : TW (lnk (tNew T e (lf kv n t 0 false).1) e (lf kv n t 0 false)) (ins kv n e t) := by
  have z0 : (0 : Nat) ∉ inO t := fun z => TR_ne W.1 z rfl
  have R1 : TR (tNew T e (lf kv n t 0 false).1) t (tmO T) 0 := TR_cg (fun i hi => by
    have ie : i ≠ e := fun z => eN (z ▸ hi)
    exact ⟨zu_ne _ _ ie, zu_ne _ _ ie, zu_ne _ _ ie⟩) W.1
  have R2 := ins_TR (T := tNew T e (lf kv n t 0 false).1) (kv := kv) (k := n) e0 (zu_eq _ _ _) (zu_eq _ _ _) (b := false) R1 W.2 eN z0 e0 (zu_eq _ _ _)
  refine ⟨?_, srt_nd (ins_srt hm hs no)⟩
  have eo : tmO (lnk (tNew T e (lf kv n t 0 false).1) e (lf kv n t 0 false)) = tmO T := by
    unfold lnk
    split <;> rfl
  rw [eo]
  cases t with
  | leaf u => exact absurd W.1 o0
  | branch i l r => exact R2
theorem e15_init (k1 : hK h e = 127) (hB : kB κ ≤ e) : Ev κ mJ15_init [.ref e, .ref k, .ref vv, .ref par] h Q = Q (.inl none) (hW (hW (hW (hW h e 169 (.int (Int32.ofNat 1))) e 164 (.ref k)) e 165 (.ref vv)) e 168 (.ref par)) := by
  have zf1 : zFit .boolean (.int (Int32.ofNat 1)) = true := by decide
  simp (disch := first | assumption | omega | decide) only [gB, I_all, zK_v, zK_n, true_and, and_true, Nat.reduceAdd, Nat.reduceMul, Nat.reduceSub, z_lt, z_le, z_neq, not_false_eq_true, or_true, true_or, or_false, false_or, false_and, and_false, gJ15_init, k1, hK_W, zf1]
theorem e15_init0 (k1 : hK h e = 127) (hB : kB κ ≤ e) : Ev κ mJ15_init [.ref e, .ref k, .ref vv, .null] h Q = Q (.inl none) (hW (hW (hW (hW h e 169 (.int (Int32.ofNat 1))) e 164 (.ref k)) e 165 (.ref vv)) e 168 .null) := by
  have zf1 : zFit .boolean (.int (Int32.ofNat 1)) = true := by decide
  rw [show Ev κ mJ15_init [.ref e, .ref k, .ref vv, .null] h Q = Go κ mJ15_init 0 [some (.ref e), some (.ref k), some (.ref vv), some .null] [] h Q from rfl]
  simp (disch := first | assumption | omega | decide) only [gB, I_all, zK_v, zK_n, true_and, and_true, Nat.reduceAdd, Nat.reduceMul, Nat.reduceSub, z_lt, z_le, z_neq, not_false_eq_true, or_true, true_or, or_false, false_or, false_and, and_false, gJ15_init, k1, hK_W, zf1]
theorem e4_addEntry {b : Bool} (S : TS κ h m (inO t)) (W : TW T t) (o0 : tmO T ≠ 0) (hs : srt kv t) (no : ∀ i ∈ inO t, kv i ≠ n) (hm : kv (hN h) = n) (hlt : ∀ x ∈ inO t, x < hN h) (hmN : m < hN h)
    (z1 : hV h m 154 = .int n1) (z2 : hV h m 155 = .int n2) (hp : (lf kv n t 0 false).1 = par) (hb : (lf kv n t 0 false).2 = b)
    (hq : ∀ H' T' t', TW T' t' → inO t' = inO (ins kv n (hN h) t) → PutB h H' m (hN h) k vv (n1 + Int32.ofNat 1) (n2 + Int32.ofNat 1) → TS κ H' m (inO t') → Q (.inl none) (hT H' m (inO t') T')) :
    Ev κ mJ4_addEntry [.ref m, .ref k, .ref vv, .ref par, .int (Int32.ofNat b.toNat)] (hT h m (inO t) T) Q := by
  have hB : kB κ ≤ m := S.2.1
  have e0 : hN h ≠ 0 := by omega
  have em : hN h ≠ m := by omega
  have eN : hN h ∉ inO t := fun z => Nat.lt_irrefl _ (hlt _ z)
  have W5 := ins_W W o0 eN e0 hs no hm
  have pin : par ∈ inO t := hp ▸ lf_mem W o0
  have p0 : par ≠ 0 := TR_ne W.1 pin
  have pe : par ≠ hN h := fun z => eN (z ▸ pin)
  rw [hp] at W5
  have hL' : ∀ x, x ∈ inO (ins kv n (hN h) t) ↔ x = hN h ∨ x ∈ inO t := fun x => ins_in
  have a1 : hA (hT h m (inO t) T) 127 0 6 gD = hT (hA h 127 0 6 gD) m (inO t) T := hT_A em eN
  obtain ⟨h5, hh5⟩ : ∃ h5, h5 = hW (hW (hW (hW (hA h 127 0 6 gD) (hN h) 169 (.int (Int32.ofNat 1))) (hN h) 164 (.ref k)) (hN h) 165 (.ref vv)) (hN h) 168 (.ref par) := ⟨_, rfl⟩
  have a2 : hW (hW (hW (hW (hT (hA h 127 0 6 gD) m (inO t) T) (hN h) 169 (.int (Int32.ofNat 1))) (hN h) 164 (.ref k)) (hN h) 165 (.ref vv)) (hN h) 168 (.ref par) = hT h5 m (inO t) T := by
    rw [hT_Wx em eN, hT_Wx em eN, hT_Wx em eN, hT_Wx em eN, hh5]
  have vE : ∀ j, j ≠ 164 → j ≠ 165 → j ≠ 168 → j ≠ 169 → hV h5 (hN h) j = gD j := fun j j1 j2 j3 j4 => by
    rw [hh5, hV_Wj j3, hV_Wj j2, hV_Wj j1, hV_Wj j4, hV_At rfl]
  have v164 : hV h5 (hN h) 164 = .ref k := by rw [hh5, hV_Wj (by decide), hV_Wj (by decide), hV_We rfl rfl]
  have v165 : hV h5 (hN h) 165 = .ref vv := by rw [hh5, hV_Wj (by decide), hV_We rfl rfl]
  have v168 : hV h5 (hN h) 168 = .ref par := by rw [hh5, hV_We rfl rfl]
  have v169 : hV h5 (hN h) 169 = .int (Int32.ofNat 1) := by rw [hh5, hV_Wj (by decide), hV_Wj (by decide), hV_Wj (by decide), hV_We rfl rfl]
  have k5 : ∀ y, y ≠ hN h → hK h5 y = hK h y := fun y hy => by
    rw [hh5]
    exact (show hK (hA h 127 0 6 gD) y = hK h y from hK_An hy)
  have l5 : ∀ y, y ≠ hN h → hL h5 y = hL h y := fun y hy => by
    rw [hh5]
    exact (show hL (hA h 127 0 6 gD) y = hL h y from hL_An hy)
  have kE : hK h5 (hN h) = 127 := by
    rw [hh5]
    exact (show hK (hA h 127 0 6 gD) (hN h) = 127 from hK_At rfl)
  have v5 : ∀ y, y ≠ hN h → ∀ j, hV h5 y j = hV h y j := fun y hy j => by
    rw [hh5, hV_Wn hy, hV_Wn hy, hV_Wn hy, hV_Wn hy, hV_An hy]
  have a3 : hT h5 m (inO t) T = hT h5 m (inO (ins kv n (hN h) t)) (tNew T (hN h) par) := by
    refine hT_grow em hL' eN rfl (fun y hy => ⟨zu_ne _ _ hy, zu_ne _ _ hy, zu_ne _ _ hy, zu_ne _ _ hy⟩) ?_ ?_ ?_ ?_
    · rw [vE 166 (by decide) (by decide) (by decide) (by decide), show tmL (tNew T (hN h) par) (hN h) = 0 from zu_eq _ _ _]
      rfl
    · rw [vE 167 (by decide) (by decide) (by decide) (by decide), show tmR (tNew T (hN h) par) (hN h) = 0 from zu_eq _ _ _]
      rfl
    · rw [v168, show tmP (tNew T (hN h) par) (hN h) = par from zu_eq _ _ _, rf_n p0]
    · rw [v169, show tmC (tNew T (hN h) par) (hN h) = true from zu_eq _ _ _]
      rfl
  have S5 : TS κ h5 m (inO (ins kv n (hN h) t)) := ⟨(k5 m (fun z => em z.symm)).trans S.1, S.2.1, fun x hx => by
    rcases (hL' x).mp hx with z | z
    · rw [z]
      exact ⟨kE, by omega, e0⟩
    · obtain ⟨s1, s2, s3⟩ := S.2.2 x z
      exact ⟨(k5 x (fun w => eN (w ▸ z))).trans s1, s2, s3⟩⟩
  have ein : hN h ∈ inO (ins kv n (hN h) t) := (hL' _).mpr (Or.inl rfl)
  have Fp := nodF S5 ((hL' par).mpr (Or.inr pin))
  have fin : Ev κ mJ4_fixAfterInsertion [.ref m, .ref (hN h)] (hT h5 m (inO (ins kv n (hN h) t)) (lnk (tNew T (hN h) par) (hN h) (lf kv n t 0 false))) (zK κ mJ4_addEntry 35 3 [some (.ref m), some (.ref k), some (.ref vv), some (.ref par), some (.int (Int32.ofNat b.toNat)), some (.ref (hN h))] [] Q) := by
    refine e4_fix S5 W5 rfl ein fun T' t' W' eI => ?_
    have m4 : hV (hT h5 m (inO (ins kv n (hN h) t)) T') m 154 = .int n1 := (hT_m (by decide)).trans ((v5 m (fun z => em z.symm) _).trans z1)
    have m5 : hV (hT (hW h5 m 154 (.int (n1 + Int32.ofNat 1))) m (inO (ins kv n (hN h) t)) T') m 155 = .int n2 := (hT_m (by decide)).trans ((hV_Wj (by decide)).trans ((v5 m (fun z => em z.symm) _).trans z2))
    have km : ∀ H : zH, hK H m = 116 → hK (hT H m (inO (ins kv n (hN h) t)) T') m = 116 := fun _ z => z
    have w4 : hW (hT h5 m (inO (ins kv n (hN h) t)) T') m 154 (.int (n1 + Int32.ofNat 1)) = hT (hW h5 m 154 (.int (n1 + Int32.ofNat 1))) m (inO (ins kv n (hN h) t)) T' := hT_Wm (by decide)
    have w5 : hW (hT (hW h5 m 154 (.int (n1 + Int32.ofNat 1))) m (inO (ins kv n (hN h) t)) T') m 155 (.int (n2 + Int32.ofNat 1)) = hT (hW (hW h5 m 154 (.int (n1 + Int32.ofNat 1))) m 155 (.int (n2 + Int32.ofNat 1))) m (inO (ins kv n (hN h) t)) T' := hT_Wm (by decide)
    have k1 := km h5 S5.1
    have k2 := km (hW h5 m 154 (.int (n1 + Int32.ofNat 1))) S5.1
    have q1 := hq (hW (hW h5 m 154 (.int (n1 + Int32.ofNat 1))) m 155 (.int (n2 + Int32.ofNat 1))) T' t' W' eI ?_ (by rw [eI]; exact S5)
    · rw [eI] at q1
      simp (disch := first | assumption | omega | decide) only [gB, I_all, zK_v, zK_n, true_and, and_true, Nat.reduceAdd, Nat.reduceMul, Nat.reduceSub, z_lt, z_le, z_neq, not_false_eq_true, or_true, true_or, or_false, false_or, false_and, and_false, gJ4_addEntry, k1, k2, m4, m5, w4, w5]
      exact q1
    · have ym : ∀ y, y ≠ m → y ≠ hN h → ∀ j, hV (hW (hW h5 m 154 (.int (n1 + Int32.ofNat 1))) m 155 (.int (n2 + Int32.ofNat 1))) y j = hV h y j := fun y hy hy2 j => by rw [hV_Wn hy, hV_Wn hy, v5 y hy2]
      refine ⟨⟨by rw [hh5]; rfl, by rw [hh5]; rfl⟩, fun y hy => ⟨k5 y (by omega), l5 y (by omega), fun hm2 => ym y hm2 (by omega)⟩, fun j j1 j2 j3 => by rw [hV_Wj j3, hV_Wj j2, v5 m (fun z => em z.symm)], by rw [hV_Wj (by decide), hV_We rfl rfl], hV_We rfl rfl, kE, ?_, ?_⟩
      · rw [hV_Wn em, hV_Wn em, v164]
      · rw [hV_Wn em, hV_Wn em, v165]
  have kA : hK (hT (hA h 127 0 6 gD) m (inO t) T) (hN h) = 127 := (show hK (hA h 127 0 6 gD) (hN h) = 127 from hK_At rfl)
  have hBe : kB κ ≤ hN h := by omega
  have ei := fun (Q : zQ) => e15_init (κ := κ) (h := hT (hA h 127 0 6 gD) m (inO t) T) (e := hN h) (k := k) (vv := vv) (par := par) (Q := Q) kA hBe
  have nT : hN (hT h m (inO t) T) = hN h := rfl
  cases b with
  | false =>
    have eL : lnk (tNew T (hN h) par) (hN h) (lf kv n t 0 false) = tsR (tNew T (hN h) par) par (hN h) := by
      unfold lnk
      rw [hb, hp]
      rfl
    rw [eL] at fin
    rw [Bool.toNat_false] at fin ⊢
    simp (disch := first | assumption | omega | decide) only [gB, I_all, zK_v, zK_n, true_and, and_true, Nat.reduceAdd, Nat.reduceMul, Nat.reduceSub, z_lt, z_le, z_neq, not_false_eq_true, or_true, true_or, or_false, false_or, false_and, and_false, gJ4_addEntry, nT, a1, ei, a2, a3, Fp]
    exact ⟨S5.1, fin⟩
  | true =>
    have eL : lnk (tNew T (hN h) par) (hN h) (lf kv n t 0 false) = tsL (tNew T (hN h) par) par (hN h) := by
      unfold lnk
      rw [hb, hp]
      rfl
    rw [eL] at fin
    rw [Bool.toNat_true] at fin ⊢
    simp (disch := first | assumption | omega | decide) only [gB, I_all, zK_v, zK_n, true_and, and_true, Nat.reduceAdd, Nat.reduceMul, Nat.reduceSub, z_lt, z_le, z_neq, not_false_eq_true, or_true, true_or, or_false, false_or, false_and, and_false, gJ4_addEntry, nT, a1, ei, a2, a3, Fp]
    exact ⟨S5.1, fin⟩
end
