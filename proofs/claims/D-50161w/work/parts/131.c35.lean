/-! the component: the queue: a bus taken out; a delay -/
section
variable {κ : zC} {h : zH} {a n p q0 q K cap S B : Nat} {ct : Nat → Nat} {π : Pl} {A : Nat → Nat → Nat} {W W' : Nat → Nat → Int32} {SM : Nat → Nat → Int64} {Q : zQ} {σ : Sg} {f : Nat → Value}
theorem e34_eq1 {x : Nat} {H : zH} : Ev κ mJ34_equals [.ref x, .ref x] H Q = Q (.inl (some (.int (Int32.ofNat 1)))) H := by
  simp (disch := first | assumption | omega | decide | (refine Eq.trans (hK_X _) ?_; assumption) | fail) only [gB, I_all, zK_v, zK_n, true_and, and_true, Nat.reduceAdd, Nat.reduceMul, Nat.reduceSub, z_lt, z_le, z_neq, not_false_eq_true, or_true, true_or, or_false, false_or, false_and, and_false, gJ34_equals, z_b1]
theorem e34_eq0 {x y : Nat} {H : zH} (hxy : ¬ y = x) : Ev κ mJ34_equals [.ref x, .ref y] H Q = Q (.inl (some (.int (Int32.ofNat 0)))) H := by
  simp (disch := first | assumption | omega | decide | (refine Eq.trans (hK_X _) ?_; assumption) | fail) only [gB, I_all, zK_v, zK_n, true_and, and_true, Nat.reduceAdd, Nat.reduceMul, Nat.reduceSub, z_lt, z_le, z_neq, not_false_eq_true, or_true, true_or, or_false, false_or, false_and, and_false, gJ34_equals, hxy, z_b0]
theorem e19_sd {m k : Nat} {F : Nat → Nat} (Z : ZQ κ h a n S B ct) (T : TB W S B σ) (hm : m ≤ B) (hs : W 5 171 = Int32.ofNat m) (hk : k < m) (hF : ∀ i, i < m → F i < B) (hf : ∀ i, i < m → i ≠ k → f i = .ref (bu S a (F i))) (hD : DnI σ F k m)
    (hq : ∀ f' F' k', k' < m → (∀ i, i < m → f' i = .ref (bu S a (F' i))) → (∀ P, QP F m P → QP F' m P) → UpI σ F' k' m → F' k' = F k → (k' = k ∨ ¬ bLt σ (F' k') (F' ((k' - 1) / 2))) → Q (.inl none) (hX (hQ h a f') a n W SM)) :
    Ev κ mJ19_siftDown [.ref (a + 5), .int (Int32.ofNat k), .ref (bu S a (F k))] (hX (hQ h a f) a n W SM) Q := by
  have X := qX Z
  have hB6 : B ≤ 6 := Z.1.2.2
  have km : hK h (bu S a (F k)) = 106 := bK Z (hF k hk)
  have eu := I_ush m (by omega)
  have fin := e19_dn (SM := SM) (Q := zK κ mJ19_siftDown 37 3 [some (.ref (a + 5)), some (.int (Int32.ofNat k)), some (.ref (bu S a (F k)))] [] Q) (k0 := k) Z T hm m k f F none none none (by omega) hk hF hf hD (Or.inl rfl) (fun f' F' k' g0 g1 g2 g3 g4 g5 => by
    have := hq f' F' k' g0 g1 g2 g3 g4 g5
    simp (disch := first | assumption | omega | decide | (refine Eq.trans (hK_X _) ?_; assumption) | fail) only [gB, I_all, zK_v, zK_n, true_and, and_true, Nat.reduceAdd, Nat.reduceMul, Nat.reduceSub, z_lt, z_le, z_neq, not_false_eq_true, or_true, true_or, or_false, false_or, false_and, and_false, gJ19_siftDown, X]
    exact this)
  simp (disch := first | assumption | omega | decide | (refine Eq.trans (hK_X _) ?_; assumption) | fail) only [gB, I_all, zK_v, zK_n, true_and, and_true, Nat.reduceAdd, Nat.reduceMul, Nat.reduceSub, z_lt, z_le, z_neq, not_false_eq_true, or_true, true_or, or_false, false_or, false_and, and_false, gJ19_siftDown, X, hs]
  simp (disch := first | assumption | omega | decide | (refine Eq.trans (hK_X _) ?_; assumption) | fail) only [gB, I_all, zK_v, zK_n, true_and, and_true, Nat.reduceAdd, Nat.reduceMul, Nat.reduceSub, z_lt, z_le, z_neq, not_false_eq_true, or_true, true_or, or_false, false_or, false_and, and_false, gJ19_siftDownComparable, X, km, zCs, eu]
  exact fin
theorem e19_su {m k : Nat} {F : Nat → Nat} (Z : ZQ κ h a n S B ct) (T : TB W S B σ) (hm : m ≤ B) (hk : k < m) (hF : ∀ i, i < m → F i < B) (hf : ∀ i, i < m → i ≠ k → f i = .ref (bu S a (F i))) (hU : UpI σ F k m)
    (hq : ∀ f' F', (∀ i, i < m → f' i = .ref (bu S a (F' i))) → (∀ P, QP F m P → QP F' m P) → HP σ F' m → Q (.inl none) (hX (hQ h a f') a n W SM)) :
    Ev κ mJ19_siftUp [.ref (a + 5), .int (Int32.ofNat k), .ref (bu S a (F k))] (hX (hQ h a f) a n W SM) Q := by
  have X := qX Z
  have hB6 : B ≤ 6 := Z.1.2.2
  have km : hK h (bu S a (F k)) = 106 := bK Z (hF k hk)
  have fin := e19_up (SM := SM) (Q := zK κ mJ19_siftUp 29 3 [some (.ref (a + 5)), some (.int (Int32.ofNat k)), some (.ref (bu S a (F k)))] [] Q) (m := m) Z T hm k f F none none hk hF hf hU (fun f' F' g1 g2 g3 _ => by
    have := hq f' F' g1 g2 g3
    simp (disch := first | assumption | omega | decide | (refine Eq.trans (hK_X _) ?_; assumption) | fail) only [gB, I_all, zK_v, zK_n, true_and, and_true, Nat.reduceAdd, Nat.reduceMul, Nat.reduceSub, z_lt, z_le, z_neq, not_false_eq_true, or_true, true_or, or_false, false_or, false_and, and_false, gJ19_siftUp, X]
    exact this)
  simp (disch := first | assumption | omega | decide | (refine Eq.trans (hK_X _) ?_; assumption) | fail) only [gB, I_all, zK_v, zK_n, true_and, and_true, Nat.reduceAdd, Nat.reduceMul, Nat.reduceSub, z_lt, z_le, z_neq, not_false_eq_true, or_true, true_or, or_false, false_or, false_and, and_false, gJ19_siftUp, X]
  simp (disch := first | assumption | omega | decide | (refine Eq.trans (hK_X _) ?_; assumption) | fail) only [gB, I_all, zK_v, zK_n, true_and, and_true, Nat.reduceAdd, Nat.reduceMul, Nat.reduceSub, z_lt, z_le, z_neq, not_false_eq_true, or_true, true_or, or_false, false_or, false_and, and_false, gJ19_siftUpComparable, X, km, zCs]
  exact fin
theorem e19_indexOf {m k : Nat} {F : Nat → Nat} (Z : ZQ κ h a n S B ct) (hm : m ≤ B) (hs : W 5 171 = Int32.ofNat m) (hk : k < m) (hF : ∀ i, i < m → F i < B) (hf : ∀ i, i < m → f i = .ref (bu S a (F i))) (hn : ∀ i, i < k → F i ≠ F k)
    (hq : Q (.inl (some (.int (Int32.ofNat k)))) (hX (hQ h a f) a n W SM)) : Ev κ mJ19_indexOf [.ref (a + 5), .ref (bu S a (F k))] (hX (hQ h a f) a n W SM) Q := by
  have X := qX Z
  have hB6 : B ≤ 6 := Z.1.2.2
  have lp : ∀ d i, i + d = k → Go κ mJ19_indexOf 17 [some (.ref (a + 5)), some (.ref (bu S a (F k))), some (.ref (a + 6)), some (.int (Int32.ofNat i)), some (.int (Int32.ofNat m))] [] (hX (hQ h a f) a n W SM) Q := by
    intro d
    induction d with
    | zero =>
      intro i hi
      have hi' : i = k := by omega
      subst hi'
      have kx : hK h (bu S a (F i)) = 106 := bK Z (hF i hk)
      have kq : hK (hQ h a f) (bu S a (F i)) = 106 := kx
      have ev := qV (W := W) (SM := SM) Z (hf i hk)
      have ee := fun (H : zH) (Q : zQ) => e34_eq1 (κ := κ) (x := bu S a (F i)) (H := H) (Q := Q)
      simp (disch := first | assumption | omega | decide | (refine Eq.trans (hK_X _) ?_; assumption) | fail) only [gB, I_all, zK_v, zK_n, true_and, and_true, Nat.reduceAdd, Nat.reduceMul, Nat.reduceSub, z_lt, z_le, z_neq, not_false_eq_true, or_true, true_or, or_false, false_or, false_and, and_false, gJ19_indexOf_h]
      simp (disch := first | assumption | omega | decide | (refine Eq.trans (hK_X _) ?_; assumption) | fail) only [gB, I_all, zK_v, zK_n, true_and, and_true, Nat.reduceAdd, Nat.reduceMul, Nat.reduceSub, z_lt, z_le, z_neq, not_false_eq_true, or_true, true_or, or_false, false_or, false_and, and_false, gJ19_indexOf, X, zR10, ev, kx, ee]
      exact hq
    | succ d ih =>
      intro i hi
      have him : i < m := by omega
      have kx : hK h (bu S a (F i)) = 106 := bK Z (hF i him)
      have kx2 : hK h (bu S a (F k)) = 106 := bK Z (hF k hk)
      have kq : hK (hQ h a f) (bu S a (F k)) = 106 := kx2
      have ev := qV (W := W) (SM := SM) Z (hf i him)
      have hne : ¬ bu S a (F i) = bu S a (F k) := fun e => hn i (by omega) (by unfold bu at e; omega)
      have ee := fun (H : zH) (Q : zQ) => e34_eq0 (κ := κ) (H := H) (Q := Q) hne
      have i1 := ih (i + 1) (by omega)
      simp (disch := first | assumption | omega | decide | (refine Eq.trans (hK_X _) ?_; assumption) | fail) only [gB, I_all, zK_v, zK_n, true_and, and_true, Nat.reduceAdd, Nat.reduceMul, Nat.reduceSub, z_lt, z_le, z_neq, not_false_eq_true, or_true, true_or, or_false, false_or, false_and, and_false, gJ19_indexOf_h]
      simp (disch := first | assumption | omega | decide | (refine Eq.trans (hK_X _) ?_; assumption) | fail) only [gB, I_all, zK_v, zK_n, true_and, and_true, Nat.reduceAdd, Nat.reduceMul, Nat.reduceSub, z_lt, z_le, z_neq, not_false_eq_true, or_true, true_or, or_false, false_or, false_and, and_false, gJ19_indexOf, X, zR10, ev, kx, ee]
      exact i1
  have l0 := lp k 0 (by omega)
  simp (disch := first | assumption | omega | decide | (refine Eq.trans (hK_X _) ?_; assumption) | fail) only [gB, I_all, zK_v, zK_n, true_and, and_true, Nat.reduceAdd, Nat.reduceMul, Nat.reduceSub, z_lt, z_le, z_neq, not_false_eq_true, or_true, true_or, or_false, false_or, false_and, and_false, gJ19_indexOf, X, hs]
  exact l0
theorem QP_ne {F : Nat → Nat} {m k : Nat} {P : Nat → Prop} (h : QP F m P) (hk : k < m) : ∀ i, i < k → F i ≠ F k := fun i hi e => by
  have := h.2.2 i k (by omega) hk e
  omega
theorem e19_rem {m x : Nat} {P : Nat → Prop} (Z : ZQ κ h a n S B ct) (T : TB W S B σ) (hm : m + 1 ≤ B) (qi : QI S σ a f W (m + 1) P) (hP : ∀ y, P y → y < B) (hx : P x)
    (hq : ∀ f' W', (∀ k j, k ≠ 5 → W' k j = W k j) → QI S σ a f' W' m (fun y => P y ∧ y ≠ x) → Q (.inl (some (.int (Int32.ofNat 1)))) (hX (hQ h a f') a n W' SM)) :
    Ev κ mJ19_remove [.ref (a + 5), .ref (bu S a x)] (hX (hQ h a f) a n W SM) Q := by
  have X := qX Z
  obtain ⟨hs, F, hf, hQ, hH⟩ := qi
  have hB6 : B ≤ 6 := Z.1.2.2
  obtain ⟨k, hk, ex⟩ := hQ.2.1 x hx
  have hF := hF0 hQ hP
  subst ex
  have es : Int32.ofNat (m + 1) - Int32.ofNat 1 = Int32.ofNat m := by rw [I_sub (by omega), Nat.add_sub_cancel]
  have hQ1 := QP_rm hQ hk
  have nk : ¬ Int32.ofNat k = Int32.ofInt (-1) := by
    have : ∀ k, k < 6 → ¬ Int32.ofNat k = Int32.ofInt (-1) := by decide
    exact this k (by omega)
  have ei := fun (Q : zQ) (hq : _) => e19_indexOf (W := W) (SM := SM) (Q := Q) Z hm hs hk hF hf (QP_ne hQ hk) hq
  simp (disch := first | assumption | omega | decide | (refine Eq.trans (hK_X _) ?_; assumption) | fail) only [gB, I_all, zK_v, zK_n, true_and, and_true, Nat.reduceAdd, Nat.reduceMul, Nat.reduceSub, z_lt, z_le, z_neq, not_false_eq_true, or_true, true_or, or_false, false_or, false_and, and_false, gJ19_remove, X]
  apply ei
  have T1 : TB (zv (zv W 5 173 (W 5 173 + Int32.ofNat 1)) 5 171 (Int32.ofNat m)) S B σ := TB_5 T fun k j hk => by rw [zv_nx (by omega), zv_nx (by omega)]
  have d1 : ∀ k j, k ≠ 5 → zv (zv W 5 173 (W 5 173 + Int32.ofNat 1)) 5 171 (Int32.ofNat m) k j = W k j := fun k j hk => by rw [zv_nx (by omega), zv_nx (by omega)]
  have v1 := fun W => qV (W := W) (SM := SM) Z (hf m (by omega))
  by_cases c : m = k
  · subst c
    have hq1 := hq (zu f m .null) (zv (zv W 5 173 (W 5 173 + Int32.ofNat 1)) 5 171 (Int32.ofNat m)) d1 ⟨zv_at rfl rfl, zu F m (F m), fun i hi => by rw [zu_ne _ _ (by omega), zu_ne _ _ (by omega)]; exact hf i (by omega), hQ1, fun i h0 hi => by rw [zu_ne _ _ (by omega), zu_ne _ _ (by omega)]; exact hH i h0 (by omega)⟩
    simp (disch := first | assumption | omega | decide | (refine Eq.trans (hK_X _) ?_; assumption) | fail) only [gB, I_all, zK_v, zK_n, true_and, and_true, Nat.reduceAdd, Nat.reduceMul, Nat.reduceSub, z_lt, z_le, z_neq, not_false_eq_true, or_true, true_or, or_false, false_or, false_and, and_false, gJ19_remove, X]
    simp (disch := first | assumption | omega | decide | (refine Eq.trans (hK_X _) ?_; assumption) | fail) only [gB, I_all, zK_v, zK_n, true_and, and_true, Nat.reduceAdd, Nat.reduceMul, Nat.reduceSub, z_lt, z_le, z_neq, not_false_eq_true, or_true, true_or, or_false, false_or, false_and, and_false, gJ19_removeAt, X, hs, es, zv_nx, zR10]
    simp (disch := first | assumption | omega | decide | (refine Eq.trans (hK_X _) ?_; assumption) | fail) only [gB, I_all, zK_v, zK_n, true_and, and_true, Nat.reduceAdd, Nat.reduceMul, Nat.reduceSub, z_lt, z_le, z_neq, not_false_eq_true, or_true, true_or, or_false, false_or, false_and, and_false, gJ19_remove, X, z_b1]
    exact hq1
  · have hkm : k < m := by omega
    have hmn := hF m (by omega)
    have km : hK h (bu S a (F m)) = 106 := bK Z hmn
    have D0 := HP_dn (m := m) hH hkm
    have hF2 : ∀ i, i < m → zu F k (F m) i < B := fun i hi => by
      by_cases c : i = k
      · rw [c, zu_eq]; exact hmn
      · rw [zu_ne _ _ c]; exact hF i (by omega)
    simp (disch := first | assumption | omega | decide | (refine Eq.trans (hK_X _) ?_; assumption) | fail) only [gB, I_all, zK_v, zK_n, true_and, and_true, Nat.reduceAdd, Nat.reduceMul, Nat.reduceSub, z_lt, z_le, z_neq, not_false_eq_true, or_true, true_or, or_false, false_or, false_and, and_false, gJ19_remove, X]
    simp (disch := first | assumption | omega | decide | (refine Eq.trans (hK_X _) ?_; assumption) | fail) only [gB, I_all, zK_v, zK_n, true_and, and_true, Nat.reduceAdd, Nat.reduceMul, Nat.reduceSub, z_lt, z_le, z_neq, not_false_eq_true, or_true, true_or, or_false, false_or, false_and, and_false, gJ19_removeAt, X, hs, es, zv_nx, zR10, v1]
    have sd := fun (Q : zQ) (hq' : _) => e19_sd (SM := SM) (Q := Q) (f := zu f m .null) (F := zu F k (F m)) (m := m) (k := k) Z T1 (by omega) (zv_at rfl rfl) hkm hF2 (fun i hi hne => by rw [zu_ne _ _ (by omega), zu_ne _ _ hne]; exact hf i (by omega)) D0 hq'
    rw [zu_eq] at sd
    refine sd _ fun f' F' k' g0 g1 g2 g3 g4 g5 => ?_
    have hQ2 := g2 _ hQ1
    have vk := fun W => qV (W := W) (SM := SM) Z (g1 k hkm)
    by_cases ck : k' = k
    · subst ck
      rw [g4] at vk
      simp (disch := first | assumption | omega | decide | (refine Eq.trans (hK_X _) ?_; assumption) | fail) only [gB, I_all, zK_v, zK_n, true_and, and_true, Nat.reduceAdd, Nat.reduceMul, Nat.reduceSub, z_lt, z_le, z_neq, not_false_eq_true, or_true, true_or, or_false, false_or, false_and, and_false, gJ19_removeAt, X, zR10, vk]
      have hF3 : ∀ i, i < m → F' i < B := fun i hi => hF0 hQ2 (fun y hy => hP y hy.1) i hi
      have su := fun (Q : zQ) (hq' : _) => e19_su (SM := SM) (Q := Q) (f := f') (F := F') (m := m) (k := k') Z T1 (by omega) hkm hF3 (fun i hi _ => g1 i hi) g3 hq'
      rw [g4] at su
      refine su _ fun f3 F3 y1 y2 y3 => ?_
      have hq1 := hq f3 (zv (zv W 5 173 (W 5 173 + Int32.ofNat 1)) 5 171 (Int32.ofNat m)) d1 ⟨zv_at rfl rfl, F3, y1, y2 _ hQ2, y3⟩
      have vk3 := fun W => qV (W := W) (SM := SM) Z (y1 k' hkm)
      by_cases e : bu S a (F3 k') = bu S a (F m)
      · rw [e] at vk3
        simp (disch := first | assumption | omega | decide | (refine Eq.trans (hK_X _) ?_; assumption) | fail) only [gB, I_all, zK_v, zK_n, true_and, and_true, Nat.reduceAdd, Nat.reduceMul, Nat.reduceSub, z_lt, z_le, z_neq, not_false_eq_true, or_true, true_or, or_false, false_or, false_and, and_false, gJ19_removeAt, X, zR10, vk3]
        simp (disch := first | assumption | omega | decide | (refine Eq.trans (hK_X _) ?_; assumption) | fail) only [gB, I_all, zK_v, zK_n, true_and, and_true, Nat.reduceAdd, Nat.reduceMul, Nat.reduceSub, z_lt, z_le, z_neq, not_false_eq_true, or_true, true_or, or_false, false_or, false_and, and_false, gJ19_remove, X, z_b1]
        exact hq1
      · simp (disch := first | assumption | omega | decide | (refine Eq.trans (hK_X _) ?_; assumption) | fail) only [gB, I_all, zK_v, zK_n, true_and, and_true, Nat.reduceAdd, Nat.reduceMul, Nat.reduceSub, z_lt, z_le, z_neq, not_false_eq_true, or_true, true_or, or_false, false_or, false_and, and_false, gJ19_removeAt, X, zR10, vk3]
        simp (disch := first | assumption | omega | decide | (refine Eq.trans (hK_X _) ?_; assumption) | fail) only [gB, I_all, zK_v, zK_n, true_and, and_true, Nat.reduceAdd, Nat.reduceMul, Nat.reduceSub, z_lt, z_le, z_neq, not_false_eq_true, or_true, true_or, or_false, false_or, false_and, and_false, gJ19_remove, X, z_b1]
        exact hq1
    · have hne : ¬ bu S a (F' k) = bu S a (F m) := fun e => by
        have e2 : F' k = F m := by unfold bu at e; omega
        exact ck (hQ2.2.2 k' k g0 hkm (g4.trans e2.symm))
      have hq1 := hq f' (zv (zv W 5 173 (W 5 173 + Int32.ofNat 1)) 5 171 (Int32.ofNat m)) d1 ⟨zv_at rfl rfl, F', g1, hQ2, UpI_end g3 (g5.elim (fun e => absurd e ck) Or.inr)⟩
      simp (disch := first | assumption | omega | decide | (refine Eq.trans (hK_X _) ?_; assumption) | fail) only [gB, I_all, zK_v, zK_n, true_and, and_true, Nat.reduceAdd, Nat.reduceMul, Nat.reduceSub, z_lt, z_le, z_neq, not_false_eq_true, or_true, true_or, or_false, false_or, false_and, and_false, gJ19_removeAt, X, zR10, vk]
      simp (disch := first | assumption | omega | decide | (refine Eq.trans (hK_X _) ?_; assumption) | fail) only [gB, I_all, zK_v, zK_n, true_and, and_true, Nat.reduceAdd, Nat.reduceMul, Nat.reduceSub, z_lt, z_le, z_neq, not_false_eq_true, or_true, true_or, or_false, false_or, false_and, and_false, gJ19_remove, X, z_b1]
      exact hq1
/-- a bus's time put off -/
theorem e3_delay {b : Nat} {x : Int32} (Z : ZS κ h a n p π A q0 q) (C : CAt π W SM σ) (qi : QI (plN π 0) σ a f W (plN π 1) (fun x => x < plN π 1)) (hb : b < plN π 1)
    (hq : ∀ f' W', CAt π W' SM (sBs σ b 2 (bF σ b 2 + x)) → QI (plN π 0) (sBs σ b 2 (bF σ b 2 + x)) a f' W' (plN π 1) (fun x => x < plN π 1) → Q (.inl (some (.int (bF σ b 2 + x)))) (hX (hQ h a f') a n W' SM)) :
    Ev κ mX3_delay [.ref a, .ref (bu (plN π 0) a b), .int x] (hX (hQ h a f) a n W SM) Q := by
  have Zq := ZSQ Z
  have X := qX Zq
  have ka : hK h a = 103 := Z.1.1.2.1
  have O := Z.2.2.1
  have kb : hK h (bu (plN π 0) a b) = 106 := bK Zq hb
  have Ff := fun f => cF (ZS_q Z f).1 Z.2.2.2.2.1
  have Fr := fun f => cRf (ZS_q Z f).1 Z.2.2.2.2.1
  have Bb := fun f => bX (cBu (ZS_q Z f).1 Z.2.2.2.2.1 hb).1
  have hs1 : plN π 1 - 1 + 1 = plN π 1 := by omega
  have hbu : bu (plN π 0) a b = a + (15 + 8 * plN π 0 + 5 * b) := rfl
  have kb2 : hK h (a + (15 + 8 * plN π 0 + 5 * b)) = 106 := kb
  have hBb : kB κ ≤ a + (15 + 8 * plN π 0 + 5 * b) := by have := Zq.1.1; omega
  simp (disch := first | assumption | omega | decide | (refine Eq.trans (hK_X _) ?_; assumption) | fail) only [gB, I_all, zK_v, zK_n, true_and, and_true, Nat.reduceAdd, Nat.reduceMul, Nat.reduceSub, z_lt, z_le, z_neq, not_false_eq_true, or_true, true_or, or_false, false_or, false_and, and_false, gX3_delay, X, ka, Ff, Fr, kb]
  refine e19_rem (m := plN π 1 - 1) (P := fun x => x < plN π 1) (x := b) Zq (CAt_TB C) (by omega) (by rw [hs1]; exact qi) (fun y hy => hy) hb fun f1 W1 d1 q1 => ?_
  have C1 := CAt_5 C d1
  have w2 : W1 (15 + 8 * plN π 0 + 5 * b) 62 = bF σ b 2 := (C1.2.2.2.2.1 b hb).2.1.2.2.1
  have C2 := CAt_bs C1 (g := 62) (c := 2) (bF σ b 2 + x) (by unfold bm; omega) hb
  have q2 : QI (plN π 0) (sBs σ b 2 (bF σ b 2 + x)) a f1 (zv W1 (15 + 8 * plN π 0 + 5 * b) 62 (bF σ b 2 + x)) (plN π 1 - 1) (fun y => y < plN π 1 ∧ y ≠ b) := by
    obtain ⟨s1, F, hf, hQ, hH⟩ := q1
    exact ⟨(zv_nx (by omega)).trans s1, F, hf, hQ, HP_cg hH fun i hi => sBs_Fn _ _ _ _ (hQ.1 i hi).2⟩
  simp (disch := first | assumption | omega | decide | (refine Eq.trans (hK_X _) ?_; assumption) | fail) only [gB, I_all, zK_v, zK_n, true_and, and_true, Nat.reduceAdd, Nat.reduceMul, Nat.reduceSub, z_lt, z_le, z_neq, not_false_eq_true, or_true, true_or, or_false, false_or, false_and, and_false, gX3_delay, X, ka, Ff, Fr, kb, kb2, hbu, Bb, w2, hBb]
  refine e19_add (m := plN π 1 - 1) (P := fun y => y < plN π 1 ∧ y ≠ b) Zq (CAt_TB C2) hb (by omega) q2 (fun y hy => hy.1) (fun x => x.2 rfl) fun f3 W3 d3 q3 => ?_
  have C3 := CAt_5 C2 d3
  have q4 : QI (plN π 0) (sBs σ b 2 (bF σ b 2 + x)) a f3 W3 (plN π 1) (fun x => x < plN π 1) := by
    obtain ⟨s1, F, hf, hQ, hH⟩ := q3
    rw [hs1] at s1 hf hQ hH
    exact ⟨s1, F, hf, QP_cg hQ fun x => ⟨fun y => y.elim (fun y => y.1) (fun y => by rw [y]; exact hb), fun y => by
      by_cases e : x = b
      · exact Or.inr e
      · exact Or.inl ⟨y, e⟩⟩, hH⟩
  have w3 : W3 (15 + 8 * plN π 0 + 5 * b) 62 = bF σ b 2 + x := ((C3.2.2.2.2.1 b hb).2.1.2.2.1).trans (sBs_Fe _ _ _ _)
  have hq1 := hq _ _ C3 q4
  simp (disch := first | assumption | omega | decide | (refine Eq.trans (hK_X _) ?_; assumption) | fail) only [gB, I_all, zK_v, zK_n, true_and, and_true, Nat.reduceAdd, Nat.reduceMul, Nat.reduceSub, z_lt, z_le, z_neq, not_false_eq_true, or_true, true_or, or_false, false_or, false_and, and_false, gX3_delay, X, ka, Ff, Fr, kb, kb2, hbu, Bb, w3, hBb]
  exact hq1
end
