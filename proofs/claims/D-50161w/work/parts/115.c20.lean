/-! the component: the queue: add, remove -/
section
variable {κ : zC} {h : zH} {a n p q0 q K cap S B : Nat} {ct : Nat → Nat} {π : Pl} {A : Nat → Nat → Nat} {W W' : Nat → Nat → Int32} {SM : Nat → Nat → Int64} {Q : zQ} {σ : Sg} {f : Nat → Value}
/-- the queue holds those with P, m in all -/
def QI (S : Nat) (σ : Sg) (a : Nat) (f : Nat → Value) (W : Nat → Nat → Int32) (m : Nat) (P : Nat → Prop) : Prop := W 5 171 = Int32.ofNat m ∧ ∃ F : Nat → Nat, (∀ i, i < m → f i = .ref (bu S a (F i))) ∧ QP F m P ∧ HP σ F m
theorem CAt_5 (C : CAt π W SM σ) (e : ∀ k j, k ≠ 5 → W' k j = W k j) : CAt π W' SM σ := by
  obtain ⟨c1, c2, c3, c4, c5, c6⟩ := C
  exact ⟨c1.cg fun k j h1 h2 h3 => e k j (by omega), c2, fun s hs => (c3 s hs).cg fun k j h1 h2 => e k j (by omega), fun s hs => (c4 s hs).cg fun k j h1 h2 => e k j (by omega), fun b hb => (c5 b hb).cg fun k j h1 h2 => e k j (by omega), c6.cg (e _ _ (by omega)) fun j => e _ _ (by omega)⟩
theorem hF0 {F : Nat → Nat} {m B : Nat} {P : Nat → Prop} (h : QP F m P) (hP : ∀ y, P y → y < B) : ∀ i, i < m → F i < B := fun i hi => hP _ (h.1 i hi)
theorem e19_add {x m : Nat} {P : Nat → Prop} (Z : ZQ κ h a n S B ct) (T : TB W S B σ) (hx : x < B) (hm : m + 1 ≤ B) (qi : QI S σ a f W m P) (hP : ∀ y, P y → y < B) (hxP : ¬ P x)
    (hq : ∀ f' W', (∀ k j, k ≠ 5 → W' k j = W k j) → QI S σ a f' W' (m + 1) (fun y => P y ∨ y = x) → Q (.inl (some (.int (Int32.ofNat 1)))) (hX (hQ h a f') a n W' SM)) :
    Ev κ mJ19_add [.ref (a + 5), .ref (bu S a x)] (hX (hQ h a f) a n W SM) Q := by
  have X := qX Z
  obtain ⟨hs, F, hf, hQ, hH⟩ := qi
  have hB6 : B ≤ 6 := Z.1.2.2
  have kx : hK h (bu S a x) = 106 := bK Z hx
  have hQ1 := QP_ad hQ hxP
  have T1 : TB (zv W 5 173 (W 5 173 + Int32.ofNat 1)) S B σ := TB_5 T fun k j hk => zv_nx (by omega)
  have e1 : zu F m x m = x := zu_eq _ _ _
  have up := fun (Q : zQ) (hq' : _) => e19_up (SM := SM) (Q := Q) (m := m + 1) Z T1 hm m f (zu F m x) none none (by omega) (fun i hi => by
    by_cases c : i = m
    · rw [c, zu_eq]; exact hx
    · rw [zu_ne _ _ c]; exact hP _ (hQ.1 i (by omega))) (fun i hi hne => by rw [zu_ne _ _ hne]; exact hf i (by omega)) (HP_ad hH) hq'
  rw [e1] at up
  have fin := up (zK κ mJ19_siftUp 29 3 [some (.ref (a + 5)), some (.int (Int32.ofNat m)), some (.ref (bu S a x))] [] (zK κ mJ19_offer 46 3 [some (.ref (a + 5)), some (.ref (bu S a x)), some (.int (Int32.ofNat m))] [] (zK κ mJ19_add 2 3 [some (.ref (a + 5)), some (.ref (bu S a x))] [] Q))) (fun f' F' g1 g2 g3 g4 => by
    have hq1 := hq f' (zv (zv W 5 173 (W 5 173 + Int32.ofNat 1)) 5 171 (Int32.ofNat (m + 1))) (fun k j hk => by rw [zv_nx (by omega), zv_nx (by omega)]) ⟨zv_at rfl rfl, F', g1, g2 _ hQ1, g3⟩
    simp (disch := first | assumption | omega | decide | (refine Eq.trans (hK_X _) ?_; assumption) | fail) only [gB, I_all, zK_v, zK_n, true_and, and_true, Nat.reduceAdd, Nat.reduceMul, Nat.reduceSub, z_lt, z_le, z_neq, not_false_eq_true, or_true, true_or, or_false, false_or, false_and, and_false, gJ19_siftUp, X]
    simp (disch := first | assumption | omega | decide | (refine Eq.trans (hK_X _) ?_; assumption) | fail) only [gB, I_all, zK_v, zK_n, true_and, and_true, Nat.reduceAdd, Nat.reduceMul, Nat.reduceSub, z_lt, z_le, z_neq, not_false_eq_true, or_true, true_or, or_false, false_or, false_and, and_false, gJ19_offer, X, z_b1]
    simp (disch := first | assumption | omega | decide | (refine Eq.trans (hK_X _) ?_; assumption) | fail) only [gB, I_all, zK_v, zK_n, true_and, and_true, Nat.reduceAdd, Nat.reduceMul, Nat.reduceSub, z_lt, z_le, z_neq, not_false_eq_true, or_true, true_or, or_false, false_or, false_and, and_false, gJ19_add, z_b1]
    exact hq1)
  simp (disch := first | assumption | omega | decide | (refine Eq.trans (hK_X _) ?_; assumption) | fail) only [gB, I_all, zK_v, zK_n, true_and, and_true, Nat.reduceAdd, Nat.reduceMul, Nat.reduceSub, z_lt, z_le, z_neq, not_false_eq_true, or_true, true_or, or_false, false_or, false_and, and_false, gJ19_add, X]
  simp (disch := first | assumption | omega | decide | (refine Eq.trans (hK_X _) ?_; assumption) | fail) only [gB, I_all, zK_v, zK_n, true_and, and_true, Nat.reduceAdd, Nat.reduceMul, Nat.reduceSub, z_lt, z_le, z_neq, not_false_eq_true, or_true, true_or, or_false, false_or, false_and, and_false, gJ19_offer, X, hs, zv_nx, zR10]
  simp (disch := first | assumption | omega | decide | (refine Eq.trans (hK_X _) ?_; assumption) | fail) only [gB, I_all, zK_v, zK_n, true_and, and_true, Nat.reduceAdd, Nat.reduceMul, Nat.reduceSub, z_lt, z_le, z_neq, not_false_eq_true, or_true, true_or, or_false, false_or, false_and, and_false, gJ19_siftUp, X]
  simp (disch := first | assumption | omega | decide | (refine Eq.trans (hK_X _) ?_; assumption) | fail) only [gB, I_all, zK_v, zK_n, true_and, and_true, Nat.reduceAdd, Nat.reduceMul, Nat.reduceSub, z_lt, z_le, z_neq, not_false_eq_true, or_true, true_or, or_false, false_or, false_and, and_false, gJ19_siftUpComparable, X, kx, zCs]
  exact fin
/-- a bus goes down -/
theorem e19_dn {m k0 : Nat} (Z : ZQ κ h a n S B ct) (T : TB W S B σ) (hm : m ≤ B) : ∀ (d k : Nat) (f : Nat → Value) (F : Nat → Nat) (a6 a7 a8 : Option Value), m - k ≤ d → k < m → (∀ i, i < m → F i < B) → (∀ i, i < m → i ≠ k → f i = .ref (bu S a (F i))) → DnI σ F k m → (k = k0 ∨ ¬ bLt σ (F k) (F ((k - 1) / 2))) →
    (∀ f' F' k', k' < m → (∀ i, i < m → f' i = .ref (bu S a (F' i))) → (∀ P, QP F m P → QP F' m P) → UpI σ F' k' m → F' k' = F k → (k' = k0 ∨ ¬ bLt σ (F' k') (F' ((k' - 1) / 2))) → Q (.inl none) (hX (hQ h a f') a n W SM)) →
    Go κ mJ19_siftDownComparable 11 [some (.int (Int32.ofNat k)), some (.ref (bu S a (F k))), some (.ref (a + 6)), some (.int (Int32.ofNat m)), some (.ref (bu S a (F k))), some (.int (Int32.ofNat (m / 2))), a6, a7, a8] [] (hX (hQ h a f) a n W SM) Q := by
  have X := qX Z
  have hB6 : B ≤ 6 := Z.1.2.2
  intro d
  induction d with
  | zero => intro k f F a6 a7 a8 hd hk; omega
  | succ d ih =>
    intro k f F a6 a7 a8 hd hk hF hf hD hr hq
    have kx : hK h (bu S a (F k)) = 106 := bK Z (hF k hk)
    have kq : hK (hQ h a f) (bu S a (F k)) = 106 := kx
    have fin : (∀ i, 0 < i → i < m → (i - 1) / 2 = k → ¬ bLt σ (F i) (F k)) → Q (.inl none) (hX (hQ h a (zu f k (.ref (bu S a (F k))))) a n W SM) := fun hc => by
      refine hq _ F k hk (fun i hi => ?_) (fun P hP => hP) (DnI_end hD hc) rfl hr
      by_cases e : i = k
      · subst e; exact zu_eq _ _ _
      · rw [zu_ne _ _ e]; exact hf i hi e
    simp (disch := first | assumption | omega | decide | (refine Eq.trans (hK_X _) ?_; assumption) | fail) only [gB, I_all, zK_v, zK_n, true_and, and_true, Nat.reduceAdd, Nat.reduceMul, Nat.reduceSub, z_lt, z_le, z_neq, not_false_eq_true, or_true, true_or, or_false, false_or, false_and, and_false, gJ19_siftDownComparable_h]
    by_cases c0 : k < m / 2
    · have TT : ∀ (c : Nat) (x8 : Value), c < m → (c - 1) / 2 = k → 0 < c → (∀ i, 0 < i → i < m → (i - 1) / 2 = k → ¬ bLt σ (F i) (F c)) →
          Go κ mJ19_siftDownComparable 68 [some (.int (Int32.ofNat k)), some (.ref (bu S a (F k))), some (.ref (a + 6)), some (.int (Int32.ofNat m)), some (.ref (bu S a (F k))), some (.int (Int32.ofNat (m / 2))), some (.int (Int32.ofNat c)), some (.ref (bu S a (F c))), some x8] [] (hX (hQ h a f) a n W SM) Q := by
        intro c x8 hc hp h0c hl
        have kc : hK h (bu S a (F c)) = 106 := bK Z (hF c hc)
        have ec := fun (Q : zQ) => e6_compareTo (SM := SM) (f := f) (x := F k) (y := F c) (Q := Q) Z T (hF k hk) (hF c hc)
        have cl := (cB_lt (σ := σ) (x := F k) (y := F c) (by have := hF k hk; omega) (by have := hF c hc; omega)).2
        by_cases g : bLt σ (F c) (F k)
        · have gg := cl.mpr g
          have gg' : ¬ cB σ (F k) (F c) ≤ Int32.ofNat 0 := Int32.not_le.mpr gg
          obtain ⟨d1, d2, -⟩ := DnI_dn hD hc hp h0c g hl
          have hF1 : ∀ i, i < m → zu (zu F k (F c)) c (F k) i < B := fun i hi => by
            by_cases e1 : i = c
            · rw [e1, zu_eq]; exact hF k hk
            · by_cases e2 : i = k
              · rw [zu_ne _ _ e1, e2, zu_eq]; exact hF _ hc
              · rw [zu_ne _ _ e1, zu_ne _ _ e2]; exact hF i hi
          have i1 := ih c (zu f k (.ref (bu S a (F c)))) (zu (zu F k (F c)) c (F k)) (some (.int (Int32.ofNat c))) (some (.ref (bu S a (F c)))) (some x8) (by omega) hc hF1 (fun i hi hne => by
            by_cases e2 : i = k
            · subst e2; rw [zu_eq, zu_ne _ _ hne, zu_eq]
            · rw [zu_ne _ _ e2, zu_ne _ _ hne, zu_ne _ _ e2]; exact hf i hi e2) d1 (Or.inr d2) (fun f' F' k' g0 g1 g2 g3 g4 g5 => hq f' F' k' g0 g1 (fun P hP => g2 P (QP_sw hP hk hc)) g3 (g4.trans (zu_eq _ _ _)) g5)
          rw [zu_eq] at i1
          generalize cB σ (F k) (F c) = v at *
          simp (disch := first | assumption | omega | decide | (refine Eq.trans (hK_X _) ?_; assumption) | fail) only [gB, I_all, zK_v, zK_n, true_and, and_true, Nat.reduceAdd, Nat.reduceMul, Nat.reduceSub, z_lt, z_le, z_neq, not_false_eq_true, or_true, true_or, or_false, false_or, false_and, and_false, gJ19_siftDownComparable, X, zR10, kx, kc, ec]
          exact i1
        · have gg : ¬ Int32.ofNat 0 < cB σ (F k) (F c) := fun x => g (cl.mp x)
          have gg' : cB σ (F k) (F c) ≤ Int32.ofNat 0 := Int32.not_lt.mp gg
          have f0 := fin fun i h0 hi hp' => bLt_tr (hl i h0 hi hp') g
          generalize cB σ (F k) (F c) = v at *
          simp (disch := first | assumption | omega | decide | (refine Eq.trans (hK_X _) ?_; assumption) | fail) only [gB, I_all, zK_v, zK_n, true_and, and_true, Nat.reduceAdd, Nat.reduceMul, Nat.reduceSub, z_lt, z_le, z_neq, not_false_eq_true, or_true, true_or, or_false, false_or, false_and, and_false, gJ19_siftDownComparable, X, zR10, kx, kc, ec]
          exact f0
      have e2 := I_shl k (by omega)
      have el := hf (2 * k + 1) (by omega) (by omega)
      have vl := qV (W := W) (SM := SM) Z el
      have kl : hK h (bu S a (F (2 * k + 1))) = 106 := bK Z (hF _ (by omega))
      have klq : hK (hQ h a f) (bu S a (F (2 * k + 1))) = 106 := kl
      by_cases c1 : 2 * k + 1 + 1 < m
      · have er := hf (2 * k + 1 + 1) c1 (by omega)
        have vr := qV (W := W) (SM := SM) Z er
        have kr : hK h (bu S a (F (2 * k + 1 + 1))) = 106 := bK Z (hF _ c1)
        have ec := fun (Q : zQ) => e6_compareTo (SM := SM) (f := f) (x := F (2 * k + 1)) (y := F (2 * k + 1 + 1)) (Q := Q) Z T (hF _ (by omega)) (hF _ c1)
        have cl := (cB_lt (σ := σ) (x := F (2 * k + 1)) (y := F (2 * k + 1 + 1)) (by have := hF (2 * k + 1) (by omega); omega) (by have := hF (2 * k + 1 + 1) c1; omega)).2
        by_cases g : bLt σ (F (2 * k + 1 + 1)) (F (2 * k + 1))
        · have gg := cl.mpr g
          have gg' : ¬ cB σ (F (2 * k + 1)) (F (2 * k + 1 + 1)) ≤ Int32.ofNat 0 := Int32.not_le.mpr gg
          have T1 := TT (2 * k + 1 + 1) (.int (Int32.ofNat (2 * k + 1 + 1))) c1 (by omega) (by omega) (fun i h0 hi hp => by
            by_cases e : i = 2 * k + 1 + 1
            · subst e; intro x; exact bLt_as x x
            · have e' : i = 2 * k + 1 := by omega
              subst e'; exact bLt_as g)
          generalize cB σ (F (2 * k + 1)) (F (2 * k + 1 + 1)) = v at *
          simp (disch := first | assumption | omega | decide | (refine Eq.trans (hK_X _) ?_; assumption) | fail) only [gB, I_all, zK_v, zK_n, true_and, and_true, Nat.reduceAdd, Nat.reduceMul, Nat.reduceSub, z_lt, z_le, z_neq, not_false_eq_true, or_true, true_or, or_false, false_or, false_and, and_false, gJ19_siftDownComparable, X, zR10, e2, vl, vr, kl, kr, zCs, ec]
          simp (disch := first | assumption | omega | decide | (refine Eq.trans (hK_X _) ?_; assumption) | fail) only [gB, I_all, zK_v, zK_n, true_and, and_true, Nat.reduceAdd, Nat.reduceMul, Nat.reduceSub, z_lt, z_le, z_neq, not_false_eq_true, or_true, true_or, or_false, false_or, false_and, and_false, gJ19_siftDownComparable, X, zR10] at T1
          exact T1
        · have gg : ¬ Int32.ofNat 0 < cB σ (F (2 * k + 1)) (F (2 * k + 1 + 1)) := fun x => g (cl.mp x)
          have gg' : cB σ (F (2 * k + 1)) (F (2 * k + 1 + 1)) ≤ Int32.ofNat 0 := Int32.not_lt.mp gg
          have T1 := TT (2 * k + 1) (.int (Int32.ofNat (2 * k + 1 + 1))) (by omega) (by omega) (by omega) (fun i h0 hi hp => by
            by_cases e : i = 2 * k + 1
            · subst e; intro x; exact bLt_as x x
            · have e' : i = 2 * k + 1 + 1 := by omega
              subst e'; exact g)
          generalize cB σ (F (2 * k + 1)) (F (2 * k + 1 + 1)) = v at *
          simp (disch := first | assumption | omega | decide | (refine Eq.trans (hK_X _) ?_; assumption) | fail) only [gB, I_all, zK_v, zK_n, true_and, and_true, Nat.reduceAdd, Nat.reduceMul, Nat.reduceSub, z_lt, z_le, z_neq, not_false_eq_true, or_true, true_or, or_false, false_or, false_and, and_false, gJ19_siftDownComparable, X, zR10, e2, vl, vr, kl, kr, zCs, ec]
          simp (disch := first | assumption | omega | decide | (refine Eq.trans (hK_X _) ?_; assumption) | fail) only [gB, I_all, zK_v, zK_n, true_and, and_true, Nat.reduceAdd, Nat.reduceMul, Nat.reduceSub, z_lt, z_le, z_neq, not_false_eq_true, or_true, true_or, or_false, false_or, false_and, and_false, gJ19_siftDownComparable, X, zR10] at T1
          exact T1
      · have T1 := TT (2 * k + 1) (.int (Int32.ofNat (2 * k + 1 + 1))) (by omega) (by omega) (by omega) (fun i h0 hi hp => by
          have e' : i = 2 * k + 1 := by omega
          subst e'; intro x; exact bLt_as x x)
        simp (disch := first | assumption | omega | decide | (refine Eq.trans (hK_X _) ?_; assumption) | fail) only [gB, I_all, zK_v, zK_n, true_and, and_true, Nat.reduceAdd, Nat.reduceMul, Nat.reduceSub, z_lt, z_le, z_neq, not_false_eq_true, or_true, true_or, or_false, false_or, false_and, and_false, gJ19_siftDownComparable, X, zR10, e2, vl, kl, zCs]
        simp (disch := first | assumption | omega | decide | (refine Eq.trans (hK_X _) ?_; assumption) | fail) only [gB, I_all, zK_v, zK_n, true_and, and_true, Nat.reduceAdd, Nat.reduceMul, Nat.reduceSub, z_lt, z_le, z_neq, not_false_eq_true, or_true, true_or, or_false, false_or, false_and, and_false, gJ19_siftDownComparable, X, zR10] at T1
        exact T1
    · have f0 := fin fun i h0 hi hp => by omega
      simp (disch := first | assumption | omega | decide | (refine Eq.trans (hK_X _) ?_; assumption) | fail) only [gB, I_all, zK_v, zK_n, true_and, and_true, Nat.reduceAdd, Nat.reduceMul, Nat.reduceSub, z_lt, z_le, z_neq, not_false_eq_true, or_true, true_or, or_false, false_or, false_and, and_false, gJ19_siftDownComparable, X, zR10, kx]
      exact f0
/-- the first one taken -/
theorem e18_remove {m : Nat} {P : Nat → Prop} (Z : ZQ κ h a n S B ct) (T : TB W S B σ) (hm : m + 1 ≤ B) (qi : QI S σ a f W (m + 1) P) (hP : ∀ y, P y → y < B) {x : Nat} (hx : f 0 = .ref (bu S a x)) (hxB : x < B)
    (hq : ∀ f' W', (∀ k j, k ≠ 5 → W' k j = W k j) → QI S σ a f' W' m (fun y => P y ∧ y ≠ x) → Q (.inl (some (.ref (bu S a x)))) (hX (hQ h a f') a n W' SM)) :
    Ev κ mJ18_remove [.ref (a + 5)] (hX (hQ h a f) a n W SM) Q := by
  have X := qX Z
  obtain ⟨hs, F, hf, hQ, hH⟩ := qi
  have hB6 : B ≤ 6 := Z.1.2.2
  have ex : F 0 = x := by
    have g1 := (hf 0 (by omega)).symm.trans hx
    have g2 : bu S a (F 0) = bu S a x := Value.ref.inj g1
    unfold bu at g2
    omega
  have v0 := qV (W := W) (SM := SM) Z hx
  have es : Int32.ofNat (m + 1) - Int32.ofNat 1 = Int32.ofNat m := by rw [I_sub (by omega), Nat.add_sub_cancel]
  have hQ1 := QP_rm hQ (by omega : 0 < m + 1)
  rw [ex] at hQ1
  have v1 := fun W => qV (W := W) (SM := SM) Z (hf m (by omega))
  have v0' := fun W => qV (W := W) (SM := SM) Z hx
  by_cases c : m = 0
  · subst c
    have hq1 := hq (zu f 0 .null) (zv (zv W 5 173 (W 5 173 + Int32.ofNat 1)) 5 171 (Int32.ofNat 0)) (fun k j hk => by rw [zv_nx (by omega), zv_nx (by omega)]) ⟨zv_at rfl rfl, zu F 0 (F 0), fun i hi => by omega, hQ1, fun i h0 hi => by omega⟩
    simp (disch := first | assumption | omega | decide | (refine Eq.trans (hK_X _) ?_; assumption) | fail) only [gB, I_all, zK_v, zK_n, true_and, and_true, Nat.reduceAdd, Nat.reduceMul, Nat.reduceSub, z_lt, z_le, z_neq, not_false_eq_true, or_true, true_or, or_false, false_or, false_and, and_false, gJ18_remove, X]
    simp (disch := first | assumption | omega | decide | (refine Eq.trans (hK_X _) ?_; assumption) | fail) only [gB, I_all, zK_v, zK_n, true_and, and_true, Nat.reduceAdd, Nat.reduceMul, Nat.reduceSub, z_lt, z_le, z_neq, not_false_eq_true, or_true, true_or, or_false, false_or, false_and, and_false, gJ19_poll, X, v0', v1, hs, es, zv_nx, zR10]
    simp (disch := first | assumption | omega | decide | (refine Eq.trans (hK_X _) ?_; assumption) | fail) only [gB, I_all, zK_v, zK_n, true_and, and_true, Nat.reduceAdd, Nat.reduceMul, Nat.reduceSub, z_lt, z_le, z_neq, not_false_eq_true, or_true, true_or, or_false, false_or, false_and, and_false, gJ18_remove]
    exact hq1
  · have hmn := hF0 hQ hP m (by omega)
    have T1 : TB (zv (zv W 5 173 (W 5 173 + Int32.ofNat 1)) 5 171 (Int32.ofNat m)) S B σ := TB_5 T fun k j hk => by rw [zv_nx (by omega), zv_nx (by omega)]
    have km : hK h (bu S a (F m)) = 106 := bK Z hmn
    have eu := I_ush m (by omega)
    have h0m : 0 < m := by omega
    have D0 := HP_dn (m := m) hH h0m
    have dn := fun (Q : zQ) (hq' : _) => e19_dn (SM := SM) (Q := Q) (m := m) (k0 := 0) Z T1 (by omega) m 0 (zu f m .null) (zu F 0 (F m)) none none none (by omega) h0m (fun i hi => by
      by_cases c : i = 0
      · rw [c, zu_eq]; exact hmn
      · rw [zu_ne _ _ c]; exact hF0 hQ hP i (by omega)) (fun i hi hne => by rw [zu_ne _ _ (by omega), zu_ne _ _ hne]; exact hf i (by omega)) D0 (Or.inl rfl) hq'
    rw [zu_eq] at dn
    have fin := dn (zK κ mJ19_poll 63 3 [some (.ref (a + 5)), some (.ref (a + 6)), some (.ref (bu S a x)), some (.int (Int32.ofNat m)), some (.ref (bu S a (F m))), some .null] [] (zK κ mJ18_remove 1 3 [some (.ref (a + 5)), none] [] Q)) (fun f' F' k' g0 g1 g2 g3 g4 g5 => by
      have hH' : HP σ F' m := UpI_end g3 g5
      have hq1 := hq f' (zv (zv W 5 173 (W 5 173 + Int32.ofNat 1)) 5 171 (Int32.ofNat m)) (fun k j hk => by rw [zv_nx (by omega), zv_nx (by omega)]) ⟨zv_at rfl rfl, F', g1, g2 _ hQ1, hH'⟩
      simp (disch := first | assumption | omega | decide | (refine Eq.trans (hK_X _) ?_; assumption) | fail) only [gB, I_all, zK_v, zK_n, true_and, and_true, Nat.reduceAdd, Nat.reduceMul, Nat.reduceSub, z_lt, z_le, z_neq, not_false_eq_true, or_true, true_or, or_false, false_or, false_and, and_false, gJ19_poll, X]
      simp (disch := first | assumption | omega | decide | (refine Eq.trans (hK_X _) ?_; assumption) | fail) only [gB, I_all, zK_v, zK_n, true_and, and_true, Nat.reduceAdd, Nat.reduceMul, Nat.reduceSub, z_lt, z_le, z_neq, not_false_eq_true, or_true, true_or, or_false, false_or, false_and, and_false, gJ18_remove]
      exact hq1)
    simp (disch := first | assumption | omega | decide | (refine Eq.trans (hK_X _) ?_; assumption) | fail) only [gB, I_all, zK_v, zK_n, true_and, and_true, Nat.reduceAdd, Nat.reduceMul, Nat.reduceSub, z_lt, z_le, z_neq, not_false_eq_true, or_true, true_or, or_false, false_or, false_and, and_false, gJ18_remove, X]
    simp (disch := first | assumption | omega | decide | (refine Eq.trans (hK_X _) ?_; assumption) | fail) only [gB, I_all, zK_v, zK_n, true_and, and_true, Nat.reduceAdd, Nat.reduceMul, Nat.reduceSub, z_lt, z_le, z_neq, not_false_eq_true, or_true, true_or, or_false, false_or, false_and, and_false, gJ19_poll, X, v0', v1, hs, es, zv_nx, zR10]
    simp (disch := first | assumption | omega | decide | (refine Eq.trans (hK_X _) ?_; assumption) | fail) only [gB, I_all, zK_v, zK_n, true_and, and_true, Nat.reduceAdd, Nat.reduceMul, Nat.reduceSub, z_lt, z_le, z_neq, not_false_eq_true, or_true, true_or, or_false, false_or, false_and, and_false, gJ19_siftDownComparable, X, km, zCs, eu]
    exact fin
end
