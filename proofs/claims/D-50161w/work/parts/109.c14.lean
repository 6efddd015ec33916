/-! the component: the log; leavings -/
section
variable {κ : zC} {h : zH} {a n p q0 q K cap : Nat} {π : Pl} {A : Nat → Nat → Nat} {W : Nat → Nat → Int32} {SM : Nat → Nat → Int64} {Q : zQ} {σ : Sg}
def tlD (W : Nat → Nat → Int32) : Nat → Nat → Int32 := zv (cpy W 13 0 13 5 145) 0 31 (Int32.ofNat 29)
def tlW (W : Nat → Nat → Int32) (m : Nat) (r : Lg) : Nat → Nat → Int32 := zv (zv (zv (zv (zv (zv W 13 (5 * m) r.1) 13 (5 * m + 1) (Int32.ofNat r.2.1)) 13 (5 * m + 2) (Int32.ofNat r.2.2.1)) 13 (5 * m + 3) (Int32.ofNat r.2.2.2.1)) 13 (5 * m + 4) r.2.2.2.2) 0 31 (Int32.ofNat (m + 1))
theorem tlW_o {m : Nat} {r : Lg} {k j : Nat} (h1 : ¬ k = 13) (h2 : ¬ (k = 0 ∧ j = 31)) : tlW W m r k j = W k j := by
  unfold tlW
  rw [zv_nx (by omega), zv_nx (by omega), zv_nx (by omega), zv_nx (by omega), zv_nx (by omega), zv_nx (by omega)]
theorem tlD_o {k j : Nat} (h1 : ¬ k = 13) (h2 : ¬ (k = 0 ∧ j = 31)) : tlD W k j = W k j := by
  unfold tlD
  rw [zv_nx (by omega), cpy_out (by omega)]
theorem GC_snoc {l : List Lg} (G : GC W l) (r : Lg) : GC (tlW W l.length r) (l ++ [r]) := by
  obtain ⟨g1, g2⟩ := G
  refine ⟨by unfold tlW; rw [zv_at rfl rfl, List.length_append]; rfl, fun i x hi => ?_⟩
  rw [List.getElem?_append] at hi
  unfold tlW
  split at hi
  · next hl =>
    obtain ⟨t1, t2, t3, t4, t5⟩ := g2 i x hi
    refine ⟨?_, ?_, ?_, ?_, ?_⟩ <;> rw [zv_nx (by omega), zv_nx (by omega), zv_nx (by omega), zv_nx (by omega), zv_nx (by omega), zv_nx (by omega)] <;> assumption
  · next hl =>
    have hl2 := (List.getElem?_eq_some_iff.mp hi).1
    have h0 : i = l.length := by simp at hl2; omega
    subst h0
    simp at hi
    subst hi
    refine ⟨?_, ?_, ?_, ?_, ?_⟩
    · rw [zv_nx (by omega), zv_nx (by omega), zv_nx (by omega), zv_nx (by omega), zv_nx (by omega), zv_at rfl rfl]
    · rw [zv_nx (by omega), zv_nx (by omega), zv_nx (by omega), zv_nx (by omega), zv_at rfl rfl]
    · rw [zv_nx (by omega), zv_nx (by omega), zv_nx (by omega), zv_at rfl rfl]
    · rw [zv_nx (by omega), zv_nx (by omega), zv_at rfl rfl]
    · rw [zv_nx (by omega), zv_at rfl rfl]
theorem GC_drop {l : List Lg} (G : GC W l) (hl : l.length = 30) : GC (tlD W) (l.drop 1) := by
  obtain ⟨g1, g2⟩ := G
  refine ⟨by unfold tlD; rw [zv_at rfl rfl, List.length_drop, hl], fun i x hi => ?_⟩
  rw [List.getElem?_drop] at hi
  have hi2 := (List.getElem?_eq_some_iff.mp hi).1
  obtain ⟨t1, t2, t3, t4, t5⟩ := g2 _ x hi
  have c : ∀ j, j < 145 → cpy W 13 0 13 5 145 13 j = W 13 (5 + j) := fun j hj => by
    have := cpy_in (W := W) (kd := 13) (od := 0) (ks := 13) (os := 5) (n := 145) (j := j) hj
    rw [Nat.zero_add] at this
    exact this
  unfold tlD
  refine ⟨?_, ?_, ?_, ?_, ?_⟩
  · rw [zv_nx (by omega), c _ (by omega), ← t1]; congr 1; omega
  · rw [zv_nx (by omega), c _ (by omega), ← t2]; congr 1; omega
  · rw [zv_nx (by omega), c _ (by omega), ← t3]; congr 1; omega
  · rw [zv_nx (by omega), c _ (by omega), ← t4]; congr 1; omega
  · rw [zv_nx (by omega), c _ (by omega), ← t5]; congr 1; omega
theorem e3_tell {b s k : Nat} {t v : Int32} (Z : ZS κ h a n p π A q0 q) (C : CAt π W SM σ) (OK : sOk π σ) (hb : b < plN π 1) (e1 : bF σ b 1 = Int32.ofNat s) (e2 : bF σ b 2 = t)
    (hq : ∀ W', CAt π W' SM (sTe σ t k b s v) → Kp W W' → Q (.inl none) (hX h a n W' SM)) :
    Ev κ mX3_tell [.ref a, .int (Int32.ofNat k), .ref (a + (15 + 8 * plN π 0 + 5 * b)), .int v] (hX h a n W SM) Q := by
  have F := cF Z.1 Z.2.2.2.2.1
  have F2 := cRf Z.1 Z.2.2.2.2.1
  have F3 := cK Z.1
  obtain ⟨B0, hcap⟩ := cBu Z.1 Z.2.2.2.2.1 hb
  have B := bX B0
  have O := Z.2.2.1
  have h10 := O.1.2
  have hB : kB κ ≤ a := Z.1.1.1
  have hB13 : kB κ ≤ a + 13 := by omega
  have hz : ∀ j, isI (hV h (a + 13) j) := Z.1.2.2.1.2.2.2 13 (by decide)
  have h13 : 13 < n := by rw [Z.2.2.2.2.1]; omega
  have Cb := C.2.2.2.2.1 b hb
  have w0 : W (15 + 8 * plN π 0 + 5 * b) 57 = Int32.ofNat b := Cb.1.1
  have w1 : W (15 + 8 * plN π 0 + 5 * b) 61 = Int32.ofNat s := Cb.2.1.2.1.trans e1
  have w2 : W (15 + 8 * plN π 0 + 5 * b) 62 = t := Cb.2.1.2.2.1.trans e2
  have G := C.2.2.2.2.2
  have hl := OK.2.2.2.1
  have g1 : W 0 31 = Int32.ofNat (sG σ).length := G.1
  unfold sTe at hq
  by_cases h30 : (sG σ).length = 30
  · rw [if_pos h30] at hq
    rw [h30] at g1
    have G1 := GC_drop G h30
    have C1 := CAt_log (W' := tlD W) C (fun k j h1 h2 => tlD_o h1 h2) G1
    have G2 := GC_snoc G1 (t, k, b, s, v)
    have e29 : ((sG σ).drop 1).length = 29 := by rw [List.length_drop, h30]
    have C2 := CAt_log (W' := tlW (tlD W) ((sG σ).drop 1).length (t, k, b, s, v)) C1 (fun k j h1 h2 => tlW_o h1 h2) G2
    rw [e29] at C2
    have eC := fun W SM sp dp m => hX_C (h := h) (a := a) (n := n) (k := 13) (k' := 13) (sp := sp) (dp := dp) (m := m) (W := W) (SM := SM) h13 h13 hz hz
    have eO := fun W SM sp m => zOks_i (h := h) (a := a) (n := n) (W := W) (SM := SM) (k := 13) (k' := 13) (sp := sp) (m := m) h13 hz (by exact (cK Z.1).2.2.2.2.2.2.2.2.2.2.2.2.2.2.2.2.2.2.2.2.1)
    have i30 : Int32.ofNat 30 - Int32.ofNat 1 = Int32.ofNat 29 := by decide
    have eR := hq _ C2 fun j => (tlW_o (by omega) (by omega)).trans (tlD_o (by omega) (by omega))
    have za : zArr 1 = true := rfl
    have zc0 : cpy W 13 0 13 5 145 0 31 = Int32.ofNat 30 := by rw [cpy_out (by omega)]; exact g1
    have zk : ∀ k j, k ≠ 13 → cpy W 13 0 13 5 145 k j = W k j := fun k j hk => cpy_out (by omega)
    simp (disch := first | assumption | omega | decide | (refine Eq.trans (hK_X _) ?_; assumption) | fail) only [gB, I_all, zK_v, zK_n, true_and, and_true, Nat.reduceAdd, Nat.reduceMul, Nat.reduceSub, z_lt, z_le, z_neq, not_false_eq_true, or_true, true_or, or_false, false_or, false_and, and_false, gX3_tell, F, F2, F3, B, g1, eC, eO, za, I_0le, hB13, zc0, i30, zv_at, zv_nx, zk, w0, w1, w2]
    exact eR
  · rw [if_neg h30] at hq
    have G2 := GC_snoc G (t, k, b, s, v)
    have C2 := CAt_log (W' := tlW W (sG σ).length (t, k, b, s, v)) C (fun k j h1 h2 => tlW_o h1 h2) G2
    have eR := hq _ C2 fun j => tlW_o (by omega) (by omega)
    generalize (sG σ).length = m at *
    simp (disch := first | assumption | omega | decide | (refine Eq.trans (hK_X _) ?_; assumption) | fail) only [gB, I_all, zK_v, zK_n, true_and, and_true, Nat.reduceAdd, Nat.reduceMul, Nat.reduceSub, z_lt, z_le, z_neq, not_false_eq_true, or_true, true_or, or_false, false_or, false_and, and_false, gX3_tell, F, F2, F3, B, g1, hB13, zv_at, zv_nx, w0, w1, w2]
    exact eR
/-- leavings for the run -/
theorem lX (S : LSh h a n K) : (∀ W SM, hV (hX h a n W SM) (a + K) 51 = .ref (a + (K + 1))) ∧ (∀ W SM, hV (hX h a n W SM) (a + K) 52 = .ref (a + (K + 2))) ∧ (∀ W SM, hV (hX h a n W SM) (a + K) 53 = .ref (a + (K + 3))) ∧
    (∀ W SM, hV (hX h a n W SM) (a + K) 54 = .int (W K 54)) ∧ (∀ W SM, hV (hX h a n W SM) (a + K) 55 = .int (W K 55)) ∧ (∀ W SM, hV (hX h a n W SM) (a + K) 56 = .int (W K 56)) ∧
    (∀ W SM j, hV (hX h a n W SM) (a + (K + 1)) j = .int (W (K + 1) j)) ∧ (∀ W SM j, hV (hX h a n W SM) (a + (K + 2)) j = .int (W (K + 2) j)) ∧ (∀ W SM j, hV (hX h a n W SM) (a + (K + 3)) j = .int (W (K + 3) j)) ∧
    (∀ W SM v, hW (hX h a n W SM) (a + K) 54 (.int v) = hX h a n (zv W K 54 v) SM) ∧ (∀ W SM v, hW (hX h a n W SM) (a + K) 55 (.int v) = hX h a n (zv W K 55 v) SM) ∧ (∀ W SM v, hW (hX h a n W SM) (a + K) 56 (.int v) = hX h a n (zv W K 56 v) SM) ∧
    (∀ W SM j v, hW (hX h a n W SM) (a + (K + 1)) j (.int v) = hX h a n (zv W (K + 1) j v) SM) ∧ (∀ W SM j v, hW (hX h a n W SM) (a + (K + 2)) j (.int v) = hX h a n (zv W (K + 2) j v) SM) ∧ (∀ W SM j v, hW (hX h a n W SM) (a + (K + 3)) j (.int v) = hX h a n (zv W (K + 3) j v) SM) ∧
    hK h (a + K) = 105 ∧ hK h (a + (K + 1)) = 1 ∧ hK h (a + (K + 2)) = 1 ∧ hK h (a + (K + 3)) = 1 ∧ hL h (a + (K + 1)) = 8 ∧ hL h (a + (K + 2)) = 8 ∧ hL h (a + (K + 3)) = 8 ∧ (∀ W SM x, hK (hX h a n W SM) x = hK h x) ∧ (∀ W SM x, hL (hX h a n W SM) x = hL h x) := by
  obtain ⟨s0, s1, ⟨s2, s3, s4, s5, s6, s7⟩, s8⟩ := S
  have t1 := s8 1 (by omega) (by omega)
  have t2 := s8 2 (by omega) (by omega)
  have t3 := s8 3 (by omega) (by omega)
  exact ⟨fun _ _ => hV_Xr (by omega) s2, fun _ _ => hV_Xr (by omega) s3, fun _ _ => hV_Xr (by omega) s4, fun _ _ => hV_Xi (by omega) s5, fun _ _ => hV_Xi (by omega) s6, fun _ _ => hV_Xi (by omega) s7,
    fun _ _ j => hV_Xi (by omega) (t1.2.2 j), fun _ _ j => hV_Xi (by omega) (t2.2.2 j), fun _ _ j => hV_Xi (by omega) (t3.2.2 j), fun _ _ _ => hX_i (by omega) s5, fun _ _ _ => hX_i (by omega) s6, fun _ _ _ => hX_i (by omega) s7,
    fun _ _ j _ => hX_i (by omega) (t1.2.2 j), fun _ _ j _ => hX_i (by omega) (t2.2.2 j), fun _ _ j _ => hX_i (by omega) (t3.2.2 j), s1, t1.1, t2.1, t3.1, t1.2.1, t2.2.1, t3.2.1, fun _ _ _ => rfl, fun _ _ _ => rfl⟩
/-- those behind k, up to m, moved up by one -/
def shW (W : Nat → Nat → Int32) (K m k : Nat) : Nat → Nat → Int32 := fun c j => if K + 1 ≤ c ∧ c ≤ K + 3 ∧ k < j ∧ j < m then W c (j - 1) else W c j
theorem shW_0 (W : Nat → Nat → Int32) (K m : Nat) : shW W K (m + 1) m = W := by
  funext c j
  unfold shW
  rw [if_neg (by omega)]
theorem shW_s (W : Nat → Nat → Int32) (K m k : Nat) (hk : k + 1 < m) : zv (zv (zv (shW W K m (k + 1)) (K + 1) (k + 1) (W (K + 1) k)) (K + 2) (k + 1) (W (K + 2) k)) (K + 3) (k + 1) (W (K + 3) k) = shW W K m k := by
  funext c j
  unfold zv shW
  by_cases h1 : c = K + 3 ∧ j = k + 1
  · rw [if_pos h1, if_pos (by omega), h1.1, h1.2, Nat.add_sub_cancel]
  · rw [if_neg h1]
    by_cases h2 : c = K + 2 ∧ j = k + 1
    · rw [if_pos h2, if_pos (by omega), h2.1, h2.2, Nat.add_sub_cancel]
    · rw [if_neg h2]
      by_cases h3 : c = K + 1 ∧ j = k + 1
      · rw [if_pos h3, if_pos (by omega), h3.1, h3.2, Nat.add_sub_cancel]
      · rw [if_neg h3]
        by_cases h5 : K + 1 ≤ c ∧ c ≤ K + 3 ∧ k + 1 < j ∧ j < m
        · rw [if_pos h5, if_pos (by omega)]
        · rw [if_neg h5, if_neg (by omega)]
theorem shW_K (W : Nat → Nat → Int32) (K m k j : Nat) : shW W K m k K j = W K j := by
  unfold shW
  rw [if_neg (by omega)]
theorem I_dec {k : Nat} : Int32.ofNat (k + 1) + Int32.ofInt (-1) = Int32.ofNat k := by
  rw [I_m1, I_sub (by omega), Nat.add_sub_cancel]
def laW (W : Nat → Nat → Int32) (K m b : Nat) (t g : Int32) : Nat → Nat → Int32 := zv (zv (zv (zv (zv (shW (zv W K 54 (Int32.ofNat (m + 1))) K (m + 1) 0) (K + 1) 0 (Int32.ofNat b)) (K + 2) 0 t) (K + 3) 0 g) K 55 (W K 55 + Int32.ofNat 1)) K 56 t
theorem laW_o {m b c j : Nat} {t g : Int32} (hk : c < K ∨ K + 3 < c) : laW W K m b t g c j = W c j := by
  unfold laW
  rw [zv_nx (by omega), zv_nx (by omega), zv_nx (by omega), zv_nx (by omega), zv_nx (by omega)]
  unfold shW
  rw [if_neg (by omega), zv_nx (by omega)]
theorem e5_add {b m : Nat} {t la : Int32} (S : LSh h a n K) (hB : kB κ ≤ a) (hm : W K 54 = Int32.ofNat m) (hm8 : m ≤ 8) (hl : W K 56 = la) : Ev κ mX5_add [.ref (a + K), .int (Int32.ofNat b), .int t] (hX h a n W SM) Q = Q (.inl (some (.int (if la < Int32.ofNat 0 then Int32.ofInt (-2) else t - la)))) (hX h a n (laW W K (min 8 (m + 1) - 1) b t (if la < Int32.ofNat 0 then Int32.ofInt (-2) else t - la)) SM) := by
  have F := lX S
  have hBK : ∀ i, kB κ ≤ a + (K + i) := fun i => by omega
  have hBK0 : kB κ ≤ a + K := by omega
  have em := fun (h : zH) (Q : zQ) => e9_min (κ := κ) (h := h) (Q := Q) (x := 8) (y := m + 1) (by omega) (by omega)
  obtain ⟨M, hM⟩ : ∃ M, min 8 (m + 1) = M + 1 := ⟨min 8 (m + 1) - 1, by omega⟩
  have hM8 : M < 8 := by omega
  rw [hM, Nat.add_sub_cancel]
  rw [hM] at em
  have T : ∀ g : Int32, Go κ mX5_add 18 [some (.ref (a + K)), some (.int (Int32.ofNat b)), some (.int t), none, none] [.int g] (hX h a n W SM) Q = Q (.inl (some (.int g))) (hX h a n (laW W K M b t g) SM) := by
    intro g
    have lp : ∀ k, k ≤ M → Go κ mX5_add 42 [some (.ref (a + K)), some (.int (Int32.ofNat b)), some (.int t), some (.int g), some (.int (Int32.ofNat k))] [] (hX h a n (shW (zv W K 54 (Int32.ofNat (M + 1))) K (M + 1) k) SM) Q = Q (.inl (some (.int g))) (hX h a n (laW W K M b t g) SM) := by
      intro k
      induction k with
      | zero =>
        intro _
        have e5 : shW (zv W K 54 (Int32.ofNat (M + 1))) K (M + 1) 0 K 55 = W K 55 := by rw [shW_K, zv_nx (by omega)]
        simp (disch := first | assumption | omega | decide | (refine Eq.trans (hK_X _) ?_; assumption) | fail) only [gB, I_all, zK_v, zK_n, true_and, and_true, Nat.reduceAdd, Nat.reduceMul, Nat.reduceSub, z_lt, z_le, z_neq, not_false_eq_true, or_true, true_or, or_false, false_or, false_and, and_false, gX5_add_h]
        simp (disch := first | assumption | omega | decide | (refine Eq.trans (hK_X _) ?_; assumption) | fail) only [gB, I_all, zK_v, zK_n, true_and, and_true, Nat.reduceAdd, Nat.reduceMul, Nat.reduceSub, z_lt, z_le, z_neq, not_false_eq_true, or_true, true_or, or_false, false_or, false_and, and_false, gX5_add, F, hBK, hBK0, zv_nx, e5]
        rfl
      | succ k ih =>
        intro hk
        have i := ih (by omega)
        rw [← shW_s _ K (M + 1) k (by omega)] at i
        have ev : ∀ c, shW (zv W K 54 (Int32.ofNat (M + 1))) K (M + 1) (k + 1) c k = zv W K 54 (Int32.ofNat (M + 1)) c k := fun c => by
          unfold shW
          rw [if_neg (by omega)]
        have es : Int32.ofNat (k + 1) - Int32.ofNat 1 = Int32.ofNat k := by rw [I_sub (by omega), Nat.add_sub_cancel]
        simp (disch := first | assumption | omega | decide | (refine Eq.trans (hK_X _) ?_; assumption) | fail) only [gB, I_all, zK_v, zK_n, true_and, and_true, Nat.reduceAdd, Nat.reduceMul, Nat.reduceSub, z_lt, z_le, z_neq, not_false_eq_true, or_true, true_or, or_false, false_or, false_and, and_false, gX5_add_h]
        simp (disch := first | assumption | omega | decide | (refine Eq.trans (hK_X _) ?_; assumption) | fail) only [gB, I_all, zK_v, zK_n, true_and, and_true, Nat.reduceAdd, Nat.reduceMul, Nat.reduceSub, z_lt, z_le, z_neq, not_false_eq_true, or_true, true_or, or_false, false_or, false_and, and_false, gX5_add, F, hBK, hBK0, es, ev, I_dec, zv_nx]
        simp (disch := omega) only [zv_nx] at i
        exact i
    have l0 := lp M (Nat.le_refl _)
    rw [shW_0] at l0
    have es : Int32.ofNat (M + 1) - Int32.ofNat 1 = Int32.ofNat M := by rw [I_sub (by omega), Nat.add_sub_cancel]
    simp (disch := first | assumption | omega | decide | (refine Eq.trans (hK_X _) ?_; assumption) | fail) only [gB, I_all, zK_v, zK_n, true_and, and_true, Nat.reduceAdd, Nat.reduceMul, Nat.reduceSub, z_lt, z_le, z_neq, not_false_eq_true, or_true, true_or, or_false, false_or, false_and, and_false, gX5_add, F, hBK0, hm, em, zv_at, es]
    exact l0
  by_cases c : la < Int32.ofNat 0
  · have c' : ¬ Int32.ofNat 0 ≤ la := Int32.not_le.mpr c
    rw [if_pos c, ← T]
    simp (disch := first | assumption | omega | decide | (refine Eq.trans (hK_X _) ?_; assumption) | fail) only [gB, I_all, zK_v, zK_n, true_and, and_true, Nat.reduceAdd, Nat.reduceMul, Nat.reduceSub, z_lt, z_le, z_neq, not_false_eq_true, or_true, true_or, or_false, false_or, false_and, and_false, gX5_add, F, hl]
  · have c' : Int32.ofNat 0 ≤ la := Int32.not_lt.mp c
    rw [if_neg c, ← T]
    simp (disch := first | assumption | omega | decide | (refine Eq.trans (hK_X _) ?_; assumption) | fail) only [gB, I_all, zK_v, zK_n, true_and, and_true, Nat.reduceAdd, Nat.reduceMul, Nat.reduceSub, z_lt, z_le, z_neq, not_false_eq_true, or_true, true_or, or_false, false_or, false_and, and_false, gX5_add, F, hl]
theorem LC_add {b : Nat} {t g al la : Int32} {l : List Lv} (L : LC W K l al la) (hl : l.length ≤ 8) : LC (laW W K (min 8 (l.length + 1) - 1) b t g) K ((if l.length = 8 then l.drop 1 else l) ++ [(b, t, g)]) (al + Int32.ofNat 1) t := by
  obtain ⟨l1, l2, l3, l4⟩ := L
  have hlen : ((if l.length = 8 then l.drop 1 else l) ++ [(b, t, g)]).length = min 8 (l.length + 1) := by
    rw [List.length_append]
    split
    · rw [List.length_drop]; show _ + 1 = _; omega
    · show _ + 1 = _; omega
  obtain ⟨M, hM⟩ : ∃ M, min 8 (l.length + 1) = M + 1 := ⟨min 8 (l.length + 1) - 1, by omega⟩
  rw [hM, Nat.add_sub_cancel]
  rw [hM] at hlen
  refine ⟨?_, ?_, ?_, fun i r hi => ?_⟩
  · rw [hlen]
    unfold laW
    rw [zv_nx (by omega), zv_nx (by omega), zv_nx (by omega), zv_nx (by omega), zv_nx (by omega), shW_K, zv_at rfl rfl]
  · unfold laW
    rw [zv_nx (by omega), zv_at rfl rfl, l2]
  · unfold laW
    rw [zv_at rfl rfl]
  · rw [List.reverse_append] at hi
    have hi' : ((b, t, g) :: (if l.length = 8 then l.drop 1 else l).reverse)[i]? = some r := hi
    cases i with
    | zero =>
      cases hi'
      unfold laW
      exact ⟨by rw [zv_nx (by omega), zv_nx (by omega), zv_nx (by omega), zv_nx (by omega), zv_at rfl rfl], by rw [zv_nx (by omega), zv_nx (by omega), zv_nx (by omega), zv_at rfl rfl], by rw [zv_nx (by omega), zv_nx (by omega), zv_at rfl rfl]⟩
    | succ i =>
      rw [List.getElem?_cons_succ] at hi'
      have hi2 := (List.getElem?_eq_some_iff.mp hi').1
      rw [List.length_reverse] at hi2
      have hiM : i < M := by
        rw [List.length_append] at hlen
        have : [((b, t, g) : Lv)].length = 1 := rfl
        omega
      have hr : l.reverse[i]? = some r := by
        by_cases c : l.length = 8
        · rw [if_pos c] at hi'
          have e : l.reverse = (l.drop 1).reverse ++ (l.take 1).reverse := by rw [← List.reverse_append, List.take_append_drop]
          rw [e, List.getElem?_append_left]
          · exact hi'
          · rw [if_pos c] at hi2
            rw [List.length_reverse]; exact hi2
        · rw [if_neg c] at hi'
          exact hi'
      obtain ⟨t1, t2, t3⟩ := l4 i r hr
      have ev : ∀ c, K + 1 ≤ c → c ≤ K + 3 → laW W K M b t g c (i + 1) = W c i := fun c h1 h2 => by
        unfold laW
        rw [zv_nx (by omega), zv_nx (by omega), zv_nx (by omega), zv_nx (by omega), zv_nx (by omega)]
        unfold shW
        rw [if_pos (by omega), Nat.add_sub_cancel, zv_nx (by omega)]
      rw [ev _ (by omega) (by omega), ev _ (by omega) (by omega), ev _ (by omega) (by omega)]
      exact ⟨t1, t2, t3⟩
end
