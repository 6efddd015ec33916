/-! the component: pieces of a state's values changed -/
section
variable {π : Pl} {W W' : Nat → Nat → Int32} {SM SM' : Nat → Nat → Int64} {σ : Sg}
theorem cnt_at {c f : Nat} (l : List Rd) : cnt c (79 + 5 * f + c) l = cntF l f := by
  unfold cnt cntF
  congr 2
  funext r
  exact decide_eq_decide.mpr ⟨fun h => by omega, fun h => by omega⟩
theorem cnt_nx {c c' f : Nat} (hc : c < 5) (hc' : c' < 5) (h : c' ≠ c) (l : List Rd) : cnt c (79 + 5 * f + c') l = 0 := by
  unfold cnt
  rw [List.length_eq_zero_iff, List.filter_eq_nil_iff]
  intro r _
  simp
  omega
theorem I_a0 (x : Int32) : x + Int32.ofNat 0 = x := Int32.add_zero x
/-- a column of the accounts grows -/
theorem NC_acc (N : NC π W σ) {c : Nat} (hc : c < 5) (l : List Rd) (O : plN π 2 ≤ 16) : NC π (adW W (7 + c) (cntF l)) (vN σ (incs (sN σ) c l)) := by
  obtain ⟨⟨n1, n2, n3, n4, n5⟩, n6, n7⟩ := N
  have e : ∀ j, j < 79 → sN (vN σ (incs (sN σ) c l)) j = sN σ j := fun j hj => incs_lo hj
  refine ⟨⟨?_, ?_, fun j hj => ?_, fun j hj => ?_, fun s hs => ?_⟩, fun c' f h1 h2 => ?_, fun f hf => ?_⟩
  · rw [adW_o (by omega), e _ (by omega), n1]
  · rw [adW_o (by omega), e _ (by omega), n2]
  · rw [adW_o (by omega), e _ (by omega), n3 j hj]
  · rw [adW_o (by omega), e _ (by omega), n4 j hj]
  · rw [adW_o (by omega), e _ (by omega), n5 s hs]
  · show _ = sN σ (79 + 5 * f + c') + Int32.ofNat (cnt c (79 + 5 * f + c') l)
    by_cases h : c' = c
    · subst h
      rw [cnt_at, ← n6 _ _ h1 h2]
      exact if_pos rfl
    · rw [adW_o (by omega), cnt_nx hc h1 h, I_a0, n6 _ _ h1 h2]
  · rw [adW_o (by omega), e _ (by omega), n7 f hf]
theorem NC.cg (N : NC π W σ) (e : ∀ k j, k < 13 → ¬ (3 ≤ k ∧ k ≤ 6) → ¬ (k = 0 ∧ j = 31) → W' k j = W k j) : NC π W' σ := by
  obtain ⟨⟨n1, n2, n3, n4, n5⟩, n6, n7⟩ := N
  exact ⟨⟨(e _ _ (by omega) (by omega) (by omega)).trans n1, (e _ _ (by omega) (by omega) (by omega)).trans n2, fun j hj => (e _ _ (by omega) (by omega) (by omega)).trans (n3 j hj), fun j hj => (e _ _ (by omega) (by omega) (by omega)).trans (n4 j hj), fun s hs => (e _ _ (by omega) (by omega) (by omega)).trans (n5 s hs)⟩,
    fun c f h1 h2 => (e _ _ (by omega) (by omega) (by omega)).trans (n6 c f h1 h2), fun f hf => by rw [e _ _ (by omega) (by omega) (by omega)]; exact n7 f hf⟩
/-- accounts -/
theorem CAt_acc (C : CAt π W SM σ) {c : Nat} (hc : c < 5) (l : List Rd) (O : plN π 2 ≤ 16) (hS : plN π 0 ≤ 10) : CAt π (adW W (7 + c) (cntF l)) SM (vN σ (incs (sN σ) c l)) := by
  obtain ⟨c1, c2, c3, c4, c5, c6⟩ := C
  have e : ∀ j, j < 79 → sN (vN σ (incs (sN σ) c l)) j = sN σ j := fun j hj => incs_lo hj
  refine ⟨NC_acc c1 hc l O, c2, fun s hs => (c3 s hs).cg fun k j h1 h2 => adW_o (by omega), fun s hs => ?_, fun b hb => (c5 b hb).cg fun k j h1 h2 => adW_o (by omega), c6.cg (adW_o (by omega)) fun j => adW_o (by omega)⟩
  have c4s := c4 s hs
  have h10 := hS
  rw [show sN (vN σ (incs (sN σ) c l)) (43 + s) = sN σ (43 + s) from e _ (by omega), show sN (vN σ (incs (sN σ) c l)) (33 + s) = sN σ (33 + s) from e _ (by omega)]
  exact c4s.cg fun k j h1 h2 => adW_o (by omega)
/-- where a flat number lies: cell, place, number -/
def fm (k j i : Nat) : Prop := (k = 0 ∧ j = 23 ∧ i = 0) ∨ (k = 0 ∧ j = 24 ∧ i = 1) ∨ (k = 1 ∧ j < 4 ∧ i = 2 + j) ∨ (k = 0 ∧ 25 ≤ j ∧ j < 31 ∧ i + 19 = j) ∨ (k = 2 ∧ j < 10 ∧ i = 13 + j) ∨ (7 ≤ k ∧ k < 12 ∧ j < 17 ∧ i = 79 + 5 * j + (k - 7))
theorem fm_v {k j i k' j' i' : Nat} {v : Int32} (h : fm k j i) (h' : fm k' j' i') (e : W k' j' = sN σ i') : zv W k j v k' j' = zu (sN σ) i v i' := by
  unfold fm at h h'
  by_cases c : i' = i
  · rw [zv_at (by omega) (by omega), c, zu_eq]
  · rw [zv_nx (by omega), zu_ne _ _ c, e]
theorem fm_lt {k j i : Nat} (h : fm k j i) : k < 12 ∧ ¬ (33 ≤ i ∧ i < 79) ∧ ¬ (k = 0 ∧ j = 31) ∧ ¬ (3 ≤ k ∧ k ≤ 6) := by
  unfold fm at h
  omega
theorem NC_set (N : NC π W σ) {k j i : Nat} (v : Int32) (h : fm k j i) (O : plN π 2 ≤ 16) : NC π (zv W k j v) (vN σ (zu (sN σ) i v)) := by
  have hl := fm_lt h
  obtain ⟨⟨n1, n2, n3, n4, n5⟩, n6, n7⟩ := N
  refine ⟨⟨fm_v h (by unfold fm; omega) n1, fm_v h (by unfold fm; omega) n2, fun j hj => fm_v h (by unfold fm; omega) (n3 j hj), fun j hj => fm_v h (by unfold fm; omega) (n4 j hj), fun s hs => fm_v h (by unfold fm; omega) (n5 s hs)⟩, fun c f h1 h2 => fm_v h (by unfold fm; omega) (n6 c f h1 h2), fun f hf => ?_⟩
  show plT π 12 f + zv W k j v 12 f * plT π 11 f = zu (sN σ) i v (63 + f)
  rw [zv_nx (by omega), zu_ne _ _ (by omega), n7 f hf]
/-- a flat number set -/
theorem CAt_set (C : CAt π W SM σ) {k j i : Nat} (v : Int32) (h : fm k j i) (O : plN π 2 ≤ 16) (hS : plN π 0 ≤ 10) : CAt π (zv W k j v) SM (vN σ (zu (sN σ) i v)) := by
  have hl := fm_lt h
  obtain ⟨c1, c2, c3, c4, c5, c6⟩ := C
  refine ⟨NC_set c1 v h O, c2, fun s hs => (c3 s hs).cg fun k j h1 h2 => zv_nx (by omega), fun s hs => ?_, fun b hb => (c5 b hb).cg fun k j h1 h2 => zv_nx (by omega), c6.cg (zv_nx (by omega)) fun j => zv_nx (by omega)⟩
  have c4s := c4 s hs
  show LC _ _ _ (zu (sN σ) i v (43 + s)) (zu (sN σ) i v (33 + s))
  rw [zu_ne _ _ (by omega), zu_ne _ _ (by omega)]
  exact c4s.cg fun k j h1 h2 => zv_nx (by omega)
theorem CAt_inc (C : CAt π W SM σ) {k j i : Nat} (h : fm k j i) (O : plN π 2 ≤ 16) (hS : plN π 0 ≤ 10) (e : W k j = sN σ i) : CAt π (zv W k j (W k j + Int32.ofNat 1)) SM (vN σ (inc (sN σ) i)) := by
  rw [e]
  exact CAt_set C _ h O hS
/-- a flow's next rider -/
theorem CAt_nxt (C : CAt π W SM σ) {f : Nat} (hf : f < plN π 2) (O : plN π 2 ≤ 16) (hS : plN π 0 ≤ 10) : CAt π (zv W 12 f (W 12 f + Int32.ofNat 1)) SM (vN σ (zu (sN σ) (63 + f) (sN σ (63 + f) + plT π 11 f))) := by
  obtain ⟨⟨⟨n1, n2, n3, n4, n5⟩, n6, n7⟩, c2, c3, c4, c5, c6⟩ := C
  refine ⟨⟨⟨?_, ?_, fun j hj => ?_, fun j hj => ?_, fun s hs => ?_⟩, fun c g h1 h2 => ?_, fun g hg => ?_⟩, c2, fun s hs => (c3 s hs).cg fun k j h1 h2 => zv_nx (by omega), fun s hs => ?_, fun b hb => (c5 b hb).cg fun k j h1 h2 => zv_nx (by omega), c6.cg (zv_nx (by omega)) fun j => zv_nx (by omega)⟩
  · rw [zv_nx (by omega), n1]; exact (zu_ne _ _ (by omega)).symm
  · rw [zv_nx (by omega), n2]; exact (zu_ne _ _ (by omega)).symm
  · rw [zv_nx (by omega), n3 j hj]; exact (zu_ne _ _ (by omega)).symm
  · rw [zv_nx (by omega), n4 j hj]; exact (zu_ne _ _ (by omega)).symm
  · rw [zv_nx (by omega), n5 s hs]; exact (zu_ne _ _ (by omega)).symm
  · rw [zv_nx (by omega), n6 c g h1 h2]; exact (zu_ne _ _ (by omega)).symm
  · show _ = zu (sN σ) (63 + f) (sN σ (63 + f) + plT π 11 f) (63 + g)
    by_cases e : g = f
    · subst e
      rw [zv_at rfl rfl, zu_eq, ← n7 g hg, Int32.add_mul, Int32.add_assoc]
      congr 2
      exact Int32.one_mul _
    · rw [zv_nx (by omega), zu_ne _ _ (by omega), n7 g hg]
  · show LC _ _ _ (zu (sN σ) (63 + f) _ (43 + s)) (zu (sN σ) (63 + f) _ (33 + s))
    rw [zu_ne _ _ (by omega), zu_ne _ _ (by omega)]
    exact (c4 s hs).cg fun k j h1 h2 => zv_nx (by omega)
/-- sums -/
theorem CAt_S0 (C : CAt π W SM σ) (v : Int64) : CAt π W (zv SM 0 32 v) (vS σ (zu (sS σ) 0 v)) := by
  obtain ⟨c1, ⟨c2, c2'⟩, c3⟩ := C
  refine ⟨c1, ⟨?_, ?_⟩, c3⟩
  · show _ = zu (sS σ) 0 v 0
    rw [zv_at rfl rfl, zu_eq]
  · show _ = zu (sS σ) 0 v 1
    rw [zv_nx (by omega), zu_ne _ _ (by omega)]; exact c2'
theorem CAt_S1 (C : CAt π W SM σ) (v : Int64) : CAt π W (zv SM 0 33 v) (vS σ (zu (sS σ) 1 v)) := by
  obtain ⟨c1, ⟨c2, c2'⟩, c3⟩ := C
  refine ⟨c1, ⟨?_, ?_⟩, c3⟩
  · show _ = zu (sS σ) 1 v 0
    rw [zv_nx (by omega), zu_ne _ _ (by omega)]; exact c2
  · show _ = zu (sS σ) 1 v 1
    rw [zv_at rfl rfl, zu_eq]
/-- a row -/
theorem CAt_row (C : CAt π W SM σ) {s : Nat} {l : List Rd} (hs : s < plN π 0) (e : ∀ k j, ¬ (15 + 8 * s ≤ k ∧ k ≤ 15 + 8 * s + 3) → W' k j = W k j) (R : RC W' (15 + 8 * s) l) : CAt π W' SM (vR σ (zu (sR σ) s l)) := by
  obtain ⟨c1, c2, c3, c4, c5, c6⟩ := C
  refine ⟨c1.cg fun k j h1 h2 h3 => e k j (by omega), c2, fun s' hs' => ?_, fun s' hs' => (c4 s' hs').cg fun k j h1 h2 => e k j (by omega), fun b hb => (c5 b hb).cg fun k j h1 h2 => e k j (by omega), c6.cg (e _ _ (by omega)) fun j => e _ _ (by omega)⟩
  show RC W' _ (zu (sR σ) s l s')
  by_cases h : s' = s
  · subst h; rw [zu_eq]; exact R
  · rw [zu_ne _ _ h]; exact (c3 s' hs').cg fun k j h1 h2 => e k j (by omega)
/-- a bus -/
theorem CAt_bus (C : CAt π W SM σ) {b : Nat} {q : Bs} (e : ∀ k j, ¬ (15 + 8 * plN π 0 + 5 * b ≤ k ∧ k ≤ 15 + 8 * plN π 0 + 5 * b + 4) → W' k j = W k j) (R : BC π W' (15 + 8 * plN π 0 + 5 * b) b q) : CAt π W' SM (vB σ (zu (sB σ) b q)) := by
  obtain ⟨c1, c2, c3, c4, c5, c6⟩ := C
  refine ⟨c1.cg fun k j h1 h2 h3 => e k j (by omega), c2, fun s' hs' => (c3 s' hs').cg fun k j h1 h2 => e k j (by omega), fun s' hs' => (c4 s' hs').cg fun k j h1 h2 => e k j (by omega), fun b' hb' => ?_, c6.cg (e _ _ (by omega)) fun j => e _ _ (by omega)⟩
  show BC π W' _ b' (zu (sB σ) b q b')
  by_cases h : b' = b
  · subst h; rw [zu_eq]; exact R
  · rw [zu_ne _ _ h]; exact (c5 b' hb').cg fun k j h1 h2 => e k j (by omega)
/-- where a bus's number lies -/
def bm (g c : Nat) : Prop := (g = 60 ∧ c = 0) ∨ (g = 61 ∧ c = 1) ∨ (g = 62 ∧ c = 2) ∨ (g = 63 ∧ c = 3) ∨ (g = 64 ∧ c = 9) ∨ (g = 65 ∧ c = 7) ∨ (g = 66 ∧ c = 6) ∨ (g = 67 ∧ c = 10) ∨ (g = 68 ∧ c = 11) ∨ (g = 69 ∧ c = 5) ∨ (g = 70 ∧ c = 8)
theorem bm_v {K g c g' c' : Nat} {v : Int32} {q : Nat → Int32} (h : bm g c) (h' : bm g' c') (e : W K g' = q c') : zv W K g v K g' = zu q c v c' := by
  unfold bm at h h'
  by_cases d : c' = c
  · rw [zv_at rfl (by omega), d, zu_eq]
  · rw [zv_nx (by omega), zu_ne _ _ d, e]
theorem BC_set {K b g c : Nat} {q : Bs} (B : BC π W K b q) (v : Int32) (h : bm g c) : BC π (zv W K g v) K b (zu q.1 c v, q.2) := by
  obtain ⟨⟨a1, a2, a3⟩, ⟨b1, b2, b3, b4, b5, b6, b7, b8, b9, b10, b11⟩, r⟩ := B
  have hg : 60 ≤ g ∧ g ≤ 70 := by unfold bm at h; omega
  exact ⟨⟨(zv_nx (by omega)).trans a1, (zv_nx (by omega)).trans a2, (zv_nx (by omega)).trans a3⟩,
    ⟨bm_v h (by unfold bm; omega) b1, bm_v h (by unfold bm; omega) b2, bm_v h (by unfold bm; omega) b3, bm_v h (by unfold bm; omega) b4, bm_v h (by unfold bm; omega) b5, bm_v h (by unfold bm; omega) b6, bm_v h (by unfold bm; omega) b7, bm_v h (by unfold bm; omega) b8, bm_v h (by unfold bm; omega) b9, bm_v h (by unfold bm; omega) b10, bm_v h (by unfold bm; omega) b11⟩,
    r.cg fun k j h1 h2 => zv_nx (by omega)⟩
theorem CAt_bs (C : CAt π W SM σ) {b g c : Nat} (v : Int32) (h : bm g c) (hb : b < plN π 1) : CAt π (zv W (15 + 8 * plN π 0 + 5 * b) g v) SM (sBs σ b c v) :=
  CAt_bus C (fun k j h1 => zv_nx (by omega)) (BC_set (C.2.2.2.2.1 b hb) v h)
theorem CAt_bq (C : CAt π W SM σ) {b : Nat} {l : List Rd} (hb : b < plN π 1) (e : ∀ k j, ¬ (15 + 8 * plN π 0 + 5 * b + 1 ≤ k ∧ k ≤ 15 + 8 * plN π 0 + 5 * b + 4) → W' k j = W k j) (R : RC W' (15 + 8 * plN π 0 + 5 * b + 1) l) : CAt π W' SM (sBq σ b l) := by
  refine CAt_bus C (fun k j h1 => e k j (by omega)) ?_
  obtain ⟨⟨a1, a2, a3⟩, ⟨b1, b2, b3, b4, b5, b6, b7, b8, b9, b10, b11⟩, r⟩ := C.2.2.2.2.1 b hb
  have e0 := fun j => e (15 + 8 * plN π 0 + 5 * b) j (by omega)
  exact ⟨⟨(e0 _).trans a1, (e0 _).trans a2, (e0 _).trans a3⟩, ⟨(e0 _).trans b1, (e0 _).trans b2, (e0 _).trans b3, (e0 _).trans b4, (e0 _).trans b5, (e0 _).trans b6, (e0 _).trans b7, (e0 _).trans b8, (e0 _).trans b9, (e0 _).trans b10, (e0 _).trans b11⟩, R⟩
/-- the log -/
theorem CAt_log (C : CAt π W SM σ) {l : List Lg} (e : ∀ k j, ¬ (k = 13) → ¬ (k = 0 ∧ j = 31) → W' k j = W k j) (R : GC W' l) : CAt π W' SM (vG σ l) := by
  obtain ⟨c1, c2, c3, c4, c5, c6⟩ := C
  exact ⟨c1.cg fun k j h1 h2 h3 => e k j (by omega) h3, c2, fun s' hs' => (c3 s' hs').cg fun k j h1 h2 => e k j (by omega) (by omega), fun s' hs' => (c4 s' hs').cg fun k j h1 h2 => e k j (by omega) (by omega), fun b' hb' => (c5 b' hb').cg fun k j h1 h2 => e k j (by omega) (by omega), R⟩
/-- leavings -/
theorem CAt_lv (C : CAt π W SM σ) {s : Nat} {l : List Lv} {al la : Int32} (hs : s < plN π 0) (hS : plN π 0 ≤ 10) (O : plN π 2 ≤ 16) (e : ∀ k j, ¬ (19 + 8 * s ≤ k ∧ k ≤ 19 + 8 * s + 3) → W' k j = W k j) (R : LC W' (19 + 8 * s) l al la) : CAt π W' SM (vN (vL σ (zu (sL σ) s l)) (zu (zu (sN σ) (33 + s) la) (43 + s) al)) := by
  obtain ⟨c1, c2, c3, c4, c5, c6⟩ := C
  have c1' := c1.cg (W' := W') fun k j h1 h2 h3 => e k j (by omega)
  obtain ⟨⟨n1, n2, n3, n4, n5⟩, n6, n7⟩ := c1'
  have eN : ∀ i, ¬ i = 33 + s → ¬ i = 43 + s → zu (zu (sN σ) (33 + s) la) (43 + s) al i = sN σ i := fun i h1 h2 => by rw [zu_ne _ _ h2, zu_ne _ _ h1]
  refine ⟨⟨⟨n1.trans (eN _ (by omega) (by omega)).symm, n2.trans (eN _ (by omega) (by omega)).symm, fun j hj => (n3 j hj).trans (eN _ (by omega) (by omega)).symm, fun j hj => (n4 j hj).trans (eN _ (by omega) (by omega)).symm, fun j hj => (n5 j hj).trans (eN _ (by omega) (by omega)).symm⟩, fun c f h1 h2 => (n6 c f h1 h2).trans (eN _ (by omega) (by omega)).symm, fun f hf => (n7 f hf).trans (eN _ (by omega) (by omega)).symm⟩,
    c2, fun s' hs' => (c3 s' hs').cg fun k j h1 h2 => e k j (by omega), fun s' hs' => ?_, fun b hb => (c5 b hb).cg fun k j h1 h2 => e k j (by omega), c6.cg (e _ _ (by omega)) fun j => e _ _ (by omega)⟩
  show LC W' _ (zu (sL σ) s l s') (zu (zu (sN σ) (33 + s) la) (43 + s) al (43 + s')) (zu (zu (sN σ) (33 + s) la) (43 + s) al (33 + s'))
  by_cases h : s' = s
  · subst h
    rw [zu_eq, zu_eq, zu_ne _ _ (by omega), zu_eq]
    exact R
  · rw [zu_ne _ _ h, eN _ (by omega) (by omega), eN _ (by omega) (by omega)]
    exact (c4 s' hs').cg fun k j h1 h2 => e k j (by omega)
end
