/-! the twin: its cells against the whole system's state -/
/-- the whole system: the plan; the names (packed); the state; what can be undone; the slots; the tape; the error's place -/
abbrev Sy : Type := Pl × (Nat → Int32) × Sg × List Sg × (Nat → Option Sg) × List Int32 × Int32
def yP (Y : Sy) : Pl := Y.1
def yM (Y : Sy) : Nat → Int32 := Y.2.1
def yS (Y : Sy) : Sg := Y.2.2.1
def yU (Y : Sy) : List Sg := Y.2.2.2.1
def yK (Y : Sy) : Nat → Option Sg := Y.2.2.2.2.1
def yT (Y : Sy) : List Int32 := Y.2.2.2.2.2.1
def yE (Y : Sy) : Int32 := Y.2.2.2.2.2.2
def TPl (W : Nat → Nat → Int32) (π : Pl) : Prop := W 0 75 = Int32.ofNat (plN π 0) ∧ W 0 76 = Int32.ofNat (plN π 1) ∧ W 0 77 = Int32.ofNat (plN π 2) ∧ W 0 78 = plT π 0 0 ∧ W 0 79 = plT π 0 1 ∧ W 0 80 = plT π 0 2 ∧
  (∀ t, t ∈ [3, 4, 5] → ∀ j, j < plN π 0 → W t j = plT π t j) ∧ (∀ t, t ∈ [7, 8] → ∀ j, j < plN π 1 → W t j = plT π t j) ∧ (∀ t, t ∈ [9, 10, 11, 12] → ∀ j, j < plN π 2 → W t j = plT π t j)
def UAt (π : Pl) (W : Nat → Nat → Int32) (SM : Nat → Nat → Int64) (u : List Sg) : Prop := W 0 102 = Int32.ofNat u.length ∧ u.length ≤ 8 ∧ ∀ i σ, u[i]? = some σ → WAt (fun j => W 17 (3614 * i + j)) (fun j => SM 18 (2 * i + j)) σ ∧ sOk π σ
def KAt (π : Pl) (W : Nat → Nat → Int32) (SM : Nat → Nat → Int64) (K : Nat → Option Sg) : Prop := ∀ i, i < 2 → (K i = none ∧ W 21 i = Int32.ofNat 0) ∨ (∃ σ, K i = some σ ∧ W 21 i = Int32.ofNat 1 ∧ WAt (fun j => W 19 (3614 * i + j)) (fun j => SM 20 (2 * i + j)) σ ∧ sOk π σ)
def TTp (W : Nat → Nat → Int32) (l : List Int32) : Prop := l.length ≤ 1400 ∧ W 0 73 = Int32.ofNat l.length ∧ ∀ i x, l[i]? = some x → W 1 i = x
def TIn (W : Nat → Nat → Int32) (SM : Nat → Nat → Int64) (Y : Sy) : Prop := TPl W (yP Y) ∧ (WAt (W 13) (SM 14) (yS Y) ∧ sOk (yP Y) (yS Y)) ∧ UAt (yP Y) W SM (yU Y) ∧ KAt (yP Y) W SM (yK Y) ∧ TTp W (yT Y) ∧ W 0 74 = yE Y ∧ pOk (yP Y)
theorem tPm {κ : zC} {h : zH} {b : Nat} {W : Nat → Nat → Int32} {SM : Nat → Nat → Int64} {π : Pl} (S : TSh κ h b) (P : TPl W π) : MPl (hX h b 33 W SM) b π := by
  have F := xF S
  obtain ⟨p1, p2, p3, p4, p5, p6, p7, p8, p9⟩ := P
  refine ⟨?_, ?_, ?_, ?_, ?_, ?_, fun t ht j hj => ?_, fun t ht j hj => ?_, fun t ht j hj => ?_⟩
  · rw [F.1 _ _ _ (by decide), p1]
  · rw [F.1 _ _ _ (by decide), p2]
  · rw [F.1 _ _ _ (by decide), p3]
  · rw [F.1 _ _ _ (by decide), p4]
  · rw [F.1 _ _ _ (by decide), p5]
  · rw [F.1 _ _ _ (by decide), p6]
  · rw [F.2.2.1 _ _ _ _ ((by decide : ∀ t ∈ [3, 4, 5], t ∈ tIK) t ht), p7 t ht j hj]
  · rw [F.2.2.1 _ _ _ _ ((by decide : ∀ t ∈ [7, 8], t ∈ tIK) t ht), p8 t ht j hj]
  · rw [F.2.2.1 _ _ _ _ ((by decide : ∀ t ∈ [9, 10, 11, 12], t ∈ tIK) t ht), p9 t ht j hj]
/-- the world alone is changed -/
theorem TPl.cg {W W' : Nat → Nat → Int32} {π : Pl} (P : TPl W π) (e0 : ∀ g, 75 ≤ g → g ≤ 80 → W' 0 g = W 0 g) (e1 : ∀ k, 3 ≤ k → k ≤ 12 → k ≠ 6 → ∀ j, W' k j = W k j) : TPl W' π := by
  obtain ⟨p1, p2, p3, p4, p5, p6, p7, p8, p9⟩ := P
  refine ⟨by rw [e0 _ (by decide) (by decide), p1], by rw [e0 _ (by decide) (by decide), p2], by rw [e0 _ (by decide) (by decide), p3], by rw [e0 _ (by decide) (by decide), p4], by rw [e0 _ (by decide) (by decide), p5], by rw [e0 _ (by decide) (by decide), p6], fun t ht j hj => ?_, fun t ht j hj => ?_, fun t ht j hj => ?_⟩
  · have := (by decide : ∀ t ∈ [3, 4, 5], 3 ≤ t ∧ t ≤ 12 ∧ t ≠ 6) t ht
    rw [e1 _ this.1 this.2.1 this.2.2, p7 t ht j hj]
  · have := (by decide : ∀ t ∈ [7, 8], 3 ≤ t ∧ t ≤ 12 ∧ t ≠ 6) t ht
    rw [e1 _ this.1 this.2.1 this.2.2, p8 t ht j hj]
  · have := (by decide : ∀ t ∈ [9, 10, 11, 12], 3 ≤ t ∧ t ≤ 12 ∧ t ≠ 6) t ht
    rw [e1 _ this.1 this.2.1 this.2.2, p9 t ht j hj]
theorem UAt.cg {π : Pl} {W W' : Nat → Nat → Int32} {SM SM' : Nat → Nat → Int64} {u : List Sg} (P : UAt π W SM u) (e0 : W' 0 102 = W 0 102) (e1 : ∀ j, W' 17 j = W 17 j) (e2 : ∀ j, SM' 18 j = SM 18 j) : UAt π W' SM' u := by
  obtain ⟨p1, p2, p3⟩ := P
  refine ⟨e0.trans p1, p2, fun i σ hi => ?_⟩
  obtain ⟨q1, q2⟩ := p3 i σ hi
  have f1 : (fun j => W' 17 (3614 * i + j)) = fun j => W 17 (3614 * i + j) := funext fun j => e1 _
  have f2 : (fun j => SM' 18 (2 * i + j)) = fun j => SM 18 (2 * i + j) := funext fun j => e2 _
  rw [f1, f2]
  exact ⟨q1, q2⟩
theorem KAt.cg {π : Pl} {W W' : Nat → Nat → Int32} {SM SM' : Nat → Nat → Int64} {K : Nat → Option Sg} (P : KAt π W SM K) (e0 : ∀ j, W' 21 j = W 21 j) (e1 : ∀ j, W' 19 j = W 19 j) (e2 : ∀ j, SM' 20 j = SM 20 j) : KAt π W' SM' K := by
  intro i hi
  have f1 : (fun j => W' 19 (3614 * i + j)) = fun j => W 19 (3614 * i + j) := funext fun j => e1 _
  have f2 : (fun j => SM' 20 (2 * i + j)) = fun j => SM 20 (2 * i + j) := funext fun j => e2 _
  rw [f1, f2, e0]
  exact P i hi
theorem TTp.cg {W W' : Nat → Nat → Int32} {l : List Int32} (P : TTp W l) (e0 : W' 0 73 = W 0 73) (e1 : ∀ j, W' 1 j = W 1 j) : TTp W' l := ⟨P.1, e0.trans P.2.1, fun i x hi => (e1 i).trans (P.2.2 i x hi)⟩
/-- a world that agrees -/
theorem WAt.cg {π : Pl} {w w' : Nat → Int32} {sm sm' : Nat → Int64} {σ : Sg} (W : WAt w sm σ) (OK : sOk π σ) (e : ∀ j, j < 3614 → w' j = w j) (e0 : sm' 0 = sm 0) (e1 : sm' 1 = sm 1) : WAt w' sm' σ := by
  obtain ⟨wA, wR, wL, wB, wG, w0, w1⟩ := W
  refine ⟨fun j hj => ?_, fun s' hs' => ?_, fun s' hs' => ?_, fun b' hb' => ?_, ?_, e0.trans w0, e1.trans w1⟩
  · rw [e j (by unfold nat1 at hj; omega)]
    exact wA j hj
  · have := (OK.1 s' hs').1
    exact (wR s' hs').congr (e _ (by omega)) fun j h1 h2 => e j (by omega)
  · have := (OK.2.1 s' hs').1
    exact (wL s' hs').congr (e _ (by omega)) fun j h1 h2 => e j (by omega)
  · have := (OK.2.2.1 b' hb').1
    unfold bR at this
    exact (wB b' hb').congr (fun j hj => e _ (by omega)) fun j h1 h2 => e j (by omega)
  · have := OK.2.2.2.1
    exact wG.congr (e _ (by omega)) fun j h1 h2 => e j (by omega)
/-- one state more that can be undone -/
def puU (u : List Sg) (σ : Sg) : List Sg := (if u.length = 8 then u.drop 1 else u) ++ [σ]
theorem UAt_kp {π : Pl} {W : Nat → Nat → Int32} {SM : Nat → Nat → Int64} {u : List Sg} {σ : Sg} (U : UAt π W SM u) (h : u.length < 8) (A : WAt (W 13) (SM 14) σ) (OK : sOk π σ) : UAt π (kpW W u.length) (cpS SM 18 (2 * u.length) 14 0) (u ++ [σ]) := by
  obtain ⟨u1, u2, u3⟩ := U
  refine ⟨by rw [List.length_append]; exact zv_at rfl rfl, by rw [List.length_append]; simp; omega, fun i τ hi => ?_⟩
  unfold kpW cpS
  rw [List.getElem?_append] at hi
  split at hi
  · next hl =>
    obtain ⟨q1, q2⟩ := u3 i τ hi
    refine ⟨q1.cg q2 (fun j hj => ?_) ?_ ?_, q2⟩
    · rw [zv_nx (by omega), cpy_out (by omega)]
    · rw [zv_nx (by omega), zv_nx (by omega)]
    · rw [zv_nx (by omega), zv_nx (by omega)]
  · have hl := (List.getElem?_eq_some_iff.mp hi).1
    have h0 : i = u.length := by simp at hl; omega
    subst h0
    simp at hi
    subst hi
    refine ⟨A.cg OK (fun j hj => ?_) ?_ ?_, OK⟩
    · rw [zv_nx (by omega), cpy_in hj, Nat.zero_add]
    · rw [zv_nx (by omega), zv_at rfl (by omega)]
    · rw [zv_at rfl rfl]
theorem UAt_dr {π : Pl} {W : Nat → Nat → Int32} {SM : Nat → Nat → Int64} {u : List Sg} (U : UAt π W SM u) (h : u.length = 8) : UAt π (kpW1 W) (kpS1 SM) (u.drop 1) := by
  obtain ⟨u1, u2, u3⟩ := U
  refine ⟨by rw [List.length_drop, h]; exact zv_at rfl rfl, by rw [List.length_drop]; omega, fun i τ hi => ?_⟩
  rw [List.getElem?_drop] at hi
  have hl := (List.getElem?_eq_some_iff.mp hi).1
  obtain ⟨q1, q2⟩ := u3 (1 + i) τ hi
  unfold kpW1 kpS1
  refine ⟨q1.cg q2 (fun j hj => ?_) ?_ ?_, q2⟩
  · have := cpy_in (W := W) (kd := 17) (od := 0) (ks := 17) (os := 3614) (n := 25298) (j := 3614 * i + j) (by omega)
    rw [zv_nx (by omega)]
    rw [Nat.zero_add] at this
    rw [this]
    congr 1
    omega
  · have := cpy_in (W := SM) (kd := 18) (od := 0) (ks := 18) (os := 2) (n := 14) (j := 2 * i + 0) (by omega)
    rw [Nat.zero_add] at this
    rw [this]
    congr 1
    omega
  · have := cpy_in (W := SM) (kd := 18) (od := 0) (ks := 18) (os := 2) (n := 14) (j := 2 * i + 1) (by omega)
    rw [Nat.zero_add] at this
    rw [this]
    congr 1
    omega
section
variable {κ : zC} {h : zH} {b : Nat} {W : Nat → Nat → Int32} {SM : Nat → Nat → Int64} {Q : zQ} {Y : Sy}
def vU (Y : Sy) (u : List Sg) : Sy := (Y.1, Y.2.1, Y.2.2.1, u, Y.2.2.2.2)
def vSt (Y : Sy) (σ : Sg) : Sy := (Y.1, Y.2.1, σ, Y.2.2.2)
def vK (Y : Sy) (K : Nat → Option Sg) : Sy := (Y.1, Y.2.1, Y.2.2.1, Y.2.2.2.1, K, Y.2.2.2.2.2)
def yKp (Y : Sy) : Sy := vU Y (puU (yU Y) (yS Y))
theorem e7_keeps (S : TSh κ h b) (T : TIn W SM Y) (hq : ∀ W' SM', TIn W' SM' (yKp Y) → W' 13 = W 13 → SM' 14 = SM 14 → Q (.inl none) (hX h b 33 W' SM')) : Ev κ mX7_keeps [.ref b] (hX h b 33 W SM) Q := by
  obtain ⟨t1, ⟨t2, t2'⟩, t3, t4, t5, t6, t7⟩ := T
  have hl := t3.2.1
  rw [e7_keepsR (n := (yU Y).length) S hl t3.1]
  have o13 : ∀ (W : Nat → Nat → Int32) n, kpW W n 13 = W 13 := fun W n => by
    funext j
    unfold kpW
    rw [zv_nx (by omega), cpy_out (by omega)]
  have o13' : kpW1 W 13 = W 13 := by
    funext j
    unfold kpW1
    rw [zv_nx (by omega), cpy_out (by omega)]
  have s14 : ∀ (SM : Nat → Nat → Int64) n, cpS SM 18 n 14 0 14 = SM 14 := fun SM n => by
    funext j
    unfold cpS
    rw [zv_nx (by omega), zv_nx (by omega)]
  have s14' : kpS1 SM 14 = SM 14 := by
    funext j
    unfold kpS1
    rw [cpy_out (by omega)]
  have ko : ∀ (W : Nat → Nat → Int32) n k j, ¬ k = 17 → ¬ (k = 0 ∧ j = 102) → kpW W n k j = W k j := fun W n k j h1 h2 => by
    unfold kpW
    rw [zv_nx h2, cpy_out (by omega)]
  have ko' : ∀ k j, ¬ k = 17 → ¬ (k = 0 ∧ j = 102) → kpW1 W k j = W k j := fun k j h1 h2 => by
    unfold kpW1
    rw [zv_nx h2, cpy_out (by omega)]
  have so : ∀ (SM : Nat → Nat → Int64) n k j, ¬ k = 18 → cpS SM 18 n 14 0 k j = SM k j := fun SM n k j h1 => by
    unfold cpS
    rw [zv_nx (by omega), zv_nx (by omega)]
  have so' : ∀ k j, ¬ k = 18 → kpS1 SM k j = SM k j := fun k j h1 => by
    unfold kpS1
    rw [cpy_out (by omega)]
  by_cases h8 : (yU Y).length = 8
  · rw [if_pos h8]
    have U1 := UAt_dr t3 h8
    have e7 : ((yU Y).drop 1).length = 7 := by rw [List.length_drop, h8]
    have U2 := UAt_kp U1 (by omega) (σ := yS Y) (by rw [o13', s14']; exact t2) t2'
    rw [e7] at U2
    refine hq _ _ ⟨t1.cg (fun g h1 h2 => ?_) (fun k h1 h2 h3 j => ?_), ⟨?_, t2'⟩, ?_, t4.cg (fun j => ?_) (fun j => ?_) (fun j => ?_), t5.cg ?_ (fun j => ?_), ?_, t7⟩ ?_ ?_
    · rw [ko _ _ _ _ (by omega) (by omega), ko' _ _ (by omega) (by omega)]
    · rw [ko _ _ _ _ (by omega) (by omega), ko' _ _ (by omega) (by omega)]
    · rw [o13, o13', s14, s14']; exact t2
    · show UAt _ _ _ (puU (yU Y) (yS Y))
      unfold puU
      rw [if_pos h8]
      exact U2
    · rw [ko _ _ _ _ (by omega) (by omega), ko' _ _ (by omega) (by omega)]
    · rw [ko _ _ _ _ (by omega) (by omega), ko' _ _ (by omega) (by omega)]
    · rw [so _ _ _ _ (by omega), so' _ _ (by omega)]
    · rw [ko _ _ _ _ (by omega) (by omega), ko' _ _ (by omega) (by omega)]
    · rw [ko _ _ _ _ (by omega) (by omega), ko' _ _ (by omega) (by omega)]
    · rw [ko _ _ _ _ (by omega) (by omega), ko' _ _ (by omega) (by omega)]; exact t6
    · rw [o13, o13']
    · rw [s14, s14']
  · rw [if_neg h8]
    have U2 := UAt_kp t3 (by omega) t2 t2'
    refine hq _ _ ⟨t1.cg (fun g h1 h2 => ?_) (fun k h1 h2 h3 j => ?_), ⟨?_, t2'⟩, ?_, t4.cg (fun j => ?_) (fun j => ?_) (fun j => ?_), t5.cg ?_ (fun j => ?_), ?_, t7⟩ ?_ ?_
    · rw [ko _ _ _ _ (by omega) (by omega)]
    · rw [ko _ _ _ _ (by omega) (by omega)]
    · rw [o13, s14]; exact t2
    · show UAt _ _ _ (puU (yU Y) (yS Y))
      unfold puU
      rw [if_neg h8]
      exact U2
    · rw [ko _ _ _ _ (by omega) (by omega)]
    · rw [ko _ _ _ _ (by omega) (by omega)]
    · rw [so _ _ _ _ (by omega)]
    · rw [ko _ _ _ _ (by omega) (by omega)]
    · rw [ko _ _ _ _ (by omega) (by omega)]
    · rw [ko _ _ _ _ (by omega) (by omega)]; exact t6
    · rw [o13]
    · rw [s14]
end
