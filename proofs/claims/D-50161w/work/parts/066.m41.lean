/-! the twin: forecasts -/
def smF (σ : Sg) (c : Nat) : Nat → Int32
  | 0 => Int32.ofNat 0
  | k + 1 => smF σ c k + sN σ (79 + 5 * k + c)
def toldS (σ : Sg) : Nat → Int32
  | 0 => smF σ 3 17
  | 1 => smF σ 4 17
  | 2 => smF σ 2 17 + smF σ 1 17
  | 4 => sN σ 6
  | _ => sN σ 10
/-- the state with a mode -/
def sMd (σ : Sg) (m : Int32) : Sg := vN σ (zu (sN σ) 1 m)
def rWd (Y : Sy) (m s x : Int32) : Int32 := if (btw m 0 3 ∧ btw s 1 3600) ∧ btw x 0 5 then
    (if x = Int32.ofNat 3 then (sS (sPa (yP Y) (sMd (yS Y) m) (sN (yS Y) 0 + s)).1 0 - sS (yS Y) 0).toInt32
     else toldS (sPa (yP Y) (sMd (yS Y) m) (sN (yS Y) 0 + s)).1 x.toNatClampNeg - toldS (yS Y) x.toNatClampNeg) else Int32.ofInt (-1)
/-- the best mode of the first k: it, its riders out, its waiting -/
def bmF (Y : Sy) (s : Int32) : Nat → Nat × Int32 × Int32
  | 0 => (0, Int32.ofNat 0, Int32.ofNat 0)
  | k + 1 =>
    let q := bmF Y s k
    let r := sPa (yP Y) (sMd (yS Y) (Int32.ofNat k)) (sN (yS Y) 0 + s)
    let w := (sS r.1 0 - sS (yS Y) 0).toInt32
    if k = 0 ∨ q.2.1 < Int32.ofNat r.2 ∨ (Int32.ofNat r.2 = q.2.1 ∧ w < q.2.2) then (k, Int32.ofNat r.2, w) else q
def rBm (Y : Sy) (s : Int32) : Int32 := if btw s 1 3600 then Int32.ofNat (bmF Y s 4).1 else Int32.ofInt (-1)
/-- when a bus comes to a stop -/
def cmF (π : Pl) (b s : Nat) (t : Int32) : Nat → Sg → Int32
  | 0, _ => Int32.ofInt (-2)
  | k + 1, σ => if bF σ (nxB σ (plN π 1 - 1)) 2 ≤ t then
      (if nxB σ (plN π 1 - 1) = b ∧ ¬ 2 ≤ bI σ b 0 ∧ bI σ b 1 = s then bF σ b 2 else cmF π b s t k (sHa π σ (nxB σ (plN π 1 - 1))).1) else Int32.ofInt (-2)
def rCo (Y : Sy) (b s : Int32) : Int32 := if btw b 0 (plN (yP Y) 1 - 1) ∧ btw s 0 (plN (yP Y) 0 - 1) then cmF (yP Y) b.toNatClampNeg s.toNatClampNeg (sN (yS Y) 0 + Int32.ofNat 3600) big (yS Y) else Int32.ofInt (-1)
/-- the next leaving of a stop -/
def nlF (π : Pl) (s : Nat) (p : Bool) (was t : Int32) : Nat → Sg → Int32
  | 0, _ => Int32.ofInt (-2)
  | k + 1, σ => if bF σ (nxB σ (plN π 1 - 1)) 2 ≤ t then
      (if sN (sHa π σ (nxB σ (plN π 1 - 1))).1 (43 + s) = was then nlF π s p was t k (sHa π σ (nxB σ (plN π 1 - 1))).1 else if p = true then bF σ (nxB σ (plN π 1 - 1)) 2 else Int32.ofNat (nxB σ (plN π 1 - 1))) else Int32.ofInt (-2)
def rNl (Y : Sy) (s : Int32) (p : Bool) : Int32 := if btw s 0 (plN (yP Y) 0 - 1) then nlF (yP Y) s.toNatClampNeg p (sN (yS Y) (43 + s.toNatClampNeg)) (sN (yS Y) 0 + Int32.ofNat 3600) big (yS Y) else Int32.ofInt (-1)
section
variable {κ : zC} {h : zH} {b : Nat} {W : Nat → Nat → Int32} {SM : Nat → Nat → Int64} {Q : zQ} {Y : Sy} {π : Pl}
theorem e7_sumOf {c : Nat} (S : TSh κ h b) (T : TIn W SM Y) (hc : c < 5) : Ev κ mX7_sumOf [.ref b, .int (Int32.ofNat c)] (hX h b 33 W SM) Q = Q (.inl (some (.int (smF (yS Y) c 17)))) (hX h b 33 W SM) := by
  have F := xF S
  have R := xR S
  have K := xK S
  have e2 : ∀ k, k < 17 → W 13 (79 + 5 * k + c) = sN (yS Y) (79 + 5 * k + c) := fun k hk => T.2.1.1.1 _ (by unfold nat1; omega)
  have ea := fun (f : Nat) (h1 : f < 17) (Q : zQ) => accountX (κ := κ) (W := W) (SM := SM) (Q := Q) (f := f) (c := c) S (by omega)
  have lp := Go_fr (κ := κ) (m := mX7_sumOf) (pc := 4) (n := 17) (Q := Q) (R := Q (.inl (some (.int (smF (yS Y) c 17)))) (hX h b 33 W SM)) (fun k => [some (.ref b), some (.int (Int32.ofNat c)), some (.int (smF (yS Y) c k)), some (.int (Int32.ofNat k))]) (fun k => hX h b 33 W SM) (fun k hk ih => by
    have e3 : smF (yS Y) c (k + 1) = smF (yS Y) c k + sN (yS Y) (79 + 5 * k + c) := rfl
    rw [e3] at ih
    simp (disch := first | assumption | omega | decide) only [gB, I_all, zK_v, zK_n, true_and, and_true, Nat.reduceAdd, Nat.reduceMul, Nat.reduceSub, z_lt, z_le, z_neq, not_false_eq_true, or_true, true_or, or_false, false_or, false_and, and_false, gX7_sumOf_h]
    simp (disch := first | assumption | omega | decide) only [gB, I_all, zK_v, zK_n, true_and, and_true, Nat.reduceAdd, Nat.reduceMul, Nat.reduceSub, z_lt, z_le, z_neq, not_false_eq_true, or_true, true_or, or_false, false_or, false_and, and_false, gX7_sumOf, F, R, K, ea, e2]
    exact ih) (by
    simp (disch := first | assumption | omega | decide) only [gB, I_all, zK_v, zK_n, true_and, and_true, Nat.reduceAdd, Nat.reduceMul, Nat.reduceSub, z_lt, z_le, z_neq, not_false_eq_true, or_true, true_or, or_false, false_or, false_and, and_false, gX7_sumOf_h]
    simp (disch := first | assumption | omega | decide) only [gB, I_all, zK_v, zK_n, true_and, and_true, Nat.reduceAdd, Nat.reduceMul, Nat.reduceSub, z_lt, z_le, z_neq, not_false_eq_true, or_true, true_or, or_false, false_or, false_and, and_false, gX7_sumOf, F, R, K])
  have e0 : smF (yS Y) c 0 = Int32.ofNat 0 := rfl
  rw [e0] at lp
  simp (disch := first | assumption | omega | decide) only [gB, I_all, zK_v, zK_n, true_and, and_true, Nat.reduceAdd, Nat.reduceMul, Nat.reduceSub, z_lt, z_le, z_neq, not_false_eq_true, or_true, true_or, or_false, false_or, false_and, and_false, gX7_sumOf]
  exact lp
theorem e7_told {n : Nat} (S : TSh κ h b) (T : TIn W SM Y) (hn : n ≤ 5) : Ev κ mX7_told [.ref b, .int (Int32.ofNat n)] (hX h b 33 W SM) Q = Q (.inl (some (.int (toldS (yS Y) n)))) (hX h b 33 W SM) := by
  have F := xF S
  have R := xR S
  have K := xK S
  have es := fun (c : Nat) (h1 : c < 5) (Q : zQ) => e7_sumOf (κ := κ) (W := W) (SM := SM) (Q := Q) (c := c) S T h1
  have n6 : W 13 6 = sN (yS Y) 6 := T.2.1.1.1 6 (by unfold nat1; omega)
  have n10 : W 13 10 = sN (yS Y) 10 := T.2.1.1.1 10 (by unfold nat1; omega)
  have hc : n = 0 ∨ n = 1 ∨ n = 2 ∨ n = 3 ∨ n = 4 ∨ n = 5 := by omega
  rcases hc with rfl | rfl | rfl | rfl | rfl | rfl <;> simp (disch := first | assumption | omega | decide) only [gB, I_all, zK_v, zK_n, true_and, and_true, Nat.reduceAdd, Nat.reduceMul, Nat.reduceSub, z_lt, z_le, z_neq, not_false_eq_true, or_true, true_or, or_false, false_or, false_and, and_false, gX7_told, F, R, K, zSwi_y, zSwi_n, zSwi_0, es, n6, n10, toldS]
theorem vSt_self (Y : Sy) : vSt Y (yS Y) = Y := rfl
/-- laid aside -/
theorem e7_thinksT (S : TSh κ h b) (T : TIn W SM Y) (hq : ∀ W' SM', TIn W' SM' Y → (∀ j, j < 3614 → W' 15 j = W 13 j) → SM' 16 0 = SM 14 0 → SM' 16 1 = SM 14 1 → SM' 14 = SM 14 → Q (.inl none) (hX h b 33 W' SM')) : Ev κ mX7_thinks [.ref b] (hX h b 33 W SM) Q := by
  rw [e7_thinks S]
  refine hq _ _ (T.scT (fun k j hk => ?_) (fun k j hk => ?_)) (fun j hj => ?_) ?_ ?_ ?_
  · unfold scr at hk
    rw [cpy_out (by omega)]
  · unfold cpS
    rw [zv_nx (by omega), zv_nx (by omega)]
  · have := cpy_in (W := W) (kd := 15) (od := 0) (ks := 13) (os := 0) (n := 3614) hj
    rw [Nat.zero_add] at this
    exact this
  · unfold cpS
    rw [zv_nx (by omega), zv_at rfl rfl]
  · unfold cpS
    rw [zv_at rfl rfl]
  · unfold cpS
    funext j
    rw [zv_nx (by omega), zv_nx (by omega)]
/-- laid back -/
theorem e7_backT {σ : Sg} {w : Nat → Int32} {sm : Nat → Int64} (S : TSh κ h b) (T : TIn W SM (vSt Y σ)) (A : WAt w sm (yS Y)) (OK : sOk (yP Y) (yS Y)) (a : ∀ j, j < 3614 → W 15 j = w j) (b0 : SM 16 0 = sm 0) (b1 : SM 16 1 = sm 1) (hq : ∀ W' SM', TIn W' SM' Y → Q (.inl none) (hX h b 33 W' SM')) : Ev κ mX7_comesBack [.ref b] (hX h b 33 W SM) Q := by
  rw [e7_comesBack S]
  have := T.wld (W' := cpy W 13 0 15 0 3614) (SM' := cpS SM 14 0 16 0) (σ := yS Y) (A.cg OK (fun j hj => ?_) ?_ ?_) OK (fun k j h1 h2 => ?_) (fun k j h1 => ?_)
  · rw [vSt_2, vSt_self] at this
    exact hq _ _ this
  · have := cpy_in (W := W) (kd := 13) (od := 0) (ks := 15) (os := 0) (n := 3614) hj
    rw [Nat.zero_add] at this
    rw [this]
    exact a j hj
  · unfold cpS
    rw [zv_nx (by omega), zv_at rfl rfl, b0]
  · unfold cpS
    rw [zv_at rfl rfl, b1]
  · rw [cpy_out (by omega)]
  · unfold cpS
    rw [zv_nx (by omega), zv_nx (by omega)]
theorem gOk_md {π : Pl} {σ : Sg} {U : Int} {m : Int32} (G : gOk π σ U) : gOk π (sMd σ m) U := by
  obtain ⟨g1, g2, g3⟩ := G
  refine ⟨sOk_n g1 _, ?_, g3⟩
  show 0 ≤ (zu (sN σ) 1 m 3).toInt ∧ _
  rw [zu_ne _ _ (by decide)]
  exact g2
/-- a run aside: what it leaves, and how it ends -/
theorem e7_aside {m s : Int32} {U : Int} {W0 : Nat → Nat → Int32} {SM0 : Nat → Nat → Int64} (S : TSh κ h b) (T : TIn W SM Y) (G : gOk (yP Y) (yS Y) U) (hU : U ≤ 1073741400) (ht : 0 ≤ (sN (yS Y) 0).toInt ∧ (sN (yS Y) 0).toInt + 5000 ≤ U) (c : btw s 1 3600) (a : ∀ j, j < 3614 → W 15 j = W0 13 j) (b0 : SM 16 0 = SM0 14 0) (b1 : SM 16 1 = SM0 14 1)
    (hq : ∀ W' SM', TIn W' SM' (vSt Y (sPa (yP Y) (sMd (yS Y) m) (sN (yS Y) 0 + s)).1) → (∀ j, j < 3614 → W' 15 j = W0 13 j) → SM' 16 0 = SM0 14 0 → SM' 16 1 = SM0 14 1 → Q (.inl (some (.int (Int32.ofNat (sPa (yP Y) (sMd (yS Y) m) (sN (yS Y) 0 + s)).2)))) (hX h b 33 W' SM')) :
    Ev κ mX7_passesTo [.ref b, .int (sN (yS Y) 0 + s)] (hX h b 33 (zv W 13 1 m) SM) Q := by
  have A := WAt_n (i := 1) (v := m) T.2.1.1 (by unfold nat1; omega)
  have T2 := zv13 T A (sOk_n T.2.1.2 _)
  have c1 := c.1
  have c2 := c.2
  refine e7_passesToT (U := U) S T2 (gOk_md G) (by rw [i_add (by omega) (by omega)]; omega) hU fun W3 SM3 T3 f1 f2 => ?_
  rw [vSt_2] at T3
  refine hq _ _ T3 (fun j hj => ?_) ?_ ?_
  · rw [f1 _ _ (by omega), zv_nx (by omega)]
    exact a j hj
  · rw [f2 _ _ (by omega)]
    exact b0
  · rw [f2 _ _ (by omega)]
    exact b1
theorem e7_would {m s x : Int32} {U : Int} (S : TSh κ h b) (T : TIn W SM Y) (G : gOk (yP Y) (yS Y) U) (hU : U ≤ 1073741400) (ht : 0 ≤ (sN (yS Y) 0).toInt ∧ (sN (yS Y) 0).toInt + 5000 ≤ U) (hq : ∀ W' SM', TIn W' SM' Y → Q (.inl (some (.int (rWd Y m s x)))) (hX h b 33 W' SM')) : Ev κ mX7_would [.ref b, .int m, .int s, .int x] (hX h b 33 W SM) Q := by
  have F := xF S
  have R := xR S
  have K := xK S
  have hB : kB κ ≤ b := S.1.1
  unfold rWd at hq
  by_cases c : ¬ btw m 0 3
  · rw [if_neg (fun z => c z.1.1)] at hq
    have ei := fun (h : zH) (Q : zQ) => e7_isModeN (κ := κ) (h := h) (Q := Q) c
    simp (disch := first | assumption | omega | decide) only [gB, I_all, zK_v, zK_n, true_and, and_true, Nat.reduceAdd, Nat.reduceMul, Nat.reduceSub, z_lt, z_le, z_neq, not_false_eq_true, or_true, true_or, or_false, false_or, false_and, and_false, gX7_would, F, R, K, ei]
    exact hq _ _ T
  replace c := Decidable.of_not_not c
  have e1 := fun (h : zH) (Q : zQ) => e7_isModeY (κ := κ) (h := h) (Q := Q) c
  by_cases c2 : ¬ btw s 1 3600
  · rw [if_neg (fun z => c2 z.1.2)] at hq
    have ei := fun (h : zH) (Q : zQ) => e7_inN (κ := κ) (h := h) (Q := Q) (x := s) (l := 1) (u := 3600) (by decide) (by decide) c2
    simp (disch := first | assumption | omega | decide) only [gB, I_all, zK_v, zK_n, true_and, and_true, Nat.reduceAdd, Nat.reduceMul, Nat.reduceSub, z_lt, z_le, z_neq, not_false_eq_true, or_true, true_or, or_false, false_or, false_and, and_false, gX7_would, F, R, K, e1, ei]
    exact hq _ _ T
  replace c2 := Decidable.of_not_not c2
  have e2 := fun (h : zH) (Q : zQ) => e7_inY (κ := κ) (h := h) (Q := Q) (x := s) (l := 1) (u := 3600) (by decide) (by decide) c2
  by_cases c3 : ¬ btw x 0 5
  · rw [if_neg (fun z => c3 z.2)] at hq
    have ei := fun (h : zH) (Q : zQ) => e7_inN (κ := κ) (h := h) (Q := Q) (x := x) (l := 0) (u := 5) (by decide) (by decide) c3
    simp (disch := first | assumption | omega | decide) only [gB, I_all, zK_v, zK_n, true_and, and_true, Nat.reduceAdd, Nat.reduceMul, Nat.reduceSub, z_lt, z_le, z_neq, not_false_eq_true, or_true, true_or, or_false, false_or, false_and, and_false, gX7_would, F, R, K, e1, e2, ei]
    exact hq _ _ T
  replace c3 := Decidable.of_not_not c3
  have e3 := fun (h : zH) (Q : zQ) => e7_inY (κ := κ) (h := h) (Q := Q) (x := x) (l := 0) (u := 5) (by decide) (by decide) c3
  rw [if_pos ⟨⟨c, c2⟩, c3⟩] at hq
  obtain ⟨n, hx, -, hn, -⟩ := btw_nat c3
  subst hx
  rw [I_64 (by omega)] at e3
  rw [I_nat (by omega)] at hq
  simp (disch := first | assumption | omega | decide) only [gB, I_all, zK_v, zK_n, true_and, and_true, Nat.reduceAdd, Nat.reduceMul, Nat.reduceSub, z_lt, z_le, z_neq, not_false_eq_true, or_true, true_or, or_false, false_or, false_and, and_false, gX7_would, F, R, K, e1, e2, e3, I_64]
  refine e7_thinksT S T fun W1 SM1 T1 a1 b0 b1 s14 => ?_
  have et := fun (Q : zQ) => e7_told (κ := κ) (Q := Q) (n := n) S T1 hn
  have w0 : zv W1 13 1 m 13 0 = sN (yS Y) 0 := by rw [zv_nx (by omega)]; exact T1.2.1.1.1 0 (by unfold nat1; omega)
  simp (disch := first | assumption | omega | decide) only [gB, I_all, zK_v, zK_n, true_and, and_true, Nat.reduceAdd, Nat.reduceMul, Nat.reduceSub, z_lt, z_le, z_neq, not_false_eq_true, or_true, true_or, or_false, false_or, false_and, and_false, gX7_would, F, R, K, et, w0]
  refine e7_aside (W0 := W) (SM0 := SM) S T1 G hU ht c2 a1 b0 b1 fun W2 SM2 T2 a2 d0 d1 => ?_
  have bk := fun (Q : zQ) (hq : ∀ W' SM', TIn W' SM' Y → Q (.inl none) (hX h b 33 W' SM')) => e7_backT (κ := κ) (Q := Q) (w := W 13) (sm := SM 14) S T2 T.2.1.1 T.2.1.2 a2 d0 d1 hq
  by_cases cn : n = 3
  · have hx3 : Int32.ofNat n = Int32.ofNat 3 := by rw [cn]
    rw [if_pos hx3] at hq
    have f0 : SM2 14 0 = sS (sPa (yP Y) (sMd (yS Y) m) (sN (yS Y) 0 + s)).1 0 := T2.2.1.1.2.2.2.2.2.1
    have f1 : SM2 16 0 = sS (yS Y) 0 := d0.trans T.2.1.1.2.2.2.2.2.1
    simp (disch := first | assumption | omega | decide) only [gB, I_all, zK_v, zK_n, true_and, and_true, Nat.reduceAdd, Nat.reduceMul, Nat.reduceSub, z_lt, z_le, z_neq, not_false_eq_true, or_true, true_or, or_false, false_or, false_and, and_false, gX7_would, F, R, K, f0, f1]
    refine bk _ fun W3 SM3 T3 => ?_
    simp (disch := first | assumption | omega | decide) only [gB, I_all, zK_v, zK_n, true_and, and_true, Nat.reduceAdd, Nat.reduceMul, Nat.reduceSub, z_lt, z_le, z_neq, not_false_eq_true, or_true, true_or, or_false, false_or, false_and, and_false, gX7_would]
    exact hq _ _ T3
  · have hx3 : ¬ Int32.ofNat n = Int32.ofNat 3 := by rw [I_eq (by omega) (by omega)]; exact cn
    rw [if_neg hx3] at hq
    have et2 := fun (Q : zQ) => e7_told (κ := κ) (Q := Q) (n := n) S T2 hn
    rw [vSt_S] at et2
    simp (disch := first | assumption | omega | decide) only [gB, I_all, zK_v, zK_n, true_and, and_true, Nat.reduceAdd, Nat.reduceMul, Nat.reduceSub, z_lt, z_le, z_neq, not_false_eq_true, or_true, true_or, or_false, false_or, false_and, and_false, gX7_would, F, R, K, et2]
    refine bk _ fun W3 SM3 T3 => ?_
    simp (disch := first | assumption | omega | decide) only [gB, I_all, zK_v, zK_n, true_and, and_true, Nat.reduceAdd, Nat.reduceMul, Nat.reduceSub, z_lt, z_le, z_neq, not_false_eq_true, or_true, true_or, or_false, false_or, false_and, and_false, gX7_would]
    exact hq _ _ T3
end
