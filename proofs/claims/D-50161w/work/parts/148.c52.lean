/-! the component: pass -/
theorem sEv_o {π : Pl} {t : Int32} {U : Int} (O : pOk π) (ht : t.toInt + 1400 ≤ U) (hU : U ≤ 1073741400) : ∀ (k : Nat) (q : Sg × Nat), gOk π q.1 U → smF (sEv π t k q).1 4 17 + Int32.ofNat q.2 = smF q.1 4 17 + Int32.ofNat (sEv π t k q).2 := by
  intro k
  induction k with
  | zero => intro q h; rfl
  | succ k ih =>
    intro q h
    unfold sEv
    split
    · next hc =>
      have hn : nxB q.1 (plN π 1 - 1) < plN π 1 := by
        have := nxB_lt q.1 (plN π 1 - 1)
        have := O.2.1
        omega
      rw [Int32.le_iff_toInt_le] at hc
      have G2 := gOk_ha O h hn (by omega) hU
      have e := sHa_o O h.1 hn
      generalize nxB q.1 (plN π 1 - 1) = b at *
      generalize sHa π q.1 b = r at *
      have i := ih (r.1, q.2 + r.2) G2
      dsimp only at i
      rw [Int32.ofNat_add] at i
      generalize sEv π t k (r.1, q.2 + r.2) = w at *
      show smF w.1 4 17 + Int32.ofNat q.2 = _
      generalize smF w.1 4 17 = x1 at *
      generalize smF q.1 4 17 = x2 at *
      generalize smF r.1 4 17 = x3 at *
      grind
    · rfl
theorem vOk_ev {π : Pl} {t : Int32} : ∀ (k : Nat) (q : Sg × Nat), vOk q.1 → vOk (sEv π t k q).1 := by
  intro k
  induction k with
  | zero => intro q h; exact h
  | succ k ih =>
    intro q h
    unfold sEv
    split
    · exact ih _ (vOk_ha h)
    · exact h
theorem sBa_o {π : Pl} {t : Int32} (O : pOk π) : ∀ (k : Nat) (σ : Sg), Oc σ (sBa π t k σ) ∧ Fr σ (sBa π t k σ) := by
  intro k
  induction k with
  | zero => intro σ; exact ⟨Oc.rfl, Fr.rfl⟩
  | succ k ih =>
    intro σ
    obtain ⟨a1, a2⟩ := ih σ
    exact ⟨a1.trans (sBr_o O _ _ _), a2.trans (sBr_fr _ _ _ _)⟩
theorem sPa_o {π : Pl} {σ : Sg} {t : Int32} {U : Int} (O : pOk π) (G : gOk π σ U) (V : vOk σ) (ht : t.toInt + 1400 ≤ U) (hU : U ≤ 1073741400) : smF (sPa π σ t).1 4 17 = smF σ 4 17 + Int32.ofNat (sPa π σ t).2 ∧ vOk (sPa π σ t).1 := by
  have e := sEv_o (t := t) O ht hU big (σ, 0) G
  have v := vOk_ev (π := π) (t := t) big (σ, 0) V
  unfold sPa
  dsimp only at *
  generalize sEv π t big (σ, 0) = q at *
  obtain ⟨b1, b2⟩ := sBa_o (π := π) (t := t) O (plN π 0) q.1
  generalize sBa π t (plN π 0) q.1 = τ at *
  have c1 : Oc τ (vN τ (zu (sN τ) 0 t)) := fun k => by
    show zu (sN τ) 0 t (79 + 5 * k + 4) = _
    exact zu_ne _ _ (by omega)
  refine ⟨?_, vOk_cg (vOk_fr v b2) (fun j h1 h2 => (show zu (sN τ) 0 t j = sN τ j from zu_ne _ _ (by omega))) fun b => ⟨Or.inl rfl, Or.inl rfl⟩⟩
  rw [(b1.trans c1).sm 17]
  have z : smF q.1 4 17 + Int32.ofNat 0 = smF q.1 4 17 := Int32.add_zero _
  rw [z] at e
  exact e
section
variable {κ : zC} {h h' : zH} {g : Nat → Nat} {p q0 q a hd : Nat} {us : List Nat} {ks : Nat → Nat} {A : Nat → Nat → Nat} {Q : zQ} {Y : Sy}
theorem e0_isPassY {m : Int32} {h : zH} (c : btw m 1 3600) : Ev κ mX0_isPass [.int m] h Q = Q (.inl (some (.int (Int32.ofNat 1)))) h := by
  have eb := fun (Q : zQ) => e0_btY (κ := κ) (Q := Q) (h := h) (by omega) (by omega) c
  simp (disch := first | assumption | omega | decide | (refine Eq.trans (hK_X _) ?_; assumption) | fail) only [gB, I_all, zK_v, zK_n, true_and, and_true, Nat.reduceAdd, Nat.reduceMul, Nat.reduceSub, z_lt, z_le, z_neq, not_false_eq_true, or_true, true_or, or_false, false_or, false_and, and_false, gX0_isPass, eb, z_b1]
theorem e0_isPassN {m : Int32} {h : zH} (c : ¬ btw m 1 3600) : Ev κ mX0_isPass [.int m] h Q = Q (.inl (some (.int (Int32.ofNat 0)))) h := by
  have eb := fun (Q : zQ) => e0_btN (κ := κ) (Q := Q) (h := h) (by omega) (by omega) c
  simp (disch := first | assumption | omega | decide | (refine Eq.trans (hK_X _) ?_; assumption) | fail) only [gB, I_all, zK_v, zK_n, true_and, and_true, Nat.reduceAdd, Nat.reduceMul, Nat.reduceSub, z_lt, z_le, z_neq, not_false_eq_true, or_true, true_or, or_false, false_or, false_and, and_false, gX0_isPass, eb, z_b0]
theorem e0_pass {x : Int32} {U : Int} (I : CI κ h g Y p A q0 q a hd us ks) (Gk : gOk (yP Y) (yS Y) U) (ht : btw x 1 3600 → (sN (yS Y) 0 + x).toInt + 1400 ≤ U) (hU : U ≤ 1073741400) (hq : OQ κ h g p A q0 q (yPs Y x) Q) : Ev κ mX0_pass [.ref (g 0), .int x] h Q := by
  have Z0 := I.cx
  obtain ⟨kx, vx, S, OK, V⟩ := Z0
  have N := soN S
  have R := soR S
  have O := S.1.2.2.1
  have es := (so_sums (κ := κ) S).2.2.2.2
  unfold yPs at hq
  by_cases c : ¬ btw x 1 3600
  · rw [if_neg c] at hq
    have ei := fun (h : zH) (Q : zQ) => e0_isPassN (κ := κ) (h := h) (Q := Q) c
    have q1 := I.nop hq
    simp (disch := first | assumption | omega | decide | (refine Eq.trans (hK_X _) ?_; assumption) | fail) only [gB, I_all, zK_v, zK_n, true_and, and_true, Nat.reduceAdd, Nat.reduceMul, Nat.reduceSub, z_lt, z_le, z_neq, not_false_eq_true, or_true, true_or, or_false, false_or, false_and, and_false, gX0_pass, ei]
    exact q1
  replace c := Decidable.of_not_not c
  rw [if_pos c] at hq
  dsimp only at hq
  have ht' := ht c
  have ei := fun (h : zH) (Q : zQ) => e0_isPassY (κ := κ) (h := h) (Q := Q) c
  simp (disch := first | assumption | omega | decide | (refine Eq.trans (hK_X _) ?_; assumption) | fail) only [gB, I_all, zK_v, zK_n, true_and, and_true, Nat.reduceAdd, Nat.reduceMul, Nat.reduceSub, z_lt, z_le, z_neq, not_false_eq_true, or_true, true_or, or_false, false_or, false_and, and_false, gX0_pass, ei, kx, vx, N, R, es]
  refine act_do I fun h1 f W SM Z C qi k0 v3 fin => ?_
  have ka : hK h1 (hN h) = 103 := Z.1.1.2.1
  simp (disch := first | assumption | omega | decide | (refine Eq.trans (hK_X _) ?_; assumption) | fail) only [gB, I_all, zK_v, zK_n, true_and, and_true, Nat.reduceAdd, Nat.reduceMul, Nat.reduceSub, z_lt, z_le, z_neq, not_false_eq_true, or_true, true_or, or_false, false_or, false_and, and_false, gX0_pass, hK_hQ, hL_hQ, hK_X, hL_X, ka]
  refine e3_pass Z C Gk V qi ht' hU fun f' W' SM' C' q' => ?_
  obtain ⟨so, sv⟩ := sPa_o O Gk V ht' hU
  obtain ⟨f1, f2, f3, f4⟩ := fin f' W' SM' _ C' q' (sOk_pa O Gk ht' hU) sv
  have q1 := hq _ f1 f2 f3 f4
  have S' := SAt_X Z C' q'
  have es' := (so_sums (κ := κ) S').2.2.2.2
  have R44 := (soR S').2.2.2.2.2.2.2.2.2.2.1
  have e : smF (sPa (yP Y) (yS Y) (sN (yS Y) 0 + x)).1 4 17 - smF (yS Y) 4 17 = Int32.ofNat (sPa (yP Y) (yS Y) (sN (yS Y) 0 + x)).2 := by
    rw [so]
    grind
  simp (disch := first | assumption | omega | decide | (refine Eq.trans (hK_X _) ?_; assumption) | fail) only [gB, I_all, zK_v, zK_n, true_and, and_true, Nat.reduceAdd, Nat.reduceMul, Nat.reduceSub, z_lt, z_le, z_neq, not_false_eq_true, or_true, true_or, or_false, false_or, false_and, and_false, gX0_pass, hK_hQ, hL_hQ, hK_X, hL_X, ka, R44, es', e]
  exact q1
end
