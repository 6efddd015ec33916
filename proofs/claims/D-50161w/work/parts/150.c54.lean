/-! the component: comes -/
section
variable {κ : zC} {h h' : zH} {g : Nat → Nat} {p q0 q a hd : Nat} {us : List Nat} {ks : Nat → Nat} {A : Nat → Nat → Nat} {Q : zQ} {Y : Sy}
theorem e0_comes {x s : Int32} {U : Int} (I : CI κ h g Y p A q0 q a hd us ks) (Gk : gOk (yP Y) (yS Y) U) (ht : (sN (yS Y) 0 + Int32.ofNat 3600).toInt + 1400 ≤ U) (hUb : U ≤ 1073741400) (hq : OQ κ h g p A q0 q (rCo Y x s, Y) Q) : Ev κ mX0_comes [.ref (g 0), .int x, .int s] h Q := by
  have I0 := I
  have Z0 := I.cx
  have Z1 := Z0
  obtain ⟨kx, vx, S, OK, V⟩ := Z0
  have N := soN S
  have O := S.1.2.2.1
  have h10 : plN (yP Y) 0 ≤ 10 := O.1.2
  have h6 : 1 ≤ plN (yP Y) 1 ∧ plN (yP Y) 1 ≤ 6 := O.2.1
  have G := I.2.2.2.2.2.2.2
  unfold rCo at hq
  by_cases c : ¬ btw x 0 (plN (yP Y) 1 - 1)
  · rw [if_neg (fun z => c z.1)] at hq
    have ei := fun (Q : zQ) => e0_isBusN (κ := κ) (Q := Q) Z1 c
    have q1 := I0.nop hq
    simp (disch := first | assumption | omega | decide | (refine Eq.trans (hK_X _) ?_; assumption) | fail) only [gB, I_all, zK_v, zK_n, true_and, and_true, Nat.reduceAdd, Nat.reduceMul, Nat.reduceSub, z_lt, z_le, z_neq, not_false_eq_true, or_true, true_or, or_false, false_or, false_and, and_false, gX0_comes, kx, ei]
    exact q1
  replace c := Decidable.of_not_not c
  have e1 := fun (Q : zQ) => e0_isBusY (κ := κ) (Q := Q) Z1 c
  by_cases c2 : ¬ btw s 0 (plN (yP Y) 0 - 1)
  · rw [if_neg (fun z => c2 z.2)] at hq
    have ei := fun (Q : zQ) => e0_isStopN (κ := κ) (Q := Q) Z1 c2
    have q1 := I0.nop hq
    simp (disch := first | assumption | omega | decide | (refine Eq.trans (hK_X _) ?_; assumption) | fail) only [gB, I_all, zK_v, zK_n, true_and, and_true, Nat.reduceAdd, Nat.reduceMul, Nat.reduceSub, z_lt, z_le, z_neq, not_false_eq_true, or_true, true_or, or_false, false_or, false_and, and_false, gX0_comes, kx, e1, ei]
    exact q1
  replace c2 := Decidable.of_not_not c2
  have e2 := fun (Q : zQ) => e0_isStopY (κ := κ) (Q := Q) Z1 c2
  rw [if_pos ⟨c, c2⟩] at hq
  obtain ⟨b, hb, -, hbm, -⟩ := btw_nat c
  obtain ⟨t, hs, -, hsm, -⟩ := btw_nat c2
  subst hb; subst hs
  rw [I_nat (by omega), I_nat (by omega)] at hq
  have hbB : b < plN (yP Y) 1 := by omega
  simp (disch := first | assumption | omega | decide | (refine Eq.trans (hK_X _) ?_; assumption) | fail) only [gB, I_all, zK_v, zK_n, true_and, and_true, Nat.reduceAdd, Nat.reduceMul, Nat.reduceSub, z_lt, z_le, z_neq, not_false_eq_true, or_true, true_or, or_false, false_or, false_and, and_false, gX0_comes, kx, vx, N, e1, e2]
  refine e3_copy S OK V G.2.2.2.2.1 I.2.2.2.2.2.2.1.2.1 fun h1 g1 n1 u1 S1 => ?_
  have Z := S1.1
  have ka : hK h1 (hN h) = 103 := Z.1.1.2.1
  have k14 : hK h1 (hN h + 14) = 13 := Z.1.2.2.2.2.1.2.1
  have l14 : hL h1 (hN h + 14) = plN (yP Y) 1 := Z.1.2.2.2.2.1.2.2
  have e := SAt_eq h1 (hN h) (15 + 8 * plN (yP Y) 0 + 5 * plN (yP Y) 1)
  have C := S1.2.1
  have qi := S1.2.2
  generalize wOf h1 (hN h) = W at *
  generalize sOf h1 (hN h) = SM at *
  generalize (fun j => hV h1 (hN h + 6) j) = f at *
  rw [e]
  obtain ⟨t', ht'⟩ : ∃ t', t' = sN (yS Y) 0 + Int32.ofNat 3600 := ⟨_, rfl⟩
  rw [← ht'] at ht hq
  have hax : a < hN h := by have := I.2.2.2.2.2.2.1.2.1; omega
  have hgx : g 0 < hN h := (G.1 0 (by decide)).2
  have ext : ∀ f W SM, CI κ (hX (hQ h1 (hN h) f) (hN h) (15 + 8 * plN (yP Y) 0 + 5 * plN (yP Y) 1) W SM) g Y p A q0 q a hd us ks ∧ Ag h (hX (hQ h1 (hN h) f) (hN h) (15 + 8 * plN (yP Y) 0 + 5 * plN (yP Y) 1) W SM) 0 (hN h) := fun f W SM => by
    have o : Ag h (hX (hQ h1 (hN h) f) (hN h) (15 + 8 * plN (yP Y) 0 + 5 * plN (yP Y) 1) W SM) 0 (hN h) := g1.trans (Ag_qX (Or.inl (Nat.le_refl _)) (by omega))
    exact ⟨I0.ext o (by show hN h ≤ hN h1; omega), o⟩
  have fin : ∀ f W SM r, r = cmF (yP Y) b t t' big (yS Y) → Q (.inl (some (.int r))) (hX (hQ h1 (hN h) f) (hN h) (15 + 8 * plN (yP Y) 0 + 5 * plN (yP Y) 1) W SM) := fun f W SM r hr => by
    subst hr
    obtain ⟨i1, i2⟩ := ext f W SM
    exact hq _ ⟨a, hd, us, ks, i1⟩ (Om_A i2 (by show hN h ≤ hN h1; omega)) (by show hN h1 ≤ _; omega) u1
  have lp : ∀ (k m : Nat) (σ : Sg) (f : Nat → Value) (W : Nat → Nat → Int32) (SM : Nat → Nat → Int64) (a5 a6 a7 : Option Value), gOk (yP Y) σ U → vOk σ → CAt (yP Y) W SM σ → QI (plN (yP Y) 0) σ (hN h) f W (plN (yP Y) 1) (fun x => x < plN (yP Y) 1) → mu t'.toInt σ (plN (yP Y) 1) < k → cmF (yP Y) b t t' k σ = cmF (yP Y) b t t' big (yS Y) →
      Go κ mX0_comes 34 [some (.ref (g 0)), some (.int (Int32.ofNat b)), some (.int (Int32.ofNat t)), some (.ref (hN h)), some (.ref (bu (plN (yP Y) 0) (hN h) b)), a5, a6, a7] [] (hX (hQ h1 (hN h) f) (hN h) (15 + 8 * plN (yP Y) 0 + 5 * plN (yP Y) 1) W SM) Q := by
    intro k
    induction k with
    | zero => intro m σ f W SM a5 a6 a7 _ _ _ _ hmu _; omega
    | succ k ih =>
      intro m σ f W SM a5 a6 a7 Gσ Vσ Cσ qσ hmu heq
      have Zf := ZS_q Z f
      have Bb := (bX (cBu Zf.1 Zf.2.2.2.2.1 hbB).1).2.1
      have kb : hK h1 (bu (plN (yP Y) 0) (hN h) b) = 106 := bK (ZSQ Z) hbB
      obtain ⟨st, sp, h4, hsp, q0', q1'⟩ := bst Gσ.1 hbB (by omega)
      have eI0 : bI σ b 0 = st := bI_of (by omega) q0'
      have eI1 : bI σ b 1 = sp := bI_of (by omega) q1'
      have BC := (Cσ.2.2.2.2.1 b hbB).2.1
      have v61 : hV (hX (hQ h1 (hN h) f) (hN h) (15 + 8 * plN (yP Y) 0 + 5 * plN (yP Y) 1) W SM) (bu (plN (yP Y) 0) (hN h) b) 61 = .int (Int32.ofNat sp) := by
        unfold bu
        rw [Bb _ _ 61 (by decide) (by decide), BC.2.1]
        exact congrArg Value.int q1'
      have v62 : hV (hX (hQ h1 (hN h) f) (hN h) (15 + 8 * plN (yP Y) 0 + 5 * plN (yP Y) 1) W SM) (bu (plN (yP Y) 0) (hN h) b) 62 = .int (bF σ b 2) := by
        unfold bu
        rw [Bb _ _ 62 (by decide) (by decide), BC.2.2.1]
        rfl
      have ea : ∀ Q : zQ, Ev κ mX6_isAtStop [.ref (bu (plN (yP Y) 0) (hN h) b)] (hX (hQ h1 (hN h) f) (hN h) (15 + 8 * plN (yP Y) 0 + 5 * plN (yP Y) 1) W SM) Q = Q (.inl (some (.int (if 2 ≤ st then Int32.ofNat 1 else Int32.ofNat 0)))) (hX (hQ h1 (hN h) f) (hN h) (15 + 8 * plN (yP Y) 0 + 5 * plN (yP Y) 1) W SM) := fun Q => e6_isAtStop (cBu Zf.1 Zf.2.2.2.2.1 hbB).1 h4 (BC.1.trans q0')
      have Ix := (ext f W SM).1
      have x1 : hK h1 (g 0) = 100 := Ix.1.1
      have x3 := Ix.1.2.2.2.2.1
      have Na := soN Ix.cx.2.2.1
      have na : hK h1 a = 103 := Na.1
      have n23 := Na.2.2.1
      have hnx : nxB σ (plN (yP Y) 1 - 1) < plN (yP Y) 1 := by
        have := nxB_lt σ (plN (yP Y) 1 - 1)
        omega
      have hs1 : cmF (yP Y) b t t' (k + 1) σ = (if bF σ (nxB σ (plN (yP Y) 1 - 1)) 2 ≤ t' then (if nxB σ (plN (yP Y) 1 - 1) = b ∧ ¬ 2 ≤ bI σ b 0 ∧ bI σ b 1 = t then bF σ b 2 else cmF (yP Y) b t t' k (sHa (yP Y) σ (nxB σ (plN (yP Y) 1 - 1))).1) else Int32.ofInt (-2)) := rfl
      rw [hs1, eI0, eI1] at heq
      have ev : ∀ fl : Bool, (fl = true ↔ (¬ 2 ≤ st ∧ sp = t)) → Ev κ mX3_event [.ref (hN h), .int t'] (hX (hQ h1 (hN h) f) (hN h) (15 + 8 * plN (yP Y) 0 + 5 * plN (yP Y) 1) W SM) (zK κ mX0_comes 77 3 [some (.ref (g 0)), some (.int (Int32.ofNat b)), some (.int (Int32.ofNat t)), some (.ref (hN h)), some (.ref (bu (plN (yP Y) 0) (hN h) b)), some (.int (boI fl)), some (.int (bF σ b 2)), a7] [] Q) := fun fl hfl => by
        refine e3_event Z Cσ Gσ Vσ qσ hUb (fun cn => ?_) (fun cy f2 W2 SM2 C2 q2 => ?_)
        · rw [if_neg (Int32.not_le.mpr cn)] at heq
          have q1 := fin f W SM _ heq
          simp (disch := first | assumption | omega | decide | (refine Eq.trans (hK_X _) ?_; assumption) | fail) only [gB, I_all, zK_v, zK_n, true_and, and_true, Nat.reduceAdd, Nat.reduceMul, Nat.reduceSub, z_lt, z_le, z_neq, not_false_eq_true, or_true, true_or, or_false, false_or, false_and, and_false, gX0_comes]
          exact q1
        · rw [if_pos cy] at heq
          have cI := Int32.le_iff_toInt_le.mp cy
          have G2 := gOk_ha O Gσ hnx (by omega) hUb
          have V2 := vOk_ha (π := yP Y) (b := nxB σ (plN (yP Y) 1 - 1)) Vσ
          obtain ⟨OK1, hcap, htm⟩ := Gσ
          have hm2 := mu_ha O OK1 hnx (by have := htm _ hnx; omega) hcap cI
          by_cases cb : nxB σ (plN (yP Y) 1 - 1) = b
          · by_cases cf : fl = true
            · rw [if_pos ⟨cb, hfl.mp cf⟩] at heq
              have q1 := fin f2 W2 SM2 _ heq
              subst cf
              rw [cb]
              simp (disch := first | assumption | omega | decide | (refine Eq.trans (hK_X _) ?_; assumption) | fail) only [gB, I_all, zK_v, zK_n, true_and, and_true, Nat.reduceAdd, Nat.reduceMul, Nat.reduceSub, z_lt, z_le, z_neq, not_false_eq_true, or_true, true_or, or_false, false_or, false_and, and_false, gX0_comes, boI, if_true]
              exact q1
            · rw [if_neg (fun z => cf (hfl.mpr z.2))] at heq
              have i1 := ih m _ f2 W2 SM2 (some (.int (boI fl))) (some (.int (bF σ b 2))) (some (.ref (bu (plN (yP Y) 0) (hN h) (nxB σ (plN (yP Y) 1 - 1))))) G2 V2 C2 q2 (by omega) heq
              have cf' : fl = false := by cases fl; rfl; exact absurd rfl cf
              subst cf'
              rw [cb] at *
              simp (disch := first | assumption | omega | decide | (refine Eq.trans (hK_X _) ?_; assumption) | fail) only [gB, I_all, zK_v, zK_n, true_and, and_true, Nat.reduceAdd, Nat.reduceMul, Nat.reduceSub, z_lt, z_le, z_neq, not_false_eq_true, or_true, true_or, or_false, false_or, false_and, and_false, gX0_comes, boI, if_false, Bool.false_eq_true]
              exact i1
          · rw [if_neg (fun z => cb z.1)] at heq
            have i1 := ih m _ f2 W2 SM2 (some (.int (boI fl))) (some (.int (bF σ b 2))) (some (.ref (bu (plN (yP Y) 0) (hN h) (nxB σ (plN (yP Y) 1 - 1))))) G2 V2 C2 q2 (by omega) heq
            have hne : ¬ bu (plN (yP Y) 0) (hN h) (nxB σ (plN (yP Y) 1 - 1)) = bu (plN (yP Y) 0) (hN h) b := fun e => cb (by unfold bu at e; omega)
            have hne' : ¬ bu (plN (yP Y) 0) (hN h) b = bu (plN (yP Y) 0) (hN h) (nxB σ (plN (yP Y) 1 - 1)) := fun e => hne e.symm
            simp (disch := first | assumption | omega | decide | (refine Eq.trans (hK_X _) ?_; assumption) | fail) only [gB, I_all, zK_v, zK_n, true_and, and_true, Nat.reduceAdd, Nat.reduceMul, Nat.reduceSub, z_lt, z_le, z_neq, not_false_eq_true, or_true, true_or, or_false, false_or, false_and, and_false, gX0_comes]
            exact i1
      simp (disch := first | assumption | omega | decide | (refine Eq.trans (hK_X _) ?_; assumption) | fail) only [gB, I_all, zK_v, zK_n, true_and, and_true, Nat.reduceAdd, Nat.reduceMul, Nat.reduceSub, z_lt, z_le, z_neq, not_false_eq_true, or_true, true_or, or_false, false_or, false_and, and_false, gX0_comes_h]
      by_cases c1 : 2 ≤ st
      · simp only [if_pos c1] at ea
        have e0 := ev false ⟨fun z => (by cases z), fun z => absurd c1 z.1⟩
        simp (disch := first | assumption | omega | decide | (refine Eq.trans (hK_X _) ?_; assumption) | fail) only [gB, I_all, zK_v, zK_n, true_and, and_true, Nat.reduceAdd, Nat.reduceMul, Nat.reduceSub, z_lt, z_le, z_neq, not_false_eq_true, or_true, true_or, or_false, false_or, false_and, and_false, gX0_comes, hK_hQ, hK_X, kb, ka, ea, v62, x1, x3, na, n23]
        rw [← ht']
        exact e0
      · simp only [if_neg c1] at ea
        by_cases c3 : sp = t
        · have e0 := ev true ⟨fun _ => ⟨c1, c3⟩, fun _ => rfl⟩
          simp (disch := first | assumption | omega | decide | (refine Eq.trans (hK_X _) ?_; assumption) | fail) only [gB, I_all, zK_v, zK_n, true_and, and_true, Nat.reduceAdd, Nat.reduceMul, Nat.reduceSub, z_lt, z_le, z_neq, not_false_eq_true, or_true, true_or, or_false, false_or, false_and, and_false, gX0_comes, hK_hQ, hK_X, kb, ka, ea, v61, v62, x1, x3, na, n23]
          rw [← ht']
          exact e0
        · have e0 := ev false ⟨fun z => (by cases z), fun z => absurd z.2 c3⟩
          simp (disch := first | assumption | omega | decide | (refine Eq.trans (hK_X _) ?_; assumption) | fail) only [gB, I_all, zK_v, zK_n, true_and, and_true, Nat.reduceAdd, Nat.reduceMul, Nat.reduceSub, z_lt, z_le, z_neq, not_false_eq_true, or_true, true_or, or_false, false_or, false_and, and_false, gX0_comes, hK_hQ, hK_X, kb, ka, ea, v61, v62, x1, x3, na, n23]
          rw [← ht']
          exact e0
  have hbig : mu t'.toInt (yS Y) (plN (yP Y) 1) < big := by
    have := mu_big t'.toInt (by omega) (yS Y) (plN (yP Y) 1)
    unfold big
    omega
  have l0 := lp big 0 (yS Y) f W SM none none none Gk V C qi hbig rfl
  have Fr := cRf (ZS_q Z f).1 (ZS_q Z f).2.2.2.2.1
  have Fe := cE (ZS_q Z f).1 (ZS_q Z f).2.2.2.2.1
  have hbu : bu (plN (yP Y) 0) (hN h) b = hN h + (15 + 8 * plN (yP Y) 0 + 5 * b) := rfl
  rw [hbu] at l0
  simp (disch := first | assumption | omega | decide | (refine Eq.trans (hK_X _) ?_; assumption) | fail) only [gB, I_all, zK_v, zK_n, true_and, and_true, Nat.reduceAdd, Nat.reduceMul, Nat.reduceSub, z_lt, z_le, z_neq, not_false_eq_true, or_true, true_or, or_false, false_or, false_and, and_false, gX0_comes, hK_hQ, hL_hQ, hK_X, hL_X, ka, k14, l14, Fr, Fe]
  exact l0
end
