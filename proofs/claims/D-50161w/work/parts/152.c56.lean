/-! the component: nextLeft -/
section
variable {κ : zC} {h h' : zH} {g : Nat → Nat} {p q0 q a hd : Nat} {us : List Nat} {ks : Nat → Nat} {A : Nat → Nat → Nat} {Q : zQ} {Y : Sy}
theorem e0_nextLeft {s : Int32} {o : Bool} {U : Int} (I : CI κ h g Y p A q0 q a hd us ks) (Gk : gOk (yP Y) (yS Y) U) (ht : (sN (yS Y) 0 + Int32.ofNat 3600).toInt + 1400 ≤ U) (hUb : U ≤ 1073741400) (hq : OQ κ h g p A q0 q (rNl Y s o, Y) Q) : Ev κ mX0_nextLeft [.ref (g 0), .int s, .int (boI o)] h Q := by
  have I0 := I
  have Z0 := I.cx
  have Z1 := Z0
  obtain ⟨kx, vx, S, OK, V⟩ := Z0
  have N := soN S
  have O := S.1.2.2.1
  have h10 : plN (yP Y) 0 ≤ 10 := O.1.2
  have h2S := O.1.1
  have h6 : 1 ≤ plN (yP Y) 1 ∧ plN (yP Y) 1 ≤ 6 := O.2.1
  have G := I.2.2.2.2.2.2.2
  unfold rNl at hq
  by_cases c2 : ¬ btw s 0 (plN (yP Y) 0 - 1)
  · rw [if_neg c2] at hq
    have ei := fun (Q : zQ) => e0_isStopN (κ := κ) (Q := Q) Z1 c2
    have q1 := I0.nop hq
    simp (disch := first | assumption | omega | decide | (refine Eq.trans (hK_X _) ?_; assumption) | fail) only [gB, I_all, zK_v, zK_n, true_and, and_true, Nat.reduceAdd, Nat.reduceMul, Nat.reduceSub, z_lt, z_le, z_neq, not_false_eq_true, or_true, true_or, or_false, false_or, false_and, and_false, gX0_nextLeft, kx, ei]
    exact q1
  replace c2 := Decidable.of_not_not c2
  have e2 := fun (Q : zQ) => e0_isStopY (κ := κ) (Q := Q) Z1 c2
  rw [if_pos c2] at hq
  obtain ⟨t, hs, -, hsm, -⟩ := btw_nat c2
  subst hs
  rw [I_nat (by omega)] at hq
  have htS : t < plN (yP Y) 0 := by omega
  simp (disch := first | assumption | omega | decide | (refine Eq.trans (hK_X _) ?_; assumption) | fail) only [gB, I_all, zK_v, zK_n, true_and, and_true, Nat.reduceAdd, Nat.reduceMul, Nat.reduceSub, z_lt, z_le, z_neq, not_false_eq_true, or_true, true_or, or_false, false_or, false_and, and_false, gX0_nextLeft, kx, vx, N, e2]
  refine e3_copy S OK V G.2.2.2.2.1 I.2.2.2.2.2.2.1.2.1 fun h1 g1 n1 u1 S1 => ?_
  have Z := S1.1
  have ka : hK h1 (hN h) = 103 := Z.1.1.2.1
  have e := SAt_eq h1 (hN h) (15 + 8 * plN (yP Y) 0 + 5 * plN (yP Y) 1)
  have C := S1.2.1
  have qi := S1.2.2
  generalize wOf h1 (hN h) = W at *
  generalize sOf h1 (hN h) = SM at *
  generalize (fun j => hV h1 (hN h + 6) j) = f at *
  rw [e]
  obtain ⟨t', ht'⟩ : ∃ t', t' = sN (yS Y) 0 + Int32.ofNat 3600 := ⟨_, rfl⟩
  obtain ⟨was, hwas⟩ : ∃ was, was = sN (yS Y) (43 + t) := ⟨_, rfl⟩
  rw [← ht', ← hwas] at hq
  have hww : was = was := rfl
  rw [← ht'] at ht
  have hax : a < hN h := by have := I.2.2.2.2.2.2.1.2.1; omega
  have hgx : g 0 < hN h := (G.1 0 (by decide)).2
  have ext : ∀ f W SM, CI κ (hX (hQ h1 (hN h) f) (hN h) (15 + 8 * plN (yP Y) 0 + 5 * plN (yP Y) 1) W SM) g Y p A q0 q a hd us ks ∧ Ag h (hX (hQ h1 (hN h) f) (hN h) (15 + 8 * plN (yP Y) 0 + 5 * plN (yP Y) 1) W SM) 0 (hN h) := fun f W SM => by
    have o : Ag h (hX (hQ h1 (hN h) f) (hN h) (15 + 8 * plN (yP Y) 0 + 5 * plN (yP Y) 1) W SM) 0 (hN h) := g1.trans (Ag_qX (Or.inl (Nat.le_refl _)) (by omega))
    exact ⟨I0.ext o (by show hN h ≤ hN h1; omega), o⟩
  have fin : ∀ f W SM r, r = nlF (yP Y) t o was t' big (yS Y) → Q (.inl (some (.int r))) (hX (hQ h1 (hN h) f) (hN h) (15 + 8 * plN (yP Y) 0 + 5 * plN (yP Y) 1) W SM) := fun f W SM r hr => by
    subst hr
    obtain ⟨i1, i2⟩ := ext f W SM
    exact hq _ ⟨a, hd, us, ks, i1⟩ (Om_A i2 (by show hN h ≤ hN h1; omega)) (by show hN h1 ≤ _; omega) u1
  have lp : ∀ (k : Nat) (σ : Sg) (f : Nat → Value) (W : Nat → Nat → Int32) (SM : Nat → Nat → Int64), gOk (yP Y) σ U → vOk σ → CAt (yP Y) W SM σ → QI (plN (yP Y) 0) σ (hN h) f W (plN (yP Y) 1) (fun x => x < plN (yP Y) 1) → mu t'.toInt σ (plN (yP Y) 1) < k → sN σ (43 + t) = was → nlF (yP Y) t o was t' k σ = nlF (yP Y) t o was t' big (yS Y) →
      Go κ mX0_nextLeft 33 [some (.ref (g 0)), some (.int (Int32.ofNat t)), some (.int (boI o)), some (.ref (hN h)), some (.ref (hN h + (19 + 8 * t))), some (.int was)] [] (hX (hQ h1 (hN h) f) (hN h) (15 + 8 * plN (yP Y) 0 + 5 * plN (yP Y) 1) W SM) Q := by
    intro k
    induction k with
    | zero => intro σ f W SM _ _ _ _ hmu _ _; omega
    | succ k ih =>
      intro σ f W SM Gσ Vσ Cσ qσ hmu h43 heq
      have Sσ := SAt_X Z Cσ qσ
      have L := soL Sσ htS
      have l55 := L.2.2.2.2.2.1
      rw [h43] at l55
      have k105 : hK h1 (hN h + (19 + 8 * t)) = 105 := L.1
      have Ix := (ext f W SM).1
      have x1 : hK h1 (g 0) = 100 := Ix.1.1
      have x3 := Ix.1.2.2.2.2.1
      have Na := soN Ix.cx.2.2.1
      have na : hK h1 a = 103 := Na.1
      have n23 := Na.2.2.1
      have hnx : nxB σ (plN (yP Y) 1 - 1) < plN (yP Y) 1 := by
        have := nxB_lt σ (plN (yP Y) 1 - 1)
        omega
      have hs1 : nlF (yP Y) t o was t' (k + 1) σ = (if bF σ (nxB σ (plN (yP Y) 1 - 1)) 2 ≤ t' then (if sN (sHa (yP Y) σ (nxB σ (plN (yP Y) 1 - 1))).1 (43 + t) = was then nlF (yP Y) t o was t' k (sHa (yP Y) σ (nxB σ (plN (yP Y) 1 - 1))).1 else if o = true then bF σ (nxB σ (plN (yP Y) 1 - 1)) 2 else Int32.ofNat (nxB σ (plN (yP Y) 1 - 1))) else Int32.ofInt (-2)) := rfl
      rw [hs1] at heq
      have ev : Ev κ mX3_event [.ref (hN h), .int t'] (hX (hQ h1 (hN h) f) (hN h) (15 + 8 * plN (yP Y) 0 + 5 * plN (yP Y) 1) W SM) (zK κ mX0_nextLeft 55 3 [some (.ref (g 0)), some (.int (Int32.ofNat t)), some (.int (boI o)), some (.ref (hN h)), some (.ref (hN h + (19 + 8 * t))), some (.int was)] [] Q) := by
        refine e3_event Z Cσ Gσ Vσ qσ hUb (fun cn => ?_) (fun cy f2 W2 SM2 C2 q2 => ?_)
        · rw [if_neg (Int32.not_le.mpr cn)] at heq
          have q1 := fin f W SM _ heq
          simp (disch := first | assumption | omega | decide | (refine Eq.trans (hK_X _) ?_; assumption) | fail) only [gB, I_all, zK_v, zK_n, true_and, and_true, Nat.reduceAdd, Nat.reduceMul, Nat.reduceSub, z_lt, z_le, z_neq, not_false_eq_true, or_true, true_or, or_false, false_or, false_and, and_false, gX0_nextLeft]
          exact q1
        · rw [if_pos cy] at heq
          have cI := Int32.le_iff_toInt_le.mp cy
          have G2 := gOk_ha O Gσ hnx (by omega) hUb
          have V2 := vOk_ha (π := yP Y) (b := nxB σ (plN (yP Y) 1 - 1)) Vσ
          obtain ⟨OK1, hcap, htm⟩ := Gσ
          have hm2 := mu_ha O OK1 hnx (by have := htm _ hnx; omega) hcap cI
          have h43' := sHa_43 O OK1 hnx (s := t) (by omega)
          have S2 := SAt_X Z C2 q2
          by_cases c3 : sN (sHa (yP Y) σ (nxB σ (plN (yP Y) 1 - 1))).1 (43 + t) = was
          · rw [if_pos c3] at heq
            have i1 := ih _ f2 W2 SM2 G2 V2 C2 q2 (by omega) c3 heq
            simp (disch := first | assumption | omega | decide | (refine Eq.trans (hK_X _) ?_; assumption) | fail) only [gB, I_all, zK_v, zK_n, true_and, and_true, Nat.reduceAdd, Nat.reduceMul, Nat.reduceSub, z_lt, z_le, z_neq, not_false_eq_true, or_true, true_or, or_false, false_or, false_and, and_false, gX0_nextLeft]
            exact i1
          · rw [if_neg c3] at heq
            obtain ⟨l, gg, hl⟩ := h43'.resolve_left (fun e => c3 (e.trans h43))
            have L2 := soL S2 htS
            have r0 : (sL (sHa (yP Y) σ (nxB σ (plN (yP Y) 1 - 1))).1 t).reverse[0]? = some (nxB σ (plN (yP Y) 1 - 1), bF σ (nxB σ (plN (yP Y) 1 - 1)) 2, gg) := by
              rw [hl, List.reverse_append]
              rfl
            obtain ⟨v1, v2, -⟩ := L2.2.2.2.2.2.2.2.2.2.2.2.2.2 0 _ r0
            dsimp only at v1 v2
            have l55' := L2.2.2.2.2.2.1
            have l51 := L2.2.1
            have l52 := L2.2.2.1
            have kk1 : hK h1 (hN h + (19 + 8 * t + 1)) = 1 := L2.2.2.2.2.2.2.2.1
            have kk2 : hK h1 (hN h + (19 + 8 * t + 2)) = 1 := L2.2.2.2.2.2.2.2.2.1
            have ll1 : hL h1 (hN h + (19 + 8 * t + 1)) = 8 := L2.2.2.2.2.2.2.2.2.2.2.1
            have ll2 : hL h1 (hN h + (19 + 8 * t + 2)) = 8 := L2.2.2.2.2.2.2.2.2.2.2.2.1
            have q1 := fin f2 W2 SM2 _ heq
            cases o with
            | true =>
              rw [if_pos rfl] at q1
              simp (disch := first | assumption | omega | decide | (refine Eq.trans (hK_X _) ?_; assumption) | fail) only [gB, I_all, zK_v, zK_n, true_and, and_true, Nat.reduceAdd, Nat.reduceMul, Nat.reduceSub, z_lt, z_le, z_neq, not_false_eq_true, or_true, true_or, or_false, false_or, false_and, and_false, gX0_nextLeft, gX0_nextLeft_h, hK_hQ, hL_hQ, hK_X, hL_X, k105, l55', l51, l52, kk1, kk2, ll1, ll2, v1, v2, boI, if_true]
              exact q1
            | false =>
              rw [if_neg (by decide)] at q1
              simp (disch := first | assumption | omega | decide | (refine Eq.trans (hK_X _) ?_; assumption) | fail) only [gB, I_all, zK_v, zK_n, true_and, and_true, Nat.reduceAdd, Nat.reduceMul, Nat.reduceSub, z_lt, z_le, z_neq, not_false_eq_true, or_true, true_or, or_false, false_or, false_and, and_false, gX0_nextLeft, gX0_nextLeft_h, hK_hQ, hL_hQ, hK_X, hL_X, k105, l55', l51, l52, kk1, kk2, ll1, ll2, v1, v2, boI, if_false, Bool.false_eq_true]
              exact q1
      simp (disch := first | assumption | omega | decide | (refine Eq.trans (hK_X _) ?_; assumption) | fail) only [gB, I_all, zK_v, zK_n, true_and, and_true, Nat.reduceAdd, Nat.reduceMul, Nat.reduceSub, z_lt, z_le, z_neq, not_false_eq_true, or_true, true_or, or_false, false_or, false_and, and_false, gX0_nextLeft_h]
      simp (disch := first | assumption | omega | decide | (refine Eq.trans (hK_X _) ?_; assumption) | fail) only [gB, I_all, zK_v, zK_n, true_and, and_true, Nat.reduceAdd, Nat.reduceMul, Nat.reduceSub, z_lt, z_le, z_neq, not_false_eq_true, or_true, true_or, or_false, false_or, false_and, and_false, gX0_nextLeft, hK_hQ, hK_X, k105, ka, l55, x1, x3, na, n23]
      rw [← ht']
      exact ev
  have hbig : mu t'.toInt (yS Y) (plN (yP Y) 1) < big := by
    have := mu_big t'.toInt (by omega) (yS Y) (plN (yP Y) 1)
    unfold big
    omega
  have l0 := lp big (yS Y) f W SM Gk V C qi hbig hwas.symm rfl
  have S0 := SAt_X Z C qi
  have R := soR S0
  have L := soL S0 htS
  have l55 := L.2.2.2.2.2.1
  rw [← hwas] at l55
  have k105 : hK h1 (hN h + (19 + 8 * t)) = 105 := L.1
  have k4 : hK h1 (hN h + 4) = 12 := (Z.1.2.1 (4, 37, 12, 10) (by decide)).2.1
  have l4 : hL h1 (hN h + 4) = 10 := (Z.1.2.1 (4, 37, 12, 10) (by decide)).2.2
  simp (disch := first | assumption | omega | decide | (refine Eq.trans (hK_X _) ?_; assumption) | fail) only [gB, I_all, zK_v, zK_n, true_and, and_true, Nat.reduceAdd, Nat.reduceMul, Nat.reduceSub, z_lt, z_le, z_neq, not_false_eq_true, or_true, true_or, or_false, false_or, false_and, and_false, gX0_nextLeft, hK_hQ, hL_hQ, hK_X, hL_X, ka, k4, l4, k105, l55, R]
  exact l0
end
