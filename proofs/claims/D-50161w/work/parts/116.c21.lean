/-! the component: an event; time passes -/
theorem vOk_ha {π : Pl} {σ : Sg} {b : Nat} (V : vOk σ) : vOk (sHa π σ b).1 := by
  refine vOk_cg V (fun j h1 h2 => sHa_N _ _ _ _ (by unfold nSm; omega)) fun k => ?_
  by_cases e : k = b
  · subst e
    have l2 : ∀ (τ : Sg) (s : Nat) (t g : Int32), bF (sL2 τ k s t g) k 5 = bF τ k 5 ∨ bF (sL2 τ k s t g) k 5 = Int32.ofNat 0 ∨ bF (sL2 τ k s t g) k 5 = Int32.ofNat 1 := fun τ s t g => by
      unfold sL2
      split
      · exact Or.inr (Or.inr (sBs_Fe τ k 5 (Int32.ofNat 1)))
      · split
        · exact Or.inr (Or.inl (sBs_Fe τ k 5 (Int32.ofNat 0)))
        · exact Or.inl rfl
    have l3 : ∀ (τ : Sg) (s : Nat) (t g : Int32) (c : Nat), c = 5 ∨ c = 8 → bF (sL3 π τ k s t g) k c = bF τ k c := fun τ s t g c hc => by
      unfold sL3
      rw [sGo_F _ _ _ _ _ _ (by omega) (by omega) (by omega), sBs_Fc _ _ _ _ (by omega), sBs_Fc _ _ _ _ (by omega)]
      rfl
    have le : ∀ (τ : Sg) (t : Int32), (bF (sLe π τ k t) k 5 = bF τ k 5 ∨ bF (sLe π τ k t) k 5 = Int32.ofNat 0 ∨ bF (sLe π τ k t) k 5 = Int32.ofNat 1) ∧ bF (sLe π τ k t) k 8 = bF τ k 8 := fun τ t => by
      rw [sLe_eq, l3 _ _ _ _ 5 (Or.inl rfl), l3 _ _ _ _ 8 (Or.inr rfl)]
      have a1 : ∀ c, c ≠ 9 → bF (sL1 π (sL0 π τ k t) k (bI τ k 1) t) k c = bF τ k c := fun c hc => by
        show (sB (sL1 π (sL0 π τ k t) k (bI τ k 1) t) k).1 c = _
        rw [sL1_F]
        exact sL0_F _ _ _ _ _ _ hc
      refine ⟨?_, ?_⟩
      · have := l2 (sL1 π (sL0 π τ k t) k (bI τ k 1) t) (bI τ k 1) t (gapO (sL1 π (sL0 π τ k t) k (bI τ k 1) t) (bI τ k 1) t)
        rw [a1 5 (by omega)] at this
        exact this
      · rw [sL2_F _ _ _ _ _ _ _ (by omega), a1 8 (by omega)]
    unfold sHa
    dsimp only
    split
    · show (bF (sRe π σ k _) k 5 = _ ∨ _) ∧ (bF (sRe π σ k _) k 8 = _ ∨ _)
      rw [sRe_eq]
      split
      · obtain ⟨g1, g2⟩ := le (sR1 σ k (sRh π σ k (bF σ k 2)) (sRw π σ k (bF σ k 2))) (bF σ k 2)
        rw [sR1_F _ _ _ _ _ _ (by decide) (by decide)] at g1 g2
        exact ⟨g1, Or.inl g2⟩
      · have g : ∀ c, c = 5 ∨ c = 8 → bF (sR2 (sR1 σ k (sRh π σ k (bF σ k 2)) (sRw π σ k (bF σ k 2))) k (bI σ k 1) (bF σ k 2) (sRh π σ k (bF σ k 2))) k c = bF σ k c := fun c hc => by
          unfold sR2
          show bF (sBs (sBs _ k 0 _) k 2 _) k c = _
          rw [sBs_Fc _ _ _ _ (by omega), sBs_Fc _ _ _ _ (by omega)]
          exact sR1_F _ _ _ _ _ _ (by omega) (by omega)
        exact ⟨Or.inl (g 5 (Or.inl rfl)), Or.inl (g 8 (Or.inr rfl))⟩
    · split
      · obtain ⟨g1, g2⟩ := le σ (bF σ k 2)
        exact ⟨g1, Or.inl g2⟩
      · show (bF (sCo π σ k _).1 k 5 = _ ∨ _) ∧ (bF (sCo π σ k _).1 k 8 = _ ∨ _)
        rw [sCo_eq]
        split
        · have g : ∀ c, c = 5 ∨ c = 8 → bF (sCs π (sC0 π σ k (bF σ k 2)) k (bF σ k 2)) k c = if c = 8 then Int32.ofNat 0 else bF σ k c := fun c hc => by
            unfold sCs
            rw [sGo_F _ _ _ _ _ _ (by omega) (by omega) (by omega)]
            show bF (sBs _ k 8 _) k c = _
            by_cases h8 : c = 8
            · rw [if_pos h8, h8, sBs_Fe]
            · rw [if_neg h8, sBs_Fc _ _ _ _ h8]
              exact sC0_F _ _ _ _ _ _ (by omega)
          exact ⟨Or.inl (g 5 (Or.inl rfl)), Or.inr (Or.inl (g 8 (Or.inr rfl)))⟩
        · dsimp only
          have g : ∀ c, c = 5 ∨ c = 8 → ∀ x y : Nat, bF (sCu (sCt π (sBo π (sAl (sC0 π σ k (bF σ k 2)) k (bI σ k 1) (bF σ k 2)).1 k (bI σ k 1) (bF σ k 2)).1 k (bF σ k 2) x y) k (bI σ k 1) (bF σ k 2)) k c = bF σ k c := fun c hc x y => by
            have a1 : ∀ τ : Sg, bF (sCu τ k (bI σ k 1) (bF σ k 2)) k c = bF τ k c := fun τ => by
              unfold sCu
              split <;> rfl
            rw [a1]
            unfold sCt
            rw [sBs_Fc _ _ _ _ (by omega), sBs_Fc _ _ _ _ (by omega), sBo_F _ _ _ _ _ _ _ (by omega), sAl_F]
            exact sC0_F _ _ _ _ _ _ (by omega)
          exact ⟨Or.inl (g 5 (Or.inl rfl) _ _), Or.inl (g 8 (Or.inr rfl) _ _)⟩
  · exact ⟨Or.inl (sHa_Fn _ _ _ e), Or.inl (sHa_Fn _ _ _ e)⟩
section
variable {κ : zC} {h : zH} {a n p q0 q K cap S B : Nat} {ct : Nat → Nat} {π : Pl} {A : Nat → Nat → Nat} {W W' : Nat → Nat → Int32} {SM : Nat → Nat → Int64} {Q : zQ} {σ : Sg} {f : Nat → Value}
theorem QI_nx (O : pOk π) (qi : QI (plN π 0) σ a f W (plN π 1) (fun x => x < plN π 1)) : f 0 = .ref (bu (plN π 0) a (nxB σ (plN π 1 - 1))) := by
  obtain ⟨-, F, hf, hQ, hH⟩ := qi
  have hB := O.2.1.1
  rw [hf 0 (by omega), HP_nx hH hQ (by omega)]
theorem e3_event {t : Int32} {U : Int} (Z : ZS κ h a n p π A q0 q) (C : CAt π W SM σ) (G : gOk π σ U) (V : vOk σ) (qi : QI (plN π 0) σ a f W (plN π 1) (fun x => x < plN π 1)) (hU : U ≤ 1073741400)
    (hno : t < bF σ (nxB σ (plN π 1 - 1)) 2 → Q (.inl (some .null)) (hX (hQ h a f) a n W SM))
    (hyes : bF σ (nxB σ (plN π 1 - 1)) 2 ≤ t → ∀ f' W' SM', CAt π W' SM' (sHa π σ (nxB σ (plN π 1 - 1))).1 → QI (plN π 0) (sHa π σ (nxB σ (plN π 1 - 1))).1 a f' W' (plN π 1) (fun x => x < plN π 1) → Q (.inl (some (.ref (bu (plN π 0) a (nxB σ (plN π 1 - 1)))))) (hX (hQ h a f') a n W' SM')) :
    Ev κ mX3_event [.ref a, .int t] (hX (hQ h a f) a n W SM) Q := by
  have Zq := ZSQ Z
  have X := qX Zq
  have ka : hK h a = 103 := Z.1.1.2.1
  have O := Z.2.2.1
  have hB := O.2.1
  have hb : nxB σ (plN π 1 - 1) < plN π 1 := by have := nxB_lt σ (plN π 1 - 1); omega
  have e0 := QI_nx O qi
  obtain ⟨OK, hc, htm⟩ := G
  generalize hbb : nxB σ (plN π 1 - 1) = b at *
  have tb := htm b hb
  have v0 := qV (W := W) (SM := SM) Zq e0
  have kb : hK h (bu (plN π 0) a b) = 106 := bK Zq hb
  have Zf := ZS_q Z f
  have B := bX (cBu Zf.1 Z.2.2.2.2.1 hb).1
  have Ff := cF Zf.1 Z.2.2.2.2.1
  have Fr := fun f => cRf (ZS_q Z f).1 Z.2.2.2.2.1
  have w2 : W (15 + 8 * plN π 0 + 5 * b) 62 = bF σ b 2 := (C.2.2.2.2.1 b hb).2.1.2.2.1
  have b2 : hV (hX (hQ h a f) a n W SM) (bu (plN π 0) a b) 62 = .int (bF σ b 2) := by
    unfold bu
    rw [B.2.1 W SM 62 (by omega) (by omega), w2]
  have ep : ∀ (Q : zQ), Ev κ mJ19_peek [.ref (a + 5)] (hX (hQ h a f) a n W SM) Q = Q (.inl (some (.ref (bu (plN π 0) a b)))) (hX (hQ h a f) a n W SM) := fun Q => by
    simp (disch := first | assumption | omega | decide | (refine Eq.trans (hK_X _) ?_; assumption) | fail) only [gB, I_all, zK_v, zK_n, true_and, and_true, Nat.reduceAdd, Nat.reduceMul, Nat.reduceSub, z_lt, z_le, z_neq, not_false_eq_true, or_true, true_or, or_false, false_or, false_and, and_false, gJ19_peek, X, v0]
  by_cases c : t < bF σ b 2
  · have c' : ¬ bF σ b 2 ≤ t := Int32.not_le.mpr c
    have := hno c
    simp (disch := first | assumption | omega | decide | (refine Eq.trans (hK_X _) ?_; assumption) | fail) only [gB, I_all, zK_v, zK_n, true_and, and_true, Nat.reduceAdd, Nat.reduceMul, Nat.reduceSub, z_lt, z_le, z_neq, not_false_eq_true, or_true, true_or, or_false, false_or, false_and, and_false, gX3_event, X, ka, Ff, Fr, ep, kb, zCs, b2]
    exact this
  · have c' : bF σ b 2 ≤ t := Int32.not_lt.mp c
    have hy := hyes c'
    have hs1 : plN π 1 - 1 + 1 = plN π 1 := by omega
    simp (disch := first | assumption | omega | decide | (refine Eq.trans (hK_X _) ?_; assumption) | fail) only [gB, I_all, zK_v, zK_n, true_and, and_true, Nat.reduceAdd, Nat.reduceMul, Nat.reduceSub, z_lt, z_le, z_neq, not_false_eq_true, or_true, true_or, or_false, false_or, false_and, and_false, gX3_event, X, ka, Ff, Fr, ep, kb, zCs, b2]
    refine e18_remove (m := plN π 1 - 1) (P := fun x => x < plN π 1) (x := b) Zq (CAt_TB C) (by omega) (by rw [hs1]; exact qi) (fun y hy => hy) e0 hb fun f1 W1 d1 q1 => ?_
    have C1 := CAt_5 C d1
    simp (disch := first | assumption | omega | decide | (refine Eq.trans (hK_X _) ?_; assumption) | fail) only [gB, I_all, zK_v, zK_n, true_and, and_true, Nat.reduceAdd, Nat.reduceMul, Nat.reduceSub, z_lt, z_le, z_neq, not_false_eq_true, or_true, true_or, or_false, false_or, false_and, and_false, gX3_event, X, ka, Ff, Fr]
    refine e3_happen (ZS_q Z f1) C1 OK V hb (by omega) hc.1 fun W2 SM2 C2 K2 => ?_
    have q2 : QI (plN π 0) (sHa π σ b).1 a f1 W2 (plN π 1 - 1) (fun y => y < plN π 1 ∧ y ≠ b) := by
      obtain ⟨s1, F, hf, hQ, hH⟩ := q1
      refine ⟨(K2 171).trans s1, F, hf, hQ, HP_cg hH fun i hi => sHa_Fn _ _ _ (hQ.1 i hi).2⟩
    simp (disch := first | assumption | omega | decide | (refine Eq.trans (hK_X _) ?_; assumption) | fail) only [gB, I_all, zK_v, zK_n, true_and, and_true, Nat.reduceAdd, Nat.reduceMul, Nat.reduceSub, z_lt, z_le, z_neq, not_false_eq_true, or_true, true_or, or_false, false_or, false_and, and_false, gX3_event, X, ka, Ff, Fr]
    refine e19_add (m := plN π 1 - 1) (P := fun y => y < plN π 1 ∧ y ≠ b) Zq (CAt_TB C2) hb (by omega) q2 (fun y hy => hy.1) (fun x => x.2 rfl) fun f3 W3 d3 q3 => ?_
    have C3 := CAt_5 C2 d3
    have q4 : QI (plN π 0) (sHa π σ b).1 a f3 W3 (plN π 1) (fun x => x < plN π 1) := by
      obtain ⟨s1, F, hf, hQ, hH⟩ := q3
      rw [hs1] at s1 hf hQ hH
      exact ⟨s1, F, hf, QP_cg hQ fun x => ⟨fun y => y.elim (fun y => y.1) (fun y => by rw [y]; exact hb), fun y => by
        by_cases e : x = b
        · exact Or.inr e
        · exact Or.inl ⟨y, e⟩⟩, hH⟩
    simp (disch := first | assumption | omega | decide | (refine Eq.trans (hK_X _) ?_; assumption) | fail) only [gB, I_all, zK_v, zK_n, true_and, and_true, Nat.reduceAdd, Nat.reduceMul, Nat.reduceSub, z_lt, z_le, z_neq, not_false_eq_true, or_true, true_or, or_false, false_or, false_and, and_false, gX3_event, X, ka, Ff, Fr]
    exact hy _ _ _ C3 q4
theorem QI_cg {σ' : Sg} {m : Nat} {P : Nat → Prop} (qi : QI S σ a f W m P) (e5 : W' 5 171 = W 5 171) (eF : ∀ b, bF σ' b 2 = bF σ b 2)   : QI S σ' a f W' m P := by
  obtain ⟨s1, F, hf, hQ, hH⟩ := qi
  exact ⟨e5.trans s1, F, hf, hQ, HP_cg hH fun i _ => eF _⟩
theorem e3_pass {x : Int32} {U : Int} (Z : ZS κ h a n p π A q0 q) (C : CAt π W SM σ) (G : gOk π σ U) (V : vOk σ) (qi : QI (plN π 0) σ a f W (plN π 1) (fun x => x < plN π 1)) (ht : (sN σ 0 + x).toInt + 1400 ≤ U) (hU : U ≤ 1073741400)
    (hq : ∀ f' W' SM', CAt π W' SM' (sPa π σ (sN σ 0 + x)).1 → QI (plN π 0) (sPa π σ (sN σ 0 + x)).1 a f' W' (plN π 1) (fun x => x < plN π 1) → Q (.inl (some (.ref a))) (hX (hQ h a f') a n W' SM')) :
    Ev κ mX3_pass [.ref a, .int x] (hX (hQ h a f) a n W SM) Q := by
  have Zq := ZSQ Z
  have X := qX Zq
  have ka : hK h a = 103 := Z.1.1.2.1
  have O := Z.2.2.1
  have hns := O.1.2
  have hnb := O.2.1
  have F := fun f => cF (ZS_q Z f).1 Z.2.2.2.2.1
  have w0 : W 0 23 = sN σ 0 := C.1.1.1
  have hT : ∃ t, t = sN σ 0 + x := ⟨_, rfl⟩
  obtain ⟨t, hT⟩ := hT
  rw [← hT] at ht hq
  -- all that come at the end
  have lp2 : ∀ (d i : Nat) (σ1 : Sg) (f1 : Nat → Value) (W1 : Nat → Nat → Int32) (SM1 : Nat → Nat → Int64), i + d = plN π 0 → sOk π σ1 → CAt π W1 SM1 (sBa π t i σ1) → QI (plN π 0) (sBa π t i σ1) a f1 W1 (plN π 1) (fun x => x < plN π 1) →
      (∀ f' W' SM', CAt π W' SM' (vN (sBa π t (plN π 0) σ1) (zu (sN (sBa π t (plN π 0) σ1)) 0 t)) → QI (plN π 0) (vN (sBa π t (plN π 0) σ1) (zu (sN (sBa π t (plN π 0) σ1)) 0 t)) a f' W' (plN π 1) (fun x => x < plN π 1) → Q (.inl (some (.ref a))) (hX (hQ h a f') a n W' SM')) →
      Go κ mX3_pass 29 [some (.ref a), some (.int x), some (.int t), some .null, some (.int (Int32.ofNat i))] [] (hX (hQ h a f1) a n W1 SM1) Q := by
    intro d
    induction d with
    | zero =>
      intro i σ1 f1 W1 SM1 hi OK1 C1 q1 hq
      have hi' : i = plN π 0 := by omega
      subst hi'
      have es := fun (Q : zQ) => e3_stops (W := W1) (SM := SM1) (Q := Q) (ZS_q Z f1)
      have C2 := CAt_set (k := 0) (j := 23) (i := 0) C1 t (by unfold fm; omega) O.2.2.1 O.1.2
      have q2 : QI (plN π 0) (vN (sBa π t (plN π 0) σ1) (zu (sN (sBa π t (plN π 0) σ1)) 0 t)) a f1 (zv W1 0 23 t) (plN π 1) (fun x => x < plN π 1) := QI_cg q1 (zv_nx (by omega)) fun b => rfl
      have := hq _ _ _ C2 q2
      have Ff := F f1
      simp (disch := first | assumption | omega | decide | (refine Eq.trans (hK_X _) ?_; assumption) | fail) only [gB, I_all, zK_v, zK_n, true_and, and_true, Nat.reduceAdd, Nat.reduceMul, Nat.reduceSub, z_lt, z_le, z_neq, not_false_eq_true, or_true, true_or, or_false, false_or, false_and, and_false, gX3_pass_h]
      simp (disch := first | assumption | omega | decide | (refine Eq.trans (hK_X _) ?_; assumption) | fail) only [gB, I_all, zK_v, zK_n, true_and, and_true, Nat.reduceAdd, Nat.reduceMul, Nat.reduceSub, z_lt, z_le, z_neq, not_false_eq_true, or_true, true_or, or_false, false_or, false_and, and_false, gX3_pass, X, ka, Ff, es]
      exact this
    | succ d ih =>
      intro i σ1 f1 W1 SM1 hi OK1 C1 q1 hq
      have es := fun (Q : zQ) => e3_stops (W := W1) (SM := SM1) (Q := Q) (ZS_q Z f1)
      have Ff := F f1
      simp (disch := first | assumption | omega | decide | (refine Eq.trans (hK_X _) ?_; assumption) | fail) only [gB, I_all, zK_v, zK_n, true_and, and_true, Nat.reduceAdd, Nat.reduceMul, Nat.reduceSub, z_lt, z_le, z_neq, not_false_eq_true, or_true, true_or, or_false, false_or, false_and, and_false, gX3_pass_h]
      simp (disch := first | assumption | omega | decide | (refine Eq.trans (hK_X _) ?_; assumption) | fail) only [gB, I_all, zK_v, zK_n, true_and, and_true, Nat.reduceAdd, Nat.reduceMul, Nat.reduceSub, z_lt, z_le, z_neq, not_false_eq_true, or_true, true_or, or_false, false_or, false_and, and_false, gX3_pass, X, ka, Ff, es]
      refine e3_bring (s := i) (t := t) (ZS_q Z f1) C1 (sOk_ba O OK1 i (by omega)) (by omega) (by omega) fun W2 C2 K2 => ?_
      have q2 : QI (plN π 0) (sBa π t (i + 1) σ1) a f1 W2 (plN π 1) (fun x => x < plN π 1) := QI_cg q1 (K2 171) fun b => (sBr_fr π (sBa π t i σ1) i t).fF b 2
      have ih' := ih (i + 1) σ1 f1 W2 SM1 (by omega) OK1 C2 q2 hq
      simp (disch := first | assumption | omega | decide | (refine Eq.trans (hK_X _) ?_; assumption) | fail) only [gB, I_all, zK_v, zK_n, true_and, and_true, Nat.reduceAdd, Nat.reduceMul, Nat.reduceSub, z_lt, z_le, z_neq, not_false_eq_true, or_true, true_or, or_false, false_or, false_and, and_false, gX3_pass, X, ka, Ff]
      exact ih'
  have lp1 : ∀ (k m : Nat) (σ1 : Sg) (f1 : Nat → Value) (W1 : Nat → Nat → Int32) (SM1 : Nat → Nat → Int64) (R : zQ), gOk π σ1 U → vOk σ1 → CAt π W1 SM1 σ1 → QI (plN π 0) σ1 a f1 W1 (plN π 1) (fun x => x < plN π 1) → mu t.toInt σ1 (plN π 1) < k →
      (∀ f' W' SM', CAt π W' SM' (vN (sBa π t (plN π 0) (sEv π t k (σ1, m)).1) (zu (sN (sBa π t (plN π 0) (sEv π t k (σ1, m)).1)) 0 t)) → QI (plN π 0) (vN (sBa π t (plN π 0) (sEv π t k (σ1, m)).1) (zu (sN (sBa π t (plN π 0) (sEv π t k (σ1, m)).1)) 0 t)) a f' W' (plN π 1) (fun x => x < plN π 1) → Q (.inl (some (.ref a))) (hX (hQ h a f') a n W' SM')) →
      (∀ h', Go κ mX3_pass 13 [some (.ref a), some (.int x), some (.int t), some .null, none] [] h' Q → R (.inl (some .null)) h') → (∀ h' r, Go κ mX3_pass 13 [some (.ref a), some (.int x), some (.int t), some (.ref r), none] [] h' Q → R (.inl (some (.ref r))) h') →
      Ev κ mX3_event [.ref a, .int t] (hX (hQ h a f1) a n W1 SM1) R := by
    intro k
    induction k with
    | zero => intro m σ1 f1 W1 SM1 R _ _ _ _ hm; cases hm
    | succ k ih =>
      intro m σ1 f1 W1 SM1 R G1 V1 C1 q1 hm hq hn hr
      have ex : sEv π t (k + 1) (σ1, m) = if bF σ1 (nxB σ1 (plN π 1 - 1)) 2 ≤ t then sEv π t k ((sHa π σ1 (nxB σ1 (plN π 1 - 1))).1, m + (sHa π σ1 (nxB σ1 (plN π 1 - 1))).2) else (σ1, m) := rfl
      rw [ex] at hq
      have hb : nxB σ1 (plN π 1 - 1) < plN π 1 := by
        have := nxB_lt σ1 (plN π 1 - 1)
        omega
      refine e3_event Z C1 G1 V1 q1 hU (fun c => ?_) (fun c f2 W2 SM2 C2 q2 => ?_)
      · have c' : ¬ bF σ1 (nxB σ1 (plN π 1 - 1)) 2 ≤ t := Int32.not_le.mpr c
        rw [if_neg c'] at hq
        apply hn
        have := lp2 (plN π 0) 0 σ1 f1 W1 SM1 (by omega) G1.1 C1 q1 hq
        simp (disch := first | assumption | omega | decide | (refine Eq.trans (hK_X _) ?_; assumption) | fail) only [gB, I_all, zK_v, zK_n, true_and, and_true, Nat.reduceAdd, Nat.reduceMul, Nat.reduceSub, z_lt, z_le, z_neq, not_false_eq_true, or_true, true_or, or_false, false_or, false_and, and_false, gX3_pass_h]
        simp (disch := first | assumption | omega | decide | (refine Eq.trans (hK_X _) ?_; assumption) | fail) only [gB, I_all, zK_v, zK_n, true_and, and_true, Nat.reduceAdd, Nat.reduceMul, Nat.reduceSub, z_lt, z_le, z_neq, not_false_eq_true, or_true, true_or, or_false, false_or, false_and, and_false, gX3_pass]
        exact this
      · rw [if_pos c] at hq
        have cI := Int32.le_iff_toInt_le.mp c
        obtain ⟨OK1, hcap, htm⟩ := G1
        have tb := htm _ hb
        have G2 := gOk_ha O ⟨OK1, hcap, htm⟩ hb (by omega) hU
        have hm2 := mu_ha O OK1 hb (by omega) hcap cI
        have V2 := vOk_ha (π := π) (b := nxB σ1 (plN π 1 - 1)) V1
        generalize nxB σ1 (plN π 1 - 1) = b at *
        generalize sHa π σ1 b = r2 at *
        obtain ⟨σ2, n2⟩ := r2
        dsimp only at *
        apply hr
        have Ff := F f2
        have i1 := ih (m + n2) σ2 f2 W2 SM2 (zK κ mX3_pass 19 3 [some (.ref a), some (.int x), some (.int t), some (.ref (bu (plN π 0) a b)), none] [] Q) G2 V2 C2 q2 (by omega) hq (fun h' g => by
          simp (disch := first | assumption | omega | decide | (refine Eq.trans (hK_X _) ?_; assumption) | fail) only [gB, I_all, zK_v, zK_n, true_and, and_true, Nat.reduceAdd, Nat.reduceMul, Nat.reduceSub, z_lt, z_le, z_neq, not_false_eq_true, or_true, true_or, or_false, false_or, false_and, and_false, gX3_pass]
          exact g) (fun h' r g => by
          simp (disch := first | assumption | omega | decide | (refine Eq.trans (hK_X _) ?_; assumption) | fail) only [gB, I_all, zK_v, zK_n, true_and, and_true, Nat.reduceAdd, Nat.reduceMul, Nat.reduceSub, z_lt, z_le, z_neq, not_false_eq_true, or_true, true_or, or_false, false_or, false_and, and_false, gX3_pass]
          exact g)
        simp (disch := first | assumption | omega | decide | (refine Eq.trans (hK_X _) ?_; assumption) | fail) only [gB, I_all, zK_v, zK_n, true_and, and_true, Nat.reduceAdd, Nat.reduceMul, Nat.reduceSub, z_lt, z_le, z_neq, not_false_eq_true, or_true, true_or, or_false, false_or, false_and, and_false, gX3_pass_h]
        simp (disch := first | assumption | omega | decide | (refine Eq.trans (hK_X _) ?_; assumption) | fail) only [gB, I_all, zK_v, zK_n, true_and, and_true, Nat.reduceAdd, Nat.reduceMul, Nat.reduceSub, z_lt, z_le, z_neq, not_false_eq_true, or_true, true_or, or_false, false_or, false_and, and_false, gX3_pass, X, ka, Ff]
        exact i1
  have hb : mu t.toInt σ (plN π 1) < big := by
    have := mu_big t.toInt (by omega) σ (plN π 1)
    unfold big
    omega
  have l1 := lp1 big 0 σ f W SM (zK κ mX3_pass 9 3 [some (.ref a), some (.int x), some (.int t), none, none] [] Q) G V C qi hb hq (fun h' g => by
    simp (disch := first | assumption | omega | decide | (refine Eq.trans (hK_X _) ?_; assumption) | fail) only [gB, I_all, zK_v, zK_n, true_and, and_true, Nat.reduceAdd, Nat.reduceMul, Nat.reduceSub, z_lt, z_le, z_neq, not_false_eq_true, or_true, true_or, or_false, false_or, false_and, and_false, gX3_pass]
    exact g) (fun h' r g => by
    simp (disch := first | assumption | omega | decide | (refine Eq.trans (hK_X _) ?_; assumption) | fail) only [gB, I_all, zK_v, zK_n, true_and, and_true, Nat.reduceAdd, Nat.reduceMul, Nat.reduceSub, z_lt, z_le, z_neq, not_false_eq_true, or_true, true_or, or_false, false_or, false_and, and_false, gX3_pass]
    exact g)
  have Ff := F f
  simp (disch := first | assumption | omega | decide | (refine Eq.trans (hK_X _) ?_; assumption) | fail) only [gB, I_all, zK_v, zK_n, true_and, and_true, Nat.reduceAdd, Nat.reduceMul, Nat.reduceSub, z_lt, z_le, z_neq, not_false_eq_true, or_true, true_or, or_false, false_or, false_and, and_false, gX3_pass, X, ka, Ff, w0]
  rw [← hT]
  exact l1
end
