/-! events, a pass: the invariant is kept (no program in sight) -/
section
variable {π : Pl} {T : Int32} {D : Nat} {c0 C L t U : Int} {K1 K2 : Nat} {σ σ' : Sg} {n : Nat}
theorem i_0le {g : Int32} (h : Int32.ofNat 0 ≤ g) : 0 ≤ g.toInt := by
  have := Int32.le_iff_toInt_le.mp h
  have e : (Int32.ofNat 0).toInt = 0 := by decide
  omega
theorem Vw_no (σ : Sg) {b s : Nat} {u g : Int32} (hs : s < 10) : Vw σ (sNo σ b s u g) := ⟨rfl, fun _ => rfl, rfl, fun f hf => by
  show inc (zu (sN σ) (33 + s) u) (43 + s) (63 + f) = _
  unfold inc
  rw [zu_ne _ _ (by omega), zu_ne _ _ (by omega)]⟩
theorem PV_le (O : pOk π) (OK : sOk π σ) (H : PH T D c0 C K2 L) {b : Nat} {u : Int32} (hb : b < plN π 1) (hs : bI σ b 1 < 10) (hu : u.toInt ≤ T.toInt) (h0 : 0 ≤ u.toInt) (P : PV π T D c0 C K1 K2 L u.toInt σ n) : PV π T D c0 C K1 K2 L u.toInt (sLe π σ b u) n := by
  rw [sLe_eq]
  have h6 : b < 6 := Nat.lt_of_lt_of_le hb O.2.1.2
  have h16 := O.2.2.1
  have P0 : PV π T D c0 C K1 K2 L u.toInt (sL0 π σ b u) n := PV_bo h16 H hs h6 hu (PV_br O H hs hu P)
  have OK0 : sOk π (sL0 π σ b u) := sOk_bo O (sOk_br O OK hs) hb hs
  have len := (OK0.1 _ hs).1
  generalize sL0 π σ b u = τ at *
  generalize bI σ b 1 = s at *
  have P1 : PV π T D c0 C K1 K2 L u.toInt (sL1 π τ b s u) n := by
    unfold sL1
    split
    · exact P0.vw h16 (Vw_te _ _ _ _ _ _) (lOk_te P0.2.2.2.2 h0 (by rw [I_toInt (by omega)]; omega))
    · exact P0
  generalize gapO (sL1 π τ b s u) s u = g
  generalize sL1 π τ b s u = τ1 at *
  have P2 : PV π T D c0 C K1 K2 L u.toInt (sL2 τ1 b s u g) n := by
    unfold sL2
    split
    · next c => exact P1.vw h16 (((Vw_bs τ1 b 5 _).trans (Vw_n fun g hg => zu_ne _ _ (by omega))).trans (Vw_te _ _ _ _ _ _)) (lOk_te (lOk_cg P1.2.2.2.2 rfl) h0 (i_0le c.1))
    · split
      · next c => exact P1.vw h16 (((Vw_bs τ1 b 5 _).trans (Vw_n fun g hg => zu_ne _ _ (by omega))).trans (Vw_te _ _ _ _ _ _)) (lOk_te (lOk_cg P1.2.2.2.2 rfl) h0 (i_0le c.1))
      · exact P1
  generalize sL2 τ1 b s u g = τ2 at *
  exact P2.vw h16 ((((Vw_no τ2 hs).trans (Vw_bs _ _ _ _)).trans (Vw_bs _ _ _ _)).trans (Vw_go _ _ _ _)) (lOk_cg P2.2.2.2.2 rfl)
theorem PV_c0 (O : pOk π) (H : PH T D c0 C K2 L) {b : Nat} {u : Int32} (hs : bI σ b 1 < 10) (hu : u.toInt ≤ T.toInt) (P : PV π T D c0 C K1 K2 L u.toInt σ n) : PV π T D c0 C K1 K2 L u.toInt (sC0 π σ b u) n := by
  unfold sC0
  refine PV_br O H hs hu ?_
  split
  · exact P.vw O.2.2.1 (Vw_bs _ _ _ _) (lOk_cg P.2.2.2.2 rfl)
  · exact P
theorem PV_cs (h16 : plN π 2 ≤ 16) {b : Nat} {u : Int32} (P : PV π T D c0 C K1 K2 L t σ n) : PV π T D c0 C K1 K2 L t (sCs π σ b u) n := by
  have v1 : Vw σ (sBs σ b 8 (Int32.ofNat 0)) := Vw_bs σ b 8 _
  have v2 : Vw (sBs σ b 8 (Int32.ofNat 0)) (vN (sBs σ b 8 (Int32.ofNat 0)) (inc (sN (sBs σ b 8 (Int32.ofNat 0))) 11)) := Vw_n fun g hg => zu_ne _ _ (by omega)
  unfold sCs
  exact P.vw h16 ((v1.trans v2).trans (Vw_go π _ b u)) (lOk_cg P.2.2.2.2 rfl)
theorem PV_ct (h16 : plN π 2 ≤ 16) {b k m : Nat} {u : Int32} (P : PV π T D c0 C K1 K2 L t σ n) : PV π T D c0 C K1 K2 L t (sCt π σ b u k m) n := by
  unfold sCt
  exact P.vw h16 ((Vw_bs σ b 0 _).trans (Vw_bs _ b 2 _)) (lOk_cg P.2.2.2.2 rfl)
theorem PV_cu (h16 : plN π 2 ≤ 16) {b s : Nat} {u : Int32} (h0 : 0 ≤ u.toInt) (len : (sR σ s).length ≤ 40) (P : PV π T D c0 C K1 K2 L t σ n) : PV π T D c0 C K1 K2 L t (sCu σ b s u) n := by
  unfold sCu
  split
  · have v1 : Vw σ (vN σ (zu (sN σ) 10 (sN σ 10 + Int32.ofNat (sR σ s).length))) := Vw_n fun g hg => zu_ne _ _ (by omega)
    exact P.vw h16 (v1.trans (Vw_te _ _ _ _ _ _)) (lOk_te (lOk_cg P.2.2.2.2 rfl) h0 (by rw [I_toInt (by omega)]; omega))
  · exact P
theorem sCt_R (π : Pl) (σ : Sg) (b k m : Nat) (u : Int32) : sR (sCt π σ b u k m) = sR σ := rfl
theorem PV_co (O : pOk π) (OK : sOk π σ) (H : PH T D c0 C K2 L) {b : Nat} {u : Int32} (hb : b < plN π 1) (hs : bI σ b 1 < 10) (hu : u.toInt ≤ T.toInt) (h0 : 0 ≤ u.toInt) (P : PV π T D c0 C K1 K2 L u.toInt σ n) : PV π T D c0 C K1 K2 L u.toInt (sCo π σ b u).1 (n + (sCo π σ b u).2) := by
  have h6 : b < 6 := Nat.lt_of_lt_of_le hb O.2.1.2
  have h16 := O.2.2.1
  have OK0 : sOk π (sC0 π σ b u) := sOk_c0 O OK hs
  have P0 := PV_c0 O H hs hu P
  rw [sCo_eq]
  generalize sC0 π σ b u = τ at OK0 P0 ⊢
  generalize bI σ b 1 = s at hs ⊢
  by_cases c : bF τ b 8 = Int32.ofNat 1
  · rw [if_pos c]
    exact PV_cs h16 P0
  · rw [if_neg c]
    have P1 := PV_al (s := s) (u := u) h16 h6 P0
    have OK1 : sOk π (sAl τ b s u).1 := sOk_al OK0
    generalize sAl τ b s u = a at P1 OK1 ⊢
    have P2 := PV_bo h16 H hs h6 hu P1
    have OK2 : sOk π (sBo π a.1 b s u).1 := sOk_bo O OK1 hb hs
    have len := (OK2.1 _ hs).1
    generalize sBo π a.1 b s u = q at P2 len ⊢
    exact PV_cu h16 h0 (by rw [sCt_R]; exact len) (PV_ct h16 P2)
theorem PV_re (O : pOk π) (OK : sOk π σ) (H : PH T D c0 C K2 L) {b : Nat} {u : Int32} (hb : b < plN π 1) (hs : bI σ b 1 < 10) (hu : u.toInt ≤ T.toInt) (h0 : 0 ≤ u.toInt) (hc : 0 ≤ (sN σ 3).toInt) (P : PV π T D c0 C K1 K2 L u.toInt σ n) : PV π T D c0 C K1 K2 L u.toInt (sRe π σ b u) n := by
  rw [sRe_eq]
  have h16 := O.2.2.1
  have hh : 0 ≤ (sRh π σ b u).toInt := by
    unfold sRh
    split
    · exact (heldB_b hc).1
    · decide
  generalize sRh π σ b u = v at *
  generalize sRw π σ b u = w
  have P1 : PV π T D c0 C K1 K2 L u.toInt (sR1 σ b v w) n := P.vw h16 ((Vw_bs _ _ _ _).trans (Vw_bs _ _ _ _)) (lOk_cg P.2.2.2.2 rfl)
  split
  · have hs1 : bI (sR1 σ b v w) b 1 < 10 := by
      unfold bI at *
      rw [sR1_F _ _ _ _ _ _ (by decide) (by decide)]
      exact hs
    exact PV_le O (show sOk π (sR1 σ b v w) from sOk_hw OK) H hb hs1 hu h0 P1
  · generalize sR1 σ b v w = τ at *
    generalize bI σ b 1 = s at *
    unfold sR2
    refine P1.vw h16 ((((Vw_n fun g hg => ?_).trans (Vw_bs _ _ _ _)).trans (Vw_bs _ _ _ _)).trans (Vw_te _ _ _ _ _ _)) (lOk_te (lOk_cg P1.2.2.2.2 rfl) h0 hh)
    unfold inc
    rw [zu_ne _ _ (by omega), zu_ne _ _ (by omega)]
theorem PV_ha (O : pOk π) (G : gOk π σ U) (H : PH T D c0 C K2 L) {b : Nat} (hb : b < plN π 1) (ht : t ≤ (bF σ b 2).toInt) (hu : (bF σ b 2).toInt ≤ T.toInt) (P : PV π T D c0 C K1 K2 L t σ n) : PV π T D c0 C K1 K2 L (bF σ b 2).toInt (sHa π σ b).1 (n + (sHa π σ b).2) := by
  have P' := P.mono ht
  obtain ⟨OK, hc, htm⟩ := G
  have h0 := (htm b hb).1
  have h6 : b < 6 := Nat.lt_of_lt_of_le hb O.2.1.2
  have hs : bI σ b 1 < 10 := by
    obtain ⟨st, s, q1, q2, q3, q4⟩ := bst OK hb h6
    have := O.1.2
    rw [bI_of (by omega) q4]
    omega
  unfold sHa
  dsimp only
  split
  · exact PV_re O OK H hb hs hu h0 hc.1 P'
  · split
    · exact PV_le O OK H hb hs hu h0 P'
    · exact PV_co O OK H hb hs hu h0 P'
theorem nxB_min (σ : Sg) {k b : Nat} (h : b ≤ k) : (bF σ (nxB σ k) 2).toInt ≤ (bF σ b 2).toInt := by
  have := nxB_le σ k b h
  unfold bLt at this
  by_cases c : (bF σ b 2).toInt < (bF σ (nxB σ k) 2).toInt
  · exact absurd (Or.inl (Int32.lt_iff_toInt_lt.mpr c)) this
  · omega
theorem PV_ev (O : pOk π) (H : PH T D c0 C K2 L) (hT : T.toInt + 1400 ≤ U) (hU : U ≤ 1073741400) : ∀ (k : Nat) (q : Sg × Nat) (t : Int), PV π T D c0 C K1 K2 L t q.1 q.2 → t ≤ T.toInt → gOk π q.1 U → (∀ b, b < plN π 1 → t ≤ (bF q.1 b 2).toInt) →
    PV π T D c0 C K1 K2 L T.toInt (sEv π T k q).1 (sEv π T k q).2 ∧ (mu T.toInt q.1 (plN π 1) < k → ∀ b, b < plN π 1 → T.toInt < (bF (sEv π T k q).1 b 2).toInt) := by
  intro k
  induction k with
  | zero => intro q t P ht _ _; exact ⟨P.mono ht, fun h => absurd h (Nat.not_lt_zero _)⟩
  | succ k ih =>
    intro q t P ht G hb
    have hB := O.2.1
    have hn : nxB q.1 (plN π 1 - 1) < plN π 1 := by
      have := nxB_lt q.1 (plN π 1 - 1)
      omega
    have hmin : ∀ b, b < plN π 1 → (bF q.1 (nxB q.1 (plN π 1 - 1)) 2).toInt ≤ (bF q.1 b 2).toInt := fun b hb => nxB_min q.1 (by omega)
    unfold sEv
    split
    · next c =>
      rw [Int32.le_iff_toInt_le] at c
      have P2 := PV_ha O G H hn (hb _ hn) c P
      have G2 := gOk_ha O G hn (by omega) hU
      have G' := G
      obtain ⟨OK1, hcap, htm⟩ := G'
      have hm2 := mu_ha O OK1 hn (by omega) hcap c
      have tt := sHa_t O OK1 hn (by omega) hcap
      obtain ⟨i1, i2⟩ := ih ((sHa π q.1 (nxB q.1 (plN π 1 - 1))).1, q.2 + (sHa π q.1 (nxB q.1 (plN π 1 - 1))).2) _ P2 c G2 fun b hb' => by
        by_cases e : b = nxB q.1 (plN π 1 - 1)
        · rw [e]
          exact tt.1
        · show _ ≤ (bF (sHa π q.1 (nxB q.1 (plN π 1 - 1))).1 b 2).toInt
          rw [sHa_Fn _ _ _ e]
          exact hmin b hb'
      exact ⟨i1, fun hm => i2 (by show mu T.toInt (sHa π q.1 (nxB q.1 (plN π 1 - 1))).1 (plN π 1) < k; omega)⟩
    · next c =>
      rw [Int32.le_iff_toInt_le] at c
      exact ⟨P.mono ht, fun _ b hb' => by have := hmin b hb'; omega⟩
theorem PV_ba (O : pOk π) (H : PH T D c0 C K2 L) : ∀ (k : Nat) (σ : Sg), k ≤ 10 → PV π T D c0 C K1 K2 L T.toInt σ n → PV π T D c0 C K1 K2 L T.toInt (sBa π T k σ) n := by
  intro k
  induction k with
  | zero => intro σ _ P; exact P
  | succ k ih =>
    intro σ hk P
    exact PV_br O H (by omega) (Int.le_refl _) (ih σ (by omega) P)
/-- what comes behind: later than t -/
theorem sBf_c {s : Nat} {u : Int32} (O : pOk π) (hu : u.toInt ≤ 1073741824) : ∀ (k : Nat) (σ : Sg), (∀ f, f < plN π 2 → (sN σ (63 + f)).toInt ≤ (sN (sBf π s u k σ) (63 + f)).toInt) ∧ (bMu u (sN σ) (plN π 2) < k → fnx π (sN (sBf π s u k σ)) s u (plN π 2) = none) := by
  intro k
  induction k with
  | zero => intro σ; exact ⟨fun _ _ => Int.le_refl _, fun h => absurd h (Nat.not_lt_zero _)⟩
  | succ k ih =>
    intro σ
    have h16 := O.2.2.1
    unfold sBf
    split
    · next h => exact ⟨fun _ _ => Int.le_refl _, fun _ => h⟩
    · next f hf =>
      obtain ⟨f1, f2, f3⟩ := fnx_lt hf
      obtain ⟨-, -, -, -, g5, g6, -⟩ := O.2.2.2.1 f f1
      have f3' := Int32.le_iff_toInt_le.mp f3
      have hadd : (sN σ (63 + f) + plT π 11 f).toInt = (sN σ (63 + f)).toInt + (plT π 11 f).toInt := i_add (by omega) (by omega)
      have eJ := fun g (hg : g < 16) => sJn_c σ s (plI π 10 f) (sN σ (63 + f)) f hg
      dsimp only
      rw [eJ f (by omega)]
      generalize hσ' : vN (sJn σ s (plI π 10 f) (sN σ (63 + f)) f).1 (zu (sN (sJn σ s (plI π 10 f) (sN σ (63 + f)) f).1) (63 + f) (sN σ (63 + f) + plT π 11 f)) = σ'
      have eN1 : sN σ' (63 + f) = sN σ (63 + f) + plT π 11 f := by rw [← hσ']; exact zu_eq _ _ _
      have eN2 : ∀ g, g < 16 → g ≠ f → sN σ' (63 + g) = sN σ (63 + g) := fun g hg hne => by
        rw [← hσ']
        exact (zu_ne _ _ (by omega)).trans (eJ g (by omega))
      obtain ⟨i1, i2⟩ := ih σ'
      refine ⟨fun g hg => ?_, fun hm => i2 ?_⟩
      · have := i1 g hg
        by_cases c : g = f
        · subst c
          rw [eN1, hadd] at this
          omega
        · rw [eN2 g (by omega) c] at this
          exact this
      · refine Nat.lt_of_lt_of_le (bMu_lt eN2 f3' (by rw [eN1, hadd]; omega) h16 f1) (by omega)
theorem fnx_no {m : Nat → Int32} {s : Nat} {u : Int32} : ∀ {k : Nat}, fnx π m s u k = none → ∀ f, f < k → plI π 9 f = s → ¬ m (63 + f) ≤ u := by
  intro k
  induction k with
  | zero => intro _ f hf; cases hf
  | succ k ih =>
    intro h f hf hs hle
    unfold fnx at h
    split at h
    · cases h
    · next c =>
      by_cases e : f = k
      · subst e
        apply c
        refine ⟨hs, hle, ?_⟩
        rw [h]
        rfl
      · exact ih h f (by omega) hs hle
theorem sBr_c {s : Nat} {u : Int32} (O : pOk π) (hu : u.toInt ≤ 1073741824) (σ : Sg) : (∀ f, f < plN π 2 → (sN σ (63 + f)).toInt ≤ (sN (sBr π σ s u) (63 + f)).toInt) ∧ ∀ f, f < plN π 2 → plI π 9 f = s → u.toInt < (sN (sBr π σ s u) (63 + f)).toInt := by
  have h16 := O.2.2.1
  obtain ⟨i1, i2⟩ := sBf_c (s := s) O hu big σ
  have e : ∀ f, f < plN π 2 → sN (sBr π σ s u) (63 + f) = sN (sBf π s u big σ) (63 + f) := fun f hf => incs_lo (by omega)
  have hb : bMu u (sN σ) (plN π 2) < big := by
    have := bMu_big u (sN σ) (plN π 2) h16
    unfold big
    omega
  refine ⟨fun f hf => by rw [e f hf]; exact i1 f hf, fun f hf hs => ?_⟩
  rw [e f hf]
  have := fnx_no (i2 hb) f hf hs
  rw [Int32.le_iff_toInt_le] at this
  omega
theorem sBa_c {u : Int32} (O : pOk π) (hu : u.toInt ≤ 1073741824) (σ : Sg) : ∀ k, (∀ f, f < plN π 2 → (sN σ (63 + f)).toInt ≤ (sN (sBa π u k σ) (63 + f)).toInt) ∧ ∀ f, f < plN π 2 → plI π 9 f < k → u.toInt < (sN (sBa π u k σ) (63 + f)).toInt := by
  intro k
  induction k with
  | zero => exact ⟨fun _ _ => Int.le_refl _, fun _ _ h => absurd h (Nat.not_lt_zero _)⟩
  | succ k ih =>
    obtain ⟨i1, i2⟩ := ih
    obtain ⟨b1, b2⟩ := sBr_c (s := k) O hu (sBa π u k σ)
    refine ⟨fun f hf => Int.le_trans (i1 f hf) (b1 f hf), fun f hf hlt => ?_⟩
    show _ < (sN (sBr π (sBa π u k σ) k u) (63 + f)).toInt
    by_cases c : plI π 9 f = k
    · exact b2 f hf c
    · have h1 := i2 f hf (by omega)
      have h2 := b1 f hf
      omega
end
