/-! the spec: what an event does to times and states -/
def nSm (j : Nat) : Prop := j < 6 ∨ (13 ≤ j ∧ j < 33)
theorem sBs_N (σ : Sg) (k c : Nat) (v : Int32) : sN (sBs σ k c v) = sN σ := rfl
theorem sBs_Fn (σ : Sg) {k b : Nat} (c : Nat) (v : Int32) (d : Nat) (h : ¬ b = k) : bF (sBs σ k c v) b d = bF σ b d := by rw [sBs_F, if_neg (fun x => h x.1)]
theorem sBs_Fc (σ : Sg) (k : Nat) {c : Nat} (v : Int32) (b : Nat) {d : Nat} (h : ¬ d = c) : bF (sBs σ k c v) b d = bF σ b d := by rw [sBs_F, if_neg (fun x => h x.2)]
theorem sBs_Fe (σ : Sg) (k c : Nat) (v : Int32) : bF (sBs σ k c v) k c = v := by rw [sBs_F, if_pos ⟨rfl, rfl⟩]
theorem sNo_N (σ : Sg) (b s : Nat) (t g : Int32) (j : Nat) (hj : j < 33) : sN (sNo σ b s t g) j = sN σ j := by
  show inc (zu (sN σ) (33 + s) t) (43 + s) j = _
  unfold inc
  rw [zu_ne _ _ (by omega), zu_ne _ _ (by omega)]
theorem sL0_Fn (π : Pl) (σ : Sg) {b k : Nat} (t : Int32) (c : Nat) (h : ¬ k = b) : bF (sL0 π σ b t) k c = bF σ k c := by
  unfold sL0 bF
  rw [sBo_Bn _ _ _ _ h, (sBr_fr _ _ _ _).1]
theorem sL0_F (π : Pl) (σ : Sg) (b : Nat) (t : Int32) (k c : Nat) (hc : c ≠ 9) : bF (sL0 π σ b t) k c = bF σ k c := by
  unfold sL0
  rw [sBo_F _ _ _ _ _ _ _ hc, (sBr_fr _ _ _ _).fF]
theorem sL0_N (π : Pl) (σ : Sg) (b : Nat) (t : Int32) (j : Nat) (hj : j < 63) : sN (sL0 π σ b t) j = sN σ j := by
  unfold sL0
  rw [sBo_N _ _ _ _ _ _ (by omega), (sBr_fr _ _ _ _).2.2.2.2 j hj]
theorem sL1_N (π : Pl) (σ : Sg) (b s : Nat) (t : Int32) : sN (sL1 π σ b s t) = sN σ := by
  unfold sL1
  split <;> rfl
theorem sL2_Fn (σ : Sg) {b k : Nat} (s : Nat) (t g : Int32) (c : Nat) (h : ¬ k = b) : bF (sL2 σ b s t g) k c = bF σ k c := by
  unfold sL2
  split
  · exact sBs_Fn σ 5 (Int32.ofNat 1) c h
  · split
    · exact sBs_Fn σ 5 (Int32.ofNat 0) c h
    · rfl
theorem sL2_N (σ : Sg) (b s : Nat) (t g : Int32) (j : Nat) (hj : nSm j) : sN (sL2 σ b s t g) j = sN σ j := by
  unfold nSm at hj
  unfold sL2
  split
  · show inc (sN σ) 6 j = _
    unfold inc
    rw [zu_ne _ _ (by omega)]
  · split
    · show inc (sN σ) 7 j = _
      unfold inc
      rw [zu_ne _ _ (by omega)]
    · rfl
theorem sL3_Fn (π : Pl) (σ : Sg) {b k : Nat} (s : Nat) (t g : Int32) (c : Nat) (h : ¬ k = b) : bF (sL3 π σ b s t g) k c = bF σ k c := by
  unfold sL3
  rw [sGo_Fn _ _ _ _ h, sBs_Fn _ _ _ _ h, sBs_Fn _ _ _ _ h]
  rfl
theorem sL3_F0 (π : Pl) (σ : Sg) (b s : Nat) (t g : Int32) : bF (sL3 π σ b s t g) b 0 = Int32.ofNat 1 := sGo_F0 _ _ _ _
theorem sL3_F1 (π : Pl) (σ : Sg) (b s : Nat) (t g : Int32) : bF (sL3 π σ b s t g) b 2 = t + plT π 4 (bI σ b 1) := by
  unfold sL3
  rw [sGo_F2]
  unfold bI
  rw [sBs_Fc _ _ _ _ (by decide), sBs_Fc _ _ _ _ (by decide)]
  rfl
theorem sL3_N (π : Pl) (σ : Sg) (b s : Nat) (t g : Int32) (j : Nat) (hj : j < 33) : sN (sL3 π σ b s t g) j = sN σ j := sNo_N σ b s t g j hj
theorem sLe_Fn (π : Pl) (σ : Sg) {b k : Nat} (t : Int32) (c : Nat) (h : ¬ k = b) : bF (sLe π σ b t) k c = bF σ k c := by
  rw [sLe_eq, sL3_Fn _ _ _ _ _ _ h, sL2_Fn _ _ _ _ _ h]
  unfold bF
  rw [sL1_F]
  exact sL0_Fn π σ t c h
theorem sLe_F0 (π : Pl) (σ : Sg) (b : Nat) (t : Int32) : bF (sLe π σ b t) b 0 = Int32.ofNat 1 := by rw [sLe_eq]; exact sL3_F0 _ _ _ _ _ _
theorem sLe_F2 (π : Pl) (σ : Sg) (b : Nat) (t : Int32) : bF (sLe π σ b t) b 2 = t + plT π 4 (bI σ b 1) := by
  rw [sLe_eq, sL3_F1]
  unfold bI
  rw [sL2_F _ _ _ _ _ _ _ (by decide)]
  have : bF (sL1 π (sL0 π σ b t) b (bF σ b 1).toNatClampNeg t) b 1 = bF σ b 1 := by
    unfold bF
    rw [sL1_F]
    exact sL0_F π σ b t b 1 (by decide)
  rw [this]
theorem sLe_N (π : Pl) (σ : Sg) (b : Nat) (t : Int32) (j : Nat) (hj : nSm j) : sN (sLe π σ b t) j = sN σ j := by
  have h63 : j < 33 := by unfold nSm at hj; omega
  rw [sLe_eq, sL3_N _ _ _ _ _ _ _ h63, sL2_N _ _ _ _ _ _ hj, sL1_N, sL0_N _ _ _ _ _ (by omega)]
/-- what is wanted depends on few numbers -/
theorem untl_cg {π : Pl} {σ σ' : Sg} {b : Nat} {t : Int32} (hF : ∀ k c, c < 4 → bF σ' k c = bF σ k c) : ∀ k, untl π σ' b t k = untl π σ b t k := by
  intro k
  induction k with
  | zero => rfl
  | succ k ih =>
    unfold untl isAt bI
    rw [ih, hF k 0 (by omega), hF k 1 (by omega), hF k 2 (by omega), hF b 1 (by omega)]
theorem wantd_cg {π : Pl} {σ σ' : Sg} {b : Nat} {m t : Int32} (hN : sN σ' = sN σ) (hF : ∀ k c, c < 4 → bF σ' k c = bF σ k c) : wantd π σ' b m t = wantd π σ b m t := by
  unfold wantd bI
  rw [hN, untl_cg hF, hF b 1 (by omega), hF b 3 (by omega)]
theorem heldB_b {π : Pl} {σ : Sg} {b : Nat} {m t : Int32} (h : 0 ≤ (sN σ 3).toInt) : 0 ≤ (heldB π σ b m t).toInt ∧ (heldB π σ b m t).toInt ≤ (sN σ 3).toInt := by
  unfold heldB
  dsimp only
  generalize wantd π σ b m t = i
  have z : (Int32.ofNat 0).toInt = 0 := by decide
  split
  · omega
  · next h1 =>
    have h1' := Int32.not_le.mp h1
    rw [Int32.lt_iff_toInt_lt] at h1'
    split
    · omega
    · next h2 =>
      have h2' := Int32.not_lt.mp h2
      rw [Int32.le_iff_toInt_le] at h2'
      omega
def sRh (π : Pl) (σ : Sg) (b : Nat) (t : Int32) : Int32 := if sN σ (13 + bI σ b 1) = Int32.ofNat 1 then heldB π σ b (sN σ 1) t else Int32.ofNat 0
def sRw (π : Pl) (σ : Sg) (b : Nat) (t : Int32) : Int32 := if sRh π σ b t = Int32.ofNat 0 then Int32.ofNat 0 else sN σ 1 + (if sRh π σ b t < wantd π σ b (sN σ 1) t then Int32.ofNat 10 else Int32.ofNat 0)
def sR1 (σ : Sg) (b : Nat) (u v : Int32) : Sg := sBs (sBs σ b 6 u) b 7 v
def sR2 (σ : Sg) (b s : Nat) (t u : Int32) : Sg := sTe (sBs (sBs (vN (vN σ (inc (sN σ) 8)) (zu (inc (sN σ) 8) 9 (inc (sN σ) 8 9 + u))) b 0 (Int32.ofNat 3)) b 2 (t + u)) t 2 b s u
theorem sRe_eq (π : Pl) (σ : Sg) (b : Nat) (t : Int32) : sRe π σ b t = if sRh π σ b t = Int32.ofNat 0 then sLe π (sR1 σ b (sRh π σ b t) (sRw π σ b t)) b t else sR2 (sR1 σ b (sRh π σ b t) (sRw π σ b t)) b (bI σ b 1) t (sRh π σ b t) := rfl
theorem sR1_F (σ : Sg) (b : Nat) (u v : Int32) (k c : Nat) (h6 : c ≠ 6) (h7 : c ≠ 7) : bF (sR1 σ b u v) k c = bF σ k c := by
  unfold sR1
  rw [sBs_Fc _ _ _ _ h7, sBs_Fc _ _ _ _ h6]
theorem sR1_Fn (σ : Sg) {b k : Nat} (u v : Int32) (c : Nat) (h : ¬ k = b) : bF (sR1 σ b u v) k c = bF σ k c := by
  unfold sR1
  rw [sBs_Fn _ _ _ _ h, sBs_Fn _ _ _ _ h]
theorem sR2_Fn (σ : Sg) {b k : Nat} (s : Nat) (t u : Int32) (c : Nat) (h : ¬ k = b) : bF (sR2 σ b s t u) k c = bF σ k c := by
  unfold sR2
  show bF (sBs (sBs _ b 0 _) b 2 _) k c = _
  rw [sBs_Fn _ _ _ _ h, sBs_Fn _ _ _ _ h]
  rfl
theorem sR2_F0 (σ : Sg) (b s : Nat) (t u : Int32) : bF (sR2 σ b s t u) b 0 = Int32.ofNat 3 := by
  unfold sR2
  show bF (sBs (sBs _ b 0 _) b 2 _) b 0 = _
  rw [sBs_Fc _ _ _ _ (by decide), sBs_Fe]
theorem sR2_F2 (σ : Sg) (b s : Nat) (t u : Int32) : bF (sR2 σ b s t u) b 2 = t + u := by
  unfold sR2
  show bF (sBs (sBs _ b 0 _) b 2 _) b 2 = _
  rw [sBs_Fe]
theorem sR2_N (σ : Sg) (b s : Nat) (t u : Int32) (j : Nat) (hj : nSm j) : sN (sR2 σ b s t u) j = sN σ j := by
  unfold nSm at hj
  show zu (inc (sN σ) 8) 9 (inc (sN σ) 8 9 + u) j = _
  unfold inc
  rw [zu_ne _ _ (by omega), zu_ne _ _ (by omega)]
theorem sRe_Fn (π : Pl) (σ : Sg) {b k : Nat} (t : Int32) (c : Nat) (h : ¬ k = b) : bF (sRe π σ b t) k c = bF σ k c := by
  rw [sRe_eq]
  split
  · rw [sLe_Fn _ _ _ _ h, sR1_Fn _ _ _ _ h]
  · rw [sR2_Fn _ _ _ _ _ h, sR1_Fn _ _ _ _ h]
theorem sRe_N (π : Pl) (σ : Sg) (b : Nat) (t : Int32) (j : Nat) (hj : nSm j) : sN (sRe π σ b t) j = sN σ j := by
  rw [sRe_eq]
  split
  · rw [sLe_N _ _ _ _ _ hj]; rfl
  · rw [sR2_N _ _ _ _ _ _ hj]; rfl
theorem sCs_Fn (π : Pl) (σ : Sg) {b k : Nat} (t : Int32) (c : Nat) (h : ¬ k = b) : bF (sCs π σ b t) k c = bF σ k c := by
  unfold sCs
  rw [sGo_Fn _ _ _ _ h]
  exact sBs_Fn σ 8 _ c h
theorem sC0_Fn (π : Pl) (σ : Sg) {b k : Nat} (t : Int32) (c : Nat) (h : ¬ k = b) : bF (sC0 π σ b t) k c = bF σ k c := by
  unfold sC0
  rw [(sBr_fr _ _ _ _).fF]
  split
  · exact sBs_Fn σ 3 _ c h
  · rfl
theorem sC0_N (π : Pl) (σ : Sg) (b : Nat) (t : Int32) (j : Nat) (hj : j < 63) : sN (sC0 π σ b t) j = sN σ j := by
  unfold sC0
  rw [(sBr_fr _ _ _ _).2.2.2.2 j hj]
  split <;> rfl
theorem sCu_F (σ : Sg) (b s : Nat) (t : Int32) : sB (sCu σ b s t) = sB σ := by
  unfold sCu
  split <;> rfl
theorem sCu_N (σ : Sg) (b s : Nat) (t : Int32) (j : Nat) (hj : j ≠ 10) : sN (sCu σ b s t) j = sN σ j := by
  unfold sCu
  split
  · exact zu_ne _ _ hj
  · rfl
theorem sCt_N (π : Pl) (σ : Sg) (b : Nat) (t : Int32) (a u : Nat) : sN (sCt π σ b t a u) = sN σ := rfl
theorem sCt_Fn (π : Pl) (σ : Sg) {b k : Nat} (t : Int32) (a u : Nat) (c : Nat) (h : ¬ k = b) : bF (sCt π σ b t a u) k c = bF σ k c := by
  unfold sCt
  rw [sBs_Fn _ _ _ _ h, sBs_Fn _ _ _ _ h]
theorem sCo_Fn (π : Pl) (σ : Sg) {b k : Nat} (t : Int32) (c : Nat) (h : ¬ k = b) : bF (sCo π σ b t).1 k c = bF σ k c := by
  rw [sCo_eq]
  split
  · show bF (sCs _ _ _ _) k c = _
    rw [sCs_Fn _ _ _ _ h, sC0_Fn _ _ _ _ h]
  · show bF (sCu _ _ _ _) k c = _
    unfold bF
    rw [sCu_F]
    show bF (sCt _ _ _ _ _ _) k c = _
    rw [sCt_Fn _ _ _ _ _ _ h]
    unfold bF
    rw [sBo_Bn _ _ _ _ h, sAl_Bn _ _ _ h]
    exact sC0_Fn π σ t c h
theorem sCo_N (π : Pl) (σ : Sg) (b : Nat) (t : Int32) (j : Nat) (hj : nSm j) : sN (sCo π σ b t).1 j = sN σ j := by
  have hj' := hj
  unfold nSm at hj'
  rw [sCo_eq]
  split
  · show inc (sN (sBs (sC0 π σ b t) b 8 _)) 11 j = _
    unfold inc
    rw [zu_ne _ _ (by omega)]
    exact sC0_N π σ b t j (by omega)
  · show sN (sCu _ _ _ _) j = _
    rw [sCu_N _ _ _ _ _ (by omega)]
    rw [sCt_N, sBo_N _ _ _ _ _ _ (by omega), sAl_N _ _ _ _ _ (by omega)]
    exact sC0_N π σ b t j (by omega)
theorem sOk_co {π : Pl} {σ : Sg} {b s : Nat} {t : Int32} (O : pOk π) (OK : sOk π σ) (hb : b < plN π 1) (hs : s < plN π 0) (e : bF σ b 1 = Int32.ofNat s) : sOk π (sCo π σ b t).1 := by
  have hns := O.1.2
  have hb6 : b < 6 := by have := O.2.1; omega
  have eI : bI σ b 1 = s := bI_of (by omega) e
  have OK0 : sOk π (sC0 π σ b t) := sOk_c0 O OK (by omega)
  have e0 : bF (sC0 π σ b t) b 1 = Int32.ofNat s := by rw [sC0_F _ _ _ _ _ _ (by decide), e]
  rw [sCo_eq, eI]
  split
  · show sOk π (sGo π _ b t)
    refine sOk_go (sOk_n (sOk_bs OK0 (fun h => absurd h (by decide)) (fun h => absurd h (by decide))) _) hs (bI_of (by omega) ?_)
    show bF (sBs (sC0 π σ b t) b 8 _) b 1 = _
    rw [sBs_Fc _ _ _ _ (by decide)]
    exact e0
  · have OK5 := sOk_ct (b := b) (a := (sAl (sC0 π σ b t) b s t).2) (u := (sBo π (sAl (sC0 π σ b t) b s t).1 b s t).2) (t := t) (sOk_bo (s := s) (t := t) O (sOk_al (b := b) (s := s) (t := t) OK0) hb (by omega))
    show sOk π (sCu _ _ _ _)
    unfold sCu
    split
    · exact sOk_te (sOk_n OK5 _) (by decide) hb6 hs
    · exact OK5
theorem sOk_re {π : Pl} {σ : Sg} {b s : Nat} {t : Int32} (O : pOk π) (OK : sOk π σ) (hb : b < plN π 1) (hs : s < plN π 0) (e : bF σ b 1 = Int32.ofNat s) : sOk π (sRe π σ b t) := by
  have hns := O.1.2
  have hb6 : b < 6 := by have := O.2.1; omega
  have eI : bI σ b 1 = s := bI_of (by omega) e
  have OK1 : sOk π (sR1 σ b (sRh π σ b t) (sRw π σ b t)) := sOk_hw OK
  rw [sRe_eq]
  split
  · exact sOk_le O OK1 hb hs (by rw [sR1_F _ _ _ _ _ _ (by decide) (by decide)]; exact e)
  · rw [eI]
    exact sOk_te (sOk_bs (sOk_bs (sOk_n (sOk_n OK1 _) _) (fun _ => ⟨3, by omega, rfl⟩) (fun h => absurd h (by decide))) (fun h => absurd h (by decide)) (fun h => absurd h (by decide))) (by decide) hb6 hs
theorem sOk_ha {π : Pl} {σ : Sg} {b : Nat} (O : pOk π) (OK : sOk π σ) (hb : b < plN π 1) : sOk π (sHa π σ b).1 := by
  have hb6 : b < 6 := by have := O.2.1; omega
  obtain ⟨st, s, h4, hs, e0, e1⟩ := bst OK hb hb6
  unfold sHa
  dsimp only
  split
  · exact sOk_re O OK hb hs e1
  · split
    · exact sOk_le O OK hb hs e1
    · exact sOk_co O OK hb hs e1
theorem sHa_Fn (π : Pl) (σ : Sg) {b k : Nat} (c : Nat) (h : ¬ k = b) : bF (sHa π σ b).1 k c = bF σ k c := by
  unfold sHa
  dsimp only
  split
  · exact sRe_Fn _ _ _ _ h
  · split
    · exact sLe_Fn _ _ _ _ h
    · exact sCo_Fn _ _ _ _ h
theorem sHa_N (π : Pl) (σ : Sg) (b : Nat) (j : Nat) (hj : nSm j) : sN (sHa π σ b).1 j = sN σ j := by
  unfold sHa
  dsimp only
  split
  · exact sRe_N _ _ _ _ _ hj
  · split
    · exact sLe_N _ _ _ _ _ hj
    · exact sCo_N _ _ _ _ _ hj
