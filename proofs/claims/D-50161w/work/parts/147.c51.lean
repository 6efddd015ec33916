/-! those who have alighted: the numbers' sum; booleans through a pass (no program in sight) -/
def Oc (σ σ' : Sg) : Prop := ∀ k, sN σ' (79 + 5 * k + 4) = sN σ (79 + 5 * k + 4)
theorem Oc.rfl {σ : Sg} : Oc σ σ := fun _ => Eq.refl _
theorem Oc.trans {σ σ' σ'' : Sg} (a : Oc σ σ') (b : Oc σ' σ'') : Oc σ σ'' := fun k => (b k).trans (a k)
theorem Oc_n {σ σ' : Sg} (e : sN σ' = sN σ) : Oc σ σ' := fun k => by rw [e]
theorem Oc.sm {σ σ' : Sg} (a : Oc σ σ') : ∀ k, smF σ' 4 k = smF σ 4 k := by
  intro k
  induction k with
  | zero => rfl
  | succ k ih =>
    show smF σ' 4 k + sN σ' (79 + 5 * k + 4) = smF σ 4 k + sN σ (79 + 5 * k + 4)
    rw [ih, a k]
theorem incs_o {n : Nat → Int32} {c k : Nat} (l : List Rd) (hc : c < 5) (h4 : 4 ≠ c) : incs n c l (79 + 5 * k + 4) = n (79 + 5 * k + 4) := by
  unfold incs
  rw [cnt_nx hc (by decide) h4]
  exact Int32.add_zero _
theorem sGv_o (σ : Sg) (s : Nat) (t : Int32) : Oc σ (sGv σ s t) := fun k => incs_o _ (by decide) (by decide)
theorem sJn_o (σ : Sg) (s to : Nat) (t : Int32) (f : Nat) : Oc σ (sJn σ s to t f).1 := fun k => by
  have e : ∀ (n : Nat → Int32) i j, j ≠ i → inc n i j = n j := fun n i j h => zu_ne _ _ h
  have g := sGv_o σ s t k
  unfold sJn
  dsimp only
  split
  · show inc (inc (sN (sGv σ s t)) (79 + 5 * f)) (79 + 5 * f + 1) (79 + 5 * k + 4) = _
    rw [e _ _ _ (by omega), e _ _ _ (by omega)]
    exact g
  · show inc (sN (sGv σ s t)) (79 + 5 * f) (79 + 5 * k + 4) = _
    rw [e _ _ _ (by omega)]
    exact g
theorem sBf_o {π : Pl} (O : pOk π) (s : Nat) (t : Int32) : ∀ k σ, Oc σ (sBf π s t k σ) := by
  intro k
  induction k with
  | zero => intro σ; exact Oc.rfl
  | succ k ih =>
    intro σ
    unfold sBf
    split
    · exact Oc.rfl
    · rename_i f hf
      dsimp only
      have h16 := O.2.2.1
      have hl := (fnx_lt hf).1
      refine ((sJn_o σ s (plI π 10 f) (sN σ (63 + f)) f).trans ?_).trans (ih _)
      intro j
      exact zu_ne _ _ (by omega)
theorem sBr_o {π : Pl} (O : pOk π) (σ : Sg) (s : Nat) (t : Int32) : Oc σ (sBr π σ s t) := (sBf_o O s t big σ).trans (sGv_o _ s t)
theorem sBo_o (π : Pl) (σ : Sg) (b s : Nat) (t : Int32) : Oc σ (sBo π σ b s t).1 := fun k => incs_o _ (by decide) (by decide)
theorem filt_up (l : List Rd) (k : Nat) : (l.filter fun r => decide (r.2.2 < k + 1)).length = (l.filter fun r => decide (r.2.2 < k)).length + cntF l k := by
  unfold cntF
  induction l with
  | nil => rfl
  | cons r l ih =>
    simp only [List.filter_cons, decide_eq_true_eq]
    by_cases c : r.2.2 < k
    · rw [if_pos c, if_pos (show r.2.2 < k + 1 by omega), if_neg (show ¬ r.2.2 = k by omega)]
      simp only [List.length_cons]
      omega
    · by_cases d : r.2.2 = k
      · rw [if_neg c, if_pos (show r.2.2 < k + 1 by omega), if_pos d]
        simp only [List.length_cons]
        omega
      · rw [if_neg c, if_neg (show ¬ r.2.2 < k + 1 by omega), if_neg d]
        exact ih
theorem i_r9 (a u n v : Int32) : a + u + (n + v) = a + n + (u + v) := by grind
theorem sm_incs {σ σ' : Sg} {l : List Rd} (e : ∀ k, sN σ' (79 + 5 * k + 4) = incs (sN σ) 4 l (79 + 5 * k + 4)) : ∀ k, smF σ' 4 k = smF σ 4 k + Int32.ofNat ((l.filter fun r => decide (r.2.2 < k)).length) := by
  intro k
  induction k with
  | zero =>
    rw [show (l.filter fun r => decide (r.2.2 < 0)) = [] from List.filter_eq_nil_iff.mpr fun r _ => by simp]
    exact (Int32.add_zero _).symm
  | succ k ih =>
    show smF σ' 4 k + sN σ' (79 + 5 * k + 4) = smF σ 4 k + sN σ (79 + 5 * k + 4) + _
    rw [ih, e k, filt_up]
    unfold incs
    rw [cnt_at, i_r9, Int32.ofNat_add]
theorem sAl_o {π : Pl} {σ : Sg} (OK : sOk π σ) {b s : Nat} {t : Int32} (hb : b < 6) : smF (sAl σ b s t).1 4 17 = smF σ 4 17 + Int32.ofNat (sAl σ b s t).2 := by
  rw [sm_incs (σ' := (sAl σ b s t).1) (l := (bR σ b).filter fun r => decide (r.1 = s)) (fun k => rfl) 17]
  rw [List.filter_eq_self.mpr]
  · rfl
  · intro r hr
    have := ((OK.2.2.1 b hb).2.2.1 r (List.mem_filter.mp hr).1).2
    exact decide_eq_true this
theorem sGo_o (π : Pl) (σ : Sg) (b : Nat) (t : Int32) : Oc σ (sGo π σ b t) := Oc_n rfl
theorem sL2_o (σ : Sg) (b s : Nat) (t g : Int32) : Oc σ (sL2 σ b s t g) := by
  intro k
  unfold sL2
  split
  · show inc (sN σ) 6 _ = _
    exact zu_ne _ _ (by omega)
  · split
    · show inc (sN σ) 7 _ = _
      exact zu_ne _ _ (by omega)
    · rfl
theorem sNo_o (σ : Sg) {b s : Nat} (t g : Int32) (hs : s < 10) : Oc σ (sNo σ b s t g) := by
  intro k
  show inc (zu (sN σ) (33 + s) t) (43 + s) _ = _
  unfold inc
  rw [zu_ne _ _ (by omega), zu_ne _ _ (by omega)]
theorem sLe_o {π : Pl} {σ : Sg} (O : pOk π) {b : Nat} {t : Int32} (hs : bI σ b 1 < 10) : Oc σ (sLe π σ b t) := by
  rw [sLe_eq]
  have a0 : Oc σ (sL0 π σ b t) := (sBr_o O _ _ _).trans (sBo_o _ _ _ _ _)
  have a1 : Oc (sL0 π σ b t) (sL1 π (sL0 π σ b t) b (bI σ b 1) t) := Oc_n (sL1_N _ _ _ _ _)
  have a2 := sL2_o (sL1 π (sL0 π σ b t) b (bI σ b 1) t) b (bI σ b 1) t (gapO (sL1 π (sL0 π σ b t) b (bI σ b 1) t) (bI σ b 1) t)
  have a3 : ∀ (τ : Sg) (g : Int32), Oc τ (sL3 π τ b (bI σ b 1) t g) := fun τ g => (sNo_o τ t g hs).trans (Oc_n rfl)
  exact ((a0.trans a1).trans a2).trans (a3 _ _)
theorem sR1_o (σ : Sg) (b : Nat) (u v : Int32) : Oc σ (sR1 σ b u v) := Oc_n (show sN (sR1 σ b u v) = sN σ from rfl)
theorem sR2_o (σ : Sg) (b s : Nat) (t u : Int32) : Oc σ (sR2 σ b s t u) := fun k => by
  show zu (inc (sN σ) 8) 9 (inc (sN σ) 8 9 + u) (79 + 5 * k + 4) = _
  unfold inc
  rw [zu_ne _ _ (by omega), zu_ne _ _ (by omega)]
theorem sRe_o {π : Pl} {σ : Sg} (O : pOk π) {b : Nat} {t : Int32} (hs : bI σ b 1 < 10) : Oc σ (sRe π σ b t) := by
  rw [sRe_eq]
  generalize sRh π σ b t = u
  generalize sRw π σ b t = v
  have e1 := sR1_o σ b u v
  have h1 : bI (sR1 σ b u v) b 1 < 10 := by
    unfold bI at *
    rw [sR1_F _ _ _ _ _ _ (by decide) (by decide)]
    exact hs
  by_cases c : u = Int32.ofNat 0
  · rw [if_pos c]
    exact e1.trans (sLe_o O h1)
  · rw [if_neg c]
    exact e1.trans (sR2_o _ _ _ _ _)
theorem sC0_o {π : Pl} (O : pOk π) (σ : Sg) (b : Nat) (t : Int32) : Oc σ (sC0 π σ b t) := by
  unfold sC0
  have e : Oc σ (if bF σ b 0 = Int32.ofNat 1 ∧ bI σ b 1 = 0 then sBs σ b 3 (bF σ b 3 + Int32.ofNat 1) else σ) := by
    split
    · exact Oc_n (sBs_N _ _ _ _)
    · exact Oc.rfl
  exact e.trans (sBr_o O _ _ _)
theorem sCs_o (π : Pl) (σ : Sg) (b : Nat) (t : Int32) : Oc σ (sCs π σ b t) := fun k => by
  show inc (sN σ) 11 (79 + 5 * k + 4) = _
  exact zu_ne _ _ (by omega)
theorem sCu_o (π : Pl) (σ : Sg) (b s : Nat) (t : Int32) (m n : Nat) : Oc σ (sCu (sCt π σ b t m n) b s t) := fun k => by
  unfold sCu
  split
  · show zu (sN σ) 10 _ _ = _
    exact zu_ne _ _ (by omega)
  · rfl
theorem sCo_o {π : Pl} {σ : Sg} (O : pOk π) (OK : sOk π σ) {b : Nat} {t : Int32} (hb : b < 6) (hs : bI σ b 1 < 10) : smF (sCo π σ b t).1 4 17 = smF σ 4 17 + Int32.ofNat (sCo π σ b t).2 := by
  have a0 := sC0_o O σ b t
  have OK0 := sOk_c0 (t := t) O OK hs
  have e0 := a0.sm 17
  rw [sCo_eq]
  generalize sC0 π σ b t = τ at *
  rw [← e0]
  by_cases c : bF τ b 8 = Int32.ofNat 1
  · rw [if_pos c]
    dsimp only
    rw [(sCs_o π τ b t).sm 17]
    exact (Int32.add_zero _).symm
  · rw [if_neg c]
    dsimp only
    have a1 := sAl_o OK0 (b := b) (s := bI σ b 1) (t := t) hb
    generalize sAl τ b (bI σ b 1) t = r1 at *
    have a2 := sBo_o π r1.1 b (bI σ b 1) t
    generalize sBo π r1.1 b (bI σ b 1) t = r at *
    rw [(a2.trans (sCu_o π r.1 b (bI σ b 1) t r1.2 r.2)).sm 17, a1]
theorem sHa_o {π : Pl} {σ : Sg} (O : pOk π) (OK : sOk π σ) {b : Nat} (hb : b < plN π 1) : smF (sHa π σ b).1 4 17 = smF σ 4 17 + Int32.ofNat (sHa π σ b).2 := by
  have h6 : b < 6 := Nat.lt_of_lt_of_le hb O.2.1.2
  obtain ⟨st, s, q1, q2, q3, q4⟩ := bst OK hb h6
  have hs : bI σ b 1 < 10 := by
    rw [bI_of (by have := O.1.2; omega) q4]
    have := O.1.2
    omega
  unfold sHa
  dsimp only
  split
  · rw [(sRe_o O hs).sm 17]
    exact (Int32.add_zero _).symm
  · split
    · rw [(sLe_o O hs).sm 17]
      exact (Int32.add_zero _).symm
    · exact sCo_o O OK h6 hs
