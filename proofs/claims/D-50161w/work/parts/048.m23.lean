/-! the spec's functions: what they leave alone, what stays in bounds -/
theorem incs_lo {w : Nat → Int32} {c j : Nat} {l : List Rd} (hj : j < 79) : incs w c l j = w j := by
  have : cnt c j l = 0 := by
    unfold cnt
    rw [List.length_eq_zero_iff, List.filter_eq_nil_iff]
    intro r hr
    simp only [decide_eq_true_eq]
    omega
  unfold incs
  rw [this]
  exact Int32.add_zero _
/-- riders that come change rows and counts -/
def Fr (σ σ' : Sg) : Prop := sB σ' = sB σ ∧ sL σ' = sL σ ∧ sG σ' = sG σ ∧ sS σ' = sS σ ∧ ∀ j, j < 63 → sN σ' j = sN σ j
theorem Fr.rfl {σ : Sg} : Fr σ σ := ⟨Eq.refl _, Eq.refl _, Eq.refl _, Eq.refl _, fun _ _ => Eq.refl _⟩
theorem Fr.trans {σ σ' σ'' : Sg} (h : Fr σ σ') (g : Fr σ' σ'') : Fr σ σ'' := ⟨g.1.trans h.1, g.2.1.trans h.2.1, g.2.2.1.trans h.2.2.1, g.2.2.2.1.trans h.2.2.2.1, fun j hj => (g.2.2.2.2 j hj).trans (h.2.2.2.2 j hj)⟩
theorem sGv_fr (σ : Sg) (s : Nat) (t : Int32) : Fr σ (sGv σ s t) := ⟨Eq.refl _, Eq.refl _, Eq.refl _, Eq.refl _, fun j hj => incs_lo (by omega)⟩
theorem sJn_fr (σ : Sg) (s to : Nat) (t : Int32) (f : Nat) : Fr σ (sJn σ s to t f).1 := by
  refine (sGv_fr σ s t).trans ?_
  unfold sJn
  dsimp only
  split
  · refine ⟨Eq.refl _, Eq.refl _, Eq.refl _, Eq.refl _, fun j hj => ?_⟩
    show inc (inc _ _) _ j = _
    unfold inc
    rw [zu_ne _ _ (by omega), zu_ne _ _ (by omega)]
  · refine ⟨Eq.refl _, Eq.refl _, Eq.refl _, Eq.refl _, fun j hj => ?_⟩
    show inc _ _ j = _
    unfold inc
    rw [zu_ne _ _ (by omega)]
theorem sBf_fr (π : Pl) (s : Nat) (t : Int32) : ∀ (k : Nat) (σ : Sg), Fr σ (sBf π s t k σ) := by
  intro k
  induction k with
  | zero => intro σ; exact Fr.rfl
  | succ k ih =>
    intro σ
    unfold sBf
    split
    · exact Fr.rfl
    · next f hf =>
      refine Fr.trans ?_ (ih _)
      refine (sJn_fr σ s (plI π 10 f) (sN σ (63 + f)) f).trans ?_
      exact ⟨Eq.refl _, Eq.refl _, Eq.refl _, Eq.refl _, fun j hj => zu_ne _ _ (by omega)⟩
theorem sBr_fr (π : Pl) (σ : Sg) (s : Nat) (t : Int32) : Fr σ (sBr π σ s t) := (sBf_fr π s t big σ).trans (sGv_fr _ s t)
theorem Fr.fF {σ σ' : Sg} (h : Fr σ σ') (k c : Nat) : bF σ' k c = bF σ k c := by unfold bF; rw [h.1]
theorem Fr.fR {σ σ' : Sg} (h : Fr σ σ') (k : Nat) : bR σ' k = bR σ k := by unfold bR; rw [h.1]
theorem sOk_bf {π : Pl} {s : Nat} {t : Int32} (O : pOk π) (hs : s < 10) : ∀ (k : Nat) (σ : Sg), sOk π σ → sOk π (sBf π s t k σ) := by
  intro k
  induction k with
  | zero => intro σ h; exact h
  | succ k ih =>
    intro σ h
    unfold sBf
    split
    · exact h
    · next f hf =>
      obtain ⟨hf1, -, -⟩ := fnx_lt hf
      have h1 := O.1.2
      have h2 := O.2.2.1
      have h3 := (O.2.2.2.1 f hf1).2.2.2.1
      exact ih _ (sOk_n (sOk_jn h hs (by omega) (by omega)) _)
theorem sOk_br {π : Pl} {σ : Sg} {s : Nat} {t : Int32} (O : pOk π) (OK : sOk π σ) (hs : s < 10) : sOk π (sBr π σ s t) := sOk_gv (sOk_bf O hs big σ OK)
theorem sBo_B (π : Pl) (σ : Sg) (b s : Nat) (t : Int32) : sB (sBo π σ b s t).1 b = (zu (sB σ b).1 9 (bF σ b 9 + Int32.ofNat (sBo π σ b s t).2), bR σ b ++ ((sR σ s).take (sBo π σ b s t).2).map fun r => (r.1, t, r.2.2)) := by
  rw [sBo_eq]
  show sB (sBi _ _ _ _) b = _
  have e : ((sR σ s).take (sBo π σ b s t).2).length = (sBo π σ b s t).2 := by
    rw [List.length_take]
    exact Nat.min_eq_left (Nat.min_le_right _ _)
  unfold sBi
  rw [sBs_eq, sBq_eq, e]
  rfl
theorem sBo_Bn (π : Pl) (σ : Sg) {b k : Nat} (s : Nat) (t : Int32) (h : ¬ k = b) : sB (sBo π σ b s t).1 k = sB σ k := by
  rw [sBo_eq]
  show sB (sBi _ _ _ _) k = _
  unfold sBi
  rw [sBs_ne _ _ _ h, sBq_ne _ _ h]
  rfl
theorem sBo_F (π : Pl) (σ : Sg) (b s : Nat) (t : Int32) (k c : Nat) (hc : c ≠ 9) : bF (sBo π σ b s t).1 k c = bF σ k c := by
  by_cases h : k = b
  · subst h
    unfold bF
    rw [sBo_B]
    exact zu_ne _ _ hc
  · unfold bF
    rw [sBo_Bn _ _ _ _ h]
theorem sBo_N (π : Pl) (σ : Sg) (b s : Nat) (t : Int32) (j : Nat) (hj : j < 79) : sN (sBo π σ b s t).1 j = sN σ j := by
  rw [sBo_eq]
  exact incs_lo hj
theorem sBo_R (π : Pl) (σ : Sg) (b s : Nat) (t : Int32) : sR (sBo π σ b s t).1 = zu (sR σ) s ((sR σ s).drop (sBo π σ b s t).2) := rfl
theorem sBo_k (π : Pl) (σ : Sg) (b s : Nat) (t : Int32) : (sBo π σ b s t).2 = min (plI π 7 b - (bR σ b).length) (sR σ s).length := rfl
theorem sOk_bo {π : Pl} {σ : Sg} {b s : Nat} {t : Int32} (O : pOk π) (OK : sOk π σ) (hb : b < plN π 1) (hs : s < 10) : sOk π (sBo π σ b s t).1 := by
  obtain ⟨o1, o2, o3, o4⟩ := OK
  have hb6 : b < 6 := by have := O.2.1; omega
  refine ⟨fun s' hs' => ?_, o2, fun k hk => ?_, o4⟩
  · rw [sBo_R]
    by_cases e : s' = s
    · subst e
      rw [zu_eq]
      exact ⟨by rw [List.length_drop]; have := (o1 s' hs').1; omega, fun r hr => (o1 s' hs').2 r (List.mem_of_mem_drop hr)⟩
    · rw [zu_ne _ _ e]
      exact o1 s' hs'
  · rw [sBo_F _ _ _ _ _ _ _ (by decide), sBo_F _ _ _ _ _ _ _ (by decide)]
    have hk' := o3 k hk
    by_cases e : k = b
    · subst e
      obtain ⟨q1, q2, q3, q4, q5⟩ := hk'
      have eB : bR (sBo π σ k s t).1 k = bR σ k ++ ((sR σ s).take (sBo π σ k s t).2).map fun r => (r.1, t, r.2.2) := by
        unfold bR
        rw [sBo_B]
        rfl
      have h7 := (O.2.2.2.2.1 k hb).2.2.1
      have hl := q2 hb
      have hlen : (bR (sBo π σ k s t).1 k).length ≤ plI π 7 k := by
        rw [eB, List.length_append, List.length_map, List.length_take]
        have := sBo_k π σ k s t
        omega
      refine ⟨by omega, fun _ => hlen, fun r hr => ?_, q4, q5⟩
      rw [eB] at hr
      rcases List.mem_append.mp hr with hr | hr
      · exact q3 r hr
      · obtain ⟨r', h1, h2⟩ := List.mem_map.mp hr
        subst h2
        exact (o1 s hs).2 r' (List.mem_of_mem_take h1)
    · have eB : bR (sBo π σ b s t).1 k = bR σ k := by
        unfold bR
        rw [sBo_Bn _ _ _ _ e]
      rw [eB]
      exact hk'
theorem sAl_B (σ : Sg) (b s : Nat) (t : Int32) : sB (sAl σ b s t).1 b = ((sB σ b).1, stays s (bR σ b)) := sBq_eq _ _ _
theorem sAl_Bn (σ : Sg) {b k : Nat} (s : Nat) (t : Int32) (h : ¬ k = b) : sB (sAl σ b s t).1 k = sB σ k := sBq_ne _ _ h
theorem sAl_F (σ : Sg) (b s : Nat) (t : Int32) (k c : Nat) : bF (sAl σ b s t).1 k c = bF σ k c := by
  by_cases h : k = b
  · subst h
    unfold bF
    rw [sAl_B]
  · unfold bF
    rw [sAl_Bn _ _ _ h]
theorem sAl_N (σ : Sg) (b s : Nat) (t : Int32) (j : Nat) (hj : j < 79) : sN (sAl σ b s t).1 j = sN σ j := incs_lo hj
theorem sAl_R (σ : Sg) (b s : Nat) (t : Int32) : sR (sAl σ b s t).1 = sR σ := rfl
theorem sOk_al {π : Pl} {σ : Sg} {b s : Nat} {t : Int32} (OK : sOk π σ) : sOk π (sAl σ b s t).1 := by
  obtain ⟨o1, o2, o3, o4⟩ := OK
  refine ⟨o1, o2, fun k hk => ?_, o4⟩
  rw [sAl_F, sAl_F]
  have hk' := o3 k hk
  by_cases e : k = b
  · subst e
    obtain ⟨q1, q2, q3, q4, q5⟩ := hk'
    have eB : bR (sAl σ k s t).1 k = stays s (bR σ k) := by
      unfold bR
      rw [sAl_B]
      rfl
    rw [eB]
    have := stays_len s (bR σ k)
    exact ⟨by omega, fun h => by have := q2 h; omega, fun r hr => q3 r (stays_mem hr), q4, q5⟩
  · have eB : bR (sAl σ b s t).1 k = bR σ k := by
      unfold bR
      rw [sAl_Bn _ _ _ e]
    rw [eB]
    exact hk'
theorem sOk_te {π : Pl} {σ : Sg} {t v : Int32} {k b s : Nat} (OK : sOk π σ) (hk : k < 5) (hb : b < 6) (hs : s < plN π 0) : sOk π (sTe σ t k b s v) := by
  obtain ⟨o1, o2, o3, o4, o5⟩ := OK
  refine ⟨o1, o2, o3, ?_, fun r hr => ?_⟩
  · show ((if (sG σ).length = 30 then (sG σ).drop 1 else sG σ) ++ [(t, k, b, s, v)]).length ≤ 30
    rw [List.length_append]
    split
    · rw [List.length_drop]; simp; omega
    · simp; omega
  · have hr' : r ∈ (if (sG σ).length = 30 then (sG σ).drop 1 else sG σ) ++ [(t, k, b, s, v)] := hr
    rcases List.mem_append.mp hr' with hr' | hr'
    · split at hr'
      · exact o5 r (List.mem_of_mem_drop hr')
      · exact o5 r hr'
    · simp at hr'
      subst hr'
      exact ⟨hk, hb, hs⟩
theorem sOk_no {π : Pl} {σ : Sg} {t g : Int32} {b s : Nat} (OK : sOk π σ) (hb : b < 6) : sOk π (sNo σ b s t g) := by
  obtain ⟨o1, o2, o3⟩ := OK
  refine ⟨o1, fun s' hs' => ?_, o3⟩
  show (zu (sL σ) s ((if (sL σ s).length = 8 then (sL σ s).drop 1 else sL σ s) ++ [(b, t, g)]) s').length ≤ 8 ∧ ∀ r ∈ zu (sL σ) s ((if (sL σ s).length = 8 then (sL σ s).drop 1 else sL σ s) ++ [(b, t, g)]) s', r.1 < 6
  by_cases e : s' = s
  · subst e
    obtain ⟨q1, q2⟩ := o2 s' hs'
    rw [zu_eq]
    refine ⟨?_, fun r hr => ?_⟩
    · rw [List.length_append]
      split
      · rw [List.length_drop]; simp; omega
      · simp; omega
    · rcases List.mem_append.mp hr with hr | hr
      · split at hr
        · exact q2 r (List.mem_of_mem_drop hr)
        · exact q2 r hr
      · simp at hr
        subst hr
        exact hb
  · rw [zu_ne _ _ e]
    exact o2 s' hs'
theorem sOk_go {π : Pl} {σ : Sg} {b s : Nat} {t : Int32} (OK : sOk π σ) (hs : s < plN π 0) (e : bI σ b 1 = s) : sOk π (sGo π σ b t) := by
  unfold sGo
  rw [e]
  refine sOk_bs (sOk_bs (sOk_bs OK (fun _ => ⟨1, by omega, rfl⟩) (fun h => absurd h (by decide))) (fun h => absurd h (by decide)) (fun _ => ⟨nxt π s, nxt_lt hs, rfl⟩)) (fun h => absurd h (by decide)) (fun h => absurd h (by decide))
theorem sGo_F (π : Pl) (σ : Sg) (b : Nat) (t : Int32) (k c : Nat) (hc : c ≠ 0) (hc1 : c ≠ 1) (hc2 : c ≠ 2) : bF (sGo π σ b t) k c = bF σ k c := by
  unfold sGo
  rw [sBs_F, if_neg (fun x => hc2 x.2), sBs_F, if_neg (fun x => hc1 x.2), sBs_F, if_neg (fun x => hc x.2)]
theorem sGo_Fn (π : Pl) (σ : Sg) {b k : Nat} (t : Int32) (c : Nat) (h : ¬ k = b) : bF (sGo π σ b t) k c = bF σ k c := by
  unfold sGo
  rw [sBs_F, if_neg (fun x => h x.1), sBs_F, if_neg (fun x => h x.1), sBs_F, if_neg (fun x => h x.1)]
theorem sGo_F0 (π : Pl) (σ : Sg) (b : Nat) (t : Int32) : bF (sGo π σ b t) b 0 = Int32.ofNat 1 := by
  unfold sGo
  rw [sBs_F, if_neg (fun x => absurd x.2 (by decide)), sBs_F, if_neg (fun x => absurd x.2 (by decide)), sBs_F, if_pos ⟨rfl, rfl⟩]
theorem sGo_F2 (π : Pl) (σ : Sg) (b : Nat) (t : Int32) : bF (sGo π σ b t) b 2 = t + plT π 4 (bI σ b 1) := by
  unfold sGo
  rw [sBs_F, if_pos ⟨rfl, rfl⟩]
/-- one bus's part of the world -/
theorem WAt_b {π : Pl} {w w' : Nat → Int32} {sm : Nat → Int64} {σ : Sg} {k : Nat} {q : Bs} (W : WAt w sm σ) (OK : sOk π σ) (hk : k < 6) (B : BsAt w' k q) (e : ∀ j, (j < 164 + 13 * k ∨ 164 + 13 * k + 13 ≤ j) → (j < 1832 + 297 * k ∨ 1832 + 297 * k + 297 ≤ j) → w' j = w j) : WAt w' sm (vB σ (zu (sB σ) k q)) := by
  obtain ⟨wA, wR, wL, wB, wG, wS⟩ := W
  refine ⟨fun j hj => ?_, fun s' hs' => ?_, fun s' hs' => ?_, fun b' hb' => ?_, ?_, wS⟩
  · have hj' := hj
    unfold nat1 at hj'
    rw [e j (by omega) (by omega)]
    exact wA j hj
  · have := (OK.1 s' hs').1
    exact (wR s' hs').congr (e _ (by omega) (by omega)) fun j h1 h2 => e j (by omega) (by omega)
  · have := (OK.2.1 s' hs').1
    exact (wL s' hs').congr (e _ (by omega) (by omega)) fun j h1 h2 => e j (by omega) (by omega)
  · show BsAt w' b' (zu (sB σ) k q b')
    by_cases e0 : b' = k
    · subst e0
      rw [zu_eq]; exact B
    · rw [zu_ne _ _ e0]
      have := (OK.2.2.1 b' hb').1
      unfold bR at this
      exact (wB b' hb').congr (fun j hj => e _ (by omega) (by omega)) fun j h1 h2 => e j (by omega) (by omega)
  · have := OK.2.2.2.1
    exact wG.congr (e _ (by omega) (by omega)) fun j h1 h2 => e j (by omega) (by omega)
theorem sBs2 (σ : Sg) (k c d : Nat) (u v : Int32) : sBs (sBs σ k c u) k d v = vB σ (zu (sB σ) k (zu (zu (sB σ k).1 c u) d v, (sB σ k).2)) := by
  unfold sBs
  simp only [vs, zu_eq, zu_zu]
  rfl
theorem WAt_hw {π : Pl} {w : Nat → Int32} {sm : Nat → Int64} {σ : Sg} {k : Nat} {u v : Int32} (W : WAt w sm σ) (OK : sOk π σ) (hk : k < 6) (hu : ¬ u < Int32.ofNat 0) : WAt (zu (zu w (164 + 13 * k + 6) u) (164 + 13 * k + 7) v) sm (sBs (sBs σ k 6 u) k 7 v) := by
  rw [sBs2]
  refine WAt_b W OK hk ?_ fun j h1 h2 => by rw [zu_ne _ _ (by omega), zu_ne _ _ (by omega)]
  obtain ⟨q1, q2, q3, q4, q5⟩ := W.2.2.2.1 k hk
  refine ⟨fun d hd => ?_, ?_, q3.congr fun j h1 h2 => by rw [zu_ne _ _ (by omega), zu_ne _ _ (by omega)], ?_, ?_⟩
  · dsimp only
    have d7 : d ≠ 7 := by
      have a1 : ∀ k ∈ bKs, k ≠ 7 := by decide
      exact a1 d hd
    rw [zu_ne _ _ (by omega), zu_ne (zu (sB σ k).1 6 u) _ d7]
    by_cases e : d = 6
    · rw [e, zu_eq, zu_eq]
    · rw [zu_ne _ _ (by omega), zu_ne _ _ e]
      exact q1 d hd
  · rw [zu_ne _ _ (by omega), zu_ne _ _ (by omega)]; exact q2
  · right
    dsimp only
    rw [zu_eq, zu_eq, zu_ne _ _ (by decide : 6 ≠ 7), zu_eq]
    exact ⟨hu, rfl⟩
  · dsimp only
    rw [zu_ne _ _ (by omega : 10 ≠ 7), zu_ne _ _ (by omega : 10 ≠ 6), zu_ne _ _ (by omega : 11 ≠ 7), zu_ne _ _ (by omega : 11 ≠ 6), zu_ne _ _ (by omega), zu_ne _ _ (by omega), zu_ne _ _ (by omega), zu_ne _ _ (by omega)]
    exact q5
theorem WAt_ld {π : Pl} {w : Nat → Int32} {sm : Nat → Int64} {σ : Sg} {k : Nat} {u v : Int32} (W : WAt w sm σ) (OK : sOk π σ) (hk : k < 6) (hu : ¬ u < Int32.ofNat 0) : WAt (zu (zu w (164 + 13 * k + 10) u) (164 + 13 * k + 11) v) sm (sBs (sBs σ k 10 u) k 11 v) := by
  rw [sBs2]
  refine WAt_b W OK hk ?_ fun j h1 h2 => by rw [zu_ne _ _ (by omega), zu_ne _ _ (by omega)]
  obtain ⟨q1, q2, q3, q4, q5⟩ := W.2.2.2.1 k hk
  refine ⟨fun d hd => ?_, ?_, q3.congr fun j h1 h2 => by rw [zu_ne _ _ (by omega), zu_ne _ _ (by omega)], ?_, ?_⟩
  · dsimp only
    have d7 : d ≠ 10 ∧ d ≠ 11 := by
      have a1 : ∀ k ∈ bKs, k ≠ 10 ∧ k ≠ 11 := by decide
      exact a1 d hd
    rw [zu_ne _ _ (by omega), zu_ne (zu (sB σ k).1 10 u) _ d7.2, zu_ne _ _ (by omega), zu_ne _ _ d7.1]
    exact q1 d hd
  · rw [zu_ne _ _ (by omega), zu_ne _ _ (by omega)]; exact q2
  · dsimp only
    rw [zu_ne _ _ (by omega : 6 ≠ 11), zu_ne _ _ (by omega : 6 ≠ 10), zu_ne _ _ (by omega : 7 ≠ 11), zu_ne _ _ (by omega : 7 ≠ 10), zu_ne _ _ (by omega), zu_ne _ _ (by omega)]
    exact q4
  · right
    dsimp only
    have a1 : zu (zu w (164 + 13 * k + 10) u) (164 + 13 * k + 11) v (164 + 13 * k + 10) = u := by rw [zu_ne _ _ (by omega), zu_eq]
    rw [a1, zu_eq, zu_eq, zu_ne _ _ (by omega : 10 ≠ 11), zu_eq]
    exact ⟨hu, rfl, rfl⟩
