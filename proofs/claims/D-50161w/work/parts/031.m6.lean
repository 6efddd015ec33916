/-! the twin: all riders that come by a time -/
/-- what is left to come by t, of the first k flows -/
def bMu (t : Int32) (n : Nat → Int32) : Nat → Nat
  | 0 => 0
  | k + 1 => bMu t n k + (t.toInt + 1 - (n (63 + k)).toInt).toNat
theorem bMu_congr {t : Int32} {n n' : Nat → Int32} : ∀ {k : Nat}, (∀ g, g < k → n' (63 + g) = n (63 + g)) → bMu t n' k = bMu t n k := by
  intro k
  induction k with
  | zero => intro _; rfl
  | succ k ih =>
    intro h
    unfold bMu
    rw [ih fun g hg => h g (by omega), h k (by omega)]
theorem bMu_lt {t : Int32} {n n' : Nat → Int32} {f : Nat} (h1 : ∀ g, g < 16 → g ≠ f → n' (63 + g) = n (63 + g)) (h2 : (n (63 + f)).toInt ≤ t.toInt) (h3 : (n (63 + f)).toInt < (n' (63 + f)).toInt) : ∀ {k : Nat}, k ≤ 16 → f < k → bMu t n' k < bMu t n k := by
  intro k
  induction k with
  | zero => intro _ h; cases h
  | succ k ih =>
    intro hk h
    unfold bMu
    by_cases e : f = k
    · subst e
      rw [bMu_congr fun g hg => h1 g (by omega) (by omega)]
      omega
    · have := ih (by omega) (by omega)
      rw [h1 k (by omega) (fun x => e x.symm)]
      omega
theorem bMu_big (t : Int32) (n : Nat → Int32) : ∀ k : Nat, k ≤ 16 → bMu t n k ≤ k * 4294967296 := by
  intro k
  induction k with
  | zero => intro _; exact Nat.zero_le _
  | succ k ih =>
    intro h
    have := ih (by omega)
    unfold bMu
    have a1 := Int32.toInt_lt t
    have a2 := Int32.le_toInt (n (63 + k))
    have a3 := Int32.le_toInt t
    have a4 := Int32.toInt_lt (n (63 + k))
    omega
theorem i_add {x e : Int32} (h0 : 0 ≤ e.toInt) (h1 : x.toInt + e.toInt < 2147483648) : (x + e).toInt = x.toInt + e.toInt := by
  rw [Int32.toInt_add]
  have a2 := Int32.le_toInt x
  have : (x.toInt + e.toInt).bmod (2 ^ 32) = x.toInt + e.toInt := by
    rw [Int.bmod_eq_of_le] <;> omega
  exact this
theorem sJn_n {σ : Sg} {s to f : Nat} {t : Int32} {j : Nat} (hr : ∀ r ∈ sR σ s, r.2.2 < 17) (hf : f < 17) (hj : j < 79 ∨ 164 ≤ j) : sN (sJn σ s to t f).1 j = sN σ j := by
  have e1 : sN (sGv σ s t) j = sN σ j := by
    show incs (sN σ) 2 _ j = _
    exact incs_ne (fun r h => hr r (List.mem_of_mem_take h)) (by omega) hj
  unfold sJn
  simp only [vs]
  split
  · simp only [vs]
    unfold inc
    rw [zu_ne _ _ (by omega), zu_ne _ _ (by omega)]; exact e1
  · simp only [vs]
    unfold inc
    rw [zu_ne _ _ (by omega)]; exact e1
theorem sOk_n {π : Pl} {σ : Sg} (O : sOk π σ) (f : Nat → Int32) : sOk π (vN σ f) := O
theorem sOk_jn {π : Pl} {σ : Sg} {s to f : Nat} {t : Int32} (O : sOk π σ) (hs : s < 10) (hto : to < 10) (hf : f < 17) : sOk π (sJn σ s to t f).1 := by
  have O1 := sOk_gv (s := s) (t := t) O
  unfold sJn
  simp only [vs]
  split
  · exact O1
  · next h40 =>
    obtain ⟨o1, o2⟩ := O1
    refine ⟨fun s' hs' => ?_, o2⟩
    show (zu (sR (sGv σ s t)) s (sR (sGv σ s t) s ++ [(to, t, f)]) s').length ≤ 40 ∧ ∀ r ∈ zu (sR (sGv σ s t)) s (sR (sGv σ s t) s ++ [(to, t, f)]) s', _
    have := o1 s' hs'
    by_cases e : s' = s
    · subst e
      rw [zu_eq]
      refine ⟨by rw [List.length_append]; simp; omega, fun r hr => ?_⟩
      rcases List.mem_append.mp hr with hr | hr
      · exact this.2 r hr
      · simp at hr; subst hr; exact ⟨hto, hf⟩
    · rw [zu_ne _ _ e]; exact this
section
variable {κ : zC} {h : zH} {b : Nat} {w : Nat → Int32} {sm : Nat → Int64} {o : Int32} {Q : zQ} {σ : Sg} {π : Pl}
theorem fnx_w {s : Nat} {t : Int32} (W : WAt w sm σ) {k : Nat} (hk : k ≤ 16) : fnx π w s t k = fnx π (sN σ) s t k := fnx_congr fun g hg => W.1 _ (by unfold nat1; omega)
theorem e7_bringsUp {s : Nat} {t : Int32} (S : MSh κ h b) (P : MPl h b π) (O : pOk π) (W : WAt w sm σ) (OK : sOk π σ) (hs : s < 10) (ht : t.toInt ≤ 1073741824)
    (hq : ∀ w', WAt w' sm (sBr π σ s t) → Q (.inl none) (hM h b w' sm o)) : Ev κ mX7_bringsUp [.ref b, .int (Int32.ofNat s), .int t] (hM h b w sm o) Q := by
  have S1 := mW S
  have S2 := mA S (90, 1, 16) (k := 10) (by decide)
  have S3 := mA S (91, 1, 16) (k := 11) (by decide)
  have P10 := P.2.2.2.2.2.2.2.2 10 (by decide)
  have P11 := P.2.2.2.2.2.2.2.2 11 (by decide)
  have O' := O
  obtain ⟨⟨-, hns⟩, -, hnf, hfl, -⟩ := O'
  have lp : ∀ (k : Nat) (σ : Sg) (w : Nat → Int32) (f4 : Option Value), WAt w sm σ → sOk π σ → bMu t (sN σ) (plN π 2) < k → (∀ w', WAt w' sm (sGv (sBf π s t k σ) s t) → Q (.inl none) (hM h b w' sm o)) →
      Go κ mX7_bringsUp 7 [some (.ref b), some (.int (Int32.ofNat s)), some (.int t), some (.int (enO (fnx π (sN σ) s t (plN π 2)))), f4] [] (hM h b w sm o) Q := by
    intro k
    induction k with
    | zero => intro σ w f4 _ _ hm; cases hm
    | succ k ih =>
      intro σ w f4 W OK hm hq
      simp (disch := first | assumption | omega | decide) only [gB, I_all, zK_v, zK_n, true_and, and_true, Nat.reduceAdd, Nat.reduceMul, Nat.reduceSub, z_lt, z_le, z_neq, not_false_eq_true, hM_all, gX7_bringsUp_h]
      cases hf : fnx π (sN σ) s t (plN π 2) with
      | none =>
        have e0 : enO none = Int32.ofInt (-2) := rfl
        have eb : sBf π s t (k + 1) σ = σ := by unfold sBf; rw [hf]
        rw [eb] at hq
        have e1 := fun Q => e7_giveUp (κ := κ) (sm := sm) (o := o) (Q := Q) (t := t) S hs (OK.1 s hs).1 (fun r hr => ((OK.1 s hs).2 r hr).2) (W.2.1 s hs)
        have W1 := WAt_gv (t := t) W OK hs
        simp (disch := first | assumption | omega | decide) only [gB, I_all, zK_v, zK_n, true_and, and_true, Nat.reduceAdd, Nat.reduceMul, Nat.reduceSub, z_lt, z_le, z_neq, not_false_eq_true, hM_all, gX7_bringsUp, S1, e0, e1]
        exact hq _ W1
      | some f =>
        obtain ⟨hf1, hf2, hf3⟩ := fnx_lt hf
        obtain ⟨g1, g2, g3, g4, g5, g6, -⟩ := hfl f hf1
        have e0 : enO (some f) = Int32.ofNat f := rfl
        have ew : w (63 + f) = sN σ (63 + f) := W.1 _ (by unfold nat1; omega)
        have eb : sBf π s t (k + 1) σ = sBf π s t k (vN (sJn σ s (plI π 10 f) (sN σ (63 + f)) f).1 (zu (sN (sJn σ s (plI π 10 f) (sN σ (63 + f)) f).1) (63 + f) (sN (sJn σ s (plI π 10 f) (sN σ (63 + f)) f).1 (63 + f) + plT π 11 f))) := by
          conv => lhs; unfold sBf; rw [hf]
        rw [eb] at hq
        have hj : ∀ j, (j < 79 ∨ 164 ≤ j) → sN (sJn σ s (plI π 10 f) (sN σ (63 + f)) f).1 j = sN σ j := fun j hj => sJn_n (fun r hr => ((OK.1 s hs).2 r hr).2) (by omega) hj
        have OK1 := sOk_jn (s := s) (to := plI π 10 f) (t := sN σ (63 + f)) OK hs (by omega) (by omega : f < 17)
        simp (disch := first | assumption | omega | decide) only [gB, I_all, zK_v, zK_n, true_and, and_true, Nat.reduceAdd, Nat.reduceMul, Nat.reduceSub, z_lt, z_le, z_neq, not_false_eq_true, hM_all, gX7_bringsUp, S1, S2, e0, P10, g3, ew]
        refine e7_joins (to := plI π 10 f) (f := f) S W OK hs (by omega) fun w1 W1 => ?_
        generalize sJn σ s (plI π 10 f) (sN σ (63 + f)) f = q at *
        have e2 := fun Q => e7_flowNext (κ := κ) (w := zu w1 (63 + f) (w1 (63 + f) + plT π 11 f)) (sm := sm) (o := o) (Q := Q) (t := t) S P O hs
        have W2 := WAt_n W1 (w1 (63 + f) + plT π 11 f) (i := 63 + f) (by unfold nat1; omega)
        have ew1 : w1 (63 + f) = sN q.1 (63 + f) := W1.1 _ (by unfold nat1; omega)
        rw [fnx_w W2 (by omega)] at e2
        rw [ew1] at W2 e2
        have ih' := ih _ _ (some (.int (if q.2 = true then Int32.ofNat 1 else Int32.ofNat 0))) W2 (sOk_n OK1 _) ?_ hq
        · simp (disch := first | assumption | omega | decide) only [gB, I_all, zK_v, zK_n, true_and, and_true, Nat.reduceAdd, Nat.reduceMul, Nat.reduceSub, z_lt, z_le, z_neq, not_false_eq_true, hM_all, gX7_bringsUp, S1, S3, P11, ew1, e2]
          exact ih'
        · refine Nat.lt_of_lt_of_le (bMu_lt (n := sN σ) (f := f) (fun g hg16 hg => ?_) ?_ ?_ (by omega) hf1) (Nat.le_of_lt_succ hm)
          · simp only [vs]
            rw [zu_ne _ _ (by omega)]
            exact hj _ (by omega)
          · exact Int32.le_iff_toInt_le.mp hf3
          · simp only [vs]
            rw [zu_eq, hj _ (by omega), i_add (by omega)]
            · omega
            · have := Int32.le_iff_toInt_le.mp hf3
              omega
  have e1 := fun Q => e7_flowNext (κ := κ) (w := w) (sm := sm) (o := o) (Q := Q) (t := t) S P O hs
  rw [fnx_w W (by omega)] at e1
  have hb : bMu t (sN σ) (plN π 2) < big := by
    have := bMu_big t (sN σ) (plN π 2) hnf
    unfold big
    omega
  have := lp big σ w none W OK hb hq
  simp (disch := first | assumption | omega | decide) only [gB, I_all, zK_v, zK_n, true_and, and_true, Nat.reduceAdd, Nat.reduceMul, Nat.reduceSub, z_lt, z_le, z_neq, not_false_eq_true, hM_all, gX7_bringsUp, S1, e1]
  exact this
end
