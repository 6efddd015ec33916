/-! the twin: riders board -/
theorem waits_snoc (t : Int32) (l : List Rd) (r : Rd) : waits t (l ++ [r]) = waits t l + (t - r.2.1).toInt64 := by
  induction l with
  | nil =>
    show (t - r.2.1).toInt64 + 0 = 0 + (t - r.2.1).toInt64
    rw [Int64.add_zero, Int64.zero_add]
  | cons q l ih =>
    show (t - q.2.1).toInt64 + waits t (l ++ [r]) = (t - q.2.1).toInt64 + waits t l + _
    rw [ih, Int64.add_assoc]
/-- the state when the first i riders of l have boarded bus k, the row not yet moved -/
def sBi (σ : Sg) (k : Nat) (t : Int32) (l : List Rd) : Sg :=
  sBs (sBq (vS (vN σ (incs (sN σ) 3 l)) (zu (sS σ) 0 (sS σ 0 + waits t l))) k (bR σ k ++ l.map fun r => (r.1, t, r.2.2))) k 9 (bF σ k 9 + Int32.ofNat l.length)
theorem cnt_snoc (c j : Nat) (l : List Rd) (r : Rd) : cnt c j (l ++ [r]) = cnt c j l + if 79 + 5 * r.2.2 + c = j then 1 else 0 := by
  unfold cnt
  rw [List.filter_append, List.length_append]
  congr 1
  by_cases h : 79 + 5 * r.2.2 + c = j <;> simp [h]
theorem incs_snoc (w : Nat → Int32) (c : Nat) (l : List Rd) (r : Rd) : inc (incs w c l) (79 + 5 * r.2.2 + c) = incs w c (l ++ [r]) := by
  funext j
  unfold inc zu incs
  rw [cnt_snoc]
  by_cases h : j = 79 + 5 * r.2.2 + c
  · subst h
    rw [if_pos rfl, if_pos rfl, Int32.add_assoc, I_add]
  · rw [if_neg h, if_neg (fun e => h e.symm)]
    rfl
theorem zu_zu {α : Type} (w : Nat → α) (i : Nat) (u v : α) : zu (zu w i u) i v = zu w i v := by
  funext j
  unfold zu
  by_cases h : j = i <;> simp [h]
theorem sBi_snoc (σ : Sg) (k : Nat) (t : Int32) (l : List Rd) (r : Rd) : sB1 (sBi σ k t l) k t r = sBi σ k t (l ++ [r]) := by
  have e1 : sN (sBi σ k t l) = incs (sN σ) 3 l := rfl
  have e2 : sS (sBi σ k t l) = zu (sS σ) 0 (sS σ 0 + waits t l) := rfl
  have e3 : sB (sBi σ k t l) k = (zu (sB σ k).1 9 (bF σ k 9 + Int32.ofNat l.length), bR σ k ++ l.map fun r => (r.1, t, r.2.2)) := by
    unfold sBi
    rw [sBs_eq, sBq_eq]
    rfl
  have e4 : bR (sBi σ k t l) k = bR σ k ++ l.map fun r => (r.1, t, r.2.2) := congrArg Prod.snd e3
  have e5 : bF (sBi σ k t l) k 9 = bF σ k 9 + Int32.ofNat l.length := by
    show (sB (sBi σ k t l) k).1 9 = _
    rw [e3]
    dsimp only
    exact zu_eq _ _ _
  unfold sB1
  rw [e1, e4, e5]
  dsimp only
  rw [incs_snoc]
  have e6 : sS (vN (sBi σ k t l) (incs (sN σ) 3 (l ++ [r]))) = zu (sS σ) 0 (sS σ 0 + waits t l) := rfl
  rw [e6, zu_eq, zu_zu, Int64.add_assoc, ← waits_snoc, Int32.add_assoc, I_add, List.append_assoc]
  have e7 : (l.map fun r => ((r.1, t, r.2.2) : Rd)) ++ [(r.1, t, r.2.2)] = (l ++ [r]).map fun r => (r.1, t, r.2.2) := by rw [List.map_append]; rfl
  rw [e7]
  have e8 : l.length + 1 = (l ++ [r]).length := by rw [List.length_append]; rfl
  rw [e8]
  unfold sBi sBs sBq
  have e9 : ∀ (f : Nat → Bs) (q q' : Bs), zu (zu f k q) k q' = zu f k q' := fun f q q' => zu_zu f k q q'
  simp only [vs, zu_eq, e9, zu_zu]
  rfl
section
variable {κ : zC} {h : zH} {b : Nat} {w : Nat → Int32} {sm : Nat → Int64} {o : Int32} {Q : zQ} {σ : Sg} {π : Pl}
theorem sOk_b1 {σ : Sg} {k : Nat} {t : Int32} {r : Rd} (O : sOk π σ) (hk : k < 6) (hn : (bR σ k).length < plI π 7 k) (h99 : plI π 7 k ≤ 99) (hr : r.1 < 10 ∧ r.2.2 < 17) : sOk π (sB1 σ k t r) := by
  obtain ⟨o1, o2, o3, o4⟩ := O
  refine ⟨o1, o2, fun b hb => ?_, o4⟩
  have := o3 b hb
  by_cases e : b = k
  · subst e
    obtain ⟨q1, q2, q3, q4, q5⟩ := this
    have e3 : sB (sB1 σ b t r) b = (zu (sB σ b).1 9 (bF σ b 9 + Int32.ofNat 1), bR σ b ++ [(r.1, t, r.2.2)]) := by
      unfold sB1
      rw [sBs_eq, sBq_eq]
      rfl
    have e4 : bR (sB1 σ b t r) b = bR σ b ++ [(r.1, t, r.2.2)] := congrArg Prod.snd e3
    have e5 : ∀ c, c ≠ 9 → bF (sB1 σ b t r) b c = bF σ b c := fun c hc => by
      show (sB (sB1 σ b t r) b).1 c = _
      rw [e3]
      dsimp only
      exact zu_ne _ _ hc
    rw [e4, e5 0 (by omega), e5 1 (by omega)]
    refine ⟨by rw [List.length_append]; simp; omega, fun hb' => by rw [List.length_append]; simp; omega, fun q hq => ?_, q4, q5⟩
    rcases List.mem_append.mp hq with hq | hq
    · exact q3 q hq
    · simp at hq; subst hq; exact hr
  · have e3 : sB (sB1 σ k t r) b = sB σ b := by
      unfold sB1
      rw [sBs_ne _ _ _ e, sBq_ne _ _ e]
      rfl
    unfold bR bF at *
    rw [e3]
    exact this
end
