/-! the twin: riders alight, the loop -/
section
variable {κ : zC} {h : zH} {b : Nat} {w : Nat → Int32} {sm : Nat → Int64} {o : Int32} {Q : zQ} {σ : Sg} {π : Pl}
theorem e7_alightsL {k s : Nat} {t : Int32} {q : List Rd} (S : MSh κ h b) (hk : k < 6) (hs : s < 10) (hq99 : q.length ≤ 99) (hqr : ∀ r ∈ q, r.1 < 10 ∧ r.2.2 < 17) (e4 : w (164 + 13 * k + 4) = Int32.ofNat q.length) (eR : RAt w (1832 + 297 * k) q)
    (hq : ∀ w', AlI w w' k q s q.length → Q (.inl (some (.int (Int32.ofNat (gets s q).length)))) (hM h b (zu w' (164 + 13 * k + 4) (Int32.ofNat (stays s q).length)) (zu sm 1 (sm 1 + waits t (gets s q))) o)) : Ev κ mX7_alights [.ref b, .int (Int32.ofNat k), .int (Int32.ofNat s), .int t] (hM h b w sm o) Q := by
  have S1 := mW S
  have S3 := mA S (94, 2, 2) (k := 14) (by decide)
  have hB14 : kB κ ≤ b + 14 := Nat.le_trans S.1 (by omega)
  have eo := fun (w : Nat → Int32) (sm : Nat → Int64) (c : Nat) (hc : c < 13) Q => e7_of (κ := κ) (w := w) (sm := sm) (o := o) (Q := Q) (k := k) (c := c) S (by omega)
  have es := fun (w : Nat → Int32) (sm : Nat → Int64) (c : Nat) (v : Int32) (hc : c < 13) Q => e7_sets (κ := κ) (w := w) (sm := sm) (o := o) (Q := Q) (k := k) (c := c) (v := v) S (by omega)
  have ec := fun (w : Nat → Int32) (sm : Nat → Int64) (f : Nat) (hf : f < 17) Q => e7_counts (κ := κ) (w := w) (sm := sm) (o := o) (Q := Q) (f := f) (c := 4) S (by omega)
  have lp : ∀ (d i : Nat) (w' : Nat → Int32) (sm' : Nat → Int64) (a7 a8 : Option Value), i + d = q.length → AlI w w' k q s i → sm' = zu sm 1 (sm 1 + waits t (gets s (q.take i))) →
      Go κ mX7_alights 9 [some (.ref b), some (.int (Int32.ofNat k)), some (.int (Int32.ofNat s)), some (.int t), some (.int (Int32.ofNat (gets s (q.take i)).length)), some (.int (Int32.ofNat (stays s (q.take i)).length)), some (.int (Int32.ofNat i)), a7, a8] [] (hM h b w' sm' o) Q := by
    intro d
    induction d with
    | zero =>
      intro i w' sm' a7 a8 hi A hsm
      have hi' : i = q.length := by omega
      have e1 : w' (164 + 13 * k + 4) = Int32.ofNat q.length := by
        rw [A.1 _ (by omega), incs_ne (fun r hr => (hqr r (List.mem_of_mem_take (gets_mem hr))).2) (by omega) (by omega)]; exact e4
      subst hi'
      rw [List.take_length] at *
      simp (disch := first | assumption | omega | decide) only [gB, I_all, zK_v, zK_n, true_and, and_true, Nat.reduceAdd, Nat.reduceMul, Nat.reduceSub, z_lt, z_le, z_neq, not_false_eq_true, hM_all, gX7_alights_h.1]
      simp (disch := first | assumption | omega | decide) only [gB, I_all, zK_v, zK_n, true_and, and_true, Nat.reduceAdd, Nat.reduceMul, Nat.reduceSub, z_lt, z_le, z_neq, not_false_eq_true, hM_all, gX7_alights, S1, eo, es, e1]
      rw [hsm]
      exact hq _ A
    | succ d ih =>
      intro i w' sm' a7 a8 hi A hsm
      have hl : i < q.length := by omega
      have e1 : w' (164 + 13 * k + 4) = Int32.ofNat q.length := by
        rw [A.1 _ (by omega), incs_ne (fun r hr => (hqr r (List.mem_of_mem_take (gets_mem hr))).2) (by omega) (by omega)]; exact e4
      have g1 : q[i]? = some q[i] := List.getElem?_eq_getElem hl
      have hr := hqr _ (List.getElem_mem hl)
      obtain ⟨q1, q2, q3⟩ := A.2.2 i _ (Nat.le_refl _) g1
      generalize q[i] = r at g1 q1 q2 q3 hr
      have et : q.take (i + 1) = q.take i ++ [r] := by rw [List.take_add_one, g1]; rfl
      have hst : (stays s (q.take i)).length ≤ i := by
        have := stays_len s (q.take i)
        rw [List.length_take, Nat.min_eq_left (by omega)] at this
        exact this
      have ih' := fun w' sm' a7 a8 => ih (i + 1) w' sm' a7 a8 (by omega)
      simp (disch := first | assumption | omega | decide) only [gB, I_all, zK_v, zK_n, true_and, and_true, Nat.reduceAdd, Nat.reduceMul, Nat.reduceSub, z_lt, z_le, z_neq, not_false_eq_true, hM_all, gX7_alights_h.1]
      by_cases hc : r.1 = s
      · have A1 := A.get hk g1 hc hr.2
        rw [et, gets_snoc, if_pos hc, stays_snoc, if_pos hc, List.length_append] at ih'
        simp (disch := first | assumption | omega | decide) only [gB, I_all, zK_v, zK_n, true_and, and_true, Nat.reduceAdd, Nat.reduceMul, Nat.reduceSub, z_lt, z_le, z_neq, not_false_eq_true, hM_all, gX7_alights, S1, S3, hB14, eo, es, ec, e1, e7_seatAt, q1, q2, q3, zu_nx, zu_at]
        refine ih' _ _ _ _ A1 ?_
        rw [hsm, zu_eq, zu_zu, waits_snoc, Int64.add_assoc]
      · have A1 := A.stay g1 hc hq99
        rw [et, gets_snoc, if_neg hc, stays_snoc, if_neg hc, List.length_append] at ih'
        simp (disch := first | assumption | omega | decide) only [gB, I_all, zK_v, zK_n, true_and, and_true, Nat.reduceAdd, Nat.reduceMul, Nat.reduceSub, z_lt, z_le, z_neq, not_false_eq_true, hM_all, gX7_alights, gX7_alights_h.2, S1, S3, hB14, eo, es, ec, e1, e7_seatAt, q1, q2, q3, zu_nx, zu_at, Nat.add_zero]
        refine ih' _ _ _ _ A1 hsm
  have A0 : AlI w w k q s 0 := by
    unfold AlI
    rw [List.take_zero]
    exact ⟨fun j hj => (congrFun incs_nil j).symm, fun i r hi => (by cases hi), fun m r _ hm => eR m r hm⟩
  have := lp q.length 0 w sm none none (by omega) A0 (by
    rw [List.take_zero]
    show sm = zu sm 1 (sm 1 + 0)
    rw [Int64.add_zero, zu_self])
  simp (disch := first | assumption | omega | decide) only [gB, I_all, zK_v, zK_n, true_and, and_true, Nat.reduceAdd, Nat.reduceMul, Nat.reduceSub, z_lt, z_le, z_neq, not_false_eq_true, hM_all, gX7_alights]
  exact this
end
