/-! the twin's constructor (printed by gen/gen_m65.py) -/
def dfl (k : Nat) : Value := if k = 2 then .long 0 else .int 0
/-- arrays made so far, since h0 -/
def AInv (κ : zC) (h0 h : zH) (b : Nat) (e : Nat → Value) (l : List (Nat × Nat × Nat × Nat)) : Prop :=
  (kB κ ≤ b ∧ hK h b = 107 ∧ hN h = b + 1 + l.length ∧ hU h = hU h0 + (l.map fun q => q.2.2.2).sum) ∧ (∀ x, x < b → hK h x = hK h0 x ∧ hL h x = hL h0 x ∧ ∀ j, hV h x j = hV h0 x j) ∧
  (∀ q ∈ l, 1 ≤ q.1 ∧ q.1 ≤ l.length ∧ hV h b q.2.1 = .ref (b + q.1) ∧ hK h (b + q.1) = q.2.2.1 ∧ hL h (b + q.1) = q.2.2.2 ∧ ∀ j, hV h (b + q.1) j = dfl q.2.2.1) ∧ ∀ g, (∀ q ∈ mTab, q.2.1 ≠ g) → hV h b g = e g
theorem AInv_s {κ : zC} {h0 h : zH} {b : Nat} {e : Nat → Value} {l : List (Nat × Nat × Nat × Nat)} (A : AInv κ h0 h b e l) {k g n n' : Nat} {v : Value} (hv : v = dfl k) (hn : n' = n) (hg : ∀ q ∈ l, q.2.1 ≠ g) (hm : ∃ q ∈ mTab, q.2.1 = g) : AInv κ h0 (hW (hA h k n' n' fun _ => v) b g (.ref (hN h))) b e (l ++ [(l.length + 1, g, k, n)]) := by
  subst hn hv
  obtain ⟨⟨a1, a2, a3, a4⟩, a5, a6, a7⟩ := A
  have eL : (l ++ [(l.length + 1, g, k, n')]).length = l.length + 1 := by rw [List.length_append]; rfl
  refine ⟨⟨a1, ?_, ?_, ?_⟩, fun x hx => ?_, fun q hq => ?_, fun g' hg' => ?_⟩
  · rw [hK_W, hK_A, if_neg (by omega), a2]
  · rw [hN_W, hN_A, a3, eL]; omega
  · rw [hU_W, hU_A, a4, List.map_append, List.sum_append]; simp; omega
  · obtain ⟨c1, c2, c3⟩ := a5 x hx
    refine ⟨?_, ?_, fun j => ?_⟩
    · rw [hK_W, hK_A, if_neg (by omega), c1]
    · rw [hL_W, hL_A, if_neg (by omega), c2]
    · rw [hV_Wn (by omega), hV_A, if_neg (by omega), c3]
  · rw [eL]
    rcases List.mem_append.mp hq with hq | hq
    · obtain ⟨c1, c2, c3, c4, c5, c6⟩ := a6 q hq
      refine ⟨c1, by omega, ?_, ?_, ?_, fun j => ?_⟩
      · rw [hV_W, if_pos rfl, if_neg (hg q hq), hV_A, if_neg (by omega), c3]
      · rw [hK_W, hK_A, if_neg (by omega), c4]
      · rw [hL_W, hL_A, if_neg (by omega), c5]
      · rw [hV_Wn (by omega), hV_A, if_neg (by omega), c6]
    · rw [List.mem_singleton] at hq
      subst hq
      refine ⟨by show 1 ≤ l.length + 1; omega, Nat.le_refl _, ?_, ?_, ?_, fun j => ?_⟩
      · show hV _ b g = .ref (b + (l.length + 1))
        rw [hV_W, if_pos rfl, if_pos rfl]
        have hh : hN h = b + (l.length + 1) := by omega
        rw [hh]
      · show hK _ (b + (l.length + 1)) = k
        rw [hK_W, hK_A, if_pos (by omega)]
      · show hL _ (b + (l.length + 1)) = n'
        rw [hL_W, hL_A, if_pos (by omega)]
      · show hV _ (b + (l.length + 1)) j = dfl k
        rw [hV_Wn (by omega), hV_A, if_pos (by omega)]
  · have hne : ¬ g' = g := by
      obtain ⟨q, hq, h1⟩ := hm
      intro h
      exact hg' q hq (h1.trans h.symm)
    rw [hV_W, if_pos rfl, if_neg hne, hV_A, if_neg (by omega), a7 g' hg']
section
variable {κ : zC} {h0 h : zH} {b : Nat} {Q : zQ} {e : Nat → Value}
theorem iS_0 (A : AInv κ h0 h b e (mTab.take 0)) (hq : ∀ h', AInv κ h0 h' b e (mTab.take 1) → Go κ mX7_init 13 [some (.ref b)] [] h' Q) : Go κ mX7_init 4 [some (.ref b)] [] h Q := by
  have f := hq _ (AInv_s A (k := 3) (g := 72) (n := 1400) (n' := (Int32.ofNat 1400).toNatClampNeg) (v := .int 0) rfl (by decide) (by decide) (by decide))
  have a2 := A.1.2.1
  have a3 := A.1.2.2.1
  rw [gX7_init_1.2.2.2.1, gX7_init_1.2.2.2.2.1, gX7_init_1.2.2.2.2.2.1, gX7_init_1.2.2.2.2.2.2.1]
  refine ⟨rfl, ⟨by decide, by decide⟩, ⟨?_, A.1.1, by simp [zFit, narrow, fits]⟩, f⟩
  rw [hK_A, if_neg (by omega), a2]
theorem iS_1 (A : AInv κ h0 h b e (mTab.take 1)) (hq : ∀ h', AInv κ h0 h' b e (mTab.take 2) → Go κ mX7_init 26 [some (.ref b)] [] h' Q) : Go κ mX7_init 19 [some (.ref b)] [] h Q := by
  have f := hq _ (AInv_s A (k := 1) (g := 82) (n := 4) (n' := (Int32.ofNat 4).toNatClampNeg) (v := .int 0) rfl (by decide) (by decide) (by decide))
  have a2 := A.1.2.1
  have a3 := A.1.2.2.1
  rw [gX7_init_1.2.2.2.2.2.2.2.2.2.2.1, gX7_init_1.2.2.2.2.2.2.2.2.2.2.2.1, gX7_init_1.2.2.2.2.2.2.2.2.2.2.2.2.1, gX7_init_1.2.2.2.2.2.2.2.2.2.2.2.2.2.1]
  refine ⟨rfl, ⟨by decide, by decide⟩, ⟨?_, A.1.1, by simp [zFit, narrow, fits]⟩, f⟩
  rw [hK_A, if_neg (by omega), a2]
theorem iS_2 (A : AInv κ h0 h b e (mTab.take 2)) (hq : ∀ h', AInv κ h0 h' b e (mTab.take 3) → Go κ mX7_init 34 [some (.ref b)] [] h' Q) : Go κ mX7_init 26 [some (.ref b)] [] h Q := by
  have f := hq _ (AInv_s A (k := 1) (g := 83) (n := 10) (n' := (Int32.ofNat 10).toNatClampNeg) (v := .int 0) rfl (by decide) (by decide) (by decide))
  have a2 := A.1.2.1
  have a3 := A.1.2.2.1
  rw [gX7_init_1.2.2.2.2.2.2.2.2.2.2.2.2.2.2.1, gX7_init_1.2.2.2.2.2.2.2.2.2.2.2.2.2.2.2.1, gX7_init_1.2.2.2.2.2.2.2.2.2.2.2.2.2.2.2.2.1, gX7_init_1.2.2.2.2.2.2.2.2.2.2.2.2.2.2.2.2.2.1]
  refine ⟨rfl, ⟨by decide, by decide⟩, ⟨?_, A.1.1, by simp [zFit, narrow, fits]⟩, f⟩
  rw [hK_A, if_neg (by omega), a2]
theorem iS_3 (A : AInv κ h0 h b e (mTab.take 3)) (hq : ∀ h', AInv κ h0 h' b e (mTab.take 4) → Go κ mX7_init 42 [some (.ref b)] [] h' Q) : Go κ mX7_init 34 [some (.ref b)] [] h Q := by
  have f := hq _ (AInv_s A (k := 1) (g := 84) (n := 10) (n' := (Int32.ofNat 10).toNatClampNeg) (v := .int 0) rfl (by decide) (by decide) (by decide))
  have a2 := A.1.2.1
  have a3 := A.1.2.2.1
  rw [gX7_init_1.2.2.2.2.2.2.2.2.2.2.2.2.2.2.2.2.2.2.1, gX7_init_1.2.2.2.2.2.2.2.2.2.2.2.2.2.2.2.2.2.2.2.1, gX7_init_1.2.2.2.2.2.2.2.2.2.2.2.2.2.2.2.2.2.2.2.2.1, gX7_init_1.2.2.2.2.2.2.2.2.2.2.2.2.2.2.2.2.2.2.2.2.2.1]
  refine ⟨rfl, ⟨by decide, by decide⟩, ⟨?_, A.1.1, by simp [zFit, narrow, fits]⟩, f⟩
  rw [hK_A, if_neg (by omega), a2]
theorem iS_4 (A : AInv κ h0 h b e (mTab.take 4)) (hq : ∀ h', AInv κ h0 h' b e (mTab.take 5) → Go κ mX7_init 50 [some (.ref b)] [] h' Q) : Go κ mX7_init 42 [some (.ref b)] [] h Q := by
  have f := hq _ (AInv_s A (k := 1) (g := 85) (n := 10) (n' := (Int32.ofNat 10).toNatClampNeg) (v := .int 0) rfl (by decide) (by decide) (by decide))
  have a2 := A.1.2.1
  have a3 := A.1.2.2.1
  rw [gX7_init_1.2.2.2.2.2.2.2.2.2.2.2.2.2.2.2.2.2.2.2.2.2.2.1, gX7_init_1.2.2.2.2.2.2.2.2.2.2.2.2.2.2.2.2.2.2.2.2.2.2.2.1, gX7_init_1.2.2.2.2.2.2.2.2.2.2.2.2.2.2.2.2.2.2.2.2.2.2.2.2.1, gX7_init_1.2.2.2.2.2.2.2.2.2.2.2.2.2.2.2.2.2.2.2.2.2.2.2.2.2.1]
  refine ⟨rfl, ⟨by decide, by decide⟩, ⟨?_, A.1.1, by simp [zFit, narrow, fits]⟩, f⟩
  rw [hK_A, if_neg (by omega), a2]
theorem iS_5 (A : AInv κ h0 h b e (mTab.take 5)) (hq : ∀ h', AInv κ h0 h' b e (mTab.take 6) → Go κ mX7_init 58 [some (.ref b)] [] h' Q) : Go κ mX7_init 50 [some (.ref b)] [] h Q := by
  have f := hq _ (AInv_s A (k := 1) (g := 86) (n := 10) (n' := (Int32.ofNat 10).toNatClampNeg) (v := .int 0) rfl (by decide) (by decide) (by decide))
  have a2 := A.1.2.1
  have a3 := A.1.2.2.1
  rw [gX7_init_1.2.2.2.2.2.2.2.2.2.2.2.2.2.2.2.2.2.2.2.2.2.2.2.2.2.2.1, gX7_init_1.2.2.2.2.2.2.2.2.2.2.2.2.2.2.2.2.2.2.2.2.2.2.2.2.2.2.2.1, gX7_init_1.2.2.2.2.2.2.2.2.2.2.2.2.2.2.2.2.2.2.2.2.2.2.2.2.2.2.2.2.1, gX7_init_1.2.2.2.2.2.2.2.2.2.2.2.2.2.2.2.2.2.2.2.2.2.2.2.2.2.2.2.2.2.1]
  refine ⟨rfl, ⟨by decide, by decide⟩, ⟨?_, A.1.1, by simp [zFit, narrow, fits]⟩, f⟩
  rw [hK_A, if_neg (by omega), a2]
theorem iS_6 (A : AInv κ h0 h b e (mTab.take 6)) (hq : ∀ h', AInv κ h0 h' b e (mTab.take 7) → Go κ mX7_init 66 [some (.ref b)] [] h' Q) : Go κ mX7_init 58 [some (.ref b)] [] h Q := by
  have f := hq _ (AInv_s A (k := 1) (g := 87) (n := 6) (n' := (Int32.ofNat 6).toNatClampNeg) (v := .int 0) rfl (by decide) (by decide) (by decide))
  have a2 := A.1.2.1
  have a3 := A.1.2.2.1
  rw [gX7_init_1.2.2.2.2.2.2.2.2.2.2.2.2.2.2.2.2.2.2.2.2.2.2.2.2.2.2.2.2.2.2.1, gX7_init_1.2.2.2.2.2.2.2.2.2.2.2.2.2.2.2.2.2.2.2.2.2.2.2.2.2.2.2.2.2.2.2.1, gX7_init_1.2.2.2.2.2.2.2.2.2.2.2.2.2.2.2.2.2.2.2.2.2.2.2.2.2.2.2.2.2.2.2.2.1, gX7_init_1.2.2.2.2.2.2.2.2.2.2.2.2.2.2.2.2.2.2.2.2.2.2.2.2.2.2.2.2.2.2.2.2.2.1]
  refine ⟨rfl, ⟨by decide, by decide⟩, ⟨?_, A.1.1, by simp [zFit, narrow, fits]⟩, f⟩
  rw [hK_A, if_neg (by omega), a2]
theorem iS_7 (A : AInv κ h0 h b e (mTab.take 7)) (hq : ∀ h', AInv κ h0 h' b e (mTab.take 8) → Go κ mX7_init 74 [some (.ref b)] [] h' Q) : Go κ mX7_init 66 [some (.ref b)] [] h Q := by
  have f := hq _ (AInv_s A (k := 1) (g := 88) (n := 6) (n' := (Int32.ofNat 6).toNatClampNeg) (v := .int 0) rfl (by decide) (by decide) (by decide))
  have a2 := A.1.2.1
  have a3 := A.1.2.2.1
  rw [gX7_init_1.2.2.2.2.2.2.2.2.2.2.2.2.2.2.2.2.2.2.2.2.2.2.2.2.2.2.2.2.2.2.2.2.2.2.1, gX7_init_1.2.2.2.2.2.2.2.2.2.2.2.2.2.2.2.2.2.2.2.2.2.2.2.2.2.2.2.2.2.2.2.2.2.2.2.1, gX7_init_1.2.2.2.2.2.2.2.2.2.2.2.2.2.2.2.2.2.2.2.2.2.2.2.2.2.2.2.2.2.2.2.2.2.2.2.2.1, gX7_init_1.2.2.2.2.2.2.2.2.2.2.2.2.2.2.2.2.2.2.2.2.2.2.2.2.2.2.2.2.2.2.2.2.2.2.2.2.2.1]
  refine ⟨rfl, ⟨by decide, by decide⟩, ⟨?_, A.1.1, by simp [zFit, narrow, fits]⟩, f⟩
  rw [hK_A, if_neg (by omega), a2]
theorem iS_8 (A : AInv κ h0 h b e (mTab.take 8)) (hq : ∀ h', AInv κ h0 h' b e (mTab.take 9) → Go κ mX7_init 82 [some (.ref b)] [] h' Q) : Go κ mX7_init 74 [some (.ref b)] [] h Q := by
  have f := hq _ (AInv_s A (k := 1) (g := 89) (n := 16) (n' := (Int32.ofNat 16).toNatClampNeg) (v := .int 0) rfl (by decide) (by decide) (by decide))
  have a2 := A.1.2.1
  have a3 := A.1.2.2.1
  rw [gX7_init_1.2.2.2.2.2.2.2.2.2.2.2.2.2.2.2.2.2.2.2.2.2.2.2.2.2.2.2.2.2.2.2.2.2.2.2.2.2.2.1, gX7_init_1.2.2.2.2.2.2.2.2.2.2.2.2.2.2.2.2.2.2.2.2.2.2.2.2.2.2.2.2.2.2.2.2.2.2.2.2.2.2.2.1, gX7_init_1.2.2.2.2.2.2.2.2.2.2.2.2.2.2.2.2.2.2.2.2.2.2.2.2.2.2.2.2.2.2.2.2.2.2.2.2.2.2.2.2.1, gX7_init_1.2.2.2.2.2.2.2.2.2.2.2.2.2.2.2.2.2.2.2.2.2.2.2.2.2.2.2.2.2.2.2.2.2.2.2.2.2.2.2.2.2.1]
  refine ⟨rfl, ⟨by decide, by decide⟩, ⟨?_, A.1.1, by simp [zFit, narrow, fits]⟩, f⟩
  rw [hK_A, if_neg (by omega), a2]
theorem iS_9 (A : AInv κ h0 h b e (mTab.take 9)) (hq : ∀ h', AInv κ h0 h' b e (mTab.take 10) → Go κ mX7_init 90 [some (.ref b)] [] h' Q) : Go κ mX7_init 82 [some (.ref b)] [] h Q := by
  have f := hq _ (AInv_s A (k := 1) (g := 90) (n := 16) (n' := (Int32.ofNat 16).toNatClampNeg) (v := .int 0) rfl (by decide) (by decide) (by decide))
  have a2 := A.1.2.1
  have a3 := A.1.2.2.1
  rw [gX7_init_1.2.2.2.2.2.2.2.2.2.2.2.2.2.2.2.2.2.2.2.2.2.2.2.2.2.2.2.2.2.2.2.2.2.2.2.2.2.2.2.2.2.2.1, gX7_init_1.2.2.2.2.2.2.2.2.2.2.2.2.2.2.2.2.2.2.2.2.2.2.2.2.2.2.2.2.2.2.2.2.2.2.2.2.2.2.2.2.2.2.2.1, gX7_init_1.2.2.2.2.2.2.2.2.2.2.2.2.2.2.2.2.2.2.2.2.2.2.2.2.2.2.2.2.2.2.2.2.2.2.2.2.2.2.2.2.2.2.2.2.1, gX7_init_1.2.2.2.2.2.2.2.2.2.2.2.2.2.2.2.2.2.2.2.2.2.2.2.2.2.2.2.2.2.2.2.2.2.2.2.2.2.2.2.2.2.2.2.2.2.1]
  refine ⟨rfl, ⟨by decide, by decide⟩, ⟨?_, A.1.1, by simp [zFit, narrow, fits]⟩, f⟩
  rw [hK_A, if_neg (by omega), a2]
theorem iS_10 (A : AInv κ h0 h b e (mTab.take 10)) (hq : ∀ h', AInv κ h0 h' b e (mTab.take 11) → Go κ mX7_init 98 [some (.ref b)] [] h' Q) : Go κ mX7_init 90 [some (.ref b)] [] h Q := by
  have f := hq _ (AInv_s A (k := 1) (g := 91) (n := 16) (n' := (Int32.ofNat 16).toNatClampNeg) (v := .int 0) rfl (by decide) (by decide) (by decide))
  have a2 := A.1.2.1
  have a3 := A.1.2.2.1
  rw [gX7_init_1.2.2.2.2.2.2.2.2.2.2.2.2.2.2.2.2.2.2.2.2.2.2.2.2.2.2.2.2.2.2.2.2.2.2.2.2.2.2.2.2.2.2.2.2.2.2.1, gX7_init_1.2.2.2.2.2.2.2.2.2.2.2.2.2.2.2.2.2.2.2.2.2.2.2.2.2.2.2.2.2.2.2.2.2.2.2.2.2.2.2.2.2.2.2.2.2.2.2.1, gX7_init_1.2.2.2.2.2.2.2.2.2.2.2.2.2.2.2.2.2.2.2.2.2.2.2.2.2.2.2.2.2.2.2.2.2.2.2.2.2.2.2.2.2.2.2.2.2.2.2.2.1, gX7_init_1.2.2.2.2.2.2.2.2.2.2.2.2.2.2.2.2.2.2.2.2.2.2.2.2.2.2.2.2.2.2.2.2.2.2.2.2.2.2.2.2.2.2.2.2.2.2.2.2.2.1]
  refine ⟨rfl, ⟨by decide, by decide⟩, ⟨?_, A.1.1, by simp [zFit, narrow, fits]⟩, f⟩
  rw [hK_A, if_neg (by omega), a2]
theorem iS_11 (A : AInv κ h0 h b e (mTab.take 11)) (hq : ∀ h', AInv κ h0 h' b e (mTab.take 12) → Go κ mX7_init 106 [some (.ref b)] [] h' Q) : Go κ mX7_init 98 [some (.ref b)] [] h Q := by
  have f := hq _ (AInv_s A (k := 1) (g := 92) (n := 16) (n' := (Int32.ofNat 16).toNatClampNeg) (v := .int 0) rfl (by decide) (by decide) (by decide))
  have a2 := A.1.2.1
  have a3 := A.1.2.2.1
  rw [gX7_init_1.2.2.2.2.2.2.2.2.2.2.2.2.2.2.2.2.2.2.2.2.2.2.2.2.2.2.2.2.2.2.2.2.2.2.2.2.2.2.2.2.2.2.2.2.2.2.2.2.2.2.1, gX7_init_1.2.2.2.2.2.2.2.2.2.2.2.2.2.2.2.2.2.2.2.2.2.2.2.2.2.2.2.2.2.2.2.2.2.2.2.2.2.2.2.2.2.2.2.2.2.2.2.2.2.2.2.1, gX7_init_1.2.2.2.2.2.2.2.2.2.2.2.2.2.2.2.2.2.2.2.2.2.2.2.2.2.2.2.2.2.2.2.2.2.2.2.2.2.2.2.2.2.2.2.2.2.2.2.2.2.2.2.2.1, gX7_init_1.2.2.2.2.2.2.2.2.2.2.2.2.2.2.2.2.2.2.2.2.2.2.2.2.2.2.2.2.2.2.2.2.2.2.2.2.2.2.2.2.2.2.2.2.2.2.2.2.2.2.2.2.2.1]
  refine ⟨rfl, ⟨by decide, by decide⟩, ⟨?_, A.1.1, by simp [zFit, narrow, fits]⟩, f⟩
  rw [hK_A, if_neg (by omega), a2]
theorem iS_12 (A : AInv κ h0 h b e (mTab.take 12)) (hq : ∀ h', AInv κ h0 h' b e (mTab.take 13) → Go κ mX7_init 115 [some (.ref b)] [] h' Q) : Go κ mX7_init 106 [some (.ref b)] [] h Q := by
  have f := hq _ (AInv_s A (k := 1) (g := 93) (n := 3614) (n' := (Int32.ofNat 3614).toNatClampNeg) (v := .int 0) rfl (by decide) (by decide) (by decide))
  have a2 := A.1.2.1
  have a3 := A.1.2.2.1
  rw [gX7_init_1.2.2.2.2.2.2.2.2.2.2.2.2.2.2.2.2.2.2.2.2.2.2.2.2.2.2.2.2.2.2.2.2.2.2.2.2.2.2.2.2.2.2.2.2.2.2.2.2.2.2.2.2.2.2.1, gX7_init_1.2.2.2.2.2.2.2.2.2.2.2.2.2.2.2.2.2.2.2.2.2.2.2.2.2.2.2.2.2.2.2.2.2.2.2.2.2.2.2.2.2.2.2.2.2.2.2.2.2.2.2.2.2.2.2.1, gX7_init_1.2.2.2.2.2.2.2.2.2.2.2.2.2.2.2.2.2.2.2.2.2.2.2.2.2.2.2.2.2.2.2.2.2.2.2.2.2.2.2.2.2.2.2.2.2.2.2.2.2.2.2.2.2.2.2.2.1, gX7_init_1.2.2.2.2.2.2.2.2.2.2.2.2.2.2.2.2.2.2.2.2.2.2.2.2.2.2.2.2.2.2.2.2.2.2.2.2.2.2.2.2.2.2.2.2.2.2.2.2.2.2.2.2.2.2.2.2.2.1]
  refine ⟨rfl, ⟨by decide, by decide⟩, ⟨?_, A.1.1, by simp [zFit, narrow, fits]⟩, f⟩
  rw [hK_A, if_neg (by omega), a2]
theorem iS_13 (A : AInv κ h0 h b e (mTab.take 13)) (hq : ∀ h', AInv κ h0 h' b e (mTab.take 14) → Go κ mX7_init 122 [some (.ref b)] [] h' Q) : Go κ mX7_init 115 [some (.ref b)] [] h Q := by
  have f := hq _ (AInv_s A (k := 2) (g := 94) (n := 2) (n' := (Int32.ofNat 2).toNatClampNeg) (v := .long 0) rfl (by decide) (by decide) (by decide))
  have a2 := A.1.2.1
  have a3 := A.1.2.2.1
  rw [gX7_init_1.2.2.2.2.2.2.2.2.2.2.2.2.2.2.2.2.2.2.2.2.2.2.2.2.2.2.2.2.2.2.2.2.2.2.2.2.2.2.2.2.2.2.2.2.2.2.2.2.2.2.2.2.2.2.2.2.2.2.1, gX7_init_1.2.2.2.2.2.2.2.2.2.2.2.2.2.2.2.2.2.2.2.2.2.2.2.2.2.2.2.2.2.2.2.2.2.2.2.2.2.2.2.2.2.2.2.2.2.2.2.2.2.2.2.2.2.2.2.2.2.2.2.1, gX7_init_1.2.2.2.2.2.2.2.2.2.2.2.2.2.2.2.2.2.2.2.2.2.2.2.2.2.2.2.2.2.2.2.2.2.2.2.2.2.2.2.2.2.2.2.2.2.2.2.2.2.2.2.2.2.2.2.2.2.2.2.2.1, gX7_init_1.2.2.2.2.2.2.2.2.2.2.2.2.2.2.2.2.2.2.2.2.2.2.2.2.2.2.2.2.2.2.2.2.2.2.2.2.2.2.2.2.2.2.2.2.2.2.2.2.2.2.2.2.2.2.2.2.2.2.2.2.2.1]
  refine ⟨rfl, ⟨by decide, by decide⟩, ⟨?_, A.1.1, by simp [zFit, narrow, fits]⟩, f⟩
  rw [hK_A, if_neg (by omega), a2]
theorem iS_14 (A : AInv κ h0 h b e (mTab.take 14)) (hq : ∀ h', AInv κ h0 h' b e (mTab.take 15) → Go κ mX7_init 131 [some (.ref b)] [] h' Q) : Go κ mX7_init 122 [some (.ref b)] [] h Q := by
  have f := hq _ (AInv_s A (k := 1) (g := 95) (n := 3614) (n' := (Int32.ofNat 3614).toNatClampNeg) (v := .int 0) rfl (by decide) (by decide) (by decide))
  have a2 := A.1.2.1
  have a3 := A.1.2.2.1
  rw [gX7_init_1.2.2.2.2.2.2.2.2.2.2.2.2.2.2.2.2.2.2.2.2.2.2.2.2.2.2.2.2.2.2.2.2.2.2.2.2.2.2.2.2.2.2.2.2.2.2.2.2.2.2.2.2.2.2.2.2.2.2.2.2.2.2.1, gX7_init_1.2.2.2.2.2.2.2.2.2.2.2.2.2.2.2.2.2.2.2.2.2.2.2.2.2.2.2.2.2.2.2.2.2.2.2.2.2.2.2.2.2.2.2.2.2.2.2.2.2.2.2.2.2.2.2.2.2.2.2.2.2.2.2.1, gX7_init_1.2.2.2.2.2.2.2.2.2.2.2.2.2.2.2.2.2.2.2.2.2.2.2.2.2.2.2.2.2.2.2.2.2.2.2.2.2.2.2.2.2.2.2.2.2.2.2.2.2.2.2.2.2.2.2.2.2.2.2.2.2.2.2.2.1, gX7_init_1.2.2.2.2.2.2.2.2.2.2.2.2.2.2.2.2.2.2.2.2.2.2.2.2.2.2.2.2.2.2.2.2.2.2.2.2.2.2.2.2.2.2.2.2.2.2.2.2.2.2.2.2.2.2.2.2.2.2.2.2.2.2.2.2.2.1]
  refine ⟨rfl, ⟨by decide, by decide⟩, ⟨?_, A.1.1, by simp [zFit, narrow, fits]⟩, f⟩
  rw [hK_A, if_neg (by omega), a2]
theorem iS_15 (A : AInv κ h0 h b e (mTab.take 15)) (hq : ∀ h', AInv κ h0 h' b e (mTab.take 16) → Go κ mX7_init 138 [some (.ref b)] [] h' Q) : Go κ mX7_init 131 [some (.ref b)] [] h Q := by
  have f := hq _ (AInv_s A (k := 2) (g := 96) (n := 2) (n' := (Int32.ofNat 2).toNatClampNeg) (v := .long 0) rfl (by decide) (by decide) (by decide))
  have a2 := A.1.2.1
  have a3 := A.1.2.2.1
  rw [gX7_init_1.2.2.2.2.2.2.2.2.2.2.2.2.2.2.2.2.2.2.2.2.2.2.2.2.2.2.2.2.2.2.2.2.2.2.2.2.2.2.2.2.2.2.2.2.2.2.2.2.2.2.2.2.2.2.2.2.2.2.2.2.2.2.2.2.2.2.1, gX7_init_1.2.2.2.2.2.2.2.2.2.2.2.2.2.2.2.2.2.2.2.2.2.2.2.2.2.2.2.2.2.2.2.2.2.2.2.2.2.2.2.2.2.2.2.2.2.2.2.2.2.2.2.2.2.2.2.2.2.2.2.2.2.2.2.2.2.2.2.1, gX7_init_1.2.2.2.2.2.2.2.2.2.2.2.2.2.2.2.2.2.2.2.2.2.2.2.2.2.2.2.2.2.2.2.2.2.2.2.2.2.2.2.2.2.2.2.2.2.2.2.2.2.2.2.2.2.2.2.2.2.2.2.2.2.2.2.2.2.2.2.2.1, gX7_init_1.2.2.2.2.2.2.2.2.2.2.2.2.2.2.2.2.2.2.2.2.2.2.2.2.2.2.2.2.2.2.2.2.2.2.2.2.2.2.2.2.2.2.2.2.2.2.2.2.2.2.2.2.2.2.2.2.2.2.2.2.2.2.2.2.2.2.2.2.2.1]
  refine ⟨rfl, ⟨by decide, by decide⟩, ⟨?_, A.1.1, by simp [zFit, narrow, fits]⟩, f⟩
  rw [hK_A, if_neg (by omega), a2]
theorem iS_16 (A : AInv κ h0 h b e (mTab.take 16)) (hq : ∀ h', AInv κ h0 h' b e (mTab.take 17) → Go κ mX7_init 147 [some (.ref b)] [] h' Q) : Go κ mX7_init 138 [some (.ref b)] [] h Q := by
  have f := hq _ (AInv_s A (k := 1) (g := 97) (n := 28912) (n' := (Int32.ofNat 28912).toNatClampNeg) (v := .int 0) rfl (by decide) (by decide) (by decide))
  have a2 := A.1.2.1
  have a3 := A.1.2.2.1
  rw [gX7_init_1.2.2.2.2.2.2.2.2.2.2.2.2.2.2.2.2.2.2.2.2.2.2.2.2.2.2.2.2.2.2.2.2.2.2.2.2.2.2.2.2.2.2.2.2.2.2.2.2.2.2.2.2.2.2.2.2.2.2.2.2.2.2.2.2.2.2.2.2.2.2.1, gX7_init_1.2.2.2.2.2.2.2.2.2.2.2.2.2.2.2.2.2.2.2.2.2.2.2.2.2.2.2.2.2.2.2.2.2.2.2.2.2.2.2.2.2.2.2.2.2.2.2.2.2.2.2.2.2.2.2.2.2.2.2.2.2.2.2.2.2.2.2.2.2.2.2.1, gX7_init_1.2.2.2.2.2.2.2.2.2.2.2.2.2.2.2.2.2.2.2.2.2.2.2.2.2.2.2.2.2.2.2.2.2.2.2.2.2.2.2.2.2.2.2.2.2.2.2.2.2.2.2.2.2.2.2.2.2.2.2.2.2.2.2.2.2.2.2.2.2.2.2.2.1, gX7_init_1.2.2.2.2.2.2.2.2.2.2.2.2.2.2.2.2.2.2.2.2.2.2.2.2.2.2.2.2.2.2.2.2.2.2.2.2.2.2.2.2.2.2.2.2.2.2.2.2.2.2.2.2.2.2.2.2.2.2.2.2.2.2.2.2.2.2.2.2.2.2.2.2.2.1]
  refine ⟨rfl, ⟨by decide, by decide⟩, ⟨?_, A.1.1, by simp [zFit, narrow, fits]⟩, f⟩
  rw [hK_A, if_neg (by omega), a2]
theorem iS_17 (A : AInv κ h0 h b e (mTab.take 17)) (hq : ∀ h', AInv κ h0 h' b e (mTab.take 18) → Go κ mX7_init 155 [some (.ref b)] [] h' Q) : Go κ mX7_init 147 [some (.ref b)] [] h Q := by
  have f := hq _ (AInv_s A (k := 2) (g := 98) (n := 16) (n' := (Int32.ofNat 16).toNatClampNeg) (v := .long 0) rfl (by decide) (by decide) (by decide))
  have a2 := A.1.2.1
  have a3 := A.1.2.2.1
  rw [gX7_init_1.2.2.2.2.2.2.2.2.2.2.2.2.2.2.2.2.2.2.2.2.2.2.2.2.2.2.2.2.2.2.2.2.2.2.2.2.2.2.2.2.2.2.2.2.2.2.2.2.2.2.2.2.2.2.2.2.2.2.2.2.2.2.2.2.2.2.2.2.2.2.2.2.2.2.1, gX7_init_1.2.2.2.2.2.2.2.2.2.2.2.2.2.2.2.2.2.2.2.2.2.2.2.2.2.2.2.2.2.2.2.2.2.2.2.2.2.2.2.2.2.2.2.2.2.2.2.2.2.2.2.2.2.2.2.2.2.2.2.2.2.2.2.2.2.2.2.2.2.2.2.2.2.2.2.1, gX7_init_1.2.2.2.2.2.2.2.2.2.2.2.2.2.2.2.2.2.2.2.2.2.2.2.2.2.2.2.2.2.2.2.2.2.2.2.2.2.2.2.2.2.2.2.2.2.2.2.2.2.2.2.2.2.2.2.2.2.2.2.2.2.2.2.2.2.2.2.2.2.2.2.2.2.2.2.2.1, gX7_init_1.2.2.2.2.2.2.2.2.2.2.2.2.2.2.2.2.2.2.2.2.2.2.2.2.2.2.2.2.2.2.2.2.2.2.2.2.2.2.2.2.2.2.2.2.2.2.2.2.2.2.2.2.2.2.2.2.2.2.2.2.2.2.2.2.2.2.2.2.2.2.2.2.2.2.2.2.2.1]
  refine ⟨rfl, ⟨by decide, by decide⟩, ⟨?_, A.1.1, by simp [zFit, narrow, fits]⟩, f⟩
  rw [hK_A, if_neg (by omega), a2]
theorem iS_18 (A : AInv κ h0 h b e (mTab.take 18)) (hq : ∀ h', AInv κ h0 h' b e (mTab.take 19) → Go κ mX7_init 164 [some (.ref b)] [] h' Q) : Go κ mX7_init 155 [some (.ref b)] [] h Q := by
  have f := hq _ (AInv_s A (k := 1) (g := 99) (n := 7228) (n' := (Int32.ofNat 7228).toNatClampNeg) (v := .int 0) rfl (by decide) (by decide) (by decide))
  have a2 := A.1.2.1
  have a3 := A.1.2.2.1
  rw [gX7_init_1.2.2.2.2.2.2.2.2.2.2.2.2.2.2.2.2.2.2.2.2.2.2.2.2.2.2.2.2.2.2.2.2.2.2.2.2.2.2.2.2.2.2.2.2.2.2.2.2.2.2.2.2.2.2.2.2.2.2.2.2.2.2.2.2.2.2.2.2.2.2.2.2.2.2.2.2.2.2.1, gX7_init_1.2.2.2.2.2.2.2.2.2.2.2.2.2.2.2.2.2.2.2.2.2.2.2.2.2.2.2.2.2.2.2.2.2.2.2.2.2.2.2.2.2.2.2.2.2.2.2.2.2.2.2.2.2.2.2.2.2.2.2.2.2.2.2.2.2.2.2.2.2.2.2.2.2.2.2.2.2.2.2.1, gX7_init_1.2.2.2.2.2.2.2.2.2.2.2.2.2.2.2.2.2.2.2.2.2.2.2.2.2.2.2.2.2.2.2.2.2.2.2.2.2.2.2.2.2.2.2.2.2.2.2.2.2.2.2.2.2.2.2.2.2.2.2.2.2.2.2.2.2.2.2.2.2.2.2.2.2.2.2.2.2.2.2.2.1, gX7_init_1.2.2.2.2.2.2.2.2.2.2.2.2.2.2.2.2.2.2.2.2.2.2.2.2.2.2.2.2.2.2.2.2.2.2.2.2.2.2.2.2.2.2.2.2.2.2.2.2.2.2.2.2.2.2.2.2.2.2.2.2.2.2.2.2.2.2.2.2.2.2.2.2.2.2.2.2.2.2.2.2.2.1]
  refine ⟨rfl, ⟨by decide, by decide⟩, ⟨?_, A.1.1, by simp [zFit, narrow, fits]⟩, f⟩
  rw [hK_A, if_neg (by omega), a2]
theorem iS_19 (A : AInv κ h0 h b e (mTab.take 19)) (hq : ∀ h', AInv κ h0 h' b e (mTab.take 20) → Go κ mX7_init 171 [some (.ref b)] [] h' Q) : Go κ mX7_init 164 [some (.ref b)] [] h Q := by
  have f := hq _ (AInv_s A (k := 2) (g := 100) (n := 4) (n' := (Int32.ofNat 4).toNatClampNeg) (v := .long 0) rfl (by decide) (by decide) (by decide))
  have a2 := A.1.2.1
  have a3 := A.1.2.2.1
  rw [gX7_init_1.2.2.2.2.2.2.2.2.2.2.2.2.2.2.2.2.2.2.2.2.2.2.2.2.2.2.2.2.2.2.2.2.2.2.2.2.2.2.2.2.2.2.2.2.2.2.2.2.2.2.2.2.2.2.2.2.2.2.2.2.2.2.2.2.2.2.2.2.2.2.2.2.2.2.2.2.2.2.2.2.2.2.1, gX7_init_1.2.2.2.2.2.2.2.2.2.2.2.2.2.2.2.2.2.2.2.2.2.2.2.2.2.2.2.2.2.2.2.2.2.2.2.2.2.2.2.2.2.2.2.2.2.2.2.2.2.2.2.2.2.2.2.2.2.2.2.2.2.2.2.2.2.2.2.2.2.2.2.2.2.2.2.2.2.2.2.2.2.2.2.1, gX7_init_1.2.2.2.2.2.2.2.2.2.2.2.2.2.2.2.2.2.2.2.2.2.2.2.2.2.2.2.2.2.2.2.2.2.2.2.2.2.2.2.2.2.2.2.2.2.2.2.2.2.2.2.2.2.2.2.2.2.2.2.2.2.2.2.2.2.2.2.2.2.2.2.2.2.2.2.2.2.2.2.2.2.2.2.2.1, gX7_init_1.2.2.2.2.2.2.2.2.2.2.2.2.2.2.2.2.2.2.2.2.2.2.2.2.2.2.2.2.2.2.2.2.2.2.2.2.2.2.2.2.2.2.2.2.2.2.2.2.2.2.2.2.2.2.2.2.2.2.2.2.2.2.2.2.2.2.2.2.2.2.2.2.2.2.2.2.2.2.2.2.2.2.2.2.2.1]
  refine ⟨rfl, ⟨by decide, by decide⟩, ⟨?_, A.1.1, by simp [zFit, narrow, fits]⟩, f⟩
  rw [hK_A, if_neg (by omega), a2]
theorem iS_20 (A : AInv κ h0 h b e (mTab.take 20)) (hq : ∀ h', AInv κ h0 h' b e (mTab.take 21) → Go κ mX7_init 178 [some (.ref b)] [] h' Q) : Go κ mX7_init 171 [some (.ref b)] [] h Q := by
  have f := hq _ (AInv_s A (k := 4) (g := 101) (n := 2) (n' := (Int32.ofNat 2).toNatClampNeg) (v := .int 0) rfl (by decide) (by decide) (by decide))
  have a2 := A.1.2.1
  have a3 := A.1.2.2.1
  rw [gX7_init_1.2.2.2.2.2.2.2.2.2.2.2.2.2.2.2.2.2.2.2.2.2.2.2.2.2.2.2.2.2.2.2.2.2.2.2.2.2.2.2.2.2.2.2.2.2.2.2.2.2.2.2.2.2.2.2.2.2.2.2.2.2.2.2.2.2.2.2.2.2.2.2.2.2.2.2.2.2.2.2.2.2.2.2.2.2.2.1, gX7_init_1.2.2.2.2.2.2.2.2.2.2.2.2.2.2.2.2.2.2.2.2.2.2.2.2.2.2.2.2.2.2.2.2.2.2.2.2.2.2.2.2.2.2.2.2.2.2.2.2.2.2.2.2.2.2.2.2.2.2.2.2.2.2.2.2.2.2.2.2.2.2.2.2.2.2.2.2.2.2.2.2.2.2.2.2.2.2.2.1, gX7_init_1.2.2.2.2.2.2.2.2.2.2.2.2.2.2.2.2.2.2.2.2.2.2.2.2.2.2.2.2.2.2.2.2.2.2.2.2.2.2.2.2.2.2.2.2.2.2.2.2.2.2.2.2.2.2.2.2.2.2.2.2.2.2.2.2.2.2.2.2.2.2.2.2.2.2.2.2.2.2.2.2.2.2.2.2.2.2.2.2.1, gX7_init_1.2.2.2.2.2.2.2.2.2.2.2.2.2.2.2.2.2.2.2.2.2.2.2.2.2.2.2.2.2.2.2.2.2.2.2.2.2.2.2.2.2.2.2.2.2.2.2.2.2.2.2.2.2.2.2.2.2.2.2.2.2.2.2.2.2.2.2.2.2.2.2.2.2.2.2.2.2.2.2.2.2.2.2.2.2.2.2.2.2.1]
  refine ⟨rfl, ⟨by decide, by decide⟩, ⟨?_, A.1.1, by simp [zFit, narrow, fits]⟩, f⟩
  rw [hK_A, if_neg (by omega), a2]
theorem iS_21 (A : AInv κ h0 h b e (mTab.take 21)) (hq : ∀ h', AInv κ h0 h' b e (mTab.take 22) → Go κ mX7_init 186 [some (.ref b)] [] h' Q) : Go κ mX7_init 178 [some (.ref b)] [] h Q := by
  have f := hq _ (AInv_s A (k := 1) (g := 114) (n := 8) (n' := (Int32.ofNat 8).toNatClampNeg) (v := .int 0) rfl (by decide) (by decide) (by decide))
  have a2 := A.1.2.1
  have a3 := A.1.2.2.1
  rw [gX7_init_1.2.2.2.2.2.2.2.2.2.2.2.2.2.2.2.2.2.2.2.2.2.2.2.2.2.2.2.2.2.2.2.2.2.2.2.2.2.2.2.2.2.2.2.2.2.2.2.2.2.2.2.2.2.2.2.2.2.2.2.2.2.2.2.2.2.2.2.2.2.2.2.2.2.2.2.2.2.2.2.2.2.2.2.2.2.2.2.2.2.2.1, gX7_init_1.2.2.2.2.2.2.2.2.2.2.2.2.2.2.2.2.2.2.2.2.2.2.2.2.2.2.2.2.2.2.2.2.2.2.2.2.2.2.2.2.2.2.2.2.2.2.2.2.2.2.2.2.2.2.2.2.2.2.2.2.2.2.2.2.2.2.2.2.2.2.2.2.2.2.2.2.2.2.2.2.2.2.2.2.2.2.2.2.2.2.2.1, gX7_init_1.2.2.2.2.2.2.2.2.2.2.2.2.2.2.2.2.2.2.2.2.2.2.2.2.2.2.2.2.2.2.2.2.2.2.2.2.2.2.2.2.2.2.2.2.2.2.2.2.2.2.2.2.2.2.2.2.2.2.2.2.2.2.2.2.2.2.2.2.2.2.2.2.2.2.2.2.2.2.2.2.2.2.2.2.2.2.2.2.2.2.2.2.1, gX7_init_1.2.2.2.2.2.2.2.2.2.2.2.2.2.2.2.2.2.2.2.2.2.2.2.2.2.2.2.2.2.2.2.2.2.2.2.2.2.2.2.2.2.2.2.2.2.2.2.2.2.2.2.2.2.2.2.2.2.2.2.2.2.2.2.2.2.2.2.2.2.2.2.2.2.2.2.2.2.2.2.2.2.2.2.2.2.2.2.2.2.2.2.2.2.1]
  refine ⟨rfl, ⟨by decide, by decide⟩, ⟨?_, A.1.1, by simp [zFit, narrow, fits]⟩, f⟩
  rw [hK_A, if_neg (by omega), a2]
theorem iS_22 (A : AInv κ h0 h b e (mTab.take 22)) (hq : ∀ h', AInv κ h0 h' b e (mTab.take 23) → Go κ mX7_init 194 [some (.ref b)] [] h' Q) : Go κ mX7_init 186 [some (.ref b)] [] h Q := by
  have f := hq _ (AInv_s A (k := 1) (g := 115) (n := 10) (n' := (Int32.ofNat 10).toNatClampNeg) (v := .int 0) rfl (by decide) (by decide) (by decide))
  have a2 := A.1.2.1
  have a3 := A.1.2.2.1
  rw [gX7_init_1.2.2.2.2.2.2.2.2.2.2.2.2.2.2.2.2.2.2.2.2.2.2.2.2.2.2.2.2.2.2.2.2.2.2.2.2.2.2.2.2.2.2.2.2.2.2.2.2.2.2.2.2.2.2.2.2.2.2.2.2.2.2.2.2.2.2.2.2.2.2.2.2.2.2.2.2.2.2.2.2.2.2.2.2.2.2.2.2.2.2.2.2.2.2.1, gX7_init_1.2.2.2.2.2.2.2.2.2.2.2.2.2.2.2.2.2.2.2.2.2.2.2.2.2.2.2.2.2.2.2.2.2.2.2.2.2.2.2.2.2.2.2.2.2.2.2.2.2.2.2.2.2.2.2.2.2.2.2.2.2.2.2.2.2.2.2.2.2.2.2.2.2.2.2.2.2.2.2.2.2.2.2.2.2.2.2.2.2.2.2.2.2.2.2.1, gX7_init_1.2.2.2.2.2.2.2.2.2.2.2.2.2.2.2.2.2.2.2.2.2.2.2.2.2.2.2.2.2.2.2.2.2.2.2.2.2.2.2.2.2.2.2.2.2.2.2.2.2.2.2.2.2.2.2.2.2.2.2.2.2.2.2.2.2.2.2.2.2.2.2.2.2.2.2.2.2.2.2.2.2.2.2.2.2.2.2.2.2.2.2.2.2.2.2.2.1, gX7_init_1.2.2.2.2.2.2.2.2.2.2.2.2.2.2.2.2.2.2.2.2.2.2.2.2.2.2.2.2.2.2.2.2.2.2.2.2.2.2.2.2.2.2.2.2.2.2.2.2.2.2.2.2.2.2.2.2.2.2.2.2.2.2.2.2.2.2.2.2.2.2.2.2.2.2.2.2.2.2.2.2.2.2.2.2.2.2.2.2.2.2.2.2.2.2.2.2.2.1]
  refine ⟨rfl, ⟨by decide, by decide⟩, ⟨?_, A.1.1, by simp [zFit, narrow, fits]⟩, f⟩
  rw [hK_A, if_neg (by omega), a2]
theorem iS_23 (A : AInv κ h0 h b e (mTab.take 23)) (hq : ∀ h', AInv κ h0 h' b e (mTab.take 24) → Go κ mX7_init 202 [some (.ref b)] [] h' Q) : Go κ mX7_init 194 [some (.ref b)] [] h Q := by
  have f := hq _ (AInv_s A (k := 1) (g := 116) (n := 10) (n' := (Int32.ofNat 10).toNatClampNeg) (v := .int 0) rfl (by decide) (by decide) (by decide))
  have a2 := A.1.2.1
  have a3 := A.1.2.2.1
  rw [gX7_init_1.2.2.2.2.2.2.2.2.2.2.2.2.2.2.2.2.2.2.2.2.2.2.2.2.2.2.2.2.2.2.2.2.2.2.2.2.2.2.2.2.2.2.2.2.2.2.2.2.2.2.2.2.2.2.2.2.2.2.2.2.2.2.2.2.2.2.2.2.2.2.2.2.2.2.2.2.2.2.2.2.2.2.2.2.2.2.2.2.2.2.2.2.2.2.2.2.2.2.1, gX7_init_1.2.2.2.2.2.2.2.2.2.2.2.2.2.2.2.2.2.2.2.2.2.2.2.2.2.2.2.2.2.2.2.2.2.2.2.2.2.2.2.2.2.2.2.2.2.2.2.2.2.2.2.2.2.2.2.2.2.2.2.2.2.2.2.2.2.2.2.2.2.2.2.2.2.2.2.2.2.2.2.2.2.2.2.2.2.2.2.2.2.2.2.2.2.2.2.2.2.2.2, gX7_init_2.1, gX7_init_2.2.1]
  refine ⟨rfl, ⟨by decide, by decide⟩, ⟨?_, A.1.1, by simp [zFit, narrow, fits]⟩, f⟩
  rw [hK_A, if_neg (by omega), a2]
theorem iS_24 (A : AInv κ h0 h b e (mTab.take 24)) (hq : ∀ h', AInv κ h0 h' b e (mTab.take 25) → Go κ mX7_init 210 [some (.ref b)] [] h' Q) : Go κ mX7_init 202 [some (.ref b)] [] h Q := by
  have f := hq _ (AInv_s A (k := 1) (g := 117) (n := 10) (n' := (Int32.ofNat 10).toNatClampNeg) (v := .int 0) rfl (by decide) (by decide) (by decide))
  have a2 := A.1.2.1
  have a3 := A.1.2.2.1
  rw [gX7_init_2.2.2.1, gX7_init_2.2.2.2.1, gX7_init_2.2.2.2.2.1, gX7_init_2.2.2.2.2.2.1]
  refine ⟨rfl, ⟨by decide, by decide⟩, ⟨?_, A.1.1, by simp [zFit, narrow, fits]⟩, f⟩
  rw [hK_A, if_neg (by omega), a2]
theorem iS_25 (A : AInv κ h0 h b e (mTab.take 25)) (hq : ∀ h', AInv κ h0 h' b e (mTab.take 26) → Go κ mX7_init 218 [some (.ref b)] [] h' Q) : Go κ mX7_init 210 [some (.ref b)] [] h Q := by
  have f := hq _ (AInv_s A (k := 1) (g := 118) (n := 10) (n' := (Int32.ofNat 10).toNatClampNeg) (v := .int 0) rfl (by decide) (by decide) (by decide))
  have a2 := A.1.2.1
  have a3 := A.1.2.2.1
  rw [gX7_init_2.2.2.2.2.2.2.1, gX7_init_2.2.2.2.2.2.2.2.1, gX7_init_2.2.2.2.2.2.2.2.2.1, gX7_init_2.2.2.2.2.2.2.2.2.2.1]
  refine ⟨rfl, ⟨by decide, by decide⟩, ⟨?_, A.1.1, by simp [zFit, narrow, fits]⟩, f⟩
  rw [hK_A, if_neg (by omega), a2]
theorem iS_26 (A : AInv κ h0 h b e (mTab.take 26)) (hq : ∀ h', AInv κ h0 h' b e (mTab.take 27) → Go κ mX7_init 226 [some (.ref b)] [] h' Q) : Go κ mX7_init 218 [some (.ref b)] [] h Q := by
  have f := hq _ (AInv_s A (k := 1) (g := 119) (n := 6) (n' := (Int32.ofNat 6).toNatClampNeg) (v := .int 0) rfl (by decide) (by decide) (by decide))
  have a2 := A.1.2.1
  have a3 := A.1.2.2.1
  rw [gX7_init_2.2.2.2.2.2.2.2.2.2.2.1, gX7_init_2.2.2.2.2.2.2.2.2.2.2.2.1, gX7_init_2.2.2.2.2.2.2.2.2.2.2.2.2.1, gX7_init_2.2.2.2.2.2.2.2.2.2.2.2.2.2.1]
  refine ⟨rfl, ⟨by decide, by decide⟩, ⟨?_, A.1.1, by simp [zFit, narrow, fits]⟩, f⟩
  rw [hK_A, if_neg (by omega), a2]
theorem iS_27 (A : AInv κ h0 h b e (mTab.take 27)) (hq : ∀ h', AInv κ h0 h' b e (mTab.take 28) → Go κ mX7_init 234 [some (.ref b)] [] h' Q) : Go κ mX7_init 226 [some (.ref b)] [] h Q := by
  have f := hq _ (AInv_s A (k := 1) (g := 120) (n := 6) (n' := (Int32.ofNat 6).toNatClampNeg) (v := .int 0) rfl (by decide) (by decide) (by decide))
  have a2 := A.1.2.1
  have a3 := A.1.2.2.1
  rw [gX7_init_2.2.2.2.2.2.2.2.2.2.2.2.2.2.2.1, gX7_init_2.2.2.2.2.2.2.2.2.2.2.2.2.2.2.2.1, gX7_init_2.2.2.2.2.2.2.2.2.2.2.2.2.2.2.2.2.1, gX7_init_2.2.2.2.2.2.2.2.2.2.2.2.2.2.2.2.2.2.1]
  refine ⟨rfl, ⟨by decide, by decide⟩, ⟨?_, A.1.1, by simp [zFit, narrow, fits]⟩, f⟩
  rw [hK_A, if_neg (by omega), a2]
theorem iS_28 (A : AInv κ h0 h b e (mTab.take 28)) (hq : ∀ h', AInv κ h0 h' b e (mTab.take 29) → Go κ mX7_init 242 [some (.ref b)] [] h' Q) : Go κ mX7_init 234 [some (.ref b)] [] h Q := by
  have f := hq _ (AInv_s A (k := 1) (g := 121) (n := 16) (n' := (Int32.ofNat 16).toNatClampNeg) (v := .int 0) rfl (by decide) (by decide) (by decide))
  have a2 := A.1.2.1
  have a3 := A.1.2.2.1
  rw [gX7_init_2.2.2.2.2.2.2.2.2.2.2.2.2.2.2.2.2.2.2.1, gX7_init_2.2.2.2.2.2.2.2.2.2.2.2.2.2.2.2.2.2.2.2.1, gX7_init_2.2.2.2.2.2.2.2.2.2.2.2.2.2.2.2.2.2.2.2.2.1, gX7_init_2.2.2.2.2.2.2.2.2.2.2.2.2.2.2.2.2.2.2.2.2.2.1]
  refine ⟨rfl, ⟨by decide, by decide⟩, ⟨?_, A.1.1, by simp [zFit, narrow, fits]⟩, f⟩
  rw [hK_A, if_neg (by omega), a2]
theorem iS_29 (A : AInv κ h0 h b e (mTab.take 29)) (hq : ∀ h', AInv κ h0 h' b e (mTab.take 30) → Go κ mX7_init 250 [some (.ref b)] [] h' Q) : Go κ mX7_init 242 [some (.ref b)] [] h Q := by
  have f := hq _ (AInv_s A (k := 1) (g := 122) (n := 16) (n' := (Int32.ofNat 16).toNatClampNeg) (v := .int 0) rfl (by decide) (by decide) (by decide))
  have a2 := A.1.2.1
  have a3 := A.1.2.2.1
  rw [gX7_init_2.2.2.2.2.2.2.2.2.2.2.2.2.2.2.2.2.2.2.2.2.2.2.1, gX7_init_2.2.2.2.2.2.2.2.2.2.2.2.2.2.2.2.2.2.2.2.2.2.2.2.1, gX7_init_2.2.2.2.2.2.2.2.2.2.2.2.2.2.2.2.2.2.2.2.2.2.2.2.2.1, gX7_init_2.2.2.2.2.2.2.2.2.2.2.2.2.2.2.2.2.2.2.2.2.2.2.2.2.2.1]
  refine ⟨rfl, ⟨by decide, by decide⟩, ⟨?_, A.1.1, by simp [zFit, narrow, fits]⟩, f⟩
  rw [hK_A, if_neg (by omega), a2]
theorem iS_30 (A : AInv κ h0 h b e (mTab.take 30)) (hq : ∀ h', AInv κ h0 h' b e (mTab.take 31) → Go κ mX7_init 258 [some (.ref b)] [] h' Q) : Go κ mX7_init 250 [some (.ref b)] [] h Q := by
  have f := hq _ (AInv_s A (k := 1) (g := 123) (n := 16) (n' := (Int32.ofNat 16).toNatClampNeg) (v := .int 0) rfl (by decide) (by decide) (by decide))
  have a2 := A.1.2.1
  have a3 := A.1.2.2.1
  rw [gX7_init_2.2.2.2.2.2.2.2.2.2.2.2.2.2.2.2.2.2.2.2.2.2.2.2.2.2.2.1, gX7_init_2.2.2.2.2.2.2.2.2.2.2.2.2.2.2.2.2.2.2.2.2.2.2.2.2.2.2.2.1, gX7_init_2.2.2.2.2.2.2.2.2.2.2.2.2.2.2.2.2.2.2.2.2.2.2.2.2.2.2.2.2.1, gX7_init_2.2.2.2.2.2.2.2.2.2.2.2.2.2.2.2.2.2.2.2.2.2.2.2.2.2.2.2.2.2.1]
  refine ⟨rfl, ⟨by decide, by decide⟩, ⟨?_, A.1.1, by simp [zFit, narrow, fits]⟩, f⟩
  rw [hK_A, if_neg (by omega), a2]
theorem iS_31 (A : AInv κ h0 h b e (mTab.take 31)) (hq : ∀ h', AInv κ h0 h' b e (mTab.take 32) → Go κ mX7_init 266 [some (.ref b)] [] h' Q) : Go κ mX7_init 258 [some (.ref b)] [] h Q := by
  have f := hq _ (AInv_s A (k := 1) (g := 124) (n := 16) (n' := (Int32.ofNat 16).toNatClampNeg) (v := .int 0) rfl (by decide) (by decide) (by decide))
  have a2 := A.1.2.1
  have a3 := A.1.2.2.1
  rw [gX7_init_2.2.2.2.2.2.2.2.2.2.2.2.2.2.2.2.2.2.2.2.2.2.2.2.2.2.2.2.2.2.2.1, gX7_init_2.2.2.2.2.2.2.2.2.2.2.2.2.2.2.2.2.2.2.2.2.2.2.2.2.2.2.2.2.2.2.2.1, gX7_init_2.2.2.2.2.2.2.2.2.2.2.2.2.2.2.2.2.2.2.2.2.2.2.2.2.2.2.2.2.2.2.2.2.1, gX7_init_2.2.2.2.2.2.2.2.2.2.2.2.2.2.2.2.2.2.2.2.2.2.2.2.2.2.2.2.2.2.2.2.2.2.1]
  refine ⟨rfl, ⟨by decide, by decide⟩, ⟨?_, A.1.1, by simp [zFit, narrow, fits]⟩, f⟩
  rw [hK_A, if_neg (by omega), a2]
theorem iE (A : AInv κ h0 h b e (mTab.take 1)) (hq : ∀ h', AInv κ h0 h' b (zu e 74 (.int (Int32.ofInt (-2)))) (mTab.take 1) → Go κ mX7_init 19 [some (.ref b)] [] h' Q) : Go κ mX7_init 13 [some (.ref b)] [] h Q := by
  have f := hq (hW h b 74 (.int (Int32.ofInt (-2)))) (by
    obtain ⟨⟨a1, a2, a3, a4⟩, a5, a6, a7⟩ := A
    refine ⟨⟨a1, a2, a3, a4⟩, fun x hx => ⟨(a5 x hx).1, (a5 x hx).2.1, fun j => by rw [hV_Wn (by omega)]; exact (a5 x hx).2.2 j⟩, fun q hq => ?_, fun g hg => ?_⟩
    · obtain ⟨c1, c2, c3, c4, c5, c6⟩ := a6 q hq
      refine ⟨c1, c2, ?_, c4, c5, fun j => by rw [hV_Wn (by omega)]; exact c6 j⟩
      rw [hV_W, if_pos rfl, if_neg, c3]
      exact (by decide : ∀ q ∈ mTab.take 1, ¬ q.2.1 = 74) q hq
    · rw [hV_W, if_pos rfl]
      unfold zu
      rw [a7 g hg])
  rw [gX7_init_1.2.2.2.2.2.2.2.1, gX7_init_1.2.2.2.2.2.2.2.2.1, gX7_init_1.2.2.2.2.2.2.2.2.2.1]
  exact ⟨rfl, ⟨A.1.2.1, A.1.1, by decide⟩, f⟩
/-- all arrays made -/
theorem iA (e0 : e = hV h0 b) (hk : hK h0 b = 107) (hB : kB κ ≤ b) (hn : hN h0 = b + 1) (hq : ∀ h', AInv κ h0 h' b (zu e 74 (.int (Int32.ofInt (-2)))) mTab → Go κ mX7_init 266 [some (.ref b)] [] h' Q) : Ev κ mX7_init [.ref b] h0 Q := by
  rw [gX7_init_1.1, gX7_init_1.2.1, gX7_init_1.2.2.1]
  refine ⟨rfl, by decide, ?_⟩
  refine iS_0 (e := e) (h0 := h0) ⟨⟨hB, hk, hn, rfl⟩, fun x hx => ⟨rfl, rfl, fun _ => rfl⟩, fun q hq => absurd hq List.not_mem_nil, fun g _ => by rw [e0]⟩ fun h1 A1 => iE A1 fun h1 A1 => ?_
  refine iS_1 A1 fun h2 A2 => ?_
  refine iS_2 A2 fun h3 A3 => ?_
  refine iS_3 A3 fun h4 A4 => ?_
  refine iS_4 A4 fun h5 A5 => ?_
  refine iS_5 A5 fun h6 A6 => ?_
  refine iS_6 A6 fun h7 A7 => ?_
  refine iS_7 A7 fun h8 A8 => ?_
  refine iS_8 A8 fun h9 A9 => ?_
  refine iS_9 A9 fun h10 A10 => ?_
  refine iS_10 A10 fun h11 A11 => ?_
  refine iS_11 A11 fun h12 A12 => ?_
  refine iS_12 A12 fun h13 A13 => ?_
  refine iS_13 A13 fun h14 A14 => ?_
  refine iS_14 A14 fun h15 A15 => ?_
  refine iS_15 A15 fun h16 A16 => ?_
  refine iS_16 A16 fun h17 A17 => ?_
  refine iS_17 A17 fun h18 A18 => ?_
  refine iS_18 A18 fun h19 A19 => ?_
  refine iS_19 A19 fun h20 A20 => ?_
  refine iS_20 A20 fun h21 A21 => ?_
  refine iS_21 A21 fun h22 A22 => ?_
  refine iS_22 A22 fun h23 A23 => ?_
  refine iS_23 A23 fun h24 A24 => ?_
  refine iS_24 A24 fun h25 A25 => ?_
  refine iS_25 A25 fun h26 A26 => ?_
  refine iS_26 A26 fun h27 A27 => ?_
  refine iS_27 A27 fun h28 A28 => ?_
  refine iS_28 A28 fun h29 A29 => ?_
  refine iS_29 A29 fun h30 A30 => ?_
  refine iS_30 A30 fun h31 A31 => ?_
  refine iS_31 A31 fun h32 A32 => ?_
  exact hq h32 A32
end
