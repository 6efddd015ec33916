/-! the twin's constructor: the rest -/
def nu0 : Nat → Int32
  | 0 => Int32.ofNat 10
  | 1 => Int32.ofNat 2
  | 2 => Int32.ofNat 2
  | 3 => Int32.ofNat 300
  | 4 => Int32.ofNat 60
  | 5 => Int32.ofNat 900
  | 6 => Int32.ofNat 200
  | _ => Int32.ofNat 0
def S0 : List Sto := [([Int32.ofNat 97], Int32.ofNat 60, Int32.ofNat 0, false), ([Int32.ofNat 98], Int32.ofNat 60, Int32.ofNat 0, false)]
def B0 : List Bup := [(Int32.ofNat 10, Int32.ofNat 0)]
def yIn : Sy := (plZ nu0 S0 B0 [], fun _ => 0, stZ nu0 S0 B0 [], [], fun _ => none, [], Int32.ofInt (-2))
theorem S0_ok : stsOk S0 ∧ 2 ≤ S0.length := by
  refine ⟨⟨by decide, fun st hst => ?_, by unfold S0; decide⟩, by decide⟩
  have hn : ∀ x, isL x = true → nmOk [x] := fun x hx => ⟨Nat.le_refl _, by show 1 ≤ 6; decide, fun k hk => by
    have hk' : k = 0 := by have : [x].length = 1 := rfl; omega
    subst hk'
    exact ⟨x, rfl, hx⟩⟩
  rcases List.mem_cons.mp hst with rfl | hst
  · exact ⟨hn _ (by decide), by decide, by decide⟩
  · rw [List.mem_singleton] at hst
    subst hst
    exact ⟨hn _ (by decide), by decide, by decide⟩
theorem B0_ok : bupsOk B0 ∧ 1 ≤ B0.length := by
  refine ⟨⟨by decide, fun b hb => ?_⟩, by decide⟩
  have hb' : b ∈ [(Int32.ofNat 10, Int32.ofNat 0)] := hb
  rw [List.mem_singleton] at hb'
  subst hb'
  exact ⟨by decide, by decide⟩
theorem nu0_ok : ∀ k, k < 8 → (nLo k : Int) ≤ (nu0 k).toInt ∧ (nu0 k).toInt ≤ (nHi k : Int) := by decide
/-- the numbers that the constructor lays -/
def inW (W : Nat → Nat → Int32) : Nat → Nat → Int32 :=
  zv (zv (zv (zv (zv (zv (zv (zv (zv (zv (zv (zv (zv (zv W 0 75 (Int32.ofNat 2)) 3 0 (Int32.ofNat 33554432)) 3 1 (Int32.ofNat 67108864)) 4 0 (Int32.ofNat 60)) 4 1 (Int32.ofNat 60)) 0 76 (Int32.ofNat 1)) 7 0 (Int32.ofNat 10)) 0 78 (Int32.ofNat 10)) 0 79 (Int32.ofNat 2)) 0 80 (Int32.ofNat 2))
    2 0 (Int32.ofNat 300)) 2 1 (Int32.ofNat 60)) 2 2 (Int32.ofNat 900)) 2 3 (Int32.ofNat 200)
def inT : List (Nat × Nat × Int32) := [(0, 75, Int32.ofNat 2), (3, 0, Int32.ofNat 33554432), (3, 1, Int32.ofNat 67108864), (4, 0, Int32.ofNat 60), (4, 1, Int32.ofNat 60), (0, 76, Int32.ofNat 1), (7, 0, Int32.ofNat 10), (0, 78, Int32.ofNat 10), (0, 79, Int32.ofNat 2), (0, 80, Int32.ofNat 2), (2, 0, Int32.ofNat 300), (2, 1, Int32.ofNat 60), (2, 2, Int32.ofNat 900), (2, 3, Int32.ofNat 200)]
theorem inW_f (W : Nat → Nat → Int32) : inW W = inT.foldl (fun W q => zv W q.1 q.2.1 q.2.2) W := rfl
theorem fold_nx : ∀ (l : List (Nat × Nat × Int32)) (W : Nat → Nat → Int32) (k j : Nat), (∀ q ∈ l, ¬ (k = q.1 ∧ j = q.2.1)) → l.foldl (fun W q => zv W q.1 q.2.1 q.2.2) W k j = W k j := by
  intro l
  induction l with
  | nil => intro W k j _; rfl
  | cons q l ih =>
    intro W k j h
    rw [List.foldl_cons, ih _ _ _ fun p hp => h p (List.mem_cons_of_mem _ hp), zv_nx (h q List.mem_cons_self)]
theorem inW_o {W : Nat → Nat → Int32} {k j : Nat} (h : ∀ q ∈ inT, ¬ (k = q.1 ∧ j = q.2.1)) : inW W k j = W k j := fold_nx _ _ _ _ h
theorem inW_v {W : Nat → Nat → Int32} : (∀ q ∈ inT, inW W q.1 q.2.1 = q.2.2) := by
  intro q hq
  have : q = (0, 75, Int32.ofNat 2) ∨ q = (3, 0, Int32.ofNat 33554432) ∨ q = (3, 1, Int32.ofNat 67108864) ∨ q = (4, 0, Int32.ofNat 60) ∨ q = (4, 1, Int32.ofNat 60) ∨ q = (0, 76, Int32.ofNat 1) ∨ q = (7, 0, Int32.ofNat 10) ∨ q = (0, 78, Int32.ofNat 10) ∨ q = (0, 79, Int32.ofNat 2) ∨ q = (0, 80, Int32.ofNat 2) ∨ q = (2, 0, Int32.ofNat 300) ∨ q = (2, 1, Int32.ofNat 60) ∨ q = (2, 2, Int32.ofNat 900) ∨ q = (2, 3, Int32.ofNat 200) := by simpa [inT] using hq
  unfold inW
  rcases this with rfl | rfl | rfl | rfl | rfl | rfl | rfl | rfl | rfl | rfl | rfl | rfl | rfl | rfl <;> rfl
section
variable {κ : zC} {h : zH} {b : Nat} {W : Nat → Nat → Int32} {SM : Nat → Nat → Int64} {Q : zQ}
theorem TIn_0 (w0 : ∀ k ∈ tIK, ∀ j, W k j = Int32.ofNat 0) (g0 : ∀ g ∈ tIG, g ≠ 74 → W 0 g = Int32.ofNat 0) (g74 : W 0 74 = Int32.ofInt (-2)) : TIn (clW (inW W) 2 1 0) (clS SM) yIn := by
  have z0 : ∀ j, j ≠ 102 → clW (inW W) 2 1 0 0 j = inW W 0 j := fun j hj => clW_o (by decide) (by omega) (by omega)
  have v : ∀ q ∈ inT, inW W q.1 q.2.1 = q.2.2 := inW_v
  have iz : ∀ k ∈ tIK, ∀ j, (∀ q ∈ inT, ¬ (k = q.1 ∧ j = q.2.1)) → inW W k j = Int32.ofNat 0 := fun k hk j hj => (inW_o hj).trans (w0 k hk j)
  refine ⟨⟨?_, ?_, ?_, ?_, ?_, ?_, fun t ht j hj => ?_, fun t ht j hj => ?_, fun t ht j hj => absurd hj (Nat.not_lt_zero _)⟩, ⟨WAt_C (S := S0) (B := B0) (Fl := []) (nu := nu0) (V := inW W) (by decide) (by decide) (by decide) (fun j x hx => ?_) (fun j x hx => ?_) (fun j x hx => by cases hx) ?_ fun j hj => ?_, sOk_Z S0_ok B0_ok⟩, ⟨?_, Nat.zero_le _, fun i σ hi => by cases hi⟩, fun i hi => Or.inl ⟨rfl, ?_⟩, ⟨Nat.zero_le _, ?_, fun i x hi => by cases hi⟩, ?_, pOk_Z S0_ok B0_ok ⟨Nat.zero_le _, fun f hf => absurd hf List.not_mem_nil⟩ nu0_ok⟩
  · rw [z0 _ (by decide)]; exact v (0, 75, Int32.ofNat 2) (by decide)
  · rw [z0 _ (by decide)]; exact v (0, 76, Int32.ofNat 1) (by decide)
  · rw [z0 _ (by decide), inW_o (by decide)]; exact g0 77 (by decide) (by decide)
  · rw [z0 _ (by decide)]; exact v (0, 78, Int32.ofNat 10) (by decide)
  · rw [z0 _ (by decide)]; exact v (0, 79, Int32.ofNat 2) (by decide)
  · rw [z0 _ (by decide)]; exact v (0, 80, Int32.ofNat 2) (by decide)
  · have hj : j < 2 := hj
    have ht' : t = 3 ∨ t = 4 ∨ t = 5 := by simpa using ht
    rw [clW_o (by omega) (by omega) (by omega)]
    have hj' : j = 0 ∨ j = 1 := by omega
    rcases ht' with rfl | rfl | rfl <;> rcases hj' with rfl | rfl
    · exact v (3, 0, Int32.ofNat 33554432) (by decide)
    · exact v (3, 1, Int32.ofNat 67108864) (by decide)
    · exact v (4, 0, Int32.ofNat 60) (by decide)
    · exact v (4, 1, Int32.ofNat 60) (by decide)
    · exact iz 5 (by decide) 0 (by decide)
    · exact iz 5 (by decide) 1 (by decide)
  · have hj : j < 1 := hj
    have ht' : t = 7 ∨ t = 8 := by simpa using ht
    have hj' : j = 0 := by omega
    subst hj'
    rw [clW_o (by omega) (by omega) (by omega)]
    rcases ht' with rfl | rfl
    · exact v (7, 0, Int32.ofNat 10) (by decide)
    · exact iz 8 (by decide) 0 (by decide)
  · have hj : j < 2 := (List.getElem?_eq_some_iff.mp hx).1
    rw [iz 6 (by decide) j fun q hq hc => absurd hc.1 ((by decide : ∀ q ∈ inT, ¬ 6 = q.1) q hq)]
    have hx' : x ∈ S0 := List.mem_of_getElem? hx
    exact ((by unfold S0; decide : ∀ x ∈ S0, Int32.ofNat 0 = boI x.2.2.2) x hx')
  · rw [iz 8 (by decide) j fun q hq hc => absurd hc.1 ((by decide : ∀ q ∈ inT, ¬ 8 = q.1) q hq)]
    have hx' : x ∈ B0 := List.mem_of_getElem? hx
    exact ((by unfold B0; decide : ∀ x ∈ B0, Int32.ofNat 0 = x.2) x hx')
  · rw [inW_o (by decide)]; exact g0 81 (by decide) (by decide)
  · have hj' : j = 0 ∨ j = 1 ∨ j = 2 ∨ j = 3 := by omega
    rcases hj' with rfl | rfl | rfl | rfl
    · exact v (2, 0, Int32.ofNat 300) (by decide)
    · exact v (2, 1, Int32.ofNat 60) (by decide)
    · exact v (2, 2, Int32.ofNat 900) (by decide)
    · exact v (2, 3, Int32.ofNat 200) (by decide)
  · exact zv_at rfl rfl
  · unfold clW
    rw [zv_nx (by omega)]
    by_cases h : i = 1
    · rw [zv_at rfl h]
    · rw [zv_nx (by omega), zv_at rfl (by omega)]
  · rw [z0 _ (by decide), inW_o (by decide)]; exact g0 73 (by decide) (by decide)
  · rw [z0 _ (by decide), inW_o (by decide)]; exact g74
theorem iT (S : TSh κ h b) (g77 : W 0 77 = Int32.ofNat 0) (hq : Q (.inl none) (hX h b 33 (clW (inW W) 2 1 0) (clS SM))) : Go κ mX7_init 266 [some (.ref b)] [] (hX h b 33 W SM) Q := by
  have F := xF S
  have R := xR S
  have K := xK S
  have hB : kB κ ≤ b := S.1.1
  have ec := fun (Q : zQ) => e7_clear (κ := κ) (Q := Q) (W := inW W) (SM := SM) (ns := 2) (nb := 1) (nf := 0) S (inW_v (0, 75, Int32.ofNat 2) (by decide)) (inW_v (0, 76, Int32.ofNat 1) (by decide)) ((inW_o (by decide)).trans g77) (by decide) (by decide) (by decide)
  unfold inW at ec hq
  simp (disch := first | assumption | omega | decide) only [gB, I_all, zK_v, zK_n, true_and, and_true, Nat.reduceAdd, Nat.reduceMul, Nat.reduceSub, z_lt, z_le, z_neq, not_false_eq_true, or_true, true_or, or_false, false_or, false_and, and_false, gX7_init_1, gX7_init_2, F, R, K, ec]
  exact hq
/-- the twin made -/
theorem e7_init {h0 : zH} (hk : hK h0 b = 107) (hB : kB κ ≤ b) (hn : hN h0 = b + 1) (hi : ∀ g ∈ tIG, hV h0 b g = .int (Int32.ofNat 0)) (hj : hV h0 b 107 = .long 0)
    (hq : ∀ h' W' SM', TSh κ h' b → (∀ x, x < b → hK h' x = hK h0 x ∧ hL h' x = hL h0 x ∧ ∀ j, hV h' x j = hV h0 x j) → hN h' = b + 33 → hU h' = hU h0 + 45038 → TIn W' SM' yIn → Q (.inl none) (hX h' b 33 W' SM')) : Ev κ mX7_init [.ref b] h0 Q := by
  refine iA rfl hk hB hn fun h1 A => ?_
  have e74 : ∀ g, zu (hV h0 b) 74 (.int (Int32.ofInt (-2))) g = if g = 74 then .int (Int32.ofInt (-2)) else hV h0 b g := fun g => rfl
  have S := TSh_A A (fun g hg => by
    rw [e74]
    split
    · exact ⟨_, rfl⟩
    · exact ⟨_, hi g hg⟩) ⟨0, by rw [e74, if_neg (by decide), hj]⟩
  rw [← hX_of h1 b 33]
  refine iT S (wOf_g A (by decide) (by rw [e74, if_neg (by decide)]; exact hi 77 (by decide))) ?_
  refine hq h1 _ _ S A.2.1 (A.1.2.2.1.trans (by show b + 1 + 32 = _; rfl)) (A.1.2.2.2.trans (by rw [show (mTab.map fun q => q.2.2.2).sum = 45038 by decide])) (TIn_0 (fun k hk j => wOf_A A hk) (fun g hg hne => wOf_g A hg (by rw [e74, if_neg hne]; exact hi g hg)) (wOf_g A (by decide) (by rw [e74, if_pos rfl])))
end
