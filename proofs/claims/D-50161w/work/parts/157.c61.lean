/-! all operations keep the bounds of the states (no program in sight) -/
def yOk (Y : Sy) (k : Nat) : Prop := pOk (yP Y) ∧ aOk (yP Y) k (yS Y) ∧ (∀ σ ∈ yU Y, aOk (yP Y) k σ) ∧ ∀ i σ, yK Y i = some σ → aOk (yP Y) k σ
section
variable {π : Pl} {σ σ' : Sg} {Y : Sy} {k : Nat}
theorem yOk.mono {k' : Nat} (A : yOk Y k) (h : k ≤ k') : yOk Y k' := ⟨A.1, A.2.1.mono h, fun σ hs => (A.2.2.1 σ hs).mono h, fun i σ hi => (A.2.2.2 i σ hi).mono h⟩
theorem yOk_kp (A : yOk Y k) (h : aOk (yP Y) (k + 1) σ') : yOk (vSt (yKp Y) σ') (k + 1) := by
  have A1 := A.mono (Nat.le_succ k)
  refine ⟨A.1, h, fun σ hs => ?_, A1.2.2.2⟩
  have hs' : σ ∈ puU (yU Y) (yS Y) := hs
  unfold puU at hs'
  split at hs'
  · rcases List.mem_append.mp hs' with h | h
    · exact A1.2.2.1 σ (List.mem_of_mem_drop h)
    · rw [List.mem_singleton] at h
      rw [h]
      exact A1.2.1
  · rcases List.mem_append.mp hs' with h | h
    · exact A1.2.2.1 σ h
    · rw [List.mem_singleton] at h
      rw [h]
      exact A1.2.1
theorem smF_cg {c : Nat} (e : ∀ k, sN σ' (79 + 5 * k + c) = sN σ (79 + 5 * k + c)) : ∀ k, smF σ' c k = smF σ c k := by
  intro k
  induction k with
  | zero => rfl
  | succ k ih =>
    show smF σ' c k + sN σ' (79 + 5 * k + c) = smF σ c k + sN σ (79 + 5 * k + c)
    rw [ih, e k]
theorem aOk_num {i : Nat} {v : Int32} (A : aOk π k σ) (h : (1 ≤ i ∧ i ≤ 5 ∧ 0 ≤ v.toInt ∧ (i = 3 → v.toInt ≤ 900)) ∨ (13 ≤ i ∧ i < 23 ∧ (v = Int32.ofNat 0 ∨ v = Int32.ofNat 1))) : aOk π k (vN σ (zu (sN σ) i v)) := by
  obtain ⟨a1, a2, a3, a4, a5, a6, a7, a8, a9, a10⟩ := A
  have e : ∀ j, j ≠ i → sN (vN σ (zu (sN σ) i v)) j = sN σ j := fun j hj => zu_ne _ _ hj
  have e1 : sN (vN σ (zu (sN σ) i v)) i = v := zu_eq (sN σ) i v
  have e0 := e 0 (by omega)
  refine ⟨⟨sOk_n a1.1 _, ?_, a1.2.2⟩, by rw [e0]; exact a2, by rw [e0]; exact a3, fun f hf => by rw [e0, e (63 + f) (by omega)]; exact a4 f hf, by rw [e0]; exact a5, by rw [smF_cg (σ := σ) fun k => e _ (by omega)]; exact a6, a7, a8, fun j h1 h2 => ?_, ⟨fun s hs => ?_, a10.2⟩⟩
  · by_cases c : i = 3
    · subst c
      rw [e1]
      omega
    · rw [e 3 (fun x => c x.symm)]
      exact a1.2.1
  · by_cases c : j = i
    · subst c
      rw [e1]
      omega
    · rw [e j c]
      exact a9 j h1 h2
  · by_cases c : 13 + s = i
    · rw [c, e1]
      rcases h with h | h
      · omega
      · exact h.2.2
    · rw [e _ c]
      exact a10.1 s hs
theorem aOk_fr (A : aOk π k σ) (F : Fr σ σ') (OK : sOk π σ') (o : Oc σ σ') (r : ∀ s, s < 10 → ∀ r ∈ sR σ' s, 0 ≤ r.2.1.toInt ∧ r.2.1.toInt ≤ (sN σ 0).toInt) (c : ∀ f, f < plN π 2 → (sN σ 0).toInt ≤ (sN σ' (63 + f)).toInt ∧ (sN σ' (63 + f)).toInt ≤ 300000) : aOk π k σ' := by
  obtain ⟨a1, a2, a3, a4, a5, a6, a7, a8, a9, a10⟩ := A
  have e0 := F.2.2.2.2 0 (by decide)
  refine ⟨⟨OK, by rw [F.2.2.2.2 3 (by decide)]; exact a1.2.1, fun b hb => by rw [F.fF]; exact a1.2.2 b hb⟩, by rw [e0]; exact a2, by rw [e0]; exact r, by rw [e0]; exact c, fun b hb => by rw [e0, F.fF]; exact a5 b hb, by rw [o.sm]; exact a6, by rw [F.2.2.2.1]; exact a7, lOk_cg a8 F.2.2.1, fun j h1 h2 => by rw [F.2.2.2.2 j (by omega)]; exact a9 j h1 h2, vOk_fr a10 F⟩
theorem aOk_br (O : pOk π) (A : aOk π k σ) (hk : k ≤ 24) {s : Nat} (hs : s < 10) : aOk π k (sBr π σ s (sN σ 0)) := by
  have A0 := A
  obtain ⟨a1, a2, a3, a4, a5, a6, a7, a8, a9, a10⟩ := A
  have g3 : pvS (fun s => pvL (pvT (sN σ 0)) (sR σ s)) 10 ≤ 10 * 40000000 := pvS_le fun s hs => by
    have h1 := pvL_le (ω := pvT (sN σ 0)) (c := 1000000) (l := sR σ s) fun r hr => by
      have := a3 s hs r hr
      unfold pvT
      omega
    have h2 := (a1.1.1 s hs).1
    have h3 : (sR σ s).length * 1000000 ≤ 40 * 1000000 := Nat.mul_le_mul_right _ h2
    try dsimp only
    omega
  have q2 : pvG π (pvT (sN σ 0)) 0 (sN σ 0) σ ≤ 400000000 := by
    unfold pvG
    omega
  obtain ⟨K2, hK2⟩ : ∃ K2 : Nat, (K2 : Int) = 10 * (sS σ 0).toInt + 400000000 := ⟨(10 * (sS σ 0).toInt + 400000000).toNat, by omega⟩
  have H : PH (sN σ 0) 0 (sN σ 0).toInt 300000 K2 (sS σ 0).toInt := ⟨⟨a2.1, by omega⟩, ⟨by omega, by decide⟩, by omega, a7.1⟩
  have P : PV π (sN σ 0) 0 (sN σ 0).toInt 300000 (10 * (0 + pvS (fun b => (bR σ b).length) 6) + pvG π (fun _ => 10) 1 (sN σ 0) σ) K2 (sS σ 0).toInt (sN σ 0).toInt σ 0 := ⟨a3, a4, Nat.le_refl _, ⟨Int.le_refl _, by omega⟩, a8⟩
  have P1 := PV_br O H hs (Int.le_refl _) P
  exact aOk_fr A0 (sBr_fr _ _ _ _) (sOk_br O a1.1 hs) (sBr_o O _ _ _) P1.1 P1.2.1
theorem aOk_jn (O : pOk π) (A : aOk π k σ) {s to : Nat} (hs : s < 10) (hto : to < 10) : aOk π k (sJn σ s to (sN σ 0) 16).1 := by
  have A0 := A
  obtain ⟨a1, a2, a3, a4, a5, a6, a7, a8, a9, a10⟩ := A
  have h16 := O.2.2.1
  refine aOk_fr A0 (sJn_fr _ _ _ _ _) (sOk_jn a1.1 hs hto (by decide)) (sJn_o _ _ _ _ _) (fun q hq r hr => ?_) (fun f hf => by rw [sJn_c _ _ _ _ _ (show f < 16 by omega)]; exact a4 f hf)
  have hg : ∀ q, q < 10 → ∀ r ∈ sR (sGv σ s (sN σ 0)) q, 0 ≤ r.2.1.toInt ∧ r.2.1.toInt ≤ (sN σ 0).toInt := fun q hq r hr => by
    have hr' : r ∈ zu (sR σ) s ((sR σ s).drop (gvK (sN σ 4) (sN σ 0) (sR σ s))) q := hr
    by_cases e : q = s
    · subst e
      rw [zu_eq] at hr'
      exact a3 q hq r (List.mem_of_mem_drop hr')
    · rw [zu_ne _ _ e] at hr'
      exact a3 q hq r hr'
  unfold sJn at hr
  dsimp only at hr
  split at hr
  · exact hg q hq r hr
  · have hr' : r ∈ zu (sR (sGv σ s (sN σ 0))) s (sR (sGv σ s (sN σ 0)) s ++ [(to, sN σ 0, 16)]) q := hr
    by_cases e : q = s
    · subst e
      rw [zu_eq] at hr'
      rcases List.mem_append.mp hr' with h | h
      · exact hg q hq r h
      · rw [List.mem_singleton] at h
        subst h
        exact ⟨a2.1, Int.le_refl _⟩
    · rw [zu_ne _ _ e] at hr'
      exact hg q hq r hr'
theorem aOk_gp (O : pOk π) (A : aOk π k σ) {s to : Nat} {u : Int32} (hu : u = sN σ 0) (hs : s < 10) (hto : to < 10) : ∀ m, aOk π k (sGp σ s to u m).1 ∧ sN (sGp σ s to u m).1 0 = sN σ 0 := by
  intro m
  induction m with
  | zero => exact ⟨A, rfl⟩
  | succ m ih =>
    obtain ⟨i1, i2⟩ := ih
    have j := aOk_jn O i1 hs hto
    rw [i2, ← hu] at j
    exact ⟨j, ((sJn_fr _ _ _ _ _).2.2.2.2 0 (by decide)).trans i2⟩
theorem btw_lt {x : Int32} {n : Nat} (hn : 1 ≤ n) (h : btw x 0 (n - 1)) : x.toNatClampNeg < n := by
  obtain ⟨m, rfl, -, hm, h2⟩ := btw_nat h
  rw [I_nat h2]
  omega
theorem yOk_Mo {x : Int32} (A : yOk Y k) : yOk (yMo Y x).2 (k + 1) := by
  unfold yMo
  split
  · next c =>
    split
    · exact A.mono (by omega)
    · refine yOk_kp A (aOk_num (A.2.1.mono (by omega)) (Or.inl ⟨by omega, by omega, c.1, by omega⟩))
  · exact A.mono (by omega)
theorem yOk_Po {x : Int32} {b : Bool} (A : yOk Y k) : yOk (yPo Y x b).2 (k + 1) := by
  unfold yPo
  split
  · next c =>
    have h0 := A.1.1
    have hm := btw_lt (by omega) c
    split
    · exact A.mono (by omega)
    · exact yOk_kp A (aOk_num (A.2.1.mono (by omega)) (Or.inr ⟨by omega, by omega, by cases b; exact Or.inl rfl; exact Or.inr rfl⟩))
  · exact A.mono (by omega)
theorem yOk_Nu {w v : Int32} (A : yOk Y k) : yOk (yNu Y w v).2 (k + 1) := by
  unfold yNu
  split
  · next c =>
    split
    · exact A.mono (by omega)
    · refine yOk_kp A (aOk_num (A.2.1.mono (by omega)) (Or.inl ?_))
      rcases c with ⟨rfl, c1, c2⟩ | ⟨rfl, c1, c2⟩ | ⟨rfl | rfl, c1, c2⟩
      · exact ⟨by decide, by decide, by omega, fun z => absurd z (by decide)⟩
      · exact ⟨by decide, by decide, by omega, fun _ => by omega⟩
      · exact ⟨by decide, by decide, by omega, fun z => absurd z (by decide)⟩
      · exact ⟨by decide, by decide, by omega, fun z => absurd z (by decide)⟩
  · exact A.mono (by omega)
theorem aOk_bs {b c : Nat} {v : Int32} (O : pOk π) (A : aOk π k σ) (hb : b < plN π 1) (h : (c = 8 ∧ v = Int32.ofNat 1) ∨ (c = 2 ∧ (bF σ b 2).toInt ≤ v.toInt ∧ v.toInt ≤ (bF σ b 2).toInt + 1000)) : aOk π (k + 1) (sBs σ b c v) := by
  obtain ⟨a1, a2, a3, a4, a5, a6, a7, a8, a9, a10⟩ := A
  have eF : ∀ d m, bF (sBs σ b c v) d m = if d = b ∧ m = c then v else bF σ d m := fun d m => sBs_F σ b c v d m
  have e2 : ∀ d, d < plN π 1 → (bF σ d 2).toInt ≤ (bF (sBs σ b c v) d 2).toInt ∧ (bF (sBs σ b c v) d 2).toInt ≤ (bF σ d 2).toInt + 1000 := fun d hd => by
    rw [eF]
    by_cases e : d = b ∧ 2 = c
    · rw [if_pos e, e.1]
      omega
    · rw [if_neg e]
      omega
  refine ⟨⟨sOk_bs a1.1 (fun h0 => by omega) (fun h0 => by omega), a1.2.1, fun d hd => ?_⟩, ⟨a2.1, ?_⟩, a3, a4, fun d hd => ?_, ⟨a6.1, ?_⟩, ⟨a7.1, ?_⟩, lOk_cg a8 rfl, a9, vOk_cg a10 (fun _ _ _ => rfl) fun d => ⟨?_, ?_⟩⟩
  · have := a1.2.2 d hd
    have := e2 d hd
    omega
  · show (sN σ 0).toInt ≤ _
    omega
  · have := a5 d hd
    have := e2 d hd
    show (sN σ 0).toInt ≤ _
    omega
  · show (smF σ 4 17).toInt ≤ _
    omega
  · show (sS σ 0).toInt ≤ _
    omega
  · rw [eF, if_neg (by omega)]
    exact Or.inl rfl
  · rw [eF]
    by_cases e : d = b ∧ 8 = c
    · rw [if_pos e]
      rcases h with h | h
      · exact Or.inr (Or.inr h.2)
      · omega
    · rw [if_neg e]
      exact Or.inl rfl
theorem yOk_Sk {x : Int32} (A : yOk Y k) : yOk (ySk Y x).2 (k + 1) := by
  unfold ySk
  split
  · next c =>
    have h0 := A.1.2.1
    have hm := btw_lt (by omega) c
    split
    · exact A.mono (by omega)
    · split
      · exact A.mono (by omega)
      · split
        · exact A.mono (by omega)
        · exact yOk_kp A (aOk_bs A.1 A.2.1 hm (Or.inl ⟨rfl, rfl⟩))
  · exact A.mono (by omega)
theorem yOk_Ho {x s : Int32} (A : yOk Y k) (hk : k ≤ 24) : yOk (yHo Y x s).2 (k + 1) := by
  unfold yHo
  split
  · next c =>
    have h0 := A.1.2.1
    have hm := btw_lt (by omega) c.1
    have c2 : 1 ≤ s.toInt ∧ s.toInt ≤ 900 := c.2
    split
    · refine yOk_kp A (aOk_bs A.1 A.2.1 hm (Or.inr ⟨rfl, ?_⟩))
      have := A.2.1.1.2.2 _ hm
      rw [i_add (by omega) (by omega)]
      omega
    · exact A.mono (by omega)
  · exact A.mono (by omega)
theorem yOk_Gr {f t m : Int32} (A : yOk Y k) (hk : k ≤ 24) : yOk (yGr Y f t m).2 (k + 1) := by
  unfold yGr
  split
  · next c =>
    have h0 := A.1.1
    have h1 := btw_lt (by omega) c.1.1
    have h2 := btw_lt (by omega) c.1.2
    have b := aOk_br A.1 A.2.1 hk (show f.toNatClampNeg < 10 by omega)
    have e : sN (sBr (yP Y) (yS Y) f.toNatClampNeg (sN (yS Y) 0)) 0 = sN (yS Y) 0 := (sBr_fr _ _ _ _).2.2.2.2 0 (by decide)
    exact yOk_kp A ((aOk_gp A.1 b e.symm (show f.toNatClampNeg < 10 by omega) (show t.toNatClampNeg < 10 by omega) _).1.mono (by omega))
  · exact A.mono (by omega)
theorem yOk_Ps {x : Int32} (A : yOk Y k) (hk : k ≤ 24) : yOk (yPs Y x).2 (k + 1) := by
  unfold yPs
  split
  · next c => exact yOk_kp A (aOk_pa A.1 A.2.1 hk c).2.1
  · exact A.mono (by omega)
theorem yOk_Ke {x : Int32} (A : yOk Y k) : yOk (yKe Y x).2 (k + 1) := by
  have A1 := A.mono (Nat.le_succ k)
  unfold yKe
  split
  · refine ⟨A1.1, A1.2.1, A1.2.2.1, fun i σ hi => ?_⟩
    have hi' : zu (yK Y) x.toNatClampNeg (some (yS Y)) i = some σ := hi
    by_cases c : i = x.toNatClampNeg
    · subst c
      rw [zu_eq] at hi'
      cases hi'
      exact A1.2.1
    · rw [zu_ne _ _ c] at hi'
      exact A1.2.2.2 i σ hi'
  · exact A1
theorem yOk_Un (A : yOk Y k) : yOk (yUn Y).2 (k + 1) := by
  have A1 := A.mono (Nat.le_succ k)
  unfold yUn
  split
  · exact A1
  · next σ h => exact ⟨A1.1, A1.2.2.1 σ (List.mem_of_getElem? h), fun τ ht => A1.2.2.1 τ (List.mem_of_mem_take ht), A1.2.2.2⟩
theorem yOk_Rs {x : Int32} (A : yOk Y k) : yOk (yRs Y x).2 (k + 1) := by
  unfold yRs
  split
  · split
    · exact A.mono (by omega)
    · next σ h => exact yOk_kp A ((A.2.2.2 _ σ h).mono (by omega))
  · exact A.mono (by omega)
theorem yOk_Ap {a b c d e : Int32} (A : yOk Y k) : yOk (yAp Y a b c d e).2 (k + 1) := by
  unfold yAp
  split
  · exact A.mono (by omega)
  · exact A.mono (Nat.le_succ k)
theorem yOk_Tr {x : Int32} (A : yOk Y k) : yOk (yTr Y x).2 (k + 1) := by
  unfold yTr
  split
  · exact A.mono (Nat.le_succ k)
  · exact A.mono (Nat.le_succ k)
end
