/-! a state at rest behind k calls; a pass keeps it (no program in sight) -/
def aOk (π : Pl) (k : Nat) (σ : Sg) : Prop :=
  gOk π σ (200000 + 1000 * k) ∧ (0 ≤ (sN σ 0).toInt ∧ (sN σ 0).toInt ≤ 3600 * k) ∧
  (∀ s, s < 10 → ∀ r ∈ sR σ s, 0 ≤ r.2.1.toInt ∧ r.2.1.toInt ≤ (sN σ 0).toInt) ∧
  (∀ f, f < plN π 2 → (sN σ 0).toInt ≤ (sN σ (63 + f)).toInt ∧ (sN σ (63 + f)).toInt ≤ 300000) ∧
  (∀ b, b < plN π 1 → (sN σ 0).toInt ≤ (bF σ b 2).toInt) ∧
  (0 ≤ (smF σ 4 17).toInt ∧ (smF σ 4 17).toInt ≤ 10000 * k) ∧ (0 ≤ (sS σ 0).toInt ∧ (sS σ 0).toInt ≤ 100000000 * k) ∧ lOk σ ∧ nOk σ ∧ vOk σ
section
variable {π : Pl} {σ σ' : Sg} {k k' : Nat}
theorem gOk.mono {U U' : Int} (G : gOk π σ U) (h : U ≤ U') : gOk π σ U' := ⟨G.1, G.2.1, fun b hb => ⟨(G.2.2 b hb).1, Int.le_trans (G.2.2 b hb).2 h⟩⟩
theorem aOk.mono (A : aOk π k σ) (h : k ≤ k') : aOk π k' σ := by
  obtain ⟨a1, a2, a3, a4, a5, a6, a7, a8⟩ := A
  exact ⟨a1.mono (by omega), ⟨a2.1, by omega⟩, a3, a4, a5, ⟨a6.1, by omega⟩, ⟨a7.1, by omega⟩, a8⟩
theorem sEv_N {T : Int32} {j : Nat} (hj : nSm j) : ∀ (k : Nat) (q : Sg × Nat), sN (sEv π T k q).1 j = sN q.1 j := by
  intro k
  induction k with
  | zero => intro q; rfl
  | succ k ih =>
    intro q
    unfold sEv
    split
    · rw [ih]
      exact sHa_N _ _ _ _ hj
    · rfl
theorem sMd_N {m : Int32} {j : Nat} (h : j ≠ 1) : sN (sMd σ m) j = sN σ j := zu_ne _ _ h
theorem smF_md {m : Int32} : ∀ k, smF (sMd σ m) 4 k = smF σ 4 k := by
  intro k
  induction k with
  | zero => rfl
  | succ k ih =>
    show smF (sMd σ m) 4 k + sN (sMd σ m) (79 + 5 * k + 4) = smF σ 4 k + sN σ (79 + 5 * k + 4)
    rw [ih, sMd_N (by omega)]
theorem aOk_md {m : Int32} (A : aOk π k σ) (hm : 0 ≤ m.toInt) : aOk π k (sMd σ m) := by
  obtain ⟨a1, a2, a3, a4, a5, a6, a7, a8, a9, a10⟩ := A
  have e0 : sN (sMd σ m) 0 = sN σ 0 := sMd_N (by decide)
  refine ⟨gOk_md a1, by rw [e0]; exact a2, by rw [e0]; exact a3, fun f hf => by rw [e0, sMd_N (show 63 + f ≠ 1 by omega)]; exact a4 f hf, by rw [e0]; exact a5, by rw [smF_md]; exact a6, a7, a8, fun j h1 h2 => ?_, vOk_cg a10 (fun j h1 h2 => sMd_N (by omega)) fun b => ⟨Or.inl rfl, Or.inl rfl⟩⟩
  by_cases c : j = 1
  · subst c
    rw [show sN (sMd σ m) 1 = m from zu_eq (sN σ) 1 m]
    exact hm
  · rw [sMd_N c]
    exact a9 j h1 h2
theorem sPa_e (π : Pl) (σ : Sg) (T : Int32) : sPa π σ T = (vN (sBa π T (plN π 0) (sEv π T big (σ, 0)).1) (zu (sN (sBa π T (plN π 0) (sEv π T big (σ, 0)).1)) 0 T), (sEv π T big (σ, 0)).2) := by
  unfold sPa
  dsimp only
theorem aOk_pa {x : Int32} (O : pOk π) (A : aOk π k σ) (hk : k ≤ 24) (hx : btw x 1 3600) :
    (sN σ 0 + x).toInt = (sN σ 0).toInt + x.toInt ∧ aOk π (k + 1) (sPa π σ (sN σ 0 + x)).1 ∧ (sPa π σ (sN σ 0 + x)).2 ≤ 10000 ∧ (sS σ 0).toInt ≤ (sS (sPa π σ (sN σ 0 + x)).1 0).toInt ∧ (sS (sPa π σ (sN σ 0 + x)).1 0).toInt ≤ (sS σ 0).toInt + 100000000 ∧
    smF (sPa π σ (sN σ 0 + x)).1 4 17 = smF σ 4 17 + Int32.ofNat (sPa π σ (sN σ 0 + x)).2 := by
  obtain ⟨a1, a2, a3, a4, a5, a6, a7, a8, a9, a10⟩ := A
  have hx1 : 1 ≤ x.toInt ∧ x.toInt ≤ 3600 := hx
  have hT : (sN σ 0 + x).toInt = (sN σ 0).toInt + x.toInt := i_add (by omega) (by omega)
  have hU : ((200000 + 1000 * k : Nat) : Int) ≤ 1073741400 := by omega
  have a1' : gOk π σ ((200000 + 1000 * k : Nat) : Int) := a1.mono (by omega)
  have hTU : (sN σ 0 + x).toInt + 1400 ≤ ((200000 + 1000 * k : Nat) : Int) := by omega
  have h16 := O.2.2.1
  have so := sPa_o O a1' a10 hTU hU
  generalize hTd : sN σ 0 + x = T at *
  -- the weights at the start
  have g1 : pvS (fun b => (bR σ b).length) 6 ≤ 6 * 99 := pvS_le fun b hb => (a1.1.2.2.1 b hb).1
  have g2 : pvS (fun s => pvL (fun _ => 10) (sR σ s)) 10 ≤ 10 * 400 := pvS_le fun s hs => by
    have h1 := pvL_const 10 (sR σ s)
    have h2 := (a1.1.1 s hs).1
    try dsimp only
    omega
  have g3 : pvS (fun s => pvL (pvT T) (sR σ s)) 10 ≤ 10 * 40000000 := pvS_le fun s hs => by
    have h1 := pvL_le (ω := pvT T) (c := 1000000) (l := sR σ s) fun r hr => by
      have := a3 s hs r hr
      unfold pvT
      omega
    have h2 := (a1.1.1 s hs).1
    have h3 : (sR σ s).length * 1000000 ≤ 40 * 1000000 := Nat.mul_le_mul_right _ h2
    try dsimp only
    omega
  have g4 : pvF T (sN σ) (plN π 2) ≤ plN π 2 * 3610 := pvS_le fun f hf => by
    have := a4 f hf
    try dsimp only
    omega
  have g4' : pvF T (sN σ) (plN π 2) ≤ 57760 := by
    have : plN π 2 * 3610 ≤ 16 * 3610 := Nat.mul_le_mul_right _ h16
    omega
  have g5 : 3600 * pvF T (sN σ) (plN π 2) ≤ 3600 * 57760 := Nat.mul_le_mul_left _ g4'
  have q1 : pvG π (fun _ => 10) 1 T σ ≤ 61760 := by
    unfold pvG
    omega
  have q2 : pvG π (pvT T) 3600 T σ ≤ 607936000 := by
    unfold pvG
    omega
  obtain ⟨K2, hK2⟩ : ∃ K2 : Nat, (K2 : Int) = 10 * (sS σ 0).toInt + 607936000 := ⟨(10 * (sS σ 0).toInt + 607936000).toNat, by omega⟩
  have H : PH T 3600 (sN σ 0).toInt 300000 K2 (sS σ 0).toInt := ⟨⟨a2.1, by omega⟩, ⟨by omega, by decide⟩, by omega, a7.1⟩
  have P : PV π T 3600 (sN σ 0).toInt 300000 67700 K2 (sS σ 0).toInt (sN σ 0).toInt σ 0 := ⟨a3, a4, by omega, ⟨Int.le_refl _, by omega⟩, a8⟩
  obtain ⟨P1, P2⟩ := PV_ev O H hTU hU big (σ, 0) _ P (by omega) a1' a5
  have hmu : mu T.toInt σ (plN π 1) < big := by
    have := mu_big T.toInt (by omega) σ (plN π 1)
    have := O.2.1
    unfold big
    omega
  have P2 := P2 hmu
  have G1 := sEv_inv (t := T) O hTU hU big (σ, 0) a1'
  have n1 : ∀ j, nSm j → sN (sEv π T big (σ, 0)).1 j = sN σ j := fun j hj => sEv_N hj big (σ, 0)
  rw [sPa_e] at so ⊢
  generalize sEv π T big (σ, 0) = q at P1 P2 G1 n1 so ⊢
  have h10 := O.1.2
  have P3 := PV_ba O H (plN π 0) q.1 h10 P1
  have B3 := sBa_st π T q.1 (plN π 0)
  have K3 := sOk_ba (t := T) O G1.1 (plN π 0) h10
  obtain ⟨-, C3⟩ := sBa_c (u := T) O (by omega) q.1 (plN π 0)
  generalize sBa π T (plN π 0) q.1 = τ at P3 B3 K3 C3 so ⊢
  have v0 : Vw τ (vN τ (zu (sN τ) 0 T)) := Vw_n fun g hg => zu_ne _ _ (by omega)
  have P4 := P3.vw h16 v0 (lOk_cg P3.2.2.2.2 rfl)
  have K4 : sOk π (vN τ (zu (sN τ) 0 T)) := K3
  have e0 : sN (vN τ (zu (sN τ) 0 T)) 0 = T := zu_eq (sN τ) 0 T
  have eF : ∀ b c, bF (vN τ (zu (sN τ) 0 T)) b c = bF q.1 b c := fun b c => B3.fF b c
  have eN : ∀ j, j ≠ 0 → sN (vN τ (zu (sN τ) 0 T)) j = sN τ j := fun j hj => zu_ne _ _ hj
  have n3 : ∀ j, nSm j → j ≠ 0 → j < 63 → sN (vN τ (zu (sN τ) 0 T)) j = sN σ j := fun j hj h0 h63 => (eN j h0).trans ((B3.2.2.2.2 j h63).trans (n1 j hj))
  obtain ⟨so1, so2⟩ := so
  dsimp only at so1 so2 P1 P4 ⊢
  obtain ⟨r1, r2, r3, r4, r5⟩ := P4
  generalize vN τ (zu (sN τ) 0 T) = ρ at *
  have hn : q.2 ≤ 10000 := by omega
  have hout : (smF σ 4 17 + Int32.ofNat q.2).toInt = (smF σ 4 17).toInt + q.2 := by
    have h1 : (Int32.ofNat q.2).toInt = q.2 := I_toInt (by omega)
    rw [i_add (by rw [h1]; omega) (by rw [h1]; omega), h1]
  refine ⟨hT, ⟨⟨?_, ?_, fun b hb => ?_⟩, ?_, ?_, fun f hf => ?_, fun b hb => ?_, ?_, ?_, r5, fun j h1 h2 => ?_, so2⟩, hn, r4.1, by omega, so1⟩
  · exact K4
  · rw [n3 3 (by unfold nSm; omega) (by decide) (by decide)]
    exact a1.2.1
  · rw [eF]
    have := G1.2.2 b hb
    omega
  · rw [e0]
    omega
  · rw [e0]
    exact r1
  · rw [e0]
    obtain ⟨-, -, -, -, g5, g6, -⟩ := O.2.2.2.1 f hf
    have h9 := (O.2.2.2.1 f hf).2.1
    have h2 := C3 f hf h9
    rw [← v0.2.2.2 f (by omega)] at h2
    exact ⟨by omega, (r2 f hf).2⟩
  · rw [e0, eF]
    have := P2 b hb
    omega
  · rw [so1, hout]
    omega
  · omega
  · rw [n3 j (by unfold nSm; omega) (by omega) (by omega)]
    exact a9 j h1 h2
end
