/-! the component: the object's invariant; act. Its own cells: g 0 the object, 1 tape, 2 slots, 3 their array, 4 earlier, 5 its array; g 6: the twin's block (33 cells) -/
def Ow (g : Nat → Nat) (y : Nat) : Prop := ∃ i, i < 6 ∧ y = g i
def Sp (g : Nat → Nat) (lo hi : Nat) : Prop := ∀ i, i < 6 → g i < lo ∨ hi ≤ g i
/-- all but the object's own cells as it was -/
def Om (g : Nat → Nat) (h h' : zH) : Prop := (∀ y, y < hN h → ¬ Ow g y → hK h' y = hK h y ∧ hL h' y = hL h y ∧ ∀ j, hV h' y j = hV h y j) ∧ hN h ≤ hN h'
theorem Om.rfl {g : Nat → Nat} {h : zH} : Om g h h := ⟨fun _ _ _ => ⟨Eq.refl _, Eq.refl _, fun _ => Eq.refl _⟩, Nat.le_refl _⟩
theorem Om.trans {g : Nat → Nat} {h h' h'' : zH} (a : Om g h h') (b : Om g h' h'') : Om g h h'' := ⟨fun y h1 h2 => by
  obtain ⟨a1, a2, a3⟩ := a.1 y h1 h2
  obtain ⟨b1, b2, b3⟩ := b.1 y (Nat.lt_of_lt_of_le h1 a.2) h2
  exact ⟨b1.trans a1, b2.trans a2, fun j => (b3 j).trans (a3 j)⟩, Nat.le_trans a.2 b.2⟩
theorem Om.ag {g : Nat → Nat} {h h' : zH} {lo hi : Nat} (o : Om g h h') (s : Sp g lo hi) (hh : hi ≤ hN h) : Ag h h' lo hi := fun y h1 h2 => o.1 y (by omega) fun ⟨i, hi6, e⟩ => by have := s i hi6; omega
theorem Om_W {g : Nat → Nat} {h : zH} {i j : Nat} {v : Value} (hi : i < 6) : Om g h (hW h (g i) j v) := ⟨fun y _ hy => ⟨hK_W .., hL_W .., fun k => hV_Wn (fun e => hy ⟨i, hi, e⟩) k⟩, Nat.le_refl _⟩
theorem Om_D {g : Nat → Nat} {h h' : zH} (d : Df (g 4) (g 5) h h') : Om g h h' := ⟨fun y _ hy => ⟨(d.1 y).1, (d.1 y).2, d.2.1 y (fun e => hy ⟨4, by decide, e⟩) (fun e => hy ⟨5, by decide, e⟩)⟩, by rw [d.2.2.1]; exact Nat.le_refl _⟩
theorem Om_A {g : Nat → Nat} {h h' : zH} (a : Ag h h' 0 (hN h)) (hn : hN h ≤ hN h') : Om g h h' := ⟨fun y hy _ => a y (Nat.zero_le _) hy, hn⟩
/-- a state of this object -/
def Sa (κ : zC) (h : zH) (g : Nat → Nat) (p : Nat) (π : Pl) (A : Nat → Nat → Nat) (q0 q y : Nat) (σ : Sg) : Prop := SAt κ h y p π A q0 q σ ∧ y + (15 + 8 * plN π 0 + 5 * plN π 1) ≤ hN h ∧ Sp g y (y + (15 + 8 * plN π 0 + 5 * plN π 1)) ∧ (g 6 + 33 ≤ y ∨ y + (15 + 8 * plN π 0 + 5 * plN π 1) ≤ g 6) ∧ sOk π σ ∧ vOk σ
/-- where things lie -/
def Gm (κ : zC) (h : zH) (g : Nat → Nat) (q0 q : Nat) : Prop := (∀ i, i < 6 → kB κ ≤ g i ∧ g i < hN h) ∧ (∀ i j, i < 6 → j < 6 → g i = g j → i = j) ∧ Sp g q0 q ∧ Sp g (g 6) (g 6 + 33) ∧ q ≤ hN h ∧ g 6 + 33 ≤ hN h ∧ (g 6 + 33 ≤ q0 ∨ q ≤ g 6)
def CI (κ : zC) (h : zH) (g : Nat → Nat) (Y : Sy) (p : Nat) (A : Nat → Nat → Nat) (q0 q a hd : Nat) (us : List Nat) (ks : Nat → Nat) : Prop :=
  (hK h (g 0) = 100 ∧ hV h (g 0) 0 = .ref (g 1) ∧ hV h (g 0) 1 = .int (Int32.ofNat (yT Y).length) ∧ hV h (g 0) 2 = .int (yE Y) ∧ hV h (g 0) 3 = .ref a ∧ hV h (g 0) 4 = .ref (g 2) ∧ hV h (g 0) 5 = .ref (g 4)) ∧
  (hK h (g 1) = 3 ∧ hL h (g 1) = 1400 ∧ (yT Y).length ≤ 1400 ∧ ∀ i v, (yT Y)[i]? = some v → hV h (g 1) i = .int v) ∧
  (hK h (g 2) = 114 ∧ hV h (g 2) 148 = .ref (g 3) ∧ hV h (g 2) 149 = .int (Int32.ofNat 2) ∧ hK h (g 3) = 10 ∧ hL h (g 3) = 2) ∧
  (DQ h (g 4) (g 5) hd us ∧ us.length = (yU Y).length) ∧
  (∀ (i y : Nat) (σ : Sg), us[i]? = some y → (yU Y)[i]? = some σ → Sa κ h g p (yP Y) A q0 q y σ) ∧
  (∀ i, i < 2 → (yK Y i = none ∧ hV h (g 3) i = .null) ∨ ∃ σ, yK Y i = some σ ∧ hV h (g 3) i = .ref (ks i) ∧ Sa κ h g p (yP Y) A q0 q (ks i) σ) ∧
  Sa κ h g p (yP Y) A q0 q a (yS Y) ∧ Gm κ h g q0 q
section
variable {κ : zC} {h h' : zH} {g : Nat → Nat} {p q0 q a hd y : Nat} {us : List Nat} {ks : Nat → Nat} {π : Pl} {A : Nat → Nat → Nat} {Q : zQ} {σ : Sg} {Y : Sy}
theorem Sa.cg (S : Sa κ h g p π A q0 q y σ) (g1 : Ag h h' y (y + (15 + 8 * plN π 0 + 5 * plN π 1))) (g2 : Ag h h' q0 q) (hn : hN h ≤ hN h') : Sa κ h' g p π A q0 q y σ := ⟨S.1.cg g1 g2, Nat.le_trans S.2.1 hn, S.2.2⟩
theorem Sa.om (S : Sa κ h g p π A q0 q y σ) (o : Om g h h') (G : Gm κ h g q0 q) : Sa κ h' g p π A q0 q y σ := S.cg (o.ag S.2.2.1 S.2.1) (o.ag G.2.2.1 G.2.2.2.2.1) o.2
theorem Gm.om (G : Gm κ h g q0 q) (hn : hN h ≤ hN h') : Gm κ h' g q0 q := ⟨fun i hi => ⟨(G.1 i hi).1, Nat.lt_of_lt_of_le (G.1 i hi).2 hn⟩, G.2.1, G.2.2.1, G.2.2.2.1, Nat.le_trans G.2.2.2.2.1 hn, Nat.le_trans G.2.2.2.2.2.1 hn, G.2.2.2.2.2.2⟩
theorem Gm.ne (G : Gm κ h g q0 q) {i j : Nat} (hi : i < 6) (hj : j < 6) (hij : i ≠ j) : g i ≠ g j := fun e => hij (G.2.1 i j hi hj e)
theorem CI.cx (I : CI κ h g Y p A q0 q a hd us ks) : Cx κ h (g 0) a p A q0 q Y := ⟨I.1.1, I.1.2.2.2.2.1, I.2.2.2.2.2.2.1.1, I.2.2.2.2.2.2.1.2.2.2.2.1, I.2.2.2.2.2.2.1.2.2.2.2.2⟩
/-- a fresh state's block lies above all else -/
def Fh (g : Nat → Nat) (Y : Sy) (q a : Nat) (us : List Nat) (ks : Nat → Nat) : Prop := (∀ (i y : Nat), us[i]? = some y → y + (15 + 8 * plN (yP Y) 0 + 5 * plN (yP Y) 1) ≤ a) ∧ (∀ i, i < 2 → yK Y i = none ∨ ks i + (15 + 8 * plN (yP Y) 0 + 5 * plN (yP Y) 1) ≤ a) ∧ q ≤ a ∧ (∀ i, i < 6 → g i < a) ∧ g 6 + 33 ≤ a
/-- the state now changed in its place -/
theorem CI_now (I : CI κ h g Y p A q0 q a hd us ks) (F : Fh g Y q a us ks) (Z : SAt κ h' a p (yP Y) A q0 q σ) (o : ∀ y, y < a → hK h' y = hK h y ∧ hL h' y = hL h y ∧ ∀ j, hV h' y j = hV h y j) (hn : hN h' = hN h) (OK : sOk (yP Y) σ) (V : vOk σ) : CI κ h' g (vSt Y σ) p A q0 q a hd us ks := by
  obtain ⟨⟨x1, x2, x3, x4, x5, x6, x7⟩, ⟨t1, t2, t3, t4⟩, ⟨l1, l2, l3, l4, l5⟩, ⟨⟨⟨d1, d2, d3, d4, d5, d6, d7, d8⟩, d9⟩, dl⟩, iu, ik, ⟨s1, s2, s3, s4, s5, s6⟩, G⟩ := I
  obtain ⟨f1, f2, f3, f4, f5⟩ := F
  have og := fun i (hi : i < 6) => o (g i) (f4 i hi)
  have ag : ∀ lo hi, hi ≤ a → Ag h h' lo hi := fun lo hi hh y h1 h2 => o y (by omega)
  have hm : hN h ≤ hN h' := by omega
  have S' : ∀ y τ, y + (15 + 8 * plN (yP Y) 0 + 5 * plN (yP Y) 1) ≤ a → Sa κ h g p (yP Y) A q0 q y τ → Sa κ h' g p (yP Y) A q0 q y τ := fun y τ hy S => S.cg (ag _ _ hy) (ag _ _ f3) hm
  refine ⟨⟨(og 0 (by decide)).1.trans x1, ((og 0 (by decide)).2.2 _).trans x2, ((og 0 (by decide)).2.2 _).trans x3, ((og 0 (by decide)).2.2 _).trans x4, ((og 0 (by decide)).2.2 _).trans x5, ((og 0 (by decide)).2.2 _).trans x6, ((og 0 (by decide)).2.2 _).trans x7⟩,
    ⟨(og 1 (by decide)).1.trans t1, (og 1 (by decide)).2.1.trans t2, t3, fun i v hi => ((og 1 (by decide)).2.2 _).trans (t4 i v hi)⟩,
    ⟨(og 2 (by decide)).1.trans l1, ((og 2 (by decide)).2.2 _).trans l2, ((og 2 (by decide)).2.2 _).trans l3, (og 3 (by decide)).1.trans l4, (og 3 (by decide)).2.1.trans l5⟩,
    ⟨⟨⟨(og 4 (by decide)).1.trans d1, ((og 4 (by decide)).2.2 _).trans d2, ((og 4 (by decide)).2.2 _).trans d3, ((og 4 (by decide)).2.2 _).trans d4, d5, d6, (og 5 (by decide)).1.trans d7, (og 5 (by decide)).2.1.trans d8⟩, fun i y hi => ((og 5 (by decide)).2.2 _).trans (d9 i y hi)⟩, dl⟩,
    fun i y τ hi ht => S' y τ (f1 i y hi) (iu i y τ hi ht), fun i hi => ?_, ⟨Z, by rw [hn]; exact s2, s3, s4, OK, V⟩, G.om hm⟩
  rcases ik i hi with ⟨k1, k2⟩ | ⟨τ, k1, k2, k3⟩
  · exact Or.inl ⟨k1, ((og 3 (by decide)).2.2 _).trans k2⟩
  · refine Or.inr ⟨τ, k1, ((og 3 (by decide)).2.2 _).trans k2, S' _ τ ?_ k3⟩
    rcases f2 i hi with e | e
    · rw [e] at k1; cases k1
    · exact e
theorem e0_act (I : CI κ h g Y p A q0 q a hd us ks)
    (hq : ∀ h' hd' us', CI κ h' g (yKp Y) p A q0 q (hN h) hd' us' ks → Fh g (yKp Y) q (hN h) us' ks → Om g h h' → hN h' = hN h + (15 + 8 * plN (yP Y) 0 + 5 * plN (yP Y) 1) → hU h' ≤ hU h + 4300 → Q (.inl (some (.ref (hN h)))) h') : Ev κ mX0_act [.ref (g 0)] h Q := by
  obtain ⟨⟨x1, x2, x3, x4, x5, x6, x7⟩, ⟨t1, t2, t3, t4⟩, ⟨l1, l2, l3, l4, l5⟩, ⟨dq, dl⟩, iu, ik, ia, G⟩ := I
  have n45 : g 4 ≠ g 5 := G.ne (by decide) (by decide) (by decide)
  have n04 : g 0 ≠ g 4 := G.ne (by decide) (by decide) (by decide)
  have n05 : g 0 ≠ g 5 := G.ne (by decide) (by decide) (by decide)
  have n14 : g 1 ≠ g 4 := G.ne (by decide) (by decide) (by decide)
  have n15 : g 1 ≠ g 5 := G.ne (by decide) (by decide) (by decide)
  have n24 : g 2 ≠ g 4 := G.ne (by decide) (by decide) (by decide)
  have n25 : g 2 ≠ g 5 := G.ne (by decide) (by decide) (by decide)
  have n34 : g 3 ≠ g 4 := G.ne (by decide) (by decide) (by decide)
  have n35 : g 3 ≠ g 5 := G.ne (by decide) (by decide) (by decide)
  have kBi := fun i (hi : i < 6) => (G.1 i hi).1
  have lti := fun i (hi : i < 6) => (G.1 i hi).2
  have hB0 : kB κ ≤ g 0 := kBi 0 (by decide)
  have kD : hK h (g 4) = 135 := dq.1.1
  have ka : hK h a = 103 := (soN ia.1).1
  have ul8 : us.length ≤ 8 := dq.1.2.2.2.2.2.1
  -- after the deque has room
  have step2 : ∀ (h1 : zH) (hd1 : Nat) (us1 : List Nat), Df (g 4) (g 5) h h1 → DQ h1 (g 4) (g 5) hd1 us1 → us1.length ≤ 7 → us1.length + 1 = (puU (yU Y) (yS Y)).length → (∀ (i y : Nat) (τ : Sg), (us1 ++ [a])[i]? = some y → (puU (yU Y) (yS Y))[i]? = some τ → Sa κ h g p (yP Y) A q0 q y τ) →
      Go κ mX0_act 20 [some (.ref (g 0))] [] h1 Q := by
    intro h1 hd1 us1 df1 dq1 l7 hlen hall
    have v := fun i (h4 : g i ≠ g 4) (h5 : g i ≠ g 5) j => df1.2.1 (g i) h4 h5 j
    have x5' := (v 0 n04 n05 3).trans x5
    have x7' := (v 0 n04 n05 5).trans x7
    have k0' : hK h1 (g 0) = 100 := (df1.1 _).1.trans x1
    have k4' : hK h1 (g 4) = 135 := (df1.1 _).1.trans kD
    simp (disch := first | assumption | omega | decide | (refine Eq.trans (hK_X _) ?_; assumption) | fail) only [gB, I_all, zK_v, zK_n, true_and, and_true, Nat.reduceAdd, Nat.reduceMul, Nat.reduceSub, z_lt, z_le, z_neq, not_false_eq_true, or_true, true_or, or_false, false_or, false_and, and_false, gX0_act, k0', x5', x7', k4']
    refine e23_addLast dq1 l7 n45 (kBi 4 (by decide)) (kBi 5 (by decide)) (by rw [(df1.1 a).1, ka]; decide) fun h2 df2 dq2 => ?_
    have df := df1.trans df2
    have o2 : Om g h h2 := Om_D df
    have x5'' := (df.2.1 (g 0) n04 n05 3).trans x5
    have k0'' : hK h2 (g 0) = 100 := (df.1 _).1.trans x1
    have k3'' : hK h2 a = 103 := (df.1 _).1.trans ka
    have ia2 := ia.om o2 G
    have G2 := G.om o2.2
    have n2 : hN h2 = hN h := df.2.2.1
    simp (disch := first | assumption | omega | decide | (refine Eq.trans (hK_X _) ?_; assumption) | fail) only [gB, I_all, zK_v, zK_n, true_and, and_true, Nat.reduceAdd, Nat.reduceMul, Nat.reduceSub, z_lt, z_le, z_neq, not_false_eq_true, or_true, true_or, or_false, false_or, false_and, and_false, gX0_act, k0'', x5'', k3'']
    refine e3_copy ia2.1 ia2.2.2.2.2.1 ia2.2.2.2.2.2 G2.2.2.2.2.1 ia2.2.1 fun h3 g3 n3 u3 S3 => ?_
    rw [n2] at S3 n3 g3
    have k0 : hK h3 (g 0) = 100 := (g3 _ (Nat.zero_le _) (lti 0 (by decide))).1.trans k0''
    have o3 : Om g h h3 := o2.trans (Om_A (by rw [n2]; exact g3) (by rw [n2, n3]; omega))
    have hn3 : hN h ≤ hN h3 := o3.2
    obtain ⟨h4, hh4⟩ : ∃ h4, h4 = hW h3 (g 0) 3 (.ref (hN h)) := ⟨_, rfl⟩
    have o4 : Om g h h4 := o3.trans (by rw [hh4]; exact Om_W (by decide))
    have lo : ∀ i, 0 < i → i < 6 → ∀ j, hV h4 (g i) j = hV h2 (g i) j := fun i h0 hi j => by rw [hh4, hV_Wn (G.ne hi (by decide) (by omega))]; exact (g3 _ (Nat.zero_le _) (lti i hi)).2.2 j
    have lk : ∀ i, i < 6 → hK h4 (g i) = hK h (g i) ∧ hL h4 (g i) = hL h (g i) := fun i hi => by
      obtain ⟨a1, a2, -⟩ := g3 (g i) (Nat.zero_le _) (lti i hi)
      rw [hh4, hK_W, hL_W, a1, a2]
      exact df.1 _
    have lv : ∀ i, 0 < i → i < 4 → ∀ j, hV h4 (g i) j = hV h (g i) j := fun i h0 hi j => (lo i h0 (by omega) j).trans (df.2.1 (g i) (G.ne (by omega) (by decide) (by omega)) (G.ne (by omega) (by decide) (by omega)) j)
    have l0 : ∀ j, j ≠ 3 → hV h4 (g 0) j = hV h (g 0) j := fun j hj => by rw [hh4, hV_Wj hj, (g3 _ (Nat.zero_le _) (lti 0 (by decide))).2.2]; exact df.2.1 (g 0) n04 n05 j
    have n4 : hN h4 = hN h + (15 + 8 * plN (yP Y) 0 + 5 * plN (yP Y) 1) := by rw [hh4]; exact n3
    have u4 : hU h4 ≤ hU h + 4300 := by rw [hh4, hU_W]; have := df.2.2.2; omega
    have G4 := G.om o4.2
    have q4 : q ≤ hN h := G.2.2.2.2.1
    have S4 : SAt κ h4 (hN h) p (yP Y) A q0 q (yS Y) := by
      rw [hh4]
      refine S3.cg (Ag_W (Or.inr (lti 0 (by decide)))) (fun y h1 h2 => ⟨hK_W .., hL_W .., fun j => hV_Wn (fun e => ?_) j⟩)
      have := G.2.2.1 0 (by decide)
      omega
    have I4 : CI κ h4 g (yKp Y) p A q0 q (hN h) hd1 (us1 ++ [a]) ks := by
      refine ⟨⟨(lk 0 (by decide)).1.trans x1, (l0 0 (by decide)).trans x2, (l0 1 (by decide)).trans x3, (l0 2 (by decide)).trans x4, by rw [hh4]; exact hV_We rfl rfl, (l0 4 (by decide)).trans x6, (l0 5 (by decide)).trans x7⟩,
        ⟨(lk 1 (by decide)).1.trans t1, (lk 1 (by decide)).2.trans t2, t3, fun i v hi => (lv 1 (by decide) (by decide) i).trans (t4 i v hi)⟩,
        ⟨(lk 2 (by decide)).1.trans l1, (lv 2 (by decide) (by decide) _).trans l2, (lv 2 (by decide) (by decide) _).trans l3, (lk 3 (by decide)).1.trans l4, (lk 3 (by decide)).2.trans l5⟩,
        ⟨?_, by rw [List.length_append]; exact hlen⟩, fun i y τ hi ht => (hall i y τ hi ht).om o4 G, fun i hi => ?_, ⟨S4, by rw [n4]; exact Nat.le_refl _, fun i hi => Or.inl (lti i hi), Or.inl G.2.2.2.2.2.1, ia.2.2.2.2⟩, G4⟩
      · obtain ⟨⟨e1, e2, e3, e4, e5, e6, e7, e8⟩, e9⟩ := dq2
        have k4 := (lk 4 (by decide)).1.trans kD
        have k5 := (lk 5 (by decide))
        exact ⟨⟨k4, (lo 4 (by decide) (by decide) _).trans e2, (lo 4 (by decide) (by decide) _).trans e3, (lo 4 (by decide) (by decide) _).trans e4, e5, e6, k5.1.trans ((df.1 _).1.symm.trans e7), k5.2.trans ((df.1 _).2.symm.trans e8)⟩, fun i y hi => (lo 5 (by decide) (by decide) _).trans (e9 i y hi)⟩
      · rcases ik i hi with ⟨k1, k2⟩ | ⟨τ, k1, k2, k3⟩
        · exact Or.inl ⟨k1, (lv 3 (by decide) (by decide) i).trans k2⟩
        · exact Or.inr ⟨τ, k1, (lv 3 (by decide) (by decide) i).trans k2, k3.om o4 G⟩
    have F4 : Fh g (yKp Y) q (hN h) (us1 ++ [a]) ks := by
      refine ⟨fun i y hi => ?_, fun i hi => ?_, q4, lti, G.2.2.2.2.2.1⟩
      · have hil := (List.getElem?_eq_some_iff.mp hi).1
        have hlen2 : (us1 ++ [a]).length = (puU (yU Y) (yS Y)).length := by rw [List.length_append]; exact hlen
        have e := List.getElem?_eq_getElem (l := puU (yU Y) (yS Y)) (i := i) (by omega)
        exact (hall i y _ hi e).2.1
      · rcases ik i hi with ⟨k1, k2⟩ | ⟨τ, k1, k2, k3⟩
        · exact Or.inl k1
        · exact Or.inr k3.2.1
    have q1 := hq h4 hd1 (us1 ++ [a]) I4 F4 o4 n4 u4
    have v4 : hV h4 (g 0) 3 = .ref (hN h) := by rw [hh4]; exact hV_We rfl rfl
    have k04 : hK h4 (g 0) = 100 := (lk 0 (by decide)).1.trans x1
    simp (disch := first | assumption | omega | decide | (refine Eq.trans (hK_X _) ?_; assumption) | fail) only [gB, I_all, zK_v, zK_n, true_and, and_true, Nat.reduceAdd, Nat.reduceMul, Nat.reduceSub, z_lt, z_le, z_neq, not_false_eq_true, or_true, true_or, or_false, false_or, false_and, and_false, gX0_act, k0, hB0]
    rw [n2, ← hh4]
    simp (disch := first | assumption | omega | decide | (refine Eq.trans (hK_X _) ?_; assumption) | fail) only [gB, I_all, zK_v, zK_n, true_and, and_true, Nat.reduceAdd, Nat.reduceMul, Nat.reduceSub, z_lt, z_le, z_neq, not_false_eq_true, or_true, true_or, or_false, false_or, false_and, and_false, gX0_act, k04, v4]
    exact q1
  have es := fun (Q : zQ) => e23_size (κ := κ) (Q := Q) dq
  by_cases c : us.length = 8
  · rw [c] at es
    simp (disch := first | assumption | omega | decide | (refine Eq.trans (hK_X _) ?_; assumption) | fail) only [gB, I_all, zK_v, zK_n, true_and, and_true, Nat.reduceAdd, Nat.reduceMul, Nat.reduceSub, z_lt, z_le, z_neq, not_false_eq_true, or_true, true_or, or_false, false_or, false_and, and_false, gX0_act, x1, x7, kD, es]
    cases us with
    | nil => cases c
    | cons y0 us0 =>
      have c8 : us0.length = 7 := by have : (y0 :: us0).length = us0.length + 1 := rfl; omega
      refine e23_removeFirst dq n45 (kBi 4 (by decide)) (kBi 5 (by decide)) fun h1 df1 dq1 => ?_
      have hu8 : (yU Y).length = 8 := by omega
      have pe : puU (yU Y) (yS Y) = (yU Y).drop 1 ++ [yS Y] := by unfold puU; rw [if_pos hu8]
      have s2 := step2 h1 _ us0 df1 dq1 (by omega) (by rw [pe, List.length_append, List.length_drop, hu8, c8]; rfl) (fun i y τ hi ht => by
        rw [pe] at ht
        have hd7 : ((yU Y).drop 1).length = 7 := by rw [List.length_drop, hu8]
        by_cases ci : i < 7
        · rw [List.getElem?_append_left (by omega)] at hi
          rw [List.getElem?_append_left (by omega), List.getElem?_drop] at ht
          exact iu (i + 1) y τ hi (by rw [Nat.add_comm]; exact ht)
        · have ci' : i = 7 := by
            have := (List.getElem?_eq_some_iff.mp hi).1
            rw [List.length_append, c8] at this
            have h1 : [a].length = 1 := rfl
            omega
          subst ci'
          rw [List.getElem?_append_right (by omega), c8] at hi
          rw [List.getElem?_append_right (by omega), hd7] at ht
          have e1 : a = y := Option.some.inj hi
          have e2 : yS Y = τ := Option.some.inj ht
          rw [← e1, ← e2]
          exact ia)
      simp (disch := first | assumption | omega | decide | (refine Eq.trans (hK_X _) ?_; assumption) | fail) only [gB, I_all, zK_v, zK_n, true_and, and_true, Nat.reduceAdd, Nat.reduceMul, Nat.reduceSub, z_lt, z_le, z_neq, not_false_eq_true, or_true, true_or, or_false, false_or, false_and, and_false, gX0_act]
      simp (disch := first | assumption | omega | decide | (refine Eq.trans (hK_X _) ?_; assumption) | fail) only [gB, I_all, zK_v, zK_n, true_and, and_true, Nat.reduceAdd, Nat.reduceMul, Nat.reduceSub, z_lt, z_le, z_neq, not_false_eq_true, or_true, true_or, or_false, false_or, false_and, and_false, gX0_act] at s2
      exact s2
  · have ul7 : us.length ≤ 7 := by omega
    have pe : puU (yU Y) (yS Y) = yU Y ++ [yS Y] := by unfold puU; rw [if_neg (by omega)]
    have s2 := step2 h hd us Df.rfl dq ul7 (by rw [pe, List.length_append, dl]; rfl) (fun i y τ hi ht => by
      rw [pe] at ht
      by_cases ci : i < us.length
      · rw [List.getElem?_append_left ci] at hi
        rw [List.getElem?_append_left (by omega)] at ht
        exact iu i y τ hi ht
      · have ci' : i = us.length := by
          have := (List.getElem?_eq_some_iff.mp hi).1
          rw [List.length_append] at this
          have h1 : [a].length = 1 := rfl
          omega
        subst ci'
        rw [List.getElem?_append_right (Nat.le_refl _), Nat.sub_self] at hi
        rw [dl, List.getElem?_append_right (Nat.le_refl _), Nat.sub_self] at ht
        have e1 : a = y := Option.some.inj hi
        have e2 : yS Y = τ := Option.some.inj ht
        rw [← e1, ← e2]
        exact ia)
    simp (disch := first | assumption | omega | decide | (refine Eq.trans (hK_X _) ?_; assumption) | fail) only [gB, I_all, zK_v, zK_n, true_and, and_true, Nat.reduceAdd, Nat.reduceMul, Nat.reduceSub, z_lt, z_le, z_neq, not_false_eq_true, or_true, true_or, or_false, false_or, false_and, and_false, gX0_act, x1, x7, kD, es]
    simp (disch := first | assumption | omega | decide | (refine Eq.trans (hK_X _) ?_; assumption) | fail) only [gB, I_all, zK_v, zK_n, true_and, and_true, Nat.reduceAdd, Nat.reduceMul, Nat.reduceSub, z_lt, z_le, z_neq, not_false_eq_true, or_true, true_or, or_false, false_or, false_and, and_false, gX0_act, x1, x7, kD] at s2
    exact s2
end
