/-! the component: texts of the object (written by gen_c73.py) -/
theorem wdC_le (w : Int64) (k : Nat) : ∃ m, m ≤ 31 ∧ wdC w k = Int32.ofNat m := by
  unfold wdC
  generalize w >>> ((Int32.ofNat (5 * k)).toInt64 &&& 63) = x
  have e : (x &&& Int64.ofNat 31).toBitVec.toNat ≤ 31 := by
    rw [Int64.toBitVec_and, BitVec.toNat_and]
    exact Nat.le_trans Nat.and_le_right (by decide)
  refine ⟨_, e, ?_⟩
  generalize x &&& Int64.ofNat 31 = y at e ⊢
  have e2 : y = Int64.ofNat y.toBitVec.toNat := by
    apply Int64.toBitVec_inj.mp
    show y.toBitVec = BitVec.ofNat 64 _
    rw [BitVec.ofNat_toNat, BitVec.setWidth_eq]
  have f : ∀ m : Fin 32, (Int64.ofNat m.val).toInt32 = Int32.ofNat m.val := by decide
  have g := f ⟨y.toBitVec.toNat, by omega⟩
  dsimp only at g
  rw [← g, ← e2]
theorem ascL_ap {l m : List Int32} (a : ascL l) (b : ascL m) : ascL (l ++ m) := fun x hx => (List.mem_append.mp hx).elim (a x) (b x)
theorem ascL_one {n : Nat} (h : n ≤ 127) : ascL [Int32.ofNat n] := fun x hx => by
  rw [List.mem_singleton.mp hx, I_toInt (by omega)]
  omega
theorem ascL_nil : ascL [] := fun x hx => by cases hx
theorem ascL_wdF (w : Int64) : ∀ k, ascL (wdF w k) := by
  intro k
  induction k with
  | zero => exact ascL_nil
  | succ k ih =>
    refine ascL_ap ?_ ih
    obtain ⟨m, hm, e⟩ := wdC_le w k
    rw [e]
    split
    · rw [I_add]
      exact ascL_one (by omega)
    · exact ascL_nil
theorem ascL_word (w : Int64) : ascL (wordL w) := ascL_wdF w 9
theorem ascL_dgs (n : Nat) : ∀ p, ascL (dgs n p) := by
  intro p
  induction p with
  | zero => exact ascL_nil
  | succ p ih => exact ascL_ap (ascL_one (n := 48 + n / 10 ^ p % 10) (by omega)) ih
theorem ascL_dec (n : Nat) : ascL (decL n) := ascL_dgs n _
theorem ascL_dcI (x : Int32) : ascL (dcI x) := ascL_dec _
theorem ascL_kn (k : Nat) : ascL (knL k) := by
  unfold knL
  split <;> exact ascL_word _
theorem ascL_st (Y : Sy) (l : List Lg) : ascL (stL Y l) := by
  induction l with
  | nil => exact ascL_nil
  | cons r l ih => exact ascL_ap (ascL_ap (ascL_ap (ascL_ap (ascL_ap (ascL_ap (ascL_ap (ascL_ap (ascL_ap (ascL_ap (ascL_dcI _) (ascL_one (by decide))) (ascL_kn _)) (ascL_one (by decide))) (ascL_dec _)) (ascL_one (by decide))) (ascL_word _)) (ascL_one (by decide))) (ascL_dcI _)) (ascL_one (by decide))) ih
theorem ascL_bs (σ : Sg) (s : Nat) (a : Bool) : ∀ k, ascL (bsL σ s a k) := by
  intro k
  induction k with
  | zero => exact ascL_nil
  | succ k ih =>
    unfold bsL
    refine ascL_ap ih ?_
    split
    · refine ascL_ap (ascL_ap (ascL_one (n := 32) (by decide)) ?_ : ascL ([Int32.ofNat 32] ++ [if a = true then Int32.ofNat 42 else Int32.ofNat 45])) (ascL_dec _)
      split
      · exact ascL_one (by decide)
      · exact ascL_one (by decide)
    · exact ascL_nil
theorem ascL_bd (Y : Sy) : ∀ k, ascL (bdL Y k) := by
  intro k
  induction k with
  | zero => exact ascL_nil
  | succ k ih => exact ascL_ap ih (ascL_ap (ascL_ap (ascL_ap (ascL_ap (ascL_ap (ascL_word _) (ascL_one (by decide))) (ascL_dec _)) (ascL_bs _ _ _ _)) (ascL_bs _ _ _ _)) (ascL_one (by decide)))
theorem ascL_pr (w : Int64) (v : Int32) {c : Nat} (h : c ≤ 127) : ascL (prL w v (Int32.ofNat c)) := ascL_ap (ascL_ap (ascL_ap (ascL_word _) (ascL_one (by decide))) (ascL_dcI _)) (ascL_one h)
theorem ascL_na (w : Int64) (v : Int32) : ascL (naL w v) := ascL_ap (ascL_ap (ascL_ap (ascL_word _) (ascL_one (by decide))) (ascL_word _)) (ascL_one (by decide))
theorem ascL_cat {f : Nat → List Int32} (h : ∀ k, ascL (f k)) : ∀ k, ascL (catL f k) := by
  intro k
  induction k with
  | zero => exact ascL_nil
  | succ k ih => exact ascL_ap ih (h k)
theorem ascL_su (Y : Sy) : ascL (suL Y) := by
  have d : (32 : Nat) ≤ 127 := by decide
  have d2 : (59 : Nat) ≤ 127 := by decide
  refine ascL_ap (ascL_ap (ascL_ap ?_ (ascL_cat (fun s => ?_) _)) (ascL_cat (fun b => ?_) _)) (ascL_cat (fun f => ?_) _)
  · exact ascL_ap (ascL_ap (ascL_ap (ascL_ap (ascL_ap (ascL_ap (ascL_ap (ascL_pr _ _ d) (ascL_pr _ _ d)) (ascL_pr _ _ d)) (ascL_pr _ _ d)) (ascL_pr _ _ d)) (ascL_pr _ _ d)) (ascL_pr _ _ d)) (ascL_pr _ _ d2)
  · unfold suS
    refine ascL_ap (ascL_ap (ascL_na _ _) (ascL_pr _ _ d)) ?_
    split
    · exact ascL_ap (ascL_ap (ascL_pr _ _ d) (ascL_word _)) (ascL_one (by decide))
    · exact ascL_pr _ _ d2
  · exact ascL_ap (ascL_pr _ _ d) (ascL_pr _ _ d2)
  · exact ascL_ap (ascL_ap (ascL_ap (ascL_na _ _) (ascL_na _ _)) (ascL_pr _ _ d)) (ascL_pr _ _ d2)
/-- the plan's names: strings, none of the object's own cells -/
def TN (h : zH) (g : Nat → Nat) (A : Nat → Nat → Nat) (Y : Sy) : Prop := ∀ s, s < plN (yP Y) 0 → ∃ v, St h (A 7 s) v (nmL Y s) ∧ (A 7 s < hN h ∧ ¬ Ow g (A 7 s)) ∧ (v < hN h ∧ ¬ Ow g v)
section
variable {κ : zC} {h h' : zH} {g : Nat → Nat} {p q0 q a hd : Nat} {us : List Nat} {ks : Nat → Nat} {A : Nat → Nat → Nat} {Q : zQ} {Y : Sy}
theorem TN.om (T : TN h g A Y) (o : Om g h h') : TN h' g A Y := fun s hs => by
  obtain ⟨v, S, ⟨a1, a2⟩, ⟨v1, v2⟩⟩ := T s hs
  have ea := o.1 _ a1 a2
  have ev := o.1 _ v1 v2
  exact ⟨v, S.cg ⟨ea.1, ea.2.2⟩ ev, ⟨Nat.lt_of_lt_of_le a1 o.2, a2⟩, ⟨Nat.lt_of_lt_of_le v1 o.2, v2⟩⟩
theorem Gm.kb (G : Gm κ h g q0 q) : kB κ ≤ hN h := by
  have := G.1 0 (by decide)
  omega
theorem KS.om (K : KS κ h) (G : Gm κ h g q0 q) (o : Om g h h') : KS κ h' := K.ag (o.ag (fun i hi => Or.inr (G.1 i hi).1) G.kb) (Nat.le_refl _)
theorem CI.tx (I : CI κ h g Y p A q0 q a hd us ks) (K : KS κ h) (T : TN h g A Y) : TX κ h a p Y A q0 q := by
  have S := I.2.2.2.2.2.2.1
  have G := I.2.2.2.2.2.2.2
  refine ⟨K, S.1, ⟨S.2.1, G.2.2.2.2.1, G.kb⟩, fun s hs => ?_⟩
  obtain ⟨v, t, a1, v1⟩ := T s hs
  exact ⟨v, t, a1.1, v1.1⟩
theorem nlt0 {i : Int32} (c : ¬ i < Int32.ofNat 0) : 0 ≤ i.toInt := by
  have := Int32.le_iff_toInt_le.mp (Int32.not_lt.mp c)
  exact this
theorem e0_boardLength (I : CI κ h g Y p A q0 q a hd us ks) (K : KS κ h) (T : TN h g A Y) (hq : OR κ h g p A q0 q (Int32.ofNat (bdL Y (plN (yP Y) 0)).length, Y) Q) : Ev κ mX0_boardLength [.ref (g 0)] h Q := by
  have X := I.tx K T
  have OK := I.2.2.2.2.2.2.1.2.2.2.2.1
  have V := I.2.2.2.2.2.2.1.2.2.2.2.2
  have h10 := X.2.1.1.2.2.1.1.2
  have kx := I.1.1
  have v := I.1.2.2.2.2.1
  have ka := (soN X.2.1).1
  simp (disch := first | assumption | omega | decide) only [gB, I_all, zK_v, zK_n, true_and, and_true, Nat.reduceAdd, Nat.reduceMul, Nat.reduceSub, z_lt, z_le, z_neq, not_false_eq_true, or_true, true_or, or_false, false_or, false_and, and_false, gX0_boardLength, kx, v, ka]
  refine e3_boardT X OK fun h1 s v1 N1 n1 u1 => ?_
  have N2 := N1.2.1
  have el := fun (Q : zQ) => eS_length (Q := Q) K.1 N1.1
  have q1 := hq h1 ⟨a, hd, us, ks, I.ext N1.2.2.2 (by omega)⟩ (Om_A N1.2.2.2 (by omega)) (by omega) (by omega)
  rcases N1.1.1 with k | k
  · simp (disch := first | assumption | omega | decide) only [gB, I_all, zK_v, zK_n, true_and, and_true, Nat.reduceAdd, Nat.reduceMul, Nat.reduceSub, z_lt, z_le, z_neq, not_false_eq_true, or_true, true_or, or_false, false_or, false_and, and_false, gX0_boardLength, k, el]
    exact q1
  · simp (disch := first | assumption | omega | decide) only [gB, I_all, zK_v, zK_n, true_and, and_true, Nat.reduceAdd, Nat.reduceMul, Nat.reduceSub, z_lt, z_le, z_neq, not_false_eq_true, or_true, true_or, or_false, false_or, false_and, and_false, gX0_boardLength, k, el]
    exact q1
theorem e0_boardByte {i : Int32} (I : CI κ h g Y p A q0 q a hd us ks) (K : KS κ h) (T : TN h g A Y) (hq : OR κ h g p A q0 q (byA (bdL Y (plN (yP Y) 0)) i, Y) Q) : Ev κ mX0_boardByte [.ref (g 0), .int i] h Q := by
  have X := I.tx K T
  have OK := I.2.2.2.2.2.2.1.2.2.2.2.1
  have V := I.2.2.2.2.2.2.1.2.2.2.2.2
  have h10 := X.2.1.1.2.2.1.1.2
  have kx := I.1.1
  have v := I.1.2.2.2.2.1
  have ka := (soN X.2.1).1
  unfold byA at hq
  by_cases c : i < Int32.ofNat 0
  · have c' : ¬ Int32.ofNat 0 ≤ i := Int32.not_le.mpr c
    rw [if_pos c] at hq
    have q1 := I.nop hq.q
    simp (disch := first | assumption | omega | decide) only [gB, I_all, zK_v, zK_n, true_and, and_true, Nat.reduceAdd, Nat.reduceMul, Nat.reduceSub, z_lt, z_le, z_neq, not_false_eq_true, or_true, true_or, or_false, false_or, false_and, and_false, gX0_boardByte]
    exact q1
  · have c' : Int32.ofNat 0 ≤ i := Int32.not_lt.mp c
    rw [if_neg c] at hq
    simp (disch := first | assumption | omega | decide) only [gB, I_all, zK_v, zK_n, true_and, and_true, Nat.reduceAdd, Nat.reduceMul, Nat.reduceSub, z_lt, z_le, z_neq, not_false_eq_true, or_true, true_or, or_false, false_or, false_and, and_false, gX0_boardByte, kx, v, ka]
    refine e3_boardT X OK fun h1 s v1 N1 n1 u1 => ?_
    have N2 := N1.2.1
    have K1 : KS κ h1 := K.ag N1.2.2.2 X.2.2.1.2.2
    have eb := fun (Q : zQ) => e0_byteAt (Q := Q) (j := i) K1 N1.1 (ascL_bd Y _) (nlt0 c)
    have q1 := hq h1 ⟨a, hd, us, ks, I.ext N1.2.2.2 (by omega)⟩ (Om_A N1.2.2.2 (by omega)) (by omega) (by omega)
    simp (disch := first | assumption | omega | decide) only [gB, I_all, zK_v, zK_n, true_and, and_true, Nat.reduceAdd, Nat.reduceMul, Nat.reduceSub, z_lt, z_le, z_neq, not_false_eq_true, or_true, true_or, or_false, false_or, false_and, and_false, gX0_boardByte, eb]
    exact q1
theorem e0_storyLength (L : lOk (yS Y)) (I : CI κ h g Y p A q0 q a hd us ks) (K : KS κ h) (T : TN h g A Y) (hq : OR κ h g p A q0 q (Int32.ofNat (stL Y (sG (yS Y))).length, Y) Q) : Ev κ mX0_storyLength [.ref (g 0)] h Q := by
  have X := I.tx K T
  have OK := I.2.2.2.2.2.2.1.2.2.2.2.1
  have V := I.2.2.2.2.2.2.1.2.2.2.2.2
  have h10 := X.2.1.1.2.2.1.1.2
  have kx := I.1.1
  have v := I.1.2.2.2.2.1
  have ka := (soN X.2.1).1
  simp (disch := first | assumption | omega | decide) only [gB, I_all, zK_v, zK_n, true_and, and_true, Nat.reduceAdd, Nat.reduceMul, Nat.reduceSub, z_lt, z_le, z_neq, not_false_eq_true, or_true, true_or, or_false, false_or, false_and, and_false, gX0_storyLength, kx, v, ka]
  refine e3_story X OK L fun h1 s v1 N1 n1 u1 => ?_
  have N2 := N1.2.1
  have el := fun (Q : zQ) => eS_length (Q := Q) K.1 N1.1
  have q1 := hq h1 ⟨a, hd, us, ks, I.ext N1.2.2.2 (by omega)⟩ (Om_A N1.2.2.2 (by omega)) (by omega) (by omega)
  rcases N1.1.1 with k | k
  · simp (disch := first | assumption | omega | decide) only [gB, I_all, zK_v, zK_n, true_and, and_true, Nat.reduceAdd, Nat.reduceMul, Nat.reduceSub, z_lt, z_le, z_neq, not_false_eq_true, or_true, true_or, or_false, false_or, false_and, and_false, gX0_storyLength, k, el]
    exact q1
  · simp (disch := first | assumption | omega | decide) only [gB, I_all, zK_v, zK_n, true_and, and_true, Nat.reduceAdd, Nat.reduceMul, Nat.reduceSub, z_lt, z_le, z_neq, not_false_eq_true, or_true, true_or, or_false, false_or, false_and, and_false, gX0_storyLength, k, el]
    exact q1
theorem e0_storyByte {i : Int32} (L : lOk (yS Y)) (I : CI κ h g Y p A q0 q a hd us ks) (K : KS κ h) (T : TN h g A Y) (hq : OR κ h g p A q0 q (byA (stL Y (sG (yS Y))) i, Y) Q) : Ev κ mX0_storyByte [.ref (g 0), .int i] h Q := by
  have X := I.tx K T
  have OK := I.2.2.2.2.2.2.1.2.2.2.2.1
  have V := I.2.2.2.2.2.2.1.2.2.2.2.2
  have h10 := X.2.1.1.2.2.1.1.2
  have kx := I.1.1
  have v := I.1.2.2.2.2.1
  have ka := (soN X.2.1).1
  unfold byA at hq
  by_cases c : i < Int32.ofNat 0
  · have c' : ¬ Int32.ofNat 0 ≤ i := Int32.not_le.mpr c
    rw [if_pos c] at hq
    have q1 := I.nop hq.q
    simp (disch := first | assumption | omega | decide) only [gB, I_all, zK_v, zK_n, true_and, and_true, Nat.reduceAdd, Nat.reduceMul, Nat.reduceSub, z_lt, z_le, z_neq, not_false_eq_true, or_true, true_or, or_false, false_or, false_and, and_false, gX0_storyByte]
    exact q1
  · have c' : Int32.ofNat 0 ≤ i := Int32.not_lt.mp c
    rw [if_neg c] at hq
    simp (disch := first | assumption | omega | decide) only [gB, I_all, zK_v, zK_n, true_and, and_true, Nat.reduceAdd, Nat.reduceMul, Nat.reduceSub, z_lt, z_le, z_neq, not_false_eq_true, or_true, true_or, or_false, false_or, false_and, and_false, gX0_storyByte, kx, v, ka]
    refine e3_story X OK L fun h1 s v1 N1 n1 u1 => ?_
    have N2 := N1.2.1
    have K1 : KS κ h1 := K.ag N1.2.2.2 X.2.2.1.2.2
    have eb := fun (Q : zQ) => e0_byteAt (Q := Q) (j := i) K1 N1.1 (ascL_st Y _) (nlt0 c)
    have q1 := hq h1 ⟨a, hd, us, ks, I.ext N1.2.2.2 (by omega)⟩ (Om_A N1.2.2.2 (by omega)) (by omega) (by omega)
    simp (disch := first | assumption | omega | decide) only [gB, I_all, zK_v, zK_n, true_and, and_true, Nat.reduceAdd, Nat.reduceMul, Nat.reduceSub, z_lt, z_le, z_neq, not_false_eq_true, or_true, true_or, or_false, false_or, false_and, and_false, gX0_storyByte, eb]
    exact q1
theorem e0_setupLength (N : nOk (yS Y)) (I : CI κ h g Y p A q0 q a hd us ks) (K : KS κ h) (T : TN h g A Y) (hq : OR κ h g p A q0 q (Int32.ofNat (suL Y).length, Y) Q) : Ev κ mX0_setupLength [.ref (g 0)] h Q := by
  have X := I.tx K T
  have OK := I.2.2.2.2.2.2.1.2.2.2.2.1
  have V := I.2.2.2.2.2.2.1.2.2.2.2.2
  have h10 := X.2.1.1.2.2.1.1.2
  have kx := I.1.1
  have v := I.1.2.2.2.2.1
  have ka := (soN X.2.1).1
  simp (disch := first | assumption | omega | decide) only [gB, I_all, zK_v, zK_n, true_and, and_true, Nat.reduceAdd, Nat.reduceMul, Nat.reduceSub, z_lt, z_le, z_neq, not_false_eq_true, or_true, true_or, or_false, false_or, false_and, and_false, gX0_setupLength, kx, v, ka]
  refine e3_setup X N (fun s hs => V.1 s (by omega)) fun h1 s v1 N1 n1 u1 => ?_
  have N2 := N1.2.1
  have el := fun (Q : zQ) => eS_length (Q := Q) K.1 N1.1
  have q1 := hq h1 ⟨a, hd, us, ks, I.ext N1.2.2.2 (by omega)⟩ (Om_A N1.2.2.2 (by omega)) (by omega) (by omega)
  rcases N1.1.1 with k | k
  · simp (disch := first | assumption | omega | decide) only [gB, I_all, zK_v, zK_n, true_and, and_true, Nat.reduceAdd, Nat.reduceMul, Nat.reduceSub, z_lt, z_le, z_neq, not_false_eq_true, or_true, true_or, or_false, false_or, false_and, and_false, gX0_setupLength, k, el]
    exact q1
  · simp (disch := first | assumption | omega | decide) only [gB, I_all, zK_v, zK_n, true_and, and_true, Nat.reduceAdd, Nat.reduceMul, Nat.reduceSub, z_lt, z_le, z_neq, not_false_eq_true, or_true, true_or, or_false, false_or, false_and, and_false, gX0_setupLength, k, el]
    exact q1
theorem e0_setupByte {i : Int32} (N : nOk (yS Y)) (I : CI κ h g Y p A q0 q a hd us ks) (K : KS κ h) (T : TN h g A Y) (hq : OR κ h g p A q0 q (byA (suL Y) i, Y) Q) : Ev κ mX0_setupByte [.ref (g 0), .int i] h Q := by
  have X := I.tx K T
  have OK := I.2.2.2.2.2.2.1.2.2.2.2.1
  have V := I.2.2.2.2.2.2.1.2.2.2.2.2
  have h10 := X.2.1.1.2.2.1.1.2
  have kx := I.1.1
  have v := I.1.2.2.2.2.1
  have ka := (soN X.2.1).1
  unfold byA at hq
  by_cases c : i < Int32.ofNat 0
  · have c' : ¬ Int32.ofNat 0 ≤ i := Int32.not_le.mpr c
    rw [if_pos c] at hq
    have q1 := I.nop hq.q
    simp (disch := first | assumption | omega | decide) only [gB, I_all, zK_v, zK_n, true_and, and_true, Nat.reduceAdd, Nat.reduceMul, Nat.reduceSub, z_lt, z_le, z_neq, not_false_eq_true, or_true, true_or, or_false, false_or, false_and, and_false, gX0_setupByte]
    exact q1
  · have c' : Int32.ofNat 0 ≤ i := Int32.not_lt.mp c
    rw [if_neg c] at hq
    simp (disch := first | assumption | omega | decide) only [gB, I_all, zK_v, zK_n, true_and, and_true, Nat.reduceAdd, Nat.reduceMul, Nat.reduceSub, z_lt, z_le, z_neq, not_false_eq_true, or_true, true_or, or_false, false_or, false_and, and_false, gX0_setupByte, kx, v, ka]
    refine e3_setup X N (fun s hs => V.1 s (by omega)) fun h1 s v1 N1 n1 u1 => ?_
    have N2 := N1.2.1
    have K1 : KS κ h1 := K.ag N1.2.2.2 X.2.2.1.2.2
    have eb := fun (Q : zQ) => e0_byteAt (Q := Q) (j := i) K1 N1.1 (ascL_su Y) (nlt0 c)
    have q1 := hq h1 ⟨a, hd, us, ks, I.ext N1.2.2.2 (by omega)⟩ (Om_A N1.2.2.2 (by omega)) (by omega) (by omega)
    simp (disch := first | assumption | omega | decide) only [gB, I_all, zK_v, zK_n, true_and, and_true, Nat.reduceAdd, Nat.reduceMul, Nat.reduceSub, z_lt, z_le, z_neq, not_false_eq_true, or_true, true_or, or_false, false_or, false_and, and_false, gX0_setupByte, eb]
    exact q1
end
