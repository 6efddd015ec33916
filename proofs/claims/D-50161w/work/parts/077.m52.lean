/-! the twin: reading numbers, stops; printed by gen/gen_m52.py -/
theorem PzS.cg {W W' : Nat → Nat → Int32} {SM SM' : Nat → Nat → Int64} {tp : List Int32} {r : Except Nat Nat} (P : PzS W SM tp r) (e : ∀ j, W' 0 j = W 0 j) (e' : SM' 0 107 = SM 0 107) : PzS W' SM' tp r := by
  cases r with
  | error x => exact ⟨(e _).trans P.1, (e _).trans P.2⟩
  | ok i =>
    obtain ⟨⟨q0, q1, q2, q3, q4, q5, q6⟩, p2, p3⟩ := P
    exact ⟨⟨q0, (e _).trans q1, (e _).trans q2, (e _).trans q3, fun z => (e _).trans (q4 z), fun z => (e _).trans (q5 z), fun z => e'.trans (q6 z)⟩, (e _).trans p2, (e _).trans p3⟩
/-- a check whose outcome is known when all went well so far -/
theorem bd_c {W : Nat → Nat → Int32} {SM : Nat → Nat → Int64} {tp : List Int32} {r : Except Nat Nat} {c : Bool} {f : Nat → Bool} (P : PzS W SM tp (r.bind (tkC tp c))) (h : ∀ i, r = .ok i → c = f i) : PzS W SM tp (r.bind fun i => tkC tp (f i) i) := by
  cases r with
  | error x => rw [bd_er] at P ⊢; exact P
  | ok i =>
    rw [bd_ok] at P ⊢
    rw [← h i rfl]
    exact P
def nLo : Nat → Nat
  | 3 => 30
  | 5 => 60
  | 6 => 60
  | _ => 0
def nHi : Nat → Nat
  | 0 => 60
  | 1 => 9
  | 2 => 9
  | 3 => 3600
  | 4 => 900
  | 5 => 9999
  | 6 => 9999
  | _ => 3
def rdNk (tp : List Int32) : Nat → Nat → Except Nat Nat
  | 0, i => .ok i
  | k + 1, i => (rdNk tp k i).bind (nofC tp k (nLo k) (nHi k))
def isSg (tp : List Int32) (i : Nat) : Bool := decide (tkK tp i = 4)
def rdN (tp : List Int32) (i : Nat) : Except Nat Nat := (rdNk tp 8 i).bind fun i => tkC tp (isSg tp i) i
def nuV (tp : List Int32) (i k : Nat) : Int32 := match rdNk tp k i with
  | .ok p => tkV tp (tkE tp p)
  | .error _ => 0
theorem bd_bd {α β γ : Type} (r : Except Nat α) (f : α → Except Nat β) (g : β → Except Nat γ) : (r.bind f).bind g = r.bind fun i => (f i).bind g := by
  cases r with
  | error e => rw [bd_er, bd_er, bd_er]
  | ok i => rw [bd_ok, bd_ok]
theorem bd_okI {α β : Type} {r : Except Nat α} {f : α → Except Nat β} {j : β} (h : r.bind f = .ok j) : ∃ i, r = .ok i ∧ f i = .ok j := by
  cases r with
  | error e => rw [bd_er] at h; cases h
  | ok i => rw [bd_ok] at h; exact ⟨i, rfl, h⟩
theorem tkC_ok {tp : List Int32} {c : Bool} {i j : Nat} (h : tkC tp c i = .ok j) : c = true ∧ j = tkE tp i := by
  unfold tkC at h
  split at h
  · next hc => cases h; exact ⟨hc, rfl⟩
  · cases h
theorem nofC_ok {tp : List Int32} {j l u i q : Nat} (h : nofC tp j l u i = .ok q) : isK tp i j = true ∧ okN tp (tkE tp i) l u = true ∧ q = tkE tp (tkE tp i) := by
  obtain ⟨p, h1, h2⟩ := bd_okI h
  obtain ⟨h3, h4⟩ := tkC_ok h1
  obtain ⟨h5, h6⟩ := tkC_ok h2
  subst h4
  exact ⟨h3, h5, h6⟩
/-- the first k numbers have been read -/
def NuV (W : Nat → Nat → Int32) (tp : List Int32) (r : Except Nat Nat) (k : Nat) : Prop := ∀ i j, r = .ok i → rdNk tp k i = .ok j → ∀ m, m < k → W 22 m = nuV tp i m
/-- what reading numbers leaves alone -/
def PzN (W W' : Nat → Nat → Int32) (SM SM' : Nat → Nat → Int64) : Prop := (∀ k j, ¬ rdD k j → k ≠ 22 → W' k j = W k j) ∧ (∀ k j, ¬ (k = 0 ∧ j = 107) → SM' k j = SM k j)
theorem nu_st {W W' : Nat → Nat → Int32} {SM SM' SM0 : Nat → Nat → Int64} {W0 : Nat → Nat → Int32} {tp : List Int32} {r : Except Nat Nat} {k : Nat} {v : Int32} (T : TTp W tp) (V : NuV W tp r k) (U0 : PzN W0 W SM0 SM) (U : PzV W W' SM SM') (P : PzS W' SM' tp ((r.bind (rdNk tp k)).bind (nofC tp k (nLo k) (nHi k))))
    (hv : ∀ i, r.bind (rdNk tp k) = .ok i → isK tp i k = true → okN tp (tkE tp i) (nLo k) (nHi k) = true → v = tkV tp (tkE tp i)) :
    TTp (zv W' 22 k v) tp ∧ NuV (zv W' 22 k v) tp r (k + 1) ∧ PzN W0 (zv W' 22 k v) SM0 SM' ∧ PzS (zv W' 22 k v) SM' tp (r.bind (rdNk tp (k + 1))) := by
  refine ⟨T.cg (by rw [zv_nx (by omega)]; exact U.1 _ _ (by unfold rdD; omega)) (fun j => by rw [zv_nx (by omega)]; exact U.1 _ _ (by unfold rdD; omega)), ?_, ⟨fun k' j' h1 h2 => ?_, fun k' j' h1 => (U.2 _ _ h1).trans (U0.2 _ _ h1)⟩, ?_⟩
  · intro i j hi hj m hm
    obtain ⟨p, h1, h2⟩ := bd_okI (show (rdNk tp k i).bind (nofC tp k (nLo k) (nHi k)) = .ok j from hj)
    by_cases e : m = k
    · subst e
      rw [zv_at rfl rfl]
      obtain ⟨h3, h4, h5⟩ := nofC_ok h2
      have := hv p (by rw [hi, bd_ok]; exact h1) h3 h4
      rw [this]
      unfold nuV
      rw [h1]
    · rw [zv_nx (by omega), U.1 _ _ (by unfold rdD; omega)]
      exact V i p hi h1 m (by omega)
  · rw [zv_nx (fun z => h2 z.1), U.1 _ _ h1]
    exact U0.1 _ _ h1 h2
  · rw [bd_bd] at P
    exact P.cg (fun j => zv_nx (by omega)) rfl
section
variable {κ : zC} {h : zH} {b : Nat} {W : Nat → Nat → Int32} {SM : Nat → Nat → Int64} {Q : zQ} {tp : List Int32}
/-- the sign behind: the check's outcome -/
theorem sg_c {r : Except Nat Nat} {c : Bool} (P : PzS W SM tp r) (hc : c = decide (W 0 106 = Int32.ofNat 4)) : ∀ i, r = .ok i → c = isSg tp i := by
  intro i hi
  subst hi
  obtain ⟨⟨q0, q1, q2, q3, q4, q5, q6⟩, p2, p3⟩ := P
  have k5 := tkK_le tp i
  rw [hc, q3]
  unfold isSg
  by_cases c : tkK tp i = 4
  · rw [decide_eq_true c, decide_eq_true (by rw [c])]
  · rw [decide_eq_false c, decide_eq_false (by rw [I_eq (by omega) (by omega)]; exact c)]
theorem e7_readNumbers {r : Except Nat Nat} (S : TSh κ h b) (T0 : TTp W tp) (P : PzS W SM tp r)
    (hq : ∀ W' SM', PzN W W' SM SM' → PzS W' SM' tp (r.bind (rdN tp)) → (∀ i j, r = .ok i → rdN tp i = .ok j → ∀ k, k < 8 → W' 22 k = nuV tp i k) → Q (.inl none) (hX h b 33 W' SM')) : Ev κ mX7_readNumbers [.ref b] (hX h b 33 W SM) Q := by
  have F := xF S
  have R := xR S
  have K := xK S
  have hB : kB κ ≤ b := S.1.1
  have V0 : NuV W tp r 0 := fun i j _ _ m hm => by omega
  have U0 : PzN W W SM SM := ⟨fun _ _ _ _ => rfl, fun _ _ _ => rfl⟩
  have P0 : PzS W SM tp (r.bind (rdNk tp 0)) := by
    cases r with
    | error e => rw [bd_er]; exact P
    | ok i => rw [bd_ok]; exact P
  simp (disch := first | assumption | omega | decide) only [gB, I_all, zK_v, zK_n, true_and, and_true, Nat.reduceAdd, Nat.reduceMul, Nat.reduceSub, z_lt, z_le, z_neq, not_false_eq_true, or_true, true_or, or_false, false_or, false_and, and_false, gX7_readNumbers, F, R, K]
  refine e7_numberOf (r := r.bind (rdNk tp 0)) (j := 0) (l := nLo 0) (u := nHi 0) S T0 P0 rfl (by decide) (by decide) fun W1 SM1 v1 G1 H1 hv1 => ?_
  obtain ⟨T1, V1, U1, P1⟩ := nu_st (k := 0) T0 V0 U0 G1 H1 hv1
  clear G1 H1 hv1
  simp (disch := first | assumption | omega | decide) only [gB, I_all, zK_v, zK_n, true_and, and_true, Nat.reduceAdd, Nat.reduceMul, Nat.reduceSub, z_lt, z_le, z_neq, not_false_eq_true, or_true, true_or, or_false, false_or, false_and, and_false, gX7_readNumbers, F, R, K]
  refine e7_numberOf (r := r.bind (rdNk tp 1)) (j := 1) (l := nLo 1) (u := nHi 1) S T1 P1 rfl (by decide) (by decide) fun W2 SM2 v2 G2 H2 hv2 => ?_
  obtain ⟨T2, V2, U2, P2⟩ := nu_st (k := 1) T1 V1 U1 G2 H2 hv2
  clear G2 H2 hv2
  simp (disch := first | assumption | omega | decide) only [gB, I_all, zK_v, zK_n, true_and, and_true, Nat.reduceAdd, Nat.reduceMul, Nat.reduceSub, z_lt, z_le, z_neq, not_false_eq_true, or_true, true_or, or_false, false_or, false_and, and_false, gX7_readNumbers, F, R, K]
  refine e7_numberOf (r := r.bind (rdNk tp 2)) (j := 2) (l := nLo 2) (u := nHi 2) S T2 P2 rfl (by decide) (by decide) fun W3 SM3 v3 G3 H3 hv3 => ?_
  obtain ⟨T3, V3, U3, P3⟩ := nu_st (k := 2) T2 V2 U2 G3 H3 hv3
  clear G3 H3 hv3
  simp (disch := first | assumption | omega | decide) only [gB, I_all, zK_v, zK_n, true_and, and_true, Nat.reduceAdd, Nat.reduceMul, Nat.reduceSub, z_lt, z_le, z_neq, not_false_eq_true, or_true, true_or, or_false, false_or, false_and, and_false, gX7_readNumbers, F, R, K]
  refine e7_numberOf (r := r.bind (rdNk tp 3)) (j := 3) (l := nLo 3) (u := nHi 3) S T3 P3 rfl (by decide) (by decide) fun W4 SM4 v4 G4 H4 hv4 => ?_
  obtain ⟨T4, V4, U4, P4⟩ := nu_st (k := 3) T3 V3 U3 G4 H4 hv4
  clear G4 H4 hv4
  simp (disch := first | assumption | omega | decide) only [gB, I_all, zK_v, zK_n, true_and, and_true, Nat.reduceAdd, Nat.reduceMul, Nat.reduceSub, z_lt, z_le, z_neq, not_false_eq_true, or_true, true_or, or_false, false_or, false_and, and_false, gX7_readNumbers, F, R, K]
  refine e7_numberOf (r := r.bind (rdNk tp 4)) (j := 4) (l := nLo 4) (u := nHi 4) S T4 P4 rfl (by decide) (by decide) fun W5 SM5 v5 G5 H5 hv5 => ?_
  obtain ⟨T5, V5, U5, P5⟩ := nu_st (k := 4) T4 V4 U4 G5 H5 hv5
  clear G5 H5 hv5
  simp (disch := first | assumption | omega | decide) only [gB, I_all, zK_v, zK_n, true_and, and_true, Nat.reduceAdd, Nat.reduceMul, Nat.reduceSub, z_lt, z_le, z_neq, not_false_eq_true, or_true, true_or, or_false, false_or, false_and, and_false, gX7_readNumbers, F, R, K]
  refine e7_numberOf (r := r.bind (rdNk tp 5)) (j := 5) (l := nLo 5) (u := nHi 5) S T5 P5 rfl (by decide) (by decide) fun W6 SM6 v6 G6 H6 hv6 => ?_
  obtain ⟨T6, V6, U6, P6⟩ := nu_st (k := 5) T5 V5 U5 G6 H6 hv6
  clear G6 H6 hv6
  simp (disch := first | assumption | omega | decide) only [gB, I_all, zK_v, zK_n, true_and, and_true, Nat.reduceAdd, Nat.reduceMul, Nat.reduceSub, z_lt, z_le, z_neq, not_false_eq_true, or_true, true_or, or_false, false_or, false_and, and_false, gX7_readNumbers, F, R, K]
  refine e7_numberOf (r := r.bind (rdNk tp 6)) (j := 6) (l := nLo 6) (u := nHi 6) S T6 P6 rfl (by decide) (by decide) fun W7 SM7 v7 G7 H7 hv7 => ?_
  obtain ⟨T7, V7, U7, P7⟩ := nu_st (k := 6) T6 V6 U6 G7 H7 hv7
  clear G7 H7 hv7
  simp (disch := first | assumption | omega | decide) only [gB, I_all, zK_v, zK_n, true_and, and_true, Nat.reduceAdd, Nat.reduceMul, Nat.reduceSub, z_lt, z_le, z_neq, not_false_eq_true, or_true, true_or, or_false, false_or, false_and, and_false, gX7_readNumbers, F, R, K]
  refine e7_numberOf (r := r.bind (rdNk tp 7)) (j := 7) (l := nLo 7) (u := nHi 7) S T7 P7 rfl (by decide) (by decide) fun W8 SM8 v8 G8 H8 hv8 => ?_
  obtain ⟨T8, V8, U8, P8⟩ := nu_st (k := 7) T7 V7 U7 G8 H8 hv8
  clear G8 H8 hv8
  have fin : ∀ c, c = decide (zv W8 22 7 v8 0 106 = Int32.ofNat 4) → Ev κ mX7_takes [.ref b, .int (boI c)] (hX h b 33 (zv W8 22 7 v8) SM8) (zK κ mX7_readNumbers 150 3 [some (.ref b)] [] Q) := by
    intro c hc
    refine e7_takes S T8 P8 fun W9 SM9 U9 P9 => ?_
    have P9' := bd_c P9 (sg_c P8 hc)
    have f := hq W9 SM9 ⟨fun k j h1 h2 => (U9.1 _ _ h1).trans (U8.1 _ _ h1 h2), fun k j h1 => (U9.2 _ _ h1).trans (U8.2 _ _ h1)⟩ (by
      rw [bd_bd] at P9'
      exact P9') (fun i j hi hj k hk => by
      obtain ⟨p, h1, h2⟩ := bd_okI hj
      rw [U9.1 _ _ (by unfold rdD; omega)]
      exact V8 i p hi h1 k hk)
    simp (disch := first | assumption | omega | decide) only [gB, I_all, zK_v, zK_n, true_and, and_true, Nat.reduceAdd, Nat.reduceMul, Nat.reduceSub, z_lt, z_le, z_neq, not_false_eq_true, or_true, true_or, or_false, false_or, false_and, and_false, gX7_readNumbers]
    exact f
  have f1 := fin true
  have f0 := fin false
  rw [show boI true = Int32.ofNat 1 from rfl] at f1
  rw [show boI false = Int32.ofNat 0 from rfl] at f0
  by_cases c : zv W8 22 7 v8 0 106 = Int32.ofNat 4
  · have f := f1 (decide_eq_true c).symm
    simp (disch := first | assumption | omega | decide) only [gB, I_all, zK_v, zK_n, true_and, and_true, Nat.reduceAdd, Nat.reduceMul, Nat.reduceSub, z_lt, z_le, z_neq, not_false_eq_true, or_true, true_or, or_false, false_or, false_and, and_false, gX7_readNumbers, F, R, K, c]
    exact f
  · have f := f0 (decide_eq_false c).symm
    simp (disch := first | assumption | omega | decide) only [gB, I_all, zK_v, zK_n, true_and, and_true, Nat.reduceAdd, Nat.reduceMul, Nat.reduceSub, z_lt, z_le, z_neq, not_false_eq_true, or_true, true_or, or_false, false_or, false_and, and_false, gX7_readNumbers, F, R, K]
    exact f
end
