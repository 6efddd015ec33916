/-! the component: those who give up -/
/-- a cell's numbers made greater -/
def adW (W : Nat → Nat → Int32) (c : Nat) (g : Nat → Nat) : Nat → Nat → Int32 := fun k j => if k = c then W c j + Int32.ofNat (g j) else W k j
theorem adW_0 (W : Nat → Nat → Int32) (c : Nat) : adW W c (fun _ => 0) = W := by
  funext k j
  unfold adW
  by_cases h : k = c
  · rw [if_pos h, h]; exact Int32.add_zero _
  · rw [if_neg h]
theorem adW_s (W : Nat → Nat → Int32) (c f : Nat) (g : Nat → Nat) : zv (adW W c g) c f (adW W c g c f + Int32.ofNat 1) = adW W c (fun j => g j + if j = f then 1 else 0) := by
  funext k j
  unfold zv adW
  by_cases h : k = c
  · subst h
    by_cases h2 : j = f
    · rw [if_pos ⟨rfl, h2⟩, if_pos rfl, if_pos rfl]
      dsimp only
      rw [if_pos h2, h2, Int32.add_assoc, I_add]
    · rw [if_neg (fun x => h2 x.2), if_pos rfl, if_pos rfl]
      dsimp only
      rw [if_neg h2, Nat.add_zero]
  · rw [if_neg (fun x => h x.1), if_neg h, if_neg h]
theorem adW_o {W : Nat → Nat → Int32} {c k j : Nat} {g : Nat → Nat} (h : k ≠ c) : adW W c g k j = W k j := if_neg h
section
variable {κ : zC} {h : zH} {a p n S B K cap : Nat} {ct : Nat → Nat} {W : Nat → Nat → Int32} {SM : Nat → Nat → Int64} {Q : zQ}
theorem cnt_s {l : List Rd} {k : Nat} {r : Rd} (h : l[k]? = some r) (j : Nat) : cntF (l.take (k + 1)) j = cntF (l.take k) j + if j = r.2.2 then 1 else 0 := by
  unfold cntF
  rw [flt_s h]
  congr 1
  by_cases c : r.2.2 = j
  · rw [if_pos (decide_eq_true c), if_pos c.symm]
  · rw [if_neg (by rw [decide_eq_false c]; decide), if_neg (fun x => c x.symm)]
/-- those that go by a time: counted in the cell of the gone, dropped -/
def guW (W : Nat → Nat → Int32) (K : Nat) (l : List Rd) (k : Nat) : Nat → Nat → Int32 := if 0 < k then rdW (adW W 9 (cntF (l.take k))) K k l.length else adW W 9 (cntF (l.take k))
theorem e3_giveUp {l : List Rd} {t pt : Int32} (Z : CSh κ h a p S B ct) (hn : n = 15 + 8 * S + 5 * B) (R0 : RSh h a n K cap) (h15 : 15 ≤ K) (R : RC W K l) (hl : l.length ≤ cap) (hc : cap < 1000) (hr : ∀ r ∈ l, r.2.2 < 17) (hp : W 1 2 = pt) :
    Ev κ mX3_giveUp [.ref a, .ref (a + K), .int t] (hX h a n W SM) Q = Q (.inl none) (hX h a n (guW W K l (gvK pt t l)) SM) := by
  have F := cF Z hn
  have F2 := cRf Z hn
  have F3 := cK Z
  have G := rF R0
  have hB : kB κ ≤ a := Z.1.1
  have hm : ∀ g, adW W 9 g K 50 = Int32.ofNat l.length := fun g => (adW_o (by omega)).trans R.1
  have hq : ∀ g, adW W 9 g 1 2 = pt := fun g => (adW_o (by omega)).trans hp
  have e2 : ∀ g k r, l[k]? = some r → adW W 9 g (K + 2) k = r.2.1 := fun g k r h => (adW_o (by omega)).trans (R.2 k r h).2.1
  have e3 : ∀ g k r, l[k]? = some r → adW W 9 g (K + 3) k = Int32.ofNat r.2.2 := fun g k r h => (adW_o (by omega)).trans (R.2 k r h).2.2
  have lp : ∀ d k, k + d = gvK pt t l → Go κ mX3_giveUp 2 [some (.ref a), some (.ref (a + K)), some (.int t), some (.int (Int32.ofNat k))] [] (hX h a n (adW W 9 (cntF (l.take k))) SM) Q = Q (.inl none) (hX h a n (guW W K l (gvK pt t l)) SM) := by
    have hle := gvK_le pt t l
    intro d
    induction d with
    | zero =>
      intro k hk
      have hk' : k = gvK pt t l := by omega
      have fin : Go κ mX3_giveUp 48 [some (.ref a), some (.ref (a + K)), some (.int t), some (.int (Int32.ofNat k))] [] (hX h a n (adW W 9 (cntF (l.take k))) SM) Q = Q (.inl none) (hX h a n (guW W K l (gvK pt t l)) SM) := by
        rw [← hk']
        unfold guW
        by_cases h0 : 0 < k
        · rw [if_pos h0]
          have ed := fun (Q : zQ) => e4_dropFirst (κ := κ) (Q := Q) (SM := SM) (d := k) R0 hB (hm (cntF (l.take k))) (by omega) hl hc
          simp (disch := first | assumption | omega | decide) only [gB, I_all, zK_v, zK_n, true_and, and_true, Nat.reduceAdd, Nat.reduceMul, Nat.reduceSub, z_lt, z_le, z_neq, not_false_eq_true, or_true, true_or, or_false, false_or, false_and, and_false, gX3_giveUp, G, ed]
        · rw [if_neg h0]
          have h0' : k = 0 := by omega
          subst h0'
          simp (disch := first | assumption | omega | decide) only [gB, I_all, zK_v, zK_n, true_and, and_true, Nat.reduceAdd, Nat.reduceMul, Nat.reduceSub, z_lt, z_le, z_neq, not_false_eq_true, or_true, true_or, or_false, false_or, false_and, and_false, gX3_giveUp]
      by_cases hx : k = l.length
      · simp (disch := first | assumption | omega | decide) only [gB, I_all, zK_v, zK_n, true_and, and_true, Nat.reduceAdd, Nat.reduceMul, Nat.reduceSub, z_lt, z_le, z_neq, not_false_eq_true, or_true, true_or, or_false, false_or, false_and, and_false, gX3_giveUp_h]
        simp (disch := first | assumption | omega | decide) only [gB, I_all, zK_v, zK_n, true_and, and_true, Nat.reduceAdd, Nat.reduceMul, Nat.reduceSub, z_lt, z_le, z_neq, not_false_eq_true, or_true, true_or, or_false, false_or, false_and, and_false, gX3_giveUp, F, F2, F3, G, hm]
        simp (disch := first | assumption | omega | decide) only [gB, I_all, zK_v, zK_n, true_and, and_true, Nat.reduceAdd, Nat.reduceMul, Nat.reduceSub, z_lt, z_le, z_neq, not_false_eq_true, or_true, true_or, or_false, false_or, false_and, and_false, gX3_giveUp] at fin
        exact fin
      · obtain ⟨r, hr0, hr1⟩ := gvK_end (p := pt) (t := t) (l := l) (by omega)
        rw [← hk'] at hr0
        have e2' := e2 (cntF (l.take k)) k r hr0
        have hr2 : t - r.2.1 ≤ pt := Int32.not_lt.mp hr1
        simp (disch := first | assumption | omega | decide) only [gB, I_all, zK_v, zK_n, true_and, and_true, Nat.reduceAdd, Nat.reduceMul, Nat.reduceSub, z_lt, z_le, z_neq, not_false_eq_true, or_true, true_or, or_false, false_or, false_and, and_false, gX3_giveUp_h]
        simp (disch := first | assumption | omega | decide) only [gB, I_all, zK_v, zK_n, true_and, and_true, Nat.reduceAdd, Nat.reduceMul, Nat.reduceSub, z_lt, z_le, z_neq, not_false_eq_true, or_true, true_or, or_false, false_or, false_and, and_false, gX3_giveUp, F, F2, F3, G, hm, e2', hq]
        simp (disch := first | assumption | omega | decide) only [gB, I_all, zK_v, zK_n, true_and, and_true, Nat.reduceAdd, Nat.reduceMul, Nat.reduceSub, z_lt, z_le, z_neq, not_false_eq_true, or_true, true_or, or_false, false_or, false_and, and_false, gX3_giveUp] at fin
        exact fin
    | succ d ih =>
      intro k hk
      obtain ⟨r, hr0, hr1⟩ := gvK_lt (p := pt) (t := t) (l := l) (i := k) (by omega)
      have e2' := e2 (cntF (l.take k)) k r hr0
      have e3' := e3 (cntF (l.take k)) k r hr0
      have hr2 : ¬ t - r.2.1 ≤ pt := Int32.not_le.mpr hr1
      have hf := hr r (List.mem_of_getElem? hr0)
      have i := ih (k + 1) (by omega)
      rw [show cntF (l.take (k + 1)) = fun j => cntF (l.take k) j + if j = r.2.2 then 1 else 0 from funext (cnt_s hr0), ← adW_s] at i
      simp (disch := first | assumption | omega | decide) only [gB, I_all, zK_v, zK_n, true_and, and_true, Nat.reduceAdd, Nat.reduceMul, Nat.reduceSub, z_lt, z_le, z_neq, not_false_eq_true, or_true, true_or, or_false, false_or, false_and, and_false, gX3_giveUp_h]
      simp (disch := first | assumption | omega | decide) only [gB, I_all, zK_v, zK_n, true_and, and_true, Nat.reduceAdd, Nat.reduceMul, Nat.reduceSub, z_lt, z_le, z_neq, not_false_eq_true, or_true, true_or, or_false, false_or, false_and, and_false, gX3_giveUp, F, F2, F3, G, hm, e2', hq, e3']
      exact i
  have l0 := lp (gvK pt t l) 0 (by omega)
  have z0 : cntF (l.take 0) = fun _ => 0 := by
    funext j
    rw [List.take_zero]; rfl
  rw [z0, adW_0] at l0
  simp (disch := first | assumption | omega | decide) only [gB, I_all, zK_v, zK_n, true_and, and_true, Nat.reduceAdd, Nat.reduceMul, Nat.reduceSub, z_lt, z_le, z_neq, not_false_eq_true, or_true, true_or, or_false, false_or, false_and, and_false, gX3_giveUp]
  exact l0
end
