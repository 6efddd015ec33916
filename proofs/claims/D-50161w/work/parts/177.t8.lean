/-! the map of names: looking up -/
theorem isL_asc {x : Int32} (h : isL x = true) : 0 ≤ x.toInt ∧ x.toInt ≤ 127 := by
  unfold isL at h
  rw [Bool.and_eq_true, decide_eq_true_eq, decide_eq_true_eq] at h
  have h1 := Int32.le_iff_toInt_le.mp h.1
  have h2 := Int32.le_iff_toInt_le.mp h.2
  have e1 : (Int32.ofNat 97).toInt = 97 := by decide
  have e2 : (Int32.ofNat 122).toInt = 122 := by decide
  omega
theorem nmL6.asc {l : List Int32} (h : nmL6 l) : ascL l := fun x hx => isL_asc (h.2 x hx)
/-- the map's entries: key, value, the key's letters -/
def MK (h : zH) (L : List Nat) (kf vf : Nat → Nat) (kw : Nat → List Int32) : Prop := ∀ x ∈ L, hV h x 164 = .ref (kf x) ∧ hV h x 165 = .ref (vf x) ∧ (∃ v, St h (kf x) v (kw x)) ∧ nmL6 (kw x)
section
variable {κ : zC} {h : zH} {m x p i j k vk : Nat} {L : List Nat} {T : Tm} {t : Tr} {Q : zQ} {kf vf : Nat → Nat} {kw : Nat → List Int32} {w : List Int32}
theorem TS.nt (S : TS κ h m L) (hk : hK h x ≠ 116) (hk2 : hK h x ≠ 127) : x ≠ m ∧ x ∉ L := ⟨fun e => hk (by rw [e]; exact S.1), fun e => hk2 (S.2.2 x e).1⟩
theorem St.tr {a v : Nat} {l : List Int32} (s : St h a v l) (S : TS κ h m L) : St (hT h m L T) a v l := by
  have ka := s.1
  have kv := s.2.2.2.1.1
  have na := S.nt (x := a) (by rcases ka with e | e <;> rw [e] <;> decide) (by rcases ka with e | e <;> rw [e] <;> decide)
  have nv := S.nt (x := v) (by rw [kv]; decide) (by rw [kv]; decide)
  exact s.cg ⟨rfl, fun j => hT_n na.1 na.2⟩ ⟨rfl, rfl, fun j => hT_n nv.1 nv.2⟩
theorem e4_getEntry (hc : kS κ 3 = .int (Int32.ofNat 1)) (S : TS κ h m (inO t)) (W : TW T t) (hz : hV h m 152 = .null) (M : MK h (inO t) kf vf kw) (Sk : St h k vk w) (nw : nmL6 w) :
    Ev κ mJ4_getEntry [.ref m, .ref k] (hT h m (inO t) T) Q = Q (.inl (some (rf (fnd (fun x => kN (kw x)) (kN w) t)))) (hT h m (inO t) T) := by
  have Fm := rooF S
  have z152 : hV (hT h m (inO t) T) m 152 = .null := (hT_m (by decide)).trans hz
  have Sk' := Sk.tr (T := T) S
  have lp : ∀ (t' : Tr) (ptr par : Nat) (a4 : Option Value), TR T t' ptr par → (∀ i ∈ inO t', i ∈ inO t) → Go κ mJ4_getEntry 28 [some (.ref m), some (.ref k), some (.ref k), some (rf ptr), a4] [] (hT h m (inO t) T) Q = Q (.inl (some (rf (fnd (fun x => kN (kw x)) (kN w) t')))) (hT h m (inO t) T) := by
    intro t'
    induction t' with
    | leaf u =>
      intro ptr par a4 R _
      have e : ptr = 0 := R
      subst e
      show _ = Q (.inl (some (rf 0))) _
      rw [rf_0]
      simp (disch := first | assumption | omega | decide) only [gB, I_all, zK_v, zK_n, true_and, and_true, Nat.reduceAdd, Nat.reduceMul, Nat.reduceSub, z_lt, z_le, z_neq, not_false_eq_true, or_true, true_or, or_false, false_or, false_and, and_false, gJ4_getEntry_h]
      simp (disch := first | assumption | omega | decide) only [gB, I_all, zK_v, zK_n, true_and, and_true, Nat.reduceAdd, Nat.reduceMul, Nat.reduceSub, z_lt, z_le, z_neq, not_false_eq_true, or_true, true_or, or_false, false_or, false_and, and_false, gJ4_getEntry]
    | branch i l r ihl ihr =>
      intro ptr par a4 R hin
      obtain ⟨e, i0, -, Rl, Rr⟩ := R
      subst e
      have hi : ptr ∈ inO t := hin ptr (in3.mpr (Or.inr (Or.inl rfl)))
      have Fx := nodF S hi
      obtain ⟨m1, m2, ⟨v, sx⟩, nx⟩ := M ptr hi
      have sx' := sx.tr (T := T) S
      have n0 := S.ne hi
      have m1' : hV (hT h m (inO t) T) ptr 164 = .ref (kf ptr) := (hT_j n0 (Or.inl (by decide))).trans m1
      have ec := fun (Q : zQ) => eS_cmp (κ := κ) (Q := Q) hc Sk' sx' nw.asc nx.asc (by have := nw.1; omega) (by have := nx.1; omega)
      have il := fun a4 => ihl (tmL T ptr) ptr a4 Rl fun i h => hin i (in3.mpr (Or.inl h))
      have ir := fun a4 => ihr (tmR T ptr) ptr a4 Rr fun i h => hin i (in3.mpr (Or.inr (Or.inr h)))
      have ef : fnd (fun x => kN (kw x)) (kN w) (.branch ptr l r) = if kN w < kN (kw ptr) then fnd (fun x => kN (kw x)) (kN w) l else if kN (kw ptr) < kN w then fnd (fun x => kN (kw x)) (kN w) r else ptr := rfl
      rw [ef, rf_n i0]
      have cs := cmpI_s nw nx
      generalize cmpI w (kw ptr) = c at *
      obtain ⟨f1, f2, f3, f4, -⟩ := Fx
      rcases cs with ⟨c1, c2⟩ | ⟨c1, c2⟩ | ⟨c1, c2⟩
      · rw [if_pos c2]
        have c1' : ¬ Int32.ofNat 0 ≤ c := Int32.not_le.mpr c1
        have i2 := il (some (.int c))
        rcases Sk'.1 with kk | kk
        · by_cases q0 : tmL T ptr = 0
          · rw [q0, rf_0] at i2
            simp (disch := first | assumption | omega | decide) only [gB, I_all, zK_v, zK_n, true_and, and_true, Nat.reduceAdd, Nat.reduceMul, Nat.reduceSub, z_lt, z_le, z_neq, not_false_eq_true, or_true, true_or, or_false, false_or, false_and, and_false, gJ4_getEntry_h]
            simp (disch := first | assumption | omega | decide) only [gB, I_all, zK_v, zK_n, true_and, and_true, Nat.reduceAdd, Nat.reduceMul, Nat.reduceSub, z_lt, z_le, z_neq, not_false_eq_true, or_true, true_or, or_false, false_or, false_and, and_false, gJ4_getEntry, f1, f3, m1', kk, ec, q0, rf_0]
            exact i2
          · rw [rf_n q0] at i2
            simp (disch := first | assumption | omega | decide) only [gB, I_all, zK_v, zK_n, true_and, and_true, Nat.reduceAdd, Nat.reduceMul, Nat.reduceSub, z_lt, z_le, z_neq, not_false_eq_true, or_true, true_or, or_false, false_or, false_and, and_false, gJ4_getEntry_h]
            simp (disch := first | assumption | omega | decide) only [gB, I_all, zK_v, zK_n, true_and, and_true, Nat.reduceAdd, Nat.reduceMul, Nat.reduceSub, z_lt, z_le, z_neq, not_false_eq_true, or_true, true_or, or_false, false_or, false_and, and_false, gJ4_getEntry, f1, f3, m1', kk, ec, rf_n q0]
            exact i2
        · by_cases q0 : tmL T ptr = 0
          · rw [q0, rf_0] at i2
            simp (disch := first | assumption | omega | decide) only [gB, I_all, zK_v, zK_n, true_and, and_true, Nat.reduceAdd, Nat.reduceMul, Nat.reduceSub, z_lt, z_le, z_neq, not_false_eq_true, or_true, true_or, or_false, false_or, false_and, and_false, gJ4_getEntry_h]
            simp (disch := first | assumption | omega | decide) only [gB, I_all, zK_v, zK_n, true_and, and_true, Nat.reduceAdd, Nat.reduceMul, Nat.reduceSub, z_lt, z_le, z_neq, not_false_eq_true, or_true, true_or, or_false, false_or, false_and, and_false, gJ4_getEntry, f1, f3, m1', kk, ec, q0, rf_0]
            exact i2
          · rw [rf_n q0] at i2
            simp (disch := first | assumption | omega | decide) only [gB, I_all, zK_v, zK_n, true_and, and_true, Nat.reduceAdd, Nat.reduceMul, Nat.reduceSub, z_lt, z_le, z_neq, not_false_eq_true, or_true, true_or, or_false, false_or, false_and, and_false, gJ4_getEntry_h]
            simp (disch := first | assumption | omega | decide) only [gB, I_all, zK_v, zK_n, true_and, and_true, Nat.reduceAdd, Nat.reduceMul, Nat.reduceSub, z_lt, z_le, z_neq, not_false_eq_true, or_true, true_or, or_false, false_or, false_and, and_false, gJ4_getEntry, f1, f3, m1', kk, ec, rf_n q0]
            exact i2
      · rw [if_neg (by omega), if_pos c2]
        have c1' : ¬ c ≤ Int32.ofNat 0 := Int32.not_le.mpr c1
        have c3' : Int32.ofNat 0 ≤ c := Int32.le_of_lt c1
        have i2 := ir (some (.int c))
        rcases Sk'.1 with kk | kk
        · by_cases q0 : tmR T ptr = 0
          · rw [q0, rf_0] at i2
            simp (disch := first | assumption | omega | decide) only [gB, I_all, zK_v, zK_n, true_and, and_true, Nat.reduceAdd, Nat.reduceMul, Nat.reduceSub, z_lt, z_le, z_neq, not_false_eq_true, or_true, true_or, or_false, false_or, false_and, and_false, gJ4_getEntry_h]
            simp (disch := first | assumption | omega | decide) only [gB, I_all, zK_v, zK_n, true_and, and_true, Nat.reduceAdd, Nat.reduceMul, Nat.reduceSub, z_lt, z_le, z_neq, not_false_eq_true, or_true, true_or, or_false, false_or, false_and, and_false, gJ4_getEntry, f1, f4, m1', kk, ec, q0, rf_0]
            exact i2
          · rw [rf_n q0] at i2
            simp (disch := first | assumption | omega | decide) only [gB, I_all, zK_v, zK_n, true_and, and_true, Nat.reduceAdd, Nat.reduceMul, Nat.reduceSub, z_lt, z_le, z_neq, not_false_eq_true, or_true, true_or, or_false, false_or, false_and, and_false, gJ4_getEntry_h]
            simp (disch := first | assumption | omega | decide) only [gB, I_all, zK_v, zK_n, true_and, and_true, Nat.reduceAdd, Nat.reduceMul, Nat.reduceSub, z_lt, z_le, z_neq, not_false_eq_true, or_true, true_or, or_false, false_or, false_and, and_false, gJ4_getEntry, f1, f4, m1', kk, ec, rf_n q0]
            exact i2
        · by_cases q0 : tmR T ptr = 0
          · rw [q0, rf_0] at i2
            simp (disch := first | assumption | omega | decide) only [gB, I_all, zK_v, zK_n, true_and, and_true, Nat.reduceAdd, Nat.reduceMul, Nat.reduceSub, z_lt, z_le, z_neq, not_false_eq_true, or_true, true_or, or_false, false_or, false_and, and_false, gJ4_getEntry_h]
            simp (disch := first | assumption | omega | decide) only [gB, I_all, zK_v, zK_n, true_and, and_true, Nat.reduceAdd, Nat.reduceMul, Nat.reduceSub, z_lt, z_le, z_neq, not_false_eq_true, or_true, true_or, or_false, false_or, false_and, and_false, gJ4_getEntry, f1, f4, m1', kk, ec, q0, rf_0]
            exact i2
          · rw [rf_n q0] at i2
            simp (disch := first | assumption | omega | decide) only [gB, I_all, zK_v, zK_n, true_and, and_true, Nat.reduceAdd, Nat.reduceMul, Nat.reduceSub, z_lt, z_le, z_neq, not_false_eq_true, or_true, true_or, or_false, false_or, false_and, and_false, gJ4_getEntry_h]
            simp (disch := first | assumption | omega | decide) only [gB, I_all, zK_v, zK_n, true_and, and_true, Nat.reduceAdd, Nat.reduceMul, Nat.reduceSub, z_lt, z_le, z_neq, not_false_eq_true, or_true, true_or, or_false, false_or, false_and, and_false, gJ4_getEntry, f1, f4, m1', kk, ec, rf_n q0]
            exact i2
      · subst c1
        subst c2
        rw [if_neg (Nat.lt_irrefl _), if_neg (Nat.lt_irrefl _), rf_n i0]
        rcases Sk'.1 with kk | kk
        · simp (disch := first | assumption | omega | decide) only [gB, I_all, zK_v, zK_n, true_and, and_true, Nat.reduceAdd, Nat.reduceMul, Nat.reduceSub, z_lt, z_le, z_neq, not_false_eq_true, or_true, true_or, or_false, false_or, false_and, and_false, gJ4_getEntry_h]
          simp (disch := first | assumption | omega | decide) only [gB, I_all, zK_v, zK_n, true_and, and_true, Nat.reduceAdd, Nat.reduceMul, Nat.reduceSub, z_lt, z_le, z_neq, not_false_eq_true, or_true, true_or, or_false, false_or, false_and, and_false, gJ4_getEntry, f1, m1', kk, ec]
        · simp (disch := first | assumption | omega | decide) only [gB, I_all, zK_v, zK_n, true_and, and_true, Nat.reduceAdd, Nat.reduceMul, Nat.reduceSub, z_lt, z_le, z_neq, not_false_eq_true, or_true, true_or, or_false, false_or, false_and, and_false, gJ4_getEntry_h]
          simp (disch := first | assumption | omega | decide) only [gB, I_all, zK_v, zK_n, true_and, and_true, Nat.reduceAdd, Nat.reduceMul, Nat.reduceSub, z_lt, z_le, z_neq, not_false_eq_true, or_true, true_or, or_false, false_or, false_and, and_false, gJ4_getEntry, f1, m1', kk, ec]
  have l0 := lp t (tmO T) 0 none W.1 fun i h => h
  have rn : ∀ Q : zQ, Ev κ mJ16_requireNonNull [.ref k] (hT h m (inO t) T) Q = Q (.inl (some (.ref k))) (hT h m (inO t) T) := fun Q => by simp (disch := first | assumption | omega | decide) only [gB, I_all, zK_v, zK_n, true_and, and_true, Nat.reduceAdd, Nat.reduceMul, Nat.reduceSub, z_lt, z_le, z_neq, not_false_eq_true, or_true, true_or, or_false, false_or, false_and, and_false, gJ16_requireNonNull]
  have hB := S.2.1
  by_cases o0 : tmO T = 0
  · rw [o0, rf_0] at l0
    rcases Sk'.1 with kk | kk
    · simp (disch := first | assumption | omega | decide) only [gB, I_all, zK_v, zK_n, true_and, and_true, Nat.reduceAdd, Nat.reduceMul, Nat.reduceSub, z_lt, z_le, z_neq, not_false_eq_true, or_true, true_or, or_false, false_or, false_and, and_false, gJ4_getEntry, Fm, z152, rn, zCs, kk, o0, rf_0]
      exact l0
    · simp (disch := first | assumption | omega | decide) only [gB, I_all, zK_v, zK_n, true_and, and_true, Nat.reduceAdd, Nat.reduceMul, Nat.reduceSub, z_lt, z_le, z_neq, not_false_eq_true, or_true, true_or, or_false, false_or, false_and, and_false, gJ4_getEntry, Fm, z152, rn, zCs, kk, o0, rf_0]
      exact l0
  · rw [rf_n o0] at l0
    rcases Sk'.1 with kk | kk
    · simp (disch := first | assumption | omega | decide) only [gB, I_all, zK_v, zK_n, true_and, and_true, Nat.reduceAdd, Nat.reduceMul, Nat.reduceSub, z_lt, z_le, z_neq, not_false_eq_true, or_true, true_or, or_false, false_or, false_and, and_false, gJ4_getEntry, Fm, z152, rn, zCs, kk, rf_n o0]
      exact l0
    · simp (disch := first | assumption | omega | decide) only [gB, I_all, zK_v, zK_n, true_and, and_true, Nat.reduceAdd, Nat.reduceMul, Nat.reduceSub, z_lt, z_le, z_neq, not_false_eq_true, or_true, true_or, or_false, false_or, false_and, and_false, gJ4_getEntry, Fm, z152, rn, zCs, kk, rf_n o0]
      exact l0
theorem fnd_mem {kv : Nat → Nat} {n : Nat} : ∀ {t : Tr}, fnd kv n t = 0 ∨ (fnd kv n t ∈ inO t ∧ kv (fnd kv n t) = n) := by
  intro t
  induction t with
  | leaf u => exact Or.inl rfl
  | branch i l r ihl ihr =>
    have ef : fnd kv n (.branch i l r) = if n < kv i then fnd kv n l else if kv i < n then fnd kv n r else i := rfl
    rw [ef]
    by_cases c : n < kv i
    · rw [if_pos c]
      exact ihl.imp id fun z => ⟨in3.mpr (Or.inl z.1), z.2⟩
    · rw [if_neg c]
      by_cases d : kv i < n
      · rw [if_pos d]
        exact ihr.imp id fun z => ⟨in3.mpr (Or.inr (Or.inr z.1)), z.2⟩
      · rw [if_neg d]
        exact Or.inr ⟨in3.mpr (Or.inr (Or.inl rfl)), by omega⟩
/-- the value at a name, or null -/
def vfn (vf : Nat → Nat) (i : Nat) : Value := if i = 0 then .null else .ref (vf i)
theorem e4_get (hc : kS κ 3 = .int (Int32.ofNat 1)) (S : TS κ h m (inO t)) (W : TW T t) (hz : hV h m 152 = .null) (M : MK h (inO t) kf vf kw) (Sk : St h k vk w) (nw : nmL6 w) :
    Ev κ mJ4_get [.ref m, .ref k] (hT h m (inO t) T) Q = Q (.inl (some (vfn vf (fnd (fun x => kN (kw x)) (kN w) t)))) (hT h m (inO t) T) := by
  have eg := fun (Q : zQ) => e4_getEntry (κ := κ) (Q := Q) hc S W hz M Sk nw
  have km : hK (hT h m (inO t) T) m = 116 := S.1
  have fm := fnd_mem (kv := fun x => kN (kw x)) (n := kN w) (t := t)
  generalize fnd (fun x => kN (kw x)) (kN w) t = e at *
  unfold vfn
  rcases fm with e0 | ⟨e1, -⟩
  · subst e0
    rw [if_pos rfl]
    rw [rf_0] at eg
    simp (disch := first | assumption | omega | decide) only [gB, I_all, zK_v, zK_n, true_and, and_true, Nat.reduceAdd, Nat.reduceMul, Nat.reduceSub, z_lt, z_le, z_neq, not_false_eq_true, or_true, true_or, or_false, false_or, false_and, and_false, gJ4_get, km, eg]
  · have e0 := (S.2.2 e e1).2.2
    rw [if_neg e0]
    simp only [rf_n e0] at eg
    have n0 := S.ne e1
    have f1 := (nodF S e1).1
    have m2 : hV (hT h m (inO t) T) e 165 = .ref (vf e) := (hT_j n0 (Or.inl (by decide))).trans (M e e1).2.1
    simp (disch := first | assumption | omega | decide) only [gB, I_all, zK_v, zK_n, true_and, and_true, Nat.reduceAdd, Nat.reduceMul, Nat.reduceSub, z_lt, z_le, z_neq, not_false_eq_true, or_true, true_or, or_false, false_or, false_and, and_false, gJ4_get, km, eg, f1, m2]
end
