/-! boxed numbers; a plan's names looked up -/
/-- the library's boxed numbers -/
def KI (κ : zC) (h : zH) : Prop := kS κ 1 = .int (Int32.ofNat 127) ∧ ∃ ca : Nat, kS κ 2 = .ref ca ∧ (10 ≤ hK h ca ∧ hK h ca < 100) ∧ hL h ca = 256 ∧ ca < kB κ ∧ ∀ n, n ≤ 127 → ∃ r : Nat, hV h ca (n + 128) = .ref r ∧ hK h r = 118 ∧ hV h r 159 = .int (Int32.ofNat n) ∧ r < kB κ
theorem KI.ag {κ : zC} {h h' : zH} {n : Nat} (K : KI κ h) (g : Ag h h' 0 n) (hn : kB κ ≤ n) : KI κ h' := by
  obtain ⟨k1, ca, k2, k3, k4, k5, k6⟩ := K
  obtain ⟨a1, a2, a3⟩ := g ca (Nat.zero_le _) (by omega)
  refine ⟨k1, ca, k2, by rw [a1]; exact k3, a2.trans k4, k5, fun m hm => ?_⟩
  obtain ⟨r, r1, r2, r3, r4⟩ := k6 m hm
  obtain ⟨b1, b2, b3⟩ := g r (Nat.zero_le _) (by omega)
  exact ⟨r, (a3 _).trans r1, b1.trans r2, (b3 _).trans r3, r4⟩
section
variable {κ : zC} {h : zH} {m n p k vk : Nat} {T : Tm} {t : Tr} {Q : zQ} {kf vf ix : Nat → Nat} {kw : Nat → List Int32} {w : List Int32}
theorem e6_valueOf (K : KI κ h) (hn : n < 2147483000) (hB : kB κ ≤ hN h) (hq : ∀ (h' : zH) (r : Nat), hK h' r = 118 → hV h' r 159 = .int (Int32.ofNat n) → r < hN h' → Ag h h' 0 (hN h) → hN h ≤ hN h' → hN h' ≤ hN h + 1 → hU h' ≤ hU h + 1 → Q (.inl (some (.ref r))) h') : Ev κ mJ6_valueOf [.int (Int32.ofNat n)] h Q := by
  obtain ⟨k1, ca, k2, ⟨k3, k3'⟩, k4, k5, k6⟩ := K
  have e1 := I_toInt (n := n) (by omega)
  have lo : ¬ Int32.ofNat n < Int32.ofInt (-128) := by
    rw [Int32.lt_iff_toInt_lt, e1]
    have : (Int32.ofInt (-128)).toInt = -128 := by decide
    omega
  by_cases c : n ≤ 127
  · obtain ⟨r, r1, r2, r3, r4⟩ := k6 n c
    have q1 := hq h r r2 r3 (by omega) Ag.rfl (Nat.le_refl _) (by omega) (by omega)
    simp (disch := first | assumption | omega | decide) only [gB, I_all, zK_v, zK_n, true_and, and_true, Nat.reduceAdd, Nat.reduceMul, Nat.reduceSub, z_lt, z_le, z_neq, not_false_eq_true, or_true, true_or, or_false, false_or, false_and, and_false, gJ6_valueOf, k1, k2, k3, k3', k4, r1, I_add]
    exact q1
  · have ks : hK (hA h 118 0 1 gD) (hN h) = 118 := hK_At rfl
    have q1 := hq (hW (hA h 118 0 1 gD) (hN h) 159 (.int (Int32.ofNat n))) (hN h) ks (hV_We rfl rfl) (Nat.lt_succ_self _) (fun y _ hy => ⟨(show hK (hA h 118 0 1 gD) y = hK h y from hK_An (by omega)), (show hL (hA h 118 0 1 gD) y = hL h y from hL_An (by omega)), fun j => by rw [hV_Wn (by omega), hV_An (by omega)]⟩) (Nat.le_succ _) (Nat.le_refl _) (Nat.le_refl _)
    simp (disch := first | assumption | omega | decide) only [gB, I_all, zK_v, zK_n, true_and, and_true, Nat.reduceAdd, Nat.reduceMul, Nat.reduceSub, z_lt, z_le, z_neq, not_false_eq_true, or_true, true_or, or_false, false_or, false_and, and_false, gJ6_valueOf, gJ6_init, gJ5_init, k1, ks]
    exact q1
/-- a plan's map of names m: its tree, its letters, its stops -/
def NM (κ : zC) (h : zH) (p m : Nat) (T : Tm) (t : Tr) (kf vf : Nat → Nat) (kw : Nat → List Int32) (ix : Nat → Nat) : Prop :=
  (hK h p = 101 ∧ hV h p 15 = .ref m) ∧ TS κ h m (inO t) ∧ TW T t ∧ hT h m (inO t) T = h ∧ hV h m 152 = .null ∧ MK h (inO t) kf vf kw ∧ srt (fun x => kN (kw x)) t ∧ ∀ x ∈ inO t, hK h (vf x) = 118 ∧ hV h (vf x) 159 = .int (Int32.ofNat (ix x)) ∧ ix x < 100
theorem e1_named (hc : kS κ 3 = .int (Int32.ofNat 1)) (M : NM κ h p m T t kf vf kw ix) (Sk : St h k vk w) (nw : nmL6 w) :
    Ev κ mX1_named [.ref p, .ref k] h Q = Q (.inl (some (.int (if fnd (fun x => kN (kw x)) (kN w) t = 0 then Int32.ofInt (-2) else Int32.ofNat (ix (fnd (fun x => kN (kw x)) (kN w) t)))))) h := by
  obtain ⟨⟨p1, p2⟩, S, W, eh, hz, MM, sr, vals⟩ := M
  have km : hK h m = 116 := S.1
  have eg : ∀ Q : zQ, Ev κ mJ4_get [.ref m, .ref k] h Q = Q (.inl (some (vfn vf (fnd (fun x => kN (kw x)) (kN w) t)))) h := fun Q => by
    have := e4_get (κ := κ) (Q := Q) (T := T) hc S W hz MM Sk nw
    rw [eh] at this
    exact this
  have fm := fnd_mem (kv := fun x => kN (kw x)) (n := kN w) (t := t)
  generalize fnd (fun x => kN (kw x)) (kN w) t = e at *
  unfold vfn at eg
  by_cases e0 : e = 0
  · rw [if_pos e0]
    simp only [if_pos e0] at eg
    simp (disch := first | assumption | omega | decide) only [gB, I_all, zK_v, zK_n, true_and, and_true, Nat.reduceAdd, Nat.reduceMul, Nat.reduceSub, z_lt, z_le, z_neq, not_false_eq_true, or_true, true_or, or_false, false_or, false_and, and_false, gX1_named, p1, p2, km, eg]
  · rw [if_neg e0]
    simp only [if_neg e0] at eg
    obtain ⟨v1, v2, -⟩ := vals e (fm.resolve_left e0).1
    have z6 : ∀ q, zCas 118 q = zCas 118 q := fun _ => rfl
    simp (disch := first | assumption | omega | decide) only [gB, I_all, zK_v, zK_n, true_and, and_true, Nat.reduceAdd, Nat.reduceMul, Nat.reduceSub, z_lt, z_le, z_neq, not_false_eq_true, or_true, true_or, or_false, false_or, false_and, and_false, gX1_named, p1, p2, km, eg, v1, zCs, gJ6_intValue, v2]
end
