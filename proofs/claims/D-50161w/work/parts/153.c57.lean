/-! what an event can do at most: riders, time waited (no program in sight) -/
def pvS (f : Nat → Nat) : Nat → Nat
  | 0 => 0
  | k + 1 => pvS f k + f k
theorem pvS_cg {f g : Nat → Nat} : ∀ {k : Nat}, (∀ j, j < k → f j = g j) → pvS f k = pvS g k := by
  intro k
  induction k with
  | zero => intro _; rfl
  | succ k ih =>
    intro h
    unfold pvS
    rw [ih fun j hj => h j (by omega), h k (by omega)]
theorem pvS_one {f g : Nat → Nat} {i : Nat} : ∀ {k : Nat}, (∀ j, j < k → j ≠ i → g j = f j) → i < k → pvS g k + f i = pvS f k + g i := by
  intro k
  induction k with
  | zero => intro _ h; cases h
  | succ k ih =>
    intro h hk
    unfold pvS
    by_cases e : i = k
    · subst e
      rw [pvS_cg fun j hj => h j (by omega) (by omega)]
      omega
    · have := ih (fun j hj => h j (by omega)) (by omega)
      rw [h k (by omega) (fun x => e x.symm)]
      omega
theorem pvS_le {f : Nat → Nat} {c : Nat} : ∀ {k : Nat}, (∀ j, j < k → f j ≤ c) → pvS f k ≤ k * c := by
  intro k
  induction k with
  | zero => intro _; exact Nat.zero_le _
  | succ k ih =>
    intro h
    unfold pvS
    have := ih fun j hj => h j (by omega)
    have := h k (by omega)
    rw [Nat.succ_mul]
    omega
/-- a row's weight -/
def pvL (ω : Int32 → Nat) : List Rd → Nat
  | [] => 0
  | r :: l => ω r.2.1 + pvL ω l
theorem pvL_app (ω : Int32 → Nat) (l m : List Rd) : pvL ω (l ++ m) = pvL ω l + pvL ω m := by
  induction l with
  | nil => exact (Nat.zero_add _).symm
  | cons r l ih =>
    show ω r.2.1 + pvL ω (l ++ m) = ω r.2.1 + pvL ω l + pvL ω m
    rw [ih]
    omega
theorem pvL_split (ω : Int32 → Nat) (l : List Rd) (k : Nat) : pvL ω (l.take k) + pvL ω (l.drop k) = pvL ω l := by rw [← pvL_app, List.take_append_drop]
theorem pvL_const (c : Nat) (l : List Rd) : pvL (fun _ => c) l = c * l.length := by
  induction l with
  | nil => rfl
  | cons r l ih =>
    show c + pvL (fun _ => c) l = c * (l.length + 1)
    rw [ih, Nat.mul_succ]
    omega
theorem pvL_le {ω : Int32 → Nat} {c : Nat} {l : List Rd} (h : ∀ r ∈ l, ω r.2.1 ≤ c) : pvL ω l ≤ l.length * c := by
  induction l with
  | nil => exact Nat.zero_le _
  | cons r l ih =>
    have h1 := ih fun r hr => h r (List.mem_cons_of_mem _ hr)
    have h2 := h r List.mem_cons_self
    show ω r.2.1 + pvL ω l ≤ (l.length + 1) * c
    rw [Nat.succ_mul]
    omega
/-- what is to come by T -/
def pvF (T : Int32) (n : Nat → Int32) (k : Nat) : Nat := pvS (fun f => (T.toInt + 10 - (n (63 + f)).toInt).toNat) k
theorem pvF_cg {T : Int32} {n n' : Nat → Int32} {k : Nat} (h : ∀ f, f < k → n' (63 + f) = n (63 + f)) : pvF T n' k = pvF T n k := pvS_cg fun j hj => by rw [h j hj]
theorem pvF_up {T : Int32} {n n' : Nat → Int32} {k f : Nat} (hf : f < k) (h1 : ∀ g, g < k → g ≠ f → n' (63 + g) = n (63 + g)) (h2 : (n (63 + f)).toInt ≤ T.toInt) (h3 : (n (63 + f)).toInt + 10 ≤ (n' (63 + f)).toInt) : pvF T n' k + 10 ≤ pvF T n k := by
  have e := pvS_one (f := fun f => (T.toInt + 10 - (n (63 + f)).toInt).toNat) (g := fun f => (T.toInt + 10 - (n' (63 + f)).toInt).toNat) (i := f) (k := k) (fun j hj hne => by
    show (T.toInt + 10 - (n' (63 + j)).toInt).toNat = (T.toInt + 10 - (n (63 + j)).toInt).toNat
    rw [h1 j hj hne]) hf
  unfold pvF
  try dsimp only at e
  omega
def pvT (T : Int32) : Int32 → Nat := fun c => 10 * (T.toInt - c.toInt).toNat
def pvG (π : Pl) (ω : Int32 → Nat) (D : Nat) (T : Int32) (σ : Sg) : Nat := pvS (fun s => pvL ω (sR σ s)) 10 + D * pvF T (sN σ) (plN π 2)
section
variable {π : Pl} {ω : Int32 → Nat} {D : Nat} {T : Int32} {σ σ' : Sg}
theorem pvG_row {s : Nat} {l : List Rd} (hs : s < 10) (hR : sR σ' = zu (sR σ) s l) (hN : ∀ f, f < plN π 2 → sN σ' (63 + f) = sN σ (63 + f)) : pvG π ω D T σ' + pvL ω (sR σ s) = pvG π ω D T σ + pvL ω l := by
  have e := pvS_one (f := fun s => pvL ω (sR σ s)) (g := fun s => pvL ω (sR σ' s)) (i := s) (k := 10) (fun j _ hne => by
    show pvL ω (sR σ' j) = _
    rw [hR, zu_ne _ _ hne]) hs
  have e2 : sR σ' s = l := by rw [hR, zu_eq]
  try dsimp only at e
  rw [e2] at e
  unfold pvG
  rw [pvF_cg hN]
  omega
theorem pvG_vw (hR : sR σ' = sR σ) (hN : ∀ f, f < plN π 2 → sN σ' (63 + f) = sN σ (63 + f)) : pvG π ω D T σ' = pvG π ω D T σ := by
  unfold pvG
  rw [hR, pvF_cg hN]
end
/-- the invariant of a pass to T: by t, n have alighted -/
def PV (π : Pl) (T : Int32) (D : Nat) (c0 C : Int) (K1 K2 : Nat) (L t : Int) (σ : Sg) (n : Nat) : Prop :=
  (∀ s, s < 10 → ∀ r ∈ sR σ s, 0 ≤ r.2.1.toInt ∧ r.2.1.toInt ≤ t) ∧ (∀ f, f < plN π 2 → c0 ≤ (sN σ (63 + f)).toInt ∧ (sN σ (63 + f)).toInt ≤ C) ∧
  10 * (n + pvS (fun b => (bR σ b).length) 6) + pvG π (fun _ => 10) 1 T σ ≤ K1 ∧ (L ≤ (sS σ 0).toInt ∧ 10 * (sS σ 0).toInt + (pvG π (pvT T) D T σ : Nat) ≤ K2) ∧ lOk σ
/-- what the bounds must be -/
def PH (T : Int32) (D : Nat) (c0 C : Int) (K2 : Nat) (L : Int) : Prop := (0 ≤ c0 ∧ T.toInt ≤ c0 + D) ∧ (T.toInt + 9999 ≤ C ∧ C ≤ 1100000000) ∧ K2 ≤ 1000000000000000000 ∧ 0 ≤ L
def Vw (σ σ' : Sg) : Prop := sR σ' = sR σ ∧ (∀ b, bR σ' b = bR σ b) ∧ sS σ' 0 = sS σ 0 ∧ ∀ f, f < 16 → sN σ' (63 + f) = sN σ (63 + f)
theorem Vw.trans {σ σ' σ'' : Sg} (a : Vw σ σ') (b : Vw σ' σ'') : Vw σ σ'' := ⟨b.1.trans a.1, fun k => (b.2.1 k).trans (a.2.1 k), b.2.2.1.trans a.2.2.1, fun f hf => (b.2.2.2 f hf).trans (a.2.2.2 f hf)⟩
theorem Vw.rfl {σ : Sg} : Vw σ σ := ⟨Eq.refl _, fun _ => Eq.refl _, Eq.refl _, fun _ _ => Eq.refl _⟩
theorem waits_b {u T : Int32} (hu : u.toInt ≤ T.toInt) : ∀ {l : List Rd}, (∀ r ∈ l, 0 ≤ r.2.1.toInt ∧ r.2.1.toInt ≤ u.toInt) → pvL (pvT T) l ≤ 1000000000000000000 → 0 ≤ (waits u l).toInt ∧ 10 * (waits u l).toInt ≤ (pvL (pvT T) l : Nat) := by
  intro l
  induction l with
  | nil =>
    intro _ _
    show 0 ≤ (0 : Int64).toInt ∧ 10 * (0 : Int64).toInt ≤ ((0 : Nat) : Int)
    decide
  | cons r l ih =>
    intro h hl
    have e1 : pvL (pvT T) (r :: l) = 10 * (T.toInt - r.2.1.toInt).toNat + pvL (pvT T) l := rfl
    have e2 : waits u (r :: l) = (u - r.2.1).toInt64 + waits u l := rfl
    obtain ⟨h1, h2⟩ := ih (fun r hr => h r (List.mem_cons_of_mem _ hr)) (by omega)
    obtain ⟨h3, h4⟩ := h r List.mem_cons_self
    have a1 := Int32.toInt_lt u
    have e3 : (u - r.2.1).toInt = u.toInt - r.2.1.toInt := by
      rw [Int32.toInt_sub]
      have : (u.toInt - r.2.1.toInt).bmod (2 ^ 32) = u.toInt - r.2.1.toInt := by rw [Int.bmod_eq_of_le] <;> omega
      exact this
    have e4 : (waits u (r :: l)).toInt = (u - r.2.1).toInt + (waits u l).toInt := by
      rw [e2, Int64.toInt_add, Int32.toInt_toInt64]
      have : ((u - r.2.1).toInt + (waits u l).toInt).bmod (2 ^ 64) = (u - r.2.1).toInt + (waits u l).toInt := by rw [Int.bmod_eq_of_le] <;> omega
      exact this
    rw [e4, e3, e1]
    omega
theorem lOk_te {σ : Sg} {t v : Int32} {k b s : Nat} (h : lOk σ) (ht : 0 ≤ t.toInt) (hv : 0 ≤ v.toInt) : lOk (sTe σ t k b s v) := by
  intro r hr
  have hr' : r ∈ (if (sG σ).length = 30 then (sG σ).drop 1 else sG σ) ++ [(t, k, b, s, v)] := hr
  rcases List.mem_append.mp hr' with hr' | hr'
  · refine h r ?_
    split at hr'
    · exact List.mem_of_mem_drop hr'
    · exact hr'
  · rw [List.mem_singleton] at hr'
    subst hr'
    exact ⟨ht, hv⟩
theorem lOk_cg {σ σ' : Sg} (h : lOk σ) (e : sG σ' = sG σ) : lOk σ' := fun r hr => h r (by rw [← e]; exact hr)
theorem filt_two (p : Rd → Bool) (l : List Rd) : (l.filter p).length + (l.filter fun r => !p r).length = l.length := by
  induction l with
  | nil => rfl
  | cons r l ih =>
    simp only [List.filter_cons]
    cases p r
    · simp only [Bool.false_eq_true, if_false, Bool.not_false, if_true, List.length_cons]
      omega
    · simp only [Bool.not_true, Bool.false_eq_true, if_false, if_true, List.length_cons]
      omega
theorem sJn_c (σ : Sg) (s to : Nat) (t : Int32) (f : Nat) {g : Nat} (hg : g < 16) : sN (sJn σ s to t f).1 (63 + g) = sN σ (63 + g) := by
  have e1 : sN (sGv σ s t) (63 + g) = sN σ (63 + g) := incs_lo (by omega)
  unfold sJn
  try dsimp only
  split
  · show inc (inc (sN (sGv σ s t)) (79 + 5 * f)) (79 + 5 * f + 1) (63 + g) = _
    unfold inc
    rw [zu_ne _ _ (by omega), zu_ne _ _ (by omega)]
    exact e1
  · show inc (sN (sGv σ s t)) (79 + 5 * f) (63 + g) = _
    unfold inc
    rw [zu_ne _ _ (by omega)]
    exact e1
section
variable {π : Pl} {T : Int32} {D : Nat} {c0 C L t : Int} {K1 K2 : Nat} {σ σ' : Sg} {n : Nat}
theorem PV.mono {t' : Int} (P : PV π T D c0 C K1 K2 L t σ n) (h : t ≤ t') : PV π T D c0 C K1 K2 L t' σ n := ⟨fun s hs r hr => ⟨(P.1 s hs r hr).1, Int.le_trans (P.1 s hs r hr).2 h⟩, P.2⟩
theorem PV.vw (P : PV π T D c0 C K1 K2 L t σ n) (O : plN π 2 ≤ 16) (V : Vw σ σ') (l : lOk σ') : PV π T D c0 C K1 K2 L t σ' n := by
  obtain ⟨p1, p2, p3, p4, -⟩ := P
  obtain ⟨v1, v2, v3, v4⟩ := V
  have v4' : ∀ f, f < plN π 2 → sN σ' (63 + f) = sN σ (63 + f) := fun f hf => v4 f (by omega)
  refine ⟨fun s hs r hr => p1 s hs r (by rw [← v1]; exact hr), fun f hf => by rw [v4' f hf]; exact p2 f hf, ?_, ?_, l⟩
  · rw [pvG_vw v1 v4', pvS_cg (f := fun b => (bR σ' b).length) (g := fun b => (bR σ b).length) (fun j _ => by rw [v2 j])]
    exact p3
  · rw [pvG_vw v1 v4', v3]
    exact p4
theorem PV_gv (h16 : plN π 2 ≤ 16) (P : PV π T D c0 C K1 K2 L t σ n) {s : Nat} (hs : s < 10) (u : Int32) : PV π T D c0 C K1 K2 L t (sGv σ s u) n := by
  obtain ⟨p1, p2, p3, p4, p5⟩ := P
  have eN' : ∀ f, f < plN π 2 → sN (sGv σ s u) (63 + f) = sN σ (63 + f) := fun f hf => incs_lo (by omega)
  have r := fun ω D => pvG_row (π := π) (ω := ω) (D := D) (T := T) (σ := σ) (σ' := sGv σ s u) hs rfl eN'
  have sp := fun ω => pvL_split ω (sR σ s) (gvK (sN σ 4) u (sR σ s))
  refine ⟨fun s' hs' q hq => ?_, fun f hf => by rw [eN' f hf]; exact p2 f hf, ?_, ⟨p4.1, ?_⟩, lOk_cg p5 rfl⟩
  · have hq' : q ∈ zu (sR σ) s ((sR σ s).drop (gvK (sN σ 4) u (sR σ s))) s' := hq
    by_cases e : s' = s
    · subst e
      rw [zu_eq] at hq'
      exact p1 s' hs' q (List.mem_of_mem_drop hq')
    · rw [zu_ne _ _ e] at hq'
      exact p1 s' hs' q hq'
  · have r1 := r (fun _ => 10) 1
    have s1 := sp (fun _ => 10)
    show 10 * (n + pvS (fun b => (bR σ b).length) 6) + _ ≤ _
    omega
  · have r1 := r (pvT T) D
    have s1 := sp (pvT T)
    have p6 := p4.2
    show 10 * (sS σ 0).toInt + _ ≤ _
    omega
/-- a rider of a flow comes -/
theorem PV_jn (h16 : plN π 2 ≤ 16) (H : PH T D c0 C K2 L) (P : PV π T D c0 C K1 K2 L t σ n) {s to f : Nat} {e : Int32} (hs : s < 10) (hf : f < plN π 2) (ht : t ≤ T.toInt) (hc : (sN σ (63 + f)).toInt ≤ t) (he : 10 ≤ e.toInt ∧ e.toInt ≤ 9999) :
    PV π T D c0 C K1 K2 L t (vN (sJn σ s to (sN σ (63 + f)) f).1 (zu (sN (sJn σ s to (sN σ (63 + f)) f).1) (63 + f) (sN (sJn σ s to (sN σ (63 + f)) f).1 (63 + f) + e))) n := by
  obtain ⟨⟨H1, H2⟩, ⟨H3, H4⟩, H5, H6⟩ := H
  have P0 := PV_gv h16 P hs (sN σ (63 + f))
  have hcf := (P.2.1 f hf).1
  have hadd : (sN σ (63 + f) + e).toInt = (sN σ (63 + f)).toInt + e.toInt := i_add (by omega) (by omega)
  have eJ := fun g (hg : g < 16) => sJn_c σ s to (sN σ (63 + f)) f hg
  have eG := fun g (hg : g < 16) => (show sN (sGv σ s (sN σ (63 + f))) (63 + g) = sN σ (63 + g) from incs_lo (by omega))
  rw [eJ f (by omega)]
  generalize hσ' : vN (sJn σ s to (sN σ (63 + f)) f).1 (zu (sN (sJn σ s to (sN σ (63 + f)) f).1) (63 + f) (sN σ (63 + f) + e)) = σ'
  have eN1 : sN σ' (63 + f) = sN σ (63 + f) + e := by rw [← hσ']; exact zu_eq _ _ _
  have eN2 : ∀ g, g < plN π 2 → g ≠ f → sN σ' (63 + g) = sN σ (63 + g) := fun g hg hne => by
    rw [← hσ']
    exact (zu_ne _ _ (by omega)).trans (eJ g (by omega))
  have eF : pvF T (sN σ') (plN π 2) + 10 ≤ pvF T (sN σ) (plN π 2) := pvF_up hf eN2 (by omega) (by rw [eN1, hadd]; omega)
  have eB : ∀ b, bR σ' b = bR σ b := fun b => by
    rw [← hσ']
    exact (sJn_fr σ s to (sN σ (63 + f)) f).fR b
  have eS : sS σ' 0 = sS σ 0 := by
    rw [← hσ']
    exact congrFun (sJn_fr σ s to (sN σ (63 + f)) f).2.2.2.1 0
  have eL : sG σ' = sG σ := by
    rw [← hσ']
    exact (sJn_fr σ s to (sN σ (63 + f)) f).2.2.1
  obtain ⟨p1, p2, p3, p4, p5⟩ := P0
  have eGb : pvS (fun b => (bR (sGv σ s (sN σ (63 + f))) b).length) 6 = pvS (fun b => (bR σ b).length) 6 := rfl
  have eGs : sS (sGv σ s (sN σ (63 + f))) 0 = sS σ 0 := rfl
  have eGf : pvF T (sN (sGv σ s (sN σ (63 + f)))) (plN π 2) = pvF T (sN σ) (plN π 2) := pvF_cg fun g hg => eG g (by omega)
  have eb' : pvS (fun b => (bR σ' b).length) 6 = pvS (fun b => (bR σ b).length) 6 := pvS_cg fun j _ => by rw [eB j]
  -- the rows' weights
  have key : ∀ ω : Int32 → Nat, pvS (fun s => pvL ω (sR σ' s)) 10 ≤ pvS (fun q => pvL ω (sR (sGv σ s (sN σ (63 + f))) q)) 10 + ω (sN σ (63 + f)) ∧ (∀ q, q < 10 → ∀ r ∈ sR σ' q, r ∈ sR (sGv σ s (sN σ (63 + f))) q ∨ r.2.1 = sN σ (63 + f)) := by
    intro ω
    by_cases c : (sR (sGv σ s (sN σ (63 + f))) s).length = 40
    · have eR : sR σ' = sR (sGv σ s (sN σ (63 + f))) := by
        rw [← hσ']
        show sR (sJn σ s to (sN σ (63 + f)) f).1 = _
        unfold sJn
        try dsimp only
        rw [if_pos (show (sR (vN (sGv σ s (sN σ (63 + f))) (inc (sN (sGv σ s (sN σ (63 + f)))) (79 + 5 * f))) s).length = 40 from c)]
        rfl
      rw [eR]
      exact ⟨Nat.le_add_right _ _, fun q _ r hr => Or.inl hr⟩
    · have eR : sR σ' = zu (sR (sGv σ s (sN σ (63 + f)))) s (sR (sGv σ s (sN σ (63 + f))) s ++ [(to, sN σ (63 + f), f)]) := by
        rw [← hσ']
        show sR (sJn σ s to (sN σ (63 + f)) f).1 = _
        unfold sJn
        try dsimp only
        rw [if_neg (show ¬ (sR (vN (sGv σ s (sN σ (63 + f))) (inc (sN (sGv σ s (sN σ (63 + f)))) (79 + 5 * f))) s).length = 40 from c)]
        rfl
      rw [eR]
      constructor
      · have o := pvS_one (f := fun q => pvL ω (sR (sGv σ s (sN σ (63 + f))) q)) (g := fun q => pvL ω (zu (sR (sGv σ s (sN σ (63 + f)))) s (sR (sGv σ s (sN σ (63 + f))) s ++ [(to, sN σ (63 + f), f)]) q)) (i := s) (k := 10) (fun j _ hne => by
          try dsimp only
          rw [zu_ne _ _ hne]) hs
        try dsimp only at o
        rw [zu_eq, pvL_app] at o
        have o2 : pvL ω [(to, sN σ (63 + f), f)] = ω (sN σ (63 + f)) := rfl
        rw [o2] at o
        omega
      · intro q _ r hr
        by_cases e : q = s
        · subst e
          rw [zu_eq] at hr
          rcases List.mem_append.mp hr with hr | hr
          · exact Or.inl hr
          · rw [List.mem_singleton] at hr
            subst hr
            exact Or.inr rfl
        · rw [zu_ne _ _ e] at hr
          exact Or.inl hr
  refine ⟨fun q hq r hr => ?_, fun g hg => ?_, ?_, ⟨by rw [eS]; exact p4.1, ?_⟩, lOk_cg P.2.2.2.2 eL⟩
  · rcases (key fun _ => 0).2 q hq r hr with h | h
    · exact p1 q hq r h
    · rw [h]
      omega
  · by_cases c : g = f
    · subst c
      rw [eN1, hadd]
      omega
    · rw [eN2 g hg c]
      exact P.2.1 g hg
  · have k1 := (key fun _ => 10).1
    unfold pvG at *
    rw [eb']
    rw [eGb] at p3
    rw [eGf] at p3
    omega
  · have k1 := (key (pvT T)).1
    have p6 := p4.2
    rw [eGs] at p6
    unfold pvG at *
    rw [eGf] at p6
    rw [eS]
    have kw : pvT T (sN σ (63 + f)) ≤ 10 * D := by
      unfold pvT
      omega
    have kd : D * pvF T (sN σ') (plN π 2) + 10 * D ≤ D * pvF T (sN σ) (plN π 2) := by
      have := Nat.mul_le_mul_left D eF
      rw [Nat.mul_add] at this
      omega
    generalize D * pvF T (sN σ') (plN π 2) = x1 at *
    generalize D * pvF T (sN σ) (plN π 2) = x2 at *
    omega
theorem PV_bf (O : pOk π) (H : PH T D c0 C K2 L) {s : Nat} {u : Int32} (hs : s < 10) (hu : u.toInt ≤ T.toInt) : ∀ (k : Nat) (σ : Sg), PV π T D c0 C K1 K2 L u.toInt σ n → PV π T D c0 C K1 K2 L u.toInt (sBf π s u k σ) n := by
  intro k
  induction k with
  | zero => intro σ P; exact P
  | succ k ih =>
    intro σ P
    unfold sBf
    split
    · exact P
    · next f hf =>
      obtain ⟨f1, f2, f3⟩ := fnx_lt hf
      obtain ⟨-, -, -, -, g5, g6, -⟩ := O.2.2.2.1 f f1
      exact ih _ (PV_jn O.2.2.1 H P hs f1 hu (Int32.le_iff_toInt_le.mp f3) ⟨g5, g6⟩)
theorem PV_br (O : pOk π) (H : PH T D c0 C K2 L) {s : Nat} {u : Int32} (hs : s < 10) (hu : u.toInt ≤ T.toInt) (P : PV π T D c0 C K1 K2 L u.toInt σ n) : PV π T D c0 C K1 K2 L u.toInt (sBr π σ s u) n := PV_gv O.2.2.1 (PV_bf O H hs hu big σ P) hs u
theorem PV_bo (h16 : plN π 2 ≤ 16) (H : PH T D c0 C K2 L) {b s : Nat} {u : Int32} (hs : s < 10) (hb : b < 6) (hu : u.toInt ≤ T.toInt) (P : PV π T D c0 C K1 K2 L u.toInt σ n) : PV π T D c0 C K1 K2 L u.toInt (sBo π σ b s u).1 n := by
  obtain ⟨p1, p2, p3, p4, p5⟩ := P
  obtain ⟨⟨H1, H2⟩, ⟨H3, H4⟩, H5, H6⟩ := H
  obtain ⟨k, hk⟩ : ∃ k, k = (sBo π σ b s u).2 := ⟨_, rfl⟩
  have eR : sR (sBo π σ b s u).1 = zu (sR σ) s ((sR σ s).drop k) := by rw [hk]; rfl
  have eN' : ∀ f, f < plN π 2 → sN (sBo π σ b s u).1 (63 + f) = sN σ (63 + f) := fun f hf => sBo_N π σ b s u _ (by omega)
  have r := fun ω D => pvG_row (π := π) (ω := ω) (D := D) (T := T) (σ := σ) (σ' := (sBo π σ b s u).1) hs eR eN'
  have sp := fun ω => pvL_split ω (sR σ s) k
  have eb : bR (sBo π σ b s u).1 b = bR σ b ++ ((sR σ s).take k).map fun r => (r.1, u, r.2.2) := by
    unfold bR
    rw [sBo_B, hk]
    rfl
  have eS : sS (sBo π σ b s u).1 0 = sS σ 0 + waits u ((sR σ s).take k) := by
    rw [hk]
    exact zu_eq (sS σ) 0 (sS σ 0 + waits u ((sR σ s).take (sBo π σ b s u).2))
  have o := pvS_one (f := fun b => (bR σ b).length) (g := fun q => (bR (sBo π σ b s u).1 q).length) (i := b) (k := 6) (fun j _ hne => by
    try dsimp only
    unfold bR
    rw [sBo_Bn π σ s u hne]) hb
  try dsimp only at o
  rw [eb, List.length_append, List.length_map] at o
  have r1 := r (fun _ => 10) 1
  have s1 := sp (fun _ => 10)
  have r2 := r (pvT T) D
  have s2 := sp (pvT T)
  have c1 := pvL_const 10 ((sR σ s).take k)
  have w := waits_b (l := (sR σ s).take k) hu (fun r hr => p1 s hs r (List.mem_of_mem_take hr)) (by omega)
  have eS' : (sS (sBo π σ b s u).1 0).toInt = (sS σ 0).toInt + (waits u ((sR σ s).take k)).toInt := by
    rw [eS, Int64.toInt_add]
    have : ((sS σ 0).toInt + (waits u ((sR σ s).take k)).toInt).bmod (2 ^ 64) = (sS σ 0).toInt + (waits u ((sR σ s).take k)).toInt := by rw [Int.bmod_eq_of_le] <;> omega
    exact this
  refine ⟨fun s' hs' q hq => ?_, fun f hf => by rw [eN' f hf]; exact p2 f hf, by omega, ⟨by rw [eS']; omega, by rw [eS']; omega⟩, lOk_cg p5 rfl⟩
  rw [eR] at hq
  by_cases e : s' = s
  · subst e
    rw [zu_eq] at hq
    exact p1 s' hs' q (List.mem_of_mem_drop hq)
  · rw [zu_ne _ _ e] at hq
    exact p1 s' hs' q hq
theorem PV_al (h16 : plN π 2 ≤ 16) {b s : Nat} {u : Int32} (hb : b < 6) (P : PV π T D c0 C K1 K2 L t σ n) : PV π T D c0 C K1 K2 L t (sAl σ b s u).1 (n + (sAl σ b s u).2) := by
  obtain ⟨p1, p2, p3, p4, p5⟩ := P
  have eN' : ∀ f, f < plN π 2 → sN (sAl σ b s u).1 (63 + f) = sN σ (63 + f) := fun f hf => sAl_N σ b s u _ (by omega)
  have r := fun ω D => pvG_vw (π := π) (ω := ω) (D := D) (T := T) (σ := σ) (σ' := (sAl σ b s u).1) rfl eN'
  have eS : sS (sAl σ b s u).1 0 = sS σ 0 := zu_ne (sS σ) (sS σ 1 + waits u ((bR σ b).filter fun r => decide (r.1 = s))) (by decide : (0 : Nat) ≠ 1)
  have eb : bR (sAl σ b s u).1 b = (bR σ b).filter fun r => !decide (r.1 = s) := by
    unfold bR
    rw [sAl_B]
    rfl
  have em : (sAl σ b s u).2 = ((bR σ b).filter fun r => decide (r.1 = s)).length := rfl
  have ft := filt_two (fun r => decide (r.1 = s)) (bR σ b)
  have o := pvS_one (f := fun b => (bR σ b).length) (g := fun q => (bR (sAl σ b s u).1 q).length) (i := b) (k := 6) (fun j _ hne => by
    try dsimp only
    unfold bR
    rw [sAl_Bn σ s u hne]) hb
  try dsimp only at o
  rw [eb] at o
  refine ⟨p1, fun f hf => by rw [eN' f hf]; exact p2 f hf, ?_, ⟨by rw [eS]; exact p4.1, by rw [eS, r]; exact p4.2⟩, lOk_cg p5 rfl⟩
  rw [r]
  omega
/-- frames -/
theorem Vw_bs (σ : Sg) (k c : Nat) (v : Int32) : Vw σ (sBs σ k c v) := ⟨rfl, fun b => sBs_R _ _ _ _ _, rfl, fun _ _ => rfl⟩
theorem Vw_n {f : Nat → Int32} (h : ∀ g, g < 16 → f (63 + g) = sN σ (63 + g)) : Vw σ (vN σ f) := ⟨rfl, fun _ => rfl, rfl, h⟩
theorem Vw_te (σ : Sg) (u v : Int32) (k b s : Nat) : Vw σ (sTe σ u k b s v) := ⟨rfl, fun _ => rfl, rfl, fun _ _ => rfl⟩
theorem Vw_go (π : Pl) (σ : Sg) (b : Nat) (u : Int32) : Vw σ (sGo π σ b u) := ((Vw_bs _ _ _ _).trans (Vw_bs _ _ _ _)).trans (Vw_bs _ _ _ _)
end
