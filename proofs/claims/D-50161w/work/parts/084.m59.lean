/-! what a tape read as a setup gives: bounds (no program in sight) -/
def stoOk (st : Sto) : Prop := nmOk st.1 ∧ (20 ≤ st.2.1.toInt ∧ st.2.1.toInt ≤ 900) ∧ 0 ≤ st.2.2.1.toInt ∧ st.2.2.1.toInt ≤ 9999
def stsOk (l : List Sto) : Prop := l.length ≤ 10 ∧ (∀ st ∈ l, stoOk st) ∧ l.Pairwise fun a b => a.1 ≠ b.1
def bupOk (b : Bup) : Prop := (1 ≤ b.1.toInt ∧ b.1.toInt ≤ 99) ∧ 0 ≤ b.2.toInt ∧ b.2.toInt ≤ 9999
def bupsOk (l : List Bup) : Prop := l.length ≤ 6 ∧ ∀ b ∈ l, bupOk b
def floOk (n : Nat) (f : Flo) : Prop := f.1 < n ∧ f.2.1 < n ∧ f.1 ≠ f.2.1 ∧ (10 ≤ f.2.2.1.toInt ∧ f.2.2.1.toInt ≤ 9999) ∧ 0 ≤ f.2.2.2.toInt ∧ f.2.2.2.toInt ≤ 9999
def flosOk (n : Nat) (l : List Flo) : Prop := l.length ≤ 16 ∧ ∀ f ∈ l, floOk n f
theorem okN_b {tp : List Int32} {i l u : Nat} (h : okN tp i l u = true) : tkK tp i = 3 ∧ (l : Int) ≤ (tkV tp i).toInt ∧ (tkV tp i).toInt ≤ (u : Int) := by
  unfold okN at h
  rw [Bool.and_eq_true, decide_eq_true_eq, decide_eq_true_eq] at h
  exact ⟨h.1, h.2.1, h.2.2⟩
theorem rdSt_ok {tp : List Int32} {acc : List Sto} {i : Nat} {q : Nat × Sto} (h : rdSt tp acc i = .ok q) : acc.length < 10 ∧ stoOk q.2 ∧ ∀ st ∈ acc, st.1 ≠ q.2.1 := by
  unfold rdSt at h
  obtain ⟨i1, h1, h⟩ := bd_okI h
  obtain ⟨i2, h2, h⟩ := bd_okI h
  obtain ⟨i3, h3, h⟩ := bd_okI h
  obtain ⟨i4, h4, h⟩ := bd_okI h
  obtain ⟨i6, h6, h⟩ := bd_okI h
  injection h with h
  subst h
  have c1 := (tkC_ok h1).1
  have c2 := (tkC_ok h2).1
  obtain ⟨-, c3, -⟩ := nofC_ok h3
  obtain ⟨-, c4, -⟩ := nofC_ok h4
  rw [Bool.and_eq_true, decide_eq_true_eq] at c1
  rw [Bool.and_eq_true, Bool.not_eq_true'] at c2
  have n1 := of_decide_eq_true (show decide (tkK tp i1 = 1) = true from c2.1)
  refine ⟨c1.2, ⟨(tk_nm n1).1, (okN_b c3).2, (okN_b c4).2⟩, fun st hst e => ?_⟩
  have : nmD acc (tkW tp i1) = true := List.any_eq_true.mpr ⟨st, hst, decide_eq_true e⟩
  rw [c2.2] at this
  cases this
theorem stsOk_a {tp : List Int32} {acc : List Sto} {i : Nat} {q : Nat × Sto} (A : stsOk acc) (h : rdSt tp acc i = .ok q) : stsOk (acc ++ [q.2]) := by
  obtain ⟨h1, h2, h3⟩ := rdSt_ok h
  obtain ⟨a1, a2, a3⟩ := A
  refine ⟨by rw [List.length_append]; show acc.length + 1 ≤ 10; omega, fun st hst => ?_, ?_⟩
  · rcases List.mem_append.mp hst with x | x
    · exact a2 st x
    · rw [List.mem_singleton] at x
      subst x
      exact h2
  · refine List.pairwise_append.mpr ⟨a3, List.pairwise_singleton _ _, fun a ha b hb => ?_⟩
    rw [List.mem_singleton] at hb
    subst hb
    exact h3 a ha
theorem stS_ok {tp : List Int32} {q q' : Nat × List Sto} (A : stsOk q.2) (h : stS tp q = .ok q') : stsOk q'.2 ∧ q'.2.length = q.2.length + 1 := by
  obtain ⟨p, h1, h2⟩ := bd_okI h
  injection h2 with h2
  subst h2
  exact ⟨stsOk_a A h1, by rw [List.length_append]; rfl⟩
theorem rdSs_ok {tp : List Int32} : ∀ (f : Nat) (q q' : Nat × List Sto), stsOk q.2 → rdSs tp f q = .ok q' → stsOk q'.2 ∧ q.2.length ≤ q'.2.length := by
  intro f
  induction f with
  | zero =>
    intro q q' A h
    injection h with h
    subst h
    exact ⟨A, Nat.le_refl _⟩
  | succ f ih =>
    intro q q' A h
    unfold rdSs at h
    split at h
    · obtain ⟨p, h1, h2⟩ := bd_okI h
      obtain ⟨i1, i2⟩ := ih _ _ (stsOk_a A h1) h2
      have i2' : (q.2 ++ [p.2]).length ≤ q'.2.length := i2
      rw [List.length_append] at i2'
      exact ⟨i1, by omega⟩
    · injection h with h
      subst h
      exact ⟨A, Nat.le_refl _⟩
theorem pzS_ok {tp : List Int32} {q : Nat × List Sto} (h : pzS tp = .ok q) : stsOk q.2 ∧ 2 ≤ q.2.length ∧ ∃ i, rdN tp 0 = .ok i := by
  unfold pzS at h
  obtain ⟨q2, h1, h2⟩ := bd_okI h
  obtain ⟨q1, h3, h4⟩ := bd_okI h1
  obtain ⟨q0, h5, h6⟩ := bd_okI h3
  obtain ⟨i, h7, h8⟩ := bd_okI h5
  injection h8 with h8
  subst h8
  obtain ⟨a1, b1⟩ := stS_ok (q := (i, [])) ⟨Nat.zero_le _, fun st hst => absurd hst List.not_mem_nil, List.Pairwise.nil⟩ h6
  obtain ⟨a2, b2⟩ := stS_ok a1 h4
  obtain ⟨a3, b3⟩ := rdSs_ok _ _ _ a2 h2
  have b1' : q1.2.length = 0 + 1 := b1
  exact ⟨a3, by omega, i, h7⟩
theorem rdBu_ok {tp : List Int32} {acc : List Bup} {i : Nat} {q : Nat × Bup} (h : rdBu tp acc i = .ok q) : acc.length < 6 ∧ bupOk q.2 := by
  unfold rdBu at h
  obtain ⟨i1, h1, h⟩ := bd_okI h
  obtain ⟨i2, h2, h⟩ := bd_okI h
  obtain ⟨i3, h3, h⟩ := bd_okI h
  obtain ⟨i4, h4, h⟩ := bd_okI h
  injection h with h
  subst h
  have c1 := (tkC_ok h1).1
  have c2 := (tkC_ok h2).1
  obtain ⟨-, c3, -⟩ := nofC_ok h3
  rw [Bool.and_eq_true, decide_eq_true_eq] at c1
  exact ⟨c1.2, (okN_b c2).2, (okN_b c3).2⟩
theorem bupsOk_a {tp : List Int32} {acc : List Bup} {i : Nat} {q : Nat × Bup} (A : bupsOk acc) (h : rdBu tp acc i = .ok q) : bupsOk (acc ++ [q.2]) := by
  obtain ⟨h1, h2⟩ := rdBu_ok h
  obtain ⟨a1, a2⟩ := A
  refine ⟨by rw [List.length_append]; show acc.length + 1 ≤ 6; omega, fun st hst => ?_⟩
  rcases List.mem_append.mp hst with x | x
  · exact a2 st x
  · rw [List.mem_singleton] at x
    subst x
    exact h2
theorem rdBs_ok {tp : List Int32} : ∀ (f : Nat) (q q' : Nat × List Bup), bupsOk q.2 → rdBs tp f q = .ok q' → bupsOk q'.2 ∧ q.2.length ≤ q'.2.length := by
  intro f
  induction f with
  | zero =>
    intro q q' A h
    injection h with h
    subst h
    exact ⟨A, Nat.le_refl _⟩
  | succ f ih =>
    intro q q' A h
    unfold rdBs at h
    split at h
    · obtain ⟨p, h1, h2⟩ := bd_okI h
      obtain ⟨i1, i2⟩ := ih _ _ (bupsOk_a A h1) h2
      have i2' : (q.2 ++ [p.2]).length ≤ q'.2.length := i2
      rw [List.length_append] at i2'
      exact ⟨i1, by omega⟩
    · injection h with h
      subst h
      exact ⟨A, Nat.le_refl _⟩
theorem pzB_ok {tp : List Int32} {q : Nat × List Bup} (h : pzB tp = .ok q) : bupsOk q.2 ∧ 1 ≤ q.2.length ∧ ∃ p, pzS tp = .ok p ∧ pzL tp = p.2 := by
  unfold pzB at h
  obtain ⟨q2, h1, h2⟩ := bd_okI h
  obtain ⟨q1, h3, h4⟩ := bd_okI h1
  obtain ⟨p, h5, h6⟩ := bd_okI h3
  injection h6 with h6
  subst h6
  obtain ⟨r, h7, h8⟩ := bd_okI h4
  injection h8 with h8
  subst h8
  have a1 := bupsOk_a (acc := []) ⟨Nat.zero_le _, fun st hst => absurd hst List.not_mem_nil⟩ h7
  obtain ⟨a3, b3⟩ := rdBs_ok _ _ _ a1 h2
  refine ⟨a3, b3, p, h5, ?_⟩
  unfold pzL
  rw [h5]
theorem rdFl_ok {tp : List Int32} {S : List Sto} {acc : List Flo} {i : Nat} {q : Nat × Flo} (h : rdFl tp S acc i = .ok q) : acc.length < 16 ∧ floOk S.length q.2 := by
  unfold rdFl at h
  obtain ⟨i1, h1, h⟩ := bd_okI h
  obtain ⟨i2, h2, h⟩ := bd_okI h
  obtain ⟨i3, h3, h⟩ := bd_okI h
  obtain ⟨i4, h4, h⟩ := bd_okI h
  obtain ⟨i5, h5, h⟩ := bd_okI h
  obtain ⟨i6, h6, h⟩ := bd_okI h
  obtain ⟨i7, h7, h⟩ := bd_okI h
  injection h with h
  subst h
  have c1 := (tkC_ok h1).1
  have c2 := (tkC_ok h2).1
  have c4 := (tkC_ok h4).1
  obtain ⟨-, c5, -⟩ := nofC_ok h5
  obtain ⟨-, c6, -⟩ := nofC_ok h6
  rw [Bool.and_eq_true, decide_eq_true_eq] at c1
  rw [Bool.and_eq_true, Bool.not_eq_true', decide_eq_false_iff_not] at c4
  obtain ⟨g, hg⟩ := Option.isSome_iff_exists.mp c2
  obtain ⟨g', hg'⟩ := Option.isSome_iff_exists.mp c4.1
  refine ⟨c1.2, ?_, ?_, ?_, (okN_b c5).2, (okN_b c6).2⟩
  · show (stT tp S i1).getD 0 < _
    rw [hg]
    exact stT_lt hg
  · show (stT tp S i3).getD 0 < _
    rw [hg']
    exact stT_lt hg'
  · show (stT tp S i1).getD 0 ≠ (stT tp S i3).getD 0
    rw [hg, hg']
    intro e
    apply c4.2
    rw [hg, hg']
    exact congrArg some e.symm
theorem rdFs_ok {tp : List Int32} {S : List Sto} : ∀ (f : Nat) (q q' : Nat × List Flo), flosOk S.length q.2 → rdFs tp S f q = .ok q' → flosOk S.length q'.2 := by
  intro f
  induction f with
  | zero =>
    intro q q' A h
    injection h with h
    subst h
    exact A
  | succ f ih =>
    intro q q' A h
    unfold rdFs at h
    split at h
    · injection h with h
      subst h
      exact A
    · obtain ⟨p, h1, h2⟩ := bd_okI h
      refine ih _ _ ?_ h2
      obtain ⟨a1, a2⟩ := A
      obtain ⟨h1, h3⟩ := rdFl_ok h1
      refine ⟨by rw [List.length_append]; show q.2.length + 1 ≤ 16; omega, fun st hst => ?_⟩
      rcases List.mem_append.mp hst with x | x
      · exact a2 st x
      · rw [List.mem_singleton] at x
        subst x
        exact h3
/-- bounds of a tape's numbers -/
theorem nuV_b {tp : List Int32} {i j : Nat} (h : rdN tp i = .ok j) {k : Nat} (hk : k < 8) : (nLo k : Int) ≤ (nuV tp i k).toInt ∧ (nuV tp i k).toInt ≤ (nHi k : Int) := by
  unfold rdN at h
  obtain ⟨q, h1, -⟩ := bd_okI h
  have st : ∀ d m q, m + d = 8 → k < m → rdNk tp m i = .ok q → (nLo k : Int) ≤ (nuV tp i k).toInt ∧ (nuV tp i k).toInt ≤ (nHi k : Int) := by
    intro d m
    induction m generalizing d with
    | zero => intro q _ h; omega
    | succ m ih =>
      intro q hd hm h
      obtain ⟨p, h1, h2⟩ := bd_okI (show (rdNk tp m i).bind (nofC tp m (nLo m) (nHi m)) = .ok q from h)
      by_cases e : k = m
      · subst e
        unfold nuV
        rw [h1]
        exact (okN_b (nofC_ok h2).2.1).2
      · exact ih (d + 1) p (by omega) (by omega) h1
  exact st 0 8 q rfl hk h1
theorem pzF_ok {tp : List Int32} {q : Nat × List Flo} (h : pzF tp = .ok q) : (stsOk (pzL tp) ∧ 2 ≤ (pzL tp).length) ∧ (bupsOk (pzM tp) ∧ 1 ≤ (pzM tp).length) ∧ flosOk (pzL tp).length q.2 ∧ ∀ k, k < 8 → (nLo k : Int) ≤ (nuV tp 0 k).toInt ∧ (nuV tp 0 k).toInt ≤ (nHi k : Int) := by
  unfold pzF at h
  obtain ⟨q1, h1, h2⟩ := bd_okI h
  obtain ⟨p, h3, h4⟩ := bd_okI h1
  injection h4 with h4
  subst h4
  obtain ⟨b1, b2, s, hs, e⟩ := pzB_ok h3
  obtain ⟨c1, c2, i, hi⟩ := pzS_ok hs
  have em : pzM tp = p.2 := by
    unfold pzM
    rw [h3]
  rw [e] at h2 ⊢
  rw [em]
  exact ⟨⟨c1, c2⟩, ⟨b1, b2⟩, rdFs_ok _ _ _ ⟨Nat.zero_le _, fun st hst => absurd hst List.not_mem_nil⟩ h2, fun k hk => nuV_b hi hk⟩
