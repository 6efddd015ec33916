/-! the search tree in the heap: its cells laid over a heap (written by gen_t5.py) -/
def rf (i : Nat) : Value := if i = 0 then .null else .ref i
def hT (h : zH) (m : Nat) (L : List Nat) (T : Tm) : zH := (h.1, h.2.1, fun x j => if x = m then (if j = 153 then rf (tmO T) else h.2.2.1 x j) else if x ∈ L then (if j = 166 then rf (tmL T x) else if j = 167 then rf (tmR T x) else if j = 168 then rf (tmP T x) else if j = 169 then .int (Int32.ofNat (tmC T x).toNat) else h.2.2.1 x j) else h.2.2.1 x j, h.2.2.2)
theorem rf_0 : rf 0 = .null := rfl
theorem rf_n {i : Nat} (h : i ≠ 0) : rf i = .ref i := if_neg h
theorem zTy_rf (i : Nat) : zTy 2 (rf i) = true := by unfold rf; split <;> rfl
theorem cat_rf (i : Nat) : (rf i).category = 1 := by unfold rf; split <;> rfl
theorem tm_all : (∀ T i v, tmL (tsL T i v) = zu (tmL T) i v) ∧ (∀ T i v, tmL (tsR T i v) = tmL T) ∧ (∀ T i v, tmL (tsP T i v) = tmL T) ∧ (∀ T i v, tmL (tsC T i v) = tmL T) ∧ (∀ T v, tmL (tsO T v) = tmL T) ∧
    (∀ T i v, tmR (tsL T i v) = tmR T) ∧ (∀ T i v, tmR (tsR T i v) = zu (tmR T) i v) ∧ (∀ T i v, tmR (tsP T i v) = tmR T) ∧ (∀ T i v, tmR (tsC T i v) = tmR T) ∧ (∀ T v, tmR (tsO T v) = tmR T) ∧
    (∀ T i v, tmP (tsL T i v) = tmP T) ∧ (∀ T i v, tmP (tsR T i v) = tmP T) ∧ (∀ T i v, tmP (tsP T i v) = zu (tmP T) i v) ∧ (∀ T i v, tmP (tsC T i v) = tmP T) ∧ (∀ T v, tmP (tsO T v) = tmP T) ∧
    (∀ T i v, tmC (tsL T i v) = tmC T) ∧ (∀ T i v, tmC (tsR T i v) = tmC T) ∧ (∀ T i v, tmC (tsP T i v) = tmC T) ∧ (∀ T i v, tmC (tsC T i v) = zu (tmC T) i v) ∧ (∀ T v, tmC (tsO T v) = tmC T) ∧
    (∀ T i v, tmO (tsL T i v) = tmO T) ∧ (∀ T i v, tmO (tsR T i v) = tmO T) ∧ (∀ T i v, tmO (tsP T i v) = tmO T) ∧ (∀ T i v, tmO (tsC T i v) = tmO T) ∧ (∀ T v, tmO (tsO T v) = v) := by
  refine ⟨?_, ?_, ?_, ?_, ?_, ?_, ?_, ?_, ?_, ?_, ?_, ?_, ?_, ?_, ?_, ?_, ?_, ?_, ?_, ?_, ?_, ?_, ?_, ?_, ?_⟩ <;> intros <;> rfl
/-- what the tree's cells are -/
def TS (κ : zC) (h : zH) (m : Nat) (L : List Nat) : Prop := hK h m = 116 ∧ kB κ ≤ m ∧ ∀ x ∈ L, hK h x = 127 ∧ kB κ ≤ x ∧ x ≠ 0
section
variable {κ : zC} {h : zH} {m x p : Nat} {L : List Nat} {T : Tm} {t : Tr} {Q : zQ}
theorem TS.ne (S : TS κ h m L) (hx : x ∈ L) : x ≠ m := fun e => by
  have a := (S.2.2 x hx).1
  rw [e, S.1] at a
  cases a
theorem hT_V (j : Nat) : hV (hT h m L T) x j = if x = m then (if j = 153 then rf (tmO T) else hV h x j) else if x ∈ L then (if j = 166 then rf (tmL T x) else if j = 167 then rf (tmR T x) else if j = 168 then rf (tmP T x) else if j = 169 then .int (Int32.ofNat (tmC T x).toNat) else hV h x j) else hV h x j := rfl
theorem hT_O (h : zH) (m : Nat) (L : List Nat) (T : Tm) : hV (hT h m L T) m 153 = rf (tmO T) := by rw [hT_V, if_pos rfl, if_pos rfl]
theorem hT_m {j : Nat} (hj : j ≠ 153) : hV (hT h m L T) m j = hV h m j := by rw [hT_V, if_pos rfl, if_neg hj]
theorem hT_n {j : Nat} (h1 : x ≠ m) (h2 : x ∉ L) : hV (hT h m L T) x j = hV h x j := by rw [hT_V, if_neg h1, if_neg h2]
theorem hT_j {j : Nat} (h1 : x ≠ m) (h2 : j < 166 ∨ 169 < j) : hV (hT h m L T) x j = hV h x j := by
  rw [hT_V, if_neg h1, if_neg (show j ≠ 166 by omega), if_neg (show j ≠ 167 by omega), if_neg (show j ≠ 168 by omega), if_neg (show j ≠ 169 by omega)]
  split <;> rfl
theorem hT_W {T' : Tm} {j : Nat} {v : Value} (hx : x ≠ m) (hL : x ∈ L) (hj : 166 ≤ j ∧ j ≤ 169) (e : tmO T' = tmO T) (e0 : ∀ y, y ≠ x → tmL T' y = tmL T y ∧ tmR T' y = tmR T y ∧ tmP T' y = tmP T y ∧ tmC T' y = tmC T y)
    (e1 : ∀ i, 166 ≤ i → i ≤ 169 → (if i = 166 then rf (tmL T' x) else if i = 167 then rf (tmR T' x) else if i = 168 then rf (tmP T' x) else if i = 169 then .int (Int32.ofNat (tmC T' x).toNat) else hV h x i) = if i = j then v else (if i = 166 then rf (tmL T x) else if i = 167 then rf (tmR T x) else if i = 168 then rf (tmP T x) else if i = 169 then .int (Int32.ofNat (tmC T x).toNat) else hV h x i)) :
    hW (hT h m L T) x j v = hT h m L T' := by
  refine hX_eq (fun _ => rfl) (fun _ => rfl) (fun y i => ?_) rfl rfl
  rw [hV_W, hT_V, hT_V]
  by_cases c : y = x
  · subst c
    rw [if_pos rfl, if_neg hx, if_neg hx, if_pos hL, if_pos hL]
    by_cases d : 166 ≤ i ∧ i ≤ 169
    · exact (e1 i d.1 d.2).symm
    · rw [if_neg (show i ≠ j by omega), if_neg (show i ≠ 166 by omega), if_neg (show i ≠ 167 by omega), if_neg (show i ≠ 168 by omega), if_neg (show i ≠ 169 by omega), if_neg (show i ≠ 166 by omega), if_neg (show i ≠ 167 by omega), if_neg (show i ≠ 168 by omega), if_neg (show i ≠ 169 by omega)]
  · rw [if_neg c]
    obtain ⟨a1, a2, a3, a4⟩ := e0 y c
    rw [e, a1, a2, a3, a4]
theorem hT_WO {v : Nat} : hW (hT h m L T) m 153 (rf v) = hT h m L (tsO T v) := by
  refine hX_eq (fun _ => rfl) (fun _ => rfl) (fun y i => ?_) rfl rfl
  rw [hV_W, hT_V, hT_V]
  by_cases c : y = m
  · subst c
    rw [if_pos rfl, if_pos rfl, if_pos rfl]
    by_cases d : i = 153
    · rw [if_pos d, if_pos d]; rfl
    · rw [if_neg d, if_neg d, if_neg d]
  · rw [if_neg c, if_neg c, if_neg c]
    rfl
theorem hT_WL {v : Nat} (hx : x ≠ m) (hL : x ∈ L) : hW (hT h m L T) x 166 (rf v) = hT h m L (tsL T x v) := by
  refine hT_W hx hL (by decide) rfl (fun y hy => ?_) fun i h1 h2 => ?_
  · refine ⟨?_, ?_, ?_, ?_⟩ <;> first | rfl | exact zu_ne _ _ hy
  · have c : i = 166 ∨ i = 167 ∨ i = 168 ∨ i = 169 := by omega
    have z : zu (tmL T) x v x = v := zu_eq _ _ _
    rcases c with rfl | rfl | rfl | rfl <;> first | rfl | exact congrArg rf z
theorem hT_WR {v : Nat} (hx : x ≠ m) (hL : x ∈ L) : hW (hT h m L T) x 167 (rf v) = hT h m L (tsR T x v) := by
  refine hT_W hx hL (by decide) rfl (fun y hy => ?_) fun i h1 h2 => ?_
  · refine ⟨?_, ?_, ?_, ?_⟩ <;> first | rfl | exact zu_ne _ _ hy
  · have c : i = 166 ∨ i = 167 ∨ i = 168 ∨ i = 169 := by omega
    have z : zu (tmR T) x v x = v := zu_eq _ _ _
    rcases c with rfl | rfl | rfl | rfl <;> first | rfl | exact congrArg rf z
theorem hT_WP {v : Nat} (hx : x ≠ m) (hL : x ∈ L) : hW (hT h m L T) x 168 (rf v) = hT h m L (tsP T x v) := by
  refine hT_W hx hL (by decide) rfl (fun y hy => ?_) fun i h1 h2 => ?_
  · refine ⟨?_, ?_, ?_, ?_⟩ <;> first | rfl | exact zu_ne _ _ hy
  · have c : i = 166 ∨ i = 167 ∨ i = 168 ∨ i = 169 := by omega
    have z : zu (tmP T) x v x = v := zu_eq _ _ _
    rcases c with rfl | rfl | rfl | rfl <;> first | rfl | exact congrArg rf z
theorem hT_WC {v : Bool} (hx : x ≠ m) (hL : x ∈ L) : hW (hT h m L T) x 169 (.int (Int32.ofNat v.toNat)) = hT h m L (tsC T x v) := by
  refine hT_W hx hL (by decide) rfl (fun y hy => ?_) fun i h1 h2 => ?_
  · refine ⟨rfl, rfl, rfl, zu_ne _ _ hy⟩
  · have c : i = 166 ∨ i = 167 ∨ i = 168 ∨ i = 169 := by omega
    have z : zu (tmC T) x v x = v := zu_eq _ _ _
    rcases c with rfl | rfl | rfl | rfl <;> first | rfl | exact congrArg (fun b : Bool => Value.int (Int32.ofNat b.toNat)) z
/-- a node's facts -/
theorem nodF (S : TS κ h m L) (hx : x ∈ L) : (∀ T, hK (hT h m L T) x = 127) ∧ kB κ ≤ x ∧ (∀ T, hV (hT h m L T) x 166 = rf (tmL T x)) ∧ (∀ T, hV (hT h m L T) x 167 = rf (tmR T x)) ∧ (∀ T, hV (hT h m L T) x 168 = rf (tmP T x)) ∧ (∀ T, hV (hT h m L T) x 169 = .int (Int32.ofNat (tmC T x).toNat)) ∧
    (∀ T, hW (hT h m L T) x 166 .null = hT h m L (tsL T x 0)) ∧ (∀ T, hW (hT h m L T) x 167 .null = hT h m L (tsR T x 0)) ∧ (∀ T, hW (hT h m L T) x 168 .null = hT h m L (tsP T x 0)) ∧
    (∀ T v, v ≠ 0 → hW (hT h m L T) x 166 (.ref v) = hT h m L (tsL T x v)) ∧ (∀ T v, v ≠ 0 → hW (hT h m L T) x 167 (.ref v) = hT h m L (tsR T x v)) ∧ (∀ T v, v ≠ 0 → hW (hT h m L T) x 168 (.ref v) = hT h m L (tsP T x v)) ∧
    (∀ T, hW (hT h m L T) x 169 (.int (Int32.ofNat 0)) = hT h m L (tsC T x false)) ∧ (∀ T, hW (hT h m L T) x 169 (.int (Int32.ofNat 1)) = hT h m L (tsC T x true)) := by
  have n := S.ne hx
  have e : ∀ (T : Tm) j, hV (hT h m L T) x j = _ := fun T j => by rw [hT_V, if_neg n, if_pos hx]
  exact ⟨fun _ => (S.2.2 x hx).1, (S.2.2 x hx).2.1, fun T => e T 166, fun T => e T 167, fun T => e T 168, fun T => e T 169, fun T => hT_WL (v := 0) n hx, fun T => hT_WR (v := 0) n hx, fun T => hT_WP (v := 0) n hx,
    fun T v hv => by rw [← rf_n hv]; exact hT_WL n hx, fun T v hv => by rw [← rf_n hv]; exact hT_WR n hx, fun T v hv => by rw [← rf_n hv]; exact hT_WP n hx, fun T => hT_WC (v := false) n hx, fun T => hT_WC (v := true) n hx⟩
theorem rooF (S : TS κ h m L) : (∀ T, hK (hT h m L T) m = 116) ∧ kB κ ≤ m ∧ (∀ T, hV (hT h m L T) m 153 = rf (tmO T)) ∧ (∀ T v, v ≠ 0 → hW (hT h m L T) m 153 (.ref v) = hT h m L (tsO T v)) := ⟨fun _ => S.1, S.2.1, fun T => hT_O _ _ _ T, fun T v hv => by rw [← rf_n hv]; exact hT_WO⟩
theorem e4_parentOf (S : TS κ h m L) (hx : x = 0 ∨ x ∈ L) : Ev κ mJ4_parentOf [rf x] (hT h m L T) Q = Q (.inl (some (rf (tpo (tmP T) x)))) (hT h m L T) := by
  unfold tpo
  rcases hx with rfl | hx
  · rw [if_pos rfl, rf_0, show Ev κ mJ4_parentOf [.null] (hT h m L T) Q = Go κ mJ4_parentOf 0 [some .null] [] (hT h m L T) Q from rfl]
    simp (disch := first | assumption | omega | decide) only [gB, I_all, zK_v, zK_n, true_and, and_true, Nat.reduceAdd, Nat.reduceMul, Nat.reduceSub, z_lt, z_le, z_neq, not_false_eq_true, or_true, true_or, or_false, false_or, false_and, and_false, gJ4_parentOf]
  · have x0 := (S.2.2 x hx).2.2
    obtain ⟨f1, f2, f3, f4, f5, -⟩ := nodF S hx
    rw [if_neg x0, rf_n x0]
    by_cases c : tmP T x = 0
    · simp (disch := first | assumption | omega | decide) only [gB, I_all, zK_v, zK_n, true_and, and_true, Nat.reduceAdd, Nat.reduceMul, Nat.reduceSub, z_lt, z_le, z_neq, not_false_eq_true, or_true, true_or, or_false, false_or, false_and, and_false, gJ4_parentOf, f1, f3, f4, f5, c, rf_0]
    · simp (disch := first | assumption | omega | decide) only [gB, I_all, zK_v, zK_n, true_and, and_true, Nat.reduceAdd, Nat.reduceMul, Nat.reduceSub, z_lt, z_le, z_neq, not_false_eq_true, or_true, true_or, or_false, false_or, false_and, and_false, gJ4_parentOf, f1, f3, f4, f5, rf_n c]
theorem e4_leftOf (S : TS κ h m L) (hx : x = 0 ∨ x ∈ L) : Ev κ mJ4_leftOf [rf x] (hT h m L T) Q = Q (.inl (some (rf (tpo (tmL T) x)))) (hT h m L T) := by
  unfold tpo
  rcases hx with rfl | hx
  · rw [if_pos rfl, rf_0, show Ev κ mJ4_leftOf [.null] (hT h m L T) Q = Go κ mJ4_leftOf 0 [some .null] [] (hT h m L T) Q from rfl]
    simp (disch := first | assumption | omega | decide) only [gB, I_all, zK_v, zK_n, true_and, and_true, Nat.reduceAdd, Nat.reduceMul, Nat.reduceSub, z_lt, z_le, z_neq, not_false_eq_true, or_true, true_or, or_false, false_or, false_and, and_false, gJ4_leftOf]
  · have x0 := (S.2.2 x hx).2.2
    obtain ⟨f1, f2, f3, f4, f5, -⟩ := nodF S hx
    rw [if_neg x0, rf_n x0]
    by_cases c : tmL T x = 0
    · simp (disch := first | assumption | omega | decide) only [gB, I_all, zK_v, zK_n, true_and, and_true, Nat.reduceAdd, Nat.reduceMul, Nat.reduceSub, z_lt, z_le, z_neq, not_false_eq_true, or_true, true_or, or_false, false_or, false_and, and_false, gJ4_leftOf, f1, f3, f4, f5, c, rf_0]
    · simp (disch := first | assumption | omega | decide) only [gB, I_all, zK_v, zK_n, true_and, and_true, Nat.reduceAdd, Nat.reduceMul, Nat.reduceSub, z_lt, z_le, z_neq, not_false_eq_true, or_true, true_or, or_false, false_or, false_and, and_false, gJ4_leftOf, f1, f3, f4, f5, rf_n c]
theorem e4_rightOf (S : TS κ h m L) (hx : x = 0 ∨ x ∈ L) : Ev κ mJ4_rightOf [rf x] (hT h m L T) Q = Q (.inl (some (rf (tpo (tmR T) x)))) (hT h m L T) := by
  unfold tpo
  rcases hx with rfl | hx
  · rw [if_pos rfl, rf_0, show Ev κ mJ4_rightOf [.null] (hT h m L T) Q = Go κ mJ4_rightOf 0 [some .null] [] (hT h m L T) Q from rfl]
    simp (disch := first | assumption | omega | decide) only [gB, I_all, zK_v, zK_n, true_and, and_true, Nat.reduceAdd, Nat.reduceMul, Nat.reduceSub, z_lt, z_le, z_neq, not_false_eq_true, or_true, true_or, or_false, false_or, false_and, and_false, gJ4_rightOf]
  · have x0 := (S.2.2 x hx).2.2
    obtain ⟨f1, f2, f3, f4, f5, -⟩ := nodF S hx
    rw [if_neg x0, rf_n x0]
    by_cases c : tmR T x = 0
    · simp (disch := first | assumption | omega | decide) only [gB, I_all, zK_v, zK_n, true_and, and_true, Nat.reduceAdd, Nat.reduceMul, Nat.reduceSub, z_lt, z_le, z_neq, not_false_eq_true, or_true, true_or, or_false, false_or, false_and, and_false, gJ4_rightOf, f1, f3, f4, f5, c, rf_0]
    · simp (disch := first | assumption | omega | decide) only [gB, I_all, zK_v, zK_n, true_and, and_true, Nat.reduceAdd, Nat.reduceMul, Nat.reduceSub, z_lt, z_le, z_neq, not_false_eq_true, or_true, true_or, or_false, false_or, false_and, and_false, gJ4_rightOf, f1, f3, f4, f5, rf_n c]
theorem e4_colorOf (S : TS κ h m L) (hx : x = 0 ∨ x ∈ L) : Ev κ mJ4_colorOf [rf x] (hT h m L T) Q = Q (.inl (some (.int (Int32.ofNat (tco T x).toNat)))) (hT h m L T) := by
  unfold tco
  rcases hx with rfl | hx
  · rw [if_pos rfl, rf_0, show Ev κ mJ4_colorOf [.null] (hT h m L T) Q = Go κ mJ4_colorOf 0 [some .null] [] (hT h m L T) Q from rfl]
    have nb : narrow .boolean (.int (Int32.ofNat 1)) = .int (Int32.ofNat 1) := rfl
    simp (disch := first | assumption | omega | decide) only [gB, I_all, zK_v, zK_n, true_and, and_true, Nat.reduceAdd, Nat.reduceMul, Nat.reduceSub, z_lt, z_le, z_neq, not_false_eq_true, or_true, true_or, or_false, false_or, false_and, and_false, gJ4_colorOf, Bool.toNat_true, nb]
  · have x0 := (S.2.2 x hx).2.2
    obtain ⟨f1, f2, f3, f4, f5, f6, -⟩ := nodF S hx
    rw [if_neg x0, rf_n x0]
    have nb0 : narrow .boolean (.int (Int32.ofNat 0)) = .int (Int32.ofNat 0) := rfl
    have nb1 : narrow .boolean (.int (Int32.ofNat 1)) = .int (Int32.ofNat 1) := rfl
    cases c : tmC T x with
    | false => simp (disch := first | assumption | omega | decide) only [gB, I_all, zK_v, zK_n, true_and, and_true, Nat.reduceAdd, Nat.reduceMul, Nat.reduceSub, z_lt, z_le, z_neq, not_false_eq_true, or_true, true_or, or_false, false_or, false_and, and_false, gJ4_colorOf, f1, f6, c, Bool.toNat_false, nb0]
    | true => simp (disch := first | assumption | omega | decide) only [gB, I_all, zK_v, zK_n, true_and, and_true, Nat.reduceAdd, Nat.reduceMul, Nat.reduceSub, z_lt, z_le, z_neq, not_false_eq_true, or_true, true_or, or_false, false_or, false_and, and_false, gJ4_colorOf, f1, f6, c, Bool.toNat_true, nb1]
theorem e4_setColor {v : Bool} {n : Nat} (hv : n = v.toNat) (S : TS κ h m L) (hx : x = 0 ∨ x ∈ L) : Ev κ mJ4_setColor [rf x, .int (Int32.ofNat n)] (hT h m L T) Q = Q (.inl none) (hT h m L (tsc T x v)) := by
  subst hv
  unfold tsc
  rcases hx with rfl | hx
  · rw [if_pos rfl, rf_0, show Ev κ mJ4_setColor [.null, .int (Int32.ofNat v.toNat)] (hT h m L T) Q = Go κ mJ4_setColor 0 [some .null, some (.int (Int32.ofNat v.toNat))] [] (hT h m L T) Q from rfl]
    simp (disch := first | assumption | omega | decide) only [gB, I_all, zK_v, zK_n, true_and, and_true, Nat.reduceAdd, Nat.reduceMul, Nat.reduceSub, z_lt, z_le, z_neq, not_false_eq_true, or_true, true_or, or_false, false_or, false_and, and_false, gJ4_setColor]
  · have x0 := (S.2.2 x hx).2.2
    obtain ⟨f1, f2, -, -, -, -, -, -, -, -, -, -, f7, f8⟩ := nodF S hx
    rw [if_neg x0, rf_n x0]
    have zf0 : zFit .boolean (.int (Int32.ofNat 0)) = true := by decide
    have zf1 : zFit .boolean (.int (Int32.ofNat 1)) = true := by decide
    cases v with
    | false => simp (disch := first | assumption | omega | decide) only [gB, I_all, zK_v, zK_n, true_and, and_true, Nat.reduceAdd, Nat.reduceMul, Nat.reduceSub, z_lt, z_le, z_neq, not_false_eq_true, or_true, true_or, or_false, false_or, false_and, and_false, gJ4_setColor, f1, f2, f7, Bool.toNat_false, zf0]
    | true => simp (disch := first | assumption | omega | decide) only [gB, I_all, zK_v, zK_n, true_and, and_true, Nat.reduceAdd, Nat.reduceMul, Nat.reduceSub, z_lt, z_le, z_neq, not_false_eq_true, or_true, true_or, or_false, false_or, false_and, and_false, gJ4_setColor, f1, f2, f8, Bool.toNat_true, zf1]
theorem e4_rotateLeft (S : TS κ h m (inO t)) (W : TW T t) (hp : p ∈ inO t) (r0 : tmR T p ≠ 0) : Ev κ mJ4_rotateLeft [.ref m, .ref p] (hT h m (inO t) T) Q = Q (.inl none) (hT h m (inO t) (roL T p)) := by
  have p0 := (S.2.2 p hp).2.2
  obtain ⟨r, hr⟩ : ∃ r, tmR T p = r := ⟨_, rfl⟩
  obtain ⟨q, hq⟩ : ∃ q, tmP T p = q := ⟨_, rfl⟩
  obtain ⟨s, hs⟩ : ∃ s, tmL T r = s := ⟨_, rfl⟩
  rw [hr] at r0
  have D := ro_D hr hq hs r0 W.1 W.2 hp
  obtain ⟨d1, d2, d3, d4, d5, d6⟩ := D
  have Fp := nodF S hp
  have Fr := nodF S d1
  have Fm := rooF S
  have q1 : q = 0 ∨ (q ≠ 0 ∧ q ∈ inO t ∧ q ≠ p ∧ q ≠ r) := d6.elim Or.inl fun z => Or.inr ⟨(S.2.2 q z.1).2.2, z⟩
  have s1 : s = 0 ∨ (s ≠ 0 ∧ s ∈ inO t) := d3.elim Or.inl fun z => Or.inr ⟨(S.2.2 s z).2.2, z⟩
  have d2' := d2.symm
  have key : ∀ T1 : Tm, roL1 T p r = T1 → tmL T1 = tmL T → tmP T1 p = q → Go κ mJ4_rotateLeft 32 [some (.ref m), some (.ref p), some (.ref r)] [] (hT h m (inO t) T1) Q = Q (.inl none) (hT h m (inO t) (roL T p)) := fun T1 eT eL eP => by
    have eP' : tmP (tsP T1 r q) p = q := (zu_ne _ _ d2').trans eP
    have eL2 : tmL (tsP T1 r q) q = tmL T q := by show tmL T1 q = _; rw [eL]
    rcases q1 with q0 | ⟨q0, q2, q3, q4⟩
    · have e : roL T p = tsP (tsL (tsO (tsP T1 r q) r) r p) p r := by
        unfold roL
        rw [if_neg p0, hr, eT]
        unfold roL2
        dsimp only
        rw [eP, eP', if_pos q0]
      rw [e]
      subst q0
      simp (disch := first | assumption | omega | decide) only [gB, I_all, zK_v, zK_n, true_and, and_true, Nat.reduceAdd, Nat.reduceMul, Nat.reduceSub, z_lt, z_le, z_neq, not_false_eq_true, or_true, true_or, or_false, false_or, false_and, and_false, gJ4_rotateLeft, tm_all, Fp, Fr, Fm, eP, zu_eq, zu_ne, rf_0, rf_n r0, rf_n p0]
    · have Fq := nodF S q2
      by_cases c : tmL T q = p
      · have e : roL T p = tsP (tsL (tsL (tsP T1 r q) q r) r p) p r := by
          unfold roL
          rw [if_neg p0, hr, eT]
          unfold roL2
          dsimp only
          rw [eP, eP', if_neg q0, eL2, if_pos c]
        rw [e]
        have eL' : tmL T1 q = p := by rw [eL]; exact c
        simp (disch := first | assumption | omega | decide) only [gB, I_all, zK_v, zK_n, true_and, and_true, Nat.reduceAdd, Nat.reduceMul, Nat.reduceSub, z_lt, z_le, z_neq, not_false_eq_true, or_true, true_or, or_false, false_or, false_and, and_false, gJ4_rotateLeft, tm_all, Fp, Fr, Fm, Fq, eP, eL', zu_eq, zu_ne, rf_n q0, rf_n r0, rf_n p0]
      · have e : roL T p = tsP (tsL (tsR (tsP T1 r q) q r) r p) p r := by
          unfold roL
          rw [if_neg p0, hr, eT]
          unfold roL2
          dsimp only
          rw [eP, eP', if_neg q0, eL2, if_neg c]
        rw [e]
        have eL' : tmL T1 q = tmL T q := by rw [eL]
        obtain ⟨w, hw⟩ : ∃ w, tmL T q = w := ⟨_, rfl⟩
        rw [hw] at eL' c
        by_cases w0 : w = 0
        · subst w0
          simp (disch := first | assumption | omega | decide) only [gB, I_all, zK_v, zK_n, true_and, and_true, Nat.reduceAdd, Nat.reduceMul, Nat.reduceSub, z_lt, z_le, z_neq, not_false_eq_true, or_true, true_or, or_false, false_or, false_and, and_false, gJ4_rotateLeft, tm_all, Fp, Fr, Fm, Fq, eP, eL', zu_eq, zu_ne, rf_0, rf_n q0, rf_n r0, rf_n p0]
        · have c' : ¬ p = w := fun z => c z.symm
          simp (disch := first | assumption | omega | decide) only [gB, I_all, zK_v, zK_n, true_and, and_true, Nat.reduceAdd, Nat.reduceMul, Nat.reduceSub, z_lt, z_le, z_neq, not_false_eq_true, or_true, true_or, or_false, false_or, false_and, and_false, gJ4_rotateLeft, tm_all, Fp, Fr, Fm, Fq, eP, eL', zu_eq, zu_ne, rf_n w0, rf_n q0, rf_n r0, rf_n p0]
  have hs' : tmL (tsR T p s) r = s := hs
  rcases s1 with s0 | ⟨s0, s2⟩
  · have k := key (tsR T p s) (by unfold roL1; dsimp only; rw [hs, hs', if_pos s0]) rfl hq
    subst s0
    rw [← k]
    simp (disch := first | assumption | omega | decide) only [gB, I_all, zK_v, zK_n, true_and, and_true, Nat.reduceAdd, Nat.reduceMul, Nat.reduceSub, z_lt, z_le, z_neq, not_false_eq_true, or_true, true_or, or_false, false_or, false_and, and_false, gJ4_rotateLeft, tm_all, Fp, Fr, hr, hs, zu_eq, zu_ne, rf_0, rf_n r0]
  · have Fs := nodF S s2
    have k := key (tsP (tsR T p s) s p) (by unfold roL1; dsimp only; rw [hs, hs', if_neg s0]) rfl ((zu_ne _ _ (fun z => d4 z.symm)).trans hq)
    rw [← k]
    simp (disch := first | assumption | omega | decide) only [gB, I_all, zK_v, zK_n, true_and, and_true, Nat.reduceAdd, Nat.reduceMul, Nat.reduceSub, z_lt, z_le, z_neq, not_false_eq_true, or_true, true_or, or_false, false_or, false_and, and_false, gJ4_rotateLeft, tm_all, Fp, Fr, Fs, hr, hs, zu_eq, zu_ne, rf_n s0, rf_n r0, rf_n p0]
theorem e4_rotateLeft0 : Ev κ mJ4_rotateLeft [.ref m, .null] h Q = Q (.inl none) h := by
  rw [show Ev κ mJ4_rotateLeft [.ref m, .null] h Q = Go κ mJ4_rotateLeft 0 [some (.ref m), some .null, none] [] h Q from rfl]
  simp (disch := first | assumption | omega | decide) only [gB, I_all, zK_v, zK_n, true_and, and_true, Nat.reduceAdd, Nat.reduceMul, Nat.reduceSub, z_lt, z_le, z_neq, not_false_eq_true, or_true, true_or, or_false, false_or, false_and, and_false, gJ4_rotateLeft]
theorem e4_rotateRight (S : TS κ h m (inO t)) (W : TW T t) (hp : p ∈ inO t) (r0 : tmL T p ≠ 0) : Ev κ mJ4_rotateRight [.ref m, .ref p] (hT h m (inO t) T) Q = Q (.inl none) (hT h m (inO t) (roR T p)) := by
  have p0 := (S.2.2 p hp).2.2
  obtain ⟨r, hr⟩ : ∃ r, tmL T p = r := ⟨_, rfl⟩
  obtain ⟨q, hq⟩ : ∃ q, tmP T p = q := ⟨_, rfl⟩
  obtain ⟨s, hs⟩ : ∃ s, tmR T r = s := ⟨_, rfl⟩
  rw [hr] at r0
  have D := ro_D (T := mir T) hr hq hs r0 (mir_W W).1 (mir_W W).2 (by rw [mtr_in]; exact List.mem_reverse.mpr hp)
  rw [mtr_in, List.mem_reverse, List.mem_reverse, List.mem_reverse] at D
  obtain ⟨d1, d2, d3, d4, d5, d6⟩ := D
  have Fp := nodF S hp
  have Fr := nodF S d1
  have Fm := rooF S
  have q1 : q = 0 ∨ (q ≠ 0 ∧ q ∈ inO t ∧ q ≠ p ∧ q ≠ r) := d6.elim Or.inl fun z => Or.inr ⟨(S.2.2 q z.1).2.2, z⟩
  have s1 : s = 0 ∨ (s ≠ 0 ∧ s ∈ inO t) := d3.elim Or.inl fun z => Or.inr ⟨(S.2.2 s z).2.2, z⟩
  have d2' := d2.symm
  have key : ∀ T1 : Tm, roR1 T p r = T1 → tmR T1 = tmR T → tmP T1 p = q → Go κ mJ4_rotateRight 32 [some (.ref m), some (.ref p), some (.ref r)] [] (hT h m (inO t) T1) Q = Q (.inl none) (hT h m (inO t) (roR T p)) := fun T1 eT eL eP => by
    have eP' : tmP (tsP T1 r q) p = q := (zu_ne _ _ d2').trans eP
    have eL2 : tmR (tsP T1 r q) q = tmR T q := by show tmR T1 q = _; rw [eL]
    rcases q1 with q0 | ⟨q0, q2, q3, q4⟩
    · have e : roR T p = tsP (tsR (tsO (tsP T1 r q) r) r p) p r := by
        unfold roR
        rw [if_neg p0, hr, eT]
        unfold roR2
        dsimp only
        rw [eP, eP', if_pos q0]
      rw [e]
      subst q0
      simp (disch := first | assumption | omega | decide) only [gB, I_all, zK_v, zK_n, true_and, and_true, Nat.reduceAdd, Nat.reduceMul, Nat.reduceSub, z_lt, z_le, z_neq, not_false_eq_true, or_true, true_or, or_false, false_or, false_and, and_false, gJ4_rotateRight, tm_all, Fp, Fr, Fm, eP, zu_eq, zu_ne, rf_0, rf_n r0, rf_n p0]
    · have Fq := nodF S q2
      by_cases c : tmR T q = p
      · have e : roR T p = tsP (tsR (tsR (tsP T1 r q) q r) r p) p r := by
          unfold roR
          rw [if_neg p0, hr, eT]
          unfold roR2
          dsimp only
          rw [eP, eP', if_neg q0, eL2, if_pos c]
        rw [e]
        have eL' : tmR T1 q = p := by rw [eL]; exact c
        simp (disch := first | assumption | omega | decide) only [gB, I_all, zK_v, zK_n, true_and, and_true, Nat.reduceAdd, Nat.reduceMul, Nat.reduceSub, z_lt, z_le, z_neq, not_false_eq_true, or_true, true_or, or_false, false_or, false_and, and_false, gJ4_rotateRight, tm_all, Fp, Fr, Fm, Fq, eP, eL', zu_eq, zu_ne, rf_n q0, rf_n r0, rf_n p0]
      · have e : roR T p = tsP (tsR (tsL (tsP T1 r q) q r) r p) p r := by
          unfold roR
          rw [if_neg p0, hr, eT]
          unfold roR2
          dsimp only
          rw [eP, eP', if_neg q0, eL2, if_neg c]
        rw [e]
        have eL' : tmR T1 q = tmR T q := by rw [eL]
        obtain ⟨w, hw⟩ : ∃ w, tmR T q = w := ⟨_, rfl⟩
        rw [hw] at eL' c
        by_cases w0 : w = 0
        · subst w0
          simp (disch := first | assumption | omega | decide) only [gB, I_all, zK_v, zK_n, true_and, and_true, Nat.reduceAdd, Nat.reduceMul, Nat.reduceSub, z_lt, z_le, z_neq, not_false_eq_true, or_true, true_or, or_false, false_or, false_and, and_false, gJ4_rotateRight, tm_all, Fp, Fr, Fm, Fq, eP, eL', zu_eq, zu_ne, rf_0, rf_n q0, rf_n r0, rf_n p0]
        · have c' : ¬ p = w := fun z => c z.symm
          simp (disch := first | assumption | omega | decide) only [gB, I_all, zK_v, zK_n, true_and, and_true, Nat.reduceAdd, Nat.reduceMul, Nat.reduceSub, z_lt, z_le, z_neq, not_false_eq_true, or_true, true_or, or_false, false_or, false_and, and_false, gJ4_rotateRight, tm_all, Fp, Fr, Fm, Fq, eP, eL', zu_eq, zu_ne, rf_n w0, rf_n q0, rf_n r0, rf_n p0]
  have hs' : tmR (tsL T p s) r = s := hs
  rcases s1 with s0 | ⟨s0, s2⟩
  · have k := key (tsL T p s) (by unfold roR1; dsimp only; rw [hs, hs', if_pos s0]) rfl hq
    subst s0
    rw [← k]
    simp (disch := first | assumption | omega | decide) only [gB, I_all, zK_v, zK_n, true_and, and_true, Nat.reduceAdd, Nat.reduceMul, Nat.reduceSub, z_lt, z_le, z_neq, not_false_eq_true, or_true, true_or, or_false, false_or, false_and, and_false, gJ4_rotateRight, tm_all, Fp, Fr, hr, hs, zu_eq, zu_ne, rf_0, rf_n r0]
  · have Fs := nodF S s2
    have k := key (tsP (tsL T p s) s p) (by unfold roR1; dsimp only; rw [hs, hs', if_neg s0]) rfl ((zu_ne _ _ (fun z => d4 z.symm)).trans hq)
    rw [← k]
    simp (disch := first | assumption | omega | decide) only [gB, I_all, zK_v, zK_n, true_and, and_true, Nat.reduceAdd, Nat.reduceMul, Nat.reduceSub, z_lt, z_le, z_neq, not_false_eq_true, or_true, true_or, or_false, false_or, false_and, and_false, gJ4_rotateRight, tm_all, Fp, Fr, Fs, hr, hs, zu_eq, zu_ne, rf_n s0, rf_n r0, rf_n p0]
theorem e4_rotateRight0 : Ev κ mJ4_rotateRight [.ref m, .null] h Q = Q (.inl none) h := by
  rw [show Ev κ mJ4_rotateRight [.ref m, .null] h Q = Go κ mJ4_rotateRight 0 [some (.ref m), some .null, none] [] h Q from rfl]
  simp (disch := first | assumption | omega | decide) only [gB, I_all, zK_v, zK_n, true_and, and_true, Nat.reduceAdd, Nat.reduceMul, Nat.reduceSub, z_lt, z_le, z_neq, not_false_eq_true, or_true, true_or, or_false, false_or, false_and, and_false, gJ4_rotateRight]
end
