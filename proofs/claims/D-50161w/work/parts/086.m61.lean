/-! the twin: load, joined -/
theorem clW_o {W : Nat → Nat → Int32} {ns nb nf k j : Nat} (h : k ≠ 13) (h2 : ¬ (k = 21 ∧ j < 2)) (h3 : ¬ (k = 0 ∧ j = 102)) : clW W ns nb nf k j = W k j := by
  unfold clW c5W c3W c1W
  rw [zv_nx h3, zv_nx (by omega), zv_nx (by omega), if_neg (by omega), if_neg (by omega), cpy_out (by omega), if_neg (by omega), if_neg (by omega), cpy_out (by omega), zv_nx (by omega), if_neg (by omega)]
theorem clW_13 {W : Nat → Nat → Int32} {ns nb nf j : Nat} (hj : j < 3614) : clW W ns nb nf 13 j = if 164 ≤ j ∧ j < 164 + 13 * nb ∧ (j - 164) % 13 = 2 then W 8 ((j - 164) / 13) else if 164 ≤ j ∧ j < 164 + 13 * nb ∧ ((j - 164) % 13 = 6 ∨ (j - 164) % 13 = 10) then Int32.ofInt (-2)
    else if 63 ≤ j ∧ j < 63 + nf then W 12 (j - 63) else if 13 ≤ j ∧ j < 13 + ns then W 6 (j - 13) else if 33 ≤ j ∧ j < 33 + ns then Int32.ofInt (-2) else if 2 ≤ j ∧ j < 6 then W 2 (j - 2) else if j = 1 then W 0 81 else Int32.ofNat 0 := by
  have o1 : ∀ k i, k ≠ 13 → (zv (c1W W 3614) 13 1 (W 0 81)) k i = W k i := fun k i hk => by
    unfold c1W
    rw [zv_nx (by omega), if_neg (by omega)]
  have s1 : (zv (c1W W 3614) 13 1 (W 0 81)) 13 j = if j = 1 then W 0 81 else Int32.ofNat 0 := by
    unfold c1W zv
    exact ite_congr (propext ⟨fun h => by omega, fun h => by omega⟩) (fun _ => rfl) fun _ => if_pos (by omega)
  have o2 : ∀ k i, k ≠ 13 → (cpy (zv (c1W W 3614) 13 1 (W 0 81)) 13 2 2 0 4) k i = W k i := fun k i hk => by
    rw [cpy_out (by omega), o1 k i hk]
  have s2 : (cpy (zv (c1W W 3614) 13 1 (W 0 81)) 13 2 2 0 4) 13 j = if 2 ≤ j ∧ j < 6 then W 2 (j - 2) else if j = 1 then W 0 81 else Int32.ofNat 0 := by
    rw [← s1]
    unfold cpy
    exact ite_congr (propext ⟨fun h => by omega, fun h => by omega⟩) (fun _ => by rw [o1 _ _ (by decide), Nat.zero_add]) fun _ => rfl
  have o3 : ∀ k i, k ≠ 13 → (c3W (cpy (zv (c1W W 3614) 13 1 (W 0 81)) 13 2 2 0 4) ns) k i = W k i := fun k i hk => by
    unfold c3W
    rw [if_neg (by omega), if_neg (by omega), o2 k i hk]
  have s3 : (c3W (cpy (zv (c1W W 3614) 13 1 (W 0 81)) 13 2 2 0 4) ns) 13 j = if 13 ≤ j ∧ j < 13 + ns then W 6 (j - 13) else if 33 ≤ j ∧ j < 33 + ns then Int32.ofInt (-2) else if 2 ≤ j ∧ j < 6 then W 2 (j - 2) else if j = 1 then W 0 81 else Int32.ofNat 0 := by
    rw [← s2]
    unfold c3W
    exact ite_congr (propext ⟨fun h => by omega, fun h => by omega⟩) (fun _ => o2 _ _ (by decide)) fun _ => ite_congr (propext ⟨fun h => by omega, fun h => by omega⟩) (fun _ => rfl) fun _ => rfl
  have o4 : ∀ k i, k ≠ 13 → (cpy (c3W (cpy (zv (c1W W 3614) 13 1 (W 0 81)) 13 2 2 0 4) ns) 13 63 12 0 nf) k i = W k i := fun k i hk => by
    rw [cpy_out (by omega), o3 k i hk]
  have s4 : (cpy (c3W (cpy (zv (c1W W 3614) 13 1 (W 0 81)) 13 2 2 0 4) ns) 13 63 12 0 nf) 13 j = if 63 ≤ j ∧ j < 63 + nf then W 12 (j - 63) else if 13 ≤ j ∧ j < 13 + ns then W 6 (j - 13) else if 33 ≤ j ∧ j < 33 + ns then Int32.ofInt (-2) else if 2 ≤ j ∧ j < 6 then W 2 (j - 2) else if j = 1 then W 0 81 else Int32.ofNat 0 := by
    rw [← s3]
    unfold cpy
    refine ite_congr (propext ⟨fun h => by omega, fun h => by omega⟩) (fun _ => ?_) fun _ => rfl
    rw [Nat.zero_add]
    exact o3 _ _ (by decide)
  unfold clW
  rw [zv_nx (by omega), zv_nx (by omega), zv_nx (by omega), ← s4]
  unfold c5W
  exact ite_congr (propext ⟨fun h => by omega, fun h => by omega⟩) (fun _ => o4 _ _ (by decide)) fun _ => ite_congr (propext ⟨fun h => by omega, fun h => by omega⟩) (fun _ => rfl) fun _ => rfl
theorem bcZ_s {W : Nat → Nat → Int32} {ns nb nf k j : Nat} (h : k < 3 ∨ 12 < k) : bcZ W ns nb nf k j = bcA W k j := by
  unfold bcZ bcW
  rw [if_neg (by omega), if_neg (by omega), if_neg (by omega)]
theorem bcA_s {W : Nat → Nat → Int32} {k j : Nat} (h : k ≠ 0) (h2 : k ≠ 2) : bcA W k j = W k j := by
  unfold bcA
  rw [zv_nx (by omega), cpy_out (by omega), zv_nx (by omega), zv_nx (by omega), zv_nx (by omega), zv_nx (by omega), zv_nx (by omega), zv_nx (by omega)]
theorem bcA_2 {W : Nat → Nat → Int32} {j : Nat} (h : j < 4) : bcA W 2 j = W 22 (3 + j) := by
  unfold bcA
  have e := cpy_in (W := zv (zv (zv (zv (zv (zv W 0 75 (W 0 111)) 0 76 (W 0 112)) 0 77 (W 0 113)) 0 78 (W 22 0)) 0 79 (W 22 1)) 0 80 (W 22 2)) (kd := 2) (od := 0) (ks := 22) (os := 3) (n := 4) h
  rw [Nat.zero_add] at e
  rw [zv_nx (by omega), e, zv_nx (by omega), zv_nx (by omega), zv_nx (by omega), zv_nx (by omega), zv_nx (by omega), zv_nx (by omega)]
theorem bcA_0 {W : Nat → Nat → Int32} {j : Nat} : bcA W 0 j = if j = 81 then W 22 7 else if j = 80 then W 22 2 else if j = 79 then W 22 1 else if j = 78 then W 22 0 else if j = 77 then W 0 113 else if j = 76 then W 0 112 else if j = 75 then W 0 111 else W 0 j := by
  unfold bcA zv cpy
  refine ite_congr (propext ⟨fun h => h.2, fun h => ⟨rfl, h⟩⟩) (fun _ => rfl) fun _ => ?_
  rw [if_neg (by omega)]
  refine ite_congr (propext ⟨fun h => h.2, fun h => ⟨rfl, h⟩⟩) (fun _ => rfl) fun _ => ?_
  refine ite_congr (propext ⟨fun h => h.2, fun h => ⟨rfl, h⟩⟩) (fun _ => rfl) fun _ => ?_
  refine ite_congr (propext ⟨fun h => h.2, fun h => ⟨rfl, h⟩⟩) (fun _ => rfl) fun _ => ?_
  refine ite_congr (propext ⟨fun h => h.2, fun h => ⟨rfl, h⟩⟩) (fun _ => rfl) fun _ => ?_
  refine ite_congr (propext ⟨fun h => h.2, fun h => ⟨rfl, h⟩⟩) (fun _ => rfl) fun _ => ?_
  exact ite_congr (propext ⟨fun h => h.2, fun h => ⟨rfl, h⟩⟩) (fun _ => rfl) fun _ => rfl
theorem bcZ_3 {W : Nat → Nat → Int32} {ns nb nf k j : Nat} (h : 3 ≤ k ∧ k ≤ 6) (hj : j < ns) : bcZ W ns nb nf k j = W (k + 20) j := by
  unfold bcZ bcW
  rw [if_neg (by omega), if_neg (by omega), if_pos (by omega), bcA_s (by omega) (by omega)]
theorem bcZ_7 {W : Nat → Nat → Int32} {ns nb nf k j : Nat} (h : 7 ≤ k ∧ k ≤ 8) (hj : j < nb) : bcZ W ns nb nf k j = W (k + 20) j := by
  unfold bcZ bcW
  rw [if_neg (by omega), if_pos (by omega), if_neg (by omega), bcA_s (by omega) (by omega)]
theorem bcZ_9 {W : Nat → Nat → Int32} {ns nb nf k j : Nat} (h : 9 ≤ k ∧ k ≤ 12) (hj : j < nf) : bcZ W ns nb nf k j = W (k + 20) j := by
  unfold bcZ bcW
  rw [if_pos (by omega), if_neg (by omega), if_neg (by omega), bcA_s (by omega) (by omega)]
theorem gtV {α β : Type} {l : List α} {j : Nat} {f : α → β} {d v : β} (h : j < l.length) (e : ∀ x, l[j]? = some x → v = f x) : v = (l[j]?.map f).getD d := by
  rw [List.getElem?_eq_getElem h]
  exact e _ (List.getElem?_eq_getElem h)
/-- the world that loading makes -/
theorem WAt_C {V : Nat → Nat → Int32} {SM : Nat → Nat → Int64} {nu : Nat → Int32} {S : List Sto} {B : List Bup} {Fl : List Flo} (lS : S.length ≤ 10) (lB : B.length ≤ 6) (lF : Fl.length ≤ 16) (v6 : ∀ j x, S[j]? = some x → V 6 j = boI x.2.2.2) (v8 : ∀ j x, B[j]? = some x → V 8 j = x.2) (v12 : ∀ j x, Fl[j]? = some x → V 12 j = x.2.2.2) (v81 : V 0 81 = nu 7) (v2 : ∀ j, j < 4 → V 2 j = nu (3 + j)) :
    WAt (clW V S.length B.length Fl.length 13) (clS SM 14) (stZ nu S B Fl) := by
  have c13 := fun (j : Nat) (hj : j < 3614) => clW_13 (W := V) (ns := S.length) (nb := B.length) (nf := Fl.length) hj
  have z : ∀ j, j < 3614 → ¬ (164 ≤ j ∧ j < 164 + 13 * B.length ∧ ((j - 164) % 13 = 2 ∨ (j - 164) % 13 = 6 ∨ (j - 164) % 13 = 10)) → ¬ (63 ≤ j ∧ j < 63 + Fl.length) → ¬ (13 ≤ j ∧ j < 13 + S.length) → ¬ (33 ≤ j ∧ j < 33 + S.length) → ¬ (1 ≤ j ∧ j < 6) → clW V S.length B.length Fl.length 13 j = Int32.ofNat 0 := fun j h0 h1 h2 h3 h4 h5 => by
    rw [c13 j h0, if_neg (by omega), if_neg (by omega), if_neg (by omega), if_neg (by omega), if_neg (by omega), if_neg (by omega), if_neg (by omega)]
  refine ⟨fun j hj => ?_, fun s hs => ⟨z _ (by omega) (by omega) (by omega) (by omega) (by omega) (by omega), fun i r hi => by cases hi⟩, fun s hs => ⟨z _ (by omega) (by omega) (by omega) (by omega) (by omega) (by omega), fun i r hi => by cases hi⟩, fun b hb => ?_, ⟨z _ (by omega) (by omega) (by omega) (by omega) (by omega) (by omega), fun i r hi => by cases hi⟩, ?_, ?_⟩
  · unfold nat1 at hj
    rw [c13 j (by omega), if_neg (by omega), if_neg (by omega)]
    show _ = stN nu S Fl j
    unfold stN
    by_cases h1 : j = 1
    · rw [if_neg (by omega), if_neg (by omega), if_neg (by omega), if_neg (by omega), if_pos h1, if_pos h1, v81]
    · rw [if_neg h1, if_neg h1]
      by_cases h2 : 2 ≤ j ∧ j < 6
      · rw [if_neg (by omega), if_neg (by omega), if_neg (by omega), if_pos h2, if_pos h2, v2 _ (by omega)]
        congr 1
        omega
      · rw [if_neg h2, if_neg h2]
        by_cases h3 : 13 ≤ j ∧ j < 13 + S.length
        · rw [if_neg (by omega), if_pos h3, if_pos h3]
          exact gtV (by omega) fun x hx => v6 _ _ hx
        · rw [if_neg h3, if_neg h3]
          by_cases h4 : 33 ≤ j ∧ j < 33 + S.length
          · rw [if_neg (by omega), if_pos h4, if_pos h4]
          · rw [if_neg h4, if_neg h4]
            by_cases h5 : 63 ≤ j ∧ j < 63 + Fl.length
            · rw [if_pos h5, if_pos h5]
              exact gtV (by omega) fun x hx => v12 _ _ hx
            · rw [if_neg h5, if_neg h5]
  · have e2 : clW V S.length B.length Fl.length 13 (164 + 13 * b + 2) = if b < B.length then (B[b]?.map fun b => b.2).getD 0 else Int32.ofNat 0 := by
      by_cases hB : b < B.length
      · rw [c13 _ (by omega), if_pos (by omega), if_pos hB, show (164 + 13 * b + 2 - 164) / 13 = b by omega]
        exact gtV hB fun x hx => v8 _ _ hx
      · rw [if_neg hB]
        exact z _ (by omega) (by omega) (by omega) (by omega) (by omega) (by omega)
    have e6 : ∀ k, k = 6 ∨ k = 10 → clW V S.length B.length Fl.length 13 (164 + 13 * b + k) = if b < B.length then Int32.ofInt (-2) else Int32.ofNat 0 := by
      intro k hk
      by_cases hB : b < B.length
      · rw [c13 _ (by omega), if_neg (by omega), if_pos (by omega), if_pos hB]
      · rw [if_neg hB]
        exact z _ (by omega) (by omega) (by omega) (by omega) (by omega) (by omega)
    have e0 : ∀ k, k < 13 → k ≠ 2 → k ≠ 6 → k ≠ 10 → clW V S.length B.length Fl.length 13 (164 + 13 * b + k) = Int32.ofNat 0 := fun k h0 h1 h2 h3 => z _ (by omega) (by omega) (by omega) (by omega) (by omega) (by omega)
    refine ⟨fun k hk => ?_, e0 4 (by decide) (by decide) (by decide) (by decide), fun i r hi => (by cases hi), ?_, ?_⟩
    · show _ = (stB B b).1 k
      unfold stB
      have hk' : k = 0 ∨ k = 1 ∨ k = 2 ∨ k = 3 ∨ k = 5 ∨ k = 6 ∨ k = 8 ∨ k = 9 := by
        simpa [bKs] using hk
      rcases hk' with rfl | rfl | rfl | rfl | rfl | rfl | rfl | rfl
      · rw [e0 _ (by decide) (by decide) (by decide) (by decide)]; split <;> rfl
      · rw [e0 _ (by decide) (by decide) (by decide) (by decide)]; split <;> rfl
      · rw [e2]; rfl
      · rw [e0 _ (by decide) (by decide) (by decide) (by decide)]; split <;> rfl
      · rw [e0 _ (by decide) (by decide) (by decide) (by decide)]; split <;> rfl
      · rw [e6 6 (Or.inl rfl)]; rfl
      · rw [e0 _ (by decide) (by decide) (by decide) (by decide)]; split <;> rfl
      · rw [e0 _ (by decide) (by decide) (by decide) (by decide)]; split <;> rfl
    · by_cases hB : b < B.length
      · left
        refine ⟨?_, ?_⟩
        · show (if b < B.length then (if (6 = 2 ∨ 6 = 10 ∨ 6 = 11) then _ else if (6 = 6 ∨ 6 = 7) then Int32.ofInt (-2) else Int32.ofNat 0) else Int32.ofNat 0) < Int32.ofNat 0
          rw [if_pos hB, if_neg (by decide), if_pos (by decide)]
          decide
        · show (if b < B.length then (if (7 = 2 ∨ 7 = 10 ∨ 7 = 11) then _ else if (7 = 6 ∨ 7 = 7) then Int32.ofInt (-2) else Int32.ofNat 0) else Int32.ofNat 0) = _
          rw [if_pos hB, if_neg (by decide), if_pos (by decide)]
      · right
        refine ⟨?_, ?_⟩
        · show ¬ (if b < B.length then _ else Int32.ofNat 0) < Int32.ofNat 0
          rw [if_neg hB]
          decide
        · rw [e0 7 (by decide) (by decide) (by decide) (by decide)]
          show _ = (if b < B.length then _ else Int32.ofNat 0)
          rw [if_neg hB]
    · rw [e6 10 (Or.inr rfl), e0 11 (by decide) (by decide) (by decide) (by decide)]
      by_cases hB : b < B.length
      · left
        rw [if_pos hB]
        exact ⟨by decide, rfl⟩
      · right
        rw [if_neg hB]
        refine ⟨by decide, ?_, ?_⟩
        · show _ = (if b < B.length then _ else Int32.ofNat 0)
          rw [if_neg hB]
        · show _ = (if b < B.length then _ else Int32.ofNat 0)
          rw [if_neg hB]
  · exact zv_nx (by omega) |>.trans (zv_at rfl rfl)
  · exact zv_at rfl rfl
theorem WAt_Z {W : Nat → Nat → Int32} {SM : Nat → Nat → Int64} {nu : Nat → Int32} {S : List Sto} {B : List Bup} {Fl : List Flo} (lS : S.length ≤ 10) (lB : B.length ≤ 6) (lF : Fl.length ≤ 16) (AS : AcS W S) (AB : AcB W B) (AF : AcF W Fl) (AN : ∀ k, k < 8 → W 22 k = nu k) :
    WAt (clW (bcZ W S.length B.length Fl.length) S.length B.length Fl.length 13) (clS SM 14) (stZ nu S B Fl) := by
  have ln : ∀ {α : Type} {l : List α} {j : Nat} {x : α}, l[j]? = some x → j < l.length := fun h => (List.getElem?_eq_some_iff.mp h).1
  refine WAt_C lS lB lF (fun j x hx => ?_) (fun j x hx => ?_) (fun j x hx => ?_) ?_ fun j hj => ?_
  · rw [bcZ_3 (by omega) (ln hx)]; exact (AS.1 _ _ hx).2.2.2
  · rw [bcZ_7 (by omega) (ln hx)]; exact (AB _ _ hx).2
  · rw [bcZ_9 (by omega) (ln hx)]; exact (AF _ _ hx).2.2.2
  · rw [bcZ_s (by omega), bcA_0, if_pos rfl, AN 7 (by decide)]
  · rw [bcZ_s (by omega), bcA_2 hj, AN _ (by omega)]
