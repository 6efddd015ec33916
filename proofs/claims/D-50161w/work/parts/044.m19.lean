/-! the twin: telling, against the spec -/
section
variable {κ : zC} {h : zH} {b : Nat} {w : Nat → Int32} {sm : Nat → Int64} {o : Int32} {Q : zQ} {σ : Sg} {π : Pl}
theorem e7_te {k c s : Nat} {t v : Int32} (S : MSh κ h b) (W : WAt w sm σ) (OK : sOk π σ) (hq : ∀ w', WAt w' sm (sTe σ t k c s v) → Q (.inl none) (hM h b w' sm o)) :
    Ev κ mX7_tells [.ref b, .int t, .int (Int32.ofNat k), .int (Int32.ofNat c), .int (Int32.ofNat s), .int v] (hM h b w sm o) Q := by
  have G := W.2.2.2.2.1
  have hl := OK.2.2.2.1
  rw [e7_tells (n := (sG σ).length) S hl G.1]
  unfold sTe at hq
  by_cases h30 : (sG σ).length = 30
  · rw [if_pos h30] at hq ⊢
    have G1 := GAt_drop G h30
    have G2 := GAt_gW (t := t) (v := v) (k := k) (c := c) (s := s) G1
    have e29 : ((sG σ).drop 1).length = 29 := by rw [List.length_drop, h30]
    rw [e29] at G2
    refine hq _ (WAt_g W OK G2 fun j h1 h2 => ?_)
    rw [gW_o h1 (by omega), zu_ne _ _ h1]
    unfold gSk
    rw [if_neg (by omega)]
  · rw [if_neg h30] at hq ⊢
    exact hq _ (WAt_g W OK (GAt_gW G) fun j h1 h2 => gW_o h1 (by omega))
end
