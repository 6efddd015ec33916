/-! the twin: load -/
def plZ (nu : Nat → Int32) (S : List Sto) (B : List Bup) (Fl : List Flo) : Pl :=
  (fun k => if k = 0 then S.length else if k = 1 then B.length else Fl.length,
   fun t j => if t = 0 then nu j else if t = 3 then (S[j]?.map fun s => ltF s.1 s.1.length).getD 0 else if t = 4 then (S[j]?.map fun s => s.2.1).getD 0 else if t = 5 then (S[j]?.map fun s => s.2.2.1).getD 0
     else if t = 7 then (B[j]?.map fun b => b.1).getD 0 else if t = 8 then (B[j]?.map fun b => b.2).getD 0
     else if t = 9 then (Fl[j]?.map fun f => Int32.ofNat f.1).getD 0 else if t = 10 then (Fl[j]?.map fun f => Int32.ofNat f.2.1).getD 0 else if t = 11 then (Fl[j]?.map fun f => f.2.2.1).getD 0 else (Fl[j]?.map fun f => f.2.2.2).getD 0)
def stN (nu : Nat → Int32) (S : List Sto) (Fl : List Flo) (j : Nat) : Int32 :=
  if j = 1 then nu 7 else if 2 ≤ j ∧ j < 6 then nu (j + 1) else if 13 ≤ j ∧ j < 13 + S.length then (S[j - 13]?.map fun s => boI s.2.2.2).getD 0 else if 33 ≤ j ∧ j < 33 + S.length then Int32.ofInt (-2)
  else if 63 ≤ j ∧ j < 63 + Fl.length then (Fl[j - 63]?.map fun f => f.2.2.2).getD 0 else Int32.ofNat 0
def stB (B : List Bup) (b : Nat) : Bs := (fun k => if b < B.length then (if k = 2 ∨ k = 10 ∨ k = 11 then (B[b]?.map fun b => b.2).getD 0 else if k = 6 ∨ k = 7 then Int32.ofInt (-2) else Int32.ofNat 0) else Int32.ofNat 0, [])
def stZ (nu : Nat → Int32) (S : List Sto) (B : List Bup) (Fl : List Flo) : Sg := (stN nu S Fl, fun _ => [], fun _ => [], stB B, [], fun _ => Int64.ofNat 0)
def yLo (Y : Sy) : Int32 × Sy := match pzF (yT Y) with
  | .error e => (Int32.ofInt (-1), vE (vT Y []) (Int32.ofNat e))
  | .ok q => (Int32.ofNat (pzL (yT Y)).length, plZ (nuV (yT Y) 0) (pzL (yT Y)) (pzM (yT Y)) q.2, yM Y, stZ (nuV (yT Y) 0) (pzL (yT Y)) (pzM (yT Y)) q.2, [], fun _ => none, [], Int32.ofInt (-2))
theorem gtD {α β : Type} {l : List α} {j : Nat} (f : α → β) {d : β} (h : j < l.length) : ∃ x ∈ l, l[j]? = some x ∧ (l[j]?.map f).getD d = f x := by
  refine ⟨l[j], List.getElem_mem h, List.getElem?_eq_getElem h, ?_⟩
  rw [List.getElem?_eq_getElem h]
  rfl
theorem pOk_Z {nu : Nat → Int32} {S : List Sto} {B : List Bup} {Fl : List Flo} (hS : stsOk S ∧ 2 ≤ S.length) (hB : bupsOk B ∧ 1 ≤ B.length) (hF : flosOk S.length Fl) (hN : ∀ k, k < 8 → (nLo k : Int) ≤ (nu k).toInt ∧ (nu k).toInt ≤ (nHi k : Int)) : pOk (plZ nu S B Fl) := by
  have hi : ∀ n, n < 10 → (Int32.ofNat n).toNatClampNeg = n := fun n hn => I_nat (by omega)
  refine ⟨⟨hS.2, hS.1.1⟩, ⟨hB.2, hB.1.1⟩, hF.1, fun f hf => ?_, fun b hb => ?_, fun s hs => ?_, ?_⟩
  · obtain ⟨x, hx, e, -⟩ := gtD (fun f : Flo => f.1) (d := 0) (show f < Fl.length from hf)
    obtain ⟨a1, a2, a3, a4, a5, a6⟩ := hF.2 x hx
    have e9 : plT (plZ nu S B Fl) 9 f = Int32.ofNat x.1 := by show (Fl[f]?.map _).getD 0 = _; rw [e]; rfl
    have e10 : plT (plZ nu S B Fl) 10 f = Int32.ofNat x.2.1 := by show (Fl[f]?.map _).getD 0 = _; rw [e]; rfl
    have e11 : plT (plZ nu S B Fl) 11 f = x.2.2.1 := by show (Fl[f]?.map _).getD 0 = _; rw [e]; rfl
    have e12 : plT (plZ nu S B Fl) 12 f = x.2.2.2 := by show (Fl[f]?.map _).getD 0 = _; rw [e]; rfl
    have i9 : plI (plZ nu S B Fl) 9 f = x.1 := by show (plT (plZ nu S B Fl) 9 f).toNatClampNeg = _; rw [e9]; exact I_nat (by have := hS.1.1; omega)
    have i10 : plI (plZ nu S B Fl) 10 f = x.2.1 := by show (plT (plZ nu S B Fl) 10 f).toNatClampNeg = _; rw [e10]; exact I_nat (by have := hS.1.1; omega)
    rw [e9, e10, e11, e12, i9, i10]
    exact ⟨rfl, a1, rfl, a2, a4.1, a4.2, a5, a6⟩
  · obtain ⟨x, hx, e, -⟩ := gtD (fun f : Bup => f.1) (d := 0) (show b < B.length from hb)
    obtain ⟨a1, a2, a3⟩ := hB.1.2 x hx
    have e7 : plT (plZ nu S B Fl) 7 b = x.1 := by show (B[b]?.map _).getD 0 = _; rw [e]; rfl
    have e8 : plT (plZ nu S B Fl) 8 b = x.2 := by show (B[b]?.map _).getD 0 = _; rw [e]; rfl
    have i7 : plI (plZ nu S B Fl) 7 b = x.1.toNatClampNeg := by show (plT (plZ nu S B Fl) 7 b).toNatClampNeg = _; rw [e7]
    rw [e7, e8, i7]
    obtain ⟨n, hx', n1, n2, -⟩ := btw_nat (x := x.1) (l := 1) (u := 99) ⟨a1.1, a1.2⟩
    rw [hx', I_nat (by omega)]
    exact ⟨rfl, n1, n2, a2, a3⟩
  · obtain ⟨x, hx, e, -⟩ := gtD (fun f : Sto => f.1) (d := []) (show s < S.length from hs)
    obtain ⟨-, a1, a2, a3⟩ := hS.1.2.1 x hx
    have e4 : plT (plZ nu S B Fl) 4 s = x.2.1 := by show (S[s]?.map _).getD 0 = _; rw [e]; rfl
    have e5 : plT (plZ nu S B Fl) 5 s = x.2.2.1 := by show (S[s]?.map _).getD 0 = _; rw [e]; rfl
    rw [e4, e5]
    exact ⟨a1.1, a1.2, a2, a3⟩
  · have n0 := hN 0 (by decide)
    have n1 := hN 1 (by decide)
    have n2 := hN 2 (by decide)
    exact ⟨n0.1, n0.2, n1.1, n1.2, n2.1, n2.2⟩
theorem sOk_Z {nu : Nat → Int32} {S : List Sto} {B : List Bup} {Fl : List Flo} (hS : stsOk S ∧ 2 ≤ S.length) (hB : bupsOk B ∧ 1 ≤ B.length) : sOk (plZ nu S B Fl) (stZ nu S B Fl) := by
  refine ⟨fun s _ => ⟨Nat.zero_le _, fun r hr => absurd hr List.not_mem_nil⟩, fun s _ => ⟨Nat.zero_le _, fun r hr => absurd hr List.not_mem_nil⟩, fun b hb => ⟨Nat.zero_le _, fun _ => Nat.zero_le _, fun r hr => absurd hr List.not_mem_nil, ⟨0, by decide, ?_⟩, ⟨0, ?_, ?_⟩⟩, Nat.zero_le _, fun r hr => absurd hr List.not_mem_nil⟩
  · show (if b < B.length then _ else _) = _
    split
    · rfl
    · rfl
  · left
    show 0 < S.length
    omega
  · show (if b < B.length then _ else _) = _
    split
    · rfl
    · rfl
section
variable {κ : zC} {h : zH} {b : Nat} {W : Nat → Nat → Int32} {SM : Nat → Nat → Int64} {Q : zQ} {Y : Sy}
theorem TIn_e {W W' : Nat → Nat → Int32} {SM SM' : Nat → Nat → Int64} {e : Int32} (T : TIn W SM Y) (U : PzA W W' SM SM') (h74 : W' 0 74 = e) : TIn (zv W' 0 73 (Int32.ofNat 0)) SM' (vE (vT Y []) e) := by
  obtain ⟨t1, ⟨t2, t2'⟩, t3, t4, t5, t6, t7⟩ := T
  have u0 : ∀ g, g < 74 ∨ (74 < g ∧ g < 104) → g ≠ 73 → zv W' 0 73 (Int32.ofNat 0) 0 g = W 0 g := fun g hg hn => by rw [zv_nx (by omega)]; exact U.1 _ _ (by omega) (by decide)
  have u1 : ∀ k j, k ≠ 0 → k < 22 → zv W' 0 73 (Int32.ofNat 0) k j = W k j := fun k j hk h2 => by rw [zv_nx (by omega)]; exact U.1 _ _ (by omega) h2
  have us : ∀ k j, k ≠ 0 → SM' k j = SM k j := fun k j hk => U.2 _ _ (by omega)
  exact ⟨t1.cg (fun g h1 h2 => u0 _ (by omega) (by omega)) (fun k h1 h2 h3 j => u1 _ _ (by omega) (by omega)), ⟨t2.cg t2' (fun j hj => u1 _ _ (by omega) (by omega)) (us _ _ (by omega)) (us _ _ (by omega)), t2'⟩, t3.cg (u0 _ (by omega) (by omega)) (fun j => u1 _ _ (by omega) (by omega)) (fun _ => us _ _ (by omega)), t4.cg (fun j => u1 _ _ (by omega) (by omega)) (fun j => u1 _ _ (by omega) (by omega)) (fun _ => us _ _ (by omega)),
    ⟨Nat.zero_le _, zv_at rfl rfl, fun i x hi => by cases hi⟩, (zv_nx (by omega)).trans h74, t7⟩
end
