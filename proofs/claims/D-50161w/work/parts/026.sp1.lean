/-! the spec: states of the line, what events do (no program in sight) -/
/-- a rider: where to, a time, the flow; a leaving: bus, time, gap; a row of the log: time, kind, bus, stop, number -/
abbrev Rd : Type := Nat × Int32 × Nat
abbrev Lv : Type := Nat × Int32 × Int32
abbrev Lg : Type := Int32 × Nat × Nat × Nat × Int32
/-- a bus: its numbers by the twin's places (0 state 1 stop 2 time 3 round 5 bunched 6 held 7 why 8 skips 9 boarded 10 left 11 due), its riders -/
abbrev Bs : Type := (Nat → Int32) × List Rd
/-- a state: flat numbers by the twin's places, rows, leavings, buses, log, sums -/
abbrev Sg : Type := (Nat → Int32) × (Nat → List Rd) × (Nat → List Lv) × (Nat → Bs) × List Lg × (Nat → Int64)
def sN (σ : Sg) : Nat → Int32 := σ.1
def sR (σ : Sg) : Nat → List Rd := σ.2.1
def sL (σ : Sg) : Nat → List Lv := σ.2.2.1
def sB (σ : Sg) : Nat → Bs := σ.2.2.2.1
def sG (σ : Sg) : List Lg := σ.2.2.2.2.1
def sS (σ : Sg) : Nat → Int64 := σ.2.2.2.2.2
def vN (σ : Sg) (f : Nat → Int32) : Sg := (f, σ.2)
def vR (σ : Sg) (f : Nat → List Rd) : Sg := (σ.1, f, σ.2.2)
def vL (σ : Sg) (f : Nat → List Lv) : Sg := (σ.1, σ.2.1, f, σ.2.2.2)
def vB (σ : Sg) (f : Nat → Bs) : Sg := (σ.1, σ.2.1, σ.2.2.1, f, σ.2.2.2.2)
def vG (σ : Sg) (f : List Lg) : Sg := (σ.1, σ.2.1, σ.2.2.1, σ.2.2.2.1, f, σ.2.2.2.2.2)
def vS (σ : Sg) (f : Nat → Int64) : Sg := (σ.1, σ.2.1, σ.2.2.1, σ.2.2.2.1, σ.2.2.2.2.1, f)
theorem vs : (∀ (σ : Sg) (f : Nat → Int32), sN (vN σ f) = f) ∧ (∀ (σ : Sg) (f : Nat → Int32), sR (vN σ f) = sR σ) ∧ (∀ (σ : Sg) (f : Nat → Int32), sL (vN σ f) = sL σ) ∧ (∀ (σ : Sg) (f : Nat → Int32), sB (vN σ f) = sB σ) ∧ (∀ (σ : Sg) (f : Nat → Int32), sG (vN σ f) = sG σ) ∧ (∀ (σ : Sg) (f : Nat → Int32), sS (vN σ f) = sS σ) ∧ (∀ (σ : Sg) (f : Nat → List Rd), sN (vR σ f) = sN σ) ∧ (∀ (σ : Sg) (f : Nat → List Rd), sR (vR σ f) = f) ∧ (∀ (σ : Sg) (f : Nat → List Rd), sL (vR σ f) = sL σ) ∧ (∀ (σ : Sg) (f : Nat → List Rd), sB (vR σ f) = sB σ) ∧ (∀ (σ : Sg) (f : Nat → List Rd), sG (vR σ f) = sG σ) ∧ (∀ (σ : Sg) (f : Nat → List Rd), sS (vR σ f) = sS σ) ∧ (∀ (σ : Sg) (f : Nat → List Lv), sN (vL σ f) = sN σ) ∧ (∀ (σ : Sg) (f : Nat → List Lv), sR (vL σ f) = sR σ) ∧ (∀ (σ : Sg) (f : Nat → List Lv), sL (vL σ f) = f) ∧ (∀ (σ : Sg) (f : Nat → List Lv), sB (vL σ f) = sB σ) ∧ (∀ (σ : Sg) (f : Nat → List Lv), sG (vL σ f) = sG σ) ∧ (∀ (σ : Sg) (f : Nat → List Lv), sS (vL σ f) = sS σ) ∧ (∀ (σ : Sg) (f : Nat → Bs), sN (vB σ f) = sN σ) ∧ (∀ (σ : Sg) (f : Nat → Bs), sR (vB σ f) = sR σ) ∧ (∀ (σ : Sg) (f : Nat → Bs), sL (vB σ f) = sL σ) ∧ (∀ (σ : Sg) (f : Nat → Bs), sB (vB σ f) = f) ∧ (∀ (σ : Sg) (f : Nat → Bs), sG (vB σ f) = sG σ) ∧ (∀ (σ : Sg) (f : Nat → Bs), sS (vB σ f) = sS σ) ∧ (∀ (σ : Sg) (f : List Lg), sN (vG σ f) = sN σ) ∧ (∀ (σ : Sg) (f : List Lg), sR (vG σ f) = sR σ) ∧ (∀ (σ : Sg) (f : List Lg), sL (vG σ f) = sL σ) ∧ (∀ (σ : Sg) (f : List Lg), sB (vG σ f) = sB σ) ∧ (∀ (σ : Sg) (f : List Lg), sG (vG σ f) = f) ∧ (∀ (σ : Sg) (f : List Lg), sS (vG σ f) = sS σ) ∧ (∀ (σ : Sg) (f : Nat → Int64), sN (vS σ f) = sN σ) ∧ (∀ (σ : Sg) (f : Nat → Int64), sR (vS σ f) = sR σ) ∧ (∀ (σ : Sg) (f : Nat → Int64), sL (vS σ f) = sL σ) ∧ (∀ (σ : Sg) (f : Nat → Int64), sB (vS σ f) = sB σ) ∧ (∀ (σ : Sg) (f : Nat → Int64), sG (vS σ f) = sG σ) ∧ (∀ (σ : Sg) (f : Nat → Int64), sS (vS σ f) = f) :=
  ⟨fun _ _ => rfl, fun _ _ => rfl, fun _ _ => rfl, fun _ _ => rfl, fun _ _ => rfl, fun _ _ => rfl, fun _ _ => rfl, fun _ _ => rfl, fun _ _ => rfl, fun _ _ => rfl, fun _ _ => rfl, fun _ _ => rfl, fun _ _ => rfl, fun _ _ => rfl, fun _ _ => rfl, fun _ _ => rfl, fun _ _ => rfl, fun _ _ => rfl, fun _ _ => rfl, fun _ _ => rfl, fun _ _ => rfl, fun _ _ => rfl, fun _ _ => rfl, fun _ _ => rfl, fun _ _ => rfl, fun _ _ => rfl, fun _ _ => rfl, fun _ _ => rfl, fun _ _ => rfl, fun _ _ => rfl, fun _ _ => rfl, fun _ _ => rfl, fun _ _ => rfl, fun _ _ => rfl, fun _ _ => rfl, fun _ _ => rfl⟩
/-- a plan: counts (0 stops 1 buses 2 flows); tables by the twin's places (0: open on down; 3 names 4 drives 5 offs 7 seats 8 starts 9 from 10 to 11 every 12 first) -/
abbrev Pl : Type := (Nat → Nat) × (Nat → Nat → Int32)
def plN (π : Pl) (k : Nat) : Nat := π.1 k
def plT (π : Pl) (t j : Nat) : Int32 := π.2 t j
def plI (π : Pl) (t j : Nat) : Nat := (π.2 t j).toNatClampNeg
/-- counts of riders of an account's place -/
def cnt (c j : Nat) (l : List Rd) : Nat := (l.filter fun r => decide (79 + 5 * r.2.2 + c = j)).length
def incs (n : Nat → Int32) (c : Nat) (l : List Rd) : Nat → Int32 := fun j => n j + Int32.ofNat (cnt c j l)
def inc (n : Nat → Int32) (i : Nat) : Nat → Int32 := zu n i (n i + Int32.ofNat 1)
/-- those who have waited too long -/
def gvK (p t : Int32) : List Rd → Nat
  | [] => 0
  | r :: l => if p < t - r.2.1 then gvK p t l + 1 else 0
def sGv (σ : Sg) (s : Nat) (t : Int32) : Sg := vR (vN σ (incs (sN σ) 2 ((sR σ s).take (gvK (sN σ 4) t (sR σ s))))) (zu (sR σ) s ((sR σ s).drop (gvK (sN σ 4) t (sR σ s))))
/-- a rider comes -/
def sJn (σ : Sg) (s to : Nat) (t : Int32) (f : Nat) : Sg × Bool :=
  let σ1 := sGv σ s t
  let σ2 := vN σ1 (inc (sN σ1) (79 + 5 * f))
  if (sR σ2 s).length = 40 then (vN σ2 (inc (sN σ2) (79 + 5 * f + 1)), false) else (vR σ2 (zu (sR σ2) s (sR σ2 s ++ [(to, t, f)])), true)
/-- the flow from a stop whose rider comes next by a time, of the first k flows -/
def fnx (π : Pl) (n : Nat → Int32) (s : Nat) (t : Int32) : Nat → Option Nat
  | 0 => none
  | k + 1 => if plI π 9 k = s ∧ n (63 + k) ≤ t ∧ ((fnx π n s t k).all fun g => decide (n (63 + k) < n (63 + g))) = true then some k else fnx π n s t k
def sBf (π : Pl) (s : Nat) (t : Int32) : Nat → Sg → Sg
  | 0, σ => σ
  | k + 1, σ => match fnx π (sN σ) s t (plN π 2) with
    | none => σ
    | some f =>
      let σ1 := (sJn σ s (plI π 10 f) (sN σ (63 + f)) f).1
      sBf π s t k (vN σ1 (zu (sN σ1) (63 + f) (sN σ1 (63 + f) + plT π 11 f)))
def big : Nat := 1099511627776
def sBr (π : Pl) (σ : Sg) (s : Nat) (t : Int32) : Sg := sGv (sBf π s t big σ) s t
/-- a bus's numbers, riders -/
def bF (σ : Sg) (b k : Nat) : Int32 := (sB σ b).1 k
def bR (σ : Sg) (b : Nat) : List Rd := (sB σ b).2
def sBs (σ : Sg) (b k : Nat) (v : Int32) : Sg := vB σ (zu (sB σ) b (zu (sB σ b).1 k v, (sB σ b).2))
def sBq (σ : Sg) (b : Nat) (l : List Rd) : Sg := vB σ (zu (sB σ) b ((sB σ b).1, l))
def bI (σ : Sg) (b k : Nat) : Nat := (bF σ b k).toNatClampNeg
def waits (t : Int32) (l : List Rd) : Int64 := (l.map fun r => (t - r.2.1).toInt64).foldr (· + ·) 0
/-- riders board -/
def sBo (π : Pl) (σ : Sg) (b s : Nat) (t : Int32) : Sg × Nat :=
  let k := min (plI π 7 b - (bR σ b).length) (sR σ s).length
  let l := (sR σ s).take k
  let σ1 := vN σ (incs (sN σ) 3 l)
  let σ2 := vR σ1 (zu (sR σ1) s ((sR σ s).drop k))
  let σ3 := vS σ2 (zu (sS σ2) 0 (sS σ2 0 + waits t l))
  let σ4 := sBq σ3 b (bR σ b ++ l.map fun r => (r.1, t, r.2.2))
  (sBs σ4 b 9 (bF σ b 9 + Int32.ofNat k), k)
/-- riders alight -/
def sAl (σ : Sg) (b s : Nat) (t : Int32) : Sg × Nat :=
  let l := (bR σ b).filter fun r => decide (r.1 = s)
  let σ1 := vN σ (incs (sN σ) 4 l)
  let σ2 := vS σ1 (zu (sS σ1) 1 (sS σ1 1 + waits t l))
  (sBq σ2 b ((bR σ b).filter fun r => !decide (r.1 = s)), l.length)
/-- the log -/
def sTe (σ : Sg) (t : Int32) (k b s : Nat) (v : Int32) : Sg := vG σ ((if (sG σ).length = 30 then (sG σ).drop 1 else sG σ) ++ [(t, k, b, s, v)])
def nxt (π : Pl) (s : Nat) : Nat := if s + 1 = plN π 0 then 0 else s + 1
/-- the drives from a stop to another -/
def wayF (π : Pl) (to : Nat) : Nat → Nat → Int32
  | 0, _ => Int32.ofNat 0
  | k + 1, s => if s = to then Int32.ofNat 0 else plT π 4 s + wayF π to k (nxt π s)
def way (π : Pl) (a b : Nat) : Int32 := wayF π b (plN π 0) a
def isAt (σ : Sg) (b : Nat) : Bool := decide (2 ≤ bI σ b 0)
/-- how long until the next other bus could be at b's stop, of the first k -/
def untl (π : Pl) (σ : Sg) (b : Nat) (t : Int32) : Nat → Int32
  | 0 => Int32.ofInt (-2)
  | o + 1 =>
    let best := untl π σ b t o
    if o = b ∨ bI σ o 0 = 0 then best else
    let s := bI σ b 1
    let d := if isAt σ o = true ∧ bI σ o 1 = s then plT π 4 s + way π (nxt π s) s else way π (bI σ o 1) s
    let i := bF σ o 2 + d - t
    if best < Int32.ofNat 0 ∨ i < best then i else best
def wantd (π : Pl) (σ : Sg) (b : Nat) (m t : Int32) : Int32 :=
  let s := bI σ b 1
  let left := sN σ (33 + s)
  if m = Int32.ofNat 1 ∧ Int32.ofNat 0 ≤ left then left + sN σ 2 - t
  else if m = Int32.ofNat 2 then plT π 8 b + bF σ b 3 * sN σ 5 + plT π 5 s - t
  else
    let nx := if m = Int32.ofNat 3 ∧ Int32.ofNat 0 ≤ left then untl π σ b t (plN π 1) else Int32.ofInt (-2)
    if nx < Int32.ofNat 0 then Int32.ofNat 0
    else
      let tw := nx - (t - left)
      if tw ≤ Int32.ofNat 0 then Int32.ofNat 0 else tw / Int32.ofNat 2
def heldB (π : Pl) (σ : Sg) (b : Nat) (m t : Int32) : Int32 :=
  let i := wantd π σ b m t
  if i ≤ Int32.ofNat 0 then Int32.ofNat 0 else if sN σ 3 < i then sN σ 3 else i
/-- on to the next stop -/
def sGo (π : Pl) (σ : Sg) (b : Nat) (t : Int32) : Sg :=
  let s := bI σ b 1
  sBs (sBs (sBs σ b 0 (Int32.ofNat 1)) b 1 (Int32.ofNat (nxt π s))) b 2 (t + plT π 4 s)
/-- a bus comes to its stop: and how many alight -/
def sCo (π : Pl) (σ : Sg) (b : Nat) (t : Int32) : Sg × Nat :=
  let s := bI σ b 1
  let σ := if bF σ b 0 = Int32.ofNat 1 ∧ s = 0 then sBs σ b 3 (bF σ b 3 + Int32.ofNat 1) else σ
  let σ := sBr π σ s t
  if bF σ b 8 = Int32.ofNat 1 then
    let σ := sBs σ b 8 (Int32.ofNat 0)
    (sGo π (vN σ (inc (sN σ) 11)) b t, 0)
  else
    let a := sAl σ b s t
    let u := sBo π a.1 b s t
    let σ := sBs (sBs u.1 b 0 (Int32.ofNat 2)) b 2 (t + plT π 0 0 + plT π 0 2 * Int32.ofNat a.2 + plT π 0 1 * Int32.ofNat u.2)
    let k := (sR σ s).length
    (if 0 < k then sTe (vN σ (zu (sN σ) 10 (sN σ 10 + Int32.ofNat k))) t 3 b s (Int32.ofNat k) else σ, a.2)
/-- a leaving is noted -/
def sNo (σ : Sg) (b s : Nat) (t gap : Int32) : Sg :=
  let σ1 := vL σ (zu (sL σ) s ((if (sL σ s).length = 8 then (sL σ s).drop 1 else sL σ s) ++ [(b, t, gap)]))
  let σ2 := vN σ1 (zu (sN σ1) (33 + s) t)
  vN σ2 (inc (sN σ2) (43 + s))
/-- a bus leaves -/
def sLe (π : Pl) (σ : Sg) (b : Nat) (t : Int32) : Sg :=
  let s := bI σ b 1
  let σ := sBr π σ s t
  let σ := (sBo π σ b s t).1
  let k := (sR σ s).length
  let σ := if (bR σ b).length = plI π 7 b ∧ 0 < k then sTe σ t 4 b s (Int32.ofNat k) else σ
  let gap := if sN σ (33 + s) < Int32.ofNat 0 then Int32.ofInt (-2) else t - sN σ (33 + s)
  let σ := if Int32.ofNat 0 ≤ gap ∧ Int32.ofNat 4 * gap < sN σ 2 ∧ bF σ b 5 = Int32.ofNat 0 then
      let σ := sBs σ b 5 (Int32.ofNat 1)
      sTe (vN σ (inc (sN σ) 6)) t 0 b s gap
    else if Int32.ofNat 0 ≤ gap ∧ sN σ 2 ≤ Int32.ofNat 2 * gap ∧ bF σ b 5 = Int32.ofNat 1 then
      let σ := sBs σ b 5 (Int32.ofNat 0)
      sTe (vN σ (inc (sN σ) 7)) t 1 b s gap
    else σ
  let σ := sNo σ b s t gap
  let σ := sBs σ b 10 t
  let σ := sBs σ b 11 (plT π 8 b + bF σ b 3 * sN σ 5 + plT π 5 s)
  sGo π σ b t
/-- a bus is ready -/
def sRe (π : Pl) (σ : Sg) (b : Nat) (t : Int32) : Sg :=
  let s := bI σ b 1
  let m := sN σ 1
  let held := if sN σ (13 + s) = Int32.ofNat 1 then heldB π σ b m t else Int32.ofNat 0
  let why := if held = Int32.ofNat 0 then Int32.ofNat 0 else m + (if held < wantd π σ b m t then Int32.ofNat 10 else Int32.ofNat 0)
  let σ := sBs (sBs σ b 6 held) b 7 why
  if held = Int32.ofNat 0 then sLe π σ b t
  else
    let σ := vN σ (inc (sN σ) 8)
    let σ := vN σ (zu (sN σ) 9 (sN σ 9 + held))
    let σ := sBs (sBs σ b 0 (Int32.ofNat 3)) b 2 (t + held)
    sTe σ t 2 b s held
def sHa (π : Pl) (σ : Sg) (b : Nat) : Sg × Nat :=
  let t := bF σ b 2
  if bF σ b 0 = Int32.ofNat 2 then (sRe π σ b t, 0) else if bF σ b 0 = Int32.ofNat 3 then (sLe π σ b t, 0) else sCo π σ b t
/-- the bus whose event comes next, of the first k + 1 -/
def nxB (σ : Sg) : Nat → Nat
  | 0 => 0
  | k + 1 => if bF σ (k + 1) 2 < bF σ (nxB σ k) 2 then k + 1 else nxB σ k
def sEv (π : Pl) (t : Int32) : Nat → Sg × Nat → Sg × Nat
  | 0, q => q
  | k + 1, q => if bF q.1 (nxB q.1 (plN π 1 - 1)) 2 ≤ t then
      let r := sHa π q.1 (nxB q.1 (plN π 1 - 1))
      sEv π t k (r.1, q.2 + r.2)
    else q
def sBa (π : Pl) (t : Int32) : Nat → Sg → Sg
  | 0, σ => σ
  | k + 1, σ => sBr π (sBa π t k σ) k t
/-- time passes to t: and how many alight -/
def sPa (π : Pl) (σ : Sg) (t : Int32) : Sg × Nat :=
  let q := sEv π t big (σ, 0)
  let σ := sBa π t (plN π 0) q.1
  (vN σ (zu (sN σ) 0 t), q.2)
