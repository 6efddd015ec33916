/-! the simulation: branches, switches, iinc -/
theorem z_rf {v : Value} (hv : zTy 2 v = true) : ∃ r : Option Nat, v = va_rf r := by
  cases v <;> first | exact Bool.noConfusion (show false = true from hv) | skip
  · exact ⟨none, rfl⟩
  · next a => exact ⟨some a, rfl⟩
theorem z_rfE {a b : Option Nat} : va_rf a = va_rf b ↔ a = b := by
  constructor
  · intro h
    cases a <;> cases b <;> first | rfl | (cases h; rfl) | (cases h)
  · intro h; rw [h]
section
variable {p : Program} {l : Launch} {e : Env} {R : Room} {s : State} {m : MethodId} {args : Array Value} {below : List Frame} {meth : Method} {c : Code} {H : Heap} {locs : List Loc} {cells slots : Nat} {Q : State → Prop}
variable {κ : zC} {D : zD} {M : zM} {pc ln : Nat} {ls : List (Option Value)} {lr : Array Slot} {st : List Value} {h : zH} {op : Instr}
theorem z_if {P : Prop} {d : Decidable P} {t f : Nat} (hp : P) : (if decide P = true then t else f) = t := if_pos (decide_eq_true hp)
theorem z_else {P : Prop} {d : Decidable P} {t f : Nat} (hp : ¬ P) : (if decide P = true then t else f) = f := if_neg (fun q => hp (of_decide_eq_true q))
theorem sim_br (C : zCx κ D p l R s m args meth c M) {b : Bool} {off : Int} {t : Nat} {st' : List Value} (hz : zBr op st = some (b, off, st')) (ht : zJmp pc off = some t) (hd : decode (mC M) pc = .ok (op, 3))
    (k : W p l e R s m args below meth c H locs cells slots Q (F0 m (if b = true then t else pc + 3) lr st')) : W p l e R s m args below meth c H locs cells slots Q (F0 m pc lr st) := by
  obtain ⟨hx, hb, -⟩ := C
  have ht := zJmp_spec ht
  unfold zBr at hz
  split at hz
  · cases hz; exact lv_goto hx hb hd ht k
  · cases hz; exact lv_if_eq hx hb hd ht (fun q => by rw [z_if q] at k; exact k) (fun q => by rw [z_else q] at k; exact k)
  · cases hz; exact lv_if_ne hx hb hd ht (fun q => by rw [z_if q] at k; exact k) (fun q => by rw [z_else (fun w => w q)] at k; exact k)
  · cases hz; exact lv_if_lt hx hb hd ht (fun q => by rw [z_if q] at k; exact k) (fun q => by rw [z_else q] at k; exact k)
  · cases hz; exact lv_if_ge hx hb hd ht (fun q => by rw [z_if q] at k; exact k) (fun q => by rw [z_else q] at k; exact k)
  · cases hz; exact lv_if_gt hx hb hd ht (fun q => by rw [z_if q] at k; exact k) (fun q => by rw [z_else q] at k; exact k)
  · cases hz; exact lv_if_le hx hb hd ht (fun q => by rw [z_if q] at k; exact k) (fun q => by rw [z_else q] at k; exact k)
  · cases hz; exact lv_icmp_eq hx hb hd ht (fun q => by rw [z_if q] at k; exact k) (fun q => by rw [z_else q] at k; exact k)
  · cases hz; exact lv_icmp_ne hx hb hd ht (fun q => by rw [z_if q] at k; exact k) (fun q => by rw [z_else (fun w => w q)] at k; exact k)
  · cases hz; exact lv_icmp_lt hx hb hd ht (fun q => by rw [z_if q] at k; exact k) (fun q => by rw [z_else q] at k; exact k)
  · cases hz; exact lv_icmp_ge hx hb hd ht (fun q => by rw [z_if q] at k; exact k) (fun q => by rw [z_else q] at k; exact k)
  · cases hz; exact lv_icmp_gt hx hb hd ht (fun q => by rw [z_if q] at k; exact k) (fun q => by rw [z_else q] at k; exact k)
  · cases hz; exact lv_icmp_le hx hb hd ht (fun q => by rw [z_if q] at k; exact k) (fun q => by rw [z_else q] at k; exact k)
  · split at hz
    · next hc =>
      rw [Bool.and_eq_true] at hc
      obtain ⟨rx, rfl⟩ := z_rf hc.1
      obtain ⟨ry, rfl⟩ := z_rf hc.2
      cases hz
      exact lv_acmp_eq hx hb hd ht (fun q => by rw [z_if (z_rfE.mpr q)] at k; exact k) (fun q => by rw [z_else (fun w => q (z_rfE.mp w))] at k; exact k)
    · cases hz
  · split at hz
    · next hc =>
      rw [Bool.and_eq_true] at hc
      obtain ⟨rx, rfl⟩ := z_rf hc.1
      obtain ⟨ry, rfl⟩ := z_rf hc.2
      cases hz
      exact lv_acmp_ne hx hb hd ht (fun q => by rw [z_if (fun w => q (z_rfE.mp w))] at k; exact k) (fun q => by rw [z_else (fun w => w (z_rfE.mpr q))] at k; exact k)
    · cases hz
  · split at hz
    · next hc =>
      obtain ⟨rx, rfl⟩ := z_rf hc
      cases hz
      cases rx with
      | none => rw [z_if (P := va_rf none = .null) rfl] at k; exact lv_ifnullN hx hb hd ht k
      | some a => rw [z_else (P := va_rf (some a) = .null) (fun q => by cases q)] at k; exact lv_ifnull hx hb hd k
    · cases hz
  · split at hz
    · next hc =>
      obtain ⟨rx, rfl⟩ := z_rf hc
      cases hz
      cases rx with
      | none => rw [z_else (P := ¬ va_rf none = .null) (fun q => q rfl)] at k; exact lv_ifnonnullN hx hb hd k
      | some a => rw [z_if (P := ¬ va_rf (some a) = .null) (fun q => by cases q)] at k; exact lv_ifnonnull hx hb hd ht k
    · cases hz
  · cases hz
theorem sim_tsw (C : zCx κ D p l R s m args meth c M) {d lo hi off : Int} {offs : Array Int} {x : Int32} {t : Nat} (hz : zSw (.tableswitch d lo hi offs) x = some off) (ht : zJmp pc off = some t) (hd : decode (mC M) pc = .ok (.tableswitch d lo hi offs, ln))
    (k : W p l e R s m args below meth c H locs cells slots Q (F0 m t lr st)) : W p l e R s m args below meth c H locs cells slots Q (F0 m pc lr (.int x :: st)) := by
  obtain ⟨hx, hb, -⟩ := C
  have ht := zJmp_spec ht
  unfold zSw at hz
  dsimp only at hz
  split at hz
  · next hc => cases hz; exact lv_tableOut hx hb hd hc ht k
  · next hc => exact lv_tableIn hx hb hd (fun q => hc (Or.inl q)) (fun q => hc (Or.inr q)) hz ht k
theorem sim_lsw (C : zCx κ D p l R s m args meth c M) {d off : Int} {ps : Array (Int × Int)} {x : Int32} {t : Nat} (hz : zSw (.lookupswitch d ps) x = some off) (ht : zJmp pc off = some t) (hd : decode (mC M) pc = .ok (.lookupswitch d ps, ln))
    (k : W p l e R s m args below meth c H locs cells slots Q (F0 m t lr st)) : W p l e R s m args below meth c H locs cells slots Q (F0 m pc lr (.int x :: st)) := by
  obtain ⟨hx, hb, -⟩ := C
  have ht := zJmp_spec ht
  unfold zSw at hz
  dsimp only at hz
  split at hz
  · next hc => cases hz; exact lv_lookup hx hb hd hc rfl ht k
  · cases hz
theorem sim_iinc (C : zCx κ D p l R s m args meth c M) (L : zLs lr (mX M) ls) {i : Nat} {n : Int} {x : Int32} (hg : zGet ls i = some (.int x)) (hi : i < ls.length) (hd : decode (mC M) pc = .ok (.iinc i n, 3))
    (kk : ∀ lr' : Array Slot, zLs lr' (mX M) (zPut1 ls i (.int (x + Int32.ofInt n))) → W p l e R s m args below meth c H locs cells slots Q (F0 m (pc + 3) lr' st)) : W p l e R s m args below meth c H locs cells slots Q (F0 m pc lr st) := by
  obtain ⟨hx, hb, -⟩ := C
  rw [L.2] at hi
  have hm : (i, Value.int x) ∈ zAs 0 ls := zAs_mem.mpr ⟨i, by simp, hg⟩
  obtain ⟨k, hk⟩ := List.getElem?_of_mem hm
  exact lv_iinc hx hb hd L.1 hk rfl hi rfl (fun lr' h' => kk lr' (L.put1 h'))
end
