section
variable {κ : zC} {D : zD} {p : Program} {l : Launch} {e : Env} {R : Room} {s : State} {m : MethodId} {args : Array Value} {below : List Frame} {meth : Method} {c : Code} {M : zM} {H : Heap} {locs : List Loc} {cells slots : Nat} {Q : State → Prop} {pc : Nat} {lr : Array Slot} {ls : List (Option Value)} {st : List Value} {h : zH} {op : Instr} {ln : Nat}
theorem sim_exc (C : zCx κ D p l R s m args meth c M) (L : zLs lr (mX M) ls) (X : zRel κ D s H h) (hS : va_S (fun q => kB κ ≤ q) s.heap H locs) {i a : Nat} (ht : zLk (tX (mO M)) i = some 5) (hs : zSum st ≤ 8) (hk : hK h a = 109) (hka : kB κ ≤ a) (hn : hV h a 139 = .null) (hd : decode (mC M) pc = .ok (.invokespecial i, 3))
    (kk : ∀ (H' : Heap) (locs' : List Loc), zRel κ D s H' h → va_S (fun q => kB κ ≤ q) s.heap H' locs' → W p l e R s m args below meth c H' locs' cells slots Q (F0 m (pc + 3) lr st)) : W p l e R s m args below meth c H locs cells slots Q (F0 m pc lr (.ref a :: st)) := by
  sorry
end
