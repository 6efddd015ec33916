/-! facts of the tables: printed by wip/gen/print_am.py -/
def zIsN : Cond → Bool
  | .fieldLinkNest _ _ _ _ _ _ => true
  | .methodLinkNest _ _ _ _ => true
  | .castable _ _ => true
  | .declares _ => true
  | .publicMethod _ => true
  | .unhidden _ _ _ => true
  | .interfaceMethod _ _ _ _ => true
  | _ => false
def zNst : List Cond := lw_tbl.filter zIsN
theorem zn {w : Cond} (h : w ∈ lw_tbl) (g : zIsN w = true) : w ∈ zNst := List.mem_filter.mpr ⟨h, g⟩
/-- private methods of its superclass, on a StringBuilder -/
def zXs : List Cond := [Cond.selects "java/lang/StringBuilder" ⟨"java/lang/AbstractStringBuilder", "ensureCapacityInternal", "(I)V"⟩ ⟨"java/lang/AbstractStringBuilder", "ensureCapacityInternal", "(I)V"⟩, Cond.selects "java/lang/StringBuilder" ⟨"java/lang/AbstractStringBuilder", "newCapacity", "(I)I"⟩ ⟨"java/lang/AbstractStringBuilder", "newCapacity", "(I)I"⟩, Cond.selects "java/lang/StringBuilder" ⟨"java/lang/AbstractStringBuilder", "inflate", "()V"⟩ ⟨"java/lang/AbstractStringBuilder", "inflate", "()V"⟩, Cond.selects "java/lang/StringBuilder" ⟨"java/lang/AbstractStringBuilder", "appendNull", "()Ljava/lang/AbstractStringBuilder;"⟩ ⟨"java/lang/AbstractStringBuilder", "appendNull", "()Ljava/lang/AbstractStringBuilder;"⟩, Cond.selects "java/lang/StringBuilder" ⟨"java/lang/AbstractStringBuilder", "putStringAt", "(ILjava/lang/String;)V"⟩ ⟨"java/lang/AbstractStringBuilder", "putStringAt", "(ILjava/lang/String;)V"⟩, Cond.selects "java/lang/StringBuilder" ⟨"java/lang/AbstractStringBuilder", "inflateIfNeededFor", "(Ljava/lang/String;)V"⟩ ⟨"java/lang/AbstractStringBuilder", "inflateIfNeededFor", "(Ljava/lang/String;)V"⟩]
def zAll : List Cond := lw_all ++ (defaultWords_1 ++ zXs)
theorem zx0 : Cond.selects "java/lang/StringBuilder" ⟨"java/lang/AbstractStringBuilder", "ensureCapacityInternal", "(I)V"⟩ ⟨"java/lang/AbstractStringBuilder", "ensureCapacityInternal", "(I)V"⟩ ∈ zAll := List.mem_append_right _ (List.mem_append_right _ (List.mem_of_getElem? (i := 0) rfl))
theorem zx1 : Cond.selects "java/lang/StringBuilder" ⟨"java/lang/AbstractStringBuilder", "newCapacity", "(I)I"⟩ ⟨"java/lang/AbstractStringBuilder", "newCapacity", "(I)I"⟩ ∈ zAll := List.mem_append_right _ (List.mem_append_right _ (List.mem_of_getElem? (i := 1) rfl))
theorem zx2 : Cond.selects "java/lang/StringBuilder" ⟨"java/lang/AbstractStringBuilder", "inflate", "()V"⟩ ⟨"java/lang/AbstractStringBuilder", "inflate", "()V"⟩ ∈ zAll := List.mem_append_right _ (List.mem_append_right _ (List.mem_of_getElem? (i := 2) rfl))
theorem zx3 : Cond.selects "java/lang/StringBuilder" ⟨"java/lang/AbstractStringBuilder", "appendNull", "()Ljava/lang/AbstractStringBuilder;"⟩ ⟨"java/lang/AbstractStringBuilder", "appendNull", "()Ljava/lang/AbstractStringBuilder;"⟩ ∈ zAll := List.mem_append_right _ (List.mem_append_right _ (List.mem_of_getElem? (i := 3) rfl))
theorem zx4 : Cond.selects "java/lang/StringBuilder" ⟨"java/lang/AbstractStringBuilder", "putStringAt", "(ILjava/lang/String;)V"⟩ ⟨"java/lang/AbstractStringBuilder", "putStringAt", "(ILjava/lang/String;)V"⟩ ∈ zAll := List.mem_append_right _ (List.mem_append_right _ (List.mem_of_getElem? (i := 4) rfl))
theorem zx5 : Cond.selects "java/lang/StringBuilder" ⟨"java/lang/AbstractStringBuilder", "inflateIfNeededFor", "(Ljava/lang/String;)V"⟩ ⟨"java/lang/AbstractStringBuilder", "inflateIfNeededFor", "(Ljava/lang/String;)V"⟩ ∈ zAll := List.mem_append_right _ (List.mem_append_right _ (List.mem_of_getElem? (i := 5) rfl))
theorem za {w : Cond} (h : w ∈ lw_all) : w ∈ zAll := List.mem_append_left _ h
def zSt : List (String × String × String) := [("java/util/ArrayList", "DEFAULTCAPACITY_EMPTY_ELEMENTDATA", "[Ljava/lang/Object;"), ("java/lang/Integer$IntegerCache", "high", "I"), ("java/lang/Integer$IntegerCache", "cache", "[Ljava/lang/Integer;"), ("java/lang/String", "COMPACT_STRINGS", "Z"), ("jdk/internal/misc/Unsafe", "ARRAY_BYTE_BASE_OFFSET", "I"), ("jdk/internal/util/ArraysSupport", "LOG2_ARRAY_BYTE_INDEX_SCALE", "I"), ("jdk/internal/util/ArraysSupport", "LOG2_ARRAY_LONG_INDEX_SCALE", "I"), ("jdk/internal/util/ArraysSupport", "U", "Ljdk/internal/misc/Unsafe;"), ("jdk/internal/misc/UnsafeConstants", "BIG_ENDIAN", "Z"), ("jdk/internal/util/ArraysSupport", "BIG_ENDIAN", "Z"), ("jdk/internal/util/ArraysSupport", "LOG2_BYTE_BIT_SIZE", "I"), ("jdk/internal/util/ArraysSupport", "LOG2_ARRAY_INT_INDEX_SCALE", "I"), ("java/lang/StringUTF16", "$assertionsDisabled", "Z"), ("java/lang/StringUTF16", "HI_BYTE_SHIFT", "I"), ("java/lang/StringUTF16", "LO_BYTE_SHIFT", "I"), ("jdk/internal/util/Preconditions", "SIOOBE_FORMATTER", "Ljava/util/function/BiFunction;"), ("java/util/Collections$CopiesList", "$assertionsDisabled", "Z"), ("java/util/ImmutableCollections", "EMPTY", "Ljava/lang/Object;"), ("java/util/ArrayList", "EMPTY_ELEMENTDATA", "[Ljava/lang/Object;"), ("java/util/ImmutableCollections", "EMPTY_LIST", "Ljava/util/ImmutableCollections$ListN;"), ("BusLine$Kind", "END", "LBusLine$Kind;"), ("BusLine$Kind", "KEYWORD", "LBusLine$Kind;"), ("BusLine$Kind", "BAD", "LBusLine$Kind;"), ("BusLine$Kind", "NAME", "LBusLine$Kind;"), ("BusLine$Kind", "NUMBER", "LBusLine$Kind;"), ("BusLine$Kind", "CLOSE", "LBusLine$Kind;"), ("java/lang/Throwable", "UNASSIGNED_STACK", "[Ljava/lang/StackTraceElement;"), ("java/lang/Throwable", "SUPPRESSED_SENTINEL", "Ljava/util/List;"), ("java/lang/Integer", "DigitOnes", "[B"), ("java/lang/Integer", "DigitTens", "[B")]
def zTx : List (String × Nat × String) := [("BusLine$Plan", 49, "a"), ("BusLine$Plan", 55, "b"), ("BusLine$Parser", 11, "open"), ("BusLine$Parser", 13, "on"), ("BusLine$Parser", 15, "down"), ("BusLine$Parser", 17, "headway"), ("BusLine$Parser", 19, "cap"), ("BusLine$Parser", 21, "patience"), ("BusLine$Parser", 23, "round"), ("BusLine$Parser", 25, "mode"), ("BusLine$Parser", 27, "stop"), ("BusLine$Parser", 29, "drive"), ("BusLine$Parser", 31, "off"), ("BusLine$Parser", 33, "point"), ("BusLine$Parser", 35, "bus"), ("BusLine$Parser", 37, "start"), ("BusLine$Parser", 39, "from"), ("BusLine$Parser", 41, "to"), ("BusLine$Parser", 43, "every"), ("BusLine$Parser", 45, "first"), ("java/lang/StringLatin1", 151, ""), ("java/lang/StringUTF16", 295, ""), ("BusLine$State", 388, " *"), ("BusLine$State", 390, " -"), ("BusLine$State", 396, "bunch"), ("BusLine$State", 397, "split"), ("BusLine$State", 399, "held"), ("BusLine$State", 400, "left"), ("BusLine$State", 402, "full"), ("BusLine$State", 408, "open "), ("BusLine$State", 413, " on "), ("BusLine$State", 415, " down "), ("BusLine$State", 417, " headway "), ("BusLine$State", 419, " cap "), ("BusLine$State", 421, " patience "), ("BusLine$State", 423, " round "), ("BusLine$State", 425, " mode "), ("BusLine$State", 427, "stop "), ("BusLine$State", 429, " drive "), ("BusLine$State", 431, " off "), ("BusLine$State", 433, " point;"), ("BusLine$State", 435, ";"), ("BusLine$State", 437, "bus "), ("BusLine$State", 441, " start "), ("BusLine$State", 443, "from "), ("BusLine$State", 449, " to "), ("BusLine$State", 451, " every "), ("BusLine$State", 456, " first ")]
def zMi : List String := ["[Ljava/lang/Object;", "java/util/Collections$CopiesList", "java/util/ArrayList"]
def zCt : List String := ["BusLine$State", "BusLine$Flow", "java/lang/Integer", "BusLine$Stop", "BusLine$Bus", "java/lang/Comparable", "java/lang/String", "[Ljava/lang/Object;", "[B"]
def zNa : List Nat := [1, 2, 3, 4, 10, 11, 12, 13, 14]
/-- classes of which objects are made -/
def zOb : List Nat := [0, 1, 2, 3, 4, 5, 6, 7, 8, 9, 10, 14, 16, 18, 19, 27, 31, 33, 35, 37, 41, 42]
/-- classes of which arrays are made -/
def zAo : List String := ["java/lang/Object", "BusLine$Riders", "BusLine$Leavings", "BusLine$Bus", "java/lang/String"]
def cT (o : Nat) : u_T := match o with
  | 0 => TX0
  | 1 => TX1
  | 2 => TX2
  | 3 => TX3
  | 4 => TX4
  | 5 => TX5
  | 6 => TX6
  | 7 => TX7
  | 8 => TX8
  | 9 => TX9
  | 10 => TX10
  | 14 => TJ2
  | 16 => TJ4
  | 18 => TJ6
  | 19 => TJ7
  | 27 => TJ15
  | 31 => TJ19
  | 33 => TJ21
  | 35 => TJ23
  | 37 => TJ25
  | 41 => TJ29
  | 42 => TJ30
  | _ => TX4
def cTy (o : Nat) : Nat → FieldType := match o with
  | 0 => tyX0
  | 1 => tyX1
  | 2 => tyX2
  | 3 => tyX3
  | 4 => tyX4
  | 5 => tyX5
  | 6 => tyX6
  | 7 => tyX7
  | 8 => tyX8
  | 9 => tyX9
  | 10 => tyX10
  | 14 => tyJ2
  | 16 => tyJ4
  | 18 => tyJ6
  | 19 => tyJ7
  | 27 => tyJ15
  | 31 => tyJ19
  | 33 => tyJ21
  | 35 => tyJ23
  | 37 => tyJ25
  | 41 => tyJ29
  | 42 => tyJ30
  | _ => tyX4
def pF (o : Nat) (q : Nat × Nat) : Prop := Cond.fieldLink (cR o) q.1 (gNm q.2).1 (gNm q.2).2.1 (gNm q.2).2.2 ∈ zAll ∨ (gOwn q.2 ≠ o ∧ ∃ host, Cond.fieldLinkNest (cR o) q.1 (gNm q.2).1 (gNm q.2).2.1 (gNm q.2).2.2 host ∈ zNst) ∨ (∃ ref, Cond.fieldLink (cR o) q.1 ref (gNm q.2).2.1 (gNm q.2).2.2 ∈ zAll ∧ Cond.sameField ref (gNm q.2).1 (gNm q.2).2.1 (gNm q.2).2.2 ∈ zAll)
theorem tF_ok : ∀ (o : Nat) q, q ∈ tF o → pF o q := by
  intro o q h
  unfold tF at h
  split at h
  · exact (show ∀ q ∈ tF 0, pF 0 q from List.forall_mem_cons.2 ⟨Or.inl (za q1234), List.forall_mem_cons.2 ⟨Or.inl (za q1236), List.forall_mem_cons.2 ⟨Or.inl (za q1237), List.forall_mem_cons.2 ⟨Or.inl (za q1238), List.forall_mem_cons.2 ⟨Or.inl (za q1239), List.forall_mem_cons.2 ⟨Or.inr (Or.inl ⟨by decide, _, zn q919 rfl⟩), List.forall_mem_cons.2 ⟨Or.inr (Or.inl ⟨by decide, _, zn q887 rfl⟩), List.forall_mem_cons.2 ⟨Or.inr (Or.inl ⟨by decide, _, zn q279 rfl⟩), List.forall_mem_cons.2 ⟨Or.inl (za q1235), List.forall_mem_cons.2 ⟨Or.inr (Or.inl ⟨by decide, _, zn q1732 rfl⟩), List.forall_mem_cons.2 ⟨Or.inr (Or.inl ⟨by decide, _, zn q891 rfl⟩), List.forall_mem_cons.2 ⟨Or.inr (Or.inl ⟨by decide, _, zn q913 rfl⟩), List.forall_mem_cons.2 ⟨Or.inr (Or.inl ⟨by decide, _, zn q911 rfl⟩), List.forall_mem_cons.2 ⟨Or.inr (Or.inl ⟨by decide, _, zn q1053 rfl⟩), List.forall_mem_cons.2 ⟨Or.inr (Or.inl ⟨by decide, _, zn q1023 rfl⟩), List.forall_mem_cons.2 ⟨Or.inr (Or.inl ⟨by decide, _, zn q1056 rfl⟩), List.forall_mem_cons.2 ⟨Or.inr (Or.inl ⟨by decide, _, zn q1026 rfl⟩), List.forall_mem_cons.2 ⟨Or.inr (Or.inl ⟨by decide, _, zn q930 rfl⟩), List.forall_mem_cons.2 ⟨Or.inr (Or.inl ⟨by decide, _, zn q889 rfl⟩), List.forall_mem_cons.2 ⟨Or.inr (Or.inl ⟨by decide, _, zn q254 rfl⟩), List.forall_mem_cons.2 ⟨Or.inr (Or.inl ⟨by decide, _, zn q258 rfl⟩), List.forall_mem_cons.2 ⟨Or.inr (Or.inl ⟨by decide, _, zn q262 rfl⟩), List.forall_mem_cons.2 ⟨Or.inr (Or.inl ⟨by decide, _, zn q893 rfl⟩), List.forall_mem_cons.2 ⟨Or.inr (Or.inl ⟨by decide, _, zn q895 rfl⟩), List.forall_mem_cons.2 ⟨Or.inr (Or.inl ⟨by decide, _, zn q897 rfl⟩), List.forall_mem_cons.2 ⟨Or.inr (Or.inl ⟨by decide, _, zn q899 rfl⟩), List.forall_mem_cons.2 ⟨Or.inr (Or.inl ⟨by decide, _, zn q901 rfl⟩), List.forall_mem_cons.2 ⟨Or.inr (Or.inl ⟨by decide, _, zn q903 rfl⟩), List.forall_mem_cons.2 ⟨Or.inr (Or.inl ⟨by decide, _, zn q905 rfl⟩), List.forall_mem_cons.2 ⟨Or.inr (Or.inl ⟨by decide, _, zn q716 rfl⟩), List.forall_mem_cons.2 ⟨Or.inr (Or.inl ⟨by decide, _, zn q719 rfl⟩), List.forall_mem_cons.2 ⟨Or.inr (Or.inl ⟨by decide, _, zn q915 rfl⟩), List.forall_mem_cons.2 ⟨Or.inr (Or.inl ⟨by decide, _, zn q845 rfl⟩), List.forall_mem_cons.2 ⟨Or.inr (Or.inl ⟨by decide, _, zn q917 rfl⟩), List.forall_mem_cons.2 ⟨Or.inr (Or.inl ⟨by decide, _, zn q872 rfl⟩), List.forall_mem_cons.2 ⟨Or.inr (Or.inl ⟨by decide, _, zn q869 rfl⟩), List.forall_mem_cons.2 ⟨Or.inr (Or.inl ⟨by decide, _, zn q1016 rfl⟩), List.forall_mem_cons.2 ⟨Or.inr (Or.inl ⟨by decide, _, zn q1020 rfl⟩), List.forall_mem_cons.2 ⟨Or.inr (Or.inl ⟨by decide, _, zn q1029 rfl⟩), List.forall_mem_cons.2 ⟨Or.inr (Or.inl ⟨by decide, _, zn q1032 rfl⟩), List.forall_mem_cons.2 ⟨Or.inr (Or.inl ⟨by decide, _, zn q1050 rfl⟩), List.forall_mem_cons.2 ⟨Or.inr (Or.inl ⟨by decide, _, zn q1041 rfl⟩), List.forall_mem_cons.2 ⟨Or.inr (Or.inl ⟨by decide, _, zn q1035 rfl⟩), List.forall_mem_cons.2 ⟨Or.inr (Or.inl ⟨by decide, _, zn q1038 rfl⟩), List.forall_mem_cons.2 ⟨Or.inr (Or.inl ⟨by decide, _, zn q1817 rfl⟩), List.forall_mem_cons.2 ⟨Or.inr (Or.inl ⟨by decide, _, zn q712 rfl⟩), List.forall_mem_cons.2 ⟨Or.inr (Or.inl ⟨by decide, _, zn q1809 rfl⟩), List.forall_mem_cons.2 ⟨Or.inr (Or.inl ⟨by decide, _, zn q1811 rfl⟩), List.forall_mem_cons.2 ⟨Or.inr (Or.inl ⟨by decide, _, zn q1814 rfl⟩), List.forall_mem_cons.2 ⟨Or.inr (Or.inl ⟨by decide, _, zn q922 rfl⟩), List.forall_mem_cons.2 ⟨Or.inr (Or.inl ⟨by decide, _, zn q924 rfl⟩), List.forall_mem_cons.2 ⟨Or.inr (Or.inl ⟨by decide, _, zn q926 rfl⟩), List.forall_mem_cons.2 ⟨Or.inr (Or.inl ⟨by decide, _, zn q928 rfl⟩), List.forall_mem_cons.2 ⟨Or.inr (Or.inl ⟨by decide, _, zn q835 rfl⟩), List.forall_mem_cons.2 ⟨Or.inr (Or.inl ⟨by decide, _, zn q838 rfl⟩), List.forall_mem_cons.2 ⟨Or.inr (Or.inl ⟨by decide, _, zn q841 rfl⟩), List.forall_mem_cons.2 ⟨Or.inr (Or.inl ⟨by decide, _, zn q867 rfl⟩), List.forall_mem_cons.2 ⟨Or.inr (Or.inl ⟨by decide, _, zn q861 rfl⟩), List.forall_mem_cons.2 ⟨Or.inr (Or.inl ⟨by decide, _, zn q863 rfl⟩), List.forall_mem_cons.2 ⟨Or.inr (Or.inl ⟨by decide, _, zn q865 rfl⟩), List.forall_mem_cons.2 ⟨Or.inr (Or.inl ⟨by decide, _, zn q933 rfl⟩), List.forall_mem_cons.2 ⟨Or.inr (Or.inl ⟨by decide, _, zn q1044 rfl⟩), List.forall_mem_cons.2 ⟨Or.inr (Or.inl ⟨by decide, _, zn q1047 rfl⟩), List.forall_mem_cons.2 ⟨Or.inr (Or.inl ⟨by decide, _, zn q907 rfl⟩), List.forall_mem_cons.2 ⟨Or.inr (Or.inl ⟨by decide, _, zn q909 rfl⟩), List.forall_mem_nil _⟩⟩⟩⟩⟩⟩⟩⟩⟩⟩⟩⟩⟩⟩⟩⟩⟩⟩⟩⟩⟩⟩⟩⟩⟩⟩⟩⟩⟩⟩⟩⟩⟩⟩⟩⟩⟩⟩⟩⟩⟩⟩⟩⟩⟩⟩⟩⟩⟩⟩⟩⟩⟩⟩⟩⟩⟩⟩⟩⟩⟩⟩⟩⟩⟩) q h
  · exact (show ∀ q ∈ tF 1, pF 1 q from List.forall_mem_cons.2 ⟨Or.inl (za q251), List.forall_mem_cons.2 ⟨Or.inl (za q255), List.forall_mem_cons.2 ⟨Or.inl (za q259), List.forall_mem_cons.2 ⟨Or.inl (za q265), List.forall_mem_cons.2 ⟨Or.inl (za q268), List.forall_mem_cons.2 ⟨Or.inl (za q271), List.forall_mem_cons.2 ⟨Or.inl (za q274), List.forall_mem_cons.2 ⟨Or.inl (za q277), List.forall_mem_cons.2 ⟨Or.inl (za q281), List.forall_mem_cons.2 ⟨Or.inr (Or.inl ⟨by decide, _, zn q723 rfl⟩), List.forall_mem_cons.2 ⟨Or.inr (Or.inl ⟨by decide, _, zn q714 rfl⟩), List.forall_mem_nil _⟩⟩⟩⟩⟩⟩⟩⟩⟩⟩⟩) q h
  · exact (show ∀ q ∈ tF 2, pF 2 q from List.forall_mem_cons.2 ⟨Or.inl (za q722), List.forall_mem_cons.2 ⟨Or.inl (za q709), List.forall_mem_cons.2 ⟨Or.inl (za q711), List.forall_mem_cons.2 ⟨Or.inl (za q713), List.forall_mem_cons.2 ⟨Or.inl (za q717), List.forall_mem_cons.2 ⟨Or.inl (za q720), List.forall_mem_nil _⟩⟩⟩⟩⟩⟩) q h
  · exact (show ∀ q ∈ tF 3, pF 3 q from List.forall_mem_cons.2 ⟨Or.inl (za q910), List.forall_mem_cons.2 ⟨Or.inl (za q912), List.forall_mem_cons.2 ⟨Or.inl (za q914), List.forall_mem_cons.2 ⟨Or.inl (za q916), List.forall_mem_cons.2 ⟨Or.inl (za q920), List.forall_mem_cons.2 ⟨Or.inl (za q921), List.forall_mem_cons.2 ⟨Or.inl (za q923), List.forall_mem_cons.2 ⟨Or.inl (za q925), List.forall_mem_cons.2 ⟨Or.inl (za q927), List.forall_mem_cons.2 ⟨Or.inl (za q929), List.forall_mem_cons.2 ⟨Or.inl (za q931), List.forall_mem_cons.2 ⟨Or.inl (za q932), List.forall_mem_cons.2 ⟨Or.inl (za q886), List.forall_mem_cons.2 ⟨Or.inr (Or.inl ⟨by decide, _, zn q272 rfl⟩), List.forall_mem_cons.2 ⟨Or.inl (za q918), List.forall_mem_cons.2 ⟨Or.inr (Or.inl ⟨by decide, _, zn q263 rfl⟩), List.forall_mem_cons.2 ⟨Or.inl (za q890), List.forall_mem_cons.2 ⟨Or.inr (Or.inl ⟨by decide, _, zn q266 rfl⟩), List.forall_mem_cons.2 ⟨Or.inr (Or.inl ⟨by decide, _, zn q269 rfl⟩), List.forall_mem_cons.2 ⟨Or.inr (Or.inl ⟨by decide, _, zn q721 rfl⟩), List.forall_mem_cons.2 ⟨Or.inr (Or.inl ⟨by decide, _, zn q275 rfl⟩), List.forall_mem_cons.2 ⟨Or.inl (za q888), List.forall_mem_cons.2 ⟨Or.inl (za q892), List.forall_mem_cons.2 ⟨Or.inl (za q894), List.forall_mem_cons.2 ⟨Or.inl (za q896), List.forall_mem_cons.2 ⟨Or.inl (za q898), List.forall_mem_cons.2 ⟨Or.inl (za q900), List.forall_mem_cons.2 ⟨Or.inl (za q902), List.forall_mem_cons.2 ⟨Or.inl (za q904), List.forall_mem_cons.2 ⟨Or.inl (za q906), List.forall_mem_cons.2 ⟨Or.inl (za q908), List.forall_mem_cons.2 ⟨Or.inr (Or.inl ⟨by decide, _, zn q278 rfl⟩), List.forall_mem_cons.2 ⟨Or.inr (Or.inl ⟨by decide, _, zn q1028 rfl⟩), List.forall_mem_cons.2 ⟨Or.inr (Or.inl ⟨by decide, _, zn q1014 rfl⟩), List.forall_mem_cons.2 ⟨Or.inr (Or.inl ⟨by decide, _, zn q1025 rfl⟩), List.forall_mem_cons.2 ⟨Or.inr (Or.inl ⟨by decide, _, zn q844 rfl⟩), List.forall_mem_cons.2 ⟨Or.inr (Or.inl ⟨by decide, _, zn q837 rfl⟩), List.forall_mem_cons.2 ⟨Or.inr (Or.inl ⟨by decide, _, zn q840 rfl⟩), List.forall_mem_cons.2 ⟨Or.inr (Or.inl ⟨by decide, _, zn q724 rfl⟩), List.forall_mem_cons.2 ⟨Or.inr (Or.inl ⟨by decide, _, zn q1806 rfl⟩), List.forall_mem_cons.2 ⟨Or.inr (Or.inl ⟨by decide, _, zn q1808 rfl⟩), List.forall_mem_cons.2 ⟨Or.inr (Or.inl ⟨by decide, _, zn q1055 rfl⟩), List.forall_mem_cons.2 ⟨Or.inr (Or.inl ⟨by decide, _, zn q834 rfl⟩), List.forall_mem_cons.2 ⟨Or.inr (Or.inl ⟨by decide, _, zn q1034 rfl⟩), List.forall_mem_cons.2 ⟨Or.inr (Or.inl ⟨by decide, _, zn q1022 rfl⟩), List.forall_mem_cons.2 ⟨Or.inr (Or.inl ⟨by decide, _, zn q715 rfl⟩), List.forall_mem_cons.2 ⟨Or.inr (Or.inl ⟨by decide, _, zn q1031 rfl⟩), List.forall_mem_cons.2 ⟨Or.inr (Or.inl ⟨by decide, _, zn q1052 rfl⟩), List.forall_mem_cons.2 ⟨Or.inr (Or.inl ⟨by decide, _, zn q253 rfl⟩), List.forall_mem_cons.2 ⟨Or.inr (Or.inl ⟨by decide, _, zn q261 rfl⟩), List.forall_mem_cons.2 ⟨Or.inr (Or.inl ⟨by decide, _, zn q257 rfl⟩), List.forall_mem_cons.2 ⟨Or.inr (Or.inl ⟨by decide, _, zn q1040 rfl⟩), List.forall_mem_cons.2 ⟨Or.inr (Or.inl ⟨by decide, _, zn q1037 rfl⟩), List.forall_mem_cons.2 ⟨Or.inr (Or.inl ⟨by decide, _, zn q1043 rfl⟩), List.forall_mem_cons.2 ⟨Or.inr (Or.inl ⟨by decide, _, zn q1046 rfl⟩), List.forall_mem_cons.2 ⟨Or.inr (Or.inl ⟨by decide, _, zn q1049 rfl⟩), List.forall_mem_cons.2 ⟨Or.inr (Or.inl ⟨by decide, _, zn q1019 rfl⟩), List.forall_mem_cons.2 ⟨Or.inr (Or.inl ⟨by decide, _, zn q718 rfl⟩), List.forall_mem_cons.2 ⟨Or.inr (Or.inl ⟨by decide, _, zn q871 rfl⟩), List.forall_mem_cons.2 ⟨Or.inr (Or.inl ⟨by decide, _, zn q710 rfl⟩), List.forall_mem_cons.2 ⟨Or.inr (Or.inl ⟨by decide, _, zn q1017 rfl⟩), List.forall_mem_cons.2 ⟨Or.inr (Or.inl ⟨by decide, _, zn q1818 rfl⟩), List.forall_mem_cons.2 ⟨Or.inr (Or.inl ⟨by decide, _, zn q1812 rfl⟩), List.forall_mem_cons.2 ⟨Or.inr (Or.inl ⟨by decide, _, zn q1815 rfl⟩), List.forall_mem_nil _⟩⟩⟩⟩⟩⟩⟩⟩⟩⟩⟩⟩⟩⟩⟩⟩⟩⟩⟩⟩⟩⟩⟩⟩⟩⟩⟩⟩⟩⟩⟩⟩⟩⟩⟩⟩⟩⟩⟩⟩⟩⟩⟩⟩⟩⟩⟩⟩⟩⟩⟩⟩⟩⟩⟩⟩⟩⟩⟩⟩⟩⟩⟩⟩) q h
  · exact (show ∀ q ∈ tF 4, pF 4 q from List.forall_mem_cons.2 ⟨Or.inl (za q833), List.forall_mem_cons.2 ⟨Or.inl (za q836), List.forall_mem_cons.2 ⟨Or.inl (za q839), List.forall_mem_cons.2 ⟨Or.inl (za q842), List.forall_mem_nil _⟩⟩⟩⟩) q h
  · exact (show ∀ q ∈ tF 5, pF 5 q from List.forall_mem_cons.2 ⟨Or.inl (za q860), List.forall_mem_cons.2 ⟨Or.inl (za q862), List.forall_mem_cons.2 ⟨Or.inl (za q864), List.forall_mem_cons.2 ⟨Or.inl (za q870), List.forall_mem_cons.2 ⟨Or.inl (za q866), List.forall_mem_cons.2 ⟨Or.inl (za q868), List.forall_mem_nil _⟩⟩⟩⟩⟩⟩) q h
  · exact (show ∀ q ∈ tF 6, pF 6 q from List.forall_mem_cons.2 ⟨Or.inl (za q1021), List.forall_mem_cons.2 ⟨Or.inl (za q1036), List.forall_mem_cons.2 ⟨Or.inl (za q1039), List.forall_mem_cons.2 ⟨Or.inl (za q1013), List.forall_mem_cons.2 ⟨Or.inl (za q1015), List.forall_mem_cons.2 ⟨Or.inl (za q1018), List.forall_mem_cons.2 ⟨Or.inl (za q1054), List.forall_mem_cons.2 ⟨Or.inl (za q1027), List.forall_mem_cons.2 ⟨Or.inl (za q1042), List.forall_mem_cons.2 ⟨Or.inl (za q1045), List.forall_mem_cons.2 ⟨Or.inl (za q1024), List.forall_mem_cons.2 ⟨Or.inl (za q1030), List.forall_mem_cons.2 ⟨Or.inl (za q1033), List.forall_mem_cons.2 ⟨Or.inl (za q1048), List.forall_mem_cons.2 ⟨Or.inl (za q1051), List.forall_mem_cons.2 ⟨Or.inr (Or.inl ⟨by decide, _, zn q843 rfl⟩), List.forall_mem_nil _⟩⟩⟩⟩⟩⟩⟩⟩⟩⟩⟩⟩⟩⟩⟩⟩) q h
  · exact (show ∀ q ∈ tF 7, pF 7 q from List.forall_mem_cons.2 ⟨Or.inl (za q2531), List.forall_mem_cons.2 ⟨Or.inl (za q2533), List.forall_mem_cons.2 ⟨Or.inl (za q2541), List.forall_mem_cons.2 ⟨Or.inl (za q2542), List.forall_mem_cons.2 ⟨Or.inl (za q2543), List.forall_mem_cons.2 ⟨Or.inl (za q2544), List.forall_mem_cons.2 ⟨Or.inl (za q2545), List.forall_mem_cons.2 ⟨Or.inl (za q2546), List.forall_mem_cons.2 ⟨Or.inl (za q2547), List.forall_mem_cons.2 ⟨Or.inl (za q2548), List.forall_mem_cons.2 ⟨Or.inl (za q2549), List.forall_mem_cons.2 ⟨Or.inl (za q2550), List.forall_mem_cons.2 ⟨Or.inl (za q2551), List.forall_mem_cons.2 ⟨Or.inl (za q2552), List.forall_mem_cons.2 ⟨Or.inl (za q2553), List.forall_mem_cons.2 ⟨Or.inl (za q2554), List.forall_mem_cons.2 ⟨Or.inl (za q2555), List.forall_mem_cons.2 ⟨Or.inl (za q2556), List.forall_mem_cons.2 ⟨Or.inl (za q2557), List.forall_mem_cons.2 ⟨Or.inl (za q2558), List.forall_mem_cons.2 ⟨Or.inl (za q2559), List.forall_mem_cons.2 ⟨Or.inl (za q2560), List.forall_mem_cons.2 ⟨Or.inl (za q2573), List.forall_mem_cons.2 ⟨Or.inl (za q2574), List.forall_mem_cons.2 ⟨Or.inl (za q2575), List.forall_mem_cons.2 ⟨Or.inl (za q2576), List.forall_mem_cons.2 ⟨Or.inl (za q2577), List.forall_mem_cons.2 ⟨Or.inl (za q2578), List.forall_mem_cons.2 ⟨Or.inl (za q2579), List.forall_mem_cons.2 ⟨Or.inl (za q2580), List.forall_mem_cons.2 ⟨Or.inl (za q2581), List.forall_mem_cons.2 ⟨Or.inl (za q2582), List.forall_mem_cons.2 ⟨Or.inl (za q2583), List.forall_mem_cons.2 ⟨Or.inl (za q2534), List.forall_mem_cons.2 ⟨Or.inl (za q2535), List.forall_mem_cons.2 ⟨Or.inl (za q2537), List.forall_mem_cons.2 ⟨Or.inl (za q2538), List.forall_mem_cons.2 ⟨Or.inl (za q2539), List.forall_mem_cons.2 ⟨Or.inl (za q2540), List.forall_mem_cons.2 ⟨Or.inl (za q2536), List.forall_mem_cons.2 ⟨Or.inl (za q2561), List.forall_mem_cons.2 ⟨Or.inl (za q2562), List.forall_mem_cons.2 ⟨Or.inl (za q2563), List.forall_mem_cons.2 ⟨Or.inl (za q2532), List.forall_mem_cons.2 ⟨Or.inl (za q2566), List.forall_mem_cons.2 ⟨Or.inl (za q2568), List.forall_mem_cons.2 ⟨Or.inl (za q2564), List.forall_mem_cons.2 ⟨Or.inl (za q2565), List.forall_mem_cons.2 ⟨Or.inl (za q2567), List.forall_mem_cons.2 ⟨Or.inl (za q2569), List.forall_mem_cons.2 ⟨Or.inl (za q2570), List.forall_mem_cons.2 ⟨Or.inl (za q2571), List.forall_mem_cons.2 ⟨Or.inl (za q2572), List.forall_mem_cons.2 ⟨Or.inl (za q2584), List.forall_mem_cons.2 ⟨Or.inl (za q2585), List.forall_mem_cons.2 ⟨Or.inl (za q2586), List.forall_mem_nil _⟩⟩⟩⟩⟩⟩⟩⟩⟩⟩⟩⟩⟩⟩⟩⟩⟩⟩⟩⟩⟩⟩⟩⟩⟩⟩⟩⟩⟩⟩⟩⟩⟩⟩⟩⟩⟩⟩⟩⟩⟩⟩⟩⟩⟩⟩⟩⟩⟩⟩⟩⟩⟩⟩⟩⟩) q h
  · exact (show ∀ q ∈ tF 8, pF 8 q from List.forall_mem_cons.2 ⟨Or.inl (za q1494), List.forall_mem_cons.2 ⟨Or.inl (za q1500), List.forall_mem_cons.2 ⟨Or.inl (za q1495), List.forall_mem_cons.2 ⟨Or.inl (za q1496), List.forall_mem_cons.2 ⟨Or.inl (za q1497), List.forall_mem_cons.2 ⟨Or.inl (za q1499), List.forall_mem_cons.2 ⟨Or.inl (za q1498), List.forall_mem_cons.2 ⟨Or.inr (Or.inl ⟨by decide, _, zn q252 rfl⟩), List.forall_mem_cons.2 ⟨Or.inr (Or.inl ⟨by decide, _, zn q256 rfl⟩), List.forall_mem_cons.2 ⟨Or.inr (Or.inl ⟨by decide, _, zn q260 rfl⟩), List.forall_mem_cons.2 ⟨Or.inr (Or.inl ⟨by decide, _, zn q267 rfl⟩), List.forall_mem_cons.2 ⟨Or.inr (Or.inl ⟨by decide, _, zn q264 rfl⟩), List.forall_mem_cons.2 ⟨Or.inr (Or.inl ⟨by decide, _, zn q270 rfl⟩), List.forall_mem_cons.2 ⟨Or.inr (Or.inl ⟨by decide, _, zn q273 rfl⟩), List.forall_mem_cons.2 ⟨Or.inr (Or.inl ⟨by decide, _, zn q276 rfl⟩), List.forall_mem_cons.2 ⟨Or.inr (Or.inl ⟨by decide, _, zn q280 rfl⟩), List.forall_mem_nil _⟩⟩⟩⟩⟩⟩⟩⟩⟩⟩⟩⟩⟩⟩⟩⟩) q h
  · exact (show ∀ q ∈ tF 9, pF 9 q from List.forall_mem_cons.2 ⟨Or.inl (za q1731), List.forall_mem_nil _⟩) q h
  · exact (show ∀ q ∈ tF 10, pF 10 q from List.forall_mem_cons.2 ⟨Or.inl (za q1805), List.forall_mem_cons.2 ⟨Or.inl (za q1816), List.forall_mem_cons.2 ⟨Or.inl (za q1807), List.forall_mem_cons.2 ⟨Or.inl (za q1810), List.forall_mem_cons.2 ⟨Or.inl (za q1813), List.forall_mem_nil _⟩⟩⟩⟩⟩) q h
  · exact (show ∀ q ∈ tF 13, pF 13 q from List.forall_mem_cons.2 ⟨Or.inl (za q207), List.forall_mem_nil _⟩) q h
  · exact (show ∀ q ∈ tF 14, pF 14 q from List.forall_mem_cons.2 ⟨Or.inl (za q205), List.forall_mem_cons.2 ⟨Or.inl (za q206), List.forall_mem_cons.2 ⟨Or.inr (Or.inr ⟨"java/util/ArrayList", za q208, za q209⟩), List.forall_mem_nil _⟩⟩⟩) q h
  · exact (show ∀ q ∈ tF 16, pF 16 q from List.forall_mem_cons.2 ⟨Or.inl (za q230), List.forall_mem_cons.2 ⟨Or.inl (za q231), List.forall_mem_cons.2 ⟨Or.inl (za q228), List.forall_mem_cons.2 ⟨Or.inl (za q647), List.forall_mem_cons.2 ⟨Or.inl (za q229), List.forall_mem_cons.2 ⟨Or.inl (za q645), List.forall_mem_cons.2 ⟨Or.inl (za q648), List.forall_mem_cons.2 ⟨Or.inl (za q649), List.forall_mem_cons.2 ⟨Or.inl (za q651), List.forall_mem_cons.2 ⟨Or.inl (za q653), List.forall_mem_nil _⟩⟩⟩⟩⟩⟩⟩⟩⟩⟩) q h
  · exact (show ∀ q ∈ tF 18, pF 18 q from List.forall_mem_cons.2 ⟨Or.inl (za q328), List.forall_mem_nil _⟩) q h
  · exact (show ∀ q ∈ tF 19, pF 19 q from List.forall_mem_cons.2 ⟨Or.inl (za q1411), List.forall_mem_cons.2 ⟨Or.inl (za q1412), List.forall_mem_cons.2 ⟨Or.inl (za q1291), List.forall_mem_nil _⟩⟩⟩) q h
  · exact (show ∀ q ∈ tF 27, pF 27 q from List.forall_mem_cons.2 ⟨Or.inl (za q652), List.forall_mem_cons.2 ⟨Or.inl (za q644), List.forall_mem_cons.2 ⟨Or.inl (za q646), List.forall_mem_cons.2 ⟨Or.inl (za q650), List.forall_mem_nil _⟩⟩⟩⟩) q h
  · exact (show ∀ q ∈ tF 31, pF 31 q from List.forall_mem_cons.2 ⟨Or.inl (za q807), List.forall_mem_cons.2 ⟨Or.inl (za q809), List.forall_mem_cons.2 ⟨Or.inl (za q808), List.forall_mem_cons.2 ⟨Or.inl (za q810), List.forall_mem_nil _⟩⟩⟩⟩) q h
  · exact (show ∀ q ∈ tF 33, pF 33 q from List.forall_mem_cons.2 ⟨Or.inl (za q1130), List.forall_mem_cons.2 ⟨Or.inl (za q1131), List.forall_mem_nil _⟩⟩) q h
  · exact (show ∀ q ∈ tF 35, pF 35 q from List.forall_mem_cons.2 ⟨Or.inl (za q1224), List.forall_mem_cons.2 ⟨Or.inl (za q1226), List.forall_mem_cons.2 ⟨Or.inl (za q1225), List.forall_mem_nil _⟩⟩⟩) q h
  · exact (show ∀ q ∈ tF 36, pF 36 q from List.forall_mem_cons.2 ⟨Or.inl (za q1289), List.forall_mem_cons.2 ⟨Or.inl (za q1290), List.forall_mem_cons.2 ⟨Or.inl (za q1292), List.forall_mem_nil _⟩⟩⟩) q h
  · exact (show ∀ q ∈ tF 41, pF 41 q from List.forall_mem_cons.2 ⟨Or.inl (za q1464), List.forall_mem_cons.2 ⟨Or.inl (za q1465), List.forall_mem_nil _⟩⟩) q h
  · exact (show ∀ q ∈ tF 42, pF 42 q from List.forall_mem_cons.2 ⟨Or.inl (za q1485), List.forall_mem_cons.2 ⟨Or.inl (za q1486), List.forall_mem_nil _⟩⟩) q h
  · cases h
def pS (o : Nat) (q : Nat × Nat) : Prop := ∃ z, zSt[q.2]? = some z ∧ (Cond.fieldLink (cR o) q.1 z.1 z.2.1 z.2.2 ∈ zAll ∨ ∃ host, Cond.fieldLinkNest (cR o) q.1 z.1 z.2.1 z.2.2 host ∈ zNst)
theorem tS_ok : ∀ (o : Nat) q, q ∈ tS o → pS o q := by
  intro o q h
  unfold tS at h
  split at h
  · exact (show ∀ q ∈ tS 8, pS 8 q from List.forall_mem_cons.2 ⟨⟨_, rfl, Or.inl (za q1547)⟩, List.forall_mem_cons.2 ⟨⟨_, rfl, Or.inl (za q1660)⟩, List.forall_mem_cons.2 ⟨⟨_, rfl, Or.inl (za q1662)⟩, List.forall_mem_cons.2 ⟨⟨_, rfl, Or.inl (za q1664)⟩, List.forall_mem_cons.2 ⟨⟨_, rfl, Or.inl (za q1672)⟩, List.forall_mem_cons.2 ⟨⟨_, rfl, Or.inl (za q1670)⟩, List.forall_mem_nil _⟩⟩⟩⟩⟩⟩) q h
  · exact (show ∀ q ∈ tS 14, pS 14 q from List.forall_mem_cons.2 ⟨⟨_, rfl, Or.inl (za q1216)⟩, List.forall_mem_cons.2 ⟨⟨_, rfl, Or.inl (za q203)⟩, List.forall_mem_nil _⟩⟩) q h
  · exact (show ∀ q ∈ tS 18, pS 18 q from List.forall_mem_cons.2 ⟨⟨_, rfl, Or.inl (za q2425)⟩, List.forall_mem_cons.2 ⟨⟨_, rfl, Or.inl (za q2427)⟩, List.forall_mem_cons.2 ⟨⟨_, rfl, Or.inl (za q315)⟩, List.forall_mem_cons.2 ⟨⟨_, rfl, Or.inl (za q317)⟩, List.forall_mem_nil _⟩⟩⟩⟩) q h
  · exact (show ∀ q ∈ tS 19, pS 19 q from List.forall_mem_cons.2 ⟨⟨_, rfl, Or.inl (za q438)⟩, List.forall_mem_cons.2 ⟨⟨_, rfl, Or.inl (za q621)⟩, List.forall_mem_nil _⟩⟩) q h
  · exact (show ∀ q ∈ tS 22, pS 22 q from List.forall_mem_cons.2 ⟨⟨_, rfl, Or.inl (za q459)⟩, List.forall_mem_cons.2 ⟨⟨_, rfl, Or.inl (za q461)⟩, List.forall_mem_cons.2 ⟨⟨_, rfl, Or.inl (za q515)⟩, List.forall_mem_cons.2 ⟨⟨_, rfl, Or.inl (za q524)⟩, List.forall_mem_cons.2 ⟨⟨_, rfl, Or.inl (za q532)⟩, List.forall_mem_cons.2 ⟨⟨_, rfl, Or.inl (za q452)⟩, List.forall_mem_cons.2 ⟨⟨_, rfl, Or.inl (za q454)⟩, List.forall_mem_nil _⟩⟩⟩⟩⟩⟩⟩) q h
  · exact (show ∀ q ∈ tS 25, pS 25 q from List.forall_mem_cons.2 ⟨⟨_, rfl, Or.inl (za q569)⟩, List.forall_mem_cons.2 ⟨⟨_, rfl, Or.inl (za q571)⟩, List.forall_mem_cons.2 ⟨⟨_, rfl, Or.inl (za q573)⟩, List.forall_mem_cons.2 ⟨⟨_, rfl, Or.inl (za q1574)⟩, List.forall_mem_cons.2 ⟨⟨_, rfl, Or.inl (za q2435)⟩, List.forall_mem_cons.2 ⟨⟨_, rfl, Or.inl (za q2436)⟩, List.forall_mem_nil _⟩⟩⟩⟩⟩⟩) q h
  · exact (show ∀ q ∈ tS 33, pS 33 q from List.forall_mem_cons.2 ⟨⟨_, rfl, Or.inl (za q1128)⟩, List.forall_mem_nil _⟩) q h
  · exact (show ∀ q ∈ tS 36, pS 36 q from List.forall_mem_cons.2 ⟨⟨_, rfl, Or.inl (za q610)⟩, List.forall_mem_nil _⟩) q h
  · exact (show ∀ q ∈ tS 38, pS 38 q from List.forall_mem_cons.2 ⟨⟨_, rfl, Or.inl (za q1449)⟩, List.forall_mem_nil _⟩) q h
  · exact (show ∀ q ∈ tS 41, pS 41 q from List.forall_mem_cons.2 ⟨⟨_, rfl, Or.inr ⟨_, zn q1186 rfl⟩⟩, List.forall_mem_nil _⟩) q h
  · cases h
def pI (o : Nat) (q : Nat × Value) : Prop := (∃ v, q.2 = .int v ∧ Cond.constant (cR o) q.1 v ∈ zAll) ∨ (∃ v, q.2 = .float v ∧ Cond.constantFloat (cR o) q.1 v ∈ zAll)
theorem tI_ok : ∀ (o : Nat) q, q ∈ tI o → pI o q := by
  intro o q h
  unfold tI at h
  split at h
  · exact (show ∀ q ∈ tI 0, pI 0 q from List.forall_mem_cons.2 ⟨Or.inl ⟨_, rfl, za q2311⟩, List.forall_mem_cons.2 ⟨Or.inl ⟨_, rfl, za q2349⟩, List.forall_mem_cons.2 ⟨Or.inr ⟨_, rfl, za q2366⟩, List.forall_mem_nil _⟩⟩⟩) q h
  · exact (show ∀ q ∈ tI 7, pI 7 q from List.forall_mem_cons.2 ⟨Or.inl ⟨_, rfl, za q2521⟩, List.forall_mem_cons.2 ⟨Or.inl ⟨_, rfl, za q2522⟩, List.forall_mem_cons.2 ⟨Or.inl ⟨_, rfl, za q3070⟩, List.forall_mem_cons.2 ⟨Or.inr ⟨_, rfl, za q3129⟩, List.forall_mem_nil _⟩⟩⟩⟩) q h
  · exact (show ∀ q ∈ tI 18, pI 18 q from List.forall_mem_cons.2 ⟨Or.inl ⟨_, rfl, za q523⟩, List.forall_mem_nil _⟩) q h
  · exact (show ∀ q ∈ tI 22, pI 22 q from List.forall_mem_cons.2 ⟨Or.inl ⟨_, rfl, za q760⟩, List.forall_mem_nil _⟩) q h
  · exact (show ∀ q ∈ tI 25, pI 25 q from List.forall_mem_cons.2 ⟨Or.inl ⟨_, rfl, za q1288⟩, List.forall_mem_nil _⟩) q h
  · exact (show ∀ q ∈ tI 35, pI 35 q from List.forall_mem_cons.2 ⟨Or.inl ⟨_, rfl, za q1886⟩, List.forall_mem_cons.2 ⟨Or.inl ⟨_, rfl, za q1891⟩, List.forall_mem_nil _⟩⟩) q h
  · exact (show ∀ q ∈ tI 36, pI 36 q from List.forall_mem_cons.2 ⟨Or.inl ⟨_, rfl, za q2484⟩, List.forall_mem_cons.2 ⟨Or.inl ⟨_, rfl, za q1317⟩, List.forall_mem_nil _⟩⟩) q h
  · cases h
def pJ (o : Nat) (q : Nat × Value) : Prop := ∃ v, q.2 = .long v ∧ Cond.constantLong (cR o) q.1 v ∈ zAll
theorem tJ_ok : ∀ (o : Nat) q, q ∈ tJ o → pJ o q := by
  intro o q h
  unfold tJ at h
  split at h
  · exact (show ∀ q ∈ tJ 7, pJ 7 q from List.forall_mem_cons.2 ⟨⟨_, rfl, za q2740⟩, List.forall_mem_cons.2 ⟨⟨_, rfl, za q2741⟩, List.forall_mem_cons.2 ⟨⟨_, rfl, za q2742⟩, List.forall_mem_cons.2 ⟨⟨_, rfl, za q2743⟩, List.forall_mem_cons.2 ⟨⟨_, rfl, za q2744⟩, List.forall_mem_cons.2 ⟨⟨_, rfl, za q2745⟩, List.forall_mem_cons.2 ⟨⟨_, rfl, za q2746⟩, List.forall_mem_cons.2 ⟨⟨_, rfl, za q2747⟩, List.forall_mem_cons.2 ⟨⟨_, rfl, za q2748⟩, List.forall_mem_cons.2 ⟨⟨_, rfl, za q2749⟩, List.forall_mem_cons.2 ⟨⟨_, rfl, za q2750⟩, List.forall_mem_cons.2 ⟨⟨_, rfl, za q2751⟩, List.forall_mem_cons.2 ⟨⟨_, rfl, za q2752⟩, List.forall_mem_cons.2 ⟨⟨_, rfl, za q2753⟩, List.forall_mem_cons.2 ⟨⟨_, rfl, za q2754⟩, List.forall_mem_cons.2 ⟨⟨_, rfl, za q2755⟩, List.forall_mem_cons.2 ⟨⟨_, rfl, za q2756⟩, List.forall_mem_cons.2 ⟨⟨_, rfl, za q2757⟩, List.forall_mem_cons.2 ⟨⟨_, rfl, za q2736⟩, List.forall_mem_cons.2 ⟨⟨_, rfl, za q2817⟩, List.forall_mem_cons.2 ⟨⟨_, rfl, za q2841⟩, List.forall_mem_cons.2 ⟨⟨_, rfl, za q2842⟩, List.forall_mem_cons.2 ⟨⟨_, rfl, za q2843⟩, List.forall_mem_cons.2 ⟨⟨_, rfl, za q2844⟩, List.forall_mem_cons.2 ⟨⟨_, rfl, za q2845⟩, List.forall_mem_cons.2 ⟨⟨_, rfl, za q2877⟩, List.forall_mem_cons.2 ⟨⟨_, rfl, za q3016⟩, List.forall_mem_cons.2 ⟨⟨_, rfl, za q3037⟩, List.forall_mem_cons.2 ⟨⟨_, rfl, za q3050⟩, List.forall_mem_cons.2 ⟨⟨_, rfl, za q3099⟩, List.forall_mem_cons.2 ⟨⟨_, rfl, za q3116⟩, List.forall_mem_cons.2 ⟨⟨_, rfl, za q3146⟩, List.forall_mem_cons.2 ⟨⟨_, rfl, za q3174⟩, List.forall_mem_cons.2 ⟨⟨_, rfl, za q3175⟩, List.forall_mem_cons.2 ⟨⟨_, rfl, za q3176⟩, List.forall_mem_cons.2 ⟨⟨_, rfl, za q3177⟩, List.forall_mem_cons.2 ⟨⟨_, rfl, za q3178⟩, List.forall_mem_nil _⟩⟩⟩⟩⟩⟩⟩⟩⟩⟩⟩⟩⟩⟩⟩⟩⟩⟩⟩⟩⟩⟩⟩⟩⟩⟩⟩⟩⟩⟩⟩⟩⟩⟩⟩⟩⟩) q h
  · cases h
def pG (o : Nat) (q : Nat × Nat) : Prop := ∃ z, zTx[q.2]? = some z ∧ z.1 = cR o ∧ z.2.1 = q.1
theorem tG_ok : ∀ (o : Nat) q, q ∈ tG o → pG o q := by
  intro o q h
  unfold tG at h
  split at h
  · exact (show ∀ q ∈ tG 1, pG 1 q from List.forall_mem_cons.2 ⟨⟨_, rfl, rfl, rfl⟩, List.forall_mem_cons.2 ⟨⟨_, rfl, rfl, rfl⟩, List.forall_mem_nil _⟩⟩) q h
  · exact (show ∀ q ∈ tG 3, pG 3 q from List.forall_mem_cons.2 ⟨⟨_, rfl, rfl, rfl⟩, List.forall_mem_cons.2 ⟨⟨_, rfl, rfl, rfl⟩, List.forall_mem_cons.2 ⟨⟨_, rfl, rfl, rfl⟩, List.forall_mem_cons.2 ⟨⟨_, rfl, rfl, rfl⟩, List.forall_mem_cons.2 ⟨⟨_, rfl, rfl, rfl⟩, List.forall_mem_cons.2 ⟨⟨_, rfl, rfl, rfl⟩, List.forall_mem_cons.2 ⟨⟨_, rfl, rfl, rfl⟩, List.forall_mem_cons.2 ⟨⟨_, rfl, rfl, rfl⟩, List.forall_mem_cons.2 ⟨⟨_, rfl, rfl, rfl⟩, List.forall_mem_cons.2 ⟨⟨_, rfl, rfl, rfl⟩, List.forall_mem_cons.2 ⟨⟨_, rfl, rfl, rfl⟩, List.forall_mem_cons.2 ⟨⟨_, rfl, rfl, rfl⟩, List.forall_mem_cons.2 ⟨⟨_, rfl, rfl, rfl⟩, List.forall_mem_cons.2 ⟨⟨_, rfl, rfl, rfl⟩, List.forall_mem_cons.2 ⟨⟨_, rfl, rfl, rfl⟩, List.forall_mem_cons.2 ⟨⟨_, rfl, rfl, rfl⟩, List.forall_mem_cons.2 ⟨⟨_, rfl, rfl, rfl⟩, List.forall_mem_cons.2 ⟨⟨_, rfl, rfl, rfl⟩, List.forall_mem_cons.2 ⟨⟨_, rfl, rfl, rfl⟩, List.forall_mem_cons.2 ⟨⟨_, rfl, rfl, rfl⟩, List.forall_mem_cons.2 ⟨⟨_, rfl, rfl, rfl⟩, List.forall_mem_cons.2 ⟨⟨_, rfl, rfl, rfl⟩, List.forall_mem_cons.2 ⟨⟨_, rfl, rfl, rfl⟩, List.forall_mem_cons.2 ⟨⟨_, rfl, rfl, rfl⟩, List.forall_mem_cons.2 ⟨⟨_, rfl, rfl, rfl⟩, List.forall_mem_cons.2 ⟨⟨_, rfl, rfl, rfl⟩, List.forall_mem_nil _⟩⟩⟩⟩⟩⟩⟩⟩⟩⟩⟩⟩⟩⟩⟩⟩⟩⟩⟩⟩⟩⟩⟩⟩⟩⟩) q h
  · exact (show ∀ q ∈ tG 8, pG 8 q from List.forall_mem_cons.2 ⟨⟨_, rfl, rfl, rfl⟩, List.forall_mem_cons.2 ⟨⟨_, rfl, rfl, rfl⟩, List.forall_mem_cons.2 ⟨⟨_, rfl, rfl, rfl⟩, List.forall_mem_cons.2 ⟨⟨_, rfl, rfl, rfl⟩, List.forall_mem_cons.2 ⟨⟨_, rfl, rfl, rfl⟩, List.forall_mem_cons.2 ⟨⟨_, rfl, rfl, rfl⟩, List.forall_mem_cons.2 ⟨⟨_, rfl, rfl, rfl⟩, List.forall_mem_cons.2 ⟨⟨_, rfl, rfl, rfl⟩, List.forall_mem_cons.2 ⟨⟨_, rfl, rfl, rfl⟩, List.forall_mem_cons.2 ⟨⟨_, rfl, rfl, rfl⟩, List.forall_mem_cons.2 ⟨⟨_, rfl, rfl, rfl⟩, List.forall_mem_cons.2 ⟨⟨_, rfl, rfl, rfl⟩, List.forall_mem_cons.2 ⟨⟨_, rfl, rfl, rfl⟩, List.forall_mem_cons.2 ⟨⟨_, rfl, rfl, rfl⟩, List.forall_mem_cons.2 ⟨⟨_, rfl, rfl, rfl⟩, List.forall_mem_cons.2 ⟨⟨_, rfl, rfl, rfl⟩, List.forall_mem_cons.2 ⟨⟨_, rfl, rfl, rfl⟩, List.forall_mem_cons.2 ⟨⟨_, rfl, rfl, rfl⟩, List.forall_mem_nil _⟩⟩⟩⟩⟩⟩⟩⟩⟩⟩⟩⟩⟩⟩⟩⟩⟩⟩) q h
  · exact (show ∀ q ∈ tG 20, pG 20 q from List.forall_mem_cons.2 ⟨⟨_, rfl, rfl, rfl⟩, List.forall_mem_nil _⟩) q h
  · exact (show ∀ q ∈ tG 25, pG 25 q from List.forall_mem_cons.2 ⟨⟨_, rfl, rfl, rfl⟩, List.forall_mem_nil _⟩) q h
  · cases h
def pM (o : Nat) (q : Nat × Nat) : Prop := ∃ z, zMi[q.2]? = some z ∧ Cond.classLink (cR o) q.1 z ∈ zAll
theorem tM_ok : ∀ (o : Nat) q, q ∈ tM o → pM o q := by
  intro o q h
  unfold tM at h
  split at h
  · exact (show ∀ q ∈ tM 14, pM 14 q from List.forall_mem_cons.2 ⟨⟨_, rfl, za q1213⟩, List.forall_mem_cons.2 ⟨⟨_, rfl, za q1214⟩, List.forall_mem_nil _⟩⟩) q h
  · exact (show ∀ q ∈ tM 29, pM 29 q from List.forall_mem_cons.2 ⟨⟨_, rfl, za q771⟩, List.forall_mem_nil _⟩) q h
  · cases h
def pN (o : Nat) (q : Nat × Nat) : Prop := Cond.classLink (cR o) q.1 (cR q.2) ∈ zAll ∧ Cond.instantiable (cR q.2) (cN q.2) ∈ zAll ∧ Cond.initialized (cR q.2) ∈ zAll ∧ q.2 ∈ zOb
theorem tN_ok : ∀ (o : Nat) q, q ∈ tN o → pN o q := by
  intro o q h
  unfold tN at h
  split at h
  · exact (show ∀ q ∈ tN 0, pN 0 q from List.forall_mem_cons.2 ⟨⟨za q1117, za q192, za q129, by decide⟩, List.forall_mem_cons.2 ⟨⟨za q1218, za q1155, za q158, by decide⟩, List.forall_mem_cons.2 ⟨⟨za q1273, za q1274, za q161, by decide⟩, List.forall_mem_cons.2 ⟨⟨za q1363, za q1364, za q162, by decide⟩, List.forall_mem_nil _⟩⟩⟩⟩) q h
  · exact (show ∀ q ∈ tN 1, pN 1 q from List.forall_mem_cons.2 ⟨⟨za q185, za q186, za q126, by decide⟩, List.forall_mem_cons.2 ⟨⟨za q191, za q192, za q129, by decide⟩, List.forall_mem_cons.2 ⟨⟨za q219, za q220, za q131, by decide⟩, List.forall_mem_cons.2 ⟨⟨za q701, za q702, za q146, by decide⟩, List.forall_mem_cons.2 ⟨⟨za q1799, za q1800, za q173, by decide⟩, List.forall_mem_nil _⟩⟩⟩⟩⟩) q h
  · exact (show ∀ q ∈ tN 2, pN 2 q from List.forall_mem_cons.2 ⟨⟨za q707, za q192, za q129, by decide⟩, List.forall_mem_nil _⟩) q h
  · exact (show ∀ q ∈ tN 3, pN 3 q from List.forall_mem_cons.2 ⟨⟨za q784, za q785, za q149, by decide⟩, List.forall_mem_cons.2 ⟨⟨za q790, za q828, za q152, by decide⟩, List.forall_mem_cons.2 ⟨⟨za q792, za q855, za q153, by decide⟩, List.forall_mem_cons.2 ⟨⟨za q794, za q795, za q151, by decide⟩, List.forall_mem_cons.2 ⟨⟨za q822, za q1001, za q154, by decide⟩, List.forall_mem_cons.2 ⟨⟨za q2375, za q1274, za q161, by decide⟩, List.forall_mem_nil _⟩⟩⟩⟩⟩⟩) q h
  · exact (show ∀ q ∈ tN 6, pN 6 q from List.forall_mem_cons.2 ⟨⟨za q359, za q1001, za q154, by decide⟩, List.forall_mem_cons.2 ⟨⟨za q1011, za q828, za q152, by decide⟩, List.forall_mem_nil _⟩⟩) q h
  · exact (show ∀ q ∈ tN 8, pN 8 q from List.forall_mem_cons.2 ⟨⟨za q1492, za q186, za q126, by decide⟩, List.forall_mem_cons.2 ⟨⟨za q1687, za q1688, za q172, by decide⟩, List.forall_mem_nil _⟩⟩) q h
  · exact (show ∀ q ∈ tN 11, pN 11 q from List.forall_mem_cons.2 ⟨⟨za q174, za q175, za q125, by decide⟩, List.forall_mem_cons.2 ⟨⟨za q2515, za q2516, za q159, by decide⟩, List.forall_mem_nil _⟩⟩) q h
  · exact (show ∀ q ∈ tN 16, pN 16 q from List.forall_mem_cons.2 ⟨⟨za q638, za q639, za q144, by decide⟩, List.forall_mem_nil _⟩) q h
  · exact (show ∀ q ∈ tN 18, pN 18 q from List.forall_mem_cons.2 ⟨⟨za q319, za q320, za q133, by decide⟩, List.forall_mem_nil _⟩) q h
  · exact (show ∀ q ∈ tN 20, pN 20 q from List.forall_mem_cons.2 ⟨⟨za q1565, za q1370, za q135, by decide⟩, List.forall_mem_nil _⟩) q h
  · exact (show ∀ q ∈ tN 25, pN 25 q from List.forall_mem_cons.2 ⟨⟨za q1577, za q1370, za q135, by decide⟩, List.forall_mem_nil _⟩) q h
  · exact (show ∀ q ∈ tN 32, pN 32 q from List.forall_mem_cons.2 ⟨⟨za q1122, za q1123, za q156, by decide⟩, List.forall_mem_nil _⟩) q h
  · exact (show ∀ q ∈ tN 34, pN 34 q from List.forall_mem_cons.2 ⟨⟨za q1479, za q1480, za q167, by decide⟩, List.forall_mem_nil _⟩) q h
  · exact (show ∀ q ∈ tN 37, pN 37 q from List.forall_mem_cons.2 ⟨⟨za q1369, za q1370, za q135, by decide⟩, List.forall_mem_nil _⟩) q h
  · exact (show ∀ q ∈ tN 38, pN 38 q from List.forall_mem_cons.2 ⟨⟨za q1451, za q1452, za q166, by decide⟩, List.forall_mem_nil _⟩) q h
  · cases h
def pA (o : Nat) (q : Nat × Nat) : Prop := ∃ C, zLk aTab q.2 = some (.object C) ∧ Cond.classLink (cR o) q.1 C ∈ zAll ∧ C ∈ zAo
theorem tA_ok : ∀ (o : Nat) q, q ∈ tA o → pA o q := by
  intro o q h
  unfold tA at h
  split at h
  · exact (show ∀ q ∈ tA 3, pA 3 q from List.forall_mem_cons.2 ⟨⟨_, rfl, za q790, by decide⟩, List.forall_mem_cons.2 ⟨⟨_, rfl, za q792, by decide⟩, List.forall_mem_cons.2 ⟨⟨_, rfl, za q822, by decide⟩, List.forall_mem_nil _⟩⟩⟩) q h
  · exact (show ∀ q ∈ tA 8, pA 8 q from List.forall_mem_cons.2 ⟨⟨_, rfl, za q1426, by decide⟩, List.forall_mem_nil _⟩) q h
  · exact (show ∀ q ∈ tA 14, pA 14 q from List.forall_mem_cons.2 ⟨⟨_, rfl, za q779, by decide⟩, List.forall_mem_nil _⟩) q h
  · exact (show ∀ q ∈ tA 29, pA 29 q from List.forall_mem_cons.2 ⟨⟨_, rfl, za q773, by decide⟩, List.forall_mem_nil _⟩) q h
  · exact (show ∀ q ∈ tA 31, pA 31 q from List.forall_mem_cons.2 ⟨⟨_, rfl, za q806, by decide⟩, List.forall_mem_nil _⟩) q h
  · exact (show ∀ q ∈ tA 33, pA 33 q from List.forall_mem_cons.2 ⟨⟨_, rfl, za q1173, by decide⟩, List.forall_mem_nil _⟩) q h
  · exact (show ∀ q ∈ tA 34, pA 34 q from List.forall_mem_cons.2 ⟨⟨_, rfl, za q1477, by decide⟩, List.forall_mem_nil _⟩) q h
  · exact (show ∀ q ∈ tA 35, pA 35 q from List.forall_mem_cons.2 ⟨⟨_, rfl, za q1223, by decide⟩, List.forall_mem_nil _⟩) q h
  · cases h
def pC (o : Nat) (q : Nat × Nat) : Prop := ∃ z, zCt[q.2]? = some z ∧ Cond.classLink (cR o) q.1 z ∈ zAll
theorem tC_ok : ∀ (o : Nat) q, q ∈ tC o → pC o q := by
  intro o q h
  unfold tC at h
  split at h
  · exact (show ∀ q ∈ tC 0, pC 0 q from List.forall_mem_cons.2 ⟨⟨_, rfl, za q1118⟩, List.forall_mem_cons.2 ⟨⟨_, rfl, za q2257⟩, List.forall_mem_nil _⟩⟩) q h
  · exact (show ∀ q ∈ tC 1, pC 1 q from List.forall_mem_cons.2 ⟨⟨_, rfl, za q1776⟩, List.forall_mem_cons.2 ⟨⟨_, rfl, za q701⟩, List.forall_mem_nil _⟩⟩) q h
  · exact (show ∀ q ∈ tC 3, pC 3 q from List.forall_mem_cons.2 ⟨⟨_, rfl, za q822⟩, List.forall_mem_cons.2 ⟨⟨_, rfl, za q1000⟩, List.forall_mem_cons.2 ⟨⟨_, rfl, za q1002⟩, List.forall_mem_cons.2 ⟨⟨_, rfl, za q2044⟩, List.forall_mem_nil _⟩⟩⟩⟩) q h
  · exact (show ∀ q ∈ tC 6, pC 6 q from List.forall_mem_cons.2 ⟨⟨_, rfl, za q359⟩, List.forall_mem_nil _⟩) q h
  · exact (show ∀ q ∈ tC 8, pC 8 q from List.forall_mem_cons.2 ⟨⟨_, rfl, za q1794⟩, List.forall_mem_nil _⟩) q h
  · exact (show ∀ q ∈ tC 16, pC 16 q from List.forall_mem_cons.2 ⟨⟨_, rfl, za q348⟩, List.forall_mem_nil _⟩) q h
  · exact (show ∀ q ∈ tC 19, pC 19 q from List.forall_mem_cons.2 ⟨⟨_, rfl, za q429⟩, List.forall_mem_nil _⟩) q h
  · exact (show ∀ q ∈ tC 29, pC 29 q from List.forall_mem_cons.2 ⟨⟨_, rfl, za q771⟩, List.forall_mem_cons.2 ⟨⟨_, rfl, za q1327⟩, List.forall_mem_nil _⟩⟩) q h
  · exact (show ∀ q ∈ tC 31, pC 31 q from List.forall_mem_cons.2 ⟨⟨_, rfl, za q1114⟩, List.forall_mem_nil _⟩) q h
  · cases h
theorem cT_in : ∀ o, o ∈ zOb → ∀ w ∈ u_ws (cR o) (cT o) (cN o), w ∈ zAll := by
  intro o h
  simp only [zOb, List.mem_cons, List.not_mem_nil, or_false] at h
  rcases h with rfl | rfl | rfl | rfl | rfl | rfl | rfl | rfl | rfl | rfl | rfl | rfl | rfl | rfl | rfl | rfl | rfl | rfl | rfl | rfl | rfl | rfl
  · exact fun w h => za (in_X0 w h)
  · exact fun w h => za (in_X1 w h)
  · exact fun w h => za (in_X2 w h)
  · exact fun w h => za (in_X3 w h)
  · exact fun w h => za (in_X4 w h)
  · exact fun w h => za (in_X5 w h)
  · exact fun w h => za (in_X6 w h)
  · exact fun w h => za (in_X7 w h)
  · exact fun w h => za (in_X8 w h)
  · exact fun w h => za (in_X9 w h)
  · exact fun w h => za (in_X10 w h)
  · exact fun w h => za (in_J2 w h)
  · exact fun w h => za (in_J4 w h)
  · exact fun w h => za (in_J6 w h)
  · exact fun w h => za (in_J7 w h)
  · exact fun w h => za (in_J15 w h)
  · exact fun w h => za (in_J19 w h)
  · exact fun w h => za (in_J21 w h)
  · exact fun w h => za (in_J23 w h)
  · exact fun w h => za (in_J25 w h)
  · exact fun w h => za (in_J29 w h)
  · exact fun w h => za (in_J30 w h)
theorem cT_nm : ∀ o, o ∈ zOb → ∀ a, a < cN o → ∀ b, b < cN o → a ≠ b → (cT o a).2.1 ≠ (cT o b).2.1 := by
  intro o h
  simp only [zOb, List.mem_cons, List.not_mem_nil, or_false] at h
  rcases h with rfl | rfl | rfl | rfl | rfl | rfl | rfl | rfl | rfl | rfl | rfl | rfl | rfl | rfl | rfl | rfl | rfl | rfl | rfl | rfl | rfl | rfl
  · exact nmX0
  · exact nmX1
  · exact nmX2
  · exact nmX3
  · exact nmX4
  · exact nmX5
  · exact nmX6
  · exact nmX7
  · exact nmX8
  · exact nmX9
  · exact nmX10
  · exact nmJ2
  · exact nmJ4
  · exact nmJ6
  · exact nmJ7
  · exact nmJ15
  · exact nmJ19
  · exact nmJ21
  · exact nmJ23
  · exact nmJ25
  · exact nmJ29
  · exact nmJ30
theorem cT_ty : ∀ o, o ∈ zOb → ∀ k, k < cN o → parseFieldDescriptor (cT o k).2.2.1 = some (cTy o k) := by
  intro o h
  simp only [zOb, List.mem_cons, List.not_mem_nil, or_false] at h
  rcases h with rfl | rfl | rfl | rfl | rfl | rfl | rfl | rfl | rfl | rfl | rfl | rfl | rfl | rfl | rfl | rfl | rfl | rfl | rfl | rfl | rfl | rfl
  · exact tyX0_ok
  · exact tyX1_ok
  · exact tyX2_ok
  · exact tyX3_ok
  · exact tyX4_ok
  · exact tyX5_ok
  · exact tyX6_ok
  · exact tyX7_ok
  · exact tyX8_ok
  · exact tyX9_ok
  · exact tyX10_ok
  · exact tyJ2_ok
  · exact tyJ4_ok
  · exact tyJ6_ok
  · exact tyJ7_ok
  · exact tyJ15_ok
  · exact tyJ19_ok
  · exact tyJ21_ok
  · exact tyJ23_ok
  · exact tyJ25_ok
  · exact tyJ29_ok
  · exact tyJ30_ok
def kOk (q : Nat × Nat × List (Nat × Nat)) : Bool := (zOb.contains q.2.1) && q.2.2.all fun r => decide (r.2 < cN q.2.1) && decide ((cT q.2.1 r.2).1 = (gNm r.1).1) && decide ((cT q.2.1 r.2).2.1 = (gNm r.1).2.1) && decide ((cT q.2.1 r.2).2.2.1 = (gNm r.1).2.2) && decide ((cT q.2.1 r.2).2.2.2 = gFin r.1) && decide ((gNm r.1).1 = cR (gOwn r.1)) && decide (gT r.1 = cTy q.2.1 r.2) && q.2.2.all fun t => decide (r.2 = t.2 → r.1 = t.1)
theorem kTab_ok : kTab.all kOk = true := by decide +kernel
def zCk (k : Nat) (z : String) : Prop := (∃ ci fl, zLk kTab k = some (ci, fl) ∧ (cR ci = z ∨ Cond.castable (cR ci) z ∈ zNst)) ∨ (k < 100 ∧ ∃ ty, zLk aTab k = some ty ∧ k ∈ zNa ∧ "[" ++ ty.toString = z)
theorem cst_ok : ∀ q ∈ cstT, ∃ z, zCt[q.1]? = some z ∧ ∀ k ∈ q.2, zCk k z := List.forall_mem_cons.2 ⟨⟨"BusLine$State", rfl, List.forall_mem_cons.2 ⟨Or.inl ⟨_, _, rfl, Or.inl rfl⟩, List.forall_mem_nil _⟩⟩, List.forall_mem_cons.2 ⟨⟨"BusLine$Flow", rfl, List.forall_mem_cons.2 ⟨Or.inl ⟨_, _, rfl, Or.inl rfl⟩, List.forall_mem_nil _⟩⟩, List.forall_mem_cons.2 ⟨⟨"java/lang/Integer", rfl, List.forall_mem_cons.2 ⟨Or.inl ⟨_, _, rfl, Or.inl rfl⟩, List.forall_mem_nil _⟩⟩, List.forall_mem_cons.2 ⟨⟨"BusLine$Stop", rfl, List.forall_mem_cons.2 ⟨Or.inl ⟨_, _, rfl, Or.inl rfl⟩, List.forall_mem_nil _⟩⟩, List.forall_mem_cons.2 ⟨⟨"BusLine$Bus", rfl, List.forall_mem_cons.2 ⟨Or.inl ⟨_, _, rfl, Or.inl rfl⟩, List.forall_mem_nil _⟩⟩, List.forall_mem_cons.2 ⟨⟨"java/lang/Comparable", rfl, List.forall_mem_cons.2 ⟨Or.inl ⟨_, _, rfl, Or.inr (zn q353 rfl)⟩, List.forall_mem_cons.2 ⟨Or.inl ⟨_, _, rfl, Or.inr (zn q412 rfl)⟩, List.forall_mem_cons.2 ⟨Or.inl ⟨_, _, rfl, Or.inr (zn q423 rfl)⟩, List.forall_mem_cons.2 ⟨Or.inl ⟨_, _, rfl, Or.inr (zn q590 rfl)⟩, List.forall_mem_cons.2 ⟨Or.inl ⟨_, _, rfl, Or.inr (zn q423 rfl)⟩, List.forall_mem_nil _⟩⟩⟩⟩⟩⟩, List.forall_mem_cons.2 ⟨⟨"java/lang/String", rfl, List.forall_mem_cons.2 ⟨Or.inl ⟨_, _, rfl, Or.inl rfl⟩, List.forall_mem_cons.2 ⟨Or.inl ⟨_, _, rfl, Or.inl rfl⟩, List.forall_mem_nil _⟩⟩⟩, List.forall_mem_cons.2 ⟨⟨"[Ljava/lang/Object;", rfl, List.forall_mem_cons.2 ⟨Or.inr ⟨by decide, _, rfl, by decide, by decide +kernel⟩, List.forall_mem_nil _⟩⟩, List.forall_mem_cons.2 ⟨⟨"[B", rfl, List.forall_mem_cons.2 ⟨Or.inr ⟨by decide, _, rfl, by decide, by decide +kernel⟩, List.forall_mem_nil _⟩⟩, List.forall_mem_nil _⟩⟩⟩⟩⟩⟩⟩⟩⟩
theorem ass_ok : ∀ q ∈ assT, ∃ C, zLk aTab q.1 = some (.object C) ∧ q.1 ∈ zNa ∧ ∀ k ∈ q.2, zCk k C := List.forall_mem_cons.2 ⟨⟨"java/lang/Object", rfl, by decide, List.forall_mem_cons.2 ⟨Or.inl ⟨_, _, rfl, Or.inr (zn q3232 rfl)⟩, List.forall_mem_cons.2 ⟨Or.inl ⟨_, _, rfl, Or.inr (zn q3233 rfl)⟩, List.forall_mem_cons.2 ⟨Or.inl ⟨_, _, rfl, Or.inr (zn q3239 rfl)⟩, List.forall_mem_cons.2 ⟨Or.inl ⟨_, _, rfl, Or.inr (zn q3240 rfl)⟩, List.forall_mem_cons.2 ⟨Or.inl ⟨_, _, rfl, Or.inr (zn q3228 rfl)⟩, List.forall_mem_cons.2 ⟨Or.inl ⟨_, _, rfl, Or.inr (zn q3229 rfl)⟩, List.forall_mem_cons.2 ⟨Or.inl ⟨_, _, rfl, Or.inr (zn q3230 rfl)⟩, List.forall_mem_cons.2 ⟨Or.inl ⟨_, _, rfl, Or.inr (zn q3244 rfl)⟩, List.forall_mem_cons.2 ⟨Or.inl ⟨_, _, rfl, Or.inr (zn q3246 rfl)⟩, List.forall_mem_cons.2 ⟨Or.inl ⟨_, _, rfl, Or.inr (zn q3250 rfl)⟩, List.forall_mem_cons.2 ⟨Or.inl ⟨_, _, rfl, Or.inr (zn q3251 rfl)⟩, List.forall_mem_cons.2 ⟨Or.inl ⟨_, _, rfl, Or.inr (zn q3234 rfl)⟩, List.forall_mem_cons.2 ⟨Or.inl ⟨_, _, rfl, Or.inr (zn q3235 rfl)⟩, List.forall_mem_cons.2 ⟨Or.inl ⟨_, _, rfl, Or.inr (zn q3236 rfl)⟩, List.forall_mem_cons.2 ⟨Or.inl ⟨_, _, rfl, Or.inr (zn q3231 rfl)⟩, List.forall_mem_cons.2 ⟨Or.inl ⟨_, _, rfl, Or.inr (zn q3238 rfl)⟩, List.forall_mem_cons.2 ⟨Or.inl ⟨_, _, rfl, Or.inr (zn q3241 rfl)⟩, List.forall_mem_cons.2 ⟨Or.inl ⟨_, _, rfl, Or.inr (zn q3242 rfl)⟩, List.forall_mem_cons.2 ⟨Or.inl ⟨_, _, rfl, Or.inr (zn q3243 rfl)⟩, List.forall_mem_cons.2 ⟨Or.inl ⟨_, _, rfl, Or.inr (zn q3245 rfl)⟩, List.forall_mem_cons.2 ⟨Or.inl ⟨_, _, rfl, Or.inr (zn q3248 rfl)⟩, List.forall_mem_cons.2 ⟨Or.inl ⟨_, _, rfl, Or.inr (zn q3247 rfl)⟩, List.forall_mem_cons.2 ⟨Or.inl ⟨_, _, rfl, Or.inr (zn q3231 rfl)⟩, List.forall_mem_nil _⟩⟩⟩⟩⟩⟩⟩⟩⟩⟩⟩⟩⟩⟩⟩⟩⟩⟩⟩⟩⟩⟩⟩⟩, List.forall_mem_cons.2 ⟨⟨"BusLine$Riders", rfl, by decide, List.forall_mem_cons.2 ⟨Or.inl ⟨_, _, rfl, Or.inl rfl⟩, List.forall_mem_nil _⟩⟩, List.forall_mem_cons.2 ⟨⟨"BusLine$Leavings", rfl, by decide, List.forall_mem_cons.2 ⟨Or.inl ⟨_, _, rfl, Or.inl rfl⟩, List.forall_mem_nil _⟩⟩, List.forall_mem_cons.2 ⟨⟨"BusLine$Bus", rfl, by decide, List.forall_mem_cons.2 ⟨Or.inl ⟨_, _, rfl, Or.inl rfl⟩, List.forall_mem_nil _⟩⟩, List.forall_mem_cons.2 ⟨⟨"java/lang/String", rfl, by decide, List.forall_mem_cons.2 ⟨Or.inl ⟨_, _, rfl, Or.inl rfl⟩, List.forall_mem_cons.2 ⟨Or.inl ⟨_, _, rfl, Or.inl rfl⟩, List.forall_mem_nil _⟩⟩⟩, List.forall_mem_nil _⟩⟩⟩⟩⟩
theorem kOb_tab : ∀ o, o ∈ zOb → ∃ fl, zLk kTab (100 + o) = some (o, fl) := by
  intro o h
  simp only [zOb, List.mem_cons, List.not_mem_nil, or_false] at h
  rcases h with rfl | rfl | rfl | rfl | rfl | rfl | rfl | rfl | rfl | rfl | rfl | rfl | rfl | rfl | rfl | rfl | rfl | rfl | rfl | rfl | rfl | rfl
  · exact ⟨_, rfl⟩
  · exact ⟨_, rfl⟩
  · exact ⟨_, rfl⟩
  · exact ⟨_, rfl⟩
  · exact ⟨_, rfl⟩
  · exact ⟨_, rfl⟩
  · exact ⟨_, rfl⟩
  · exact ⟨_, rfl⟩
  · exact ⟨_, rfl⟩
  · exact ⟨_, rfl⟩
  · exact ⟨_, rfl⟩
  · exact ⟨_, rfl⟩
  · exact ⟨_, rfl⟩
  · exact ⟨_, rfl⟩
  · exact ⟨_, rfl⟩
  · exact ⟨_, rfl⟩
  · exact ⟨_, rfl⟩
  · exact ⟨_, rfl⟩
  · exact ⟨_, rfl⟩
  · exact ⟨_, rfl⟩
  · exact ⟨_, rfl⟩
  · exact ⟨_, rfl⟩
def zGi : MethodName := ⟨"java/util/Collection", "getClass", "()Ljava/lang/Class;"⟩
def zGc : MethodName := ⟨"java/lang/Object", "getClass", "()Ljava/lang/Class;"⟩
def pX (o : Nat) (q : Nat × Nat) : Prop := (q.2 = 1 ∧ Cond.methodLink (cR o) q.1 arraycopyName ∈ zAll) ∨ (q.2 = 2 ∧ Cond.methodLink (cR o) q.1 zGc ∈ zAll) ∨ (q.2 = 3 ∧ Cond.methodLink (cR o) q.1 ⟨"[B", "clone", "()Ljava/lang/Object;"⟩ ∈ zAll) ∨ (q.2 = 4 ∧ Cond.methodLink (cR o) q.1 Lib.objectInit ∈ zAll) ∨ (q.2 = 5 ∧ Cond.methodLink (cR o) q.1 ⟨"java/lang/Exception", "<init>", "()V"⟩ ∈ zAll) ∨ (q.2 = 6 ∧ Cond.methodLink (cR o) q.1 zGi ∈ zAll)
theorem tX_ok : ∀ (o : Nat) q, q ∈ tX o → pX o q := by
  intro o q h
  unfold tX at h
  split at h
  · exact (show ∀ q ∈ tX 0, pX 0 q from List.forall_mem_cons.2 ⟨Or.inr (Or.inr (Or.inr (Or.inl ⟨rfl, za q179⟩))), List.forall_mem_nil _⟩) q h
  · exact (show ∀ q ∈ tX 1, pX 1 q from List.forall_mem_cons.2 ⟨Or.inr (Or.inr (Or.inr (Or.inl ⟨rfl, za q190⟩))), List.forall_mem_nil _⟩) q h
  · exact (show ∀ q ∈ tX 2, pX 2 q from List.forall_mem_cons.2 ⟨Or.inr (Or.inr (Or.inr (Or.inl ⟨rfl, za q706⟩))), List.forall_mem_nil _⟩) q h
  · exact (show ∀ q ∈ tX 3, pX 3 q from List.forall_mem_cons.2 ⟨Or.inr (Or.inr (Or.inr (Or.inl ⟨rfl, za q789⟩))), List.forall_mem_cons.2 ⟨Or.inl ⟨rfl, za q985⟩, List.forall_mem_nil _⟩⟩) q h
  · exact (show ∀ q ∈ tX 4, pX 4 q from List.forall_mem_cons.2 ⟨Or.inr (Or.inr (Or.inr (Or.inl ⟨rfl, za q832⟩))), List.forall_mem_cons.2 ⟨Or.inl ⟨rfl, za q1901⟩, List.forall_mem_nil _⟩⟩) q h
  · exact (show ∀ q ∈ tX 5, pX 5 q from List.forall_mem_cons.2 ⟨Or.inr (Or.inr (Or.inr (Or.inl ⟨rfl, za q859⟩))), List.forall_mem_cons.2 ⟨Or.inl ⟨rfl, za q1906⟩, List.forall_mem_nil _⟩⟩) q h
  · exact (show ∀ q ∈ tX 6, pX 6 q from List.forall_mem_cons.2 ⟨Or.inr (Or.inr (Or.inr (Or.inl ⟨rfl, za q1010⟩))), List.forall_mem_nil _⟩) q h
  · exact (show ∀ q ∈ tX 7, pX 7 q from List.forall_mem_cons.2 ⟨Or.inr (Or.inr (Or.inr (Or.inl ⟨rfl, za q2520⟩))), List.forall_mem_nil _⟩) q h
  · exact (show ∀ q ∈ tX 8, pX 8 q from List.forall_mem_cons.2 ⟨Or.inr (Or.inr (Or.inr (Or.inl ⟨rfl, za q1425⟩))), List.forall_mem_nil _⟩) q h
  · exact (show ∀ q ∈ tX 9, pX 9 q from List.forall_mem_cons.2 ⟨Or.inr (Or.inr (Or.inr (Or.inr (Or.inl ⟨rfl, za q1727⟩)))), List.forall_mem_nil _⟩) q h
  · exact (show ∀ q ∈ tX 10, pX 10 q from List.forall_mem_cons.2 ⟨Or.inr (Or.inr (Or.inr (Or.inl ⟨rfl, za q1804⟩))), List.forall_mem_nil _⟩) q h
  · exact (show ∀ q ∈ tX 12, pX 12 q from List.forall_mem_cons.2 ⟨Or.inr (Or.inr (Or.inr (Or.inl ⟨rfl, za q202⟩))), List.forall_mem_nil _⟩) q h
  · exact (show ∀ q ∈ tX 14, pX 14 q from List.forall_mem_cons.2 ⟨Or.inr (Or.inr (Or.inr (Or.inr (Or.inr ⟨rfl, za q1203⟩)))), List.forall_mem_nil _⟩) q h
  · exact (show ∀ q ∈ tX 15, pX 15 q from List.forall_mem_cons.2 ⟨Or.inr (Or.inr (Or.inr (Or.inl ⟨rfl, za q227⟩))), List.forall_mem_nil _⟩) q h
  · exact (show ∀ q ∈ tX 17, pX 17 q from List.forall_mem_cons.2 ⟨Or.inr (Or.inr (Or.inr (Or.inl ⟨rfl, za q327⟩))), List.forall_mem_nil _⟩) q h
  · exact (show ∀ q ∈ tX 19, pX 19 q from List.forall_mem_cons.2 ⟨Or.inr (Or.inr (Or.inr (Or.inl ⟨rfl, za q1377⟩))), List.forall_mem_cons.2 ⟨Or.inl ⟨rfl, za q2409⟩, List.forall_mem_nil _⟩⟩) q h
  · exact (show ∀ q ∈ tX 27, pX 27 q from List.forall_mem_cons.2 ⟨Or.inr (Or.inr (Or.inr (Or.inl ⟨rfl, za q643⟩))), List.forall_mem_nil _⟩) q h
  · exact (show ∀ q ∈ tX 29, pX 29 q from List.forall_mem_cons.2 ⟨Or.inr (Or.inl ⟨rfl, za q767⟩), List.forall_mem_cons.2 ⟨Or.inl ⟨rfl, za q775⟩, List.forall_mem_cons.2 ⟨Or.inr (Or.inr (Or.inl ⟨rfl, za q1321⟩)), List.forall_mem_nil _⟩⟩⟩) q h
  · exact (show ∀ q ∈ tX 35, pX 35 q from List.forall_mem_cons.2 ⟨Or.inl ⟨rfl, za q1160⟩, List.forall_mem_nil _⟩) q h
  · exact (show ∀ q ∈ tX 36, pX 36 q from List.forall_mem_cons.2 ⟨Or.inr (Or.inr (Or.inr (Or.inl ⟨rfl, za q1281⟩))), List.forall_mem_nil _⟩) q h
  · cases h
