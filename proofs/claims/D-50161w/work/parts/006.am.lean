/-! AM: an abstract machine over the decoded bytes: its heap, its tables' types -/
abbrev zH : Type := (Nat → Nat) × (Nat → Nat) × (Nat → Nat → Value) × Nat × Nat
/-- kind of a cell; its length (arrays); a slot's content (objects: by the field's number, arrays: by the index); the next address; the slots made so far -/
def hK (h : zH) (a : Nat) : Nat := h.1 a
def hL (h : zH) (a : Nat) : Nat := h.2.1 a
def hV (h : zH) (a i : Nat) : Value := h.2.2.1 a i
def hN (h : zH) : Nat := h.2.2.2.1
def hU (h : zH) : Nat := h.2.2.2.2
def hW (h : zH) (a i : Nat) (v : Value) : zH := (h.1, h.2.1, fun b j => if b = a then (if j = i then v else h.2.2.1 b j) else h.2.2.1 b j, h.2.2.2)
def hC (h : zH) (s sp d dp n : Nat) : zH := (h.1, h.2.1, fun b j => if b = d then (if dp ≤ j ∧ j < dp + n then h.2.2.1 s (sp + (j - dp)) else h.2.2.1 b j) else h.2.2.1 b j, h.2.2.2)
def hA (h : zH) (k n u : Nat) (f : Nat → Value) : zH := (fun b => if b = h.2.2.2.1 then k else h.1 b, fun b => if b = h.2.2.2.1 then n else h.2.1 b, fun b => if b = h.2.2.2.1 then f else h.2.2.1 b, h.2.2.2.1 + 1, h.2.2.2.2 + u)
/-- constants of a run: statics, strings, class objects, the first address of its own -/
abbrev zC : Type := (Nat → Value) × (Nat → Nat) × (Nat → Nat) × Nat
def kS (κ : zC) (i : Nat) : Value := κ.1 i
def kT (κ : zC) (i : Nat) : Nat := κ.2.1 i
def kM (κ : zC) (i : Nat) : Nat := κ.2.2.1 i
def kB (κ : zC) : Nat := κ.2.2.2
/-- a method: name, code, locals, answer's type, its class's number, handlers, level -/
abbrev zM : Type := MethodName × ByteArray × Nat × Option FieldType × Nat × List (Nat × Nat × Nat × Nat) × Nat
def mY (m : zM) : MethodName := m.1
def mC (m : zM) : ByteArray := m.2.1
def mX (m : zM) : Nat := m.2.2.1
def mR (m : zM) : Option FieldType := m.2.2.2.1
def mO (m : zM) : Nat := m.2.2.2.2.1
def mT (m : zM) : List (Nat × Nat × Nat × Nat) := m.2.2.2.2.2.1
def mD (m : zM) : Nat := m.2.2.2.2.2.2
def zLk {α : Type} : List (Nat × α) → Nat → Option α
  | [], _ => none
  | (a, b) :: l, i => if a = i then some b else zLk l i
def zIx : List Nat → Nat → Nat → Option Nat
  | [], _, _ => none
  | a :: l, g, n => if a = g then some n else zIx l g (n + 1)
theorem zLk_mem {α : Type} {l : List (Nat × α)} {i : Nat} {b : α} (h : zLk l i = some b) : (i, b) ∈ l := by
  induction l with
  | nil => cases h
  | cons q l ih =>
    obtain ⟨a, c⟩ := q
    unfold zLk at h
    split at h
    · next e => subst e; cases h; exact List.mem_cons_self
    · exact List.mem_cons_of_mem _ (ih h)
theorem zIx_spec {l : List Nat} {g : Nat} : ∀ {n k : Nat}, zIx l g n = some k → n ≤ k ∧ l[k - n]? = some g := by
  induction l with
  | nil => intro n k h; cases h
  | cons a l ih =>
    intro n k h
    unfold zIx at h
    split at h
    · next e => cases h; subst e; simp
    · obtain ⟨h1, h2⟩ := ih h
      refine ⟨by omega, ?_⟩
      rw [show k - n = (k - (n + 1)) + 1 by omega]
      simpa using h2
/-! the methods, the tables of AM: printed by wip/gen/print_am.py -/
def mX0_isBetween : zM := (yX0_isBetween, cX0_isBetween, 3, (some FieldType.boolean), 0, [], 0)
def mX0_isBus : zM := (yX0_isBus, cX0_isBus, 2, (some FieldType.boolean), 0, [], 1)
def mJ2_size : zM := (yJ2_size, cJ2_size, 1, (some FieldType.int), 14, [], 0)
def mX3_stops : zM := (yX3_stops, cX3_stops, 1, (some FieldType.int), 3, [], 1)
def mX0_isStop : zM := (yX0_isStop, cX0_isStop, 2, (some FieldType.boolean), 0, [], 2)
def mX4_going : zM := (yX4_going, cX4_going, 4, (some FieldType.int), 4, [], 0)
def mX0_aboard : zM := (yX0_aboard, cX0_aboard, 3, (some FieldType.int), 0, [], 3)
def mJ14_checkIndex : zM := (yJ14_checkIndex, cJ14_checkIndex, 3, (some FieldType.int), 26, [], 0)
def mJ16_checkIndex : zM := (yJ16_checkIndex, cJ16_checkIndex, 2, (some FieldType.int), 28, [], 1)
def mJ2_elementData : zM := (yJ2_elementData, cJ2_elementData, 2, (some (FieldType.object "java/lang/Object")), 14, [], 0)
def mJ2_get : zM := (yJ2_get, cJ2_get, 2, (some (FieldType.object "java/lang/Object")), 14, [], 2)
def mX1_next : zM := (yX1_next, cX1_next, 2, (some FieldType.int), 1, [], 1)
def mX1_way : zM := (yX1_way, cX1_way, 5, (some FieldType.int), 1, [], 3)
def mX6_isOut : zM := (yX6_isOut, cX6_isOut, 1, (some FieldType.boolean), 6, [], 0)
def mX0_ahead : zM := (yX0_ahead, cX0_ahead, 8, (some FieldType.int), 0, [], 4)
def mX0_put : zM := (yX0_put, cX0_put, 3, none, 0, [], 0)
def mX0_append : zM := (yX0_append, cX0_append, 6, (some FieldType.int), 0, [], 1)
def mX0_isPass : zM := (yX0_isPass, cX0_isPass, 1, (some FieldType.boolean), 0, [], 1)
def mJ10_hugeLength : zM := (yJ10_hugeLength, cJ10_hugeLength, 3, (some FieldType.int), 22, [], 0)
def mJ9_max : zM := (yJ9_max, cJ9_max, 2, (some FieldType.int), 21, [], 0)
def mJ10_newLength : zM := (yJ10_newLength, cJ10_newLength, 4, (some FieldType.int), 22, [], 1)
def mJ9_min : zM := (yJ9_min, cJ9_min, 2, (some FieldType.int), 21, [], 0)
def mJ17_copyOf_2 : zM := (yJ17_copyOf_2, cJ17_copyOf_2, 4, (some (FieldType.array (FieldType.object "java/lang/Object"))), 29, [], 1)
def mJ17_copyOf : zM := (yJ17_copyOf, cJ17_copyOf, 2, (some (FieldType.array (FieldType.object "java/lang/Object"))), 29, [], 2)
def mJ19_grow : zM := (yJ19_grow, cJ19_grow, 4, none, 31, [], 3)
def mJ13_length : zM := (yJ13_length, cJ13_length, 1, (some FieldType.int), 25, [], 0)
def mJ13_getChar : zM := (yJ13_getChar, cJ13_getChar, 2, (some FieldType.char), 25, [], 1)
def mJ13_compareValues : zM := (yJ13_compareValues, cJ13_compareValues, 8, (some FieldType.int), 25, [], 2)
def mJ13_compareTo : zM := (yJ13_compareTo, cJ13_compareTo, 4, (some FieldType.int), 25, [], 3)
def mJ8_getChar : zM := (yJ8_getChar, cJ8_getChar, 2, (some FieldType.char), 20, [], 0)
def mJ8_compareToUTF16Values : zM := (yJ8_compareToUTF16Values, cJ8_compareToUTF16Values, 8, (some FieldType.int), 20, [], 2)
def mJ8_length : zM := (yJ8_length, cJ8_length, 1, (some FieldType.int), 20, [], 0)
def mJ8_compareToUTF16 : zM := (yJ8_compareToUTF16, cJ8_compareToUTF16, 4, (some FieldType.int), 20, [], 3)
def mJ13_compareToLatin1 : zM := (yJ13_compareToLatin1, cJ13_compareToLatin1, 2, (some FieldType.int), 25, [], 4)
def mJ7_coder : zM := (yJ7_coder, cJ7_coder, 1, (some FieldType.byte), 19, [], 0)
def mJ6_numberOfLeadingZeros : zM := (yJ6_numberOfLeadingZeros, cJ6_numberOfLeadingZeros, 2, (some FieldType.int), 18, [], 0)
def mJ12_numberOfLeadingZeros : zM := (yJ12_numberOfLeadingZeros, cJ12_numberOfLeadingZeros, 3, (some FieldType.int), 24, [], 1)
def mJ6_numberOfTrailingZeros : zM := (yJ6_numberOfTrailingZeros, cJ6_numberOfTrailingZeros, 2, (some FieldType.int), 18, [], 0)
def mJ12_numberOfTrailingZeros : zM := (yJ12_numberOfTrailingZeros, cJ12_numberOfTrailingZeros, 3, (some FieldType.int), 24, [], 1)
def mJ10_vectorizedMismatch : zM := (yJ10_vectorizedMismatch, cJ10_vectorizedMismatch, 19, (some FieldType.int), 22, [], 2)
def mJ10_mismatch : zM := (yJ10_mismatch, cJ10_mismatch, 4, (some FieldType.int), 22, [], 3)
def mJ8_compareTo_2 : zM := (yJ8_compareTo_2, cJ8_compareTo_2, 6, (some FieldType.int), 20, [], 4)
def mJ8_compareTo : zM := (yJ8_compareTo, cJ8_compareTo, 4, (some FieldType.int), 20, [], 5)
def mJ7_compareTo_2 : zM := (yJ7_compareTo_2, cJ7_compareTo_2, 5, (some FieldType.int), 19, [], 6)
def mJ7_compareTo : zM := (yJ7_compareTo, cJ7_compareTo, 2, (some FieldType.int), 19, [], 7)
def mJ6_compare : zM := (yJ6_compare, cJ6_compare, 2, (some FieldType.int), 18, [], 0)
def mX6_compareTo_2 : zM := (yX6_compareTo_2, cX6_compareTo_2, 2, (some FieldType.int), 6, [], 1)
def mX6_compareTo : zM := (yX6_compareTo, cX6_compareTo, 2, (some FieldType.int), 6, [], 2)
def mJ19_siftUpComparable : zM := (yJ19_siftUpComparable, cJ19_siftUpComparable, 6, none, 31, [], 8)
def mJ19_siftUpUsingComparator : zM := (yJ19_siftUpUsingComparator, cJ19_siftUpUsingComparator, 6, none, 31, [], 0)
def mJ19_siftUp : zM := (yJ19_siftUp, cJ19_siftUp, 3, none, 31, [], 9)
def mJ19_offer : zM := (yJ19_offer, cJ19_offer, 3, (some FieldType.boolean), 31, [], 10)
def mJ19_add : zM := (yJ19_add, cJ19_add, 2, (some FieldType.boolean), 31, [], 11)
def mJ0_init : zM := (yJ0_init, cJ0_init, 1, none, 12, [], 0)
def mJ18_init : zM := (yJ18_init, cJ18_init, 1, none, 30, [], 1)
def mJ19_init_2 : zM := (yJ19_init_2, cJ19_init_2, 3, none, 31, [], 2)
def mJ19_init : zM := (yJ19_init, cJ19_init, 1, none, 31, [], 3)
def mX4_init : zM := (yX4_init, cX4_init, 2, none, 4, [], 0)
def mX5_init : zM := (yX5_init, cX5_init, 1, none, 5, [], 0)
def mX3_init : zM := (yX3_init, cX3_init, 3, none, 3, [], 4)
def mX4_copyTo : zM := (yX4_copyTo, cX4_copyTo, 2, none, 4, [], 0)
def mX5_copyTo : zM := (yX5_copyTo, cX5_copyTo, 2, none, 5, [], 0)
def mX6_init : zM := (yX6_init, cX6_init, 4, none, 6, [], 1)
def mX6_copy : zM := (yX6_copy, cX6_copy, 2, (some (FieldType.object "BusLine$Bus")), 6, [], 2)
def mX3_copy : zM := (yX3_copy, cX3_copy, 3, (some (FieldType.object "BusLine$State")), 3, [], 12)
def mX10_at : zM := (yX10_at, cX10_at, 2, (some FieldType.int), 10, [], 0)
def mX4_dropFirst : zM := (yX4_dropFirst, cX4_dropFirst, 2, none, 4, [], 0)
def mX3_giveUp : zM := (yX3_giveUp, cX3_giveUp, 4, none, 3, [], 1)
def mX4_add : zM := (yX4_add, cX4_add, 4, none, 4, [], 0)
def mX3_comes : zM := (yX3_comes, cX3_comes, 5, (some FieldType.boolean), 3, [], 2)
def mJ30_get : zM := (yJ30_get, cJ30_get, 2, (some (FieldType.object "java/lang/Object")), 42, [], 0)
def mJ30_size : zM := (yJ30_size, cJ30_size, 1, (some FieldType.int), 42, [], 0)
def mX3_stop : zM := (yX3_stop, cX3_stop, 2, (some (FieldType.object "BusLine$Stop")), 3, [], 3)
def mX3_firstOf : zM := (yX3_firstOf, cX3_firstOf, 8, (some (FieldType.object "BusLine$Flow")), 3, [], 4)
def mX3_bring : zM := (yX3_bring, cX3_bring, 6, none, 3, [], 5)
def mJ19_siftDownComparable : zM := (yJ19_siftDownComparable, cJ19_siftDownComparable, 9, none, 31, [], 8)
def mJ19_siftDownUsingComparator : zM := (yJ19_siftDownUsingComparator, cJ19_siftDownUsingComparator, 9, none, 31, [], 0)
def mJ19_poll : zM := (yJ19_poll, cJ19_poll, 6, (some (FieldType.object "java/lang/Object")), 31, [], 9)
def mJ18_remove : zM := (yJ18_remove, cJ18_remove, 2, (some (FieldType.object "java/lang/Object")), 30, [], 10)
def mJ19_peek : zM := (yJ19_peek, cJ19_peek, 1, (some (FieldType.object "java/lang/Object")), 31, [], 0)
def mX4_remove : zM := (yX4_remove, cX4_remove, 3, none, 4, [], 0)
def mX3_alight : zM := (yX3_alight, cX3_alight, 4, (some FieldType.int), 3, [], 1)
def mX6_free : zM := (yX6_free, cX6_free, 1, (some FieldType.int), 6, [], 0)
def mX3_board : zM := (yX3_board, cX3_board, 5, (some FieldType.int), 3, [], 1)
def mX3_driveOn : zM := (yX3_driveOn, cX3_driveOn, 2, none, 3, [], 4)
def mX3_tell : zM := (yX3_tell, cX3_tell, 5, none, 3, [], 0)
def mX3_arrive : zM := (yX3_arrive, cX3_arrive, 5, none, 3, [], 6)
def mX3_bunch : zM := (yX3_bunch, cX3_bunch, 3, none, 3, [], 1)
def mX3_due : zM := (yX3_due, cX3_due, 2, (some FieldType.int), 3, [], 4)
def mX5_add : zM := (yX5_add, cX5_add, 5, (some FieldType.int), 5, [], 1)
def mX3_leave : zM := (yX3_leave, cX3_leave, 4, none, 3, [], 6)
def mX1_around : zM := (yX1_around, cX1_around, 3, (some FieldType.int), 1, [], 3)
def mX6_isAtStop : zM := (yX6_isAtStop, cX6_isAtStop, 1, (some FieldType.boolean), 6, [], 0)
def mX3_wise : zM := (yX3_wise, cX3_wise, 8, (some FieldType.int), 3, [], 4)
def mX3_wanted : zM := (yX3_wanted, cX3_wanted, 5, (some FieldType.int), 3, [], 5)
def mX3_ready : zM := (yX3_ready, cX3_ready, 4, none, 3, [], 7)
def mX3_happen : zM := (yX3_happen, cX3_happen, 2, none, 3, [], 8)
def mX3_event : zM := (yX3_event, cX3_event, 3, (some (FieldType.object "BusLine$Bus")), 3, [], 12)
def mX3_pass : zM := (yX3_pass, cX3_pass, 5, (some (FieldType.object "BusLine$State")), 3, [], 13)
def mX0_later : zM := (yX0_later, cX0_later, 4, (some (FieldType.object "BusLine$State")), 0, [], 14)
def mX3_sum : zM := (yX3_sum, cX3_sum, 3, (some FieldType.int), 3, [], 0)
def mX0_bestMode : zM := (yX0_bestMode, cX0_bestMode, 9, (some FieldType.int), 0, [], 15)
def mJ7_checkIndex : zM := (yJ7_checkIndex, cJ7_checkIndex, 2, none, 19, [], 1)
def mJ13_checkIndex : zM := (yJ13_checkIndex, cJ13_checkIndex, 2, none, 25, [], 2)
def mJ13_charAt : zM := (yJ13_charAt, cJ13_charAt, 2, (some FieldType.char), 25, [], 3)
def mJ7_isLatin1 : zM := (yJ7_isLatin1, cJ7_isLatin1, 1, (some FieldType.boolean), 19, [], 0)
def mJ8_charAt : zM := (yJ8_charAt, cJ8_charAt, 2, (some FieldType.char), 20, [], 2)
def mJ7_charAt : zM := (yJ7_charAt, cJ7_charAt, 2, (some FieldType.char), 19, [], 4)
def mJ7_length : zM := (yJ7_length, cJ7_length, 1, (some FieldType.int), 19, [], 1)
def mX0_byteAt : zM := (yX0_byteAt, cX0_byteAt, 2, (some FieldType.int), 0, [], 5)
def mJ13_putChar : zM := (yJ13_putChar, cJ13_putChar, 3, none, 25, [], 1)
def mJ13_putCharSB : zM := (yJ13_putCharSB, cJ13_putCharSB, 3, none, 25, [], 3)
def mJ17_copyOf_3 : zM := (yJ17_copyOf_3, cJ17_copyOf_3, 3, (some (FieldType.array FieldType.byte)), 29, [], 1)
def mJ24_newCapacity : zM := (yJ24_newCapacity, cJ24_newCapacity, 6, (some FieldType.int), 36, [], 2)
def mJ24_ensureCapacityInternal : zM := (yJ24_ensureCapacityInternal, cJ24_ensureCapacityInternal, 3, none, 36, [], 3)
def mJ13_newBytesLength : zM := (yJ13_newBytesLength, cJ13_newBytesLength, 1, (some FieldType.int), 25, [], 0)
def mJ13_newBytesFor : zM := (yJ13_newBytesFor, cJ13_newBytesFor, 1, (some (FieldType.array FieldType.byte)), 25, [], 1)
def mJ24_isLatin1 : zM := (yJ24_isLatin1, cJ24_isLatin1, 1, (some FieldType.boolean), 36, [], 0)
def mJ14_checkFromIndexSize : zM := (yJ14_checkFromIndexSize, cJ14_checkFromIndexSize, 4, (some FieldType.int), 26, [], 0)
def mJ7_checkBoundsOffCount : zM := (yJ7_checkBoundsOffCount, cJ7_checkBoundsOffCount, 3, (some FieldType.int), 19, [], 1)
def mJ13_checkBoundsOffCount : zM := (yJ13_checkBoundsOffCount, cJ13_checkBoundsOffCount, 3, none, 25, [], 2)
def mJ13_inflate : zM := (yJ13_inflate, cJ13_inflate, 6, none, 25, [], 3)
def mJ8_inflate : zM := (yJ8_inflate, cJ8_inflate, 5, none, 20, [], 4)
def mJ24_inflate : zM := (yJ24_inflate, cJ24_inflate, 2, none, 36, [], 5)
def mJ8_canEncode : zM := (yJ8_canEncode, cJ8_canEncode, 1, (some FieldType.boolean), 20, [], 0)
def mJ24_append : zM := (yJ24_append, cJ24_append, 2, (some (FieldType.object "java/lang/AbstractStringBuilder")), 36, [], 6)
def mJ25_append : zM := (yJ25_append, cJ25_append, 2, (some (FieldType.object "java/lang/StringBuilder")), 37, [], 7)
def mJ14_checkFromToIndex : zM := (yJ14_checkFromToIndex, cJ14_checkFromToIndex, 4, (some FieldType.int), 26, [], 0)
def mJ7_checkBoundsBeginEnd : zM := (yJ7_checkBoundsBeginEnd, cJ7_checkBoundsBeginEnd, 3, none, 19, [], 1)
def mJ13_checkBoundsBeginEnd : zM := (yJ13_checkBoundsBeginEnd, cJ13_checkBoundsBeginEnd, 3, none, 25, [], 2)
def mJ13_putCharsAt : zM := (yJ13_putCharsAt, cJ13_putCharsAt, 7, (some FieldType.int), 25, [], 3)
def mJ24_appendNull : zM := (yJ24_appendNull, cJ24_appendNull, 3, (some (FieldType.object "java/lang/AbstractStringBuilder")), 36, [], 4)
def mJ24_inflateIfNeededFor : zM := (yJ24_inflateIfNeededFor, cJ24_inflateIfNeededFor, 2, none, 36, [], 6)
def mJ7_getBytes : zM := (yJ7_getBytes, cJ7_getBytes, 4, none, 19, [], 5)
def mJ24_putStringAt : zM := (yJ24_putStringAt, cJ24_putStringAt, 3, none, 36, [], 7)
def mJ24_append_2 : zM := (yJ24_append_2, cJ24_append_2, 3, (some (FieldType.object "java/lang/AbstractStringBuilder")), 36, [], 8)
def mJ25_append_2 : zM := (yJ25_append_2, cJ25_append_2, 2, (some (FieldType.object "java/lang/StringBuilder")), 37, [], 9)
def mJ13_getChars_2 : zM := (yJ13_getChars_2, cJ13_getChars_2, 7, (some FieldType.int), 25, [], 2)
def mJ13_getChars : zM := (yJ13_getChars, cJ13_getChars, 5, (some FieldType.int), 25, [], 3)
def mJ6_getChars : zM := (yJ6_getChars, cJ6_getChars, 7, (some FieldType.int), 18, [], 0)
def mJ6_stringSize : zM := (yJ6_stringSize, cJ6_stringSize, 4, (some FieldType.int), 18, [], 0)
def mJ24_append_3 : zM := (yJ24_append_3, cJ24_append_3, 4, (some (FieldType.object "java/lang/AbstractStringBuilder")), 36, [], 4)
def mJ25_append_3 : zM := (yJ25_append_3, cJ25_append_3, 2, (some (FieldType.object "java/lang/StringBuilder")), 37, [], 5)
def mJ24_init : zM := (yJ24_init, cJ24_init, 2, none, 36, [], 2)
def mJ25_init : zM := (yJ25_init, cJ25_init, 1, none, 37, [], 3)
def mJ13_coderFromArrayLen : zM := (yJ13_coderFromArrayLen, cJ13_coderFromArrayLen, 2, (some FieldType.byte), 25, [], 0)
def mJ13_compress_2 : zM := (yJ13_compress_2, cJ13_compress_2, 7, (some FieldType.int), 25, [], 3)
def mJ17_checkLength : zM := (yJ17_checkLength, cJ17_checkLength, 2, none, 29, [], 0)
def mJ17_copyOfRangeByte : zM := (yJ17_copyOfRangeByte, cJ17_copyOfRangeByte, 5, (some (FieldType.array FieldType.byte)), 29, [], 1)
def mJ17_copyOfRange_2 : zM := (yJ17_copyOfRange_2, cJ17_copyOfRange_2, 3, (some (FieldType.array FieldType.byte)), 29, [], 2)
def mJ13_compress : zM := (yJ13_compress, cJ13_compress, 6, (some (FieldType.array FieldType.byte)), 25, [], 4)
def mJ24_getValue : zM := (yJ24_getValue, cJ24_getValue, 1, (some (FieldType.array FieldType.byte)), 36, [], 0)
def mJ24_length : zM := (yJ24_length, cJ24_length, 1, (some FieldType.int), 36, [], 0)
def mJ25_length : zM := (yJ25_length, cJ25_length, 1, (some FieldType.int), 37, [], 1)
def mJ7_init_2 : zM := (yJ7_init_2, cJ7_init_2, 5, none, 19, [], 5)
def mJ7_init : zM := (yJ7_init, cJ7_init, 2, none, 19, [], 6)
def mJ25_toString : zM := (yJ25_toString, cJ25_toString, 1, (some (FieldType.object "java/lang/String")), 37, [], 7)
def mX3_board_2 : zM := (yX3_board_2, cX3_board_2, 4, (some (FieldType.object "java/lang/String")), 3, [], 10)
def mX0_boardByte : zM := (yX0_boardByte, cX0_boardByte, 2, (some FieldType.int), 0, [], 11)
def mX0_boardLength : zM := (yX0_boardLength, cX0_boardLength, 1, (some FieldType.int), 0, [], 11)
def mX0_bus : zM := (yX0_bus, cX0_bus, 4, (some FieldType.int), 0, [], 2)
def mX0_isFlow : zM := (yX0_isFlow, cX0_isFlow, 2, (some FieldType.boolean), 0, [], 1)
def mX10_by : zM := (yX10_by, cX10_by, 2, (some FieldType.int), 10, [], 0)
def mX0_comeBy : zM := (yX0_comeBy, cX0_comeBy, 3, (some FieldType.int), 0, [], 3)
def mX0_comes : zM := (yX0_comes, cX0_comes, 8, (some FieldType.int), 0, [], 13)
def mX0_errorPosition : zM := (yX0_errorPosition, cX0_errorPosition, 1, (some FieldType.int), 0, [], 0)
def mX4_of : zM := (yX4_of, cX4_of, 4, (some FieldType.int), 4, [], 0)
def mX0_aboardOf : zM := (yX0_aboardOf, cX0_aboardOf, 4, (some FieldType.int), 0, [], 1)
def mX0_flowPart : zM := (yX0_flowPart, cX0_flowPart, 4, (some FieldType.int), 0, [], 3)
def mX0_waitingOf : zM := (yX0_waitingOf, cX0_waitingOf, 4, (some FieldType.int), 0, [], 2)
def mX3_account : zM := (yX3_account, cX3_account, 2, (some FieldType.int), 3, [], 1)
def mX0_flow : zM := (yX0_flow, cX0_flow, 4, (some FieldType.int), 0, [], 4)
def mX0_full : zM := (yX0_full, cX0_full, 2, (some FieldType.float), 0, [], 2)
def mJ23_newCapacity : zM := (yJ23_newCapacity, cJ23_newCapacity, 5, (some FieldType.int), 35, [], 0)
def mJ23_grow : zM := (yJ23_grow, cJ23_grow, 9, none, 35, [], 3)
def mJ23_inc : zM := (yJ23_inc, cJ23_inc, 2, (some FieldType.int), 35, [], 0)
def mJ23_addLast : zM := (yJ23_addLast, cJ23_addLast, 3, none, 35, [], 4)
def mJ23_elementAt : zM := (yJ23_elementAt, cJ23_elementAt, 2, (some (FieldType.object "java/lang/Object")), 35, [], 0)
def mJ23_pollFirst : zM := (yJ23_pollFirst, cJ23_pollFirst, 4, (some (FieldType.object "java/lang/Object")), 35, [], 1)
def mJ23_removeFirst : zM := (yJ23_removeFirst, cJ23_removeFirst, 2, (some (FieldType.object "java/lang/Object")), 35, [], 2)
def mJ23_sub : zM := (yJ23_sub, cJ23_sub, 3, (some FieldType.int), 35, [], 0)
def mJ23_size : zM := (yJ23_size, cJ23_size, 1, (some FieldType.int), 35, [], 1)
def mX0_act : zM := (yX0_act, cX0_act, 1, (some (FieldType.object "BusLine$State")), 0, [], 13)
def mX3_group : zM := (yX3_group, cX3_group, 6, (some FieldType.int), 3, [], 6)
def mX0_group : zM := (yX0_group, cX0_group, 4, (some FieldType.int), 0, [], 14)
def mJ34_equals : zM := (yJ34_equals, cJ34_equals, 2, (some FieldType.boolean), 46, [], 0)
def mJ8_equals : zM := (yJ8_equals, cJ8_equals, 3, (some FieldType.boolean), 20, [], 0)
def mJ7_equals : zM := (yJ7_equals, cJ7_equals, 3, (some FieldType.boolean), 19, [], 1)
def mJ19_indexOf : zM := (yJ19_indexOf, cJ19_indexOf, 5, (some FieldType.int), 31, [], 2)
def mJ19_siftDown : zM := (yJ19_siftDown, cJ19_siftDown, 3, none, 31, [], 9)
def mJ19_removeAt : zM := (yJ19_removeAt, cJ19_removeAt, 5, (some (FieldType.object "java/lang/Object")), 31, [], 10)
def mJ19_remove : zM := (yJ19_remove, cJ19_remove, 3, (some FieldType.boolean), 31, [], 11)
def mX3_delay : zM := (yX3_delay, cX3_delay, 3, (some FieldType.int), 3, [], 12)
def mX0_hold : zM := (yX0_hold, cX0_hold, 3, (some FieldType.int), 0, [], 14)
def mJ1_init : zM := (yJ1_init, cJ1_init, 1, none, 13, [], 1)
def mJ21_init : zM := (yJ21_init, cJ21_init, 3, none, 33, [], 2)
def mJ20_nCopies : zM := (yJ20_nCopies, cJ20_nCopies, 2, (some (FieldType.object "java/util/List")), 32, [], 3)
def mJ23_init : zM := (yJ23_init, cJ23_init, 1, none, 35, [], 1)
def mJ17_rangeCheck : zM := (yJ17_rangeCheck, cJ17_rangeCheck, 3, none, 29, [], 0)
def mJ17_fill : zM := (yJ17_fill, cJ17_fill, 5, none, 29, [], 1)
def mJ21_toArray : zM := (yJ21_toArray, cJ21_toArray, 2, (some (FieldType.array (FieldType.object "java/lang/Object"))), 33, [], 2)
def mJ2_init_2 : zM := (yJ2_init_2, cJ2_init_2, 3, none, 14, [], 3)
def mJ2_grow_2 : zM := (yJ2_grow_2, cJ2_grow_2, 4, (some (FieldType.array (FieldType.object "java/lang/Object"))), 14, [], 3)
def mJ2_grow : zM := (yJ2_grow, cJ2_grow, 1, (some (FieldType.array (FieldType.object "java/lang/Object"))), 14, [], 4)
def mJ2_add_2 : zM := (yJ2_add_2, cJ2_add_2, 4, none, 14, [], 5)
def mJ2_add : zM := (yJ2_add, cJ2_add, 2, (some FieldType.boolean), 14, [], 6)
def mJ5_init : zM := (yJ5_init, cJ5_init, 1, none, 17, [], 0)
def mJ6_init : zM := (yJ6_init, cJ6_init, 2, none, 18, [], 1)
def mJ6_valueOf : zM := (yJ6_valueOf, cJ6_valueOf, 1, (some (FieldType.object "java/lang/Integer")), 18, [], 2)
def mJ16_requireNonNull : zM := (yJ16_requireNonNull, cJ16_requireNonNull, 1, (some (FieldType.object "java/lang/Object")), 28, [], 0)
def mJ15_init : zM := (yJ15_init, cJ15_init, 4, none, 27, [], 0)
def mJ4_colorOf : zM := (yJ4_colorOf, cJ4_colorOf, 1, (some FieldType.boolean), 16, [], 0)
def mJ4_leftOf : zM := (yJ4_leftOf, cJ4_leftOf, 1, (some (FieldType.object "java/util/TreeMap$Entry")), 16, [], 0)
def mJ4_parentOf : zM := (yJ4_parentOf, cJ4_parentOf, 1, (some (FieldType.object "java/util/TreeMap$Entry")), 16, [], 0)
def mJ4_rightOf : zM := (yJ4_rightOf, cJ4_rightOf, 1, (some (FieldType.object "java/util/TreeMap$Entry")), 16, [], 0)
def mJ4_rotateLeft : zM := (yJ4_rotateLeft, cJ4_rotateLeft, 3, none, 16, [], 0)
def mJ4_rotateRight : zM := (yJ4_rotateRight, cJ4_rotateRight, 3, none, 16, [], 0)
def mJ4_setColor : zM := (yJ4_setColor, cJ4_setColor, 2, none, 16, [], 0)
def mJ4_fixAfterInsertion : zM := (yJ4_fixAfterInsertion, cJ4_fixAfterInsertion, 3, none, 16, [], 1)
def mJ4_addEntry : zM := (yJ4_addEntry, cJ4_addEntry, 6, none, 16, [], 2)
def mJ4_compare : zM := (yJ4_compare, cJ4_compare, 3, (some FieldType.int), 16, [], 8)
def mJ4_addEntryToEmptyMap : zM := (yJ4_addEntryToEmptyMap, cJ4_addEntryToEmptyMap, 3, none, 16, [], 9)
def mJ4_put_2 : zM := (yJ4_put_2, cJ4_put_2, 10, (some (FieldType.object "java/lang/Object")), 16, [], 10)
def mJ4_put : zM := (yJ4_put, cJ4_put, 3, (some (FieldType.object "java/lang/Object")), 16, [], 11)
def mJ2_init : zM := (yJ2_init, cJ2_init, 1, none, 14, [], 2)
def mX2_init : zM := (yX2_init, cX2_init, 6, none, 2, [], 3)
def mX1_add : zM := (yX1_add, cX1_add, 5, none, 1, [], 12)
def mJ3_init : zM := (yJ3_init, cJ3_init, 1, none, 15, [], 0)
def mJ4_init : zM := (yJ4_init, cJ4_init, 1, none, 16, [], 1)
def mX1_init : zM := (yX1_init, cX1_init, 1, none, 1, [], 3)
def mX1_first : zM := (yX1_first, cX1_first, 1, (some (FieldType.object "BusLine$Plan")), 1, [], 13)
def mJ6_intValue : zM := (yJ6_intValue, cJ6_intValue, 1, (some FieldType.int), 18, [], 0)
def mX3_of : zM := (yX3_of, cX3_of, 3, (some (FieldType.object "BusLine$State")), 3, [], 12)
def mX0_init : zM := (yX0_init, cX0_init, 1, none, 0, [], 14)
def mJ2_set : zM := (yJ2_set, cJ2_set, 4, (some (FieldType.object "java/lang/Object")), 14, [], 2)
def mX0_isSlot : zM := (yX0_isSlot, cX0_isSlot, 1, (some FieldType.boolean), 0, [], 1)
def mX0_keep : zM := (yX0_keep, cX0_keep, 2, (some FieldType.int), 0, [], 3)
def mX0_late : zM := (yX0_late, cX0_late, 2, (some FieldType.int), 0, [], 2)
def mX0_left : zM := (yX0_left, cX0_left, 5, (some FieldType.int), 0, [], 3)
def mJ23_circularClear : zM := (yJ23_circularClear, cJ23_circularClear, 4, none, 35, [], 0)
def mJ23_clear : zM := (yJ23_clear, cJ23_clear, 1, none, 35, [], 1)
def mJ27_init : zM := (yJ27_init, cJ27_init, 1, none, 39, [], 1)
def mJ28_init : zM := (yJ28_init, cJ28_init, 1, none, 40, [], 2)
def mJ30_init : zM := (yJ30_init, cJ30_init, 3, none, 42, [], 3)
def mJ22_listFromArray : zM := (yJ22_listFromArray, cJ22_listFromArray, 3, (some (FieldType.object "java/util/List")), 34, [], 4)
def mJ29_init : zM := (yJ29_init, cJ29_init, 2, none, 41, [], 3)
def mJ29_init_2 : zM := (yJ29_init_2, cJ29_init_2, 3, none, 41, [], 3)
def mJ26_of : zM := (yJ26_of, cJ26_of, 2, (some (FieldType.object "java/util/List")), 38, [], 5)
def mX8_init : zM := (yX8_init, cX8_init, 2, none, 8, [], 6)
def mJ16_equals : zM := (yJ16_equals, cJ16_equals, 2, (some FieldType.boolean), 28, [], 2)
def mJ30_indexOf : zM := (yJ30_indexOf, cJ30_indexOf, 4, (some FieldType.int), 42, [], 3)
def mJ28_contains : zM := (yJ28_contains, cJ28_contains, 2, (some FieldType.boolean), 40, [], 4)
def mJ2_indexOfRange : zM := (yJ2_indexOfRange, cJ2_indexOfRange, 6, (some FieldType.int), 14, [], 2)
def mJ2_indexOf : zM := (yJ2_indexOf, cJ2_indexOf, 2, (some FieldType.int), 14, [], 3)
def mJ2_contains : zM := (yJ2_contains, cJ2_contains, 2, (some FieldType.boolean), 14, [], 4)
def mX8_isHere : zM := (yX8_isHere, cX8_isHere, 3, (some FieldType.boolean), 8, [], 5)
def mX8_digits : zM := (yX8_digits, cX8_digits, 1, (some (FieldType.object "BusLine$Kind")), 8, [], 6)
def mJ7_init_3 : zM := (yJ7_init_3, cJ7_init_3, 3, none, 19, [], 0)
def mJ13_newString : zM := (yJ13_newString, cJ13_newString, 5, (some (FieldType.object "java/lang/String")), 25, [], 5)
def mJ8_newString : zM := (yJ8_newString, cJ8_newString, 3, (some (FieldType.object "java/lang/String")), 20, [], 3)
def mJ7_substring : zM := (yJ7_substring, cJ7_substring, 5, (some (FieldType.object "java/lang/String")), 19, [], 6)
def mX8_word : zM := (yX8_word, cX8_word, 1, (some (FieldType.object "java/lang/String")), 8, [], 7)
def mX8_next : zM := (yX8_next, cX8_next, 1, none, 8, [], 8)
def mX9_init : zM := (yX9_init, cX9_init, 2, none, 9, [], 0)
def mX8_expect : zM := (yX8_expect, cX8_expect, 2, none, 8, [], 9)
def mX8_is : zM := (yX8_is, cX8_is, 2, (some FieldType.boolean), 8, [], 8)
def mX8_number : zM := (yX8_number, cX8_number, 4, (some FieldType.int), 8, [], 10)
def mX8_after : zM := (yX8_after, cX8_after, 4, (some FieldType.int), 8, [], 11)
def mX8_close : zM := (yX8_close, cX8_close, 1, none, 8, [], 10)
def mX8_bus : zM := (yX8_bus, cX8_bus, 1, none, 8, [], 12)
def mX10_init : zM := (yX10_init, cX10_init, 6, none, 10, [], 0)
def mX1_add_2 : zM := (yX1_add_2, cX1_add_2, 6, none, 1, [], 7)
def mJ4_getEntryUsingComparator : zM := (yJ4_getEntryUsingComparator, cJ4_getEntryUsingComparator, 6, (some (FieldType.object "java/util/TreeMap$Entry")), 16, [], 0)
def mJ4_getEntry : zM := (yJ4_getEntry, cJ4_getEntry, 5, (some (FieldType.object "java/util/TreeMap$Entry")), 16, [], 8)
def mJ4_get : zM := (yJ4_get, cJ4_get, 3, (some (FieldType.object "java/lang/Object")), 16, [], 9)
def mX1_named : zM := (yX1_named, cX1_named, 3, (some FieldType.int), 1, [], 10)
def mX8_place : zM := (yX8_place, cX8_place, 3, (some FieldType.int), 8, [], 11)
def mX8_flow : zM := (yX8_flow, cX8_flow, 5, none, 8, [], 12)
def mX8_stop : zM := (yX8_stop, cX8_stop, 5, none, 8, [], 13)
def mX8_parse : zM := (yX8_parse, cX8_parse, 1, (some (FieldType.object "BusLine$Plan")), 8, [], 14)
def mX0_load : zM := (yX0_load, cX0_load, 3, (some FieldType.int), 0, [(51, 72, 75, 103)], 15)
def mX0_log : zM := (yX0_log, cX0_log, 3, (some FieldType.int), 0, [], 1)
def mX0_meanRide : zM := (yX0_meanRide, cX0_meanRide, 2, (some FieldType.double), 0, [], 1)
def mX0_meanWaiting : zM := (yX0_meanWaiting, cX0_meanWaiting, 2, (some FieldType.double), 0, [], 1)
def mX0_named : zM := (yX0_named, cX0_named, 6, (some FieldType.int), 0, [], 11)
def mX0_nextLeft : zM := (yX0_nextLeft, cX0_nextLeft, 6, (some FieldType.int), 0, [], 13)
def mX0_pass : zM := (yX0_pass, cX0_pass, 3, (some FieldType.int), 0, [], 14)
def mX0_restore : zM := (yX0_restore, cX0_restore, 2, (some FieldType.int), 0, [], 14)
def mX0_rider : zM := (yX0_rider, cX0_rider, 5, (some FieldType.int), 0, [], 3)
def mX0_isMode : zM := (yX0_isMode, cX0_isMode, 1, (some FieldType.boolean), 0, [], 1)
def mX0_setMode : zM := (yX0_setMode, cX0_setMode, 3, (some FieldType.int), 0, [], 14)
def mX0_isNumber : zM := (yX0_isNumber, cX0_isNumber, 2, (some FieldType.boolean), 0, [], 1)
def mX0_setNumber : zM := (yX0_setNumber, cX0_setNumber, 4, (some FieldType.int), 0, [], 14)
def mX0_points : zM := (yX0_points, cX0_points, 3, (some FieldType.int), 0, [], 2)
def mX0_setPoint : zM := (yX0_setPoint, cX0_setPoint, 3, (some FieldType.int), 0, [], 14)
def mJ25_append_4 : zM := (yJ25_append_4, cJ25_append_4, 2, (some (FieldType.object "java/lang/AbstractStringBuilder")), 37, [], 10)
def mJ24_init_2 : zM := (yJ24_init_2, cJ24_init_2, 5, none, 36, [], 11)
def mJ25_init_2 : zM := (yJ25_init_2, cJ25_init_2, 2, none, 37, [], 12)
def mX3_setup : zM := (yX3_setup, cX3_setup, 4, (some (FieldType.object "java/lang/String")), 3, [], 13)
def mX0_setupByte : zM := (yX0_setupByte, cX0_setupByte, 2, (some FieldType.int), 0, [], 14)
def mX0_setupLength : zM := (yX0_setupLength, cX0_setupLength, 1, (some FieldType.int), 0, [], 14)
def mX0_skip : zM := (yX0_skip, cX0_skip, 3, (some FieldType.int), 0, [], 14)
def mX5_spread : zM := (yX5_spread, cX5_spread, 4, (some FieldType.int), 5, [], 1)
def mX0_spread : zM := (yX0_spread, cX0_spread, 2, (some FieldType.int), 0, [], 3)
def mX0_busesAt : zM := (yX0_busesAt, cX0_busesAt, 4, (some FieldType.int), 0, [], 1)
def mX0_stop : zM := (yX0_stop, cX0_stop, 3, (some FieldType.int), 0, [], 4)
def mX3_word : zM := (yX3_word, cX3_word, 1, (some (FieldType.object "java/lang/String")), 3, [], 0)
def mX3_story : zM := (yX3_story, cX3_story, 3, (some (FieldType.object "java/lang/String")), 3, [], 10)
def mX0_storyByte : zM := (yX0_storyByte, cX0_storyByte, 2, (some FieldType.int), 0, [], 11)
def mX0_storyLength : zM := (yX0_storyLength, cX0_storyLength, 1, (some FieldType.int), 0, [], 11)
def mX0_tapeLength : zM := (yX0_tapeLength, cX0_tapeLength, 1, (some FieldType.int), 0, [], 0)
def mX0_truncate : zM := (yX0_truncate, cX0_truncate, 2, (some FieldType.int), 0, [], 1)
def mJ23_isEmpty : zM := (yJ23_isEmpty, cJ23_isEmpty, 1, (some FieldType.boolean), 35, [], 0)
def mJ23_dec : zM := (yJ23_dec, cJ23_dec, 2, (some FieldType.int), 35, [], 0)
def mJ23_pollLast : zM := (yJ23_pollLast, cJ23_pollLast, 4, (some (FieldType.object "java/lang/Object")), 35, [], 1)
def mJ23_removeLast : zM := (yJ23_removeLast, cJ23_removeLast, 2, (some (FieldType.object "java/lang/Object")), 35, [], 2)
def mX0_undo : zM := (yX0_undo, cX0_undo, 1, (some FieldType.int), 0, [], 3)
def mX3_aboard : zM := (yX3_aboard, cX3_aboard, 3, (some FieldType.int), 3, [], 0)
def mX3_waiting : zM := (yX3_waiting, cX3_waiting, 3, (some FieldType.int), 3, [], 2)
def mX0_value : zM := (yX0_value, cX0_value, 2, (some FieldType.int), 0, [], 3)
def mX0_why : zM := (yX0_why, cX0_why, 2, (some FieldType.int), 0, [], 2)
def mX3_lost : zM := (yX3_lost, cX3_lost, 1, (some FieldType.int), 3, [], 1)
def mX0_would : zM := (yX0_would, cX0_would, 5, (some FieldType.int), 0, [], 15)
def mX0_wouldHold : zM := (yX0_wouldHold, cX0_wouldHold, 4, (some FieldType.int), 0, [], 6)
def mX7_of : zM := (yX7_of, cX7_of, 3, (some FieldType.int), 7, [], 0)
def mX7_seatAt : zM := (yX7_seatAt, cX7_seatAt, 2, (some FieldType.int), 7, [], 0)
def mX7_aboardTo : zM := (yX7_aboardTo, cX7_aboardTo, 5, (some FieldType.int), 7, [], 1)
def mX7_in : zM := (yX7_in, cX7_in, 6, (some FieldType.boolean), 7, [], 0)
def mX7_isBus : zM := (yX7_isBus, cX7_isBus, 2, (some FieldType.boolean), 7, [], 1)
def mX7_isStop : zM := (yX7_isStop, cX7_isStop, 2, (some FieldType.boolean), 7, [], 1)
def mX7_aboard : zM := (yX7_aboard, cX7_aboard, 3, (some FieldType.int), 7, [], 2)
def mX7_behind : zM := (yX7_behind, cX7_behind, 2, (some FieldType.int), 7, [], 0)
def mX7_way : zM := (yX7_way, cX7_way, 5, (some FieldType.int), 7, [], 1)
def mX7_ahead : zM := (yX7_ahead, cX7_ahead, 7, (some FieldType.int), 7, [], 2)
def mX7_feeds : zM := (yX7_feeds, cX7_feeds, 3, none, 7, [], 0)
def mX7_append : zM := (yX7_append, cX7_append, 6, (some FieldType.int), 7, [], 1)
def mX7_comesBack : zM := (yX7_comesBack, cX7_comesBack, 2, none, 7, [], 0)
def mX7_flowNext : zM := (yX7_flowNext, cX7_flowNext, 5, (some FieldType.int), 7, [], 0)
def mX7_counts : zM := (yX7_counts, cX7_counts, 3, none, 7, [], 0)
def mX7_riderAt : zM := (yX7_riderAt, cX7_riderAt, 2, (some FieldType.int), 7, [], 0)
def mX7_shifts : zM := (yX7_shifts, cX7_shifts, 4, none, 7, [], 1)
def mX7_giveUp : zM := (yX7_giveUp, cX7_giveUp, 4, none, 7, [], 2)
def mX7_joins : zM := (yX7_joins, cX7_joins, 6, (some FieldType.boolean), 7, [], 3)
def mX7_bringsUp : zM := (yX7_bringsUp, cX7_bringsUp, 5, none, 7, [], 4)
def mX7_sets : zM := (yX7_sets, cX7_sets, 4, none, 7, [], 0)
def mX7_alights : zM := (yX7_alights, cX7_alights, 9, (some FieldType.int), 7, [], 1)
def mX7_boards : zM := (yX7_boards, cX7_boards, 7, (some FieldType.int), 7, [], 2)
def mX7_goesOn : zM := (yX7_goesOn, cX7_goesOn, 4, none, 7, [], 1)
def mX7_tells : zM := (yX7_tells, cX7_tells, 7, none, 7, [], 0)
def mX7_comesTo : zM := (yX7_comesTo, cX7_comesTo, 6, none, 7, [], 5)
def mX7_isAt : zM := (yX7_isAt, cX7_isAt, 2, (some FieldType.boolean), 7, [], 1)
def mX7_untilNext : zM := (yX7_untilNext, cX7_untilNext, 8, (some FieldType.int), 7, [], 2)
def mX7_wanted : zM := (yX7_wanted, cX7_wanted, 8, (some FieldType.int), 7, [], 3)
def mX7_heldBy : zM := (yX7_heldBy, cX7_heldBy, 5, (some FieldType.int), 7, [], 4)
def mX7_leavingAt : zM := (yX7_leavingAt, cX7_leavingAt, 2, (some FieldType.int), 7, [], 0)
def mX7_notes : zM := (yX7_notes, cX7_notes, 6, none, 7, [], 1)
def mX7_leaves : zM := (yX7_leaves, cX7_leaves, 6, none, 7, [], 5)
def mX7_isReady : zM := (yX7_isReady, cX7_isReady, 5, none, 7, [], 6)
def mX7_happens : zM := (yX7_happens, cX7_happens, 3, none, 7, [], 7)
def mX7_nextBus : zM := (yX7_nextBus, cX7_nextBus, 3, (some FieldType.int), 7, [], 1)
def mX7_passesTo : zM := (yX7_passesTo, cX7_passesTo, 4, (some FieldType.int), 7, [], 8)
def mX7_thinks : zM := (yX7_thinks, cX7_thinks, 2, none, 7, [], 0)
def mX7_bestMode : zM := (yX7_bestMode, cX7_bestMode, 8, (some FieldType.int), 7, [], 9)
def mX7_says : zM := (yX7_says, cX7_says, 2, none, 7, [], 0)
def mX7_saysNumber : zM := (yX7_saysNumber, cX7_saysNumber, 3, none, 7, [], 1)
def mX7_saysBuses : zM := (yX7_saysBuses, cX7_saysBuses, 4, none, 7, [], 2)
def mX7_saysWord : zM := (yX7_saysWord, cX7_saysWord, 5, none, 7, [], 1)
def mX7_startsText : zM := (yX7_startsText, cX7_startsText, 2, none, 7, [], 0)
def mX7_saysBoard : zM := (yX7_saysBoard, cX7_saysBoard, 3, none, 7, [], 3)
def mX7_boardByte : zM := (yX7_boardByte, cX7_boardByte, 2, (some FieldType.int), 7, [], 4)
def mX7_boardLength : zM := (yX7_boardLength, cX7_boardLength, 1, (some FieldType.int), 7, [], 4)
def mX7_bus : zM := (yX7_bus, cX7_bus, 3, (some FieldType.int), 7, [], 2)
def mX7_comeBy : zM := (yX7_comeBy, cX7_comeBy, 3, (some FieldType.int), 7, [], 1)
def mX7_isComing : zM := (yX7_isComing, cX7_isComing, 3, (some FieldType.boolean), 7, [], 2)
def mX7_comes : zM := (yX7_comes, cX7_comes, 5, (some FieldType.int), 7, [], 8)
def mX7_errorPosition : zM := (yX7_errorPosition, cX7_errorPosition, 1, (some FieldType.int), 7, [], 0)
def mX7_aboardOf : zM := (yX7_aboardOf, cX7_aboardOf, 5, (some FieldType.int), 7, [], 1)
def mX7_account : zM := (yX7_account, cX7_account, 3, (some FieldType.int), 7, [], 0)
def mX7_toldOf : zM := (yX7_toldOf, cX7_toldOf, 3, (some FieldType.int), 7, [], 0)
def mX7_waitingOf : zM := (yX7_waitingOf, cX7_waitingOf, 5, (some FieldType.int), 7, [], 1)
def mX7_flow : zM := (yX7_flow, cX7_flow, 4, (some FieldType.int), 7, [], 2)
def mX7_full : zM := (yX7_full, cX7_full, 2, (some FieldType.float), 7, [], 2)
def mX7_keeps : zM := (yX7_keeps, cX7_keeps, 2, none, 7, [], 0)
def mX7_group : zM := (yX7_group, cX7_group, 6, (some FieldType.int), 7, [], 5)
def mX7_hold : zM := (yX7_hold, cX7_hold, 3, (some FieldType.int), 7, [], 2)
def mX7_clear : zM := (yX7_clear, cX7_clear, 2, none, 7, [], 1)
def mX7_init : zM := (yX7_init, cX7_init, 1, none, 7, [], 2)
def mX7_keep : zM := (yX7_keep, cX7_keep, 3, (some FieldType.int), 7, [], 1)
def mX7_late : zM := (yX7_late, cX7_late, 2, (some FieldType.int), 7, [], 2)
def mX7_left : zM := (yX7_left, cX7_left, 5, (some FieldType.int), 7, [], 2)
def mX7_becomes : zM := (yX7_becomes, cX7_becomes, 2, none, 7, [], 0)
def mX7_isWord : zM := (yX7_isWord, cX7_isWord, 3, (some FieldType.boolean), 7, [], 0)
def mX7_isByte : zM := (yX7_isByte, cX7_isByte, 3, (some FieldType.boolean), 7, [], 0)
def mX7_nextInt : zM := (yX7_nextInt, cX7_nextInt, 1, none, 7, [], 1)
def mX7_isKey : zM := (yX7_isKey, cX7_isKey, 3, (some FieldType.boolean), 7, [], 0)
def mX7_nextWord : zM := (yX7_nextWord, cX7_nextWord, 3, none, 7, [], 1)
def mX7_next : zM := (yX7_next, cX7_next, 1, none, 7, [], 2)
def mX7_takes : zM := (yX7_takes, cX7_takes, 2, none, 7, [], 3)
def mX7_number : zM := (yX7_number, cX7_number, 4, (some FieldType.int), 7, [], 4)
def mX7_numberOf : zM := (yX7_numberOf, cX7_numberOf, 5, (some FieldType.int), 7, [], 5)
def mX7_readBus : zM := (yX7_readBus, cX7_readBus, 4, none, 7, [], 6)
def mX7_stopNamed : zM := (yX7_stopNamed, cX7_stopNamed, 2, (some FieldType.int), 7, [], 0)
def mX7_readFlow : zM := (yX7_readFlow, cX7_readFlow, 6, none, 7, [], 6)
def mX7_readNumbers : zM := (yX7_readNumbers, cX7_readNumbers, 1, none, 7, [], 6)
def mX7_readStop : zM := (yX7_readStop, cX7_readStop, 6, none, 7, [], 6)
def mX7_readAll : zM := (yX7_readAll, cX7_readAll, 1, none, 7, [], 7)
def mX7_load : zM := (yX7_load, cX7_load, 1, (some FieldType.int), 7, [], 8)
def mX7_log : zM := (yX7_log, cX7_log, 3, (some FieldType.int), 7, [], 1)
def mX7_sumOf : zM := (yX7_sumOf, cX7_sumOf, 4, (some FieldType.int), 7, [], 1)
def mX7_meanRide : zM := (yX7_meanRide, cX7_meanRide, 2, (some FieldType.double), 7, [], 2)
def mX7_meanWaiting : zM := (yX7_meanWaiting, cX7_meanWaiting, 2, (some FieldType.double), 7, [], 2)
def mX7_isName : zM := (yX7_isName, cX7_isName, 5, (some FieldType.boolean), 7, [], 0)
def mX7_named : zM := (yX7_named, cX7_named, 3, (some FieldType.int), 7, [], 1)
def mX7_nextLeft : zM := (yX7_nextLeft, cX7_nextLeft, 7, (some FieldType.int), 7, [], 8)
def mX7_pass : zM := (yX7_pass, cX7_pass, 2, (some FieldType.int), 7, [], 9)
def mX7_restore : zM := (yX7_restore, cX7_restore, 3, (some FieldType.int), 7, [], 1)
def mX7_rider : zM := (yX7_rider, cX7_rider, 5, (some FieldType.int), 7, [], 2)
def mX7_isMode : zM := (yX7_isMode, cX7_isMode, 1, (some FieldType.boolean), 7, [], 1)
def mX7_setMode : zM := (yX7_setMode, cX7_setMode, 3, (some FieldType.int), 7, [], 2)
def mX7_isNumber : zM := (yX7_isNumber, cX7_isNumber, 2, (some FieldType.boolean), 7, [], 1)
def mX7_setNumber : zM := (yX7_setNumber, cX7_setNumber, 4, (some FieldType.int), 7, [], 2)
def mX7_pointMany : zM := (yX7_pointMany, cX7_pointMany, 3, (some FieldType.int), 7, [], 0)
def mX7_setPoint : zM := (yX7_setPoint, cX7_setPoint, 3, (some FieldType.int), 7, [], 2)
def mX7_saysName : zM := (yX7_saysName, cX7_saysName, 4, none, 7, [], 2)
def mX7_saysPair : zM := (yX7_saysPair, cX7_saysPair, 5, none, 7, [], 2)
def mX7_saysNumbers : zM := (yX7_saysNumbers, cX7_saysNumbers, 1, none, 7, [], 3)
def mX7_saysSetup : zM := (yX7_saysSetup, cX7_saysSetup, 3, none, 7, [], 4)
def mX7_setupByte : zM := (yX7_setupByte, cX7_setupByte, 2, (some FieldType.int), 7, [], 5)
def mX7_setupLength : zM := (yX7_setupLength, cX7_setupLength, 1, (some FieldType.int), 7, [], 5)
def mX7_skip : zM := (yX7_skip, cX7_skip, 3, (some FieldType.int), 7, [], 2)
def mX7_spread : zM := (yX7_spread, cX7_spread, 6, (some FieldType.int), 7, [], 2)
def mX7_atStop : zM := (yX7_atStop, cX7_atStop, 4, (some FieldType.int), 7, [], 2)
def mX7_stop : zM := (yX7_stop, cX7_stop, 3, (some FieldType.int), 7, [], 3)
def mX7_wordOf : zM := (yX7_wordOf, cX7_wordOf, 1, (some FieldType.long), 7, [], 0)
def mX7_saysStory : zM := (yX7_saysStory, cX7_saysStory, 4, none, 7, [], 2)
def mX7_storyByte : zM := (yX7_storyByte, cX7_storyByte, 2, (some FieldType.int), 7, [], 3)
def mX7_storyLength : zM := (yX7_storyLength, cX7_storyLength, 1, (some FieldType.int), 7, [], 3)
def mX7_tapeLength : zM := (yX7_tapeLength, cX7_tapeLength, 1, (some FieldType.int), 7, [], 0)
def mX7_truncate : zM := (yX7_truncate, cX7_truncate, 2, (some FieldType.int), 7, [], 1)
def mX7_undo : zM := (yX7_undo, cX7_undo, 2, (some FieldType.int), 7, [], 0)
def mX7_aboardAll : zM := (yX7_aboardAll, cX7_aboardAll, 3, (some FieldType.int), 7, [], 1)
def mX7_waitingAll : zM := (yX7_waitingAll, cX7_waitingAll, 3, (some FieldType.int), 7, [], 0)
def mX7_value : zM := (yX7_value, cX7_value, 2, (some FieldType.int), 7, [], 2)
def mX7_why : zM := (yX7_why, cX7_why, 2, (some FieldType.int), 7, [], 2)
def mX7_told : zM := (yX7_told, cX7_told, 2, (some FieldType.int), 7, [], 2)
def mX7_would : zM := (yX7_would, cX7_would, 7, (some FieldType.int), 7, [], 9)
def mX7_wouldHold : zM := (yX7_wouldHold, cX7_wouldHold, 3, (some FieldType.int), 7, [], 5)
def mL_law : zM := (x, cL_law, 8, (some FieldType.boolean), 11, [], 16)
def cR (o : Nat) : String := match o with
  | 0 => RX0
  | 1 => RX1
  | 2 => RX2
  | 3 => RX3
  | 4 => RX4
  | 5 => RX5
  | 6 => RX6
  | 7 => RX7
  | 8 => RX8
  | 9 => RX9
  | 10 => RX10
  | 11 => "BusLineLaw"
  | 12 => RJ0
  | 13 => RJ1
  | 14 => RJ2
  | 15 => RJ3
  | 16 => RJ4
  | 17 => RJ5
  | 18 => RJ6
  | 19 => RJ7
  | 20 => RJ8
  | 21 => RJ9
  | 22 => RJ10
  | 23 => RJ11
  | 24 => RJ12
  | 25 => RJ13
  | 26 => RJ14
  | 27 => RJ15
  | 28 => RJ16
  | 29 => RJ17
  | 30 => RJ18
  | 31 => RJ19
  | 32 => RJ20
  | 33 => RJ21
  | 34 => RJ22
  | 35 => RJ23
  | 36 => RJ24
  | 37 => RJ25
  | 38 => RJ26
  | 39 => RJ27
  | 40 => RJ28
  | 41 => RJ29
  | 42 => RJ30
  | 43 => RJ31
  | 44 => RJ32
  | 45 => RJ33
  | _ => RJ34
def tF (o : Nat) : List (Nat × Nat) := match o with
  | 0 => [(13, 0), (17, 2), (33, 3), (48, 4), (55, 5), (63, 38), (67, 22), (71, 14), (77, 1), (105, 141), (132, 24), (138, 35), (152, 34), (159, 70), (165, 60), (168, 71), (172, 61), (196, 44), (210, 23), (223, 6), (226, 7), (229, 8), (238, 25), (241, 26), (244, 27), (247, 28), (250, 29), (253, 30), (255, 31), (261, 18), (266, 19), (269, 36), (273, 50), (276, 37), (280, 56), (285, 55), (291, 58), (294, 59), (297, 62), (298, 63), (301, 69), (304, 66), (307, 64), (310, 65), (318, 146), (322, 17), (325, 143), (328, 144), (331, 145), (342, 40), (345, 41), (348, 42), (351, 43), (360, 47), (362, 48), (365, 49), (368, 54), (369, 51), (371, 52), (374, 53), (377, 46), (395, 67), (398, 68), (425, 32), (433, 33)]
  | 1 => [(9, 6), (15, 7), (18, 8), (21, 10), (28, 11), (32, 12), (35, 13), (38, 14), (44, 15), (84, 21), (95, 18)]
  | 2 => [(10, 21), (16, 16), (20, 17), (24, 18), (27, 19), (30, 20)]
  | 3 => [(9, 34), (15, 35), (21, 36), (27, 37), (34, 39), (38, 40), (41, 41), (44, 42), (47, 43), (50, 44), (53, 45), (56, 46), (59, 22), (63, 12), (77, 38), (91, 9), (95, 24), (96, 10), (103, 11), (111, 20), (119, 13), (129, 23), (132, 25), (135, 26), (138, 27), (141, 28), (144, 29), (147, 30), (150, 31), (153, 32), (157, 33), (171, 14), (174, 62), (175, 57), (178, 61), (181, 50), (184, 48), (187, 49), (202, 21), (209, 142), (218, 143), (229, 71), (233, 47), (247, 64), (250, 60), (253, 18), (258, 63), (261, 70), (278, 6), (281, 8), (284, 7), (294, 66), (297, 65), (309, 67), (315, 68), (318, 69), (321, 59), (324, 19), (327, 56), (374, 16), (439, 58), (445, 146), (453, 144), (458, 145)]
  | 4 => [(7, 47), (13, 48), (16, 49), (19, 50)]
  | 5 => [(9, 51), (15, 52), (18, 53), (21, 56), (25, 54), (28, 55)]
  | 6 => [(9, 60), (15, 65), (18, 66), (21, 57), (24, 58), (27, 59), (35, 71), (39, 62), (42, 67), (45, 68), (51, 61), (54, 63), (57, 64), (60, 69), (64, 70), (77, 50)]
  | 7 => [(7, 72), (13, 74), (17, 82), (21, 83), (24, 84), (27, 85), (30, 86), (33, 87), (36, 88), (39, 89), (42, 90), (45, 91), (48, 92), (51, 93), (54, 94), (58, 95), (61, 96), (64, 97), (67, 98), (70, 99), (73, 100), (76, 101), (80, 114), (83, 115), (86, 116), (89, 117), (92, 118), (95, 119), (98, 120), (101, 121), (104, 122), (107, 123), (110, 124), (113, 75), (118, 76), (121, 78), (124, 79), (127, 80), (133, 81), (136, 77), (143, 102), (207, 103), (241, 104), (244, 73), (283, 107), (287, 109), (294, 105), (303, 106), (306, 108), (315, 110), (332, 111), (342, 112), (345, 113), (458, 125), (461, 126), (464, 127)]
  | 8 => [(53, 128), (62, 134), (66, 129), (70, 130), (86, 131), (95, 133), (122, 132), (158, 6), (160, 7), (162, 8), (164, 10), (168, 9), (180, 11), (197, 12), (208, 13), (211, 14)]
  | 9 => [(7, 141)]
  | 10 => [(7, 142), (13, 146), (17, 143), (20, 144), (23, 145)]
  | 13 => [(7, 147)]
  | 14 => [(9, 148), (48, 149), (63, 147)]
  | 16 => [(7, 154), (13, 155), (16, 152), (58, 165), (101, 153), (105, 164), (111, 166), (114, 167), (124, 168), (290, 169)]
  | 18 => [(205, 159)]
  | 19 => [(9, 160), (15, 161), (1048, 181)]
  | 27 => [(9, 169), (15, 164), (19, 165), (22, 168)]
  | 31 => [(17, 170), (21, 172), (58, 171), (93, 173)]
  | 33 => [(16, 174), (20, 175)]
  | 35 => [(3, 176), (20, 178), (24, 177)]
  | 36 => [(15, 179), (22, 180), (79, 182)]
  | 41 => [(13, 183), (24, 184)]
  | 42 => [(7, 185), (13, 186)]
  | _ => []
def tS (o : Nat) : List (Nat × Nat) := match o with
  | 8 => [(89, 20), (106, 21), (109, 22), (112, 23), (119, 25), (125, 24)]
  | 14 => [(15, 18), (39, 0)]
  | 18 => [(83, 28), (87, 29), (191, 1), (195, 2)]
  | 19 => [(38, 3), (1053, 15)]
  | 22 => [(20, 6), (26, 7), (36, 9), (46, 10), (51, 11), (126, 4), (129, 5)]
  | 25 => [(44, 12), (59, 13), (63, 14), (251, 3), (403, 28), (407, 29)]
  | 33 => [(7, 16)]
  | 36 => [(18, 3)]
  | 38 => [(90, 19)]
  | 41 => [(19, 17)]
  | _ => []
def tN (o : Nat) : List (Nat × Nat) := match o with
  | 0 => [(37, 14), (52, 35), (84, 37), (91, 8)]
  | 1 => [(10, 1), (25, 14), (41, 16), (74, 2), (79, 10)]
  | 2 => [(7, 14)]
  | 3 => [(10, 3), (19, 4), (25, 5), (31, 31), (75, 6), (371, 37)]
  | 6 => [(10, 6), (30, 4)]
  | 8 => [(59, 1), (135, 9)]
  | 11 => [(7, 0), (10, 7)]
  | 16 => [(59, 27)]
  | 18 => [(1, 18)]
  | 20 => [(1, 19)]
  | 25 => [(3, 19)]
  | 32 => [(417, 33)]
  | 34 => [(12, 42)]
  | 37 => [(18, 19)]
  | 38 => [(96, 41)]
  | _ => []
def tA (o : Nat) : List (Nat × Nat) := match o with
  | 3 => [(19, 11), (25, 12), (75, 13)]
  | 8 => [(9, 14)]
  | 14 => [(7, 10)]
  | 29 => [(2, 10)]
  | 31 => [(15, 10)]
  | 33 => [(50, 10)]
  | 34 => [(2, 10)]
  | 35 => [(47, 10)]
  | _ => []
def tC (o : Nat) : List (Nat × Nat) := match o with
  | 0 => [(28, 0), (316, 1)]
  | 1 => [(58, 2), (74, 3)]
  | 3 => [(75, 4), (109, 3), (114, 2), (207, 1)]
  | 6 => [(10, 4)]
  | 8 => [(222, 3)]
  | 16 => [(99, 5)]
  | 19 => [(10, 6)]
  | 29 => [(110, 7), (311, 8)]
  | 31 => [(144, 5)]
  | _ => []
def tX (o : Nat) : List (Nat × Nat) := match o with
  | 0 => [(7, 4)]
  | 1 => [(3, 4)]
  | 2 => [(1, 4)]
  | 3 => [(3, 4), (97, 1)]
  | 4 => [(1, 4), (23, 1)]
  | 5 => [(3, 4), (31, 1)]
  | 6 => [(3, 4)]
  | 7 => [(1, 4)]
  | 8 => [(3, 4)]
  | 9 => [(1, 5)]
  | 10 => [(1, 4)]
  | 12 => [(1, 4)]
  | 14 => [(52, 6)]
  | 15 => [(1, 4)]
  | 17 => [(1, 4)]
  | 19 => [(1, 4), (212, 1)]
  | 27 => [(3, 4)]
  | 29 => [(86, 2), (150, 1), (310, 3)]
  | 35 => [(27, 1)]
  | 36 => [(3, 4)]
  | _ => []
def tI (o : Nat) : List (Nat × Value) := match o with
  | 0 => [(401, .int (100000)), (429, .int (9999999)), (436, .float 3212836864)]
  | 7 => [(116, .int (33554432)), (117, .int (67108864)), (437, .int (100000)), (457, .float 3212836864)]
  | 18 => [(264, .int (65536))]
  | 22 => [(200, .int (2147483639))]
  | 25 => [(20, .int (1073741823))]
  | 35 => [(9, .int (2147483639)), (41, .int (2147483647))]
  | 36 => [(38, .int (2147483631)), (39, .int (2147483647))]
  | _ => []
def tJ (o : Nat) : List (Nat × Value) := match o with
  | 7 => [(247, .long (508078)), (249, .long (494)), (251, .long (147182)), (253, .long (8758910009)), (255, .long (3120)), (257, .long (551510259813)), (259, .long (19387844)), (261, .long (441477)), (263, .long (643568)), (265, .long (4794053)), (267, .long (15558)), (269, .long (17278420)), (271, .long (2739)), (273, .long (20579924)), (275, .long (215533)), (277, .long (655)), (279, .long (5969497)), (281, .long (6605428)), (297, .long (32)), (369, .long (3)), (383, .long (30)), (385, .long (3600)), (387, .long (900)), (389, .long (60)), (391, .long (9999)), (402, .long (40)), (416, .long (10)), (430, .long (2)), (432, .long (4)), (450, .long (5)), (455, .long (9999999)), (467, .long (31)), (489, .long (2799720)), (491, .long (20459828)), (493, .long (267652)), (495, .long (398548)), (497, .long (218508))]
  | _ => []
def tG (o : Nat) : List (Nat × Nat) := match o with
  | 1 => [(49, 0), (55, 1)]
  | 3 => [(388, 22), (390, 23), (396, 24), (397, 25), (399, 26), (400, 27), (402, 28), (408, 29), (413, 30), (415, 31), (417, 32), (419, 33), (421, 34), (423, 35), (425, 36), (427, 37), (429, 38), (431, 39), (433, 40), (435, 41), (437, 42), (441, 43), (443, 44), (449, 45), (451, 46), (456, 47)]
  | 8 => [(11, 2), (13, 3), (15, 4), (17, 5), (19, 6), (21, 7), (23, 8), (25, 9), (27, 10), (29, 11), (31, 12), (33, 13), (35, 14), (37, 15), (39, 16), (41, 17), (43, 18), (45, 19)]
  | 20 => [(151, 20)]
  | 25 => [(295, 21)]
  | _ => []
def tM (o : Nat) : List (Nat × Nat) := match o with
  | 14 => [(10, 2), (56, 0)]
  | 29 => [(110, 0)]
  | _ => []
def tI1 (o : Nat) : List (Nat × (Nat × zM)) := match o with
  | 0 => [(3, (3, mX0_isBetween)), (21, (0, mX1_first)), (27, (1, mX3_of)), (39, (2, mJ20_nCopies)), (128, (1, mX0_isMode)), (148, (2, mX0_isNumber)), (193, (1, mX0_isPass)), (199, (1, mX3_sum)), (207, (1, mX0_isSlot)), (406, (2, mJ9_min)), (411, (2, mJ9_max)), (447, (2, mX0_byteAt))]
  | 1 => [(57, (1, mJ6_valueOf))]
  | 3 => [(241, (2, mJ9_min)), (291, (2, mJ9_max)), (367, (1, mX3_sum)), (404, (1, mX3_word))]
  | 5 => [(37, (2, mJ9_min)), (43, (2, mJ9_max))]
  | 6 => [(71, (2, mJ6_compare))]
  | 7 => [(146, (3, mX7_in)), (150, (2, mX7_riderAt)), (174, (2, mX7_seatAt)), (220, (2, mX7_leavingAt)), (299, (1, mX7_isKey)), (371, (1, mX7_isMode)), (393, (2, mX7_isNumber)), (434, (1, mX7_isName)), (499, (1, mX7_wordOf))]
  | 8 => [(47, (1, mJ26_of)), (200, (1, mJ6_valueOf))]
  | 14 => [(57, (3, mJ17_copyOf_2)), (66, (2, mJ17_copyOf)), (73, (3, mJ10_newLength)), (79, (2, mJ9_max)), (118, (2, mJ16_checkIndex))]
  | 16 => [(95, (1, mJ16_requireNonNull)), (294, (1, mJ4_parentOf)), (297, (1, mJ4_leftOf)), (300, (1, mJ4_rightOf)), (303, (1, mJ4_colorOf)), (307, (2, mJ4_setColor))]
  | 19 => [(47, (2, mJ13_coderFromArrayLen)), (54, (3, mJ17_copyOfRange_2)), (106, (5, mJ8_inflate)), (495, (2, mJ8_charAt)), (498, (2, mJ13_charAt)), (521, (3, mJ7_checkBoundsBeginEnd)), (541, (2, mJ8_equals)), (586, (2, mJ8_compareTo)), (590, (2, mJ13_compareTo)), (591, (2, mJ8_compareToUTF16)), (594, (2, mJ13_compareToLatin1)), (685, (3, mJ8_newString)), (689, (3, mJ13_newString)), (1051, (3, mJ13_compress)), (1059, (3, mJ14_checkIndex)), (1062, (4, mJ14_checkFromToIndex)), (1065, (4, mJ14_checkFromIndexSize))]
  | 20 => [(9, (2, mJ7_checkIndex)), (34, (4, mJ8_compareTo_2)), (38, (2, mJ9_min)), (44, (3, mJ10_mismatch)), (50, (2, mJ8_getChar)), (54, (1, mJ8_length)), (58, (1, mJ13_length)), (59, (4, mJ8_compareToUTF16Values)), (65, (2, mJ13_getChar)), (232, (3, mJ17_copyOfRange_2)), (240, (5, mJ13_inflate))]
  | 22 => [(11, (1, mJ6_numberOfTrailingZeros)), (40, (1, mJ12_numberOfLeadingZeros)), (49, (1, mJ12_numberOfTrailingZeros)), (58, (1, mJ6_numberOfLeadingZeros)), (122, (6, mJ10_vectorizedMismatch)), (194, (2, mJ9_max)), (201, (2, mJ10_hugeLength))]
  | 24 => [(308, (1, mJ6_numberOfLeadingZeros)), (311, (1, mJ6_numberOfTrailingZeros))]
  | 25 => [(11, (1, mJ13_newBytesLength)), (48, (1, mJ13_length)), (67, (2, mJ13_checkIndex)), (71, (2, mJ13_getChar)), (96, (3, mJ13_checkBoundsBeginEnd)), (111, (3, mJ13_putChar)), (123, (5, mJ13_compress_2)), (126, (3, mJ17_copyOfRange_2)), (173, (3, mJ13_checkBoundsOffCount)), (176, (4, mJ13_compareValues)), (183, (2, mJ9_min)), (189, (2, mJ8_compareToUTF16)), (241, (3, mJ7_checkBoundsBeginEnd)), (257, (3, mJ13_compress)), (259, (2, mJ13_coderFromArrayLen)), (393, (3, mJ13_getChars_2)), (414, (2, mJ7_checkIndex)), (419, (3, mJ7_checkBoundsOffCount))]
  | 28 => [(105, (3, mJ14_checkIndex))]
  | 29 => [(13, (3, mJ17_rangeCheck)), (300, (3, mJ17_copyOf_2)), (304, (2, mJ9_min)), (339, (3, mJ17_copyOfRangeByte)), (343, (2, mJ17_checkLength))]
  | 31 => [(80, (3, mJ10_newLength)), (86, (2, mJ17_copyOf)), (125, (4, mJ19_siftDownComparable)), (129, (5, mJ19_siftDownUsingComparator)), (136, (4, mJ19_siftUpUsingComparator)), (140, (3, mJ19_siftUpComparable))]
  | 33 => [(52, (4, mJ17_fill))]
  | 34 => [(37, (1, mJ16_requireNonNull))]
  | 35 => [(14, (2, mJ17_copyOf)), (68, (2, mJ23_dec)), (74, (2, mJ23_inc)), (103, (2, mJ23_elementAt)), (127, (3, mJ23_sub)), (181, (3, mJ23_circularClear))]
  | 36 => [(26, (1, mJ13_newBytesFor)), (108, (2, mJ17_copyOf_3)), (114, (3, mJ10_newLength)), (125, (5, mJ8_inflate)), (191, (1, mJ8_canEncode)), (197, (3, mJ13_putCharSB)), (226, (6, mJ13_putCharsAt)), (245, (1, mJ6_stringSize)), (248, (3, mJ6_getChars)), (251, (4, mJ13_getChars))]
  | 38 => [(109, (1, mJ22_listFromArray))]
  | 41 => [(7, (1, mJ16_requireNonNull))]
  | 42 => [(53, (2, mJ16_equals))]
  | _ => []
def tI2 (o : Nat) : List (Nat × (Nat × Nat × zM)) := match o with
  | 0 => [(45, (1, 0, mJ2_init_2)), (54, (0, 0, mJ23_init)), (86, (0, 0, mJ25_init)), (97, (1, 0, mX8_init))]
  | 1 => [(27, (0, 0, mJ2_init)), (43, (0, 0, mJ4_init)), (48, (0, 0, mX1_init)), (76, (5, 0, mX2_init)), (81, (5, 0, mX10_init))]
  | 2 => [(9, (0, 0, mJ2_init))]
  | 3 => [(33, (0, 0, mJ19_init)), (84, (1, 0, mX4_init)), (87, (0, 0, mX5_init)), (88, (1, 0, mX3_init)), (122, (3, 0, mX6_init)), (373, (0, 0, mJ25_init)), (410, (1, 0, mJ25_init_2))]
  | 6 => [(32, (1, 0, mX4_init)), (48, (3, 0, mX6_init))]
  | 8 => [(61, (0, 0, mX1_init)), (137, (1, 0, mX9_init))]
  | 11 => [(9, (0, 0, mX0_init)), (12, (0, 0, mX7_init))]
  | 13 => [(1, (0, 0, mJ0_init))]
  | 14 => [(1, (0, 0, mJ1_init))]
  | 16 => [(1, (0, 0, mJ3_init)), (167, (3, 0, mJ15_init))]
  | 18 => [(199, (1, 0, mJ6_init)), (202, (0, 0, mJ5_init))]
  | 19 => [(489, (2, 0, mJ7_init_2))]
  | 20 => [(112, (2, 0, mJ7_init_3))]
  | 25 => [(263, (2, 0, mJ7_init_3))]
  | 30 => [(1, (0, 0, mJ0_init))]
  | 31 => [(3, (2, 0, mJ19_init_2)), (7, (0, 0, mJ18_init))]
  | 32 => [(419, (2, 0, mJ21_init))]
  | 33 => [(1, (0, 0, mJ1_init))]
  | 34 => [(43, (2, 0, mJ30_init))]
  | 35 => [(42, (0, 0, mJ0_init))]
  | 37 => [(1, (1, 0, mJ24_init)), (7, (1, 0, mJ24_init_2)), (29, (1, 1, mJ24_append_2)), (50, (1, 1, mJ24_append)), (53, (1, 1, mJ24_append_3)), (137, (1, 0, mJ7_init)), (343, (0, 1, mJ24_length))]
  | 38 => [(98, (1, 0, mJ29_init)), (100, (2, 0, mJ29_init_2))]
  | 39 => [(1, (0, 0, mJ0_init))]
  | 40 => [(1, (0, 0, mJ27_init))]
  | 41 => [(1, (0, 0, mJ28_init))]
  | 42 => [(1, (0, 0, mJ28_init))]
  | _ => []
def tI3 (o : Nat) : List (Nat × (Nat × List (Nat × zM))) := match o with
  | 0 => [(59, (0, [(103, mX3_stops)])), (74, (0, [(114, mJ2_size)])), (80, (1, [(100, mX0_put)])), (87, (1, [(137, mJ25_append)])), (93, (0, [(137, mJ25_toString)])), (100, (0, [(108, mX8_parse)])), (108, (0, [(135, mJ23_clear)])), (111, (2, [(114, mJ2_set)])), (115, (0, [(135, mJ23_size)])), (116, (0, [(135, mJ23_removeFirst)])), (120, (1, [(135, mJ23_addLast)])), (124, (0, [(103, mX3_copy)])), (135, (0, [(100, mX0_act)])), (142, (1, [(100, mX0_isStop)])), (145, (0, [(100, mX0_points)])), (156, (1, [(100, mX0_isBus)])), (175, (1, [(104, mX4_going)])), (181, (0, [(106, mX6_isAtStop)])), (185, (2, [(103, mX3_delay)])), (189, (3, [(103, mX3_group)])), (203, (1, [(103, mX3_pass)])), (213, (1, [(114, mJ2_get)])), (217, (0, [(135, mJ23_isEmpty)])), (220, (0, [(135, mJ23_removeLast)])), (232, (0, [(103, mX3_waiting)])), (235, (0, [(103, mX3_aboard)])), (258, (1, [(103, mX3_stop)])), (288, (1, [(100, mX0_busesAt)])), (313, (1, [(100, mX0_isFlow)])), (333, (1, [(104, mX4_of)])), (335, (1, [(103, mX3_account)])), (338, (2, [(100, mX0_flowPart)])), (354, (1, [(100, mX0_waitingOf)])), (357, (1, [(100, mX0_aboardOf)])), (380, (0, [(137, mJ25_length)])), (382, (1, [(101, mX1_named)])), (386, (0, [(106, mX6_isOut)])), (389, (2, [(101, mX1_way)])), (392, (0, [(105, mX5_spread)])), (402, (3, [(103, mX3_wanted)])), (414, (1, [(103, mX3_event)])), (418, (2, [(100, mX0_later)])), (422, (0, [(103, mX3_lost)])), (430, (1, [(110, mX10_by)])), (437, (0, [(119, mJ7_length), (200, mJ7_length)])), (440, (1, [(119, mJ7_charAt), (200, mJ7_charAt)])), (444, (0, [(103, mX3_board_2)])), (451, (0, [(103, mX3_story)])), (454, (0, [(103, mX3_setup)]))]
  | 1 => [(51, (4, [(101, mX1_add)])), (63, (1, [(114, mJ2_add)])), (66, (0, [(114, mJ2_size)])), (70, (2, [(116, mJ4_put)])), (85, (1, [(116, mJ4_get)])), (89, (0, [(118, mJ6_intValue)])), (92, (1, [(114, mJ2_get)])), (98, (1, [(101, mX1_next)]))]
  | 3 => [(69, (0, [(114, mJ2_size)])), (81, (0, [(103, mX3_stops)])), (105, (1, [(114, mJ2_get)])), (116, (0, [(118, mJ6_intValue)])), (125, (1, [(131, mJ19_add)])), (160, (1, [(104, mX4_copyTo)])), (164, (1, [(105, mX5_copyTo)])), (167, (0, [(106, mX6_copy)])), (190, (1, [(104, mX4_dropFirst)])), (193, (2, [(103, mX3_giveUp)])), (197, (3, [(104, mX4_add)])), (199, (1, [(103, mX3_stop)])), (210, (1, [(110, mX10_at)])), (214, (2, [(103, mX3_firstOf)])), (221, (4, [(103, mX3_comes)])), (225, (2, [(103, mX3_bring)])), (235, (1, [(104, mX4_remove)])), (238, (0, [(106, mX6_free)])), (256, (1, [(101, mX1_next)])), (263, (1, [(103, mX3_driveOn)])), (267, (1, [(103, mX3_alight)])), (271, (1, [(103, mX3_board)])), (274, (3, [(103, mX3_tell)])), (287, (3, [(103, mX3_wanted)])), (300, (1, [(103, mX3_leave)])), (303, (2, [(105, mX5_add)])), (305, (2, [(103, mX3_bunch)])), (312, (1, [(103, mX3_due)])), (330, (3, [(103, mX3_wise)])), (333, (0, [(106, mX6_isOut)])), (337, (0, [(106, mX6_isAtStop)])), (340, (0, [(101, mX1_around)])), (343, (2, [(101, mX1_way)])), (346, (1, [(103, mX3_ready)])), (349, (1, [(103, mX3_arrive)])), (352, (0, [(131, mJ19_peek)])), (356, (0, [(131, mJ18_remove)])), (358, (1, [(103, mX3_happen)])), (361, (1, [(103, mX3_event)])), (365, (1, [(131, mJ19_remove)])), (378, (1, [(137, mJ25_append_2)])), (382, (1, [(137, mJ25_append)])), (385, (1, [(137, mJ25_append_3)])), (392, (0, [(137, mJ25_toString)]))]
  | 6 => [(67, (1, [(104, mX4_copyTo)])), (80, (1, [(106, mX6_compareTo_2)]))]
  | 7 => [(130, (0, [(107, mX7_clear)])), (139, (3, [(107, mX7_sets)])), (154, (2, [(107, mX7_counts)])), (158, (2, [(107, mX7_shifts)])), (161, (2, [(107, mX7_giveUp)])), (164, (2, [(107, mX7_flowNext)])), (167, (4, [(107, mX7_joins)])), (171, (2, [(107, mX7_of)])), (177, (1, [(107, mX7_behind)])), (181, (1, [(107, mX7_isAt)])), (185, (2, [(107, mX7_way)])), (188, (2, [(107, mX7_untilNext)])), (191, (3, [(107, mX7_wanted)])), (195, (2, [(107, mX7_bringsUp)])), (198, (2, [(107, mX7_goesOn)])), (201, (3, [(107, mX7_alights)])), (204, (3, [(107, mX7_boards)])), (210, (5, [(107, mX7_tells)])), (214, (3, [(107, mX7_heldBy)])), (217, (2, [(107, mX7_leaves)])), (223, (4, [(107, mX7_notes)])), (227, (2, [(107, mX7_isReady)])), (230, (2, [(107, mX7_comesTo)])), (233, (0, [(107, mX7_nextBus)])), (237, (1, [(107, mX7_happens)])), (290, (2, [(107, mX7_isByte)])), (309, (0, [(107, mX7_nextWord)])), (312, (0, [(107, mX7_nextInt)])), (319, (0, [(107, mX7_next)])), (322, (1, [(107, mX7_takes)])), (326, (1, [(107, mX7_isWord)])), (329, (2, [(107, mX7_number)])), (335, (3, [(107, mX7_numberOf)])), (339, (0, [(107, mX7_stopNamed)])), (348, (0, [(107, mX7_readNumbers)])), (351, (0, [(107, mX7_readStop)])), (354, (0, [(107, mX7_readBus)])), (357, (0, [(107, mX7_readFlow)])), (360, (1, [(107, mX7_feeds)])), (363, (0, [(107, mX7_readAll)])), (366, (0, [(107, mX7_becomes)])), (374, (0, [(107, mX7_keeps)])), (377, (1, [(107, mX7_isStop)])), (380, (0, [(107, mX7_pointMany)])), (396, (1, [(107, mX7_isBus)])), (399, (2, [(107, mX7_aboardTo)])), (404, (1, [(107, mX7_passesTo)])), (407, (0, [(107, mX7_waitingAll)])), (410, (0, [(107, mX7_aboardAll)])), (413, (1, [(107, mX7_atStop)])), (418, (2, [(107, mX7_toldOf)])), (421, (2, [(107, mX7_account)])), (424, (1, [(107, mX7_waitingOf)])), (427, (1, [(107, mX7_aboardOf)])), (438, (0, [(107, mX7_thinks)])), (441, (2, [(107, mX7_isComing)])), (444, (0, [(107, mX7_comesBack)])), (447, (1, [(107, mX7_sumOf)])), (452, (1, [(107, mX7_told)])), (469, (1, [(107, mX7_says)])), (472, (1, [(107, mX7_saysNumber)])), (475, (1, [(107, mX7_startsText)])), (478, (1, [(107, mX7_saysWord)])), (482, (2, [(107, mX7_saysBuses)])), (486, (1, [(107, mX7_saysBoard)])), (503, (1, [(107, mX7_saysStory)])), (506, (3, [(107, mX7_saysPair)])), (510, (0, [(107, mX7_saysNumbers)])), (513, (2, [(107, mX7_saysName)])), (517, (1, [(107, mX7_saysSetup)]))]
  | 8 => [(74, (0, [(119, mJ7_length), (200, mJ7_length)])), (78, (1, [(119, mJ7_charAt), (200, mJ7_charAt)])), (82, (2, [(108, mX8_isHere)])), (98, (0, [(108, mX8_word)])), (115, (0, [(108, mX8_digits)])), (128, (2, [(119, mJ7_substring), (200, mJ7_substring)])), (132, (1, [(119, mJ7_equals), (200, mJ7_equals)])), (140, (0, [(108, mX8_next)])), (143, (1, [(108, mX8_expect)])), (147, (1, [(108, mX8_is)])), (151, (2, [(108, mX8_number)])), (154, (3, [(108, mX8_after)])), (170, (0, [(108, mX8_close)])), (173, (0, [(108, mX8_stop)])), (175, (0, [(108, mX8_bus)])), (177, (0, [(108, mX8_flow)])), (184, (0, [(114, mJ2_size)])), (189, (1, [(101, mX1_named)])), (193, (4, [(101, mX1_add)])), (206, (1, [(114, mJ2_add)])), (214, (1, [(108, mX8_place)])), (218, (1, [(114, mJ2_get)])), (224, (4, [(101, mX1_add_2)]))]
  | 11 => [(13, (5, [(100, mX0_append)])), (17, (5, [(107, mX7_append)])), (18, (1, [(100, mX0_truncate)])), (22, (1, [(107, mX7_truncate)])), (23, (0, [(100, mX0_load)])), (27, (0, [(107, mX7_load)])), (28, (0, [(100, mX0_errorPosition)])), (31, (0, [(107, mX7_errorPosition)])), (32, (1, [(100, mX0_setMode)])), (35, (1, [(107, mX7_setMode)])), (36, (2, [(100, mX0_setPoint)])), (40, (2, [(107, mX7_setPoint)])), (41, (2, [(100, mX0_setNumber)])), (45, (2, [(107, mX7_setNumber)])), (46, (1, [(100, mX0_skip)])), (49, (1, [(107, mX7_skip)])), (50, (2, [(100, mX0_hold)])), (53, (2, [(107, mX7_hold)])), (54, (3, [(100, mX0_group)])), (58, (3, [(107, mX7_group)])), (59, (1, [(100, mX0_pass)])), (62, (1, [(107, mX7_pass)])), (63, (1, [(100, mX0_keep)])), (66, (1, [(107, mX7_keep)])), (67, (1, [(100, mX0_restore)])), (70, (1, [(107, mX7_restore)])), (71, (0, [(100, mX0_undo)])), (74, (0, [(107, mX7_undo)])), (75, (1, [(100, mX0_value)])), (78, (1, [(107, mX7_value)])), (79, (2, [(100, mX0_stop)])), (82, (2, [(107, mX7_stop)])), (83, (2, [(100, mX0_bus)])), (86, (2, [(107, mX7_bus)])), (87, (1, [(100, mX0_why)])), (90, (1, [(107, mX7_why)])), (91, (2, [(100, mX0_flow)])), (94, (2, [(107, mX7_flow)])), (95, (3, [(100, mX0_rider)])), (98, (3, [(107, mX7_rider)])), (99, (2, [(100, mX0_aboard)])), (102, (2, [(107, mX7_aboard)])), (103, (3, [(100, mX0_left)])), (106, (3, [(107, mX7_left)])), (107, (2, [(100, mX0_log)])), (110, (2, [(107, mX7_log)])), (111, (1, [(100, mX0_named)])), (114, (1, [(107, mX7_named)])), (115, (2, [(100, mX0_ahead)])), (118, (2, [(107, mX7_ahead)])), (119, (1, [(100, mX0_spread)])), (122, (1, [(107, mX7_spread)])), (123, (1, [(100, mX0_late)])), (126, (1, [(107, mX7_late)])), (127, (2, [(100, mX0_wouldHold)])), (130, (2, [(107, mX7_wouldHold)])), (131, (2, [(100, mX0_comes)])), (134, (2, [(107, mX7_comes)])), (135, (2, [(100, mX0_nextLeft)])), (138, (2, [(107, mX7_nextLeft)])), (139, (3, [(100, mX0_would)])), (142, (3, [(107, mX7_would)])), (143, (1, [(100, mX0_bestMode)])), (146, (1, [(107, mX7_bestMode)])), (147, (2, [(100, mX0_comeBy)])), (150, (2, [(107, mX7_comeBy)])), (151, (0, [(100, mX0_meanWaiting)])), (155, (0, [(107, mX7_meanWaiting)])), (156, (0, [(100, mX0_meanRide)])), (159, (0, [(107, mX7_meanRide)])), (160, (1, [(100, mX0_full)])), (164, (1, [(107, mX7_full)])), (165, (0, [(100, mX0_boardLength)])), (168, (0, [(107, mX7_boardLength)])), (169, (1, [(100, mX0_boardByte)])), (172, (1, [(107, mX7_boardByte)])), (173, (0, [(100, mX0_storyLength)])), (176, (0, [(107, mX7_storyLength)])), (177, (1, [(100, mX0_storyByte)])), (180, (1, [(107, mX7_storyByte)])), (181, (0, [(100, mX0_setupLength)])), (184, (0, [(107, mX7_setupLength)])), (185, (1, [(100, mX0_setupByte)])), (188, (1, [(107, mX7_setupByte)])), (189, (0, [(100, mX0_tapeLength)])), (192, (0, [(107, mX7_tapeLength)]))]
  | 14 => [(69, (1, [(114, mJ2_grow_2)])), (85, (1, [(114, mJ2_indexOf)])), (89, (3, [(114, mJ2_indexOfRange)])), (93, (1, [(106, mJ34_equals), (119, mJ7_equals), (200, mJ7_equals)])), (123, (1, [(114, mJ2_elementData)])), (129, (0, [(114, mJ2_grow)])), (131, (3, [(114, mJ2_add_2)]))]
  | 16 => [(50, (1, [(116, mJ4_getEntry)])), (92, (1, [(116, mJ4_getEntryUsingComparator)])), (123, (2, [(116, mJ4_compare)])), (127, (3, [(116, mJ4_put_2)])), (135, (2, [(116, mJ4_addEntryToEmptyMap)])), (139, (4, [(116, mJ4_addEntry)])), (170, (1, [(116, mJ4_fixAfterInsertion)])), (311, (1, [(116, mJ4_rotateLeft)])), (314, (1, [(116, mJ4_rotateRight)]))]
  | 19 => [(335, (0, [(119, mJ7_coder), (200, mJ7_coder)])), (492, (0, [(119, mJ7_isLatin1), (200, mJ7_isLatin1)])), (505, (0, [(119, mJ7_length), (200, mJ7_length)])), (549, (0, [(137, mJ25_length)])), (552, (0, [(137, mJ24_getValue)])), (1047, (0, [(137, mJ24_isLatin1)])), (1084, (1, [(119, mJ7_compareTo_2), (200, mJ7_compareTo_2)]))]
  | 22 => [(30, (2, [])), (54, (2, []))]
  | 28 => [(14, (1, [(106, mJ34_equals), (119, mJ7_equals), (200, mJ7_equals)]))]
  | 30 => [(20, (0, [(131, mJ19_poll)]))]
  | 31 => [(89, (1, [(131, mJ19_offer)])), (96, (1, [(131, mJ19_grow)])), (100, (2, [(131, mJ19_siftUp)])), (104, (1, [(106, mJ34_equals), (119, mJ7_equals), (200, mJ7_equals)])), (107, (1, [(131, mJ19_indexOf)])), (111, (1, [(131, mJ19_removeAt)])), (133, (2, [(131, mJ19_siftDown)]))]
  | 35 => [(10, (2, [(135, mJ23_newCapacity)])), (71, (1, [(135, mJ23_grow)])), (93, (0, [(135, mJ23_pollFirst)])), (100, (0, [(135, mJ23_pollLast)]))]
  | 36 => [(32, (0, [(119, mJ7_length), (200, mJ7_length)])), (40, (0, [(119, mJ7_coder), (200, mJ7_coder)])), (43, (1, [(137, mJ25_append_4)])), (83, (0, [(137, mJ24_isLatin1)])), (100, (1, [(137, mJ24_ensureCapacityInternal)])), (104, (1, [(137, mJ24_newCapacity)])), (195, (0, [(137, mJ24_inflate)])), (204, (0, [(137, mJ24_appendNull)])), (208, (2, [(137, mJ24_putStringAt)])), (397, (1, [(137, mJ24_inflateIfNeededFor)])), (399, (3, [(119, mJ7_getBytes), (200, mJ7_getBytes)]))]
  | 37 => [(23, (1, [(137, mJ25_append_2)]))]
  | 40 => [(107, (1, [(142, mJ30_indexOf)]))]
  | _ => []
def tI4 (o : Nat) : List (Nat × (Nat × List (Nat × zM))) := match o with
  | 3 => [(203, (0, [(114, mJ2_size), (142, mJ30_size)])), (206, (1, [(114, mJ2_get), (142, mJ30_get)]))]
  | 8 => [(102, (1, [(114, mJ2_contains), (142, mJ28_contains)]))]
  | 14 => [(42, (0, [(133, mJ21_toArray)]))]
  | 16 => [(107, (1, [(106, mX6_compareTo), (119, mJ7_compareTo), (200, mJ7_compareTo)])), (117, (2, []))]
  | 31 => [(146, (1, [(106, mX6_compareTo), (119, mJ7_compareTo), (200, mJ7_compareTo)])), (149, (2, []))]
  | _ => []
def gTab : List (FieldType × Bool × Nat) := [(.array .byte, true, 0), (.int, false, 0), (.int, false, 0), (.object "BusLine$State", false, 0), (.object "java/util/ArrayList", true, 0), (.object "java/util/ArrayDeque", true, 0), (.int, false, 1), (.int, false, 1), (.int, false, 1), (.int, false, 1), (.array .int, true, 1), (.object "java/util/ArrayList", true, 1), (.object "java/util/ArrayList", true, 1), (.object "java/util/ArrayList", true, 1), (.object "java/util/ArrayList", true, 1), (.object "java/util/TreeMap", true, 1), (.object "java/lang/String", true, 2), (.int, true, 2), (.int, true, 2), (.int, true, 2), (.boolean, true, 2), (.object "java/util/ArrayList", true, 2), (.object "BusLine$Plan", true, 3), (.int, false, 3), (.int, false, 3), (.int, false, 3), (.int, false, 3), (.int, false, 3), (.int, false, 3), (.int, false, 3), (.int, false, 3), (.int, false, 3), (.long, false, 3), (.long, false, 3), (.array .int, true, 3), (.array .boolean, true, 3), (.array (.object "BusLine$Riders"), true, 3), (.array (.object "BusLine$Leavings"), true, 3), (.array (.object "BusLine$Bus"), true, 3), (.object "java/util/PriorityQueue", true, 3), (.array .int, true, 3), (.array .int, true, 3), (.array .int, true, 3), (.array .int, true, 3), (.array .int, true, 3), (.array .int, true, 3), (.array .int, true, 3), (.array .int, true, 4), (.array .int, true, 4), (.array .int, true, 4), (.int, false, 4), (.array .int, true, 5), (.array .int, true, 5), (.array .int, true, 5), (.int, false, 5), (.int, false, 5), (.int, false, 5), (.int, true, 6), (.int, true, 6), (.int, true, 6), (.int, false, 6), (.int, false, 6), (.int, false, 6), (.int, false, 6), (.int, false, 6), (.int, false, 6), (.int, false, 6), (.int, false, 6), (.int, false, 6), (.boolean, false, 6), (.boolean, false, 6), (.object "BusLine$Riders", true, 6), (.array .byte, true, 7), (.int, false, 7), (.int, false, 7), (.int, false, 7), (.int, false, 7), (.int, false, 7), (.int, false, 7), (.int, false, 7), (.int, false, 7), (.int, false, 7), (.array .int, true, 7), (.array .int, true, 7), (.array .int, true, 7), (.array .int, true, 7), (.array .int, true, 7), (.array .int, true, 7), (.array .int, true, 7), (.array .int, true, 7), (.array .int, true, 7), (.array .int, true, 7), (.array .int, true, 7), (.array .int, true, 7), (.array .long, true, 7), (.array .int, true, 7), (.array .long, true, 7), (.array .int, true, 7), (.array .long, true, 7), (.array .int, true, 7), (.array .long, true, 7), (.array .boolean, true, 7), (.int, false, 7), (.int, false, 7), (.int, false, 7), (.int, false, 7), (.int, false, 7), (.long, false, 7), (.int, false, 7), (.int, false, 7), (.boolean, false, 7), (.int, false, 7), (.int, false, 7), (.int, false, 7), (.array .int, true, 7), (.array .int, true, 7), (.array .int, true, 7), (.array .int, true, 7), (.array .int, true, 7), (.array .int, true, 7), (.array .int, true, 7), (.array .int, true, 7), (.array .int, true, 7), (.array .int, true, 7), (.array .int, true, 7), (.int, false, 7), (.int, false, 7), (.int, false, 7), (.object "java/util/List", true, 8), (.object "java/lang/String", true, 8), (.int, false, 8), (.int, false, 8), (.int, false, 8), (.object "BusLine$Kind", false, 8), (.object "BusLine$Plan", true, 8), (.object "java/lang/Throwable", false, 44), (.array (.object "java/lang/StackTraceElement"), false, 44), (.object "java/util/List", false, 44), (.object "java/lang/String", false, 44), (.object "java/lang/Object", false, 44), (.int, false, 44), (.int, true, 9), (.int, true, 10), (.int, true, 10), (.int, true, 10), (.int, true, 10), (.object "BusLine$Stop", true, 10), (.int, false, 13), (.array (.object "java/lang/Object"), false, 14), (.int, false, 14), (.object "java/util/Set", false, 15), (.object "java/util/Collection", false, 15), (.object "java/util/Comparator", true, 16), (.object "java/util/TreeMap$Entry", false, 16), (.int, false, 16), (.int, false, 16), (.object "java/util/TreeMap$EntrySet", false, 16), (.object "java/util/TreeMap$KeySet", false, 16), (.object "java/util/NavigableMap", false, 16), (.int, true, 18), (.array .byte, true, 19), (.byte, true, 19), (.int, false, 19), (.boolean, false, 19), (.object "java/lang/Object", false, 27), (.object "java/lang/Object", false, 27), (.object "java/util/TreeMap$Entry", false, 27), (.object "java/util/TreeMap$Entry", false, 27), (.object "java/util/TreeMap$Entry", false, 27), (.boolean, false, 27), (.array (.object "java/lang/Object"), false, 31), (.int, false, 31), (.object "java/util/Comparator", true, 31), (.int, false, 31), (.int, true, 33), (.object "java/lang/Object", true, 33), (.array (.object "java/lang/Object"), false, 35), (.int, false, 35), (.int, false, 35), (.array .byte, false, 36), (.byte, false, 36), (.boolean, false, 36), (.int, false, 36), (.object "java/lang/Object", true, 41), (.object "java/lang/Object", true, 41), (.array (.object "java/lang/Object"), true, 42), (.boolean, true, 42)]
def gT (g : Nat) : FieldType := (gTab[g]?.getD (.int, false, 0)).1
def gFin (g : Nat) : Bool := (gTab[g]?.getD (.int, false, 0)).2.1
def gOwn (g : Nat) : Nat := (gTab[g]?.getD (.int, false, 0)).2.2
def gD (g : Nat) : Value := defaultValue (gT g)
def gNm (g : Nat) : String × String × String := match g with
  | 0 => ("BusLine", "tape", "[B")
  | 1 => ("BusLine", "length", "I")
  | 2 => ("BusLine", "error", "I")
  | 3 => ("BusLine", "now", "LBusLine$State;")
  | 4 => ("BusLine", "slots", "Ljava/util/ArrayList;")
  | 5 => ("BusLine", "earlier", "Ljava/util/ArrayDeque;")
  | 6 => ("BusLine$Plan", "open", "I")
  | 7 => ("BusLine$Plan", "on", "I")
  | 8 => ("BusLine$Plan", "down", "I")
  | 9 => ("BusLine$Plan", "mode", "I")
  | 10 => ("BusLine$Plan", "numbers", "[I")
  | 11 => ("BusLine$Plan", "stops", "Ljava/util/ArrayList;")
  | 12 => ("BusLine$Plan", "seats", "Ljava/util/ArrayList;")
  | 13 => ("BusLine$Plan", "starts", "Ljava/util/ArrayList;")
  | 14 => ("BusLine$Plan", "flows", "Ljava/util/ArrayList;")
  | 15 => ("BusLine$Plan", "names", "Ljava/util/TreeMap;")
  | 16 => ("BusLine$Stop", "name", "Ljava/lang/String;")
  | 17 => ("BusLine$Stop", "number", "I")
  | 18 => ("BusLine$Stop", "drive", "I")
  | 19 => ("BusLine$Stop", "off", "I")
  | 20 => ("BusLine$Stop", "isPoint", "Z")
  | 21 => ("BusLine$Stop", "flows", "Ljava/util/ArrayList;")
  | 22 => ("BusLine$State", "plan", "LBusLine$Plan;")
  | 23 => ("BusLine$State", "time", "I")
  | 24 => ("BusLine$State", "mode", "I")
  | 25 => ("BusLine$State", "bunches", "I")
  | 26 => ("BusLine$State", "splits", "I")
  | 27 => ("BusLine$State", "holds", "I")
  | 28 => ("BusLine$State", "heldFor", "I")
  | 29 => ("BusLine$State", "leftBehind", "I")
  | 30 => ("BusLine$State", "skips", "I")
  | 31 => ("BusLine$State", "logged", "I")
  | 32 => ("BusLine$State", "waited", "J")
  | 33 => ("BusLine$State", "ridden", "J")
  | 34 => ("BusLine$State", "numbers", "[I")
  | 35 => ("BusLine$State", "isPoint", "[Z")
  | 36 => ("BusLine$State", "rows", "[LBusLine$Riders;")
  | 37 => ("BusLine$State", "leavings", "[LBusLine$Leavings;")
  | 38 => ("BusLine$State", "buses", "[LBusLine$Bus;")
  | 39 => ("BusLine$State", "queue", "Ljava/util/PriorityQueue;")
  | 40 => ("BusLine$State", "come", "[I")
  | 41 => ("BusLine$State", "away", "[I")
  | 42 => ("BusLine$State", "gone", "[I")
  | 43 => ("BusLine$State", "up", "[I")
  | 44 => ("BusLine$State", "out", "[I")
  | 45 => ("BusLine$State", "next", "[I")
  | 46 => ("BusLine$State", "log", "[I")
  | 47 => ("BusLine$Riders", "to", "[I")
  | 48 => ("BusLine$Riders", "since", "[I")
  | 49 => ("BusLine$Riders", "flow", "[I")
  | 50 => ("BusLine$Riders", "many", "I")
  | 51 => ("BusLine$Leavings", "buses", "[I")
  | 52 => ("BusLine$Leavings", "times", "[I")
  | 53 => ("BusLine$Leavings", "gaps", "[I")
  | 54 => ("BusLine$Leavings", "many", "I")
  | 55 => ("BusLine$Leavings", "all", "I")
  | 56 => ("BusLine$Leavings", "last", "I")
  | 57 => ("BusLine$Bus", "number", "I")
  | 58 => ("BusLine$Bus", "seats", "I")
  | 59 => ("BusLine$Bus", "start", "I")
  | 60 => ("BusLine$Bus", "state", "I")
  | 61 => ("BusLine$Bus", "stop", "I")
  | 62 => ("BusLine$Bus", "time", "I")
  | 63 => ("BusLine$Bus", "round", "I")
  | 64 => ("BusLine$Bus", "boarded", "I")
  | 65 => ("BusLine$Bus", "why", "I")
  | 66 => ("BusLine$Bus", "held", "I")
  | 67 => ("BusLine$Bus", "leftTime", "I")
  | 68 => ("BusLine$Bus", "leftDue", "I")
  | 69 => ("BusLine$Bus", "isBunched", "Z")
  | 70 => ("BusLine$Bus", "skips", "Z")
  | 71 => ("BusLine$Bus", "riders", "LBusLine$Riders;")
  | 72 => ("BusLineModel", "tape", "[B")
  | 73 => ("BusLineModel", "taped", "I")
  | 74 => ("BusLineModel", "errorAt", "I")
  | 75 => ("BusLineModel", "stops", "I")
  | 76 => ("BusLineModel", "buses", "I")
  | 77 => ("BusLineModel", "flows", "I")
  | 78 => ("BusLineModel", "open", "I")
  | 79 => ("BusLineModel", "on", "I")
  | 80 => ("BusLineModel", "down", "I")
  | 81 => ("BusLineModel", "firstMode", "I")
  | 82 => ("BusLineModel", "firstNumbers", "[I")
  | 83 => ("BusLineModel", "stopNames", "[I")
  | 84 => ("BusLineModel", "drives", "[I")
  | 85 => ("BusLineModel", "offs", "[I")
  | 86 => ("BusLineModel", "firstPoints", "[I")
  | 87 => ("BusLineModel", "seats", "[I")
  | 88 => ("BusLineModel", "starts", "[I")
  | 89 => ("BusLineModel", "flowFrom", "[I")
  | 90 => ("BusLineModel", "flowTo", "[I")
  | 91 => ("BusLineModel", "every", "[I")
  | 92 => ("BusLineModel", "first", "[I")
  | 93 => ("BusLineModel", "world", "[I")
  | 94 => ("BusLineModel", "sums", "[J")
  | 95 => ("BusLineModel", "aside", "[I")
  | 96 => ("BusLineModel", "asideSums", "[J")
  | 97 => ("BusLineModel", "undone", "[I")
  | 98 => ("BusLineModel", "undoneSums", "[J")
  | 99 => ("BusLineModel", "slots", "[I")
  | 100 => ("BusLineModel", "slotsSums", "[J")
  | 101 => ("BusLineModel", "isKept", "[Z")
  | 102 => ("BusLineModel", "undos", "I")
  | 103 => ("BusLineModel", "outNow", "I")
  | 104 => ("BusLineModel", "readAt", "I")
  | 105 => ("BusLineModel", "start", "I")
  | 106 => ("BusLineModel", "kind", "I")
  | 107 => ("BusLineModel", "word", "J")
  | 108 => ("BusLineModel", "value", "I")
  | 109 => ("BusLineModel", "letters", "I")
  | 110 => ("BusLineModel", "fine", "Z")
  | 111 => ("BusLineModel", "newStops", "I")
  | 112 => ("BusLineModel", "newBuses", "I")
  | 113 => ("BusLineModel", "newFlows", "I")
  | 114 => ("BusLineModel", "newNumbers", "[I")
  | 115 => ("BusLineModel", "newNames", "[I")
  | 116 => ("BusLineModel", "newDrives", "[I")
  | 117 => ("BusLineModel", "newOffs", "[I")
  | 118 => ("BusLineModel", "newPoints", "[I")
  | 119 => ("BusLineModel", "newSeats", "[I")
  | 120 => ("BusLineModel", "newStarts", "[I")
  | 121 => ("BusLineModel", "newFrom", "[I")
  | 122 => ("BusLineModel", "newTo", "[I")
  | 123 => ("BusLineModel", "newEvery", "[I")
  | 124 => ("BusLineModel", "newFirst", "[I")
  | 125 => ("BusLineModel", "outs", "I")
  | 126 => ("BusLineModel", "wantedAt", "I")
  | 127 => ("BusLineModel", "foundByte", "I")
  | 128 => ("BusLine$Parser", "keywords", "Ljava/util/List;")
  | 129 => ("BusLine$Parser", "text", "Ljava/lang/String;")
  | 130 => ("BusLine$Parser", "at", "I")
  | 131 => ("BusLine$Parser", "begin", "I")
  | 132 => ("BusLine$Parser", "number", "I")
  | 133 => ("BusLine$Parser", "kind", "LBusLine$Kind;")
  | 134 => ("BusLine$Parser", "plan", "LBusLine$Plan;")
  | 135 => ("java/lang/Throwable", "cause", "Ljava/lang/Throwable;")
  | 136 => ("java/lang/Throwable", "stackTrace", "[Ljava/lang/StackTraceElement;")
  | 137 => ("java/lang/Throwable", "suppressedExceptions", "Ljava/util/List;")
  | 138 => ("java/lang/Throwable", "detailMessage", "Ljava/lang/String;")
  | 139 => ("java/lang/Throwable", "backtrace", "Ljava/lang/Object;")
  | 140 => ("java/lang/Throwable", "depth", "I")
  | 141 => ("BusLine$Unreadable", "position", "I")
  | 142 => ("BusLine$Flow", "number", "I")
  | 143 => ("BusLine$Flow", "to", "I")
  | 144 => ("BusLine$Flow", "every", "I")
  | 145 => ("BusLine$Flow", "first", "I")
  | 146 => ("BusLine$Flow", "from", "LBusLine$Stop;")
  | 147 => ("java/util/AbstractList", "modCount", "I")
  | 148 => ("java/util/ArrayList", "elementData", "[Ljava/lang/Object;")
  | 149 => ("java/util/ArrayList", "size", "I")
  | 150 => ("java/util/AbstractMap", "keySet", "Ljava/util/Set;")
  | 151 => ("java/util/AbstractMap", "values", "Ljava/util/Collection;")
  | 152 => ("java/util/TreeMap", "comparator", "Ljava/util/Comparator;")
  | 153 => ("java/util/TreeMap", "root", "Ljava/util/TreeMap$Entry;")
  | 154 => ("java/util/TreeMap", "size", "I")
  | 155 => ("java/util/TreeMap", "modCount", "I")
  | 156 => ("java/util/TreeMap", "entrySet", "Ljava/util/TreeMap$EntrySet;")
  | 157 => ("java/util/TreeMap", "navigableKeySet", "Ljava/util/TreeMap$KeySet;")
  | 158 => ("java/util/TreeMap", "descendingMap", "Ljava/util/NavigableMap;")
  | 159 => ("java/lang/Integer", "value", "I")
  | 160 => ("java/lang/String", "value", "[B")
  | 161 => ("java/lang/String", "coder", "B")
  | 162 => ("java/lang/String", "hash", "I")
  | 163 => ("java/lang/String", "hashIsZero", "Z")
  | 164 => ("java/util/TreeMap$Entry", "key", "Ljava/lang/Object;")
  | 165 => ("java/util/TreeMap$Entry", "value", "Ljava/lang/Object;")
  | 166 => ("java/util/TreeMap$Entry", "left", "Ljava/util/TreeMap$Entry;")
  | 167 => ("java/util/TreeMap$Entry", "right", "Ljava/util/TreeMap$Entry;")
  | 168 => ("java/util/TreeMap$Entry", "parent", "Ljava/util/TreeMap$Entry;")
  | 169 => ("java/util/TreeMap$Entry", "color", "Z")
  | 170 => ("java/util/PriorityQueue", "queue", "[Ljava/lang/Object;")
  | 171 => ("java/util/PriorityQueue", "size", "I")
  | 172 => ("java/util/PriorityQueue", "comparator", "Ljava/util/Comparator;")
  | 173 => ("java/util/PriorityQueue", "modCount", "I")
  | 174 => ("java/util/Collections$CopiesList", "n", "I")
  | 175 => ("java/util/Collections$CopiesList", "element", "Ljava/lang/Object;")
  | 176 => ("java/util/ArrayDeque", "elements", "[Ljava/lang/Object;")
  | 177 => ("java/util/ArrayDeque", "head", "I")
  | 178 => ("java/util/ArrayDeque", "tail", "I")
  | 179 => ("java/lang/AbstractStringBuilder", "value", "[B")
  | 180 => ("java/lang/AbstractStringBuilder", "coder", "B")
  | 181 => ("java/lang/AbstractStringBuilder", "maybeLatin1", "Z")
  | 182 => ("java/lang/AbstractStringBuilder", "count", "I")
  | 183 => ("java/util/ImmutableCollections$List12", "e0", "Ljava/lang/Object;")
  | 184 => ("java/util/ImmutableCollections$List12", "e1", "Ljava/lang/Object;")
  | 185 => ("java/util/ImmutableCollections$ListN", "elements", "[Ljava/lang/Object;")
  | _ => ("java/util/ImmutableCollections$ListN", "allowNulls", "Z")
def cN (o : Nat) : Nat := match o with
  | 0 => 6
  | 1 => 10
  | 2 => 6
  | 3 => 25
  | 4 => 4
  | 5 => 6
  | 6 => 15
  | 7 => 56
  | 8 => 7
  | 9 => 7
  | 10 => 5
  | 14 => 3
  | 16 => 9
  | 18 => 1
  | 19 => 4
  | 27 => 6
  | 31 => 4
  | 33 => 3
  | 35 => 3
  | 37 => 4
  | 41 => 2
  | 42 => 2
  | _ => 0
/-- kinds of objects: the class, the fields by their places that AM keeps -/
def kTab : List (Nat × Nat × List (Nat × Nat)) := [(100, 0, [(0, 0), (1, 1), (2, 2), (3, 3), (4, 4), (5, 5)]), (101, 1, [(6, 0), (7, 1), (8, 2), (9, 3), (10, 4), (11, 5), (12, 6), (13, 7), (14, 8), (15, 9)]), (102, 2, [(16, 0), (17, 1), (18, 2), (19, 3), (20, 4), (21, 5)]), (103, 3, [(22, 0), (23, 1), (24, 2), (25, 3), (26, 4), (27, 5), (28, 6), (29, 7), (30, 8), (31, 9), (32, 10), (33, 11), (34, 12), (35, 13), (36, 14), (37, 15), (38, 16), (39, 17), (40, 18), (41, 19), (42, 20), (43, 21), (44, 22), (45, 23), (46, 24)]), (104, 4, [(47, 0), (48, 1), (49, 2), (50, 3)]), (105, 5, [(51, 0), (52, 1), (53, 2), (54, 3), (55, 4), (56, 5)]), (106, 6, [(57, 0), (58, 1), (59, 2), (60, 3), (61, 4), (62, 5), (63, 6), (64, 7), (65, 8), (66, 9), (67, 10), (68, 11), (69, 12), (70, 13), (71, 14)]), (107, 7, [(72, 0), (73, 1), (74, 2), (75, 3), (76, 4), (77, 5), (78, 6), (79, 7), (80, 8), (81, 9), (82, 10), (83, 11), (84, 12), (85, 13), (86, 14), (87, 15), (88, 16), (89, 17), (90, 18), (91, 19), (92, 20), (93, 21), (94, 22), (95, 23), (96, 24), (97, 25), (98, 26), (99, 27), (100, 28), (101, 29), (102, 30), (103, 31), (104, 32), (105, 33), (106, 34), (107, 35), (108, 36), (109, 37), (110, 38), (111, 39), (112, 40), (113, 41), (114, 42), (115, 43), (116, 44), (117, 45), (118, 46), (119, 47), (120, 48), (121, 49), (122, 50), (123, 51), (124, 52), (125, 53), (126, 54), (127, 55)]), (108, 8, [(128, 0), (129, 1), (130, 2), (131, 3), (132, 4), (133, 5), (134, 6)]), (109, 9, [(139, 4), (141, 6)]), (110, 10, [(142, 0), (143, 1), (144, 2), (145, 3), (146, 4)]), (114, 14, [(147, 0), (148, 1), (149, 2)]), (116, 16, [(150, 0), (151, 1), (152, 2), (153, 3), (154, 4), (155, 5), (156, 6), (157, 7), (158, 8)]), (118, 18, [(159, 0)]), (119, 19, [(160, 0), (161, 1), (162, 2), (163, 3)]), (127, 27, [(164, 0), (165, 1), (166, 2), (167, 3), (168, 4), (169, 5)]), (131, 31, [(170, 0), (171, 1), (172, 2), (173, 3)]), (133, 33, [(147, 0), (174, 1), (175, 2)]), (135, 35, [(176, 0), (177, 1), (178, 2)]), (137, 37, [(179, 0), (180, 1), (181, 2), (182, 3)]), (141, 41, [(183, 0), (184, 1)]), (142, 42, [(185, 0), (186, 1)]), (200, 19, [(160, 0), (161, 1)])]
def zPos (k g : Nat) : Option Nat := (zLk kTab k).bind fun q => zLk q.2 g
def aTab : List (Nat × FieldType) := [(1, .int), (2, .long), (3, .byte), (4, .boolean), (10, .object "java/lang/Object"), (11, .object "BusLine$Riders"), (12, .object "BusLine$Leavings"), (13, .object "BusLine$Bus"), (14, .object "java/lang/String"), (15, .object "java/lang/Integer")]
def cstT : List (Nat × List Nat) := [(0, [103]), (1, [110]), (2, [118]), (3, [102]), (4, [106]), (5, [106, 118, 119, 137, 200]), (6, [119, 200]), (7, [10]), (8, [3])]
def zCas (k c : Nat) : Bool := match zLk cstT c with | some l => l.contains k | none => false
def assT : List (Nat × List Nat) := [(10, [100, 101, 102, 103, 104, 105, 106, 107, 108, 109, 110, 114, 116, 118, 119, 127, 131, 133, 135, 137, 141, 142, 200]), (11, [104]), (12, [105]), (13, [106]), (14, [119, 200])]
def zAss (a k : Nat) : Bool := match zLk assT a with | some l => l.contains k | none => false
def zMir (k : Nat) : Option Nat := match k with | 10 => some 0 | 133 => some 1 | 114 => some 2 | _ => none
/-! AM: locals, one step, calls, a run -/
def zGet : List (Option Value) → Nat → Option Value
  | [], _ => none
  | x :: _, 0 => x
  | _ :: l, n + 1 => zGet l n
/-- what stands ahead of a stored slot: the first half of a long or double is gone -/
def zClob (n : Nat) (x : Option Value) : Option Value := match n, x with
  | 0, some (.long _) => none
  | 0, some (.double _) => none
  | _, x => x
def zPut1 : List (Option Value) → Nat → Value → List (Option Value)
  | [], _, _ => []
  | _ :: l, 0, v => some v :: l
  | x :: l, n + 1, v => zClob n x :: zPut1 l n v
def zNo : List (Option Value) → List (Option Value)
  | [] => []
  | _ :: l => none :: l
def zPut2 : List (Option Value) → Nat → Value → List (Option Value)
  | [], _, _ => []
  | _ :: l, 0, v => some v :: zNo l
  | x :: l, n + 1, v => zClob n x :: zPut2 l n v
def zPad : Nat → List (Option Value)
  | 0 => []
  | n + 1 => none :: zPad n
/-- the locals at a method's entry -/
def zEnt : List Value → Nat → List (Option Value)
  | [], n => zPad n
  | .long v :: vs, n => some (.long v) :: none :: zEnt vs (n - 2)
  | .double v :: vs, n => some (.double v) :: none :: zEnt vs (n - 2)
  | v :: vs, n => some v :: zEnt vs (n - 1)
def zSize : List Value → Nat
  | [] => 0
  | v :: vs => v.category + zSize vs
def zIn (i : Int32) (n : Nat) : Bool := decide (¬ (i < 0 ∨ n ≤ i.toNatClampNeg))
def zLdc (κ : zC) (o i : Nat) : Option Value := match zLk (tI o) i with
  | some v => some v
  | none => match zLk (tG o) i with
    | some k => some (.ref (kT κ k))
    | none => match zLk (tM o) i with
      | some k => some (.ref (kM κ k))
      | none => none
def zLdw (κ : zC) (o i : Nat) : Option Value := match zLk (tI o) i with
  | some v => some v
  | none => match zLk (tG o) i with
    | some k => some (.ref (kT κ k))
    | none => none
/-- what pushes a value: (value, length) -/
def zCst (κ : zC) (o : Nat) : Instr → Option (Value × Nat)
  | .aconst_null => some (.null, 1)
  | .iconst n => some (.int (Int32.ofInt n), 1)
  | .lconst n => some (.long (Int64.ofNat (n : Nat)), 1)
  | .dconst n => if n = 0 then some (.double FP.dconst0, 1) else none
  | .bipush n => some (.int (Int8.ofInt n).toInt32, 2)
  | .sipush n => some (.int (Int16.ofInt n).toInt32, 3)
  | .ldc i => (zLdc κ o i).map fun v => (v, 2)
  | .ldc_w i => (zLdw κ o i).map fun v => (v, 3)
  | .ldc2_w i => (zLk (tJ o) i).map fun v => (v, 3)
  | .getstatic i => (zLk (tS o) i).map fun k => (kS κ k, 3)
  | _ => none
/-- loads: (place, length, what it loads: 0 int, 1 long, 2 reference, 3 double) -/
def zLod : Instr → Option (Nat × Nat × Nat)
  | .iload_n k => some (k, 1, 0)
  | .iload i => some (i, 2, 0)
  | .lload_n k => some (k, 1, 1)
  | .lload i => some (i, 2, 1)
  | .aload_n k => some (k, 1, 2)
  | .aload i => some (i, 2, 2)
  | .dload_n k => some (k, 1, 3)
  | .dload i => some (i, 2, 3)
  | _ => none
def zStr : Instr → Option (Nat × Nat × Nat)
  | .istore_n k => some (k, 1, 0)
  | .istore i => some (i, 2, 0)
  | .lstore_n k => some (k, 1, 1)
  | .lstore i => some (i, 2, 1)
  | .astore_n k => some (k, 1, 2)
  | .astore i => some (i, 2, 2)
  | .dstore_n k => some (k, 1, 3)
  | .dstore i => some (i, 2, 3)
  | _ => none
def zTy : Nat → Value → Bool
  | 0, .int _ => true
  | 1, .long _ => true
  | 2, .ref _ => true
  | 2, .null => true
  | 3, .double _ => true
  | _, _ => false
def zUn : Instr → Option (Value → Option Value)
  | .ineg => some fun v => match v with | .int x => some (.int (-x)) | _ => none
  | .i2l => some fun v => match v with | .int x => some (.long x.toInt64) | _ => none
  | .l2i => some fun v => match v with | .long x => some (.int x.toInt32) | _ => none
  | .i2b => some fun v => match v with | .int x => some (.int x.toInt8.toInt32) | _ => none
  | .i2c => some fun v => match v with | .int x => some (.int (x.toUInt32 % 65536).toInt32) | _ => none
  | .i2d => some fun v => match v with | .int x => some (.double (FP.i2d x)) | _ => none
  | .l2d => some fun v => match v with | .long x => some (.double (FP.l2d x)) | _ => none
  | .i2f => some fun v => match v with | .int x => some (.float (FP.i2f x)) | _ => none
  | .f2d => some fun v => match v with | .float x => if FP.f2d x &&& 0x7fffffffffffffff ≤ 0x7ff0000000000000 then some (.double (FP.f2d x)) else none | _ => none
  | _ => none
/-- two operands: the one below, the one on top -/
def zBin : Instr → Option (Value → Value → Option Value)
  | .iadd => some fun a b => match a, b with | .int x, .int y => some (.int (x + y)) | _, _ => none
  | .isub => some fun a b => match a, b with | .int x, .int y => some (.int (x - y)) | _, _ => none
  | .imul => some fun a b => match a, b with | .int x, .int y => some (.int (x * y)) | _, _ => none
  | .idiv => some fun a b => match a, b with | .int x, .int y => if y = 0 then none else some (.int (x / y)) | _, _ => none
  | .irem => some fun a b => match a, b with | .int x, .int y => if y = 0 then none else some (.int (x - x / y * y)) | _, _ => none
  | .iand => some fun a b => match a, b with | .int x, .int y => some (.int (x &&& y)) | _, _ => none
  | .ior => some fun a b => match a, b with | .int x, .int y => some (.int (x ||| y)) | _, _ => none
  | .ishl => some fun a b => match a, b with | .int x, .int y => some (.int (x <<< (y &&& 31))) | _, _ => none
  | .ishr => some fun a b => match a, b with | .int x, .int y => some (.int (x >>> (y &&& 31))) | _, _ => none
  | .iushr => some fun a b => match a, b with | .int x, .int y => some (.int (x.toUInt32 >>> (y.toUInt32 &&& Int32.toUInt32 31)).toInt32) | _, _ => none
  | .ladd => some fun a b => match a, b with | .long x, .long y => some (.long (x + y)) | _, _ => none
  | .lsub => some fun a b => match a, b with | .long x, .long y => some (.long (x - y)) | _, _ => none
  | .lmul => some fun a b => match a, b with | .long x, .long y => some (.long (x * y)) | _, _ => none
  | .land => some fun a b => match a, b with | .long x, .long y => some (.long (x &&& y)) | _, _ => none
  | .lshr => some fun a b => match a, b with | .long x, .int y => some (.long (x >>> (y.toInt64 &&& 63))) | _, _ => none
  | .lcmp => some fun a b => match a, b with | .long x, .long y => some (.int (lg_cmp x y)) | _, _ => none
  | .dcmp op => some fun a b => match a, b with | .double x, .double y => some (.int (Op.cmpValue (FP.dcmp x y) op)) | _, _ => none
  | .ddiv => some fun a b => match a, b with | .double x, .double y => if FP.ddiv x y &&& 0x7fffffffffffffff ≤ 0x7ff0000000000000 then some (.double (FP.ddiv x y)) else none | _, _ => none
  | .fdiv => some fun a b => match a, b with | .float x, .float y => if FP.fdiv x y &&& 0x7fffffff ≤ 0x7f800000 then some (.float (FP.fdiv x y)) else none | _, _ => none
  | _ => none
/-- a branch: does it jump; by how much; the stack behind -/
def zBr : Instr → List Value → Option (Bool × Int × List Value)
  | .goto off, st => some (true, off, st)
  | .ifCond .eq off, .int x :: st => some (decide (x = 0), off, st)
  | .ifCond .ne off, .int x :: st => some (decide (¬ x = 0), off, st)
  | .ifCond .lt off, .int x :: st => some (decide (x < 0), off, st)
  | .ifCond .ge off, .int x :: st => some (decide (0 ≤ x), off, st)
  | .ifCond .gt off, .int x :: st => some (decide (0 < x), off, st)
  | .ifCond .le off, .int x :: st => some (decide (x ≤ 0), off, st)
  | .if_icmp .eq off, .int y :: .int x :: st => some (decide (x = y), off, st)
  | .if_icmp .ne off, .int y :: .int x :: st => some (decide (¬ x = y), off, st)
  | .if_icmp .lt off, .int y :: .int x :: st => some (decide (x < y), off, st)
  | .if_icmp .ge off, .int y :: .int x :: st => some (decide (y ≤ x), off, st)
  | .if_icmp .gt off, .int y :: .int x :: st => some (decide (y < x), off, st)
  | .if_icmp .le off, .int y :: .int x :: st => some (decide (x ≤ y), off, st)
  | .if_acmp .eq off, y :: x :: st => if zTy 2 x && zTy 2 y then some (decide (x = y), off, st) else none
  | .if_acmp .ne off, y :: x :: st => if zTy 2 x && zTy 2 y then some (decide (¬ x = y), off, st) else none
  | .ifnull off, x :: st => if zTy 2 x then some (decide (x = .null), off, st) else none
  | .ifnonnull off, x :: st => if zTy 2 x then some (decide (¬ x = .null), off, st) else none
  | _, _ => none
def zSw : Instr → Int32 → Option Int
  | .tableswitch d lo hi offs, x => if x.toInt < lo ∨ hi < x.toInt then some d else offs[(x.toInt - lo).toNat]?
  | .lookupswitch d ps, x => if (ps.toList.zip (ps.toList.drop 1)).all (fun (a, next) => a.1 < next.1) = true then some (Op.lookupswitch.offset ps.toList d x.toInt) else none
  | _, _ => none
def zStk : Instr → List Value → Option (List Value)
  | .dup, a :: st => if a.category = 1 then some (a :: a :: st) else none
  | .pop, a :: st => if a.category = 1 then some st else none
  | .dup_x1, a :: b :: st => if a.category = 1 ∧ b.category = 1 then some (a :: b :: a :: st) else none
  | .dup2, a :: st => if a.category = 2 then some (a :: a :: st) else match st with
    | b :: r => if a.category = 1 ∧ b.category = 1 then some (a :: b :: a :: b :: r) else none
    | [] => none
  | _, _ => none
abbrev zR : Type := Nat × List (Option Value) × List Value × zH
def zJmp (pc : Nat) (off : Int) : Option Nat := if 0 ≤ (pc : Int) + off then some ((pc : Int) + off).toNat else none
def zArr (k : Nat) : Bool := decide (1 ≤ k) && decide (k < 100)
def zRef (k : Nat) : Bool := decide (10 ≤ k) && decide (k < 100)
/-- may the value be stored to a field of this type as it is -/
def zFit (ty : FieldType) (v : Value) : Bool := decide (narrow ty v = v) && fits ty v
def zNewK : ArrayType → Option (Nat × Value)
  | .int => some (1, .int 0)
  | .long => some (2, .long 0)
  | .byte => some (3, .int 0)
  | .boolean => some (4, .int 0)
  | _ => none
def zElT : Nat → FieldType
  | 1 => .int
  | 2 => .long
  | 3 => .byte
  | _ => .boolean
/-- what touches the heap, an opcode a function -/
def zGetf (m : zM) (pc : Nat) (ls : List (Option Value)) (h : zH) (i ln : Nat) : List Value → Option zR
  | .ref a :: st => if ln = 3 then (zLk (tF (mO m)) i).bind fun g => if (zPos (hK h a) g).isSome then some (pc + 3, ls, hV h a g :: st, h) else none else none
  | _ => none
def zPutf (κ : zC) (m : zM) (pc : Nat) (ls : List (Option Value)) (h : zH) (i ln : Nat) : List Value → Option zR
  | v :: .ref a :: st => if ln = 3 then (zLk (tF (mO m)) i).bind fun g => if (zPos (hK h a) g).isSome = true ∧ kB κ ≤ a ∧ zFit (gT g) v = true ∧ (gFin g = false ∨ ((mY m).name = "<init>" ∧ gOwn g = mO m)) then some (pc + 3, ls, st, hW h a g v) else none else none
  | _ => none
def zAlen (pc : Nat) (ls : List (Option Value)) (h : zH) (ln : Nat) : List Value → Option zR
  | .ref a :: st => if ln = 1 ∧ zArr (hK h a) = true then some (pc + 1, ls, .int (Int32.ofNat (hL h a)) :: st, h) else none
  | _ => none
def zAld (ok : Nat → Bool) (pc : Nat) (ls : List (Option Value)) (h : zH) (ln : Nat) : List Value → Option zR
  | .int i :: .ref a :: st => if ln = 1 ∧ ok (hK h a) = true ∧ zIn i (hL h a) = true then some (pc + 1, ls, hV h a i.toNatClampNeg :: st, h) else none
  | _ => none
def zIst (κ : zC) (pc : Nat) (ls : List (Option Value)) (h : zH) (ln : Nat) : List Value → Option zR
  | .int x :: .int i :: .ref a :: st => if ln = 1 ∧ hK h a = 1 ∧ zIn i (hL h a) = true ∧ kB κ ≤ a then some (pc + 1, ls, st, hW h a i.toNatClampNeg (.int x)) else none
  | _ => none
def zLst (κ : zC) (pc : Nat) (ls : List (Option Value)) (h : zH) (ln : Nat) : List Value → Option zR
  | .long x :: .int i :: .ref a :: st => if ln = 1 ∧ hK h a = 2 ∧ zIn i (hL h a) = true ∧ kB κ ≤ a then some (pc + 1, ls, st, hW h a i.toNatClampNeg (.long x)) else none
  | _ => none
def zBst (κ : zC) (pc : Nat) (ls : List (Option Value)) (h : zH) (ln : Nat) : List Value → Option zR
  | .int x :: .int i :: .ref a :: st => if ln = 1 ∧ (hK h a = 3 ∨ hK h a = 4) ∧ zIn i (hL h a) = true ∧ kB κ ≤ a then some (pc + 1, ls, st, hW h a i.toNatClampNeg (narrow (zElT (hK h a)) (.int x))) else none
  | _ => none
def zAst (κ : zC) (pc : Nat) (ls : List (Option Value)) (h : zH) (ln : Nat) : List Value → Option zR
  | .ref v :: .int i :: .ref a :: st => if ln = 1 ∧ zRef (hK h a) = true ∧ zIn i (hL h a) = true ∧ kB κ ≤ a ∧ zAss (hK h a) (hK h v) = true then some (pc + 1, ls, st, hW h a i.toNatClampNeg (.ref v)) else none
  | .null :: .int i :: .ref a :: st => if ln = 1 ∧ zRef (hK h a) = true ∧ zIn i (hL h a) = true ∧ kB κ ≤ a then some (pc + 1, ls, st, hW h a i.toNatClampNeg .null) else none
  | _ => none
def zNew (m : zM) (pc : Nat) (ls : List (Option Value)) (h : zH) (i ln : Nat) (st : List Value) : Option zR :=
  if ln = 3 then (zLk (tN (mO m)) i).map fun c => (pc + 3, ls, .ref (hN h) :: st, hA h (100 + c) 0 (cN c) gD) else none
def zNewa (pc : Nat) (ls : List (Option Value)) (h : zH) (t : ArrayType) (ln : Nat) : List Value → Option zR
  | .int n :: st => if ln = 2 ∧ 0 ≤ n ∧ n.toNatClampNeg ≤ 60000000 then (zNewK t).map fun q => (pc + 2, ls, .ref (hN h) :: st, hA h q.1 n.toNatClampNeg n.toNatClampNeg (fun _ => q.2)) else none
  | _ => none
def zNewq (m : zM) (pc : Nat) (ls : List (Option Value)) (h : zH) (i ln : Nat) : List Value → Option zR
  | .int n :: st => if ln = 3 ∧ 0 ≤ n ∧ n.toNatClampNeg ≤ 60000000 then (zLk (tA (mO m)) i).map fun k => (pc + 3, ls, .ref (hN h) :: st, hA h k n.toNatClampNeg n.toNatClampNeg (fun _ => .null)) else none
  | _ => none
def zChk (κ : zC) (m : zM) (pc : Nat) (ls : List (Option Value)) (h : zH) (i ln : Nat) : List Value → Option zR
  | .ref a :: st => if ln = 3 then (zLk (tC (mO m)) i).bind fun c => if zCas (hK h a) c = true ∧ (100 ≤ hK h a ∨ kB κ ≤ a) then some (pc + 3, ls, .ref a :: st, h) else none else none
  | .null :: st => if ln = 3 then some (pc + 3, ls, .null :: st, h) else none
  | _ => none
def zIns (κ : zC) (m : zM) (pc : Nat) (ls : List (Option Value)) (h : zH) (i ln : Nat) : List Value → Option zR
  | .ref a :: st => if ln = 3 then (zLk (tC (mO m)) i).bind fun c => if zCas (hK h a) c = true ∧ (100 ≤ hK h a ∨ kB κ ≤ a) then some (pc + 3, ls, .int 1 :: st, h) else none else none
  | .null :: st => if ln = 3 then some (pc + 3, ls, .int 0 :: st, h) else none
  | _ => none
def zSum (st : List Value) : Nat := (st.map fun v => v.category).sum
/-- Object's and Exception's constructors -/
def zSpe (κ : zC) (m : zM) (pc : Nat) (ls : List (Option Value)) (h : zH) (i ln : Nat) : List Value → Option zR
  | .ref a :: st => if ln = 3 ∧ zSum st ≤ 8 then (zLk (tX (mO m)) i).bind fun x => if x = 4 ∨ (x = 5 ∧ hK h a = 109 ∧ kB κ ≤ a ∧ hV h a 139 = .null) then some (pc + 3, ls, st, h) else none else none
  | _ => none
/-- may an array of kind k hold this value -/
def zOkE (h : zH) (k : Nat) (v : Value) : Bool := if zRef k = true then (match v with
    | .null => true
    | .ref b => zAss k (hK h b)
    | _ => false) else fits (zElT k) v
/-- System.arraycopy -/
def zCpy (κ : zC) (m : zM) (pc : Nat) (ls : List (Option Value)) (h : zH) (i ln : Nat) : List Value → Option zR
  | .int n :: .int dp :: .ref d :: .int sp :: .ref s :: st => if ln = 3 ∧ zSum st ≤ 8 ∧ zLk (tX (mO m)) i = some 1 ∧ zArr (hK h s) = true ∧ hK h s = hK h d ∧ 0 ≤ sp ∧ 0 ≤ dp ∧ 0 ≤ n ∧ sp.toNatClampNeg + n.toNatClampNeg ≤ hL h s ∧ dp.toNatClampNeg + n.toNatClampNeg ≤ hL h d ∧ kB κ ≤ d ∧
      (∀ j, j < n.toNatClampNeg → zOkE h (hK h d) (hV h s (sp.toNatClampNeg + j)) = true) then some (pc + 3, ls, st, hC h s sp.toNatClampNeg d dp.toNatClampNeg n.toNatClampNeg) else none
  | _ => none
/-- getClass(), clone() of bytes -/
def zVir (κ : zC) (m : zM) (pc : Nat) (ls : List (Option Value)) (h : zH) (i ln : Nat) : List Value → Option zR
  | .ref a :: st => if ln = 3 ∧ zSum st ≤ 8 then (zLk (tX (mO m)) i).bind fun x =>
      if x = 2 ∧ hK h a = 10 ∧ kB κ ≤ a then some (pc + 3, ls, .ref (kM κ 0) :: st, h)
      else if x = 3 ∧ hK h a = 3 ∧ kB κ ≤ a ∧ ∀ j, j < hL h a → fits .byte (hV h a j) = true then some (pc + 3, ls, .ref (hN h) :: st, hA h 3 (hL h a) (hL h a) (fun j => hV h a j)) else none
      else none
  | _ => none
def zItf (κ : zC) (m : zM) (pc : Nat) (ls : List (Option Value)) (h : zH) (i ln : Nat) : List Value → Option zR
  | .ref a :: st => if ln = 5 ∧ zSum st ≤ 8 ∧ zLk (tX (mO m)) i = some 6 ∧ hK h a = 133 then some (pc + 5, ls, .ref (kM κ 1) :: st, h) else none
  | _ => none
def zHp (κ : zC) (m : zM) (pc : Nat) (ls : List (Option Value)) (h : zH) (ln : Nat) (st : List Value) : Instr → Option zR
  | .getfield i => zGetf m pc ls h i ln st
  | .putfield i => zPutf κ m pc ls h i ln st
  | .arraylength => zAlen pc ls h ln st
  | .iaload => zAld (fun k => decide (k = 1)) pc ls h ln st
  | .laload => zAld (fun k => decide (k = 2)) pc ls h ln st
  | .baload => zAld (fun k => decide (k = 3) || decide (k = 4)) pc ls h ln st
  | .aaload => zAld zRef pc ls h ln st
  | .iastore => zIst κ pc ls h ln st
  | .lastore => zLst κ pc ls h ln st
  | .bastore => zBst κ pc ls h ln st
  | .aastore => zAst κ pc ls h ln st
  | .new i => zNew m pc ls h i ln st
  | .newarray t => zNewa pc ls h t ln st
  | .anewarray i => zNewq m pc ls h i ln st
  | .checkcast i => zChk κ m pc ls h i ln st
  | .instanceof i => zIns κ m pc ls h i ln st
  | .invokespecial i => zSpe κ m pc ls h i ln st
  | .invokestatic i => zCpy κ m pc ls h i ln st
  | .invokevirtual i => zVir κ m pc ls h i ln st
  | .invokeinterface i _ => zItf κ m pc ls h i ln st
  | _ => none
/-- the step of an instruction that isn't a call of code, nor an end -/
def zStep (κ : zC) (m : zM) (pc : Nat) (op : Instr) (ln : Nat) (ls : List (Option Value)) (st : List Value) (h : zH) : Option zR :=
  match zCst κ (mO m) op with
  | some (v, l) => if ln = l then some (pc + l, ls, v :: st, h) else none
  | none => match zLod op with
    | some (i, l, k) => match zGet ls i with
      | some v => if ln = l ∧ zTy k v = true then some (pc + l, ls, v :: st, h) else none
      | none => none
    | none => match zStr op with
      | some (i, l, k) => match st with
        | v :: st => if ln = l ∧ zTy k v = true ∧ i + v.category ≤ ls.length then some (pc + l, if v.category = 1 then zPut1 ls i v else zPut2 ls i v, st, h) else none
        | [] => none
      | none => match zUn op with
        | some f => match st with
          | v :: st => if ln = 1 then (f v).map fun w => (pc + 1, ls, w :: st, h) else none
          | [] => none
        | none => match zBin op with
          | some f => match st with
            | b :: a :: st => if ln = 1 then (f a b).map fun w => (pc + 1, ls, w :: st, h) else none
            | _ => none
          | none => match zStk op st with
            | some st => if ln = 1 then some (pc + 1, ls, st, h) else none
            | none => match zBr op st with
              | some (c, off, st) => if ln = 3 then (zJmp pc off).map fun t => (if c = true then t else pc + 3, ls, st, h) else none
              | none => match op with
                | .iinc i n => match zGet ls i with
                  | some (.int x) => if ln = 3 ∧ i < ls.length then some (pc + 3, zPut1 ls i (.int (x + Int32.ofInt n)), st, h) else none
                  | _ => none
                | .tableswitch d lo hi offs => match st with
                  | .int x :: st => (zSw (.tableswitch d lo hi offs) x).bind fun off => (zJmp pc off).map fun t => (t, ls, st, h)
                  | _ => none
                | .lookupswitch d ps => match st with
                  | .int x :: st => (zSw (.lookupswitch d ps) x).bind fun off => (zJmp pc off).map fun t => (t, ls, st, h)
                  | _ => none
                | op => zHp κ m pc ls h ln st op
/-- an end: the answer -/
def zRet (m : zM) : Instr → Nat → List Value → Option (Option Value)
  | .return_, 1, [] => if mR m = none then some none else none
  | .ireturn, 1, [.int v] => match mR m with
    | some .int => some (some (.int v))
    | some .boolean => if narrow .boolean (.int v) = .int v then some (some (.int v)) else none
    | some .byte => if narrow .byte (.int v) = .int v then some (some (.int v)) else none
    | some .char => if narrow .char (.int v) = .int v then some (some (.int v)) else none
    | _ => none
  | .lreturn, 1, [.long v] => if mR m = some .long then some (some (.long v)) else none
  | .freturn, 1, [.float v] => if mR m = some .float then some (some (.float v)) else none
  | .dreturn, 1, [.double v] => if mR m = some .double then some (some (.double v)) else none
  | .areturn, 1, [v] => match mR m with
    | some (.object _) => if zTy 2 v = true then some (some v) else none
    | some (.array _) => if zTy 2 v = true then some (some v) else none
    | _ => none
  | _, _, _ => none
def zThr : Instr → Nat → List Value → Option Nat
  | .athrow, 1, [.ref q] => some q
  | _, _, _ => none
def zTake : Nat → List Value → List Value → Option (List Value × List Value)
  | 0, st, acc => some (acc, st)
  | _ + 1, [], _ => none
  | n + 1, v :: st, acc => zTake n st (v :: acc)
/-- a call of a method with code: the method, its values, the stack below -/
def zCall (m : zM) (h : zH) (st : List Value) : Instr → Nat → Option (zM × List Value × List Value)
  | .invokestatic i, ln => if ln = 3 then (zLk (tI1 (mO m)) i).bind fun q => (zTake q.1 st []).bind fun r => if zSum r.2 ≤ 8 ∧ mD q.2 < mD m ∧ zSize r.1 ≤ mX q.2 then some (q.2, r.1, r.2) else none else none
  | .invokespecial i, ln => if ln = 3 then (zLk (tI2 (mO m)) i).bind fun q => (zTake q.1 st []).bind fun r => match r.2 with
    | .ref b :: rest => if zSum rest ≤ 8 ∧ mD q.2.2 < mD m ∧ zSize (.ref b :: r.1) ≤ mX q.2.2 ∧ (q.2.1 = 0 ∨ 100 ≤ hK h b) then some (q.2.2, .ref b :: r.1, rest) else none
    | _ => none else none
  | .invokevirtual i, ln => if ln = 3 then (zLk (tI3 (mO m)) i).bind fun q => (zTake q.1 st []).bind fun r => match r.2 with
    | .ref b :: rest => (zLk q.2 (hK h b)).bind fun y => if zSum rest ≤ 8 ∧ mD y < mD m ∧ zSize (.ref b :: r.1) ≤ mX y then some (y, .ref b :: r.1, rest) else none
    | _ => none else none
  | .invokeinterface i _, ln => if ln = 5 then (zLk (tI4 (mO m)) i).bind fun q => (zTake q.1 st []).bind fun r => match r.2 with
    | .ref b :: rest => (zLk q.2 (hK h b)).bind fun y => if zSum rest ≤ 8 ∧ mD y < mD m ∧ zSize (.ref b :: r.1) ≤ mX y then some (y, .ref b :: r.1, rest) else none
    | _ => none else none
  | _, _ => none
/-- where a method catches what is thrown at pc (its one handler's class: Unreadable) -/
def zHan (m : zM) (pc : Nat) : Option Nat := match mT m with
  | [(a, b, t, _)] => if a ≤ pc ∧ pc < b then some t else none
  | _ => none
abbrev zO : Type := (Option Value ⊕ Nat) × zH
def zRun (κ : zC) : Nat → zM → Nat → List (Option Value) → List Value → zH → Option zO
  | 0, _, _, _, _, _ => none
  | n + 1, m, pc, ls, st, h => match decode (mC m) pc with
    | .error _ => none
    | .ok (op, ln) => match zRet m op ln st with
      | some v => some (.inl v, h)
      | none => match zThr op ln st with
        | some q => match zHan m pc with
          | some t => if hK h q = 109 ∧ kB κ ≤ q then zRun κ n m t ls [.ref q] h else none
          | none => if hK h q = 109 ∧ kB κ ≤ q then some (.inr q, h) else none
        | none => match zCall m h st op ln with
          | some (y, args, rest) => match zRun κ n y 0 (zEnt args (mX y)) [] h with
            | some (.inl v, h) => zRun κ n m (pc + ln) ls (v.toList ++ rest) h
            | some (.inr q, h) => match zHan m pc with
              | some t => zRun κ n m t ls [.ref q] h
              | none => some (.inr q, h)
            | none => none
          | none => match zStep κ m pc op ln ls st h with
            | some (pc, ls, st, h) => zRun κ n m pc ls st h
            | none => none
/-- from here the method m comes to an end with Q -/
def Go (κ : zC) (m : zM) (pc : Nat) (ls : List (Option Value)) (st : List Value) (h : zH) (Q : (Option Value ⊕ Nat) → zH → Prop) : Prop :=
  ∃ (n : Nat) (r : Option Value ⊕ Nat) (h' : zH), zRun κ n m pc ls st h = some (r, h') ∧ Q r h'
/-- a method called -/
def Ev (κ : zC) (m : zM) (args : List Value) (h : zH) (Q : (Option Value ⊕ Nat) → zH → Prop) : Prop := Go κ m 0 (zEnt args (mX m)) [] h Q
