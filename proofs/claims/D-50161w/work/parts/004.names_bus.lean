/-! BusLine -/
set_option maxRecDepth 100000
def RX0 : String := "BusLine"
def TX0 : u_T := fun k => match k with
  | 0 => ("BusLine", "tape", "[B", true)
  | 1 => ("BusLine", "length", "I", false)
  | 2 => ("BusLine", "error", "I", false)
  | 3 => ("BusLine", "now", "LBusLine$State;", false)
  | 4 => ("BusLine", "slots", "Ljava/util/ArrayList;", true)
  | _ => ("BusLine", "earlier", "Ljava/util/ArrayDeque;", true)
def tyX0 : Nat → FieldType := fun k => match k with
  | 0 => .array .byte
  | 1 => .int
  | 2 => .int
  | 3 => .object "BusLine$State"
  | 4 => .object "java/util/ArrayList"
  | _ => .object "java/util/ArrayDeque"
abbrev wsX00 : List Cond := u_ws RX0 TX0 6
theorem nmX0 : ∀ a, a < 6 → ∀ b, b < 6 → a ≠ b → (TX0 a).2.1 ≠ (TX0 b).2.1 := by decide +kernel
theorem tyX0_ok : ∀ k, k < 6 → parseFieldDescriptor (TX0 k).2.2.1 = some (tyX0 k) := by decide +kernel
abbrev cX0_init : ByteArray := prog_1_method_3_code
def yX0_init : MethodName := ⟨RX0, "<init>", "()V"⟩
def dkwX0_init_2 : List UInt8 := [181, 0, 48, 42, 187, 0, 52, 89, 183, 0, 54, 181, 0, 55, 177]
abbrev dktX0_init_2 : List UInt8 := dkwX0_init_2 ++ []
def dkwX0_init_1 : List UInt8 := [184, 0, 27, 181, 0, 33, 42, 187, 0, 37, 89, 5, 1, 192, 0, 28, 184, 0, 39, 183, 0, 45]
abbrev dktX0_init_1 : List UInt8 := dkwX0_init_1 ++ dktX0_init_2
def dkwX0_init_0 : List UInt8 := [42, 183, 0, 7, 42, 17, 5, 120, 188, 8, 181, 0, 13, 42, 16, 254, 181, 0, 17, 42, 184, 0, 21]
abbrev dktX0_init_0 : List UInt8 := dkwX0_init_0 ++ dktX0_init_1
theorem dksX0_init_0 : cX0_init.data.toList.drop 0 = dktX0_init_0 := by decide +kernel
theorem dksX0_init_1 : cX0_init.data.toList.drop 23 = dktX0_init_1 := dk_seg dksX0_init_0 23 rfl rfl
theorem dksX0_init_2 : cX0_init.data.toList.drop 45 = dktX0_init_2 := dk_seg dksX0_init_1 22 rfl rfl
theorem dX0_init_0 : decode cX0_init 0 = .ok (.aload_n 0, 1) := dk_42 (dk_at dksX0_init_0 0 rfl rfl)
theorem dX0_init_1 : decode cX0_init 1 = .ok (.invokespecial 7, 3) := dk_183 0 7 (dk_at dksX0_init_0 1 rfl rfl)
theorem dX0_init_4 : decode cX0_init 4 = .ok (.aload_n 0, 1) := dk_42 (dk_at dksX0_init_0 4 rfl rfl)
theorem dX0_init_5 : decode cX0_init 5 = .ok (.sipush 1400, 3) := dk_17 5 120 (dk_at dksX0_init_0 5 rfl rfl)
theorem dX0_init_8 : decode cX0_init 8 = .ok (.newarray .byte, 2) := dk_188_8 (dk_at dksX0_init_0 8 rfl rfl)
theorem dX0_init_10 : decode cX0_init 10 = .ok (.putfield 13, 3) := dk_181 0 13 (dk_at dksX0_init_0 10 rfl rfl)
theorem dX0_init_13 : decode cX0_init 13 = .ok (.aload_n 0, 1) := dk_42 (dk_at dksX0_init_0 13 rfl rfl)
theorem dX0_init_14 : decode cX0_init 14 = .ok (.bipush (-2), 2) := dk_16 254 (dk_at dksX0_init_0 14 rfl rfl)
theorem dX0_init_16 : decode cX0_init 16 = .ok (.putfield 17, 3) := dk_181 0 17 (dk_at dksX0_init_0 16 rfl rfl)
theorem dX0_init_19 : decode cX0_init 19 = .ok (.aload_n 0, 1) := dk_42 (dk_at dksX0_init_0 19 rfl rfl)
theorem dX0_init_20 : decode cX0_init 20 = .ok (.invokestatic 21, 3) := dk_184 0 21 (dk_at dksX0_init_0 20 rfl rfl)
theorem dX0_init_23 : decode cX0_init 23 = .ok (.invokestatic 27, 3) := dk_184 0 27 (dk_at dksX0_init_1 0 rfl rfl)
theorem dX0_init_26 : decode cX0_init 26 = .ok (.putfield 33, 3) := dk_181 0 33 (dk_at dksX0_init_1 3 rfl rfl)
theorem dX0_init_29 : decode cX0_init 29 = .ok (.aload_n 0, 1) := dk_42 (dk_at dksX0_init_1 6 rfl rfl)
theorem dX0_init_30 : decode cX0_init 30 = .ok (.new 37, 3) := dk_187 0 37 (dk_at dksX0_init_1 7 rfl rfl)
theorem dX0_init_33 : decode cX0_init 33 = .ok (.dup, 1) := dk_89 (dk_at dksX0_init_1 10 rfl rfl)
theorem dX0_init_34 : decode cX0_init 34 = .ok (.iconst 2, 1) := dk_5 (dk_at dksX0_init_1 11 rfl rfl)
theorem dX0_init_35 : decode cX0_init 35 = .ok (.aconst_null, 1) := dk_1 (dk_at dksX0_init_1 12 rfl rfl)
theorem dX0_init_36 : decode cX0_init 36 = .ok (.checkcast 28, 3) := dk_192 0 28 (dk_at dksX0_init_1 13 rfl rfl)
theorem dX0_init_39 : decode cX0_init 39 = .ok (.invokestatic 39, 3) := dk_184 0 39 (dk_at dksX0_init_1 16 rfl rfl)
theorem dX0_init_42 : decode cX0_init 42 = .ok (.invokespecial 45, 3) := dk_183 0 45 (dk_at dksX0_init_1 19 rfl rfl)
theorem dX0_init_45 : decode cX0_init 45 = .ok (.putfield 48, 3) := dk_181 0 48 (dk_at dksX0_init_2 0 rfl rfl)
theorem dX0_init_48 : decode cX0_init 48 = .ok (.aload_n 0, 1) := dk_42 (dk_at dksX0_init_2 3 rfl rfl)
theorem dX0_init_49 : decode cX0_init 49 = .ok (.new 52, 3) := dk_187 0 52 (dk_at dksX0_init_2 4 rfl rfl)
theorem dX0_init_52 : decode cX0_init 52 = .ok (.dup, 1) := dk_89 (dk_at dksX0_init_2 7 rfl rfl)
theorem dX0_init_53 : decode cX0_init 53 = .ok (.invokespecial 54, 3) := dk_183 0 54 (dk_at dksX0_init_2 8 rfl rfl)
theorem dX0_init_56 : decode cX0_init 56 = .ok (.putfield 55, 3) := dk_181 0 55 (dk_at dksX0_init_2 11 rfl rfl)
theorem dX0_init_59 : decode cX0_init 59 = .ok (.return_, 1) := dk_177 (dk_at dksX0_init_2 14 rfl rfl)
abbrev cX0_append : ByteArray := prog_1_method_11_code
def yX0_append : MethodName := ⟨RX0, "append", "(IIIII)I"⟩
def dkwX0_append_2 : List UInt8 := [172]
abbrev dktX0_append_2 : List UInt8 := dkwX0_append_2 ++ []
def dkwX0_append_1 : List UInt8 := [182, 0, 80, 42, 29, 182, 0, 80, 42, 21, 4, 182, 0, 80, 42, 21, 5, 182, 0, 80, 42, 180, 0, 77]
abbrev dktX0_append_1 : List UInt8 := dkwX0_append_1 ++ dktX0_append_2
def dkwX0_append_0 : List UInt8 := [42, 180, 0, 77, 16, 20, 96, 17, 5, 120, 164, 0, 5, 2, 172, 42, 27, 182, 0, 80, 42, 28]
abbrev dktX0_append_0 : List UInt8 := dkwX0_append_0 ++ dktX0_append_1
theorem dksX0_append_0 : cX0_append.data.toList.drop 0 = dktX0_append_0 := by decide +kernel
theorem dksX0_append_1 : cX0_append.data.toList.drop 22 = dktX0_append_1 := dk_seg dksX0_append_0 22 rfl rfl
theorem dksX0_append_2 : cX0_append.data.toList.drop 46 = dktX0_append_2 := dk_seg dksX0_append_1 24 rfl rfl
theorem dX0_append_0 : decode cX0_append 0 = .ok (.aload_n 0, 1) := dk_42 (dk_at dksX0_append_0 0 rfl rfl)
theorem dX0_append_1 : decode cX0_append 1 = .ok (.getfield 77, 3) := dk_180 0 77 (dk_at dksX0_append_0 1 rfl rfl)
theorem dX0_append_4 : decode cX0_append 4 = .ok (.bipush 20, 2) := dk_16 20 (dk_at dksX0_append_0 4 rfl rfl)
theorem dX0_append_6 : decode cX0_append 6 = .ok (.iadd, 1) := dk_96 (dk_at dksX0_append_0 6 rfl rfl)
theorem dX0_append_7 : decode cX0_append 7 = .ok (.sipush 1400, 3) := dk_17 5 120 (dk_at dksX0_append_0 7 rfl rfl)
theorem dX0_append_10 : decode cX0_append 10 = .ok (.if_icmp .le 5, 3) := dk_164 0 5 (dk_at dksX0_append_0 10 rfl rfl)
theorem dX0_append_13 : decode cX0_append 13 = .ok (.iconst (-1), 1) := dk_2 (dk_at dksX0_append_0 13 rfl rfl)
theorem dX0_append_14 : decode cX0_append 14 = .ok (.ireturn, 1) := dk_172 (dk_at dksX0_append_0 14 rfl rfl)
theorem dX0_append_15 : decode cX0_append 15 = .ok (.aload_n 0, 1) := dk_42 (dk_at dksX0_append_0 15 rfl rfl)
theorem dX0_append_16 : decode cX0_append 16 = .ok (.iload_n 1, 1) := dk_27 (dk_at dksX0_append_0 16 rfl rfl)
theorem dX0_append_17 : decode cX0_append 17 = .ok (.invokevirtual 80, 3) := dk_182 0 80 (dk_at dksX0_append_0 17 rfl rfl)
theorem dX0_append_20 : decode cX0_append 20 = .ok (.aload_n 0, 1) := dk_42 (dk_at dksX0_append_0 20 rfl rfl)
theorem dX0_append_21 : decode cX0_append 21 = .ok (.iload_n 2, 1) := dk_28 (dk_at dksX0_append_0 21 rfl rfl)
theorem dX0_append_22 : decode cX0_append 22 = .ok (.invokevirtual 80, 3) := dk_182 0 80 (dk_at dksX0_append_1 0 rfl rfl)
theorem dX0_append_25 : decode cX0_append 25 = .ok (.aload_n 0, 1) := dk_42 (dk_at dksX0_append_1 3 rfl rfl)
theorem dX0_append_26 : decode cX0_append 26 = .ok (.iload_n 3, 1) := dk_29 (dk_at dksX0_append_1 4 rfl rfl)
theorem dX0_append_27 : decode cX0_append 27 = .ok (.invokevirtual 80, 3) := dk_182 0 80 (dk_at dksX0_append_1 5 rfl rfl)
theorem dX0_append_30 : decode cX0_append 30 = .ok (.aload_n 0, 1) := dk_42 (dk_at dksX0_append_1 8 rfl rfl)
theorem dX0_append_31 : decode cX0_append 31 = .ok (.iload 4, 2) := dk_21 4 (dk_at dksX0_append_1 9 rfl rfl)
theorem dX0_append_33 : decode cX0_append 33 = .ok (.invokevirtual 80, 3) := dk_182 0 80 (dk_at dksX0_append_1 11 rfl rfl)
theorem dX0_append_36 : decode cX0_append 36 = .ok (.aload_n 0, 1) := dk_42 (dk_at dksX0_append_1 14 rfl rfl)
theorem dX0_append_37 : decode cX0_append 37 = .ok (.iload 5, 2) := dk_21 5 (dk_at dksX0_append_1 15 rfl rfl)
theorem dX0_append_39 : decode cX0_append 39 = .ok (.invokevirtual 80, 3) := dk_182 0 80 (dk_at dksX0_append_1 17 rfl rfl)
theorem dX0_append_42 : decode cX0_append 42 = .ok (.aload_n 0, 1) := dk_42 (dk_at dksX0_append_1 20 rfl rfl)
theorem dX0_append_43 : decode cX0_append 43 = .ok (.getfield 77, 3) := dk_180 0 77 (dk_at dksX0_append_1 21 rfl rfl)
theorem dX0_append_46 : decode cX0_append 46 = .ok (.ireturn, 1) := dk_172 (dk_at dksX0_append_2 0 rfl rfl)
abbrev cX0_put : ByteArray := prog_1_method_10_code
def yX0_put : MethodName := ⟨RX0, "put", "(I)V"⟩
def dkwX0_put_1 : List UInt8 := [180, 0, 77, 4, 96, 181, 0, 77, 132, 2, 248, 167, 255, 226, 177]
abbrev dktX0_put_1 : List UInt8 := dkwX0_put_1 ++ []
def dkwX0_put_0 : List UInt8 := [16, 24, 61, 28, 155, 0, 32, 42, 180, 0, 13, 42, 180, 0, 77, 27, 28, 122, 145, 84, 42, 89]
abbrev dktX0_put_0 : List UInt8 := dkwX0_put_0 ++ dktX0_put_1
theorem dksX0_put_0 : cX0_put.data.toList.drop 0 = dktX0_put_0 := by decide +kernel
theorem dksX0_put_1 : cX0_put.data.toList.drop 22 = dktX0_put_1 := dk_seg dksX0_put_0 22 rfl rfl
theorem dX0_put_0 : decode cX0_put 0 = .ok (.bipush 24, 2) := dk_16 24 (dk_at dksX0_put_0 0 rfl rfl)
theorem dX0_put_2 : decode cX0_put 2 = .ok (.istore_n 2, 1) := dk_61 (dk_at dksX0_put_0 2 rfl rfl)
theorem dX0_put_3 : decode cX0_put 3 = .ok (.iload_n 2, 1) := dk_28 (dk_at dksX0_put_0 3 rfl rfl)
theorem dX0_put_4 : decode cX0_put 4 = .ok (.ifCond .lt 32, 3) := dk_155 0 32 (dk_at dksX0_put_0 4 rfl rfl)
theorem dX0_put_7 : decode cX0_put 7 = .ok (.aload_n 0, 1) := dk_42 (dk_at dksX0_put_0 7 rfl rfl)
theorem dX0_put_8 : decode cX0_put 8 = .ok (.getfield 13, 3) := dk_180 0 13 (dk_at dksX0_put_0 8 rfl rfl)
theorem dX0_put_11 : decode cX0_put 11 = .ok (.aload_n 0, 1) := dk_42 (dk_at dksX0_put_0 11 rfl rfl)
theorem dX0_put_12 : decode cX0_put 12 = .ok (.getfield 77, 3) := dk_180 0 77 (dk_at dksX0_put_0 12 rfl rfl)
theorem dX0_put_15 : decode cX0_put 15 = .ok (.iload_n 1, 1) := dk_27 (dk_at dksX0_put_0 15 rfl rfl)
theorem dX0_put_16 : decode cX0_put 16 = .ok (.iload_n 2, 1) := dk_28 (dk_at dksX0_put_0 16 rfl rfl)
theorem dX0_put_17 : decode cX0_put 17 = .ok (.ishr, 1) := dk_122 (dk_at dksX0_put_0 17 rfl rfl)
theorem dX0_put_18 : decode cX0_put 18 = .ok (.i2b, 1) := dk_145 (dk_at dksX0_put_0 18 rfl rfl)
theorem dX0_put_19 : decode cX0_put 19 = .ok (.bastore, 1) := dk_84 (dk_at dksX0_put_0 19 rfl rfl)
theorem dX0_put_20 : decode cX0_put 20 = .ok (.aload_n 0, 1) := dk_42 (dk_at dksX0_put_0 20 rfl rfl)
theorem dX0_put_21 : decode cX0_put 21 = .ok (.dup, 1) := dk_89 (dk_at dksX0_put_0 21 rfl rfl)
theorem dX0_put_22 : decode cX0_put 22 = .ok (.getfield 77, 3) := dk_180 0 77 (dk_at dksX0_put_1 0 rfl rfl)
theorem dX0_put_25 : decode cX0_put 25 = .ok (.iconst 1, 1) := dk_4 (dk_at dksX0_put_1 3 rfl rfl)
theorem dX0_put_26 : decode cX0_put 26 = .ok (.iadd, 1) := dk_96 (dk_at dksX0_put_1 4 rfl rfl)
theorem dX0_put_27 : decode cX0_put 27 = .ok (.putfield 77, 3) := dk_181 0 77 (dk_at dksX0_put_1 5 rfl rfl)
theorem dX0_put_30 : decode cX0_put 30 = .ok (.iinc 2 (-8), 3) := dk_132 2 248 (dk_at dksX0_put_1 8 rfl rfl)
theorem dX0_put_33 : decode cX0_put 33 = .ok (.goto (-30), 3) := dk_167 255 226 (dk_at dksX0_put_1 11 rfl rfl)
theorem dX0_put_36 : decode cX0_put 36 = .ok (.return_, 1) := dk_177 (dk_at dksX0_put_1 14 rfl rfl)
abbrev cX0_truncate : ByteArray := prog_1_method_12_code
def yX0_truncate : MethodName := ⟨RX0, "truncate", "(I)I"⟩
def dkwX0_truncate_1 : List UInt8 := [42, 180, 0, 77, 172]
abbrev dktX0_truncate_1 : List UInt8 := dkwX0_truncate_1 ++ []
def dkwX0_truncate_0 : List UInt8 := [27, 3, 42, 180, 0, 77, 184, 0, 3, 154, 0, 5, 2, 172, 42, 89, 180, 0, 77, 27, 100, 181, 0, 77]
abbrev dktX0_truncate_0 : List UInt8 := dkwX0_truncate_0 ++ dktX0_truncate_1
theorem dksX0_truncate_0 : cX0_truncate.data.toList.drop 0 = dktX0_truncate_0 := by decide +kernel
theorem dksX0_truncate_1 : cX0_truncate.data.toList.drop 24 = dktX0_truncate_1 := dk_seg dksX0_truncate_0 24 rfl rfl
theorem dX0_truncate_0 : decode cX0_truncate 0 = .ok (.iload_n 1, 1) := dk_27 (dk_at dksX0_truncate_0 0 rfl rfl)
theorem dX0_truncate_1 : decode cX0_truncate 1 = .ok (.iconst 0, 1) := dk_3 (dk_at dksX0_truncate_0 1 rfl rfl)
theorem dX0_truncate_2 : decode cX0_truncate 2 = .ok (.aload_n 0, 1) := dk_42 (dk_at dksX0_truncate_0 2 rfl rfl)
theorem dX0_truncate_3 : decode cX0_truncate 3 = .ok (.getfield 77, 3) := dk_180 0 77 (dk_at dksX0_truncate_0 3 rfl rfl)
theorem dX0_truncate_6 : decode cX0_truncate 6 = .ok (.invokestatic 3, 3) := dk_184 0 3 (dk_at dksX0_truncate_0 6 rfl rfl)
theorem dX0_truncate_9 : decode cX0_truncate 9 = .ok (.ifCond .ne 5, 3) := dk_154 0 5 (dk_at dksX0_truncate_0 9 rfl rfl)
theorem dX0_truncate_12 : decode cX0_truncate 12 = .ok (.iconst (-1), 1) := dk_2 (dk_at dksX0_truncate_0 12 rfl rfl)
theorem dX0_truncate_13 : decode cX0_truncate 13 = .ok (.ireturn, 1) := dk_172 (dk_at dksX0_truncate_0 13 rfl rfl)
theorem dX0_truncate_14 : decode cX0_truncate 14 = .ok (.aload_n 0, 1) := dk_42 (dk_at dksX0_truncate_0 14 rfl rfl)
theorem dX0_truncate_15 : decode cX0_truncate 15 = .ok (.dup, 1) := dk_89 (dk_at dksX0_truncate_0 15 rfl rfl)
theorem dX0_truncate_16 : decode cX0_truncate 16 = .ok (.getfield 77, 3) := dk_180 0 77 (dk_at dksX0_truncate_0 16 rfl rfl)
theorem dX0_truncate_19 : decode cX0_truncate 19 = .ok (.iload_n 1, 1) := dk_27 (dk_at dksX0_truncate_0 19 rfl rfl)
theorem dX0_truncate_20 : decode cX0_truncate 20 = .ok (.isub, 1) := dk_100 (dk_at dksX0_truncate_0 20 rfl rfl)
theorem dX0_truncate_21 : decode cX0_truncate 21 = .ok (.putfield 77, 3) := dk_181 0 77 (dk_at dksX0_truncate_0 21 rfl rfl)
theorem dX0_truncate_24 : decode cX0_truncate 24 = .ok (.aload_n 0, 1) := dk_42 (dk_at dksX0_truncate_1 0 rfl rfl)
theorem dX0_truncate_25 : decode cX0_truncate 25 = .ok (.getfield 77, 3) := dk_180 0 77 (dk_at dksX0_truncate_1 1 rfl rfl)
theorem dX0_truncate_28 : decode cX0_truncate 28 = .ok (.ireturn, 1) := dk_172 (dk_at dksX0_truncate_1 4 rfl rfl)
abbrev cX0_isBetween : ByteArray := prog_1_method_1_code
def yX0_isBetween : MethodName := ⟨RX0, "isBetween", "(III)Z"⟩
def dkwX0_isBetween_0 : List UInt8 := [27, 26, 163, 0, 12, 26, 28, 163, 0, 7, 4, 167, 0, 4, 3, 172]
abbrev dktX0_isBetween_0 : List UInt8 := dkwX0_isBetween_0 ++ []
theorem dksX0_isBetween_0 : cX0_isBetween.data.toList.drop 0 = dktX0_isBetween_0 := by decide +kernel
theorem dX0_isBetween_0 : decode cX0_isBetween 0 = .ok (.iload_n 1, 1) := dk_27 (dk_at dksX0_isBetween_0 0 rfl rfl)
theorem dX0_isBetween_1 : decode cX0_isBetween 1 = .ok (.iload_n 0, 1) := dk_26 (dk_at dksX0_isBetween_0 1 rfl rfl)
theorem dX0_isBetween_2 : decode cX0_isBetween 2 = .ok (.if_icmp .gt 12, 3) := dk_163 0 12 (dk_at dksX0_isBetween_0 2 rfl rfl)
theorem dX0_isBetween_5 : decode cX0_isBetween 5 = .ok (.iload_n 0, 1) := dk_26 (dk_at dksX0_isBetween_0 5 rfl rfl)
theorem dX0_isBetween_6 : decode cX0_isBetween 6 = .ok (.iload_n 2, 1) := dk_28 (dk_at dksX0_isBetween_0 6 rfl rfl)
theorem dX0_isBetween_7 : decode cX0_isBetween 7 = .ok (.if_icmp .gt 7, 3) := dk_163 0 7 (dk_at dksX0_isBetween_0 7 rfl rfl)
theorem dX0_isBetween_10 : decode cX0_isBetween 10 = .ok (.iconst 1, 1) := dk_4 (dk_at dksX0_isBetween_0 10 rfl rfl)
theorem dX0_isBetween_11 : decode cX0_isBetween 11 = .ok (.goto 4, 3) := dk_167 0 4 (dk_at dksX0_isBetween_0 11 rfl rfl)
theorem dX0_isBetween_14 : decode cX0_isBetween 14 = .ok (.iconst 0, 1) := dk_3 (dk_at dksX0_isBetween_0 14 rfl rfl)
theorem dX0_isBetween_15 : decode cX0_isBetween 15 = .ok (.ireturn, 1) := dk_172 (dk_at dksX0_isBetween_0 15 rfl rfl)
abbrev cX0_load : ByteArray := prog_1_method_13_code
def yX0_load : MethodName := ⟨RX0, "load", "()I"⟩
def dkwX0_load_5 : List UInt8 := [182, 0, 59, 172]
abbrev dktX0_load_5 : List UInt8 := dkwX0_load_5 ++ []
def dkwX0_load_4 : List UInt8 := [5, 162, 0, 19, 42, 180, 0, 48, 28, 1, 182, 0, 111, 87, 132, 2, 1, 167, 255, 238, 42, 180, 0, 33]
abbrev dktX0_load_4 : List UInt8 := dkwX0_load_4 ++ dktX0_load_5
def dkwX0_load_3 : List UInt8 := [167, 0, 14, 77, 42, 44, 180, 0, 105, 181, 0, 17, 2, 172, 42, 180, 0, 55, 182, 0, 108, 3, 61, 28]
abbrev dktX0_load_3 : List UInt8 := dkwX0_load_3 ++ dktX0_load_4
def dkwX0_load_2 : List UInt8 := [181, 0, 17, 42, 187, 0, 91, 89, 43, 182, 0, 93, 183, 0, 97, 182, 0, 100, 184, 0, 27, 181, 0, 33]
abbrev dktX0_load_2 : List UInt8 := dkwX0_load_2 ++ dktX0_load_3
def dkwX0_load_1 : List UInt8 := [51, 17, 0, 255, 126, 146, 182, 0, 87, 87, 132, 2, 1, 167, 255, 229, 42, 3, 181, 0, 77, 42, 16, 254]
abbrev dktX0_load_1 : List UInt8 := dkwX0_load_1 ++ dktX0_load_2
def dkwX0_load_0 : List UInt8 := [187, 0, 84, 89, 183, 0, 86, 76, 3, 61, 28, 42, 180, 0, 77, 162, 0, 25, 43, 42, 180, 0, 13, 28]
abbrev dktX0_load_0 : List UInt8 := dkwX0_load_0 ++ dktX0_load_1
theorem dksX0_load_0 : cX0_load.data.toList.drop 0 = dktX0_load_0 := by decide +kernel
theorem dksX0_load_1 : cX0_load.data.toList.drop 24 = dktX0_load_1 := dk_seg dksX0_load_0 24 rfl rfl
theorem dksX0_load_2 : cX0_load.data.toList.drop 48 = dktX0_load_2 := dk_seg dksX0_load_1 24 rfl rfl
theorem dksX0_load_3 : cX0_load.data.toList.drop 72 = dktX0_load_3 := dk_seg dksX0_load_2 24 rfl rfl
theorem dksX0_load_4 : cX0_load.data.toList.drop 96 = dktX0_load_4 := dk_seg dksX0_load_3 24 rfl rfl
theorem dksX0_load_5 : cX0_load.data.toList.drop 120 = dktX0_load_5 := dk_seg dksX0_load_4 24 rfl rfl
theorem dX0_load_0 : decode cX0_load 0 = .ok (.new 84, 3) := dk_187 0 84 (dk_at dksX0_load_0 0 rfl rfl)
theorem dX0_load_3 : decode cX0_load 3 = .ok (.dup, 1) := dk_89 (dk_at dksX0_load_0 3 rfl rfl)
theorem dX0_load_4 : decode cX0_load 4 = .ok (.invokespecial 86, 3) := dk_183 0 86 (dk_at dksX0_load_0 4 rfl rfl)
theorem dX0_load_7 : decode cX0_load 7 = .ok (.astore_n 1, 1) := dk_76 (dk_at dksX0_load_0 7 rfl rfl)
theorem dX0_load_8 : decode cX0_load 8 = .ok (.iconst 0, 1) := dk_3 (dk_at dksX0_load_0 8 rfl rfl)
theorem dX0_load_9 : decode cX0_load 9 = .ok (.istore_n 2, 1) := dk_61 (dk_at dksX0_load_0 9 rfl rfl)
theorem dX0_load_10 : decode cX0_load 10 = .ok (.iload_n 2, 1) := dk_28 (dk_at dksX0_load_0 10 rfl rfl)
theorem dX0_load_11 : decode cX0_load 11 = .ok (.aload_n 0, 1) := dk_42 (dk_at dksX0_load_0 11 rfl rfl)
theorem dX0_load_12 : decode cX0_load 12 = .ok (.getfield 77, 3) := dk_180 0 77 (dk_at dksX0_load_0 12 rfl rfl)
theorem dX0_load_15 : decode cX0_load 15 = .ok (.if_icmp .ge 25, 3) := dk_162 0 25 (dk_at dksX0_load_0 15 rfl rfl)
theorem dX0_load_18 : decode cX0_load 18 = .ok (.aload_n 1, 1) := dk_43 (dk_at dksX0_load_0 18 rfl rfl)
theorem dX0_load_19 : decode cX0_load 19 = .ok (.aload_n 0, 1) := dk_42 (dk_at dksX0_load_0 19 rfl rfl)
theorem dX0_load_20 : decode cX0_load 20 = .ok (.getfield 13, 3) := dk_180 0 13 (dk_at dksX0_load_0 20 rfl rfl)
theorem dX0_load_23 : decode cX0_load 23 = .ok (.iload_n 2, 1) := dk_28 (dk_at dksX0_load_0 23 rfl rfl)
theorem dX0_load_24 : decode cX0_load 24 = .ok (.baload, 1) := dk_51 (dk_at dksX0_load_1 0 rfl rfl)
theorem dX0_load_25 : decode cX0_load 25 = .ok (.sipush 255, 3) := dk_17 0 255 (dk_at dksX0_load_1 1 rfl rfl)
theorem dX0_load_28 : decode cX0_load 28 = .ok (.iand, 1) := dk_126 (dk_at dksX0_load_1 4 rfl rfl)
theorem dX0_load_29 : decode cX0_load 29 = .ok (.i2c, 1) := dk_146 (dk_at dksX0_load_1 5 rfl rfl)
theorem dX0_load_30 : decode cX0_load 30 = .ok (.invokevirtual 87, 3) := dk_182 0 87 (dk_at dksX0_load_1 6 rfl rfl)
theorem dX0_load_33 : decode cX0_load 33 = .ok (.pop, 1) := dk_87 (dk_at dksX0_load_1 9 rfl rfl)
theorem dX0_load_34 : decode cX0_load 34 = .ok (.iinc 2 1, 3) := dk_132 2 1 (dk_at dksX0_load_1 10 rfl rfl)
theorem dX0_load_37 : decode cX0_load 37 = .ok (.goto (-27), 3) := dk_167 255 229 (dk_at dksX0_load_1 13 rfl rfl)
theorem dX0_load_40 : decode cX0_load 40 = .ok (.aload_n 0, 1) := dk_42 (dk_at dksX0_load_1 16 rfl rfl)
theorem dX0_load_41 : decode cX0_load 41 = .ok (.iconst 0, 1) := dk_3 (dk_at dksX0_load_1 17 rfl rfl)
theorem dX0_load_42 : decode cX0_load 42 = .ok (.putfield 77, 3) := dk_181 0 77 (dk_at dksX0_load_1 18 rfl rfl)
theorem dX0_load_45 : decode cX0_load 45 = .ok (.aload_n 0, 1) := dk_42 (dk_at dksX0_load_1 21 rfl rfl)
theorem dX0_load_46 : decode cX0_load 46 = .ok (.bipush (-2), 2) := dk_16 254 (dk_at dksX0_load_1 22 rfl rfl)
theorem dX0_load_48 : decode cX0_load 48 = .ok (.putfield 17, 3) := dk_181 0 17 (dk_at dksX0_load_2 0 rfl rfl)
theorem dX0_load_51 : decode cX0_load 51 = .ok (.aload_n 0, 1) := dk_42 (dk_at dksX0_load_2 3 rfl rfl)
theorem dX0_load_52 : decode cX0_load 52 = .ok (.new 91, 3) := dk_187 0 91 (dk_at dksX0_load_2 4 rfl rfl)
theorem dX0_load_55 : decode cX0_load 55 = .ok (.dup, 1) := dk_89 (dk_at dksX0_load_2 7 rfl rfl)
theorem dX0_load_56 : decode cX0_load 56 = .ok (.aload_n 1, 1) := dk_43 (dk_at dksX0_load_2 8 rfl rfl)
theorem dX0_load_57 : decode cX0_load 57 = .ok (.invokevirtual 93, 3) := dk_182 0 93 (dk_at dksX0_load_2 9 rfl rfl)
theorem dX0_load_60 : decode cX0_load 60 = .ok (.invokespecial 97, 3) := dk_183 0 97 (dk_at dksX0_load_2 12 rfl rfl)
theorem dX0_load_63 : decode cX0_load 63 = .ok (.invokevirtual 100, 3) := dk_182 0 100 (dk_at dksX0_load_2 15 rfl rfl)
theorem dX0_load_66 : decode cX0_load 66 = .ok (.invokestatic 27, 3) := dk_184 0 27 (dk_at dksX0_load_2 18 rfl rfl)
theorem dX0_load_69 : decode cX0_load 69 = .ok (.putfield 33, 3) := dk_181 0 33 (dk_at dksX0_load_2 21 rfl rfl)
theorem dX0_load_72 : decode cX0_load 72 = .ok (.goto 14, 3) := dk_167 0 14 (dk_at dksX0_load_3 0 rfl rfl)
theorem dX0_load_75 : decode cX0_load 75 = .ok (.astore_n 2, 1) := dk_77 (dk_at dksX0_load_3 3 rfl rfl)
theorem dX0_load_76 : decode cX0_load 76 = .ok (.aload_n 0, 1) := dk_42 (dk_at dksX0_load_3 4 rfl rfl)
theorem dX0_load_77 : decode cX0_load 77 = .ok (.aload_n 2, 1) := dk_44 (dk_at dksX0_load_3 5 rfl rfl)
theorem dX0_load_78 : decode cX0_load 78 = .ok (.getfield 105, 3) := dk_180 0 105 (dk_at dksX0_load_3 6 rfl rfl)
theorem dX0_load_81 : decode cX0_load 81 = .ok (.putfield 17, 3) := dk_181 0 17 (dk_at dksX0_load_3 9 rfl rfl)
theorem dX0_load_84 : decode cX0_load 84 = .ok (.iconst (-1), 1) := dk_2 (dk_at dksX0_load_3 12 rfl rfl)
theorem dX0_load_85 : decode cX0_load 85 = .ok (.ireturn, 1) := dk_172 (dk_at dksX0_load_3 13 rfl rfl)
theorem dX0_load_86 : decode cX0_load 86 = .ok (.aload_n 0, 1) := dk_42 (dk_at dksX0_load_3 14 rfl rfl)
theorem dX0_load_87 : decode cX0_load 87 = .ok (.getfield 55, 3) := dk_180 0 55 (dk_at dksX0_load_3 15 rfl rfl)
theorem dX0_load_90 : decode cX0_load 90 = .ok (.invokevirtual 108, 3) := dk_182 0 108 (dk_at dksX0_load_3 18 rfl rfl)
theorem dX0_load_93 : decode cX0_load 93 = .ok (.iconst 0, 1) := dk_3 (dk_at dksX0_load_3 21 rfl rfl)
theorem dX0_load_94 : decode cX0_load 94 = .ok (.istore_n 2, 1) := dk_61 (dk_at dksX0_load_3 22 rfl rfl)
theorem dX0_load_95 : decode cX0_load 95 = .ok (.iload_n 2, 1) := dk_28 (dk_at dksX0_load_3 23 rfl rfl)
theorem dX0_load_96 : decode cX0_load 96 = .ok (.iconst 2, 1) := dk_5 (dk_at dksX0_load_4 0 rfl rfl)
theorem dX0_load_97 : decode cX0_load 97 = .ok (.if_icmp .ge 19, 3) := dk_162 0 19 (dk_at dksX0_load_4 1 rfl rfl)
theorem dX0_load_100 : decode cX0_load 100 = .ok (.aload_n 0, 1) := dk_42 (dk_at dksX0_load_4 4 rfl rfl)
theorem dX0_load_101 : decode cX0_load 101 = .ok (.getfield 48, 3) := dk_180 0 48 (dk_at dksX0_load_4 5 rfl rfl)
theorem dX0_load_104 : decode cX0_load 104 = .ok (.iload_n 2, 1) := dk_28 (dk_at dksX0_load_4 8 rfl rfl)
theorem dX0_load_105 : decode cX0_load 105 = .ok (.aconst_null, 1) := dk_1 (dk_at dksX0_load_4 9 rfl rfl)
theorem dX0_load_106 : decode cX0_load 106 = .ok (.invokevirtual 111, 3) := dk_182 0 111 (dk_at dksX0_load_4 10 rfl rfl)
theorem dX0_load_109 : decode cX0_load 109 = .ok (.pop, 1) := dk_87 (dk_at dksX0_load_4 13 rfl rfl)
theorem dX0_load_110 : decode cX0_load 110 = .ok (.iinc 2 1, 3) := dk_132 2 1 (dk_at dksX0_load_4 14 rfl rfl)
theorem dX0_load_113 : decode cX0_load 113 = .ok (.goto (-18), 3) := dk_167 255 238 (dk_at dksX0_load_4 17 rfl rfl)
theorem dX0_load_116 : decode cX0_load 116 = .ok (.aload_n 0, 1) := dk_42 (dk_at dksX0_load_4 20 rfl rfl)
theorem dX0_load_117 : decode cX0_load 117 = .ok (.getfield 33, 3) := dk_180 0 33 (dk_at dksX0_load_4 21 rfl rfl)
theorem dX0_load_120 : decode cX0_load 120 = .ok (.invokevirtual 59, 3) := dk_182 0 59 (dk_at dksX0_load_5 0 rfl rfl)
theorem dX0_load_123 : decode cX0_load 123 = .ok (.ireturn, 1) := dk_172 (dk_at dksX0_load_5 3 rfl rfl)
abbrev cX0_errorPosition : ByteArray := prog_1_method_14_code
def yX0_errorPosition : MethodName := ⟨RX0, "errorPosition", "()I"⟩
theorem dX0_errorPosition_0 : decode cX0_errorPosition 0 = .ok (.aload_n 0, 1) := by decide +kernel
theorem dX0_errorPosition_1 : decode cX0_errorPosition 1 = .ok (.getfield 17, 3) := by decide +kernel
theorem dX0_errorPosition_4 : decode cX0_errorPosition 4 = .ok (.ireturn, 1) := by decide +kernel
abbrev cX0_setMode : ByteArray := prog_1_method_16_code
def yX0_setMode : MethodName := ⟨RX0, "setMode", "(I)I"⟩
def dkwX0_setMode_1 : List UInt8 := [172, 42, 182, 0, 135, 27, 181, 0, 132, 28, 172]
abbrev dktX0_setMode_1 : List UInt8 := dkwX0_setMode_1 ++ []
def dkwX0_setMode_0 : List UInt8 := [27, 184, 0, 128, 154, 0, 5, 2, 172, 42, 180, 0, 33, 180, 0, 132, 61, 28, 27, 160, 0, 6, 16, 254]
abbrev dktX0_setMode_0 : List UInt8 := dkwX0_setMode_0 ++ dktX0_setMode_1
theorem dksX0_setMode_0 : cX0_setMode.data.toList.drop 0 = dktX0_setMode_0 := by decide +kernel
theorem dksX0_setMode_1 : cX0_setMode.data.toList.drop 24 = dktX0_setMode_1 := dk_seg dksX0_setMode_0 24 rfl rfl
theorem dX0_setMode_0 : decode cX0_setMode 0 = .ok (.iload_n 1, 1) := dk_27 (dk_at dksX0_setMode_0 0 rfl rfl)
theorem dX0_setMode_1 : decode cX0_setMode 1 = .ok (.invokestatic 128, 3) := dk_184 0 128 (dk_at dksX0_setMode_0 1 rfl rfl)
theorem dX0_setMode_4 : decode cX0_setMode 4 = .ok (.ifCond .ne 5, 3) := dk_154 0 5 (dk_at dksX0_setMode_0 4 rfl rfl)
theorem dX0_setMode_7 : decode cX0_setMode 7 = .ok (.iconst (-1), 1) := dk_2 (dk_at dksX0_setMode_0 7 rfl rfl)
theorem dX0_setMode_8 : decode cX0_setMode 8 = .ok (.ireturn, 1) := dk_172 (dk_at dksX0_setMode_0 8 rfl rfl)
theorem dX0_setMode_9 : decode cX0_setMode 9 = .ok (.aload_n 0, 1) := dk_42 (dk_at dksX0_setMode_0 9 rfl rfl)
theorem dX0_setMode_10 : decode cX0_setMode 10 = .ok (.getfield 33, 3) := dk_180 0 33 (dk_at dksX0_setMode_0 10 rfl rfl)
theorem dX0_setMode_13 : decode cX0_setMode 13 = .ok (.getfield 132, 3) := dk_180 0 132 (dk_at dksX0_setMode_0 13 rfl rfl)
theorem dX0_setMode_16 : decode cX0_setMode 16 = .ok (.istore_n 2, 1) := dk_61 (dk_at dksX0_setMode_0 16 rfl rfl)
theorem dX0_setMode_17 : decode cX0_setMode 17 = .ok (.iload_n 2, 1) := dk_28 (dk_at dksX0_setMode_0 17 rfl rfl)
theorem dX0_setMode_18 : decode cX0_setMode 18 = .ok (.iload_n 1, 1) := dk_27 (dk_at dksX0_setMode_0 18 rfl rfl)
theorem dX0_setMode_19 : decode cX0_setMode 19 = .ok (.if_icmp .ne 6, 3) := dk_160 0 6 (dk_at dksX0_setMode_0 19 rfl rfl)
theorem dX0_setMode_22 : decode cX0_setMode 22 = .ok (.bipush (-2), 2) := dk_16 254 (dk_at dksX0_setMode_0 22 rfl rfl)
theorem dX0_setMode_24 : decode cX0_setMode 24 = .ok (.ireturn, 1) := dk_172 (dk_at dksX0_setMode_1 0 rfl rfl)
theorem dX0_setMode_25 : decode cX0_setMode 25 = .ok (.aload_n 0, 1) := dk_42 (dk_at dksX0_setMode_1 1 rfl rfl)
theorem dX0_setMode_26 : decode cX0_setMode 26 = .ok (.invokevirtual 135, 3) := dk_182 0 135 (dk_at dksX0_setMode_1 2 rfl rfl)
theorem dX0_setMode_29 : decode cX0_setMode 29 = .ok (.iload_n 1, 1) := dk_27 (dk_at dksX0_setMode_1 5 rfl rfl)
theorem dX0_setMode_30 : decode cX0_setMode 30 = .ok (.putfield 132, 3) := dk_181 0 132 (dk_at dksX0_setMode_1 6 rfl rfl)
theorem dX0_setMode_33 : decode cX0_setMode 33 = .ok (.iload_n 2, 1) := dk_28 (dk_at dksX0_setMode_1 9 rfl rfl)
theorem dX0_setMode_34 : decode cX0_setMode 34 = .ok (.ireturn, 1) := dk_172 (dk_at dksX0_setMode_1 10 rfl rfl)
abbrev cX0_isMode : ByteArray := prog_1_method_7_code
def yX0_isMode : MethodName := ⟨RX0, "isMode", "(I)Z"⟩
def dkwX0_isMode_0 : List UInt8 := [26, 3, 6, 184, 0, 3, 172]
abbrev dktX0_isMode_0 : List UInt8 := dkwX0_isMode_0 ++ []
theorem dksX0_isMode_0 : cX0_isMode.data.toList.drop 0 = dktX0_isMode_0 := by decide +kernel
theorem dX0_isMode_0 : decode cX0_isMode 0 = .ok (.iload_n 0, 1) := dk_26 (dk_at dksX0_isMode_0 0 rfl rfl)
theorem dX0_isMode_1 : decode cX0_isMode 1 = .ok (.iconst 0, 1) := dk_3 (dk_at dksX0_isMode_0 1 rfl rfl)
theorem dX0_isMode_2 : decode cX0_isMode 2 = .ok (.iconst 3, 1) := dk_6 (dk_at dksX0_isMode_0 2 rfl rfl)
theorem dX0_isMode_3 : decode cX0_isMode 3 = .ok (.invokestatic 3, 3) := dk_184 0 3 (dk_at dksX0_isMode_0 3 rfl rfl)
theorem dX0_isMode_6 : decode cX0_isMode 6 = .ok (.ireturn, 1) := dk_172 (dk_at dksX0_isMode_0 6 rfl rfl)
abbrev cX0_act : ByteArray := prog_1_method_15_code
def yX0_act : MethodName := ⟨RX0, "act", "()LBusLine$State;"⟩
def dkwX0_act_1 : List UInt8 := [42, 180, 0, 33, 182, 0, 120, 42, 42, 180, 0, 33, 182, 0, 124, 181, 0, 33, 42, 180, 0, 33, 176]
abbrev dktX0_act_1 : List UInt8 := dkwX0_act_1 ++ []
def dkwX0_act_0 : List UInt8 := [42, 180, 0, 55, 182, 0, 115, 16, 8, 160, 0, 11, 42, 180, 0, 55, 182, 0, 116, 87, 42, 180, 0, 55]
abbrev dktX0_act_0 : List UInt8 := dkwX0_act_0 ++ dktX0_act_1
theorem dksX0_act_0 : cX0_act.data.toList.drop 0 = dktX0_act_0 := by decide +kernel
theorem dksX0_act_1 : cX0_act.data.toList.drop 24 = dktX0_act_1 := dk_seg dksX0_act_0 24 rfl rfl
theorem dX0_act_0 : decode cX0_act 0 = .ok (.aload_n 0, 1) := dk_42 (dk_at dksX0_act_0 0 rfl rfl)
theorem dX0_act_1 : decode cX0_act 1 = .ok (.getfield 55, 3) := dk_180 0 55 (dk_at dksX0_act_0 1 rfl rfl)
theorem dX0_act_4 : decode cX0_act 4 = .ok (.invokevirtual 115, 3) := dk_182 0 115 (dk_at dksX0_act_0 4 rfl rfl)
theorem dX0_act_7 : decode cX0_act 7 = .ok (.bipush 8, 2) := dk_16 8 (dk_at dksX0_act_0 7 rfl rfl)
theorem dX0_act_9 : decode cX0_act 9 = .ok (.if_icmp .ne 11, 3) := dk_160 0 11 (dk_at dksX0_act_0 9 rfl rfl)
theorem dX0_act_12 : decode cX0_act 12 = .ok (.aload_n 0, 1) := dk_42 (dk_at dksX0_act_0 12 rfl rfl)
theorem dX0_act_13 : decode cX0_act 13 = .ok (.getfield 55, 3) := dk_180 0 55 (dk_at dksX0_act_0 13 rfl rfl)
theorem dX0_act_16 : decode cX0_act 16 = .ok (.invokevirtual 116, 3) := dk_182 0 116 (dk_at dksX0_act_0 16 rfl rfl)
theorem dX0_act_19 : decode cX0_act 19 = .ok (.pop, 1) := dk_87 (dk_at dksX0_act_0 19 rfl rfl)
theorem dX0_act_20 : decode cX0_act 20 = .ok (.aload_n 0, 1) := dk_42 (dk_at dksX0_act_0 20 rfl rfl)
theorem dX0_act_21 : decode cX0_act 21 = .ok (.getfield 55, 3) := dk_180 0 55 (dk_at dksX0_act_0 21 rfl rfl)
theorem dX0_act_24 : decode cX0_act 24 = .ok (.aload_n 0, 1) := dk_42 (dk_at dksX0_act_1 0 rfl rfl)
theorem dX0_act_25 : decode cX0_act 25 = .ok (.getfield 33, 3) := dk_180 0 33 (dk_at dksX0_act_1 1 rfl rfl)
theorem dX0_act_28 : decode cX0_act 28 = .ok (.invokevirtual 120, 3) := dk_182 0 120 (dk_at dksX0_act_1 4 rfl rfl)
theorem dX0_act_31 : decode cX0_act 31 = .ok (.aload_n 0, 1) := dk_42 (dk_at dksX0_act_1 7 rfl rfl)
theorem dX0_act_32 : decode cX0_act 32 = .ok (.aload_n 0, 1) := dk_42 (dk_at dksX0_act_1 8 rfl rfl)
theorem dX0_act_33 : decode cX0_act 33 = .ok (.getfield 33, 3) := dk_180 0 33 (dk_at dksX0_act_1 9 rfl rfl)
theorem dX0_act_36 : decode cX0_act 36 = .ok (.invokevirtual 124, 3) := dk_182 0 124 (dk_at dksX0_act_1 12 rfl rfl)
theorem dX0_act_39 : decode cX0_act 39 = .ok (.putfield 33, 3) := dk_181 0 33 (dk_at dksX0_act_1 15 rfl rfl)
theorem dX0_act_42 : decode cX0_act 42 = .ok (.aload_n 0, 1) := dk_42 (dk_at dksX0_act_1 18 rfl rfl)
theorem dX0_act_43 : decode cX0_act 43 = .ok (.getfield 33, 3) := dk_180 0 33 (dk_at dksX0_act_1 19 rfl rfl)
theorem dX0_act_46 : decode cX0_act 46 = .ok (.areturn, 1) := dk_176 (dk_at dksX0_act_1 22 rfl rfl)
abbrev cX0_setPoint : ByteArray := prog_1_method_18_code
def yX0_setPoint : MethodName := ⟨RX0, "setPoint", "(IZ)I"⟩
def dkwX0_setPoint_1 : List UInt8 := [16, 254, 172, 42, 182, 0, 135, 180, 0, 138, 27, 28, 84, 42, 182, 0, 145, 172]
abbrev dktX0_setPoint_1 : List UInt8 := dkwX0_setPoint_1 ++ []
def dkwX0_setPoint_0 : List UInt8 := [42, 27, 182, 0, 142, 154, 0, 5, 2, 172, 42, 180, 0, 33, 180, 0, 138, 27, 51, 28, 160, 0, 6]
abbrev dktX0_setPoint_0 : List UInt8 := dkwX0_setPoint_0 ++ dktX0_setPoint_1
theorem dksX0_setPoint_0 : cX0_setPoint.data.toList.drop 0 = dktX0_setPoint_0 := by decide +kernel
theorem dksX0_setPoint_1 : cX0_setPoint.data.toList.drop 23 = dktX0_setPoint_1 := dk_seg dksX0_setPoint_0 23 rfl rfl
theorem dX0_setPoint_0 : decode cX0_setPoint 0 = .ok (.aload_n 0, 1) := dk_42 (dk_at dksX0_setPoint_0 0 rfl rfl)
theorem dX0_setPoint_1 : decode cX0_setPoint 1 = .ok (.iload_n 1, 1) := dk_27 (dk_at dksX0_setPoint_0 1 rfl rfl)
theorem dX0_setPoint_2 : decode cX0_setPoint 2 = .ok (.invokevirtual 142, 3) := dk_182 0 142 (dk_at dksX0_setPoint_0 2 rfl rfl)
theorem dX0_setPoint_5 : decode cX0_setPoint 5 = .ok (.ifCond .ne 5, 3) := dk_154 0 5 (dk_at dksX0_setPoint_0 5 rfl rfl)
theorem dX0_setPoint_8 : decode cX0_setPoint 8 = .ok (.iconst (-1), 1) := dk_2 (dk_at dksX0_setPoint_0 8 rfl rfl)
theorem dX0_setPoint_9 : decode cX0_setPoint 9 = .ok (.ireturn, 1) := dk_172 (dk_at dksX0_setPoint_0 9 rfl rfl)
theorem dX0_setPoint_10 : decode cX0_setPoint 10 = .ok (.aload_n 0, 1) := dk_42 (dk_at dksX0_setPoint_0 10 rfl rfl)
theorem dX0_setPoint_11 : decode cX0_setPoint 11 = .ok (.getfield 33, 3) := dk_180 0 33 (dk_at dksX0_setPoint_0 11 rfl rfl)
theorem dX0_setPoint_14 : decode cX0_setPoint 14 = .ok (.getfield 138, 3) := dk_180 0 138 (dk_at dksX0_setPoint_0 14 rfl rfl)
theorem dX0_setPoint_17 : decode cX0_setPoint 17 = .ok (.iload_n 1, 1) := dk_27 (dk_at dksX0_setPoint_0 17 rfl rfl)
theorem dX0_setPoint_18 : decode cX0_setPoint 18 = .ok (.baload, 1) := dk_51 (dk_at dksX0_setPoint_0 18 rfl rfl)
theorem dX0_setPoint_19 : decode cX0_setPoint 19 = .ok (.iload_n 2, 1) := dk_28 (dk_at dksX0_setPoint_0 19 rfl rfl)
theorem dX0_setPoint_20 : decode cX0_setPoint 20 = .ok (.if_icmp .ne 6, 3) := dk_160 0 6 (dk_at dksX0_setPoint_0 20 rfl rfl)
theorem dX0_setPoint_23 : decode cX0_setPoint 23 = .ok (.bipush (-2), 2) := dk_16 254 (dk_at dksX0_setPoint_1 0 rfl rfl)
theorem dX0_setPoint_25 : decode cX0_setPoint 25 = .ok (.ireturn, 1) := dk_172 (dk_at dksX0_setPoint_1 2 rfl rfl)
theorem dX0_setPoint_26 : decode cX0_setPoint 26 = .ok (.aload_n 0, 1) := dk_42 (dk_at dksX0_setPoint_1 3 rfl rfl)
theorem dX0_setPoint_27 : decode cX0_setPoint 27 = .ok (.invokevirtual 135, 3) := dk_182 0 135 (dk_at dksX0_setPoint_1 4 rfl rfl)
theorem dX0_setPoint_30 : decode cX0_setPoint 30 = .ok (.getfield 138, 3) := dk_180 0 138 (dk_at dksX0_setPoint_1 7 rfl rfl)
theorem dX0_setPoint_33 : decode cX0_setPoint 33 = .ok (.iload_n 1, 1) := dk_27 (dk_at dksX0_setPoint_1 10 rfl rfl)
theorem dX0_setPoint_34 : decode cX0_setPoint 34 = .ok (.iload_n 2, 1) := dk_28 (dk_at dksX0_setPoint_1 11 rfl rfl)
theorem dX0_setPoint_35 : decode cX0_setPoint 35 = .ok (.bastore, 1) := dk_84 (dk_at dksX0_setPoint_1 12 rfl rfl)
theorem dX0_setPoint_36 : decode cX0_setPoint 36 = .ok (.aload_n 0, 1) := dk_42 (dk_at dksX0_setPoint_1 13 rfl rfl)
theorem dX0_setPoint_37 : decode cX0_setPoint 37 = .ok (.invokevirtual 145, 3) := dk_182 0 145 (dk_at dksX0_setPoint_1 14 rfl rfl)
theorem dX0_setPoint_40 : decode cX0_setPoint 40 = .ok (.ireturn, 1) := dk_172 (dk_at dksX0_setPoint_1 17 rfl rfl)
abbrev cX0_isStop : ByteArray := prog_1_method_4_code
def yX0_isStop : MethodName := ⟨RX0, "isStop", "(I)Z"⟩
def dkwX0_isStop_0 : List UInt8 := [27, 3, 42, 180, 0, 33, 182, 0, 59, 4, 100, 184, 0, 3, 172]
abbrev dktX0_isStop_0 : List UInt8 := dkwX0_isStop_0 ++ []
theorem dksX0_isStop_0 : cX0_isStop.data.toList.drop 0 = dktX0_isStop_0 := by decide +kernel
theorem dX0_isStop_0 : decode cX0_isStop 0 = .ok (.iload_n 1, 1) := dk_27 (dk_at dksX0_isStop_0 0 rfl rfl)
theorem dX0_isStop_1 : decode cX0_isStop 1 = .ok (.iconst 0, 1) := dk_3 (dk_at dksX0_isStop_0 1 rfl rfl)
theorem dX0_isStop_2 : decode cX0_isStop 2 = .ok (.aload_n 0, 1) := dk_42 (dk_at dksX0_isStop_0 2 rfl rfl)
theorem dX0_isStop_3 : decode cX0_isStop 3 = .ok (.getfield 33, 3) := dk_180 0 33 (dk_at dksX0_isStop_0 3 rfl rfl)
theorem dX0_isStop_6 : decode cX0_isStop 6 = .ok (.invokevirtual 59, 3) := dk_182 0 59 (dk_at dksX0_isStop_0 6 rfl rfl)
theorem dX0_isStop_9 : decode cX0_isStop 9 = .ok (.iconst 1, 1) := dk_4 (dk_at dksX0_isStop_0 9 rfl rfl)
theorem dX0_isStop_10 : decode cX0_isStop 10 = .ok (.isub, 1) := dk_100 (dk_at dksX0_isStop_0 10 rfl rfl)
theorem dX0_isStop_11 : decode cX0_isStop 11 = .ok (.invokestatic 3, 3) := dk_184 0 3 (dk_at dksX0_isStop_0 11 rfl rfl)
theorem dX0_isStop_14 : decode cX0_isStop 14 = .ok (.ireturn, 1) := dk_172 (dk_at dksX0_isStop_0 14 rfl rfl)
abbrev cX0_points : ByteArray := prog_1_method_17_code
def yX0_points : MethodName := ⟨RX0, "points", "()I"⟩
def dkwX0_points_1 : List UInt8 := [153, 0, 6, 132, 1, 1, 132, 2, 1, 167, 255, 227, 27, 172]
abbrev dktX0_points_1 : List UInt8 := dkwX0_points_1 ++ []
def dkwX0_points_0 : List UInt8 := [3, 60, 3, 61, 28, 42, 180, 0, 33, 182, 0, 59, 162, 0, 24, 42, 180, 0, 33, 180, 0, 138, 28, 51]
abbrev dktX0_points_0 : List UInt8 := dkwX0_points_0 ++ dktX0_points_1
theorem dksX0_points_0 : cX0_points.data.toList.drop 0 = dktX0_points_0 := by decide +kernel
theorem dksX0_points_1 : cX0_points.data.toList.drop 24 = dktX0_points_1 := dk_seg dksX0_points_0 24 rfl rfl
theorem dX0_points_0 : decode cX0_points 0 = .ok (.iconst 0, 1) := dk_3 (dk_at dksX0_points_0 0 rfl rfl)
theorem dX0_points_1 : decode cX0_points 1 = .ok (.istore_n 1, 1) := dk_60 (dk_at dksX0_points_0 1 rfl rfl)
theorem dX0_points_2 : decode cX0_points 2 = .ok (.iconst 0, 1) := dk_3 (dk_at dksX0_points_0 2 rfl rfl)
theorem dX0_points_3 : decode cX0_points 3 = .ok (.istore_n 2, 1) := dk_61 (dk_at dksX0_points_0 3 rfl rfl)
theorem dX0_points_4 : decode cX0_points 4 = .ok (.iload_n 2, 1) := dk_28 (dk_at dksX0_points_0 4 rfl rfl)
theorem dX0_points_5 : decode cX0_points 5 = .ok (.aload_n 0, 1) := dk_42 (dk_at dksX0_points_0 5 rfl rfl)
theorem dX0_points_6 : decode cX0_points 6 = .ok (.getfield 33, 3) := dk_180 0 33 (dk_at dksX0_points_0 6 rfl rfl)
theorem dX0_points_9 : decode cX0_points 9 = .ok (.invokevirtual 59, 3) := dk_182 0 59 (dk_at dksX0_points_0 9 rfl rfl)
theorem dX0_points_12 : decode cX0_points 12 = .ok (.if_icmp .ge 24, 3) := dk_162 0 24 (dk_at dksX0_points_0 12 rfl rfl)
theorem dX0_points_15 : decode cX0_points 15 = .ok (.aload_n 0, 1) := dk_42 (dk_at dksX0_points_0 15 rfl rfl)
theorem dX0_points_16 : decode cX0_points 16 = .ok (.getfield 33, 3) := dk_180 0 33 (dk_at dksX0_points_0 16 rfl rfl)
theorem dX0_points_19 : decode cX0_points 19 = .ok (.getfield 138, 3) := dk_180 0 138 (dk_at dksX0_points_0 19 rfl rfl)
theorem dX0_points_22 : decode cX0_points 22 = .ok (.iload_n 2, 1) := dk_28 (dk_at dksX0_points_0 22 rfl rfl)
theorem dX0_points_23 : decode cX0_points 23 = .ok (.baload, 1) := dk_51 (dk_at dksX0_points_0 23 rfl rfl)
theorem dX0_points_24 : decode cX0_points 24 = .ok (.ifCond .eq 6, 3) := dk_153 0 6 (dk_at dksX0_points_1 0 rfl rfl)
theorem dX0_points_27 : decode cX0_points 27 = .ok (.iinc 1 1, 3) := dk_132 1 1 (dk_at dksX0_points_1 3 rfl rfl)
theorem dX0_points_30 : decode cX0_points 30 = .ok (.iinc 2 1, 3) := dk_132 2 1 (dk_at dksX0_points_1 6 rfl rfl)
theorem dX0_points_33 : decode cX0_points 33 = .ok (.goto (-29), 3) := dk_167 255 227 (dk_at dksX0_points_1 9 rfl rfl)
theorem dX0_points_36 : decode cX0_points 36 = .ok (.iload_n 1, 1) := dk_27 (dk_at dksX0_points_1 12 rfl rfl)
theorem dX0_points_37 : decode cX0_points 37 = .ok (.ireturn, 1) := dk_172 (dk_at dksX0_points_1 13 rfl rfl)
abbrev cX0_setNumber : ByteArray := prog_1_method_19_code
def yX0_setNumber : MethodName := ⟨RX0, "setNumber", "(II)I"⟩
def dkwX0_setNumber_2 : List UInt8 := [29, 172]
abbrev dktX0_setNumber_2 : List UInt8 := dkwX0_setNumber_2 ++ []
def dkwX0_setNumber_1 : List UInt8 := [180, 0, 152, 27, 46, 62, 29, 28, 160, 0, 6, 16, 254, 172, 42, 182, 0, 135, 180, 0, 152, 27, 28, 79]
abbrev dktX0_setNumber_1 : List UInt8 := dkwX0_setNumber_1 ++ dktX0_setNumber_2
def dkwX0_setNumber_0 : List UInt8 := [27, 3, 6, 184, 0, 3, 153, 0, 11, 27, 28, 184, 0, 148, 154, 0, 5, 2, 172, 42, 180, 0, 33]
abbrev dktX0_setNumber_0 : List UInt8 := dkwX0_setNumber_0 ++ dktX0_setNumber_1
theorem dksX0_setNumber_0 : cX0_setNumber.data.toList.drop 0 = dktX0_setNumber_0 := by decide +kernel
theorem dksX0_setNumber_1 : cX0_setNumber.data.toList.drop 23 = dktX0_setNumber_1 := dk_seg dksX0_setNumber_0 23 rfl rfl
theorem dksX0_setNumber_2 : cX0_setNumber.data.toList.drop 47 = dktX0_setNumber_2 := dk_seg dksX0_setNumber_1 24 rfl rfl
theorem dX0_setNumber_0 : decode cX0_setNumber 0 = .ok (.iload_n 1, 1) := dk_27 (dk_at dksX0_setNumber_0 0 rfl rfl)
theorem dX0_setNumber_1 : decode cX0_setNumber 1 = .ok (.iconst 0, 1) := dk_3 (dk_at dksX0_setNumber_0 1 rfl rfl)
theorem dX0_setNumber_2 : decode cX0_setNumber 2 = .ok (.iconst 3, 1) := dk_6 (dk_at dksX0_setNumber_0 2 rfl rfl)
theorem dX0_setNumber_3 : decode cX0_setNumber 3 = .ok (.invokestatic 3, 3) := dk_184 0 3 (dk_at dksX0_setNumber_0 3 rfl rfl)
theorem dX0_setNumber_6 : decode cX0_setNumber 6 = .ok (.ifCond .eq 11, 3) := dk_153 0 11 (dk_at dksX0_setNumber_0 6 rfl rfl)
theorem dX0_setNumber_9 : decode cX0_setNumber 9 = .ok (.iload_n 1, 1) := dk_27 (dk_at dksX0_setNumber_0 9 rfl rfl)
theorem dX0_setNumber_10 : decode cX0_setNumber 10 = .ok (.iload_n 2, 1) := dk_28 (dk_at dksX0_setNumber_0 10 rfl rfl)
theorem dX0_setNumber_11 : decode cX0_setNumber 11 = .ok (.invokestatic 148, 3) := dk_184 0 148 (dk_at dksX0_setNumber_0 11 rfl rfl)
theorem dX0_setNumber_14 : decode cX0_setNumber 14 = .ok (.ifCond .ne 5, 3) := dk_154 0 5 (dk_at dksX0_setNumber_0 14 rfl rfl)
theorem dX0_setNumber_17 : decode cX0_setNumber 17 = .ok (.iconst (-1), 1) := dk_2 (dk_at dksX0_setNumber_0 17 rfl rfl)
theorem dX0_setNumber_18 : decode cX0_setNumber 18 = .ok (.ireturn, 1) := dk_172 (dk_at dksX0_setNumber_0 18 rfl rfl)
theorem dX0_setNumber_19 : decode cX0_setNumber 19 = .ok (.aload_n 0, 1) := dk_42 (dk_at dksX0_setNumber_0 19 rfl rfl)
theorem dX0_setNumber_20 : decode cX0_setNumber 20 = .ok (.getfield 33, 3) := dk_180 0 33 (dk_at dksX0_setNumber_0 20 rfl rfl)
theorem dX0_setNumber_23 : decode cX0_setNumber 23 = .ok (.getfield 152, 3) := dk_180 0 152 (dk_at dksX0_setNumber_1 0 rfl rfl)
theorem dX0_setNumber_26 : decode cX0_setNumber 26 = .ok (.iload_n 1, 1) := dk_27 (dk_at dksX0_setNumber_1 3 rfl rfl)
theorem dX0_setNumber_27 : decode cX0_setNumber 27 = .ok (.iaload, 1) := dk_46 (dk_at dksX0_setNumber_1 4 rfl rfl)
theorem dX0_setNumber_28 : decode cX0_setNumber 28 = .ok (.istore_n 3, 1) := dk_62 (dk_at dksX0_setNumber_1 5 rfl rfl)
theorem dX0_setNumber_29 : decode cX0_setNumber 29 = .ok (.iload_n 3, 1) := dk_29 (dk_at dksX0_setNumber_1 6 rfl rfl)
theorem dX0_setNumber_30 : decode cX0_setNumber 30 = .ok (.iload_n 2, 1) := dk_28 (dk_at dksX0_setNumber_1 7 rfl rfl)
theorem dX0_setNumber_31 : decode cX0_setNumber 31 = .ok (.if_icmp .ne 6, 3) := dk_160 0 6 (dk_at dksX0_setNumber_1 8 rfl rfl)
theorem dX0_setNumber_34 : decode cX0_setNumber 34 = .ok (.bipush (-2), 2) := dk_16 254 (dk_at dksX0_setNumber_1 11 rfl rfl)
theorem dX0_setNumber_36 : decode cX0_setNumber 36 = .ok (.ireturn, 1) := dk_172 (dk_at dksX0_setNumber_1 13 rfl rfl)
theorem dX0_setNumber_37 : decode cX0_setNumber 37 = .ok (.aload_n 0, 1) := dk_42 (dk_at dksX0_setNumber_1 14 rfl rfl)
theorem dX0_setNumber_38 : decode cX0_setNumber 38 = .ok (.invokevirtual 135, 3) := dk_182 0 135 (dk_at dksX0_setNumber_1 15 rfl rfl)
theorem dX0_setNumber_41 : decode cX0_setNumber 41 = .ok (.getfield 152, 3) := dk_180 0 152 (dk_at dksX0_setNumber_1 18 rfl rfl)
theorem dX0_setNumber_44 : decode cX0_setNumber 44 = .ok (.iload_n 1, 1) := dk_27 (dk_at dksX0_setNumber_1 21 rfl rfl)
theorem dX0_setNumber_45 : decode cX0_setNumber 45 = .ok (.iload_n 2, 1) := dk_28 (dk_at dksX0_setNumber_1 22 rfl rfl)
theorem dX0_setNumber_46 : decode cX0_setNumber 46 = .ok (.iastore, 1) := dk_79 (dk_at dksX0_setNumber_1 23 rfl rfl)
theorem dX0_setNumber_47 : decode cX0_setNumber 47 = .ok (.iload_n 3, 1) := dk_29 (dk_at dksX0_setNumber_2 0 rfl rfl)
theorem dX0_setNumber_48 : decode cX0_setNumber 48 = .ok (.ireturn, 1) := dk_172 (dk_at dksX0_setNumber_2 1 rfl rfl)
abbrev cX0_isNumber : ByteArray := prog_1_method_2_code
def yX0_isNumber : MethodName := ⟨RX0, "isNumber", "(II)Z"⟩
def dkwX0_isNumber_3 : List UInt8 := [17, 39, 15, 184, 0, 3, 172]
abbrev dktX0_isNumber_3 : List UInt8 := dkwX0_isNumber_3 ++ []
def dkwX0_isNumber_2 : List UInt8 := [27, 16, 30, 17, 14, 16, 184, 0, 3, 172, 27, 3, 17, 3, 132, 184, 0, 3, 172, 27, 16, 60]
abbrev dktX0_isNumber_2 : List UInt8 := dkwX0_isNumber_2 ++ dktX0_isNumber_3
def dkwX0_isNumber_1 : List UInt8 := [171, 0, 0, 0, 0, 0, 46, 0, 0, 0, 2, 0, 0, 0, 0, 0, 0, 0, 27, 0, 0, 0, 1, 0, 0, 0, 37]
abbrev dktX0_isNumber_1 : List UInt8 := dkwX0_isNumber_1 ++ dktX0_isNumber_2
def dkwX0_isNumber_0 : List UInt8 := [26]
abbrev dktX0_isNumber_0 : List UInt8 := dkwX0_isNumber_0 ++ dktX0_isNumber_1
theorem dksX0_isNumber_0 : cX0_isNumber.data.toList.drop 0 = dktX0_isNumber_0 := by decide +kernel
theorem dksX0_isNumber_1 : cX0_isNumber.data.toList.drop 1 = dktX0_isNumber_1 := dk_seg dksX0_isNumber_0 1 rfl rfl
theorem dksX0_isNumber_2 : cX0_isNumber.data.toList.drop 28 = dktX0_isNumber_2 := dk_seg dksX0_isNumber_1 27 rfl rfl
theorem dksX0_isNumber_3 : cX0_isNumber.data.toList.drop 50 = dktX0_isNumber_3 := dk_seg dksX0_isNumber_2 22 rfl rfl
theorem dX0_isNumber_0 : decode cX0_isNumber 0 = .ok (.iload_n 0, 1) := dk_26 (dk_at dksX0_isNumber_0 0 rfl rfl)
theorem dX0_isNumber_1 : decode cX0_isNumber 1 = .ok (.lookupswitch 46 #[(0, 27), (1, 37)], 27) := by decide +kernel
theorem dX0_isNumber_28 : decode cX0_isNumber 28 = .ok (.iload_n 1, 1) := dk_27 (dk_at dksX0_isNumber_2 0 rfl rfl)
theorem dX0_isNumber_29 : decode cX0_isNumber 29 = .ok (.bipush 30, 2) := dk_16 30 (dk_at dksX0_isNumber_2 1 rfl rfl)
theorem dX0_isNumber_31 : decode cX0_isNumber 31 = .ok (.sipush 3600, 3) := dk_17 14 16 (dk_at dksX0_isNumber_2 3 rfl rfl)
theorem dX0_isNumber_34 : decode cX0_isNumber 34 = .ok (.invokestatic 3, 3) := dk_184 0 3 (dk_at dksX0_isNumber_2 6 rfl rfl)
theorem dX0_isNumber_37 : decode cX0_isNumber 37 = .ok (.ireturn, 1) := dk_172 (dk_at dksX0_isNumber_2 9 rfl rfl)
theorem dX0_isNumber_38 : decode cX0_isNumber 38 = .ok (.iload_n 1, 1) := dk_27 (dk_at dksX0_isNumber_2 10 rfl rfl)
theorem dX0_isNumber_39 : decode cX0_isNumber 39 = .ok (.iconst 0, 1) := dk_3 (dk_at dksX0_isNumber_2 11 rfl rfl)
theorem dX0_isNumber_40 : decode cX0_isNumber 40 = .ok (.sipush 900, 3) := dk_17 3 132 (dk_at dksX0_isNumber_2 12 rfl rfl)
theorem dX0_isNumber_43 : decode cX0_isNumber 43 = .ok (.invokestatic 3, 3) := dk_184 0 3 (dk_at dksX0_isNumber_2 15 rfl rfl)
theorem dX0_isNumber_46 : decode cX0_isNumber 46 = .ok (.ireturn, 1) := dk_172 (dk_at dksX0_isNumber_2 18 rfl rfl)
theorem dX0_isNumber_47 : decode cX0_isNumber 47 = .ok (.iload_n 1, 1) := dk_27 (dk_at dksX0_isNumber_2 19 rfl rfl)
theorem dX0_isNumber_48 : decode cX0_isNumber 48 = .ok (.bipush 60, 2) := dk_16 60 (dk_at dksX0_isNumber_2 20 rfl rfl)
theorem dX0_isNumber_50 : decode cX0_isNumber 50 = .ok (.sipush 9999, 3) := dk_17 39 15 (dk_at dksX0_isNumber_3 0 rfl rfl)
theorem dX0_isNumber_53 : decode cX0_isNumber 53 = .ok (.invokestatic 3, 3) := dk_184 0 3 (dk_at dksX0_isNumber_3 3 rfl rfl)
theorem dX0_isNumber_56 : decode cX0_isNumber 56 = .ok (.ireturn, 1) := dk_172 (dk_at dksX0_isNumber_3 6 rfl rfl)
abbrev cX0_skip : ByteArray := prog_1_method_20_code
def yX0_skip : MethodName := ⟨RX0, "skip", "(I)I"⟩
def dkwX0_skip_3 : List UInt8 := [181, 0, 159, 44, 180, 0, 172, 172]
abbrev dktX0_skip_3 : List UInt8 := dkwX0_skip_3 ++ []
def dkwX0_skip_2 : List UInt8 := [180, 0, 172, 182, 0, 175, 158, 0, 6, 16, 253, 172, 42, 182, 0, 135, 180, 0, 63, 27, 50, 4]
abbrev dktX0_skip_2 : List UInt8 := dkwX0_skip_2 ++ dktX0_skip_3
def dkwX0_skip_1 : List UInt8 := [153, 0, 6, 16, 254, 172, 44, 180, 0, 165, 4, 159, 0, 6, 16, 252, 172, 44, 180, 0, 168, 44]
abbrev dktX0_skip_1 : List UInt8 := dkwX0_skip_1 ++ dktX0_skip_2
def dkwX0_skip_0 : List UInt8 := [42, 27, 182, 0, 156, 154, 0, 5, 2, 172, 42, 180, 0, 33, 180, 0, 63, 27, 50, 77, 44, 180, 0, 159]
abbrev dktX0_skip_0 : List UInt8 := dkwX0_skip_0 ++ dktX0_skip_1
theorem dksX0_skip_0 : cX0_skip.data.toList.drop 0 = dktX0_skip_0 := by decide +kernel
theorem dksX0_skip_1 : cX0_skip.data.toList.drop 24 = dktX0_skip_1 := dk_seg dksX0_skip_0 24 rfl rfl
theorem dksX0_skip_2 : cX0_skip.data.toList.drop 46 = dktX0_skip_2 := dk_seg dksX0_skip_1 22 rfl rfl
theorem dksX0_skip_3 : cX0_skip.data.toList.drop 68 = dktX0_skip_3 := dk_seg dksX0_skip_2 22 rfl rfl
theorem dX0_skip_0 : decode cX0_skip 0 = .ok (.aload_n 0, 1) := dk_42 (dk_at dksX0_skip_0 0 rfl rfl)
theorem dX0_skip_1 : decode cX0_skip 1 = .ok (.iload_n 1, 1) := dk_27 (dk_at dksX0_skip_0 1 rfl rfl)
theorem dX0_skip_2 : decode cX0_skip 2 = .ok (.invokevirtual 156, 3) := dk_182 0 156 (dk_at dksX0_skip_0 2 rfl rfl)
theorem dX0_skip_5 : decode cX0_skip 5 = .ok (.ifCond .ne 5, 3) := dk_154 0 5 (dk_at dksX0_skip_0 5 rfl rfl)
theorem dX0_skip_8 : decode cX0_skip 8 = .ok (.iconst (-1), 1) := dk_2 (dk_at dksX0_skip_0 8 rfl rfl)
theorem dX0_skip_9 : decode cX0_skip 9 = .ok (.ireturn, 1) := dk_172 (dk_at dksX0_skip_0 9 rfl rfl)
theorem dX0_skip_10 : decode cX0_skip 10 = .ok (.aload_n 0, 1) := dk_42 (dk_at dksX0_skip_0 10 rfl rfl)
theorem dX0_skip_11 : decode cX0_skip 11 = .ok (.getfield 33, 3) := dk_180 0 33 (dk_at dksX0_skip_0 11 rfl rfl)
theorem dX0_skip_14 : decode cX0_skip 14 = .ok (.getfield 63, 3) := dk_180 0 63 (dk_at dksX0_skip_0 14 rfl rfl)
theorem dX0_skip_17 : decode cX0_skip 17 = .ok (.iload_n 1, 1) := dk_27 (dk_at dksX0_skip_0 17 rfl rfl)
theorem dX0_skip_18 : decode cX0_skip 18 = .ok (.aaload, 1) := dk_50 (dk_at dksX0_skip_0 18 rfl rfl)
theorem dX0_skip_19 : decode cX0_skip 19 = .ok (.astore_n 2, 1) := dk_77 (dk_at dksX0_skip_0 19 rfl rfl)
theorem dX0_skip_20 : decode cX0_skip 20 = .ok (.aload_n 2, 1) := dk_44 (dk_at dksX0_skip_0 20 rfl rfl)
theorem dX0_skip_21 : decode cX0_skip 21 = .ok (.getfield 159, 3) := dk_180 0 159 (dk_at dksX0_skip_0 21 rfl rfl)
theorem dX0_skip_24 : decode cX0_skip 24 = .ok (.ifCond .eq 6, 3) := dk_153 0 6 (dk_at dksX0_skip_1 0 rfl rfl)
theorem dX0_skip_27 : decode cX0_skip 27 = .ok (.bipush (-2), 2) := dk_16 254 (dk_at dksX0_skip_1 3 rfl rfl)
theorem dX0_skip_29 : decode cX0_skip 29 = .ok (.ireturn, 1) := dk_172 (dk_at dksX0_skip_1 5 rfl rfl)
theorem dX0_skip_30 : decode cX0_skip 30 = .ok (.aload_n 2, 1) := dk_44 (dk_at dksX0_skip_1 6 rfl rfl)
theorem dX0_skip_31 : decode cX0_skip 31 = .ok (.getfield 165, 3) := dk_180 0 165 (dk_at dksX0_skip_1 7 rfl rfl)
theorem dX0_skip_34 : decode cX0_skip 34 = .ok (.iconst 1, 1) := dk_4 (dk_at dksX0_skip_1 10 rfl rfl)
theorem dX0_skip_35 : decode cX0_skip 35 = .ok (.if_icmp .eq 6, 3) := dk_159 0 6 (dk_at dksX0_skip_1 11 rfl rfl)
theorem dX0_skip_38 : decode cX0_skip 38 = .ok (.bipush (-4), 2) := dk_16 252 (dk_at dksX0_skip_1 14 rfl rfl)
theorem dX0_skip_40 : decode cX0_skip 40 = .ok (.ireturn, 1) := dk_172 (dk_at dksX0_skip_1 16 rfl rfl)
theorem dX0_skip_41 : decode cX0_skip 41 = .ok (.aload_n 2, 1) := dk_44 (dk_at dksX0_skip_1 17 rfl rfl)
theorem dX0_skip_42 : decode cX0_skip 42 = .ok (.getfield 168, 3) := dk_180 0 168 (dk_at dksX0_skip_1 18 rfl rfl)
theorem dX0_skip_45 : decode cX0_skip 45 = .ok (.aload_n 2, 1) := dk_44 (dk_at dksX0_skip_1 21 rfl rfl)
theorem dX0_skip_46 : decode cX0_skip 46 = .ok (.getfield 172, 3) := dk_180 0 172 (dk_at dksX0_skip_2 0 rfl rfl)
theorem dX0_skip_49 : decode cX0_skip 49 = .ok (.invokevirtual 175, 3) := dk_182 0 175 (dk_at dksX0_skip_2 3 rfl rfl)
theorem dX0_skip_52 : decode cX0_skip 52 = .ok (.ifCond .le 6, 3) := dk_158 0 6 (dk_at dksX0_skip_2 6 rfl rfl)
theorem dX0_skip_55 : decode cX0_skip 55 = .ok (.bipush (-3), 2) := dk_16 253 (dk_at dksX0_skip_2 9 rfl rfl)
theorem dX0_skip_57 : decode cX0_skip 57 = .ok (.ireturn, 1) := dk_172 (dk_at dksX0_skip_2 11 rfl rfl)
theorem dX0_skip_58 : decode cX0_skip 58 = .ok (.aload_n 0, 1) := dk_42 (dk_at dksX0_skip_2 12 rfl rfl)
theorem dX0_skip_59 : decode cX0_skip 59 = .ok (.invokevirtual 135, 3) := dk_182 0 135 (dk_at dksX0_skip_2 13 rfl rfl)
theorem dX0_skip_62 : decode cX0_skip 62 = .ok (.getfield 63, 3) := dk_180 0 63 (dk_at dksX0_skip_2 16 rfl rfl)
theorem dX0_skip_65 : decode cX0_skip 65 = .ok (.iload_n 1, 1) := dk_27 (dk_at dksX0_skip_2 19 rfl rfl)
theorem dX0_skip_66 : decode cX0_skip 66 = .ok (.aaload, 1) := dk_50 (dk_at dksX0_skip_2 20 rfl rfl)
theorem dX0_skip_67 : decode cX0_skip 67 = .ok (.iconst 1, 1) := dk_4 (dk_at dksX0_skip_2 21 rfl rfl)
theorem dX0_skip_68 : decode cX0_skip 68 = .ok (.putfield 159, 3) := dk_181 0 159 (dk_at dksX0_skip_3 0 rfl rfl)
theorem dX0_skip_71 : decode cX0_skip 71 = .ok (.aload_n 2, 1) := dk_44 (dk_at dksX0_skip_3 3 rfl rfl)
theorem dX0_skip_72 : decode cX0_skip 72 = .ok (.getfield 172, 3) := dk_180 0 172 (dk_at dksX0_skip_3 4 rfl rfl)
theorem dX0_skip_75 : decode cX0_skip 75 = .ok (.ireturn, 1) := dk_172 (dk_at dksX0_skip_3 7 rfl rfl)
abbrev cX0_isBus : ByteArray := prog_1_method_5_code
def yX0_isBus : MethodName := ⟨RX0, "isBus", "(I)Z"⟩
def dkwX0_isBus_0 : List UInt8 := [27, 3, 42, 180, 0, 33, 180, 0, 63, 190, 4, 100, 184, 0, 3, 172]
abbrev dktX0_isBus_0 : List UInt8 := dkwX0_isBus_0 ++ []
theorem dksX0_isBus_0 : cX0_isBus.data.toList.drop 0 = dktX0_isBus_0 := by decide +kernel
theorem dX0_isBus_0 : decode cX0_isBus 0 = .ok (.iload_n 1, 1) := dk_27 (dk_at dksX0_isBus_0 0 rfl rfl)
theorem dX0_isBus_1 : decode cX0_isBus 1 = .ok (.iconst 0, 1) := dk_3 (dk_at dksX0_isBus_0 1 rfl rfl)
theorem dX0_isBus_2 : decode cX0_isBus 2 = .ok (.aload_n 0, 1) := dk_42 (dk_at dksX0_isBus_0 2 rfl rfl)
theorem dX0_isBus_3 : decode cX0_isBus 3 = .ok (.getfield 33, 3) := dk_180 0 33 (dk_at dksX0_isBus_0 3 rfl rfl)
theorem dX0_isBus_6 : decode cX0_isBus 6 = .ok (.getfield 63, 3) := dk_180 0 63 (dk_at dksX0_isBus_0 6 rfl rfl)
theorem dX0_isBus_9 : decode cX0_isBus 9 = .ok (.arraylength, 1) := dk_190 (dk_at dksX0_isBus_0 9 rfl rfl)
theorem dX0_isBus_10 : decode cX0_isBus 10 = .ok (.iconst 1, 1) := dk_4 (dk_at dksX0_isBus_0 10 rfl rfl)
theorem dX0_isBus_11 : decode cX0_isBus 11 = .ok (.isub, 1) := dk_100 (dk_at dksX0_isBus_0 11 rfl rfl)
theorem dX0_isBus_12 : decode cX0_isBus 12 = .ok (.invokestatic 3, 3) := dk_184 0 3 (dk_at dksX0_isBus_0 12 rfl rfl)
theorem dX0_isBus_15 : decode cX0_isBus 15 = .ok (.ireturn, 1) := dk_172 (dk_at dksX0_isBus_0 15 rfl rfl)
abbrev cX0_hold : ByteArray := prog_1_method_21_code
def yX0_hold : MethodName := ⟨RX0, "hold", "(II)I"⟩
def dkwX0_hold_2 : List UInt8 := [180, 0, 33, 42, 180, 0, 33, 180, 0, 63, 27, 50, 28, 182, 0, 185, 172]
abbrev dktX0_hold_2 : List UInt8 := dkwX0_hold_2 ++ []
def dkwX0_hold_1 : List UInt8 := [180, 0, 33, 180, 0, 63, 27, 50, 182, 0, 181, 154, 0, 6, 16, 252, 172, 42, 182, 0, 135, 87, 42]
abbrev dktX0_hold_1 : List UInt8 := dkwX0_hold_1 ++ dktX0_hold_2
def dkwX0_hold_0 : List UInt8 := [42, 27, 182, 0, 156, 153, 0, 14, 28, 4, 17, 3, 132, 184, 0, 3, 154, 0, 5, 2, 172, 42]
abbrev dktX0_hold_0 : List UInt8 := dkwX0_hold_0 ++ dktX0_hold_1
theorem dksX0_hold_0 : cX0_hold.data.toList.drop 0 = dktX0_hold_0 := by decide +kernel
theorem dksX0_hold_1 : cX0_hold.data.toList.drop 22 = dktX0_hold_1 := dk_seg dksX0_hold_0 22 rfl rfl
theorem dksX0_hold_2 : cX0_hold.data.toList.drop 45 = dktX0_hold_2 := dk_seg dksX0_hold_1 23 rfl rfl
theorem dX0_hold_0 : decode cX0_hold 0 = .ok (.aload_n 0, 1) := dk_42 (dk_at dksX0_hold_0 0 rfl rfl)
theorem dX0_hold_1 : decode cX0_hold 1 = .ok (.iload_n 1, 1) := dk_27 (dk_at dksX0_hold_0 1 rfl rfl)
theorem dX0_hold_2 : decode cX0_hold 2 = .ok (.invokevirtual 156, 3) := dk_182 0 156 (dk_at dksX0_hold_0 2 rfl rfl)
theorem dX0_hold_5 : decode cX0_hold 5 = .ok (.ifCond .eq 14, 3) := dk_153 0 14 (dk_at dksX0_hold_0 5 rfl rfl)
theorem dX0_hold_8 : decode cX0_hold 8 = .ok (.iload_n 2, 1) := dk_28 (dk_at dksX0_hold_0 8 rfl rfl)
theorem dX0_hold_9 : decode cX0_hold 9 = .ok (.iconst 1, 1) := dk_4 (dk_at dksX0_hold_0 9 rfl rfl)
theorem dX0_hold_10 : decode cX0_hold 10 = .ok (.sipush 900, 3) := dk_17 3 132 (dk_at dksX0_hold_0 10 rfl rfl)
theorem dX0_hold_13 : decode cX0_hold 13 = .ok (.invokestatic 3, 3) := dk_184 0 3 (dk_at dksX0_hold_0 13 rfl rfl)
theorem dX0_hold_16 : decode cX0_hold 16 = .ok (.ifCond .ne 5, 3) := dk_154 0 5 (dk_at dksX0_hold_0 16 rfl rfl)
theorem dX0_hold_19 : decode cX0_hold 19 = .ok (.iconst (-1), 1) := dk_2 (dk_at dksX0_hold_0 19 rfl rfl)
theorem dX0_hold_20 : decode cX0_hold 20 = .ok (.ireturn, 1) := dk_172 (dk_at dksX0_hold_0 20 rfl rfl)
theorem dX0_hold_21 : decode cX0_hold 21 = .ok (.aload_n 0, 1) := dk_42 (dk_at dksX0_hold_0 21 rfl rfl)
theorem dX0_hold_22 : decode cX0_hold 22 = .ok (.getfield 33, 3) := dk_180 0 33 (dk_at dksX0_hold_1 0 rfl rfl)
theorem dX0_hold_25 : decode cX0_hold 25 = .ok (.getfield 63, 3) := dk_180 0 63 (dk_at dksX0_hold_1 3 rfl rfl)
theorem dX0_hold_28 : decode cX0_hold 28 = .ok (.iload_n 1, 1) := dk_27 (dk_at dksX0_hold_1 6 rfl rfl)
theorem dX0_hold_29 : decode cX0_hold 29 = .ok (.aaload, 1) := dk_50 (dk_at dksX0_hold_1 7 rfl rfl)
theorem dX0_hold_30 : decode cX0_hold 30 = .ok (.invokevirtual 181, 3) := dk_182 0 181 (dk_at dksX0_hold_1 8 rfl rfl)
theorem dX0_hold_33 : decode cX0_hold 33 = .ok (.ifCond .ne 6, 3) := dk_154 0 6 (dk_at dksX0_hold_1 11 rfl rfl)
theorem dX0_hold_36 : decode cX0_hold 36 = .ok (.bipush (-4), 2) := dk_16 252 (dk_at dksX0_hold_1 14 rfl rfl)
theorem dX0_hold_38 : decode cX0_hold 38 = .ok (.ireturn, 1) := dk_172 (dk_at dksX0_hold_1 16 rfl rfl)
theorem dX0_hold_39 : decode cX0_hold 39 = .ok (.aload_n 0, 1) := dk_42 (dk_at dksX0_hold_1 17 rfl rfl)
theorem dX0_hold_40 : decode cX0_hold 40 = .ok (.invokevirtual 135, 3) := dk_182 0 135 (dk_at dksX0_hold_1 18 rfl rfl)
theorem dX0_hold_43 : decode cX0_hold 43 = .ok (.pop, 1) := dk_87 (dk_at dksX0_hold_1 21 rfl rfl)
theorem dX0_hold_44 : decode cX0_hold 44 = .ok (.aload_n 0, 1) := dk_42 (dk_at dksX0_hold_1 22 rfl rfl)
theorem dX0_hold_45 : decode cX0_hold 45 = .ok (.getfield 33, 3) := dk_180 0 33 (dk_at dksX0_hold_2 0 rfl rfl)
theorem dX0_hold_48 : decode cX0_hold 48 = .ok (.aload_n 0, 1) := dk_42 (dk_at dksX0_hold_2 3 rfl rfl)
theorem dX0_hold_49 : decode cX0_hold 49 = .ok (.getfield 33, 3) := dk_180 0 33 (dk_at dksX0_hold_2 4 rfl rfl)
theorem dX0_hold_52 : decode cX0_hold 52 = .ok (.getfield 63, 3) := dk_180 0 63 (dk_at dksX0_hold_2 7 rfl rfl)
theorem dX0_hold_55 : decode cX0_hold 55 = .ok (.iload_n 1, 1) := dk_27 (dk_at dksX0_hold_2 10 rfl rfl)
theorem dX0_hold_56 : decode cX0_hold 56 = .ok (.aaload, 1) := dk_50 (dk_at dksX0_hold_2 11 rfl rfl)
theorem dX0_hold_57 : decode cX0_hold 57 = .ok (.iload_n 2, 1) := dk_28 (dk_at dksX0_hold_2 12 rfl rfl)
theorem dX0_hold_58 : decode cX0_hold 58 = .ok (.invokevirtual 185, 3) := dk_182 0 185 (dk_at dksX0_hold_2 13 rfl rfl)
theorem dX0_hold_61 : decode cX0_hold 61 = .ok (.ireturn, 1) := dk_172 (dk_at dksX0_hold_2 16 rfl rfl)
abbrev cX0_group : ByteArray := prog_1_method_22_code
def yX0_group : MethodName := ⟨RX0, "group", "(III)I"⟩
def dkwX0_group_1 : List UInt8 := [16, 40, 184, 0, 3, 154, 0, 5, 2, 172, 42, 182, 0, 135, 27, 28, 29, 182, 0, 189, 172]
abbrev dktX0_group_1 : List UInt8 := dkwX0_group_1 ++ []
def dkwX0_group_0 : List UInt8 := [42, 27, 182, 0, 142, 153, 0, 26, 42, 28, 182, 0, 142, 153, 0, 18, 27, 28, 159, 0, 13, 29, 4]
abbrev dktX0_group_0 : List UInt8 := dkwX0_group_0 ++ dktX0_group_1
theorem dksX0_group_0 : cX0_group.data.toList.drop 0 = dktX0_group_0 := by decide +kernel
theorem dksX0_group_1 : cX0_group.data.toList.drop 23 = dktX0_group_1 := dk_seg dksX0_group_0 23 rfl rfl
theorem dX0_group_0 : decode cX0_group 0 = .ok (.aload_n 0, 1) := dk_42 (dk_at dksX0_group_0 0 rfl rfl)
theorem dX0_group_1 : decode cX0_group 1 = .ok (.iload_n 1, 1) := dk_27 (dk_at dksX0_group_0 1 rfl rfl)
theorem dX0_group_2 : decode cX0_group 2 = .ok (.invokevirtual 142, 3) := dk_182 0 142 (dk_at dksX0_group_0 2 rfl rfl)
theorem dX0_group_5 : decode cX0_group 5 = .ok (.ifCond .eq 26, 3) := dk_153 0 26 (dk_at dksX0_group_0 5 rfl rfl)
theorem dX0_group_8 : decode cX0_group 8 = .ok (.aload_n 0, 1) := dk_42 (dk_at dksX0_group_0 8 rfl rfl)
theorem dX0_group_9 : decode cX0_group 9 = .ok (.iload_n 2, 1) := dk_28 (dk_at dksX0_group_0 9 rfl rfl)
theorem dX0_group_10 : decode cX0_group 10 = .ok (.invokevirtual 142, 3) := dk_182 0 142 (dk_at dksX0_group_0 10 rfl rfl)
theorem dX0_group_13 : decode cX0_group 13 = .ok (.ifCond .eq 18, 3) := dk_153 0 18 (dk_at dksX0_group_0 13 rfl rfl)
theorem dX0_group_16 : decode cX0_group 16 = .ok (.iload_n 1, 1) := dk_27 (dk_at dksX0_group_0 16 rfl rfl)
theorem dX0_group_17 : decode cX0_group 17 = .ok (.iload_n 2, 1) := dk_28 (dk_at dksX0_group_0 17 rfl rfl)
theorem dX0_group_18 : decode cX0_group 18 = .ok (.if_icmp .eq 13, 3) := dk_159 0 13 (dk_at dksX0_group_0 18 rfl rfl)
theorem dX0_group_21 : decode cX0_group 21 = .ok (.iload_n 3, 1) := dk_29 (dk_at dksX0_group_0 21 rfl rfl)
theorem dX0_group_22 : decode cX0_group 22 = .ok (.iconst 1, 1) := dk_4 (dk_at dksX0_group_0 22 rfl rfl)
theorem dX0_group_23 : decode cX0_group 23 = .ok (.bipush 40, 2) := dk_16 40 (dk_at dksX0_group_1 0 rfl rfl)
theorem dX0_group_25 : decode cX0_group 25 = .ok (.invokestatic 3, 3) := dk_184 0 3 (dk_at dksX0_group_1 2 rfl rfl)
theorem dX0_group_28 : decode cX0_group 28 = .ok (.ifCond .ne 5, 3) := dk_154 0 5 (dk_at dksX0_group_1 5 rfl rfl)
theorem dX0_group_31 : decode cX0_group 31 = .ok (.iconst (-1), 1) := dk_2 (dk_at dksX0_group_1 8 rfl rfl)
theorem dX0_group_32 : decode cX0_group 32 = .ok (.ireturn, 1) := dk_172 (dk_at dksX0_group_1 9 rfl rfl)
theorem dX0_group_33 : decode cX0_group 33 = .ok (.aload_n 0, 1) := dk_42 (dk_at dksX0_group_1 10 rfl rfl)
theorem dX0_group_34 : decode cX0_group 34 = .ok (.invokevirtual 135, 3) := dk_182 0 135 (dk_at dksX0_group_1 11 rfl rfl)
theorem dX0_group_37 : decode cX0_group 37 = .ok (.iload_n 1, 1) := dk_27 (dk_at dksX0_group_1 14 rfl rfl)
theorem dX0_group_38 : decode cX0_group 38 = .ok (.iload_n 2, 1) := dk_28 (dk_at dksX0_group_1 15 rfl rfl)
theorem dX0_group_39 : decode cX0_group 39 = .ok (.iload_n 3, 1) := dk_29 (dk_at dksX0_group_1 16 rfl rfl)
theorem dX0_group_40 : decode cX0_group 40 = .ok (.invokevirtual 189, 3) := dk_182 0 189 (dk_at dksX0_group_1 17 rfl rfl)
theorem dX0_group_43 : decode cX0_group 43 = .ok (.ireturn, 1) := dk_172 (dk_at dksX0_group_1 20 rfl rfl)
abbrev cX0_pass : ByteArray := prog_1_method_23_code
def yX0_pass : MethodName := ⟨RX0, "pass", "(I)I"⟩
def dkwX0_pass_1 : List UInt8 := [27, 182, 0, 203, 180, 0, 196, 184, 0, 199, 28, 100, 172]
abbrev dktX0_pass_1 : List UInt8 := dkwX0_pass_1 ++ []
def dkwX0_pass_0 : List UInt8 := [27, 184, 0, 193, 154, 0, 5, 2, 172, 42, 180, 0, 33, 180, 0, 196, 184, 0, 199, 61, 42, 182, 0, 135]
abbrev dktX0_pass_0 : List UInt8 := dkwX0_pass_0 ++ dktX0_pass_1
theorem dksX0_pass_0 : cX0_pass.data.toList.drop 0 = dktX0_pass_0 := by decide +kernel
theorem dksX0_pass_1 : cX0_pass.data.toList.drop 24 = dktX0_pass_1 := dk_seg dksX0_pass_0 24 rfl rfl
theorem dX0_pass_0 : decode cX0_pass 0 = .ok (.iload_n 1, 1) := dk_27 (dk_at dksX0_pass_0 0 rfl rfl)
theorem dX0_pass_1 : decode cX0_pass 1 = .ok (.invokestatic 193, 3) := dk_184 0 193 (dk_at dksX0_pass_0 1 rfl rfl)
theorem dX0_pass_4 : decode cX0_pass 4 = .ok (.ifCond .ne 5, 3) := dk_154 0 5 (dk_at dksX0_pass_0 4 rfl rfl)
theorem dX0_pass_7 : decode cX0_pass 7 = .ok (.iconst (-1), 1) := dk_2 (dk_at dksX0_pass_0 7 rfl rfl)
theorem dX0_pass_8 : decode cX0_pass 8 = .ok (.ireturn, 1) := dk_172 (dk_at dksX0_pass_0 8 rfl rfl)
theorem dX0_pass_9 : decode cX0_pass 9 = .ok (.aload_n 0, 1) := dk_42 (dk_at dksX0_pass_0 9 rfl rfl)
theorem dX0_pass_10 : decode cX0_pass 10 = .ok (.getfield 33, 3) := dk_180 0 33 (dk_at dksX0_pass_0 10 rfl rfl)
theorem dX0_pass_13 : decode cX0_pass 13 = .ok (.getfield 196, 3) := dk_180 0 196 (dk_at dksX0_pass_0 13 rfl rfl)
theorem dX0_pass_16 : decode cX0_pass 16 = .ok (.invokestatic 199, 3) := dk_184 0 199 (dk_at dksX0_pass_0 16 rfl rfl)
theorem dX0_pass_19 : decode cX0_pass 19 = .ok (.istore_n 2, 1) := dk_61 (dk_at dksX0_pass_0 19 rfl rfl)
theorem dX0_pass_20 : decode cX0_pass 20 = .ok (.aload_n 0, 1) := dk_42 (dk_at dksX0_pass_0 20 rfl rfl)
theorem dX0_pass_21 : decode cX0_pass 21 = .ok (.invokevirtual 135, 3) := dk_182 0 135 (dk_at dksX0_pass_0 21 rfl rfl)
theorem dX0_pass_24 : decode cX0_pass 24 = .ok (.iload_n 1, 1) := dk_27 (dk_at dksX0_pass_1 0 rfl rfl)
theorem dX0_pass_25 : decode cX0_pass 25 = .ok (.invokevirtual 203, 3) := dk_182 0 203 (dk_at dksX0_pass_1 1 rfl rfl)
theorem dX0_pass_28 : decode cX0_pass 28 = .ok (.getfield 196, 3) := dk_180 0 196 (dk_at dksX0_pass_1 4 rfl rfl)
theorem dX0_pass_31 : decode cX0_pass 31 = .ok (.invokestatic 199, 3) := dk_184 0 199 (dk_at dksX0_pass_1 7 rfl rfl)
theorem dX0_pass_34 : decode cX0_pass 34 = .ok (.iload_n 2, 1) := dk_28 (dk_at dksX0_pass_1 10 rfl rfl)
theorem dX0_pass_35 : decode cX0_pass 35 = .ok (.isub, 1) := dk_100 (dk_at dksX0_pass_1 11 rfl rfl)
theorem dX0_pass_36 : decode cX0_pass 36 = .ok (.ireturn, 1) := dk_172 (dk_at dksX0_pass_1 12 rfl rfl)
abbrev cX0_isPass : ByteArray := prog_1_method_8_code
def yX0_isPass : MethodName := ⟨RX0, "isPass", "(I)Z"⟩
def dkwX0_isPass_0 : List UInt8 := [26, 4, 17, 14, 16, 184, 0, 3, 172]
abbrev dktX0_isPass_0 : List UInt8 := dkwX0_isPass_0 ++ []
theorem dksX0_isPass_0 : cX0_isPass.data.toList.drop 0 = dktX0_isPass_0 := by decide +kernel
theorem dX0_isPass_0 : decode cX0_isPass 0 = .ok (.iload_n 0, 1) := dk_26 (dk_at dksX0_isPass_0 0 rfl rfl)
theorem dX0_isPass_1 : decode cX0_isPass 1 = .ok (.iconst 1, 1) := dk_4 (dk_at dksX0_isPass_0 1 rfl rfl)
theorem dX0_isPass_2 : decode cX0_isPass 2 = .ok (.sipush 3600, 3) := dk_17 14 16 (dk_at dksX0_isPass_0 2 rfl rfl)
theorem dX0_isPass_5 : decode cX0_isPass 5 = .ok (.invokestatic 3, 3) := dk_184 0 3 (dk_at dksX0_isPass_0 5 rfl rfl)
theorem dX0_isPass_8 : decode cX0_isPass 8 = .ok (.ireturn, 1) := dk_172 (dk_at dksX0_isPass_0 8 rfl rfl)
abbrev cX0_keep : ByteArray := prog_1_method_24_code
def yX0_keep : MethodName := ⟨RX0, "keep", "(I)I"⟩
def dkwX0_keep_1 : List UInt8 := [180, 0, 33, 180, 0, 210, 172]
abbrev dktX0_keep_1 : List UInt8 := dkwX0_keep_1 ++ []
def dkwX0_keep_0 : List UInt8 := [27, 184, 0, 207, 154, 0, 5, 2, 172, 42, 180, 0, 48, 27, 42, 180, 0, 33, 182, 0, 111, 87, 42]
abbrev dktX0_keep_0 : List UInt8 := dkwX0_keep_0 ++ dktX0_keep_1
theorem dksX0_keep_0 : cX0_keep.data.toList.drop 0 = dktX0_keep_0 := by decide +kernel
theorem dksX0_keep_1 : cX0_keep.data.toList.drop 23 = dktX0_keep_1 := dk_seg dksX0_keep_0 23 rfl rfl
theorem dX0_keep_0 : decode cX0_keep 0 = .ok (.iload_n 1, 1) := dk_27 (dk_at dksX0_keep_0 0 rfl rfl)
theorem dX0_keep_1 : decode cX0_keep 1 = .ok (.invokestatic 207, 3) := dk_184 0 207 (dk_at dksX0_keep_0 1 rfl rfl)
theorem dX0_keep_4 : decode cX0_keep 4 = .ok (.ifCond .ne 5, 3) := dk_154 0 5 (dk_at dksX0_keep_0 4 rfl rfl)
theorem dX0_keep_7 : decode cX0_keep 7 = .ok (.iconst (-1), 1) := dk_2 (dk_at dksX0_keep_0 7 rfl rfl)
theorem dX0_keep_8 : decode cX0_keep 8 = .ok (.ireturn, 1) := dk_172 (dk_at dksX0_keep_0 8 rfl rfl)
theorem dX0_keep_9 : decode cX0_keep 9 = .ok (.aload_n 0, 1) := dk_42 (dk_at dksX0_keep_0 9 rfl rfl)
theorem dX0_keep_10 : decode cX0_keep 10 = .ok (.getfield 48, 3) := dk_180 0 48 (dk_at dksX0_keep_0 10 rfl rfl)
theorem dX0_keep_13 : decode cX0_keep 13 = .ok (.iload_n 1, 1) := dk_27 (dk_at dksX0_keep_0 13 rfl rfl)
theorem dX0_keep_14 : decode cX0_keep 14 = .ok (.aload_n 0, 1) := dk_42 (dk_at dksX0_keep_0 14 rfl rfl)
theorem dX0_keep_15 : decode cX0_keep 15 = .ok (.getfield 33, 3) := dk_180 0 33 (dk_at dksX0_keep_0 15 rfl rfl)
theorem dX0_keep_18 : decode cX0_keep 18 = .ok (.invokevirtual 111, 3) := dk_182 0 111 (dk_at dksX0_keep_0 18 rfl rfl)
theorem dX0_keep_21 : decode cX0_keep 21 = .ok (.pop, 1) := dk_87 (dk_at dksX0_keep_0 21 rfl rfl)
theorem dX0_keep_22 : decode cX0_keep 22 = .ok (.aload_n 0, 1) := dk_42 (dk_at dksX0_keep_0 22 rfl rfl)
theorem dX0_keep_23 : decode cX0_keep 23 = .ok (.getfield 33, 3) := dk_180 0 33 (dk_at dksX0_keep_1 0 rfl rfl)
theorem dX0_keep_26 : decode cX0_keep 26 = .ok (.getfield 210, 3) := dk_180 0 210 (dk_at dksX0_keep_1 3 rfl rfl)
theorem dX0_keep_29 : decode cX0_keep 29 = .ok (.ireturn, 1) := dk_172 (dk_at dksX0_keep_1 6 rfl rfl)
abbrev cX0_isSlot : ByteArray := prog_1_method_9_code
def yX0_isSlot : MethodName := ⟨RX0, "isSlot", "(I)Z"⟩
def dkwX0_isSlot_0 : List UInt8 := [26, 3, 4, 184, 0, 3, 172]
abbrev dktX0_isSlot_0 : List UInt8 := dkwX0_isSlot_0 ++ []
theorem dksX0_isSlot_0 : cX0_isSlot.data.toList.drop 0 = dktX0_isSlot_0 := by decide +kernel
theorem dX0_isSlot_0 : decode cX0_isSlot 0 = .ok (.iload_n 0, 1) := dk_26 (dk_at dksX0_isSlot_0 0 rfl rfl)
theorem dX0_isSlot_1 : decode cX0_isSlot 1 = .ok (.iconst 0, 1) := dk_3 (dk_at dksX0_isSlot_0 1 rfl rfl)
theorem dX0_isSlot_2 : decode cX0_isSlot 2 = .ok (.iconst 1, 1) := dk_4 (dk_at dksX0_isSlot_0 2 rfl rfl)
theorem dX0_isSlot_3 : decode cX0_isSlot 3 = .ok (.invokestatic 3, 3) := dk_184 0 3 (dk_at dksX0_isSlot_0 3 rfl rfl)
theorem dX0_isSlot_6 : decode cX0_isSlot 6 = .ok (.ireturn, 1) := dk_172 (dk_at dksX0_isSlot_0 6 rfl rfl)
abbrev cX0_restore : ByteArray := prog_1_method_25_code
def yX0_restore : MethodName := ⟨RX0, "restore", "(I)I"⟩
def dkwX0_restore_2 : List UInt8 := [180, 0, 210, 172]
abbrev dktX0_restore_2 : List UInt8 := dkwX0_restore_2 ++ []
def dkwX0_restore_1 : List UInt8 := [182, 0, 135, 87, 42, 42, 180, 0, 48, 27, 182, 0, 213, 192, 0, 28, 181, 0, 33, 42, 180, 0, 33]
abbrev dktX0_restore_1 : List UInt8 := dkwX0_restore_1 ++ dktX0_restore_2
def dkwX0_restore_0 : List UInt8 := [27, 184, 0, 207, 154, 0, 5, 2, 172, 42, 180, 0, 48, 27, 182, 0, 213, 199, 0, 6, 16, 254, 172, 42]
abbrev dktX0_restore_0 : List UInt8 := dkwX0_restore_0 ++ dktX0_restore_1
theorem dksX0_restore_0 : cX0_restore.data.toList.drop 0 = dktX0_restore_0 := by decide +kernel
theorem dksX0_restore_1 : cX0_restore.data.toList.drop 24 = dktX0_restore_1 := dk_seg dksX0_restore_0 24 rfl rfl
theorem dksX0_restore_2 : cX0_restore.data.toList.drop 47 = dktX0_restore_2 := dk_seg dksX0_restore_1 23 rfl rfl
theorem dX0_restore_0 : decode cX0_restore 0 = .ok (.iload_n 1, 1) := dk_27 (dk_at dksX0_restore_0 0 rfl rfl)
theorem dX0_restore_1 : decode cX0_restore 1 = .ok (.invokestatic 207, 3) := dk_184 0 207 (dk_at dksX0_restore_0 1 rfl rfl)
theorem dX0_restore_4 : decode cX0_restore 4 = .ok (.ifCond .ne 5, 3) := dk_154 0 5 (dk_at dksX0_restore_0 4 rfl rfl)
theorem dX0_restore_7 : decode cX0_restore 7 = .ok (.iconst (-1), 1) := dk_2 (dk_at dksX0_restore_0 7 rfl rfl)
theorem dX0_restore_8 : decode cX0_restore 8 = .ok (.ireturn, 1) := dk_172 (dk_at dksX0_restore_0 8 rfl rfl)
theorem dX0_restore_9 : decode cX0_restore 9 = .ok (.aload_n 0, 1) := dk_42 (dk_at dksX0_restore_0 9 rfl rfl)
theorem dX0_restore_10 : decode cX0_restore 10 = .ok (.getfield 48, 3) := dk_180 0 48 (dk_at dksX0_restore_0 10 rfl rfl)
theorem dX0_restore_13 : decode cX0_restore 13 = .ok (.iload_n 1, 1) := dk_27 (dk_at dksX0_restore_0 13 rfl rfl)
theorem dX0_restore_14 : decode cX0_restore 14 = .ok (.invokevirtual 213, 3) := dk_182 0 213 (dk_at dksX0_restore_0 14 rfl rfl)
theorem dX0_restore_17 : decode cX0_restore 17 = .ok (.ifnonnull 6, 3) := dk_199 0 6 (dk_at dksX0_restore_0 17 rfl rfl)
theorem dX0_restore_20 : decode cX0_restore 20 = .ok (.bipush (-2), 2) := dk_16 254 (dk_at dksX0_restore_0 20 rfl rfl)
theorem dX0_restore_22 : decode cX0_restore 22 = .ok (.ireturn, 1) := dk_172 (dk_at dksX0_restore_0 22 rfl rfl)
theorem dX0_restore_23 : decode cX0_restore 23 = .ok (.aload_n 0, 1) := dk_42 (dk_at dksX0_restore_0 23 rfl rfl)
theorem dX0_restore_24 : decode cX0_restore 24 = .ok (.invokevirtual 135, 3) := dk_182 0 135 (dk_at dksX0_restore_1 0 rfl rfl)
theorem dX0_restore_27 : decode cX0_restore 27 = .ok (.pop, 1) := dk_87 (dk_at dksX0_restore_1 3 rfl rfl)
theorem dX0_restore_28 : decode cX0_restore 28 = .ok (.aload_n 0, 1) := dk_42 (dk_at dksX0_restore_1 4 rfl rfl)
theorem dX0_restore_29 : decode cX0_restore 29 = .ok (.aload_n 0, 1) := dk_42 (dk_at dksX0_restore_1 5 rfl rfl)
theorem dX0_restore_30 : decode cX0_restore 30 = .ok (.getfield 48, 3) := dk_180 0 48 (dk_at dksX0_restore_1 6 rfl rfl)
theorem dX0_restore_33 : decode cX0_restore 33 = .ok (.iload_n 1, 1) := dk_27 (dk_at dksX0_restore_1 9 rfl rfl)
theorem dX0_restore_34 : decode cX0_restore 34 = .ok (.invokevirtual 213, 3) := dk_182 0 213 (dk_at dksX0_restore_1 10 rfl rfl)
theorem dX0_restore_37 : decode cX0_restore 37 = .ok (.checkcast 28, 3) := dk_192 0 28 (dk_at dksX0_restore_1 13 rfl rfl)
theorem dX0_restore_40 : decode cX0_restore 40 = .ok (.putfield 33, 3) := dk_181 0 33 (dk_at dksX0_restore_1 16 rfl rfl)
theorem dX0_restore_43 : decode cX0_restore 43 = .ok (.aload_n 0, 1) := dk_42 (dk_at dksX0_restore_1 19 rfl rfl)
theorem dX0_restore_44 : decode cX0_restore 44 = .ok (.getfield 33, 3) := dk_180 0 33 (dk_at dksX0_restore_1 20 rfl rfl)
theorem dX0_restore_47 : decode cX0_restore 47 = .ok (.getfield 210, 3) := dk_180 0 210 (dk_at dksX0_restore_2 0 rfl rfl)
theorem dX0_restore_50 : decode cX0_restore 50 = .ok (.ireturn, 1) := dk_172 (dk_at dksX0_restore_2 3 rfl rfl)
abbrev cX0_undo : ByteArray := prog_1_method_26_code
def yX0_undo : MethodName := ⟨RX0, "undo", "()I"⟩
def dkwX0_undo_1 : List UInt8 := [181, 0, 33, 42, 180, 0, 55, 182, 0, 115, 172]
abbrev dktX0_undo_1 : List UInt8 := dkwX0_undo_1 ++ []
def dkwX0_undo_0 : List UInt8 := [42, 180, 0, 55, 182, 0, 217, 153, 0, 5, 2, 172, 42, 42, 180, 0, 55, 182, 0, 220, 192, 0, 28]
abbrev dktX0_undo_0 : List UInt8 := dkwX0_undo_0 ++ dktX0_undo_1
theorem dksX0_undo_0 : cX0_undo.data.toList.drop 0 = dktX0_undo_0 := by decide +kernel
theorem dksX0_undo_1 : cX0_undo.data.toList.drop 23 = dktX0_undo_1 := dk_seg dksX0_undo_0 23 rfl rfl
theorem dX0_undo_0 : decode cX0_undo 0 = .ok (.aload_n 0, 1) := dk_42 (dk_at dksX0_undo_0 0 rfl rfl)
theorem dX0_undo_1 : decode cX0_undo 1 = .ok (.getfield 55, 3) := dk_180 0 55 (dk_at dksX0_undo_0 1 rfl rfl)
theorem dX0_undo_4 : decode cX0_undo 4 = .ok (.invokevirtual 217, 3) := dk_182 0 217 (dk_at dksX0_undo_0 4 rfl rfl)
theorem dX0_undo_7 : decode cX0_undo 7 = .ok (.ifCond .eq 5, 3) := dk_153 0 5 (dk_at dksX0_undo_0 7 rfl rfl)
theorem dX0_undo_10 : decode cX0_undo 10 = .ok (.iconst (-1), 1) := dk_2 (dk_at dksX0_undo_0 10 rfl rfl)
theorem dX0_undo_11 : decode cX0_undo 11 = .ok (.ireturn, 1) := dk_172 (dk_at dksX0_undo_0 11 rfl rfl)
theorem dX0_undo_12 : decode cX0_undo 12 = .ok (.aload_n 0, 1) := dk_42 (dk_at dksX0_undo_0 12 rfl rfl)
theorem dX0_undo_13 : decode cX0_undo 13 = .ok (.aload_n 0, 1) := dk_42 (dk_at dksX0_undo_0 13 rfl rfl)
theorem dX0_undo_14 : decode cX0_undo 14 = .ok (.getfield 55, 3) := dk_180 0 55 (dk_at dksX0_undo_0 14 rfl rfl)
theorem dX0_undo_17 : decode cX0_undo 17 = .ok (.invokevirtual 220, 3) := dk_182 0 220 (dk_at dksX0_undo_0 17 rfl rfl)
theorem dX0_undo_20 : decode cX0_undo 20 = .ok (.checkcast 28, 3) := dk_192 0 28 (dk_at dksX0_undo_0 20 rfl rfl)
theorem dX0_undo_23 : decode cX0_undo 23 = .ok (.putfield 33, 3) := dk_181 0 33 (dk_at dksX0_undo_1 0 rfl rfl)
theorem dX0_undo_26 : decode cX0_undo 26 = .ok (.aload_n 0, 1) := dk_42 (dk_at dksX0_undo_1 3 rfl rfl)
theorem dX0_undo_27 : decode cX0_undo 27 = .ok (.getfield 55, 3) := dk_180 0 55 (dk_at dksX0_undo_1 4 rfl rfl)
theorem dX0_undo_30 : decode cX0_undo 30 = .ok (.invokevirtual 115, 3) := dk_182 0 115 (dk_at dksX0_undo_1 7 rfl rfl)
theorem dX0_undo_33 : decode cX0_undo 33 = .ok (.ireturn, 1) := dk_172 (dk_at dksX0_undo_1 10 rfl rfl)
abbrev cX0_value : ByteArray := prog_1_method_27_code
def yX0_value : MethodName := ⟨RX0, "value", "(I)I"⟩
def dkwX0_value_9 : List UInt8 := [180, 0, 255, 172, 2, 172]
abbrev dktX0_value_9 : List UInt8 := dkwX0_value_9 ++ []
def dkwX0_value_8 : List UInt8 := [180, 0, 247, 172, 42, 180, 0, 33, 180, 0, 250, 172, 42, 180, 0, 33, 180, 0, 253, 172, 42, 180, 0, 33]
abbrev dktX0_value_8 : List UInt8 := dkwX0_value_8 ++ dktX0_value_9
def dkwX0_value_7 : List UInt8 := [180, 0, 238, 172, 42, 180, 0, 33, 180, 0, 241, 172, 42, 180, 0, 33, 180, 0, 244, 172, 42, 180, 0, 33]
abbrev dktX0_value_7 : List UInt8 := dkwX0_value_7 ++ dktX0_value_8
def dkwX0_value_6 : List UInt8 := [180, 0, 132, 172, 42, 180, 0, 33, 182, 0, 232, 172, 42, 180, 0, 33, 182, 0, 235, 172, 42, 180, 0, 33]
abbrev dktX0_value_6 : List UInt8 := dkwX0_value_6 ++ dktX0_value_7
def dkwX0_value_5 : List UInt8 := [180, 0, 67, 180, 0, 229, 172, 42, 180, 0, 33, 180, 0, 152, 27, 16, 8, 100, 46, 172, 42, 180, 0, 33]
abbrev dktX0_value_5 : List UInt8 := dkwX0_value_5 ++ dktX0_value_6
def dkwX0_value_4 : List UInt8 := [180, 0, 67, 180, 0, 223, 172, 42, 180, 0, 33, 180, 0, 67, 180, 0, 226, 172, 42, 180, 0, 33]
abbrev dktX0_value_4 : List UInt8 := dkwX0_value_4 ++ dktX0_value_5
def dkwX0_value_3 : List UInt8 := [172, 42, 180, 0, 33, 180, 0, 67, 180, 0, 71, 182, 0, 74, 172, 42, 182, 0, 145, 172, 42, 180, 0, 33]
abbrev dktX0_value_3 : List UInt8 := dkwX0_value_3 ++ dktX0_value_4
def dkwX0_value_2 : List UInt8 := [42, 180, 0, 33, 180, 0, 210, 172, 42, 180, 0, 33, 182, 0, 59, 172, 42, 180, 0, 33, 180, 0, 63, 190]
abbrev dktX0_value_2 : List UInt8 := dkwX0_value_2 ++ dktX0_value_3
def dkwX0_value_1 : List UInt8 := [170, 0, 0, 0, 0, 1, 17, 0, 0, 0, 0, 0, 0, 0, 21, 0, 0, 0, 103, 0, 0, 0, 111, 0, 0, 0, 119, 0, 0, 0, 128, 0, 0, 0, 142, 0, 0, 0, 147, 0, 0, 0, 158, 0, 0, 0, 169, 0, 0, 0, 180, 0, 0, 0, 180, 0, 0, 0, 180, 0, 0, 0, 180, 0, 0, 0, 193, 0, 0, 0, 201, 0, 0, 0, 209, 0, 0, 0, 217, 0, 0, 0, 225, 0, 0, 0, 233, 0, 0, 0, 241, 0, 0, 0, 249, 0, 0, 1, 1, 0, 0, 1, 9]
abbrev dktX0_value_1 : List UInt8 := dkwX0_value_1 ++ dktX0_value_2
def dkwX0_value_0 : List UInt8 := [27]
abbrev dktX0_value_0 : List UInt8 := dkwX0_value_0 ++ dktX0_value_1
theorem dksX0_value_0 : cX0_value.data.toList.drop 0 = dktX0_value_0 := by decide +kernel
theorem dksX0_value_1 : cX0_value.data.toList.drop 1 = dktX0_value_1 := dk_seg dksX0_value_0 1 rfl rfl
theorem dksX0_value_2 : cX0_value.data.toList.drop 104 = dktX0_value_2 := dk_seg dksX0_value_1 103 rfl rfl
theorem dksX0_value_3 : cX0_value.data.toList.drop 128 = dktX0_value_3 := dk_seg dksX0_value_2 24 rfl rfl
theorem dksX0_value_4 : cX0_value.data.toList.drop 152 = dktX0_value_4 := dk_seg dksX0_value_3 24 rfl rfl
theorem dksX0_value_5 : cX0_value.data.toList.drop 174 = dktX0_value_5 := dk_seg dksX0_value_4 22 rfl rfl
theorem dksX0_value_6 : cX0_value.data.toList.drop 198 = dktX0_value_6 := dk_seg dksX0_value_5 24 rfl rfl
theorem dksX0_value_7 : cX0_value.data.toList.drop 222 = dktX0_value_7 := dk_seg dksX0_value_6 24 rfl rfl
theorem dksX0_value_8 : cX0_value.data.toList.drop 246 = dktX0_value_8 := dk_seg dksX0_value_7 24 rfl rfl
theorem dksX0_value_9 : cX0_value.data.toList.drop 270 = dktX0_value_9 := dk_seg dksX0_value_8 24 rfl rfl
theorem dX0_value_0 : decode cX0_value 0 = .ok (.iload_n 1, 1) := dk_27 (dk_at dksX0_value_0 0 rfl rfl)
theorem dX0_value_1 : decode cX0_value 1 = .ok (.tableswitch 273 0 21 #[103, 111, 119, 128, 142, 147, 158, 169, 180, 180, 180, 180, 193, 201, 209, 217, 225, 233, 241, 249, 257, 265], 103) := by decide +kernel
theorem dX0_value_104 : decode cX0_value 104 = .ok (.aload_n 0, 1) := dk_42 (dk_at dksX0_value_2 0 rfl rfl)
theorem dX0_value_105 : decode cX0_value 105 = .ok (.getfield 33, 3) := dk_180 0 33 (dk_at dksX0_value_2 1 rfl rfl)
theorem dX0_value_108 : decode cX0_value 108 = .ok (.getfield 210, 3) := dk_180 0 210 (dk_at dksX0_value_2 4 rfl rfl)
theorem dX0_value_111 : decode cX0_value 111 = .ok (.ireturn, 1) := dk_172 (dk_at dksX0_value_2 7 rfl rfl)
theorem dX0_value_112 : decode cX0_value 112 = .ok (.aload_n 0, 1) := dk_42 (dk_at dksX0_value_2 8 rfl rfl)
theorem dX0_value_113 : decode cX0_value 113 = .ok (.getfield 33, 3) := dk_180 0 33 (dk_at dksX0_value_2 9 rfl rfl)
theorem dX0_value_116 : decode cX0_value 116 = .ok (.invokevirtual 59, 3) := dk_182 0 59 (dk_at dksX0_value_2 12 rfl rfl)
theorem dX0_value_119 : decode cX0_value 119 = .ok (.ireturn, 1) := dk_172 (dk_at dksX0_value_2 15 rfl rfl)
theorem dX0_value_120 : decode cX0_value 120 = .ok (.aload_n 0, 1) := dk_42 (dk_at dksX0_value_2 16 rfl rfl)
theorem dX0_value_121 : decode cX0_value 121 = .ok (.getfield 33, 3) := dk_180 0 33 (dk_at dksX0_value_2 17 rfl rfl)
theorem dX0_value_124 : decode cX0_value 124 = .ok (.getfield 63, 3) := dk_180 0 63 (dk_at dksX0_value_2 20 rfl rfl)
theorem dX0_value_127 : decode cX0_value 127 = .ok (.arraylength, 1) := dk_190 (dk_at dksX0_value_2 23 rfl rfl)
theorem dX0_value_128 : decode cX0_value 128 = .ok (.ireturn, 1) := dk_172 (dk_at dksX0_value_3 0 rfl rfl)
theorem dX0_value_129 : decode cX0_value 129 = .ok (.aload_n 0, 1) := dk_42 (dk_at dksX0_value_3 1 rfl rfl)
theorem dX0_value_130 : decode cX0_value 130 = .ok (.getfield 33, 3) := dk_180 0 33 (dk_at dksX0_value_3 2 rfl rfl)
theorem dX0_value_133 : decode cX0_value 133 = .ok (.getfield 67, 3) := dk_180 0 67 (dk_at dksX0_value_3 5 rfl rfl)
theorem dX0_value_136 : decode cX0_value 136 = .ok (.getfield 71, 3) := dk_180 0 71 (dk_at dksX0_value_3 8 rfl rfl)
theorem dX0_value_139 : decode cX0_value 139 = .ok (.invokevirtual 74, 3) := dk_182 0 74 (dk_at dksX0_value_3 11 rfl rfl)
theorem dX0_value_142 : decode cX0_value 142 = .ok (.ireturn, 1) := dk_172 (dk_at dksX0_value_3 14 rfl rfl)
theorem dX0_value_143 : decode cX0_value 143 = .ok (.aload_n 0, 1) := dk_42 (dk_at dksX0_value_3 15 rfl rfl)
theorem dX0_value_144 : decode cX0_value 144 = .ok (.invokevirtual 145, 3) := dk_182 0 145 (dk_at dksX0_value_3 16 rfl rfl)
theorem dX0_value_147 : decode cX0_value 147 = .ok (.ireturn, 1) := dk_172 (dk_at dksX0_value_3 19 rfl rfl)
theorem dX0_value_148 : decode cX0_value 148 = .ok (.aload_n 0, 1) := dk_42 (dk_at dksX0_value_3 20 rfl rfl)
theorem dX0_value_149 : decode cX0_value 149 = .ok (.getfield 33, 3) := dk_180 0 33 (dk_at dksX0_value_3 21 rfl rfl)
theorem dX0_value_152 : decode cX0_value 152 = .ok (.getfield 67, 3) := dk_180 0 67 (dk_at dksX0_value_4 0 rfl rfl)
theorem dX0_value_155 : decode cX0_value 155 = .ok (.getfield 223, 3) := dk_180 0 223 (dk_at dksX0_value_4 3 rfl rfl)
theorem dX0_value_158 : decode cX0_value 158 = .ok (.ireturn, 1) := dk_172 (dk_at dksX0_value_4 6 rfl rfl)
theorem dX0_value_159 : decode cX0_value 159 = .ok (.aload_n 0, 1) := dk_42 (dk_at dksX0_value_4 7 rfl rfl)
theorem dX0_value_160 : decode cX0_value 160 = .ok (.getfield 33, 3) := dk_180 0 33 (dk_at dksX0_value_4 8 rfl rfl)
theorem dX0_value_163 : decode cX0_value 163 = .ok (.getfield 67, 3) := dk_180 0 67 (dk_at dksX0_value_4 11 rfl rfl)
theorem dX0_value_166 : decode cX0_value 166 = .ok (.getfield 226, 3) := dk_180 0 226 (dk_at dksX0_value_4 14 rfl rfl)
theorem dX0_value_169 : decode cX0_value 169 = .ok (.ireturn, 1) := dk_172 (dk_at dksX0_value_4 17 rfl rfl)
theorem dX0_value_170 : decode cX0_value 170 = .ok (.aload_n 0, 1) := dk_42 (dk_at dksX0_value_4 18 rfl rfl)
theorem dX0_value_171 : decode cX0_value 171 = .ok (.getfield 33, 3) := dk_180 0 33 (dk_at dksX0_value_4 19 rfl rfl)
theorem dX0_value_174 : decode cX0_value 174 = .ok (.getfield 67, 3) := dk_180 0 67 (dk_at dksX0_value_5 0 rfl rfl)
theorem dX0_value_177 : decode cX0_value 177 = .ok (.getfield 229, 3) := dk_180 0 229 (dk_at dksX0_value_5 3 rfl rfl)
theorem dX0_value_180 : decode cX0_value 180 = .ok (.ireturn, 1) := dk_172 (dk_at dksX0_value_5 6 rfl rfl)
theorem dX0_value_181 : decode cX0_value 181 = .ok (.aload_n 0, 1) := dk_42 (dk_at dksX0_value_5 7 rfl rfl)
theorem dX0_value_182 : decode cX0_value 182 = .ok (.getfield 33, 3) := dk_180 0 33 (dk_at dksX0_value_5 8 rfl rfl)
theorem dX0_value_185 : decode cX0_value 185 = .ok (.getfield 152, 3) := dk_180 0 152 (dk_at dksX0_value_5 11 rfl rfl)
theorem dX0_value_188 : decode cX0_value 188 = .ok (.iload_n 1, 1) := dk_27 (dk_at dksX0_value_5 14 rfl rfl)
theorem dX0_value_189 : decode cX0_value 189 = .ok (.bipush 8, 2) := dk_16 8 (dk_at dksX0_value_5 15 rfl rfl)
theorem dX0_value_191 : decode cX0_value 191 = .ok (.isub, 1) := dk_100 (dk_at dksX0_value_5 17 rfl rfl)
theorem dX0_value_192 : decode cX0_value 192 = .ok (.iaload, 1) := dk_46 (dk_at dksX0_value_5 18 rfl rfl)
theorem dX0_value_193 : decode cX0_value 193 = .ok (.ireturn, 1) := dk_172 (dk_at dksX0_value_5 19 rfl rfl)
theorem dX0_value_194 : decode cX0_value 194 = .ok (.aload_n 0, 1) := dk_42 (dk_at dksX0_value_5 20 rfl rfl)
theorem dX0_value_195 : decode cX0_value 195 = .ok (.getfield 33, 3) := dk_180 0 33 (dk_at dksX0_value_5 21 rfl rfl)
theorem dX0_value_198 : decode cX0_value 198 = .ok (.getfield 132, 3) := dk_180 0 132 (dk_at dksX0_value_6 0 rfl rfl)
theorem dX0_value_201 : decode cX0_value 201 = .ok (.ireturn, 1) := dk_172 (dk_at dksX0_value_6 3 rfl rfl)
theorem dX0_value_202 : decode cX0_value 202 = .ok (.aload_n 0, 1) := dk_42 (dk_at dksX0_value_6 4 rfl rfl)
theorem dX0_value_203 : decode cX0_value 203 = .ok (.getfield 33, 3) := dk_180 0 33 (dk_at dksX0_value_6 5 rfl rfl)
theorem dX0_value_206 : decode cX0_value 206 = .ok (.invokevirtual 232, 3) := dk_182 0 232 (dk_at dksX0_value_6 8 rfl rfl)
theorem dX0_value_209 : decode cX0_value 209 = .ok (.ireturn, 1) := dk_172 (dk_at dksX0_value_6 11 rfl rfl)
theorem dX0_value_210 : decode cX0_value 210 = .ok (.aload_n 0, 1) := dk_42 (dk_at dksX0_value_6 12 rfl rfl)
theorem dX0_value_211 : decode cX0_value 211 = .ok (.getfield 33, 3) := dk_180 0 33 (dk_at dksX0_value_6 13 rfl rfl)
theorem dX0_value_214 : decode cX0_value 214 = .ok (.invokevirtual 235, 3) := dk_182 0 235 (dk_at dksX0_value_6 16 rfl rfl)
theorem dX0_value_217 : decode cX0_value 217 = .ok (.ireturn, 1) := dk_172 (dk_at dksX0_value_6 19 rfl rfl)
theorem dX0_value_218 : decode cX0_value 218 = .ok (.aload_n 0, 1) := dk_42 (dk_at dksX0_value_6 20 rfl rfl)
theorem dX0_value_219 : decode cX0_value 219 = .ok (.getfield 33, 3) := dk_180 0 33 (dk_at dksX0_value_6 21 rfl rfl)
theorem dX0_value_222 : decode cX0_value 222 = .ok (.getfield 238, 3) := dk_180 0 238 (dk_at dksX0_value_7 0 rfl rfl)
theorem dX0_value_225 : decode cX0_value 225 = .ok (.ireturn, 1) := dk_172 (dk_at dksX0_value_7 3 rfl rfl)
theorem dX0_value_226 : decode cX0_value 226 = .ok (.aload_n 0, 1) := dk_42 (dk_at dksX0_value_7 4 rfl rfl)
theorem dX0_value_227 : decode cX0_value 227 = .ok (.getfield 33, 3) := dk_180 0 33 (dk_at dksX0_value_7 5 rfl rfl)
theorem dX0_value_230 : decode cX0_value 230 = .ok (.getfield 241, 3) := dk_180 0 241 (dk_at dksX0_value_7 8 rfl rfl)
theorem dX0_value_233 : decode cX0_value 233 = .ok (.ireturn, 1) := dk_172 (dk_at dksX0_value_7 11 rfl rfl)
theorem dX0_value_234 : decode cX0_value 234 = .ok (.aload_n 0, 1) := dk_42 (dk_at dksX0_value_7 12 rfl rfl)
theorem dX0_value_235 : decode cX0_value 235 = .ok (.getfield 33, 3) := dk_180 0 33 (dk_at dksX0_value_7 13 rfl rfl)
theorem dX0_value_238 : decode cX0_value 238 = .ok (.getfield 244, 3) := dk_180 0 244 (dk_at dksX0_value_7 16 rfl rfl)
theorem dX0_value_241 : decode cX0_value 241 = .ok (.ireturn, 1) := dk_172 (dk_at dksX0_value_7 19 rfl rfl)
theorem dX0_value_242 : decode cX0_value 242 = .ok (.aload_n 0, 1) := dk_42 (dk_at dksX0_value_7 20 rfl rfl)
theorem dX0_value_243 : decode cX0_value 243 = .ok (.getfield 33, 3) := dk_180 0 33 (dk_at dksX0_value_7 21 rfl rfl)
theorem dX0_value_246 : decode cX0_value 246 = .ok (.getfield 247, 3) := dk_180 0 247 (dk_at dksX0_value_8 0 rfl rfl)
theorem dX0_value_249 : decode cX0_value 249 = .ok (.ireturn, 1) := dk_172 (dk_at dksX0_value_8 3 rfl rfl)
theorem dX0_value_250 : decode cX0_value 250 = .ok (.aload_n 0, 1) := dk_42 (dk_at dksX0_value_8 4 rfl rfl)
theorem dX0_value_251 : decode cX0_value 251 = .ok (.getfield 33, 3) := dk_180 0 33 (dk_at dksX0_value_8 5 rfl rfl)
theorem dX0_value_254 : decode cX0_value 254 = .ok (.getfield 250, 3) := dk_180 0 250 (dk_at dksX0_value_8 8 rfl rfl)
theorem dX0_value_257 : decode cX0_value 257 = .ok (.ireturn, 1) := dk_172 (dk_at dksX0_value_8 11 rfl rfl)
theorem dX0_value_258 : decode cX0_value 258 = .ok (.aload_n 0, 1) := dk_42 (dk_at dksX0_value_8 12 rfl rfl)
theorem dX0_value_259 : decode cX0_value 259 = .ok (.getfield 33, 3) := dk_180 0 33 (dk_at dksX0_value_8 13 rfl rfl)
theorem dX0_value_262 : decode cX0_value 262 = .ok (.getfield 253, 3) := dk_180 0 253 (dk_at dksX0_value_8 16 rfl rfl)
theorem dX0_value_265 : decode cX0_value 265 = .ok (.ireturn, 1) := dk_172 (dk_at dksX0_value_8 19 rfl rfl)
theorem dX0_value_266 : decode cX0_value 266 = .ok (.aload_n 0, 1) := dk_42 (dk_at dksX0_value_8 20 rfl rfl)
theorem dX0_value_267 : decode cX0_value 267 = .ok (.getfield 33, 3) := dk_180 0 33 (dk_at dksX0_value_8 21 rfl rfl)
theorem dX0_value_270 : decode cX0_value 270 = .ok (.getfield 255, 3) := dk_180 0 255 (dk_at dksX0_value_9 0 rfl rfl)
theorem dX0_value_273 : decode cX0_value 273 = .ok (.ireturn, 1) := dk_172 (dk_at dksX0_value_9 3 rfl rfl)
theorem dX0_value_274 : decode cX0_value 274 = .ok (.iconst (-1), 1) := dk_2 (dk_at dksX0_value_9 4 rfl rfl)
theorem dX0_value_275 : decode cX0_value 275 = .ok (.ireturn, 1) := dk_172 (dk_at dksX0_value_9 5 rfl rfl)
abbrev cX0_stop : ByteArray := prog_1_method_29_code
def yX0_stop : MethodName := ⟨RX0, "stop", "(II)I"⟩
def dkwX0_stop_5 : List UInt8 := [180, 0, 33, 180, 1, 20, 27, 50, 180, 1, 29, 172, 42, 27, 182, 1, 32, 172, 2, 172]
abbrev dktX0_stop_5 : List UInt8 := dkwX0_stop_5 ++ []
def dkwX0_stop_4 : List UInt8 := [180, 1, 13, 27, 50, 180, 1, 17, 172, 42, 180, 0, 33, 180, 1, 20, 27, 50, 180, 1, 24, 172, 42]
abbrev dktX0_stop_4 : List UInt8 := dkwX0_stop_4 ++ dktX0_stop_5
def dkwX0_stop_3 : List UInt8 := [42, 180, 0, 33, 180, 0, 138, 27, 51, 153, 0, 7, 4, 167, 0, 4, 3, 172, 42, 180, 0, 33]
abbrev dktX0_stop_3 : List UInt8 := dkwX0_stop_3 ++ dktX0_stop_4
def dkwX0_stop_2 : List UInt8 := [42, 180, 0, 33, 27, 182, 1, 2, 180, 1, 5, 172, 42, 180, 0, 33, 27, 182, 1, 2, 180, 1, 10, 172]
abbrev dktX0_stop_2 : List UInt8 := dkwX0_stop_2 ++ dktX0_stop_3
def dkwX0_stop_1 : List UInt8 := [170, 0, 0, 0, 128, 0, 0, 0, 0, 0, 0, 0, 6, 0, 0, 0, 41, 0, 0, 0, 53, 0, 0, 0, 65, 0, 0, 0, 83, 0, 0, 0, 96, 0, 0, 0, 109, 0, 0, 0, 122]
abbrev dktX0_stop_1 : List UInt8 := dkwX0_stop_1 ++ dktX0_stop_2
def dkwX0_stop_0 : List UInt8 := [42, 27, 182, 0, 142, 154, 0, 5, 2, 172, 28]
abbrev dktX0_stop_0 : List UInt8 := dkwX0_stop_0 ++ dktX0_stop_1
theorem dksX0_stop_0 : cX0_stop.data.toList.drop 0 = dktX0_stop_0 := by decide +kernel
theorem dksX0_stop_1 : cX0_stop.data.toList.drop 11 = dktX0_stop_1 := dk_seg dksX0_stop_0 11 rfl rfl
theorem dksX0_stop_2 : cX0_stop.data.toList.drop 52 = dktX0_stop_2 := dk_seg dksX0_stop_1 41 rfl rfl
theorem dksX0_stop_3 : cX0_stop.data.toList.drop 76 = dktX0_stop_3 := dk_seg dksX0_stop_2 24 rfl rfl
theorem dksX0_stop_4 : cX0_stop.data.toList.drop 98 = dktX0_stop_4 := dk_seg dksX0_stop_3 22 rfl rfl
theorem dksX0_stop_5 : cX0_stop.data.toList.drop 121 = dktX0_stop_5 := dk_seg dksX0_stop_4 23 rfl rfl
theorem dX0_stop_0 : decode cX0_stop 0 = .ok (.aload_n 0, 1) := dk_42 (dk_at dksX0_stop_0 0 rfl rfl)
theorem dX0_stop_1 : decode cX0_stop 1 = .ok (.iload_n 1, 1) := dk_27 (dk_at dksX0_stop_0 1 rfl rfl)
theorem dX0_stop_2 : decode cX0_stop 2 = .ok (.invokevirtual 142, 3) := dk_182 0 142 (dk_at dksX0_stop_0 2 rfl rfl)
theorem dX0_stop_5 : decode cX0_stop 5 = .ok (.ifCond .ne 5, 3) := dk_154 0 5 (dk_at dksX0_stop_0 5 rfl rfl)
theorem dX0_stop_8 : decode cX0_stop 8 = .ok (.iconst (-1), 1) := dk_2 (dk_at dksX0_stop_0 8 rfl rfl)
theorem dX0_stop_9 : decode cX0_stop 9 = .ok (.ireturn, 1) := dk_172 (dk_at dksX0_stop_0 9 rfl rfl)
theorem dX0_stop_10 : decode cX0_stop 10 = .ok (.iload_n 2, 1) := dk_28 (dk_at dksX0_stop_0 10 rfl rfl)
theorem dX0_stop_11 : decode cX0_stop 11 = .ok (.tableswitch 128 0 6 #[41, 53, 65, 83, 96, 109, 122], 41) := by decide +kernel
theorem dX0_stop_52 : decode cX0_stop 52 = .ok (.aload_n 0, 1) := dk_42 (dk_at dksX0_stop_2 0 rfl rfl)
theorem dX0_stop_53 : decode cX0_stop 53 = .ok (.getfield 33, 3) := dk_180 0 33 (dk_at dksX0_stop_2 1 rfl rfl)
theorem dX0_stop_56 : decode cX0_stop 56 = .ok (.iload_n 1, 1) := dk_27 (dk_at dksX0_stop_2 4 rfl rfl)
theorem dX0_stop_57 : decode cX0_stop 57 = .ok (.invokevirtual 258, 3) := dk_182 1 2 (dk_at dksX0_stop_2 5 rfl rfl)
theorem dX0_stop_60 : decode cX0_stop 60 = .ok (.getfield 261, 3) := dk_180 1 5 (dk_at dksX0_stop_2 8 rfl rfl)
theorem dX0_stop_63 : decode cX0_stop 63 = .ok (.ireturn, 1) := dk_172 (dk_at dksX0_stop_2 11 rfl rfl)
theorem dX0_stop_64 : decode cX0_stop 64 = .ok (.aload_n 0, 1) := dk_42 (dk_at dksX0_stop_2 12 rfl rfl)
theorem dX0_stop_65 : decode cX0_stop 65 = .ok (.getfield 33, 3) := dk_180 0 33 (dk_at dksX0_stop_2 13 rfl rfl)
theorem dX0_stop_68 : decode cX0_stop 68 = .ok (.iload_n 1, 1) := dk_27 (dk_at dksX0_stop_2 16 rfl rfl)
theorem dX0_stop_69 : decode cX0_stop 69 = .ok (.invokevirtual 258, 3) := dk_182 1 2 (dk_at dksX0_stop_2 17 rfl rfl)
theorem dX0_stop_72 : decode cX0_stop 72 = .ok (.getfield 266, 3) := dk_180 1 10 (dk_at dksX0_stop_2 20 rfl rfl)
theorem dX0_stop_75 : decode cX0_stop 75 = .ok (.ireturn, 1) := dk_172 (dk_at dksX0_stop_2 23 rfl rfl)
theorem dX0_stop_76 : decode cX0_stop 76 = .ok (.aload_n 0, 1) := dk_42 (dk_at dksX0_stop_3 0 rfl rfl)
theorem dX0_stop_77 : decode cX0_stop 77 = .ok (.getfield 33, 3) := dk_180 0 33 (dk_at dksX0_stop_3 1 rfl rfl)
theorem dX0_stop_80 : decode cX0_stop 80 = .ok (.getfield 138, 3) := dk_180 0 138 (dk_at dksX0_stop_3 4 rfl rfl)
theorem dX0_stop_83 : decode cX0_stop 83 = .ok (.iload_n 1, 1) := dk_27 (dk_at dksX0_stop_3 7 rfl rfl)
theorem dX0_stop_84 : decode cX0_stop 84 = .ok (.baload, 1) := dk_51 (dk_at dksX0_stop_3 8 rfl rfl)
theorem dX0_stop_85 : decode cX0_stop 85 = .ok (.ifCond .eq 7, 3) := dk_153 0 7 (dk_at dksX0_stop_3 9 rfl rfl)
theorem dX0_stop_88 : decode cX0_stop 88 = .ok (.iconst 1, 1) := dk_4 (dk_at dksX0_stop_3 12 rfl rfl)
theorem dX0_stop_89 : decode cX0_stop 89 = .ok (.goto 4, 3) := dk_167 0 4 (dk_at dksX0_stop_3 13 rfl rfl)
theorem dX0_stop_92 : decode cX0_stop 92 = .ok (.iconst 0, 1) := dk_3 (dk_at dksX0_stop_3 16 rfl rfl)
theorem dX0_stop_93 : decode cX0_stop 93 = .ok (.ireturn, 1) := dk_172 (dk_at dksX0_stop_3 17 rfl rfl)
theorem dX0_stop_94 : decode cX0_stop 94 = .ok (.aload_n 0, 1) := dk_42 (dk_at dksX0_stop_3 18 rfl rfl)
theorem dX0_stop_95 : decode cX0_stop 95 = .ok (.getfield 33, 3) := dk_180 0 33 (dk_at dksX0_stop_3 19 rfl rfl)
theorem dX0_stop_98 : decode cX0_stop 98 = .ok (.getfield 269, 3) := dk_180 1 13 (dk_at dksX0_stop_4 0 rfl rfl)
theorem dX0_stop_101 : decode cX0_stop 101 = .ok (.iload_n 1, 1) := dk_27 (dk_at dksX0_stop_4 3 rfl rfl)
theorem dX0_stop_102 : decode cX0_stop 102 = .ok (.aaload, 1) := dk_50 (dk_at dksX0_stop_4 4 rfl rfl)
theorem dX0_stop_103 : decode cX0_stop 103 = .ok (.getfield 273, 3) := dk_180 1 17 (dk_at dksX0_stop_4 5 rfl rfl)
theorem dX0_stop_106 : decode cX0_stop 106 = .ok (.ireturn, 1) := dk_172 (dk_at dksX0_stop_4 8 rfl rfl)
theorem dX0_stop_107 : decode cX0_stop 107 = .ok (.aload_n 0, 1) := dk_42 (dk_at dksX0_stop_4 9 rfl rfl)
theorem dX0_stop_108 : decode cX0_stop 108 = .ok (.getfield 33, 3) := dk_180 0 33 (dk_at dksX0_stop_4 10 rfl rfl)
theorem dX0_stop_111 : decode cX0_stop 111 = .ok (.getfield 276, 3) := dk_180 1 20 (dk_at dksX0_stop_4 13 rfl rfl)
theorem dX0_stop_114 : decode cX0_stop 114 = .ok (.iload_n 1, 1) := dk_27 (dk_at dksX0_stop_4 16 rfl rfl)
theorem dX0_stop_115 : decode cX0_stop 115 = .ok (.aaload, 1) := dk_50 (dk_at dksX0_stop_4 17 rfl rfl)
theorem dX0_stop_116 : decode cX0_stop 116 = .ok (.getfield 280, 3) := dk_180 1 24 (dk_at dksX0_stop_4 18 rfl rfl)
theorem dX0_stop_119 : decode cX0_stop 119 = .ok (.ireturn, 1) := dk_172 (dk_at dksX0_stop_4 21 rfl rfl)
theorem dX0_stop_120 : decode cX0_stop 120 = .ok (.aload_n 0, 1) := dk_42 (dk_at dksX0_stop_4 22 rfl rfl)
theorem dX0_stop_121 : decode cX0_stop 121 = .ok (.getfield 33, 3) := dk_180 0 33 (dk_at dksX0_stop_5 0 rfl rfl)
theorem dX0_stop_124 : decode cX0_stop 124 = .ok (.getfield 276, 3) := dk_180 1 20 (dk_at dksX0_stop_5 3 rfl rfl)
theorem dX0_stop_127 : decode cX0_stop 127 = .ok (.iload_n 1, 1) := dk_27 (dk_at dksX0_stop_5 6 rfl rfl)
theorem dX0_stop_128 : decode cX0_stop 128 = .ok (.aaload, 1) := dk_50 (dk_at dksX0_stop_5 7 rfl rfl)
theorem dX0_stop_129 : decode cX0_stop 129 = .ok (.getfield 285, 3) := dk_180 1 29 (dk_at dksX0_stop_5 8 rfl rfl)
theorem dX0_stop_132 : decode cX0_stop 132 = .ok (.ireturn, 1) := dk_172 (dk_at dksX0_stop_5 11 rfl rfl)
theorem dX0_stop_133 : decode cX0_stop 133 = .ok (.aload_n 0, 1) := dk_42 (dk_at dksX0_stop_5 12 rfl rfl)
theorem dX0_stop_134 : decode cX0_stop 134 = .ok (.iload_n 1, 1) := dk_27 (dk_at dksX0_stop_5 13 rfl rfl)
theorem dX0_stop_135 : decode cX0_stop 135 = .ok (.invokevirtual 288, 3) := dk_182 1 32 (dk_at dksX0_stop_5 14 rfl rfl)
theorem dX0_stop_138 : decode cX0_stop 138 = .ok (.ireturn, 1) := dk_172 (dk_at dksX0_stop_5 17 rfl rfl)
theorem dX0_stop_139 : decode cX0_stop 139 = .ok (.iconst (-1), 1) := dk_2 (dk_at dksX0_stop_5 18 rfl rfl)
theorem dX0_stop_140 : decode cX0_stop 140 = .ok (.ireturn, 1) := dk_172 (dk_at dksX0_stop_5 19 rfl rfl)
abbrev cX0_busesAt : ByteArray := prog_1_method_28_code
def yX0_busesAt : MethodName := ⟨RX0, "busesAt", "(I)I"⟩
def dkwX0_busesAt_2 : List UInt8 := [132, 2, 1, 132, 3, 1, 167, 255, 207, 28, 172]
abbrev dktX0_busesAt_2 : List UInt8 := dkwX0_busesAt_2 ++ []
def dkwX0_busesAt_1 : List UInt8 := [50, 182, 0, 181, 153, 0, 22, 42, 180, 0, 33, 180, 0, 63, 29, 50, 180, 0, 172, 27, 160, 0, 6]
abbrev dktX0_busesAt_1 : List UInt8 := dkwX0_busesAt_1 ++ dktX0_busesAt_2
def dkwX0_busesAt_0 : List UInt8 := [3, 61, 3, 62, 29, 42, 180, 0, 33, 180, 0, 63, 190, 162, 0, 43, 42, 180, 0, 33, 180, 0, 63, 29]
abbrev dktX0_busesAt_0 : List UInt8 := dkwX0_busesAt_0 ++ dktX0_busesAt_1
theorem dksX0_busesAt_0 : cX0_busesAt.data.toList.drop 0 = dktX0_busesAt_0 := by decide +kernel
theorem dksX0_busesAt_1 : cX0_busesAt.data.toList.drop 24 = dktX0_busesAt_1 := dk_seg dksX0_busesAt_0 24 rfl rfl
theorem dksX0_busesAt_2 : cX0_busesAt.data.toList.drop 47 = dktX0_busesAt_2 := dk_seg dksX0_busesAt_1 23 rfl rfl
theorem dX0_busesAt_0 : decode cX0_busesAt 0 = .ok (.iconst 0, 1) := dk_3 (dk_at dksX0_busesAt_0 0 rfl rfl)
theorem dX0_busesAt_1 : decode cX0_busesAt 1 = .ok (.istore_n 2, 1) := dk_61 (dk_at dksX0_busesAt_0 1 rfl rfl)
theorem dX0_busesAt_2 : decode cX0_busesAt 2 = .ok (.iconst 0, 1) := dk_3 (dk_at dksX0_busesAt_0 2 rfl rfl)
theorem dX0_busesAt_3 : decode cX0_busesAt 3 = .ok (.istore_n 3, 1) := dk_62 (dk_at dksX0_busesAt_0 3 rfl rfl)
theorem dX0_busesAt_4 : decode cX0_busesAt 4 = .ok (.iload_n 3, 1) := dk_29 (dk_at dksX0_busesAt_0 4 rfl rfl)
theorem dX0_busesAt_5 : decode cX0_busesAt 5 = .ok (.aload_n 0, 1) := dk_42 (dk_at dksX0_busesAt_0 5 rfl rfl)
theorem dX0_busesAt_6 : decode cX0_busesAt 6 = .ok (.getfield 33, 3) := dk_180 0 33 (dk_at dksX0_busesAt_0 6 rfl rfl)
theorem dX0_busesAt_9 : decode cX0_busesAt 9 = .ok (.getfield 63, 3) := dk_180 0 63 (dk_at dksX0_busesAt_0 9 rfl rfl)
theorem dX0_busesAt_12 : decode cX0_busesAt 12 = .ok (.arraylength, 1) := dk_190 (dk_at dksX0_busesAt_0 12 rfl rfl)
theorem dX0_busesAt_13 : decode cX0_busesAt 13 = .ok (.if_icmp .ge 43, 3) := dk_162 0 43 (dk_at dksX0_busesAt_0 13 rfl rfl)
theorem dX0_busesAt_16 : decode cX0_busesAt 16 = .ok (.aload_n 0, 1) := dk_42 (dk_at dksX0_busesAt_0 16 rfl rfl)
theorem dX0_busesAt_17 : decode cX0_busesAt 17 = .ok (.getfield 33, 3) := dk_180 0 33 (dk_at dksX0_busesAt_0 17 rfl rfl)
theorem dX0_busesAt_20 : decode cX0_busesAt 20 = .ok (.getfield 63, 3) := dk_180 0 63 (dk_at dksX0_busesAt_0 20 rfl rfl)
theorem dX0_busesAt_23 : decode cX0_busesAt 23 = .ok (.iload_n 3, 1) := dk_29 (dk_at dksX0_busesAt_0 23 rfl rfl)
theorem dX0_busesAt_24 : decode cX0_busesAt 24 = .ok (.aaload, 1) := dk_50 (dk_at dksX0_busesAt_1 0 rfl rfl)
theorem dX0_busesAt_25 : decode cX0_busesAt 25 = .ok (.invokevirtual 181, 3) := dk_182 0 181 (dk_at dksX0_busesAt_1 1 rfl rfl)
theorem dX0_busesAt_28 : decode cX0_busesAt 28 = .ok (.ifCond .eq 22, 3) := dk_153 0 22 (dk_at dksX0_busesAt_1 4 rfl rfl)
theorem dX0_busesAt_31 : decode cX0_busesAt 31 = .ok (.aload_n 0, 1) := dk_42 (dk_at dksX0_busesAt_1 7 rfl rfl)
theorem dX0_busesAt_32 : decode cX0_busesAt 32 = .ok (.getfield 33, 3) := dk_180 0 33 (dk_at dksX0_busesAt_1 8 rfl rfl)
theorem dX0_busesAt_35 : decode cX0_busesAt 35 = .ok (.getfield 63, 3) := dk_180 0 63 (dk_at dksX0_busesAt_1 11 rfl rfl)
theorem dX0_busesAt_38 : decode cX0_busesAt 38 = .ok (.iload_n 3, 1) := dk_29 (dk_at dksX0_busesAt_1 14 rfl rfl)
theorem dX0_busesAt_39 : decode cX0_busesAt 39 = .ok (.aaload, 1) := dk_50 (dk_at dksX0_busesAt_1 15 rfl rfl)
theorem dX0_busesAt_40 : decode cX0_busesAt 40 = .ok (.getfield 172, 3) := dk_180 0 172 (dk_at dksX0_busesAt_1 16 rfl rfl)
theorem dX0_busesAt_43 : decode cX0_busesAt 43 = .ok (.iload_n 1, 1) := dk_27 (dk_at dksX0_busesAt_1 19 rfl rfl)
theorem dX0_busesAt_44 : decode cX0_busesAt 44 = .ok (.if_icmp .ne 6, 3) := dk_160 0 6 (dk_at dksX0_busesAt_1 20 rfl rfl)
theorem dX0_busesAt_47 : decode cX0_busesAt 47 = .ok (.iinc 2 1, 3) := dk_132 2 1 (dk_at dksX0_busesAt_2 0 rfl rfl)
theorem dX0_busesAt_50 : decode cX0_busesAt 50 = .ok (.iinc 3 1, 3) := dk_132 3 1 (dk_at dksX0_busesAt_2 3 rfl rfl)
theorem dX0_busesAt_53 : decode cX0_busesAt 53 = .ok (.goto (-49), 3) := dk_167 255 207 (dk_at dksX0_busesAt_2 6 rfl rfl)
theorem dX0_busesAt_56 : decode cX0_busesAt 56 = .ok (.iload_n 2, 1) := dk_28 (dk_at dksX0_busesAt_2 9 rfl rfl)
theorem dX0_busesAt_57 : decode cX0_busesAt 57 = .ok (.ireturn, 1) := dk_172 (dk_at dksX0_busesAt_2 10 rfl rfl)
abbrev cX0_bus : ByteArray := prog_1_method_30_code
def yX0_bus : MethodName := ⟨RX0, "bus", "(II)I"⟩
def dkwX0_bus_5 : List UInt8 := [180, 1, 51, 172, 2, 172]
abbrev dktX0_bus_5 : List UInt8 := dkwX0_bus_5 ++ []
def dkwX0_bus_4 : List UInt8 := [167, 0, 4, 3, 172, 45, 180, 1, 48, 172, 45, 180, 0, 159, 153, 0, 7, 4, 167, 0, 4, 3, 172, 45]
abbrev dktX0_bus_4 : List UInt8 := dkwX0_bus_4 ++ dktX0_bus_5
def dkwX0_bus_3 : List UInt8 := [172, 45, 180, 1, 42, 172, 45, 180, 0, 168, 180, 1, 17, 172, 45, 180, 1, 45, 153, 0, 7, 4]
abbrev dktX0_bus_3 : List UInt8 := dkwX0_bus_3 ++ dktX0_bus_4
def dkwX0_bus_2 : List UInt8 := [45, 180, 1, 35, 172, 45, 180, 1, 38, 172, 45, 180, 0, 165, 172, 45, 180, 0, 172, 172, 45, 180, 1, 41]
abbrev dktX0_bus_2 : List UInt8 := dkwX0_bus_2 ++ dktX0_bus_3
def dkwX0_bus_1 : List UInt8 := [170, 0, 0, 0, 0, 0, 133, 0, 0, 0, 0, 0, 0, 0, 10, 0, 0, 0, 59, 0, 0, 0, 64, 0, 0, 0, 69, 0, 0, 0, 74, 0, 0, 0, 79, 0, 0, 0, 84, 0, 0, 0, 89, 0, 0, 0, 97, 0, 0, 0, 110, 0, 0, 0, 115, 0, 0, 0, 128]
abbrev dktX0_bus_1 : List UInt8 := dkwX0_bus_1 ++ dktX0_bus_2
def dkwX0_bus_0 : List UInt8 := [42, 27, 182, 0, 156, 154, 0, 5, 2, 172, 42, 180, 0, 33, 180, 0, 63, 27, 50, 78, 28]
abbrev dktX0_bus_0 : List UInt8 := dkwX0_bus_0 ++ dktX0_bus_1
theorem dksX0_bus_0 : cX0_bus.data.toList.drop 0 = dktX0_bus_0 := by decide +kernel
theorem dksX0_bus_1 : cX0_bus.data.toList.drop 21 = dktX0_bus_1 := dk_seg dksX0_bus_0 21 rfl rfl
theorem dksX0_bus_2 : cX0_bus.data.toList.drop 80 = dktX0_bus_2 := dk_seg dksX0_bus_1 59 rfl rfl
theorem dksX0_bus_3 : cX0_bus.data.toList.drop 104 = dktX0_bus_3 := dk_seg dksX0_bus_2 24 rfl rfl
theorem dksX0_bus_4 : cX0_bus.data.toList.drop 126 = dktX0_bus_4 := dk_seg dksX0_bus_3 22 rfl rfl
theorem dksX0_bus_5 : cX0_bus.data.toList.drop 150 = dktX0_bus_5 := dk_seg dksX0_bus_4 24 rfl rfl
theorem dX0_bus_0 : decode cX0_bus 0 = .ok (.aload_n 0, 1) := dk_42 (dk_at dksX0_bus_0 0 rfl rfl)
theorem dX0_bus_1 : decode cX0_bus 1 = .ok (.iload_n 1, 1) := dk_27 (dk_at dksX0_bus_0 1 rfl rfl)
theorem dX0_bus_2 : decode cX0_bus 2 = .ok (.invokevirtual 156, 3) := dk_182 0 156 (dk_at dksX0_bus_0 2 rfl rfl)
theorem dX0_bus_5 : decode cX0_bus 5 = .ok (.ifCond .ne 5, 3) := dk_154 0 5 (dk_at dksX0_bus_0 5 rfl rfl)
theorem dX0_bus_8 : decode cX0_bus 8 = .ok (.iconst (-1), 1) := dk_2 (dk_at dksX0_bus_0 8 rfl rfl)
theorem dX0_bus_9 : decode cX0_bus 9 = .ok (.ireturn, 1) := dk_172 (dk_at dksX0_bus_0 9 rfl rfl)
theorem dX0_bus_10 : decode cX0_bus 10 = .ok (.aload_n 0, 1) := dk_42 (dk_at dksX0_bus_0 10 rfl rfl)
theorem dX0_bus_11 : decode cX0_bus 11 = .ok (.getfield 33, 3) := dk_180 0 33 (dk_at dksX0_bus_0 11 rfl rfl)
theorem dX0_bus_14 : decode cX0_bus 14 = .ok (.getfield 63, 3) := dk_180 0 63 (dk_at dksX0_bus_0 14 rfl rfl)
theorem dX0_bus_17 : decode cX0_bus 17 = .ok (.iload_n 1, 1) := dk_27 (dk_at dksX0_bus_0 17 rfl rfl)
theorem dX0_bus_18 : decode cX0_bus 18 = .ok (.aaload, 1) := dk_50 (dk_at dksX0_bus_0 18 rfl rfl)
theorem dX0_bus_19 : decode cX0_bus 19 = .ok (.astore_n 3, 1) := dk_78 (dk_at dksX0_bus_0 19 rfl rfl)
theorem dX0_bus_20 : decode cX0_bus 20 = .ok (.iload_n 2, 1) := dk_28 (dk_at dksX0_bus_0 20 rfl rfl)
theorem dX0_bus_21 : decode cX0_bus 21 = .ok (.tableswitch 133 0 10 #[59, 64, 69, 74, 79, 84, 89, 97, 110, 115, 128], 59) := by decide +kernel
theorem dX0_bus_80 : decode cX0_bus 80 = .ok (.aload_n 3, 1) := dk_45 (dk_at dksX0_bus_2 0 rfl rfl)
theorem dX0_bus_81 : decode cX0_bus 81 = .ok (.getfield 291, 3) := dk_180 1 35 (dk_at dksX0_bus_2 1 rfl rfl)
theorem dX0_bus_84 : decode cX0_bus 84 = .ok (.ireturn, 1) := dk_172 (dk_at dksX0_bus_2 4 rfl rfl)
theorem dX0_bus_85 : decode cX0_bus 85 = .ok (.aload_n 3, 1) := dk_45 (dk_at dksX0_bus_2 5 rfl rfl)
theorem dX0_bus_86 : decode cX0_bus 86 = .ok (.getfield 294, 3) := dk_180 1 38 (dk_at dksX0_bus_2 6 rfl rfl)
theorem dX0_bus_89 : decode cX0_bus 89 = .ok (.ireturn, 1) := dk_172 (dk_at dksX0_bus_2 9 rfl rfl)
theorem dX0_bus_90 : decode cX0_bus 90 = .ok (.aload_n 3, 1) := dk_45 (dk_at dksX0_bus_2 10 rfl rfl)
theorem dX0_bus_91 : decode cX0_bus 91 = .ok (.getfield 165, 3) := dk_180 0 165 (dk_at dksX0_bus_2 11 rfl rfl)
theorem dX0_bus_94 : decode cX0_bus 94 = .ok (.ireturn, 1) := dk_172 (dk_at dksX0_bus_2 14 rfl rfl)
theorem dX0_bus_95 : decode cX0_bus 95 = .ok (.aload_n 3, 1) := dk_45 (dk_at dksX0_bus_2 15 rfl rfl)
theorem dX0_bus_96 : decode cX0_bus 96 = .ok (.getfield 172, 3) := dk_180 0 172 (dk_at dksX0_bus_2 16 rfl rfl)
theorem dX0_bus_99 : decode cX0_bus 99 = .ok (.ireturn, 1) := dk_172 (dk_at dksX0_bus_2 19 rfl rfl)
theorem dX0_bus_100 : decode cX0_bus 100 = .ok (.aload_n 3, 1) := dk_45 (dk_at dksX0_bus_2 20 rfl rfl)
theorem dX0_bus_101 : decode cX0_bus 101 = .ok (.getfield 297, 3) := dk_180 1 41 (dk_at dksX0_bus_2 21 rfl rfl)
theorem dX0_bus_104 : decode cX0_bus 104 = .ok (.ireturn, 1) := dk_172 (dk_at dksX0_bus_3 0 rfl rfl)
theorem dX0_bus_105 : decode cX0_bus 105 = .ok (.aload_n 3, 1) := dk_45 (dk_at dksX0_bus_3 1 rfl rfl)
theorem dX0_bus_106 : decode cX0_bus 106 = .ok (.getfield 298, 3) := dk_180 1 42 (dk_at dksX0_bus_3 2 rfl rfl)
theorem dX0_bus_109 : decode cX0_bus 109 = .ok (.ireturn, 1) := dk_172 (dk_at dksX0_bus_3 5 rfl rfl)
theorem dX0_bus_110 : decode cX0_bus 110 = .ok (.aload_n 3, 1) := dk_45 (dk_at dksX0_bus_3 6 rfl rfl)
theorem dX0_bus_111 : decode cX0_bus 111 = .ok (.getfield 168, 3) := dk_180 0 168 (dk_at dksX0_bus_3 7 rfl rfl)
theorem dX0_bus_114 : decode cX0_bus 114 = .ok (.getfield 273, 3) := dk_180 1 17 (dk_at dksX0_bus_3 10 rfl rfl)
theorem dX0_bus_117 : decode cX0_bus 117 = .ok (.ireturn, 1) := dk_172 (dk_at dksX0_bus_3 13 rfl rfl)
theorem dX0_bus_118 : decode cX0_bus 118 = .ok (.aload_n 3, 1) := dk_45 (dk_at dksX0_bus_3 14 rfl rfl)
theorem dX0_bus_119 : decode cX0_bus 119 = .ok (.getfield 301, 3) := dk_180 1 45 (dk_at dksX0_bus_3 15 rfl rfl)
theorem dX0_bus_122 : decode cX0_bus 122 = .ok (.ifCond .eq 7, 3) := dk_153 0 7 (dk_at dksX0_bus_3 18 rfl rfl)
theorem dX0_bus_125 : decode cX0_bus 125 = .ok (.iconst 1, 1) := dk_4 (dk_at dksX0_bus_3 21 rfl rfl)
theorem dX0_bus_126 : decode cX0_bus 126 = .ok (.goto 4, 3) := dk_167 0 4 (dk_at dksX0_bus_4 0 rfl rfl)
theorem dX0_bus_129 : decode cX0_bus 129 = .ok (.iconst 0, 1) := dk_3 (dk_at dksX0_bus_4 3 rfl rfl)
theorem dX0_bus_130 : decode cX0_bus 130 = .ok (.ireturn, 1) := dk_172 (dk_at dksX0_bus_4 4 rfl rfl)
theorem dX0_bus_131 : decode cX0_bus 131 = .ok (.aload_n 3, 1) := dk_45 (dk_at dksX0_bus_4 5 rfl rfl)
theorem dX0_bus_132 : decode cX0_bus 132 = .ok (.getfield 304, 3) := dk_180 1 48 (dk_at dksX0_bus_4 6 rfl rfl)
theorem dX0_bus_135 : decode cX0_bus 135 = .ok (.ireturn, 1) := dk_172 (dk_at dksX0_bus_4 9 rfl rfl)
theorem dX0_bus_136 : decode cX0_bus 136 = .ok (.aload_n 3, 1) := dk_45 (dk_at dksX0_bus_4 10 rfl rfl)
theorem dX0_bus_137 : decode cX0_bus 137 = .ok (.getfield 159, 3) := dk_180 0 159 (dk_at dksX0_bus_4 11 rfl rfl)
theorem dX0_bus_140 : decode cX0_bus 140 = .ok (.ifCond .eq 7, 3) := dk_153 0 7 (dk_at dksX0_bus_4 14 rfl rfl)
theorem dX0_bus_143 : decode cX0_bus 143 = .ok (.iconst 1, 1) := dk_4 (dk_at dksX0_bus_4 17 rfl rfl)
theorem dX0_bus_144 : decode cX0_bus 144 = .ok (.goto 4, 3) := dk_167 0 4 (dk_at dksX0_bus_4 18 rfl rfl)
theorem dX0_bus_147 : decode cX0_bus 147 = .ok (.iconst 0, 1) := dk_3 (dk_at dksX0_bus_4 21 rfl rfl)
theorem dX0_bus_148 : decode cX0_bus 148 = .ok (.ireturn, 1) := dk_172 (dk_at dksX0_bus_4 22 rfl rfl)
theorem dX0_bus_149 : decode cX0_bus 149 = .ok (.aload_n 3, 1) := dk_45 (dk_at dksX0_bus_4 23 rfl rfl)
theorem dX0_bus_150 : decode cX0_bus 150 = .ok (.getfield 307, 3) := dk_180 1 51 (dk_at dksX0_bus_5 0 rfl rfl)
theorem dX0_bus_153 : decode cX0_bus 153 = .ok (.ireturn, 1) := dk_172 (dk_at dksX0_bus_5 3 rfl rfl)
theorem dX0_bus_154 : decode cX0_bus 154 = .ok (.iconst (-1), 1) := dk_2 (dk_at dksX0_bus_5 4 rfl rfl)
theorem dX0_bus_155 : decode cX0_bus 155 = .ok (.ireturn, 1) := dk_172 (dk_at dksX0_bus_5 5 rfl rfl)
abbrev cX0_why : ByteArray := prog_1_method_31_code
def yX0_why : MethodName := ⟨RX0, "why", "(I)I"⟩
def dkwX0_why_1 : List UInt8 := [172]
abbrev dktX0_why_1 : List UInt8 := dkwX0_why_1 ++ []
def dkwX0_why_0 : List UInt8 := [42, 27, 182, 0, 156, 153, 0, 18, 42, 180, 0, 33, 180, 0, 63, 27, 50, 180, 1, 54, 167, 0, 4, 2]
abbrev dktX0_why_0 : List UInt8 := dkwX0_why_0 ++ dktX0_why_1
theorem dksX0_why_0 : cX0_why.data.toList.drop 0 = dktX0_why_0 := by decide +kernel
theorem dksX0_why_1 : cX0_why.data.toList.drop 24 = dktX0_why_1 := dk_seg dksX0_why_0 24 rfl rfl
theorem dX0_why_0 : decode cX0_why 0 = .ok (.aload_n 0, 1) := dk_42 (dk_at dksX0_why_0 0 rfl rfl)
theorem dX0_why_1 : decode cX0_why 1 = .ok (.iload_n 1, 1) := dk_27 (dk_at dksX0_why_0 1 rfl rfl)
theorem dX0_why_2 : decode cX0_why 2 = .ok (.invokevirtual 156, 3) := dk_182 0 156 (dk_at dksX0_why_0 2 rfl rfl)
theorem dX0_why_5 : decode cX0_why 5 = .ok (.ifCond .eq 18, 3) := dk_153 0 18 (dk_at dksX0_why_0 5 rfl rfl)
theorem dX0_why_8 : decode cX0_why 8 = .ok (.aload_n 0, 1) := dk_42 (dk_at dksX0_why_0 8 rfl rfl)
theorem dX0_why_9 : decode cX0_why 9 = .ok (.getfield 33, 3) := dk_180 0 33 (dk_at dksX0_why_0 9 rfl rfl)
theorem dX0_why_12 : decode cX0_why 12 = .ok (.getfield 63, 3) := dk_180 0 63 (dk_at dksX0_why_0 12 rfl rfl)
theorem dX0_why_15 : decode cX0_why 15 = .ok (.iload_n 1, 1) := dk_27 (dk_at dksX0_why_0 15 rfl rfl)
theorem dX0_why_16 : decode cX0_why 16 = .ok (.aaload, 1) := dk_50 (dk_at dksX0_why_0 16 rfl rfl)
theorem dX0_why_17 : decode cX0_why 17 = .ok (.getfield 310, 3) := dk_180 1 54 (dk_at dksX0_why_0 17 rfl rfl)
theorem dX0_why_20 : decode cX0_why 20 = .ok (.goto 4, 3) := dk_167 0 4 (dk_at dksX0_why_0 20 rfl rfl)
theorem dX0_why_23 : decode cX0_why 23 = .ok (.iconst (-1), 1) := dk_2 (dk_at dksX0_why_0 23 rfl rfl)
theorem dX0_why_24 : decode cX0_why 24 = .ok (.ireturn, 1) := dk_172 (dk_at dksX0_why_1 0 rfl rfl)
abbrev cX0_flow : ByteArray := prog_1_method_35_code
def yX0_flow : MethodName := ⟨RX0, "flow", "(II)I"⟩
def dkwX0_flow_5 : List UInt8 := [180, 0, 33, 180, 0, 196, 29, 46, 172, 42, 29, 182, 1, 98, 172, 42, 29, 182, 1, 101, 172, 2, 172]
abbrev dktX0_flow_5 : List UInt8 := dkwX0_flow_5 ++ []
def dkwX0_flow_4 : List UInt8 := [29, 46, 172, 42, 180, 0, 33, 180, 1, 92, 29, 46, 172, 42, 180, 0, 33, 180, 1, 95, 29, 46, 172, 42]
abbrev dktX0_flow_4 : List UInt8 := dkwX0_flow_4 ++ dktX0_flow_5
def dkwX0_flow_3 : List UInt8 := [42, 27, 28, 182, 1, 82, 172, 42, 180, 0, 33, 180, 1, 86, 29, 46, 172, 42, 180, 0, 33, 180, 1, 89]
abbrev dktX0_flow_3 : List UInt8 := dkwX0_flow_3 ++ dktX0_flow_4
def dkwX0_flow_2 : List UInt8 := [170, 0, 0, 0, 0, 0, 128, 0, 0, 0, 0, 0, 0, 0, 10, 0, 0, 0, 59, 0, 0, 0, 59, 0, 0, 0, 59, 0, 0, 0, 59, 0, 0, 0, 66, 0, 0, 0, 76, 0, 0, 0, 86, 0, 0, 0, 96, 0, 0, 0, 106, 0, 0, 0, 116, 0, 0, 0, 122]
abbrev dktX0_flow_2 : List UInt8 := dkwX0_flow_2 ++ dktX0_flow_3
def dkwX0_flow_1 : List UInt8 := [180, 0, 33, 27, 182, 1, 79, 62, 28]
abbrev dktX0_flow_1 : List UInt8 := dkwX0_flow_1 ++ dktX0_flow_2
def dkwX0_flow_0 : List UInt8 := [27, 3, 42, 180, 0, 33, 180, 0, 67, 180, 0, 71, 182, 0, 74, 184, 0, 3, 154, 0, 5, 2, 172, 42]
abbrev dktX0_flow_0 : List UInt8 := dkwX0_flow_0 ++ dktX0_flow_1
theorem dksX0_flow_0 : cX0_flow.data.toList.drop 0 = dktX0_flow_0 := by decide +kernel
theorem dksX0_flow_1 : cX0_flow.data.toList.drop 24 = dktX0_flow_1 := dk_seg dksX0_flow_0 24 rfl rfl
theorem dksX0_flow_2 : cX0_flow.data.toList.drop 33 = dktX0_flow_2 := dk_seg dksX0_flow_1 9 rfl rfl
theorem dksX0_flow_3 : cX0_flow.data.toList.drop 92 = dktX0_flow_3 := dk_seg dksX0_flow_2 59 rfl rfl
theorem dksX0_flow_4 : cX0_flow.data.toList.drop 116 = dktX0_flow_4 := dk_seg dksX0_flow_3 24 rfl rfl
theorem dksX0_flow_5 : cX0_flow.data.toList.drop 140 = dktX0_flow_5 := dk_seg dksX0_flow_4 24 rfl rfl
theorem dX0_flow_0 : decode cX0_flow 0 = .ok (.iload_n 1, 1) := dk_27 (dk_at dksX0_flow_0 0 rfl rfl)
theorem dX0_flow_1 : decode cX0_flow 1 = .ok (.iconst 0, 1) := dk_3 (dk_at dksX0_flow_0 1 rfl rfl)
theorem dX0_flow_2 : decode cX0_flow 2 = .ok (.aload_n 0, 1) := dk_42 (dk_at dksX0_flow_0 2 rfl rfl)
theorem dX0_flow_3 : decode cX0_flow 3 = .ok (.getfield 33, 3) := dk_180 0 33 (dk_at dksX0_flow_0 3 rfl rfl)
theorem dX0_flow_6 : decode cX0_flow 6 = .ok (.getfield 67, 3) := dk_180 0 67 (dk_at dksX0_flow_0 6 rfl rfl)
theorem dX0_flow_9 : decode cX0_flow 9 = .ok (.getfield 71, 3) := dk_180 0 71 (dk_at dksX0_flow_0 9 rfl rfl)
theorem dX0_flow_12 : decode cX0_flow 12 = .ok (.invokevirtual 74, 3) := dk_182 0 74 (dk_at dksX0_flow_0 12 rfl rfl)
theorem dX0_flow_15 : decode cX0_flow 15 = .ok (.invokestatic 3, 3) := dk_184 0 3 (dk_at dksX0_flow_0 15 rfl rfl)
theorem dX0_flow_18 : decode cX0_flow 18 = .ok (.ifCond .ne 5, 3) := dk_154 0 5 (dk_at dksX0_flow_0 18 rfl rfl)
theorem dX0_flow_21 : decode cX0_flow 21 = .ok (.iconst (-1), 1) := dk_2 (dk_at dksX0_flow_0 21 rfl rfl)
theorem dX0_flow_22 : decode cX0_flow 22 = .ok (.ireturn, 1) := dk_172 (dk_at dksX0_flow_0 22 rfl rfl)
theorem dX0_flow_23 : decode cX0_flow 23 = .ok (.aload_n 0, 1) := dk_42 (dk_at dksX0_flow_0 23 rfl rfl)
theorem dX0_flow_24 : decode cX0_flow 24 = .ok (.getfield 33, 3) := dk_180 0 33 (dk_at dksX0_flow_1 0 rfl rfl)
theorem dX0_flow_27 : decode cX0_flow 27 = .ok (.iload_n 1, 1) := dk_27 (dk_at dksX0_flow_1 3 rfl rfl)
theorem dX0_flow_28 : decode cX0_flow 28 = .ok (.invokevirtual 335, 3) := dk_182 1 79 (dk_at dksX0_flow_1 4 rfl rfl)
theorem dX0_flow_31 : decode cX0_flow 31 = .ok (.istore_n 3, 1) := dk_62 (dk_at dksX0_flow_1 7 rfl rfl)
theorem dX0_flow_32 : decode cX0_flow 32 = .ok (.iload_n 2, 1) := dk_28 (dk_at dksX0_flow_1 8 rfl rfl)
theorem dX0_flow_33 : decode cX0_flow 33 = .ok (.tableswitch 128 0 10 #[59, 59, 59, 59, 66, 76, 86, 96, 106, 116, 122], 59) := by decide +kernel
theorem dX0_flow_92 : decode cX0_flow 92 = .ok (.aload_n 0, 1) := dk_42 (dk_at dksX0_flow_3 0 rfl rfl)
theorem dX0_flow_93 : decode cX0_flow 93 = .ok (.iload_n 1, 1) := dk_27 (dk_at dksX0_flow_3 1 rfl rfl)
theorem dX0_flow_94 : decode cX0_flow 94 = .ok (.iload_n 2, 1) := dk_28 (dk_at dksX0_flow_3 2 rfl rfl)
theorem dX0_flow_95 : decode cX0_flow 95 = .ok (.invokevirtual 338, 3) := dk_182 1 82 (dk_at dksX0_flow_3 3 rfl rfl)
theorem dX0_flow_98 : decode cX0_flow 98 = .ok (.ireturn, 1) := dk_172 (dk_at dksX0_flow_3 6 rfl rfl)
theorem dX0_flow_99 : decode cX0_flow 99 = .ok (.aload_n 0, 1) := dk_42 (dk_at dksX0_flow_3 7 rfl rfl)
theorem dX0_flow_100 : decode cX0_flow 100 = .ok (.getfield 33, 3) := dk_180 0 33 (dk_at dksX0_flow_3 8 rfl rfl)
theorem dX0_flow_103 : decode cX0_flow 103 = .ok (.getfield 342, 3) := dk_180 1 86 (dk_at dksX0_flow_3 11 rfl rfl)
theorem dX0_flow_106 : decode cX0_flow 106 = .ok (.iload_n 3, 1) := dk_29 (dk_at dksX0_flow_3 14 rfl rfl)
theorem dX0_flow_107 : decode cX0_flow 107 = .ok (.iaload, 1) := dk_46 (dk_at dksX0_flow_3 15 rfl rfl)
theorem dX0_flow_108 : decode cX0_flow 108 = .ok (.ireturn, 1) := dk_172 (dk_at dksX0_flow_3 16 rfl rfl)
theorem dX0_flow_109 : decode cX0_flow 109 = .ok (.aload_n 0, 1) := dk_42 (dk_at dksX0_flow_3 17 rfl rfl)
theorem dX0_flow_110 : decode cX0_flow 110 = .ok (.getfield 33, 3) := dk_180 0 33 (dk_at dksX0_flow_3 18 rfl rfl)
theorem dX0_flow_113 : decode cX0_flow 113 = .ok (.getfield 345, 3) := dk_180 1 89 (dk_at dksX0_flow_3 21 rfl rfl)
theorem dX0_flow_116 : decode cX0_flow 116 = .ok (.iload_n 3, 1) := dk_29 (dk_at dksX0_flow_4 0 rfl rfl)
theorem dX0_flow_117 : decode cX0_flow 117 = .ok (.iaload, 1) := dk_46 (dk_at dksX0_flow_4 1 rfl rfl)
theorem dX0_flow_118 : decode cX0_flow 118 = .ok (.ireturn, 1) := dk_172 (dk_at dksX0_flow_4 2 rfl rfl)
theorem dX0_flow_119 : decode cX0_flow 119 = .ok (.aload_n 0, 1) := dk_42 (dk_at dksX0_flow_4 3 rfl rfl)
theorem dX0_flow_120 : decode cX0_flow 120 = .ok (.getfield 33, 3) := dk_180 0 33 (dk_at dksX0_flow_4 4 rfl rfl)
theorem dX0_flow_123 : decode cX0_flow 123 = .ok (.getfield 348, 3) := dk_180 1 92 (dk_at dksX0_flow_4 7 rfl rfl)
theorem dX0_flow_126 : decode cX0_flow 126 = .ok (.iload_n 3, 1) := dk_29 (dk_at dksX0_flow_4 10 rfl rfl)
theorem dX0_flow_127 : decode cX0_flow 127 = .ok (.iaload, 1) := dk_46 (dk_at dksX0_flow_4 11 rfl rfl)
theorem dX0_flow_128 : decode cX0_flow 128 = .ok (.ireturn, 1) := dk_172 (dk_at dksX0_flow_4 12 rfl rfl)
theorem dX0_flow_129 : decode cX0_flow 129 = .ok (.aload_n 0, 1) := dk_42 (dk_at dksX0_flow_4 13 rfl rfl)
theorem dX0_flow_130 : decode cX0_flow 130 = .ok (.getfield 33, 3) := dk_180 0 33 (dk_at dksX0_flow_4 14 rfl rfl)
theorem dX0_flow_133 : decode cX0_flow 133 = .ok (.getfield 351, 3) := dk_180 1 95 (dk_at dksX0_flow_4 17 rfl rfl)
theorem dX0_flow_136 : decode cX0_flow 136 = .ok (.iload_n 3, 1) := dk_29 (dk_at dksX0_flow_4 20 rfl rfl)
theorem dX0_flow_137 : decode cX0_flow 137 = .ok (.iaload, 1) := dk_46 (dk_at dksX0_flow_4 21 rfl rfl)
theorem dX0_flow_138 : decode cX0_flow 138 = .ok (.ireturn, 1) := dk_172 (dk_at dksX0_flow_4 22 rfl rfl)
theorem dX0_flow_139 : decode cX0_flow 139 = .ok (.aload_n 0, 1) := dk_42 (dk_at dksX0_flow_4 23 rfl rfl)
theorem dX0_flow_140 : decode cX0_flow 140 = .ok (.getfield 33, 3) := dk_180 0 33 (dk_at dksX0_flow_5 0 rfl rfl)
theorem dX0_flow_143 : decode cX0_flow 143 = .ok (.getfield 196, 3) := dk_180 0 196 (dk_at dksX0_flow_5 3 rfl rfl)
theorem dX0_flow_146 : decode cX0_flow 146 = .ok (.iload_n 3, 1) := dk_29 (dk_at dksX0_flow_5 6 rfl rfl)
theorem dX0_flow_147 : decode cX0_flow 147 = .ok (.iaload, 1) := dk_46 (dk_at dksX0_flow_5 7 rfl rfl)
theorem dX0_flow_148 : decode cX0_flow 148 = .ok (.ireturn, 1) := dk_172 (dk_at dksX0_flow_5 8 rfl rfl)
theorem dX0_flow_149 : decode cX0_flow 149 = .ok (.aload_n 0, 1) := dk_42 (dk_at dksX0_flow_5 9 rfl rfl)
theorem dX0_flow_150 : decode cX0_flow 150 = .ok (.iload_n 3, 1) := dk_29 (dk_at dksX0_flow_5 10 rfl rfl)
theorem dX0_flow_151 : decode cX0_flow 151 = .ok (.invokevirtual 354, 3) := dk_182 1 98 (dk_at dksX0_flow_5 11 rfl rfl)
theorem dX0_flow_154 : decode cX0_flow 154 = .ok (.ireturn, 1) := dk_172 (dk_at dksX0_flow_5 14 rfl rfl)
theorem dX0_flow_155 : decode cX0_flow 155 = .ok (.aload_n 0, 1) := dk_42 (dk_at dksX0_flow_5 15 rfl rfl)
theorem dX0_flow_156 : decode cX0_flow 156 = .ok (.iload_n 3, 1) := dk_29 (dk_at dksX0_flow_5 16 rfl rfl)
theorem dX0_flow_157 : decode cX0_flow 157 = .ok (.invokevirtual 357, 3) := dk_182 1 101 (dk_at dksX0_flow_5 17 rfl rfl)
theorem dX0_flow_160 : decode cX0_flow 160 = .ok (.ireturn, 1) := dk_172 (dk_at dksX0_flow_5 20 rfl rfl)
theorem dX0_flow_161 : decode cX0_flow 161 = .ok (.iconst (-1), 1) := dk_2 (dk_at dksX0_flow_5 21 rfl rfl)
theorem dX0_flow_162 : decode cX0_flow 162 = .ok (.ireturn, 1) := dk_172 (dk_at dksX0_flow_5 22 rfl rfl)
abbrev cX0_flowPart : ByteArray := prog_1_method_32_code
def yX0_flowPart : MethodName := ⟨RX0, "flowPart", "(II)I"⟩
def dkwX0_flowPart_3 : List UInt8 := [180, 1, 75, 172]
abbrev dktX0_flowPart_3 : List UInt8 := dkwX0_flowPart_3 ++ []
def dkwX0_flowPart_2 : List UInt8 := [160, 0, 10, 45, 180, 1, 69, 167, 0, 19, 28, 5, 160, 0, 10, 45, 180, 1, 72, 167, 0, 7, 45]
abbrev dktX0_flowPart_2 : List UInt8 := dkwX0_flowPart_2 ++ dktX0_flowPart_3
def dkwX0_flowPart_1 : List UInt8 := [182, 0, 213, 192, 1, 60, 78, 28, 154, 0, 13, 45, 180, 1, 62, 180, 1, 66, 167, 0, 31, 28, 4]
abbrev dktX0_flowPart_1 : List UInt8 := dkwX0_flowPart_1 ++ dktX0_flowPart_2
def dkwX0_flowPart_0 : List UInt8 := [42, 27, 182, 1, 57, 154, 0, 6, 16, 254, 172, 42, 180, 0, 33, 180, 0, 67, 180, 0, 71, 27]
abbrev dktX0_flowPart_0 : List UInt8 := dkwX0_flowPart_0 ++ dktX0_flowPart_1
theorem dksX0_flowPart_0 : cX0_flowPart.data.toList.drop 0 = dktX0_flowPart_0 := by decide +kernel
theorem dksX0_flowPart_1 : cX0_flowPart.data.toList.drop 22 = dktX0_flowPart_1 := dk_seg dksX0_flowPart_0 22 rfl rfl
theorem dksX0_flowPart_2 : cX0_flowPart.data.toList.drop 45 = dktX0_flowPart_2 := dk_seg dksX0_flowPart_1 23 rfl rfl
theorem dksX0_flowPart_3 : cX0_flowPart.data.toList.drop 68 = dktX0_flowPart_3 := dk_seg dksX0_flowPart_2 23 rfl rfl
theorem dX0_flowPart_0 : decode cX0_flowPart 0 = .ok (.aload_n 0, 1) := dk_42 (dk_at dksX0_flowPart_0 0 rfl rfl)
theorem dX0_flowPart_1 : decode cX0_flowPart 1 = .ok (.iload_n 1, 1) := dk_27 (dk_at dksX0_flowPart_0 1 rfl rfl)
theorem dX0_flowPart_2 : decode cX0_flowPart 2 = .ok (.invokevirtual 313, 3) := dk_182 1 57 (dk_at dksX0_flowPart_0 2 rfl rfl)
theorem dX0_flowPart_5 : decode cX0_flowPart 5 = .ok (.ifCond .ne 6, 3) := dk_154 0 6 (dk_at dksX0_flowPart_0 5 rfl rfl)
theorem dX0_flowPart_8 : decode cX0_flowPart 8 = .ok (.bipush (-2), 2) := dk_16 254 (dk_at dksX0_flowPart_0 8 rfl rfl)
theorem dX0_flowPart_10 : decode cX0_flowPart 10 = .ok (.ireturn, 1) := dk_172 (dk_at dksX0_flowPart_0 10 rfl rfl)
theorem dX0_flowPart_11 : decode cX0_flowPart 11 = .ok (.aload_n 0, 1) := dk_42 (dk_at dksX0_flowPart_0 11 rfl rfl)
theorem dX0_flowPart_12 : decode cX0_flowPart 12 = .ok (.getfield 33, 3) := dk_180 0 33 (dk_at dksX0_flowPart_0 12 rfl rfl)
theorem dX0_flowPart_15 : decode cX0_flowPart 15 = .ok (.getfield 67, 3) := dk_180 0 67 (dk_at dksX0_flowPart_0 15 rfl rfl)
theorem dX0_flowPart_18 : decode cX0_flowPart 18 = .ok (.getfield 71, 3) := dk_180 0 71 (dk_at dksX0_flowPart_0 18 rfl rfl)
theorem dX0_flowPart_21 : decode cX0_flowPart 21 = .ok (.iload_n 1, 1) := dk_27 (dk_at dksX0_flowPart_0 21 rfl rfl)
theorem dX0_flowPart_22 : decode cX0_flowPart 22 = .ok (.invokevirtual 213, 3) := dk_182 0 213 (dk_at dksX0_flowPart_1 0 rfl rfl)
theorem dX0_flowPart_25 : decode cX0_flowPart 25 = .ok (.checkcast 316, 3) := dk_192 1 60 (dk_at dksX0_flowPart_1 3 rfl rfl)
theorem dX0_flowPart_28 : decode cX0_flowPart 28 = .ok (.astore_n 3, 1) := dk_78 (dk_at dksX0_flowPart_1 6 rfl rfl)
theorem dX0_flowPart_29 : decode cX0_flowPart 29 = .ok (.iload_n 2, 1) := dk_28 (dk_at dksX0_flowPart_1 7 rfl rfl)
theorem dX0_flowPart_30 : decode cX0_flowPart 30 = .ok (.ifCond .ne 13, 3) := dk_154 0 13 (dk_at dksX0_flowPart_1 8 rfl rfl)
theorem dX0_flowPart_33 : decode cX0_flowPart 33 = .ok (.aload_n 3, 1) := dk_45 (dk_at dksX0_flowPart_1 11 rfl rfl)
theorem dX0_flowPart_34 : decode cX0_flowPart 34 = .ok (.getfield 318, 3) := dk_180 1 62 (dk_at dksX0_flowPart_1 12 rfl rfl)
theorem dX0_flowPart_37 : decode cX0_flowPart 37 = .ok (.getfield 322, 3) := dk_180 1 66 (dk_at dksX0_flowPart_1 15 rfl rfl)
theorem dX0_flowPart_40 : decode cX0_flowPart 40 = .ok (.goto 31, 3) := dk_167 0 31 (dk_at dksX0_flowPart_1 18 rfl rfl)
theorem dX0_flowPart_43 : decode cX0_flowPart 43 = .ok (.iload_n 2, 1) := dk_28 (dk_at dksX0_flowPart_1 21 rfl rfl)
theorem dX0_flowPart_44 : decode cX0_flowPart 44 = .ok (.iconst 1, 1) := dk_4 (dk_at dksX0_flowPart_1 22 rfl rfl)
theorem dX0_flowPart_45 : decode cX0_flowPart 45 = .ok (.if_icmp .ne 10, 3) := dk_160 0 10 (dk_at dksX0_flowPart_2 0 rfl rfl)
theorem dX0_flowPart_48 : decode cX0_flowPart 48 = .ok (.aload_n 3, 1) := dk_45 (dk_at dksX0_flowPart_2 3 rfl rfl)
theorem dX0_flowPart_49 : decode cX0_flowPart 49 = .ok (.getfield 325, 3) := dk_180 1 69 (dk_at dksX0_flowPart_2 4 rfl rfl)
theorem dX0_flowPart_52 : decode cX0_flowPart 52 = .ok (.goto 19, 3) := dk_167 0 19 (dk_at dksX0_flowPart_2 7 rfl rfl)
theorem dX0_flowPart_55 : decode cX0_flowPart 55 = .ok (.iload_n 2, 1) := dk_28 (dk_at dksX0_flowPart_2 10 rfl rfl)
theorem dX0_flowPart_56 : decode cX0_flowPart 56 = .ok (.iconst 2, 1) := dk_5 (dk_at dksX0_flowPart_2 11 rfl rfl)
theorem dX0_flowPart_57 : decode cX0_flowPart 57 = .ok (.if_icmp .ne 10, 3) := dk_160 0 10 (dk_at dksX0_flowPart_2 12 rfl rfl)
theorem dX0_flowPart_60 : decode cX0_flowPart 60 = .ok (.aload_n 3, 1) := dk_45 (dk_at dksX0_flowPart_2 15 rfl rfl)
theorem dX0_flowPart_61 : decode cX0_flowPart 61 = .ok (.getfield 328, 3) := dk_180 1 72 (dk_at dksX0_flowPart_2 16 rfl rfl)
theorem dX0_flowPart_64 : decode cX0_flowPart 64 = .ok (.goto 7, 3) := dk_167 0 7 (dk_at dksX0_flowPart_2 19 rfl rfl)
theorem dX0_flowPart_67 : decode cX0_flowPart 67 = .ok (.aload_n 3, 1) := dk_45 (dk_at dksX0_flowPart_2 22 rfl rfl)
theorem dX0_flowPart_68 : decode cX0_flowPart 68 = .ok (.getfield 331, 3) := dk_180 1 75 (dk_at dksX0_flowPart_3 0 rfl rfl)
theorem dX0_flowPart_71 : decode cX0_flowPart 71 = .ok (.ireturn, 1) := dk_172 (dk_at dksX0_flowPart_3 3 rfl rfl)
abbrev cX0_isFlow : ByteArray := prog_1_method_6_code
def yX0_isFlow : MethodName := ⟨RX0, "isFlow", "(I)Z"⟩
def dkwX0_isFlow_0 : List UInt8 := [27, 3, 42, 180, 0, 33, 180, 0, 67, 180, 0, 71, 182, 0, 74, 4, 100, 184, 0, 3, 172]
abbrev dktX0_isFlow_0 : List UInt8 := dkwX0_isFlow_0 ++ []
theorem dksX0_isFlow_0 : cX0_isFlow.data.toList.drop 0 = dktX0_isFlow_0 := by decide +kernel
theorem dX0_isFlow_0 : decode cX0_isFlow 0 = .ok (.iload_n 1, 1) := dk_27 (dk_at dksX0_isFlow_0 0 rfl rfl)
theorem dX0_isFlow_1 : decode cX0_isFlow 1 = .ok (.iconst 0, 1) := dk_3 (dk_at dksX0_isFlow_0 1 rfl rfl)
theorem dX0_isFlow_2 : decode cX0_isFlow 2 = .ok (.aload_n 0, 1) := dk_42 (dk_at dksX0_isFlow_0 2 rfl rfl)
theorem dX0_isFlow_3 : decode cX0_isFlow 3 = .ok (.getfield 33, 3) := dk_180 0 33 (dk_at dksX0_isFlow_0 3 rfl rfl)
theorem dX0_isFlow_6 : decode cX0_isFlow 6 = .ok (.getfield 67, 3) := dk_180 0 67 (dk_at dksX0_isFlow_0 6 rfl rfl)
theorem dX0_isFlow_9 : decode cX0_isFlow 9 = .ok (.getfield 71, 3) := dk_180 0 71 (dk_at dksX0_isFlow_0 9 rfl rfl)
theorem dX0_isFlow_12 : decode cX0_isFlow 12 = .ok (.invokevirtual 74, 3) := dk_182 0 74 (dk_at dksX0_isFlow_0 12 rfl rfl)
theorem dX0_isFlow_15 : decode cX0_isFlow 15 = .ok (.iconst 1, 1) := dk_4 (dk_at dksX0_isFlow_0 15 rfl rfl)
theorem dX0_isFlow_16 : decode cX0_isFlow 16 = .ok (.isub, 1) := dk_100 (dk_at dksX0_isFlow_0 16 rfl rfl)
theorem dX0_isFlow_17 : decode cX0_isFlow 17 = .ok (.invokestatic 3, 3) := dk_184 0 3 (dk_at dksX0_isFlow_0 17 rfl rfl)
theorem dX0_isFlow_20 : decode cX0_isFlow 20 = .ok (.ireturn, 1) := dk_172 (dk_at dksX0_isFlow_0 20 rfl rfl)
abbrev cX0_waitingOf : ByteArray := prog_1_method_33_code
def yX0_waitingOf : MethodName := ⟨RX0, "waitingOf", "(I)I"⟩
def dkwX0_waitingOf_1 : List UInt8 := [50, 27, 182, 1, 77, 96, 61, 132, 3, 1, 167, 255, 226, 28, 172]
abbrev dktX0_waitingOf_1 : List UInt8 := dkwX0_waitingOf_1 ++ []
def dkwX0_waitingOf_0 : List UInt8 := [3, 61, 3, 62, 29, 42, 180, 0, 33, 182, 0, 59, 162, 0, 25, 28, 42, 180, 0, 33, 180, 1, 13, 29]
abbrev dktX0_waitingOf_0 : List UInt8 := dkwX0_waitingOf_0 ++ dktX0_waitingOf_1
theorem dksX0_waitingOf_0 : cX0_waitingOf.data.toList.drop 0 = dktX0_waitingOf_0 := by decide +kernel
theorem dksX0_waitingOf_1 : cX0_waitingOf.data.toList.drop 24 = dktX0_waitingOf_1 := dk_seg dksX0_waitingOf_0 24 rfl rfl
theorem dX0_waitingOf_0 : decode cX0_waitingOf 0 = .ok (.iconst 0, 1) := dk_3 (dk_at dksX0_waitingOf_0 0 rfl rfl)
theorem dX0_waitingOf_1 : decode cX0_waitingOf 1 = .ok (.istore_n 2, 1) := dk_61 (dk_at dksX0_waitingOf_0 1 rfl rfl)
theorem dX0_waitingOf_2 : decode cX0_waitingOf 2 = .ok (.iconst 0, 1) := dk_3 (dk_at dksX0_waitingOf_0 2 rfl rfl)
theorem dX0_waitingOf_3 : decode cX0_waitingOf 3 = .ok (.istore_n 3, 1) := dk_62 (dk_at dksX0_waitingOf_0 3 rfl rfl)
theorem dX0_waitingOf_4 : decode cX0_waitingOf 4 = .ok (.iload_n 3, 1) := dk_29 (dk_at dksX0_waitingOf_0 4 rfl rfl)
theorem dX0_waitingOf_5 : decode cX0_waitingOf 5 = .ok (.aload_n 0, 1) := dk_42 (dk_at dksX0_waitingOf_0 5 rfl rfl)
theorem dX0_waitingOf_6 : decode cX0_waitingOf 6 = .ok (.getfield 33, 3) := dk_180 0 33 (dk_at dksX0_waitingOf_0 6 rfl rfl)
theorem dX0_waitingOf_9 : decode cX0_waitingOf 9 = .ok (.invokevirtual 59, 3) := dk_182 0 59 (dk_at dksX0_waitingOf_0 9 rfl rfl)
theorem dX0_waitingOf_12 : decode cX0_waitingOf 12 = .ok (.if_icmp .ge 25, 3) := dk_162 0 25 (dk_at dksX0_waitingOf_0 12 rfl rfl)
theorem dX0_waitingOf_15 : decode cX0_waitingOf 15 = .ok (.iload_n 2, 1) := dk_28 (dk_at dksX0_waitingOf_0 15 rfl rfl)
theorem dX0_waitingOf_16 : decode cX0_waitingOf 16 = .ok (.aload_n 0, 1) := dk_42 (dk_at dksX0_waitingOf_0 16 rfl rfl)
theorem dX0_waitingOf_17 : decode cX0_waitingOf 17 = .ok (.getfield 33, 3) := dk_180 0 33 (dk_at dksX0_waitingOf_0 17 rfl rfl)
theorem dX0_waitingOf_20 : decode cX0_waitingOf 20 = .ok (.getfield 269, 3) := dk_180 1 13 (dk_at dksX0_waitingOf_0 20 rfl rfl)
theorem dX0_waitingOf_23 : decode cX0_waitingOf 23 = .ok (.iload_n 3, 1) := dk_29 (dk_at dksX0_waitingOf_0 23 rfl rfl)
theorem dX0_waitingOf_24 : decode cX0_waitingOf 24 = .ok (.aaload, 1) := dk_50 (dk_at dksX0_waitingOf_1 0 rfl rfl)
theorem dX0_waitingOf_25 : decode cX0_waitingOf 25 = .ok (.iload_n 1, 1) := dk_27 (dk_at dksX0_waitingOf_1 1 rfl rfl)
theorem dX0_waitingOf_26 : decode cX0_waitingOf 26 = .ok (.invokevirtual 333, 3) := dk_182 1 77 (dk_at dksX0_waitingOf_1 2 rfl rfl)
theorem dX0_waitingOf_29 : decode cX0_waitingOf 29 = .ok (.iadd, 1) := dk_96 (dk_at dksX0_waitingOf_1 5 rfl rfl)
theorem dX0_waitingOf_30 : decode cX0_waitingOf 30 = .ok (.istore_n 2, 1) := dk_61 (dk_at dksX0_waitingOf_1 6 rfl rfl)
theorem dX0_waitingOf_31 : decode cX0_waitingOf 31 = .ok (.iinc 3 1, 3) := dk_132 3 1 (dk_at dksX0_waitingOf_1 7 rfl rfl)
theorem dX0_waitingOf_34 : decode cX0_waitingOf 34 = .ok (.goto (-30), 3) := dk_167 255 226 (dk_at dksX0_waitingOf_1 10 rfl rfl)
theorem dX0_waitingOf_37 : decode cX0_waitingOf 37 = .ok (.iload_n 2, 1) := dk_28 (dk_at dksX0_waitingOf_1 13 rfl rfl)
theorem dX0_waitingOf_38 : decode cX0_waitingOf 38 = .ok (.ireturn, 1) := dk_172 (dk_at dksX0_waitingOf_1 14 rfl rfl)
abbrev cX0_aboardOf : ByteArray := prog_1_method_34_code
def yX0_aboardOf : MethodName := ⟨RX0, "aboardOf", "(I)I"⟩
def dkwX0_aboardOf_1 : List UInt8 := [29, 50, 180, 0, 168, 27, 182, 1, 77, 96, 61, 132, 3, 1, 167, 255, 222, 28, 172]
abbrev dktX0_aboardOf_1 : List UInt8 := dkwX0_aboardOf_1 ++ []
def dkwX0_aboardOf_0 : List UInt8 := [3, 61, 3, 62, 29, 42, 180, 0, 33, 180, 0, 63, 190, 162, 0, 28, 28, 42, 180, 0, 33, 180, 0, 63]
abbrev dktX0_aboardOf_0 : List UInt8 := dkwX0_aboardOf_0 ++ dktX0_aboardOf_1
theorem dksX0_aboardOf_0 : cX0_aboardOf.data.toList.drop 0 = dktX0_aboardOf_0 := by decide +kernel
theorem dksX0_aboardOf_1 : cX0_aboardOf.data.toList.drop 24 = dktX0_aboardOf_1 := dk_seg dksX0_aboardOf_0 24 rfl rfl
theorem dX0_aboardOf_0 : decode cX0_aboardOf 0 = .ok (.iconst 0, 1) := dk_3 (dk_at dksX0_aboardOf_0 0 rfl rfl)
theorem dX0_aboardOf_1 : decode cX0_aboardOf 1 = .ok (.istore_n 2, 1) := dk_61 (dk_at dksX0_aboardOf_0 1 rfl rfl)
theorem dX0_aboardOf_2 : decode cX0_aboardOf 2 = .ok (.iconst 0, 1) := dk_3 (dk_at dksX0_aboardOf_0 2 rfl rfl)
theorem dX0_aboardOf_3 : decode cX0_aboardOf 3 = .ok (.istore_n 3, 1) := dk_62 (dk_at dksX0_aboardOf_0 3 rfl rfl)
theorem dX0_aboardOf_4 : decode cX0_aboardOf 4 = .ok (.iload_n 3, 1) := dk_29 (dk_at dksX0_aboardOf_0 4 rfl rfl)
theorem dX0_aboardOf_5 : decode cX0_aboardOf 5 = .ok (.aload_n 0, 1) := dk_42 (dk_at dksX0_aboardOf_0 5 rfl rfl)
theorem dX0_aboardOf_6 : decode cX0_aboardOf 6 = .ok (.getfield 33, 3) := dk_180 0 33 (dk_at dksX0_aboardOf_0 6 rfl rfl)
theorem dX0_aboardOf_9 : decode cX0_aboardOf 9 = .ok (.getfield 63, 3) := dk_180 0 63 (dk_at dksX0_aboardOf_0 9 rfl rfl)
theorem dX0_aboardOf_12 : decode cX0_aboardOf 12 = .ok (.arraylength, 1) := dk_190 (dk_at dksX0_aboardOf_0 12 rfl rfl)
theorem dX0_aboardOf_13 : decode cX0_aboardOf 13 = .ok (.if_icmp .ge 28, 3) := dk_162 0 28 (dk_at dksX0_aboardOf_0 13 rfl rfl)
theorem dX0_aboardOf_16 : decode cX0_aboardOf 16 = .ok (.iload_n 2, 1) := dk_28 (dk_at dksX0_aboardOf_0 16 rfl rfl)
theorem dX0_aboardOf_17 : decode cX0_aboardOf 17 = .ok (.aload_n 0, 1) := dk_42 (dk_at dksX0_aboardOf_0 17 rfl rfl)
theorem dX0_aboardOf_18 : decode cX0_aboardOf 18 = .ok (.getfield 33, 3) := dk_180 0 33 (dk_at dksX0_aboardOf_0 18 rfl rfl)
theorem dX0_aboardOf_21 : decode cX0_aboardOf 21 = .ok (.getfield 63, 3) := dk_180 0 63 (dk_at dksX0_aboardOf_0 21 rfl rfl)
theorem dX0_aboardOf_24 : decode cX0_aboardOf 24 = .ok (.iload_n 3, 1) := dk_29 (dk_at dksX0_aboardOf_1 0 rfl rfl)
theorem dX0_aboardOf_25 : decode cX0_aboardOf 25 = .ok (.aaload, 1) := dk_50 (dk_at dksX0_aboardOf_1 1 rfl rfl)
theorem dX0_aboardOf_26 : decode cX0_aboardOf 26 = .ok (.getfield 168, 3) := dk_180 0 168 (dk_at dksX0_aboardOf_1 2 rfl rfl)
theorem dX0_aboardOf_29 : decode cX0_aboardOf 29 = .ok (.iload_n 1, 1) := dk_27 (dk_at dksX0_aboardOf_1 5 rfl rfl)
theorem dX0_aboardOf_30 : decode cX0_aboardOf 30 = .ok (.invokevirtual 333, 3) := dk_182 1 77 (dk_at dksX0_aboardOf_1 6 rfl rfl)
theorem dX0_aboardOf_33 : decode cX0_aboardOf 33 = .ok (.iadd, 1) := dk_96 (dk_at dksX0_aboardOf_1 9 rfl rfl)
theorem dX0_aboardOf_34 : decode cX0_aboardOf 34 = .ok (.istore_n 2, 1) := dk_61 (dk_at dksX0_aboardOf_1 10 rfl rfl)
theorem dX0_aboardOf_35 : decode cX0_aboardOf 35 = .ok (.iinc 3 1, 3) := dk_132 3 1 (dk_at dksX0_aboardOf_1 11 rfl rfl)
theorem dX0_aboardOf_38 : decode cX0_aboardOf 38 = .ok (.goto (-34), 3) := dk_167 255 222 (dk_at dksX0_aboardOf_1 14 rfl rfl)
theorem dX0_aboardOf_41 : decode cX0_aboardOf 41 = .ok (.iload_n 2, 1) := dk_28 (dk_at dksX0_aboardOf_1 17 rfl rfl)
theorem dX0_aboardOf_42 : decode cX0_aboardOf 42 = .ok (.ireturn, 1) := dk_172 (dk_at dksX0_aboardOf_1 18 rfl rfl)
abbrev cX0_rider : ByteArray := prog_1_method_36_code
def yX0_rider : MethodName := ⟨RX0, "rider", "(III)I"⟩
def dkwX0_rider_4 : List UInt8 := [180, 0, 71, 182, 0, 74, 167, 0, 10, 25, 4, 180, 1, 109, 28, 46, 172]
abbrev dktX0_rider_4 : List UInt8 := dkwX0_rider_4 ++ []
def dkwX0_rider_3 : List UInt8 := [46, 167, 0, 38, 25, 4, 180, 1, 109, 28, 46, 16, 16, 160, 0, 19, 42, 180, 0, 33, 180, 0, 67]
abbrev dktX0_rider_3 : List UInt8 := dkwX0_rider_3 ++ dktX0_rider_4
def dkwX0_rider_2 : List UInt8 := [154, 0, 13, 25, 4, 180, 1, 104, 28, 46, 167, 0, 53, 29, 4, 160, 0, 13, 25, 4, 180, 1, 106, 28]
abbrev dktX0_rider_2 : List UInt8 := dkwX0_rider_2 ++ dktX0_rider_3
def dkwX0_rider_1 : List UInt8 := [180, 0, 33, 180, 1, 13, 27, 50, 58, 4, 28, 25, 4, 180, 1, 17, 161, 0, 6, 16, 254, 172, 29]
abbrev dktX0_rider_1 : List UInt8 := dkwX0_rider_1 ++ dktX0_rider_2
def dkwX0_rider_0 : List UInt8 := [42, 27, 182, 0, 142, 153, 0, 16, 28, 155, 0, 12, 29, 3, 5, 184, 0, 3, 154, 0, 5, 2, 172, 42]
abbrev dktX0_rider_0 : List UInt8 := dkwX0_rider_0 ++ dktX0_rider_1
theorem dksX0_rider_0 : cX0_rider.data.toList.drop 0 = dktX0_rider_0 := by decide +kernel
theorem dksX0_rider_1 : cX0_rider.data.toList.drop 24 = dktX0_rider_1 := dk_seg dksX0_rider_0 24 rfl rfl
theorem dksX0_rider_2 : cX0_rider.data.toList.drop 47 = dktX0_rider_2 := dk_seg dksX0_rider_1 23 rfl rfl
theorem dksX0_rider_3 : cX0_rider.data.toList.drop 71 = dktX0_rider_3 := dk_seg dksX0_rider_2 24 rfl rfl
theorem dksX0_rider_4 : cX0_rider.data.toList.drop 94 = dktX0_rider_4 := dk_seg dksX0_rider_3 23 rfl rfl
theorem dX0_rider_0 : decode cX0_rider 0 = .ok (.aload_n 0, 1) := dk_42 (dk_at dksX0_rider_0 0 rfl rfl)
theorem dX0_rider_1 : decode cX0_rider 1 = .ok (.iload_n 1, 1) := dk_27 (dk_at dksX0_rider_0 1 rfl rfl)
theorem dX0_rider_2 : decode cX0_rider 2 = .ok (.invokevirtual 142, 3) := dk_182 0 142 (dk_at dksX0_rider_0 2 rfl rfl)
theorem dX0_rider_5 : decode cX0_rider 5 = .ok (.ifCond .eq 16, 3) := dk_153 0 16 (dk_at dksX0_rider_0 5 rfl rfl)
theorem dX0_rider_8 : decode cX0_rider 8 = .ok (.iload_n 2, 1) := dk_28 (dk_at dksX0_rider_0 8 rfl rfl)
theorem dX0_rider_9 : decode cX0_rider 9 = .ok (.ifCond .lt 12, 3) := dk_155 0 12 (dk_at dksX0_rider_0 9 rfl rfl)
theorem dX0_rider_12 : decode cX0_rider 12 = .ok (.iload_n 3, 1) := dk_29 (dk_at dksX0_rider_0 12 rfl rfl)
theorem dX0_rider_13 : decode cX0_rider 13 = .ok (.iconst 0, 1) := dk_3 (dk_at dksX0_rider_0 13 rfl rfl)
theorem dX0_rider_14 : decode cX0_rider 14 = .ok (.iconst 2, 1) := dk_5 (dk_at dksX0_rider_0 14 rfl rfl)
theorem dX0_rider_15 : decode cX0_rider 15 = .ok (.invokestatic 3, 3) := dk_184 0 3 (dk_at dksX0_rider_0 15 rfl rfl)
theorem dX0_rider_18 : decode cX0_rider 18 = .ok (.ifCond .ne 5, 3) := dk_154 0 5 (dk_at dksX0_rider_0 18 rfl rfl)
theorem dX0_rider_21 : decode cX0_rider 21 = .ok (.iconst (-1), 1) := dk_2 (dk_at dksX0_rider_0 21 rfl rfl)
theorem dX0_rider_22 : decode cX0_rider 22 = .ok (.ireturn, 1) := dk_172 (dk_at dksX0_rider_0 22 rfl rfl)
theorem dX0_rider_23 : decode cX0_rider 23 = .ok (.aload_n 0, 1) := dk_42 (dk_at dksX0_rider_0 23 rfl rfl)
theorem dX0_rider_24 : decode cX0_rider 24 = .ok (.getfield 33, 3) := dk_180 0 33 (dk_at dksX0_rider_1 0 rfl rfl)
theorem dX0_rider_27 : decode cX0_rider 27 = .ok (.getfield 269, 3) := dk_180 1 13 (dk_at dksX0_rider_1 3 rfl rfl)
theorem dX0_rider_30 : decode cX0_rider 30 = .ok (.iload_n 1, 1) := dk_27 (dk_at dksX0_rider_1 6 rfl rfl)
theorem dX0_rider_31 : decode cX0_rider 31 = .ok (.aaload, 1) := dk_50 (dk_at dksX0_rider_1 7 rfl rfl)
theorem dX0_rider_32 : decode cX0_rider 32 = .ok (.astore 4, 2) := dk_58 4 (dk_at dksX0_rider_1 8 rfl rfl)
theorem dX0_rider_34 : decode cX0_rider 34 = .ok (.iload_n 2, 1) := dk_28 (dk_at dksX0_rider_1 10 rfl rfl)
theorem dX0_rider_35 : decode cX0_rider 35 = .ok (.aload 4, 2) := dk_25 4 (dk_at dksX0_rider_1 11 rfl rfl)
theorem dX0_rider_37 : decode cX0_rider 37 = .ok (.getfield 273, 3) := dk_180 1 17 (dk_at dksX0_rider_1 13 rfl rfl)
theorem dX0_rider_40 : decode cX0_rider 40 = .ok (.if_icmp .lt 6, 3) := dk_161 0 6 (dk_at dksX0_rider_1 16 rfl rfl)
theorem dX0_rider_43 : decode cX0_rider 43 = .ok (.bipush (-2), 2) := dk_16 254 (dk_at dksX0_rider_1 19 rfl rfl)
theorem dX0_rider_45 : decode cX0_rider 45 = .ok (.ireturn, 1) := dk_172 (dk_at dksX0_rider_1 21 rfl rfl)
theorem dX0_rider_46 : decode cX0_rider 46 = .ok (.iload_n 3, 1) := dk_29 (dk_at dksX0_rider_1 22 rfl rfl)
theorem dX0_rider_47 : decode cX0_rider 47 = .ok (.ifCond .ne 13, 3) := dk_154 0 13 (dk_at dksX0_rider_2 0 rfl rfl)
theorem dX0_rider_50 : decode cX0_rider 50 = .ok (.aload 4, 2) := dk_25 4 (dk_at dksX0_rider_2 3 rfl rfl)
theorem dX0_rider_52 : decode cX0_rider 52 = .ok (.getfield 360, 3) := dk_180 1 104 (dk_at dksX0_rider_2 5 rfl rfl)
theorem dX0_rider_55 : decode cX0_rider 55 = .ok (.iload_n 2, 1) := dk_28 (dk_at dksX0_rider_2 8 rfl rfl)
theorem dX0_rider_56 : decode cX0_rider 56 = .ok (.iaload, 1) := dk_46 (dk_at dksX0_rider_2 9 rfl rfl)
theorem dX0_rider_57 : decode cX0_rider 57 = .ok (.goto 53, 3) := dk_167 0 53 (dk_at dksX0_rider_2 10 rfl rfl)
theorem dX0_rider_60 : decode cX0_rider 60 = .ok (.iload_n 3, 1) := dk_29 (dk_at dksX0_rider_2 13 rfl rfl)
theorem dX0_rider_61 : decode cX0_rider 61 = .ok (.iconst 1, 1) := dk_4 (dk_at dksX0_rider_2 14 rfl rfl)
theorem dX0_rider_62 : decode cX0_rider 62 = .ok (.if_icmp .ne 13, 3) := dk_160 0 13 (dk_at dksX0_rider_2 15 rfl rfl)
theorem dX0_rider_65 : decode cX0_rider 65 = .ok (.aload 4, 2) := dk_25 4 (dk_at dksX0_rider_2 18 rfl rfl)
theorem dX0_rider_67 : decode cX0_rider 67 = .ok (.getfield 362, 3) := dk_180 1 106 (dk_at dksX0_rider_2 20 rfl rfl)
theorem dX0_rider_70 : decode cX0_rider 70 = .ok (.iload_n 2, 1) := dk_28 (dk_at dksX0_rider_2 23 rfl rfl)
theorem dX0_rider_71 : decode cX0_rider 71 = .ok (.iaload, 1) := dk_46 (dk_at dksX0_rider_3 0 rfl rfl)
theorem dX0_rider_72 : decode cX0_rider 72 = .ok (.goto 38, 3) := dk_167 0 38 (dk_at dksX0_rider_3 1 rfl rfl)
theorem dX0_rider_75 : decode cX0_rider 75 = .ok (.aload 4, 2) := dk_25 4 (dk_at dksX0_rider_3 4 rfl rfl)
theorem dX0_rider_77 : decode cX0_rider 77 = .ok (.getfield 365, 3) := dk_180 1 109 (dk_at dksX0_rider_3 6 rfl rfl)
theorem dX0_rider_80 : decode cX0_rider 80 = .ok (.iload_n 2, 1) := dk_28 (dk_at dksX0_rider_3 9 rfl rfl)
theorem dX0_rider_81 : decode cX0_rider 81 = .ok (.iaload, 1) := dk_46 (dk_at dksX0_rider_3 10 rfl rfl)
theorem dX0_rider_82 : decode cX0_rider 82 = .ok (.bipush 16, 2) := dk_16 16 (dk_at dksX0_rider_3 11 rfl rfl)
theorem dX0_rider_84 : decode cX0_rider 84 = .ok (.if_icmp .ne 19, 3) := dk_160 0 19 (dk_at dksX0_rider_3 13 rfl rfl)
theorem dX0_rider_87 : decode cX0_rider 87 = .ok (.aload_n 0, 1) := dk_42 (dk_at dksX0_rider_3 16 rfl rfl)
theorem dX0_rider_88 : decode cX0_rider 88 = .ok (.getfield 33, 3) := dk_180 0 33 (dk_at dksX0_rider_3 17 rfl rfl)
theorem dX0_rider_91 : decode cX0_rider 91 = .ok (.getfield 67, 3) := dk_180 0 67 (dk_at dksX0_rider_3 20 rfl rfl)
theorem dX0_rider_94 : decode cX0_rider 94 = .ok (.getfield 71, 3) := dk_180 0 71 (dk_at dksX0_rider_4 0 rfl rfl)
theorem dX0_rider_97 : decode cX0_rider 97 = .ok (.invokevirtual 74, 3) := dk_182 0 74 (dk_at dksX0_rider_4 3 rfl rfl)
theorem dX0_rider_100 : decode cX0_rider 100 = .ok (.goto 10, 3) := dk_167 0 10 (dk_at dksX0_rider_4 6 rfl rfl)
theorem dX0_rider_103 : decode cX0_rider 103 = .ok (.aload 4, 2) := dk_25 4 (dk_at dksX0_rider_4 9 rfl rfl)
theorem dX0_rider_105 : decode cX0_rider 105 = .ok (.getfield 365, 3) := dk_180 1 109 (dk_at dksX0_rider_4 11 rfl rfl)
theorem dX0_rider_108 : decode cX0_rider 108 = .ok (.iload_n 2, 1) := dk_28 (dk_at dksX0_rider_4 14 rfl rfl)
theorem dX0_rider_109 : decode cX0_rider 109 = .ok (.iaload, 1) := dk_46 (dk_at dksX0_rider_4 15 rfl rfl)
theorem dX0_rider_110 : decode cX0_rider 110 = .ok (.ireturn, 1) := dk_172 (dk_at dksX0_rider_4 16 rfl rfl)
abbrev cX0_aboard : ByteArray := prog_1_method_37_code
def yX0_aboard : MethodName := ⟨RX0, "aboard", "(II)I"⟩
def dkwX0_aboard_1 : List UInt8 := [50, 180, 0, 168, 28, 182, 0, 175, 167, 0, 4, 2, 172]
abbrev dktX0_aboard_1 : List UInt8 := dkwX0_aboard_1 ++ []
def dkwX0_aboard_0 : List UInt8 := [42, 27, 182, 0, 156, 153, 0, 30, 42, 28, 182, 0, 142, 153, 0, 22, 42, 180, 0, 33, 180, 0, 63, 27]
abbrev dktX0_aboard_0 : List UInt8 := dkwX0_aboard_0 ++ dktX0_aboard_1
theorem dksX0_aboard_0 : cX0_aboard.data.toList.drop 0 = dktX0_aboard_0 := by decide +kernel
theorem dksX0_aboard_1 : cX0_aboard.data.toList.drop 24 = dktX0_aboard_1 := dk_seg dksX0_aboard_0 24 rfl rfl
theorem dX0_aboard_0 : decode cX0_aboard 0 = .ok (.aload_n 0, 1) := dk_42 (dk_at dksX0_aboard_0 0 rfl rfl)
theorem dX0_aboard_1 : decode cX0_aboard 1 = .ok (.iload_n 1, 1) := dk_27 (dk_at dksX0_aboard_0 1 rfl rfl)
theorem dX0_aboard_2 : decode cX0_aboard 2 = .ok (.invokevirtual 156, 3) := dk_182 0 156 (dk_at dksX0_aboard_0 2 rfl rfl)
theorem dX0_aboard_5 : decode cX0_aboard 5 = .ok (.ifCond .eq 30, 3) := dk_153 0 30 (dk_at dksX0_aboard_0 5 rfl rfl)
theorem dX0_aboard_8 : decode cX0_aboard 8 = .ok (.aload_n 0, 1) := dk_42 (dk_at dksX0_aboard_0 8 rfl rfl)
theorem dX0_aboard_9 : decode cX0_aboard 9 = .ok (.iload_n 2, 1) := dk_28 (dk_at dksX0_aboard_0 9 rfl rfl)
theorem dX0_aboard_10 : decode cX0_aboard 10 = .ok (.invokevirtual 142, 3) := dk_182 0 142 (dk_at dksX0_aboard_0 10 rfl rfl)
theorem dX0_aboard_13 : decode cX0_aboard 13 = .ok (.ifCond .eq 22, 3) := dk_153 0 22 (dk_at dksX0_aboard_0 13 rfl rfl)
theorem dX0_aboard_16 : decode cX0_aboard 16 = .ok (.aload_n 0, 1) := dk_42 (dk_at dksX0_aboard_0 16 rfl rfl)
theorem dX0_aboard_17 : decode cX0_aboard 17 = .ok (.getfield 33, 3) := dk_180 0 33 (dk_at dksX0_aboard_0 17 rfl rfl)
theorem dX0_aboard_20 : decode cX0_aboard 20 = .ok (.getfield 63, 3) := dk_180 0 63 (dk_at dksX0_aboard_0 20 rfl rfl)
theorem dX0_aboard_23 : decode cX0_aboard 23 = .ok (.iload_n 1, 1) := dk_27 (dk_at dksX0_aboard_0 23 rfl rfl)
theorem dX0_aboard_24 : decode cX0_aboard 24 = .ok (.aaload, 1) := dk_50 (dk_at dksX0_aboard_1 0 rfl rfl)
theorem dX0_aboard_25 : decode cX0_aboard 25 = .ok (.getfield 168, 3) := dk_180 0 168 (dk_at dksX0_aboard_1 1 rfl rfl)
theorem dX0_aboard_28 : decode cX0_aboard 28 = .ok (.iload_n 2, 1) := dk_28 (dk_at dksX0_aboard_1 4 rfl rfl)
theorem dX0_aboard_29 : decode cX0_aboard 29 = .ok (.invokevirtual 175, 3) := dk_182 0 175 (dk_at dksX0_aboard_1 5 rfl rfl)
theorem dX0_aboard_32 : decode cX0_aboard 32 = .ok (.goto 4, 3) := dk_167 0 4 (dk_at dksX0_aboard_1 8 rfl rfl)
theorem dX0_aboard_35 : decode cX0_aboard 35 = .ok (.iconst (-1), 1) := dk_2 (dk_at dksX0_aboard_1 11 rfl rfl)
theorem dX0_aboard_36 : decode cX0_aboard 36 = .ok (.ireturn, 1) := dk_172 (dk_at dksX0_aboard_1 12 rfl rfl)
abbrev cX0_left : ByteArray := prog_1_method_38_code
def yX0_left : MethodName := ⟨RX0, "left", "(III)I"⟩
def dkwX0_left_3 : List UInt8 := [46, 167, 0, 10, 25, 4, 180, 1, 118, 28, 46, 172]
abbrev dktX0_left_3 : List UInt8 := dkwX0_left_3 ++ []
def dkwX0_left_2 : List UInt8 := [154, 0, 13, 25, 4, 180, 1, 113, 28, 46, 167, 0, 25, 29, 4, 160, 0, 13, 25, 4, 180, 1, 115, 28]
abbrev dktX0_left_2 : List UInt8 := dkwX0_left_2 ++ dktX0_left_3
def dkwX0_left_1 : List UInt8 := [180, 0, 33, 180, 1, 20, 27, 50, 58, 4, 28, 25, 4, 180, 1, 112, 161, 0, 6, 16, 254, 172, 29]
abbrev dktX0_left_1 : List UInt8 := dkwX0_left_1 ++ dktX0_left_2
def dkwX0_left_0 : List UInt8 := [42, 27, 182, 0, 142, 153, 0, 16, 28, 155, 0, 12, 29, 3, 5, 184, 0, 3, 154, 0, 5, 2, 172, 42]
abbrev dktX0_left_0 : List UInt8 := dkwX0_left_0 ++ dktX0_left_1
theorem dksX0_left_0 : cX0_left.data.toList.drop 0 = dktX0_left_0 := by decide +kernel
theorem dksX0_left_1 : cX0_left.data.toList.drop 24 = dktX0_left_1 := dk_seg dksX0_left_0 24 rfl rfl
theorem dksX0_left_2 : cX0_left.data.toList.drop 47 = dktX0_left_2 := dk_seg dksX0_left_1 23 rfl rfl
theorem dksX0_left_3 : cX0_left.data.toList.drop 71 = dktX0_left_3 := dk_seg dksX0_left_2 24 rfl rfl
theorem dX0_left_0 : decode cX0_left 0 = .ok (.aload_n 0, 1) := dk_42 (dk_at dksX0_left_0 0 rfl rfl)
theorem dX0_left_1 : decode cX0_left 1 = .ok (.iload_n 1, 1) := dk_27 (dk_at dksX0_left_0 1 rfl rfl)
theorem dX0_left_2 : decode cX0_left 2 = .ok (.invokevirtual 142, 3) := dk_182 0 142 (dk_at dksX0_left_0 2 rfl rfl)
theorem dX0_left_5 : decode cX0_left 5 = .ok (.ifCond .eq 16, 3) := dk_153 0 16 (dk_at dksX0_left_0 5 rfl rfl)
theorem dX0_left_8 : decode cX0_left 8 = .ok (.iload_n 2, 1) := dk_28 (dk_at dksX0_left_0 8 rfl rfl)
theorem dX0_left_9 : decode cX0_left 9 = .ok (.ifCond .lt 12, 3) := dk_155 0 12 (dk_at dksX0_left_0 9 rfl rfl)
theorem dX0_left_12 : decode cX0_left 12 = .ok (.iload_n 3, 1) := dk_29 (dk_at dksX0_left_0 12 rfl rfl)
theorem dX0_left_13 : decode cX0_left 13 = .ok (.iconst 0, 1) := dk_3 (dk_at dksX0_left_0 13 rfl rfl)
theorem dX0_left_14 : decode cX0_left 14 = .ok (.iconst 2, 1) := dk_5 (dk_at dksX0_left_0 14 rfl rfl)
theorem dX0_left_15 : decode cX0_left 15 = .ok (.invokestatic 3, 3) := dk_184 0 3 (dk_at dksX0_left_0 15 rfl rfl)
theorem dX0_left_18 : decode cX0_left 18 = .ok (.ifCond .ne 5, 3) := dk_154 0 5 (dk_at dksX0_left_0 18 rfl rfl)
theorem dX0_left_21 : decode cX0_left 21 = .ok (.iconst (-1), 1) := dk_2 (dk_at dksX0_left_0 21 rfl rfl)
theorem dX0_left_22 : decode cX0_left 22 = .ok (.ireturn, 1) := dk_172 (dk_at dksX0_left_0 22 rfl rfl)
theorem dX0_left_23 : decode cX0_left 23 = .ok (.aload_n 0, 1) := dk_42 (dk_at dksX0_left_0 23 rfl rfl)
theorem dX0_left_24 : decode cX0_left 24 = .ok (.getfield 33, 3) := dk_180 0 33 (dk_at dksX0_left_1 0 rfl rfl)
theorem dX0_left_27 : decode cX0_left 27 = .ok (.getfield 276, 3) := dk_180 1 20 (dk_at dksX0_left_1 3 rfl rfl)
theorem dX0_left_30 : decode cX0_left 30 = .ok (.iload_n 1, 1) := dk_27 (dk_at dksX0_left_1 6 rfl rfl)
theorem dX0_left_31 : decode cX0_left 31 = .ok (.aaload, 1) := dk_50 (dk_at dksX0_left_1 7 rfl rfl)
theorem dX0_left_32 : decode cX0_left 32 = .ok (.astore 4, 2) := dk_58 4 (dk_at dksX0_left_1 8 rfl rfl)
theorem dX0_left_34 : decode cX0_left 34 = .ok (.iload_n 2, 1) := dk_28 (dk_at dksX0_left_1 10 rfl rfl)
theorem dX0_left_35 : decode cX0_left 35 = .ok (.aload 4, 2) := dk_25 4 (dk_at dksX0_left_1 11 rfl rfl)
theorem dX0_left_37 : decode cX0_left 37 = .ok (.getfield 368, 3) := dk_180 1 112 (dk_at dksX0_left_1 13 rfl rfl)
theorem dX0_left_40 : decode cX0_left 40 = .ok (.if_icmp .lt 6, 3) := dk_161 0 6 (dk_at dksX0_left_1 16 rfl rfl)
theorem dX0_left_43 : decode cX0_left 43 = .ok (.bipush (-2), 2) := dk_16 254 (dk_at dksX0_left_1 19 rfl rfl)
theorem dX0_left_45 : decode cX0_left 45 = .ok (.ireturn, 1) := dk_172 (dk_at dksX0_left_1 21 rfl rfl)
theorem dX0_left_46 : decode cX0_left 46 = .ok (.iload_n 3, 1) := dk_29 (dk_at dksX0_left_1 22 rfl rfl)
theorem dX0_left_47 : decode cX0_left 47 = .ok (.ifCond .ne 13, 3) := dk_154 0 13 (dk_at dksX0_left_2 0 rfl rfl)
theorem dX0_left_50 : decode cX0_left 50 = .ok (.aload 4, 2) := dk_25 4 (dk_at dksX0_left_2 3 rfl rfl)
theorem dX0_left_52 : decode cX0_left 52 = .ok (.getfield 369, 3) := dk_180 1 113 (dk_at dksX0_left_2 5 rfl rfl)
theorem dX0_left_55 : decode cX0_left 55 = .ok (.iload_n 2, 1) := dk_28 (dk_at dksX0_left_2 8 rfl rfl)
theorem dX0_left_56 : decode cX0_left 56 = .ok (.iaload, 1) := dk_46 (dk_at dksX0_left_2 9 rfl rfl)
theorem dX0_left_57 : decode cX0_left 57 = .ok (.goto 25, 3) := dk_167 0 25 (dk_at dksX0_left_2 10 rfl rfl)
theorem dX0_left_60 : decode cX0_left 60 = .ok (.iload_n 3, 1) := dk_29 (dk_at dksX0_left_2 13 rfl rfl)
theorem dX0_left_61 : decode cX0_left 61 = .ok (.iconst 1, 1) := dk_4 (dk_at dksX0_left_2 14 rfl rfl)
theorem dX0_left_62 : decode cX0_left 62 = .ok (.if_icmp .ne 13, 3) := dk_160 0 13 (dk_at dksX0_left_2 15 rfl rfl)
theorem dX0_left_65 : decode cX0_left 65 = .ok (.aload 4, 2) := dk_25 4 (dk_at dksX0_left_2 18 rfl rfl)
theorem dX0_left_67 : decode cX0_left 67 = .ok (.getfield 371, 3) := dk_180 1 115 (dk_at dksX0_left_2 20 rfl rfl)
theorem dX0_left_70 : decode cX0_left 70 = .ok (.iload_n 2, 1) := dk_28 (dk_at dksX0_left_2 23 rfl rfl)
theorem dX0_left_71 : decode cX0_left 71 = .ok (.iaload, 1) := dk_46 (dk_at dksX0_left_3 0 rfl rfl)
theorem dX0_left_72 : decode cX0_left 72 = .ok (.goto 10, 3) := dk_167 0 10 (dk_at dksX0_left_3 1 rfl rfl)
theorem dX0_left_75 : decode cX0_left 75 = .ok (.aload 4, 2) := dk_25 4 (dk_at dksX0_left_3 4 rfl rfl)
theorem dX0_left_77 : decode cX0_left 77 = .ok (.getfield 374, 3) := dk_180 1 118 (dk_at dksX0_left_3 6 rfl rfl)
theorem dX0_left_80 : decode cX0_left 80 = .ok (.iload_n 2, 1) := dk_28 (dk_at dksX0_left_3 9 rfl rfl)
theorem dX0_left_81 : decode cX0_left 81 = .ok (.iaload, 1) := dk_46 (dk_at dksX0_left_3 10 rfl rfl)
theorem dX0_left_82 : decode cX0_left 82 = .ok (.ireturn, 1) := dk_172 (dk_at dksX0_left_3 11 rfl rfl)
abbrev cX0_log : ByteArray := prog_1_method_39_code
def yX0_log : MethodName := ⟨RX0, "log", "(II)I"⟩
def dkwX0_log_1 : List UInt8 := [162, 0, 19, 42, 180, 0, 33, 180, 1, 121, 8, 27, 104, 28, 96, 46, 167, 0, 5, 16, 254, 172]
abbrev dktX0_log_1 : List UInt8 := dkwX0_log_1 ++ []
def dkwX0_log_0 : List UInt8 := [27, 155, 0, 12, 28, 3, 7, 184, 0, 3, 154, 0, 5, 2, 172, 27, 42, 180, 0, 33, 180, 0, 255]
abbrev dktX0_log_0 : List UInt8 := dkwX0_log_0 ++ dktX0_log_1
theorem dksX0_log_0 : cX0_log.data.toList.drop 0 = dktX0_log_0 := by decide +kernel
theorem dksX0_log_1 : cX0_log.data.toList.drop 23 = dktX0_log_1 := dk_seg dksX0_log_0 23 rfl rfl
theorem dX0_log_0 : decode cX0_log 0 = .ok (.iload_n 1, 1) := dk_27 (dk_at dksX0_log_0 0 rfl rfl)
theorem dX0_log_1 : decode cX0_log 1 = .ok (.ifCond .lt 12, 3) := dk_155 0 12 (dk_at dksX0_log_0 1 rfl rfl)
theorem dX0_log_4 : decode cX0_log 4 = .ok (.iload_n 2, 1) := dk_28 (dk_at dksX0_log_0 4 rfl rfl)
theorem dX0_log_5 : decode cX0_log 5 = .ok (.iconst 0, 1) := dk_3 (dk_at dksX0_log_0 5 rfl rfl)
theorem dX0_log_6 : decode cX0_log 6 = .ok (.iconst 4, 1) := dk_7 (dk_at dksX0_log_0 6 rfl rfl)
theorem dX0_log_7 : decode cX0_log 7 = .ok (.invokestatic 3, 3) := dk_184 0 3 (dk_at dksX0_log_0 7 rfl rfl)
theorem dX0_log_10 : decode cX0_log 10 = .ok (.ifCond .ne 5, 3) := dk_154 0 5 (dk_at dksX0_log_0 10 rfl rfl)
theorem dX0_log_13 : decode cX0_log 13 = .ok (.iconst (-1), 1) := dk_2 (dk_at dksX0_log_0 13 rfl rfl)
theorem dX0_log_14 : decode cX0_log 14 = .ok (.ireturn, 1) := dk_172 (dk_at dksX0_log_0 14 rfl rfl)
theorem dX0_log_15 : decode cX0_log 15 = .ok (.iload_n 1, 1) := dk_27 (dk_at dksX0_log_0 15 rfl rfl)
theorem dX0_log_16 : decode cX0_log 16 = .ok (.aload_n 0, 1) := dk_42 (dk_at dksX0_log_0 16 rfl rfl)
theorem dX0_log_17 : decode cX0_log 17 = .ok (.getfield 33, 3) := dk_180 0 33 (dk_at dksX0_log_0 17 rfl rfl)
theorem dX0_log_20 : decode cX0_log 20 = .ok (.getfield 255, 3) := dk_180 0 255 (dk_at dksX0_log_0 20 rfl rfl)
theorem dX0_log_23 : decode cX0_log 23 = .ok (.if_icmp .ge 19, 3) := dk_162 0 19 (dk_at dksX0_log_1 0 rfl rfl)
theorem dX0_log_26 : decode cX0_log 26 = .ok (.aload_n 0, 1) := dk_42 (dk_at dksX0_log_1 3 rfl rfl)
theorem dX0_log_27 : decode cX0_log 27 = .ok (.getfield 33, 3) := dk_180 0 33 (dk_at dksX0_log_1 4 rfl rfl)
theorem dX0_log_30 : decode cX0_log 30 = .ok (.getfield 377, 3) := dk_180 1 121 (dk_at dksX0_log_1 7 rfl rfl)
theorem dX0_log_33 : decode cX0_log 33 = .ok (.iconst 5, 1) := dk_8 (dk_at dksX0_log_1 10 rfl rfl)
theorem dX0_log_34 : decode cX0_log 34 = .ok (.iload_n 1, 1) := dk_27 (dk_at dksX0_log_1 11 rfl rfl)
theorem dX0_log_35 : decode cX0_log 35 = .ok (.imul, 1) := dk_104 (dk_at dksX0_log_1 12 rfl rfl)
theorem dX0_log_36 : decode cX0_log 36 = .ok (.iload_n 2, 1) := dk_28 (dk_at dksX0_log_1 13 rfl rfl)
theorem dX0_log_37 : decode cX0_log 37 = .ok (.iadd, 1) := dk_96 (dk_at dksX0_log_1 14 rfl rfl)
theorem dX0_log_38 : decode cX0_log 38 = .ok (.iaload, 1) := dk_46 (dk_at dksX0_log_1 15 rfl rfl)
theorem dX0_log_39 : decode cX0_log 39 = .ok (.goto 5, 3) := dk_167 0 5 (dk_at dksX0_log_1 16 rfl rfl)
theorem dX0_log_42 : decode cX0_log 42 = .ok (.bipush (-2), 2) := dk_16 254 (dk_at dksX0_log_1 19 rfl rfl)
theorem dX0_log_44 : decode cX0_log 44 = .ok (.ireturn, 1) := dk_172 (dk_at dksX0_log_1 21 rfl rfl)
abbrev cX0_named : ByteArray := prog_1_method_40_code
def yX0_named : MethodName := ⟨RX0, "named", "(I)I"⟩
def dkwX0_named_4 : List UInt8 := [154, 0, 7, 2, 167, 0, 17, 42, 180, 0, 33, 180, 0, 67, 44, 182, 0, 93, 182, 1, 126, 172]
abbrev dktX0_named_4 : List UInt8 := dkwX0_named_4 ++ []
def dkwX0_named_3 : List UInt8 := [44, 16, 97, 21, 5, 96, 4, 100, 146, 182, 0, 87, 87, 132, 4, 251, 167, 255, 198, 44, 182, 1, 124]
abbrev dktX0_named_3 : List UInt8 := dkwX0_named_3 ++ dktX0_named_4
def dkwX0_named_2 : List UInt8 := [163, 0, 12, 21, 5, 158, 0, 9, 29, 153, 0, 5, 2, 172, 21, 5, 154, 0, 8, 4, 62, 167, 0, 16]
abbrev dktX0_named_2 : List UInt8 := dkwX0_named_2 ++ dktX0_named_3
def dkwX0_named_1 : List UInt8 := [16, 25, 54, 4, 21, 4, 155, 0, 59, 27, 21, 4, 122, 16, 31, 126, 54, 5, 21, 5, 16, 26]
abbrev dktX0_named_1 : List UInt8 := dkwX0_named_1 ++ dktX0_named_2
def dkwX0_named_0 : List UInt8 := [27, 158, 0, 10, 27, 16, 30, 124, 153, 0, 5, 2, 172, 187, 0, 84, 89, 183, 0, 86, 77, 3, 62]
abbrev dktX0_named_0 : List UInt8 := dkwX0_named_0 ++ dktX0_named_1
theorem dksX0_named_0 : cX0_named.data.toList.drop 0 = dktX0_named_0 := by decide +kernel
theorem dksX0_named_1 : cX0_named.data.toList.drop 23 = dktX0_named_1 := dk_seg dksX0_named_0 23 rfl rfl
theorem dksX0_named_2 : cX0_named.data.toList.drop 45 = dktX0_named_2 := dk_seg dksX0_named_1 22 rfl rfl
theorem dksX0_named_3 : cX0_named.data.toList.drop 69 = dktX0_named_3 := dk_seg dksX0_named_2 24 rfl rfl
theorem dksX0_named_4 : cX0_named.data.toList.drop 92 = dktX0_named_4 := dk_seg dksX0_named_3 23 rfl rfl
theorem dX0_named_0 : decode cX0_named 0 = .ok (.iload_n 1, 1) := dk_27 (dk_at dksX0_named_0 0 rfl rfl)
theorem dX0_named_1 : decode cX0_named 1 = .ok (.ifCond .le 10, 3) := dk_158 0 10 (dk_at dksX0_named_0 1 rfl rfl)
theorem dX0_named_4 : decode cX0_named 4 = .ok (.iload_n 1, 1) := dk_27 (dk_at dksX0_named_0 4 rfl rfl)
theorem dX0_named_5 : decode cX0_named 5 = .ok (.bipush 30, 2) := dk_16 30 (dk_at dksX0_named_0 5 rfl rfl)
theorem dX0_named_7 : decode cX0_named 7 = .ok (.iushr, 1) := dk_124 (dk_at dksX0_named_0 7 rfl rfl)
theorem dX0_named_8 : decode cX0_named 8 = .ok (.ifCond .eq 5, 3) := dk_153 0 5 (dk_at dksX0_named_0 8 rfl rfl)
theorem dX0_named_11 : decode cX0_named 11 = .ok (.iconst (-1), 1) := dk_2 (dk_at dksX0_named_0 11 rfl rfl)
theorem dX0_named_12 : decode cX0_named 12 = .ok (.ireturn, 1) := dk_172 (dk_at dksX0_named_0 12 rfl rfl)
theorem dX0_named_13 : decode cX0_named 13 = .ok (.new 84, 3) := dk_187 0 84 (dk_at dksX0_named_0 13 rfl rfl)
theorem dX0_named_16 : decode cX0_named 16 = .ok (.dup, 1) := dk_89 (dk_at dksX0_named_0 16 rfl rfl)
theorem dX0_named_17 : decode cX0_named 17 = .ok (.invokespecial 86, 3) := dk_183 0 86 (dk_at dksX0_named_0 17 rfl rfl)
theorem dX0_named_20 : decode cX0_named 20 = .ok (.astore_n 2, 1) := dk_77 (dk_at dksX0_named_0 20 rfl rfl)
theorem dX0_named_21 : decode cX0_named 21 = .ok (.iconst 0, 1) := dk_3 (dk_at dksX0_named_0 21 rfl rfl)
theorem dX0_named_22 : decode cX0_named 22 = .ok (.istore_n 3, 1) := dk_62 (dk_at dksX0_named_0 22 rfl rfl)
theorem dX0_named_23 : decode cX0_named 23 = .ok (.bipush 25, 2) := dk_16 25 (dk_at dksX0_named_1 0 rfl rfl)
theorem dX0_named_25 : decode cX0_named 25 = .ok (.istore 4, 2) := dk_54 4 (dk_at dksX0_named_1 2 rfl rfl)
theorem dX0_named_27 : decode cX0_named 27 = .ok (.iload 4, 2) := dk_21 4 (dk_at dksX0_named_1 4 rfl rfl)
theorem dX0_named_29 : decode cX0_named 29 = .ok (.ifCond .lt 59, 3) := dk_155 0 59 (dk_at dksX0_named_1 6 rfl rfl)
theorem dX0_named_32 : decode cX0_named 32 = .ok (.iload_n 1, 1) := dk_27 (dk_at dksX0_named_1 9 rfl rfl)
theorem dX0_named_33 : decode cX0_named 33 = .ok (.iload 4, 2) := dk_21 4 (dk_at dksX0_named_1 10 rfl rfl)
theorem dX0_named_35 : decode cX0_named 35 = .ok (.ishr, 1) := dk_122 (dk_at dksX0_named_1 12 rfl rfl)
theorem dX0_named_36 : decode cX0_named 36 = .ok (.bipush 31, 2) := dk_16 31 (dk_at dksX0_named_1 13 rfl rfl)
theorem dX0_named_38 : decode cX0_named 38 = .ok (.iand, 1) := dk_126 (dk_at dksX0_named_1 15 rfl rfl)
theorem dX0_named_39 : decode cX0_named 39 = .ok (.istore 5, 2) := dk_54 5 (dk_at dksX0_named_1 16 rfl rfl)
theorem dX0_named_41 : decode cX0_named 41 = .ok (.iload 5, 2) := dk_21 5 (dk_at dksX0_named_1 18 rfl rfl)
theorem dX0_named_43 : decode cX0_named 43 = .ok (.bipush 26, 2) := dk_16 26 (dk_at dksX0_named_1 20 rfl rfl)
theorem dX0_named_45 : decode cX0_named 45 = .ok (.if_icmp .gt 12, 3) := dk_163 0 12 (dk_at dksX0_named_2 0 rfl rfl)
theorem dX0_named_48 : decode cX0_named 48 = .ok (.iload 5, 2) := dk_21 5 (dk_at dksX0_named_2 3 rfl rfl)
theorem dX0_named_50 : decode cX0_named 50 = .ok (.ifCond .le 9, 3) := dk_158 0 9 (dk_at dksX0_named_2 5 rfl rfl)
theorem dX0_named_53 : decode cX0_named 53 = .ok (.iload_n 3, 1) := dk_29 (dk_at dksX0_named_2 8 rfl rfl)
theorem dX0_named_54 : decode cX0_named 54 = .ok (.ifCond .eq 5, 3) := dk_153 0 5 (dk_at dksX0_named_2 9 rfl rfl)
theorem dX0_named_57 : decode cX0_named 57 = .ok (.iconst (-1), 1) := dk_2 (dk_at dksX0_named_2 12 rfl rfl)
theorem dX0_named_58 : decode cX0_named 58 = .ok (.ireturn, 1) := dk_172 (dk_at dksX0_named_2 13 rfl rfl)
theorem dX0_named_59 : decode cX0_named 59 = .ok (.iload 5, 2) := dk_21 5 (dk_at dksX0_named_2 14 rfl rfl)
theorem dX0_named_61 : decode cX0_named 61 = .ok (.ifCond .ne 8, 3) := dk_154 0 8 (dk_at dksX0_named_2 16 rfl rfl)
theorem dX0_named_64 : decode cX0_named 64 = .ok (.iconst 1, 1) := dk_4 (dk_at dksX0_named_2 19 rfl rfl)
theorem dX0_named_65 : decode cX0_named 65 = .ok (.istore_n 3, 1) := dk_62 (dk_at dksX0_named_2 20 rfl rfl)
theorem dX0_named_66 : decode cX0_named 66 = .ok (.goto 16, 3) := dk_167 0 16 (dk_at dksX0_named_2 21 rfl rfl)
theorem dX0_named_69 : decode cX0_named 69 = .ok (.aload_n 2, 1) := dk_44 (dk_at dksX0_named_3 0 rfl rfl)
theorem dX0_named_70 : decode cX0_named 70 = .ok (.bipush 97, 2) := dk_16 97 (dk_at dksX0_named_3 1 rfl rfl)
theorem dX0_named_72 : decode cX0_named 72 = .ok (.iload 5, 2) := dk_21 5 (dk_at dksX0_named_3 3 rfl rfl)
theorem dX0_named_74 : decode cX0_named 74 = .ok (.iadd, 1) := dk_96 (dk_at dksX0_named_3 5 rfl rfl)
theorem dX0_named_75 : decode cX0_named 75 = .ok (.iconst 1, 1) := dk_4 (dk_at dksX0_named_3 6 rfl rfl)
theorem dX0_named_76 : decode cX0_named 76 = .ok (.isub, 1) := dk_100 (dk_at dksX0_named_3 7 rfl rfl)
theorem dX0_named_77 : decode cX0_named 77 = .ok (.i2c, 1) := dk_146 (dk_at dksX0_named_3 8 rfl rfl)
theorem dX0_named_78 : decode cX0_named 78 = .ok (.invokevirtual 87, 3) := dk_182 0 87 (dk_at dksX0_named_3 9 rfl rfl)
theorem dX0_named_81 : decode cX0_named 81 = .ok (.pop, 1) := dk_87 (dk_at dksX0_named_3 12 rfl rfl)
theorem dX0_named_82 : decode cX0_named 82 = .ok (.iinc 4 (-5), 3) := dk_132 4 251 (dk_at dksX0_named_3 13 rfl rfl)
theorem dX0_named_85 : decode cX0_named 85 = .ok (.goto (-58), 3) := dk_167 255 198 (dk_at dksX0_named_3 16 rfl rfl)
theorem dX0_named_88 : decode cX0_named 88 = .ok (.aload_n 2, 1) := dk_44 (dk_at dksX0_named_3 19 rfl rfl)
theorem dX0_named_89 : decode cX0_named 89 = .ok (.invokevirtual 380, 3) := dk_182 1 124 (dk_at dksX0_named_3 20 rfl rfl)
theorem dX0_named_92 : decode cX0_named 92 = .ok (.ifCond .ne 7, 3) := dk_154 0 7 (dk_at dksX0_named_4 0 rfl rfl)
theorem dX0_named_95 : decode cX0_named 95 = .ok (.iconst (-1), 1) := dk_2 (dk_at dksX0_named_4 3 rfl rfl)
theorem dX0_named_96 : decode cX0_named 96 = .ok (.goto 17, 3) := dk_167 0 17 (dk_at dksX0_named_4 4 rfl rfl)
theorem dX0_named_99 : decode cX0_named 99 = .ok (.aload_n 0, 1) := dk_42 (dk_at dksX0_named_4 7 rfl rfl)
theorem dX0_named_100 : decode cX0_named 100 = .ok (.getfield 33, 3) := dk_180 0 33 (dk_at dksX0_named_4 8 rfl rfl)
theorem dX0_named_103 : decode cX0_named 103 = .ok (.getfield 67, 3) := dk_180 0 67 (dk_at dksX0_named_4 11 rfl rfl)
theorem dX0_named_106 : decode cX0_named 106 = .ok (.aload_n 2, 1) := dk_44 (dk_at dksX0_named_4 14 rfl rfl)
theorem dX0_named_107 : decode cX0_named 107 = .ok (.invokevirtual 93, 3) := dk_182 0 93 (dk_at dksX0_named_4 15 rfl rfl)
theorem dX0_named_110 : decode cX0_named 110 = .ok (.invokevirtual 382, 3) := dk_182 1 126 (dk_at dksX0_named_4 18 rfl rfl)
theorem dX0_named_113 : decode cX0_named 113 = .ok (.ireturn, 1) := dk_172 (dk_at dksX0_named_4 21 rfl rfl)
abbrev cX0_ahead : ByteArray := prog_1_method_41_code
def yX0_ahead : MethodName := ⟨RX0, "ahead", "(IZ)I"⟩
def dkwX0_ahead_6 : List UInt8 := [153, 0, 8, 21, 4, 167, 0, 5, 21, 5, 172]
abbrev dktX0_ahead_6 : List UInt8 := dkwX0_ahead_6 ++ []
def dkwX0_ahead_5 : List UInt8 := [167, 0, 11, 21, 6, 54, 4, 21, 7, 54, 5, 132, 6, 1, 167, 255, 156, 21, 4, 155, 0, 7, 28]
abbrev dktX0_ahead_5 : List UInt8 := dkwX0_ahead_5 ++ dktX0_ahead_6
def dkwX0_ahead_4 : List UInt8 := [21, 6, 50, 180, 0, 172, 182, 1, 133, 54, 7, 21, 4, 155, 0, 13, 21, 7, 21, 5, 161, 0, 6]
abbrev dktX0_ahead_4 : List UInt8 := dkwX0_ahead_4 ++ dktX0_ahead_5
def dkwX0_ahead_3 : List UInt8 := [154, 0, 6, 167, 0, 55, 42, 180, 0, 33, 180, 0, 67, 45, 180, 0, 172, 42, 180, 0, 33, 180, 0, 63]
abbrev dktX0_ahead_3 : List UInt8 := dkwX0_ahead_3 ++ dktX0_ahead_4
def dkwX0_ahead_2 : List UInt8 := [153, 0, 86, 21, 6, 27, 159, 0, 74, 42, 180, 0, 33, 180, 0, 63, 21, 6, 50, 182, 1, 130]
abbrev dktX0_ahead_2 : List UInt8 := dkwX0_ahead_2 ++ dktX0_ahead_3
def dkwX0_ahead_1 : List UInt8 := [3, 54, 5, 3, 54, 6, 21, 6, 42, 180, 0, 33, 180, 0, 63, 190, 162, 0, 93, 45, 182, 1, 130]
abbrev dktX0_ahead_1 : List UInt8 := dkwX0_ahead_1 ++ dktX0_ahead_2
def dkwX0_ahead_0 : List UInt8 := [42, 27, 182, 0, 156, 154, 0, 5, 2, 172, 42, 180, 0, 33, 180, 0, 63, 27, 50, 78, 16, 254, 54, 4]
abbrev dktX0_ahead_0 : List UInt8 := dkwX0_ahead_0 ++ dktX0_ahead_1
theorem dksX0_ahead_0 : cX0_ahead.data.toList.drop 0 = dktX0_ahead_0 := by decide +kernel
theorem dksX0_ahead_1 : cX0_ahead.data.toList.drop 24 = dktX0_ahead_1 := dk_seg dksX0_ahead_0 24 rfl rfl
theorem dksX0_ahead_2 : cX0_ahead.data.toList.drop 47 = dktX0_ahead_2 := dk_seg dksX0_ahead_1 23 rfl rfl
theorem dksX0_ahead_3 : cX0_ahead.data.toList.drop 69 = dktX0_ahead_3 := dk_seg dksX0_ahead_2 22 rfl rfl
theorem dksX0_ahead_4 : cX0_ahead.data.toList.drop 93 = dktX0_ahead_4 := dk_seg dksX0_ahead_3 24 rfl rfl
theorem dksX0_ahead_5 : cX0_ahead.data.toList.drop 116 = dktX0_ahead_5 := dk_seg dksX0_ahead_4 23 rfl rfl
theorem dksX0_ahead_6 : cX0_ahead.data.toList.drop 139 = dktX0_ahead_6 := dk_seg dksX0_ahead_5 23 rfl rfl
theorem dX0_ahead_0 : decode cX0_ahead 0 = .ok (.aload_n 0, 1) := dk_42 (dk_at dksX0_ahead_0 0 rfl rfl)
theorem dX0_ahead_1 : decode cX0_ahead 1 = .ok (.iload_n 1, 1) := dk_27 (dk_at dksX0_ahead_0 1 rfl rfl)
theorem dX0_ahead_2 : decode cX0_ahead 2 = .ok (.invokevirtual 156, 3) := dk_182 0 156 (dk_at dksX0_ahead_0 2 rfl rfl)
theorem dX0_ahead_5 : decode cX0_ahead 5 = .ok (.ifCond .ne 5, 3) := dk_154 0 5 (dk_at dksX0_ahead_0 5 rfl rfl)
theorem dX0_ahead_8 : decode cX0_ahead 8 = .ok (.iconst (-1), 1) := dk_2 (dk_at dksX0_ahead_0 8 rfl rfl)
theorem dX0_ahead_9 : decode cX0_ahead 9 = .ok (.ireturn, 1) := dk_172 (dk_at dksX0_ahead_0 9 rfl rfl)
theorem dX0_ahead_10 : decode cX0_ahead 10 = .ok (.aload_n 0, 1) := dk_42 (dk_at dksX0_ahead_0 10 rfl rfl)
theorem dX0_ahead_11 : decode cX0_ahead 11 = .ok (.getfield 33, 3) := dk_180 0 33 (dk_at dksX0_ahead_0 11 rfl rfl)
theorem dX0_ahead_14 : decode cX0_ahead 14 = .ok (.getfield 63, 3) := dk_180 0 63 (dk_at dksX0_ahead_0 14 rfl rfl)
theorem dX0_ahead_17 : decode cX0_ahead 17 = .ok (.iload_n 1, 1) := dk_27 (dk_at dksX0_ahead_0 17 rfl rfl)
theorem dX0_ahead_18 : decode cX0_ahead 18 = .ok (.aaload, 1) := dk_50 (dk_at dksX0_ahead_0 18 rfl rfl)
theorem dX0_ahead_19 : decode cX0_ahead 19 = .ok (.astore_n 3, 1) := dk_78 (dk_at dksX0_ahead_0 19 rfl rfl)
theorem dX0_ahead_20 : decode cX0_ahead 20 = .ok (.bipush (-2), 2) := dk_16 254 (dk_at dksX0_ahead_0 20 rfl rfl)
theorem dX0_ahead_22 : decode cX0_ahead 22 = .ok (.istore 4, 2) := dk_54 4 (dk_at dksX0_ahead_0 22 rfl rfl)
theorem dX0_ahead_24 : decode cX0_ahead 24 = .ok (.iconst 0, 1) := dk_3 (dk_at dksX0_ahead_1 0 rfl rfl)
theorem dX0_ahead_25 : decode cX0_ahead 25 = .ok (.istore 5, 2) := dk_54 5 (dk_at dksX0_ahead_1 1 rfl rfl)
theorem dX0_ahead_27 : decode cX0_ahead 27 = .ok (.iconst 0, 1) := dk_3 (dk_at dksX0_ahead_1 3 rfl rfl)
theorem dX0_ahead_28 : decode cX0_ahead 28 = .ok (.istore 6, 2) := dk_54 6 (dk_at dksX0_ahead_1 4 rfl rfl)
theorem dX0_ahead_30 : decode cX0_ahead 30 = .ok (.iload 6, 2) := dk_21 6 (dk_at dksX0_ahead_1 6 rfl rfl)
theorem dX0_ahead_32 : decode cX0_ahead 32 = .ok (.aload_n 0, 1) := dk_42 (dk_at dksX0_ahead_1 8 rfl rfl)
theorem dX0_ahead_33 : decode cX0_ahead 33 = .ok (.getfield 33, 3) := dk_180 0 33 (dk_at dksX0_ahead_1 9 rfl rfl)
theorem dX0_ahead_36 : decode cX0_ahead 36 = .ok (.getfield 63, 3) := dk_180 0 63 (dk_at dksX0_ahead_1 12 rfl rfl)
theorem dX0_ahead_39 : decode cX0_ahead 39 = .ok (.arraylength, 1) := dk_190 (dk_at dksX0_ahead_1 15 rfl rfl)
theorem dX0_ahead_40 : decode cX0_ahead 40 = .ok (.if_icmp .ge 93, 3) := dk_162 0 93 (dk_at dksX0_ahead_1 16 rfl rfl)
theorem dX0_ahead_43 : decode cX0_ahead 43 = .ok (.aload_n 3, 1) := dk_45 (dk_at dksX0_ahead_1 19 rfl rfl)
theorem dX0_ahead_44 : decode cX0_ahead 44 = .ok (.invokevirtual 386, 3) := dk_182 1 130 (dk_at dksX0_ahead_1 20 rfl rfl)
theorem dX0_ahead_47 : decode cX0_ahead 47 = .ok (.ifCond .eq 86, 3) := dk_153 0 86 (dk_at dksX0_ahead_2 0 rfl rfl)
theorem dX0_ahead_50 : decode cX0_ahead 50 = .ok (.iload 6, 2) := dk_21 6 (dk_at dksX0_ahead_2 3 rfl rfl)
theorem dX0_ahead_52 : decode cX0_ahead 52 = .ok (.iload_n 1, 1) := dk_27 (dk_at dksX0_ahead_2 5 rfl rfl)
theorem dX0_ahead_53 : decode cX0_ahead 53 = .ok (.if_icmp .eq 74, 3) := dk_159 0 74 (dk_at dksX0_ahead_2 6 rfl rfl)
theorem dX0_ahead_56 : decode cX0_ahead 56 = .ok (.aload_n 0, 1) := dk_42 (dk_at dksX0_ahead_2 9 rfl rfl)
theorem dX0_ahead_57 : decode cX0_ahead 57 = .ok (.getfield 33, 3) := dk_180 0 33 (dk_at dksX0_ahead_2 10 rfl rfl)
theorem dX0_ahead_60 : decode cX0_ahead 60 = .ok (.getfield 63, 3) := dk_180 0 63 (dk_at dksX0_ahead_2 13 rfl rfl)
theorem dX0_ahead_63 : decode cX0_ahead 63 = .ok (.iload 6, 2) := dk_21 6 (dk_at dksX0_ahead_2 16 rfl rfl)
theorem dX0_ahead_65 : decode cX0_ahead 65 = .ok (.aaload, 1) := dk_50 (dk_at dksX0_ahead_2 18 rfl rfl)
theorem dX0_ahead_66 : decode cX0_ahead 66 = .ok (.invokevirtual 386, 3) := dk_182 1 130 (dk_at dksX0_ahead_2 19 rfl rfl)
theorem dX0_ahead_69 : decode cX0_ahead 69 = .ok (.ifCond .ne 6, 3) := dk_154 0 6 (dk_at dksX0_ahead_3 0 rfl rfl)
theorem dX0_ahead_72 : decode cX0_ahead 72 = .ok (.goto 55, 3) := dk_167 0 55 (dk_at dksX0_ahead_3 3 rfl rfl)
theorem dX0_ahead_75 : decode cX0_ahead 75 = .ok (.aload_n 0, 1) := dk_42 (dk_at dksX0_ahead_3 6 rfl rfl)
theorem dX0_ahead_76 : decode cX0_ahead 76 = .ok (.getfield 33, 3) := dk_180 0 33 (dk_at dksX0_ahead_3 7 rfl rfl)
theorem dX0_ahead_79 : decode cX0_ahead 79 = .ok (.getfield 67, 3) := dk_180 0 67 (dk_at dksX0_ahead_3 10 rfl rfl)
theorem dX0_ahead_82 : decode cX0_ahead 82 = .ok (.aload_n 3, 1) := dk_45 (dk_at dksX0_ahead_3 13 rfl rfl)
theorem dX0_ahead_83 : decode cX0_ahead 83 = .ok (.getfield 172, 3) := dk_180 0 172 (dk_at dksX0_ahead_3 14 rfl rfl)
theorem dX0_ahead_86 : decode cX0_ahead 86 = .ok (.aload_n 0, 1) := dk_42 (dk_at dksX0_ahead_3 17 rfl rfl)
theorem dX0_ahead_87 : decode cX0_ahead 87 = .ok (.getfield 33, 3) := dk_180 0 33 (dk_at dksX0_ahead_3 18 rfl rfl)
theorem dX0_ahead_90 : decode cX0_ahead 90 = .ok (.getfield 63, 3) := dk_180 0 63 (dk_at dksX0_ahead_3 21 rfl rfl)
theorem dX0_ahead_93 : decode cX0_ahead 93 = .ok (.iload 6, 2) := dk_21 6 (dk_at dksX0_ahead_4 0 rfl rfl)
theorem dX0_ahead_95 : decode cX0_ahead 95 = .ok (.aaload, 1) := dk_50 (dk_at dksX0_ahead_4 2 rfl rfl)
theorem dX0_ahead_96 : decode cX0_ahead 96 = .ok (.getfield 172, 3) := dk_180 0 172 (dk_at dksX0_ahead_4 3 rfl rfl)
theorem dX0_ahead_99 : decode cX0_ahead 99 = .ok (.invokevirtual 389, 3) := dk_182 1 133 (dk_at dksX0_ahead_4 6 rfl rfl)
theorem dX0_ahead_102 : decode cX0_ahead 102 = .ok (.istore 7, 2) := dk_54 7 (dk_at dksX0_ahead_4 9 rfl rfl)
theorem dX0_ahead_104 : decode cX0_ahead 104 = .ok (.iload 4, 2) := dk_21 4 (dk_at dksX0_ahead_4 11 rfl rfl)
theorem dX0_ahead_106 : decode cX0_ahead 106 = .ok (.ifCond .lt 13, 3) := dk_155 0 13 (dk_at dksX0_ahead_4 13 rfl rfl)
theorem dX0_ahead_109 : decode cX0_ahead 109 = .ok (.iload 7, 2) := dk_21 7 (dk_at dksX0_ahead_4 16 rfl rfl)
theorem dX0_ahead_111 : decode cX0_ahead 111 = .ok (.iload 5, 2) := dk_21 5 (dk_at dksX0_ahead_4 18 rfl rfl)
theorem dX0_ahead_113 : decode cX0_ahead 113 = .ok (.if_icmp .lt 6, 3) := dk_161 0 6 (dk_at dksX0_ahead_4 20 rfl rfl)
theorem dX0_ahead_116 : decode cX0_ahead 116 = .ok (.goto 11, 3) := dk_167 0 11 (dk_at dksX0_ahead_5 0 rfl rfl)
theorem dX0_ahead_119 : decode cX0_ahead 119 = .ok (.iload 6, 2) := dk_21 6 (dk_at dksX0_ahead_5 3 rfl rfl)
theorem dX0_ahead_121 : decode cX0_ahead 121 = .ok (.istore 4, 2) := dk_54 4 (dk_at dksX0_ahead_5 5 rfl rfl)
theorem dX0_ahead_123 : decode cX0_ahead 123 = .ok (.iload 7, 2) := dk_21 7 (dk_at dksX0_ahead_5 7 rfl rfl)
theorem dX0_ahead_125 : decode cX0_ahead 125 = .ok (.istore 5, 2) := dk_54 5 (dk_at dksX0_ahead_5 9 rfl rfl)
theorem dX0_ahead_127 : decode cX0_ahead 127 = .ok (.iinc 6 1, 3) := dk_132 6 1 (dk_at dksX0_ahead_5 11 rfl rfl)
theorem dX0_ahead_130 : decode cX0_ahead 130 = .ok (.goto (-100), 3) := dk_167 255 156 (dk_at dksX0_ahead_5 14 rfl rfl)
theorem dX0_ahead_133 : decode cX0_ahead 133 = .ok (.iload 4, 2) := dk_21 4 (dk_at dksX0_ahead_5 17 rfl rfl)
theorem dX0_ahead_135 : decode cX0_ahead 135 = .ok (.ifCond .lt 7, 3) := dk_155 0 7 (dk_at dksX0_ahead_5 19 rfl rfl)
theorem dX0_ahead_138 : decode cX0_ahead 138 = .ok (.iload_n 2, 1) := dk_28 (dk_at dksX0_ahead_5 22 rfl rfl)
theorem dX0_ahead_139 : decode cX0_ahead 139 = .ok (.ifCond .eq 8, 3) := dk_153 0 8 (dk_at dksX0_ahead_6 0 rfl rfl)
theorem dX0_ahead_142 : decode cX0_ahead 142 = .ok (.iload 4, 2) := dk_21 4 (dk_at dksX0_ahead_6 3 rfl rfl)
theorem dX0_ahead_144 : decode cX0_ahead 144 = .ok (.goto 5, 3) := dk_167 0 5 (dk_at dksX0_ahead_6 5 rfl rfl)
theorem dX0_ahead_147 : decode cX0_ahead 147 = .ok (.iload 5, 2) := dk_21 5 (dk_at dksX0_ahead_6 8 rfl rfl)
theorem dX0_ahead_149 : decode cX0_ahead 149 = .ok (.ireturn, 1) := dk_172 (dk_at dksX0_ahead_6 10 rfl rfl)
abbrev cX0_spread : ByteArray := prog_1_method_42_code
def yX0_spread : MethodName := ⟨RX0, "spread", "(I)I"⟩
def dkwX0_spread_1 : List UInt8 := [172]
abbrev dktX0_spread_1 : List UInt8 := dkwX0_spread_1 ++ []
def dkwX0_spread_0 : List UInt8 := [42, 27, 182, 0, 142, 153, 0, 18, 42, 180, 0, 33, 180, 1, 20, 27, 50, 182, 1, 136, 167, 0, 4, 2]
abbrev dktX0_spread_0 : List UInt8 := dkwX0_spread_0 ++ dktX0_spread_1
theorem dksX0_spread_0 : cX0_spread.data.toList.drop 0 = dktX0_spread_0 := by decide +kernel
theorem dksX0_spread_1 : cX0_spread.data.toList.drop 24 = dktX0_spread_1 := dk_seg dksX0_spread_0 24 rfl rfl
theorem dX0_spread_0 : decode cX0_spread 0 = .ok (.aload_n 0, 1) := dk_42 (dk_at dksX0_spread_0 0 rfl rfl)
theorem dX0_spread_1 : decode cX0_spread 1 = .ok (.iload_n 1, 1) := dk_27 (dk_at dksX0_spread_0 1 rfl rfl)
theorem dX0_spread_2 : decode cX0_spread 2 = .ok (.invokevirtual 142, 3) := dk_182 0 142 (dk_at dksX0_spread_0 2 rfl rfl)
theorem dX0_spread_5 : decode cX0_spread 5 = .ok (.ifCond .eq 18, 3) := dk_153 0 18 (dk_at dksX0_spread_0 5 rfl rfl)
theorem dX0_spread_8 : decode cX0_spread 8 = .ok (.aload_n 0, 1) := dk_42 (dk_at dksX0_spread_0 8 rfl rfl)
theorem dX0_spread_9 : decode cX0_spread 9 = .ok (.getfield 33, 3) := dk_180 0 33 (dk_at dksX0_spread_0 9 rfl rfl)
theorem dX0_spread_12 : decode cX0_spread 12 = .ok (.getfield 276, 3) := dk_180 1 20 (dk_at dksX0_spread_0 12 rfl rfl)
theorem dX0_spread_15 : decode cX0_spread 15 = .ok (.iload_n 1, 1) := dk_27 (dk_at dksX0_spread_0 15 rfl rfl)
theorem dX0_spread_16 : decode cX0_spread 16 = .ok (.aaload, 1) := dk_50 (dk_at dksX0_spread_0 16 rfl rfl)
theorem dX0_spread_17 : decode cX0_spread 17 = .ok (.invokevirtual 392, 3) := dk_182 1 136 (dk_at dksX0_spread_0 17 rfl rfl)
theorem dX0_spread_20 : decode cX0_spread 20 = .ok (.goto 4, 3) := dk_167 0 4 (dk_at dksX0_spread_0 20 rfl rfl)
theorem dX0_spread_23 : decode cX0_spread 23 = .ok (.iconst (-1), 1) := dk_2 (dk_at dksX0_spread_0 23 rfl rfl)
theorem dX0_spread_24 : decode cX0_spread 24 = .ok (.ireturn, 1) := dk_172 (dk_at dksX0_spread_1 0 rfl rfl)
abbrev cX0_late : ByteArray := prog_1_method_43_code
def yX0_late : MethodName := ⟨RX0, "late", "(I)I"⟩
def dkwX0_late_1 : List UInt8 := [180, 0, 63, 27, 50, 180, 1, 142, 100, 19, 1, 145, 96, 167, 0, 4, 2, 172]
abbrev dktX0_late_1 : List UInt8 := dkwX0_late_1 ++ []
def dkwX0_late_0 : List UInt8 := [42, 27, 182, 0, 156, 153, 0, 35, 42, 180, 0, 33, 180, 0, 63, 27, 50, 180, 1, 139, 42, 180, 0, 33]
abbrev dktX0_late_0 : List UInt8 := dkwX0_late_0 ++ dktX0_late_1
theorem dksX0_late_0 : cX0_late.data.toList.drop 0 = dktX0_late_0 := by decide +kernel
theorem dksX0_late_1 : cX0_late.data.toList.drop 24 = dktX0_late_1 := dk_seg dksX0_late_0 24 rfl rfl
theorem dX0_late_0 : decode cX0_late 0 = .ok (.aload_n 0, 1) := dk_42 (dk_at dksX0_late_0 0 rfl rfl)
theorem dX0_late_1 : decode cX0_late 1 = .ok (.iload_n 1, 1) := dk_27 (dk_at dksX0_late_0 1 rfl rfl)
theorem dX0_late_2 : decode cX0_late 2 = .ok (.invokevirtual 156, 3) := dk_182 0 156 (dk_at dksX0_late_0 2 rfl rfl)
theorem dX0_late_5 : decode cX0_late 5 = .ok (.ifCond .eq 35, 3) := dk_153 0 35 (dk_at dksX0_late_0 5 rfl rfl)
theorem dX0_late_8 : decode cX0_late 8 = .ok (.aload_n 0, 1) := dk_42 (dk_at dksX0_late_0 8 rfl rfl)
theorem dX0_late_9 : decode cX0_late 9 = .ok (.getfield 33, 3) := dk_180 0 33 (dk_at dksX0_late_0 9 rfl rfl)
theorem dX0_late_12 : decode cX0_late 12 = .ok (.getfield 63, 3) := dk_180 0 63 (dk_at dksX0_late_0 12 rfl rfl)
theorem dX0_late_15 : decode cX0_late 15 = .ok (.iload_n 1, 1) := dk_27 (dk_at dksX0_late_0 15 rfl rfl)
theorem dX0_late_16 : decode cX0_late 16 = .ok (.aaload, 1) := dk_50 (dk_at dksX0_late_0 16 rfl rfl)
theorem dX0_late_17 : decode cX0_late 17 = .ok (.getfield 395, 3) := dk_180 1 139 (dk_at dksX0_late_0 17 rfl rfl)
theorem dX0_late_20 : decode cX0_late 20 = .ok (.aload_n 0, 1) := dk_42 (dk_at dksX0_late_0 20 rfl rfl)
theorem dX0_late_21 : decode cX0_late 21 = .ok (.getfield 33, 3) := dk_180 0 33 (dk_at dksX0_late_0 21 rfl rfl)
theorem dX0_late_24 : decode cX0_late 24 = .ok (.getfield 63, 3) := dk_180 0 63 (dk_at dksX0_late_1 0 rfl rfl)
theorem dX0_late_27 : decode cX0_late 27 = .ok (.iload_n 1, 1) := dk_27 (dk_at dksX0_late_1 3 rfl rfl)
theorem dX0_late_28 : decode cX0_late 28 = .ok (.aaload, 1) := dk_50 (dk_at dksX0_late_1 4 rfl rfl)
theorem dX0_late_29 : decode cX0_late 29 = .ok (.getfield 398, 3) := dk_180 1 142 (dk_at dksX0_late_1 5 rfl rfl)
theorem dX0_late_32 : decode cX0_late 32 = .ok (.isub, 1) := dk_100 (dk_at dksX0_late_1 8 rfl rfl)
theorem dX0_late_33 : decode cX0_late 33 = .ok (.ldc_w 401, 3) := dk_19 1 145 (dk_at dksX0_late_1 9 rfl rfl)
theorem dX0_late_36 : decode cX0_late 36 = .ok (.iadd, 1) := dk_96 (dk_at dksX0_late_1 12 rfl rfl)
theorem dX0_late_37 : decode cX0_late 37 = .ok (.goto 4, 3) := dk_167 0 4 (dk_at dksX0_late_1 13 rfl rfl)
theorem dX0_late_40 : decode cX0_late 40 = .ok (.iconst (-1), 1) := dk_2 (dk_at dksX0_late_1 16 rfl rfl)
theorem dX0_late_41 : decode cX0_late 41 = .ok (.ireturn, 1) := dk_172 (dk_at dksX0_late_1 17 rfl rfl)
abbrev cX0_wouldHold : ByteArray := prog_1_method_44_code
def yX0_wouldHold : MethodName := ⟨RX0, "wouldHold", "(II)I"⟩
def dkwX0_wouldHold_2 : List UInt8 := [182, 1, 146, 42, 180, 0, 33, 180, 0, 152, 4, 46, 184, 1, 150, 184, 1, 155, 167, 0, 5, 16, 252, 172]
abbrev dktX0_wouldHold_2 : List UInt8 := dkwX0_wouldHold_2 ++ []
def dkwX0_wouldHold_1 : List UInt8 := [27, 50, 78, 45, 182, 0, 181, 153, 0, 38, 3, 42, 180, 0, 33, 45, 42, 180, 0, 33, 180, 0, 210, 28]
abbrev dktX0_wouldHold_1 : List UInt8 := dkwX0_wouldHold_1 ++ dktX0_wouldHold_2
def dkwX0_wouldHold_0 : List UInt8 := [42, 27, 182, 0, 156, 153, 0, 10, 28, 184, 0, 128, 154, 0, 5, 2, 172, 42, 180, 0, 33, 180, 0, 63]
abbrev dktX0_wouldHold_0 : List UInt8 := dkwX0_wouldHold_0 ++ dktX0_wouldHold_1
theorem dksX0_wouldHold_0 : cX0_wouldHold.data.toList.drop 0 = dktX0_wouldHold_0 := by decide +kernel
theorem dksX0_wouldHold_1 : cX0_wouldHold.data.toList.drop 24 = dktX0_wouldHold_1 := dk_seg dksX0_wouldHold_0 24 rfl rfl
theorem dksX0_wouldHold_2 : cX0_wouldHold.data.toList.drop 48 = dktX0_wouldHold_2 := dk_seg dksX0_wouldHold_1 24 rfl rfl
theorem dX0_wouldHold_0 : decode cX0_wouldHold 0 = .ok (.aload_n 0, 1) := dk_42 (dk_at dksX0_wouldHold_0 0 rfl rfl)
theorem dX0_wouldHold_1 : decode cX0_wouldHold 1 = .ok (.iload_n 1, 1) := dk_27 (dk_at dksX0_wouldHold_0 1 rfl rfl)
theorem dX0_wouldHold_2 : decode cX0_wouldHold 2 = .ok (.invokevirtual 156, 3) := dk_182 0 156 (dk_at dksX0_wouldHold_0 2 rfl rfl)
theorem dX0_wouldHold_5 : decode cX0_wouldHold 5 = .ok (.ifCond .eq 10, 3) := dk_153 0 10 (dk_at dksX0_wouldHold_0 5 rfl rfl)
theorem dX0_wouldHold_8 : decode cX0_wouldHold 8 = .ok (.iload_n 2, 1) := dk_28 (dk_at dksX0_wouldHold_0 8 rfl rfl)
theorem dX0_wouldHold_9 : decode cX0_wouldHold 9 = .ok (.invokestatic 128, 3) := dk_184 0 128 (dk_at dksX0_wouldHold_0 9 rfl rfl)
theorem dX0_wouldHold_12 : decode cX0_wouldHold 12 = .ok (.ifCond .ne 5, 3) := dk_154 0 5 (dk_at dksX0_wouldHold_0 12 rfl rfl)
theorem dX0_wouldHold_15 : decode cX0_wouldHold 15 = .ok (.iconst (-1), 1) := dk_2 (dk_at dksX0_wouldHold_0 15 rfl rfl)
theorem dX0_wouldHold_16 : decode cX0_wouldHold 16 = .ok (.ireturn, 1) := dk_172 (dk_at dksX0_wouldHold_0 16 rfl rfl)
theorem dX0_wouldHold_17 : decode cX0_wouldHold 17 = .ok (.aload_n 0, 1) := dk_42 (dk_at dksX0_wouldHold_0 17 rfl rfl)
theorem dX0_wouldHold_18 : decode cX0_wouldHold 18 = .ok (.getfield 33, 3) := dk_180 0 33 (dk_at dksX0_wouldHold_0 18 rfl rfl)
theorem dX0_wouldHold_21 : decode cX0_wouldHold 21 = .ok (.getfield 63, 3) := dk_180 0 63 (dk_at dksX0_wouldHold_0 21 rfl rfl)
theorem dX0_wouldHold_24 : decode cX0_wouldHold 24 = .ok (.iload_n 1, 1) := dk_27 (dk_at dksX0_wouldHold_1 0 rfl rfl)
theorem dX0_wouldHold_25 : decode cX0_wouldHold 25 = .ok (.aaload, 1) := dk_50 (dk_at dksX0_wouldHold_1 1 rfl rfl)
theorem dX0_wouldHold_26 : decode cX0_wouldHold 26 = .ok (.astore_n 3, 1) := dk_78 (dk_at dksX0_wouldHold_1 2 rfl rfl)
theorem dX0_wouldHold_27 : decode cX0_wouldHold 27 = .ok (.aload_n 3, 1) := dk_45 (dk_at dksX0_wouldHold_1 3 rfl rfl)
theorem dX0_wouldHold_28 : decode cX0_wouldHold 28 = .ok (.invokevirtual 181, 3) := dk_182 0 181 (dk_at dksX0_wouldHold_1 4 rfl rfl)
theorem dX0_wouldHold_31 : decode cX0_wouldHold 31 = .ok (.ifCond .eq 38, 3) := dk_153 0 38 (dk_at dksX0_wouldHold_1 7 rfl rfl)
theorem dX0_wouldHold_34 : decode cX0_wouldHold 34 = .ok (.iconst 0, 1) := dk_3 (dk_at dksX0_wouldHold_1 10 rfl rfl)
theorem dX0_wouldHold_35 : decode cX0_wouldHold 35 = .ok (.aload_n 0, 1) := dk_42 (dk_at dksX0_wouldHold_1 11 rfl rfl)
theorem dX0_wouldHold_36 : decode cX0_wouldHold 36 = .ok (.getfield 33, 3) := dk_180 0 33 (dk_at dksX0_wouldHold_1 12 rfl rfl)
theorem dX0_wouldHold_39 : decode cX0_wouldHold 39 = .ok (.aload_n 3, 1) := dk_45 (dk_at dksX0_wouldHold_1 15 rfl rfl)
theorem dX0_wouldHold_40 : decode cX0_wouldHold 40 = .ok (.aload_n 0, 1) := dk_42 (dk_at dksX0_wouldHold_1 16 rfl rfl)
theorem dX0_wouldHold_41 : decode cX0_wouldHold 41 = .ok (.getfield 33, 3) := dk_180 0 33 (dk_at dksX0_wouldHold_1 17 rfl rfl)
theorem dX0_wouldHold_44 : decode cX0_wouldHold 44 = .ok (.getfield 210, 3) := dk_180 0 210 (dk_at dksX0_wouldHold_1 20 rfl rfl)
theorem dX0_wouldHold_47 : decode cX0_wouldHold 47 = .ok (.iload_n 2, 1) := dk_28 (dk_at dksX0_wouldHold_1 23 rfl rfl)
theorem dX0_wouldHold_48 : decode cX0_wouldHold 48 = .ok (.invokevirtual 402, 3) := dk_182 1 146 (dk_at dksX0_wouldHold_2 0 rfl rfl)
theorem dX0_wouldHold_51 : decode cX0_wouldHold 51 = .ok (.aload_n 0, 1) := dk_42 (dk_at dksX0_wouldHold_2 3 rfl rfl)
theorem dX0_wouldHold_52 : decode cX0_wouldHold 52 = .ok (.getfield 33, 3) := dk_180 0 33 (dk_at dksX0_wouldHold_2 4 rfl rfl)
theorem dX0_wouldHold_55 : decode cX0_wouldHold 55 = .ok (.getfield 152, 3) := dk_180 0 152 (dk_at dksX0_wouldHold_2 7 rfl rfl)
theorem dX0_wouldHold_58 : decode cX0_wouldHold 58 = .ok (.iconst 1, 1) := dk_4 (dk_at dksX0_wouldHold_2 10 rfl rfl)
theorem dX0_wouldHold_59 : decode cX0_wouldHold 59 = .ok (.iaload, 1) := dk_46 (dk_at dksX0_wouldHold_2 11 rfl rfl)
theorem dX0_wouldHold_60 : decode cX0_wouldHold 60 = .ok (.invokestatic 406, 3) := dk_184 1 150 (dk_at dksX0_wouldHold_2 12 rfl rfl)
theorem dX0_wouldHold_63 : decode cX0_wouldHold 63 = .ok (.invokestatic 411, 3) := dk_184 1 155 (dk_at dksX0_wouldHold_2 15 rfl rfl)
theorem dX0_wouldHold_66 : decode cX0_wouldHold 66 = .ok (.goto 5, 3) := dk_167 0 5 (dk_at dksX0_wouldHold_2 18 rfl rfl)
theorem dX0_wouldHold_69 : decode cX0_wouldHold 69 = .ok (.bipush (-4), 2) := dk_16 252 (dk_at dksX0_wouldHold_2 21 rfl rfl)
theorem dX0_wouldHold_71 : decode cX0_wouldHold 71 = .ok (.ireturn, 1) := dk_172 (dk_at dksX0_wouldHold_2 23 rfl rfl)
abbrev cX0_comes : ByteArray := prog_1_method_45_code
def yX0_comes : MethodName := ⟨RX0, "comes", "(II)I"⟩
def dkwX0_comes_4 : List UInt8 := [25, 7, 25, 4, 166, 0, 11, 21, 5, 153, 0, 6, 21, 6, 172, 167, 255, 185]
abbrev dktX0_comes_4 : List UInt8 := dkwX0_comes_4 ++ []
def dkwX0_comes_3 : List UInt8 := [180, 0, 33, 180, 0, 210, 17, 14, 16, 96, 182, 1, 158, 58, 7, 25, 7, 199, 0, 6, 16, 254, 172]
abbrev dktX0_comes_3 : List UInt8 := dkwX0_comes_3 ++ dktX0_comes_4
def dkwX0_comes_2 : List UInt8 := [180, 0, 172, 28, 160, 0, 7, 4, 167, 0, 4, 3, 54, 5, 25, 4, 180, 1, 41, 54, 6, 45, 42]
abbrev dktX0_comes_2 : List UInt8 := dkwX0_comes_2 ++ dktX0_comes_3
def dkwX0_comes_1 : List UInt8 := [182, 0, 124, 78, 45, 180, 0, 63, 27, 50, 58, 4, 25, 4, 182, 0, 181, 154, 0, 16, 25, 4]
abbrev dktX0_comes_1 : List UInt8 := dkwX0_comes_1 ++ dktX0_comes_2
def dkwX0_comes_0 : List UInt8 := [42, 27, 182, 0, 156, 153, 0, 11, 42, 28, 182, 0, 142, 154, 0, 5, 2, 172, 42, 180, 0, 33]
abbrev dktX0_comes_0 : List UInt8 := dkwX0_comes_0 ++ dktX0_comes_1
theorem dksX0_comes_0 : cX0_comes.data.toList.drop 0 = dktX0_comes_0 := by decide +kernel
theorem dksX0_comes_1 : cX0_comes.data.toList.drop 22 = dktX0_comes_1 := dk_seg dksX0_comes_0 22 rfl rfl
theorem dksX0_comes_2 : cX0_comes.data.toList.drop 44 = dktX0_comes_2 := dk_seg dksX0_comes_1 22 rfl rfl
theorem dksX0_comes_3 : cX0_comes.data.toList.drop 67 = dktX0_comes_3 := dk_seg dksX0_comes_2 23 rfl rfl
theorem dksX0_comes_4 : cX0_comes.data.toList.drop 90 = dktX0_comes_4 := dk_seg dksX0_comes_3 23 rfl rfl
theorem dX0_comes_0 : decode cX0_comes 0 = .ok (.aload_n 0, 1) := dk_42 (dk_at dksX0_comes_0 0 rfl rfl)
theorem dX0_comes_1 : decode cX0_comes 1 = .ok (.iload_n 1, 1) := dk_27 (dk_at dksX0_comes_0 1 rfl rfl)
theorem dX0_comes_2 : decode cX0_comes 2 = .ok (.invokevirtual 156, 3) := dk_182 0 156 (dk_at dksX0_comes_0 2 rfl rfl)
theorem dX0_comes_5 : decode cX0_comes 5 = .ok (.ifCond .eq 11, 3) := dk_153 0 11 (dk_at dksX0_comes_0 5 rfl rfl)
theorem dX0_comes_8 : decode cX0_comes 8 = .ok (.aload_n 0, 1) := dk_42 (dk_at dksX0_comes_0 8 rfl rfl)
theorem dX0_comes_9 : decode cX0_comes 9 = .ok (.iload_n 2, 1) := dk_28 (dk_at dksX0_comes_0 9 rfl rfl)
theorem dX0_comes_10 : decode cX0_comes 10 = .ok (.invokevirtual 142, 3) := dk_182 0 142 (dk_at dksX0_comes_0 10 rfl rfl)
theorem dX0_comes_13 : decode cX0_comes 13 = .ok (.ifCond .ne 5, 3) := dk_154 0 5 (dk_at dksX0_comes_0 13 rfl rfl)
theorem dX0_comes_16 : decode cX0_comes 16 = .ok (.iconst (-1), 1) := dk_2 (dk_at dksX0_comes_0 16 rfl rfl)
theorem dX0_comes_17 : decode cX0_comes 17 = .ok (.ireturn, 1) := dk_172 (dk_at dksX0_comes_0 17 rfl rfl)
theorem dX0_comes_18 : decode cX0_comes 18 = .ok (.aload_n 0, 1) := dk_42 (dk_at dksX0_comes_0 18 rfl rfl)
theorem dX0_comes_19 : decode cX0_comes 19 = .ok (.getfield 33, 3) := dk_180 0 33 (dk_at dksX0_comes_0 19 rfl rfl)
theorem dX0_comes_22 : decode cX0_comes 22 = .ok (.invokevirtual 124, 3) := dk_182 0 124 (dk_at dksX0_comes_1 0 rfl rfl)
theorem dX0_comes_25 : decode cX0_comes 25 = .ok (.astore_n 3, 1) := dk_78 (dk_at dksX0_comes_1 3 rfl rfl)
theorem dX0_comes_26 : decode cX0_comes 26 = .ok (.aload_n 3, 1) := dk_45 (dk_at dksX0_comes_1 4 rfl rfl)
theorem dX0_comes_27 : decode cX0_comes 27 = .ok (.getfield 63, 3) := dk_180 0 63 (dk_at dksX0_comes_1 5 rfl rfl)
theorem dX0_comes_30 : decode cX0_comes 30 = .ok (.iload_n 1, 1) := dk_27 (dk_at dksX0_comes_1 8 rfl rfl)
theorem dX0_comes_31 : decode cX0_comes 31 = .ok (.aaload, 1) := dk_50 (dk_at dksX0_comes_1 9 rfl rfl)
theorem dX0_comes_32 : decode cX0_comes 32 = .ok (.astore 4, 2) := dk_58 4 (dk_at dksX0_comes_1 10 rfl rfl)
theorem dX0_comes_34 : decode cX0_comes 34 = .ok (.aload 4, 2) := dk_25 4 (dk_at dksX0_comes_1 12 rfl rfl)
theorem dX0_comes_36 : decode cX0_comes 36 = .ok (.invokevirtual 181, 3) := dk_182 0 181 (dk_at dksX0_comes_1 14 rfl rfl)
theorem dX0_comes_39 : decode cX0_comes 39 = .ok (.ifCond .ne 16, 3) := dk_154 0 16 (dk_at dksX0_comes_1 17 rfl rfl)
theorem dX0_comes_42 : decode cX0_comes 42 = .ok (.aload 4, 2) := dk_25 4 (dk_at dksX0_comes_1 20 rfl rfl)
theorem dX0_comes_44 : decode cX0_comes 44 = .ok (.getfield 172, 3) := dk_180 0 172 (dk_at dksX0_comes_2 0 rfl rfl)
theorem dX0_comes_47 : decode cX0_comes 47 = .ok (.iload_n 2, 1) := dk_28 (dk_at dksX0_comes_2 3 rfl rfl)
theorem dX0_comes_48 : decode cX0_comes 48 = .ok (.if_icmp .ne 7, 3) := dk_160 0 7 (dk_at dksX0_comes_2 4 rfl rfl)
theorem dX0_comes_51 : decode cX0_comes 51 = .ok (.iconst 1, 1) := dk_4 (dk_at dksX0_comes_2 7 rfl rfl)
theorem dX0_comes_52 : decode cX0_comes 52 = .ok (.goto 4, 3) := dk_167 0 4 (dk_at dksX0_comes_2 8 rfl rfl)
theorem dX0_comes_55 : decode cX0_comes 55 = .ok (.iconst 0, 1) := dk_3 (dk_at dksX0_comes_2 11 rfl rfl)
theorem dX0_comes_56 : decode cX0_comes 56 = .ok (.istore 5, 2) := dk_54 5 (dk_at dksX0_comes_2 12 rfl rfl)
theorem dX0_comes_58 : decode cX0_comes 58 = .ok (.aload 4, 2) := dk_25 4 (dk_at dksX0_comes_2 14 rfl rfl)
theorem dX0_comes_60 : decode cX0_comes 60 = .ok (.getfield 297, 3) := dk_180 1 41 (dk_at dksX0_comes_2 16 rfl rfl)
theorem dX0_comes_63 : decode cX0_comes 63 = .ok (.istore 6, 2) := dk_54 6 (dk_at dksX0_comes_2 19 rfl rfl)
theorem dX0_comes_65 : decode cX0_comes 65 = .ok (.aload_n 3, 1) := dk_45 (dk_at dksX0_comes_2 21 rfl rfl)
theorem dX0_comes_66 : decode cX0_comes 66 = .ok (.aload_n 0, 1) := dk_42 (dk_at dksX0_comes_2 22 rfl rfl)
theorem dX0_comes_67 : decode cX0_comes 67 = .ok (.getfield 33, 3) := dk_180 0 33 (dk_at dksX0_comes_3 0 rfl rfl)
theorem dX0_comes_70 : decode cX0_comes 70 = .ok (.getfield 210, 3) := dk_180 0 210 (dk_at dksX0_comes_3 3 rfl rfl)
theorem dX0_comes_73 : decode cX0_comes 73 = .ok (.sipush 3600, 3) := dk_17 14 16 (dk_at dksX0_comes_3 6 rfl rfl)
theorem dX0_comes_76 : decode cX0_comes 76 = .ok (.iadd, 1) := dk_96 (dk_at dksX0_comes_3 9 rfl rfl)
theorem dX0_comes_77 : decode cX0_comes 77 = .ok (.invokevirtual 414, 3) := dk_182 1 158 (dk_at dksX0_comes_3 10 rfl rfl)
theorem dX0_comes_80 : decode cX0_comes 80 = .ok (.astore 7, 2) := dk_58 7 (dk_at dksX0_comes_3 13 rfl rfl)
theorem dX0_comes_82 : decode cX0_comes 82 = .ok (.aload 7, 2) := dk_25 7 (dk_at dksX0_comes_3 15 rfl rfl)
theorem dX0_comes_84 : decode cX0_comes 84 = .ok (.ifnonnull 6, 3) := dk_199 0 6 (dk_at dksX0_comes_3 17 rfl rfl)
theorem dX0_comes_87 : decode cX0_comes 87 = .ok (.bipush (-2), 2) := dk_16 254 (dk_at dksX0_comes_3 20 rfl rfl)
theorem dX0_comes_89 : decode cX0_comes 89 = .ok (.ireturn, 1) := dk_172 (dk_at dksX0_comes_3 22 rfl rfl)
theorem dX0_comes_90 : decode cX0_comes 90 = .ok (.aload 7, 2) := dk_25 7 (dk_at dksX0_comes_4 0 rfl rfl)
theorem dX0_comes_92 : decode cX0_comes 92 = .ok (.aload 4, 2) := dk_25 4 (dk_at dksX0_comes_4 2 rfl rfl)
theorem dX0_comes_94 : decode cX0_comes 94 = .ok (.if_acmp .ne 11, 3) := dk_166 0 11 (dk_at dksX0_comes_4 4 rfl rfl)
theorem dX0_comes_97 : decode cX0_comes 97 = .ok (.iload 5, 2) := dk_21 5 (dk_at dksX0_comes_4 7 rfl rfl)
theorem dX0_comes_99 : decode cX0_comes 99 = .ok (.ifCond .eq 6, 3) := dk_153 0 6 (dk_at dksX0_comes_4 9 rfl rfl)
theorem dX0_comes_102 : decode cX0_comes 102 = .ok (.iload 6, 2) := dk_21 6 (dk_at dksX0_comes_4 12 rfl rfl)
theorem dX0_comes_104 : decode cX0_comes 104 = .ok (.ireturn, 1) := dk_172 (dk_at dksX0_comes_4 14 rfl rfl)
theorem dX0_comes_105 : decode cX0_comes 105 = .ok (.goto (-71), 3) := dk_167 255 185 (dk_at dksX0_comes_4 15 rfl rfl)
abbrev cX0_nextLeft : ByteArray := prog_1_method_46_code
def yX0_nextLeft : MethodName := ⟨RX0, "nextLeft", "(IZ)I"⟩
def dkwX0_nextLeft_3 : List UInt8 := [180, 1, 115, 3, 46, 167, 0, 10, 25, 4, 180, 1, 113, 3, 46, 172]
abbrev dktX0_nextLeft_3 : List UInt8 := dkwX0_nextLeft_3 ++ []
def dkwX0_nextLeft_2 : List UInt8 := [180, 0, 210, 17, 14, 16, 96, 182, 1, 158, 199, 255, 231, 16, 254, 172, 28, 153, 0, 13, 25, 4]
abbrev dktX0_nextLeft_2 : List UInt8 := dkwX0_nextLeft_2 ++ dktX0_nextLeft_3
def dkwX0_nextLeft_1 : List UInt8 := [58, 4, 25, 4, 180, 1, 29, 54, 5, 25, 4, 180, 1, 29, 21, 5, 160, 0, 24, 45, 42, 180, 0, 33]
abbrev dktX0_nextLeft_1 : List UInt8 := dkwX0_nextLeft_1 ++ dktX0_nextLeft_2
def dkwX0_nextLeft_0 : List UInt8 := [42, 27, 182, 0, 142, 154, 0, 5, 2, 172, 42, 180, 0, 33, 182, 0, 124, 78, 45, 180, 1, 20, 27, 50]
abbrev dktX0_nextLeft_0 : List UInt8 := dkwX0_nextLeft_0 ++ dktX0_nextLeft_1
theorem dksX0_nextLeft_0 : cX0_nextLeft.data.toList.drop 0 = dktX0_nextLeft_0 := by decide +kernel
theorem dksX0_nextLeft_1 : cX0_nextLeft.data.toList.drop 24 = dktX0_nextLeft_1 := dk_seg dksX0_nextLeft_0 24 rfl rfl
theorem dksX0_nextLeft_2 : cX0_nextLeft.data.toList.drop 48 = dktX0_nextLeft_2 := dk_seg dksX0_nextLeft_1 24 rfl rfl
theorem dksX0_nextLeft_3 : cX0_nextLeft.data.toList.drop 70 = dktX0_nextLeft_3 := dk_seg dksX0_nextLeft_2 22 rfl rfl
theorem dX0_nextLeft_0 : decode cX0_nextLeft 0 = .ok (.aload_n 0, 1) := dk_42 (dk_at dksX0_nextLeft_0 0 rfl rfl)
theorem dX0_nextLeft_1 : decode cX0_nextLeft 1 = .ok (.iload_n 1, 1) := dk_27 (dk_at dksX0_nextLeft_0 1 rfl rfl)
theorem dX0_nextLeft_2 : decode cX0_nextLeft 2 = .ok (.invokevirtual 142, 3) := dk_182 0 142 (dk_at dksX0_nextLeft_0 2 rfl rfl)
theorem dX0_nextLeft_5 : decode cX0_nextLeft 5 = .ok (.ifCond .ne 5, 3) := dk_154 0 5 (dk_at dksX0_nextLeft_0 5 rfl rfl)
theorem dX0_nextLeft_8 : decode cX0_nextLeft 8 = .ok (.iconst (-1), 1) := dk_2 (dk_at dksX0_nextLeft_0 8 rfl rfl)
theorem dX0_nextLeft_9 : decode cX0_nextLeft 9 = .ok (.ireturn, 1) := dk_172 (dk_at dksX0_nextLeft_0 9 rfl rfl)
theorem dX0_nextLeft_10 : decode cX0_nextLeft 10 = .ok (.aload_n 0, 1) := dk_42 (dk_at dksX0_nextLeft_0 10 rfl rfl)
theorem dX0_nextLeft_11 : decode cX0_nextLeft 11 = .ok (.getfield 33, 3) := dk_180 0 33 (dk_at dksX0_nextLeft_0 11 rfl rfl)
theorem dX0_nextLeft_14 : decode cX0_nextLeft 14 = .ok (.invokevirtual 124, 3) := dk_182 0 124 (dk_at dksX0_nextLeft_0 14 rfl rfl)
theorem dX0_nextLeft_17 : decode cX0_nextLeft 17 = .ok (.astore_n 3, 1) := dk_78 (dk_at dksX0_nextLeft_0 17 rfl rfl)
theorem dX0_nextLeft_18 : decode cX0_nextLeft 18 = .ok (.aload_n 3, 1) := dk_45 (dk_at dksX0_nextLeft_0 18 rfl rfl)
theorem dX0_nextLeft_19 : decode cX0_nextLeft 19 = .ok (.getfield 276, 3) := dk_180 1 20 (dk_at dksX0_nextLeft_0 19 rfl rfl)
theorem dX0_nextLeft_22 : decode cX0_nextLeft 22 = .ok (.iload_n 1, 1) := dk_27 (dk_at dksX0_nextLeft_0 22 rfl rfl)
theorem dX0_nextLeft_23 : decode cX0_nextLeft 23 = .ok (.aaload, 1) := dk_50 (dk_at dksX0_nextLeft_0 23 rfl rfl)
theorem dX0_nextLeft_24 : decode cX0_nextLeft 24 = .ok (.astore 4, 2) := dk_58 4 (dk_at dksX0_nextLeft_1 0 rfl rfl)
theorem dX0_nextLeft_26 : decode cX0_nextLeft 26 = .ok (.aload 4, 2) := dk_25 4 (dk_at dksX0_nextLeft_1 2 rfl rfl)
theorem dX0_nextLeft_28 : decode cX0_nextLeft 28 = .ok (.getfield 285, 3) := dk_180 1 29 (dk_at dksX0_nextLeft_1 4 rfl rfl)
theorem dX0_nextLeft_31 : decode cX0_nextLeft 31 = .ok (.istore 5, 2) := dk_54 5 (dk_at dksX0_nextLeft_1 7 rfl rfl)
theorem dX0_nextLeft_33 : decode cX0_nextLeft 33 = .ok (.aload 4, 2) := dk_25 4 (dk_at dksX0_nextLeft_1 9 rfl rfl)
theorem dX0_nextLeft_35 : decode cX0_nextLeft 35 = .ok (.getfield 285, 3) := dk_180 1 29 (dk_at dksX0_nextLeft_1 11 rfl rfl)
theorem dX0_nextLeft_38 : decode cX0_nextLeft 38 = .ok (.iload 5, 2) := dk_21 5 (dk_at dksX0_nextLeft_1 14 rfl rfl)
theorem dX0_nextLeft_40 : decode cX0_nextLeft 40 = .ok (.if_icmp .ne 24, 3) := dk_160 0 24 (dk_at dksX0_nextLeft_1 16 rfl rfl)
theorem dX0_nextLeft_43 : decode cX0_nextLeft 43 = .ok (.aload_n 3, 1) := dk_45 (dk_at dksX0_nextLeft_1 19 rfl rfl)
theorem dX0_nextLeft_44 : decode cX0_nextLeft 44 = .ok (.aload_n 0, 1) := dk_42 (dk_at dksX0_nextLeft_1 20 rfl rfl)
theorem dX0_nextLeft_45 : decode cX0_nextLeft 45 = .ok (.getfield 33, 3) := dk_180 0 33 (dk_at dksX0_nextLeft_1 21 rfl rfl)
theorem dX0_nextLeft_48 : decode cX0_nextLeft 48 = .ok (.getfield 210, 3) := dk_180 0 210 (dk_at dksX0_nextLeft_2 0 rfl rfl)
theorem dX0_nextLeft_51 : decode cX0_nextLeft 51 = .ok (.sipush 3600, 3) := dk_17 14 16 (dk_at dksX0_nextLeft_2 3 rfl rfl)
theorem dX0_nextLeft_54 : decode cX0_nextLeft 54 = .ok (.iadd, 1) := dk_96 (dk_at dksX0_nextLeft_2 6 rfl rfl)
theorem dX0_nextLeft_55 : decode cX0_nextLeft 55 = .ok (.invokevirtual 414, 3) := dk_182 1 158 (dk_at dksX0_nextLeft_2 7 rfl rfl)
theorem dX0_nextLeft_58 : decode cX0_nextLeft 58 = .ok (.ifnonnull (-25), 3) := dk_199 255 231 (dk_at dksX0_nextLeft_2 10 rfl rfl)
theorem dX0_nextLeft_61 : decode cX0_nextLeft 61 = .ok (.bipush (-2), 2) := dk_16 254 (dk_at dksX0_nextLeft_2 13 rfl rfl)
theorem dX0_nextLeft_63 : decode cX0_nextLeft 63 = .ok (.ireturn, 1) := dk_172 (dk_at dksX0_nextLeft_2 15 rfl rfl)
theorem dX0_nextLeft_64 : decode cX0_nextLeft 64 = .ok (.iload_n 2, 1) := dk_28 (dk_at dksX0_nextLeft_2 16 rfl rfl)
theorem dX0_nextLeft_65 : decode cX0_nextLeft 65 = .ok (.ifCond .eq 13, 3) := dk_153 0 13 (dk_at dksX0_nextLeft_2 17 rfl rfl)
theorem dX0_nextLeft_68 : decode cX0_nextLeft 68 = .ok (.aload 4, 2) := dk_25 4 (dk_at dksX0_nextLeft_2 20 rfl rfl)
theorem dX0_nextLeft_70 : decode cX0_nextLeft 70 = .ok (.getfield 371, 3) := dk_180 1 115 (dk_at dksX0_nextLeft_3 0 rfl rfl)
theorem dX0_nextLeft_73 : decode cX0_nextLeft 73 = .ok (.iconst 0, 1) := dk_3 (dk_at dksX0_nextLeft_3 3 rfl rfl)
theorem dX0_nextLeft_74 : decode cX0_nextLeft 74 = .ok (.iaload, 1) := dk_46 (dk_at dksX0_nextLeft_3 4 rfl rfl)
theorem dX0_nextLeft_75 : decode cX0_nextLeft 75 = .ok (.goto 10, 3) := dk_167 0 10 (dk_at dksX0_nextLeft_3 5 rfl rfl)
theorem dX0_nextLeft_78 : decode cX0_nextLeft 78 = .ok (.aload 4, 2) := dk_25 4 (dk_at dksX0_nextLeft_3 8 rfl rfl)
theorem dX0_nextLeft_80 : decode cX0_nextLeft 80 = .ok (.getfield 369, 3) := dk_180 1 113 (dk_at dksX0_nextLeft_3 10 rfl rfl)
theorem dX0_nextLeft_83 : decode cX0_nextLeft 83 = .ok (.iconst 0, 1) := dk_3 (dk_at dksX0_nextLeft_3 13 rfl rfl)
theorem dX0_nextLeft_84 : decode cX0_nextLeft 84 = .ok (.iaload, 1) := dk_46 (dk_at dksX0_nextLeft_3 14 rfl rfl)
theorem dX0_nextLeft_85 : decode cX0_nextLeft 85 = .ok (.ireturn, 1) := dk_172 (dk_at dksX0_nextLeft_3 15 rfl rfl)
abbrev cX0_would : ByteArray := prog_1_method_48_code
def yX0_would : MethodName := ⟨RX0, "would", "(III)I"⟩
def dkwX0_would_7 : List UInt8 := [180, 0, 250, 100, 172, 2, 172]
abbrev dktX0_would_7 : List UInt8 := dkwX0_would_7 ++ []
def dkwX0_would_6 : List UInt8 := [25, 4, 180, 0, 238, 42, 180, 0, 33, 180, 0, 238, 100, 172, 25, 4, 180, 0, 250, 42, 180, 0, 33]
abbrev dktX0_would_6 : List UInt8 := dkwX0_would_6 ++ dktX0_would_7
def dkwX0_would_5 : List UInt8 := [180, 0, 33, 182, 1, 166, 100, 172, 25, 4, 180, 1, 169, 42, 180, 0, 33, 180, 1, 169, 101, 136, 172]
abbrev dktX0_would_5 : List UInt8 := dkwX0_would_5 ++ dktX0_would_6
def dkwX0_would_4 : List UInt8 := [180, 0, 196, 184, 0, 199, 42, 180, 0, 33, 180, 0, 196, 184, 0, 199, 100, 172, 25, 4, 182, 1, 166, 42]
abbrev dktX0_would_4 : List UInt8 := dkwX0_would_4 ++ dktX0_would_5
def dkwX0_would_3 : List UInt8 := [25, 4, 180, 1, 95, 184, 0, 199, 42, 180, 0, 33, 180, 1, 95, 184, 0, 199, 100, 172, 25, 4]
abbrev dktX0_would_3 : List UInt8 := dkwX0_would_3 ++ dktX0_would_4
def dkwX0_would_2 : List UInt8 := [170, 0, 0, 0, 0, 0, 136, 0, 0, 0, 0, 0, 0, 0, 5, 0, 0, 0, 39, 0, 0, 0, 59, 0, 0, 0, 79, 0, 0, 0, 93, 0, 0, 0, 108, 0, 0, 0, 122]
abbrev dktX0_would_2 : List UInt8 := dkwX0_would_2 ++ dktX0_would_3
def dkwX0_would_1 : List UInt8 := [29]
abbrev dktX0_would_1 : List UInt8 := dkwX0_would_1 ++ dktX0_would_2
def dkwX0_would_0 : List UInt8 := [27, 184, 0, 128, 153, 0, 10, 28, 184, 0, 193, 154, 0, 5, 2, 172, 42, 27, 28, 182, 1, 162, 58, 4]
abbrev dktX0_would_0 : List UInt8 := dkwX0_would_0 ++ dktX0_would_1
theorem dksX0_would_0 : cX0_would.data.toList.drop 0 = dktX0_would_0 := by decide +kernel
theorem dksX0_would_1 : cX0_would.data.toList.drop 24 = dktX0_would_1 := dk_seg dksX0_would_0 24 rfl rfl
theorem dksX0_would_2 : cX0_would.data.toList.drop 25 = dktX0_would_2 := dk_seg dksX0_would_1 1 rfl rfl
theorem dksX0_would_3 : cX0_would.data.toList.drop 64 = dktX0_would_3 := dk_seg dksX0_would_2 39 rfl rfl
theorem dksX0_would_4 : cX0_would.data.toList.drop 86 = dktX0_would_4 := dk_seg dksX0_would_3 22 rfl rfl
theorem dksX0_would_5 : cX0_would.data.toList.drop 110 = dktX0_would_5 := dk_seg dksX0_would_4 24 rfl rfl
theorem dksX0_would_6 : cX0_would.data.toList.drop 133 = dktX0_would_6 := dk_seg dksX0_would_5 23 rfl rfl
theorem dksX0_would_7 : cX0_would.data.toList.drop 156 = dktX0_would_7 := dk_seg dksX0_would_6 23 rfl rfl
theorem dX0_would_0 : decode cX0_would 0 = .ok (.iload_n 1, 1) := dk_27 (dk_at dksX0_would_0 0 rfl rfl)
theorem dX0_would_1 : decode cX0_would 1 = .ok (.invokestatic 128, 3) := dk_184 0 128 (dk_at dksX0_would_0 1 rfl rfl)
theorem dX0_would_4 : decode cX0_would 4 = .ok (.ifCond .eq 10, 3) := dk_153 0 10 (dk_at dksX0_would_0 4 rfl rfl)
theorem dX0_would_7 : decode cX0_would 7 = .ok (.iload_n 2, 1) := dk_28 (dk_at dksX0_would_0 7 rfl rfl)
theorem dX0_would_8 : decode cX0_would 8 = .ok (.invokestatic 193, 3) := dk_184 0 193 (dk_at dksX0_would_0 8 rfl rfl)
theorem dX0_would_11 : decode cX0_would 11 = .ok (.ifCond .ne 5, 3) := dk_154 0 5 (dk_at dksX0_would_0 11 rfl rfl)
theorem dX0_would_14 : decode cX0_would 14 = .ok (.iconst (-1), 1) := dk_2 (dk_at dksX0_would_0 14 rfl rfl)
theorem dX0_would_15 : decode cX0_would 15 = .ok (.ireturn, 1) := dk_172 (dk_at dksX0_would_0 15 rfl rfl)
theorem dX0_would_16 : decode cX0_would 16 = .ok (.aload_n 0, 1) := dk_42 (dk_at dksX0_would_0 16 rfl rfl)
theorem dX0_would_17 : decode cX0_would 17 = .ok (.iload_n 1, 1) := dk_27 (dk_at dksX0_would_0 17 rfl rfl)
theorem dX0_would_18 : decode cX0_would 18 = .ok (.iload_n 2, 1) := dk_28 (dk_at dksX0_would_0 18 rfl rfl)
theorem dX0_would_19 : decode cX0_would 19 = .ok (.invokevirtual 418, 3) := dk_182 1 162 (dk_at dksX0_would_0 19 rfl rfl)
theorem dX0_would_22 : decode cX0_would 22 = .ok (.astore 4, 2) := dk_58 4 (dk_at dksX0_would_0 22 rfl rfl)
theorem dX0_would_24 : decode cX0_would 24 = .ok (.iload_n 3, 1) := dk_29 (dk_at dksX0_would_1 0 rfl rfl)
theorem dX0_would_25 : decode cX0_would 25 = .ok (.tableswitch 136 0 5 #[39, 59, 79, 93, 108, 122], 39) := by decide +kernel
theorem dX0_would_64 : decode cX0_would 64 = .ok (.aload 4, 2) := dk_25 4 (dk_at dksX0_would_3 0 rfl rfl)
theorem dX0_would_66 : decode cX0_would 66 = .ok (.getfield 351, 3) := dk_180 1 95 (dk_at dksX0_would_3 2 rfl rfl)
theorem dX0_would_69 : decode cX0_would 69 = .ok (.invokestatic 199, 3) := dk_184 0 199 (dk_at dksX0_would_3 5 rfl rfl)
theorem dX0_would_72 : decode cX0_would 72 = .ok (.aload_n 0, 1) := dk_42 (dk_at dksX0_would_3 8 rfl rfl)
theorem dX0_would_73 : decode cX0_would 73 = .ok (.getfield 33, 3) := dk_180 0 33 (dk_at dksX0_would_3 9 rfl rfl)
theorem dX0_would_76 : decode cX0_would 76 = .ok (.getfield 351, 3) := dk_180 1 95 (dk_at dksX0_would_3 12 rfl rfl)
theorem dX0_would_79 : decode cX0_would 79 = .ok (.invokestatic 199, 3) := dk_184 0 199 (dk_at dksX0_would_3 15 rfl rfl)
theorem dX0_would_82 : decode cX0_would 82 = .ok (.isub, 1) := dk_100 (dk_at dksX0_would_3 18 rfl rfl)
theorem dX0_would_83 : decode cX0_would 83 = .ok (.ireturn, 1) := dk_172 (dk_at dksX0_would_3 19 rfl rfl)
theorem dX0_would_84 : decode cX0_would 84 = .ok (.aload 4, 2) := dk_25 4 (dk_at dksX0_would_3 20 rfl rfl)
theorem dX0_would_86 : decode cX0_would 86 = .ok (.getfield 196, 3) := dk_180 0 196 (dk_at dksX0_would_4 0 rfl rfl)
theorem dX0_would_89 : decode cX0_would 89 = .ok (.invokestatic 199, 3) := dk_184 0 199 (dk_at dksX0_would_4 3 rfl rfl)
theorem dX0_would_92 : decode cX0_would 92 = .ok (.aload_n 0, 1) := dk_42 (dk_at dksX0_would_4 6 rfl rfl)
theorem dX0_would_93 : decode cX0_would 93 = .ok (.getfield 33, 3) := dk_180 0 33 (dk_at dksX0_would_4 7 rfl rfl)
theorem dX0_would_96 : decode cX0_would 96 = .ok (.getfield 196, 3) := dk_180 0 196 (dk_at dksX0_would_4 10 rfl rfl)
theorem dX0_would_99 : decode cX0_would 99 = .ok (.invokestatic 199, 3) := dk_184 0 199 (dk_at dksX0_would_4 13 rfl rfl)
theorem dX0_would_102 : decode cX0_would 102 = .ok (.isub, 1) := dk_100 (dk_at dksX0_would_4 16 rfl rfl)
theorem dX0_would_103 : decode cX0_would 103 = .ok (.ireturn, 1) := dk_172 (dk_at dksX0_would_4 17 rfl rfl)
theorem dX0_would_104 : decode cX0_would 104 = .ok (.aload 4, 2) := dk_25 4 (dk_at dksX0_would_4 18 rfl rfl)
theorem dX0_would_106 : decode cX0_would 106 = .ok (.invokevirtual 422, 3) := dk_182 1 166 (dk_at dksX0_would_4 20 rfl rfl)
theorem dX0_would_109 : decode cX0_would 109 = .ok (.aload_n 0, 1) := dk_42 (dk_at dksX0_would_4 23 rfl rfl)
theorem dX0_would_110 : decode cX0_would 110 = .ok (.getfield 33, 3) := dk_180 0 33 (dk_at dksX0_would_5 0 rfl rfl)
theorem dX0_would_113 : decode cX0_would 113 = .ok (.invokevirtual 422, 3) := dk_182 1 166 (dk_at dksX0_would_5 3 rfl rfl)
theorem dX0_would_116 : decode cX0_would 116 = .ok (.isub, 1) := dk_100 (dk_at dksX0_would_5 6 rfl rfl)
theorem dX0_would_117 : decode cX0_would 117 = .ok (.ireturn, 1) := dk_172 (dk_at dksX0_would_5 7 rfl rfl)
theorem dX0_would_118 : decode cX0_would 118 = .ok (.aload 4, 2) := dk_25 4 (dk_at dksX0_would_5 8 rfl rfl)
theorem dX0_would_120 : decode cX0_would 120 = .ok (.getfield 425, 3) := dk_180 1 169 (dk_at dksX0_would_5 10 rfl rfl)
theorem dX0_would_123 : decode cX0_would 123 = .ok (.aload_n 0, 1) := dk_42 (dk_at dksX0_would_5 13 rfl rfl)
theorem dX0_would_124 : decode cX0_would 124 = .ok (.getfield 33, 3) := dk_180 0 33 (dk_at dksX0_would_5 14 rfl rfl)
theorem dX0_would_127 : decode cX0_would 127 = .ok (.getfield 425, 3) := dk_180 1 169 (dk_at dksX0_would_5 17 rfl rfl)
theorem dX0_would_130 : decode cX0_would 130 = .ok (.lsub, 1) := dk_101 (dk_at dksX0_would_5 20 rfl rfl)
theorem dX0_would_131 : decode cX0_would 131 = .ok (.l2i, 1) := dk_136 (dk_at dksX0_would_5 21 rfl rfl)
theorem dX0_would_132 : decode cX0_would 132 = .ok (.ireturn, 1) := dk_172 (dk_at dksX0_would_5 22 rfl rfl)
theorem dX0_would_133 : decode cX0_would 133 = .ok (.aload 4, 2) := dk_25 4 (dk_at dksX0_would_6 0 rfl rfl)
theorem dX0_would_135 : decode cX0_would 135 = .ok (.getfield 238, 3) := dk_180 0 238 (dk_at dksX0_would_6 2 rfl rfl)
theorem dX0_would_138 : decode cX0_would 138 = .ok (.aload_n 0, 1) := dk_42 (dk_at dksX0_would_6 5 rfl rfl)
theorem dX0_would_139 : decode cX0_would 139 = .ok (.getfield 33, 3) := dk_180 0 33 (dk_at dksX0_would_6 6 rfl rfl)
theorem dX0_would_142 : decode cX0_would 142 = .ok (.getfield 238, 3) := dk_180 0 238 (dk_at dksX0_would_6 9 rfl rfl)
theorem dX0_would_145 : decode cX0_would 145 = .ok (.isub, 1) := dk_100 (dk_at dksX0_would_6 12 rfl rfl)
theorem dX0_would_146 : decode cX0_would 146 = .ok (.ireturn, 1) := dk_172 (dk_at dksX0_would_6 13 rfl rfl)
theorem dX0_would_147 : decode cX0_would 147 = .ok (.aload 4, 2) := dk_25 4 (dk_at dksX0_would_6 14 rfl rfl)
theorem dX0_would_149 : decode cX0_would 149 = .ok (.getfield 250, 3) := dk_180 0 250 (dk_at dksX0_would_6 16 rfl rfl)
theorem dX0_would_152 : decode cX0_would 152 = .ok (.aload_n 0, 1) := dk_42 (dk_at dksX0_would_6 19 rfl rfl)
theorem dX0_would_153 : decode cX0_would 153 = .ok (.getfield 33, 3) := dk_180 0 33 (dk_at dksX0_would_6 20 rfl rfl)
theorem dX0_would_156 : decode cX0_would 156 = .ok (.getfield 250, 3) := dk_180 0 250 (dk_at dksX0_would_7 0 rfl rfl)
theorem dX0_would_159 : decode cX0_would 159 = .ok (.isub, 1) := dk_100 (dk_at dksX0_would_7 3 rfl rfl)
theorem dX0_would_160 : decode cX0_would 160 = .ok (.ireturn, 1) := dk_172 (dk_at dksX0_would_7 4 rfl rfl)
theorem dX0_would_161 : decode cX0_would 161 = .ok (.iconst (-1), 1) := dk_2 (dk_at dksX0_would_7 5 rfl rfl)
theorem dX0_would_162 : decode cX0_would 162 = .ok (.ireturn, 1) := dk_172 (dk_at dksX0_would_7 6 rfl rfl)
abbrev cX0_later : ByteArray := prog_1_method_47_code
def yX0_later : MethodName := ⟨RX0, "later", "(II)LBusLine$State;"⟩
def dkwX0_later_0 : List UInt8 := [42, 180, 0, 33, 182, 0, 124, 78, 45, 27, 181, 0, 132, 45, 28, 182, 0, 203, 176]
abbrev dktX0_later_0 : List UInt8 := dkwX0_later_0 ++ []
theorem dksX0_later_0 : cX0_later.data.toList.drop 0 = dktX0_later_0 := by decide +kernel
theorem dX0_later_0 : decode cX0_later 0 = .ok (.aload_n 0, 1) := dk_42 (dk_at dksX0_later_0 0 rfl rfl)
theorem dX0_later_1 : decode cX0_later 1 = .ok (.getfield 33, 3) := dk_180 0 33 (dk_at dksX0_later_0 1 rfl rfl)
theorem dX0_later_4 : decode cX0_later 4 = .ok (.invokevirtual 124, 3) := dk_182 0 124 (dk_at dksX0_later_0 4 rfl rfl)
theorem dX0_later_7 : decode cX0_later 7 = .ok (.astore_n 3, 1) := dk_78 (dk_at dksX0_later_0 7 rfl rfl)
theorem dX0_later_8 : decode cX0_later 8 = .ok (.aload_n 3, 1) := dk_45 (dk_at dksX0_later_0 8 rfl rfl)
theorem dX0_later_9 : decode cX0_later 9 = .ok (.iload_n 1, 1) := dk_27 (dk_at dksX0_later_0 9 rfl rfl)
theorem dX0_later_10 : decode cX0_later 10 = .ok (.putfield 132, 3) := dk_181 0 132 (dk_at dksX0_later_0 10 rfl rfl)
theorem dX0_later_13 : decode cX0_later 13 = .ok (.aload_n 3, 1) := dk_45 (dk_at dksX0_later_0 13 rfl rfl)
theorem dX0_later_14 : decode cX0_later 14 = .ok (.iload_n 2, 1) := dk_28 (dk_at dksX0_later_0 14 rfl rfl)
theorem dX0_later_15 : decode cX0_later 15 = .ok (.invokevirtual 203, 3) := dk_182 0 203 (dk_at dksX0_later_0 15 rfl rfl)
theorem dX0_later_18 : decode cX0_later 18 = .ok (.areturn, 1) := dk_176 (dk_at dksX0_later_0 18 rfl rfl)
abbrev cX0_bestMode : ByteArray := prog_1_method_49_code
def yX0_bestMode : MethodName := ⟨RX0, "bestMode", "(I)I"⟩
def dkwX0_bestMode_4 : List UInt8 := [167, 255, 185, 28, 172]
abbrev dktX0_bestMode_4 : List UInt8 := dkwX0_bestMode_4 ++ []
def dkwX0_bestMode_3 : List UInt8 := [155, 0, 6, 167, 0, 16, 21, 6, 61, 21, 8, 62, 25, 7, 180, 1, 169, 55, 4, 132, 6, 1]
abbrev dktX0_bestMode_3 : List UInt8 := dkwX0_bestMode_3 ++ dktX0_bestMode_4
def dkwX0_bestMode_2 : List UInt8 := [155, 0, 29, 21, 8, 29, 161, 0, 36, 21, 8, 29, 160, 0, 17, 25, 7, 180, 1, 169, 22, 4, 148]
abbrev dktX0_bestMode_2 : List UInt8 := dkwX0_bestMode_2 ++ dktX0_bestMode_3
def dkwX0_bestMode_1 : List UInt8 := [163, 0, 71, 42, 21, 6, 27, 182, 1, 162, 58, 7, 25, 7, 180, 0, 196, 184, 0, 199, 54, 8, 28]
abbrev dktX0_bestMode_1 : List UInt8 := dkwX0_bestMode_1 ++ dktX0_bestMode_2
def dkwX0_bestMode_0 : List UInt8 := [27, 184, 0, 193, 154, 0, 5, 2, 172, 16, 254, 61, 3, 62, 9, 55, 4, 3, 54, 6, 21, 6, 6]
abbrev dktX0_bestMode_0 : List UInt8 := dkwX0_bestMode_0 ++ dktX0_bestMode_1
theorem dksX0_bestMode_0 : cX0_bestMode.data.toList.drop 0 = dktX0_bestMode_0 := by decide +kernel
theorem dksX0_bestMode_1 : cX0_bestMode.data.toList.drop 23 = dktX0_bestMode_1 := dk_seg dksX0_bestMode_0 23 rfl rfl
theorem dksX0_bestMode_2 : cX0_bestMode.data.toList.drop 46 = dktX0_bestMode_2 := dk_seg dksX0_bestMode_1 23 rfl rfl
theorem dksX0_bestMode_3 : cX0_bestMode.data.toList.drop 69 = dktX0_bestMode_3 := dk_seg dksX0_bestMode_2 23 rfl rfl
theorem dksX0_bestMode_4 : cX0_bestMode.data.toList.drop 91 = dktX0_bestMode_4 := dk_seg dksX0_bestMode_3 22 rfl rfl
theorem dX0_bestMode_0 : decode cX0_bestMode 0 = .ok (.iload_n 1, 1) := dk_27 (dk_at dksX0_bestMode_0 0 rfl rfl)
theorem dX0_bestMode_1 : decode cX0_bestMode 1 = .ok (.invokestatic 193, 3) := dk_184 0 193 (dk_at dksX0_bestMode_0 1 rfl rfl)
theorem dX0_bestMode_4 : decode cX0_bestMode 4 = .ok (.ifCond .ne 5, 3) := dk_154 0 5 (dk_at dksX0_bestMode_0 4 rfl rfl)
theorem dX0_bestMode_7 : decode cX0_bestMode 7 = .ok (.iconst (-1), 1) := dk_2 (dk_at dksX0_bestMode_0 7 rfl rfl)
theorem dX0_bestMode_8 : decode cX0_bestMode 8 = .ok (.ireturn, 1) := dk_172 (dk_at dksX0_bestMode_0 8 rfl rfl)
theorem dX0_bestMode_9 : decode cX0_bestMode 9 = .ok (.bipush (-2), 2) := dk_16 254 (dk_at dksX0_bestMode_0 9 rfl rfl)
theorem dX0_bestMode_11 : decode cX0_bestMode 11 = .ok (.istore_n 2, 1) := dk_61 (dk_at dksX0_bestMode_0 11 rfl rfl)
theorem dX0_bestMode_12 : decode cX0_bestMode 12 = .ok (.iconst 0, 1) := dk_3 (dk_at dksX0_bestMode_0 12 rfl rfl)
theorem dX0_bestMode_13 : decode cX0_bestMode 13 = .ok (.istore_n 3, 1) := dk_62 (dk_at dksX0_bestMode_0 13 rfl rfl)
theorem dX0_bestMode_14 : decode cX0_bestMode 14 = .ok (.lconst 0, 1) := dk_9 (dk_at dksX0_bestMode_0 14 rfl rfl)
theorem dX0_bestMode_15 : decode cX0_bestMode 15 = .ok (.lstore 4, 2) := dk_55 4 (dk_at dksX0_bestMode_0 15 rfl rfl)
theorem dX0_bestMode_17 : decode cX0_bestMode 17 = .ok (.iconst 0, 1) := dk_3 (dk_at dksX0_bestMode_0 17 rfl rfl)
theorem dX0_bestMode_18 : decode cX0_bestMode 18 = .ok (.istore 6, 2) := dk_54 6 (dk_at dksX0_bestMode_0 18 rfl rfl)
theorem dX0_bestMode_20 : decode cX0_bestMode 20 = .ok (.iload 6, 2) := dk_21 6 (dk_at dksX0_bestMode_0 20 rfl rfl)
theorem dX0_bestMode_22 : decode cX0_bestMode 22 = .ok (.iconst 3, 1) := dk_6 (dk_at dksX0_bestMode_0 22 rfl rfl)
theorem dX0_bestMode_23 : decode cX0_bestMode 23 = .ok (.if_icmp .gt 71, 3) := dk_163 0 71 (dk_at dksX0_bestMode_1 0 rfl rfl)
theorem dX0_bestMode_26 : decode cX0_bestMode 26 = .ok (.aload_n 0, 1) := dk_42 (dk_at dksX0_bestMode_1 3 rfl rfl)
theorem dX0_bestMode_27 : decode cX0_bestMode 27 = .ok (.iload 6, 2) := dk_21 6 (dk_at dksX0_bestMode_1 4 rfl rfl)
theorem dX0_bestMode_29 : decode cX0_bestMode 29 = .ok (.iload_n 1, 1) := dk_27 (dk_at dksX0_bestMode_1 6 rfl rfl)
theorem dX0_bestMode_30 : decode cX0_bestMode 30 = .ok (.invokevirtual 418, 3) := dk_182 1 162 (dk_at dksX0_bestMode_1 7 rfl rfl)
theorem dX0_bestMode_33 : decode cX0_bestMode 33 = .ok (.astore 7, 2) := dk_58 7 (dk_at dksX0_bestMode_1 10 rfl rfl)
theorem dX0_bestMode_35 : decode cX0_bestMode 35 = .ok (.aload 7, 2) := dk_25 7 (dk_at dksX0_bestMode_1 12 rfl rfl)
theorem dX0_bestMode_37 : decode cX0_bestMode 37 = .ok (.getfield 196, 3) := dk_180 0 196 (dk_at dksX0_bestMode_1 14 rfl rfl)
theorem dX0_bestMode_40 : decode cX0_bestMode 40 = .ok (.invokestatic 199, 3) := dk_184 0 199 (dk_at dksX0_bestMode_1 17 rfl rfl)
theorem dX0_bestMode_43 : decode cX0_bestMode 43 = .ok (.istore 8, 2) := dk_54 8 (dk_at dksX0_bestMode_1 20 rfl rfl)
theorem dX0_bestMode_45 : decode cX0_bestMode 45 = .ok (.iload_n 2, 1) := dk_28 (dk_at dksX0_bestMode_1 22 rfl rfl)
theorem dX0_bestMode_46 : decode cX0_bestMode 46 = .ok (.ifCond .lt 29, 3) := dk_155 0 29 (dk_at dksX0_bestMode_2 0 rfl rfl)
theorem dX0_bestMode_49 : decode cX0_bestMode 49 = .ok (.iload 8, 2) := dk_21 8 (dk_at dksX0_bestMode_2 3 rfl rfl)
theorem dX0_bestMode_51 : decode cX0_bestMode 51 = .ok (.iload_n 3, 1) := dk_29 (dk_at dksX0_bestMode_2 5 rfl rfl)
theorem dX0_bestMode_52 : decode cX0_bestMode 52 = .ok (.if_icmp .lt 36, 3) := dk_161 0 36 (dk_at dksX0_bestMode_2 6 rfl rfl)
theorem dX0_bestMode_55 : decode cX0_bestMode 55 = .ok (.iload 8, 2) := dk_21 8 (dk_at dksX0_bestMode_2 9 rfl rfl)
theorem dX0_bestMode_57 : decode cX0_bestMode 57 = .ok (.iload_n 3, 1) := dk_29 (dk_at dksX0_bestMode_2 11 rfl rfl)
theorem dX0_bestMode_58 : decode cX0_bestMode 58 = .ok (.if_icmp .ne 17, 3) := dk_160 0 17 (dk_at dksX0_bestMode_2 12 rfl rfl)
theorem dX0_bestMode_61 : decode cX0_bestMode 61 = .ok (.aload 7, 2) := dk_25 7 (dk_at dksX0_bestMode_2 15 rfl rfl)
theorem dX0_bestMode_63 : decode cX0_bestMode 63 = .ok (.getfield 425, 3) := dk_180 1 169 (dk_at dksX0_bestMode_2 17 rfl rfl)
theorem dX0_bestMode_66 : decode cX0_bestMode 66 = .ok (.lload 4, 2) := dk_22 4 (dk_at dksX0_bestMode_2 20 rfl rfl)
theorem dX0_bestMode_68 : decode cX0_bestMode 68 = .ok (.lcmp, 1) := dk_148 (dk_at dksX0_bestMode_2 22 rfl rfl)
theorem dX0_bestMode_69 : decode cX0_bestMode 69 = .ok (.ifCond .lt 6, 3) := dk_155 0 6 (dk_at dksX0_bestMode_3 0 rfl rfl)
theorem dX0_bestMode_72 : decode cX0_bestMode 72 = .ok (.goto 16, 3) := dk_167 0 16 (dk_at dksX0_bestMode_3 3 rfl rfl)
theorem dX0_bestMode_75 : decode cX0_bestMode 75 = .ok (.iload 6, 2) := dk_21 6 (dk_at dksX0_bestMode_3 6 rfl rfl)
theorem dX0_bestMode_77 : decode cX0_bestMode 77 = .ok (.istore_n 2, 1) := dk_61 (dk_at dksX0_bestMode_3 8 rfl rfl)
theorem dX0_bestMode_78 : decode cX0_bestMode 78 = .ok (.iload 8, 2) := dk_21 8 (dk_at dksX0_bestMode_3 9 rfl rfl)
theorem dX0_bestMode_80 : decode cX0_bestMode 80 = .ok (.istore_n 3, 1) := dk_62 (dk_at dksX0_bestMode_3 11 rfl rfl)
theorem dX0_bestMode_81 : decode cX0_bestMode 81 = .ok (.aload 7, 2) := dk_25 7 (dk_at dksX0_bestMode_3 12 rfl rfl)
theorem dX0_bestMode_83 : decode cX0_bestMode 83 = .ok (.getfield 425, 3) := dk_180 1 169 (dk_at dksX0_bestMode_3 14 rfl rfl)
theorem dX0_bestMode_86 : decode cX0_bestMode 86 = .ok (.lstore 4, 2) := dk_55 4 (dk_at dksX0_bestMode_3 17 rfl rfl)
theorem dX0_bestMode_88 : decode cX0_bestMode 88 = .ok (.iinc 6 1, 3) := dk_132 6 1 (dk_at dksX0_bestMode_3 19 rfl rfl)
theorem dX0_bestMode_91 : decode cX0_bestMode 91 = .ok (.goto (-71), 3) := dk_167 255 185 (dk_at dksX0_bestMode_4 0 rfl rfl)
theorem dX0_bestMode_94 : decode cX0_bestMode 94 = .ok (.iload_n 2, 1) := dk_28 (dk_at dksX0_bestMode_4 3 rfl rfl)
theorem dX0_bestMode_95 : decode cX0_bestMode 95 = .ok (.ireturn, 1) := dk_172 (dk_at dksX0_bestMode_4 4 rfl rfl)
abbrev cX0_comeBy : ByteArray := prog_1_method_50_code
def yX0_comeBy : MethodName := ⟨RX0, "comeBy", "(II)I"⟩
def dkwX0_comeBy_1 : List UInt8 := [180, 0, 67, 180, 0, 71, 27, 182, 0, 213, 192, 1, 60, 28, 182, 1, 174, 167, 0, 4, 2, 172]
abbrev dktX0_comeBy_1 : List UInt8 := dkwX0_comeBy_1 ++ []
def dkwX0_comeBy_0 : List UInt8 := [42, 27, 182, 1, 57, 153, 0, 38, 28, 3, 19, 1, 173, 184, 0, 3, 153, 0, 27, 42, 180, 0, 33]
abbrev dktX0_comeBy_0 : List UInt8 := dkwX0_comeBy_0 ++ dktX0_comeBy_1
theorem dksX0_comeBy_0 : cX0_comeBy.data.toList.drop 0 = dktX0_comeBy_0 := by decide +kernel
theorem dksX0_comeBy_1 : cX0_comeBy.data.toList.drop 23 = dktX0_comeBy_1 := dk_seg dksX0_comeBy_0 23 rfl rfl
theorem dX0_comeBy_0 : decode cX0_comeBy 0 = .ok (.aload_n 0, 1) := dk_42 (dk_at dksX0_comeBy_0 0 rfl rfl)
theorem dX0_comeBy_1 : decode cX0_comeBy 1 = .ok (.iload_n 1, 1) := dk_27 (dk_at dksX0_comeBy_0 1 rfl rfl)
theorem dX0_comeBy_2 : decode cX0_comeBy 2 = .ok (.invokevirtual 313, 3) := dk_182 1 57 (dk_at dksX0_comeBy_0 2 rfl rfl)
theorem dX0_comeBy_5 : decode cX0_comeBy 5 = .ok (.ifCond .eq 38, 3) := dk_153 0 38 (dk_at dksX0_comeBy_0 5 rfl rfl)
theorem dX0_comeBy_8 : decode cX0_comeBy 8 = .ok (.iload_n 2, 1) := dk_28 (dk_at dksX0_comeBy_0 8 rfl rfl)
theorem dX0_comeBy_9 : decode cX0_comeBy 9 = .ok (.iconst 0, 1) := dk_3 (dk_at dksX0_comeBy_0 9 rfl rfl)
theorem dX0_comeBy_10 : decode cX0_comeBy 10 = .ok (.ldc_w 429, 3) := dk_19 1 173 (dk_at dksX0_comeBy_0 10 rfl rfl)
theorem dX0_comeBy_13 : decode cX0_comeBy 13 = .ok (.invokestatic 3, 3) := dk_184 0 3 (dk_at dksX0_comeBy_0 13 rfl rfl)
theorem dX0_comeBy_16 : decode cX0_comeBy 16 = .ok (.ifCond .eq 27, 3) := dk_153 0 27 (dk_at dksX0_comeBy_0 16 rfl rfl)
theorem dX0_comeBy_19 : decode cX0_comeBy 19 = .ok (.aload_n 0, 1) := dk_42 (dk_at dksX0_comeBy_0 19 rfl rfl)
theorem dX0_comeBy_20 : decode cX0_comeBy 20 = .ok (.getfield 33, 3) := dk_180 0 33 (dk_at dksX0_comeBy_0 20 rfl rfl)
theorem dX0_comeBy_23 : decode cX0_comeBy 23 = .ok (.getfield 67, 3) := dk_180 0 67 (dk_at dksX0_comeBy_1 0 rfl rfl)
theorem dX0_comeBy_26 : decode cX0_comeBy 26 = .ok (.getfield 71, 3) := dk_180 0 71 (dk_at dksX0_comeBy_1 3 rfl rfl)
theorem dX0_comeBy_29 : decode cX0_comeBy 29 = .ok (.iload_n 1, 1) := dk_27 (dk_at dksX0_comeBy_1 6 rfl rfl)
theorem dX0_comeBy_30 : decode cX0_comeBy 30 = .ok (.invokevirtual 213, 3) := dk_182 0 213 (dk_at dksX0_comeBy_1 7 rfl rfl)
theorem dX0_comeBy_33 : decode cX0_comeBy 33 = .ok (.checkcast 316, 3) := dk_192 1 60 (dk_at dksX0_comeBy_1 10 rfl rfl)
theorem dX0_comeBy_36 : decode cX0_comeBy 36 = .ok (.iload_n 2, 1) := dk_28 (dk_at dksX0_comeBy_1 13 rfl rfl)
theorem dX0_comeBy_37 : decode cX0_comeBy 37 = .ok (.invokevirtual 430, 3) := dk_182 1 174 (dk_at dksX0_comeBy_1 14 rfl rfl)
theorem dX0_comeBy_40 : decode cX0_comeBy 40 = .ok (.goto 4, 3) := dk_167 0 4 (dk_at dksX0_comeBy_1 17 rfl rfl)
theorem dX0_comeBy_43 : decode cX0_comeBy 43 = .ok (.iconst (-1), 1) := dk_2 (dk_at dksX0_comeBy_1 20 rfl rfl)
theorem dX0_comeBy_44 : decode cX0_comeBy 44 = .ok (.ireturn, 1) := dk_172 (dk_at dksX0_comeBy_1 21 rfl rfl)
abbrev cX0_meanWaiting : ByteArray := prog_1_method_51_code
def yX0_meanWaiting : MethodName := ⟨RX0, "meanWaiting", "()D"⟩
def dkwX0_meanWaiting_1 : List UInt8 := [180, 1, 169, 138, 27, 135, 111, 175]
abbrev dktX0_meanWaiting_1 : List UInt8 := dkwX0_meanWaiting_1 ++ []
def dkwX0_meanWaiting_0 : List UInt8 := [42, 180, 0, 33, 180, 1, 95, 184, 0, 199, 60, 27, 154, 0, 7, 14, 167, 0, 14, 42, 180, 0, 33]
abbrev dktX0_meanWaiting_0 : List UInt8 := dkwX0_meanWaiting_0 ++ dktX0_meanWaiting_1
theorem dksX0_meanWaiting_0 : cX0_meanWaiting.data.toList.drop 0 = dktX0_meanWaiting_0 := by decide +kernel
theorem dksX0_meanWaiting_1 : cX0_meanWaiting.data.toList.drop 23 = dktX0_meanWaiting_1 := dk_seg dksX0_meanWaiting_0 23 rfl rfl
theorem dX0_meanWaiting_0 : decode cX0_meanWaiting 0 = .ok (.aload_n 0, 1) := dk_42 (dk_at dksX0_meanWaiting_0 0 rfl rfl)
theorem dX0_meanWaiting_1 : decode cX0_meanWaiting 1 = .ok (.getfield 33, 3) := dk_180 0 33 (dk_at dksX0_meanWaiting_0 1 rfl rfl)
theorem dX0_meanWaiting_4 : decode cX0_meanWaiting 4 = .ok (.getfield 351, 3) := dk_180 1 95 (dk_at dksX0_meanWaiting_0 4 rfl rfl)
theorem dX0_meanWaiting_7 : decode cX0_meanWaiting 7 = .ok (.invokestatic 199, 3) := dk_184 0 199 (dk_at dksX0_meanWaiting_0 7 rfl rfl)
theorem dX0_meanWaiting_10 : decode cX0_meanWaiting 10 = .ok (.istore_n 1, 1) := dk_60 (dk_at dksX0_meanWaiting_0 10 rfl rfl)
theorem dX0_meanWaiting_11 : decode cX0_meanWaiting 11 = .ok (.iload_n 1, 1) := dk_27 (dk_at dksX0_meanWaiting_0 11 rfl rfl)
theorem dX0_meanWaiting_12 : decode cX0_meanWaiting 12 = .ok (.ifCond .ne 7, 3) := dk_154 0 7 (dk_at dksX0_meanWaiting_0 12 rfl rfl)
theorem dX0_meanWaiting_15 : decode cX0_meanWaiting 15 = .ok (.dconst 0, 1) := dk_14 (dk_at dksX0_meanWaiting_0 15 rfl rfl)
theorem dX0_meanWaiting_16 : decode cX0_meanWaiting 16 = .ok (.goto 14, 3) := dk_167 0 14 (dk_at dksX0_meanWaiting_0 16 rfl rfl)
theorem dX0_meanWaiting_19 : decode cX0_meanWaiting 19 = .ok (.aload_n 0, 1) := dk_42 (dk_at dksX0_meanWaiting_0 19 rfl rfl)
theorem dX0_meanWaiting_20 : decode cX0_meanWaiting 20 = .ok (.getfield 33, 3) := dk_180 0 33 (dk_at dksX0_meanWaiting_0 20 rfl rfl)
theorem dX0_meanWaiting_23 : decode cX0_meanWaiting 23 = .ok (.getfield 425, 3) := dk_180 1 169 (dk_at dksX0_meanWaiting_1 0 rfl rfl)
theorem dX0_meanWaiting_26 : decode cX0_meanWaiting 26 = .ok (.l2d, 1) := dk_138 (dk_at dksX0_meanWaiting_1 3 rfl rfl)
theorem dX0_meanWaiting_27 : decode cX0_meanWaiting 27 = .ok (.iload_n 1, 1) := dk_27 (dk_at dksX0_meanWaiting_1 4 rfl rfl)
theorem dX0_meanWaiting_28 : decode cX0_meanWaiting 28 = .ok (.i2d, 1) := dk_135 (dk_at dksX0_meanWaiting_1 5 rfl rfl)
theorem dX0_meanWaiting_29 : decode cX0_meanWaiting 29 = .ok (.ddiv, 1) := dk_111 (dk_at dksX0_meanWaiting_1 6 rfl rfl)
theorem dX0_meanWaiting_30 : decode cX0_meanWaiting 30 = .ok (.dreturn, 1) := dk_175 (dk_at dksX0_meanWaiting_1 7 rfl rfl)
abbrev cX0_meanRide : ByteArray := prog_1_method_52_code
def yX0_meanRide : MethodName := ⟨RX0, "meanRide", "()D"⟩
def dkwX0_meanRide_1 : List UInt8 := [180, 1, 177, 138, 27, 135, 111, 175]
abbrev dktX0_meanRide_1 : List UInt8 := dkwX0_meanRide_1 ++ []
def dkwX0_meanRide_0 : List UInt8 := [42, 180, 0, 33, 180, 0, 196, 184, 0, 199, 60, 27, 154, 0, 7, 14, 167, 0, 14, 42, 180, 0, 33]
abbrev dktX0_meanRide_0 : List UInt8 := dkwX0_meanRide_0 ++ dktX0_meanRide_1
theorem dksX0_meanRide_0 : cX0_meanRide.data.toList.drop 0 = dktX0_meanRide_0 := by decide +kernel
theorem dksX0_meanRide_1 : cX0_meanRide.data.toList.drop 23 = dktX0_meanRide_1 := dk_seg dksX0_meanRide_0 23 rfl rfl
theorem dX0_meanRide_0 : decode cX0_meanRide 0 = .ok (.aload_n 0, 1) := dk_42 (dk_at dksX0_meanRide_0 0 rfl rfl)
theorem dX0_meanRide_1 : decode cX0_meanRide 1 = .ok (.getfield 33, 3) := dk_180 0 33 (dk_at dksX0_meanRide_0 1 rfl rfl)
theorem dX0_meanRide_4 : decode cX0_meanRide 4 = .ok (.getfield 196, 3) := dk_180 0 196 (dk_at dksX0_meanRide_0 4 rfl rfl)
theorem dX0_meanRide_7 : decode cX0_meanRide 7 = .ok (.invokestatic 199, 3) := dk_184 0 199 (dk_at dksX0_meanRide_0 7 rfl rfl)
theorem dX0_meanRide_10 : decode cX0_meanRide 10 = .ok (.istore_n 1, 1) := dk_60 (dk_at dksX0_meanRide_0 10 rfl rfl)
theorem dX0_meanRide_11 : decode cX0_meanRide 11 = .ok (.iload_n 1, 1) := dk_27 (dk_at dksX0_meanRide_0 11 rfl rfl)
theorem dX0_meanRide_12 : decode cX0_meanRide 12 = .ok (.ifCond .ne 7, 3) := dk_154 0 7 (dk_at dksX0_meanRide_0 12 rfl rfl)
theorem dX0_meanRide_15 : decode cX0_meanRide 15 = .ok (.dconst 0, 1) := dk_14 (dk_at dksX0_meanRide_0 15 rfl rfl)
theorem dX0_meanRide_16 : decode cX0_meanRide 16 = .ok (.goto 14, 3) := dk_167 0 14 (dk_at dksX0_meanRide_0 16 rfl rfl)
theorem dX0_meanRide_19 : decode cX0_meanRide 19 = .ok (.aload_n 0, 1) := dk_42 (dk_at dksX0_meanRide_0 19 rfl rfl)
theorem dX0_meanRide_20 : decode cX0_meanRide 20 = .ok (.getfield 33, 3) := dk_180 0 33 (dk_at dksX0_meanRide_0 20 rfl rfl)
theorem dX0_meanRide_23 : decode cX0_meanRide 23 = .ok (.getfield 433, 3) := dk_180 1 177 (dk_at dksX0_meanRide_1 0 rfl rfl)
theorem dX0_meanRide_26 : decode cX0_meanRide 26 = .ok (.l2d, 1) := dk_138 (dk_at dksX0_meanRide_1 3 rfl rfl)
theorem dX0_meanRide_27 : decode cX0_meanRide 27 = .ok (.iload_n 1, 1) := dk_27 (dk_at dksX0_meanRide_1 4 rfl rfl)
theorem dX0_meanRide_28 : decode cX0_meanRide 28 = .ok (.i2d, 1) := dk_135 (dk_at dksX0_meanRide_1 5 rfl rfl)
theorem dX0_meanRide_29 : decode cX0_meanRide 29 = .ok (.ddiv, 1) := dk_111 (dk_at dksX0_meanRide_1 6 rfl rfl)
theorem dX0_meanRide_30 : decode cX0_meanRide 30 = .ok (.dreturn, 1) := dk_175 (dk_at dksX0_meanRide_1 7 rfl rfl)
abbrev cX0_full : ByteArray := prog_1_method_53_code
def yX0_full : MethodName := ⟨RX0, "full", "(I)F"⟩
def dkwX0_full_1 : List UInt8 := [42, 180, 0, 33, 180, 0, 63, 27, 50, 180, 1, 35, 134, 110, 167, 0, 6, 19, 1, 180, 174]
abbrev dktX0_full_1 : List UInt8 := dkwX0_full_1 ++ []
def dkwX0_full_0 : List UInt8 := [42, 27, 182, 0, 156, 153, 0, 36, 42, 180, 0, 33, 180, 0, 63, 27, 50, 180, 0, 168, 180, 1, 17, 134]
abbrev dktX0_full_0 : List UInt8 := dkwX0_full_0 ++ dktX0_full_1
theorem dksX0_full_0 : cX0_full.data.toList.drop 0 = dktX0_full_0 := by decide +kernel
theorem dksX0_full_1 : cX0_full.data.toList.drop 24 = dktX0_full_1 := dk_seg dksX0_full_0 24 rfl rfl
theorem dX0_full_0 : decode cX0_full 0 = .ok (.aload_n 0, 1) := dk_42 (dk_at dksX0_full_0 0 rfl rfl)
theorem dX0_full_1 : decode cX0_full 1 = .ok (.iload_n 1, 1) := dk_27 (dk_at dksX0_full_0 1 rfl rfl)
theorem dX0_full_2 : decode cX0_full 2 = .ok (.invokevirtual 156, 3) := dk_182 0 156 (dk_at dksX0_full_0 2 rfl rfl)
theorem dX0_full_5 : decode cX0_full 5 = .ok (.ifCond .eq 36, 3) := dk_153 0 36 (dk_at dksX0_full_0 5 rfl rfl)
theorem dX0_full_8 : decode cX0_full 8 = .ok (.aload_n 0, 1) := dk_42 (dk_at dksX0_full_0 8 rfl rfl)
theorem dX0_full_9 : decode cX0_full 9 = .ok (.getfield 33, 3) := dk_180 0 33 (dk_at dksX0_full_0 9 rfl rfl)
theorem dX0_full_12 : decode cX0_full 12 = .ok (.getfield 63, 3) := dk_180 0 63 (dk_at dksX0_full_0 12 rfl rfl)
theorem dX0_full_15 : decode cX0_full 15 = .ok (.iload_n 1, 1) := dk_27 (dk_at dksX0_full_0 15 rfl rfl)
theorem dX0_full_16 : decode cX0_full 16 = .ok (.aaload, 1) := dk_50 (dk_at dksX0_full_0 16 rfl rfl)
theorem dX0_full_17 : decode cX0_full 17 = .ok (.getfield 168, 3) := dk_180 0 168 (dk_at dksX0_full_0 17 rfl rfl)
theorem dX0_full_20 : decode cX0_full 20 = .ok (.getfield 273, 3) := dk_180 1 17 (dk_at dksX0_full_0 20 rfl rfl)
theorem dX0_full_23 : decode cX0_full 23 = .ok (.i2f, 1) := dk_134 (dk_at dksX0_full_0 23 rfl rfl)
theorem dX0_full_24 : decode cX0_full 24 = .ok (.aload_n 0, 1) := dk_42 (dk_at dksX0_full_1 0 rfl rfl)
theorem dX0_full_25 : decode cX0_full 25 = .ok (.getfield 33, 3) := dk_180 0 33 (dk_at dksX0_full_1 1 rfl rfl)
theorem dX0_full_28 : decode cX0_full 28 = .ok (.getfield 63, 3) := dk_180 0 63 (dk_at dksX0_full_1 4 rfl rfl)
theorem dX0_full_31 : decode cX0_full 31 = .ok (.iload_n 1, 1) := dk_27 (dk_at dksX0_full_1 7 rfl rfl)
theorem dX0_full_32 : decode cX0_full 32 = .ok (.aaload, 1) := dk_50 (dk_at dksX0_full_1 8 rfl rfl)
theorem dX0_full_33 : decode cX0_full 33 = .ok (.getfield 291, 3) := dk_180 1 35 (dk_at dksX0_full_1 9 rfl rfl)
theorem dX0_full_36 : decode cX0_full 36 = .ok (.i2f, 1) := dk_134 (dk_at dksX0_full_1 12 rfl rfl)
theorem dX0_full_37 : decode cX0_full 37 = .ok (.fdiv, 1) := dk_110 (dk_at dksX0_full_1 13 rfl rfl)
theorem dX0_full_38 : decode cX0_full 38 = .ok (.goto 6, 3) := dk_167 0 6 (dk_at dksX0_full_1 14 rfl rfl)
theorem dX0_full_41 : decode cX0_full 41 = .ok (.ldc_w 436, 3) := dk_19 1 180 (dk_at dksX0_full_1 17 rfl rfl)
theorem dX0_full_44 : decode cX0_full 44 = .ok (.freturn, 1) := dk_174 (dk_at dksX0_full_1 20 rfl rfl)
abbrev cX0_boardLength : ByteArray := prog_1_method_55_code
def yX0_boardLength : MethodName := ⟨RX0, "boardLength", "()I"⟩
def dkwX0_boardLength_0 : List UInt8 := [42, 180, 0, 33, 182, 1, 188, 182, 1, 181, 172]
abbrev dktX0_boardLength_0 : List UInt8 := dkwX0_boardLength_0 ++ []
theorem dksX0_boardLength_0 : cX0_boardLength.data.toList.drop 0 = dktX0_boardLength_0 := by decide +kernel
theorem dX0_boardLength_0 : decode cX0_boardLength 0 = .ok (.aload_n 0, 1) := dk_42 (dk_at dksX0_boardLength_0 0 rfl rfl)
theorem dX0_boardLength_1 : decode cX0_boardLength 1 = .ok (.getfield 33, 3) := dk_180 0 33 (dk_at dksX0_boardLength_0 1 rfl rfl)
theorem dX0_boardLength_4 : decode cX0_boardLength 4 = .ok (.invokevirtual 444, 3) := dk_182 1 188 (dk_at dksX0_boardLength_0 4 rfl rfl)
theorem dX0_boardLength_7 : decode cX0_boardLength 7 = .ok (.invokevirtual 437, 3) := dk_182 1 181 (dk_at dksX0_boardLength_0 7 rfl rfl)
theorem dX0_boardLength_10 : decode cX0_boardLength 10 = .ok (.ireturn, 1) := dk_172 (dk_at dksX0_boardLength_0 10 rfl rfl)
abbrev cX0_boardByte : ByteArray := prog_1_method_56_code
def yX0_boardByte : MethodName := ⟨RX0, "boardByte", "(I)I"⟩
def dkwX0_boardByte_0 : List UInt8 := [27, 156, 0, 7, 2, 167, 0, 14, 42, 180, 0, 33, 182, 1, 188, 27, 184, 1, 191, 172]
abbrev dktX0_boardByte_0 : List UInt8 := dkwX0_boardByte_0 ++ []
theorem dksX0_boardByte_0 : cX0_boardByte.data.toList.drop 0 = dktX0_boardByte_0 := by decide +kernel
theorem dX0_boardByte_0 : decode cX0_boardByte 0 = .ok (.iload_n 1, 1) := dk_27 (dk_at dksX0_boardByte_0 0 rfl rfl)
theorem dX0_boardByte_1 : decode cX0_boardByte 1 = .ok (.ifCond .ge 7, 3) := dk_156 0 7 (dk_at dksX0_boardByte_0 1 rfl rfl)
theorem dX0_boardByte_4 : decode cX0_boardByte 4 = .ok (.iconst (-1), 1) := dk_2 (dk_at dksX0_boardByte_0 4 rfl rfl)
theorem dX0_boardByte_5 : decode cX0_boardByte 5 = .ok (.goto 14, 3) := dk_167 0 14 (dk_at dksX0_boardByte_0 5 rfl rfl)
theorem dX0_boardByte_8 : decode cX0_boardByte 8 = .ok (.aload_n 0, 1) := dk_42 (dk_at dksX0_boardByte_0 8 rfl rfl)
theorem dX0_boardByte_9 : decode cX0_boardByte 9 = .ok (.getfield 33, 3) := dk_180 0 33 (dk_at dksX0_boardByte_0 9 rfl rfl)
theorem dX0_boardByte_12 : decode cX0_boardByte 12 = .ok (.invokevirtual 444, 3) := dk_182 1 188 (dk_at dksX0_boardByte_0 12 rfl rfl)
theorem dX0_boardByte_15 : decode cX0_boardByte 15 = .ok (.iload_n 1, 1) := dk_27 (dk_at dksX0_boardByte_0 15 rfl rfl)
theorem dX0_boardByte_16 : decode cX0_boardByte 16 = .ok (.invokestatic 447, 3) := dk_184 1 191 (dk_at dksX0_boardByte_0 16 rfl rfl)
theorem dX0_boardByte_19 : decode cX0_boardByte 19 = .ok (.ireturn, 1) := dk_172 (dk_at dksX0_boardByte_0 19 rfl rfl)
abbrev cX0_byteAt : ByteArray := prog_1_method_54_code
def yX0_byteAt : MethodName := ⟨RX0, "byteAt", "(Ljava/lang/String;I)I"⟩
def dkwX0_byteAt_0 : List UInt8 := [27, 42, 182, 1, 181, 162, 0, 11, 42, 27, 182, 1, 184, 167, 0, 5, 16, 254, 172]
abbrev dktX0_byteAt_0 : List UInt8 := dkwX0_byteAt_0 ++ []
theorem dksX0_byteAt_0 : cX0_byteAt.data.toList.drop 0 = dktX0_byteAt_0 := by decide +kernel
theorem dX0_byteAt_0 : decode cX0_byteAt 0 = .ok (.iload_n 1, 1) := dk_27 (dk_at dksX0_byteAt_0 0 rfl rfl)
theorem dX0_byteAt_1 : decode cX0_byteAt 1 = .ok (.aload_n 0, 1) := dk_42 (dk_at dksX0_byteAt_0 1 rfl rfl)
theorem dX0_byteAt_2 : decode cX0_byteAt 2 = .ok (.invokevirtual 437, 3) := dk_182 1 181 (dk_at dksX0_byteAt_0 2 rfl rfl)
theorem dX0_byteAt_5 : decode cX0_byteAt 5 = .ok (.if_icmp .ge 11, 3) := dk_162 0 11 (dk_at dksX0_byteAt_0 5 rfl rfl)
theorem dX0_byteAt_8 : decode cX0_byteAt 8 = .ok (.aload_n 0, 1) := dk_42 (dk_at dksX0_byteAt_0 8 rfl rfl)
theorem dX0_byteAt_9 : decode cX0_byteAt 9 = .ok (.iload_n 1, 1) := dk_27 (dk_at dksX0_byteAt_0 9 rfl rfl)
theorem dX0_byteAt_10 : decode cX0_byteAt 10 = .ok (.invokevirtual 440, 3) := dk_182 1 184 (dk_at dksX0_byteAt_0 10 rfl rfl)
theorem dX0_byteAt_13 : decode cX0_byteAt 13 = .ok (.goto 5, 3) := dk_167 0 5 (dk_at dksX0_byteAt_0 13 rfl rfl)
theorem dX0_byteAt_16 : decode cX0_byteAt 16 = .ok (.bipush (-2), 2) := dk_16 254 (dk_at dksX0_byteAt_0 16 rfl rfl)
theorem dX0_byteAt_18 : decode cX0_byteAt 18 = .ok (.ireturn, 1) := dk_172 (dk_at dksX0_byteAt_0 18 rfl rfl)
abbrev cX0_storyLength : ByteArray := prog_1_method_57_code
def yX0_storyLength : MethodName := ⟨RX0, "storyLength", "()I"⟩
def dkwX0_storyLength_0 : List UInt8 := [42, 180, 0, 33, 182, 1, 195, 182, 1, 181, 172]
abbrev dktX0_storyLength_0 : List UInt8 := dkwX0_storyLength_0 ++ []
theorem dksX0_storyLength_0 : cX0_storyLength.data.toList.drop 0 = dktX0_storyLength_0 := by decide +kernel
theorem dX0_storyLength_0 : decode cX0_storyLength 0 = .ok (.aload_n 0, 1) := dk_42 (dk_at dksX0_storyLength_0 0 rfl rfl)
theorem dX0_storyLength_1 : decode cX0_storyLength 1 = .ok (.getfield 33, 3) := dk_180 0 33 (dk_at dksX0_storyLength_0 1 rfl rfl)
theorem dX0_storyLength_4 : decode cX0_storyLength 4 = .ok (.invokevirtual 451, 3) := dk_182 1 195 (dk_at dksX0_storyLength_0 4 rfl rfl)
theorem dX0_storyLength_7 : decode cX0_storyLength 7 = .ok (.invokevirtual 437, 3) := dk_182 1 181 (dk_at dksX0_storyLength_0 7 rfl rfl)
theorem dX0_storyLength_10 : decode cX0_storyLength 10 = .ok (.ireturn, 1) := dk_172 (dk_at dksX0_storyLength_0 10 rfl rfl)
abbrev cX0_storyByte : ByteArray := prog_1_method_58_code
def yX0_storyByte : MethodName := ⟨RX0, "storyByte", "(I)I"⟩
def dkwX0_storyByte_0 : List UInt8 := [27, 156, 0, 7, 2, 167, 0, 14, 42, 180, 0, 33, 182, 1, 195, 27, 184, 1, 191, 172]
abbrev dktX0_storyByte_0 : List UInt8 := dkwX0_storyByte_0 ++ []
theorem dksX0_storyByte_0 : cX0_storyByte.data.toList.drop 0 = dktX0_storyByte_0 := by decide +kernel
theorem dX0_storyByte_0 : decode cX0_storyByte 0 = .ok (.iload_n 1, 1) := dk_27 (dk_at dksX0_storyByte_0 0 rfl rfl)
theorem dX0_storyByte_1 : decode cX0_storyByte 1 = .ok (.ifCond .ge 7, 3) := dk_156 0 7 (dk_at dksX0_storyByte_0 1 rfl rfl)
theorem dX0_storyByte_4 : decode cX0_storyByte 4 = .ok (.iconst (-1), 1) := dk_2 (dk_at dksX0_storyByte_0 4 rfl rfl)
theorem dX0_storyByte_5 : decode cX0_storyByte 5 = .ok (.goto 14, 3) := dk_167 0 14 (dk_at dksX0_storyByte_0 5 rfl rfl)
theorem dX0_storyByte_8 : decode cX0_storyByte 8 = .ok (.aload_n 0, 1) := dk_42 (dk_at dksX0_storyByte_0 8 rfl rfl)
theorem dX0_storyByte_9 : decode cX0_storyByte 9 = .ok (.getfield 33, 3) := dk_180 0 33 (dk_at dksX0_storyByte_0 9 rfl rfl)
theorem dX0_storyByte_12 : decode cX0_storyByte 12 = .ok (.invokevirtual 451, 3) := dk_182 1 195 (dk_at dksX0_storyByte_0 12 rfl rfl)
theorem dX0_storyByte_15 : decode cX0_storyByte 15 = .ok (.iload_n 1, 1) := dk_27 (dk_at dksX0_storyByte_0 15 rfl rfl)
theorem dX0_storyByte_16 : decode cX0_storyByte 16 = .ok (.invokestatic 447, 3) := dk_184 1 191 (dk_at dksX0_storyByte_0 16 rfl rfl)
theorem dX0_storyByte_19 : decode cX0_storyByte 19 = .ok (.ireturn, 1) := dk_172 (dk_at dksX0_storyByte_0 19 rfl rfl)
abbrev cX0_setupLength : ByteArray := prog_1_method_59_code
def yX0_setupLength : MethodName := ⟨RX0, "setupLength", "()I"⟩
def dkwX0_setupLength_0 : List UInt8 := [42, 180, 0, 33, 182, 1, 198, 182, 1, 181, 172]
abbrev dktX0_setupLength_0 : List UInt8 := dkwX0_setupLength_0 ++ []
theorem dksX0_setupLength_0 : cX0_setupLength.data.toList.drop 0 = dktX0_setupLength_0 := by decide +kernel
theorem dX0_setupLength_0 : decode cX0_setupLength 0 = .ok (.aload_n 0, 1) := dk_42 (dk_at dksX0_setupLength_0 0 rfl rfl)
theorem dX0_setupLength_1 : decode cX0_setupLength 1 = .ok (.getfield 33, 3) := dk_180 0 33 (dk_at dksX0_setupLength_0 1 rfl rfl)
theorem dX0_setupLength_4 : decode cX0_setupLength 4 = .ok (.invokevirtual 454, 3) := dk_182 1 198 (dk_at dksX0_setupLength_0 4 rfl rfl)
theorem dX0_setupLength_7 : decode cX0_setupLength 7 = .ok (.invokevirtual 437, 3) := dk_182 1 181 (dk_at dksX0_setupLength_0 7 rfl rfl)
theorem dX0_setupLength_10 : decode cX0_setupLength 10 = .ok (.ireturn, 1) := dk_172 (dk_at dksX0_setupLength_0 10 rfl rfl)
abbrev cX0_setupByte : ByteArray := prog_1_method_60_code
def yX0_setupByte : MethodName := ⟨RX0, "setupByte", "(I)I"⟩
def dkwX0_setupByte_0 : List UInt8 := [27, 156, 0, 7, 2, 167, 0, 14, 42, 180, 0, 33, 182, 1, 198, 27, 184, 1, 191, 172]
abbrev dktX0_setupByte_0 : List UInt8 := dkwX0_setupByte_0 ++ []
theorem dksX0_setupByte_0 : cX0_setupByte.data.toList.drop 0 = dktX0_setupByte_0 := by decide +kernel
theorem dX0_setupByte_0 : decode cX0_setupByte 0 = .ok (.iload_n 1, 1) := dk_27 (dk_at dksX0_setupByte_0 0 rfl rfl)
theorem dX0_setupByte_1 : decode cX0_setupByte 1 = .ok (.ifCond .ge 7, 3) := dk_156 0 7 (dk_at dksX0_setupByte_0 1 rfl rfl)
theorem dX0_setupByte_4 : decode cX0_setupByte 4 = .ok (.iconst (-1), 1) := dk_2 (dk_at dksX0_setupByte_0 4 rfl rfl)
theorem dX0_setupByte_5 : decode cX0_setupByte 5 = .ok (.goto 14, 3) := dk_167 0 14 (dk_at dksX0_setupByte_0 5 rfl rfl)
theorem dX0_setupByte_8 : decode cX0_setupByte 8 = .ok (.aload_n 0, 1) := dk_42 (dk_at dksX0_setupByte_0 8 rfl rfl)
theorem dX0_setupByte_9 : decode cX0_setupByte 9 = .ok (.getfield 33, 3) := dk_180 0 33 (dk_at dksX0_setupByte_0 9 rfl rfl)
theorem dX0_setupByte_12 : decode cX0_setupByte 12 = .ok (.invokevirtual 454, 3) := dk_182 1 198 (dk_at dksX0_setupByte_0 12 rfl rfl)
theorem dX0_setupByte_15 : decode cX0_setupByte 15 = .ok (.iload_n 1, 1) := dk_27 (dk_at dksX0_setupByte_0 15 rfl rfl)
theorem dX0_setupByte_16 : decode cX0_setupByte 16 = .ok (.invokestatic 447, 3) := dk_184 1 191 (dk_at dksX0_setupByte_0 16 rfl rfl)
theorem dX0_setupByte_19 : decode cX0_setupByte 19 = .ok (.ireturn, 1) := dk_172 (dk_at dksX0_setupByte_0 19 rfl rfl)
abbrev cX0_tapeLength : ByteArray := prog_1_method_61_code
def yX0_tapeLength : MethodName := ⟨RX0, "tapeLength", "()I"⟩
theorem dX0_tapeLength_0 : decode cX0_tapeLength 0 = .ok (.aload_n 0, 1) := by decide +kernel
theorem dX0_tapeLength_1 : decode cX0_tapeLength 1 = .ok (.getfield 77, 3) := by decide +kernel
theorem dX0_tapeLength_4 : decode cX0_tapeLength 4 = .ok (.ireturn, 1) := by decide +kernel
theorem q125 : (Jvm.Cond.initialized "BusLine") ∈ lw_all := lw_g (lw_at lw_m1 1 rfl) rfl
theorem q175 : (Jvm.Cond.instantiable "BusLine" (6 : Nat)) ∈ lw_all := lw_g (lw_at lw_m1 51 rfl) rfl
theorem q177 : (Jvm.Cond.instanceMethod ({ cls := "BusLine", name := "<init>", desc := "()V" } : Jvm.MethodName)) ∈ lw_all := lw_g (lw_at lw_m1 53 rfl) rfl
theorem q178 : (Jvm.Cond.code ({ cls := "BusLine", name := "<init>", desc := "()V" } : Jvm.MethodName) prog_1_method_3_code (1 : Nat) (Option.none : Option Jvm.ClassFile.FieldType)) ∈ lw_all := lw_g (lw_at lw_m1 54 rfl) rfl
theorem q179 : (Jvm.Cond.methodLink "BusLine" (7 : Nat) ({ cls := "java/lang/Object", name := "<init>", desc := "()V" } : Jvm.MethodName)) ∈ lw_all := lw_g (lw_at lw_m1 55 rfl) rfl
theorem q182 : (Jvm.Cond.methodLink "BusLine" (21 : Nat) ({ cls := "BusLine$Plan", name := "first", desc := "()LBusLine$Plan;" } : Jvm.MethodName)) ∈ lw_all := lw_g (lw_at lw_m1 58 rfl) rfl
theorem q254 : (Jvm.Cond.fieldLinkNest "BusLine" (223 : Nat) "BusLine$Plan" "open" "I" "BusLine") ∈ lw_tbl := lw_at lw_m1 130 rfl
theorem q258 : (Jvm.Cond.fieldLinkNest "BusLine" (226 : Nat) "BusLine$Plan" "on" "I" "BusLine") ∈ lw_tbl := lw_at lw_m1 134 rfl
theorem q262 : (Jvm.Cond.fieldLinkNest "BusLine" (229 : Nat) "BusLine$Plan" "down" "I" "BusLine") ∈ lw_tbl := lw_at lw_m1 138 rfl
theorem q279 : (Jvm.Cond.fieldLinkNest "BusLine" (71 : Nat) "BusLine$Plan" "flows" "Ljava/util/ArrayList;" "BusLine") ∈ lw_tbl := lw_at lw_m1 155 rfl
theorem q382 : (Jvm.Cond.selects "BusLine" ({ cls := "java/lang/Object", name := "getClass", desc := "()Ljava/lang/Class;" } : Jvm.MethodName) ({ cls := "java/lang/Object", name := "getClass", desc := "()Ljava/lang/Class;" } : Jvm.MethodName)) ∈ lw_all := lw_g (lw_at lw_m2 18 rfl) rfl
theorem q712 : (Jvm.Cond.fieldLinkNest "BusLine" (322 : Nat) "BusLine$Stop" "number" "I" "BusLine") ∈ lw_tbl := lw_at lw_m3 108 rfl
theorem q716 : (Jvm.Cond.fieldLinkNest "BusLine" (261 : Nat) "BusLine$Stop" "drive" "I" "BusLine") ∈ lw_tbl := lw_at lw_m3 112 rfl
theorem q719 : (Jvm.Cond.fieldLinkNest "BusLine" (266 : Nat) "BusLine$Stop" "off" "I" "BusLine") ∈ lw_tbl := lw_at lw_m3 115 rfl
theorem q781 : (Jvm.Cond.methodLink "BusLine" (27 : Nat) ({ cls := "BusLine$State", name := "of", desc := "(LBusLine$Plan;)LBusLine$State;" } : Jvm.MethodName)) ∈ lw_all := lw_g (lw_at lw_m3 177 rfl) rfl
theorem q835 : (Jvm.Cond.fieldLinkNest "BusLine" (360 : Nat) "BusLine$Riders" "to" "[I" "BusLine") ∈ lw_tbl := lw_at lw_m3 231 rfl
theorem q838 : (Jvm.Cond.fieldLinkNest "BusLine" (362 : Nat) "BusLine$Riders" "since" "[I" "BusLine") ∈ lw_tbl := lw_at lw_m3 234 rfl
theorem q841 : (Jvm.Cond.fieldLinkNest "BusLine" (365 : Nat) "BusLine$Riders" "flow" "[I" "BusLine") ∈ lw_tbl := lw_at lw_m3 237 rfl
theorem q845 : (Jvm.Cond.fieldLinkNest "BusLine" (273 : Nat) "BusLine$Riders" "many" "I" "BusLine") ∈ lw_tbl := lw_at lw_m4 1 rfl
theorem q861 : (Jvm.Cond.fieldLinkNest "BusLine" (369 : Nat) "BusLine$Leavings" "buses" "[I" "BusLine") ∈ lw_tbl := lw_at lw_m4 17 rfl
theorem q863 : (Jvm.Cond.fieldLinkNest "BusLine" (371 : Nat) "BusLine$Leavings" "times" "[I" "BusLine") ∈ lw_tbl := lw_at lw_m4 19 rfl
theorem q865 : (Jvm.Cond.fieldLinkNest "BusLine" (374 : Nat) "BusLine$Leavings" "gaps" "[I" "BusLine") ∈ lw_tbl := lw_at lw_m4 21 rfl
theorem q867 : (Jvm.Cond.fieldLinkNest "BusLine" (368 : Nat) "BusLine$Leavings" "many" "I" "BusLine") ∈ lw_tbl := lw_at lw_m4 23 rfl
theorem q869 : (Jvm.Cond.fieldLinkNest "BusLine" (285 : Nat) "BusLine$Leavings" "all" "I" "BusLine") ∈ lw_tbl := lw_at lw_m4 25 rfl
theorem q872 : (Jvm.Cond.fieldLinkNest "BusLine" (280 : Nat) "BusLine$Leavings" "last" "I" "BusLine") ∈ lw_tbl := lw_at lw_m4 28 rfl
theorem q887 : (Jvm.Cond.fieldLinkNest "BusLine" (67 : Nat) "BusLine$State" "plan" "LBusLine$Plan;" "BusLine") ∈ lw_tbl := lw_at lw_m4 43 rfl
theorem q889 : (Jvm.Cond.fieldLinkNest "BusLine" (210 : Nat) "BusLine$State" "time" "I" "BusLine") ∈ lw_tbl := lw_at lw_m4 45 rfl
theorem q891 : (Jvm.Cond.fieldLinkNest "BusLine" (132 : Nat) "BusLine$State" "mode" "I" "BusLine") ∈ lw_tbl := lw_at lw_m4 47 rfl
theorem q893 : (Jvm.Cond.fieldLinkNest "BusLine" (238 : Nat) "BusLine$State" "bunches" "I" "BusLine") ∈ lw_tbl := lw_at lw_m4 49 rfl
theorem q895 : (Jvm.Cond.fieldLinkNest "BusLine" (241 : Nat) "BusLine$State" "splits" "I" "BusLine") ∈ lw_tbl := lw_at lw_m4 51 rfl
theorem q897 : (Jvm.Cond.fieldLinkNest "BusLine" (244 : Nat) "BusLine$State" "holds" "I" "BusLine") ∈ lw_tbl := lw_at lw_m4 53 rfl
theorem q899 : (Jvm.Cond.fieldLinkNest "BusLine" (247 : Nat) "BusLine$State" "heldFor" "I" "BusLine") ∈ lw_tbl := lw_at lw_m4 55 rfl
theorem q901 : (Jvm.Cond.fieldLinkNest "BusLine" (250 : Nat) "BusLine$State" "leftBehind" "I" "BusLine") ∈ lw_tbl := lw_at lw_m4 57 rfl
theorem q903 : (Jvm.Cond.fieldLinkNest "BusLine" (253 : Nat) "BusLine$State" "skips" "I" "BusLine") ∈ lw_tbl := lw_at lw_m4 59 rfl
theorem q905 : (Jvm.Cond.fieldLinkNest "BusLine" (255 : Nat) "BusLine$State" "logged" "I" "BusLine") ∈ lw_tbl := lw_at lw_m4 61 rfl
theorem q907 : (Jvm.Cond.fieldLinkNest "BusLine" (425 : Nat) "BusLine$State" "waited" "J" "BusLine") ∈ lw_tbl := lw_at lw_m4 63 rfl
theorem q909 : (Jvm.Cond.fieldLinkNest "BusLine" (433 : Nat) "BusLine$State" "ridden" "J" "BusLine") ∈ lw_tbl := lw_at lw_m4 65 rfl
theorem q911 : (Jvm.Cond.fieldLinkNest "BusLine" (152 : Nat) "BusLine$State" "numbers" "[I" "BusLine") ∈ lw_tbl := lw_at lw_m4 67 rfl
theorem q913 : (Jvm.Cond.fieldLinkNest "BusLine" (138 : Nat) "BusLine$State" "isPoint" "[Z" "BusLine") ∈ lw_tbl := lw_at lw_m4 69 rfl
theorem q915 : (Jvm.Cond.fieldLinkNest "BusLine" (269 : Nat) "BusLine$State" "rows" "[LBusLine$Riders;" "BusLine") ∈ lw_tbl := lw_at lw_m4 71 rfl
theorem q917 : (Jvm.Cond.fieldLinkNest "BusLine" (276 : Nat) "BusLine$State" "leavings" "[LBusLine$Leavings;" "BusLine") ∈ lw_tbl := lw_at lw_m4 73 rfl
theorem q919 : (Jvm.Cond.fieldLinkNest "BusLine" (63 : Nat) "BusLine$State" "buses" "[LBusLine$Bus;" "BusLine") ∈ lw_tbl := lw_at lw_m4 75 rfl
theorem q922 : (Jvm.Cond.fieldLinkNest "BusLine" (342 : Nat) "BusLine$State" "come" "[I" "BusLine") ∈ lw_tbl := lw_at lw_m4 78 rfl
theorem q924 : (Jvm.Cond.fieldLinkNest "BusLine" (345 : Nat) "BusLine$State" "away" "[I" "BusLine") ∈ lw_tbl := lw_at lw_m4 80 rfl
theorem q926 : (Jvm.Cond.fieldLinkNest "BusLine" (348 : Nat) "BusLine$State" "gone" "[I" "BusLine") ∈ lw_tbl := lw_at lw_m4 82 rfl
theorem q928 : (Jvm.Cond.fieldLinkNest "BusLine" (351 : Nat) "BusLine$State" "up" "[I" "BusLine") ∈ lw_tbl := lw_at lw_m4 84 rfl
theorem q930 : (Jvm.Cond.fieldLinkNest "BusLine" (196 : Nat) "BusLine$State" "out" "[I" "BusLine") ∈ lw_tbl := lw_at lw_m4 86 rfl
theorem q933 : (Jvm.Cond.fieldLinkNest "BusLine" (377 : Nat) "BusLine$State" "log" "[I" "BusLine") ∈ lw_tbl := lw_at lw_m4 89 rfl
theorem q1016 : (Jvm.Cond.fieldLinkNest "BusLine" (291 : Nat) "BusLine$Bus" "seats" "I" "BusLine") ∈ lw_tbl := lw_at lw_m4 172 rfl
theorem q1020 : (Jvm.Cond.fieldLinkNest "BusLine" (294 : Nat) "BusLine$Bus" "start" "I" "BusLine") ∈ lw_tbl := lw_at lw_m4 176 rfl
theorem q1023 : (Jvm.Cond.fieldLinkNest "BusLine" (165 : Nat) "BusLine$Bus" "state" "I" "BusLine") ∈ lw_tbl := lw_at lw_m4 179 rfl
theorem q1026 : (Jvm.Cond.fieldLinkNest "BusLine" (172 : Nat) "BusLine$Bus" "stop" "I" "BusLine") ∈ lw_tbl := lw_at lw_m4 182 rfl
theorem q1029 : (Jvm.Cond.fieldLinkNest "BusLine" (297 : Nat) "BusLine$Bus" "time" "I" "BusLine") ∈ lw_tbl := lw_at lw_m4 185 rfl
theorem q1032 : (Jvm.Cond.fieldLinkNest "BusLine" (298 : Nat) "BusLine$Bus" "round" "I" "BusLine") ∈ lw_tbl := lw_at lw_m4 188 rfl
theorem q1035 : (Jvm.Cond.fieldLinkNest "BusLine" (307 : Nat) "BusLine$Bus" "boarded" "I" "BusLine") ∈ lw_tbl := lw_at lw_m4 191 rfl
theorem q1038 : (Jvm.Cond.fieldLinkNest "BusLine" (310 : Nat) "BusLine$Bus" "why" "I" "BusLine") ∈ lw_tbl := lw_at lw_m4 194 rfl
theorem q1041 : (Jvm.Cond.fieldLinkNest "BusLine" (304 : Nat) "BusLine$Bus" "held" "I" "BusLine") ∈ lw_tbl := lw_at lw_m4 197 rfl
theorem q1044 : (Jvm.Cond.fieldLinkNest "BusLine" (395 : Nat) "BusLine$Bus" "leftTime" "I" "BusLine") ∈ lw_tbl := lw_at lw_m4 200 rfl
theorem q1047 : (Jvm.Cond.fieldLinkNest "BusLine" (398 : Nat) "BusLine$Bus" "leftDue" "I" "BusLine") ∈ lw_tbl := lw_at lw_m4 203 rfl
theorem q1050 : (Jvm.Cond.fieldLinkNest "BusLine" (301 : Nat) "BusLine$Bus" "isBunched" "Z" "BusLine") ∈ lw_tbl := lw_at lw_m4 206 rfl
theorem q1053 : (Jvm.Cond.fieldLinkNest "BusLine" (159 : Nat) "BusLine$Bus" "skips" "Z" "BusLine") ∈ lw_tbl := lw_at lw_m4 209 rfl
theorem q1056 : (Jvm.Cond.fieldLinkNest "BusLine" (168 : Nat) "BusLine$Bus" "riders" "LBusLine$Riders;" "BusLine") ∈ lw_tbl := lw_at lw_m4 212 rfl
theorem q1117 : (Jvm.Cond.classLink "BusLine" (37 : Nat) "java/util/ArrayList") ∈ lw_all := lw_g (lw_at lw_m5 33 rfl) rfl
theorem q1118 : (Jvm.Cond.classLink "BusLine" (28 : Nat) "BusLine$State") ∈ lw_all := lw_g (lw_at lw_m5 34 rfl) rfl
theorem q1119 : (Jvm.Cond.methodLink "BusLine" (39 : Nat) ({ cls := "java/util/Collections", name := "nCopies", desc := "(ILjava/lang/Object;)Ljava/util/List;" } : Jvm.MethodName)) ∈ lw_all := lw_g (lw_at lw_m5 35 rfl) rfl
theorem q1138 : (Jvm.Cond.methodLink "BusLine" (45 : Nat) ({ cls := "java/util/ArrayList", name := "<init>", desc := "(Ljava/util/Collection;)V" } : Jvm.MethodName)) ∈ lw_all := lw_g (lw_at lw_m5 54 rfl) rfl
theorem q1218 : (Jvm.Cond.classLink "BusLine" (52 : Nat) "java/util/ArrayDeque") ∈ lw_all := lw_g (lw_at lw_m5 134 rfl) rfl
theorem q1219 : (Jvm.Cond.methodLink "BusLine" (54 : Nat) ({ cls := "java/util/ArrayDeque", name := "<init>", desc := "()V" } : Jvm.MethodName)) ∈ lw_all := lw_g (lw_at lw_m5 135 rfl) rfl
theorem q1234 : (Jvm.Cond.fieldLink "BusLine" (13 : Nat) "BusLine" "tape" "[B") ∈ lw_all := lw_g (lw_at lw_m5 150 rfl) rfl
theorem q1235 : (Jvm.Cond.fieldLink "BusLine" (77 : Nat) "BusLine" "length" "I") ∈ lw_all := lw_g (lw_at lw_m5 151 rfl) rfl
theorem q1236 : (Jvm.Cond.fieldLink "BusLine" (17 : Nat) "BusLine" "error" "I") ∈ lw_all := lw_g (lw_at lw_m5 152 rfl) rfl
theorem q1237 : (Jvm.Cond.fieldLink "BusLine" (33 : Nat) "BusLine" "now" "LBusLine$State;") ∈ lw_all := lw_g (lw_at lw_m5 153 rfl) rfl
theorem q1238 : (Jvm.Cond.fieldLink "BusLine" (48 : Nat) "BusLine" "slots" "Ljava/util/ArrayList;") ∈ lw_all := lw_g (lw_at lw_m5 154 rfl) rfl
theorem q1239 : (Jvm.Cond.fieldLink "BusLine" (55 : Nat) "BusLine" "earlier" "Ljava/util/ArrayDeque;") ∈ lw_all := lw_g (lw_at lw_m5 155 rfl) rfl
theorem q1240 : (Jvm.Cond.laysFinal "BusLine" "BusLine" "tape" "[B") ∈ lw_all := lw_g (lw_at lw_m5 156 rfl) rfl
theorem q1241 : (Jvm.Cond.soleField "BusLine" "tape") ∈ lw_all := lw_g (lw_at lw_m5 157 rfl) rfl
theorem q1242 : (Jvm.Cond.lays "BusLine" "BusLine" "length" "I") ∈ lw_all := lw_g (lw_at lw_m5 158 rfl) rfl
theorem q1243 : (Jvm.Cond.soleField "BusLine" "length") ∈ lw_all := lw_g (lw_at lw_m5 159 rfl) rfl
theorem q1244 : (Jvm.Cond.lays "BusLine" "BusLine" "error" "I") ∈ lw_all := lw_g (lw_at lw_m5 160 rfl) rfl
theorem q1245 : (Jvm.Cond.soleField "BusLine" "error") ∈ lw_all := lw_g (lw_at lw_m5 161 rfl) rfl
theorem q1246 : (Jvm.Cond.lays "BusLine" "BusLine" "now" "LBusLine$State;") ∈ lw_all := lw_g (lw_at lw_m5 162 rfl) rfl
theorem q1247 : (Jvm.Cond.soleField "BusLine" "now") ∈ lw_all := lw_g (lw_at lw_m5 163 rfl) rfl
theorem q1248 : (Jvm.Cond.laysFinal "BusLine" "BusLine" "slots" "Ljava/util/ArrayList;") ∈ lw_all := lw_g (lw_at lw_m5 164 rfl) rfl
theorem q1249 : (Jvm.Cond.soleField "BusLine" "slots") ∈ lw_all := lw_g (lw_at lw_m5 165 rfl) rfl
theorem q1250 : (Jvm.Cond.laysFinal "BusLine" "BusLine" "earlier" "Ljava/util/ArrayDeque;") ∈ lw_all := lw_g (lw_at lw_m5 166 rfl) rfl
theorem q1251 : (Jvm.Cond.soleField "BusLine" "earlier") ∈ lw_all := lw_g (lw_at lw_m5 167 rfl) rfl
theorem q1252 : (Jvm.Cond.superclass "BusLine" "java/lang/Object") ∈ lw_all := lw_g (lw_at lw_m5 168 rfl) rfl
theorem q1254 : (Jvm.Cond.instanceMethod ({ cls := "BusLine", name := "append", desc := "(IIIII)I" } : Jvm.MethodName)) ∈ lw_all := lw_g (lw_at lw_m5 170 rfl) rfl
theorem q1255 : (Jvm.Cond.selects "BusLine" ({ cls := "BusLine", name := "append", desc := "(IIIII)I" } : Jvm.MethodName) ({ cls := "BusLine", name := "append", desc := "(IIIII)I" } : Jvm.MethodName)) ∈ lw_all := lw_g (lw_at lw_m5 171 rfl) rfl
theorem q1256 : (Jvm.Cond.code ({ cls := "BusLine", name := "append", desc := "(IIIII)I" } : Jvm.MethodName) prog_1_method_11_code (6 : Nat) (Option.some Jvm.ClassFile.FieldType.int)) ∈ lw_all := lw_g (lw_at lw_m5 172 rfl) rfl
theorem q1257 : (Jvm.Cond.methodLink "BusLine" (80 : Nat) ({ cls := "BusLine", name := "put", desc := "(I)V" } : Jvm.MethodName)) ∈ lw_all := lw_g (lw_at lw_m5 173 rfl) rfl
theorem q1258 : (Jvm.Cond.privateMethod ({ cls := "BusLine", name := "put", desc := "(I)V" } : Jvm.MethodName)) ∈ lw_tbl := lw_at lw_m5 174 rfl
theorem q1259 : (Jvm.Cond.instanceMethod ({ cls := "BusLine", name := "put", desc := "(I)V" } : Jvm.MethodName)) ∈ lw_all := lw_g (lw_at lw_m5 175 rfl) rfl
theorem q1260 : (Jvm.Cond.code ({ cls := "BusLine", name := "put", desc := "(I)V" } : Jvm.MethodName) prog_1_method_10_code (3 : Nat) (Option.none : Option Jvm.ClassFile.FieldType)) ∈ lw_all := lw_g (lw_at lw_m5 176 rfl) rfl
theorem q1262 : (Jvm.Cond.instanceMethod ({ cls := "BusLine", name := "truncate", desc := "(I)I" } : Jvm.MethodName)) ∈ lw_all := lw_g (lw_at lw_m5 178 rfl) rfl
theorem q1263 : (Jvm.Cond.selects "BusLine" ({ cls := "BusLine", name := "truncate", desc := "(I)I" } : Jvm.MethodName) ({ cls := "BusLine", name := "truncate", desc := "(I)I" } : Jvm.MethodName)) ∈ lw_all := lw_g (lw_at lw_m5 179 rfl) rfl
theorem q1264 : (Jvm.Cond.code ({ cls := "BusLine", name := "truncate", desc := "(I)I" } : Jvm.MethodName) prog_1_method_12_code (2 : Nat) (Option.some Jvm.ClassFile.FieldType.int)) ∈ lw_all := lw_g (lw_at lw_m5 180 rfl) rfl
theorem q1265 : (Jvm.Cond.methodLink "BusLine" (3 : Nat) ({ cls := "BusLine", name := "isBetween", desc := "(III)Z" } : Jvm.MethodName)) ∈ lw_all := lw_g (lw_at lw_m5 181 rfl) rfl
theorem q1266 : (Jvm.Cond.static ({ cls := "BusLine", name := "isBetween", desc := "(III)Z" } : Jvm.MethodName)) ∈ lw_all := lw_g (lw_at lw_m5 182 rfl) rfl
theorem q1267 : (Jvm.Cond.code ({ cls := "BusLine", name := "isBetween", desc := "(III)Z" } : Jvm.MethodName) prog_1_method_1_code (3 : Nat) (Option.some Jvm.ClassFile.FieldType.boolean)) ∈ lw_all := lw_g (lw_at lw_m5 183 rfl) rfl
theorem q1269 : (Jvm.Cond.instanceMethod ({ cls := "BusLine", name := "load", desc := "()I" } : Jvm.MethodName)) ∈ lw_all := lw_g (lw_at lw_m5 185 rfl) rfl
theorem q1270 : (Jvm.Cond.selects "BusLine" ({ cls := "BusLine", name := "load", desc := "()I" } : Jvm.MethodName) ({ cls := "BusLine", name := "load", desc := "()I" } : Jvm.MethodName)) ∈ lw_all := lw_g (lw_at lw_m5 186 rfl) rfl
theorem q1271 : (Jvm.Cond.codeWith ({ cls := "BusLine", name := "load", desc := "()I" } : Jvm.MethodName) prog_1_method_13_code (3 : Nat) (Option.some Jvm.ClassFile.FieldType.int) [((51 : Nat), (72 : Nat), (75 : Nat), (103 : Nat))]) ∈ lw_all := lw_g (lw_at lw_m5 187 rfl) rfl
theorem q1272 : (Jvm.Cond.classLink "BusLine" (103 : Nat) "BusLine$Unreadable") ∈ lw_all := lw_g (lw_at lw_m5 188 rfl) rfl
theorem q1273 : (Jvm.Cond.classLink "BusLine" (84 : Nat) "java/lang/StringBuilder") ∈ lw_all := lw_g (lw_at lw_m5 189 rfl) rfl
theorem q1275 : (Jvm.Cond.methodLink "BusLine" (86 : Nat) ({ cls := "java/lang/StringBuilder", name := "<init>", desc := "()V" } : Jvm.MethodName)) ∈ lw_all := lw_g (lw_at lw_m5 191 rfl) rfl
theorem q1301 : (Jvm.Cond.methodLink "BusLine" (87 : Nat) ({ cls := "java/lang/StringBuilder", name := "append", desc := "(C)Ljava/lang/StringBuilder;" } : Jvm.MethodName)) ∈ lw_all := lw_g (lw_at lw_m5 217 rfl) rfl
theorem q1363 : (Jvm.Cond.classLink "BusLine" (91 : Nat) "BusLine$Parser") ∈ lw_all := lw_g (lw_at lw_m6 39 rfl) rfl
theorem q1365 : (Jvm.Cond.methodLink "BusLine" (93 : Nat) ({ cls := "java/lang/StringBuilder", name := "toString", desc := "()Ljava/lang/String;" } : Jvm.MethodName)) ∈ lw_all := lw_g (lw_at lw_m6 41 rfl) rfl
theorem q1422 : (Jvm.Cond.methodLink "BusLine" (97 : Nat) ({ cls := "BusLine$Parser", name := "<init>", desc := "(Ljava/lang/String;)V" } : Jvm.MethodName)) ∈ lw_all := lw_g (lw_at lw_m6 98 rfl) rfl
theorem q1516 : (Jvm.Cond.methodLink "BusLine" (100 : Nat) ({ cls := "BusLine$Parser", name := "parse", desc := "()LBusLine$Plan;" } : Jvm.MethodName)) ∈ lw_all := lw_g (lw_at lw_m6 192 rfl) rfl
theorem q1601 : (Jvm.Cond.selects "BusLine" ({ cls := "java/lang/Object", name := "equals", desc := "(Ljava/lang/Object;)Z" } : Jvm.MethodName) ({ cls := "java/lang/Object", name := "equals", desc := "(Ljava/lang/Object;)Z" } : Jvm.MethodName)) ∈ lw_all := lw_g (lw_at lw_m7 37 rfl) rfl
theorem q1732 : (Jvm.Cond.fieldLinkNest "BusLine" (105 : Nat) "BusLine$Unreadable" "position" "I" "BusLine") ∈ lw_tbl := lw_at lw_m7 168 rfl
theorem q1809 : (Jvm.Cond.fieldLinkNest "BusLine" (325 : Nat) "BusLine$Flow" "to" "I" "BusLine") ∈ lw_tbl := lw_at lw_m8 5 rfl
theorem q1811 : (Jvm.Cond.fieldLinkNest "BusLine" (328 : Nat) "BusLine$Flow" "every" "I" "BusLine") ∈ lw_tbl := lw_at lw_m8 7 rfl
theorem q1814 : (Jvm.Cond.fieldLinkNest "BusLine" (331 : Nat) "BusLine$Flow" "first" "I" "BusLine") ∈ lw_tbl := lw_at lw_m8 10 rfl
theorem q1817 : (Jvm.Cond.fieldLinkNest "BusLine" (318 : Nat) "BusLine$Flow" "from" "LBusLine$Stop;" "BusLine") ∈ lw_tbl := lw_at lw_m8 13 rfl
theorem q1830 : (Jvm.Cond.methodLink "BusLine" (108 : Nat) ({ cls := "java/util/ArrayDeque", name := "clear", desc := "()V" } : Jvm.MethodName)) ∈ lw_all := lw_g (lw_at lw_m8 26 rfl) rfl
theorem q1837 : (Jvm.Cond.methodLink "BusLine" (111 : Nat) ({ cls := "java/util/ArrayList", name := "set", desc := "(ILjava/lang/Object;)Ljava/lang/Object;" } : Jvm.MethodName)) ∈ lw_all := lw_g (lw_at lw_m8 33 rfl) rfl
theorem q1841 : (Jvm.Cond.methodLink "BusLine" (59 : Nat) ({ cls := "BusLine$State", name := "stops", desc := "()I" } : Jvm.MethodName)) ∈ lw_all := lw_g (lw_at lw_m8 37 rfl) rfl
theorem q1843 : (Jvm.Cond.instanceMethod ({ cls := "BusLine", name := "errorPosition", desc := "()I" } : Jvm.MethodName)) ∈ lw_all := lw_g (lw_at lw_m8 39 rfl) rfl
theorem q1844 : (Jvm.Cond.selects "BusLine" ({ cls := "BusLine", name := "errorPosition", desc := "()I" } : Jvm.MethodName) ({ cls := "BusLine", name := "errorPosition", desc := "()I" } : Jvm.MethodName)) ∈ lw_all := lw_g (lw_at lw_m8 40 rfl) rfl
theorem q1845 : (Jvm.Cond.code ({ cls := "BusLine", name := "errorPosition", desc := "()I" } : Jvm.MethodName) prog_1_method_14_code (1 : Nat) (Option.some Jvm.ClassFile.FieldType.int)) ∈ lw_all := lw_g (lw_at lw_m8 41 rfl) rfl
theorem q1847 : (Jvm.Cond.instanceMethod ({ cls := "BusLine", name := "setMode", desc := "(I)I" } : Jvm.MethodName)) ∈ lw_all := lw_g (lw_at lw_m8 43 rfl) rfl
theorem q1848 : (Jvm.Cond.selects "BusLine" ({ cls := "BusLine", name := "setMode", desc := "(I)I" } : Jvm.MethodName) ({ cls := "BusLine", name := "setMode", desc := "(I)I" } : Jvm.MethodName)) ∈ lw_all := lw_g (lw_at lw_m8 44 rfl) rfl
theorem q1849 : (Jvm.Cond.code ({ cls := "BusLine", name := "setMode", desc := "(I)I" } : Jvm.MethodName) prog_1_method_16_code (3 : Nat) (Option.some Jvm.ClassFile.FieldType.int)) ∈ lw_all := lw_g (lw_at lw_m8 45 rfl) rfl
theorem q1850 : (Jvm.Cond.methodLink "BusLine" (128 : Nat) ({ cls := "BusLine", name := "isMode", desc := "(I)Z" } : Jvm.MethodName)) ∈ lw_all := lw_g (lw_at lw_m8 46 rfl) rfl
theorem q1851 : (Jvm.Cond.static ({ cls := "BusLine", name := "isMode", desc := "(I)Z" } : Jvm.MethodName)) ∈ lw_all := lw_g (lw_at lw_m8 47 rfl) rfl
theorem q1852 : (Jvm.Cond.code ({ cls := "BusLine", name := "isMode", desc := "(I)Z" } : Jvm.MethodName) prog_1_method_7_code (1 : Nat) (Option.some Jvm.ClassFile.FieldType.boolean)) ∈ lw_all := lw_g (lw_at lw_m8 48 rfl) rfl
theorem q1853 : (Jvm.Cond.methodLink "BusLine" (135 : Nat) ({ cls := "BusLine", name := "act", desc := "()LBusLine$State;" } : Jvm.MethodName)) ∈ lw_all := lw_g (lw_at lw_m8 49 rfl) rfl
theorem q1854 : (Jvm.Cond.privateMethod ({ cls := "BusLine", name := "act", desc := "()LBusLine$State;" } : Jvm.MethodName)) ∈ lw_tbl := lw_at lw_m8 50 rfl
theorem q1855 : (Jvm.Cond.instanceMethod ({ cls := "BusLine", name := "act", desc := "()LBusLine$State;" } : Jvm.MethodName)) ∈ lw_all := lw_g (lw_at lw_m8 51 rfl) rfl
theorem q1856 : (Jvm.Cond.code ({ cls := "BusLine", name := "act", desc := "()LBusLine$State;" } : Jvm.MethodName) prog_1_method_15_code (1 : Nat) (Option.some (Jvm.ClassFile.FieldType.object "BusLine$State"))) ∈ lw_all := lw_g (lw_at lw_m8 52 rfl) rfl
theorem q1857 : (Jvm.Cond.methodLink "BusLine" (115 : Nat) ({ cls := "java/util/ArrayDeque", name := "size", desc := "()I" } : Jvm.MethodName)) ∈ lw_all := lw_g (lw_at lw_m8 53 rfl) rfl
theorem q1864 : (Jvm.Cond.methodLink "BusLine" (116 : Nat) ({ cls := "java/util/ArrayDeque", name := "removeFirst", desc := "()Ljava/lang/Object;" } : Jvm.MethodName)) ∈ lw_all := lw_g (lw_at lw_m8 60 rfl) rfl
theorem q1878 : (Jvm.Cond.methodLink "BusLine" (120 : Nat) ({ cls := "java/util/ArrayDeque", name := "addLast", desc := "(Ljava/lang/Object;)V" } : Jvm.MethodName)) ∈ lw_all := lw_g (lw_at lw_m8 74 rfl) rfl
theorem q1893 : (Jvm.Cond.methodLink "BusLine" (124 : Nat) ({ cls := "BusLine$State", name := "copy", desc := "()LBusLine$State;" } : Jvm.MethodName)) ∈ lw_all := lw_g (lw_at lw_m8 89 rfl) rfl
theorem q1914 : (Jvm.Cond.instanceMethod ({ cls := "BusLine", name := "setPoint", desc := "(IZ)I" } : Jvm.MethodName)) ∈ lw_all := lw_g (lw_at lw_m8 110 rfl) rfl
theorem q1915 : (Jvm.Cond.selects "BusLine" ({ cls := "BusLine", name := "setPoint", desc := "(IZ)I" } : Jvm.MethodName) ({ cls := "BusLine", name := "setPoint", desc := "(IZ)I" } : Jvm.MethodName)) ∈ lw_all := lw_g (lw_at lw_m8 111 rfl) rfl
theorem q1916 : (Jvm.Cond.code ({ cls := "BusLine", name := "setPoint", desc := "(IZ)I" } : Jvm.MethodName) prog_1_method_18_code (3 : Nat) (Option.some Jvm.ClassFile.FieldType.int)) ∈ lw_all := lw_g (lw_at lw_m8 112 rfl) rfl
theorem q1917 : (Jvm.Cond.methodLink "BusLine" (142 : Nat) ({ cls := "BusLine", name := "isStop", desc := "(I)Z" } : Jvm.MethodName)) ∈ lw_all := lw_g (lw_at lw_m8 113 rfl) rfl
theorem q1918 : (Jvm.Cond.privateMethod ({ cls := "BusLine", name := "isStop", desc := "(I)Z" } : Jvm.MethodName)) ∈ lw_tbl := lw_at lw_m8 114 rfl
theorem q1919 : (Jvm.Cond.instanceMethod ({ cls := "BusLine", name := "isStop", desc := "(I)Z" } : Jvm.MethodName)) ∈ lw_all := lw_g (lw_at lw_m8 115 rfl) rfl
theorem q1920 : (Jvm.Cond.code ({ cls := "BusLine", name := "isStop", desc := "(I)Z" } : Jvm.MethodName) prog_1_method_4_code (2 : Nat) (Option.some Jvm.ClassFile.FieldType.boolean)) ∈ lw_all := lw_g (lw_at lw_m8 116 rfl) rfl
theorem q1921 : (Jvm.Cond.methodLink "BusLine" (145 : Nat) ({ cls := "BusLine", name := "points", desc := "()I" } : Jvm.MethodName)) ∈ lw_all := lw_g (lw_at lw_m8 117 rfl) rfl
theorem q1922 : (Jvm.Cond.privateMethod ({ cls := "BusLine", name := "points", desc := "()I" } : Jvm.MethodName)) ∈ lw_tbl := lw_at lw_m8 118 rfl
theorem q1923 : (Jvm.Cond.instanceMethod ({ cls := "BusLine", name := "points", desc := "()I" } : Jvm.MethodName)) ∈ lw_all := lw_g (lw_at lw_m8 119 rfl) rfl
theorem q1924 : (Jvm.Cond.code ({ cls := "BusLine", name := "points", desc := "()I" } : Jvm.MethodName) prog_1_method_17_code (3 : Nat) (Option.some Jvm.ClassFile.FieldType.int)) ∈ lw_all := lw_g (lw_at lw_m8 120 rfl) rfl
theorem q1926 : (Jvm.Cond.instanceMethod ({ cls := "BusLine", name := "setNumber", desc := "(II)I" } : Jvm.MethodName)) ∈ lw_all := lw_g (lw_at lw_m8 122 rfl) rfl
theorem q1927 : (Jvm.Cond.selects "BusLine" ({ cls := "BusLine", name := "setNumber", desc := "(II)I" } : Jvm.MethodName) ({ cls := "BusLine", name := "setNumber", desc := "(II)I" } : Jvm.MethodName)) ∈ lw_all := lw_g (lw_at lw_m8 123 rfl) rfl
theorem q1928 : (Jvm.Cond.code ({ cls := "BusLine", name := "setNumber", desc := "(II)I" } : Jvm.MethodName) prog_1_method_19_code (4 : Nat) (Option.some Jvm.ClassFile.FieldType.int)) ∈ lw_all := lw_g (lw_at lw_m8 124 rfl) rfl
theorem q1929 : (Jvm.Cond.methodLink "BusLine" (148 : Nat) ({ cls := "BusLine", name := "isNumber", desc := "(II)Z" } : Jvm.MethodName)) ∈ lw_all := lw_g (lw_at lw_m8 125 rfl) rfl
theorem q1930 : (Jvm.Cond.static ({ cls := "BusLine", name := "isNumber", desc := "(II)Z" } : Jvm.MethodName)) ∈ lw_all := lw_g (lw_at lw_m8 126 rfl) rfl
theorem q1931 : (Jvm.Cond.code ({ cls := "BusLine", name := "isNumber", desc := "(II)Z" } : Jvm.MethodName) prog_1_method_2_code (2 : Nat) (Option.some Jvm.ClassFile.FieldType.boolean)) ∈ lw_all := lw_g (lw_at lw_m8 127 rfl) rfl
theorem q1933 : (Jvm.Cond.instanceMethod ({ cls := "BusLine", name := "skip", desc := "(I)I" } : Jvm.MethodName)) ∈ lw_all := lw_g (lw_at lw_m8 129 rfl) rfl
theorem q1934 : (Jvm.Cond.selects "BusLine" ({ cls := "BusLine", name := "skip", desc := "(I)I" } : Jvm.MethodName) ({ cls := "BusLine", name := "skip", desc := "(I)I" } : Jvm.MethodName)) ∈ lw_all := lw_g (lw_at lw_m8 130 rfl) rfl
theorem q1935 : (Jvm.Cond.code ({ cls := "BusLine", name := "skip", desc := "(I)I" } : Jvm.MethodName) prog_1_method_20_code (3 : Nat) (Option.some Jvm.ClassFile.FieldType.int)) ∈ lw_all := lw_g (lw_at lw_m8 131 rfl) rfl
theorem q1936 : (Jvm.Cond.methodLink "BusLine" (156 : Nat) ({ cls := "BusLine", name := "isBus", desc := "(I)Z" } : Jvm.MethodName)) ∈ lw_all := lw_g (lw_at lw_m8 132 rfl) rfl
theorem q1937 : (Jvm.Cond.privateMethod ({ cls := "BusLine", name := "isBus", desc := "(I)Z" } : Jvm.MethodName)) ∈ lw_tbl := lw_at lw_m8 133 rfl
theorem q1938 : (Jvm.Cond.instanceMethod ({ cls := "BusLine", name := "isBus", desc := "(I)Z" } : Jvm.MethodName)) ∈ lw_all := lw_g (lw_at lw_m8 134 rfl) rfl
theorem q1939 : (Jvm.Cond.code ({ cls := "BusLine", name := "isBus", desc := "(I)Z" } : Jvm.MethodName) prog_1_method_5_code (2 : Nat) (Option.some Jvm.ClassFile.FieldType.boolean)) ∈ lw_all := lw_g (lw_at lw_m8 135 rfl) rfl
theorem q1940 : (Jvm.Cond.methodLink "BusLine" (175 : Nat) ({ cls := "BusLine$Riders", name := "going", desc := "(I)I" } : Jvm.MethodName)) ∈ lw_all := lw_g (lw_at lw_m8 136 rfl) rfl
theorem q1945 : (Jvm.Cond.instanceMethod ({ cls := "BusLine", name := "hold", desc := "(II)I" } : Jvm.MethodName)) ∈ lw_all := lw_g (lw_at lw_m8 141 rfl) rfl
theorem q1946 : (Jvm.Cond.selects "BusLine" ({ cls := "BusLine", name := "hold", desc := "(II)I" } : Jvm.MethodName) ({ cls := "BusLine", name := "hold", desc := "(II)I" } : Jvm.MethodName)) ∈ lw_all := lw_g (lw_at lw_m8 142 rfl) rfl
theorem q1947 : (Jvm.Cond.code ({ cls := "BusLine", name := "hold", desc := "(II)I" } : Jvm.MethodName) prog_1_method_21_code (3 : Nat) (Option.some Jvm.ClassFile.FieldType.int)) ∈ lw_all := lw_g (lw_at lw_m8 143 rfl) rfl
theorem q1948 : (Jvm.Cond.methodLink "BusLine" (181 : Nat) ({ cls := "BusLine$Bus", name := "isAtStop", desc := "()Z" } : Jvm.MethodName)) ∈ lw_all := lw_g (lw_at lw_m8 144 rfl) rfl
theorem q1952 : (Jvm.Cond.methodLink "BusLine" (185 : Nat) ({ cls := "BusLine$State", name := "delay", desc := "(LBusLine$Bus;I)I" } : Jvm.MethodName)) ∈ lw_all := lw_g (lw_at lw_m8 148 rfl) rfl
theorem q1980 : (Jvm.Cond.instanceMethod ({ cls := "BusLine", name := "group", desc := "(III)I" } : Jvm.MethodName)) ∈ lw_all := lw_g (lw_at lw_m8 176 rfl) rfl
theorem q1981 : (Jvm.Cond.selects "BusLine" ({ cls := "BusLine", name := "group", desc := "(III)I" } : Jvm.MethodName) ({ cls := "BusLine", name := "group", desc := "(III)I" } : Jvm.MethodName)) ∈ lw_all := lw_g (lw_at lw_m8 177 rfl) rfl
theorem q1982 : (Jvm.Cond.code ({ cls := "BusLine", name := "group", desc := "(III)I" } : Jvm.MethodName) prog_1_method_22_code (4 : Nat) (Option.some Jvm.ClassFile.FieldType.int)) ∈ lw_all := lw_g (lw_at lw_m8 178 rfl) rfl
theorem q1983 : (Jvm.Cond.methodLink "BusLine" (189 : Nat) ({ cls := "BusLine$State", name := "group", desc := "(III)I" } : Jvm.MethodName)) ∈ lw_all := lw_g (lw_at lw_m8 179 rfl) rfl
theorem q2066 : (Jvm.Cond.instanceMethod ({ cls := "BusLine", name := "pass", desc := "(I)I" } : Jvm.MethodName)) ∈ lw_all := lw_g (lw_at lw_m9 22 rfl) rfl
theorem q2067 : (Jvm.Cond.selects "BusLine" ({ cls := "BusLine", name := "pass", desc := "(I)I" } : Jvm.MethodName) ({ cls := "BusLine", name := "pass", desc := "(I)I" } : Jvm.MethodName)) ∈ lw_all := lw_g (lw_at lw_m9 23 rfl) rfl
theorem q2068 : (Jvm.Cond.code ({ cls := "BusLine", name := "pass", desc := "(I)I" } : Jvm.MethodName) prog_1_method_23_code (3 : Nat) (Option.some Jvm.ClassFile.FieldType.int)) ∈ lw_all := lw_g (lw_at lw_m9 24 rfl) rfl
theorem q2069 : (Jvm.Cond.methodLink "BusLine" (193 : Nat) ({ cls := "BusLine", name := "isPass", desc := "(I)Z" } : Jvm.MethodName)) ∈ lw_all := lw_g (lw_at lw_m9 25 rfl) rfl
theorem q2070 : (Jvm.Cond.static ({ cls := "BusLine", name := "isPass", desc := "(I)Z" } : Jvm.MethodName)) ∈ lw_all := lw_g (lw_at lw_m9 26 rfl) rfl
theorem q2071 : (Jvm.Cond.code ({ cls := "BusLine", name := "isPass", desc := "(I)Z" } : Jvm.MethodName) prog_1_method_8_code (1 : Nat) (Option.some Jvm.ClassFile.FieldType.boolean)) ∈ lw_all := lw_g (lw_at lw_m9 27 rfl) rfl
theorem q2072 : (Jvm.Cond.methodLink "BusLine" (199 : Nat) ({ cls := "BusLine$State", name := "sum", desc := "([I)I" } : Jvm.MethodName)) ∈ lw_all := lw_g (lw_at lw_m9 28 rfl) rfl
theorem q2075 : (Jvm.Cond.methodLink "BusLine" (203 : Nat) ({ cls := "BusLine$State", name := "pass", desc := "(I)LBusLine$State;" } : Jvm.MethodName)) ∈ lw_all := lw_g (lw_at lw_m9 31 rfl) rfl
theorem q2181 : (Jvm.Cond.instanceMethod ({ cls := "BusLine", name := "keep", desc := "(I)I" } : Jvm.MethodName)) ∈ lw_all := lw_g (lw_at lw_m9 137 rfl) rfl
theorem q2182 : (Jvm.Cond.selects "BusLine" ({ cls := "BusLine", name := "keep", desc := "(I)I" } : Jvm.MethodName) ({ cls := "BusLine", name := "keep", desc := "(I)I" } : Jvm.MethodName)) ∈ lw_all := lw_g (lw_at lw_m9 138 rfl) rfl
theorem q2183 : (Jvm.Cond.code ({ cls := "BusLine", name := "keep", desc := "(I)I" } : Jvm.MethodName) prog_1_method_24_code (2 : Nat) (Option.some Jvm.ClassFile.FieldType.int)) ∈ lw_all := lw_g (lw_at lw_m9 139 rfl) rfl
theorem q2184 : (Jvm.Cond.methodLink "BusLine" (207 : Nat) ({ cls := "BusLine", name := "isSlot", desc := "(I)Z" } : Jvm.MethodName)) ∈ lw_all := lw_g (lw_at lw_m9 140 rfl) rfl
theorem q2185 : (Jvm.Cond.static ({ cls := "BusLine", name := "isSlot", desc := "(I)Z" } : Jvm.MethodName)) ∈ lw_all := lw_g (lw_at lw_m9 141 rfl) rfl
theorem q2186 : (Jvm.Cond.code ({ cls := "BusLine", name := "isSlot", desc := "(I)Z" } : Jvm.MethodName) prog_1_method_9_code (1 : Nat) (Option.some Jvm.ClassFile.FieldType.boolean)) ∈ lw_all := lw_g (lw_at lw_m9 142 rfl) rfl
theorem q2188 : (Jvm.Cond.instanceMethod ({ cls := "BusLine", name := "restore", desc := "(I)I" } : Jvm.MethodName)) ∈ lw_all := lw_g (lw_at lw_m9 144 rfl) rfl
theorem q2189 : (Jvm.Cond.selects "BusLine" ({ cls := "BusLine", name := "restore", desc := "(I)I" } : Jvm.MethodName) ({ cls := "BusLine", name := "restore", desc := "(I)I" } : Jvm.MethodName)) ∈ lw_all := lw_g (lw_at lw_m9 145 rfl) rfl
theorem q2190 : (Jvm.Cond.code ({ cls := "BusLine", name := "restore", desc := "(I)I" } : Jvm.MethodName) prog_1_method_25_code (2 : Nat) (Option.some Jvm.ClassFile.FieldType.int)) ∈ lw_all := lw_g (lw_at lw_m9 146 rfl) rfl
theorem q2191 : (Jvm.Cond.methodLink "BusLine" (213 : Nat) ({ cls := "java/util/ArrayList", name := "get", desc := "(I)Ljava/lang/Object;" } : Jvm.MethodName)) ∈ lw_all := lw_g (lw_at lw_m9 147 rfl) rfl
theorem q2193 : (Jvm.Cond.instanceMethod ({ cls := "BusLine", name := "undo", desc := "()I" } : Jvm.MethodName)) ∈ lw_all := lw_g (lw_at lw_m9 149 rfl) rfl
theorem q2194 : (Jvm.Cond.selects "BusLine" ({ cls := "BusLine", name := "undo", desc := "()I" } : Jvm.MethodName) ({ cls := "BusLine", name := "undo", desc := "()I" } : Jvm.MethodName)) ∈ lw_all := lw_g (lw_at lw_m9 150 rfl) rfl
theorem q2195 : (Jvm.Cond.code ({ cls := "BusLine", name := "undo", desc := "()I" } : Jvm.MethodName) prog_1_method_26_code (1 : Nat) (Option.some Jvm.ClassFile.FieldType.int)) ∈ lw_all := lw_g (lw_at lw_m9 151 rfl) rfl
theorem q2196 : (Jvm.Cond.methodLink "BusLine" (217 : Nat) ({ cls := "java/util/ArrayDeque", name := "isEmpty", desc := "()Z" } : Jvm.MethodName)) ∈ lw_all := lw_g (lw_at lw_m9 152 rfl) rfl
theorem q2200 : (Jvm.Cond.methodLink "BusLine" (220 : Nat) ({ cls := "java/util/ArrayDeque", name := "removeLast", desc := "()Ljava/lang/Object;" } : Jvm.MethodName)) ∈ lw_all := lw_g (lw_at lw_m9 156 rfl) rfl
theorem q2212 : (Jvm.Cond.instanceMethod ({ cls := "BusLine", name := "value", desc := "(I)I" } : Jvm.MethodName)) ∈ lw_all := lw_g (lw_at lw_m9 168 rfl) rfl
theorem q2213 : (Jvm.Cond.selects "BusLine" ({ cls := "BusLine", name := "value", desc := "(I)I" } : Jvm.MethodName) ({ cls := "BusLine", name := "value", desc := "(I)I" } : Jvm.MethodName)) ∈ lw_all := lw_g (lw_at lw_m9 169 rfl) rfl
theorem q2214 : (Jvm.Cond.code ({ cls := "BusLine", name := "value", desc := "(I)I" } : Jvm.MethodName) prog_1_method_27_code (2 : Nat) (Option.some Jvm.ClassFile.FieldType.int)) ∈ lw_all := lw_g (lw_at lw_m9 170 rfl) rfl
theorem q2215 : (Jvm.Cond.methodLink "BusLine" (74 : Nat) ({ cls := "java/util/ArrayList", name := "size", desc := "()I" } : Jvm.MethodName)) ∈ lw_all := lw_g (lw_at lw_m9 171 rfl) rfl
theorem q2216 : (Jvm.Cond.methodLink "BusLine" (232 : Nat) ({ cls := "BusLine$State", name := "waiting", desc := "()I" } : Jvm.MethodName)) ∈ lw_all := lw_g (lw_at lw_m9 172 rfl) rfl
theorem q2220 : (Jvm.Cond.methodLink "BusLine" (235 : Nat) ({ cls := "BusLine$State", name := "aboard", desc := "()I" } : Jvm.MethodName)) ∈ lw_all := lw_g (lw_at lw_m9 176 rfl) rfl
theorem q2225 : (Jvm.Cond.instanceMethod ({ cls := "BusLine", name := "stop", desc := "(II)I" } : Jvm.MethodName)) ∈ lw_all := lw_g (lw_at lw_m9 181 rfl) rfl
theorem q2226 : (Jvm.Cond.selects "BusLine" ({ cls := "BusLine", name := "stop", desc := "(II)I" } : Jvm.MethodName) ({ cls := "BusLine", name := "stop", desc := "(II)I" } : Jvm.MethodName)) ∈ lw_all := lw_g (lw_at lw_m9 182 rfl) rfl
theorem q2227 : (Jvm.Cond.code ({ cls := "BusLine", name := "stop", desc := "(II)I" } : Jvm.MethodName) prog_1_method_29_code (3 : Nat) (Option.some Jvm.ClassFile.FieldType.int)) ∈ lw_all := lw_g (lw_at lw_m9 183 rfl) rfl
theorem q2228 : (Jvm.Cond.methodLink "BusLine" (258 : Nat) ({ cls := "BusLine$State", name := "stop", desc := "(I)LBusLine$Stop;" } : Jvm.MethodName)) ∈ lw_all := lw_g (lw_at lw_m9 184 rfl) rfl
theorem q2229 : (Jvm.Cond.methodLink "BusLine" (288 : Nat) ({ cls := "BusLine", name := "busesAt", desc := "(I)I" } : Jvm.MethodName)) ∈ lw_all := lw_g (lw_at lw_m9 185 rfl) rfl
theorem q2230 : (Jvm.Cond.privateMethod ({ cls := "BusLine", name := "busesAt", desc := "(I)I" } : Jvm.MethodName)) ∈ lw_tbl := lw_at lw_m9 186 rfl
theorem q2231 : (Jvm.Cond.instanceMethod ({ cls := "BusLine", name := "busesAt", desc := "(I)I" } : Jvm.MethodName)) ∈ lw_all := lw_g (lw_at lw_m9 187 rfl) rfl
theorem q2232 : (Jvm.Cond.code ({ cls := "BusLine", name := "busesAt", desc := "(I)I" } : Jvm.MethodName) prog_1_method_28_code (4 : Nat) (Option.some Jvm.ClassFile.FieldType.int)) ∈ lw_all := lw_g (lw_at lw_m9 188 rfl) rfl
theorem q2234 : (Jvm.Cond.instanceMethod ({ cls := "BusLine", name := "bus", desc := "(II)I" } : Jvm.MethodName)) ∈ lw_all := lw_g (lw_at lw_m9 190 rfl) rfl
theorem q2235 : (Jvm.Cond.selects "BusLine" ({ cls := "BusLine", name := "bus", desc := "(II)I" } : Jvm.MethodName) ({ cls := "BusLine", name := "bus", desc := "(II)I" } : Jvm.MethodName)) ∈ lw_all := lw_g (lw_at lw_m9 191 rfl) rfl
theorem q2236 : (Jvm.Cond.code ({ cls := "BusLine", name := "bus", desc := "(II)I" } : Jvm.MethodName) prog_1_method_30_code (4 : Nat) (Option.some Jvm.ClassFile.FieldType.int)) ∈ lw_all := lw_g (lw_at lw_m9 192 rfl) rfl
theorem q2238 : (Jvm.Cond.instanceMethod ({ cls := "BusLine", name := "why", desc := "(I)I" } : Jvm.MethodName)) ∈ lw_all := lw_g (lw_at lw_m9 194 rfl) rfl
theorem q2239 : (Jvm.Cond.selects "BusLine" ({ cls := "BusLine", name := "why", desc := "(I)I" } : Jvm.MethodName) ({ cls := "BusLine", name := "why", desc := "(I)I" } : Jvm.MethodName)) ∈ lw_all := lw_g (lw_at lw_m9 195 rfl) rfl
theorem q2240 : (Jvm.Cond.code ({ cls := "BusLine", name := "why", desc := "(I)I" } : Jvm.MethodName) prog_1_method_31_code (2 : Nat) (Option.some Jvm.ClassFile.FieldType.int)) ∈ lw_all := lw_g (lw_at lw_m9 196 rfl) rfl
theorem q2242 : (Jvm.Cond.instanceMethod ({ cls := "BusLine", name := "flow", desc := "(II)I" } : Jvm.MethodName)) ∈ lw_all := lw_g (lw_at lw_m9 198 rfl) rfl
theorem q2243 : (Jvm.Cond.selects "BusLine" ({ cls := "BusLine", name := "flow", desc := "(II)I" } : Jvm.MethodName) ({ cls := "BusLine", name := "flow", desc := "(II)I" } : Jvm.MethodName)) ∈ lw_all := lw_g (lw_at lw_m9 199 rfl) rfl
theorem q2244 : (Jvm.Cond.code ({ cls := "BusLine", name := "flow", desc := "(II)I" } : Jvm.MethodName) prog_1_method_35_code (4 : Nat) (Option.some Jvm.ClassFile.FieldType.int)) ∈ lw_all := lw_g (lw_at lw_m9 200 rfl) rfl
theorem q2245 : (Jvm.Cond.methodLink "BusLine" (335 : Nat) ({ cls := "BusLine$State", name := "account", desc := "(I)I" } : Jvm.MethodName)) ∈ lw_all := lw_g (lw_at lw_m9 201 rfl) rfl
theorem q2249 : (Jvm.Cond.methodLink "BusLine" (338 : Nat) ({ cls := "BusLine", name := "flowPart", desc := "(II)I" } : Jvm.MethodName)) ∈ lw_all := lw_g (lw_at lw_m9 205 rfl) rfl
theorem q2250 : (Jvm.Cond.privateMethod ({ cls := "BusLine", name := "flowPart", desc := "(II)I" } : Jvm.MethodName)) ∈ lw_tbl := lw_at lw_m9 206 rfl
theorem q2251 : (Jvm.Cond.instanceMethod ({ cls := "BusLine", name := "flowPart", desc := "(II)I" } : Jvm.MethodName)) ∈ lw_all := lw_g (lw_at lw_m9 207 rfl) rfl
theorem q2252 : (Jvm.Cond.code ({ cls := "BusLine", name := "flowPart", desc := "(II)I" } : Jvm.MethodName) prog_1_method_32_code (4 : Nat) (Option.some Jvm.ClassFile.FieldType.int)) ∈ lw_all := lw_g (lw_at lw_m9 208 rfl) rfl
theorem q2253 : (Jvm.Cond.methodLink "BusLine" (313 : Nat) ({ cls := "BusLine", name := "isFlow", desc := "(I)Z" } : Jvm.MethodName)) ∈ lw_all := lw_g (lw_at lw_m9 209 rfl) rfl
theorem q2254 : (Jvm.Cond.privateMethod ({ cls := "BusLine", name := "isFlow", desc := "(I)Z" } : Jvm.MethodName)) ∈ lw_tbl := lw_at lw_m9 210 rfl
theorem q2255 : (Jvm.Cond.instanceMethod ({ cls := "BusLine", name := "isFlow", desc := "(I)Z" } : Jvm.MethodName)) ∈ lw_all := lw_g (lw_at lw_m9 211 rfl) rfl
theorem q2256 : (Jvm.Cond.code ({ cls := "BusLine", name := "isFlow", desc := "(I)Z" } : Jvm.MethodName) prog_1_method_6_code (2 : Nat) (Option.some Jvm.ClassFile.FieldType.boolean)) ∈ lw_all := lw_g (lw_at lw_m9 212 rfl) rfl
theorem q2257 : (Jvm.Cond.classLink "BusLine" (316 : Nat) "BusLine$Flow") ∈ lw_all := lw_g (lw_at lw_m9 213 rfl) rfl
theorem q2258 : (Jvm.Cond.methodLink "BusLine" (354 : Nat) ({ cls := "BusLine", name := "waitingOf", desc := "(I)I" } : Jvm.MethodName)) ∈ lw_all := lw_g (lw_at lw_m9 214 rfl) rfl
theorem q2259 : (Jvm.Cond.privateMethod ({ cls := "BusLine", name := "waitingOf", desc := "(I)I" } : Jvm.MethodName)) ∈ lw_tbl := lw_at lw_m9 215 rfl
theorem q2260 : (Jvm.Cond.instanceMethod ({ cls := "BusLine", name := "waitingOf", desc := "(I)I" } : Jvm.MethodName)) ∈ lw_all := lw_g (lw_at lw_m9 216 rfl) rfl
theorem q2261 : (Jvm.Cond.code ({ cls := "BusLine", name := "waitingOf", desc := "(I)I" } : Jvm.MethodName) prog_1_method_33_code (4 : Nat) (Option.some Jvm.ClassFile.FieldType.int)) ∈ lw_all := lw_g (lw_at lw_m9 217 rfl) rfl
theorem q2262 : (Jvm.Cond.methodLink "BusLine" (333 : Nat) ({ cls := "BusLine$Riders", name := "of", desc := "(I)I" } : Jvm.MethodName)) ∈ lw_all := lw_g (lw_at lw_m9 218 rfl) rfl
theorem q2266 : (Jvm.Cond.methodLink "BusLine" (357 : Nat) ({ cls := "BusLine", name := "aboardOf", desc := "(I)I" } : Jvm.MethodName)) ∈ lw_all := lw_g (lw_at lw_m9 222 rfl) rfl
theorem q2267 : (Jvm.Cond.privateMethod ({ cls := "BusLine", name := "aboardOf", desc := "(I)I" } : Jvm.MethodName)) ∈ lw_tbl := lw_at lw_m9 223 rfl
theorem q2268 : (Jvm.Cond.instanceMethod ({ cls := "BusLine", name := "aboardOf", desc := "(I)I" } : Jvm.MethodName)) ∈ lw_all := lw_g (lw_at lw_m9 224 rfl) rfl
theorem q2269 : (Jvm.Cond.code ({ cls := "BusLine", name := "aboardOf", desc := "(I)I" } : Jvm.MethodName) prog_1_method_34_code (4 : Nat) (Option.some Jvm.ClassFile.FieldType.int)) ∈ lw_all := lw_g (lw_at lw_m9 225 rfl) rfl
theorem q2271 : (Jvm.Cond.instanceMethod ({ cls := "BusLine", name := "rider", desc := "(III)I" } : Jvm.MethodName)) ∈ lw_all := lw_g (lw_at lw_m9 227 rfl) rfl
theorem q2272 : (Jvm.Cond.selects "BusLine" ({ cls := "BusLine", name := "rider", desc := "(III)I" } : Jvm.MethodName) ({ cls := "BusLine", name := "rider", desc := "(III)I" } : Jvm.MethodName)) ∈ lw_all := lw_g (lw_at lw_m9 228 rfl) rfl
theorem q2273 : (Jvm.Cond.code ({ cls := "BusLine", name := "rider", desc := "(III)I" } : Jvm.MethodName) prog_1_method_36_code (5 : Nat) (Option.some Jvm.ClassFile.FieldType.int)) ∈ lw_all := lw_g (lw_at lw_m9 229 rfl) rfl
theorem q2275 : (Jvm.Cond.instanceMethod ({ cls := "BusLine", name := "aboard", desc := "(II)I" } : Jvm.MethodName)) ∈ lw_all := lw_g (lw_at lw_m9 231 rfl) rfl
theorem q2276 : (Jvm.Cond.selects "BusLine" ({ cls := "BusLine", name := "aboard", desc := "(II)I" } : Jvm.MethodName) ({ cls := "BusLine", name := "aboard", desc := "(II)I" } : Jvm.MethodName)) ∈ lw_all := lw_g (lw_at lw_m9 232 rfl) rfl
theorem q2277 : (Jvm.Cond.code ({ cls := "BusLine", name := "aboard", desc := "(II)I" } : Jvm.MethodName) prog_1_method_37_code (3 : Nat) (Option.some Jvm.ClassFile.FieldType.int)) ∈ lw_all := lw_g (lw_at lw_m9 233 rfl) rfl
theorem q2279 : (Jvm.Cond.instanceMethod ({ cls := "BusLine", name := "left", desc := "(III)I" } : Jvm.MethodName)) ∈ lw_all := lw_g (lw_at lw_m9 235 rfl) rfl
theorem q2280 : (Jvm.Cond.selects "BusLine" ({ cls := "BusLine", name := "left", desc := "(III)I" } : Jvm.MethodName) ({ cls := "BusLine", name := "left", desc := "(III)I" } : Jvm.MethodName)) ∈ lw_all := lw_g (lw_at lw_m9 236 rfl) rfl
theorem q2281 : (Jvm.Cond.code ({ cls := "BusLine", name := "left", desc := "(III)I" } : Jvm.MethodName) prog_1_method_38_code (5 : Nat) (Option.some Jvm.ClassFile.FieldType.int)) ∈ lw_all := lw_g (lw_at lw_m9 237 rfl) rfl
theorem q2283 : (Jvm.Cond.instanceMethod ({ cls := "BusLine", name := "log", desc := "(II)I" } : Jvm.MethodName)) ∈ lw_all := lw_g (lw_at lw_m9 239 rfl) rfl
theorem q2284 : (Jvm.Cond.selects "BusLine" ({ cls := "BusLine", name := "log", desc := "(II)I" } : Jvm.MethodName) ({ cls := "BusLine", name := "log", desc := "(II)I" } : Jvm.MethodName)) ∈ lw_all := lw_g (lw_at lw_m10 0 rfl) rfl
theorem q2285 : (Jvm.Cond.code ({ cls := "BusLine", name := "log", desc := "(II)I" } : Jvm.MethodName) prog_1_method_39_code (3 : Nat) (Option.some Jvm.ClassFile.FieldType.int)) ∈ lw_all := lw_g (lw_at lw_m10 1 rfl) rfl
theorem q2287 : (Jvm.Cond.instanceMethod ({ cls := "BusLine", name := "named", desc := "(I)I" } : Jvm.MethodName)) ∈ lw_all := lw_g (lw_at lw_m10 3 rfl) rfl
theorem q2288 : (Jvm.Cond.selects "BusLine" ({ cls := "BusLine", name := "named", desc := "(I)I" } : Jvm.MethodName) ({ cls := "BusLine", name := "named", desc := "(I)I" } : Jvm.MethodName)) ∈ lw_all := lw_g (lw_at lw_m10 4 rfl) rfl
theorem q2289 : (Jvm.Cond.code ({ cls := "BusLine", name := "named", desc := "(I)I" } : Jvm.MethodName) prog_1_method_40_code (6 : Nat) (Option.some Jvm.ClassFile.FieldType.int)) ∈ lw_all := lw_g (lw_at lw_m10 5 rfl) rfl
theorem q2290 : (Jvm.Cond.methodLink "BusLine" (380 : Nat) ({ cls := "java/lang/StringBuilder", name := "length", desc := "()I" } : Jvm.MethodName)) ∈ lw_all := lw_g (lw_at lw_m10 6 rfl) rfl
theorem q2291 : (Jvm.Cond.methodLink "BusLine" (382 : Nat) ({ cls := "BusLine$Plan", name := "named", desc := "(Ljava/lang/String;)I" } : Jvm.MethodName)) ∈ lw_all := lw_g (lw_at lw_m10 7 rfl) rfl
theorem q2293 : (Jvm.Cond.instanceMethod ({ cls := "BusLine", name := "ahead", desc := "(IZ)I" } : Jvm.MethodName)) ∈ lw_all := lw_g (lw_at lw_m10 9 rfl) rfl
theorem q2294 : (Jvm.Cond.selects "BusLine" ({ cls := "BusLine", name := "ahead", desc := "(IZ)I" } : Jvm.MethodName) ({ cls := "BusLine", name := "ahead", desc := "(IZ)I" } : Jvm.MethodName)) ∈ lw_all := lw_g (lw_at lw_m10 10 rfl) rfl
theorem q2295 : (Jvm.Cond.code ({ cls := "BusLine", name := "ahead", desc := "(IZ)I" } : Jvm.MethodName) prog_1_method_41_code (8 : Nat) (Option.some Jvm.ClassFile.FieldType.int)) ∈ lw_all := lw_g (lw_at lw_m10 11 rfl) rfl
theorem q2296 : (Jvm.Cond.methodLink "BusLine" (386 : Nat) ({ cls := "BusLine$Bus", name := "isOut", desc := "()Z" } : Jvm.MethodName)) ∈ lw_all := lw_g (lw_at lw_m10 12 rfl) rfl
theorem q2297 : (Jvm.Cond.methodLink "BusLine" (389 : Nat) ({ cls := "BusLine$Plan", name := "way", desc := "(II)I" } : Jvm.MethodName)) ∈ lw_all := lw_g (lw_at lw_m10 13 rfl) rfl
theorem q2299 : (Jvm.Cond.instanceMethod ({ cls := "BusLine", name := "spread", desc := "(I)I" } : Jvm.MethodName)) ∈ lw_all := lw_g (lw_at lw_m10 15 rfl) rfl
theorem q2300 : (Jvm.Cond.selects "BusLine" ({ cls := "BusLine", name := "spread", desc := "(I)I" } : Jvm.MethodName) ({ cls := "BusLine", name := "spread", desc := "(I)I" } : Jvm.MethodName)) ∈ lw_all := lw_g (lw_at lw_m10 16 rfl) rfl
theorem q2301 : (Jvm.Cond.code ({ cls := "BusLine", name := "spread", desc := "(I)I" } : Jvm.MethodName) prog_1_method_42_code (2 : Nat) (Option.some Jvm.ClassFile.FieldType.int)) ∈ lw_all := lw_g (lw_at lw_m10 17 rfl) rfl
theorem q2302 : (Jvm.Cond.methodLink "BusLine" (392 : Nat) ({ cls := "BusLine$Leavings", name := "spread", desc := "()I" } : Jvm.MethodName)) ∈ lw_all := lw_g (lw_at lw_m10 18 rfl) rfl
theorem q2308 : (Jvm.Cond.instanceMethod ({ cls := "BusLine", name := "late", desc := "(I)I" } : Jvm.MethodName)) ∈ lw_all := lw_g (lw_at lw_m10 24 rfl) rfl
theorem q2309 : (Jvm.Cond.selects "BusLine" ({ cls := "BusLine", name := "late", desc := "(I)I" } : Jvm.MethodName) ({ cls := "BusLine", name := "late", desc := "(I)I" } : Jvm.MethodName)) ∈ lw_all := lw_g (lw_at lw_m10 25 rfl) rfl
theorem q2310 : (Jvm.Cond.code ({ cls := "BusLine", name := "late", desc := "(I)I" } : Jvm.MethodName) prog_1_method_43_code (2 : Nat) (Option.some Jvm.ClassFile.FieldType.int)) ∈ lw_all := lw_g (lw_at lw_m10 26 rfl) rfl
theorem q2311 : (Jvm.Cond.constant "BusLine" (401 : Nat) (100000 : Int32)) ∈ lw_all := lw_g (lw_at lw_m10 27 rfl) rfl
theorem q2313 : (Jvm.Cond.instanceMethod ({ cls := "BusLine", name := "wouldHold", desc := "(II)I" } : Jvm.MethodName)) ∈ lw_all := lw_g (lw_at lw_m10 29 rfl) rfl
theorem q2314 : (Jvm.Cond.selects "BusLine" ({ cls := "BusLine", name := "wouldHold", desc := "(II)I" } : Jvm.MethodName) ({ cls := "BusLine", name := "wouldHold", desc := "(II)I" } : Jvm.MethodName)) ∈ lw_all := lw_g (lw_at lw_m10 30 rfl) rfl
theorem q2315 : (Jvm.Cond.code ({ cls := "BusLine", name := "wouldHold", desc := "(II)I" } : Jvm.MethodName) prog_1_method_44_code (4 : Nat) (Option.some Jvm.ClassFile.FieldType.int)) ∈ lw_all := lw_g (lw_at lw_m10 31 rfl) rfl
theorem q2316 : (Jvm.Cond.methodLink "BusLine" (402 : Nat) ({ cls := "BusLine$State", name := "wanted", desc := "(LBusLine$Bus;II)I" } : Jvm.MethodName)) ∈ lw_all := lw_g (lw_at lw_m10 32 rfl) rfl
theorem q2317 : (Jvm.Cond.methodLink "BusLine" (406 : Nat) ({ cls := "java/lang/Math", name := "min", desc := "(II)I" } : Jvm.MethodName)) ∈ lw_all := lw_g (lw_at lw_m10 33 rfl) rfl
theorem q2318 : (Jvm.Cond.methodLink "BusLine" (411 : Nat) ({ cls := "java/lang/Math", name := "max", desc := "(II)I" } : Jvm.MethodName)) ∈ lw_all := lw_g (lw_at lw_m10 34 rfl) rfl
theorem q2320 : (Jvm.Cond.instanceMethod ({ cls := "BusLine", name := "comes", desc := "(II)I" } : Jvm.MethodName)) ∈ lw_all := lw_g (lw_at lw_m10 36 rfl) rfl
theorem q2321 : (Jvm.Cond.selects "BusLine" ({ cls := "BusLine", name := "comes", desc := "(II)I" } : Jvm.MethodName) ({ cls := "BusLine", name := "comes", desc := "(II)I" } : Jvm.MethodName)) ∈ lw_all := lw_g (lw_at lw_m10 37 rfl) rfl
theorem q2322 : (Jvm.Cond.code ({ cls := "BusLine", name := "comes", desc := "(II)I" } : Jvm.MethodName) prog_1_method_45_code (8 : Nat) (Option.some Jvm.ClassFile.FieldType.int)) ∈ lw_all := lw_g (lw_at lw_m10 38 rfl) rfl
theorem q2323 : (Jvm.Cond.methodLink "BusLine" (414 : Nat) ({ cls := "BusLine$State", name := "event", desc := "(I)LBusLine$Bus;" } : Jvm.MethodName)) ∈ lw_all := lw_g (lw_at lw_m10 39 rfl) rfl
theorem q2325 : (Jvm.Cond.instanceMethod ({ cls := "BusLine", name := "nextLeft", desc := "(IZ)I" } : Jvm.MethodName)) ∈ lw_all := lw_g (lw_at lw_m10 41 rfl) rfl
theorem q2326 : (Jvm.Cond.selects "BusLine" ({ cls := "BusLine", name := "nextLeft", desc := "(IZ)I" } : Jvm.MethodName) ({ cls := "BusLine", name := "nextLeft", desc := "(IZ)I" } : Jvm.MethodName)) ∈ lw_all := lw_g (lw_at lw_m10 42 rfl) rfl
theorem q2327 : (Jvm.Cond.code ({ cls := "BusLine", name := "nextLeft", desc := "(IZ)I" } : Jvm.MethodName) prog_1_method_46_code (6 : Nat) (Option.some Jvm.ClassFile.FieldType.int)) ∈ lw_all := lw_g (lw_at lw_m10 43 rfl) rfl
theorem q2329 : (Jvm.Cond.instanceMethod ({ cls := "BusLine", name := "would", desc := "(III)I" } : Jvm.MethodName)) ∈ lw_all := lw_g (lw_at lw_m10 45 rfl) rfl
theorem q2330 : (Jvm.Cond.selects "BusLine" ({ cls := "BusLine", name := "would", desc := "(III)I" } : Jvm.MethodName) ({ cls := "BusLine", name := "would", desc := "(III)I" } : Jvm.MethodName)) ∈ lw_all := lw_g (lw_at lw_m10 46 rfl) rfl
theorem q2331 : (Jvm.Cond.code ({ cls := "BusLine", name := "would", desc := "(III)I" } : Jvm.MethodName) prog_1_method_48_code (5 : Nat) (Option.some Jvm.ClassFile.FieldType.int)) ∈ lw_all := lw_g (lw_at lw_m10 47 rfl) rfl
theorem q2332 : (Jvm.Cond.methodLink "BusLine" (418 : Nat) ({ cls := "BusLine", name := "later", desc := "(II)LBusLine$State;" } : Jvm.MethodName)) ∈ lw_all := lw_g (lw_at lw_m10 48 rfl) rfl
theorem q2333 : (Jvm.Cond.privateMethod ({ cls := "BusLine", name := "later", desc := "(II)LBusLine$State;" } : Jvm.MethodName)) ∈ lw_tbl := lw_at lw_m10 49 rfl
theorem q2334 : (Jvm.Cond.instanceMethod ({ cls := "BusLine", name := "later", desc := "(II)LBusLine$State;" } : Jvm.MethodName)) ∈ lw_all := lw_g (lw_at lw_m10 50 rfl) rfl
theorem q2335 : (Jvm.Cond.code ({ cls := "BusLine", name := "later", desc := "(II)LBusLine$State;" } : Jvm.MethodName) prog_1_method_47_code (4 : Nat) (Option.some (Jvm.ClassFile.FieldType.object "BusLine$State"))) ∈ lw_all := lw_g (lw_at lw_m10 51 rfl) rfl
theorem q2336 : (Jvm.Cond.methodLink "BusLine" (422 : Nat) ({ cls := "BusLine$State", name := "lost", desc := "()I" } : Jvm.MethodName)) ∈ lw_all := lw_g (lw_at lw_m10 52 rfl) rfl
theorem q2342 : (Jvm.Cond.instanceMethod ({ cls := "BusLine", name := "bestMode", desc := "(I)I" } : Jvm.MethodName)) ∈ lw_all := lw_g (lw_at lw_m10 58 rfl) rfl
theorem q2343 : (Jvm.Cond.selects "BusLine" ({ cls := "BusLine", name := "bestMode", desc := "(I)I" } : Jvm.MethodName) ({ cls := "BusLine", name := "bestMode", desc := "(I)I" } : Jvm.MethodName)) ∈ lw_all := lw_g (lw_at lw_m10 59 rfl) rfl
theorem q2344 : (Jvm.Cond.code ({ cls := "BusLine", name := "bestMode", desc := "(I)I" } : Jvm.MethodName) prog_1_method_49_code (9 : Nat) (Option.some Jvm.ClassFile.FieldType.int)) ∈ lw_all := lw_g (lw_at lw_m10 60 rfl) rfl
theorem q2346 : (Jvm.Cond.instanceMethod ({ cls := "BusLine", name := "comeBy", desc := "(II)I" } : Jvm.MethodName)) ∈ lw_all := lw_g (lw_at lw_m10 62 rfl) rfl
theorem q2347 : (Jvm.Cond.selects "BusLine" ({ cls := "BusLine", name := "comeBy", desc := "(II)I" } : Jvm.MethodName) ({ cls := "BusLine", name := "comeBy", desc := "(II)I" } : Jvm.MethodName)) ∈ lw_all := lw_g (lw_at lw_m10 63 rfl) rfl
theorem q2348 : (Jvm.Cond.code ({ cls := "BusLine", name := "comeBy", desc := "(II)I" } : Jvm.MethodName) prog_1_method_50_code (3 : Nat) (Option.some Jvm.ClassFile.FieldType.int)) ∈ lw_all := lw_g (lw_at lw_m10 64 rfl) rfl
theorem q2349 : (Jvm.Cond.constant "BusLine" (429 : Nat) (9999999 : Int32)) ∈ lw_all := lw_g (lw_at lw_m10 65 rfl) rfl
theorem q2350 : (Jvm.Cond.methodLink "BusLine" (430 : Nat) ({ cls := "BusLine$Flow", name := "by", desc := "(I)I" } : Jvm.MethodName)) ∈ lw_all := lw_g (lw_at lw_m10 66 rfl) rfl
theorem q2355 : (Jvm.Cond.instanceMethod ({ cls := "BusLine", name := "meanWaiting", desc := "()D" } : Jvm.MethodName)) ∈ lw_all := lw_g (lw_at lw_m10 71 rfl) rfl
theorem q2356 : (Jvm.Cond.selects "BusLine" ({ cls := "BusLine", name := "meanWaiting", desc := "()D" } : Jvm.MethodName) ({ cls := "BusLine", name := "meanWaiting", desc := "()D" } : Jvm.MethodName)) ∈ lw_all := lw_g (lw_at lw_m10 72 rfl) rfl
theorem q2357 : (Jvm.Cond.code ({ cls := "BusLine", name := "meanWaiting", desc := "()D" } : Jvm.MethodName) prog_1_method_51_code (2 : Nat) (Option.some Jvm.ClassFile.FieldType.double)) ∈ lw_all := lw_g (lw_at lw_m10 73 rfl) rfl
theorem q2359 : (Jvm.Cond.instanceMethod ({ cls := "BusLine", name := "meanRide", desc := "()D" } : Jvm.MethodName)) ∈ lw_all := lw_g (lw_at lw_m10 75 rfl) rfl
theorem q2360 : (Jvm.Cond.selects "BusLine" ({ cls := "BusLine", name := "meanRide", desc := "()D" } : Jvm.MethodName) ({ cls := "BusLine", name := "meanRide", desc := "()D" } : Jvm.MethodName)) ∈ lw_all := lw_g (lw_at lw_m10 76 rfl) rfl
theorem q2361 : (Jvm.Cond.code ({ cls := "BusLine", name := "meanRide", desc := "()D" } : Jvm.MethodName) prog_1_method_52_code (2 : Nat) (Option.some Jvm.ClassFile.FieldType.double)) ∈ lw_all := lw_g (lw_at lw_m10 77 rfl) rfl
theorem q2363 : (Jvm.Cond.instanceMethod ({ cls := "BusLine", name := "full", desc := "(I)F" } : Jvm.MethodName)) ∈ lw_all := lw_g (lw_at lw_m10 79 rfl) rfl
theorem q2364 : (Jvm.Cond.selects "BusLine" ({ cls := "BusLine", name := "full", desc := "(I)F" } : Jvm.MethodName) ({ cls := "BusLine", name := "full", desc := "(I)F" } : Jvm.MethodName)) ∈ lw_all := lw_g (lw_at lw_m10 80 rfl) rfl
theorem q2365 : (Jvm.Cond.code ({ cls := "BusLine", name := "full", desc := "(I)F" } : Jvm.MethodName) prog_1_method_53_code (2 : Nat) (Option.some Jvm.ClassFile.FieldType.float)) ∈ lw_all := lw_g (lw_at lw_m10 81 rfl) rfl
theorem q2366 : (Jvm.Cond.constantFloat "BusLine" (436 : Nat) (3212836864 : UInt32)) ∈ lw_all := lw_g (lw_at lw_m10 82 rfl) rfl
theorem q2368 : (Jvm.Cond.instanceMethod ({ cls := "BusLine", name := "boardLength", desc := "()I" } : Jvm.MethodName)) ∈ lw_all := lw_g (lw_at lw_m10 84 rfl) rfl
theorem q2369 : (Jvm.Cond.selects "BusLine" ({ cls := "BusLine", name := "boardLength", desc := "()I" } : Jvm.MethodName) ({ cls := "BusLine", name := "boardLength", desc := "()I" } : Jvm.MethodName)) ∈ lw_all := lw_g (lw_at lw_m10 85 rfl) rfl
theorem q2370 : (Jvm.Cond.code ({ cls := "BusLine", name := "boardLength", desc := "()I" } : Jvm.MethodName) prog_1_method_55_code (1 : Nat) (Option.some Jvm.ClassFile.FieldType.int)) ∈ lw_all := lw_g (lw_at lw_m10 86 rfl) rfl
theorem q2371 : (Jvm.Cond.methodLink "BusLine" (444 : Nat) ({ cls := "BusLine$State", name := "board", desc := "()Ljava/lang/String;" } : Jvm.MethodName)) ∈ lw_all := lw_g (lw_at lw_m10 87 rfl) rfl
theorem q2440 : (Jvm.Cond.methodLink "BusLine" (437 : Nat) ({ cls := "java/lang/String", name := "length", desc := "()I" } : Jvm.MethodName)) ∈ lw_all := lw_g (lw_at lw_m10 156 rfl) rfl
theorem q2442 : (Jvm.Cond.instanceMethod ({ cls := "BusLine", name := "boardByte", desc := "(I)I" } : Jvm.MethodName)) ∈ lw_all := lw_g (lw_at lw_m10 158 rfl) rfl
theorem q2443 : (Jvm.Cond.selects "BusLine" ({ cls := "BusLine", name := "boardByte", desc := "(I)I" } : Jvm.MethodName) ({ cls := "BusLine", name := "boardByte", desc := "(I)I" } : Jvm.MethodName)) ∈ lw_all := lw_g (lw_at lw_m10 159 rfl) rfl
theorem q2444 : (Jvm.Cond.code ({ cls := "BusLine", name := "boardByte", desc := "(I)I" } : Jvm.MethodName) prog_1_method_56_code (2 : Nat) (Option.some Jvm.ClassFile.FieldType.int)) ∈ lw_all := lw_g (lw_at lw_m10 160 rfl) rfl
theorem q2445 : (Jvm.Cond.methodLink "BusLine" (447 : Nat) ({ cls := "BusLine", name := "byteAt", desc := "(Ljava/lang/String;I)I" } : Jvm.MethodName)) ∈ lw_all := lw_g (lw_at lw_m10 161 rfl) rfl
theorem q2446 : (Jvm.Cond.static ({ cls := "BusLine", name := "byteAt", desc := "(Ljava/lang/String;I)I" } : Jvm.MethodName)) ∈ lw_all := lw_g (lw_at lw_m10 162 rfl) rfl
theorem q2447 : (Jvm.Cond.code ({ cls := "BusLine", name := "byteAt", desc := "(Ljava/lang/String;I)I" } : Jvm.MethodName) prog_1_method_54_code (2 : Nat) (Option.some Jvm.ClassFile.FieldType.int)) ∈ lw_all := lw_g (lw_at lw_m10 163 rfl) rfl
theorem q2448 : (Jvm.Cond.methodLink "BusLine" (440 : Nat) ({ cls := "java/lang/String", name := "charAt", desc := "(I)C" } : Jvm.MethodName)) ∈ lw_all := lw_g (lw_at lw_m10 164 rfl) rfl
theorem q2450 : (Jvm.Cond.instanceMethod ({ cls := "BusLine", name := "storyLength", desc := "()I" } : Jvm.MethodName)) ∈ lw_all := lw_g (lw_at lw_m10 166 rfl) rfl
theorem q2451 : (Jvm.Cond.selects "BusLine" ({ cls := "BusLine", name := "storyLength", desc := "()I" } : Jvm.MethodName) ({ cls := "BusLine", name := "storyLength", desc := "()I" } : Jvm.MethodName)) ∈ lw_all := lw_g (lw_at lw_m10 167 rfl) rfl
theorem q2452 : (Jvm.Cond.code ({ cls := "BusLine", name := "storyLength", desc := "()I" } : Jvm.MethodName) prog_1_method_57_code (1 : Nat) (Option.some Jvm.ClassFile.FieldType.int)) ∈ lw_all := lw_g (lw_at lw_m10 168 rfl) rfl
theorem q2453 : (Jvm.Cond.methodLink "BusLine" (451 : Nat) ({ cls := "BusLine$State", name := "story", desc := "()Ljava/lang/String;" } : Jvm.MethodName)) ∈ lw_all := lw_g (lw_at lw_m10 169 rfl) rfl
theorem q2466 : (Jvm.Cond.instanceMethod ({ cls := "BusLine", name := "storyByte", desc := "(I)I" } : Jvm.MethodName)) ∈ lw_all := lw_g (lw_at lw_m10 182 rfl) rfl
theorem q2467 : (Jvm.Cond.selects "BusLine" ({ cls := "BusLine", name := "storyByte", desc := "(I)I" } : Jvm.MethodName) ({ cls := "BusLine", name := "storyByte", desc := "(I)I" } : Jvm.MethodName)) ∈ lw_all := lw_g (lw_at lw_m10 183 rfl) rfl
theorem q2468 : (Jvm.Cond.code ({ cls := "BusLine", name := "storyByte", desc := "(I)I" } : Jvm.MethodName) prog_1_method_58_code (2 : Nat) (Option.some Jvm.ClassFile.FieldType.int)) ∈ lw_all := lw_g (lw_at lw_m10 184 rfl) rfl
theorem q2470 : (Jvm.Cond.instanceMethod ({ cls := "BusLine", name := "setupLength", desc := "()I" } : Jvm.MethodName)) ∈ lw_all := lw_g (lw_at lw_m10 186 rfl) rfl
theorem q2471 : (Jvm.Cond.selects "BusLine" ({ cls := "BusLine", name := "setupLength", desc := "()I" } : Jvm.MethodName) ({ cls := "BusLine", name := "setupLength", desc := "()I" } : Jvm.MethodName)) ∈ lw_all := lw_g (lw_at lw_m10 187 rfl) rfl
theorem q2472 : (Jvm.Cond.code ({ cls := "BusLine", name := "setupLength", desc := "()I" } : Jvm.MethodName) prog_1_method_59_code (1 : Nat) (Option.some Jvm.ClassFile.FieldType.int)) ∈ lw_all := lw_g (lw_at lw_m10 188 rfl) rfl
theorem q2473 : (Jvm.Cond.methodLink "BusLine" (454 : Nat) ({ cls := "BusLine$State", name := "setup", desc := "()Ljava/lang/String;" } : Jvm.MethodName)) ∈ lw_all := lw_g (lw_at lw_m10 189 rfl) rfl
theorem q2508 : (Jvm.Cond.instanceMethod ({ cls := "BusLine", name := "setupByte", desc := "(I)I" } : Jvm.MethodName)) ∈ lw_all := lw_g (lw_at lw_m10 224 rfl) rfl
theorem q2509 : (Jvm.Cond.selects "BusLine" ({ cls := "BusLine", name := "setupByte", desc := "(I)I" } : Jvm.MethodName) ({ cls := "BusLine", name := "setupByte", desc := "(I)I" } : Jvm.MethodName)) ∈ lw_all := lw_g (lw_at lw_m10 225 rfl) rfl
theorem q2510 : (Jvm.Cond.code ({ cls := "BusLine", name := "setupByte", desc := "(I)I" } : Jvm.MethodName) prog_1_method_60_code (2 : Nat) (Option.some Jvm.ClassFile.FieldType.int)) ∈ lw_all := lw_g (lw_at lw_m10 226 rfl) rfl
theorem q2512 : (Jvm.Cond.instanceMethod ({ cls := "BusLine", name := "tapeLength", desc := "()I" } : Jvm.MethodName)) ∈ lw_all := lw_g (lw_at lw_m10 228 rfl) rfl
theorem q2513 : (Jvm.Cond.selects "BusLine" ({ cls := "BusLine", name := "tapeLength", desc := "()I" } : Jvm.MethodName) ({ cls := "BusLine", name := "tapeLength", desc := "()I" } : Jvm.MethodName)) ∈ lw_all := lw_g (lw_at lw_m10 229 rfl) rfl
theorem q2514 : (Jvm.Cond.code ({ cls := "BusLine", name := "tapeLength", desc := "()I" } : Jvm.MethodName) prog_1_method_61_code (1 : Nat) (Option.some Jvm.ClassFile.FieldType.int)) ∈ lw_all := lw_g (lw_at lw_m10 230 rfl) rfl
theorem q3232 : (Jvm.Cond.castable "BusLine" "java/lang/Object") ∈ lw_tbl := lw_at lw_m13 228 rfl
theorem in_X0 : ∀ w ∈ wsX00, w ∈ lw_all := lw_in wsX00 [1240, 1242, 1244, 1246, 1248, 1250] (by decide +kernel) (by decide +kernel)

/-! BusLine$Plan -/
set_option maxRecDepth 100000
def RX1 : String := "BusLine$Plan"
def TX1 : u_T := fun k => match k with
  | 0 => ("BusLine$Plan", "open", "I", false)
  | 1 => ("BusLine$Plan", "on", "I", false)
  | 2 => ("BusLine$Plan", "down", "I", false)
  | 3 => ("BusLine$Plan", "mode", "I", false)
  | 4 => ("BusLine$Plan", "numbers", "[I", true)
  | 5 => ("BusLine$Plan", "stops", "Ljava/util/ArrayList;", true)
  | 6 => ("BusLine$Plan", "seats", "Ljava/util/ArrayList;", true)
  | 7 => ("BusLine$Plan", "starts", "Ljava/util/ArrayList;", true)
  | 8 => ("BusLine$Plan", "flows", "Ljava/util/ArrayList;", true)
  | _ => ("BusLine$Plan", "names", "Ljava/util/TreeMap;", true)
def tyX1 : Nat → FieldType := fun k => match k with
  | 0 => .int
  | 1 => .int
  | 2 => .int
  | 3 => .int
  | 4 => .array .int
  | 5 => .object "java/util/ArrayList"
  | 6 => .object "java/util/ArrayList"
  | 7 => .object "java/util/ArrayList"
  | 8 => .object "java/util/ArrayList"
  | _ => .object "java/util/TreeMap"
abbrev wsX10 : List Cond := u_ws RX1 TX1 10
theorem nmX1 : ∀ a, a < 10 → ∀ b, b < 10 → a ≠ b → (TX1 a).2.1 ≠ (TX1 b).2.1 := by decide +kernel
theorem tyX1_ok : ∀ k, k < 10 → parseFieldDescriptor (TX1 k).2.2.1 = some (tyX1 k) := by decide +kernel
abbrev cX1_first : ByteArray := prog_7_method_2_code
def yX1_first : MethodName := ⟨RX1, "first", "()LBusLine$Plan;"⟩
def dkwX1_first_2 : List UInt8 := [184, 0, 57, 182, 0, 63, 87, 42, 176]
abbrev dktX1_first_2 : List UInt8 := dkwX1_first_2 ++ []
def dkwX1_first_1 : List UInt8 := [3, 182, 0, 51, 42, 180, 0, 32, 16, 10, 184, 0, 57, 182, 0, 63, 87, 42, 180, 0, 35, 3]
abbrev dktX1_first_1 : List UInt8 := dkwX1_first_1 ++ dktX1_first_2
def dkwX1_first_0 : List UInt8 := [187, 0, 10, 89, 183, 0, 48, 75, 42, 18, 49, 16, 60, 3, 3, 182, 0, 51, 42, 18, 55, 16, 60, 3]
abbrev dktX1_first_0 : List UInt8 := dkwX1_first_0 ++ dktX1_first_1
theorem dksX1_first_0 : cX1_first.data.toList.drop 0 = dktX1_first_0 := by decide +kernel
theorem dksX1_first_1 : cX1_first.data.toList.drop 24 = dktX1_first_1 := dk_seg dksX1_first_0 24 rfl rfl
theorem dksX1_first_2 : cX1_first.data.toList.drop 46 = dktX1_first_2 := dk_seg dksX1_first_1 22 rfl rfl
theorem dX1_first_0 : decode cX1_first 0 = .ok (.new 10, 3) := dk_187 0 10 (dk_at dksX1_first_0 0 rfl rfl)
theorem dX1_first_3 : decode cX1_first 3 = .ok (.dup, 1) := dk_89 (dk_at dksX1_first_0 3 rfl rfl)
theorem dX1_first_4 : decode cX1_first 4 = .ok (.invokespecial 48, 3) := dk_183 0 48 (dk_at dksX1_first_0 4 rfl rfl)
theorem dX1_first_7 : decode cX1_first 7 = .ok (.astore_n 0, 1) := dk_75 (dk_at dksX1_first_0 7 rfl rfl)
theorem dX1_first_8 : decode cX1_first 8 = .ok (.aload_n 0, 1) := dk_42 (dk_at dksX1_first_0 8 rfl rfl)
theorem dX1_first_9 : decode cX1_first 9 = .ok (.ldc 49, 2) := dk_18 49 (dk_at dksX1_first_0 9 rfl rfl)
theorem dX1_first_11 : decode cX1_first 11 = .ok (.bipush 60, 2) := dk_16 60 (dk_at dksX1_first_0 11 rfl rfl)
theorem dX1_first_13 : decode cX1_first 13 = .ok (.iconst 0, 1) := dk_3 (dk_at dksX1_first_0 13 rfl rfl)
theorem dX1_first_14 : decode cX1_first 14 = .ok (.iconst 0, 1) := dk_3 (dk_at dksX1_first_0 14 rfl rfl)
theorem dX1_first_15 : decode cX1_first 15 = .ok (.invokevirtual 51, 3) := dk_182 0 51 (dk_at dksX1_first_0 15 rfl rfl)
theorem dX1_first_18 : decode cX1_first 18 = .ok (.aload_n 0, 1) := dk_42 (dk_at dksX1_first_0 18 rfl rfl)
theorem dX1_first_19 : decode cX1_first 19 = .ok (.ldc 55, 2) := dk_18 55 (dk_at dksX1_first_0 19 rfl rfl)
theorem dX1_first_21 : decode cX1_first 21 = .ok (.bipush 60, 2) := dk_16 60 (dk_at dksX1_first_0 21 rfl rfl)
theorem dX1_first_23 : decode cX1_first 23 = .ok (.iconst 0, 1) := dk_3 (dk_at dksX1_first_0 23 rfl rfl)
theorem dX1_first_24 : decode cX1_first 24 = .ok (.iconst 0, 1) := dk_3 (dk_at dksX1_first_1 0 rfl rfl)
theorem dX1_first_25 : decode cX1_first 25 = .ok (.invokevirtual 51, 3) := dk_182 0 51 (dk_at dksX1_first_1 1 rfl rfl)
theorem dX1_first_28 : decode cX1_first 28 = .ok (.aload_n 0, 1) := dk_42 (dk_at dksX1_first_1 4 rfl rfl)
theorem dX1_first_29 : decode cX1_first 29 = .ok (.getfield 32, 3) := dk_180 0 32 (dk_at dksX1_first_1 5 rfl rfl)
theorem dX1_first_32 : decode cX1_first 32 = .ok (.bipush 10, 2) := dk_16 10 (dk_at dksX1_first_1 8 rfl rfl)
theorem dX1_first_34 : decode cX1_first 34 = .ok (.invokestatic 57, 3) := dk_184 0 57 (dk_at dksX1_first_1 10 rfl rfl)
theorem dX1_first_37 : decode cX1_first 37 = .ok (.invokevirtual 63, 3) := dk_182 0 63 (dk_at dksX1_first_1 13 rfl rfl)
theorem dX1_first_40 : decode cX1_first 40 = .ok (.pop, 1) := dk_87 (dk_at dksX1_first_1 16 rfl rfl)
theorem dX1_first_41 : decode cX1_first 41 = .ok (.aload_n 0, 1) := dk_42 (dk_at dksX1_first_1 17 rfl rfl)
theorem dX1_first_42 : decode cX1_first 42 = .ok (.getfield 35, 3) := dk_180 0 35 (dk_at dksX1_first_1 18 rfl rfl)
theorem dX1_first_45 : decode cX1_first 45 = .ok (.iconst 0, 1) := dk_3 (dk_at dksX1_first_1 21 rfl rfl)
theorem dX1_first_46 : decode cX1_first 46 = .ok (.invokestatic 57, 3) := dk_184 0 57 (dk_at dksX1_first_2 0 rfl rfl)
theorem dX1_first_49 : decode cX1_first 49 = .ok (.invokevirtual 63, 3) := dk_182 0 63 (dk_at dksX1_first_2 3 rfl rfl)
theorem dX1_first_52 : decode cX1_first 52 = .ok (.pop, 1) := dk_87 (dk_at dksX1_first_2 6 rfl rfl)
theorem dX1_first_53 : decode cX1_first 53 = .ok (.aload_n 0, 1) := dk_42 (dk_at dksX1_first_2 7 rfl rfl)
theorem dX1_first_54 : decode cX1_first 54 = .ok (.areturn, 1) := dk_176 (dk_at dksX1_first_2 8 rfl rfl)
abbrev cX1_init : ByteArray := prog_7_method_1_code
def yX1_init : MethodName := ⟨RX1, "<init>", "()V"⟩
def dkwX1_init_4 : List UInt8 := [181, 0, 38, 42, 187, 0, 41, 89, 183, 0, 43, 181, 0, 44, 177]
abbrev dktX1_init_4 : List UInt8 := dkwX1_init_4 ++ []
def dkwX1_init_3 : List UInt8 := [181, 0, 32, 42, 187, 0, 25, 89, 183, 0, 27, 181, 0, 35, 42, 187, 0, 25, 89, 183, 0, 27]
abbrev dktX1_init_3 : List UInt8 := dkwX1_init_3 ++ dktX1_init_4
def dkwX1_init_2 : List UInt8 := [181, 0, 21, 42, 187, 0, 25, 89, 183, 0, 27, 181, 0, 28, 42, 187, 0, 25, 89, 183, 0, 27]
abbrev dktX1_init_2 : List UInt8 := dkwX1_init_2 ++ dktX1_init_3
def dkwX1_init_1 : List UInt8 := [89, 3, 17, 1, 44, 79, 89, 4, 16, 60, 79, 89, 5, 17, 3, 132, 79, 89, 6, 17, 0, 200, 79]
abbrev dktX1_init_1 : List UInt8 := dkwX1_init_1 ++ dktX1_init_2
def dkwX1_init_0 : List UInt8 := [42, 183, 0, 3, 42, 16, 10, 181, 0, 9, 42, 5, 181, 0, 15, 42, 5, 181, 0, 18, 42, 7, 188, 10]
abbrev dktX1_init_0 : List UInt8 := dkwX1_init_0 ++ dktX1_init_1
theorem dksX1_init_0 : cX1_init.data.toList.drop 0 = dktX1_init_0 := by decide +kernel
theorem dksX1_init_1 : cX1_init.data.toList.drop 24 = dktX1_init_1 := dk_seg dksX1_init_0 24 rfl rfl
theorem dksX1_init_2 : cX1_init.data.toList.drop 47 = dktX1_init_2 := dk_seg dksX1_init_1 23 rfl rfl
theorem dksX1_init_3 : cX1_init.data.toList.drop 69 = dktX1_init_3 := dk_seg dksX1_init_2 22 rfl rfl
theorem dksX1_init_4 : cX1_init.data.toList.drop 91 = dktX1_init_4 := dk_seg dksX1_init_3 22 rfl rfl
theorem dX1_init_0 : decode cX1_init 0 = .ok (.aload_n 0, 1) := dk_42 (dk_at dksX1_init_0 0 rfl rfl)
theorem dX1_init_1 : decode cX1_init 1 = .ok (.invokespecial 3, 3) := dk_183 0 3 (dk_at dksX1_init_0 1 rfl rfl)
theorem dX1_init_4 : decode cX1_init 4 = .ok (.aload_n 0, 1) := dk_42 (dk_at dksX1_init_0 4 rfl rfl)
theorem dX1_init_5 : decode cX1_init 5 = .ok (.bipush 10, 2) := dk_16 10 (dk_at dksX1_init_0 5 rfl rfl)
theorem dX1_init_7 : decode cX1_init 7 = .ok (.putfield 9, 3) := dk_181 0 9 (dk_at dksX1_init_0 7 rfl rfl)
theorem dX1_init_10 : decode cX1_init 10 = .ok (.aload_n 0, 1) := dk_42 (dk_at dksX1_init_0 10 rfl rfl)
theorem dX1_init_11 : decode cX1_init 11 = .ok (.iconst 2, 1) := dk_5 (dk_at dksX1_init_0 11 rfl rfl)
theorem dX1_init_12 : decode cX1_init 12 = .ok (.putfield 15, 3) := dk_181 0 15 (dk_at dksX1_init_0 12 rfl rfl)
theorem dX1_init_15 : decode cX1_init 15 = .ok (.aload_n 0, 1) := dk_42 (dk_at dksX1_init_0 15 rfl rfl)
theorem dX1_init_16 : decode cX1_init 16 = .ok (.iconst 2, 1) := dk_5 (dk_at dksX1_init_0 16 rfl rfl)
theorem dX1_init_17 : decode cX1_init 17 = .ok (.putfield 18, 3) := dk_181 0 18 (dk_at dksX1_init_0 17 rfl rfl)
theorem dX1_init_20 : decode cX1_init 20 = .ok (.aload_n 0, 1) := dk_42 (dk_at dksX1_init_0 20 rfl rfl)
theorem dX1_init_21 : decode cX1_init 21 = .ok (.iconst 4, 1) := dk_7 (dk_at dksX1_init_0 21 rfl rfl)
theorem dX1_init_22 : decode cX1_init 22 = .ok (.newarray .int, 2) := dk_188_10 (dk_at dksX1_init_0 22 rfl rfl)
theorem dX1_init_24 : decode cX1_init 24 = .ok (.dup, 1) := dk_89 (dk_at dksX1_init_1 0 rfl rfl)
theorem dX1_init_25 : decode cX1_init 25 = .ok (.iconst 0, 1) := dk_3 (dk_at dksX1_init_1 1 rfl rfl)
theorem dX1_init_26 : decode cX1_init 26 = .ok (.sipush 300, 3) := dk_17 1 44 (dk_at dksX1_init_1 2 rfl rfl)
theorem dX1_init_29 : decode cX1_init 29 = .ok (.iastore, 1) := dk_79 (dk_at dksX1_init_1 5 rfl rfl)
theorem dX1_init_30 : decode cX1_init 30 = .ok (.dup, 1) := dk_89 (dk_at dksX1_init_1 6 rfl rfl)
theorem dX1_init_31 : decode cX1_init 31 = .ok (.iconst 1, 1) := dk_4 (dk_at dksX1_init_1 7 rfl rfl)
theorem dX1_init_32 : decode cX1_init 32 = .ok (.bipush 60, 2) := dk_16 60 (dk_at dksX1_init_1 8 rfl rfl)
theorem dX1_init_34 : decode cX1_init 34 = .ok (.iastore, 1) := dk_79 (dk_at dksX1_init_1 10 rfl rfl)
theorem dX1_init_35 : decode cX1_init 35 = .ok (.dup, 1) := dk_89 (dk_at dksX1_init_1 11 rfl rfl)
theorem dX1_init_36 : decode cX1_init 36 = .ok (.iconst 2, 1) := dk_5 (dk_at dksX1_init_1 12 rfl rfl)
theorem dX1_init_37 : decode cX1_init 37 = .ok (.sipush 900, 3) := dk_17 3 132 (dk_at dksX1_init_1 13 rfl rfl)
theorem dX1_init_40 : decode cX1_init 40 = .ok (.iastore, 1) := dk_79 (dk_at dksX1_init_1 16 rfl rfl)
theorem dX1_init_41 : decode cX1_init 41 = .ok (.dup, 1) := dk_89 (dk_at dksX1_init_1 17 rfl rfl)
theorem dX1_init_42 : decode cX1_init 42 = .ok (.iconst 3, 1) := dk_6 (dk_at dksX1_init_1 18 rfl rfl)
theorem dX1_init_43 : decode cX1_init 43 = .ok (.sipush 200, 3) := dk_17 0 200 (dk_at dksX1_init_1 19 rfl rfl)
theorem dX1_init_46 : decode cX1_init 46 = .ok (.iastore, 1) := dk_79 (dk_at dksX1_init_1 22 rfl rfl)
theorem dX1_init_47 : decode cX1_init 47 = .ok (.putfield 21, 3) := dk_181 0 21 (dk_at dksX1_init_2 0 rfl rfl)
theorem dX1_init_50 : decode cX1_init 50 = .ok (.aload_n 0, 1) := dk_42 (dk_at dksX1_init_2 3 rfl rfl)
theorem dX1_init_51 : decode cX1_init 51 = .ok (.new 25, 3) := dk_187 0 25 (dk_at dksX1_init_2 4 rfl rfl)
theorem dX1_init_54 : decode cX1_init 54 = .ok (.dup, 1) := dk_89 (dk_at dksX1_init_2 7 rfl rfl)
theorem dX1_init_55 : decode cX1_init 55 = .ok (.invokespecial 27, 3) := dk_183 0 27 (dk_at dksX1_init_2 8 rfl rfl)
theorem dX1_init_58 : decode cX1_init 58 = .ok (.putfield 28, 3) := dk_181 0 28 (dk_at dksX1_init_2 11 rfl rfl)
theorem dX1_init_61 : decode cX1_init 61 = .ok (.aload_n 0, 1) := dk_42 (dk_at dksX1_init_2 14 rfl rfl)
theorem dX1_init_62 : decode cX1_init 62 = .ok (.new 25, 3) := dk_187 0 25 (dk_at dksX1_init_2 15 rfl rfl)
theorem dX1_init_65 : decode cX1_init 65 = .ok (.dup, 1) := dk_89 (dk_at dksX1_init_2 18 rfl rfl)
theorem dX1_init_66 : decode cX1_init 66 = .ok (.invokespecial 27, 3) := dk_183 0 27 (dk_at dksX1_init_2 19 rfl rfl)
theorem dX1_init_69 : decode cX1_init 69 = .ok (.putfield 32, 3) := dk_181 0 32 (dk_at dksX1_init_3 0 rfl rfl)
theorem dX1_init_72 : decode cX1_init 72 = .ok (.aload_n 0, 1) := dk_42 (dk_at dksX1_init_3 3 rfl rfl)
theorem dX1_init_73 : decode cX1_init 73 = .ok (.new 25, 3) := dk_187 0 25 (dk_at dksX1_init_3 4 rfl rfl)
theorem dX1_init_76 : decode cX1_init 76 = .ok (.dup, 1) := dk_89 (dk_at dksX1_init_3 7 rfl rfl)
theorem dX1_init_77 : decode cX1_init 77 = .ok (.invokespecial 27, 3) := dk_183 0 27 (dk_at dksX1_init_3 8 rfl rfl)
theorem dX1_init_80 : decode cX1_init 80 = .ok (.putfield 35, 3) := dk_181 0 35 (dk_at dksX1_init_3 11 rfl rfl)
theorem dX1_init_83 : decode cX1_init 83 = .ok (.aload_n 0, 1) := dk_42 (dk_at dksX1_init_3 14 rfl rfl)
theorem dX1_init_84 : decode cX1_init 84 = .ok (.new 25, 3) := dk_187 0 25 (dk_at dksX1_init_3 15 rfl rfl)
theorem dX1_init_87 : decode cX1_init 87 = .ok (.dup, 1) := dk_89 (dk_at dksX1_init_3 18 rfl rfl)
theorem dX1_init_88 : decode cX1_init 88 = .ok (.invokespecial 27, 3) := dk_183 0 27 (dk_at dksX1_init_3 19 rfl rfl)
theorem dX1_init_91 : decode cX1_init 91 = .ok (.putfield 38, 3) := dk_181 0 38 (dk_at dksX1_init_4 0 rfl rfl)
theorem dX1_init_94 : decode cX1_init 94 = .ok (.aload_n 0, 1) := dk_42 (dk_at dksX1_init_4 3 rfl rfl)
theorem dX1_init_95 : decode cX1_init 95 = .ok (.new 41, 3) := dk_187 0 41 (dk_at dksX1_init_4 4 rfl rfl)
theorem dX1_init_98 : decode cX1_init 98 = .ok (.dup, 1) := dk_89 (dk_at dksX1_init_4 7 rfl rfl)
theorem dX1_init_99 : decode cX1_init 99 = .ok (.invokespecial 43, 3) := dk_183 0 43 (dk_at dksX1_init_4 8 rfl rfl)
theorem dX1_init_102 : decode cX1_init 102 = .ok (.putfield 44, 3) := dk_181 0 44 (dk_at dksX1_init_4 11 rfl rfl)
theorem dX1_init_105 : decode cX1_init 105 = .ok (.return_, 1) := dk_177 (dk_at dksX1_init_4 14 rfl rfl)
abbrev cX1_add : ByteArray := prog_7_method_3_code
def yX1_add : MethodName := ⟨RX1, "add", "(Ljava/lang/String;IIZ)V"⟩
def dkwX1_add_1 : List UInt8 := [187, 0, 74, 89, 43, 42, 180, 0, 28, 182, 0, 66, 28, 29, 21, 4, 183, 0, 76, 182, 0, 63, 87, 177]
abbrev dktX1_add_1 : List UInt8 := dkwX1_add_1 ++ []
def dkwX1_add_0 : List UInt8 := [42, 180, 0, 44, 43, 42, 180, 0, 28, 182, 0, 66, 184, 0, 57, 182, 0, 70, 87, 42, 180, 0, 28]
abbrev dktX1_add_0 : List UInt8 := dkwX1_add_0 ++ dktX1_add_1
theorem dksX1_add_0 : cX1_add.data.toList.drop 0 = dktX1_add_0 := by decide +kernel
theorem dksX1_add_1 : cX1_add.data.toList.drop 23 = dktX1_add_1 := dk_seg dksX1_add_0 23 rfl rfl
theorem dX1_add_0 : decode cX1_add 0 = .ok (.aload_n 0, 1) := dk_42 (dk_at dksX1_add_0 0 rfl rfl)
theorem dX1_add_1 : decode cX1_add 1 = .ok (.getfield 44, 3) := dk_180 0 44 (dk_at dksX1_add_0 1 rfl rfl)
theorem dX1_add_4 : decode cX1_add 4 = .ok (.aload_n 1, 1) := dk_43 (dk_at dksX1_add_0 4 rfl rfl)
theorem dX1_add_5 : decode cX1_add 5 = .ok (.aload_n 0, 1) := dk_42 (dk_at dksX1_add_0 5 rfl rfl)
theorem dX1_add_6 : decode cX1_add 6 = .ok (.getfield 28, 3) := dk_180 0 28 (dk_at dksX1_add_0 6 rfl rfl)
theorem dX1_add_9 : decode cX1_add 9 = .ok (.invokevirtual 66, 3) := dk_182 0 66 (dk_at dksX1_add_0 9 rfl rfl)
theorem dX1_add_12 : decode cX1_add 12 = .ok (.invokestatic 57, 3) := dk_184 0 57 (dk_at dksX1_add_0 12 rfl rfl)
theorem dX1_add_15 : decode cX1_add 15 = .ok (.invokevirtual 70, 3) := dk_182 0 70 (dk_at dksX1_add_0 15 rfl rfl)
theorem dX1_add_18 : decode cX1_add 18 = .ok (.pop, 1) := dk_87 (dk_at dksX1_add_0 18 rfl rfl)
theorem dX1_add_19 : decode cX1_add 19 = .ok (.aload_n 0, 1) := dk_42 (dk_at dksX1_add_0 19 rfl rfl)
theorem dX1_add_20 : decode cX1_add 20 = .ok (.getfield 28, 3) := dk_180 0 28 (dk_at dksX1_add_0 20 rfl rfl)
theorem dX1_add_23 : decode cX1_add 23 = .ok (.new 74, 3) := dk_187 0 74 (dk_at dksX1_add_1 0 rfl rfl)
theorem dX1_add_26 : decode cX1_add 26 = .ok (.dup, 1) := dk_89 (dk_at dksX1_add_1 3 rfl rfl)
theorem dX1_add_27 : decode cX1_add 27 = .ok (.aload_n 1, 1) := dk_43 (dk_at dksX1_add_1 4 rfl rfl)
theorem dX1_add_28 : decode cX1_add 28 = .ok (.aload_n 0, 1) := dk_42 (dk_at dksX1_add_1 5 rfl rfl)
theorem dX1_add_29 : decode cX1_add 29 = .ok (.getfield 28, 3) := dk_180 0 28 (dk_at dksX1_add_1 6 rfl rfl)
theorem dX1_add_32 : decode cX1_add 32 = .ok (.invokevirtual 66, 3) := dk_182 0 66 (dk_at dksX1_add_1 9 rfl rfl)
theorem dX1_add_35 : decode cX1_add 35 = .ok (.iload_n 2, 1) := dk_28 (dk_at dksX1_add_1 12 rfl rfl)
theorem dX1_add_36 : decode cX1_add 36 = .ok (.iload_n 3, 1) := dk_29 (dk_at dksX1_add_1 13 rfl rfl)
theorem dX1_add_37 : decode cX1_add 37 = .ok (.iload 4, 2) := dk_21 4 (dk_at dksX1_add_1 14 rfl rfl)
theorem dX1_add_39 : decode cX1_add 39 = .ok (.invokespecial 76, 3) := dk_183 0 76 (dk_at dksX1_add_1 16 rfl rfl)
theorem dX1_add_42 : decode cX1_add 42 = .ok (.invokevirtual 63, 3) := dk_182 0 63 (dk_at dksX1_add_1 19 rfl rfl)
theorem dX1_add_45 : decode cX1_add 45 = .ok (.pop, 1) := dk_87 (dk_at dksX1_add_1 22 rfl rfl)
theorem dX1_add_46 : decode cX1_add 46 = .ok (.return_, 1) := dk_177 (dk_at dksX1_add_1 23 rfl rfl)
abbrev cX1_named : ByteArray := prog_7_method_5_code
def yX1_named : MethodName := ⟨RX1, "named", "(Ljava/lang/String;)I"⟩
def dkwX1_named_1 : List UInt8 := [182, 0, 89, 172]
abbrev dktX1_named_1 : List UInt8 := dkwX1_named_1 ++ []
def dkwX1_named_0 : List UInt8 := [42, 180, 0, 44, 43, 182, 0, 85, 192, 0, 58, 77, 44, 199, 0, 8, 16, 254, 167, 0, 7, 44]
abbrev dktX1_named_0 : List UInt8 := dkwX1_named_0 ++ dktX1_named_1
theorem dksX1_named_0 : cX1_named.data.toList.drop 0 = dktX1_named_0 := by decide +kernel
theorem dksX1_named_1 : cX1_named.data.toList.drop 22 = dktX1_named_1 := dk_seg dksX1_named_0 22 rfl rfl
theorem dX1_named_0 : decode cX1_named 0 = .ok (.aload_n 0, 1) := dk_42 (dk_at dksX1_named_0 0 rfl rfl)
theorem dX1_named_1 : decode cX1_named 1 = .ok (.getfield 44, 3) := dk_180 0 44 (dk_at dksX1_named_0 1 rfl rfl)
theorem dX1_named_4 : decode cX1_named 4 = .ok (.aload_n 1, 1) := dk_43 (dk_at dksX1_named_0 4 rfl rfl)
theorem dX1_named_5 : decode cX1_named 5 = .ok (.invokevirtual 85, 3) := dk_182 0 85 (dk_at dksX1_named_0 5 rfl rfl)
theorem dX1_named_8 : decode cX1_named 8 = .ok (.checkcast 58, 3) := dk_192 0 58 (dk_at dksX1_named_0 8 rfl rfl)
theorem dX1_named_11 : decode cX1_named 11 = .ok (.astore_n 2, 1) := dk_77 (dk_at dksX1_named_0 11 rfl rfl)
theorem dX1_named_12 : decode cX1_named 12 = .ok (.aload_n 2, 1) := dk_44 (dk_at dksX1_named_0 12 rfl rfl)
theorem dX1_named_13 : decode cX1_named 13 = .ok (.ifnonnull 8, 3) := dk_199 0 8 (dk_at dksX1_named_0 13 rfl rfl)
theorem dX1_named_16 : decode cX1_named 16 = .ok (.bipush (-2), 2) := dk_16 254 (dk_at dksX1_named_0 16 rfl rfl)
theorem dX1_named_18 : decode cX1_named 18 = .ok (.goto 7, 3) := dk_167 0 7 (dk_at dksX1_named_0 18 rfl rfl)
theorem dX1_named_21 : decode cX1_named 21 = .ok (.aload_n 2, 1) := dk_44 (dk_at dksX1_named_0 21 rfl rfl)
theorem dX1_named_22 : decode cX1_named 22 = .ok (.invokevirtual 89, 3) := dk_182 0 89 (dk_at dksX1_named_1 0 rfl rfl)
theorem dX1_named_25 : decode cX1_named 25 = .ok (.ireturn, 1) := dk_172 (dk_at dksX1_named_1 3 rfl rfl)
abbrev cX1_add_2 : ByteArray := prog_7_method_4_code
def yX1_add_2 : MethodName := ⟨RX1, "add", "(LBusLine$Stop;III)V"⟩
def dkwX1_add_2_1 : List UInt8 := [180, 0, 84, 25, 5, 182, 0, 63, 87, 42, 180, 0, 38, 25, 5, 182, 0, 63, 87, 177]
abbrev dktX1_add_2_1 : List UInt8 := dkwX1_add_2_1 ++ []
def dkwX1_add_2_0 : List UInt8 := [187, 0, 79, 89, 42, 180, 0, 38, 182, 0, 66, 43, 28, 29, 21, 4, 183, 0, 81, 58, 5, 43]
abbrev dktX1_add_2_0 : List UInt8 := dkwX1_add_2_0 ++ dktX1_add_2_1
theorem dksX1_add_2_0 : cX1_add_2.data.toList.drop 0 = dktX1_add_2_0 := by decide +kernel
theorem dksX1_add_2_1 : cX1_add_2.data.toList.drop 22 = dktX1_add_2_1 := dk_seg dksX1_add_2_0 22 rfl rfl
theorem dX1_add_2_0 : decode cX1_add_2 0 = .ok (.new 79, 3) := dk_187 0 79 (dk_at dksX1_add_2_0 0 rfl rfl)
theorem dX1_add_2_3 : decode cX1_add_2 3 = .ok (.dup, 1) := dk_89 (dk_at dksX1_add_2_0 3 rfl rfl)
theorem dX1_add_2_4 : decode cX1_add_2 4 = .ok (.aload_n 0, 1) := dk_42 (dk_at dksX1_add_2_0 4 rfl rfl)
theorem dX1_add_2_5 : decode cX1_add_2 5 = .ok (.getfield 38, 3) := dk_180 0 38 (dk_at dksX1_add_2_0 5 rfl rfl)
theorem dX1_add_2_8 : decode cX1_add_2 8 = .ok (.invokevirtual 66, 3) := dk_182 0 66 (dk_at dksX1_add_2_0 8 rfl rfl)
theorem dX1_add_2_11 : decode cX1_add_2 11 = .ok (.aload_n 1, 1) := dk_43 (dk_at dksX1_add_2_0 11 rfl rfl)
theorem dX1_add_2_12 : decode cX1_add_2 12 = .ok (.iload_n 2, 1) := dk_28 (dk_at dksX1_add_2_0 12 rfl rfl)
theorem dX1_add_2_13 : decode cX1_add_2 13 = .ok (.iload_n 3, 1) := dk_29 (dk_at dksX1_add_2_0 13 rfl rfl)
theorem dX1_add_2_14 : decode cX1_add_2 14 = .ok (.iload 4, 2) := dk_21 4 (dk_at dksX1_add_2_0 14 rfl rfl)
theorem dX1_add_2_16 : decode cX1_add_2 16 = .ok (.invokespecial 81, 3) := dk_183 0 81 (dk_at dksX1_add_2_0 16 rfl rfl)
theorem dX1_add_2_19 : decode cX1_add_2 19 = .ok (.astore 5, 2) := dk_58 5 (dk_at dksX1_add_2_0 19 rfl rfl)
theorem dX1_add_2_21 : decode cX1_add_2 21 = .ok (.aload_n 1, 1) := dk_43 (dk_at dksX1_add_2_0 21 rfl rfl)
theorem dX1_add_2_22 : decode cX1_add_2 22 = .ok (.getfield 84, 3) := dk_180 0 84 (dk_at dksX1_add_2_1 0 rfl rfl)
theorem dX1_add_2_25 : decode cX1_add_2 25 = .ok (.aload 5, 2) := dk_25 5 (dk_at dksX1_add_2_1 3 rfl rfl)
theorem dX1_add_2_27 : decode cX1_add_2 27 = .ok (.invokevirtual 63, 3) := dk_182 0 63 (dk_at dksX1_add_2_1 5 rfl rfl)
theorem dX1_add_2_30 : decode cX1_add_2 30 = .ok (.pop, 1) := dk_87 (dk_at dksX1_add_2_1 8 rfl rfl)
theorem dX1_add_2_31 : decode cX1_add_2 31 = .ok (.aload_n 0, 1) := dk_42 (dk_at dksX1_add_2_1 9 rfl rfl)
theorem dX1_add_2_32 : decode cX1_add_2 32 = .ok (.getfield 38, 3) := dk_180 0 38 (dk_at dksX1_add_2_1 10 rfl rfl)
theorem dX1_add_2_35 : decode cX1_add_2 35 = .ok (.aload 5, 2) := dk_25 5 (dk_at dksX1_add_2_1 13 rfl rfl)
theorem dX1_add_2_37 : decode cX1_add_2 37 = .ok (.invokevirtual 63, 3) := dk_182 0 63 (dk_at dksX1_add_2_1 15 rfl rfl)
theorem dX1_add_2_40 : decode cX1_add_2 40 = .ok (.pop, 1) := dk_87 (dk_at dksX1_add_2_1 18 rfl rfl)
theorem dX1_add_2_41 : decode cX1_add_2 41 = .ok (.return_, 1) := dk_177 (dk_at dksX1_add_2_1 19 rfl rfl)
abbrev cX1_around : ByteArray := prog_7_method_8_code
def yX1_around : MethodName := ⟨RX1, "around", "()I"⟩
def dkwX1_around_1 : List UInt8 := [192, 0, 74, 180, 0, 95, 96, 60, 132, 2, 1, 167, 255, 225, 27, 172]
abbrev dktX1_around_1 : List UInt8 := dkwX1_around_1 ++ []
def dkwX1_around_0 : List UInt8 := [3, 60, 3, 61, 28, 42, 180, 0, 28, 182, 0, 66, 162, 0, 26, 27, 42, 180, 0, 28, 28, 182, 0, 92]
abbrev dktX1_around_0 : List UInt8 := dkwX1_around_0 ++ dktX1_around_1
theorem dksX1_around_0 : cX1_around.data.toList.drop 0 = dktX1_around_0 := by decide +kernel
theorem dksX1_around_1 : cX1_around.data.toList.drop 24 = dktX1_around_1 := dk_seg dksX1_around_0 24 rfl rfl
theorem dX1_around_0 : decode cX1_around 0 = .ok (.iconst 0, 1) := dk_3 (dk_at dksX1_around_0 0 rfl rfl)
theorem dX1_around_1 : decode cX1_around 1 = .ok (.istore_n 1, 1) := dk_60 (dk_at dksX1_around_0 1 rfl rfl)
theorem dX1_around_2 : decode cX1_around 2 = .ok (.iconst 0, 1) := dk_3 (dk_at dksX1_around_0 2 rfl rfl)
theorem dX1_around_3 : decode cX1_around 3 = .ok (.istore_n 2, 1) := dk_61 (dk_at dksX1_around_0 3 rfl rfl)
theorem dX1_around_4 : decode cX1_around 4 = .ok (.iload_n 2, 1) := dk_28 (dk_at dksX1_around_0 4 rfl rfl)
theorem dX1_around_5 : decode cX1_around 5 = .ok (.aload_n 0, 1) := dk_42 (dk_at dksX1_around_0 5 rfl rfl)
theorem dX1_around_6 : decode cX1_around 6 = .ok (.getfield 28, 3) := dk_180 0 28 (dk_at dksX1_around_0 6 rfl rfl)
theorem dX1_around_9 : decode cX1_around 9 = .ok (.invokevirtual 66, 3) := dk_182 0 66 (dk_at dksX1_around_0 9 rfl rfl)
theorem dX1_around_12 : decode cX1_around 12 = .ok (.if_icmp .ge 26, 3) := dk_162 0 26 (dk_at dksX1_around_0 12 rfl rfl)
theorem dX1_around_15 : decode cX1_around 15 = .ok (.iload_n 1, 1) := dk_27 (dk_at dksX1_around_0 15 rfl rfl)
theorem dX1_around_16 : decode cX1_around 16 = .ok (.aload_n 0, 1) := dk_42 (dk_at dksX1_around_0 16 rfl rfl)
theorem dX1_around_17 : decode cX1_around 17 = .ok (.getfield 28, 3) := dk_180 0 28 (dk_at dksX1_around_0 17 rfl rfl)
theorem dX1_around_20 : decode cX1_around 20 = .ok (.iload_n 2, 1) := dk_28 (dk_at dksX1_around_0 20 rfl rfl)
theorem dX1_around_21 : decode cX1_around 21 = .ok (.invokevirtual 92, 3) := dk_182 0 92 (dk_at dksX1_around_0 21 rfl rfl)
theorem dX1_around_24 : decode cX1_around 24 = .ok (.checkcast 74, 3) := dk_192 0 74 (dk_at dksX1_around_1 0 rfl rfl)
theorem dX1_around_27 : decode cX1_around 27 = .ok (.getfield 95, 3) := dk_180 0 95 (dk_at dksX1_around_1 3 rfl rfl)
theorem dX1_around_30 : decode cX1_around 30 = .ok (.iadd, 1) := dk_96 (dk_at dksX1_around_1 6 rfl rfl)
theorem dX1_around_31 : decode cX1_around 31 = .ok (.istore_n 1, 1) := dk_60 (dk_at dksX1_around_1 7 rfl rfl)
theorem dX1_around_32 : decode cX1_around 32 = .ok (.iinc 2 1, 3) := dk_132 2 1 (dk_at dksX1_around_1 8 rfl rfl)
theorem dX1_around_35 : decode cX1_around 35 = .ok (.goto (-31), 3) := dk_167 255 225 (dk_at dksX1_around_1 11 rfl rfl)
theorem dX1_around_38 : decode cX1_around 38 = .ok (.iload_n 1, 1) := dk_27 (dk_at dksX1_around_1 14 rfl rfl)
theorem dX1_around_39 : decode cX1_around 39 = .ok (.ireturn, 1) := dk_172 (dk_at dksX1_around_1 15 rfl rfl)
abbrev cX1_way : ByteArray := prog_7_method_7_code
def yX1_way : MethodName := ⟨RX1, "way", "(II)I"⟩
def dkwX1_way_1 : List UInt8 := [180, 0, 95, 96, 62, 42, 21, 4, 182, 0, 98, 54, 4, 167, 255, 224, 29, 172]
abbrev dktX1_way_1 : List UInt8 := dkwX1_way_1 ++ []
def dkwX1_way_0 : List UInt8 := [3, 62, 27, 54, 4, 21, 4, 28, 159, 0, 32, 29, 42, 180, 0, 28, 21, 4, 182, 0, 92, 192, 0, 74]
abbrev dktX1_way_0 : List UInt8 := dkwX1_way_0 ++ dktX1_way_1
theorem dksX1_way_0 : cX1_way.data.toList.drop 0 = dktX1_way_0 := by decide +kernel
theorem dksX1_way_1 : cX1_way.data.toList.drop 24 = dktX1_way_1 := dk_seg dksX1_way_0 24 rfl rfl
theorem dX1_way_0 : decode cX1_way 0 = .ok (.iconst 0, 1) := dk_3 (dk_at dksX1_way_0 0 rfl rfl)
theorem dX1_way_1 : decode cX1_way 1 = .ok (.istore_n 3, 1) := dk_62 (dk_at dksX1_way_0 1 rfl rfl)
theorem dX1_way_2 : decode cX1_way 2 = .ok (.iload_n 1, 1) := dk_27 (dk_at dksX1_way_0 2 rfl rfl)
theorem dX1_way_3 : decode cX1_way 3 = .ok (.istore 4, 2) := dk_54 4 (dk_at dksX1_way_0 3 rfl rfl)
theorem dX1_way_5 : decode cX1_way 5 = .ok (.iload 4, 2) := dk_21 4 (dk_at dksX1_way_0 5 rfl rfl)
theorem dX1_way_7 : decode cX1_way 7 = .ok (.iload_n 2, 1) := dk_28 (dk_at dksX1_way_0 7 rfl rfl)
theorem dX1_way_8 : decode cX1_way 8 = .ok (.if_icmp .eq 32, 3) := dk_159 0 32 (dk_at dksX1_way_0 8 rfl rfl)
theorem dX1_way_11 : decode cX1_way 11 = .ok (.iload_n 3, 1) := dk_29 (dk_at dksX1_way_0 11 rfl rfl)
theorem dX1_way_12 : decode cX1_way 12 = .ok (.aload_n 0, 1) := dk_42 (dk_at dksX1_way_0 12 rfl rfl)
theorem dX1_way_13 : decode cX1_way 13 = .ok (.getfield 28, 3) := dk_180 0 28 (dk_at dksX1_way_0 13 rfl rfl)
theorem dX1_way_16 : decode cX1_way 16 = .ok (.iload 4, 2) := dk_21 4 (dk_at dksX1_way_0 16 rfl rfl)
theorem dX1_way_18 : decode cX1_way 18 = .ok (.invokevirtual 92, 3) := dk_182 0 92 (dk_at dksX1_way_0 18 rfl rfl)
theorem dX1_way_21 : decode cX1_way 21 = .ok (.checkcast 74, 3) := dk_192 0 74 (dk_at dksX1_way_0 21 rfl rfl)
theorem dX1_way_24 : decode cX1_way 24 = .ok (.getfield 95, 3) := dk_180 0 95 (dk_at dksX1_way_1 0 rfl rfl)
theorem dX1_way_27 : decode cX1_way 27 = .ok (.iadd, 1) := dk_96 (dk_at dksX1_way_1 3 rfl rfl)
theorem dX1_way_28 : decode cX1_way 28 = .ok (.istore_n 3, 1) := dk_62 (dk_at dksX1_way_1 4 rfl rfl)
theorem dX1_way_29 : decode cX1_way 29 = .ok (.aload_n 0, 1) := dk_42 (dk_at dksX1_way_1 5 rfl rfl)
theorem dX1_way_30 : decode cX1_way 30 = .ok (.iload 4, 2) := dk_21 4 (dk_at dksX1_way_1 6 rfl rfl)
theorem dX1_way_32 : decode cX1_way 32 = .ok (.invokevirtual 98, 3) := dk_182 0 98 (dk_at dksX1_way_1 8 rfl rfl)
theorem dX1_way_35 : decode cX1_way 35 = .ok (.istore 4, 2) := dk_54 4 (dk_at dksX1_way_1 11 rfl rfl)
theorem dX1_way_37 : decode cX1_way 37 = .ok (.goto (-32), 3) := dk_167 255 224 (dk_at dksX1_way_1 13 rfl rfl)
theorem dX1_way_40 : decode cX1_way 40 = .ok (.iload_n 3, 1) := dk_29 (dk_at dksX1_way_1 16 rfl rfl)
theorem dX1_way_41 : decode cX1_way 41 = .ok (.ireturn, 1) := dk_172 (dk_at dksX1_way_1 17 rfl rfl)
abbrev cX1_next : ByteArray := prog_7_method_6_code
def yX1_next : MethodName := ⟨RX1, "next", "(I)I"⟩
def dkwX1_next_0 : List UInt8 := [27, 4, 96, 42, 180, 0, 28, 182, 0, 66, 112, 172]
abbrev dktX1_next_0 : List UInt8 := dkwX1_next_0 ++ []
theorem dksX1_next_0 : cX1_next.data.toList.drop 0 = dktX1_next_0 := by decide +kernel
theorem dX1_next_0 : decode cX1_next 0 = .ok (.iload_n 1, 1) := dk_27 (dk_at dksX1_next_0 0 rfl rfl)
theorem dX1_next_1 : decode cX1_next 1 = .ok (.iconst 1, 1) := dk_4 (dk_at dksX1_next_0 1 rfl rfl)
theorem dX1_next_2 : decode cX1_next 2 = .ok (.iadd, 1) := dk_96 (dk_at dksX1_next_0 2 rfl rfl)
theorem dX1_next_3 : decode cX1_next 3 = .ok (.aload_n 0, 1) := dk_42 (dk_at dksX1_next_0 3 rfl rfl)
theorem dX1_next_4 : decode cX1_next 4 = .ok (.getfield 28, 3) := dk_180 0 28 (dk_at dksX1_next_0 4 rfl rfl)
theorem dX1_next_7 : decode cX1_next 7 = .ok (.invokevirtual 66, 3) := dk_182 0 66 (dk_at dksX1_next_0 7 rfl rfl)
theorem dX1_next_10 : decode cX1_next 10 = .ok (.irem, 1) := dk_112 (dk_at dksX1_next_0 10 rfl rfl)
theorem dX1_next_11 : decode cX1_next 11 = .ok (.ireturn, 1) := dk_172 (dk_at dksX1_next_0 11 rfl rfl)
theorem q126 : (Jvm.Cond.initialized "BusLine$Plan") ∈ lw_all := lw_g (lw_at lw_m1 2 rfl) rfl
theorem q183 : (Jvm.Cond.static ({ cls := "BusLine$Plan", name := "first", desc := "()LBusLine$Plan;" } : Jvm.MethodName)) ∈ lw_all := lw_g (lw_at lw_m1 59 rfl) rfl
theorem q184 : (Jvm.Cond.code ({ cls := "BusLine$Plan", name := "first", desc := "()LBusLine$Plan;" } : Jvm.MethodName) prog_7_method_2_code (1 : Nat) (Option.some (Jvm.ClassFile.FieldType.object "BusLine$Plan"))) ∈ lw_all := lw_g (lw_at lw_m1 60 rfl) rfl
theorem q185 : (Jvm.Cond.classLink "BusLine$Plan" (10 : Nat) "BusLine$Plan") ∈ lw_all := lw_g (lw_at lw_m1 61 rfl) rfl
theorem q186 : (Jvm.Cond.instantiable "BusLine$Plan" (10 : Nat)) ∈ lw_all := lw_g (lw_at lw_m1 62 rfl) rfl
theorem q187 : (Jvm.Cond.methodLink "BusLine$Plan" (48 : Nat) ({ cls := "BusLine$Plan", name := "<init>", desc := "()V" } : Jvm.MethodName)) ∈ lw_all := lw_g (lw_at lw_m1 63 rfl) rfl
theorem q188 : (Jvm.Cond.instanceMethod ({ cls := "BusLine$Plan", name := "<init>", desc := "()V" } : Jvm.MethodName)) ∈ lw_all := lw_g (lw_at lw_m1 64 rfl) rfl
theorem q189 : (Jvm.Cond.code ({ cls := "BusLine$Plan", name := "<init>", desc := "()V" } : Jvm.MethodName) prog_7_method_1_code (1 : Nat) (Option.none : Option Jvm.ClassFile.FieldType)) ∈ lw_all := lw_g (lw_at lw_m1 65 rfl) rfl
theorem q190 : (Jvm.Cond.methodLink "BusLine$Plan" (3 : Nat) ({ cls := "java/lang/Object", name := "<init>", desc := "()V" } : Jvm.MethodName)) ∈ lw_all := lw_g (lw_at lw_m1 66 rfl) rfl
theorem q191 : (Jvm.Cond.classLink "BusLine$Plan" (25 : Nat) "java/util/ArrayList") ∈ lw_all := lw_g (lw_at lw_m1 67 rfl) rfl
theorem q193 : (Jvm.Cond.methodLink "BusLine$Plan" (27 : Nat) ({ cls := "java/util/ArrayList", name := "<init>", desc := "()V" } : Jvm.MethodName)) ∈ lw_all := lw_g (lw_at lw_m1 69 rfl) rfl
theorem q219 : (Jvm.Cond.classLink "BusLine$Plan" (41 : Nat) "java/util/TreeMap") ∈ lw_all := lw_g (lw_at lw_m1 95 rfl) rfl
theorem q221 : (Jvm.Cond.methodLink "BusLine$Plan" (43 : Nat) ({ cls := "java/util/TreeMap", name := "<init>", desc := "()V" } : Jvm.MethodName)) ∈ lw_all := lw_g (lw_at lw_m1 97 rfl) rfl
theorem q251 : (Jvm.Cond.fieldLink "BusLine$Plan" (9 : Nat) "BusLine$Plan" "open" "I") ∈ lw_all := lw_g (lw_at lw_m1 127 rfl) rfl
theorem q255 : (Jvm.Cond.fieldLink "BusLine$Plan" (15 : Nat) "BusLine$Plan" "on" "I") ∈ lw_all := lw_g (lw_at lw_m1 131 rfl) rfl
theorem q259 : (Jvm.Cond.fieldLink "BusLine$Plan" (18 : Nat) "BusLine$Plan" "down" "I") ∈ lw_all := lw_g (lw_at lw_m1 135 rfl) rfl
theorem q265 : (Jvm.Cond.fieldLink "BusLine$Plan" (21 : Nat) "BusLine$Plan" "numbers" "[I") ∈ lw_all := lw_g (lw_at lw_m1 141 rfl) rfl
theorem q268 : (Jvm.Cond.fieldLink "BusLine$Plan" (28 : Nat) "BusLine$Plan" "stops" "Ljava/util/ArrayList;") ∈ lw_all := lw_g (lw_at lw_m1 144 rfl) rfl
theorem q271 : (Jvm.Cond.fieldLink "BusLine$Plan" (32 : Nat) "BusLine$Plan" "seats" "Ljava/util/ArrayList;") ∈ lw_all := lw_g (lw_at lw_m1 147 rfl) rfl
theorem q274 : (Jvm.Cond.fieldLink "BusLine$Plan" (35 : Nat) "BusLine$Plan" "starts" "Ljava/util/ArrayList;") ∈ lw_all := lw_g (lw_at lw_m1 150 rfl) rfl
theorem q277 : (Jvm.Cond.fieldLink "BusLine$Plan" (38 : Nat) "BusLine$Plan" "flows" "Ljava/util/ArrayList;") ∈ lw_all := lw_g (lw_at lw_m1 153 rfl) rfl
theorem q281 : (Jvm.Cond.fieldLink "BusLine$Plan" (44 : Nat) "BusLine$Plan" "names" "Ljava/util/TreeMap;") ∈ lw_all := lw_g (lw_at lw_m1 157 rfl) rfl
theorem q282 : (Jvm.Cond.lays "BusLine$Plan" "BusLine$Plan" "open" "I") ∈ lw_all := lw_g (lw_at lw_m1 158 rfl) rfl
theorem q283 : (Jvm.Cond.soleField "BusLine$Plan" "open") ∈ lw_all := lw_g (lw_at lw_m1 159 rfl) rfl
theorem q284 : (Jvm.Cond.lays "BusLine$Plan" "BusLine$Plan" "on" "I") ∈ lw_all := lw_g (lw_at lw_m1 160 rfl) rfl
theorem q285 : (Jvm.Cond.soleField "BusLine$Plan" "on") ∈ lw_all := lw_g (lw_at lw_m1 161 rfl) rfl
theorem q286 : (Jvm.Cond.lays "BusLine$Plan" "BusLine$Plan" "down" "I") ∈ lw_all := lw_g (lw_at lw_m1 162 rfl) rfl
theorem q287 : (Jvm.Cond.soleField "BusLine$Plan" "down") ∈ lw_all := lw_g (lw_at lw_m1 163 rfl) rfl
theorem q288 : (Jvm.Cond.lays "BusLine$Plan" "BusLine$Plan" "mode" "I") ∈ lw_all := lw_g (lw_at lw_m1 164 rfl) rfl
theorem q289 : (Jvm.Cond.soleField "BusLine$Plan" "mode") ∈ lw_all := lw_g (lw_at lw_m1 165 rfl) rfl
theorem q290 : (Jvm.Cond.laysFinal "BusLine$Plan" "BusLine$Plan" "numbers" "[I") ∈ lw_all := lw_g (lw_at lw_m1 166 rfl) rfl
theorem q291 : (Jvm.Cond.soleField "BusLine$Plan" "numbers") ∈ lw_all := lw_g (lw_at lw_m1 167 rfl) rfl
theorem q292 : (Jvm.Cond.laysFinal "BusLine$Plan" "BusLine$Plan" "stops" "Ljava/util/ArrayList;") ∈ lw_all := lw_g (lw_at lw_m1 168 rfl) rfl
theorem q293 : (Jvm.Cond.soleField "BusLine$Plan" "stops") ∈ lw_all := lw_g (lw_at lw_m1 169 rfl) rfl
theorem q294 : (Jvm.Cond.laysFinal "BusLine$Plan" "BusLine$Plan" "seats" "Ljava/util/ArrayList;") ∈ lw_all := lw_g (lw_at lw_m1 170 rfl) rfl
theorem q295 : (Jvm.Cond.soleField "BusLine$Plan" "seats") ∈ lw_all := lw_g (lw_at lw_m1 171 rfl) rfl
theorem q296 : (Jvm.Cond.laysFinal "BusLine$Plan" "BusLine$Plan" "starts" "Ljava/util/ArrayList;") ∈ lw_all := lw_g (lw_at lw_m1 172 rfl) rfl
theorem q297 : (Jvm.Cond.soleField "BusLine$Plan" "starts") ∈ lw_all := lw_g (lw_at lw_m1 173 rfl) rfl
theorem q298 : (Jvm.Cond.laysFinal "BusLine$Plan" "BusLine$Plan" "flows" "Ljava/util/ArrayList;") ∈ lw_all := lw_g (lw_at lw_m1 174 rfl) rfl
theorem q299 : (Jvm.Cond.soleField "BusLine$Plan" "flows") ∈ lw_all := lw_g (lw_at lw_m1 175 rfl) rfl
theorem q300 : (Jvm.Cond.laysFinal "BusLine$Plan" "BusLine$Plan" "names" "Ljava/util/TreeMap;") ∈ lw_all := lw_g (lw_at lw_m1 176 rfl) rfl
theorem q301 : (Jvm.Cond.soleField "BusLine$Plan" "names") ∈ lw_all := lw_g (lw_at lw_m1 177 rfl) rfl
theorem q302 : (Jvm.Cond.superclass "BusLine$Plan" "java/lang/Object") ∈ lw_all := lw_g (lw_at lw_m1 178 rfl) rfl
theorem q303 : (Jvm.Cond.stringRef "BusLine$Plan" (49 : Nat) "a") ∈ lw_tbl := lw_at lw_m1 179 rfl
theorem q304 : (Jvm.Cond.methodLink "BusLine$Plan" (51 : Nat) ({ cls := "BusLine$Plan", name := "add", desc := "(Ljava/lang/String;IIZ)V" } : Jvm.MethodName)) ∈ lw_all := lw_g (lw_at lw_m1 180 rfl) rfl
theorem q305 : (Jvm.Cond.instanceMethod ({ cls := "BusLine$Plan", name := "add", desc := "(Ljava/lang/String;IIZ)V" } : Jvm.MethodName)) ∈ lw_all := lw_g (lw_at lw_m1 181 rfl) rfl
theorem q306 : (Jvm.Cond.selects "BusLine$Plan" ({ cls := "BusLine$Plan", name := "add", desc := "(Ljava/lang/String;IIZ)V" } : Jvm.MethodName) ({ cls := "BusLine$Plan", name := "add", desc := "(Ljava/lang/String;IIZ)V" } : Jvm.MethodName)) ∈ lw_all := lw_g (lw_at lw_m1 182 rfl) rfl
theorem q307 : (Jvm.Cond.code ({ cls := "BusLine$Plan", name := "add", desc := "(Ljava/lang/String;IIZ)V" } : Jvm.MethodName) prog_7_method_3_code (5 : Nat) (Option.none : Option Jvm.ClassFile.FieldType)) ∈ lw_all := lw_g (lw_at lw_m1 183 rfl) rfl
theorem q308 : (Jvm.Cond.methodLink "BusLine$Plan" (66 : Nat) ({ cls := "java/util/ArrayList", name := "size", desc := "()I" } : Jvm.MethodName)) ∈ lw_all := lw_g (lw_at lw_m1 184 rfl) rfl
theorem q312 : (Jvm.Cond.methodLink "BusLine$Plan" (57 : Nat) ({ cls := "java/lang/Integer", name := "valueOf", desc := "(I)Ljava/lang/Integer;" } : Jvm.MethodName)) ∈ lw_all := lw_g (lw_at lw_m1 188 rfl) rfl
theorem q332 : (Jvm.Cond.methodLink "BusLine$Plan" (70 : Nat) ({ cls := "java/util/TreeMap", name := "put", desc := "(Ljava/lang/Object;Ljava/lang/Object;)Ljava/lang/Object;" } : Jvm.MethodName)) ∈ lw_all := lw_g (lw_at lw_m1 208 rfl) rfl
theorem q388 : (Jvm.Cond.selects "BusLine$Plan" ({ cls := "java/lang/Object", name := "getClass", desc := "()Ljava/lang/Class;" } : Jvm.MethodName) ({ cls := "java/lang/Object", name := "getClass", desc := "()Ljava/lang/Class;" } : Jvm.MethodName)) ∈ lw_all := lw_g (lw_at lw_m2 24 rfl) rfl
theorem q701 : (Jvm.Cond.classLink "BusLine$Plan" (74 : Nat) "BusLine$Stop") ∈ lw_all := lw_g (lw_at lw_m3 97 rfl) rfl
theorem q703 : (Jvm.Cond.methodLink "BusLine$Plan" (76 : Nat) ({ cls := "BusLine$Stop", name := "<init>", desc := "(Ljava/lang/String;IIIZ)V" } : Jvm.MethodName)) ∈ lw_all := lw_g (lw_at lw_m3 99 rfl) rfl
theorem q714 : (Jvm.Cond.fieldLinkNest "BusLine$Plan" (95 : Nat) "BusLine$Stop" "drive" "I" "BusLine") ∈ lw_tbl := lw_at lw_m3 110 rfl
theorem q723 : (Jvm.Cond.fieldLinkNest "BusLine$Plan" (84 : Nat) "BusLine$Stop" "flows" "Ljava/util/ArrayList;" "BusLine") ∈ lw_tbl := lw_at lw_m3 119 rfl
theorem q738 : (Jvm.Cond.methodLink "BusLine$Plan" (63 : Nat) ({ cls := "java/util/ArrayList", name := "add", desc := "(Ljava/lang/Object;)Z" } : Jvm.MethodName)) ∈ lw_all := lw_g (lw_at lw_m3 134 rfl) rfl
theorem q780 : (Jvm.Cond.stringRef "BusLine$Plan" (55 : Nat) "b") ∈ lw_tbl := lw_at lw_m3 176 rfl
theorem q1609 : (Jvm.Cond.selects "BusLine$Plan" ({ cls := "java/lang/Object", name := "equals", desc := "(Ljava/lang/Object;)Z" } : Jvm.MethodName) ({ cls := "java/lang/Object", name := "equals", desc := "(Ljava/lang/Object;)Z" } : Jvm.MethodName)) ∈ lw_all := lw_g (lw_at lw_m7 45 rfl) rfl
theorem q1761 : (Jvm.Cond.instanceMethod ({ cls := "BusLine$Plan", name := "named", desc := "(Ljava/lang/String;)I" } : Jvm.MethodName)) ∈ lw_all := lw_g (lw_at lw_m7 197 rfl) rfl
theorem q1762 : (Jvm.Cond.selects "BusLine$Plan" ({ cls := "BusLine$Plan", name := "named", desc := "(Ljava/lang/String;)I" } : Jvm.MethodName) ({ cls := "BusLine$Plan", name := "named", desc := "(Ljava/lang/String;)I" } : Jvm.MethodName)) ∈ lw_all := lw_g (lw_at lw_m7 198 rfl) rfl
theorem q1763 : (Jvm.Cond.code ({ cls := "BusLine$Plan", name := "named", desc := "(Ljava/lang/String;)I" } : Jvm.MethodName) prog_7_method_5_code (3 : Nat) (Option.some Jvm.ClassFile.FieldType.int)) ∈ lw_all := lw_g (lw_at lw_m7 199 rfl) rfl
theorem q1764 : (Jvm.Cond.methodLink "BusLine$Plan" (85 : Nat) ({ cls := "java/util/TreeMap", name := "get", desc := "(Ljava/lang/Object;)Ljava/lang/Object;" } : Jvm.MethodName)) ∈ lw_all := lw_g (lw_at lw_m7 200 rfl) rfl
theorem q1776 : (Jvm.Cond.classLink "BusLine$Plan" (58 : Nat) "java/lang/Integer") ∈ lw_all := lw_g (lw_at lw_m7 212 rfl) rfl
theorem q1777 : (Jvm.Cond.methodLink "BusLine$Plan" (89 : Nat) ({ cls := "java/lang/Integer", name := "intValue", desc := "()I" } : Jvm.MethodName)) ∈ lw_all := lw_g (lw_at lw_m7 213 rfl) rfl
theorem q1796 : (Jvm.Cond.instanceMethod ({ cls := "BusLine$Plan", name := "add", desc := "(LBusLine$Stop;III)V" } : Jvm.MethodName)) ∈ lw_all := lw_g (lw_at lw_m7 232 rfl) rfl
theorem q1797 : (Jvm.Cond.selects "BusLine$Plan" ({ cls := "BusLine$Plan", name := "add", desc := "(LBusLine$Stop;III)V" } : Jvm.MethodName) ({ cls := "BusLine$Plan", name := "add", desc := "(LBusLine$Stop;III)V" } : Jvm.MethodName)) ∈ lw_all := lw_g (lw_at lw_m7 233 rfl) rfl
theorem q1798 : (Jvm.Cond.code ({ cls := "BusLine$Plan", name := "add", desc := "(LBusLine$Stop;III)V" } : Jvm.MethodName) prog_7_method_4_code (6 : Nat) (Option.none : Option Jvm.ClassFile.FieldType)) ∈ lw_all := lw_g (lw_at lw_m7 234 rfl) rfl
theorem q1799 : (Jvm.Cond.classLink "BusLine$Plan" (79 : Nat) "BusLine$Flow") ∈ lw_all := lw_g (lw_at lw_m7 235 rfl) rfl
theorem q1801 : (Jvm.Cond.methodLink "BusLine$Plan" (81 : Nat) ({ cls := "BusLine$Flow", name := "<init>", desc := "(ILBusLine$Stop;III)V" } : Jvm.MethodName)) ∈ lw_all := lw_g (lw_at lw_m7 237 rfl) rfl
theorem q2124 : (Jvm.Cond.instanceMethod ({ cls := "BusLine$Plan", name := "around", desc := "()I" } : Jvm.MethodName)) ∈ lw_all := lw_g (lw_at lw_m9 80 rfl) rfl
theorem q2125 : (Jvm.Cond.selects "BusLine$Plan" ({ cls := "BusLine$Plan", name := "around", desc := "()I" } : Jvm.MethodName) ({ cls := "BusLine$Plan", name := "around", desc := "()I" } : Jvm.MethodName)) ∈ lw_all := lw_g (lw_at lw_m9 81 rfl) rfl
theorem q2126 : (Jvm.Cond.code ({ cls := "BusLine$Plan", name := "around", desc := "()I" } : Jvm.MethodName) prog_7_method_8_code (3 : Nat) (Option.some Jvm.ClassFile.FieldType.int)) ∈ lw_all := lw_g (lw_at lw_m9 82 rfl) rfl
theorem q2127 : (Jvm.Cond.methodLink "BusLine$Plan" (92 : Nat) ({ cls := "java/util/ArrayList", name := "get", desc := "(I)Ljava/lang/Object;" } : Jvm.MethodName)) ∈ lw_all := lw_g (lw_at lw_m9 83 rfl) rfl
theorem q2129 : (Jvm.Cond.instanceMethod ({ cls := "BusLine$Plan", name := "way", desc := "(II)I" } : Jvm.MethodName)) ∈ lw_all := lw_g (lw_at lw_m9 85 rfl) rfl
theorem q2130 : (Jvm.Cond.selects "BusLine$Plan" ({ cls := "BusLine$Plan", name := "way", desc := "(II)I" } : Jvm.MethodName) ({ cls := "BusLine$Plan", name := "way", desc := "(II)I" } : Jvm.MethodName)) ∈ lw_all := lw_g (lw_at lw_m9 86 rfl) rfl
theorem q2131 : (Jvm.Cond.code ({ cls := "BusLine$Plan", name := "way", desc := "(II)I" } : Jvm.MethodName) prog_7_method_7_code (5 : Nat) (Option.some Jvm.ClassFile.FieldType.int)) ∈ lw_all := lw_g (lw_at lw_m9 87 rfl) rfl
theorem q2132 : (Jvm.Cond.methodLink "BusLine$Plan" (98 : Nat) ({ cls := "BusLine$Plan", name := "next", desc := "(I)I" } : Jvm.MethodName)) ∈ lw_all := lw_g (lw_at lw_m9 88 rfl) rfl
theorem q2133 : (Jvm.Cond.instanceMethod ({ cls := "BusLine$Plan", name := "next", desc := "(I)I" } : Jvm.MethodName)) ∈ lw_all := lw_g (lw_at lw_m9 89 rfl) rfl
theorem q2134 : (Jvm.Cond.selects "BusLine$Plan" ({ cls := "BusLine$Plan", name := "next", desc := "(I)I" } : Jvm.MethodName) ({ cls := "BusLine$Plan", name := "next", desc := "(I)I" } : Jvm.MethodName)) ∈ lw_all := lw_g (lw_at lw_m9 90 rfl) rfl
theorem q2135 : (Jvm.Cond.code ({ cls := "BusLine$Plan", name := "next", desc := "(I)I" } : Jvm.MethodName) prog_7_method_6_code (2 : Nat) (Option.some Jvm.ClassFile.FieldType.int)) ∈ lw_all := lw_g (lw_at lw_m9 91 rfl) rfl
theorem q3233 : (Jvm.Cond.castable "BusLine$Plan" "java/lang/Object") ∈ lw_tbl := lw_at lw_m13 229 rfl
theorem in_X1 : ∀ w ∈ wsX10, w ∈ lw_all := lw_in wsX10 [282, 284, 286, 288, 290, 292, 294, 296, 298, 300] (by decide +kernel) (by decide +kernel)

/-! BusLine$Flow -/
set_option maxRecDepth 100000
def RX10 : String := "BusLine$Flow"
def TX10 : u_T := fun k => match k with
  | 0 => ("BusLine$Flow", "number", "I", true)
  | 1 => ("BusLine$Flow", "to", "I", true)
  | 2 => ("BusLine$Flow", "every", "I", true)
  | 3 => ("BusLine$Flow", "first", "I", true)
  | _ => ("BusLine$Flow", "from", "LBusLine$Stop;", true)
def tyX10 : Nat → FieldType := fun k => match k with
  | 0 => .int
  | 1 => .int
  | 2 => .int
  | 3 => .int
  | _ => .object "BusLine$Stop"
abbrev wsX100 : List Cond := u_ws RX10 TX10 5
theorem nmX10 : ∀ a, a < 5 → ∀ b, b < 5 → a ≠ b → (TX10 a).2.1 ≠ (TX10 b).2.1 := by decide +kernel
theorem tyX10_ok : ∀ k, k < 5 → parseFieldDescriptor (TX10 k).2.2.1 = some (tyX10 k) := by decide +kernel
abbrev cX10_init : ByteArray := prog_3_method_1_code
def yX10_init : MethodName := ⟨RX10, "<init>", "(ILBusLine$Stop;III)V"⟩
def dkwX10_init_1 : List UInt8 := [181, 0, 20, 42, 21, 5, 181, 0, 23, 177]
abbrev dktX10_init_1 : List UInt8 := dkwX10_init_1 ++ []
def dkwX10_init_0 : List UInt8 := [42, 183, 0, 1, 42, 27, 181, 0, 7, 42, 44, 181, 0, 13, 42, 29, 181, 0, 17, 42, 21, 4]
abbrev dktX10_init_0 : List UInt8 := dkwX10_init_0 ++ dktX10_init_1
theorem dksX10_init_0 : cX10_init.data.toList.drop 0 = dktX10_init_0 := by decide +kernel
theorem dksX10_init_1 : cX10_init.data.toList.drop 22 = dktX10_init_1 := dk_seg dksX10_init_0 22 rfl rfl
theorem dX10_init_0 : decode cX10_init 0 = .ok (.aload_n 0, 1) := dk_42 (dk_at dksX10_init_0 0 rfl rfl)
theorem dX10_init_1 : decode cX10_init 1 = .ok (.invokespecial 1, 3) := dk_183 0 1 (dk_at dksX10_init_0 1 rfl rfl)
theorem dX10_init_4 : decode cX10_init 4 = .ok (.aload_n 0, 1) := dk_42 (dk_at dksX10_init_0 4 rfl rfl)
theorem dX10_init_5 : decode cX10_init 5 = .ok (.iload_n 1, 1) := dk_27 (dk_at dksX10_init_0 5 rfl rfl)
theorem dX10_init_6 : decode cX10_init 6 = .ok (.putfield 7, 3) := dk_181 0 7 (dk_at dksX10_init_0 6 rfl rfl)
theorem dX10_init_9 : decode cX10_init 9 = .ok (.aload_n 0, 1) := dk_42 (dk_at dksX10_init_0 9 rfl rfl)
theorem dX10_init_10 : decode cX10_init 10 = .ok (.aload_n 2, 1) := dk_44 (dk_at dksX10_init_0 10 rfl rfl)
theorem dX10_init_11 : decode cX10_init 11 = .ok (.putfield 13, 3) := dk_181 0 13 (dk_at dksX10_init_0 11 rfl rfl)
theorem dX10_init_14 : decode cX10_init 14 = .ok (.aload_n 0, 1) := dk_42 (dk_at dksX10_init_0 14 rfl rfl)
theorem dX10_init_15 : decode cX10_init 15 = .ok (.iload_n 3, 1) := dk_29 (dk_at dksX10_init_0 15 rfl rfl)
theorem dX10_init_16 : decode cX10_init 16 = .ok (.putfield 17, 3) := dk_181 0 17 (dk_at dksX10_init_0 16 rfl rfl)
theorem dX10_init_19 : decode cX10_init 19 = .ok (.aload_n 0, 1) := dk_42 (dk_at dksX10_init_0 19 rfl rfl)
theorem dX10_init_20 : decode cX10_init 20 = .ok (.iload 4, 2) := dk_21 4 (dk_at dksX10_init_0 20 rfl rfl)
theorem dX10_init_22 : decode cX10_init 22 = .ok (.putfield 20, 3) := dk_181 0 20 (dk_at dksX10_init_1 0 rfl rfl)
theorem dX10_init_25 : decode cX10_init 25 = .ok (.aload_n 0, 1) := dk_42 (dk_at dksX10_init_1 3 rfl rfl)
theorem dX10_init_26 : decode cX10_init 26 = .ok (.iload 5, 2) := dk_21 5 (dk_at dksX10_init_1 4 rfl rfl)
theorem dX10_init_28 : decode cX10_init 28 = .ok (.putfield 23, 3) := dk_181 0 23 (dk_at dksX10_init_1 6 rfl rfl)
theorem dX10_init_31 : decode cX10_init 31 = .ok (.return_, 1) := dk_177 (dk_at dksX10_init_1 9 rfl rfl)
abbrev cX10_at : ByteArray := prog_3_method_2_code
def yX10_at : MethodName := ⟨RX10, "at", "(I)I"⟩
def dkwX10_at_0 : List UInt8 := [42, 180, 0, 23, 27, 42, 180, 0, 20, 104, 96, 172]
abbrev dktX10_at_0 : List UInt8 := dkwX10_at_0 ++ []
theorem dksX10_at_0 : cX10_at.data.toList.drop 0 = dktX10_at_0 := by decide +kernel
theorem dX10_at_0 : decode cX10_at 0 = .ok (.aload_n 0, 1) := dk_42 (dk_at dksX10_at_0 0 rfl rfl)
theorem dX10_at_1 : decode cX10_at 1 = .ok (.getfield 23, 3) := dk_180 0 23 (dk_at dksX10_at_0 1 rfl rfl)
theorem dX10_at_4 : decode cX10_at 4 = .ok (.iload_n 1, 1) := dk_27 (dk_at dksX10_at_0 4 rfl rfl)
theorem dX10_at_5 : decode cX10_at 5 = .ok (.aload_n 0, 1) := dk_42 (dk_at dksX10_at_0 5 rfl rfl)
theorem dX10_at_6 : decode cX10_at 6 = .ok (.getfield 20, 3) := dk_180 0 20 (dk_at dksX10_at_0 6 rfl rfl)
theorem dX10_at_9 : decode cX10_at 9 = .ok (.imul, 1) := dk_104 (dk_at dksX10_at_0 9 rfl rfl)
theorem dX10_at_10 : decode cX10_at 10 = .ok (.iadd, 1) := dk_96 (dk_at dksX10_at_0 10 rfl rfl)
theorem dX10_at_11 : decode cX10_at 11 = .ok (.ireturn, 1) := dk_172 (dk_at dksX10_at_0 11 rfl rfl)
abbrev cX10_by : ByteArray := prog_3_method_3_code
def yX10_by : MethodName := ⟨RX10, "by", "(I)I"⟩
def dkwX10_by_1 : List UInt8 := [96, 172]
abbrev dktX10_by_1 : List UInt8 := dkwX10_by_1 ++ []
def dkwX10_by_0 : List UInt8 := [27, 42, 180, 0, 23, 162, 0, 7, 3, 167, 0, 16, 27, 42, 180, 0, 23, 100, 42, 180, 0, 20, 108, 4]
abbrev dktX10_by_0 : List UInt8 := dkwX10_by_0 ++ dktX10_by_1
theorem dksX10_by_0 : cX10_by.data.toList.drop 0 = dktX10_by_0 := by decide +kernel
theorem dksX10_by_1 : cX10_by.data.toList.drop 24 = dktX10_by_1 := dk_seg dksX10_by_0 24 rfl rfl
theorem dX10_by_0 : decode cX10_by 0 = .ok (.iload_n 1, 1) := dk_27 (dk_at dksX10_by_0 0 rfl rfl)
theorem dX10_by_1 : decode cX10_by 1 = .ok (.aload_n 0, 1) := dk_42 (dk_at dksX10_by_0 1 rfl rfl)
theorem dX10_by_2 : decode cX10_by 2 = .ok (.getfield 23, 3) := dk_180 0 23 (dk_at dksX10_by_0 2 rfl rfl)
theorem dX10_by_5 : decode cX10_by 5 = .ok (.if_icmp .ge 7, 3) := dk_162 0 7 (dk_at dksX10_by_0 5 rfl rfl)
theorem dX10_by_8 : decode cX10_by 8 = .ok (.iconst 0, 1) := dk_3 (dk_at dksX10_by_0 8 rfl rfl)
theorem dX10_by_9 : decode cX10_by 9 = .ok (.goto 16, 3) := dk_167 0 16 (dk_at dksX10_by_0 9 rfl rfl)
theorem dX10_by_12 : decode cX10_by 12 = .ok (.iload_n 1, 1) := dk_27 (dk_at dksX10_by_0 12 rfl rfl)
theorem dX10_by_13 : decode cX10_by 13 = .ok (.aload_n 0, 1) := dk_42 (dk_at dksX10_by_0 13 rfl rfl)
theorem dX10_by_14 : decode cX10_by 14 = .ok (.getfield 23, 3) := dk_180 0 23 (dk_at dksX10_by_0 14 rfl rfl)
theorem dX10_by_17 : decode cX10_by 17 = .ok (.isub, 1) := dk_100 (dk_at dksX10_by_0 17 rfl rfl)
theorem dX10_by_18 : decode cX10_by 18 = .ok (.aload_n 0, 1) := dk_42 (dk_at dksX10_by_0 18 rfl rfl)
theorem dX10_by_19 : decode cX10_by 19 = .ok (.getfield 20, 3) := dk_180 0 20 (dk_at dksX10_by_0 19 rfl rfl)
theorem dX10_by_22 : decode cX10_by 22 = .ok (.idiv, 1) := dk_108 (dk_at dksX10_by_0 22 rfl rfl)
theorem dX10_by_23 : decode cX10_by 23 = .ok (.iconst 1, 1) := dk_4 (dk_at dksX10_by_0 23 rfl rfl)
theorem dX10_by_24 : decode cX10_by 24 = .ok (.iadd, 1) := dk_96 (dk_at dksX10_by_1 0 rfl rfl)
theorem dX10_by_25 : decode cX10_by 25 = .ok (.ireturn, 1) := dk_172 (dk_at dksX10_by_1 1 rfl rfl)
theorem q173 : (Jvm.Cond.initialized "BusLine$Flow") ∈ lw_all := lw_g (lw_at lw_m1 49 rfl) rfl
theorem q384 : (Jvm.Cond.selects "BusLine$Flow" ({ cls := "java/lang/Object", name := "getClass", desc := "()Ljava/lang/Class;" } : Jvm.MethodName) ({ cls := "java/lang/Object", name := "getClass", desc := "()Ljava/lang/Class;" } : Jvm.MethodName)) ∈ lw_all := lw_g (lw_at lw_m2 20 rfl) rfl
theorem q1603 : (Jvm.Cond.selects "BusLine$Flow" ({ cls := "java/lang/Object", name := "equals", desc := "(Ljava/lang/Object;)Z" } : Jvm.MethodName) ({ cls := "java/lang/Object", name := "equals", desc := "(Ljava/lang/Object;)Z" } : Jvm.MethodName)) ∈ lw_all := lw_g (lw_at lw_m7 39 rfl) rfl
theorem q1800 : (Jvm.Cond.instantiable "BusLine$Flow" (5 : Nat)) ∈ lw_all := lw_g (lw_at lw_m7 236 rfl) rfl
theorem q1802 : (Jvm.Cond.instanceMethod ({ cls := "BusLine$Flow", name := "<init>", desc := "(ILBusLine$Stop;III)V" } : Jvm.MethodName)) ∈ lw_all := lw_g (lw_at lw_m7 238 rfl) rfl
theorem q1803 : (Jvm.Cond.code ({ cls := "BusLine$Flow", name := "<init>", desc := "(ILBusLine$Stop;III)V" } : Jvm.MethodName) prog_3_method_1_code (6 : Nat) (Option.none : Option Jvm.ClassFile.FieldType)) ∈ lw_all := lw_g (lw_at lw_m7 239 rfl) rfl
theorem q1804 : (Jvm.Cond.methodLink "BusLine$Flow" (1 : Nat) ({ cls := "java/lang/Object", name := "<init>", desc := "()V" } : Jvm.MethodName)) ∈ lw_all := lw_g (lw_at lw_m8 0 rfl) rfl
theorem q1805 : (Jvm.Cond.fieldLink "BusLine$Flow" (7 : Nat) "BusLine$Flow" "number" "I") ∈ lw_all := lw_g (lw_at lw_m8 1 rfl) rfl
theorem q1807 : (Jvm.Cond.fieldLink "BusLine$Flow" (17 : Nat) "BusLine$Flow" "to" "I") ∈ lw_all := lw_g (lw_at lw_m8 3 rfl) rfl
theorem q1810 : (Jvm.Cond.fieldLink "BusLine$Flow" (20 : Nat) "BusLine$Flow" "every" "I") ∈ lw_all := lw_g (lw_at lw_m8 6 rfl) rfl
theorem q1813 : (Jvm.Cond.fieldLink "BusLine$Flow" (23 : Nat) "BusLine$Flow" "first" "I") ∈ lw_all := lw_g (lw_at lw_m8 9 rfl) rfl
theorem q1816 : (Jvm.Cond.fieldLink "BusLine$Flow" (13 : Nat) "BusLine$Flow" "from" "LBusLine$Stop;") ∈ lw_all := lw_g (lw_at lw_m8 12 rfl) rfl
theorem q1819 : (Jvm.Cond.laysFinal "BusLine$Flow" "BusLine$Flow" "number" "I") ∈ lw_all := lw_g (lw_at lw_m8 15 rfl) rfl
theorem q1820 : (Jvm.Cond.soleField "BusLine$Flow" "number") ∈ lw_all := lw_g (lw_at lw_m8 16 rfl) rfl
theorem q1821 : (Jvm.Cond.laysFinal "BusLine$Flow" "BusLine$Flow" "to" "I") ∈ lw_all := lw_g (lw_at lw_m8 17 rfl) rfl
theorem q1822 : (Jvm.Cond.soleField "BusLine$Flow" "to") ∈ lw_all := lw_g (lw_at lw_m8 18 rfl) rfl
theorem q1823 : (Jvm.Cond.laysFinal "BusLine$Flow" "BusLine$Flow" "every" "I") ∈ lw_all := lw_g (lw_at lw_m8 19 rfl) rfl
theorem q1824 : (Jvm.Cond.soleField "BusLine$Flow" "every") ∈ lw_all := lw_g (lw_at lw_m8 20 rfl) rfl
theorem q1825 : (Jvm.Cond.laysFinal "BusLine$Flow" "BusLine$Flow" "first" "I") ∈ lw_all := lw_g (lw_at lw_m8 21 rfl) rfl
theorem q1826 : (Jvm.Cond.soleField "BusLine$Flow" "first") ∈ lw_all := lw_g (lw_at lw_m8 22 rfl) rfl
theorem q1827 : (Jvm.Cond.laysFinal "BusLine$Flow" "BusLine$Flow" "from" "LBusLine$Stop;") ∈ lw_all := lw_g (lw_at lw_m8 23 rfl) rfl
theorem q1828 : (Jvm.Cond.soleField "BusLine$Flow" "from") ∈ lw_all := lw_g (lw_at lw_m8 24 rfl) rfl
theorem q1829 : (Jvm.Cond.superclass "BusLine$Flow" "java/lang/Object") ∈ lw_all := lw_g (lw_at lw_m8 25 rfl) rfl
theorem q2046 : (Jvm.Cond.instanceMethod ({ cls := "BusLine$Flow", name := "at", desc := "(I)I" } : Jvm.MethodName)) ∈ lw_all := lw_g (lw_at lw_m9 2 rfl) rfl
theorem q2047 : (Jvm.Cond.selects "BusLine$Flow" ({ cls := "BusLine$Flow", name := "at", desc := "(I)I" } : Jvm.MethodName) ({ cls := "BusLine$Flow", name := "at", desc := "(I)I" } : Jvm.MethodName)) ∈ lw_all := lw_g (lw_at lw_m9 3 rfl) rfl
theorem q2048 : (Jvm.Cond.code ({ cls := "BusLine$Flow", name := "at", desc := "(I)I" } : Jvm.MethodName) prog_3_method_2_code (2 : Nat) (Option.some Jvm.ClassFile.FieldType.int)) ∈ lw_all := lw_g (lw_at lw_m9 4 rfl) rfl
theorem q2351 : (Jvm.Cond.instanceMethod ({ cls := "BusLine$Flow", name := "by", desc := "(I)I" } : Jvm.MethodName)) ∈ lw_all := lw_g (lw_at lw_m10 67 rfl) rfl
theorem q2352 : (Jvm.Cond.selects "BusLine$Flow" ({ cls := "BusLine$Flow", name := "by", desc := "(I)I" } : Jvm.MethodName) ({ cls := "BusLine$Flow", name := "by", desc := "(I)I" } : Jvm.MethodName)) ∈ lw_all := lw_g (lw_at lw_m10 68 rfl) rfl
theorem q2353 : (Jvm.Cond.code ({ cls := "BusLine$Flow", name := "by", desc := "(I)I" } : Jvm.MethodName) prog_3_method_3_code (2 : Nat) (Option.some Jvm.ClassFile.FieldType.int)) ∈ lw_all := lw_g (lw_at lw_m10 69 rfl) rfl
theorem q3251 : (Jvm.Cond.castable "BusLine$Flow" "java/lang/Object") ∈ lw_tbl := lw_at lw_m14 7 rfl
theorem in_X10 : ∀ w ∈ wsX100, w ∈ lw_all := lw_in wsX100 [1819, 1821, 1823, 1825, 1827] (by decide +kernel) (by decide +kernel)

/-! BusLine$Stop -/
set_option maxRecDepth 100000
def RX2 : String := "BusLine$Stop"
def TX2 : u_T := fun k => match k with
  | 0 => ("BusLine$Stop", "name", "Ljava/lang/String;", true)
  | 1 => ("BusLine$Stop", "number", "I", true)
  | 2 => ("BusLine$Stop", "drive", "I", true)
  | 3 => ("BusLine$Stop", "off", "I", true)
  | 4 => ("BusLine$Stop", "isPoint", "Z", true)
  | _ => ("BusLine$Stop", "flows", "Ljava/util/ArrayList;", true)
def tyX2 : Nat → FieldType := fun k => match k with
  | 0 => .object "java/lang/String"
  | 1 => .int
  | 2 => .int
  | 3 => .int
  | 4 => .boolean
  | _ => .object "java/util/ArrayList"
abbrev wsX20 : List Cond := u_ws RX2 TX2 6
theorem nmX2 : ∀ a, a < 6 → ∀ b, b < 6 → a ≠ b → (TX2 a).2.1 ≠ (TX2 b).2.1 := by decide +kernel
theorem tyX2_ok : ∀ k, k < 6 → parseFieldDescriptor (TX2 k).2.2.1 = some (tyX2 k) := by decide +kernel
abbrev cX2_init : ByteArray := prog_10_method_1_code
def yX2_init : MethodName := ⟨RX2, "<init>", "(Ljava/lang/String;IIIZ)V"⟩
def dkwX2_init_1 : List UInt8 := [181, 0, 20, 42, 29, 181, 0, 24, 42, 21, 4, 181, 0, 27, 42, 21, 5, 181, 0, 30, 177]
abbrev dktX2_init_1 : List UInt8 := dkwX2_init_1 ++ []
def dkwX2_init_0 : List UInt8 := [42, 183, 0, 1, 42, 187, 0, 7, 89, 183, 0, 9, 181, 0, 10, 42, 43, 181, 0, 16, 42, 28]
abbrev dktX2_init_0 : List UInt8 := dkwX2_init_0 ++ dktX2_init_1
theorem dksX2_init_0 : cX2_init.data.toList.drop 0 = dktX2_init_0 := by decide +kernel
theorem dksX2_init_1 : cX2_init.data.toList.drop 22 = dktX2_init_1 := dk_seg dksX2_init_0 22 rfl rfl
theorem dX2_init_0 : decode cX2_init 0 = .ok (.aload_n 0, 1) := dk_42 (dk_at dksX2_init_0 0 rfl rfl)
theorem dX2_init_1 : decode cX2_init 1 = .ok (.invokespecial 1, 3) := dk_183 0 1 (dk_at dksX2_init_0 1 rfl rfl)
theorem dX2_init_4 : decode cX2_init 4 = .ok (.aload_n 0, 1) := dk_42 (dk_at dksX2_init_0 4 rfl rfl)
theorem dX2_init_5 : decode cX2_init 5 = .ok (.new 7, 3) := dk_187 0 7 (dk_at dksX2_init_0 5 rfl rfl)
theorem dX2_init_8 : decode cX2_init 8 = .ok (.dup, 1) := dk_89 (dk_at dksX2_init_0 8 rfl rfl)
theorem dX2_init_9 : decode cX2_init 9 = .ok (.invokespecial 9, 3) := dk_183 0 9 (dk_at dksX2_init_0 9 rfl rfl)
theorem dX2_init_12 : decode cX2_init 12 = .ok (.putfield 10, 3) := dk_181 0 10 (dk_at dksX2_init_0 12 rfl rfl)
theorem dX2_init_15 : decode cX2_init 15 = .ok (.aload_n 0, 1) := dk_42 (dk_at dksX2_init_0 15 rfl rfl)
theorem dX2_init_16 : decode cX2_init 16 = .ok (.aload_n 1, 1) := dk_43 (dk_at dksX2_init_0 16 rfl rfl)
theorem dX2_init_17 : decode cX2_init 17 = .ok (.putfield 16, 3) := dk_181 0 16 (dk_at dksX2_init_0 17 rfl rfl)
theorem dX2_init_20 : decode cX2_init 20 = .ok (.aload_n 0, 1) := dk_42 (dk_at dksX2_init_0 20 rfl rfl)
theorem dX2_init_21 : decode cX2_init 21 = .ok (.iload_n 2, 1) := dk_28 (dk_at dksX2_init_0 21 rfl rfl)
theorem dX2_init_22 : decode cX2_init 22 = .ok (.putfield 20, 3) := dk_181 0 20 (dk_at dksX2_init_1 0 rfl rfl)
theorem dX2_init_25 : decode cX2_init 25 = .ok (.aload_n 0, 1) := dk_42 (dk_at dksX2_init_1 3 rfl rfl)
theorem dX2_init_26 : decode cX2_init 26 = .ok (.iload_n 3, 1) := dk_29 (dk_at dksX2_init_1 4 rfl rfl)
theorem dX2_init_27 : decode cX2_init 27 = .ok (.putfield 24, 3) := dk_181 0 24 (dk_at dksX2_init_1 5 rfl rfl)
theorem dX2_init_30 : decode cX2_init 30 = .ok (.aload_n 0, 1) := dk_42 (dk_at dksX2_init_1 8 rfl rfl)
theorem dX2_init_31 : decode cX2_init 31 = .ok (.iload 4, 2) := dk_21 4 (dk_at dksX2_init_1 9 rfl rfl)
theorem dX2_init_33 : decode cX2_init 33 = .ok (.putfield 27, 3) := dk_181 0 27 (dk_at dksX2_init_1 11 rfl rfl)
theorem dX2_init_36 : decode cX2_init 36 = .ok (.aload_n 0, 1) := dk_42 (dk_at dksX2_init_1 14 rfl rfl)
theorem dX2_init_37 : decode cX2_init 37 = .ok (.iload 5, 2) := dk_21 5 (dk_at dksX2_init_1 15 rfl rfl)
theorem dX2_init_39 : decode cX2_init 39 = .ok (.putfield 30, 3) := dk_181 0 30 (dk_at dksX2_init_1 17 rfl rfl)
theorem dX2_init_42 : decode cX2_init 42 = .ok (.return_, 1) := dk_177 (dk_at dksX2_init_1 20 rfl rfl)
theorem q146 : (Jvm.Cond.initialized "BusLine$Stop") ∈ lw_all := lw_g (lw_at lw_m1 22 rfl) rfl
theorem q391 : (Jvm.Cond.selects "BusLine$Stop" ({ cls := "java/lang/Object", name := "getClass", desc := "()Ljava/lang/Class;" } : Jvm.MethodName) ({ cls := "java/lang/Object", name := "getClass", desc := "()Ljava/lang/Class;" } : Jvm.MethodName)) ∈ lw_all := lw_g (lw_at lw_m2 27 rfl) rfl
theorem q702 : (Jvm.Cond.instantiable "BusLine$Stop" (6 : Nat)) ∈ lw_all := lw_g (lw_at lw_m3 98 rfl) rfl
theorem q704 : (Jvm.Cond.instanceMethod ({ cls := "BusLine$Stop", name := "<init>", desc := "(Ljava/lang/String;IIIZ)V" } : Jvm.MethodName)) ∈ lw_all := lw_g (lw_at lw_m3 100 rfl) rfl
theorem q705 : (Jvm.Cond.code ({ cls := "BusLine$Stop", name := "<init>", desc := "(Ljava/lang/String;IIIZ)V" } : Jvm.MethodName) prog_10_method_1_code (6 : Nat) (Option.none : Option Jvm.ClassFile.FieldType)) ∈ lw_all := lw_g (lw_at lw_m3 101 rfl) rfl
theorem q706 : (Jvm.Cond.methodLink "BusLine$Stop" (1 : Nat) ({ cls := "java/lang/Object", name := "<init>", desc := "()V" } : Jvm.MethodName)) ∈ lw_all := lw_g (lw_at lw_m3 102 rfl) rfl
theorem q707 : (Jvm.Cond.classLink "BusLine$Stop" (7 : Nat) "java/util/ArrayList") ∈ lw_all := lw_g (lw_at lw_m3 103 rfl) rfl
theorem q708 : (Jvm.Cond.methodLink "BusLine$Stop" (9 : Nat) ({ cls := "java/util/ArrayList", name := "<init>", desc := "()V" } : Jvm.MethodName)) ∈ lw_all := lw_g (lw_at lw_m3 104 rfl) rfl
theorem q709 : (Jvm.Cond.fieldLink "BusLine$Stop" (16 : Nat) "BusLine$Stop" "name" "Ljava/lang/String;") ∈ lw_all := lw_g (lw_at lw_m3 105 rfl) rfl
theorem q711 : (Jvm.Cond.fieldLink "BusLine$Stop" (20 : Nat) "BusLine$Stop" "number" "I") ∈ lw_all := lw_g (lw_at lw_m3 107 rfl) rfl
theorem q713 : (Jvm.Cond.fieldLink "BusLine$Stop" (24 : Nat) "BusLine$Stop" "drive" "I") ∈ lw_all := lw_g (lw_at lw_m3 109 rfl) rfl
theorem q717 : (Jvm.Cond.fieldLink "BusLine$Stop" (27 : Nat) "BusLine$Stop" "off" "I") ∈ lw_all := lw_g (lw_at lw_m3 113 rfl) rfl
theorem q720 : (Jvm.Cond.fieldLink "BusLine$Stop" (30 : Nat) "BusLine$Stop" "isPoint" "Z") ∈ lw_all := lw_g (lw_at lw_m3 116 rfl) rfl
theorem q722 : (Jvm.Cond.fieldLink "BusLine$Stop" (10 : Nat) "BusLine$Stop" "flows" "Ljava/util/ArrayList;") ∈ lw_all := lw_g (lw_at lw_m3 118 rfl) rfl
theorem q725 : (Jvm.Cond.laysFinal "BusLine$Stop" "BusLine$Stop" "name" "Ljava/lang/String;") ∈ lw_all := lw_g (lw_at lw_m3 121 rfl) rfl
theorem q726 : (Jvm.Cond.soleField "BusLine$Stop" "name") ∈ lw_all := lw_g (lw_at lw_m3 122 rfl) rfl
theorem q727 : (Jvm.Cond.laysFinal "BusLine$Stop" "BusLine$Stop" "number" "I") ∈ lw_all := lw_g (lw_at lw_m3 123 rfl) rfl
theorem q728 : (Jvm.Cond.soleField "BusLine$Stop" "number") ∈ lw_all := lw_g (lw_at lw_m3 124 rfl) rfl
theorem q729 : (Jvm.Cond.laysFinal "BusLine$Stop" "BusLine$Stop" "drive" "I") ∈ lw_all := lw_g (lw_at lw_m3 125 rfl) rfl
theorem q730 : (Jvm.Cond.soleField "BusLine$Stop" "drive") ∈ lw_all := lw_g (lw_at lw_m3 126 rfl) rfl
theorem q731 : (Jvm.Cond.laysFinal "BusLine$Stop" "BusLine$Stop" "off" "I") ∈ lw_all := lw_g (lw_at lw_m3 127 rfl) rfl
theorem q732 : (Jvm.Cond.soleField "BusLine$Stop" "off") ∈ lw_all := lw_g (lw_at lw_m3 128 rfl) rfl
theorem q733 : (Jvm.Cond.laysFinal "BusLine$Stop" "BusLine$Stop" "isPoint" "Z") ∈ lw_all := lw_g (lw_at lw_m3 129 rfl) rfl
theorem q734 : (Jvm.Cond.soleField "BusLine$Stop" "isPoint") ∈ lw_all := lw_g (lw_at lw_m3 130 rfl) rfl
theorem q735 : (Jvm.Cond.laysFinal "BusLine$Stop" "BusLine$Stop" "flows" "Ljava/util/ArrayList;") ∈ lw_all := lw_g (lw_at lw_m3 131 rfl) rfl
theorem q736 : (Jvm.Cond.soleField "BusLine$Stop" "flows") ∈ lw_all := lw_g (lw_at lw_m3 132 rfl) rfl
theorem q737 : (Jvm.Cond.superclass "BusLine$Stop" "java/lang/Object") ∈ lw_all := lw_g (lw_at lw_m3 133 rfl) rfl
theorem q1612 : (Jvm.Cond.selects "BusLine$Stop" ({ cls := "java/lang/Object", name := "equals", desc := "(Ljava/lang/Object;)Z" } : Jvm.MethodName) ({ cls := "java/lang/Object", name := "equals", desc := "(Ljava/lang/Object;)Z" } : Jvm.MethodName)) ∈ lw_all := lw_g (lw_at lw_m7 48 rfl) rfl
theorem q3239 : (Jvm.Cond.castable "BusLine$Stop" "java/lang/Object") ∈ lw_tbl := lw_at lw_m13 235 rfl
theorem in_X2 : ∀ w ∈ wsX20, w ∈ lw_all := lw_in wsX20 [725, 727, 729, 731, 733, 735] (by decide +kernel) (by decide +kernel)

/-! BusLine$State -/
set_option maxRecDepth 100000
def RX3 : String := "BusLine$State"
def TX3 : u_T := fun k => match k with
  | 0 => ("BusLine$State", "plan", "LBusLine$Plan;", true)
  | 1 => ("BusLine$State", "time", "I", false)
  | 2 => ("BusLine$State", "mode", "I", false)
  | 3 => ("BusLine$State", "bunches", "I", false)
  | 4 => ("BusLine$State", "splits", "I", false)
  | 5 => ("BusLine$State", "holds", "I", false)
  | 6 => ("BusLine$State", "heldFor", "I", false)
  | 7 => ("BusLine$State", "leftBehind", "I", false)
  | 8 => ("BusLine$State", "skips", "I", false)
  | 9 => ("BusLine$State", "logged", "I", false)
  | 10 => ("BusLine$State", "waited", "J", false)
  | 11 => ("BusLine$State", "ridden", "J", false)
  | 12 => ("BusLine$State", "numbers", "[I", true)
  | 13 => ("BusLine$State", "isPoint", "[Z", true)
  | 14 => ("BusLine$State", "rows", "[LBusLine$Riders;", true)
  | 15 => ("BusLine$State", "leavings", "[LBusLine$Leavings;", true)
  | 16 => ("BusLine$State", "buses", "[LBusLine$Bus;", true)
  | 17 => ("BusLine$State", "queue", "Ljava/util/PriorityQueue;", true)
  | 18 => ("BusLine$State", "come", "[I", true)
  | 19 => ("BusLine$State", "away", "[I", true)
  | 20 => ("BusLine$State", "gone", "[I", true)
  | 21 => ("BusLine$State", "up", "[I", true)
  | 22 => ("BusLine$State", "out", "[I", true)
  | 23 => ("BusLine$State", "next", "[I", true)
  | _ => ("BusLine$State", "log", "[I", true)
def tyX3 : Nat → FieldType := fun k => match k with
  | 0 => .object "BusLine$Plan"
  | 1 => .int
  | 2 => .int
  | 3 => .int
  | 4 => .int
  | 5 => .int
  | 6 => .int
  | 7 => .int
  | 8 => .int
  | 9 => .int
  | 10 => .long
  | 11 => .long
  | 12 => .array .int
  | 13 => .array .boolean
  | 14 => .array (.object "BusLine$Riders")
  | 15 => .array (.object "BusLine$Leavings")
  | 16 => .array (.object "BusLine$Bus")
  | 17 => .object "java/util/PriorityQueue"
  | 18 => .array .int
  | 19 => .array .int
  | 20 => .array .int
  | 21 => .array .int
  | 22 => .array .int
  | 23 => .array .int
  | _ => .array .int
abbrev wsX30 : List Cond := u_ws RX3 TX3 25
set_option maxRecDepth 100000 in
theorem nmX3 : ∀ a, a < 25 → ∀ b, b < 25 → a ≠ b → (TX3 a).2.1 ≠ (TX3 b).2.1 := by decide +kernel
set_option maxRecDepth 100000 in
theorem tyX3_ok : ∀ k, k < 25 → parseFieldDescriptor (TX3 k).2.2.1 = some (tyX3 k) := by decide +kernel
abbrev cX3_of : ByteArray := prog_9_method_2_code
def yX3_of : MethodName := ⟨RX3, "of", "(LBusLine$Plan;)LBusLine$State;"⟩
def dkwX3_of_6 : List UInt8 := [43, 176]
abbrev dktX3_of_6 : List UInt8 := dkwX3_of_6 ++ []
def dkwX3_of_5 : List UInt8 := [183, 0, 122, 83, 43, 180, 0, 34, 43, 180, 0, 77, 28, 50, 182, 0, 125, 87, 132, 2, 1, 167, 255, 188]
abbrev dktX3_of_5 : List UInt8 := dkwX3_of_5 ++ dktX3_of_6
def dkwX3_of_4 : List UInt8 := [182, 0, 105, 192, 0, 114, 182, 0, 116, 42, 180, 0, 119, 28, 182, 0, 105, 192, 0, 114, 182, 0, 116]
abbrev dktX3_of_4 : List UInt8 := dkwX3_of_4 ++ dktX3_of_5
def dkwX3_of_3 : List UInt8 := [180, 0, 77, 190, 162, 0, 65, 43, 180, 0, 77, 28, 187, 0, 75, 89, 28, 42, 180, 0, 63, 28]
abbrev dktX3_of_3 : List UInt8 := dkwX3_of_3 ++ dktX3_of_4
def dkwX3_of_2 : List UInt8 := [180, 0, 103, 28, 182, 0, 105, 192, 0, 109, 180, 0, 111, 84, 132, 2, 1, 167, 255, 225, 3, 61, 28, 43]
abbrev dktX3_of_2 : List UInt8 := dkwX3_of_2 ++ dktX3_of_3
def dkwX3_of_1 : List UInt8 := [180, 0, 9, 3, 7, 184, 0, 97, 3, 61, 28, 43, 182, 0, 81, 162, 0, 29, 43, 180, 0, 15, 28, 42]
abbrev dktX3_of_1 : List UInt8 := dkwX3_of_1 ++ dktX3_of_2
def dkwX3_of_0 : List UInt8 := [187, 0, 10, 89, 42, 183, 0, 88, 76, 43, 42, 180, 0, 91, 181, 0, 95, 42, 180, 0, 96, 3, 43]
abbrev dktX3_of_0 : List UInt8 := dkwX3_of_0 ++ dktX3_of_1
theorem dksX3_of_0 : cX3_of.data.toList.drop 0 = dktX3_of_0 := by decide +kernel
theorem dksX3_of_1 : cX3_of.data.toList.drop 23 = dktX3_of_1 := dk_seg dksX3_of_0 23 rfl rfl
theorem dksX3_of_2 : cX3_of.data.toList.drop 47 = dktX3_of_2 := dk_seg dksX3_of_1 24 rfl rfl
theorem dksX3_of_3 : cX3_of.data.toList.drop 71 = dktX3_of_3 := dk_seg dksX3_of_2 24 rfl rfl
theorem dksX3_of_4 : cX3_of.data.toList.drop 93 = dktX3_of_4 := dk_seg dksX3_of_3 22 rfl rfl
theorem dksX3_of_5 : cX3_of.data.toList.drop 116 = dktX3_of_5 := dk_seg dksX3_of_4 23 rfl rfl
theorem dksX3_of_6 : cX3_of.data.toList.drop 140 = dktX3_of_6 := dk_seg dksX3_of_5 24 rfl rfl
theorem dX3_of_0 : decode cX3_of 0 = .ok (.new 10, 3) := dk_187 0 10 (dk_at dksX3_of_0 0 rfl rfl)
theorem dX3_of_3 : decode cX3_of 3 = .ok (.dup, 1) := dk_89 (dk_at dksX3_of_0 3 rfl rfl)
theorem dX3_of_4 : decode cX3_of 4 = .ok (.aload_n 0, 1) := dk_42 (dk_at dksX3_of_0 4 rfl rfl)
theorem dX3_of_5 : decode cX3_of 5 = .ok (.invokespecial 88, 3) := dk_183 0 88 (dk_at dksX3_of_0 5 rfl rfl)
theorem dX3_of_8 : decode cX3_of 8 = .ok (.astore_n 1, 1) := dk_76 (dk_at dksX3_of_0 8 rfl rfl)
theorem dX3_of_9 : decode cX3_of 9 = .ok (.aload_n 1, 1) := dk_43 (dk_at dksX3_of_0 9 rfl rfl)
theorem dX3_of_10 : decode cX3_of 10 = .ok (.aload_n 0, 1) := dk_42 (dk_at dksX3_of_0 10 rfl rfl)
theorem dX3_of_11 : decode cX3_of 11 = .ok (.getfield 91, 3) := dk_180 0 91 (dk_at dksX3_of_0 11 rfl rfl)
theorem dX3_of_14 : decode cX3_of 14 = .ok (.putfield 95, 3) := dk_181 0 95 (dk_at dksX3_of_0 14 rfl rfl)
theorem dX3_of_17 : decode cX3_of 17 = .ok (.aload_n 0, 1) := dk_42 (dk_at dksX3_of_0 17 rfl rfl)
theorem dX3_of_18 : decode cX3_of 18 = .ok (.getfield 96, 3) := dk_180 0 96 (dk_at dksX3_of_0 18 rfl rfl)
theorem dX3_of_21 : decode cX3_of 21 = .ok (.iconst 0, 1) := dk_3 (dk_at dksX3_of_0 21 rfl rfl)
theorem dX3_of_22 : decode cX3_of 22 = .ok (.aload_n 1, 1) := dk_43 (dk_at dksX3_of_0 22 rfl rfl)
theorem dX3_of_23 : decode cX3_of 23 = .ok (.getfield 9, 3) := dk_180 0 9 (dk_at dksX3_of_1 0 rfl rfl)
theorem dX3_of_26 : decode cX3_of 26 = .ok (.iconst 0, 1) := dk_3 (dk_at dksX3_of_1 3 rfl rfl)
theorem dX3_of_27 : decode cX3_of 27 = .ok (.iconst 4, 1) := dk_7 (dk_at dksX3_of_1 4 rfl rfl)
theorem dX3_of_28 : decode cX3_of 28 = .ok (.invokestatic 97, 3) := dk_184 0 97 (dk_at dksX3_of_1 5 rfl rfl)
theorem dX3_of_31 : decode cX3_of 31 = .ok (.iconst 0, 1) := dk_3 (dk_at dksX3_of_1 8 rfl rfl)
theorem dX3_of_32 : decode cX3_of 32 = .ok (.istore_n 2, 1) := dk_61 (dk_at dksX3_of_1 9 rfl rfl)
theorem dX3_of_33 : decode cX3_of 33 = .ok (.iload_n 2, 1) := dk_28 (dk_at dksX3_of_1 10 rfl rfl)
theorem dX3_of_34 : decode cX3_of 34 = .ok (.aload_n 1, 1) := dk_43 (dk_at dksX3_of_1 11 rfl rfl)
theorem dX3_of_35 : decode cX3_of 35 = .ok (.invokevirtual 81, 3) := dk_182 0 81 (dk_at dksX3_of_1 12 rfl rfl)
theorem dX3_of_38 : decode cX3_of 38 = .ok (.if_icmp .ge 29, 3) := dk_162 0 29 (dk_at dksX3_of_1 15 rfl rfl)
theorem dX3_of_41 : decode cX3_of 41 = .ok (.aload_n 1, 1) := dk_43 (dk_at dksX3_of_1 18 rfl rfl)
theorem dX3_of_42 : decode cX3_of 42 = .ok (.getfield 15, 3) := dk_180 0 15 (dk_at dksX3_of_1 19 rfl rfl)
theorem dX3_of_45 : decode cX3_of 45 = .ok (.iload_n 2, 1) := dk_28 (dk_at dksX3_of_1 22 rfl rfl)
theorem dX3_of_46 : decode cX3_of 46 = .ok (.aload_n 0, 1) := dk_42 (dk_at dksX3_of_1 23 rfl rfl)
theorem dX3_of_47 : decode cX3_of 47 = .ok (.getfield 103, 3) := dk_180 0 103 (dk_at dksX3_of_2 0 rfl rfl)
theorem dX3_of_50 : decode cX3_of 50 = .ok (.iload_n 2, 1) := dk_28 (dk_at dksX3_of_2 3 rfl rfl)
theorem dX3_of_51 : decode cX3_of 51 = .ok (.invokevirtual 105, 3) := dk_182 0 105 (dk_at dksX3_of_2 4 rfl rfl)
theorem dX3_of_54 : decode cX3_of 54 = .ok (.checkcast 109, 3) := dk_192 0 109 (dk_at dksX3_of_2 7 rfl rfl)
theorem dX3_of_57 : decode cX3_of 57 = .ok (.getfield 111, 3) := dk_180 0 111 (dk_at dksX3_of_2 10 rfl rfl)
theorem dX3_of_60 : decode cX3_of 60 = .ok (.bastore, 1) := dk_84 (dk_at dksX3_of_2 13 rfl rfl)
theorem dX3_of_61 : decode cX3_of 61 = .ok (.iinc 2 1, 3) := dk_132 2 1 (dk_at dksX3_of_2 14 rfl rfl)
theorem dX3_of_64 : decode cX3_of 64 = .ok (.goto (-31), 3) := dk_167 255 225 (dk_at dksX3_of_2 17 rfl rfl)
theorem dX3_of_67 : decode cX3_of 67 = .ok (.iconst 0, 1) := dk_3 (dk_at dksX3_of_2 20 rfl rfl)
theorem dX3_of_68 : decode cX3_of 68 = .ok (.istore_n 2, 1) := dk_61 (dk_at dksX3_of_2 21 rfl rfl)
theorem dX3_of_69 : decode cX3_of 69 = .ok (.iload_n 2, 1) := dk_28 (dk_at dksX3_of_2 22 rfl rfl)
theorem dX3_of_70 : decode cX3_of 70 = .ok (.aload_n 1, 1) := dk_43 (dk_at dksX3_of_2 23 rfl rfl)
theorem dX3_of_71 : decode cX3_of 71 = .ok (.getfield 77, 3) := dk_180 0 77 (dk_at dksX3_of_3 0 rfl rfl)
theorem dX3_of_74 : decode cX3_of 74 = .ok (.arraylength, 1) := dk_190 (dk_at dksX3_of_3 3 rfl rfl)
theorem dX3_of_75 : decode cX3_of 75 = .ok (.if_icmp .ge 65, 3) := dk_162 0 65 (dk_at dksX3_of_3 4 rfl rfl)
theorem dX3_of_78 : decode cX3_of 78 = .ok (.aload_n 1, 1) := dk_43 (dk_at dksX3_of_3 7 rfl rfl)
theorem dX3_of_79 : decode cX3_of 79 = .ok (.getfield 77, 3) := dk_180 0 77 (dk_at dksX3_of_3 8 rfl rfl)
theorem dX3_of_82 : decode cX3_of 82 = .ok (.iload_n 2, 1) := dk_28 (dk_at dksX3_of_3 11 rfl rfl)
theorem dX3_of_83 : decode cX3_of 83 = .ok (.new 75, 3) := dk_187 0 75 (dk_at dksX3_of_3 12 rfl rfl)
theorem dX3_of_86 : decode cX3_of 86 = .ok (.dup, 1) := dk_89 (dk_at dksX3_of_3 15 rfl rfl)
theorem dX3_of_87 : decode cX3_of 87 = .ok (.iload_n 2, 1) := dk_28 (dk_at dksX3_of_3 16 rfl rfl)
theorem dX3_of_88 : decode cX3_of 88 = .ok (.aload_n 0, 1) := dk_42 (dk_at dksX3_of_3 17 rfl rfl)
theorem dX3_of_89 : decode cX3_of 89 = .ok (.getfield 63, 3) := dk_180 0 63 (dk_at dksX3_of_3 18 rfl rfl)
theorem dX3_of_92 : decode cX3_of 92 = .ok (.iload_n 2, 1) := dk_28 (dk_at dksX3_of_3 21 rfl rfl)
theorem dX3_of_93 : decode cX3_of 93 = .ok (.invokevirtual 105, 3) := dk_182 0 105 (dk_at dksX3_of_4 0 rfl rfl)
theorem dX3_of_96 : decode cX3_of 96 = .ok (.checkcast 114, 3) := dk_192 0 114 (dk_at dksX3_of_4 3 rfl rfl)
theorem dX3_of_99 : decode cX3_of 99 = .ok (.invokevirtual 116, 3) := dk_182 0 116 (dk_at dksX3_of_4 6 rfl rfl)
theorem dX3_of_102 : decode cX3_of 102 = .ok (.aload_n 0, 1) := dk_42 (dk_at dksX3_of_4 9 rfl rfl)
theorem dX3_of_103 : decode cX3_of 103 = .ok (.getfield 119, 3) := dk_180 0 119 (dk_at dksX3_of_4 10 rfl rfl)
theorem dX3_of_106 : decode cX3_of 106 = .ok (.iload_n 2, 1) := dk_28 (dk_at dksX3_of_4 13 rfl rfl)
theorem dX3_of_107 : decode cX3_of 107 = .ok (.invokevirtual 105, 3) := dk_182 0 105 (dk_at dksX3_of_4 14 rfl rfl)
theorem dX3_of_110 : decode cX3_of 110 = .ok (.checkcast 114, 3) := dk_192 0 114 (dk_at dksX3_of_4 17 rfl rfl)
theorem dX3_of_113 : decode cX3_of 113 = .ok (.invokevirtual 116, 3) := dk_182 0 116 (dk_at dksX3_of_4 20 rfl rfl)
theorem dX3_of_116 : decode cX3_of 116 = .ok (.invokespecial 122, 3) := dk_183 0 122 (dk_at dksX3_of_5 0 rfl rfl)
theorem dX3_of_119 : decode cX3_of 119 = .ok (.aastore, 1) := dk_83 (dk_at dksX3_of_5 3 rfl rfl)
theorem dX3_of_120 : decode cX3_of 120 = .ok (.aload_n 1, 1) := dk_43 (dk_at dksX3_of_5 4 rfl rfl)
theorem dX3_of_121 : decode cX3_of 121 = .ok (.getfield 34, 3) := dk_180 0 34 (dk_at dksX3_of_5 5 rfl rfl)
theorem dX3_of_124 : decode cX3_of 124 = .ok (.aload_n 1, 1) := dk_43 (dk_at dksX3_of_5 8 rfl rfl)
theorem dX3_of_125 : decode cX3_of 125 = .ok (.getfield 77, 3) := dk_180 0 77 (dk_at dksX3_of_5 9 rfl rfl)
theorem dX3_of_128 : decode cX3_of 128 = .ok (.iload_n 2, 1) := dk_28 (dk_at dksX3_of_5 12 rfl rfl)
theorem dX3_of_129 : decode cX3_of 129 = .ok (.aaload, 1) := dk_50 (dk_at dksX3_of_5 13 rfl rfl)
theorem dX3_of_130 : decode cX3_of 130 = .ok (.invokevirtual 125, 3) := dk_182 0 125 (dk_at dksX3_of_5 14 rfl rfl)
theorem dX3_of_133 : decode cX3_of 133 = .ok (.pop, 1) := dk_87 (dk_at dksX3_of_5 17 rfl rfl)
theorem dX3_of_134 : decode cX3_of 134 = .ok (.iinc 2 1, 3) := dk_132 2 1 (dk_at dksX3_of_5 18 rfl rfl)
theorem dX3_of_137 : decode cX3_of 137 = .ok (.goto (-68), 3) := dk_167 255 188 (dk_at dksX3_of_5 21 rfl rfl)
theorem dX3_of_140 : decode cX3_of 140 = .ok (.aload_n 1, 1) := dk_43 (dk_at dksX3_of_6 0 rfl rfl)
theorem dX3_of_141 : decode cX3_of 141 = .ok (.areturn, 1) := dk_176 (dk_at dksX3_of_6 1 rfl rfl)
abbrev cX3_init : ByteArray := prog_9_method_1_code
def yX3_init : MethodName := ⟨RX3, "<init>", "(LBusLine$Plan;)V"⟩
def dkwX3_init_7 : List UInt8 := [132, 2, 1, 167, 255, 217, 177]
abbrev dktX3_init_7 : List UInt8 := dkwX3_init_7 ++ []
def dkwX3_init_6 : List UInt8 := [187, 0, 19, 89, 16, 40, 183, 0, 84, 83, 42, 180, 0, 27, 28, 187, 0, 25, 89, 183, 0, 87, 83]
abbrev dktX3_init_6 : List UInt8 := dkwX3_init_6 ++ dktX3_init_7
def dkwX3_init_5 : List UInt8 := [182, 0, 69, 189, 0, 75, 181, 0, 77, 3, 61, 28, 42, 182, 0, 81, 162, 0, 37, 42, 180, 0, 21, 28]
abbrev dktX3_init_5 : List UInt8 := dkwX3_init_5 ++ dktX3_init_6
def dkwX3_init_4 : List UInt8 := [181, 0, 53, 42, 17, 0, 150, 188, 10, 181, 0, 56, 42, 43, 181, 0, 59, 42, 43, 180, 0, 63]
abbrev dktX3_init_4 : List UInt8 := dkwX3_init_4 ++ dktX3_init_5
def dkwX3_init_3 : List UInt8 := [181, 0, 44, 42, 16, 17, 188, 10, 181, 0, 47, 42, 16, 17, 188, 10, 181, 0, 50, 42, 16, 16, 188, 10]
abbrev dktX3_init_3 : List UInt8 := dkwX3_init_3 ++ dktX3_init_4
def dkwX3_init_2 : List UInt8 := [181, 0, 34, 42, 16, 17, 188, 10, 181, 0, 38, 42, 16, 17, 188, 10, 181, 0, 41, 42, 16, 17, 188, 10]
abbrev dktX3_init_2 : List UInt8 := dkwX3_init_2 ++ dktX3_init_3
def dkwX3_init_1 : List UInt8 := [189, 0, 19, 181, 0, 21, 42, 16, 10, 189, 0, 25, 181, 0, 27, 42, 187, 0, 31, 89, 183, 0, 33]
abbrev dktX3_init_1 : List UInt8 := dkwX3_init_1 ++ dktX3_init_2
def dkwX3_init_0 : List UInt8 := [42, 183, 0, 3, 42, 7, 188, 10, 181, 0, 9, 42, 16, 10, 188, 4, 181, 0, 15, 42, 16, 10]
abbrev dktX3_init_0 : List UInt8 := dkwX3_init_0 ++ dktX3_init_1
theorem dksX3_init_0 : cX3_init.data.toList.drop 0 = dktX3_init_0 := by decide +kernel
theorem dksX3_init_1 : cX3_init.data.toList.drop 22 = dktX3_init_1 := dk_seg dksX3_init_0 22 rfl rfl
theorem dksX3_init_2 : cX3_init.data.toList.drop 45 = dktX3_init_2 := dk_seg dksX3_init_1 23 rfl rfl
theorem dksX3_init_3 : cX3_init.data.toList.drop 69 = dktX3_init_3 := dk_seg dksX3_init_2 24 rfl rfl
theorem dksX3_init_4 : cX3_init.data.toList.drop 93 = dktX3_init_4 := dk_seg dksX3_init_3 24 rfl rfl
theorem dksX3_init_5 : cX3_init.data.toList.drop 115 = dktX3_init_5 := dk_seg dksX3_init_4 22 rfl rfl
theorem dksX3_init_6 : cX3_init.data.toList.drop 139 = dktX3_init_6 := dk_seg dksX3_init_5 24 rfl rfl
theorem dksX3_init_7 : cX3_init.data.toList.drop 162 = dktX3_init_7 := dk_seg dksX3_init_6 23 rfl rfl
theorem dX3_init_0 : decode cX3_init 0 = .ok (.aload_n 0, 1) := dk_42 (dk_at dksX3_init_0 0 rfl rfl)
theorem dX3_init_1 : decode cX3_init 1 = .ok (.invokespecial 3, 3) := dk_183 0 3 (dk_at dksX3_init_0 1 rfl rfl)
theorem dX3_init_4 : decode cX3_init 4 = .ok (.aload_n 0, 1) := dk_42 (dk_at dksX3_init_0 4 rfl rfl)
theorem dX3_init_5 : decode cX3_init 5 = .ok (.iconst 4, 1) := dk_7 (dk_at dksX3_init_0 5 rfl rfl)
theorem dX3_init_6 : decode cX3_init 6 = .ok (.newarray .int, 2) := dk_188_10 (dk_at dksX3_init_0 6 rfl rfl)
theorem dX3_init_8 : decode cX3_init 8 = .ok (.putfield 9, 3) := dk_181 0 9 (dk_at dksX3_init_0 8 rfl rfl)
theorem dX3_init_11 : decode cX3_init 11 = .ok (.aload_n 0, 1) := dk_42 (dk_at dksX3_init_0 11 rfl rfl)
theorem dX3_init_12 : decode cX3_init 12 = .ok (.bipush 10, 2) := dk_16 10 (dk_at dksX3_init_0 12 rfl rfl)
theorem dX3_init_14 : decode cX3_init 14 = .ok (.newarray .boolean, 2) := dk_188_4 (dk_at dksX3_init_0 14 rfl rfl)
theorem dX3_init_16 : decode cX3_init 16 = .ok (.putfield 15, 3) := dk_181 0 15 (dk_at dksX3_init_0 16 rfl rfl)
theorem dX3_init_19 : decode cX3_init 19 = .ok (.aload_n 0, 1) := dk_42 (dk_at dksX3_init_0 19 rfl rfl)
theorem dX3_init_20 : decode cX3_init 20 = .ok (.bipush 10, 2) := dk_16 10 (dk_at dksX3_init_0 20 rfl rfl)
theorem dX3_init_22 : decode cX3_init 22 = .ok (.anewarray 19, 3) := dk_189 0 19 (dk_at dksX3_init_1 0 rfl rfl)
theorem dX3_init_25 : decode cX3_init 25 = .ok (.putfield 21, 3) := dk_181 0 21 (dk_at dksX3_init_1 3 rfl rfl)
theorem dX3_init_28 : decode cX3_init 28 = .ok (.aload_n 0, 1) := dk_42 (dk_at dksX3_init_1 6 rfl rfl)
theorem dX3_init_29 : decode cX3_init 29 = .ok (.bipush 10, 2) := dk_16 10 (dk_at dksX3_init_1 7 rfl rfl)
theorem dX3_init_31 : decode cX3_init 31 = .ok (.anewarray 25, 3) := dk_189 0 25 (dk_at dksX3_init_1 9 rfl rfl)
theorem dX3_init_34 : decode cX3_init 34 = .ok (.putfield 27, 3) := dk_181 0 27 (dk_at dksX3_init_1 12 rfl rfl)
theorem dX3_init_37 : decode cX3_init 37 = .ok (.aload_n 0, 1) := dk_42 (dk_at dksX3_init_1 15 rfl rfl)
theorem dX3_init_38 : decode cX3_init 38 = .ok (.new 31, 3) := dk_187 0 31 (dk_at dksX3_init_1 16 rfl rfl)
theorem dX3_init_41 : decode cX3_init 41 = .ok (.dup, 1) := dk_89 (dk_at dksX3_init_1 19 rfl rfl)
theorem dX3_init_42 : decode cX3_init 42 = .ok (.invokespecial 33, 3) := dk_183 0 33 (dk_at dksX3_init_1 20 rfl rfl)
theorem dX3_init_45 : decode cX3_init 45 = .ok (.putfield 34, 3) := dk_181 0 34 (dk_at dksX3_init_2 0 rfl rfl)
theorem dX3_init_48 : decode cX3_init 48 = .ok (.aload_n 0, 1) := dk_42 (dk_at dksX3_init_2 3 rfl rfl)
theorem dX3_init_49 : decode cX3_init 49 = .ok (.bipush 17, 2) := dk_16 17 (dk_at dksX3_init_2 4 rfl rfl)
theorem dX3_init_51 : decode cX3_init 51 = .ok (.newarray .int, 2) := dk_188_10 (dk_at dksX3_init_2 6 rfl rfl)
theorem dX3_init_53 : decode cX3_init 53 = .ok (.putfield 38, 3) := dk_181 0 38 (dk_at dksX3_init_2 8 rfl rfl)
theorem dX3_init_56 : decode cX3_init 56 = .ok (.aload_n 0, 1) := dk_42 (dk_at dksX3_init_2 11 rfl rfl)
theorem dX3_init_57 : decode cX3_init 57 = .ok (.bipush 17, 2) := dk_16 17 (dk_at dksX3_init_2 12 rfl rfl)
theorem dX3_init_59 : decode cX3_init 59 = .ok (.newarray .int, 2) := dk_188_10 (dk_at dksX3_init_2 14 rfl rfl)
theorem dX3_init_61 : decode cX3_init 61 = .ok (.putfield 41, 3) := dk_181 0 41 (dk_at dksX3_init_2 16 rfl rfl)
theorem dX3_init_64 : decode cX3_init 64 = .ok (.aload_n 0, 1) := dk_42 (dk_at dksX3_init_2 19 rfl rfl)
theorem dX3_init_65 : decode cX3_init 65 = .ok (.bipush 17, 2) := dk_16 17 (dk_at dksX3_init_2 20 rfl rfl)
theorem dX3_init_67 : decode cX3_init 67 = .ok (.newarray .int, 2) := dk_188_10 (dk_at dksX3_init_2 22 rfl rfl)
theorem dX3_init_69 : decode cX3_init 69 = .ok (.putfield 44, 3) := dk_181 0 44 (dk_at dksX3_init_3 0 rfl rfl)
theorem dX3_init_72 : decode cX3_init 72 = .ok (.aload_n 0, 1) := dk_42 (dk_at dksX3_init_3 3 rfl rfl)
theorem dX3_init_73 : decode cX3_init 73 = .ok (.bipush 17, 2) := dk_16 17 (dk_at dksX3_init_3 4 rfl rfl)
theorem dX3_init_75 : decode cX3_init 75 = .ok (.newarray .int, 2) := dk_188_10 (dk_at dksX3_init_3 6 rfl rfl)
theorem dX3_init_77 : decode cX3_init 77 = .ok (.putfield 47, 3) := dk_181 0 47 (dk_at dksX3_init_3 8 rfl rfl)
theorem dX3_init_80 : decode cX3_init 80 = .ok (.aload_n 0, 1) := dk_42 (dk_at dksX3_init_3 11 rfl rfl)
theorem dX3_init_81 : decode cX3_init 81 = .ok (.bipush 17, 2) := dk_16 17 (dk_at dksX3_init_3 12 rfl rfl)
theorem dX3_init_83 : decode cX3_init 83 = .ok (.newarray .int, 2) := dk_188_10 (dk_at dksX3_init_3 14 rfl rfl)
theorem dX3_init_85 : decode cX3_init 85 = .ok (.putfield 50, 3) := dk_181 0 50 (dk_at dksX3_init_3 16 rfl rfl)
theorem dX3_init_88 : decode cX3_init 88 = .ok (.aload_n 0, 1) := dk_42 (dk_at dksX3_init_3 19 rfl rfl)
theorem dX3_init_89 : decode cX3_init 89 = .ok (.bipush 16, 2) := dk_16 16 (dk_at dksX3_init_3 20 rfl rfl)
theorem dX3_init_91 : decode cX3_init 91 = .ok (.newarray .int, 2) := dk_188_10 (dk_at dksX3_init_3 22 rfl rfl)
theorem dX3_init_93 : decode cX3_init 93 = .ok (.putfield 53, 3) := dk_181 0 53 (dk_at dksX3_init_4 0 rfl rfl)
theorem dX3_init_96 : decode cX3_init 96 = .ok (.aload_n 0, 1) := dk_42 (dk_at dksX3_init_4 3 rfl rfl)
theorem dX3_init_97 : decode cX3_init 97 = .ok (.sipush 150, 3) := dk_17 0 150 (dk_at dksX3_init_4 4 rfl rfl)
theorem dX3_init_100 : decode cX3_init 100 = .ok (.newarray .int, 2) := dk_188_10 (dk_at dksX3_init_4 7 rfl rfl)
theorem dX3_init_102 : decode cX3_init 102 = .ok (.putfield 56, 3) := dk_181 0 56 (dk_at dksX3_init_4 9 rfl rfl)
theorem dX3_init_105 : decode cX3_init 105 = .ok (.aload_n 0, 1) := dk_42 (dk_at dksX3_init_4 12 rfl rfl)
theorem dX3_init_106 : decode cX3_init 106 = .ok (.aload_n 1, 1) := dk_43 (dk_at dksX3_init_4 13 rfl rfl)
theorem dX3_init_107 : decode cX3_init 107 = .ok (.putfield 59, 3) := dk_181 0 59 (dk_at dksX3_init_4 14 rfl rfl)
theorem dX3_init_110 : decode cX3_init 110 = .ok (.aload_n 0, 1) := dk_42 (dk_at dksX3_init_4 17 rfl rfl)
theorem dX3_init_111 : decode cX3_init 111 = .ok (.aload_n 1, 1) := dk_43 (dk_at dksX3_init_4 18 rfl rfl)
theorem dX3_init_112 : decode cX3_init 112 = .ok (.getfield 63, 3) := dk_180 0 63 (dk_at dksX3_init_4 19 rfl rfl)
theorem dX3_init_115 : decode cX3_init 115 = .ok (.invokevirtual 69, 3) := dk_182 0 69 (dk_at dksX3_init_5 0 rfl rfl)
theorem dX3_init_118 : decode cX3_init 118 = .ok (.anewarray 75, 3) := dk_189 0 75 (dk_at dksX3_init_5 3 rfl rfl)
theorem dX3_init_121 : decode cX3_init 121 = .ok (.putfield 77, 3) := dk_181 0 77 (dk_at dksX3_init_5 6 rfl rfl)
theorem dX3_init_124 : decode cX3_init 124 = .ok (.iconst 0, 1) := dk_3 (dk_at dksX3_init_5 9 rfl rfl)
theorem dX3_init_125 : decode cX3_init 125 = .ok (.istore_n 2, 1) := dk_61 (dk_at dksX3_init_5 10 rfl rfl)
theorem dX3_init_126 : decode cX3_init 126 = .ok (.iload_n 2, 1) := dk_28 (dk_at dksX3_init_5 11 rfl rfl)
theorem dX3_init_127 : decode cX3_init 127 = .ok (.aload_n 0, 1) := dk_42 (dk_at dksX3_init_5 12 rfl rfl)
theorem dX3_init_128 : decode cX3_init 128 = .ok (.invokevirtual 81, 3) := dk_182 0 81 (dk_at dksX3_init_5 13 rfl rfl)
theorem dX3_init_131 : decode cX3_init 131 = .ok (.if_icmp .ge 37, 3) := dk_162 0 37 (dk_at dksX3_init_5 16 rfl rfl)
theorem dX3_init_134 : decode cX3_init 134 = .ok (.aload_n 0, 1) := dk_42 (dk_at dksX3_init_5 19 rfl rfl)
theorem dX3_init_135 : decode cX3_init 135 = .ok (.getfield 21, 3) := dk_180 0 21 (dk_at dksX3_init_5 20 rfl rfl)
theorem dX3_init_138 : decode cX3_init 138 = .ok (.iload_n 2, 1) := dk_28 (dk_at dksX3_init_5 23 rfl rfl)
theorem dX3_init_139 : decode cX3_init 139 = .ok (.new 19, 3) := dk_187 0 19 (dk_at dksX3_init_6 0 rfl rfl)
theorem dX3_init_142 : decode cX3_init 142 = .ok (.dup, 1) := dk_89 (dk_at dksX3_init_6 3 rfl rfl)
theorem dX3_init_143 : decode cX3_init 143 = .ok (.bipush 40, 2) := dk_16 40 (dk_at dksX3_init_6 4 rfl rfl)
theorem dX3_init_145 : decode cX3_init 145 = .ok (.invokespecial 84, 3) := dk_183 0 84 (dk_at dksX3_init_6 6 rfl rfl)
theorem dX3_init_148 : decode cX3_init 148 = .ok (.aastore, 1) := dk_83 (dk_at dksX3_init_6 9 rfl rfl)
theorem dX3_init_149 : decode cX3_init 149 = .ok (.aload_n 0, 1) := dk_42 (dk_at dksX3_init_6 10 rfl rfl)
theorem dX3_init_150 : decode cX3_init 150 = .ok (.getfield 27, 3) := dk_180 0 27 (dk_at dksX3_init_6 11 rfl rfl)
theorem dX3_init_153 : decode cX3_init 153 = .ok (.iload_n 2, 1) := dk_28 (dk_at dksX3_init_6 14 rfl rfl)
theorem dX3_init_154 : decode cX3_init 154 = .ok (.new 25, 3) := dk_187 0 25 (dk_at dksX3_init_6 15 rfl rfl)
theorem dX3_init_157 : decode cX3_init 157 = .ok (.dup, 1) := dk_89 (dk_at dksX3_init_6 18 rfl rfl)
theorem dX3_init_158 : decode cX3_init 158 = .ok (.invokespecial 87, 3) := dk_183 0 87 (dk_at dksX3_init_6 19 rfl rfl)
theorem dX3_init_161 : decode cX3_init 161 = .ok (.aastore, 1) := dk_83 (dk_at dksX3_init_6 22 rfl rfl)
theorem dX3_init_162 : decode cX3_init 162 = .ok (.iinc 2 1, 3) := dk_132 2 1 (dk_at dksX3_init_7 0 rfl rfl)
theorem dX3_init_165 : decode cX3_init 165 = .ok (.goto (-39), 3) := dk_167 255 217 (dk_at dksX3_init_7 3 rfl rfl)
theorem dX3_init_168 : decode cX3_init 168 = .ok (.return_, 1) := dk_177 (dk_at dksX3_init_7 6 rfl rfl)
abbrev cX3_stops : ByteArray := prog_9_method_4_code
def yX3_stops : MethodName := ⟨RX3, "stops", "()I"⟩
def dkwX3_stops_0 : List UInt8 := [42, 180, 0, 59, 180, 0, 103, 182, 0, 69, 172]
abbrev dktX3_stops_0 : List UInt8 := dkwX3_stops_0 ++ []
theorem dksX3_stops_0 : cX3_stops.data.toList.drop 0 = dktX3_stops_0 := by decide +kernel
theorem dX3_stops_0 : decode cX3_stops 0 = .ok (.aload_n 0, 1) := dk_42 (dk_at dksX3_stops_0 0 rfl rfl)
theorem dX3_stops_1 : decode cX3_stops 1 = .ok (.getfield 59, 3) := dk_180 0 59 (dk_at dksX3_stops_0 1 rfl rfl)
theorem dX3_stops_4 : decode cX3_stops 4 = .ok (.getfield 103, 3) := dk_180 0 103 (dk_at dksX3_stops_0 4 rfl rfl)
theorem dX3_stops_7 : decode cX3_stops 7 = .ok (.invokevirtual 69, 3) := dk_182 0 69 (dk_at dksX3_stops_0 7 rfl rfl)
theorem dX3_stops_10 : decode cX3_stops 10 = .ok (.ireturn, 1) := dk_172 (dk_at dksX3_stops_0 10 rfl rfl)
abbrev cX3_copy : ByteArray := prog_9_method_3_code
def yX3_copy : MethodName := ⟨RX3, "copy", "()LBusLine$State;"⟩
def dkwX3_copy_14 : List UInt8 := [43, 176]
abbrev dktX3_copy_14 : List UInt8 := dkwX3_copy_14 ++ []
def dkwX3_copy_13 : List UInt8 := [3, 16, 16, 184, 0, 97, 42, 180, 0, 56, 3, 43, 180, 0, 56, 3, 42, 180, 0, 56, 190, 184, 0, 97]
abbrev dktX3_copy_13 : List UInt8 := dkwX3_copy_13 ++ dktX3_copy_14
def dkwX3_copy_12 : List UInt8 := [42, 180, 0, 50, 3, 43, 180, 0, 50, 3, 16, 17, 184, 0, 97, 42, 180, 0, 53, 3, 43, 180, 0, 53]
abbrev dktX3_copy_12 : List UInt8 := dkwX3_copy_12 ++ dktX3_copy_13
def dkwX3_copy_11 : List UInt8 := [180, 0, 44, 3, 16, 17, 184, 0, 97, 42, 180, 0, 47, 3, 43, 180, 0, 47, 3, 16, 17, 184, 0, 97]
abbrev dktX3_copy_11 : List UInt8 := dkwX3_copy_11 ++ dktX3_copy_12
def dkwX3_copy_10 : List UInt8 := [184, 0, 97, 42, 180, 0, 41, 3, 43, 180, 0, 41, 3, 16, 17, 184, 0, 97, 42, 180, 0, 44, 3, 43]
abbrev dktX3_copy_10 : List UInt8 := dkwX3_copy_10 ++ dktX3_copy_11
def dkwX3_copy_9 : List UInt8 := [182, 0, 125, 87, 132, 2, 1, 167, 255, 215, 42, 180, 0, 38, 3, 43, 180, 0, 38, 3, 16, 17]
abbrev dktX3_copy_9 : List UInt8 := dkwX3_copy_9 ++ dktX3_copy_10
def dkwX3_copy_8 : List UInt8 := [180, 0, 77, 28, 42, 180, 0, 77, 28, 50, 182, 0, 167, 83, 43, 180, 0, 34, 43, 180, 0, 77, 28, 50]
abbrev dktX3_copy_8 : List UInt8 := dkwX3_copy_8 ++ dktX3_copy_9
def dkwX3_copy_7 : List UInt8 := [28, 50, 182, 0, 164, 132, 2, 1, 167, 255, 215, 3, 61, 28, 42, 180, 0, 77, 190, 162, 0, 38, 43]
abbrev dktX3_copy_7 : List UInt8 := dkwX3_copy_7 ++ dktX3_copy_8
def dkwX3_copy_6 : List UInt8 := [180, 0, 21, 28, 50, 43, 180, 0, 21, 28, 50, 182, 0, 160, 42, 180, 0, 27, 28, 50, 43, 180, 0, 27]
abbrev dktX3_copy_6 : List UInt8 := dkwX3_copy_6 ++ dktX3_copy_7
def dkwX3_copy_5 : List UInt8 := [3, 43, 180, 0, 15, 3, 16, 10, 184, 0, 97, 3, 61, 28, 42, 182, 0, 81, 162, 0, 39, 42]
abbrev dktX3_copy_5 : List UInt8 := dkwX3_copy_5 ++ dktX3_copy_6
def dkwX3_copy_4 : List UInt8 := [180, 0, 157, 181, 0, 157, 42, 180, 0, 9, 3, 43, 180, 0, 9, 3, 7, 184, 0, 97, 42, 180, 0, 15]
abbrev dktX3_copy_4 : List UInt8 := dkwX3_copy_4 ++ dktX3_copy_5
def dkwX3_copy_3 : List UInt8 := [180, 0, 147, 181, 0, 147, 43, 42, 180, 0, 150, 181, 0, 150, 43, 42, 180, 0, 153, 181, 0, 153, 43, 42]
abbrev dktX3_copy_3 : List UInt8 := dkwX3_copy_3 ++ dktX3_copy_4
def dkwX3_copy_2 : List UInt8 := [180, 0, 138, 181, 0, 138, 43, 42, 180, 0, 141, 181, 0, 141, 43, 42, 180, 0, 144, 181, 0, 144, 43, 42]
abbrev dktX3_copy_2 : List UInt8 := dkwX3_copy_2 ++ dktX3_copy_3
def dkwX3_copy_1 : List UInt8 := [180, 0, 95, 181, 0, 95, 43, 42, 180, 0, 132, 181, 0, 132, 43, 42, 180, 0, 135, 181, 0, 135, 43, 42]
abbrev dktX3_copy_1 : List UInt8 := dkwX3_copy_1 ++ dktX3_copy_2
def dkwX3_copy_0 : List UInt8 := [187, 0, 10, 89, 42, 180, 0, 59, 183, 0, 88, 76, 43, 42, 180, 0, 129, 181, 0, 129, 43, 42]
abbrev dktX3_copy_0 : List UInt8 := dkwX3_copy_0 ++ dktX3_copy_1
theorem dksX3_copy_0 : cX3_copy.data.toList.drop 0 = dktX3_copy_0 := by decide +kernel
theorem dksX3_copy_1 : cX3_copy.data.toList.drop 22 = dktX3_copy_1 := dk_seg dksX3_copy_0 22 rfl rfl
theorem dksX3_copy_2 : cX3_copy.data.toList.drop 46 = dktX3_copy_2 := dk_seg dksX3_copy_1 24 rfl rfl
theorem dksX3_copy_3 : cX3_copy.data.toList.drop 70 = dktX3_copy_3 := dk_seg dksX3_copy_2 24 rfl rfl
theorem dksX3_copy_4 : cX3_copy.data.toList.drop 94 = dktX3_copy_4 := dk_seg dksX3_copy_3 24 rfl rfl
theorem dksX3_copy_5 : cX3_copy.data.toList.drop 118 = dktX3_copy_5 := dk_seg dksX3_copy_4 24 rfl rfl
theorem dksX3_copy_6 : cX3_copy.data.toList.drop 140 = dktX3_copy_6 := dk_seg dksX3_copy_5 22 rfl rfl
theorem dksX3_copy_7 : cX3_copy.data.toList.drop 164 = dktX3_copy_7 := dk_seg dksX3_copy_6 24 rfl rfl
theorem dksX3_copy_8 : cX3_copy.data.toList.drop 187 = dktX3_copy_8 := dk_seg dksX3_copy_7 23 rfl rfl
theorem dksX3_copy_9 : cX3_copy.data.toList.drop 211 = dktX3_copy_9 := dk_seg dksX3_copy_8 24 rfl rfl
theorem dksX3_copy_10 : cX3_copy.data.toList.drop 233 = dktX3_copy_10 := dk_seg dksX3_copy_9 22 rfl rfl
theorem dksX3_copy_11 : cX3_copy.data.toList.drop 257 = dktX3_copy_11 := dk_seg dksX3_copy_10 24 rfl rfl
theorem dksX3_copy_12 : cX3_copy.data.toList.drop 281 = dktX3_copy_12 := dk_seg dksX3_copy_11 24 rfl rfl
theorem dksX3_copy_13 : cX3_copy.data.toList.drop 305 = dktX3_copy_13 := dk_seg dksX3_copy_12 24 rfl rfl
theorem dksX3_copy_14 : cX3_copy.data.toList.drop 329 = dktX3_copy_14 := dk_seg dksX3_copy_13 24 rfl rfl
theorem dX3_copy_0 : decode cX3_copy 0 = .ok (.new 10, 3) := dk_187 0 10 (dk_at dksX3_copy_0 0 rfl rfl)
theorem dX3_copy_3 : decode cX3_copy 3 = .ok (.dup, 1) := dk_89 (dk_at dksX3_copy_0 3 rfl rfl)
theorem dX3_copy_4 : decode cX3_copy 4 = .ok (.aload_n 0, 1) := dk_42 (dk_at dksX3_copy_0 4 rfl rfl)
theorem dX3_copy_5 : decode cX3_copy 5 = .ok (.getfield 59, 3) := dk_180 0 59 (dk_at dksX3_copy_0 5 rfl rfl)
theorem dX3_copy_8 : decode cX3_copy 8 = .ok (.invokespecial 88, 3) := dk_183 0 88 (dk_at dksX3_copy_0 8 rfl rfl)
theorem dX3_copy_11 : decode cX3_copy 11 = .ok (.astore_n 1, 1) := dk_76 (dk_at dksX3_copy_0 11 rfl rfl)
theorem dX3_copy_12 : decode cX3_copy 12 = .ok (.aload_n 1, 1) := dk_43 (dk_at dksX3_copy_0 12 rfl rfl)
theorem dX3_copy_13 : decode cX3_copy 13 = .ok (.aload_n 0, 1) := dk_42 (dk_at dksX3_copy_0 13 rfl rfl)
theorem dX3_copy_14 : decode cX3_copy 14 = .ok (.getfield 129, 3) := dk_180 0 129 (dk_at dksX3_copy_0 14 rfl rfl)
theorem dX3_copy_17 : decode cX3_copy 17 = .ok (.putfield 129, 3) := dk_181 0 129 (dk_at dksX3_copy_0 17 rfl rfl)
theorem dX3_copy_20 : decode cX3_copy 20 = .ok (.aload_n 1, 1) := dk_43 (dk_at dksX3_copy_0 20 rfl rfl)
theorem dX3_copy_21 : decode cX3_copy 21 = .ok (.aload_n 0, 1) := dk_42 (dk_at dksX3_copy_0 21 rfl rfl)
theorem dX3_copy_22 : decode cX3_copy 22 = .ok (.getfield 95, 3) := dk_180 0 95 (dk_at dksX3_copy_1 0 rfl rfl)
theorem dX3_copy_25 : decode cX3_copy 25 = .ok (.putfield 95, 3) := dk_181 0 95 (dk_at dksX3_copy_1 3 rfl rfl)
theorem dX3_copy_28 : decode cX3_copy 28 = .ok (.aload_n 1, 1) := dk_43 (dk_at dksX3_copy_1 6 rfl rfl)
theorem dX3_copy_29 : decode cX3_copy 29 = .ok (.aload_n 0, 1) := dk_42 (dk_at dksX3_copy_1 7 rfl rfl)
theorem dX3_copy_30 : decode cX3_copy 30 = .ok (.getfield 132, 3) := dk_180 0 132 (dk_at dksX3_copy_1 8 rfl rfl)
theorem dX3_copy_33 : decode cX3_copy 33 = .ok (.putfield 132, 3) := dk_181 0 132 (dk_at dksX3_copy_1 11 rfl rfl)
theorem dX3_copy_36 : decode cX3_copy 36 = .ok (.aload_n 1, 1) := dk_43 (dk_at dksX3_copy_1 14 rfl rfl)
theorem dX3_copy_37 : decode cX3_copy 37 = .ok (.aload_n 0, 1) := dk_42 (dk_at dksX3_copy_1 15 rfl rfl)
theorem dX3_copy_38 : decode cX3_copy 38 = .ok (.getfield 135, 3) := dk_180 0 135 (dk_at dksX3_copy_1 16 rfl rfl)
theorem dX3_copy_41 : decode cX3_copy 41 = .ok (.putfield 135, 3) := dk_181 0 135 (dk_at dksX3_copy_1 19 rfl rfl)
theorem dX3_copy_44 : decode cX3_copy 44 = .ok (.aload_n 1, 1) := dk_43 (dk_at dksX3_copy_1 22 rfl rfl)
theorem dX3_copy_45 : decode cX3_copy 45 = .ok (.aload_n 0, 1) := dk_42 (dk_at dksX3_copy_1 23 rfl rfl)
theorem dX3_copy_46 : decode cX3_copy 46 = .ok (.getfield 138, 3) := dk_180 0 138 (dk_at dksX3_copy_2 0 rfl rfl)
theorem dX3_copy_49 : decode cX3_copy 49 = .ok (.putfield 138, 3) := dk_181 0 138 (dk_at dksX3_copy_2 3 rfl rfl)
theorem dX3_copy_52 : decode cX3_copy 52 = .ok (.aload_n 1, 1) := dk_43 (dk_at dksX3_copy_2 6 rfl rfl)
theorem dX3_copy_53 : decode cX3_copy 53 = .ok (.aload_n 0, 1) := dk_42 (dk_at dksX3_copy_2 7 rfl rfl)
theorem dX3_copy_54 : decode cX3_copy 54 = .ok (.getfield 141, 3) := dk_180 0 141 (dk_at dksX3_copy_2 8 rfl rfl)
theorem dX3_copy_57 : decode cX3_copy 57 = .ok (.putfield 141, 3) := dk_181 0 141 (dk_at dksX3_copy_2 11 rfl rfl)
theorem dX3_copy_60 : decode cX3_copy 60 = .ok (.aload_n 1, 1) := dk_43 (dk_at dksX3_copy_2 14 rfl rfl)
theorem dX3_copy_61 : decode cX3_copy 61 = .ok (.aload_n 0, 1) := dk_42 (dk_at dksX3_copy_2 15 rfl rfl)
theorem dX3_copy_62 : decode cX3_copy 62 = .ok (.getfield 144, 3) := dk_180 0 144 (dk_at dksX3_copy_2 16 rfl rfl)
theorem dX3_copy_65 : decode cX3_copy 65 = .ok (.putfield 144, 3) := dk_181 0 144 (dk_at dksX3_copy_2 19 rfl rfl)
theorem dX3_copy_68 : decode cX3_copy 68 = .ok (.aload_n 1, 1) := dk_43 (dk_at dksX3_copy_2 22 rfl rfl)
theorem dX3_copy_69 : decode cX3_copy 69 = .ok (.aload_n 0, 1) := dk_42 (dk_at dksX3_copy_2 23 rfl rfl)
theorem dX3_copy_70 : decode cX3_copy 70 = .ok (.getfield 147, 3) := dk_180 0 147 (dk_at dksX3_copy_3 0 rfl rfl)
theorem dX3_copy_73 : decode cX3_copy 73 = .ok (.putfield 147, 3) := dk_181 0 147 (dk_at dksX3_copy_3 3 rfl rfl)
theorem dX3_copy_76 : decode cX3_copy 76 = .ok (.aload_n 1, 1) := dk_43 (dk_at dksX3_copy_3 6 rfl rfl)
theorem dX3_copy_77 : decode cX3_copy 77 = .ok (.aload_n 0, 1) := dk_42 (dk_at dksX3_copy_3 7 rfl rfl)
theorem dX3_copy_78 : decode cX3_copy 78 = .ok (.getfield 150, 3) := dk_180 0 150 (dk_at dksX3_copy_3 8 rfl rfl)
theorem dX3_copy_81 : decode cX3_copy 81 = .ok (.putfield 150, 3) := dk_181 0 150 (dk_at dksX3_copy_3 11 rfl rfl)
theorem dX3_copy_84 : decode cX3_copy 84 = .ok (.aload_n 1, 1) := dk_43 (dk_at dksX3_copy_3 14 rfl rfl)
theorem dX3_copy_85 : decode cX3_copy 85 = .ok (.aload_n 0, 1) := dk_42 (dk_at dksX3_copy_3 15 rfl rfl)
theorem dX3_copy_86 : decode cX3_copy 86 = .ok (.getfield 153, 3) := dk_180 0 153 (dk_at dksX3_copy_3 16 rfl rfl)
theorem dX3_copy_89 : decode cX3_copy 89 = .ok (.putfield 153, 3) := dk_181 0 153 (dk_at dksX3_copy_3 19 rfl rfl)
theorem dX3_copy_92 : decode cX3_copy 92 = .ok (.aload_n 1, 1) := dk_43 (dk_at dksX3_copy_3 22 rfl rfl)
theorem dX3_copy_93 : decode cX3_copy 93 = .ok (.aload_n 0, 1) := dk_42 (dk_at dksX3_copy_3 23 rfl rfl)
theorem dX3_copy_94 : decode cX3_copy 94 = .ok (.getfield 157, 3) := dk_180 0 157 (dk_at dksX3_copy_4 0 rfl rfl)
theorem dX3_copy_97 : decode cX3_copy 97 = .ok (.putfield 157, 3) := dk_181 0 157 (dk_at dksX3_copy_4 3 rfl rfl)
theorem dX3_copy_100 : decode cX3_copy 100 = .ok (.aload_n 0, 1) := dk_42 (dk_at dksX3_copy_4 6 rfl rfl)
theorem dX3_copy_101 : decode cX3_copy 101 = .ok (.getfield 9, 3) := dk_180 0 9 (dk_at dksX3_copy_4 7 rfl rfl)
theorem dX3_copy_104 : decode cX3_copy 104 = .ok (.iconst 0, 1) := dk_3 (dk_at dksX3_copy_4 10 rfl rfl)
theorem dX3_copy_105 : decode cX3_copy 105 = .ok (.aload_n 1, 1) := dk_43 (dk_at dksX3_copy_4 11 rfl rfl)
theorem dX3_copy_106 : decode cX3_copy 106 = .ok (.getfield 9, 3) := dk_180 0 9 (dk_at dksX3_copy_4 12 rfl rfl)
theorem dX3_copy_109 : decode cX3_copy 109 = .ok (.iconst 0, 1) := dk_3 (dk_at dksX3_copy_4 15 rfl rfl)
theorem dX3_copy_110 : decode cX3_copy 110 = .ok (.iconst 4, 1) := dk_7 (dk_at dksX3_copy_4 16 rfl rfl)
theorem dX3_copy_111 : decode cX3_copy 111 = .ok (.invokestatic 97, 3) := dk_184 0 97 (dk_at dksX3_copy_4 17 rfl rfl)
theorem dX3_copy_114 : decode cX3_copy 114 = .ok (.aload_n 0, 1) := dk_42 (dk_at dksX3_copy_4 20 rfl rfl)
theorem dX3_copy_115 : decode cX3_copy 115 = .ok (.getfield 15, 3) := dk_180 0 15 (dk_at dksX3_copy_4 21 rfl rfl)
theorem dX3_copy_118 : decode cX3_copy 118 = .ok (.iconst 0, 1) := dk_3 (dk_at dksX3_copy_5 0 rfl rfl)
theorem dX3_copy_119 : decode cX3_copy 119 = .ok (.aload_n 1, 1) := dk_43 (dk_at dksX3_copy_5 1 rfl rfl)
theorem dX3_copy_120 : decode cX3_copy 120 = .ok (.getfield 15, 3) := dk_180 0 15 (dk_at dksX3_copy_5 2 rfl rfl)
theorem dX3_copy_123 : decode cX3_copy 123 = .ok (.iconst 0, 1) := dk_3 (dk_at dksX3_copy_5 5 rfl rfl)
theorem dX3_copy_124 : decode cX3_copy 124 = .ok (.bipush 10, 2) := dk_16 10 (dk_at dksX3_copy_5 6 rfl rfl)
theorem dX3_copy_126 : decode cX3_copy 126 = .ok (.invokestatic 97, 3) := dk_184 0 97 (dk_at dksX3_copy_5 8 rfl rfl)
theorem dX3_copy_129 : decode cX3_copy 129 = .ok (.iconst 0, 1) := dk_3 (dk_at dksX3_copy_5 11 rfl rfl)
theorem dX3_copy_130 : decode cX3_copy 130 = .ok (.istore_n 2, 1) := dk_61 (dk_at dksX3_copy_5 12 rfl rfl)
theorem dX3_copy_131 : decode cX3_copy 131 = .ok (.iload_n 2, 1) := dk_28 (dk_at dksX3_copy_5 13 rfl rfl)
theorem dX3_copy_132 : decode cX3_copy 132 = .ok (.aload_n 0, 1) := dk_42 (dk_at dksX3_copy_5 14 rfl rfl)
theorem dX3_copy_133 : decode cX3_copy 133 = .ok (.invokevirtual 81, 3) := dk_182 0 81 (dk_at dksX3_copy_5 15 rfl rfl)
theorem dX3_copy_136 : decode cX3_copy 136 = .ok (.if_icmp .ge 39, 3) := dk_162 0 39 (dk_at dksX3_copy_5 18 rfl rfl)
theorem dX3_copy_139 : decode cX3_copy 139 = .ok (.aload_n 0, 1) := dk_42 (dk_at dksX3_copy_5 21 rfl rfl)
theorem dX3_copy_140 : decode cX3_copy 140 = .ok (.getfield 21, 3) := dk_180 0 21 (dk_at dksX3_copy_6 0 rfl rfl)
theorem dX3_copy_143 : decode cX3_copy 143 = .ok (.iload_n 2, 1) := dk_28 (dk_at dksX3_copy_6 3 rfl rfl)
theorem dX3_copy_144 : decode cX3_copy 144 = .ok (.aaload, 1) := dk_50 (dk_at dksX3_copy_6 4 rfl rfl)
theorem dX3_copy_145 : decode cX3_copy 145 = .ok (.aload_n 1, 1) := dk_43 (dk_at dksX3_copy_6 5 rfl rfl)
theorem dX3_copy_146 : decode cX3_copy 146 = .ok (.getfield 21, 3) := dk_180 0 21 (dk_at dksX3_copy_6 6 rfl rfl)
theorem dX3_copy_149 : decode cX3_copy 149 = .ok (.iload_n 2, 1) := dk_28 (dk_at dksX3_copy_6 9 rfl rfl)
theorem dX3_copy_150 : decode cX3_copy 150 = .ok (.aaload, 1) := dk_50 (dk_at dksX3_copy_6 10 rfl rfl)
theorem dX3_copy_151 : decode cX3_copy 151 = .ok (.invokevirtual 160, 3) := dk_182 0 160 (dk_at dksX3_copy_6 11 rfl rfl)
theorem dX3_copy_154 : decode cX3_copy 154 = .ok (.aload_n 0, 1) := dk_42 (dk_at dksX3_copy_6 14 rfl rfl)
theorem dX3_copy_155 : decode cX3_copy 155 = .ok (.getfield 27, 3) := dk_180 0 27 (dk_at dksX3_copy_6 15 rfl rfl)
theorem dX3_copy_158 : decode cX3_copy 158 = .ok (.iload_n 2, 1) := dk_28 (dk_at dksX3_copy_6 18 rfl rfl)
theorem dX3_copy_159 : decode cX3_copy 159 = .ok (.aaload, 1) := dk_50 (dk_at dksX3_copy_6 19 rfl rfl)
theorem dX3_copy_160 : decode cX3_copy 160 = .ok (.aload_n 1, 1) := dk_43 (dk_at dksX3_copy_6 20 rfl rfl)
theorem dX3_copy_161 : decode cX3_copy 161 = .ok (.getfield 27, 3) := dk_180 0 27 (dk_at dksX3_copy_6 21 rfl rfl)
theorem dX3_copy_164 : decode cX3_copy 164 = .ok (.iload_n 2, 1) := dk_28 (dk_at dksX3_copy_7 0 rfl rfl)
theorem dX3_copy_165 : decode cX3_copy 165 = .ok (.aaload, 1) := dk_50 (dk_at dksX3_copy_7 1 rfl rfl)
theorem dX3_copy_166 : decode cX3_copy 166 = .ok (.invokevirtual 164, 3) := dk_182 0 164 (dk_at dksX3_copy_7 2 rfl rfl)
theorem dX3_copy_169 : decode cX3_copy 169 = .ok (.iinc 2 1, 3) := dk_132 2 1 (dk_at dksX3_copy_7 5 rfl rfl)
theorem dX3_copy_172 : decode cX3_copy 172 = .ok (.goto (-41), 3) := dk_167 255 215 (dk_at dksX3_copy_7 8 rfl rfl)
theorem dX3_copy_175 : decode cX3_copy 175 = .ok (.iconst 0, 1) := dk_3 (dk_at dksX3_copy_7 11 rfl rfl)
theorem dX3_copy_176 : decode cX3_copy 176 = .ok (.istore_n 2, 1) := dk_61 (dk_at dksX3_copy_7 12 rfl rfl)
theorem dX3_copy_177 : decode cX3_copy 177 = .ok (.iload_n 2, 1) := dk_28 (dk_at dksX3_copy_7 13 rfl rfl)
theorem dX3_copy_178 : decode cX3_copy 178 = .ok (.aload_n 0, 1) := dk_42 (dk_at dksX3_copy_7 14 rfl rfl)
theorem dX3_copy_179 : decode cX3_copy 179 = .ok (.getfield 77, 3) := dk_180 0 77 (dk_at dksX3_copy_7 15 rfl rfl)
theorem dX3_copy_182 : decode cX3_copy 182 = .ok (.arraylength, 1) := dk_190 (dk_at dksX3_copy_7 18 rfl rfl)
theorem dX3_copy_183 : decode cX3_copy 183 = .ok (.if_icmp .ge 38, 3) := dk_162 0 38 (dk_at dksX3_copy_7 19 rfl rfl)
theorem dX3_copy_186 : decode cX3_copy 186 = .ok (.aload_n 1, 1) := dk_43 (dk_at dksX3_copy_7 22 rfl rfl)
theorem dX3_copy_187 : decode cX3_copy 187 = .ok (.getfield 77, 3) := dk_180 0 77 (dk_at dksX3_copy_8 0 rfl rfl)
theorem dX3_copy_190 : decode cX3_copy 190 = .ok (.iload_n 2, 1) := dk_28 (dk_at dksX3_copy_8 3 rfl rfl)
theorem dX3_copy_191 : decode cX3_copy 191 = .ok (.aload_n 0, 1) := dk_42 (dk_at dksX3_copy_8 4 rfl rfl)
theorem dX3_copy_192 : decode cX3_copy 192 = .ok (.getfield 77, 3) := dk_180 0 77 (dk_at dksX3_copy_8 5 rfl rfl)
theorem dX3_copy_195 : decode cX3_copy 195 = .ok (.iload_n 2, 1) := dk_28 (dk_at dksX3_copy_8 8 rfl rfl)
theorem dX3_copy_196 : decode cX3_copy 196 = .ok (.aaload, 1) := dk_50 (dk_at dksX3_copy_8 9 rfl rfl)
theorem dX3_copy_197 : decode cX3_copy 197 = .ok (.invokevirtual 167, 3) := dk_182 0 167 (dk_at dksX3_copy_8 10 rfl rfl)
theorem dX3_copy_200 : decode cX3_copy 200 = .ok (.aastore, 1) := dk_83 (dk_at dksX3_copy_8 13 rfl rfl)
theorem dX3_copy_201 : decode cX3_copy 201 = .ok (.aload_n 1, 1) := dk_43 (dk_at dksX3_copy_8 14 rfl rfl)
theorem dX3_copy_202 : decode cX3_copy 202 = .ok (.getfield 34, 3) := dk_180 0 34 (dk_at dksX3_copy_8 15 rfl rfl)
theorem dX3_copy_205 : decode cX3_copy 205 = .ok (.aload_n 1, 1) := dk_43 (dk_at dksX3_copy_8 18 rfl rfl)
theorem dX3_copy_206 : decode cX3_copy 206 = .ok (.getfield 77, 3) := dk_180 0 77 (dk_at dksX3_copy_8 19 rfl rfl)
theorem dX3_copy_209 : decode cX3_copy 209 = .ok (.iload_n 2, 1) := dk_28 (dk_at dksX3_copy_8 22 rfl rfl)
theorem dX3_copy_210 : decode cX3_copy 210 = .ok (.aaload, 1) := dk_50 (dk_at dksX3_copy_8 23 rfl rfl)
theorem dX3_copy_211 : decode cX3_copy 211 = .ok (.invokevirtual 125, 3) := dk_182 0 125 (dk_at dksX3_copy_9 0 rfl rfl)
theorem dX3_copy_214 : decode cX3_copy 214 = .ok (.pop, 1) := dk_87 (dk_at dksX3_copy_9 3 rfl rfl)
theorem dX3_copy_215 : decode cX3_copy 215 = .ok (.iinc 2 1, 3) := dk_132 2 1 (dk_at dksX3_copy_9 4 rfl rfl)
theorem dX3_copy_218 : decode cX3_copy 218 = .ok (.goto (-41), 3) := dk_167 255 215 (dk_at dksX3_copy_9 7 rfl rfl)
theorem dX3_copy_221 : decode cX3_copy 221 = .ok (.aload_n 0, 1) := dk_42 (dk_at dksX3_copy_9 10 rfl rfl)
theorem dX3_copy_222 : decode cX3_copy 222 = .ok (.getfield 38, 3) := dk_180 0 38 (dk_at dksX3_copy_9 11 rfl rfl)
theorem dX3_copy_225 : decode cX3_copy 225 = .ok (.iconst 0, 1) := dk_3 (dk_at dksX3_copy_9 14 rfl rfl)
theorem dX3_copy_226 : decode cX3_copy 226 = .ok (.aload_n 1, 1) := dk_43 (dk_at dksX3_copy_9 15 rfl rfl)
theorem dX3_copy_227 : decode cX3_copy 227 = .ok (.getfield 38, 3) := dk_180 0 38 (dk_at dksX3_copy_9 16 rfl rfl)
theorem dX3_copy_230 : decode cX3_copy 230 = .ok (.iconst 0, 1) := dk_3 (dk_at dksX3_copy_9 19 rfl rfl)
theorem dX3_copy_231 : decode cX3_copy 231 = .ok (.bipush 17, 2) := dk_16 17 (dk_at dksX3_copy_9 20 rfl rfl)
theorem dX3_copy_233 : decode cX3_copy 233 = .ok (.invokestatic 97, 3) := dk_184 0 97 (dk_at dksX3_copy_10 0 rfl rfl)
theorem dX3_copy_236 : decode cX3_copy 236 = .ok (.aload_n 0, 1) := dk_42 (dk_at dksX3_copy_10 3 rfl rfl)
theorem dX3_copy_237 : decode cX3_copy 237 = .ok (.getfield 41, 3) := dk_180 0 41 (dk_at dksX3_copy_10 4 rfl rfl)
theorem dX3_copy_240 : decode cX3_copy 240 = .ok (.iconst 0, 1) := dk_3 (dk_at dksX3_copy_10 7 rfl rfl)
theorem dX3_copy_241 : decode cX3_copy 241 = .ok (.aload_n 1, 1) := dk_43 (dk_at dksX3_copy_10 8 rfl rfl)
theorem dX3_copy_242 : decode cX3_copy 242 = .ok (.getfield 41, 3) := dk_180 0 41 (dk_at dksX3_copy_10 9 rfl rfl)
theorem dX3_copy_245 : decode cX3_copy 245 = .ok (.iconst 0, 1) := dk_3 (dk_at dksX3_copy_10 12 rfl rfl)
theorem dX3_copy_246 : decode cX3_copy 246 = .ok (.bipush 17, 2) := dk_16 17 (dk_at dksX3_copy_10 13 rfl rfl)
theorem dX3_copy_248 : decode cX3_copy 248 = .ok (.invokestatic 97, 3) := dk_184 0 97 (dk_at dksX3_copy_10 15 rfl rfl)
theorem dX3_copy_251 : decode cX3_copy 251 = .ok (.aload_n 0, 1) := dk_42 (dk_at dksX3_copy_10 18 rfl rfl)
theorem dX3_copy_252 : decode cX3_copy 252 = .ok (.getfield 44, 3) := dk_180 0 44 (dk_at dksX3_copy_10 19 rfl rfl)
theorem dX3_copy_255 : decode cX3_copy 255 = .ok (.iconst 0, 1) := dk_3 (dk_at dksX3_copy_10 22 rfl rfl)
theorem dX3_copy_256 : decode cX3_copy 256 = .ok (.aload_n 1, 1) := dk_43 (dk_at dksX3_copy_10 23 rfl rfl)
theorem dX3_copy_257 : decode cX3_copy 257 = .ok (.getfield 44, 3) := dk_180 0 44 (dk_at dksX3_copy_11 0 rfl rfl)
theorem dX3_copy_260 : decode cX3_copy 260 = .ok (.iconst 0, 1) := dk_3 (dk_at dksX3_copy_11 3 rfl rfl)
theorem dX3_copy_261 : decode cX3_copy 261 = .ok (.bipush 17, 2) := dk_16 17 (dk_at dksX3_copy_11 4 rfl rfl)
theorem dX3_copy_263 : decode cX3_copy 263 = .ok (.invokestatic 97, 3) := dk_184 0 97 (dk_at dksX3_copy_11 6 rfl rfl)
theorem dX3_copy_266 : decode cX3_copy 266 = .ok (.aload_n 0, 1) := dk_42 (dk_at dksX3_copy_11 9 rfl rfl)
theorem dX3_copy_267 : decode cX3_copy 267 = .ok (.getfield 47, 3) := dk_180 0 47 (dk_at dksX3_copy_11 10 rfl rfl)
theorem dX3_copy_270 : decode cX3_copy 270 = .ok (.iconst 0, 1) := dk_3 (dk_at dksX3_copy_11 13 rfl rfl)
theorem dX3_copy_271 : decode cX3_copy 271 = .ok (.aload_n 1, 1) := dk_43 (dk_at dksX3_copy_11 14 rfl rfl)
theorem dX3_copy_272 : decode cX3_copy 272 = .ok (.getfield 47, 3) := dk_180 0 47 (dk_at dksX3_copy_11 15 rfl rfl)
theorem dX3_copy_275 : decode cX3_copy 275 = .ok (.iconst 0, 1) := dk_3 (dk_at dksX3_copy_11 18 rfl rfl)
theorem dX3_copy_276 : decode cX3_copy 276 = .ok (.bipush 17, 2) := dk_16 17 (dk_at dksX3_copy_11 19 rfl rfl)
theorem dX3_copy_278 : decode cX3_copy 278 = .ok (.invokestatic 97, 3) := dk_184 0 97 (dk_at dksX3_copy_11 21 rfl rfl)
theorem dX3_copy_281 : decode cX3_copy 281 = .ok (.aload_n 0, 1) := dk_42 (dk_at dksX3_copy_12 0 rfl rfl)
theorem dX3_copy_282 : decode cX3_copy 282 = .ok (.getfield 50, 3) := dk_180 0 50 (dk_at dksX3_copy_12 1 rfl rfl)
theorem dX3_copy_285 : decode cX3_copy 285 = .ok (.iconst 0, 1) := dk_3 (dk_at dksX3_copy_12 4 rfl rfl)
theorem dX3_copy_286 : decode cX3_copy 286 = .ok (.aload_n 1, 1) := dk_43 (dk_at dksX3_copy_12 5 rfl rfl)
theorem dX3_copy_287 : decode cX3_copy 287 = .ok (.getfield 50, 3) := dk_180 0 50 (dk_at dksX3_copy_12 6 rfl rfl)
theorem dX3_copy_290 : decode cX3_copy 290 = .ok (.iconst 0, 1) := dk_3 (dk_at dksX3_copy_12 9 rfl rfl)
theorem dX3_copy_291 : decode cX3_copy 291 = .ok (.bipush 17, 2) := dk_16 17 (dk_at dksX3_copy_12 10 rfl rfl)
theorem dX3_copy_293 : decode cX3_copy 293 = .ok (.invokestatic 97, 3) := dk_184 0 97 (dk_at dksX3_copy_12 12 rfl rfl)
theorem dX3_copy_296 : decode cX3_copy 296 = .ok (.aload_n 0, 1) := dk_42 (dk_at dksX3_copy_12 15 rfl rfl)
theorem dX3_copy_297 : decode cX3_copy 297 = .ok (.getfield 53, 3) := dk_180 0 53 (dk_at dksX3_copy_12 16 rfl rfl)
theorem dX3_copy_300 : decode cX3_copy 300 = .ok (.iconst 0, 1) := dk_3 (dk_at dksX3_copy_12 19 rfl rfl)
theorem dX3_copy_301 : decode cX3_copy 301 = .ok (.aload_n 1, 1) := dk_43 (dk_at dksX3_copy_12 20 rfl rfl)
theorem dX3_copy_302 : decode cX3_copy 302 = .ok (.getfield 53, 3) := dk_180 0 53 (dk_at dksX3_copy_12 21 rfl rfl)
theorem dX3_copy_305 : decode cX3_copy 305 = .ok (.iconst 0, 1) := dk_3 (dk_at dksX3_copy_13 0 rfl rfl)
theorem dX3_copy_306 : decode cX3_copy 306 = .ok (.bipush 16, 2) := dk_16 16 (dk_at dksX3_copy_13 1 rfl rfl)
theorem dX3_copy_308 : decode cX3_copy 308 = .ok (.invokestatic 97, 3) := dk_184 0 97 (dk_at dksX3_copy_13 3 rfl rfl)
theorem dX3_copy_311 : decode cX3_copy 311 = .ok (.aload_n 0, 1) := dk_42 (dk_at dksX3_copy_13 6 rfl rfl)
theorem dX3_copy_312 : decode cX3_copy 312 = .ok (.getfield 56, 3) := dk_180 0 56 (dk_at dksX3_copy_13 7 rfl rfl)
theorem dX3_copy_315 : decode cX3_copy 315 = .ok (.iconst 0, 1) := dk_3 (dk_at dksX3_copy_13 10 rfl rfl)
theorem dX3_copy_316 : decode cX3_copy 316 = .ok (.aload_n 1, 1) := dk_43 (dk_at dksX3_copy_13 11 rfl rfl)
theorem dX3_copy_317 : decode cX3_copy 317 = .ok (.getfield 56, 3) := dk_180 0 56 (dk_at dksX3_copy_13 12 rfl rfl)
theorem dX3_copy_320 : decode cX3_copy 320 = .ok (.iconst 0, 1) := dk_3 (dk_at dksX3_copy_13 15 rfl rfl)
theorem dX3_copy_321 : decode cX3_copy 321 = .ok (.aload_n 0, 1) := dk_42 (dk_at dksX3_copy_13 16 rfl rfl)
theorem dX3_copy_322 : decode cX3_copy 322 = .ok (.getfield 56, 3) := dk_180 0 56 (dk_at dksX3_copy_13 17 rfl rfl)
theorem dX3_copy_325 : decode cX3_copy 325 = .ok (.arraylength, 1) := dk_190 (dk_at dksX3_copy_13 20 rfl rfl)
theorem dX3_copy_326 : decode cX3_copy 326 = .ok (.invokestatic 97, 3) := dk_184 0 97 (dk_at dksX3_copy_13 21 rfl rfl)
theorem dX3_copy_329 : decode cX3_copy 329 = .ok (.aload_n 1, 1) := dk_43 (dk_at dksX3_copy_14 0 rfl rfl)
theorem dX3_copy_330 : decode cX3_copy 330 = .ok (.areturn, 1) := dk_176 (dk_at dksX3_copy_14 1 rfl rfl)
abbrev cX3_delay : ByteArray := prog_9_method_26_code
def yX3_delay : MethodName := ⟨RX3, "delay", "(LBusLine$Bus;I)I"⟩
def dkwX3_delay_1 : List UInt8 := [182, 0, 125, 87, 43, 180, 0, 174, 172]
abbrev dktX3_delay_1 : List UInt8 := dkwX3_delay_1 ++ []
def dkwX3_delay_0 : List UInt8 := [42, 180, 0, 34, 43, 182, 1, 109, 87, 43, 89, 180, 0, 174, 28, 96, 181, 0, 174, 42, 180, 0, 34, 43]
abbrev dktX3_delay_0 : List UInt8 := dkwX3_delay_0 ++ dktX3_delay_1
theorem dksX3_delay_0 : cX3_delay.data.toList.drop 0 = dktX3_delay_0 := by decide +kernel
theorem dksX3_delay_1 : cX3_delay.data.toList.drop 24 = dktX3_delay_1 := dk_seg dksX3_delay_0 24 rfl rfl
theorem dX3_delay_0 : decode cX3_delay 0 = .ok (.aload_n 0, 1) := dk_42 (dk_at dksX3_delay_0 0 rfl rfl)
theorem dX3_delay_1 : decode cX3_delay 1 = .ok (.getfield 34, 3) := dk_180 0 34 (dk_at dksX3_delay_0 1 rfl rfl)
theorem dX3_delay_4 : decode cX3_delay 4 = .ok (.aload_n 1, 1) := dk_43 (dk_at dksX3_delay_0 4 rfl rfl)
theorem dX3_delay_5 : decode cX3_delay 5 = .ok (.invokevirtual 365, 3) := dk_182 1 109 (dk_at dksX3_delay_0 5 rfl rfl)
theorem dX3_delay_8 : decode cX3_delay 8 = .ok (.pop, 1) := dk_87 (dk_at dksX3_delay_0 8 rfl rfl)
theorem dX3_delay_9 : decode cX3_delay 9 = .ok (.aload_n 1, 1) := dk_43 (dk_at dksX3_delay_0 9 rfl rfl)
theorem dX3_delay_10 : decode cX3_delay 10 = .ok (.dup, 1) := dk_89 (dk_at dksX3_delay_0 10 rfl rfl)
theorem dX3_delay_11 : decode cX3_delay 11 = .ok (.getfield 174, 3) := dk_180 0 174 (dk_at dksX3_delay_0 11 rfl rfl)
theorem dX3_delay_14 : decode cX3_delay 14 = .ok (.iload_n 2, 1) := dk_28 (dk_at dksX3_delay_0 14 rfl rfl)
theorem dX3_delay_15 : decode cX3_delay 15 = .ok (.iadd, 1) := dk_96 (dk_at dksX3_delay_0 15 rfl rfl)
theorem dX3_delay_16 : decode cX3_delay 16 = .ok (.putfield 174, 3) := dk_181 0 174 (dk_at dksX3_delay_0 16 rfl rfl)
theorem dX3_delay_19 : decode cX3_delay 19 = .ok (.aload_n 0, 1) := dk_42 (dk_at dksX3_delay_0 19 rfl rfl)
theorem dX3_delay_20 : decode cX3_delay 20 = .ok (.getfield 34, 3) := dk_180 0 34 (dk_at dksX3_delay_0 20 rfl rfl)
theorem dX3_delay_23 : decode cX3_delay 23 = .ok (.aload_n 1, 1) := dk_43 (dk_at dksX3_delay_0 23 rfl rfl)
theorem dX3_delay_24 : decode cX3_delay 24 = .ok (.invokevirtual 125, 3) := dk_182 0 125 (dk_at dksX3_delay_1 0 rfl rfl)
theorem dX3_delay_27 : decode cX3_delay 27 = .ok (.pop, 1) := dk_87 (dk_at dksX3_delay_1 3 rfl rfl)
theorem dX3_delay_28 : decode cX3_delay 28 = .ok (.aload_n 1, 1) := dk_43 (dk_at dksX3_delay_1 4 rfl rfl)
theorem dX3_delay_29 : decode cX3_delay 29 = .ok (.getfield 174, 3) := dk_180 0 174 (dk_at dksX3_delay_1 5 rfl rfl)
theorem dX3_delay_32 : decode cX3_delay 32 = .ok (.ireturn, 1) := dk_172 (dk_at dksX3_delay_1 8 rfl rfl)
abbrev cX3_group : ByteArray := prog_9_method_12_code
def yX3_group : MethodName := ⟨RX3, "group", "(III)I"⟩
def dkwX3_group_2 : List UInt8 := [167, 255, 224, 21, 4, 172]
abbrev dktX3_group_2 : List UInt8 := dkwX3_group_2 ++ []
def dkwX3_group_1 : List UInt8 := [180, 0, 21, 27, 50, 28, 42, 180, 0, 129, 16, 16, 182, 0, 221, 153, 0, 6, 132, 4, 1, 132, 5, 1]
abbrev dktX3_group_1 : List UInt8 := dkwX3_group_1 ++ dktX3_group_2
def dkwX3_group_0 : List UInt8 := [42, 27, 42, 180, 0, 129, 182, 0, 225, 3, 54, 4, 3, 54, 5, 21, 5, 29, 162, 0, 32, 42, 42]
abbrev dktX3_group_0 : List UInt8 := dkwX3_group_0 ++ dktX3_group_1
theorem dksX3_group_0 : cX3_group.data.toList.drop 0 = dktX3_group_0 := by decide +kernel
theorem dksX3_group_1 : cX3_group.data.toList.drop 23 = dktX3_group_1 := dk_seg dksX3_group_0 23 rfl rfl
theorem dksX3_group_2 : cX3_group.data.toList.drop 47 = dktX3_group_2 := dk_seg dksX3_group_1 24 rfl rfl
theorem dX3_group_0 : decode cX3_group 0 = .ok (.aload_n 0, 1) := dk_42 (dk_at dksX3_group_0 0 rfl rfl)
theorem dX3_group_1 : decode cX3_group 1 = .ok (.iload_n 1, 1) := dk_27 (dk_at dksX3_group_0 1 rfl rfl)
theorem dX3_group_2 : decode cX3_group 2 = .ok (.aload_n 0, 1) := dk_42 (dk_at dksX3_group_0 2 rfl rfl)
theorem dX3_group_3 : decode cX3_group 3 = .ok (.getfield 129, 3) := dk_180 0 129 (dk_at dksX3_group_0 3 rfl rfl)
theorem dX3_group_6 : decode cX3_group 6 = .ok (.invokevirtual 225, 3) := dk_182 0 225 (dk_at dksX3_group_0 6 rfl rfl)
theorem dX3_group_9 : decode cX3_group 9 = .ok (.iconst 0, 1) := dk_3 (dk_at dksX3_group_0 9 rfl rfl)
theorem dX3_group_10 : decode cX3_group 10 = .ok (.istore 4, 2) := dk_54 4 (dk_at dksX3_group_0 10 rfl rfl)
theorem dX3_group_12 : decode cX3_group 12 = .ok (.iconst 0, 1) := dk_3 (dk_at dksX3_group_0 12 rfl rfl)
theorem dX3_group_13 : decode cX3_group 13 = .ok (.istore 5, 2) := dk_54 5 (dk_at dksX3_group_0 13 rfl rfl)
theorem dX3_group_15 : decode cX3_group 15 = .ok (.iload 5, 2) := dk_21 5 (dk_at dksX3_group_0 15 rfl rfl)
theorem dX3_group_17 : decode cX3_group 17 = .ok (.iload_n 3, 1) := dk_29 (dk_at dksX3_group_0 17 rfl rfl)
theorem dX3_group_18 : decode cX3_group 18 = .ok (.if_icmp .ge 32, 3) := dk_162 0 32 (dk_at dksX3_group_0 18 rfl rfl)
theorem dX3_group_21 : decode cX3_group 21 = .ok (.aload_n 0, 1) := dk_42 (dk_at dksX3_group_0 21 rfl rfl)
theorem dX3_group_22 : decode cX3_group 22 = .ok (.aload_n 0, 1) := dk_42 (dk_at dksX3_group_0 22 rfl rfl)
theorem dX3_group_23 : decode cX3_group 23 = .ok (.getfield 21, 3) := dk_180 0 21 (dk_at dksX3_group_1 0 rfl rfl)
theorem dX3_group_26 : decode cX3_group 26 = .ok (.iload_n 1, 1) := dk_27 (dk_at dksX3_group_1 3 rfl rfl)
theorem dX3_group_27 : decode cX3_group 27 = .ok (.aaload, 1) := dk_50 (dk_at dksX3_group_1 4 rfl rfl)
theorem dX3_group_28 : decode cX3_group 28 = .ok (.iload_n 2, 1) := dk_28 (dk_at dksX3_group_1 5 rfl rfl)
theorem dX3_group_29 : decode cX3_group 29 = .ok (.aload_n 0, 1) := dk_42 (dk_at dksX3_group_1 6 rfl rfl)
theorem dX3_group_30 : decode cX3_group 30 = .ok (.getfield 129, 3) := dk_180 0 129 (dk_at dksX3_group_1 7 rfl rfl)
theorem dX3_group_33 : decode cX3_group 33 = .ok (.bipush 16, 2) := dk_16 16 (dk_at dksX3_group_1 10 rfl rfl)
theorem dX3_group_35 : decode cX3_group 35 = .ok (.invokevirtual 221, 3) := dk_182 0 221 (dk_at dksX3_group_1 12 rfl rfl)
theorem dX3_group_38 : decode cX3_group 38 = .ok (.ifCond .eq 6, 3) := dk_153 0 6 (dk_at dksX3_group_1 15 rfl rfl)
theorem dX3_group_41 : decode cX3_group 41 = .ok (.iinc 4 1, 3) := dk_132 4 1 (dk_at dksX3_group_1 18 rfl rfl)
theorem dX3_group_44 : decode cX3_group 44 = .ok (.iinc 5 1, 3) := dk_132 5 1 (dk_at dksX3_group_1 21 rfl rfl)
theorem dX3_group_47 : decode cX3_group 47 = .ok (.goto (-32), 3) := dk_167 255 224 (dk_at dksX3_group_2 0 rfl rfl)
theorem dX3_group_50 : decode cX3_group 50 = .ok (.iload 4, 2) := dk_21 4 (dk_at dksX3_group_2 3 rfl rfl)
theorem dX3_group_52 : decode cX3_group 52 = .ok (.ireturn, 1) := dk_172 (dk_at dksX3_group_2 5 rfl rfl)
abbrev cX3_bring : ByteArray := prog_9_method_11_code
def yX3_bring : MethodName := ⟨RX3, "bring", "(II)V"⟩
def dkwX3_bring_3 : List UInt8 := [28, 182, 0, 214, 58, 4, 167, 255, 194, 42, 45, 28, 182, 0, 193, 177]
abbrev dktX3_bring_3 : List UInt8 := dkwX3_bring_3 ++ []
def dkwX3_bring_2 : List UInt8 := [46, 4, 96, 79, 42, 45, 25, 4, 180, 0, 218, 21, 5, 25, 4, 180, 0, 209, 182, 0, 221, 87, 42, 27]
abbrev dktX3_bring_2 : List UInt8 := dkwX3_bring_2 ++ dktX3_bring_3
def dkwX3_bring_1 : List UInt8 := [180, 0, 53, 25, 4, 180, 0, 209, 46, 182, 0, 210, 54, 5, 42, 180, 0, 53, 25, 4, 180, 0, 209, 92]
abbrev dktX3_bring_1 : List UInt8 := dkwX3_bring_1 ++ dktX3_bring_2
def dkwX3_bring_0 : List UInt8 := [42, 180, 0, 21, 27, 50, 78, 42, 27, 28, 182, 0, 214, 58, 4, 25, 4, 198, 0, 63, 25, 4, 42]
abbrev dktX3_bring_0 : List UInt8 := dkwX3_bring_0 ++ dktX3_bring_1
theorem dksX3_bring_0 : cX3_bring.data.toList.drop 0 = dktX3_bring_0 := by decide +kernel
theorem dksX3_bring_1 : cX3_bring.data.toList.drop 23 = dktX3_bring_1 := dk_seg dksX3_bring_0 23 rfl rfl
theorem dksX3_bring_2 : cX3_bring.data.toList.drop 47 = dktX3_bring_2 := dk_seg dksX3_bring_1 24 rfl rfl
theorem dksX3_bring_3 : cX3_bring.data.toList.drop 71 = dktX3_bring_3 := dk_seg dksX3_bring_2 24 rfl rfl
theorem dX3_bring_0 : decode cX3_bring 0 = .ok (.aload_n 0, 1) := dk_42 (dk_at dksX3_bring_0 0 rfl rfl)
theorem dX3_bring_1 : decode cX3_bring 1 = .ok (.getfield 21, 3) := dk_180 0 21 (dk_at dksX3_bring_0 1 rfl rfl)
theorem dX3_bring_4 : decode cX3_bring 4 = .ok (.iload_n 1, 1) := dk_27 (dk_at dksX3_bring_0 4 rfl rfl)
theorem dX3_bring_5 : decode cX3_bring 5 = .ok (.aaload, 1) := dk_50 (dk_at dksX3_bring_0 5 rfl rfl)
theorem dX3_bring_6 : decode cX3_bring 6 = .ok (.astore_n 3, 1) := dk_78 (dk_at dksX3_bring_0 6 rfl rfl)
theorem dX3_bring_7 : decode cX3_bring 7 = .ok (.aload_n 0, 1) := dk_42 (dk_at dksX3_bring_0 7 rfl rfl)
theorem dX3_bring_8 : decode cX3_bring 8 = .ok (.iload_n 1, 1) := dk_27 (dk_at dksX3_bring_0 8 rfl rfl)
theorem dX3_bring_9 : decode cX3_bring 9 = .ok (.iload_n 2, 1) := dk_28 (dk_at dksX3_bring_0 9 rfl rfl)
theorem dX3_bring_10 : decode cX3_bring 10 = .ok (.invokevirtual 214, 3) := dk_182 0 214 (dk_at dksX3_bring_0 10 rfl rfl)
theorem dX3_bring_13 : decode cX3_bring 13 = .ok (.astore 4, 2) := dk_58 4 (dk_at dksX3_bring_0 13 rfl rfl)
theorem dX3_bring_15 : decode cX3_bring 15 = .ok (.aload 4, 2) := dk_25 4 (dk_at dksX3_bring_0 15 rfl rfl)
theorem dX3_bring_17 : decode cX3_bring 17 = .ok (.ifnull 63, 3) := dk_198 0 63 (dk_at dksX3_bring_0 17 rfl rfl)
theorem dX3_bring_20 : decode cX3_bring 20 = .ok (.aload 4, 2) := dk_25 4 (dk_at dksX3_bring_0 20 rfl rfl)
theorem dX3_bring_22 : decode cX3_bring 22 = .ok (.aload_n 0, 1) := dk_42 (dk_at dksX3_bring_0 22 rfl rfl)
theorem dX3_bring_23 : decode cX3_bring 23 = .ok (.getfield 53, 3) := dk_180 0 53 (dk_at dksX3_bring_1 0 rfl rfl)
theorem dX3_bring_26 : decode cX3_bring 26 = .ok (.aload 4, 2) := dk_25 4 (dk_at dksX3_bring_1 3 rfl rfl)
theorem dX3_bring_28 : decode cX3_bring 28 = .ok (.getfield 209, 3) := dk_180 0 209 (dk_at dksX3_bring_1 5 rfl rfl)
theorem dX3_bring_31 : decode cX3_bring 31 = .ok (.iaload, 1) := dk_46 (dk_at dksX3_bring_1 8 rfl rfl)
theorem dX3_bring_32 : decode cX3_bring 32 = .ok (.invokevirtual 210, 3) := dk_182 0 210 (dk_at dksX3_bring_1 9 rfl rfl)
theorem dX3_bring_35 : decode cX3_bring 35 = .ok (.istore 5, 2) := dk_54 5 (dk_at dksX3_bring_1 12 rfl rfl)
theorem dX3_bring_37 : decode cX3_bring 37 = .ok (.aload_n 0, 1) := dk_42 (dk_at dksX3_bring_1 14 rfl rfl)
theorem dX3_bring_38 : decode cX3_bring 38 = .ok (.getfield 53, 3) := dk_180 0 53 (dk_at dksX3_bring_1 15 rfl rfl)
theorem dX3_bring_41 : decode cX3_bring 41 = .ok (.aload 4, 2) := dk_25 4 (dk_at dksX3_bring_1 18 rfl rfl)
theorem dX3_bring_43 : decode cX3_bring 43 = .ok (.getfield 209, 3) := dk_180 0 209 (dk_at dksX3_bring_1 20 rfl rfl)
theorem dX3_bring_46 : decode cX3_bring 46 = .ok (.dup2, 1) := dk_92 (dk_at dksX3_bring_1 23 rfl rfl)
theorem dX3_bring_47 : decode cX3_bring 47 = .ok (.iaload, 1) := dk_46 (dk_at dksX3_bring_2 0 rfl rfl)
theorem dX3_bring_48 : decode cX3_bring 48 = .ok (.iconst 1, 1) := dk_4 (dk_at dksX3_bring_2 1 rfl rfl)
theorem dX3_bring_49 : decode cX3_bring 49 = .ok (.iadd, 1) := dk_96 (dk_at dksX3_bring_2 2 rfl rfl)
theorem dX3_bring_50 : decode cX3_bring 50 = .ok (.iastore, 1) := dk_79 (dk_at dksX3_bring_2 3 rfl rfl)
theorem dX3_bring_51 : decode cX3_bring 51 = .ok (.aload_n 0, 1) := dk_42 (dk_at dksX3_bring_2 4 rfl rfl)
theorem dX3_bring_52 : decode cX3_bring 52 = .ok (.aload_n 3, 1) := dk_45 (dk_at dksX3_bring_2 5 rfl rfl)
theorem dX3_bring_53 : decode cX3_bring 53 = .ok (.aload 4, 2) := dk_25 4 (dk_at dksX3_bring_2 6 rfl rfl)
theorem dX3_bring_55 : decode cX3_bring 55 = .ok (.getfield 218, 3) := dk_180 0 218 (dk_at dksX3_bring_2 8 rfl rfl)
theorem dX3_bring_58 : decode cX3_bring 58 = .ok (.iload 5, 2) := dk_21 5 (dk_at dksX3_bring_2 11 rfl rfl)
theorem dX3_bring_60 : decode cX3_bring 60 = .ok (.aload 4, 2) := dk_25 4 (dk_at dksX3_bring_2 13 rfl rfl)
theorem dX3_bring_62 : decode cX3_bring 62 = .ok (.getfield 209, 3) := dk_180 0 209 (dk_at dksX3_bring_2 15 rfl rfl)
theorem dX3_bring_65 : decode cX3_bring 65 = .ok (.invokevirtual 221, 3) := dk_182 0 221 (dk_at dksX3_bring_2 18 rfl rfl)
theorem dX3_bring_68 : decode cX3_bring 68 = .ok (.pop, 1) := dk_87 (dk_at dksX3_bring_2 21 rfl rfl)
theorem dX3_bring_69 : decode cX3_bring 69 = .ok (.aload_n 0, 1) := dk_42 (dk_at dksX3_bring_2 22 rfl rfl)
theorem dX3_bring_70 : decode cX3_bring 70 = .ok (.iload_n 1, 1) := dk_27 (dk_at dksX3_bring_2 23 rfl rfl)
theorem dX3_bring_71 : decode cX3_bring 71 = .ok (.iload_n 2, 1) := dk_28 (dk_at dksX3_bring_3 0 rfl rfl)
theorem dX3_bring_72 : decode cX3_bring 72 = .ok (.invokevirtual 214, 3) := dk_182 0 214 (dk_at dksX3_bring_3 1 rfl rfl)
theorem dX3_bring_75 : decode cX3_bring 75 = .ok (.astore 4, 2) := dk_58 4 (dk_at dksX3_bring_3 4 rfl rfl)
theorem dX3_bring_77 : decode cX3_bring 77 = .ok (.goto (-62), 3) := dk_167 255 194 (dk_at dksX3_bring_3 6 rfl rfl)
theorem dX3_bring_80 : decode cX3_bring 80 = .ok (.aload_n 0, 1) := dk_42 (dk_at dksX3_bring_3 9 rfl rfl)
theorem dX3_bring_81 : decode cX3_bring 81 = .ok (.aload_n 3, 1) := dk_45 (dk_at dksX3_bring_3 10 rfl rfl)
theorem dX3_bring_82 : decode cX3_bring 82 = .ok (.iload_n 2, 1) := dk_28 (dk_at dksX3_bring_3 11 rfl rfl)
theorem dX3_bring_83 : decode cX3_bring 83 = .ok (.invokevirtual 193, 3) := dk_182 0 193 (dk_at dksX3_bring_3 12 rfl rfl)
theorem dX3_bring_86 : decode cX3_bring 86 = .ok (.return_, 1) := dk_177 (dk_at dksX3_bring_3 15 rfl rfl)
abbrev cX3_firstOf : ByteArray := prog_9_method_10_code
def yX3_firstOf : MethodName := ⟨RX3, "firstOf", "(II)LBusLine$Flow;"⟩
def dkwX3_firstOf_4 : List UInt8 := [45, 176]
abbrev dktX3_firstOf_4 : List UInt8 := dkwX3_firstOf_4 ++ []
def dkwX3_firstOf_3 : List UInt8 := [42, 180, 0, 53, 45, 180, 0, 209, 46, 182, 0, 210, 162, 0, 6, 25, 6, 78, 132, 5, 1, 167, 255, 179]
abbrev dktX3_firstOf_3 : List UInt8 := dkwX3_firstOf_3 ++ dktX3_firstOf_4
def dkwX3_firstOf_2 : List UInt8 := [25, 6, 180, 0, 209, 46, 182, 0, 210, 54, 7, 21, 7, 28, 163, 0, 28, 45, 198, 0, 21, 21, 7, 45]
abbrev dktX3_firstOf_2 : List UInt8 := dkwX3_firstOf_2 ++ dktX3_firstOf_3
def dkwX3_firstOf_1 : List UInt8 := [162, 0, 71, 25, 4, 21, 5, 185, 0, 206, 2, 0, 192, 0, 207, 58, 6, 25, 6, 42, 180, 0, 53]
abbrev dktX3_firstOf_1 : List UInt8 := dkwX3_firstOf_1 ++ dktX3_firstOf_2
def dkwX3_firstOf_0 : List UInt8 := [1, 78, 42, 27, 182, 0, 199, 180, 0, 202, 58, 4, 3, 54, 5, 21, 5, 25, 4, 185, 0, 203, 1, 0]
abbrev dktX3_firstOf_0 : List UInt8 := dkwX3_firstOf_0 ++ dktX3_firstOf_1
theorem dksX3_firstOf_0 : cX3_firstOf.data.toList.drop 0 = dktX3_firstOf_0 := by decide +kernel
theorem dksX3_firstOf_1 : cX3_firstOf.data.toList.drop 24 = dktX3_firstOf_1 := dk_seg dksX3_firstOf_0 24 rfl rfl
theorem dksX3_firstOf_2 : cX3_firstOf.data.toList.drop 47 = dktX3_firstOf_2 := dk_seg dksX3_firstOf_1 23 rfl rfl
theorem dksX3_firstOf_3 : cX3_firstOf.data.toList.drop 71 = dktX3_firstOf_3 := dk_seg dksX3_firstOf_2 24 rfl rfl
theorem dksX3_firstOf_4 : cX3_firstOf.data.toList.drop 95 = dktX3_firstOf_4 := dk_seg dksX3_firstOf_3 24 rfl rfl
theorem dX3_firstOf_0 : decode cX3_firstOf 0 = .ok (.aconst_null, 1) := dk_1 (dk_at dksX3_firstOf_0 0 rfl rfl)
theorem dX3_firstOf_1 : decode cX3_firstOf 1 = .ok (.astore_n 3, 1) := dk_78 (dk_at dksX3_firstOf_0 1 rfl rfl)
theorem dX3_firstOf_2 : decode cX3_firstOf 2 = .ok (.aload_n 0, 1) := dk_42 (dk_at dksX3_firstOf_0 2 rfl rfl)
theorem dX3_firstOf_3 : decode cX3_firstOf 3 = .ok (.iload_n 1, 1) := dk_27 (dk_at dksX3_firstOf_0 3 rfl rfl)
theorem dX3_firstOf_4 : decode cX3_firstOf 4 = .ok (.invokevirtual 199, 3) := dk_182 0 199 (dk_at dksX3_firstOf_0 4 rfl rfl)
theorem dX3_firstOf_7 : decode cX3_firstOf 7 = .ok (.getfield 202, 3) := dk_180 0 202 (dk_at dksX3_firstOf_0 7 rfl rfl)
theorem dX3_firstOf_10 : decode cX3_firstOf 10 = .ok (.astore 4, 2) := dk_58 4 (dk_at dksX3_firstOf_0 10 rfl rfl)
theorem dX3_firstOf_12 : decode cX3_firstOf 12 = .ok (.iconst 0, 1) := dk_3 (dk_at dksX3_firstOf_0 12 rfl rfl)
theorem dX3_firstOf_13 : decode cX3_firstOf 13 = .ok (.istore 5, 2) := dk_54 5 (dk_at dksX3_firstOf_0 13 rfl rfl)
theorem dX3_firstOf_15 : decode cX3_firstOf 15 = .ok (.iload 5, 2) := dk_21 5 (dk_at dksX3_firstOf_0 15 rfl rfl)
theorem dX3_firstOf_17 : decode cX3_firstOf 17 = .ok (.aload 4, 2) := dk_25 4 (dk_at dksX3_firstOf_0 17 rfl rfl)
theorem dX3_firstOf_19 : decode cX3_firstOf 19 = .ok (.invokeinterface 203 1, 5) := by decide +kernel
theorem dX3_firstOf_24 : decode cX3_firstOf 24 = .ok (.if_icmp .ge 71, 3) := dk_162 0 71 (dk_at dksX3_firstOf_1 0 rfl rfl)
theorem dX3_firstOf_27 : decode cX3_firstOf 27 = .ok (.aload 4, 2) := dk_25 4 (dk_at dksX3_firstOf_1 3 rfl rfl)
theorem dX3_firstOf_29 : decode cX3_firstOf 29 = .ok (.iload 5, 2) := dk_21 5 (dk_at dksX3_firstOf_1 5 rfl rfl)
theorem dX3_firstOf_31 : decode cX3_firstOf 31 = .ok (.invokeinterface 206 2, 5) := by decide +kernel
theorem dX3_firstOf_36 : decode cX3_firstOf 36 = .ok (.checkcast 207, 3) := dk_192 0 207 (dk_at dksX3_firstOf_1 12 rfl rfl)
theorem dX3_firstOf_39 : decode cX3_firstOf 39 = .ok (.astore 6, 2) := dk_58 6 (dk_at dksX3_firstOf_1 15 rfl rfl)
theorem dX3_firstOf_41 : decode cX3_firstOf 41 = .ok (.aload 6, 2) := dk_25 6 (dk_at dksX3_firstOf_1 17 rfl rfl)
theorem dX3_firstOf_43 : decode cX3_firstOf 43 = .ok (.aload_n 0, 1) := dk_42 (dk_at dksX3_firstOf_1 19 rfl rfl)
theorem dX3_firstOf_44 : decode cX3_firstOf 44 = .ok (.getfield 53, 3) := dk_180 0 53 (dk_at dksX3_firstOf_1 20 rfl rfl)
theorem dX3_firstOf_47 : decode cX3_firstOf 47 = .ok (.aload 6, 2) := dk_25 6 (dk_at dksX3_firstOf_2 0 rfl rfl)
theorem dX3_firstOf_49 : decode cX3_firstOf 49 = .ok (.getfield 209, 3) := dk_180 0 209 (dk_at dksX3_firstOf_2 2 rfl rfl)
theorem dX3_firstOf_52 : decode cX3_firstOf 52 = .ok (.iaload, 1) := dk_46 (dk_at dksX3_firstOf_2 5 rfl rfl)
theorem dX3_firstOf_53 : decode cX3_firstOf 53 = .ok (.invokevirtual 210, 3) := dk_182 0 210 (dk_at dksX3_firstOf_2 6 rfl rfl)
theorem dX3_firstOf_56 : decode cX3_firstOf 56 = .ok (.istore 7, 2) := dk_54 7 (dk_at dksX3_firstOf_2 9 rfl rfl)
theorem dX3_firstOf_58 : decode cX3_firstOf 58 = .ok (.iload 7, 2) := dk_21 7 (dk_at dksX3_firstOf_2 11 rfl rfl)
theorem dX3_firstOf_60 : decode cX3_firstOf 60 = .ok (.iload_n 2, 1) := dk_28 (dk_at dksX3_firstOf_2 13 rfl rfl)
theorem dX3_firstOf_61 : decode cX3_firstOf 61 = .ok (.if_icmp .gt 28, 3) := dk_163 0 28 (dk_at dksX3_firstOf_2 14 rfl rfl)
theorem dX3_firstOf_64 : decode cX3_firstOf 64 = .ok (.aload_n 3, 1) := dk_45 (dk_at dksX3_firstOf_2 17 rfl rfl)
theorem dX3_firstOf_65 : decode cX3_firstOf 65 = .ok (.ifnull 21, 3) := dk_198 0 21 (dk_at dksX3_firstOf_2 18 rfl rfl)
theorem dX3_firstOf_68 : decode cX3_firstOf 68 = .ok (.iload 7, 2) := dk_21 7 (dk_at dksX3_firstOf_2 21 rfl rfl)
theorem dX3_firstOf_70 : decode cX3_firstOf 70 = .ok (.aload_n 3, 1) := dk_45 (dk_at dksX3_firstOf_2 23 rfl rfl)
theorem dX3_firstOf_71 : decode cX3_firstOf 71 = .ok (.aload_n 0, 1) := dk_42 (dk_at dksX3_firstOf_3 0 rfl rfl)
theorem dX3_firstOf_72 : decode cX3_firstOf 72 = .ok (.getfield 53, 3) := dk_180 0 53 (dk_at dksX3_firstOf_3 1 rfl rfl)
theorem dX3_firstOf_75 : decode cX3_firstOf 75 = .ok (.aload_n 3, 1) := dk_45 (dk_at dksX3_firstOf_3 4 rfl rfl)
theorem dX3_firstOf_76 : decode cX3_firstOf 76 = .ok (.getfield 209, 3) := dk_180 0 209 (dk_at dksX3_firstOf_3 5 rfl rfl)
theorem dX3_firstOf_79 : decode cX3_firstOf 79 = .ok (.iaload, 1) := dk_46 (dk_at dksX3_firstOf_3 8 rfl rfl)
theorem dX3_firstOf_80 : decode cX3_firstOf 80 = .ok (.invokevirtual 210, 3) := dk_182 0 210 (dk_at dksX3_firstOf_3 9 rfl rfl)
theorem dX3_firstOf_83 : decode cX3_firstOf 83 = .ok (.if_icmp .ge 6, 3) := dk_162 0 6 (dk_at dksX3_firstOf_3 12 rfl rfl)
theorem dX3_firstOf_86 : decode cX3_firstOf 86 = .ok (.aload 6, 2) := dk_25 6 (dk_at dksX3_firstOf_3 15 rfl rfl)
theorem dX3_firstOf_88 : decode cX3_firstOf 88 = .ok (.astore_n 3, 1) := dk_78 (dk_at dksX3_firstOf_3 17 rfl rfl)
theorem dX3_firstOf_89 : decode cX3_firstOf 89 = .ok (.iinc 5 1, 3) := dk_132 5 1 (dk_at dksX3_firstOf_3 18 rfl rfl)
theorem dX3_firstOf_92 : decode cX3_firstOf 92 = .ok (.goto (-77), 3) := dk_167 255 179 (dk_at dksX3_firstOf_3 21 rfl rfl)
theorem dX3_firstOf_95 : decode cX3_firstOf 95 = .ok (.aload_n 3, 1) := dk_45 (dk_at dksX3_firstOf_4 0 rfl rfl)
theorem dX3_firstOf_96 : decode cX3_firstOf 96 = .ok (.areturn, 1) := dk_176 (dk_at dksX3_firstOf_4 1 rfl rfl)
abbrev cX3_stop : ByteArray := prog_9_method_5_code
def yX3_stop : MethodName := ⟨RX3, "stop", "(I)LBusLine$Stop;"⟩
def dkwX3_stop_0 : List UInt8 := [42, 180, 0, 59, 180, 0, 103, 27, 182, 0, 105, 192, 0, 109, 176]
abbrev dktX3_stop_0 : List UInt8 := dkwX3_stop_0 ++ []
theorem dksX3_stop_0 : cX3_stop.data.toList.drop 0 = dktX3_stop_0 := by decide +kernel
theorem dX3_stop_0 : decode cX3_stop 0 = .ok (.aload_n 0, 1) := dk_42 (dk_at dksX3_stop_0 0 rfl rfl)
theorem dX3_stop_1 : decode cX3_stop 1 = .ok (.getfield 59, 3) := dk_180 0 59 (dk_at dksX3_stop_0 1 rfl rfl)
theorem dX3_stop_4 : decode cX3_stop 4 = .ok (.getfield 103, 3) := dk_180 0 103 (dk_at dksX3_stop_0 4 rfl rfl)
theorem dX3_stop_7 : decode cX3_stop 7 = .ok (.iload_n 1, 1) := dk_27 (dk_at dksX3_stop_0 7 rfl rfl)
theorem dX3_stop_8 : decode cX3_stop 8 = .ok (.invokevirtual 105, 3) := dk_182 0 105 (dk_at dksX3_stop_0 8 rfl rfl)
theorem dX3_stop_11 : decode cX3_stop 11 = .ok (.checkcast 109, 3) := dk_192 0 109 (dk_at dksX3_stop_0 11 rfl rfl)
theorem dX3_stop_14 : decode cX3_stop 14 = .ok (.areturn, 1) := dk_176 (dk_at dksX3_stop_0 14 rfl rfl)
abbrev cX3_comes : ByteArray := prog_9_method_9_code
def yX3_comes : MethodName := ⟨RX3, "comes", "(LBusLine$Riders;III)Z"⟩
def dkwX3_comes_2 : List UInt8 := [4, 172]
abbrev dktX3_comes_2 : List UInt8 := dkwX3_comes_2 ++ []
def dkwX3_comes_1 : List UInt8 := [160, 0, 16, 42, 180, 0, 41, 21, 4, 92, 46, 4, 96, 79, 3, 172, 43, 28, 29, 21, 4, 182, 0, 197]
abbrev dktX3_comes_1 : List UInt8 := dkwX3_comes_1 ++ dktX3_comes_2
def dkwX3_comes_0 : List UInt8 := [42, 43, 29, 182, 0, 193, 42, 180, 0, 38, 21, 4, 92, 46, 4, 96, 79, 43, 180, 0, 181, 16, 40]
abbrev dktX3_comes_0 : List UInt8 := dkwX3_comes_0 ++ dktX3_comes_1
theorem dksX3_comes_0 : cX3_comes.data.toList.drop 0 = dktX3_comes_0 := by decide +kernel
theorem dksX3_comes_1 : cX3_comes.data.toList.drop 23 = dktX3_comes_1 := dk_seg dksX3_comes_0 23 rfl rfl
theorem dksX3_comes_2 : cX3_comes.data.toList.drop 47 = dktX3_comes_2 := dk_seg dksX3_comes_1 24 rfl rfl
theorem dX3_comes_0 : decode cX3_comes 0 = .ok (.aload_n 0, 1) := dk_42 (dk_at dksX3_comes_0 0 rfl rfl)
theorem dX3_comes_1 : decode cX3_comes 1 = .ok (.aload_n 1, 1) := dk_43 (dk_at dksX3_comes_0 1 rfl rfl)
theorem dX3_comes_2 : decode cX3_comes 2 = .ok (.iload_n 3, 1) := dk_29 (dk_at dksX3_comes_0 2 rfl rfl)
theorem dX3_comes_3 : decode cX3_comes 3 = .ok (.invokevirtual 193, 3) := dk_182 0 193 (dk_at dksX3_comes_0 3 rfl rfl)
theorem dX3_comes_6 : decode cX3_comes 6 = .ok (.aload_n 0, 1) := dk_42 (dk_at dksX3_comes_0 6 rfl rfl)
theorem dX3_comes_7 : decode cX3_comes 7 = .ok (.getfield 38, 3) := dk_180 0 38 (dk_at dksX3_comes_0 7 rfl rfl)
theorem dX3_comes_10 : decode cX3_comes 10 = .ok (.iload 4, 2) := dk_21 4 (dk_at dksX3_comes_0 10 rfl rfl)
theorem dX3_comes_12 : decode cX3_comes 12 = .ok (.dup2, 1) := dk_92 (dk_at dksX3_comes_0 12 rfl rfl)
theorem dX3_comes_13 : decode cX3_comes 13 = .ok (.iaload, 1) := dk_46 (dk_at dksX3_comes_0 13 rfl rfl)
theorem dX3_comes_14 : decode cX3_comes 14 = .ok (.iconst 1, 1) := dk_4 (dk_at dksX3_comes_0 14 rfl rfl)
theorem dX3_comes_15 : decode cX3_comes 15 = .ok (.iadd, 1) := dk_96 (dk_at dksX3_comes_0 15 rfl rfl)
theorem dX3_comes_16 : decode cX3_comes 16 = .ok (.iastore, 1) := dk_79 (dk_at dksX3_comes_0 16 rfl rfl)
theorem dX3_comes_17 : decode cX3_comes 17 = .ok (.aload_n 1, 1) := dk_43 (dk_at dksX3_comes_0 17 rfl rfl)
theorem dX3_comes_18 : decode cX3_comes 18 = .ok (.getfield 181, 3) := dk_180 0 181 (dk_at dksX3_comes_0 18 rfl rfl)
theorem dX3_comes_21 : decode cX3_comes 21 = .ok (.bipush 40, 2) := dk_16 40 (dk_at dksX3_comes_0 21 rfl rfl)
theorem dX3_comes_23 : decode cX3_comes 23 = .ok (.if_icmp .ne 16, 3) := dk_160 0 16 (dk_at dksX3_comes_1 0 rfl rfl)
theorem dX3_comes_26 : decode cX3_comes 26 = .ok (.aload_n 0, 1) := dk_42 (dk_at dksX3_comes_1 3 rfl rfl)
theorem dX3_comes_27 : decode cX3_comes 27 = .ok (.getfield 41, 3) := dk_180 0 41 (dk_at dksX3_comes_1 4 rfl rfl)
theorem dX3_comes_30 : decode cX3_comes 30 = .ok (.iload 4, 2) := dk_21 4 (dk_at dksX3_comes_1 7 rfl rfl)
theorem dX3_comes_32 : decode cX3_comes 32 = .ok (.dup2, 1) := dk_92 (dk_at dksX3_comes_1 9 rfl rfl)
theorem dX3_comes_33 : decode cX3_comes 33 = .ok (.iaload, 1) := dk_46 (dk_at dksX3_comes_1 10 rfl rfl)
theorem dX3_comes_34 : decode cX3_comes 34 = .ok (.iconst 1, 1) := dk_4 (dk_at dksX3_comes_1 11 rfl rfl)
theorem dX3_comes_35 : decode cX3_comes 35 = .ok (.iadd, 1) := dk_96 (dk_at dksX3_comes_1 12 rfl rfl)
theorem dX3_comes_36 : decode cX3_comes 36 = .ok (.iastore, 1) := dk_79 (dk_at dksX3_comes_1 13 rfl rfl)
theorem dX3_comes_37 : decode cX3_comes 37 = .ok (.iconst 0, 1) := dk_3 (dk_at dksX3_comes_1 14 rfl rfl)
theorem dX3_comes_38 : decode cX3_comes 38 = .ok (.ireturn, 1) := dk_172 (dk_at dksX3_comes_1 15 rfl rfl)
theorem dX3_comes_39 : decode cX3_comes 39 = .ok (.aload_n 1, 1) := dk_43 (dk_at dksX3_comes_1 16 rfl rfl)
theorem dX3_comes_40 : decode cX3_comes 40 = .ok (.iload_n 2, 1) := dk_28 (dk_at dksX3_comes_1 17 rfl rfl)
theorem dX3_comes_41 : decode cX3_comes 41 = .ok (.iload_n 3, 1) := dk_29 (dk_at dksX3_comes_1 18 rfl rfl)
theorem dX3_comes_42 : decode cX3_comes 42 = .ok (.iload 4, 2) := dk_21 4 (dk_at dksX3_comes_1 19 rfl rfl)
theorem dX3_comes_44 : decode cX3_comes 44 = .ok (.invokevirtual 197, 3) := dk_182 0 197 (dk_at dksX3_comes_1 21 rfl rfl)
theorem dX3_comes_47 : decode cX3_comes 47 = .ok (.iconst 1, 1) := dk_4 (dk_at dksX3_comes_2 0 rfl rfl)
theorem dX3_comes_48 : decode cX3_comes 48 = .ok (.ireturn, 1) := dk_172 (dk_at dksX3_comes_2 1 rfl rfl)
abbrev cX3_giveUp : ByteArray := prog_9_method_8_code
def yX3_giveUp : MethodName := ⟨RX3, "giveUp", "(LBusLine$Riders;I)V"⟩
def dkwX3_giveUp_2 : List UInt8 := [29, 158, 0, 8, 43, 29, 182, 0, 190, 177]
abbrev dktX3_giveUp_2 : List UInt8 := dkwX3_giveUp_2 ++ []
def dkwX3_giveUp_1 : List UInt8 := [164, 0, 24, 42, 180, 0, 44, 43, 180, 0, 187, 29, 46, 92, 46, 4, 96, 79, 132, 3, 1, 167, 255, 213]
abbrev dktX3_giveUp_1 : List UInt8 := dkwX3_giveUp_1 ++ dktX3_giveUp_2
def dkwX3_giveUp_0 : List UInt8 := [3, 62, 29, 43, 180, 0, 181, 162, 0, 41, 28, 43, 180, 0, 184, 29, 46, 100, 42, 180, 0, 9, 5, 46]
abbrev dktX3_giveUp_0 : List UInt8 := dkwX3_giveUp_0 ++ dktX3_giveUp_1
theorem dksX3_giveUp_0 : cX3_giveUp.data.toList.drop 0 = dktX3_giveUp_0 := by decide +kernel
theorem dksX3_giveUp_1 : cX3_giveUp.data.toList.drop 24 = dktX3_giveUp_1 := dk_seg dksX3_giveUp_0 24 rfl rfl
theorem dksX3_giveUp_2 : cX3_giveUp.data.toList.drop 48 = dktX3_giveUp_2 := dk_seg dksX3_giveUp_1 24 rfl rfl
theorem dX3_giveUp_0 : decode cX3_giveUp 0 = .ok (.iconst 0, 1) := dk_3 (dk_at dksX3_giveUp_0 0 rfl rfl)
theorem dX3_giveUp_1 : decode cX3_giveUp 1 = .ok (.istore_n 3, 1) := dk_62 (dk_at dksX3_giveUp_0 1 rfl rfl)
theorem dX3_giveUp_2 : decode cX3_giveUp 2 = .ok (.iload_n 3, 1) := dk_29 (dk_at dksX3_giveUp_0 2 rfl rfl)
theorem dX3_giveUp_3 : decode cX3_giveUp 3 = .ok (.aload_n 1, 1) := dk_43 (dk_at dksX3_giveUp_0 3 rfl rfl)
theorem dX3_giveUp_4 : decode cX3_giveUp 4 = .ok (.getfield 181, 3) := dk_180 0 181 (dk_at dksX3_giveUp_0 4 rfl rfl)
theorem dX3_giveUp_7 : decode cX3_giveUp 7 = .ok (.if_icmp .ge 41, 3) := dk_162 0 41 (dk_at dksX3_giveUp_0 7 rfl rfl)
theorem dX3_giveUp_10 : decode cX3_giveUp 10 = .ok (.iload_n 2, 1) := dk_28 (dk_at dksX3_giveUp_0 10 rfl rfl)
theorem dX3_giveUp_11 : decode cX3_giveUp 11 = .ok (.aload_n 1, 1) := dk_43 (dk_at dksX3_giveUp_0 11 rfl rfl)
theorem dX3_giveUp_12 : decode cX3_giveUp 12 = .ok (.getfield 184, 3) := dk_180 0 184 (dk_at dksX3_giveUp_0 12 rfl rfl)
theorem dX3_giveUp_15 : decode cX3_giveUp 15 = .ok (.iload_n 3, 1) := dk_29 (dk_at dksX3_giveUp_0 15 rfl rfl)
theorem dX3_giveUp_16 : decode cX3_giveUp 16 = .ok (.iaload, 1) := dk_46 (dk_at dksX3_giveUp_0 16 rfl rfl)
theorem dX3_giveUp_17 : decode cX3_giveUp 17 = .ok (.isub, 1) := dk_100 (dk_at dksX3_giveUp_0 17 rfl rfl)
theorem dX3_giveUp_18 : decode cX3_giveUp 18 = .ok (.aload_n 0, 1) := dk_42 (dk_at dksX3_giveUp_0 18 rfl rfl)
theorem dX3_giveUp_19 : decode cX3_giveUp 19 = .ok (.getfield 9, 3) := dk_180 0 9 (dk_at dksX3_giveUp_0 19 rfl rfl)
theorem dX3_giveUp_22 : decode cX3_giveUp 22 = .ok (.iconst 2, 1) := dk_5 (dk_at dksX3_giveUp_0 22 rfl rfl)
theorem dX3_giveUp_23 : decode cX3_giveUp 23 = .ok (.iaload, 1) := dk_46 (dk_at dksX3_giveUp_0 23 rfl rfl)
theorem dX3_giveUp_24 : decode cX3_giveUp 24 = .ok (.if_icmp .le 24, 3) := dk_164 0 24 (dk_at dksX3_giveUp_1 0 rfl rfl)
theorem dX3_giveUp_27 : decode cX3_giveUp 27 = .ok (.aload_n 0, 1) := dk_42 (dk_at dksX3_giveUp_1 3 rfl rfl)
theorem dX3_giveUp_28 : decode cX3_giveUp 28 = .ok (.getfield 44, 3) := dk_180 0 44 (dk_at dksX3_giveUp_1 4 rfl rfl)
theorem dX3_giveUp_31 : decode cX3_giveUp 31 = .ok (.aload_n 1, 1) := dk_43 (dk_at dksX3_giveUp_1 7 rfl rfl)
theorem dX3_giveUp_32 : decode cX3_giveUp 32 = .ok (.getfield 187, 3) := dk_180 0 187 (dk_at dksX3_giveUp_1 8 rfl rfl)
theorem dX3_giveUp_35 : decode cX3_giveUp 35 = .ok (.iload_n 3, 1) := dk_29 (dk_at dksX3_giveUp_1 11 rfl rfl)
theorem dX3_giveUp_36 : decode cX3_giveUp 36 = .ok (.iaload, 1) := dk_46 (dk_at dksX3_giveUp_1 12 rfl rfl)
theorem dX3_giveUp_37 : decode cX3_giveUp 37 = .ok (.dup2, 1) := dk_92 (dk_at dksX3_giveUp_1 13 rfl rfl)
theorem dX3_giveUp_38 : decode cX3_giveUp 38 = .ok (.iaload, 1) := dk_46 (dk_at dksX3_giveUp_1 14 rfl rfl)
theorem dX3_giveUp_39 : decode cX3_giveUp 39 = .ok (.iconst 1, 1) := dk_4 (dk_at dksX3_giveUp_1 15 rfl rfl)
theorem dX3_giveUp_40 : decode cX3_giveUp 40 = .ok (.iadd, 1) := dk_96 (dk_at dksX3_giveUp_1 16 rfl rfl)
theorem dX3_giveUp_41 : decode cX3_giveUp 41 = .ok (.iastore, 1) := dk_79 (dk_at dksX3_giveUp_1 17 rfl rfl)
theorem dX3_giveUp_42 : decode cX3_giveUp 42 = .ok (.iinc 3 1, 3) := dk_132 3 1 (dk_at dksX3_giveUp_1 18 rfl rfl)
theorem dX3_giveUp_45 : decode cX3_giveUp 45 = .ok (.goto (-43), 3) := dk_167 255 213 (dk_at dksX3_giveUp_1 21 rfl rfl)
theorem dX3_giveUp_48 : decode cX3_giveUp 48 = .ok (.iload_n 3, 1) := dk_29 (dk_at dksX3_giveUp_2 0 rfl rfl)
theorem dX3_giveUp_49 : decode cX3_giveUp 49 = .ok (.ifCond .le 8, 3) := dk_158 0 8 (dk_at dksX3_giveUp_2 1 rfl rfl)
theorem dX3_giveUp_52 : decode cX3_giveUp 52 = .ok (.aload_n 1, 1) := dk_43 (dk_at dksX3_giveUp_2 4 rfl rfl)
theorem dX3_giveUp_53 : decode cX3_giveUp 53 = .ok (.iload_n 3, 1) := dk_29 (dk_at dksX3_giveUp_2 5 rfl rfl)
theorem dX3_giveUp_54 : decode cX3_giveUp 54 = .ok (.invokevirtual 190, 3) := dk_182 0 190 (dk_at dksX3_giveUp_2 6 rfl rfl)
theorem dX3_giveUp_57 : decode cX3_giveUp 57 = .ok (.return_, 1) := dk_177 (dk_at dksX3_giveUp_2 9 rfl rfl)
abbrev cX3_sum : ByteArray := prog_9_method_27_code
def yX3_sum : MethodName := ⟨RX3, "sum", "([I)I"⟩
def dkwX3_sum_0 : List UInt8 := [3, 60, 3, 61, 28, 16, 16, 163, 0, 15, 27, 42, 28, 46, 96, 60, 132, 2, 1, 167, 255, 241, 27, 172]
abbrev dktX3_sum_0 : List UInt8 := dkwX3_sum_0 ++ []
theorem dksX3_sum_0 : cX3_sum.data.toList.drop 0 = dktX3_sum_0 := by decide +kernel
theorem dX3_sum_0 : decode cX3_sum 0 = .ok (.iconst 0, 1) := dk_3 (dk_at dksX3_sum_0 0 rfl rfl)
theorem dX3_sum_1 : decode cX3_sum 1 = .ok (.istore_n 1, 1) := dk_60 (dk_at dksX3_sum_0 1 rfl rfl)
theorem dX3_sum_2 : decode cX3_sum 2 = .ok (.iconst 0, 1) := dk_3 (dk_at dksX3_sum_0 2 rfl rfl)
theorem dX3_sum_3 : decode cX3_sum 3 = .ok (.istore_n 2, 1) := dk_61 (dk_at dksX3_sum_0 3 rfl rfl)
theorem dX3_sum_4 : decode cX3_sum 4 = .ok (.iload_n 2, 1) := dk_28 (dk_at dksX3_sum_0 4 rfl rfl)
theorem dX3_sum_5 : decode cX3_sum 5 = .ok (.bipush 16, 2) := dk_16 16 (dk_at dksX3_sum_0 5 rfl rfl)
theorem dX3_sum_7 : decode cX3_sum 7 = .ok (.if_icmp .gt 15, 3) := dk_163 0 15 (dk_at dksX3_sum_0 7 rfl rfl)
theorem dX3_sum_10 : decode cX3_sum 10 = .ok (.iload_n 1, 1) := dk_27 (dk_at dksX3_sum_0 10 rfl rfl)
theorem dX3_sum_11 : decode cX3_sum 11 = .ok (.aload_n 0, 1) := dk_42 (dk_at dksX3_sum_0 11 rfl rfl)
theorem dX3_sum_12 : decode cX3_sum 12 = .ok (.iload_n 2, 1) := dk_28 (dk_at dksX3_sum_0 12 rfl rfl)
theorem dX3_sum_13 : decode cX3_sum 13 = .ok (.iaload, 1) := dk_46 (dk_at dksX3_sum_0 13 rfl rfl)
theorem dX3_sum_14 : decode cX3_sum 14 = .ok (.iadd, 1) := dk_96 (dk_at dksX3_sum_0 14 rfl rfl)
theorem dX3_sum_15 : decode cX3_sum 15 = .ok (.istore_n 1, 1) := dk_60 (dk_at dksX3_sum_0 15 rfl rfl)
theorem dX3_sum_16 : decode cX3_sum 16 = .ok (.iinc 2 1, 3) := dk_132 2 1 (dk_at dksX3_sum_0 16 rfl rfl)
theorem dX3_sum_19 : decode cX3_sum 19 = .ok (.goto (-15), 3) := dk_167 255 241 (dk_at dksX3_sum_0 19 rfl rfl)
theorem dX3_sum_22 : decode cX3_sum 22 = .ok (.iload_n 1, 1) := dk_27 (dk_at dksX3_sum_0 22 rfl rfl)
theorem dX3_sum_23 : decode cX3_sum 23 = .ok (.ireturn, 1) := dk_172 (dk_at dksX3_sum_0 23 rfl rfl)
abbrev cX3_pass : ByteArray := prog_9_method_25_code
def yX3_pass : MethodName := ⟨RX3, "pass", "(I)LBusLine$State;"⟩
def dkwX3_pass_2 : List UInt8 := [132, 4, 1, 167, 255, 237, 42, 28, 181, 0, 129, 42, 176]
abbrev dktX3_pass_2 : List UInt8 := dkwX3_pass_2 ++ []
def dkwX3_pass_1 : List UInt8 := [167, 255, 246, 3, 54, 4, 21, 4, 42, 182, 0, 81, 162, 0, 16, 42, 21, 4, 28, 182, 0, 225]
abbrev dktX3_pass_1 : List UInt8 := dkwX3_pass_1 ++ dktX3_pass_2
def dkwX3_pass_0 : List UInt8 := [42, 180, 0, 129, 27, 96, 61, 42, 28, 182, 1, 105, 78, 45, 198, 0, 12, 42, 28, 182, 1, 105, 78]
abbrev dktX3_pass_0 : List UInt8 := dkwX3_pass_0 ++ dktX3_pass_1
theorem dksX3_pass_0 : cX3_pass.data.toList.drop 0 = dktX3_pass_0 := by decide +kernel
theorem dksX3_pass_1 : cX3_pass.data.toList.drop 23 = dktX3_pass_1 := dk_seg dksX3_pass_0 23 rfl rfl
theorem dksX3_pass_2 : cX3_pass.data.toList.drop 45 = dktX3_pass_2 := dk_seg dksX3_pass_1 22 rfl rfl
theorem dX3_pass_0 : decode cX3_pass 0 = .ok (.aload_n 0, 1) := dk_42 (dk_at dksX3_pass_0 0 rfl rfl)
theorem dX3_pass_1 : decode cX3_pass 1 = .ok (.getfield 129, 3) := dk_180 0 129 (dk_at dksX3_pass_0 1 rfl rfl)
theorem dX3_pass_4 : decode cX3_pass 4 = .ok (.iload_n 1, 1) := dk_27 (dk_at dksX3_pass_0 4 rfl rfl)
theorem dX3_pass_5 : decode cX3_pass 5 = .ok (.iadd, 1) := dk_96 (dk_at dksX3_pass_0 5 rfl rfl)
theorem dX3_pass_6 : decode cX3_pass 6 = .ok (.istore_n 2, 1) := dk_61 (dk_at dksX3_pass_0 6 rfl rfl)
theorem dX3_pass_7 : decode cX3_pass 7 = .ok (.aload_n 0, 1) := dk_42 (dk_at dksX3_pass_0 7 rfl rfl)
theorem dX3_pass_8 : decode cX3_pass 8 = .ok (.iload_n 2, 1) := dk_28 (dk_at dksX3_pass_0 8 rfl rfl)
theorem dX3_pass_9 : decode cX3_pass 9 = .ok (.invokevirtual 361, 3) := dk_182 1 105 (dk_at dksX3_pass_0 9 rfl rfl)
theorem dX3_pass_12 : decode cX3_pass 12 = .ok (.astore_n 3, 1) := dk_78 (dk_at dksX3_pass_0 12 rfl rfl)
theorem dX3_pass_13 : decode cX3_pass 13 = .ok (.aload_n 3, 1) := dk_45 (dk_at dksX3_pass_0 13 rfl rfl)
theorem dX3_pass_14 : decode cX3_pass 14 = .ok (.ifnull 12, 3) := dk_198 0 12 (dk_at dksX3_pass_0 14 rfl rfl)
theorem dX3_pass_17 : decode cX3_pass 17 = .ok (.aload_n 0, 1) := dk_42 (dk_at dksX3_pass_0 17 rfl rfl)
theorem dX3_pass_18 : decode cX3_pass 18 = .ok (.iload_n 2, 1) := dk_28 (dk_at dksX3_pass_0 18 rfl rfl)
theorem dX3_pass_19 : decode cX3_pass 19 = .ok (.invokevirtual 361, 3) := dk_182 1 105 (dk_at dksX3_pass_0 19 rfl rfl)
theorem dX3_pass_22 : decode cX3_pass 22 = .ok (.astore_n 3, 1) := dk_78 (dk_at dksX3_pass_0 22 rfl rfl)
theorem dX3_pass_23 : decode cX3_pass 23 = .ok (.goto (-10), 3) := dk_167 255 246 (dk_at dksX3_pass_1 0 rfl rfl)
theorem dX3_pass_26 : decode cX3_pass 26 = .ok (.iconst 0, 1) := dk_3 (dk_at dksX3_pass_1 3 rfl rfl)
theorem dX3_pass_27 : decode cX3_pass 27 = .ok (.istore 4, 2) := dk_54 4 (dk_at dksX3_pass_1 4 rfl rfl)
theorem dX3_pass_29 : decode cX3_pass 29 = .ok (.iload 4, 2) := dk_21 4 (dk_at dksX3_pass_1 6 rfl rfl)
theorem dX3_pass_31 : decode cX3_pass 31 = .ok (.aload_n 0, 1) := dk_42 (dk_at dksX3_pass_1 8 rfl rfl)
theorem dX3_pass_32 : decode cX3_pass 32 = .ok (.invokevirtual 81, 3) := dk_182 0 81 (dk_at dksX3_pass_1 9 rfl rfl)
theorem dX3_pass_35 : decode cX3_pass 35 = .ok (.if_icmp .ge 16, 3) := dk_162 0 16 (dk_at dksX3_pass_1 12 rfl rfl)
theorem dX3_pass_38 : decode cX3_pass 38 = .ok (.aload_n 0, 1) := dk_42 (dk_at dksX3_pass_1 15 rfl rfl)
theorem dX3_pass_39 : decode cX3_pass 39 = .ok (.iload 4, 2) := dk_21 4 (dk_at dksX3_pass_1 16 rfl rfl)
theorem dX3_pass_41 : decode cX3_pass 41 = .ok (.iload_n 2, 1) := dk_28 (dk_at dksX3_pass_1 18 rfl rfl)
theorem dX3_pass_42 : decode cX3_pass 42 = .ok (.invokevirtual 225, 3) := dk_182 0 225 (dk_at dksX3_pass_1 19 rfl rfl)
theorem dX3_pass_45 : decode cX3_pass 45 = .ok (.iinc 4 1, 3) := dk_132 4 1 (dk_at dksX3_pass_2 0 rfl rfl)
theorem dX3_pass_48 : decode cX3_pass 48 = .ok (.goto (-19), 3) := dk_167 255 237 (dk_at dksX3_pass_2 3 rfl rfl)
theorem dX3_pass_51 : decode cX3_pass 51 = .ok (.aload_n 0, 1) := dk_42 (dk_at dksX3_pass_2 6 rfl rfl)
theorem dX3_pass_52 : decode cX3_pass 52 = .ok (.iload_n 2, 1) := dk_28 (dk_at dksX3_pass_2 7 rfl rfl)
theorem dX3_pass_53 : decode cX3_pass 53 = .ok (.putfield 129, 3) := dk_181 0 129 (dk_at dksX3_pass_2 8 rfl rfl)
theorem dX3_pass_56 : decode cX3_pass 56 = .ok (.aload_n 0, 1) := dk_42 (dk_at dksX3_pass_2 11 rfl rfl)
theorem dX3_pass_57 : decode cX3_pass 57 = .ok (.areturn, 1) := dk_176 (dk_at dksX3_pass_2 12 rfl rfl)
abbrev cX3_event : ByteArray := prog_9_method_24_code
def yX3_event : MethodName := ⟨RX3, "event", "(I)LBusLine$Bus;"⟩
def dkwX3_event_1 : List UInt8 := [180, 0, 34, 182, 1, 100, 87, 42, 44, 182, 1, 102, 42, 180, 0, 34, 44, 182, 0, 125, 87, 44, 176]
abbrev dktX3_event_1 : List UInt8 := dkwX3_event_1 ++ []
def dkwX3_event_0 : List UInt8 := [42, 180, 0, 34, 182, 1, 96, 192, 0, 75, 77, 44, 180, 0, 174, 27, 164, 0, 5, 1, 176, 42]
abbrev dktX3_event_0 : List UInt8 := dkwX3_event_0 ++ dktX3_event_1
theorem dksX3_event_0 : cX3_event.data.toList.drop 0 = dktX3_event_0 := by decide +kernel
theorem dksX3_event_1 : cX3_event.data.toList.drop 22 = dktX3_event_1 := dk_seg dksX3_event_0 22 rfl rfl
theorem dX3_event_0 : decode cX3_event 0 = .ok (.aload_n 0, 1) := dk_42 (dk_at dksX3_event_0 0 rfl rfl)
theorem dX3_event_1 : decode cX3_event 1 = .ok (.getfield 34, 3) := dk_180 0 34 (dk_at dksX3_event_0 1 rfl rfl)
theorem dX3_event_4 : decode cX3_event 4 = .ok (.invokevirtual 352, 3) := dk_182 1 96 (dk_at dksX3_event_0 4 rfl rfl)
theorem dX3_event_7 : decode cX3_event 7 = .ok (.checkcast 75, 3) := dk_192 0 75 (dk_at dksX3_event_0 7 rfl rfl)
theorem dX3_event_10 : decode cX3_event 10 = .ok (.astore_n 2, 1) := dk_77 (dk_at dksX3_event_0 10 rfl rfl)
theorem dX3_event_11 : decode cX3_event 11 = .ok (.aload_n 2, 1) := dk_44 (dk_at dksX3_event_0 11 rfl rfl)
theorem dX3_event_12 : decode cX3_event 12 = .ok (.getfield 174, 3) := dk_180 0 174 (dk_at dksX3_event_0 12 rfl rfl)
theorem dX3_event_15 : decode cX3_event 15 = .ok (.iload_n 1, 1) := dk_27 (dk_at dksX3_event_0 15 rfl rfl)
theorem dX3_event_16 : decode cX3_event 16 = .ok (.if_icmp .le 5, 3) := dk_164 0 5 (dk_at dksX3_event_0 16 rfl rfl)
theorem dX3_event_19 : decode cX3_event 19 = .ok (.aconst_null, 1) := dk_1 (dk_at dksX3_event_0 19 rfl rfl)
theorem dX3_event_20 : decode cX3_event 20 = .ok (.areturn, 1) := dk_176 (dk_at dksX3_event_0 20 rfl rfl)
theorem dX3_event_21 : decode cX3_event 21 = .ok (.aload_n 0, 1) := dk_42 (dk_at dksX3_event_0 21 rfl rfl)
theorem dX3_event_22 : decode cX3_event 22 = .ok (.getfield 34, 3) := dk_180 0 34 (dk_at dksX3_event_1 0 rfl rfl)
theorem dX3_event_25 : decode cX3_event 25 = .ok (.invokevirtual 356, 3) := dk_182 1 100 (dk_at dksX3_event_1 3 rfl rfl)
theorem dX3_event_28 : decode cX3_event 28 = .ok (.pop, 1) := dk_87 (dk_at dksX3_event_1 6 rfl rfl)
theorem dX3_event_29 : decode cX3_event 29 = .ok (.aload_n 0, 1) := dk_42 (dk_at dksX3_event_1 7 rfl rfl)
theorem dX3_event_30 : decode cX3_event 30 = .ok (.aload_n 2, 1) := dk_44 (dk_at dksX3_event_1 8 rfl rfl)
theorem dX3_event_31 : decode cX3_event 31 = .ok (.invokevirtual 358, 3) := dk_182 1 102 (dk_at dksX3_event_1 9 rfl rfl)
theorem dX3_event_34 : decode cX3_event 34 = .ok (.aload_n 0, 1) := dk_42 (dk_at dksX3_event_1 12 rfl rfl)
theorem dX3_event_35 : decode cX3_event 35 = .ok (.getfield 34, 3) := dk_180 0 34 (dk_at dksX3_event_1 13 rfl rfl)
theorem dX3_event_38 : decode cX3_event 38 = .ok (.aload_n 2, 1) := dk_44 (dk_at dksX3_event_1 16 rfl rfl)
theorem dX3_event_39 : decode cX3_event 39 = .ok (.invokevirtual 125, 3) := dk_182 0 125 (dk_at dksX3_event_1 17 rfl rfl)
theorem dX3_event_42 : decode cX3_event 42 = .ok (.pop, 1) := dk_87 (dk_at dksX3_event_1 20 rfl rfl)
theorem dX3_event_43 : decode cX3_event 43 = .ok (.aload_n 2, 1) := dk_44 (dk_at dksX3_event_1 21 rfl rfl)
theorem dX3_event_44 : decode cX3_event 44 = .ok (.areturn, 1) := dk_176 (dk_at dksX3_event_1 22 rfl rfl)
abbrev cX3_happen : ByteArray := prog_9_method_23_code
def yX3_happen : MethodName := ⟨RX3, "happen", "(LBusLine$Bus;)V"⟩
def dkwX3_happen_1 : List UInt8 := [42, 43, 182, 1, 44, 167, 0, 8, 42, 43, 182, 1, 93, 177]
abbrev dktX3_happen_1 : List UInt8 := dkwX3_happen_1 ++ []
def dkwX3_happen_0 : List UInt8 := [43, 180, 0, 250, 5, 160, 0, 11, 42, 43, 182, 1, 90, 167, 0, 24, 43, 180, 0, 250, 6, 160, 0, 11]
abbrev dktX3_happen_0 : List UInt8 := dkwX3_happen_0 ++ dktX3_happen_1
theorem dksX3_happen_0 : cX3_happen.data.toList.drop 0 = dktX3_happen_0 := by decide +kernel
theorem dksX3_happen_1 : cX3_happen.data.toList.drop 24 = dktX3_happen_1 := dk_seg dksX3_happen_0 24 rfl rfl
theorem dX3_happen_0 : decode cX3_happen 0 = .ok (.aload_n 1, 1) := dk_43 (dk_at dksX3_happen_0 0 rfl rfl)
theorem dX3_happen_1 : decode cX3_happen 1 = .ok (.getfield 250, 3) := dk_180 0 250 (dk_at dksX3_happen_0 1 rfl rfl)
theorem dX3_happen_4 : decode cX3_happen 4 = .ok (.iconst 2, 1) := dk_5 (dk_at dksX3_happen_0 4 rfl rfl)
theorem dX3_happen_5 : decode cX3_happen 5 = .ok (.if_icmp .ne 11, 3) := dk_160 0 11 (dk_at dksX3_happen_0 5 rfl rfl)
theorem dX3_happen_8 : decode cX3_happen 8 = .ok (.aload_n 0, 1) := dk_42 (dk_at dksX3_happen_0 8 rfl rfl)
theorem dX3_happen_9 : decode cX3_happen 9 = .ok (.aload_n 1, 1) := dk_43 (dk_at dksX3_happen_0 9 rfl rfl)
theorem dX3_happen_10 : decode cX3_happen 10 = .ok (.invokevirtual 346, 3) := dk_182 1 90 (dk_at dksX3_happen_0 10 rfl rfl)
theorem dX3_happen_13 : decode cX3_happen 13 = .ok (.goto 24, 3) := dk_167 0 24 (dk_at dksX3_happen_0 13 rfl rfl)
theorem dX3_happen_16 : decode cX3_happen 16 = .ok (.aload_n 1, 1) := dk_43 (dk_at dksX3_happen_0 16 rfl rfl)
theorem dX3_happen_17 : decode cX3_happen 17 = .ok (.getfield 250, 3) := dk_180 0 250 (dk_at dksX3_happen_0 17 rfl rfl)
theorem dX3_happen_20 : decode cX3_happen 20 = .ok (.iconst 3, 1) := dk_6 (dk_at dksX3_happen_0 20 rfl rfl)
theorem dX3_happen_21 : decode cX3_happen 21 = .ok (.if_icmp .ne 11, 3) := dk_160 0 11 (dk_at dksX3_happen_0 21 rfl rfl)
theorem dX3_happen_24 : decode cX3_happen 24 = .ok (.aload_n 0, 1) := dk_42 (dk_at dksX3_happen_1 0 rfl rfl)
theorem dX3_happen_25 : decode cX3_happen 25 = .ok (.aload_n 1, 1) := dk_43 (dk_at dksX3_happen_1 1 rfl rfl)
theorem dX3_happen_26 : decode cX3_happen 26 = .ok (.invokevirtual 300, 3) := dk_182 1 44 (dk_at dksX3_happen_1 2 rfl rfl)
theorem dX3_happen_29 : decode cX3_happen 29 = .ok (.goto 8, 3) := dk_167 0 8 (dk_at dksX3_happen_1 5 rfl rfl)
theorem dX3_happen_32 : decode cX3_happen 32 = .ok (.aload_n 0, 1) := dk_42 (dk_at dksX3_happen_1 8 rfl rfl)
theorem dX3_happen_33 : decode cX3_happen 33 = .ok (.aload_n 1, 1) := dk_43 (dk_at dksX3_happen_1 9 rfl rfl)
theorem dX3_happen_34 : decode cX3_happen 34 = .ok (.invokevirtual 349, 3) := dk_182 1 93 (dk_at dksX3_happen_1 10 rfl rfl)
theorem dX3_happen_37 : decode cX3_happen 37 = .ok (.return_, 1) := dk_177 (dk_at dksX3_happen_1 13 rfl rfl)
abbrev cX3_ready : ByteArray := prog_9_method_17_code
def yX3_ready : MethodName := ⟨RX3, "ready", "(LBusLine$Bus;)V"⟩
def dkwX3_ready_5 : List UInt8 := [182, 1, 18, 43, 6, 181, 0, 250, 43, 89, 180, 0, 174, 29, 96, 181, 0, 174, 177]
abbrev dktX3_ready_5 : List UInt8 := dkwX3_ready_5 ++ []
def dkwX3_ready_4 : List UInt8 := [180, 0, 138, 4, 96, 181, 0, 138, 42, 89, 180, 0, 141, 29, 96, 181, 0, 141, 42, 5, 43, 29]
abbrev dktX3_ready_4 : List UInt8 := dkwX3_ready_4 ++ dktX3_ready_5
def dkwX3_ready_3 : List UInt8 := [96, 167, 0, 7, 42, 180, 0, 95, 181, 1, 41, 29, 154, 0, 9, 42, 43, 182, 1, 44, 177, 42, 89]
abbrev dktX3_ready_3 : List UInt8 := dkwX3_ready_3 ++ dktX3_ready_4
def dkwX3_ready_2 : List UInt8 := [29, 181, 1, 38, 43, 29, 154, 0, 7, 3, 167, 0, 22, 28, 29, 164, 0, 13, 42, 180, 0, 95, 16, 10]
abbrev dktX3_ready_2 : List UInt8 := dkwX3_ready_2 ++ dktX3_ready_3
def dkwX3_ready_1 : List UInt8 := [182, 1, 31, 167, 0, 4, 3, 61, 3, 28, 42, 180, 0, 9, 4, 46, 184, 0, 241, 184, 1, 35, 62, 43]
abbrev dktX3_ready_1 : List UInt8 := dkwX3_ready_1 ++ dktX3_ready_2
def dkwX3_ready_0 : List UInt8 := [42, 180, 0, 15, 43, 180, 0, 178, 51, 153, 0, 19, 42, 43, 43, 180, 0, 174, 42, 180, 0, 95]
abbrev dktX3_ready_0 : List UInt8 := dkwX3_ready_0 ++ dktX3_ready_1
theorem dksX3_ready_0 : cX3_ready.data.toList.drop 0 = dktX3_ready_0 := by decide +kernel
theorem dksX3_ready_1 : cX3_ready.data.toList.drop 22 = dktX3_ready_1 := dk_seg dksX3_ready_0 22 rfl rfl
theorem dksX3_ready_2 : cX3_ready.data.toList.drop 46 = dktX3_ready_2 := dk_seg dksX3_ready_1 24 rfl rfl
theorem dksX3_ready_3 : cX3_ready.data.toList.drop 70 = dktX3_ready_3 := dk_seg dksX3_ready_2 24 rfl rfl
theorem dksX3_ready_4 : cX3_ready.data.toList.drop 93 = dktX3_ready_4 := dk_seg dksX3_ready_3 23 rfl rfl
theorem dksX3_ready_5 : cX3_ready.data.toList.drop 115 = dktX3_ready_5 := dk_seg dksX3_ready_4 22 rfl rfl
theorem dX3_ready_0 : decode cX3_ready 0 = .ok (.aload_n 0, 1) := dk_42 (dk_at dksX3_ready_0 0 rfl rfl)
theorem dX3_ready_1 : decode cX3_ready 1 = .ok (.getfield 15, 3) := dk_180 0 15 (dk_at dksX3_ready_0 1 rfl rfl)
theorem dX3_ready_4 : decode cX3_ready 4 = .ok (.aload_n 1, 1) := dk_43 (dk_at dksX3_ready_0 4 rfl rfl)
theorem dX3_ready_5 : decode cX3_ready 5 = .ok (.getfield 178, 3) := dk_180 0 178 (dk_at dksX3_ready_0 5 rfl rfl)
theorem dX3_ready_8 : decode cX3_ready 8 = .ok (.baload, 1) := dk_51 (dk_at dksX3_ready_0 8 rfl rfl)
theorem dX3_ready_9 : decode cX3_ready 9 = .ok (.ifCond .eq 19, 3) := dk_153 0 19 (dk_at dksX3_ready_0 9 rfl rfl)
theorem dX3_ready_12 : decode cX3_ready 12 = .ok (.aload_n 0, 1) := dk_42 (dk_at dksX3_ready_0 12 rfl rfl)
theorem dX3_ready_13 : decode cX3_ready 13 = .ok (.aload_n 1, 1) := dk_43 (dk_at dksX3_ready_0 13 rfl rfl)
theorem dX3_ready_14 : decode cX3_ready 14 = .ok (.aload_n 1, 1) := dk_43 (dk_at dksX3_ready_0 14 rfl rfl)
theorem dX3_ready_15 : decode cX3_ready 15 = .ok (.getfield 174, 3) := dk_180 0 174 (dk_at dksX3_ready_0 15 rfl rfl)
theorem dX3_ready_18 : decode cX3_ready 18 = .ok (.aload_n 0, 1) := dk_42 (dk_at dksX3_ready_0 18 rfl rfl)
theorem dX3_ready_19 : decode cX3_ready 19 = .ok (.getfield 95, 3) := dk_180 0 95 (dk_at dksX3_ready_0 19 rfl rfl)
theorem dX3_ready_22 : decode cX3_ready 22 = .ok (.invokevirtual 287, 3) := dk_182 1 31 (dk_at dksX3_ready_1 0 rfl rfl)
theorem dX3_ready_25 : decode cX3_ready 25 = .ok (.goto 4, 3) := dk_167 0 4 (dk_at dksX3_ready_1 3 rfl rfl)
theorem dX3_ready_28 : decode cX3_ready 28 = .ok (.iconst 0, 1) := dk_3 (dk_at dksX3_ready_1 6 rfl rfl)
theorem dX3_ready_29 : decode cX3_ready 29 = .ok (.istore_n 2, 1) := dk_61 (dk_at dksX3_ready_1 7 rfl rfl)
theorem dX3_ready_30 : decode cX3_ready 30 = .ok (.iconst 0, 1) := dk_3 (dk_at dksX3_ready_1 8 rfl rfl)
theorem dX3_ready_31 : decode cX3_ready 31 = .ok (.iload_n 2, 1) := dk_28 (dk_at dksX3_ready_1 9 rfl rfl)
theorem dX3_ready_32 : decode cX3_ready 32 = .ok (.aload_n 0, 1) := dk_42 (dk_at dksX3_ready_1 10 rfl rfl)
theorem dX3_ready_33 : decode cX3_ready 33 = .ok (.getfield 9, 3) := dk_180 0 9 (dk_at dksX3_ready_1 11 rfl rfl)
theorem dX3_ready_36 : decode cX3_ready 36 = .ok (.iconst 1, 1) := dk_4 (dk_at dksX3_ready_1 14 rfl rfl)
theorem dX3_ready_37 : decode cX3_ready 37 = .ok (.iaload, 1) := dk_46 (dk_at dksX3_ready_1 15 rfl rfl)
theorem dX3_ready_38 : decode cX3_ready 38 = .ok (.invokestatic 241, 3) := dk_184 0 241 (dk_at dksX3_ready_1 16 rfl rfl)
theorem dX3_ready_41 : decode cX3_ready 41 = .ok (.invokestatic 291, 3) := dk_184 1 35 (dk_at dksX3_ready_1 19 rfl rfl)
theorem dX3_ready_44 : decode cX3_ready 44 = .ok (.istore_n 3, 1) := dk_62 (dk_at dksX3_ready_1 22 rfl rfl)
theorem dX3_ready_45 : decode cX3_ready 45 = .ok (.aload_n 1, 1) := dk_43 (dk_at dksX3_ready_1 23 rfl rfl)
theorem dX3_ready_46 : decode cX3_ready 46 = .ok (.iload_n 3, 1) := dk_29 (dk_at dksX3_ready_2 0 rfl rfl)
theorem dX3_ready_47 : decode cX3_ready 47 = .ok (.putfield 294, 3) := dk_181 1 38 (dk_at dksX3_ready_2 1 rfl rfl)
theorem dX3_ready_50 : decode cX3_ready 50 = .ok (.aload_n 1, 1) := dk_43 (dk_at dksX3_ready_2 4 rfl rfl)
theorem dX3_ready_51 : decode cX3_ready 51 = .ok (.iload_n 3, 1) := dk_29 (dk_at dksX3_ready_2 5 rfl rfl)
theorem dX3_ready_52 : decode cX3_ready 52 = .ok (.ifCond .ne 7, 3) := dk_154 0 7 (dk_at dksX3_ready_2 6 rfl rfl)
theorem dX3_ready_55 : decode cX3_ready 55 = .ok (.iconst 0, 1) := dk_3 (dk_at dksX3_ready_2 9 rfl rfl)
theorem dX3_ready_56 : decode cX3_ready 56 = .ok (.goto 22, 3) := dk_167 0 22 (dk_at dksX3_ready_2 10 rfl rfl)
theorem dX3_ready_59 : decode cX3_ready 59 = .ok (.iload_n 2, 1) := dk_28 (dk_at dksX3_ready_2 13 rfl rfl)
theorem dX3_ready_60 : decode cX3_ready 60 = .ok (.iload_n 3, 1) := dk_29 (dk_at dksX3_ready_2 14 rfl rfl)
theorem dX3_ready_61 : decode cX3_ready 61 = .ok (.if_icmp .le 13, 3) := dk_164 0 13 (dk_at dksX3_ready_2 15 rfl rfl)
theorem dX3_ready_64 : decode cX3_ready 64 = .ok (.aload_n 0, 1) := dk_42 (dk_at dksX3_ready_2 18 rfl rfl)
theorem dX3_ready_65 : decode cX3_ready 65 = .ok (.getfield 95, 3) := dk_180 0 95 (dk_at dksX3_ready_2 19 rfl rfl)
theorem dX3_ready_68 : decode cX3_ready 68 = .ok (.bipush 10, 2) := dk_16 10 (dk_at dksX3_ready_2 22 rfl rfl)
theorem dX3_ready_70 : decode cX3_ready 70 = .ok (.iadd, 1) := dk_96 (dk_at dksX3_ready_3 0 rfl rfl)
theorem dX3_ready_71 : decode cX3_ready 71 = .ok (.goto 7, 3) := dk_167 0 7 (dk_at dksX3_ready_3 1 rfl rfl)
theorem dX3_ready_74 : decode cX3_ready 74 = .ok (.aload_n 0, 1) := dk_42 (dk_at dksX3_ready_3 4 rfl rfl)
theorem dX3_ready_75 : decode cX3_ready 75 = .ok (.getfield 95, 3) := dk_180 0 95 (dk_at dksX3_ready_3 5 rfl rfl)
theorem dX3_ready_78 : decode cX3_ready 78 = .ok (.putfield 297, 3) := dk_181 1 41 (dk_at dksX3_ready_3 8 rfl rfl)
theorem dX3_ready_81 : decode cX3_ready 81 = .ok (.iload_n 3, 1) := dk_29 (dk_at dksX3_ready_3 11 rfl rfl)
theorem dX3_ready_82 : decode cX3_ready 82 = .ok (.ifCond .ne 9, 3) := dk_154 0 9 (dk_at dksX3_ready_3 12 rfl rfl)
theorem dX3_ready_85 : decode cX3_ready 85 = .ok (.aload_n 0, 1) := dk_42 (dk_at dksX3_ready_3 15 rfl rfl)
theorem dX3_ready_86 : decode cX3_ready 86 = .ok (.aload_n 1, 1) := dk_43 (dk_at dksX3_ready_3 16 rfl rfl)
theorem dX3_ready_87 : decode cX3_ready 87 = .ok (.invokevirtual 300, 3) := dk_182 1 44 (dk_at dksX3_ready_3 17 rfl rfl)
theorem dX3_ready_90 : decode cX3_ready 90 = .ok (.return_, 1) := dk_177 (dk_at dksX3_ready_3 20 rfl rfl)
theorem dX3_ready_91 : decode cX3_ready 91 = .ok (.aload_n 0, 1) := dk_42 (dk_at dksX3_ready_3 21 rfl rfl)
theorem dX3_ready_92 : decode cX3_ready 92 = .ok (.dup, 1) := dk_89 (dk_at dksX3_ready_3 22 rfl rfl)
theorem dX3_ready_93 : decode cX3_ready 93 = .ok (.getfield 138, 3) := dk_180 0 138 (dk_at dksX3_ready_4 0 rfl rfl)
theorem dX3_ready_96 : decode cX3_ready 96 = .ok (.iconst 1, 1) := dk_4 (dk_at dksX3_ready_4 3 rfl rfl)
theorem dX3_ready_97 : decode cX3_ready 97 = .ok (.iadd, 1) := dk_96 (dk_at dksX3_ready_4 4 rfl rfl)
theorem dX3_ready_98 : decode cX3_ready 98 = .ok (.putfield 138, 3) := dk_181 0 138 (dk_at dksX3_ready_4 5 rfl rfl)
theorem dX3_ready_101 : decode cX3_ready 101 = .ok (.aload_n 0, 1) := dk_42 (dk_at dksX3_ready_4 8 rfl rfl)
theorem dX3_ready_102 : decode cX3_ready 102 = .ok (.dup, 1) := dk_89 (dk_at dksX3_ready_4 9 rfl rfl)
theorem dX3_ready_103 : decode cX3_ready 103 = .ok (.getfield 141, 3) := dk_180 0 141 (dk_at dksX3_ready_4 10 rfl rfl)
theorem dX3_ready_106 : decode cX3_ready 106 = .ok (.iload_n 3, 1) := dk_29 (dk_at dksX3_ready_4 13 rfl rfl)
theorem dX3_ready_107 : decode cX3_ready 107 = .ok (.iadd, 1) := dk_96 (dk_at dksX3_ready_4 14 rfl rfl)
theorem dX3_ready_108 : decode cX3_ready 108 = .ok (.putfield 141, 3) := dk_181 0 141 (dk_at dksX3_ready_4 15 rfl rfl)
theorem dX3_ready_111 : decode cX3_ready 111 = .ok (.aload_n 0, 1) := dk_42 (dk_at dksX3_ready_4 18 rfl rfl)
theorem dX3_ready_112 : decode cX3_ready 112 = .ok (.iconst 2, 1) := dk_5 (dk_at dksX3_ready_4 19 rfl rfl)
theorem dX3_ready_113 : decode cX3_ready 113 = .ok (.aload_n 1, 1) := dk_43 (dk_at dksX3_ready_4 20 rfl rfl)
theorem dX3_ready_114 : decode cX3_ready 114 = .ok (.iload_n 3, 1) := dk_29 (dk_at dksX3_ready_4 21 rfl rfl)
theorem dX3_ready_115 : decode cX3_ready 115 = .ok (.invokevirtual 274, 3) := dk_182 1 18 (dk_at dksX3_ready_5 0 rfl rfl)
theorem dX3_ready_118 : decode cX3_ready 118 = .ok (.aload_n 1, 1) := dk_43 (dk_at dksX3_ready_5 3 rfl rfl)
theorem dX3_ready_119 : decode cX3_ready 119 = .ok (.iconst 3, 1) := dk_6 (dk_at dksX3_ready_5 4 rfl rfl)
theorem dX3_ready_120 : decode cX3_ready 120 = .ok (.putfield 250, 3) := dk_181 0 250 (dk_at dksX3_ready_5 5 rfl rfl)
theorem dX3_ready_123 : decode cX3_ready 123 = .ok (.aload_n 1, 1) := dk_43 (dk_at dksX3_ready_5 8 rfl rfl)
theorem dX3_ready_124 : decode cX3_ready 124 = .ok (.dup, 1) := dk_89 (dk_at dksX3_ready_5 9 rfl rfl)
theorem dX3_ready_125 : decode cX3_ready 125 = .ok (.getfield 174, 3) := dk_180 0 174 (dk_at dksX3_ready_5 10 rfl rfl)
theorem dX3_ready_128 : decode cX3_ready 128 = .ok (.iload_n 3, 1) := dk_29 (dk_at dksX3_ready_5 13 rfl rfl)
theorem dX3_ready_129 : decode cX3_ready 129 = .ok (.iadd, 1) := dk_96 (dk_at dksX3_ready_5 14 rfl rfl)
theorem dX3_ready_130 : decode cX3_ready 130 = .ok (.putfield 174, 3) := dk_181 0 174 (dk_at dksX3_ready_5 15 rfl rfl)
theorem dX3_ready_133 : decode cX3_ready 133 = .ok (.return_, 1) := dk_177 (dk_at dksX3_ready_5 18 rfl rfl)
abbrev cX3_wanted : ByteArray := prog_9_method_21_code
def yX3_wanted : MethodName := ⟨RX3, "wanted", "(LBusLine$Bus;II)I"⟩
def dkwX3_wanted_4 : List UInt8 := [182, 1, 74, 172, 3, 172]
abbrev dktX3_wanted_4 : List UInt8 := dkwX3_wanted_4 ++ []
def dkwX3_wanted_3 : List UInt8 := [182, 1, 56, 28, 100, 172, 21, 4, 156, 0, 7, 3, 167, 0, 13, 42, 43, 28, 28, 21, 4, 100]
abbrev dktX3_wanted_3 : List UInt8 := dkwX3_wanted_3 ++ dktX3_wanted_4
def dkwX3_wanted_2 : List UInt8 := [21, 4, 156, 0, 7, 3, 167, 0, 14, 21, 4, 42, 180, 0, 9, 3, 46, 96, 28, 100, 172, 42, 43]
abbrev dktX3_wanted_2 : List UInt8 := dkwX3_wanted_2 ++ dktX3_wanted_3
def dkwX3_wanted_1 : List UInt8 := [170, 0, 0, 0, 74, 0, 0, 0, 1, 0, 0, 0, 3, 0, 0, 0, 25, 0, 0, 0, 46, 0, 0, 0, 54]
abbrev dktX3_wanted_1 : List UInt8 := dkwX3_wanted_1 ++ dktX3_wanted_2
def dkwX3_wanted_0 : List UInt8 := [42, 180, 0, 27, 43, 180, 0, 178, 50, 180, 1, 71, 54, 4, 29]
abbrev dktX3_wanted_0 : List UInt8 := dkwX3_wanted_0 ++ dktX3_wanted_1
theorem dksX3_wanted_0 : cX3_wanted.data.toList.drop 0 = dktX3_wanted_0 := by decide +kernel
theorem dksX3_wanted_1 : cX3_wanted.data.toList.drop 15 = dktX3_wanted_1 := dk_seg dksX3_wanted_0 15 rfl rfl
theorem dksX3_wanted_2 : cX3_wanted.data.toList.drop 40 = dktX3_wanted_2 := dk_seg dksX3_wanted_1 25 rfl rfl
theorem dksX3_wanted_3 : cX3_wanted.data.toList.drop 63 = dktX3_wanted_3 := dk_seg dksX3_wanted_2 23 rfl rfl
theorem dksX3_wanted_4 : cX3_wanted.data.toList.drop 85 = dktX3_wanted_4 := dk_seg dksX3_wanted_3 22 rfl rfl
theorem dX3_wanted_0 : decode cX3_wanted 0 = .ok (.aload_n 0, 1) := dk_42 (dk_at dksX3_wanted_0 0 rfl rfl)
theorem dX3_wanted_1 : decode cX3_wanted 1 = .ok (.getfield 27, 3) := dk_180 0 27 (dk_at dksX3_wanted_0 1 rfl rfl)
theorem dX3_wanted_4 : decode cX3_wanted 4 = .ok (.aload_n 1, 1) := dk_43 (dk_at dksX3_wanted_0 4 rfl rfl)
theorem dX3_wanted_5 : decode cX3_wanted 5 = .ok (.getfield 178, 3) := dk_180 0 178 (dk_at dksX3_wanted_0 5 rfl rfl)
theorem dX3_wanted_8 : decode cX3_wanted 8 = .ok (.aaload, 1) := dk_50 (dk_at dksX3_wanted_0 8 rfl rfl)
theorem dX3_wanted_9 : decode cX3_wanted 9 = .ok (.getfield 327, 3) := dk_180 1 71 (dk_at dksX3_wanted_0 9 rfl rfl)
theorem dX3_wanted_12 : decode cX3_wanted 12 = .ok (.istore 4, 2) := dk_54 4 (dk_at dksX3_wanted_0 12 rfl rfl)
theorem dX3_wanted_14 : decode cX3_wanted 14 = .ok (.iload_n 3, 1) := dk_29 (dk_at dksX3_wanted_0 14 rfl rfl)
theorem dX3_wanted_15 : decode cX3_wanted 15 = .ok (.tableswitch 74 1 3 #[25, 46, 54], 25) := by decide +kernel
theorem dX3_wanted_40 : decode cX3_wanted 40 = .ok (.iload 4, 2) := dk_21 4 (dk_at dksX3_wanted_2 0 rfl rfl)
theorem dX3_wanted_42 : decode cX3_wanted 42 = .ok (.ifCond .ge 7, 3) := dk_156 0 7 (dk_at dksX3_wanted_2 2 rfl rfl)
theorem dX3_wanted_45 : decode cX3_wanted 45 = .ok (.iconst 0, 1) := dk_3 (dk_at dksX3_wanted_2 5 rfl rfl)
theorem dX3_wanted_46 : decode cX3_wanted 46 = .ok (.goto 14, 3) := dk_167 0 14 (dk_at dksX3_wanted_2 6 rfl rfl)
theorem dX3_wanted_49 : decode cX3_wanted 49 = .ok (.iload 4, 2) := dk_21 4 (dk_at dksX3_wanted_2 9 rfl rfl)
theorem dX3_wanted_51 : decode cX3_wanted 51 = .ok (.aload_n 0, 1) := dk_42 (dk_at dksX3_wanted_2 11 rfl rfl)
theorem dX3_wanted_52 : decode cX3_wanted 52 = .ok (.getfield 9, 3) := dk_180 0 9 (dk_at dksX3_wanted_2 12 rfl rfl)
theorem dX3_wanted_55 : decode cX3_wanted 55 = .ok (.iconst 0, 1) := dk_3 (dk_at dksX3_wanted_2 15 rfl rfl)
theorem dX3_wanted_56 : decode cX3_wanted 56 = .ok (.iaload, 1) := dk_46 (dk_at dksX3_wanted_2 16 rfl rfl)
theorem dX3_wanted_57 : decode cX3_wanted 57 = .ok (.iadd, 1) := dk_96 (dk_at dksX3_wanted_2 17 rfl rfl)
theorem dX3_wanted_58 : decode cX3_wanted 58 = .ok (.iload_n 2, 1) := dk_28 (dk_at dksX3_wanted_2 18 rfl rfl)
theorem dX3_wanted_59 : decode cX3_wanted 59 = .ok (.isub, 1) := dk_100 (dk_at dksX3_wanted_2 19 rfl rfl)
theorem dX3_wanted_60 : decode cX3_wanted 60 = .ok (.ireturn, 1) := dk_172 (dk_at dksX3_wanted_2 20 rfl rfl)
theorem dX3_wanted_61 : decode cX3_wanted 61 = .ok (.aload_n 0, 1) := dk_42 (dk_at dksX3_wanted_2 21 rfl rfl)
theorem dX3_wanted_62 : decode cX3_wanted 62 = .ok (.aload_n 1, 1) := dk_43 (dk_at dksX3_wanted_2 22 rfl rfl)
theorem dX3_wanted_63 : decode cX3_wanted 63 = .ok (.invokevirtual 312, 3) := dk_182 1 56 (dk_at dksX3_wanted_3 0 rfl rfl)
theorem dX3_wanted_66 : decode cX3_wanted 66 = .ok (.iload_n 2, 1) := dk_28 (dk_at dksX3_wanted_3 3 rfl rfl)
theorem dX3_wanted_67 : decode cX3_wanted 67 = .ok (.isub, 1) := dk_100 (dk_at dksX3_wanted_3 4 rfl rfl)
theorem dX3_wanted_68 : decode cX3_wanted 68 = .ok (.ireturn, 1) := dk_172 (dk_at dksX3_wanted_3 5 rfl rfl)
theorem dX3_wanted_69 : decode cX3_wanted 69 = .ok (.iload 4, 2) := dk_21 4 (dk_at dksX3_wanted_3 6 rfl rfl)
theorem dX3_wanted_71 : decode cX3_wanted 71 = .ok (.ifCond .ge 7, 3) := dk_156 0 7 (dk_at dksX3_wanted_3 8 rfl rfl)
theorem dX3_wanted_74 : decode cX3_wanted 74 = .ok (.iconst 0, 1) := dk_3 (dk_at dksX3_wanted_3 11 rfl rfl)
theorem dX3_wanted_75 : decode cX3_wanted 75 = .ok (.goto 13, 3) := dk_167 0 13 (dk_at dksX3_wanted_3 12 rfl rfl)
theorem dX3_wanted_78 : decode cX3_wanted 78 = .ok (.aload_n 0, 1) := dk_42 (dk_at dksX3_wanted_3 15 rfl rfl)
theorem dX3_wanted_79 : decode cX3_wanted 79 = .ok (.aload_n 1, 1) := dk_43 (dk_at dksX3_wanted_3 16 rfl rfl)
theorem dX3_wanted_80 : decode cX3_wanted 80 = .ok (.iload_n 2, 1) := dk_28 (dk_at dksX3_wanted_3 17 rfl rfl)
theorem dX3_wanted_81 : decode cX3_wanted 81 = .ok (.iload_n 2, 1) := dk_28 (dk_at dksX3_wanted_3 18 rfl rfl)
theorem dX3_wanted_82 : decode cX3_wanted 82 = .ok (.iload 4, 2) := dk_21 4 (dk_at dksX3_wanted_3 19 rfl rfl)
theorem dX3_wanted_84 : decode cX3_wanted 84 = .ok (.isub, 1) := dk_100 (dk_at dksX3_wanted_3 21 rfl rfl)
theorem dX3_wanted_85 : decode cX3_wanted 85 = .ok (.invokevirtual 330, 3) := dk_182 1 74 (dk_at dksX3_wanted_4 0 rfl rfl)
theorem dX3_wanted_88 : decode cX3_wanted 88 = .ok (.ireturn, 1) := dk_172 (dk_at dksX3_wanted_4 3 rfl rfl)
theorem dX3_wanted_89 : decode cX3_wanted 89 = .ok (.iconst 0, 1) := dk_3 (dk_at dksX3_wanted_4 4 rfl rfl)
theorem dX3_wanted_90 : decode cX3_wanted 90 = .ok (.ireturn, 1) := dk_172 (dk_at dksX3_wanted_4 5 rfl rfl)
abbrev cX3_due : ByteArray := prog_9_method_20_code
def yX3_due : MethodName := ⟨RX3, "due", "(LBusLine$Bus;)I"⟩
def dkwX3_due_1 : List UInt8 := [180, 1, 68, 96, 172]
abbrev dktX3_due_1 : List UInt8 := dkwX3_due_1 ++ []
def dkwX3_due_0 : List UInt8 := [43, 180, 1, 65, 43, 180, 1, 2, 42, 180, 0, 9, 6, 46, 104, 96, 42, 43, 180, 0, 178, 182, 0, 199]
abbrev dktX3_due_0 : List UInt8 := dkwX3_due_0 ++ dktX3_due_1
theorem dksX3_due_0 : cX3_due.data.toList.drop 0 = dktX3_due_0 := by decide +kernel
theorem dksX3_due_1 : cX3_due.data.toList.drop 24 = dktX3_due_1 := dk_seg dksX3_due_0 24 rfl rfl
theorem dX3_due_0 : decode cX3_due 0 = .ok (.aload_n 1, 1) := dk_43 (dk_at dksX3_due_0 0 rfl rfl)
theorem dX3_due_1 : decode cX3_due 1 = .ok (.getfield 321, 3) := dk_180 1 65 (dk_at dksX3_due_0 1 rfl rfl)
theorem dX3_due_4 : decode cX3_due 4 = .ok (.aload_n 1, 1) := dk_43 (dk_at dksX3_due_0 4 rfl rfl)
theorem dX3_due_5 : decode cX3_due 5 = .ok (.getfield 258, 3) := dk_180 1 2 (dk_at dksX3_due_0 5 rfl rfl)
theorem dX3_due_8 : decode cX3_due 8 = .ok (.aload_n 0, 1) := dk_42 (dk_at dksX3_due_0 8 rfl rfl)
theorem dX3_due_9 : decode cX3_due 9 = .ok (.getfield 9, 3) := dk_180 0 9 (dk_at dksX3_due_0 9 rfl rfl)
theorem dX3_due_12 : decode cX3_due 12 = .ok (.iconst 3, 1) := dk_6 (dk_at dksX3_due_0 12 rfl rfl)
theorem dX3_due_13 : decode cX3_due 13 = .ok (.iaload, 1) := dk_46 (dk_at dksX3_due_0 13 rfl rfl)
theorem dX3_due_14 : decode cX3_due 14 = .ok (.imul, 1) := dk_104 (dk_at dksX3_due_0 14 rfl rfl)
theorem dX3_due_15 : decode cX3_due 15 = .ok (.iadd, 1) := dk_96 (dk_at dksX3_due_0 15 rfl rfl)
theorem dX3_due_16 : decode cX3_due 16 = .ok (.aload_n 0, 1) := dk_42 (dk_at dksX3_due_0 16 rfl rfl)
theorem dX3_due_17 : decode cX3_due 17 = .ok (.aload_n 1, 1) := dk_43 (dk_at dksX3_due_0 17 rfl rfl)
theorem dX3_due_18 : decode cX3_due 18 = .ok (.getfield 178, 3) := dk_180 0 178 (dk_at dksX3_due_0 18 rfl rfl)
theorem dX3_due_21 : decode cX3_due 21 = .ok (.invokevirtual 199, 3) := dk_182 0 199 (dk_at dksX3_due_0 21 rfl rfl)
theorem dX3_due_24 : decode cX3_due 24 = .ok (.getfield 324, 3) := dk_180 1 68 (dk_at dksX3_due_1 0 rfl rfl)
theorem dX3_due_27 : decode cX3_due 27 = .ok (.iadd, 1) := dk_96 (dk_at dksX3_due_1 3 rfl rfl)
theorem dX3_due_28 : decode cX3_due 28 = .ok (.ireturn, 1) := dk_172 (dk_at dksX3_due_1 4 rfl rfl)
abbrev cX3_wise : ByteArray := prog_9_method_22_code
def yX3_wise : MethodName := ⟨RX3, "wise", "(LBusLine$Bus;II)I"⟩
def dkwX3_wise_5 : List UInt8 := [132, 5, 1, 167, 255, 145, 21, 4, 156, 0, 7, 3, 167, 0, 9, 21, 4, 29, 100, 5, 108, 172]
abbrev dktX3_wise_5 : List UInt8 := dkwX3_wise_5 ++ []
def dkwX3_wise_4 : List UInt8 := [182, 1, 87, 96, 54, 7, 21, 4, 155, 0, 10, 21, 7, 21, 4, 162, 0, 7, 21, 7, 54, 4]
abbrev dktX3_wise_4 : List UInt8 := dkwX3_wise_4 ++ dktX3_wise_5
def dkwX3_wise_3 : List UInt8 := [180, 0, 59, 182, 1, 84, 167, 0, 19, 42, 180, 0, 59, 25, 6, 180, 0, 178, 43, 180, 0, 178]
abbrev dktX3_wise_3 : List UInt8 := dkwX3_wise_3 ++ dktX3_wise_4
def dkwX3_wise_2 : List UInt8 := [28, 100, 25, 6, 182, 1, 81, 153, 0, 25, 25, 6, 180, 0, 178, 43, 180, 0, 178, 160, 0, 13, 42]
abbrev dktX3_wise_2 : List UInt8 := dkwX3_wise_2 ++ dktX3_wise_3
def dkwX3_wise_1 : List UInt8 := [58, 6, 25, 6, 43, 165, 0, 86, 25, 6, 182, 1, 77, 154, 0, 6, 167, 0, 75, 25, 6, 180, 0, 174]
abbrev dktX3_wise_1 : List UInt8 := dkwX3_wise_1 ++ dktX3_wise_2
def dkwX3_wise_0 : List UInt8 := [16, 254, 54, 4, 3, 54, 5, 21, 5, 42, 180, 0, 77, 190, 162, 0, 107, 42, 180, 0, 77, 21, 5, 50]
abbrev dktX3_wise_0 : List UInt8 := dkwX3_wise_0 ++ dktX3_wise_1
theorem dksX3_wise_0 : cX3_wise.data.toList.drop 0 = dktX3_wise_0 := by decide +kernel
theorem dksX3_wise_1 : cX3_wise.data.toList.drop 24 = dktX3_wise_1 := dk_seg dksX3_wise_0 24 rfl rfl
theorem dksX3_wise_2 : cX3_wise.data.toList.drop 48 = dktX3_wise_2 := dk_seg dksX3_wise_1 24 rfl rfl
theorem dksX3_wise_3 : cX3_wise.data.toList.drop 71 = dktX3_wise_3 := dk_seg dksX3_wise_2 23 rfl rfl
theorem dksX3_wise_4 : cX3_wise.data.toList.drop 93 = dktX3_wise_4 := dk_seg dksX3_wise_3 22 rfl rfl
theorem dksX3_wise_5 : cX3_wise.data.toList.drop 115 = dktX3_wise_5 := dk_seg dksX3_wise_4 22 rfl rfl
theorem dX3_wise_0 : decode cX3_wise 0 = .ok (.bipush (-2), 2) := dk_16 254 (dk_at dksX3_wise_0 0 rfl rfl)
theorem dX3_wise_2 : decode cX3_wise 2 = .ok (.istore 4, 2) := dk_54 4 (dk_at dksX3_wise_0 2 rfl rfl)
theorem dX3_wise_4 : decode cX3_wise 4 = .ok (.iconst 0, 1) := dk_3 (dk_at dksX3_wise_0 4 rfl rfl)
theorem dX3_wise_5 : decode cX3_wise 5 = .ok (.istore 5, 2) := dk_54 5 (dk_at dksX3_wise_0 5 rfl rfl)
theorem dX3_wise_7 : decode cX3_wise 7 = .ok (.iload 5, 2) := dk_21 5 (dk_at dksX3_wise_0 7 rfl rfl)
theorem dX3_wise_9 : decode cX3_wise 9 = .ok (.aload_n 0, 1) := dk_42 (dk_at dksX3_wise_0 9 rfl rfl)
theorem dX3_wise_10 : decode cX3_wise 10 = .ok (.getfield 77, 3) := dk_180 0 77 (dk_at dksX3_wise_0 10 rfl rfl)
theorem dX3_wise_13 : decode cX3_wise 13 = .ok (.arraylength, 1) := dk_190 (dk_at dksX3_wise_0 13 rfl rfl)
theorem dX3_wise_14 : decode cX3_wise 14 = .ok (.if_icmp .ge 107, 3) := dk_162 0 107 (dk_at dksX3_wise_0 14 rfl rfl)
theorem dX3_wise_17 : decode cX3_wise 17 = .ok (.aload_n 0, 1) := dk_42 (dk_at dksX3_wise_0 17 rfl rfl)
theorem dX3_wise_18 : decode cX3_wise 18 = .ok (.getfield 77, 3) := dk_180 0 77 (dk_at dksX3_wise_0 18 rfl rfl)
theorem dX3_wise_21 : decode cX3_wise 21 = .ok (.iload 5, 2) := dk_21 5 (dk_at dksX3_wise_0 21 rfl rfl)
theorem dX3_wise_23 : decode cX3_wise 23 = .ok (.aaload, 1) := dk_50 (dk_at dksX3_wise_0 23 rfl rfl)
theorem dX3_wise_24 : decode cX3_wise 24 = .ok (.astore 6, 2) := dk_58 6 (dk_at dksX3_wise_1 0 rfl rfl)
theorem dX3_wise_26 : decode cX3_wise 26 = .ok (.aload 6, 2) := dk_25 6 (dk_at dksX3_wise_1 2 rfl rfl)
theorem dX3_wise_28 : decode cX3_wise 28 = .ok (.aload_n 1, 1) := dk_43 (dk_at dksX3_wise_1 4 rfl rfl)
theorem dX3_wise_29 : decode cX3_wise 29 = .ok (.if_acmp .eq 86, 3) := dk_165 0 86 (dk_at dksX3_wise_1 5 rfl rfl)
theorem dX3_wise_32 : decode cX3_wise 32 = .ok (.aload 6, 2) := dk_25 6 (dk_at dksX3_wise_1 8 rfl rfl)
theorem dX3_wise_34 : decode cX3_wise 34 = .ok (.invokevirtual 333, 3) := dk_182 1 77 (dk_at dksX3_wise_1 10 rfl rfl)
theorem dX3_wise_37 : decode cX3_wise 37 = .ok (.ifCond .ne 6, 3) := dk_154 0 6 (dk_at dksX3_wise_1 13 rfl rfl)
theorem dX3_wise_40 : decode cX3_wise 40 = .ok (.goto 75, 3) := dk_167 0 75 (dk_at dksX3_wise_1 16 rfl rfl)
theorem dX3_wise_43 : decode cX3_wise 43 = .ok (.aload 6, 2) := dk_25 6 (dk_at dksX3_wise_1 19 rfl rfl)
theorem dX3_wise_45 : decode cX3_wise 45 = .ok (.getfield 174, 3) := dk_180 0 174 (dk_at dksX3_wise_1 21 rfl rfl)
theorem dX3_wise_48 : decode cX3_wise 48 = .ok (.iload_n 2, 1) := dk_28 (dk_at dksX3_wise_2 0 rfl rfl)
theorem dX3_wise_49 : decode cX3_wise 49 = .ok (.isub, 1) := dk_100 (dk_at dksX3_wise_2 1 rfl rfl)
theorem dX3_wise_50 : decode cX3_wise 50 = .ok (.aload 6, 2) := dk_25 6 (dk_at dksX3_wise_2 2 rfl rfl)
theorem dX3_wise_52 : decode cX3_wise 52 = .ok (.invokevirtual 337, 3) := dk_182 1 81 (dk_at dksX3_wise_2 4 rfl rfl)
theorem dX3_wise_55 : decode cX3_wise 55 = .ok (.ifCond .eq 25, 3) := dk_153 0 25 (dk_at dksX3_wise_2 7 rfl rfl)
theorem dX3_wise_58 : decode cX3_wise 58 = .ok (.aload 6, 2) := dk_25 6 (dk_at dksX3_wise_2 10 rfl rfl)
theorem dX3_wise_60 : decode cX3_wise 60 = .ok (.getfield 178, 3) := dk_180 0 178 (dk_at dksX3_wise_2 12 rfl rfl)
theorem dX3_wise_63 : decode cX3_wise 63 = .ok (.aload_n 1, 1) := dk_43 (dk_at dksX3_wise_2 15 rfl rfl)
theorem dX3_wise_64 : decode cX3_wise 64 = .ok (.getfield 178, 3) := dk_180 0 178 (dk_at dksX3_wise_2 16 rfl rfl)
theorem dX3_wise_67 : decode cX3_wise 67 = .ok (.if_icmp .ne 13, 3) := dk_160 0 13 (dk_at dksX3_wise_2 19 rfl rfl)
theorem dX3_wise_70 : decode cX3_wise 70 = .ok (.aload_n 0, 1) := dk_42 (dk_at dksX3_wise_2 22 rfl rfl)
theorem dX3_wise_71 : decode cX3_wise 71 = .ok (.getfield 59, 3) := dk_180 0 59 (dk_at dksX3_wise_3 0 rfl rfl)
theorem dX3_wise_74 : decode cX3_wise 74 = .ok (.invokevirtual 340, 3) := dk_182 1 84 (dk_at dksX3_wise_3 3 rfl rfl)
theorem dX3_wise_77 : decode cX3_wise 77 = .ok (.goto 19, 3) := dk_167 0 19 (dk_at dksX3_wise_3 6 rfl rfl)
theorem dX3_wise_80 : decode cX3_wise 80 = .ok (.aload_n 0, 1) := dk_42 (dk_at dksX3_wise_3 9 rfl rfl)
theorem dX3_wise_81 : decode cX3_wise 81 = .ok (.getfield 59, 3) := dk_180 0 59 (dk_at dksX3_wise_3 10 rfl rfl)
theorem dX3_wise_84 : decode cX3_wise 84 = .ok (.aload 6, 2) := dk_25 6 (dk_at dksX3_wise_3 13 rfl rfl)
theorem dX3_wise_86 : decode cX3_wise 86 = .ok (.getfield 178, 3) := dk_180 0 178 (dk_at dksX3_wise_3 15 rfl rfl)
theorem dX3_wise_89 : decode cX3_wise 89 = .ok (.aload_n 1, 1) := dk_43 (dk_at dksX3_wise_3 18 rfl rfl)
theorem dX3_wise_90 : decode cX3_wise 90 = .ok (.getfield 178, 3) := dk_180 0 178 (dk_at dksX3_wise_3 19 rfl rfl)
theorem dX3_wise_93 : decode cX3_wise 93 = .ok (.invokevirtual 343, 3) := dk_182 1 87 (dk_at dksX3_wise_4 0 rfl rfl)
theorem dX3_wise_96 : decode cX3_wise 96 = .ok (.iadd, 1) := dk_96 (dk_at dksX3_wise_4 3 rfl rfl)
theorem dX3_wise_97 : decode cX3_wise 97 = .ok (.istore 7, 2) := dk_54 7 (dk_at dksX3_wise_4 4 rfl rfl)
theorem dX3_wise_99 : decode cX3_wise 99 = .ok (.iload 4, 2) := dk_21 4 (dk_at dksX3_wise_4 6 rfl rfl)
theorem dX3_wise_101 : decode cX3_wise 101 = .ok (.ifCond .lt 10, 3) := dk_155 0 10 (dk_at dksX3_wise_4 8 rfl rfl)
theorem dX3_wise_104 : decode cX3_wise 104 = .ok (.iload 7, 2) := dk_21 7 (dk_at dksX3_wise_4 11 rfl rfl)
theorem dX3_wise_106 : decode cX3_wise 106 = .ok (.iload 4, 2) := dk_21 4 (dk_at dksX3_wise_4 13 rfl rfl)
theorem dX3_wise_108 : decode cX3_wise 108 = .ok (.if_icmp .ge 7, 3) := dk_162 0 7 (dk_at dksX3_wise_4 15 rfl rfl)
theorem dX3_wise_111 : decode cX3_wise 111 = .ok (.iload 7, 2) := dk_21 7 (dk_at dksX3_wise_4 18 rfl rfl)
theorem dX3_wise_113 : decode cX3_wise 113 = .ok (.istore 4, 2) := dk_54 4 (dk_at dksX3_wise_4 20 rfl rfl)
theorem dX3_wise_115 : decode cX3_wise 115 = .ok (.iinc 5 1, 3) := dk_132 5 1 (dk_at dksX3_wise_5 0 rfl rfl)
theorem dX3_wise_118 : decode cX3_wise 118 = .ok (.goto (-111), 3) := dk_167 255 145 (dk_at dksX3_wise_5 3 rfl rfl)
theorem dX3_wise_121 : decode cX3_wise 121 = .ok (.iload 4, 2) := dk_21 4 (dk_at dksX3_wise_5 6 rfl rfl)
theorem dX3_wise_123 : decode cX3_wise 123 = .ok (.ifCond .ge 7, 3) := dk_156 0 7 (dk_at dksX3_wise_5 8 rfl rfl)
theorem dX3_wise_126 : decode cX3_wise 126 = .ok (.iconst 0, 1) := dk_3 (dk_at dksX3_wise_5 11 rfl rfl)
theorem dX3_wise_127 : decode cX3_wise 127 = .ok (.goto 9, 3) := dk_167 0 9 (dk_at dksX3_wise_5 12 rfl rfl)
theorem dX3_wise_130 : decode cX3_wise 130 = .ok (.iload 4, 2) := dk_21 4 (dk_at dksX3_wise_5 15 rfl rfl)
theorem dX3_wise_132 : decode cX3_wise 132 = .ok (.iload_n 3, 1) := dk_29 (dk_at dksX3_wise_5 17 rfl rfl)
theorem dX3_wise_133 : decode cX3_wise 133 = .ok (.isub, 1) := dk_100 (dk_at dksX3_wise_5 18 rfl rfl)
theorem dX3_wise_134 : decode cX3_wise 134 = .ok (.iconst 2, 1) := dk_5 (dk_at dksX3_wise_5 19 rfl rfl)
theorem dX3_wise_135 : decode cX3_wise 135 = .ok (.idiv, 1) := dk_108 (dk_at dksX3_wise_5 20 rfl rfl)
theorem dX3_wise_136 : decode cX3_wise 136 = .ok (.ireturn, 1) := dk_172 (dk_at dksX3_wise_5 21 rfl rfl)
abbrev cX3_leave : ByteArray := prog_9_method_18_code
def yX3_leave : MethodName := ⟨RX3, "leave", "(LBusLine$Bus;)V"⟩
def dkwX3_leave_4 : List UInt8 := [181, 1, 59, 42, 43, 182, 1, 7, 177]
abbrev dktX3_leave_4 : List UInt8 := dkwX3_leave_4 ++ []
def dkwX3_leave_3 : List UInt8 := [29, 155, 0, 9, 42, 43, 29, 182, 1, 49, 43, 43, 180, 0, 174, 181, 1, 53, 43, 42, 43, 182, 1, 56]
abbrev dktX3_leave_3 : List UInt8 := dkwX3_leave_3 ++ dktX3_leave_4
def dkwX3_leave_2 : List UInt8 := [182, 1, 18, 42, 180, 0, 27, 43, 180, 0, 178, 50, 43, 180, 0, 175, 43, 180, 0, 174, 182, 1, 47, 62]
abbrev dktX3_leave_2 : List UInt8 := dkwX3_leave_2 ++ dktX3_leave_3
def dkwX3_leave_1 : List UInt8 := [180, 0, 178, 50, 180, 0, 181, 61, 28, 158, 0, 17, 43, 182, 0, 238, 154, 0, 10, 42, 7, 43, 28]
abbrev dktX3_leave_1 : List UInt8 := dkwX3_leave_1 ++ dktX3_leave_2
def dkwX3_leave_0 : List UInt8 := [42, 43, 180, 0, 178, 43, 180, 0, 174, 182, 0, 225, 42, 43, 182, 1, 15, 87, 42, 180, 0, 21, 43]
abbrev dktX3_leave_0 : List UInt8 := dkwX3_leave_0 ++ dktX3_leave_1
theorem dksX3_leave_0 : cX3_leave.data.toList.drop 0 = dktX3_leave_0 := by decide +kernel
theorem dksX3_leave_1 : cX3_leave.data.toList.drop 23 = dktX3_leave_1 := dk_seg dksX3_leave_0 23 rfl rfl
theorem dksX3_leave_2 : cX3_leave.data.toList.drop 46 = dktX3_leave_2 := dk_seg dksX3_leave_1 23 rfl rfl
theorem dksX3_leave_3 : cX3_leave.data.toList.drop 70 = dktX3_leave_3 := dk_seg dksX3_leave_2 24 rfl rfl
theorem dksX3_leave_4 : cX3_leave.data.toList.drop 94 = dktX3_leave_4 := dk_seg dksX3_leave_3 24 rfl rfl
theorem dX3_leave_0 : decode cX3_leave 0 = .ok (.aload_n 0, 1) := dk_42 (dk_at dksX3_leave_0 0 rfl rfl)
theorem dX3_leave_1 : decode cX3_leave 1 = .ok (.aload_n 1, 1) := dk_43 (dk_at dksX3_leave_0 1 rfl rfl)
theorem dX3_leave_2 : decode cX3_leave 2 = .ok (.getfield 178, 3) := dk_180 0 178 (dk_at dksX3_leave_0 2 rfl rfl)
theorem dX3_leave_5 : decode cX3_leave 5 = .ok (.aload_n 1, 1) := dk_43 (dk_at dksX3_leave_0 5 rfl rfl)
theorem dX3_leave_6 : decode cX3_leave 6 = .ok (.getfield 174, 3) := dk_180 0 174 (dk_at dksX3_leave_0 6 rfl rfl)
theorem dX3_leave_9 : decode cX3_leave 9 = .ok (.invokevirtual 225, 3) := dk_182 0 225 (dk_at dksX3_leave_0 9 rfl rfl)
theorem dX3_leave_12 : decode cX3_leave 12 = .ok (.aload_n 0, 1) := dk_42 (dk_at dksX3_leave_0 12 rfl rfl)
theorem dX3_leave_13 : decode cX3_leave 13 = .ok (.aload_n 1, 1) := dk_43 (dk_at dksX3_leave_0 13 rfl rfl)
theorem dX3_leave_14 : decode cX3_leave 14 = .ok (.invokevirtual 271, 3) := dk_182 1 15 (dk_at dksX3_leave_0 14 rfl rfl)
theorem dX3_leave_17 : decode cX3_leave 17 = .ok (.pop, 1) := dk_87 (dk_at dksX3_leave_0 17 rfl rfl)
theorem dX3_leave_18 : decode cX3_leave 18 = .ok (.aload_n 0, 1) := dk_42 (dk_at dksX3_leave_0 18 rfl rfl)
theorem dX3_leave_19 : decode cX3_leave 19 = .ok (.getfield 21, 3) := dk_180 0 21 (dk_at dksX3_leave_0 19 rfl rfl)
theorem dX3_leave_22 : decode cX3_leave 22 = .ok (.aload_n 1, 1) := dk_43 (dk_at dksX3_leave_0 22 rfl rfl)
theorem dX3_leave_23 : decode cX3_leave 23 = .ok (.getfield 178, 3) := dk_180 0 178 (dk_at dksX3_leave_1 0 rfl rfl)
theorem dX3_leave_26 : decode cX3_leave 26 = .ok (.aaload, 1) := dk_50 (dk_at dksX3_leave_1 3 rfl rfl)
theorem dX3_leave_27 : decode cX3_leave 27 = .ok (.getfield 181, 3) := dk_180 0 181 (dk_at dksX3_leave_1 4 rfl rfl)
theorem dX3_leave_30 : decode cX3_leave 30 = .ok (.istore_n 2, 1) := dk_61 (dk_at dksX3_leave_1 7 rfl rfl)
theorem dX3_leave_31 : decode cX3_leave 31 = .ok (.iload_n 2, 1) := dk_28 (dk_at dksX3_leave_1 8 rfl rfl)
theorem dX3_leave_32 : decode cX3_leave 32 = .ok (.ifCond .le 17, 3) := dk_158 0 17 (dk_at dksX3_leave_1 9 rfl rfl)
theorem dX3_leave_35 : decode cX3_leave 35 = .ok (.aload_n 1, 1) := dk_43 (dk_at dksX3_leave_1 12 rfl rfl)
theorem dX3_leave_36 : decode cX3_leave 36 = .ok (.invokevirtual 238, 3) := dk_182 0 238 (dk_at dksX3_leave_1 13 rfl rfl)
theorem dX3_leave_39 : decode cX3_leave 39 = .ok (.ifCond .ne 10, 3) := dk_154 0 10 (dk_at dksX3_leave_1 16 rfl rfl)
theorem dX3_leave_42 : decode cX3_leave 42 = .ok (.aload_n 0, 1) := dk_42 (dk_at dksX3_leave_1 19 rfl rfl)
theorem dX3_leave_43 : decode cX3_leave 43 = .ok (.iconst 4, 1) := dk_7 (dk_at dksX3_leave_1 20 rfl rfl)
theorem dX3_leave_44 : decode cX3_leave 44 = .ok (.aload_n 1, 1) := dk_43 (dk_at dksX3_leave_1 21 rfl rfl)
theorem dX3_leave_45 : decode cX3_leave 45 = .ok (.iload_n 2, 1) := dk_28 (dk_at dksX3_leave_1 22 rfl rfl)
theorem dX3_leave_46 : decode cX3_leave 46 = .ok (.invokevirtual 274, 3) := dk_182 1 18 (dk_at dksX3_leave_2 0 rfl rfl)
theorem dX3_leave_49 : decode cX3_leave 49 = .ok (.aload_n 0, 1) := dk_42 (dk_at dksX3_leave_2 3 rfl rfl)
theorem dX3_leave_50 : decode cX3_leave 50 = .ok (.getfield 27, 3) := dk_180 0 27 (dk_at dksX3_leave_2 4 rfl rfl)
theorem dX3_leave_53 : decode cX3_leave 53 = .ok (.aload_n 1, 1) := dk_43 (dk_at dksX3_leave_2 7 rfl rfl)
theorem dX3_leave_54 : decode cX3_leave 54 = .ok (.getfield 178, 3) := dk_180 0 178 (dk_at dksX3_leave_2 8 rfl rfl)
theorem dX3_leave_57 : decode cX3_leave 57 = .ok (.aaload, 1) := dk_50 (dk_at dksX3_leave_2 11 rfl rfl)
theorem dX3_leave_58 : decode cX3_leave 58 = .ok (.aload_n 1, 1) := dk_43 (dk_at dksX3_leave_2 12 rfl rfl)
theorem dX3_leave_59 : decode cX3_leave 59 = .ok (.getfield 175, 3) := dk_180 0 175 (dk_at dksX3_leave_2 13 rfl rfl)
theorem dX3_leave_62 : decode cX3_leave 62 = .ok (.aload_n 1, 1) := dk_43 (dk_at dksX3_leave_2 16 rfl rfl)
theorem dX3_leave_63 : decode cX3_leave 63 = .ok (.getfield 174, 3) := dk_180 0 174 (dk_at dksX3_leave_2 17 rfl rfl)
theorem dX3_leave_66 : decode cX3_leave 66 = .ok (.invokevirtual 303, 3) := dk_182 1 47 (dk_at dksX3_leave_2 20 rfl rfl)
theorem dX3_leave_69 : decode cX3_leave 69 = .ok (.istore_n 3, 1) := dk_62 (dk_at dksX3_leave_2 23 rfl rfl)
theorem dX3_leave_70 : decode cX3_leave 70 = .ok (.iload_n 3, 1) := dk_29 (dk_at dksX3_leave_3 0 rfl rfl)
theorem dX3_leave_71 : decode cX3_leave 71 = .ok (.ifCond .lt 9, 3) := dk_155 0 9 (dk_at dksX3_leave_3 1 rfl rfl)
theorem dX3_leave_74 : decode cX3_leave 74 = .ok (.aload_n 0, 1) := dk_42 (dk_at dksX3_leave_3 4 rfl rfl)
theorem dX3_leave_75 : decode cX3_leave 75 = .ok (.aload_n 1, 1) := dk_43 (dk_at dksX3_leave_3 5 rfl rfl)
theorem dX3_leave_76 : decode cX3_leave 76 = .ok (.iload_n 3, 1) := dk_29 (dk_at dksX3_leave_3 6 rfl rfl)
theorem dX3_leave_77 : decode cX3_leave 77 = .ok (.invokevirtual 305, 3) := dk_182 1 49 (dk_at dksX3_leave_3 7 rfl rfl)
theorem dX3_leave_80 : decode cX3_leave 80 = .ok (.aload_n 1, 1) := dk_43 (dk_at dksX3_leave_3 10 rfl rfl)
theorem dX3_leave_81 : decode cX3_leave 81 = .ok (.aload_n 1, 1) := dk_43 (dk_at dksX3_leave_3 11 rfl rfl)
theorem dX3_leave_82 : decode cX3_leave 82 = .ok (.getfield 174, 3) := dk_180 0 174 (dk_at dksX3_leave_3 12 rfl rfl)
theorem dX3_leave_85 : decode cX3_leave 85 = .ok (.putfield 309, 3) := dk_181 1 53 (dk_at dksX3_leave_3 15 rfl rfl)
theorem dX3_leave_88 : decode cX3_leave 88 = .ok (.aload_n 1, 1) := dk_43 (dk_at dksX3_leave_3 18 rfl rfl)
theorem dX3_leave_89 : decode cX3_leave 89 = .ok (.aload_n 0, 1) := dk_42 (dk_at dksX3_leave_3 19 rfl rfl)
theorem dX3_leave_90 : decode cX3_leave 90 = .ok (.aload_n 1, 1) := dk_43 (dk_at dksX3_leave_3 20 rfl rfl)
theorem dX3_leave_91 : decode cX3_leave 91 = .ok (.invokevirtual 312, 3) := dk_182 1 56 (dk_at dksX3_leave_3 21 rfl rfl)
theorem dX3_leave_94 : decode cX3_leave 94 = .ok (.putfield 315, 3) := dk_181 1 59 (dk_at dksX3_leave_4 0 rfl rfl)
theorem dX3_leave_97 : decode cX3_leave 97 = .ok (.aload_n 0, 1) := dk_42 (dk_at dksX3_leave_4 3 rfl rfl)
theorem dX3_leave_98 : decode cX3_leave 98 = .ok (.aload_n 1, 1) := dk_43 (dk_at dksX3_leave_4 4 rfl rfl)
theorem dX3_leave_99 : decode cX3_leave 99 = .ok (.invokevirtual 263, 3) := dk_182 1 7 (dk_at dksX3_leave_4 5 rfl rfl)
theorem dX3_leave_102 : decode cX3_leave 102 = .ok (.return_, 1) := dk_177 (dk_at dksX3_leave_4 8 rfl rfl)
abbrev cX3_board : ByteArray := prog_9_method_14_code
def yX3_board : MethodName := ⟨RX3, "board", "(LBusLine$Bus;)I"⟩
def dkwX3_board_4 : List UInt8 := [132, 4, 1, 167, 255, 184, 44, 29, 182, 0, 190, 43, 89, 180, 0, 247, 29, 96, 181, 0, 247, 29, 172]
abbrev dktX3_board_4 : List UInt8 := dkwX3_board_4 ++ []
def dkwX3_board_3 : List UInt8 := [180, 0, 229, 44, 180, 0, 233, 21, 4, 46, 43, 180, 0, 174, 44, 180, 0, 187, 21, 4, 46, 182, 0, 197]
abbrev dktX3_board_3 : List UInt8 := dkwX3_board_3 ++ dktX3_board_4
def dkwX3_board_2 : List UInt8 := [42, 89, 180, 0, 153, 43, 180, 0, 174, 44, 180, 0, 184, 21, 4, 46, 100, 133, 97, 181, 0, 153, 43]
abbrev dktX3_board_2 : List UInt8 := dkwX3_board_2 ++ dktX3_board_3
def dkwX3_board_1 : List UInt8 := [54, 4, 21, 4, 29, 162, 0, 72, 42, 180, 0, 47, 44, 180, 0, 187, 21, 4, 46, 92, 46, 4, 96, 79]
abbrev dktX3_board_1 : List UInt8 := dkwX3_board_1 ++ dktX3_board_2
def dkwX3_board_0 : List UInt8 := [42, 180, 0, 21, 43, 180, 0, 178, 50, 77, 43, 182, 0, 238, 44, 180, 0, 181, 184, 0, 241, 62, 3]
abbrev dktX3_board_0 : List UInt8 := dkwX3_board_0 ++ dktX3_board_1
theorem dksX3_board_0 : cX3_board.data.toList.drop 0 = dktX3_board_0 := by decide +kernel
theorem dksX3_board_1 : cX3_board.data.toList.drop 23 = dktX3_board_1 := dk_seg dksX3_board_0 23 rfl rfl
theorem dksX3_board_2 : cX3_board.data.toList.drop 47 = dktX3_board_2 := dk_seg dksX3_board_1 24 rfl rfl
theorem dksX3_board_3 : cX3_board.data.toList.drop 70 = dktX3_board_3 := dk_seg dksX3_board_2 23 rfl rfl
theorem dksX3_board_4 : cX3_board.data.toList.drop 94 = dktX3_board_4 := dk_seg dksX3_board_3 24 rfl rfl
theorem dX3_board_0 : decode cX3_board 0 = .ok (.aload_n 0, 1) := dk_42 (dk_at dksX3_board_0 0 rfl rfl)
theorem dX3_board_1 : decode cX3_board 1 = .ok (.getfield 21, 3) := dk_180 0 21 (dk_at dksX3_board_0 1 rfl rfl)
theorem dX3_board_4 : decode cX3_board 4 = .ok (.aload_n 1, 1) := dk_43 (dk_at dksX3_board_0 4 rfl rfl)
theorem dX3_board_5 : decode cX3_board 5 = .ok (.getfield 178, 3) := dk_180 0 178 (dk_at dksX3_board_0 5 rfl rfl)
theorem dX3_board_8 : decode cX3_board 8 = .ok (.aaload, 1) := dk_50 (dk_at dksX3_board_0 8 rfl rfl)
theorem dX3_board_9 : decode cX3_board 9 = .ok (.astore_n 2, 1) := dk_77 (dk_at dksX3_board_0 9 rfl rfl)
theorem dX3_board_10 : decode cX3_board 10 = .ok (.aload_n 1, 1) := dk_43 (dk_at dksX3_board_0 10 rfl rfl)
theorem dX3_board_11 : decode cX3_board 11 = .ok (.invokevirtual 238, 3) := dk_182 0 238 (dk_at dksX3_board_0 11 rfl rfl)
theorem dX3_board_14 : decode cX3_board 14 = .ok (.aload_n 2, 1) := dk_44 (dk_at dksX3_board_0 14 rfl rfl)
theorem dX3_board_15 : decode cX3_board 15 = .ok (.getfield 181, 3) := dk_180 0 181 (dk_at dksX3_board_0 15 rfl rfl)
theorem dX3_board_18 : decode cX3_board 18 = .ok (.invokestatic 241, 3) := dk_184 0 241 (dk_at dksX3_board_0 18 rfl rfl)
theorem dX3_board_21 : decode cX3_board 21 = .ok (.istore_n 3, 1) := dk_62 (dk_at dksX3_board_0 21 rfl rfl)
theorem dX3_board_22 : decode cX3_board 22 = .ok (.iconst 0, 1) := dk_3 (dk_at dksX3_board_0 22 rfl rfl)
theorem dX3_board_23 : decode cX3_board 23 = .ok (.istore 4, 2) := dk_54 4 (dk_at dksX3_board_1 0 rfl rfl)
theorem dX3_board_25 : decode cX3_board 25 = .ok (.iload 4, 2) := dk_21 4 (dk_at dksX3_board_1 2 rfl rfl)
theorem dX3_board_27 : decode cX3_board 27 = .ok (.iload_n 3, 1) := dk_29 (dk_at dksX3_board_1 4 rfl rfl)
theorem dX3_board_28 : decode cX3_board 28 = .ok (.if_icmp .ge 72, 3) := dk_162 0 72 (dk_at dksX3_board_1 5 rfl rfl)
theorem dX3_board_31 : decode cX3_board 31 = .ok (.aload_n 0, 1) := dk_42 (dk_at dksX3_board_1 8 rfl rfl)
theorem dX3_board_32 : decode cX3_board 32 = .ok (.getfield 47, 3) := dk_180 0 47 (dk_at dksX3_board_1 9 rfl rfl)
theorem dX3_board_35 : decode cX3_board 35 = .ok (.aload_n 2, 1) := dk_44 (dk_at dksX3_board_1 12 rfl rfl)
theorem dX3_board_36 : decode cX3_board 36 = .ok (.getfield 187, 3) := dk_180 0 187 (dk_at dksX3_board_1 13 rfl rfl)
theorem dX3_board_39 : decode cX3_board 39 = .ok (.iload 4, 2) := dk_21 4 (dk_at dksX3_board_1 16 rfl rfl)
theorem dX3_board_41 : decode cX3_board 41 = .ok (.iaload, 1) := dk_46 (dk_at dksX3_board_1 18 rfl rfl)
theorem dX3_board_42 : decode cX3_board 42 = .ok (.dup2, 1) := dk_92 (dk_at dksX3_board_1 19 rfl rfl)
theorem dX3_board_43 : decode cX3_board 43 = .ok (.iaload, 1) := dk_46 (dk_at dksX3_board_1 20 rfl rfl)
theorem dX3_board_44 : decode cX3_board 44 = .ok (.iconst 1, 1) := dk_4 (dk_at dksX3_board_1 21 rfl rfl)
theorem dX3_board_45 : decode cX3_board 45 = .ok (.iadd, 1) := dk_96 (dk_at dksX3_board_1 22 rfl rfl)
theorem dX3_board_46 : decode cX3_board 46 = .ok (.iastore, 1) := dk_79 (dk_at dksX3_board_1 23 rfl rfl)
theorem dX3_board_47 : decode cX3_board 47 = .ok (.aload_n 0, 1) := dk_42 (dk_at dksX3_board_2 0 rfl rfl)
theorem dX3_board_48 : decode cX3_board 48 = .ok (.dup, 1) := dk_89 (dk_at dksX3_board_2 1 rfl rfl)
theorem dX3_board_49 : decode cX3_board 49 = .ok (.getfield 153, 3) := dk_180 0 153 (dk_at dksX3_board_2 2 rfl rfl)
theorem dX3_board_52 : decode cX3_board 52 = .ok (.aload_n 1, 1) := dk_43 (dk_at dksX3_board_2 5 rfl rfl)
theorem dX3_board_53 : decode cX3_board 53 = .ok (.getfield 174, 3) := dk_180 0 174 (dk_at dksX3_board_2 6 rfl rfl)
theorem dX3_board_56 : decode cX3_board 56 = .ok (.aload_n 2, 1) := dk_44 (dk_at dksX3_board_2 9 rfl rfl)
theorem dX3_board_57 : decode cX3_board 57 = .ok (.getfield 184, 3) := dk_180 0 184 (dk_at dksX3_board_2 10 rfl rfl)
theorem dX3_board_60 : decode cX3_board 60 = .ok (.iload 4, 2) := dk_21 4 (dk_at dksX3_board_2 13 rfl rfl)
theorem dX3_board_62 : decode cX3_board 62 = .ok (.iaload, 1) := dk_46 (dk_at dksX3_board_2 15 rfl rfl)
theorem dX3_board_63 : decode cX3_board 63 = .ok (.isub, 1) := dk_100 (dk_at dksX3_board_2 16 rfl rfl)
theorem dX3_board_64 : decode cX3_board 64 = .ok (.i2l, 1) := dk_133 (dk_at dksX3_board_2 17 rfl rfl)
theorem dX3_board_65 : decode cX3_board 65 = .ok (.ladd, 1) := dk_97 (dk_at dksX3_board_2 18 rfl rfl)
theorem dX3_board_66 : decode cX3_board 66 = .ok (.putfield 153, 3) := dk_181 0 153 (dk_at dksX3_board_2 19 rfl rfl)
theorem dX3_board_69 : decode cX3_board 69 = .ok (.aload_n 1, 1) := dk_43 (dk_at dksX3_board_2 22 rfl rfl)
theorem dX3_board_70 : decode cX3_board 70 = .ok (.getfield 229, 3) := dk_180 0 229 (dk_at dksX3_board_3 0 rfl rfl)
theorem dX3_board_73 : decode cX3_board 73 = .ok (.aload_n 2, 1) := dk_44 (dk_at dksX3_board_3 3 rfl rfl)
theorem dX3_board_74 : decode cX3_board 74 = .ok (.getfield 233, 3) := dk_180 0 233 (dk_at dksX3_board_3 4 rfl rfl)
theorem dX3_board_77 : decode cX3_board 77 = .ok (.iload 4, 2) := dk_21 4 (dk_at dksX3_board_3 7 rfl rfl)
theorem dX3_board_79 : decode cX3_board 79 = .ok (.iaload, 1) := dk_46 (dk_at dksX3_board_3 9 rfl rfl)
theorem dX3_board_80 : decode cX3_board 80 = .ok (.aload_n 1, 1) := dk_43 (dk_at dksX3_board_3 10 rfl rfl)
theorem dX3_board_81 : decode cX3_board 81 = .ok (.getfield 174, 3) := dk_180 0 174 (dk_at dksX3_board_3 11 rfl rfl)
theorem dX3_board_84 : decode cX3_board 84 = .ok (.aload_n 2, 1) := dk_44 (dk_at dksX3_board_3 14 rfl rfl)
theorem dX3_board_85 : decode cX3_board 85 = .ok (.getfield 187, 3) := dk_180 0 187 (dk_at dksX3_board_3 15 rfl rfl)
theorem dX3_board_88 : decode cX3_board 88 = .ok (.iload 4, 2) := dk_21 4 (dk_at dksX3_board_3 18 rfl rfl)
theorem dX3_board_90 : decode cX3_board 90 = .ok (.iaload, 1) := dk_46 (dk_at dksX3_board_3 20 rfl rfl)
theorem dX3_board_91 : decode cX3_board 91 = .ok (.invokevirtual 197, 3) := dk_182 0 197 (dk_at dksX3_board_3 21 rfl rfl)
theorem dX3_board_94 : decode cX3_board 94 = .ok (.iinc 4 1, 3) := dk_132 4 1 (dk_at dksX3_board_4 0 rfl rfl)
theorem dX3_board_97 : decode cX3_board 97 = .ok (.goto (-72), 3) := dk_167 255 184 (dk_at dksX3_board_4 3 rfl rfl)
theorem dX3_board_100 : decode cX3_board 100 = .ok (.aload_n 2, 1) := dk_44 (dk_at dksX3_board_4 6 rfl rfl)
theorem dX3_board_101 : decode cX3_board 101 = .ok (.iload_n 3, 1) := dk_29 (dk_at dksX3_board_4 7 rfl rfl)
theorem dX3_board_102 : decode cX3_board 102 = .ok (.invokevirtual 190, 3) := dk_182 0 190 (dk_at dksX3_board_4 8 rfl rfl)
theorem dX3_board_105 : decode cX3_board 105 = .ok (.aload_n 1, 1) := dk_43 (dk_at dksX3_board_4 11 rfl rfl)
theorem dX3_board_106 : decode cX3_board 106 = .ok (.dup, 1) := dk_89 (dk_at dksX3_board_4 12 rfl rfl)
theorem dX3_board_107 : decode cX3_board 107 = .ok (.getfield 247, 3) := dk_180 0 247 (dk_at dksX3_board_4 13 rfl rfl)
theorem dX3_board_110 : decode cX3_board 110 = .ok (.iload_n 3, 1) := dk_29 (dk_at dksX3_board_4 16 rfl rfl)
theorem dX3_board_111 : decode cX3_board 111 = .ok (.iadd, 1) := dk_96 (dk_at dksX3_board_4 17 rfl rfl)
theorem dX3_board_112 : decode cX3_board 112 = .ok (.putfield 247, 3) := dk_181 0 247 (dk_at dksX3_board_4 18 rfl rfl)
theorem dX3_board_115 : decode cX3_board 115 = .ok (.iload_n 3, 1) := dk_29 (dk_at dksX3_board_4 21 rfl rfl)
theorem dX3_board_116 : decode cX3_board 116 = .ok (.ireturn, 1) := dk_172 (dk_at dksX3_board_4 22 rfl rfl)
abbrev cX3_tell : ByteArray := prog_9_method_7_code
def yX3_tell : MethodName := ⟨RX3, "tell", "(ILBusLine$Bus;I)V"⟩
def dkwX3_tell_4 : List UInt8 := [180, 0, 56, 21, 4, 7, 96, 29, 79, 42, 89, 180, 0, 150, 4, 96, 181, 0, 150, 177]
abbrev dktX3_tell_4 : List UInt8 := dkwX3_tell_4 ++ []
def dkwX3_tell_3 : List UInt8 := [21, 4, 5, 96, 44, 180, 0, 175, 79, 42, 180, 0, 56, 21, 4, 6, 96, 44, 180, 0, 178, 79, 42]
abbrev dktX3_tell_3 : List UInt8 := dkwX3_tell_3 ++ dktX3_tell_4
def dkwX3_tell_2 : List UInt8 := [180, 0, 56, 21, 4, 44, 180, 0, 174, 79, 42, 180, 0, 56, 21, 4, 4, 96, 27, 79, 42, 180, 0, 56]
abbrev dktX3_tell_2 : List UInt8 := dkwX3_tell_2 ++ dktX3_tell_3
def dkwX3_tell_1 : List UInt8 := [184, 0, 97, 42, 89, 180, 0, 150, 4, 100, 181, 0, 150, 8, 42, 180, 0, 150, 104, 54, 4, 42]
abbrev dktX3_tell_1 : List UInt8 := dkwX3_tell_1 ++ dktX3_tell_2
def dkwX3_tell_0 : List UInt8 := [42, 180, 0, 150, 16, 30, 160, 0, 29, 42, 180, 0, 56, 8, 42, 180, 0, 56, 3, 17, 0, 145]
abbrev dktX3_tell_0 : List UInt8 := dkwX3_tell_0 ++ dktX3_tell_1
theorem dksX3_tell_0 : cX3_tell.data.toList.drop 0 = dktX3_tell_0 := by decide +kernel
theorem dksX3_tell_1 : cX3_tell.data.toList.drop 22 = dktX3_tell_1 := dk_seg dksX3_tell_0 22 rfl rfl
theorem dksX3_tell_2 : cX3_tell.data.toList.drop 44 = dktX3_tell_2 := dk_seg dksX3_tell_1 22 rfl rfl
theorem dksX3_tell_3 : cX3_tell.data.toList.drop 68 = dktX3_tell_3 := dk_seg dksX3_tell_2 24 rfl rfl
theorem dksX3_tell_4 : cX3_tell.data.toList.drop 91 = dktX3_tell_4 := dk_seg dksX3_tell_3 23 rfl rfl
theorem dX3_tell_0 : decode cX3_tell 0 = .ok (.aload_n 0, 1) := dk_42 (dk_at dksX3_tell_0 0 rfl rfl)
theorem dX3_tell_1 : decode cX3_tell 1 = .ok (.getfield 150, 3) := dk_180 0 150 (dk_at dksX3_tell_0 1 rfl rfl)
theorem dX3_tell_4 : decode cX3_tell 4 = .ok (.bipush 30, 2) := dk_16 30 (dk_at dksX3_tell_0 4 rfl rfl)
theorem dX3_tell_6 : decode cX3_tell 6 = .ok (.if_icmp .ne 29, 3) := dk_160 0 29 (dk_at dksX3_tell_0 6 rfl rfl)
theorem dX3_tell_9 : decode cX3_tell 9 = .ok (.aload_n 0, 1) := dk_42 (dk_at dksX3_tell_0 9 rfl rfl)
theorem dX3_tell_10 : decode cX3_tell 10 = .ok (.getfield 56, 3) := dk_180 0 56 (dk_at dksX3_tell_0 10 rfl rfl)
theorem dX3_tell_13 : decode cX3_tell 13 = .ok (.iconst 5, 1) := dk_8 (dk_at dksX3_tell_0 13 rfl rfl)
theorem dX3_tell_14 : decode cX3_tell 14 = .ok (.aload_n 0, 1) := dk_42 (dk_at dksX3_tell_0 14 rfl rfl)
theorem dX3_tell_15 : decode cX3_tell 15 = .ok (.getfield 56, 3) := dk_180 0 56 (dk_at dksX3_tell_0 15 rfl rfl)
theorem dX3_tell_18 : decode cX3_tell 18 = .ok (.iconst 0, 1) := dk_3 (dk_at dksX3_tell_0 18 rfl rfl)
theorem dX3_tell_19 : decode cX3_tell 19 = .ok (.sipush 145, 3) := dk_17 0 145 (dk_at dksX3_tell_0 19 rfl rfl)
theorem dX3_tell_22 : decode cX3_tell 22 = .ok (.invokestatic 97, 3) := dk_184 0 97 (dk_at dksX3_tell_1 0 rfl rfl)
theorem dX3_tell_25 : decode cX3_tell 25 = .ok (.aload_n 0, 1) := dk_42 (dk_at dksX3_tell_1 3 rfl rfl)
theorem dX3_tell_26 : decode cX3_tell 26 = .ok (.dup, 1) := dk_89 (dk_at dksX3_tell_1 4 rfl rfl)
theorem dX3_tell_27 : decode cX3_tell 27 = .ok (.getfield 150, 3) := dk_180 0 150 (dk_at dksX3_tell_1 5 rfl rfl)
theorem dX3_tell_30 : decode cX3_tell 30 = .ok (.iconst 1, 1) := dk_4 (dk_at dksX3_tell_1 8 rfl rfl)
theorem dX3_tell_31 : decode cX3_tell 31 = .ok (.isub, 1) := dk_100 (dk_at dksX3_tell_1 9 rfl rfl)
theorem dX3_tell_32 : decode cX3_tell 32 = .ok (.putfield 150, 3) := dk_181 0 150 (dk_at dksX3_tell_1 10 rfl rfl)
theorem dX3_tell_35 : decode cX3_tell 35 = .ok (.iconst 5, 1) := dk_8 (dk_at dksX3_tell_1 13 rfl rfl)
theorem dX3_tell_36 : decode cX3_tell 36 = .ok (.aload_n 0, 1) := dk_42 (dk_at dksX3_tell_1 14 rfl rfl)
theorem dX3_tell_37 : decode cX3_tell 37 = .ok (.getfield 150, 3) := dk_180 0 150 (dk_at dksX3_tell_1 15 rfl rfl)
theorem dX3_tell_40 : decode cX3_tell 40 = .ok (.imul, 1) := dk_104 (dk_at dksX3_tell_1 18 rfl rfl)
theorem dX3_tell_41 : decode cX3_tell 41 = .ok (.istore 4, 2) := dk_54 4 (dk_at dksX3_tell_1 19 rfl rfl)
theorem dX3_tell_43 : decode cX3_tell 43 = .ok (.aload_n 0, 1) := dk_42 (dk_at dksX3_tell_1 21 rfl rfl)
theorem dX3_tell_44 : decode cX3_tell 44 = .ok (.getfield 56, 3) := dk_180 0 56 (dk_at dksX3_tell_2 0 rfl rfl)
theorem dX3_tell_47 : decode cX3_tell 47 = .ok (.iload 4, 2) := dk_21 4 (dk_at dksX3_tell_2 3 rfl rfl)
theorem dX3_tell_49 : decode cX3_tell 49 = .ok (.aload_n 2, 1) := dk_44 (dk_at dksX3_tell_2 5 rfl rfl)
theorem dX3_tell_50 : decode cX3_tell 50 = .ok (.getfield 174, 3) := dk_180 0 174 (dk_at dksX3_tell_2 6 rfl rfl)
theorem dX3_tell_53 : decode cX3_tell 53 = .ok (.iastore, 1) := dk_79 (dk_at dksX3_tell_2 9 rfl rfl)
theorem dX3_tell_54 : decode cX3_tell 54 = .ok (.aload_n 0, 1) := dk_42 (dk_at dksX3_tell_2 10 rfl rfl)
theorem dX3_tell_55 : decode cX3_tell 55 = .ok (.getfield 56, 3) := dk_180 0 56 (dk_at dksX3_tell_2 11 rfl rfl)
theorem dX3_tell_58 : decode cX3_tell 58 = .ok (.iload 4, 2) := dk_21 4 (dk_at dksX3_tell_2 14 rfl rfl)
theorem dX3_tell_60 : decode cX3_tell 60 = .ok (.iconst 1, 1) := dk_4 (dk_at dksX3_tell_2 16 rfl rfl)
theorem dX3_tell_61 : decode cX3_tell 61 = .ok (.iadd, 1) := dk_96 (dk_at dksX3_tell_2 17 rfl rfl)
theorem dX3_tell_62 : decode cX3_tell 62 = .ok (.iload_n 1, 1) := dk_27 (dk_at dksX3_tell_2 18 rfl rfl)
theorem dX3_tell_63 : decode cX3_tell 63 = .ok (.iastore, 1) := dk_79 (dk_at dksX3_tell_2 19 rfl rfl)
theorem dX3_tell_64 : decode cX3_tell 64 = .ok (.aload_n 0, 1) := dk_42 (dk_at dksX3_tell_2 20 rfl rfl)
theorem dX3_tell_65 : decode cX3_tell 65 = .ok (.getfield 56, 3) := dk_180 0 56 (dk_at dksX3_tell_2 21 rfl rfl)
theorem dX3_tell_68 : decode cX3_tell 68 = .ok (.iload 4, 2) := dk_21 4 (dk_at dksX3_tell_3 0 rfl rfl)
theorem dX3_tell_70 : decode cX3_tell 70 = .ok (.iconst 2, 1) := dk_5 (dk_at dksX3_tell_3 2 rfl rfl)
theorem dX3_tell_71 : decode cX3_tell 71 = .ok (.iadd, 1) := dk_96 (dk_at dksX3_tell_3 3 rfl rfl)
theorem dX3_tell_72 : decode cX3_tell 72 = .ok (.aload_n 2, 1) := dk_44 (dk_at dksX3_tell_3 4 rfl rfl)
theorem dX3_tell_73 : decode cX3_tell 73 = .ok (.getfield 175, 3) := dk_180 0 175 (dk_at dksX3_tell_3 5 rfl rfl)
theorem dX3_tell_76 : decode cX3_tell 76 = .ok (.iastore, 1) := dk_79 (dk_at dksX3_tell_3 8 rfl rfl)
theorem dX3_tell_77 : decode cX3_tell 77 = .ok (.aload_n 0, 1) := dk_42 (dk_at dksX3_tell_3 9 rfl rfl)
theorem dX3_tell_78 : decode cX3_tell 78 = .ok (.getfield 56, 3) := dk_180 0 56 (dk_at dksX3_tell_3 10 rfl rfl)
theorem dX3_tell_81 : decode cX3_tell 81 = .ok (.iload 4, 2) := dk_21 4 (dk_at dksX3_tell_3 13 rfl rfl)
theorem dX3_tell_83 : decode cX3_tell 83 = .ok (.iconst 3, 1) := dk_6 (dk_at dksX3_tell_3 15 rfl rfl)
theorem dX3_tell_84 : decode cX3_tell 84 = .ok (.iadd, 1) := dk_96 (dk_at dksX3_tell_3 16 rfl rfl)
theorem dX3_tell_85 : decode cX3_tell 85 = .ok (.aload_n 2, 1) := dk_44 (dk_at dksX3_tell_3 17 rfl rfl)
theorem dX3_tell_86 : decode cX3_tell 86 = .ok (.getfield 178, 3) := dk_180 0 178 (dk_at dksX3_tell_3 18 rfl rfl)
theorem dX3_tell_89 : decode cX3_tell 89 = .ok (.iastore, 1) := dk_79 (dk_at dksX3_tell_3 21 rfl rfl)
theorem dX3_tell_90 : decode cX3_tell 90 = .ok (.aload_n 0, 1) := dk_42 (dk_at dksX3_tell_3 22 rfl rfl)
theorem dX3_tell_91 : decode cX3_tell 91 = .ok (.getfield 56, 3) := dk_180 0 56 (dk_at dksX3_tell_4 0 rfl rfl)
theorem dX3_tell_94 : decode cX3_tell 94 = .ok (.iload 4, 2) := dk_21 4 (dk_at dksX3_tell_4 3 rfl rfl)
theorem dX3_tell_96 : decode cX3_tell 96 = .ok (.iconst 4, 1) := dk_7 (dk_at dksX3_tell_4 5 rfl rfl)
theorem dX3_tell_97 : decode cX3_tell 97 = .ok (.iadd, 1) := dk_96 (dk_at dksX3_tell_4 6 rfl rfl)
theorem dX3_tell_98 : decode cX3_tell 98 = .ok (.iload_n 3, 1) := dk_29 (dk_at dksX3_tell_4 7 rfl rfl)
theorem dX3_tell_99 : decode cX3_tell 99 = .ok (.iastore, 1) := dk_79 (dk_at dksX3_tell_4 8 rfl rfl)
theorem dX3_tell_100 : decode cX3_tell 100 = .ok (.aload_n 0, 1) := dk_42 (dk_at dksX3_tell_4 9 rfl rfl)
theorem dX3_tell_101 : decode cX3_tell 101 = .ok (.dup, 1) := dk_89 (dk_at dksX3_tell_4 10 rfl rfl)
theorem dX3_tell_102 : decode cX3_tell 102 = .ok (.getfield 150, 3) := dk_180 0 150 (dk_at dksX3_tell_4 11 rfl rfl)
theorem dX3_tell_105 : decode cX3_tell 105 = .ok (.iconst 1, 1) := dk_4 (dk_at dksX3_tell_4 14 rfl rfl)
theorem dX3_tell_106 : decode cX3_tell 106 = .ok (.iadd, 1) := dk_96 (dk_at dksX3_tell_4 15 rfl rfl)
theorem dX3_tell_107 : decode cX3_tell 107 = .ok (.putfield 150, 3) := dk_181 0 150 (dk_at dksX3_tell_4 16 rfl rfl)
theorem dX3_tell_110 : decode cX3_tell 110 = .ok (.return_, 1) := dk_177 (dk_at dksX3_tell_4 19 rfl rfl)
abbrev cX3_bunch : ByteArray := prog_9_method_19_code
def yX3_bunch : MethodName := ⟨RX3, "bunch", "(LBusLine$Bus;I)V"⟩
def dkwX3_bunch_3 : List UInt8 := [180, 0, 135, 4, 96, 181, 0, 135, 42, 4, 43, 28, 182, 1, 18, 177]
abbrev dktX3_bunch_3 : List UInt8 := dkwX3_bunch_3 ++ []
def dkwX3_bunch_2 : List UInt8 := [153, 0, 37, 5, 28, 104, 42, 180, 0, 9, 3, 46, 161, 0, 25, 43, 3, 181, 1, 62, 42, 89]
abbrev dktX3_bunch_2 : List UInt8 := dkwX3_bunch_2 ++ dktX3_bunch_3
def dkwX3_bunch_1 : List UInt8 := [42, 89, 180, 0, 132, 4, 96, 181, 0, 132, 42, 3, 43, 28, 182, 1, 18, 167, 0, 44, 43, 180, 1, 62]
abbrev dktX3_bunch_1 : List UInt8 := dkwX3_bunch_1 ++ dktX3_bunch_2
def dkwX3_bunch_0 : List UInt8 := [43, 180, 1, 62, 154, 0, 40, 7, 28, 104, 42, 180, 0, 9, 3, 46, 162, 0, 28, 43, 4, 181, 1, 62]
abbrev dktX3_bunch_0 : List UInt8 := dkwX3_bunch_0 ++ dktX3_bunch_1
theorem dksX3_bunch_0 : cX3_bunch.data.toList.drop 0 = dktX3_bunch_0 := by decide +kernel
theorem dksX3_bunch_1 : cX3_bunch.data.toList.drop 24 = dktX3_bunch_1 := dk_seg dksX3_bunch_0 24 rfl rfl
theorem dksX3_bunch_2 : cX3_bunch.data.toList.drop 48 = dktX3_bunch_2 := dk_seg dksX3_bunch_1 24 rfl rfl
theorem dksX3_bunch_3 : cX3_bunch.data.toList.drop 70 = dktX3_bunch_3 := dk_seg dksX3_bunch_2 22 rfl rfl
theorem dX3_bunch_0 : decode cX3_bunch 0 = .ok (.aload_n 1, 1) := dk_43 (dk_at dksX3_bunch_0 0 rfl rfl)
theorem dX3_bunch_1 : decode cX3_bunch 1 = .ok (.getfield 318, 3) := dk_180 1 62 (dk_at dksX3_bunch_0 1 rfl rfl)
theorem dX3_bunch_4 : decode cX3_bunch 4 = .ok (.ifCond .ne 40, 3) := dk_154 0 40 (dk_at dksX3_bunch_0 4 rfl rfl)
theorem dX3_bunch_7 : decode cX3_bunch 7 = .ok (.iconst 4, 1) := dk_7 (dk_at dksX3_bunch_0 7 rfl rfl)
theorem dX3_bunch_8 : decode cX3_bunch 8 = .ok (.iload_n 2, 1) := dk_28 (dk_at dksX3_bunch_0 8 rfl rfl)
theorem dX3_bunch_9 : decode cX3_bunch 9 = .ok (.imul, 1) := dk_104 (dk_at dksX3_bunch_0 9 rfl rfl)
theorem dX3_bunch_10 : decode cX3_bunch 10 = .ok (.aload_n 0, 1) := dk_42 (dk_at dksX3_bunch_0 10 rfl rfl)
theorem dX3_bunch_11 : decode cX3_bunch 11 = .ok (.getfield 9, 3) := dk_180 0 9 (dk_at dksX3_bunch_0 11 rfl rfl)
theorem dX3_bunch_14 : decode cX3_bunch 14 = .ok (.iconst 0, 1) := dk_3 (dk_at dksX3_bunch_0 14 rfl rfl)
theorem dX3_bunch_15 : decode cX3_bunch 15 = .ok (.iaload, 1) := dk_46 (dk_at dksX3_bunch_0 15 rfl rfl)
theorem dX3_bunch_16 : decode cX3_bunch 16 = .ok (.if_icmp .ge 28, 3) := dk_162 0 28 (dk_at dksX3_bunch_0 16 rfl rfl)
theorem dX3_bunch_19 : decode cX3_bunch 19 = .ok (.aload_n 1, 1) := dk_43 (dk_at dksX3_bunch_0 19 rfl rfl)
theorem dX3_bunch_20 : decode cX3_bunch 20 = .ok (.iconst 1, 1) := dk_4 (dk_at dksX3_bunch_0 20 rfl rfl)
theorem dX3_bunch_21 : decode cX3_bunch 21 = .ok (.putfield 318, 3) := dk_181 1 62 (dk_at dksX3_bunch_0 21 rfl rfl)
theorem dX3_bunch_24 : decode cX3_bunch 24 = .ok (.aload_n 0, 1) := dk_42 (dk_at dksX3_bunch_1 0 rfl rfl)
theorem dX3_bunch_25 : decode cX3_bunch 25 = .ok (.dup, 1) := dk_89 (dk_at dksX3_bunch_1 1 rfl rfl)
theorem dX3_bunch_26 : decode cX3_bunch 26 = .ok (.getfield 132, 3) := dk_180 0 132 (dk_at dksX3_bunch_1 2 rfl rfl)
theorem dX3_bunch_29 : decode cX3_bunch 29 = .ok (.iconst 1, 1) := dk_4 (dk_at dksX3_bunch_1 5 rfl rfl)
theorem dX3_bunch_30 : decode cX3_bunch 30 = .ok (.iadd, 1) := dk_96 (dk_at dksX3_bunch_1 6 rfl rfl)
theorem dX3_bunch_31 : decode cX3_bunch 31 = .ok (.putfield 132, 3) := dk_181 0 132 (dk_at dksX3_bunch_1 7 rfl rfl)
theorem dX3_bunch_34 : decode cX3_bunch 34 = .ok (.aload_n 0, 1) := dk_42 (dk_at dksX3_bunch_1 10 rfl rfl)
theorem dX3_bunch_35 : decode cX3_bunch 35 = .ok (.iconst 0, 1) := dk_3 (dk_at dksX3_bunch_1 11 rfl rfl)
theorem dX3_bunch_36 : decode cX3_bunch 36 = .ok (.aload_n 1, 1) := dk_43 (dk_at dksX3_bunch_1 12 rfl rfl)
theorem dX3_bunch_37 : decode cX3_bunch 37 = .ok (.iload_n 2, 1) := dk_28 (dk_at dksX3_bunch_1 13 rfl rfl)
theorem dX3_bunch_38 : decode cX3_bunch 38 = .ok (.invokevirtual 274, 3) := dk_182 1 18 (dk_at dksX3_bunch_1 14 rfl rfl)
theorem dX3_bunch_41 : decode cX3_bunch 41 = .ok (.goto 44, 3) := dk_167 0 44 (dk_at dksX3_bunch_1 17 rfl rfl)
theorem dX3_bunch_44 : decode cX3_bunch 44 = .ok (.aload_n 1, 1) := dk_43 (dk_at dksX3_bunch_1 20 rfl rfl)
theorem dX3_bunch_45 : decode cX3_bunch 45 = .ok (.getfield 318, 3) := dk_180 1 62 (dk_at dksX3_bunch_1 21 rfl rfl)
theorem dX3_bunch_48 : decode cX3_bunch 48 = .ok (.ifCond .eq 37, 3) := dk_153 0 37 (dk_at dksX3_bunch_2 0 rfl rfl)
theorem dX3_bunch_51 : decode cX3_bunch 51 = .ok (.iconst 2, 1) := dk_5 (dk_at dksX3_bunch_2 3 rfl rfl)
theorem dX3_bunch_52 : decode cX3_bunch 52 = .ok (.iload_n 2, 1) := dk_28 (dk_at dksX3_bunch_2 4 rfl rfl)
theorem dX3_bunch_53 : decode cX3_bunch 53 = .ok (.imul, 1) := dk_104 (dk_at dksX3_bunch_2 5 rfl rfl)
theorem dX3_bunch_54 : decode cX3_bunch 54 = .ok (.aload_n 0, 1) := dk_42 (dk_at dksX3_bunch_2 6 rfl rfl)
theorem dX3_bunch_55 : decode cX3_bunch 55 = .ok (.getfield 9, 3) := dk_180 0 9 (dk_at dksX3_bunch_2 7 rfl rfl)
theorem dX3_bunch_58 : decode cX3_bunch 58 = .ok (.iconst 0, 1) := dk_3 (dk_at dksX3_bunch_2 10 rfl rfl)
theorem dX3_bunch_59 : decode cX3_bunch 59 = .ok (.iaload, 1) := dk_46 (dk_at dksX3_bunch_2 11 rfl rfl)
theorem dX3_bunch_60 : decode cX3_bunch 60 = .ok (.if_icmp .lt 25, 3) := dk_161 0 25 (dk_at dksX3_bunch_2 12 rfl rfl)
theorem dX3_bunch_63 : decode cX3_bunch 63 = .ok (.aload_n 1, 1) := dk_43 (dk_at dksX3_bunch_2 15 rfl rfl)
theorem dX3_bunch_64 : decode cX3_bunch 64 = .ok (.iconst 0, 1) := dk_3 (dk_at dksX3_bunch_2 16 rfl rfl)
theorem dX3_bunch_65 : decode cX3_bunch 65 = .ok (.putfield 318, 3) := dk_181 1 62 (dk_at dksX3_bunch_2 17 rfl rfl)
theorem dX3_bunch_68 : decode cX3_bunch 68 = .ok (.aload_n 0, 1) := dk_42 (dk_at dksX3_bunch_2 20 rfl rfl)
theorem dX3_bunch_69 : decode cX3_bunch 69 = .ok (.dup, 1) := dk_89 (dk_at dksX3_bunch_2 21 rfl rfl)
theorem dX3_bunch_70 : decode cX3_bunch 70 = .ok (.getfield 135, 3) := dk_180 0 135 (dk_at dksX3_bunch_3 0 rfl rfl)
theorem dX3_bunch_73 : decode cX3_bunch 73 = .ok (.iconst 1, 1) := dk_4 (dk_at dksX3_bunch_3 3 rfl rfl)
theorem dX3_bunch_74 : decode cX3_bunch 74 = .ok (.iadd, 1) := dk_96 (dk_at dksX3_bunch_3 4 rfl rfl)
theorem dX3_bunch_75 : decode cX3_bunch 75 = .ok (.putfield 135, 3) := dk_181 0 135 (dk_at dksX3_bunch_3 5 rfl rfl)
theorem dX3_bunch_78 : decode cX3_bunch 78 = .ok (.aload_n 0, 1) := dk_42 (dk_at dksX3_bunch_3 8 rfl rfl)
theorem dX3_bunch_79 : decode cX3_bunch 79 = .ok (.iconst 1, 1) := dk_4 (dk_at dksX3_bunch_3 9 rfl rfl)
theorem dX3_bunch_80 : decode cX3_bunch 80 = .ok (.aload_n 1, 1) := dk_43 (dk_at dksX3_bunch_3 10 rfl rfl)
theorem dX3_bunch_81 : decode cX3_bunch 81 = .ok (.iload_n 2, 1) := dk_28 (dk_at dksX3_bunch_3 11 rfl rfl)
theorem dX3_bunch_82 : decode cX3_bunch 82 = .ok (.invokevirtual 274, 3) := dk_182 1 18 (dk_at dksX3_bunch_3 12 rfl rfl)
theorem dX3_bunch_85 : decode cX3_bunch 85 = .ok (.return_, 1) := dk_177 (dk_at dksX3_bunch_3 15 rfl rfl)
abbrev cX3_driveOn : ByteArray := prog_9_method_15_code
def yX3_driveOn : MethodName := ⟨RX3, "driveOn", "(LBusLine$Bus;)V"⟩
def dkwX3_driveOn_1 : List UInt8 := [181, 0, 174, 43, 42, 180, 0, 59, 43, 180, 0, 178, 182, 1, 0, 181, 0, 178, 177]
abbrev dktX3_driveOn_1 : List UInt8 := dkwX3_driveOn_1 ++ []
def dkwX3_driveOn_0 : List UInt8 := [43, 4, 181, 0, 250, 43, 89, 180, 0, 174, 42, 43, 180, 0, 178, 182, 0, 199, 180, 0, 253, 96]
abbrev dktX3_driveOn_0 : List UInt8 := dkwX3_driveOn_0 ++ dktX3_driveOn_1
theorem dksX3_driveOn_0 : cX3_driveOn.data.toList.drop 0 = dktX3_driveOn_0 := by decide +kernel
theorem dksX3_driveOn_1 : cX3_driveOn.data.toList.drop 22 = dktX3_driveOn_1 := dk_seg dksX3_driveOn_0 22 rfl rfl
theorem dX3_driveOn_0 : decode cX3_driveOn 0 = .ok (.aload_n 1, 1) := dk_43 (dk_at dksX3_driveOn_0 0 rfl rfl)
theorem dX3_driveOn_1 : decode cX3_driveOn 1 = .ok (.iconst 1, 1) := dk_4 (dk_at dksX3_driveOn_0 1 rfl rfl)
theorem dX3_driveOn_2 : decode cX3_driveOn 2 = .ok (.putfield 250, 3) := dk_181 0 250 (dk_at dksX3_driveOn_0 2 rfl rfl)
theorem dX3_driveOn_5 : decode cX3_driveOn 5 = .ok (.aload_n 1, 1) := dk_43 (dk_at dksX3_driveOn_0 5 rfl rfl)
theorem dX3_driveOn_6 : decode cX3_driveOn 6 = .ok (.dup, 1) := dk_89 (dk_at dksX3_driveOn_0 6 rfl rfl)
theorem dX3_driveOn_7 : decode cX3_driveOn 7 = .ok (.getfield 174, 3) := dk_180 0 174 (dk_at dksX3_driveOn_0 7 rfl rfl)
theorem dX3_driveOn_10 : decode cX3_driveOn 10 = .ok (.aload_n 0, 1) := dk_42 (dk_at dksX3_driveOn_0 10 rfl rfl)
theorem dX3_driveOn_11 : decode cX3_driveOn 11 = .ok (.aload_n 1, 1) := dk_43 (dk_at dksX3_driveOn_0 11 rfl rfl)
theorem dX3_driveOn_12 : decode cX3_driveOn 12 = .ok (.getfield 178, 3) := dk_180 0 178 (dk_at dksX3_driveOn_0 12 rfl rfl)
theorem dX3_driveOn_15 : decode cX3_driveOn 15 = .ok (.invokevirtual 199, 3) := dk_182 0 199 (dk_at dksX3_driveOn_0 15 rfl rfl)
theorem dX3_driveOn_18 : decode cX3_driveOn 18 = .ok (.getfield 253, 3) := dk_180 0 253 (dk_at dksX3_driveOn_0 18 rfl rfl)
theorem dX3_driveOn_21 : decode cX3_driveOn 21 = .ok (.iadd, 1) := dk_96 (dk_at dksX3_driveOn_0 21 rfl rfl)
theorem dX3_driveOn_22 : decode cX3_driveOn 22 = .ok (.putfield 174, 3) := dk_181 0 174 (dk_at dksX3_driveOn_1 0 rfl rfl)
theorem dX3_driveOn_25 : decode cX3_driveOn 25 = .ok (.aload_n 1, 1) := dk_43 (dk_at dksX3_driveOn_1 3 rfl rfl)
theorem dX3_driveOn_26 : decode cX3_driveOn 26 = .ok (.aload_n 0, 1) := dk_42 (dk_at dksX3_driveOn_1 4 rfl rfl)
theorem dX3_driveOn_27 : decode cX3_driveOn 27 = .ok (.getfield 59, 3) := dk_180 0 59 (dk_at dksX3_driveOn_1 5 rfl rfl)
theorem dX3_driveOn_30 : decode cX3_driveOn 30 = .ok (.aload_n 1, 1) := dk_43 (dk_at dksX3_driveOn_1 8 rfl rfl)
theorem dX3_driveOn_31 : decode cX3_driveOn 31 = .ok (.getfield 178, 3) := dk_180 0 178 (dk_at dksX3_driveOn_1 9 rfl rfl)
theorem dX3_driveOn_34 : decode cX3_driveOn 34 = .ok (.invokevirtual 256, 3) := dk_182 1 0 (dk_at dksX3_driveOn_1 12 rfl rfl)
theorem dX3_driveOn_37 : decode cX3_driveOn 37 = .ok (.putfield 178, 3) := dk_181 0 178 (dk_at dksX3_driveOn_1 15 rfl rfl)
theorem dX3_driveOn_40 : decode cX3_driveOn 40 = .ok (.return_, 1) := dk_177 (dk_at dksX3_driveOn_1 18 rfl rfl)
abbrev cX3_arrive : ByteArray := prog_9_method_16_code
def yX3_arrive : MethodName := ⟨RX3, "arrive", "(LBusLine$Bus;)V"⟩
def dkwX3_arrive_6 : List UInt8 := [96, 42, 180, 0, 59, 180, 1, 28, 29, 104, 96, 96, 181, 0, 174, 177]
abbrev dktX3_arrive_6 : List UInt8 := dkwX3_arrive_6 ++ []
def dkwX3_arrive_5 : List UInt8 := [181, 0, 250, 43, 89, 180, 0, 174, 42, 180, 0, 59, 180, 1, 22, 42, 180, 0, 59, 180, 1, 25, 28, 104]
abbrev dktX3_arrive_5 : List UInt8 := dkwX3_arrive_5 ++ dktX3_arrive_6
def dkwX3_arrive_4 : List UInt8 := [158, 0, 22, 42, 89, 180, 0, 144, 21, 4, 96, 181, 0, 144, 42, 6, 43, 21, 4, 182, 1, 18, 43, 5]
abbrev dktX3_arrive_4 : List UInt8 := dkwX3_arrive_4 ++ dktX3_arrive_5
def dkwX3_arrive_3 : List UInt8 := [61, 42, 43, 182, 1, 15, 62, 42, 180, 0, 21, 43, 180, 0, 178, 50, 180, 0, 181, 54, 4, 21, 4]
abbrev dktX3_arrive_3 : List UInt8 := dkwX3_arrive_3 ++ dktX3_arrive_4
def dkwX3_arrive_2 : List UInt8 := [181, 1, 5, 42, 89, 180, 0, 147, 4, 96, 181, 0, 147, 42, 43, 182, 1, 7, 177, 42, 43, 182, 1, 11]
abbrev dktX3_arrive_2 : List UInt8 := dkwX3_arrive_2 ++ dktX3_arrive_3
def dkwX3_arrive_1 : List UInt8 := [181, 1, 2, 42, 43, 180, 0, 178, 43, 180, 0, 174, 182, 0, 225, 43, 180, 1, 5, 153, 0, 24, 43, 3]
abbrev dktX3_arrive_1 : List UInt8 := dkwX3_arrive_1 ++ dktX3_arrive_2
def dkwX3_arrive_0 : List UInt8 := [43, 180, 0, 250, 4, 160, 0, 20, 43, 180, 0, 178, 154, 0, 13, 43, 89, 180, 1, 2, 4, 96]
abbrev dktX3_arrive_0 : List UInt8 := dkwX3_arrive_0 ++ dktX3_arrive_1
theorem dksX3_arrive_0 : cX3_arrive.data.toList.drop 0 = dktX3_arrive_0 := by decide +kernel
theorem dksX3_arrive_1 : cX3_arrive.data.toList.drop 22 = dktX3_arrive_1 := dk_seg dksX3_arrive_0 22 rfl rfl
theorem dksX3_arrive_2 : cX3_arrive.data.toList.drop 46 = dktX3_arrive_2 := dk_seg dksX3_arrive_1 24 rfl rfl
theorem dksX3_arrive_3 : cX3_arrive.data.toList.drop 70 = dktX3_arrive_3 := dk_seg dksX3_arrive_2 24 rfl rfl
theorem dksX3_arrive_4 : cX3_arrive.data.toList.drop 93 = dktX3_arrive_4 := dk_seg dksX3_arrive_3 23 rfl rfl
theorem dksX3_arrive_5 : cX3_arrive.data.toList.drop 117 = dktX3_arrive_5 := dk_seg dksX3_arrive_4 24 rfl rfl
theorem dksX3_arrive_6 : cX3_arrive.data.toList.drop 141 = dktX3_arrive_6 := dk_seg dksX3_arrive_5 24 rfl rfl
theorem dX3_arrive_0 : decode cX3_arrive 0 = .ok (.aload_n 1, 1) := dk_43 (dk_at dksX3_arrive_0 0 rfl rfl)
theorem dX3_arrive_1 : decode cX3_arrive 1 = .ok (.getfield 250, 3) := dk_180 0 250 (dk_at dksX3_arrive_0 1 rfl rfl)
theorem dX3_arrive_4 : decode cX3_arrive 4 = .ok (.iconst 1, 1) := dk_4 (dk_at dksX3_arrive_0 4 rfl rfl)
theorem dX3_arrive_5 : decode cX3_arrive 5 = .ok (.if_icmp .ne 20, 3) := dk_160 0 20 (dk_at dksX3_arrive_0 5 rfl rfl)
theorem dX3_arrive_8 : decode cX3_arrive 8 = .ok (.aload_n 1, 1) := dk_43 (dk_at dksX3_arrive_0 8 rfl rfl)
theorem dX3_arrive_9 : decode cX3_arrive 9 = .ok (.getfield 178, 3) := dk_180 0 178 (dk_at dksX3_arrive_0 9 rfl rfl)
theorem dX3_arrive_12 : decode cX3_arrive 12 = .ok (.ifCond .ne 13, 3) := dk_154 0 13 (dk_at dksX3_arrive_0 12 rfl rfl)
theorem dX3_arrive_15 : decode cX3_arrive 15 = .ok (.aload_n 1, 1) := dk_43 (dk_at dksX3_arrive_0 15 rfl rfl)
theorem dX3_arrive_16 : decode cX3_arrive 16 = .ok (.dup, 1) := dk_89 (dk_at dksX3_arrive_0 16 rfl rfl)
theorem dX3_arrive_17 : decode cX3_arrive 17 = .ok (.getfield 258, 3) := dk_180 1 2 (dk_at dksX3_arrive_0 17 rfl rfl)
theorem dX3_arrive_20 : decode cX3_arrive 20 = .ok (.iconst 1, 1) := dk_4 (dk_at dksX3_arrive_0 20 rfl rfl)
theorem dX3_arrive_21 : decode cX3_arrive 21 = .ok (.iadd, 1) := dk_96 (dk_at dksX3_arrive_0 21 rfl rfl)
theorem dX3_arrive_22 : decode cX3_arrive 22 = .ok (.putfield 258, 3) := dk_181 1 2 (dk_at dksX3_arrive_1 0 rfl rfl)
theorem dX3_arrive_25 : decode cX3_arrive 25 = .ok (.aload_n 0, 1) := dk_42 (dk_at dksX3_arrive_1 3 rfl rfl)
theorem dX3_arrive_26 : decode cX3_arrive 26 = .ok (.aload_n 1, 1) := dk_43 (dk_at dksX3_arrive_1 4 rfl rfl)
theorem dX3_arrive_27 : decode cX3_arrive 27 = .ok (.getfield 178, 3) := dk_180 0 178 (dk_at dksX3_arrive_1 5 rfl rfl)
theorem dX3_arrive_30 : decode cX3_arrive 30 = .ok (.aload_n 1, 1) := dk_43 (dk_at dksX3_arrive_1 8 rfl rfl)
theorem dX3_arrive_31 : decode cX3_arrive 31 = .ok (.getfield 174, 3) := dk_180 0 174 (dk_at dksX3_arrive_1 9 rfl rfl)
theorem dX3_arrive_34 : decode cX3_arrive 34 = .ok (.invokevirtual 225, 3) := dk_182 0 225 (dk_at dksX3_arrive_1 12 rfl rfl)
theorem dX3_arrive_37 : decode cX3_arrive 37 = .ok (.aload_n 1, 1) := dk_43 (dk_at dksX3_arrive_1 15 rfl rfl)
theorem dX3_arrive_38 : decode cX3_arrive 38 = .ok (.getfield 261, 3) := dk_180 1 5 (dk_at dksX3_arrive_1 16 rfl rfl)
theorem dX3_arrive_41 : decode cX3_arrive 41 = .ok (.ifCond .eq 24, 3) := dk_153 0 24 (dk_at dksX3_arrive_1 19 rfl rfl)
theorem dX3_arrive_44 : decode cX3_arrive 44 = .ok (.aload_n 1, 1) := dk_43 (dk_at dksX3_arrive_1 22 rfl rfl)
theorem dX3_arrive_45 : decode cX3_arrive 45 = .ok (.iconst 0, 1) := dk_3 (dk_at dksX3_arrive_1 23 rfl rfl)
theorem dX3_arrive_46 : decode cX3_arrive 46 = .ok (.putfield 261, 3) := dk_181 1 5 (dk_at dksX3_arrive_2 0 rfl rfl)
theorem dX3_arrive_49 : decode cX3_arrive 49 = .ok (.aload_n 0, 1) := dk_42 (dk_at dksX3_arrive_2 3 rfl rfl)
theorem dX3_arrive_50 : decode cX3_arrive 50 = .ok (.dup, 1) := dk_89 (dk_at dksX3_arrive_2 4 rfl rfl)
theorem dX3_arrive_51 : decode cX3_arrive 51 = .ok (.getfield 147, 3) := dk_180 0 147 (dk_at dksX3_arrive_2 5 rfl rfl)
theorem dX3_arrive_54 : decode cX3_arrive 54 = .ok (.iconst 1, 1) := dk_4 (dk_at dksX3_arrive_2 8 rfl rfl)
theorem dX3_arrive_55 : decode cX3_arrive 55 = .ok (.iadd, 1) := dk_96 (dk_at dksX3_arrive_2 9 rfl rfl)
theorem dX3_arrive_56 : decode cX3_arrive 56 = .ok (.putfield 147, 3) := dk_181 0 147 (dk_at dksX3_arrive_2 10 rfl rfl)
theorem dX3_arrive_59 : decode cX3_arrive 59 = .ok (.aload_n 0, 1) := dk_42 (dk_at dksX3_arrive_2 13 rfl rfl)
theorem dX3_arrive_60 : decode cX3_arrive 60 = .ok (.aload_n 1, 1) := dk_43 (dk_at dksX3_arrive_2 14 rfl rfl)
theorem dX3_arrive_61 : decode cX3_arrive 61 = .ok (.invokevirtual 263, 3) := dk_182 1 7 (dk_at dksX3_arrive_2 15 rfl rfl)
theorem dX3_arrive_64 : decode cX3_arrive 64 = .ok (.return_, 1) := dk_177 (dk_at dksX3_arrive_2 18 rfl rfl)
theorem dX3_arrive_65 : decode cX3_arrive 65 = .ok (.aload_n 0, 1) := dk_42 (dk_at dksX3_arrive_2 19 rfl rfl)
theorem dX3_arrive_66 : decode cX3_arrive 66 = .ok (.aload_n 1, 1) := dk_43 (dk_at dksX3_arrive_2 20 rfl rfl)
theorem dX3_arrive_67 : decode cX3_arrive 67 = .ok (.invokevirtual 267, 3) := dk_182 1 11 (dk_at dksX3_arrive_2 21 rfl rfl)
theorem dX3_arrive_70 : decode cX3_arrive 70 = .ok (.istore_n 2, 1) := dk_61 (dk_at dksX3_arrive_3 0 rfl rfl)
theorem dX3_arrive_71 : decode cX3_arrive 71 = .ok (.aload_n 0, 1) := dk_42 (dk_at dksX3_arrive_3 1 rfl rfl)
theorem dX3_arrive_72 : decode cX3_arrive 72 = .ok (.aload_n 1, 1) := dk_43 (dk_at dksX3_arrive_3 2 rfl rfl)
theorem dX3_arrive_73 : decode cX3_arrive 73 = .ok (.invokevirtual 271, 3) := dk_182 1 15 (dk_at dksX3_arrive_3 3 rfl rfl)
theorem dX3_arrive_76 : decode cX3_arrive 76 = .ok (.istore_n 3, 1) := dk_62 (dk_at dksX3_arrive_3 6 rfl rfl)
theorem dX3_arrive_77 : decode cX3_arrive 77 = .ok (.aload_n 0, 1) := dk_42 (dk_at dksX3_arrive_3 7 rfl rfl)
theorem dX3_arrive_78 : decode cX3_arrive 78 = .ok (.getfield 21, 3) := dk_180 0 21 (dk_at dksX3_arrive_3 8 rfl rfl)
theorem dX3_arrive_81 : decode cX3_arrive 81 = .ok (.aload_n 1, 1) := dk_43 (dk_at dksX3_arrive_3 11 rfl rfl)
theorem dX3_arrive_82 : decode cX3_arrive 82 = .ok (.getfield 178, 3) := dk_180 0 178 (dk_at dksX3_arrive_3 12 rfl rfl)
theorem dX3_arrive_85 : decode cX3_arrive 85 = .ok (.aaload, 1) := dk_50 (dk_at dksX3_arrive_3 15 rfl rfl)
theorem dX3_arrive_86 : decode cX3_arrive 86 = .ok (.getfield 181, 3) := dk_180 0 181 (dk_at dksX3_arrive_3 16 rfl rfl)
theorem dX3_arrive_89 : decode cX3_arrive 89 = .ok (.istore 4, 2) := dk_54 4 (dk_at dksX3_arrive_3 19 rfl rfl)
theorem dX3_arrive_91 : decode cX3_arrive 91 = .ok (.iload 4, 2) := dk_21 4 (dk_at dksX3_arrive_3 21 rfl rfl)
theorem dX3_arrive_93 : decode cX3_arrive 93 = .ok (.ifCond .le 22, 3) := dk_158 0 22 (dk_at dksX3_arrive_4 0 rfl rfl)
theorem dX3_arrive_96 : decode cX3_arrive 96 = .ok (.aload_n 0, 1) := dk_42 (dk_at dksX3_arrive_4 3 rfl rfl)
theorem dX3_arrive_97 : decode cX3_arrive 97 = .ok (.dup, 1) := dk_89 (dk_at dksX3_arrive_4 4 rfl rfl)
theorem dX3_arrive_98 : decode cX3_arrive 98 = .ok (.getfield 144, 3) := dk_180 0 144 (dk_at dksX3_arrive_4 5 rfl rfl)
theorem dX3_arrive_101 : decode cX3_arrive 101 = .ok (.iload 4, 2) := dk_21 4 (dk_at dksX3_arrive_4 8 rfl rfl)
theorem dX3_arrive_103 : decode cX3_arrive 103 = .ok (.iadd, 1) := dk_96 (dk_at dksX3_arrive_4 10 rfl rfl)
theorem dX3_arrive_104 : decode cX3_arrive 104 = .ok (.putfield 144, 3) := dk_181 0 144 (dk_at dksX3_arrive_4 11 rfl rfl)
theorem dX3_arrive_107 : decode cX3_arrive 107 = .ok (.aload_n 0, 1) := dk_42 (dk_at dksX3_arrive_4 14 rfl rfl)
theorem dX3_arrive_108 : decode cX3_arrive 108 = .ok (.iconst 3, 1) := dk_6 (dk_at dksX3_arrive_4 15 rfl rfl)
theorem dX3_arrive_109 : decode cX3_arrive 109 = .ok (.aload_n 1, 1) := dk_43 (dk_at dksX3_arrive_4 16 rfl rfl)
theorem dX3_arrive_110 : decode cX3_arrive 110 = .ok (.iload 4, 2) := dk_21 4 (dk_at dksX3_arrive_4 17 rfl rfl)
theorem dX3_arrive_112 : decode cX3_arrive 112 = .ok (.invokevirtual 274, 3) := dk_182 1 18 (dk_at dksX3_arrive_4 19 rfl rfl)
theorem dX3_arrive_115 : decode cX3_arrive 115 = .ok (.aload_n 1, 1) := dk_43 (dk_at dksX3_arrive_4 22 rfl rfl)
theorem dX3_arrive_116 : decode cX3_arrive 116 = .ok (.iconst 2, 1) := dk_5 (dk_at dksX3_arrive_4 23 rfl rfl)
theorem dX3_arrive_117 : decode cX3_arrive 117 = .ok (.putfield 250, 3) := dk_181 0 250 (dk_at dksX3_arrive_5 0 rfl rfl)
theorem dX3_arrive_120 : decode cX3_arrive 120 = .ok (.aload_n 1, 1) := dk_43 (dk_at dksX3_arrive_5 3 rfl rfl)
theorem dX3_arrive_121 : decode cX3_arrive 121 = .ok (.dup, 1) := dk_89 (dk_at dksX3_arrive_5 4 rfl rfl)
theorem dX3_arrive_122 : decode cX3_arrive 122 = .ok (.getfield 174, 3) := dk_180 0 174 (dk_at dksX3_arrive_5 5 rfl rfl)
theorem dX3_arrive_125 : decode cX3_arrive 125 = .ok (.aload_n 0, 1) := dk_42 (dk_at dksX3_arrive_5 8 rfl rfl)
theorem dX3_arrive_126 : decode cX3_arrive 126 = .ok (.getfield 59, 3) := dk_180 0 59 (dk_at dksX3_arrive_5 9 rfl rfl)
theorem dX3_arrive_129 : decode cX3_arrive 129 = .ok (.getfield 278, 3) := dk_180 1 22 (dk_at dksX3_arrive_5 12 rfl rfl)
theorem dX3_arrive_132 : decode cX3_arrive 132 = .ok (.aload_n 0, 1) := dk_42 (dk_at dksX3_arrive_5 15 rfl rfl)
theorem dX3_arrive_133 : decode cX3_arrive 133 = .ok (.getfield 59, 3) := dk_180 0 59 (dk_at dksX3_arrive_5 16 rfl rfl)
theorem dX3_arrive_136 : decode cX3_arrive 136 = .ok (.getfield 281, 3) := dk_180 1 25 (dk_at dksX3_arrive_5 19 rfl rfl)
theorem dX3_arrive_139 : decode cX3_arrive 139 = .ok (.iload_n 2, 1) := dk_28 (dk_at dksX3_arrive_5 22 rfl rfl)
theorem dX3_arrive_140 : decode cX3_arrive 140 = .ok (.imul, 1) := dk_104 (dk_at dksX3_arrive_5 23 rfl rfl)
theorem dX3_arrive_141 : decode cX3_arrive 141 = .ok (.iadd, 1) := dk_96 (dk_at dksX3_arrive_6 0 rfl rfl)
theorem dX3_arrive_142 : decode cX3_arrive 142 = .ok (.aload_n 0, 1) := dk_42 (dk_at dksX3_arrive_6 1 rfl rfl)
theorem dX3_arrive_143 : decode cX3_arrive 143 = .ok (.getfield 59, 3) := dk_180 0 59 (dk_at dksX3_arrive_6 2 rfl rfl)
theorem dX3_arrive_146 : decode cX3_arrive 146 = .ok (.getfield 284, 3) := dk_180 1 28 (dk_at dksX3_arrive_6 5 rfl rfl)
theorem dX3_arrive_149 : decode cX3_arrive 149 = .ok (.iload_n 3, 1) := dk_29 (dk_at dksX3_arrive_6 8 rfl rfl)
theorem dX3_arrive_150 : decode cX3_arrive 150 = .ok (.imul, 1) := dk_104 (dk_at dksX3_arrive_6 9 rfl rfl)
theorem dX3_arrive_151 : decode cX3_arrive 151 = .ok (.iadd, 1) := dk_96 (dk_at dksX3_arrive_6 10 rfl rfl)
theorem dX3_arrive_152 : decode cX3_arrive 152 = .ok (.iadd, 1) := dk_96 (dk_at dksX3_arrive_6 11 rfl rfl)
theorem dX3_arrive_153 : decode cX3_arrive 153 = .ok (.putfield 174, 3) := dk_181 0 174 (dk_at dksX3_arrive_6 12 rfl rfl)
theorem dX3_arrive_156 : decode cX3_arrive 156 = .ok (.return_, 1) := dk_177 (dk_at dksX3_arrive_6 15 rfl rfl)
abbrev cX3_alight : ByteArray := prog_9_method_13_code
def yX3_alight : MethodName := ⟨RX3, "alight", "(LBusLine$Bus;)I"⟩
def dkwX3_alight_3 : List UInt8 := [133, 97, 181, 0, 157, 43, 180, 0, 229, 29, 182, 0, 235, 132, 2, 1, 132, 3, 255, 167, 255, 177, 28, 172]
abbrev dktX3_alight_3 : List UInt8 := dkwX3_alight_3 ++ []
def dkwX3_alight_2 : List UInt8 := [92, 46, 4, 96, 79, 42, 89, 180, 0, 157, 43, 180, 0, 174, 43, 180, 0, 229, 180, 0, 184, 29, 46, 100]
abbrev dktX3_alight_2 : List UInt8 := dkwX3_alight_2 ++ dktX3_alight_3
def dkwX3_alight_1 : List UInt8 := [46, 43, 180, 0, 178, 159, 0, 6, 167, 0, 56, 42, 180, 0, 50, 43, 180, 0, 229, 180, 0, 187, 29, 46]
abbrev dktX3_alight_1 : List UInt8 := dkwX3_alight_1 ++ dktX3_alight_2
def dkwX3_alight_0 : List UInt8 := [3, 61, 43, 180, 0, 229, 180, 0, 181, 4, 100, 62, 29, 155, 0, 81, 43, 180, 0, 229, 180, 0, 233, 29]
abbrev dktX3_alight_0 : List UInt8 := dkwX3_alight_0 ++ dktX3_alight_1
theorem dksX3_alight_0 : cX3_alight.data.toList.drop 0 = dktX3_alight_0 := by decide +kernel
theorem dksX3_alight_1 : cX3_alight.data.toList.drop 24 = dktX3_alight_1 := dk_seg dksX3_alight_0 24 rfl rfl
theorem dksX3_alight_2 : cX3_alight.data.toList.drop 48 = dktX3_alight_2 := dk_seg dksX3_alight_1 24 rfl rfl
theorem dksX3_alight_3 : cX3_alight.data.toList.drop 72 = dktX3_alight_3 := dk_seg dksX3_alight_2 24 rfl rfl
theorem dX3_alight_0 : decode cX3_alight 0 = .ok (.iconst 0, 1) := dk_3 (dk_at dksX3_alight_0 0 rfl rfl)
theorem dX3_alight_1 : decode cX3_alight 1 = .ok (.istore_n 2, 1) := dk_61 (dk_at dksX3_alight_0 1 rfl rfl)
theorem dX3_alight_2 : decode cX3_alight 2 = .ok (.aload_n 1, 1) := dk_43 (dk_at dksX3_alight_0 2 rfl rfl)
theorem dX3_alight_3 : decode cX3_alight 3 = .ok (.getfield 229, 3) := dk_180 0 229 (dk_at dksX3_alight_0 3 rfl rfl)
theorem dX3_alight_6 : decode cX3_alight 6 = .ok (.getfield 181, 3) := dk_180 0 181 (dk_at dksX3_alight_0 6 rfl rfl)
theorem dX3_alight_9 : decode cX3_alight 9 = .ok (.iconst 1, 1) := dk_4 (dk_at dksX3_alight_0 9 rfl rfl)
theorem dX3_alight_10 : decode cX3_alight 10 = .ok (.isub, 1) := dk_100 (dk_at dksX3_alight_0 10 rfl rfl)
theorem dX3_alight_11 : decode cX3_alight 11 = .ok (.istore_n 3, 1) := dk_62 (dk_at dksX3_alight_0 11 rfl rfl)
theorem dX3_alight_12 : decode cX3_alight 12 = .ok (.iload_n 3, 1) := dk_29 (dk_at dksX3_alight_0 12 rfl rfl)
theorem dX3_alight_13 : decode cX3_alight 13 = .ok (.ifCond .lt 81, 3) := dk_155 0 81 (dk_at dksX3_alight_0 13 rfl rfl)
theorem dX3_alight_16 : decode cX3_alight 16 = .ok (.aload_n 1, 1) := dk_43 (dk_at dksX3_alight_0 16 rfl rfl)
theorem dX3_alight_17 : decode cX3_alight 17 = .ok (.getfield 229, 3) := dk_180 0 229 (dk_at dksX3_alight_0 17 rfl rfl)
theorem dX3_alight_20 : decode cX3_alight 20 = .ok (.getfield 233, 3) := dk_180 0 233 (dk_at dksX3_alight_0 20 rfl rfl)
theorem dX3_alight_23 : decode cX3_alight 23 = .ok (.iload_n 3, 1) := dk_29 (dk_at dksX3_alight_0 23 rfl rfl)
theorem dX3_alight_24 : decode cX3_alight 24 = .ok (.iaload, 1) := dk_46 (dk_at dksX3_alight_1 0 rfl rfl)
theorem dX3_alight_25 : decode cX3_alight 25 = .ok (.aload_n 1, 1) := dk_43 (dk_at dksX3_alight_1 1 rfl rfl)
theorem dX3_alight_26 : decode cX3_alight 26 = .ok (.getfield 178, 3) := dk_180 0 178 (dk_at dksX3_alight_1 2 rfl rfl)
theorem dX3_alight_29 : decode cX3_alight 29 = .ok (.if_icmp .eq 6, 3) := dk_159 0 6 (dk_at dksX3_alight_1 5 rfl rfl)
theorem dX3_alight_32 : decode cX3_alight 32 = .ok (.goto 56, 3) := dk_167 0 56 (dk_at dksX3_alight_1 8 rfl rfl)
theorem dX3_alight_35 : decode cX3_alight 35 = .ok (.aload_n 0, 1) := dk_42 (dk_at dksX3_alight_1 11 rfl rfl)
theorem dX3_alight_36 : decode cX3_alight 36 = .ok (.getfield 50, 3) := dk_180 0 50 (dk_at dksX3_alight_1 12 rfl rfl)
theorem dX3_alight_39 : decode cX3_alight 39 = .ok (.aload_n 1, 1) := dk_43 (dk_at dksX3_alight_1 15 rfl rfl)
theorem dX3_alight_40 : decode cX3_alight 40 = .ok (.getfield 229, 3) := dk_180 0 229 (dk_at dksX3_alight_1 16 rfl rfl)
theorem dX3_alight_43 : decode cX3_alight 43 = .ok (.getfield 187, 3) := dk_180 0 187 (dk_at dksX3_alight_1 19 rfl rfl)
theorem dX3_alight_46 : decode cX3_alight 46 = .ok (.iload_n 3, 1) := dk_29 (dk_at dksX3_alight_1 22 rfl rfl)
theorem dX3_alight_47 : decode cX3_alight 47 = .ok (.iaload, 1) := dk_46 (dk_at dksX3_alight_1 23 rfl rfl)
theorem dX3_alight_48 : decode cX3_alight 48 = .ok (.dup2, 1) := dk_92 (dk_at dksX3_alight_2 0 rfl rfl)
theorem dX3_alight_49 : decode cX3_alight 49 = .ok (.iaload, 1) := dk_46 (dk_at dksX3_alight_2 1 rfl rfl)
theorem dX3_alight_50 : decode cX3_alight 50 = .ok (.iconst 1, 1) := dk_4 (dk_at dksX3_alight_2 2 rfl rfl)
theorem dX3_alight_51 : decode cX3_alight 51 = .ok (.iadd, 1) := dk_96 (dk_at dksX3_alight_2 3 rfl rfl)
theorem dX3_alight_52 : decode cX3_alight 52 = .ok (.iastore, 1) := dk_79 (dk_at dksX3_alight_2 4 rfl rfl)
theorem dX3_alight_53 : decode cX3_alight 53 = .ok (.aload_n 0, 1) := dk_42 (dk_at dksX3_alight_2 5 rfl rfl)
theorem dX3_alight_54 : decode cX3_alight 54 = .ok (.dup, 1) := dk_89 (dk_at dksX3_alight_2 6 rfl rfl)
theorem dX3_alight_55 : decode cX3_alight 55 = .ok (.getfield 157, 3) := dk_180 0 157 (dk_at dksX3_alight_2 7 rfl rfl)
theorem dX3_alight_58 : decode cX3_alight 58 = .ok (.aload_n 1, 1) := dk_43 (dk_at dksX3_alight_2 10 rfl rfl)
theorem dX3_alight_59 : decode cX3_alight 59 = .ok (.getfield 174, 3) := dk_180 0 174 (dk_at dksX3_alight_2 11 rfl rfl)
theorem dX3_alight_62 : decode cX3_alight 62 = .ok (.aload_n 1, 1) := dk_43 (dk_at dksX3_alight_2 14 rfl rfl)
theorem dX3_alight_63 : decode cX3_alight 63 = .ok (.getfield 229, 3) := dk_180 0 229 (dk_at dksX3_alight_2 15 rfl rfl)
theorem dX3_alight_66 : decode cX3_alight 66 = .ok (.getfield 184, 3) := dk_180 0 184 (dk_at dksX3_alight_2 18 rfl rfl)
theorem dX3_alight_69 : decode cX3_alight 69 = .ok (.iload_n 3, 1) := dk_29 (dk_at dksX3_alight_2 21 rfl rfl)
theorem dX3_alight_70 : decode cX3_alight 70 = .ok (.iaload, 1) := dk_46 (dk_at dksX3_alight_2 22 rfl rfl)
theorem dX3_alight_71 : decode cX3_alight 71 = .ok (.isub, 1) := dk_100 (dk_at dksX3_alight_2 23 rfl rfl)
theorem dX3_alight_72 : decode cX3_alight 72 = .ok (.i2l, 1) := dk_133 (dk_at dksX3_alight_3 0 rfl rfl)
theorem dX3_alight_73 : decode cX3_alight 73 = .ok (.ladd, 1) := dk_97 (dk_at dksX3_alight_3 1 rfl rfl)
theorem dX3_alight_74 : decode cX3_alight 74 = .ok (.putfield 157, 3) := dk_181 0 157 (dk_at dksX3_alight_3 2 rfl rfl)
theorem dX3_alight_77 : decode cX3_alight 77 = .ok (.aload_n 1, 1) := dk_43 (dk_at dksX3_alight_3 5 rfl rfl)
theorem dX3_alight_78 : decode cX3_alight 78 = .ok (.getfield 229, 3) := dk_180 0 229 (dk_at dksX3_alight_3 6 rfl rfl)
theorem dX3_alight_81 : decode cX3_alight 81 = .ok (.iload_n 3, 1) := dk_29 (dk_at dksX3_alight_3 9 rfl rfl)
theorem dX3_alight_82 : decode cX3_alight 82 = .ok (.invokevirtual 235, 3) := dk_182 0 235 (dk_at dksX3_alight_3 10 rfl rfl)
theorem dX3_alight_85 : decode cX3_alight 85 = .ok (.iinc 2 1, 3) := dk_132 2 1 (dk_at dksX3_alight_3 13 rfl rfl)
theorem dX3_alight_88 : decode cX3_alight 88 = .ok (.iinc 3 (-1), 3) := dk_132 3 255 (dk_at dksX3_alight_3 16 rfl rfl)
theorem dX3_alight_91 : decode cX3_alight 91 = .ok (.goto (-79), 3) := dk_167 255 177 (dk_at dksX3_alight_3 19 rfl rfl)
theorem dX3_alight_94 : decode cX3_alight 94 = .ok (.iload_n 2, 1) := dk_28 (dk_at dksX3_alight_3 22 rfl rfl)
theorem dX3_alight_95 : decode cX3_alight 95 = .ok (.ireturn, 1) := dk_172 (dk_at dksX3_alight_3 23 rfl rfl)
abbrev cX3_waiting : ByteArray := prog_9_method_29_code
def yX3_waiting : MethodName := ⟨RX3, "waiting", "()I"⟩
def dkwX3_waiting_1 : List UInt8 := [132, 2, 1, 167, 255, 233, 27, 172]
abbrev dktX3_waiting_1 : List UInt8 := dkwX3_waiting_1 ++ []
def dkwX3_waiting_0 : List UInt8 := [3, 60, 3, 61, 28, 42, 182, 0, 81, 162, 0, 21, 27, 42, 180, 0, 21, 28, 50, 180, 0, 181, 96, 60]
abbrev dktX3_waiting_0 : List UInt8 := dkwX3_waiting_0 ++ dktX3_waiting_1
theorem dksX3_waiting_0 : cX3_waiting.data.toList.drop 0 = dktX3_waiting_0 := by decide +kernel
theorem dksX3_waiting_1 : cX3_waiting.data.toList.drop 24 = dktX3_waiting_1 := dk_seg dksX3_waiting_0 24 rfl rfl
theorem dX3_waiting_0 : decode cX3_waiting 0 = .ok (.iconst 0, 1) := dk_3 (dk_at dksX3_waiting_0 0 rfl rfl)
theorem dX3_waiting_1 : decode cX3_waiting 1 = .ok (.istore_n 1, 1) := dk_60 (dk_at dksX3_waiting_0 1 rfl rfl)
theorem dX3_waiting_2 : decode cX3_waiting 2 = .ok (.iconst 0, 1) := dk_3 (dk_at dksX3_waiting_0 2 rfl rfl)
theorem dX3_waiting_3 : decode cX3_waiting 3 = .ok (.istore_n 2, 1) := dk_61 (dk_at dksX3_waiting_0 3 rfl rfl)
theorem dX3_waiting_4 : decode cX3_waiting 4 = .ok (.iload_n 2, 1) := dk_28 (dk_at dksX3_waiting_0 4 rfl rfl)
theorem dX3_waiting_5 : decode cX3_waiting 5 = .ok (.aload_n 0, 1) := dk_42 (dk_at dksX3_waiting_0 5 rfl rfl)
theorem dX3_waiting_6 : decode cX3_waiting 6 = .ok (.invokevirtual 81, 3) := dk_182 0 81 (dk_at dksX3_waiting_0 6 rfl rfl)
theorem dX3_waiting_9 : decode cX3_waiting 9 = .ok (.if_icmp .ge 21, 3) := dk_162 0 21 (dk_at dksX3_waiting_0 9 rfl rfl)
theorem dX3_waiting_12 : decode cX3_waiting 12 = .ok (.iload_n 1, 1) := dk_27 (dk_at dksX3_waiting_0 12 rfl rfl)
theorem dX3_waiting_13 : decode cX3_waiting 13 = .ok (.aload_n 0, 1) := dk_42 (dk_at dksX3_waiting_0 13 rfl rfl)
theorem dX3_waiting_14 : decode cX3_waiting 14 = .ok (.getfield 21, 3) := dk_180 0 21 (dk_at dksX3_waiting_0 14 rfl rfl)
theorem dX3_waiting_17 : decode cX3_waiting 17 = .ok (.iload_n 2, 1) := dk_28 (dk_at dksX3_waiting_0 17 rfl rfl)
theorem dX3_waiting_18 : decode cX3_waiting 18 = .ok (.aaload, 1) := dk_50 (dk_at dksX3_waiting_0 18 rfl rfl)
theorem dX3_waiting_19 : decode cX3_waiting 19 = .ok (.getfield 181, 3) := dk_180 0 181 (dk_at dksX3_waiting_0 19 rfl rfl)
theorem dX3_waiting_22 : decode cX3_waiting 22 = .ok (.iadd, 1) := dk_96 (dk_at dksX3_waiting_0 22 rfl rfl)
theorem dX3_waiting_23 : decode cX3_waiting 23 = .ok (.istore_n 1, 1) := dk_60 (dk_at dksX3_waiting_0 23 rfl rfl)
theorem dX3_waiting_24 : decode cX3_waiting 24 = .ok (.iinc 2 1, 3) := dk_132 2 1 (dk_at dksX3_waiting_1 0 rfl rfl)
theorem dX3_waiting_27 : decode cX3_waiting 27 = .ok (.goto (-23), 3) := dk_167 255 233 (dk_at dksX3_waiting_1 3 rfl rfl)
theorem dX3_waiting_30 : decode cX3_waiting 30 = .ok (.iload_n 1, 1) := dk_27 (dk_at dksX3_waiting_1 6 rfl rfl)
theorem dX3_waiting_31 : decode cX3_waiting 31 = .ok (.ireturn, 1) := dk_172 (dk_at dksX3_waiting_1 7 rfl rfl)
abbrev cX3_aboard : ByteArray := prog_9_method_30_code
def yX3_aboard : MethodName := ⟨RX3, "aboard", "()I"⟩
def dkwX3_aboard_1 : List UInt8 := [180, 0, 181, 96, 60, 132, 2, 1, 167, 255, 229, 27, 172]
abbrev dktX3_aboard_1 : List UInt8 := dkwX3_aboard_1 ++ []
def dkwX3_aboard_0 : List UInt8 := [3, 60, 3, 61, 28, 42, 180, 0, 77, 190, 162, 0, 24, 27, 42, 180, 0, 77, 28, 50, 180, 0, 229]
abbrev dktX3_aboard_0 : List UInt8 := dkwX3_aboard_0 ++ dktX3_aboard_1
theorem dksX3_aboard_0 : cX3_aboard.data.toList.drop 0 = dktX3_aboard_0 := by decide +kernel
theorem dksX3_aboard_1 : cX3_aboard.data.toList.drop 23 = dktX3_aboard_1 := dk_seg dksX3_aboard_0 23 rfl rfl
theorem dX3_aboard_0 : decode cX3_aboard 0 = .ok (.iconst 0, 1) := dk_3 (dk_at dksX3_aboard_0 0 rfl rfl)
theorem dX3_aboard_1 : decode cX3_aboard 1 = .ok (.istore_n 1, 1) := dk_60 (dk_at dksX3_aboard_0 1 rfl rfl)
theorem dX3_aboard_2 : decode cX3_aboard 2 = .ok (.iconst 0, 1) := dk_3 (dk_at dksX3_aboard_0 2 rfl rfl)
theorem dX3_aboard_3 : decode cX3_aboard 3 = .ok (.istore_n 2, 1) := dk_61 (dk_at dksX3_aboard_0 3 rfl rfl)
theorem dX3_aboard_4 : decode cX3_aboard 4 = .ok (.iload_n 2, 1) := dk_28 (dk_at dksX3_aboard_0 4 rfl rfl)
theorem dX3_aboard_5 : decode cX3_aboard 5 = .ok (.aload_n 0, 1) := dk_42 (dk_at dksX3_aboard_0 5 rfl rfl)
theorem dX3_aboard_6 : decode cX3_aboard 6 = .ok (.getfield 77, 3) := dk_180 0 77 (dk_at dksX3_aboard_0 6 rfl rfl)
theorem dX3_aboard_9 : decode cX3_aboard 9 = .ok (.arraylength, 1) := dk_190 (dk_at dksX3_aboard_0 9 rfl rfl)
theorem dX3_aboard_10 : decode cX3_aboard 10 = .ok (.if_icmp .ge 24, 3) := dk_162 0 24 (dk_at dksX3_aboard_0 10 rfl rfl)
theorem dX3_aboard_13 : decode cX3_aboard 13 = .ok (.iload_n 1, 1) := dk_27 (dk_at dksX3_aboard_0 13 rfl rfl)
theorem dX3_aboard_14 : decode cX3_aboard 14 = .ok (.aload_n 0, 1) := dk_42 (dk_at dksX3_aboard_0 14 rfl rfl)
theorem dX3_aboard_15 : decode cX3_aboard 15 = .ok (.getfield 77, 3) := dk_180 0 77 (dk_at dksX3_aboard_0 15 rfl rfl)
theorem dX3_aboard_18 : decode cX3_aboard 18 = .ok (.iload_n 2, 1) := dk_28 (dk_at dksX3_aboard_0 18 rfl rfl)
theorem dX3_aboard_19 : decode cX3_aboard 19 = .ok (.aaload, 1) := dk_50 (dk_at dksX3_aboard_0 19 rfl rfl)
theorem dX3_aboard_20 : decode cX3_aboard 20 = .ok (.getfield 229, 3) := dk_180 0 229 (dk_at dksX3_aboard_0 20 rfl rfl)
theorem dX3_aboard_23 : decode cX3_aboard 23 = .ok (.getfield 181, 3) := dk_180 0 181 (dk_at dksX3_aboard_1 0 rfl rfl)
theorem dX3_aboard_26 : decode cX3_aboard 26 = .ok (.iadd, 1) := dk_96 (dk_at dksX3_aboard_1 3 rfl rfl)
theorem dX3_aboard_27 : decode cX3_aboard 27 = .ok (.istore_n 1, 1) := dk_60 (dk_at dksX3_aboard_1 4 rfl rfl)
theorem dX3_aboard_28 : decode cX3_aboard 28 = .ok (.iinc 2 1, 3) := dk_132 2 1 (dk_at dksX3_aboard_1 5 rfl rfl)
theorem dX3_aboard_31 : decode cX3_aboard 31 = .ok (.goto (-27), 3) := dk_167 255 229 (dk_at dksX3_aboard_1 8 rfl rfl)
theorem dX3_aboard_34 : decode cX3_aboard 34 = .ok (.iload_n 1, 1) := dk_27 (dk_at dksX3_aboard_1 11 rfl rfl)
theorem dX3_aboard_35 : decode cX3_aboard 35 = .ok (.ireturn, 1) := dk_172 (dk_at dksX3_aboard_1 12 rfl rfl)
abbrev cX3_account : ByteArray := prog_9_method_6_code
def yX3_account : MethodName := ⟨RX3, "account", "(I)I"⟩
def dkwX3_account_0 : List UInt8 := [27, 42, 180, 0, 59, 180, 0, 171, 182, 0, 69, 160, 0, 8, 16, 16, 167, 0, 4, 27, 172]
abbrev dktX3_account_0 : List UInt8 := dkwX3_account_0 ++ []
theorem dksX3_account_0 : cX3_account.data.toList.drop 0 = dktX3_account_0 := by decide +kernel
theorem dX3_account_0 : decode cX3_account 0 = .ok (.iload_n 1, 1) := dk_27 (dk_at dksX3_account_0 0 rfl rfl)
theorem dX3_account_1 : decode cX3_account 1 = .ok (.aload_n 0, 1) := dk_42 (dk_at dksX3_account_0 1 rfl rfl)
theorem dX3_account_2 : decode cX3_account 2 = .ok (.getfield 59, 3) := dk_180 0 59 (dk_at dksX3_account_0 2 rfl rfl)
theorem dX3_account_5 : decode cX3_account 5 = .ok (.getfield 171, 3) := dk_180 0 171 (dk_at dksX3_account_0 5 rfl rfl)
theorem dX3_account_8 : decode cX3_account 8 = .ok (.invokevirtual 69, 3) := dk_182 0 69 (dk_at dksX3_account_0 8 rfl rfl)
theorem dX3_account_11 : decode cX3_account 11 = .ok (.if_icmp .ne 8, 3) := dk_160 0 8 (dk_at dksX3_account_0 11 rfl rfl)
theorem dX3_account_14 : decode cX3_account 14 = .ok (.bipush 16, 2) := dk_16 16 (dk_at dksX3_account_0 14 rfl rfl)
theorem dX3_account_16 : decode cX3_account 16 = .ok (.goto 4, 3) := dk_167 0 4 (dk_at dksX3_account_0 16 rfl rfl)
theorem dX3_account_19 : decode cX3_account 19 = .ok (.iload_n 1, 1) := dk_27 (dk_at dksX3_account_0 19 rfl rfl)
theorem dX3_account_20 : decode cX3_account 20 = .ok (.ireturn, 1) := dk_172 (dk_at dksX3_account_0 20 rfl rfl)
abbrev cX3_lost : ByteArray := prog_9_method_28_code
def yX3_lost : MethodName := ⟨RX3, "lost", "()I"⟩
def dkwX3_lost_0 : List UInt8 := [42, 180, 0, 41, 184, 1, 111, 42, 180, 0, 44, 184, 1, 111, 96, 172]
abbrev dktX3_lost_0 : List UInt8 := dkwX3_lost_0 ++ []
theorem dksX3_lost_0 : cX3_lost.data.toList.drop 0 = dktX3_lost_0 := by decide +kernel
theorem dX3_lost_0 : decode cX3_lost 0 = .ok (.aload_n 0, 1) := dk_42 (dk_at dksX3_lost_0 0 rfl rfl)
theorem dX3_lost_1 : decode cX3_lost 1 = .ok (.getfield 41, 3) := dk_180 0 41 (dk_at dksX3_lost_0 1 rfl rfl)
theorem dX3_lost_4 : decode cX3_lost 4 = .ok (.invokestatic 367, 3) := dk_184 1 111 (dk_at dksX3_lost_0 4 rfl rfl)
theorem dX3_lost_7 : decode cX3_lost 7 = .ok (.aload_n 0, 1) := dk_42 (dk_at dksX3_lost_0 7 rfl rfl)
theorem dX3_lost_8 : decode cX3_lost 8 = .ok (.getfield 44, 3) := dk_180 0 44 (dk_at dksX3_lost_0 8 rfl rfl)
theorem dX3_lost_11 : decode cX3_lost 11 = .ok (.invokestatic 367, 3) := dk_184 1 111 (dk_at dksX3_lost_0 11 rfl rfl)
theorem dX3_lost_14 : decode cX3_lost 14 = .ok (.iadd, 1) := dk_96 (dk_at dksX3_lost_0 14 rfl rfl)
theorem dX3_lost_15 : decode cX3_lost 15 = .ok (.ireturn, 1) := dk_172 (dk_at dksX3_lost_0 15 rfl rfl)
abbrev cX3_board_2 : ByteArray := prog_9_method_31_code
def yX3_board_2 : MethodName := ⟨RX3, "board", "()Ljava/lang/String;"⟩
def dkwX3_board_2_7 : List UInt8 := [167, 255, 99, 43, 182, 1, 136, 176]
abbrev dktX3_board_2_7 : List UInt8 := dkwX3_board_2_7 ++ []
def dkwX3_board_2_6 : List UInt8 := [182, 1, 122, 29, 182, 1, 129, 87, 132, 3, 1, 167, 255, 206, 43, 16, 10, 182, 1, 126, 87, 132, 2, 1]
abbrev dktX3_board_2_6 : List UInt8 := dkwX3_board_2_6 ++ dktX3_board_2_7
def dkwX3_board_2_5 : List UInt8 := [180, 0, 250, 4, 160, 0, 28, 42, 180, 0, 77, 29, 50, 180, 0, 178, 28, 160, 0, 15, 43, 19, 1, 134]
abbrev dktX3_board_2_5 : List UInt8 := dkwX3_board_2_5 ++ dktX3_board_2_6
def dkwX3_board_2_4 : List UInt8 := [132, 3, 1, 167, 255, 207, 3, 62, 29, 42, 180, 0, 77, 190, 162, 0, 47, 42, 180, 0, 77, 29, 50]
abbrev dktX3_board_2_4 : List UInt8 := dkwX3_board_2_4 ++ dktX3_board_2_5
def dkwX3_board_2_3 : List UInt8 := [180, 0, 77, 29, 50, 180, 0, 178, 28, 160, 0, 15, 43, 19, 1, 132, 182, 1, 122, 29, 182, 1, 129, 87]
abbrev dktX3_board_2_3 : List UInt8 := dkwX3_board_2_3 ++ dktX3_board_2_4
def dkwX3_board_2_2 : List UInt8 := [3, 62, 29, 42, 180, 0, 77, 190, 162, 0, 46, 42, 180, 0, 77, 29, 50, 182, 1, 81, 153, 0, 28, 42]
abbrev dktX3_board_2_2 : List UInt8 := dkwX3_board_2_2 ++ dktX3_board_2_3
def dkwX3_board_2_1 : List UInt8 := [180, 1, 118, 182, 1, 122, 16, 32, 182, 1, 126, 42, 180, 0, 21, 28, 50, 180, 0, 181, 182, 1, 129, 87]
abbrev dktX3_board_2_1 : List UInt8 := dkwX3_board_2_1 ++ dktX3_board_2_2
def dkwX3_board_2_0 : List UInt8 := [187, 1, 115, 89, 183, 1, 117, 76, 3, 61, 28, 42, 182, 0, 81, 162, 0, 155, 43, 42, 28, 182, 0, 199]
abbrev dktX3_board_2_0 : List UInt8 := dkwX3_board_2_0 ++ dktX3_board_2_1
theorem dksX3_board_2_0 : cX3_board_2.data.toList.drop 0 = dktX3_board_2_0 := by decide +kernel
theorem dksX3_board_2_1 : cX3_board_2.data.toList.drop 24 = dktX3_board_2_1 := dk_seg dksX3_board_2_0 24 rfl rfl
theorem dksX3_board_2_2 : cX3_board_2.data.toList.drop 48 = dktX3_board_2_2 := dk_seg dksX3_board_2_1 24 rfl rfl
theorem dksX3_board_2_3 : cX3_board_2.data.toList.drop 72 = dktX3_board_2_3 := dk_seg dksX3_board_2_2 24 rfl rfl
theorem dksX3_board_2_4 : cX3_board_2.data.toList.drop 96 = dktX3_board_2_4 := dk_seg dksX3_board_2_3 24 rfl rfl
theorem dksX3_board_2_5 : cX3_board_2.data.toList.drop 119 = dktX3_board_2_5 := dk_seg dksX3_board_2_4 23 rfl rfl
theorem dksX3_board_2_6 : cX3_board_2.data.toList.drop 143 = dktX3_board_2_6 := dk_seg dksX3_board_2_5 24 rfl rfl
theorem dksX3_board_2_7 : cX3_board_2.data.toList.drop 167 = dktX3_board_2_7 := dk_seg dksX3_board_2_6 24 rfl rfl
theorem dX3_board_2_0 : decode cX3_board_2 0 = .ok (.new 371, 3) := dk_187 1 115 (dk_at dksX3_board_2_0 0 rfl rfl)
theorem dX3_board_2_3 : decode cX3_board_2 3 = .ok (.dup, 1) := dk_89 (dk_at dksX3_board_2_0 3 rfl rfl)
theorem dX3_board_2_4 : decode cX3_board_2 4 = .ok (.invokespecial 373, 3) := dk_183 1 117 (dk_at dksX3_board_2_0 4 rfl rfl)
theorem dX3_board_2_7 : decode cX3_board_2 7 = .ok (.astore_n 1, 1) := dk_76 (dk_at dksX3_board_2_0 7 rfl rfl)
theorem dX3_board_2_8 : decode cX3_board_2 8 = .ok (.iconst 0, 1) := dk_3 (dk_at dksX3_board_2_0 8 rfl rfl)
theorem dX3_board_2_9 : decode cX3_board_2 9 = .ok (.istore_n 2, 1) := dk_61 (dk_at dksX3_board_2_0 9 rfl rfl)
theorem dX3_board_2_10 : decode cX3_board_2 10 = .ok (.iload_n 2, 1) := dk_28 (dk_at dksX3_board_2_0 10 rfl rfl)
theorem dX3_board_2_11 : decode cX3_board_2 11 = .ok (.aload_n 0, 1) := dk_42 (dk_at dksX3_board_2_0 11 rfl rfl)
theorem dX3_board_2_12 : decode cX3_board_2 12 = .ok (.invokevirtual 81, 3) := dk_182 0 81 (dk_at dksX3_board_2_0 12 rfl rfl)
theorem dX3_board_2_15 : decode cX3_board_2 15 = .ok (.if_icmp .ge 155, 3) := dk_162 0 155 (dk_at dksX3_board_2_0 15 rfl rfl)
theorem dX3_board_2_18 : decode cX3_board_2 18 = .ok (.aload_n 1, 1) := dk_43 (dk_at dksX3_board_2_0 18 rfl rfl)
theorem dX3_board_2_19 : decode cX3_board_2 19 = .ok (.aload_n 0, 1) := dk_42 (dk_at dksX3_board_2_0 19 rfl rfl)
theorem dX3_board_2_20 : decode cX3_board_2 20 = .ok (.iload_n 2, 1) := dk_28 (dk_at dksX3_board_2_0 20 rfl rfl)
theorem dX3_board_2_21 : decode cX3_board_2 21 = .ok (.invokevirtual 199, 3) := dk_182 0 199 (dk_at dksX3_board_2_0 21 rfl rfl)
theorem dX3_board_2_24 : decode cX3_board_2 24 = .ok (.getfield 374, 3) := dk_180 1 118 (dk_at dksX3_board_2_1 0 rfl rfl)
theorem dX3_board_2_27 : decode cX3_board_2 27 = .ok (.invokevirtual 378, 3) := dk_182 1 122 (dk_at dksX3_board_2_1 3 rfl rfl)
theorem dX3_board_2_30 : decode cX3_board_2 30 = .ok (.bipush 32, 2) := dk_16 32 (dk_at dksX3_board_2_1 6 rfl rfl)
theorem dX3_board_2_32 : decode cX3_board_2 32 = .ok (.invokevirtual 382, 3) := dk_182 1 126 (dk_at dksX3_board_2_1 8 rfl rfl)
theorem dX3_board_2_35 : decode cX3_board_2 35 = .ok (.aload_n 0, 1) := dk_42 (dk_at dksX3_board_2_1 11 rfl rfl)
theorem dX3_board_2_36 : decode cX3_board_2 36 = .ok (.getfield 21, 3) := dk_180 0 21 (dk_at dksX3_board_2_1 12 rfl rfl)
theorem dX3_board_2_39 : decode cX3_board_2 39 = .ok (.iload_n 2, 1) := dk_28 (dk_at dksX3_board_2_1 15 rfl rfl)
theorem dX3_board_2_40 : decode cX3_board_2 40 = .ok (.aaload, 1) := dk_50 (dk_at dksX3_board_2_1 16 rfl rfl)
theorem dX3_board_2_41 : decode cX3_board_2 41 = .ok (.getfield 181, 3) := dk_180 0 181 (dk_at dksX3_board_2_1 17 rfl rfl)
theorem dX3_board_2_44 : decode cX3_board_2 44 = .ok (.invokevirtual 385, 3) := dk_182 1 129 (dk_at dksX3_board_2_1 20 rfl rfl)
theorem dX3_board_2_47 : decode cX3_board_2 47 = .ok (.pop, 1) := dk_87 (dk_at dksX3_board_2_1 23 rfl rfl)
theorem dX3_board_2_48 : decode cX3_board_2 48 = .ok (.iconst 0, 1) := dk_3 (dk_at dksX3_board_2_2 0 rfl rfl)
theorem dX3_board_2_49 : decode cX3_board_2 49 = .ok (.istore_n 3, 1) := dk_62 (dk_at dksX3_board_2_2 1 rfl rfl)
theorem dX3_board_2_50 : decode cX3_board_2 50 = .ok (.iload_n 3, 1) := dk_29 (dk_at dksX3_board_2_2 2 rfl rfl)
theorem dX3_board_2_51 : decode cX3_board_2 51 = .ok (.aload_n 0, 1) := dk_42 (dk_at dksX3_board_2_2 3 rfl rfl)
theorem dX3_board_2_52 : decode cX3_board_2 52 = .ok (.getfield 77, 3) := dk_180 0 77 (dk_at dksX3_board_2_2 4 rfl rfl)
theorem dX3_board_2_55 : decode cX3_board_2 55 = .ok (.arraylength, 1) := dk_190 (dk_at dksX3_board_2_2 7 rfl rfl)
theorem dX3_board_2_56 : decode cX3_board_2 56 = .ok (.if_icmp .ge 46, 3) := dk_162 0 46 (dk_at dksX3_board_2_2 8 rfl rfl)
theorem dX3_board_2_59 : decode cX3_board_2 59 = .ok (.aload_n 0, 1) := dk_42 (dk_at dksX3_board_2_2 11 rfl rfl)
theorem dX3_board_2_60 : decode cX3_board_2 60 = .ok (.getfield 77, 3) := dk_180 0 77 (dk_at dksX3_board_2_2 12 rfl rfl)
theorem dX3_board_2_63 : decode cX3_board_2 63 = .ok (.iload_n 3, 1) := dk_29 (dk_at dksX3_board_2_2 15 rfl rfl)
theorem dX3_board_2_64 : decode cX3_board_2 64 = .ok (.aaload, 1) := dk_50 (dk_at dksX3_board_2_2 16 rfl rfl)
theorem dX3_board_2_65 : decode cX3_board_2 65 = .ok (.invokevirtual 337, 3) := dk_182 1 81 (dk_at dksX3_board_2_2 17 rfl rfl)
theorem dX3_board_2_68 : decode cX3_board_2 68 = .ok (.ifCond .eq 28, 3) := dk_153 0 28 (dk_at dksX3_board_2_2 20 rfl rfl)
theorem dX3_board_2_71 : decode cX3_board_2 71 = .ok (.aload_n 0, 1) := dk_42 (dk_at dksX3_board_2_2 23 rfl rfl)
theorem dX3_board_2_72 : decode cX3_board_2 72 = .ok (.getfield 77, 3) := dk_180 0 77 (dk_at dksX3_board_2_3 0 rfl rfl)
theorem dX3_board_2_75 : decode cX3_board_2 75 = .ok (.iload_n 3, 1) := dk_29 (dk_at dksX3_board_2_3 3 rfl rfl)
theorem dX3_board_2_76 : decode cX3_board_2 76 = .ok (.aaload, 1) := dk_50 (dk_at dksX3_board_2_3 4 rfl rfl)
theorem dX3_board_2_77 : decode cX3_board_2 77 = .ok (.getfield 178, 3) := dk_180 0 178 (dk_at dksX3_board_2_3 5 rfl rfl)
theorem dX3_board_2_80 : decode cX3_board_2 80 = .ok (.iload_n 2, 1) := dk_28 (dk_at dksX3_board_2_3 8 rfl rfl)
theorem dX3_board_2_81 : decode cX3_board_2 81 = .ok (.if_icmp .ne 15, 3) := dk_160 0 15 (dk_at dksX3_board_2_3 9 rfl rfl)
theorem dX3_board_2_84 : decode cX3_board_2 84 = .ok (.aload_n 1, 1) := dk_43 (dk_at dksX3_board_2_3 12 rfl rfl)
theorem dX3_board_2_85 : decode cX3_board_2 85 = .ok (.ldc_w 388, 3) := dk_19 1 132 (dk_at dksX3_board_2_3 13 rfl rfl)
theorem dX3_board_2_88 : decode cX3_board_2 88 = .ok (.invokevirtual 378, 3) := dk_182 1 122 (dk_at dksX3_board_2_3 16 rfl rfl)
theorem dX3_board_2_91 : decode cX3_board_2 91 = .ok (.iload_n 3, 1) := dk_29 (dk_at dksX3_board_2_3 19 rfl rfl)
theorem dX3_board_2_92 : decode cX3_board_2 92 = .ok (.invokevirtual 385, 3) := dk_182 1 129 (dk_at dksX3_board_2_3 20 rfl rfl)
theorem dX3_board_2_95 : decode cX3_board_2 95 = .ok (.pop, 1) := dk_87 (dk_at dksX3_board_2_3 23 rfl rfl)
theorem dX3_board_2_96 : decode cX3_board_2 96 = .ok (.iinc 3 1, 3) := dk_132 3 1 (dk_at dksX3_board_2_4 0 rfl rfl)
theorem dX3_board_2_99 : decode cX3_board_2 99 = .ok (.goto (-49), 3) := dk_167 255 207 (dk_at dksX3_board_2_4 3 rfl rfl)
theorem dX3_board_2_102 : decode cX3_board_2 102 = .ok (.iconst 0, 1) := dk_3 (dk_at dksX3_board_2_4 6 rfl rfl)
theorem dX3_board_2_103 : decode cX3_board_2 103 = .ok (.istore_n 3, 1) := dk_62 (dk_at dksX3_board_2_4 7 rfl rfl)
theorem dX3_board_2_104 : decode cX3_board_2 104 = .ok (.iload_n 3, 1) := dk_29 (dk_at dksX3_board_2_4 8 rfl rfl)
theorem dX3_board_2_105 : decode cX3_board_2 105 = .ok (.aload_n 0, 1) := dk_42 (dk_at dksX3_board_2_4 9 rfl rfl)
theorem dX3_board_2_106 : decode cX3_board_2 106 = .ok (.getfield 77, 3) := dk_180 0 77 (dk_at dksX3_board_2_4 10 rfl rfl)
theorem dX3_board_2_109 : decode cX3_board_2 109 = .ok (.arraylength, 1) := dk_190 (dk_at dksX3_board_2_4 13 rfl rfl)
theorem dX3_board_2_110 : decode cX3_board_2 110 = .ok (.if_icmp .ge 47, 3) := dk_162 0 47 (dk_at dksX3_board_2_4 14 rfl rfl)
theorem dX3_board_2_113 : decode cX3_board_2 113 = .ok (.aload_n 0, 1) := dk_42 (dk_at dksX3_board_2_4 17 rfl rfl)
theorem dX3_board_2_114 : decode cX3_board_2 114 = .ok (.getfield 77, 3) := dk_180 0 77 (dk_at dksX3_board_2_4 18 rfl rfl)
theorem dX3_board_2_117 : decode cX3_board_2 117 = .ok (.iload_n 3, 1) := dk_29 (dk_at dksX3_board_2_4 21 rfl rfl)
theorem dX3_board_2_118 : decode cX3_board_2 118 = .ok (.aaload, 1) := dk_50 (dk_at dksX3_board_2_4 22 rfl rfl)
theorem dX3_board_2_119 : decode cX3_board_2 119 = .ok (.getfield 250, 3) := dk_180 0 250 (dk_at dksX3_board_2_5 0 rfl rfl)
theorem dX3_board_2_122 : decode cX3_board_2 122 = .ok (.iconst 1, 1) := dk_4 (dk_at dksX3_board_2_5 3 rfl rfl)
theorem dX3_board_2_123 : decode cX3_board_2 123 = .ok (.if_icmp .ne 28, 3) := dk_160 0 28 (dk_at dksX3_board_2_5 4 rfl rfl)
theorem dX3_board_2_126 : decode cX3_board_2 126 = .ok (.aload_n 0, 1) := dk_42 (dk_at dksX3_board_2_5 7 rfl rfl)
theorem dX3_board_2_127 : decode cX3_board_2 127 = .ok (.getfield 77, 3) := dk_180 0 77 (dk_at dksX3_board_2_5 8 rfl rfl)
theorem dX3_board_2_130 : decode cX3_board_2 130 = .ok (.iload_n 3, 1) := dk_29 (dk_at dksX3_board_2_5 11 rfl rfl)
theorem dX3_board_2_131 : decode cX3_board_2 131 = .ok (.aaload, 1) := dk_50 (dk_at dksX3_board_2_5 12 rfl rfl)
theorem dX3_board_2_132 : decode cX3_board_2 132 = .ok (.getfield 178, 3) := dk_180 0 178 (dk_at dksX3_board_2_5 13 rfl rfl)
theorem dX3_board_2_135 : decode cX3_board_2 135 = .ok (.iload_n 2, 1) := dk_28 (dk_at dksX3_board_2_5 16 rfl rfl)
theorem dX3_board_2_136 : decode cX3_board_2 136 = .ok (.if_icmp .ne 15, 3) := dk_160 0 15 (dk_at dksX3_board_2_5 17 rfl rfl)
theorem dX3_board_2_139 : decode cX3_board_2 139 = .ok (.aload_n 1, 1) := dk_43 (dk_at dksX3_board_2_5 20 rfl rfl)
theorem dX3_board_2_140 : decode cX3_board_2 140 = .ok (.ldc_w 390, 3) := dk_19 1 134 (dk_at dksX3_board_2_5 21 rfl rfl)
theorem dX3_board_2_143 : decode cX3_board_2 143 = .ok (.invokevirtual 378, 3) := dk_182 1 122 (dk_at dksX3_board_2_6 0 rfl rfl)
theorem dX3_board_2_146 : decode cX3_board_2 146 = .ok (.iload_n 3, 1) := dk_29 (dk_at dksX3_board_2_6 3 rfl rfl)
theorem dX3_board_2_147 : decode cX3_board_2 147 = .ok (.invokevirtual 385, 3) := dk_182 1 129 (dk_at dksX3_board_2_6 4 rfl rfl)
theorem dX3_board_2_150 : decode cX3_board_2 150 = .ok (.pop, 1) := dk_87 (dk_at dksX3_board_2_6 7 rfl rfl)
theorem dX3_board_2_151 : decode cX3_board_2 151 = .ok (.iinc 3 1, 3) := dk_132 3 1 (dk_at dksX3_board_2_6 8 rfl rfl)
theorem dX3_board_2_154 : decode cX3_board_2 154 = .ok (.goto (-50), 3) := dk_167 255 206 (dk_at dksX3_board_2_6 11 rfl rfl)
theorem dX3_board_2_157 : decode cX3_board_2 157 = .ok (.aload_n 1, 1) := dk_43 (dk_at dksX3_board_2_6 14 rfl rfl)
theorem dX3_board_2_158 : decode cX3_board_2 158 = .ok (.bipush 10, 2) := dk_16 10 (dk_at dksX3_board_2_6 15 rfl rfl)
theorem dX3_board_2_160 : decode cX3_board_2 160 = .ok (.invokevirtual 382, 3) := dk_182 1 126 (dk_at dksX3_board_2_6 17 rfl rfl)
theorem dX3_board_2_163 : decode cX3_board_2 163 = .ok (.pop, 1) := dk_87 (dk_at dksX3_board_2_6 20 rfl rfl)
theorem dX3_board_2_164 : decode cX3_board_2 164 = .ok (.iinc 2 1, 3) := dk_132 2 1 (dk_at dksX3_board_2_6 21 rfl rfl)
theorem dX3_board_2_167 : decode cX3_board_2 167 = .ok (.goto (-157), 3) := dk_167 255 99 (dk_at dksX3_board_2_7 0 rfl rfl)
theorem dX3_board_2_170 : decode cX3_board_2 170 = .ok (.aload_n 1, 1) := dk_43 (dk_at dksX3_board_2_7 3 rfl rfl)
theorem dX3_board_2_171 : decode cX3_board_2 171 = .ok (.invokevirtual 392, 3) := dk_182 1 136 (dk_at dksX3_board_2_7 4 rfl rfl)
theorem dX3_board_2_174 : decode cX3_board_2 174 = .ok (.areturn, 1) := dk_176 (dk_at dksX3_board_2_7 7 rfl rfl)
abbrev cX3_story : ByteArray := prog_9_method_33_code
def yX3_story : MethodName := ⟨RX3, "story", "()Ljava/lang/String;"⟩
def dkwX3_story_5 : List UInt8 := [182, 1, 136, 176]
abbrev dktX3_story_5 : List UInt8 := dkwX3_story_5 ++ []
def dkwX3_story_4 : List UInt8 := [180, 0, 56, 28, 7, 96, 46, 182, 1, 129, 16, 10, 182, 1, 126, 87, 132, 2, 5, 167, 255, 153, 43]
abbrev dktX3_story_4 : List UInt8 := dkwX3_story_4 ++ dktX3_story_5
def dkwX3_story_3 : List UInt8 := [42, 42, 180, 0, 56, 28, 6, 96, 46, 182, 0, 199, 180, 1, 118, 182, 1, 122, 16, 32, 182, 1, 126, 42]
abbrev dktX3_story_3 : List UInt8 := dkwX3_story_3 ++ dktX3_story_4
def dkwX3_story_2 : List UInt8 := [182, 1, 122, 16, 32, 182, 1, 126, 42, 180, 0, 56, 28, 5, 96, 46, 182, 1, 129, 16, 32, 182, 1, 126]
abbrev dktX3_story_2 : List UInt8 := dkwX3_story_2 ++ dktX3_story_3
def dkwX3_story_1 : List UInt8 := [180, 0, 56, 28, 46, 182, 1, 129, 16, 32, 182, 1, 126, 42, 180, 0, 56, 28, 4, 96, 46, 184, 1, 148]
abbrev dktX3_story_1 : List UInt8 := dkwX3_story_1 ++ dktX3_story_2
def dkwX3_story_0 : List UInt8 := [187, 1, 115, 89, 183, 1, 117, 76, 3, 61, 28, 8, 42, 180, 0, 150, 104, 162, 0, 99, 43, 42]
abbrev dktX3_story_0 : List UInt8 := dkwX3_story_0 ++ dktX3_story_1
theorem dksX3_story_0 : cX3_story.data.toList.drop 0 = dktX3_story_0 := by decide +kernel
theorem dksX3_story_1 : cX3_story.data.toList.drop 22 = dktX3_story_1 := dk_seg dksX3_story_0 22 rfl rfl
theorem dksX3_story_2 : cX3_story.data.toList.drop 46 = dktX3_story_2 := dk_seg dksX3_story_1 24 rfl rfl
theorem dksX3_story_3 : cX3_story.data.toList.drop 70 = dktX3_story_3 := dk_seg dksX3_story_2 24 rfl rfl
theorem dksX3_story_4 : cX3_story.data.toList.drop 94 = dktX3_story_4 := dk_seg dksX3_story_3 24 rfl rfl
theorem dksX3_story_5 : cX3_story.data.toList.drop 117 = dktX3_story_5 := dk_seg dksX3_story_4 23 rfl rfl
theorem dX3_story_0 : decode cX3_story 0 = .ok (.new 371, 3) := dk_187 1 115 (dk_at dksX3_story_0 0 rfl rfl)
theorem dX3_story_3 : decode cX3_story 3 = .ok (.dup, 1) := dk_89 (dk_at dksX3_story_0 3 rfl rfl)
theorem dX3_story_4 : decode cX3_story 4 = .ok (.invokespecial 373, 3) := dk_183 1 117 (dk_at dksX3_story_0 4 rfl rfl)
theorem dX3_story_7 : decode cX3_story 7 = .ok (.astore_n 1, 1) := dk_76 (dk_at dksX3_story_0 7 rfl rfl)
theorem dX3_story_8 : decode cX3_story 8 = .ok (.iconst 0, 1) := dk_3 (dk_at dksX3_story_0 8 rfl rfl)
theorem dX3_story_9 : decode cX3_story 9 = .ok (.istore_n 2, 1) := dk_61 (dk_at dksX3_story_0 9 rfl rfl)
theorem dX3_story_10 : decode cX3_story 10 = .ok (.iload_n 2, 1) := dk_28 (dk_at dksX3_story_0 10 rfl rfl)
theorem dX3_story_11 : decode cX3_story 11 = .ok (.iconst 5, 1) := dk_8 (dk_at dksX3_story_0 11 rfl rfl)
theorem dX3_story_12 : decode cX3_story 12 = .ok (.aload_n 0, 1) := dk_42 (dk_at dksX3_story_0 12 rfl rfl)
theorem dX3_story_13 : decode cX3_story 13 = .ok (.getfield 150, 3) := dk_180 0 150 (dk_at dksX3_story_0 13 rfl rfl)
theorem dX3_story_16 : decode cX3_story 16 = .ok (.imul, 1) := dk_104 (dk_at dksX3_story_0 16 rfl rfl)
theorem dX3_story_17 : decode cX3_story 17 = .ok (.if_icmp .ge 99, 3) := dk_162 0 99 (dk_at dksX3_story_0 17 rfl rfl)
theorem dX3_story_20 : decode cX3_story 20 = .ok (.aload_n 1, 1) := dk_43 (dk_at dksX3_story_0 20 rfl rfl)
theorem dX3_story_21 : decode cX3_story 21 = .ok (.aload_n 0, 1) := dk_42 (dk_at dksX3_story_0 21 rfl rfl)
theorem dX3_story_22 : decode cX3_story 22 = .ok (.getfield 56, 3) := dk_180 0 56 (dk_at dksX3_story_1 0 rfl rfl)
theorem dX3_story_25 : decode cX3_story 25 = .ok (.iload_n 2, 1) := dk_28 (dk_at dksX3_story_1 3 rfl rfl)
theorem dX3_story_26 : decode cX3_story 26 = .ok (.iaload, 1) := dk_46 (dk_at dksX3_story_1 4 rfl rfl)
theorem dX3_story_27 : decode cX3_story 27 = .ok (.invokevirtual 385, 3) := dk_182 1 129 (dk_at dksX3_story_1 5 rfl rfl)
theorem dX3_story_30 : decode cX3_story 30 = .ok (.bipush 32, 2) := dk_16 32 (dk_at dksX3_story_1 8 rfl rfl)
theorem dX3_story_32 : decode cX3_story 32 = .ok (.invokevirtual 382, 3) := dk_182 1 126 (dk_at dksX3_story_1 10 rfl rfl)
theorem dX3_story_35 : decode cX3_story 35 = .ok (.aload_n 0, 1) := dk_42 (dk_at dksX3_story_1 13 rfl rfl)
theorem dX3_story_36 : decode cX3_story 36 = .ok (.getfield 56, 3) := dk_180 0 56 (dk_at dksX3_story_1 14 rfl rfl)
theorem dX3_story_39 : decode cX3_story 39 = .ok (.iload_n 2, 1) := dk_28 (dk_at dksX3_story_1 17 rfl rfl)
theorem dX3_story_40 : decode cX3_story 40 = .ok (.iconst 1, 1) := dk_4 (dk_at dksX3_story_1 18 rfl rfl)
theorem dX3_story_41 : decode cX3_story 41 = .ok (.iadd, 1) := dk_96 (dk_at dksX3_story_1 19 rfl rfl)
theorem dX3_story_42 : decode cX3_story 42 = .ok (.iaload, 1) := dk_46 (dk_at dksX3_story_1 20 rfl rfl)
theorem dX3_story_43 : decode cX3_story 43 = .ok (.invokestatic 404, 3) := dk_184 1 148 (dk_at dksX3_story_1 21 rfl rfl)
theorem dX3_story_46 : decode cX3_story 46 = .ok (.invokevirtual 378, 3) := dk_182 1 122 (dk_at dksX3_story_2 0 rfl rfl)
theorem dX3_story_49 : decode cX3_story 49 = .ok (.bipush 32, 2) := dk_16 32 (dk_at dksX3_story_2 3 rfl rfl)
theorem dX3_story_51 : decode cX3_story 51 = .ok (.invokevirtual 382, 3) := dk_182 1 126 (dk_at dksX3_story_2 5 rfl rfl)
theorem dX3_story_54 : decode cX3_story 54 = .ok (.aload_n 0, 1) := dk_42 (dk_at dksX3_story_2 8 rfl rfl)
theorem dX3_story_55 : decode cX3_story 55 = .ok (.getfield 56, 3) := dk_180 0 56 (dk_at dksX3_story_2 9 rfl rfl)
theorem dX3_story_58 : decode cX3_story 58 = .ok (.iload_n 2, 1) := dk_28 (dk_at dksX3_story_2 12 rfl rfl)
theorem dX3_story_59 : decode cX3_story 59 = .ok (.iconst 2, 1) := dk_5 (dk_at dksX3_story_2 13 rfl rfl)
theorem dX3_story_60 : decode cX3_story 60 = .ok (.iadd, 1) := dk_96 (dk_at dksX3_story_2 14 rfl rfl)
theorem dX3_story_61 : decode cX3_story 61 = .ok (.iaload, 1) := dk_46 (dk_at dksX3_story_2 15 rfl rfl)
theorem dX3_story_62 : decode cX3_story 62 = .ok (.invokevirtual 385, 3) := dk_182 1 129 (dk_at dksX3_story_2 16 rfl rfl)
theorem dX3_story_65 : decode cX3_story 65 = .ok (.bipush 32, 2) := dk_16 32 (dk_at dksX3_story_2 19 rfl rfl)
theorem dX3_story_67 : decode cX3_story 67 = .ok (.invokevirtual 382, 3) := dk_182 1 126 (dk_at dksX3_story_2 21 rfl rfl)
theorem dX3_story_70 : decode cX3_story 70 = .ok (.aload_n 0, 1) := dk_42 (dk_at dksX3_story_3 0 rfl rfl)
theorem dX3_story_71 : decode cX3_story 71 = .ok (.aload_n 0, 1) := dk_42 (dk_at dksX3_story_3 1 rfl rfl)
theorem dX3_story_72 : decode cX3_story 72 = .ok (.getfield 56, 3) := dk_180 0 56 (dk_at dksX3_story_3 2 rfl rfl)
theorem dX3_story_75 : decode cX3_story 75 = .ok (.iload_n 2, 1) := dk_28 (dk_at dksX3_story_3 5 rfl rfl)
theorem dX3_story_76 : decode cX3_story 76 = .ok (.iconst 3, 1) := dk_6 (dk_at dksX3_story_3 6 rfl rfl)
theorem dX3_story_77 : decode cX3_story 77 = .ok (.iadd, 1) := dk_96 (dk_at dksX3_story_3 7 rfl rfl)
theorem dX3_story_78 : decode cX3_story 78 = .ok (.iaload, 1) := dk_46 (dk_at dksX3_story_3 8 rfl rfl)
theorem dX3_story_79 : decode cX3_story 79 = .ok (.invokevirtual 199, 3) := dk_182 0 199 (dk_at dksX3_story_3 9 rfl rfl)
theorem dX3_story_82 : decode cX3_story 82 = .ok (.getfield 374, 3) := dk_180 1 118 (dk_at dksX3_story_3 12 rfl rfl)
theorem dX3_story_85 : decode cX3_story 85 = .ok (.invokevirtual 378, 3) := dk_182 1 122 (dk_at dksX3_story_3 15 rfl rfl)
theorem dX3_story_88 : decode cX3_story 88 = .ok (.bipush 32, 2) := dk_16 32 (dk_at dksX3_story_3 18 rfl rfl)
theorem dX3_story_90 : decode cX3_story 90 = .ok (.invokevirtual 382, 3) := dk_182 1 126 (dk_at dksX3_story_3 20 rfl rfl)
theorem dX3_story_93 : decode cX3_story 93 = .ok (.aload_n 0, 1) := dk_42 (dk_at dksX3_story_3 23 rfl rfl)
theorem dX3_story_94 : decode cX3_story 94 = .ok (.getfield 56, 3) := dk_180 0 56 (dk_at dksX3_story_4 0 rfl rfl)
theorem dX3_story_97 : decode cX3_story 97 = .ok (.iload_n 2, 1) := dk_28 (dk_at dksX3_story_4 3 rfl rfl)
theorem dX3_story_98 : decode cX3_story 98 = .ok (.iconst 4, 1) := dk_7 (dk_at dksX3_story_4 4 rfl rfl)
theorem dX3_story_99 : decode cX3_story 99 = .ok (.iadd, 1) := dk_96 (dk_at dksX3_story_4 5 rfl rfl)
theorem dX3_story_100 : decode cX3_story 100 = .ok (.iaload, 1) := dk_46 (dk_at dksX3_story_4 6 rfl rfl)
theorem dX3_story_101 : decode cX3_story 101 = .ok (.invokevirtual 385, 3) := dk_182 1 129 (dk_at dksX3_story_4 7 rfl rfl)
theorem dX3_story_104 : decode cX3_story 104 = .ok (.bipush 10, 2) := dk_16 10 (dk_at dksX3_story_4 10 rfl rfl)
theorem dX3_story_106 : decode cX3_story 106 = .ok (.invokevirtual 382, 3) := dk_182 1 126 (dk_at dksX3_story_4 12 rfl rfl)
theorem dX3_story_109 : decode cX3_story 109 = .ok (.pop, 1) := dk_87 (dk_at dksX3_story_4 15 rfl rfl)
theorem dX3_story_110 : decode cX3_story 110 = .ok (.iinc 2 5, 3) := dk_132 2 5 (dk_at dksX3_story_4 16 rfl rfl)
theorem dX3_story_113 : decode cX3_story 113 = .ok (.goto (-103), 3) := dk_167 255 153 (dk_at dksX3_story_4 19 rfl rfl)
theorem dX3_story_116 : decode cX3_story 116 = .ok (.aload_n 1, 1) := dk_43 (dk_at dksX3_story_4 22 rfl rfl)
theorem dX3_story_117 : decode cX3_story 117 = .ok (.invokevirtual 392, 3) := dk_182 1 136 (dk_at dksX3_story_5 0 rfl rfl)
theorem dX3_story_120 : decode cX3_story 120 = .ok (.areturn, 1) := dk_176 (dk_at dksX3_story_5 3 rfl rfl)
abbrev cX3_word : ByteArray := prog_9_method_32_code
def yX3_word : MethodName := ⟨RX3, "word", "(I)Ljava/lang/String;"⟩
def dkwX3_word_2 : List UInt8 := [19, 1, 140, 176, 19, 1, 141, 176, 19, 1, 143, 176, 19, 1, 144, 176, 19, 1, 146, 176]
abbrev dktX3_word_2 : List UInt8 := dkwX3_word_2 ++ []
def dkwX3_word_1 : List UInt8 := [170, 0, 0, 0, 0, 0, 47, 0, 0, 0, 0, 0, 0, 0, 3, 0, 0, 0, 31, 0, 0, 0, 35, 0, 0, 0, 39, 0, 0, 0, 43]
abbrev dktX3_word_1 : List UInt8 := dkwX3_word_1 ++ dktX3_word_2
def dkwX3_word_0 : List UInt8 := [26]
abbrev dktX3_word_0 : List UInt8 := dkwX3_word_0 ++ dktX3_word_1
theorem dksX3_word_0 : cX3_word.data.toList.drop 0 = dktX3_word_0 := by decide +kernel
theorem dksX3_word_1 : cX3_word.data.toList.drop 1 = dktX3_word_1 := dk_seg dksX3_word_0 1 rfl rfl
theorem dksX3_word_2 : cX3_word.data.toList.drop 32 = dktX3_word_2 := dk_seg dksX3_word_1 31 rfl rfl
theorem dX3_word_0 : decode cX3_word 0 = .ok (.iload_n 0, 1) := dk_26 (dk_at dksX3_word_0 0 rfl rfl)
theorem dX3_word_1 : decode cX3_word 1 = .ok (.tableswitch 47 0 3 #[31, 35, 39, 43], 31) := by decide +kernel
theorem dX3_word_32 : decode cX3_word 32 = .ok (.ldc_w 396, 3) := dk_19 1 140 (dk_at dksX3_word_2 0 rfl rfl)
theorem dX3_word_35 : decode cX3_word 35 = .ok (.areturn, 1) := dk_176 (dk_at dksX3_word_2 3 rfl rfl)
theorem dX3_word_36 : decode cX3_word 36 = .ok (.ldc_w 397, 3) := dk_19 1 141 (dk_at dksX3_word_2 4 rfl rfl)
theorem dX3_word_39 : decode cX3_word 39 = .ok (.areturn, 1) := dk_176 (dk_at dksX3_word_2 7 rfl rfl)
theorem dX3_word_40 : decode cX3_word 40 = .ok (.ldc_w 399, 3) := dk_19 1 143 (dk_at dksX3_word_2 8 rfl rfl)
theorem dX3_word_43 : decode cX3_word 43 = .ok (.areturn, 1) := dk_176 (dk_at dksX3_word_2 11 rfl rfl)
theorem dX3_word_44 : decode cX3_word 44 = .ok (.ldc_w 400, 3) := dk_19 1 144 (dk_at dksX3_word_2 12 rfl rfl)
theorem dX3_word_47 : decode cX3_word 47 = .ok (.areturn, 1) := dk_176 (dk_at dksX3_word_2 15 rfl rfl)
theorem dX3_word_48 : decode cX3_word 48 = .ok (.ldc_w 402, 3) := dk_19 1 146 (dk_at dksX3_word_2 16 rfl rfl)
theorem dX3_word_51 : decode cX3_word 51 = .ok (.areturn, 1) := dk_176 (dk_at dksX3_word_2 19 rfl rfl)
abbrev cX3_setup : ByteArray := prog_9_method_34_code
def yX3_setup : MethodName := ⟨RX3, "setup", "()Ljava/lang/String;"⟩
def dkwX3_setup_16 : List UInt8 := [180, 1, 202, 182, 1, 129, 16, 59, 182, 1, 126, 87, 132, 2, 1, 167, 255, 155, 43, 182, 1, 136, 176]
abbrev dktX3_setup_16 : List UInt8 := dkwX3_setup_16 ++ []
def dkwX3_setup_15 : List UInt8 := [182, 1, 122, 19, 1, 195, 182, 1, 122, 45, 180, 1, 197, 182, 1, 129, 19, 1, 200, 182, 1, 122, 45]
abbrev dktX3_setup_15 : List UInt8 := dkwX3_setup_15 ++ dktX3_setup_16
def dkwX3_setup_14 : List UInt8 := [180, 1, 118, 182, 1, 122, 19, 1, 193, 182, 1, 122, 42, 45, 180, 0, 218, 182, 0, 199, 180, 1, 118]
abbrev dktX3_setup_14 : List UInt8 := dkwX3_setup_14 ++ dktX3_setup_15
def dkwX3_setup_13 : List UInt8 := [180, 0, 171, 28, 182, 0, 105, 192, 0, 207, 78, 43, 19, 1, 187, 182, 1, 122, 45, 180, 1, 189]
abbrev dktX3_setup_13 : List UInt8 := dkwX3_setup_13 ++ dktX3_setup_14
def dkwX3_setup_12 : List UInt8 := [167, 255, 201, 3, 61, 28, 42, 180, 0, 59, 180, 0, 171, 182, 0, 69, 162, 0, 93, 42, 180, 0, 59]
abbrev dktX3_setup_12 : List UInt8 := dkwX3_setup_12 ++ dktX3_setup_13
def dkwX3_setup_11 : List UInt8 := [182, 1, 122, 42, 180, 0, 77, 28, 50, 180, 1, 65, 182, 1, 129, 16, 59, 182, 1, 126, 87, 132, 2, 1]
abbrev dktX3_setup_11 : List UInt8 := dkwX3_setup_11 ++ dktX3_setup_12
def dkwX3_setup_10 : List UInt8 := [43, 19, 1, 181, 182, 1, 122, 42, 180, 0, 77, 28, 50, 180, 1, 183, 182, 1, 129, 19, 1, 185]
abbrev dktX3_setup_10 : List UInt8 := dkwX3_setup_10 ++ dktX3_setup_11
def dkwX3_setup_9 : List UInt8 := [19, 1, 179, 182, 1, 122, 87, 132, 2, 1, 167, 255, 171, 3, 61, 28, 42, 180, 0, 77, 190, 162, 0, 52]
abbrev dktX3_setup_9 : List UInt8 := dkwX3_setup_9 ++ dktX3_setup_10
def dkwX3_setup_8 : List UInt8 := [182, 0, 199, 180, 1, 68, 182, 1, 129, 42, 180, 0, 15, 28, 51, 153, 0, 9, 19, 1, 177, 167, 0, 6]
abbrev dktX3_setup_8 : List UInt8 := dkwX3_setup_8 ++ dktX3_setup_9
def dkwX3_setup_7 : List UInt8 := [182, 1, 122, 42, 28, 182, 0, 199, 180, 0, 253, 182, 1, 129, 19, 1, 175, 182, 1, 122, 42, 28]
abbrev dktX3_setup_7 : List UInt8 := dkwX3_setup_7 ++ dktX3_setup_8
def dkwX3_setup_6 : List UInt8 := [162, 0, 83, 43, 19, 1, 171, 182, 1, 122, 42, 28, 182, 0, 199, 180, 1, 118, 182, 1, 122, 19, 1, 173]
abbrev dktX3_setup_6 : List UInt8 := dkwX3_setup_6 ++ dktX3_setup_7
def dkwX3_setup_5 : List UInt8 := [182, 1, 122, 42, 180, 0, 95, 182, 1, 129, 16, 59, 182, 1, 126, 87, 3, 61, 28, 42, 182, 0, 81]
abbrev dktX3_setup_5 : List UInt8 := dkwX3_setup_5 ++ dktX3_setup_6
def dkwX3_setup_4 : List UInt8 := [5, 46, 182, 1, 129, 19, 1, 167, 182, 1, 122, 42, 180, 0, 9, 6, 46, 182, 1, 129, 19, 1, 169]
abbrev dktX3_setup_4 : List UInt8 := dkwX3_setup_4 ++ dktX3_setup_5
def dkwX3_setup_3 : List UInt8 := [182, 1, 122, 42, 180, 0, 9, 4, 46, 182, 1, 129, 76, 43, 19, 1, 165, 182, 1, 122, 42, 180, 0, 9]
abbrev dktX3_setup_3 : List UInt8 := dkwX3_setup_3 ++ dktX3_setup_4
def dkwX3_setup_2 : List UInt8 := [180, 1, 25, 182, 1, 129, 19, 1, 161, 182, 1, 122, 42, 180, 0, 9, 3, 46, 182, 1, 129, 19, 1, 163]
abbrev dktX3_setup_2 : List UInt8 := dkwX3_setup_2 ++ dktX3_setup_3
def dkwX3_setup_1 : List UInt8 := [182, 1, 122, 42, 180, 0, 59, 180, 1, 28, 182, 1, 129, 19, 1, 159, 182, 1, 122, 42, 180, 0, 59]
abbrev dktX3_setup_1 : List UInt8 := dkwX3_setup_1 ++ dktX3_setup_2
def dkwX3_setup_0 : List UInt8 := [187, 1, 115, 89, 19, 1, 152, 183, 1, 154, 42, 180, 0, 59, 180, 1, 22, 182, 1, 129, 19, 1, 157]
abbrev dktX3_setup_0 : List UInt8 := dkwX3_setup_0 ++ dktX3_setup_1
theorem dksX3_setup_0 : cX3_setup.data.toList.drop 0 = dktX3_setup_0 := by decide +kernel
theorem dksX3_setup_1 : cX3_setup.data.toList.drop 23 = dktX3_setup_1 := dk_seg dksX3_setup_0 23 rfl rfl
theorem dksX3_setup_2 : cX3_setup.data.toList.drop 46 = dktX3_setup_2 := dk_seg dksX3_setup_1 23 rfl rfl
theorem dksX3_setup_3 : cX3_setup.data.toList.drop 70 = dktX3_setup_3 := dk_seg dksX3_setup_2 24 rfl rfl
theorem dksX3_setup_4 : cX3_setup.data.toList.drop 94 = dktX3_setup_4 := dk_seg dksX3_setup_3 24 rfl rfl
theorem dksX3_setup_5 : cX3_setup.data.toList.drop 117 = dktX3_setup_5 := dk_seg dksX3_setup_4 23 rfl rfl
theorem dksX3_setup_6 : cX3_setup.data.toList.drop 140 = dktX3_setup_6 := dk_seg dksX3_setup_5 23 rfl rfl
theorem dksX3_setup_7 : cX3_setup.data.toList.drop 164 = dktX3_setup_7 := dk_seg dksX3_setup_6 24 rfl rfl
theorem dksX3_setup_8 : cX3_setup.data.toList.drop 186 = dktX3_setup_8 := dk_seg dksX3_setup_7 22 rfl rfl
theorem dksX3_setup_9 : cX3_setup.data.toList.drop 210 = dktX3_setup_9 := dk_seg dksX3_setup_8 24 rfl rfl
theorem dksX3_setup_10 : cX3_setup.data.toList.drop 234 = dktX3_setup_10 := dk_seg dksX3_setup_9 24 rfl rfl
theorem dksX3_setup_11 : cX3_setup.data.toList.drop 256 = dktX3_setup_11 := dk_seg dksX3_setup_10 22 rfl rfl
theorem dksX3_setup_12 : cX3_setup.data.toList.drop 280 = dktX3_setup_12 := dk_seg dksX3_setup_11 24 rfl rfl
theorem dksX3_setup_13 : cX3_setup.data.toList.drop 303 = dktX3_setup_13 := dk_seg dksX3_setup_12 23 rfl rfl
theorem dksX3_setup_14 : cX3_setup.data.toList.drop 325 = dktX3_setup_14 := dk_seg dksX3_setup_13 22 rfl rfl
theorem dksX3_setup_15 : cX3_setup.data.toList.drop 348 = dktX3_setup_15 := dk_seg dksX3_setup_14 23 rfl rfl
theorem dksX3_setup_16 : cX3_setup.data.toList.drop 371 = dktX3_setup_16 := dk_seg dksX3_setup_15 23 rfl rfl
theorem dX3_setup_0 : decode cX3_setup 0 = .ok (.new 371, 3) := dk_187 1 115 (dk_at dksX3_setup_0 0 rfl rfl)
theorem dX3_setup_3 : decode cX3_setup 3 = .ok (.dup, 1) := dk_89 (dk_at dksX3_setup_0 3 rfl rfl)
theorem dX3_setup_4 : decode cX3_setup 4 = .ok (.ldc_w 408, 3) := dk_19 1 152 (dk_at dksX3_setup_0 4 rfl rfl)
theorem dX3_setup_7 : decode cX3_setup 7 = .ok (.invokespecial 410, 3) := dk_183 1 154 (dk_at dksX3_setup_0 7 rfl rfl)
theorem dX3_setup_10 : decode cX3_setup 10 = .ok (.aload_n 0, 1) := dk_42 (dk_at dksX3_setup_0 10 rfl rfl)
theorem dX3_setup_11 : decode cX3_setup 11 = .ok (.getfield 59, 3) := dk_180 0 59 (dk_at dksX3_setup_0 11 rfl rfl)
theorem dX3_setup_14 : decode cX3_setup 14 = .ok (.getfield 278, 3) := dk_180 1 22 (dk_at dksX3_setup_0 14 rfl rfl)
theorem dX3_setup_17 : decode cX3_setup 17 = .ok (.invokevirtual 385, 3) := dk_182 1 129 (dk_at dksX3_setup_0 17 rfl rfl)
theorem dX3_setup_20 : decode cX3_setup 20 = .ok (.ldc_w 413, 3) := dk_19 1 157 (dk_at dksX3_setup_0 20 rfl rfl)
theorem dX3_setup_23 : decode cX3_setup 23 = .ok (.invokevirtual 378, 3) := dk_182 1 122 (dk_at dksX3_setup_1 0 rfl rfl)
theorem dX3_setup_26 : decode cX3_setup 26 = .ok (.aload_n 0, 1) := dk_42 (dk_at dksX3_setup_1 3 rfl rfl)
theorem dX3_setup_27 : decode cX3_setup 27 = .ok (.getfield 59, 3) := dk_180 0 59 (dk_at dksX3_setup_1 4 rfl rfl)
theorem dX3_setup_30 : decode cX3_setup 30 = .ok (.getfield 284, 3) := dk_180 1 28 (dk_at dksX3_setup_1 7 rfl rfl)
theorem dX3_setup_33 : decode cX3_setup 33 = .ok (.invokevirtual 385, 3) := dk_182 1 129 (dk_at dksX3_setup_1 10 rfl rfl)
theorem dX3_setup_36 : decode cX3_setup 36 = .ok (.ldc_w 415, 3) := dk_19 1 159 (dk_at dksX3_setup_1 13 rfl rfl)
theorem dX3_setup_39 : decode cX3_setup 39 = .ok (.invokevirtual 378, 3) := dk_182 1 122 (dk_at dksX3_setup_1 16 rfl rfl)
theorem dX3_setup_42 : decode cX3_setup 42 = .ok (.aload_n 0, 1) := dk_42 (dk_at dksX3_setup_1 19 rfl rfl)
theorem dX3_setup_43 : decode cX3_setup 43 = .ok (.getfield 59, 3) := dk_180 0 59 (dk_at dksX3_setup_1 20 rfl rfl)
theorem dX3_setup_46 : decode cX3_setup 46 = .ok (.getfield 281, 3) := dk_180 1 25 (dk_at dksX3_setup_2 0 rfl rfl)
theorem dX3_setup_49 : decode cX3_setup 49 = .ok (.invokevirtual 385, 3) := dk_182 1 129 (dk_at dksX3_setup_2 3 rfl rfl)
theorem dX3_setup_52 : decode cX3_setup 52 = .ok (.ldc_w 417, 3) := dk_19 1 161 (dk_at dksX3_setup_2 6 rfl rfl)
theorem dX3_setup_55 : decode cX3_setup 55 = .ok (.invokevirtual 378, 3) := dk_182 1 122 (dk_at dksX3_setup_2 9 rfl rfl)
theorem dX3_setup_58 : decode cX3_setup 58 = .ok (.aload_n 0, 1) := dk_42 (dk_at dksX3_setup_2 12 rfl rfl)
theorem dX3_setup_59 : decode cX3_setup 59 = .ok (.getfield 9, 3) := dk_180 0 9 (dk_at dksX3_setup_2 13 rfl rfl)
theorem dX3_setup_62 : decode cX3_setup 62 = .ok (.iconst 0, 1) := dk_3 (dk_at dksX3_setup_2 16 rfl rfl)
theorem dX3_setup_63 : decode cX3_setup 63 = .ok (.iaload, 1) := dk_46 (dk_at dksX3_setup_2 17 rfl rfl)
theorem dX3_setup_64 : decode cX3_setup 64 = .ok (.invokevirtual 385, 3) := dk_182 1 129 (dk_at dksX3_setup_2 18 rfl rfl)
theorem dX3_setup_67 : decode cX3_setup 67 = .ok (.ldc_w 419, 3) := dk_19 1 163 (dk_at dksX3_setup_2 21 rfl rfl)
theorem dX3_setup_70 : decode cX3_setup 70 = .ok (.invokevirtual 378, 3) := dk_182 1 122 (dk_at dksX3_setup_3 0 rfl rfl)
theorem dX3_setup_73 : decode cX3_setup 73 = .ok (.aload_n 0, 1) := dk_42 (dk_at dksX3_setup_3 3 rfl rfl)
theorem dX3_setup_74 : decode cX3_setup 74 = .ok (.getfield 9, 3) := dk_180 0 9 (dk_at dksX3_setup_3 4 rfl rfl)
theorem dX3_setup_77 : decode cX3_setup 77 = .ok (.iconst 1, 1) := dk_4 (dk_at dksX3_setup_3 7 rfl rfl)
theorem dX3_setup_78 : decode cX3_setup 78 = .ok (.iaload, 1) := dk_46 (dk_at dksX3_setup_3 8 rfl rfl)
theorem dX3_setup_79 : decode cX3_setup 79 = .ok (.invokevirtual 385, 3) := dk_182 1 129 (dk_at dksX3_setup_3 9 rfl rfl)
theorem dX3_setup_82 : decode cX3_setup 82 = .ok (.astore_n 1, 1) := dk_76 (dk_at dksX3_setup_3 12 rfl rfl)
theorem dX3_setup_83 : decode cX3_setup 83 = .ok (.aload_n 1, 1) := dk_43 (dk_at dksX3_setup_3 13 rfl rfl)
theorem dX3_setup_84 : decode cX3_setup 84 = .ok (.ldc_w 421, 3) := dk_19 1 165 (dk_at dksX3_setup_3 14 rfl rfl)
theorem dX3_setup_87 : decode cX3_setup 87 = .ok (.invokevirtual 378, 3) := dk_182 1 122 (dk_at dksX3_setup_3 17 rfl rfl)
theorem dX3_setup_90 : decode cX3_setup 90 = .ok (.aload_n 0, 1) := dk_42 (dk_at dksX3_setup_3 20 rfl rfl)
theorem dX3_setup_91 : decode cX3_setup 91 = .ok (.getfield 9, 3) := dk_180 0 9 (dk_at dksX3_setup_3 21 rfl rfl)
theorem dX3_setup_94 : decode cX3_setup 94 = .ok (.iconst 2, 1) := dk_5 (dk_at dksX3_setup_4 0 rfl rfl)
theorem dX3_setup_95 : decode cX3_setup 95 = .ok (.iaload, 1) := dk_46 (dk_at dksX3_setup_4 1 rfl rfl)
theorem dX3_setup_96 : decode cX3_setup 96 = .ok (.invokevirtual 385, 3) := dk_182 1 129 (dk_at dksX3_setup_4 2 rfl rfl)
theorem dX3_setup_99 : decode cX3_setup 99 = .ok (.ldc_w 423, 3) := dk_19 1 167 (dk_at dksX3_setup_4 5 rfl rfl)
theorem dX3_setup_102 : decode cX3_setup 102 = .ok (.invokevirtual 378, 3) := dk_182 1 122 (dk_at dksX3_setup_4 8 rfl rfl)
theorem dX3_setup_105 : decode cX3_setup 105 = .ok (.aload_n 0, 1) := dk_42 (dk_at dksX3_setup_4 11 rfl rfl)
theorem dX3_setup_106 : decode cX3_setup 106 = .ok (.getfield 9, 3) := dk_180 0 9 (dk_at dksX3_setup_4 12 rfl rfl)
theorem dX3_setup_109 : decode cX3_setup 109 = .ok (.iconst 3, 1) := dk_6 (dk_at dksX3_setup_4 15 rfl rfl)
theorem dX3_setup_110 : decode cX3_setup 110 = .ok (.iaload, 1) := dk_46 (dk_at dksX3_setup_4 16 rfl rfl)
theorem dX3_setup_111 : decode cX3_setup 111 = .ok (.invokevirtual 385, 3) := dk_182 1 129 (dk_at dksX3_setup_4 17 rfl rfl)
theorem dX3_setup_114 : decode cX3_setup 114 = .ok (.ldc_w 425, 3) := dk_19 1 169 (dk_at dksX3_setup_4 20 rfl rfl)
theorem dX3_setup_117 : decode cX3_setup 117 = .ok (.invokevirtual 378, 3) := dk_182 1 122 (dk_at dksX3_setup_5 0 rfl rfl)
theorem dX3_setup_120 : decode cX3_setup 120 = .ok (.aload_n 0, 1) := dk_42 (dk_at dksX3_setup_5 3 rfl rfl)
theorem dX3_setup_121 : decode cX3_setup 121 = .ok (.getfield 95, 3) := dk_180 0 95 (dk_at dksX3_setup_5 4 rfl rfl)
theorem dX3_setup_124 : decode cX3_setup 124 = .ok (.invokevirtual 385, 3) := dk_182 1 129 (dk_at dksX3_setup_5 7 rfl rfl)
theorem dX3_setup_127 : decode cX3_setup 127 = .ok (.bipush 59, 2) := dk_16 59 (dk_at dksX3_setup_5 10 rfl rfl)
theorem dX3_setup_129 : decode cX3_setup 129 = .ok (.invokevirtual 382, 3) := dk_182 1 126 (dk_at dksX3_setup_5 12 rfl rfl)
theorem dX3_setup_132 : decode cX3_setup 132 = .ok (.pop, 1) := dk_87 (dk_at dksX3_setup_5 15 rfl rfl)
theorem dX3_setup_133 : decode cX3_setup 133 = .ok (.iconst 0, 1) := dk_3 (dk_at dksX3_setup_5 16 rfl rfl)
theorem dX3_setup_134 : decode cX3_setup 134 = .ok (.istore_n 2, 1) := dk_61 (dk_at dksX3_setup_5 17 rfl rfl)
theorem dX3_setup_135 : decode cX3_setup 135 = .ok (.iload_n 2, 1) := dk_28 (dk_at dksX3_setup_5 18 rfl rfl)
theorem dX3_setup_136 : decode cX3_setup 136 = .ok (.aload_n 0, 1) := dk_42 (dk_at dksX3_setup_5 19 rfl rfl)
theorem dX3_setup_137 : decode cX3_setup 137 = .ok (.invokevirtual 81, 3) := dk_182 0 81 (dk_at dksX3_setup_5 20 rfl rfl)
theorem dX3_setup_140 : decode cX3_setup 140 = .ok (.if_icmp .ge 83, 3) := dk_162 0 83 (dk_at dksX3_setup_6 0 rfl rfl)
theorem dX3_setup_143 : decode cX3_setup 143 = .ok (.aload_n 1, 1) := dk_43 (dk_at dksX3_setup_6 3 rfl rfl)
theorem dX3_setup_144 : decode cX3_setup 144 = .ok (.ldc_w 427, 3) := dk_19 1 171 (dk_at dksX3_setup_6 4 rfl rfl)
theorem dX3_setup_147 : decode cX3_setup 147 = .ok (.invokevirtual 378, 3) := dk_182 1 122 (dk_at dksX3_setup_6 7 rfl rfl)
theorem dX3_setup_150 : decode cX3_setup 150 = .ok (.aload_n 0, 1) := dk_42 (dk_at dksX3_setup_6 10 rfl rfl)
theorem dX3_setup_151 : decode cX3_setup 151 = .ok (.iload_n 2, 1) := dk_28 (dk_at dksX3_setup_6 11 rfl rfl)
theorem dX3_setup_152 : decode cX3_setup 152 = .ok (.invokevirtual 199, 3) := dk_182 0 199 (dk_at dksX3_setup_6 12 rfl rfl)
theorem dX3_setup_155 : decode cX3_setup 155 = .ok (.getfield 374, 3) := dk_180 1 118 (dk_at dksX3_setup_6 15 rfl rfl)
theorem dX3_setup_158 : decode cX3_setup 158 = .ok (.invokevirtual 378, 3) := dk_182 1 122 (dk_at dksX3_setup_6 18 rfl rfl)
theorem dX3_setup_161 : decode cX3_setup 161 = .ok (.ldc_w 429, 3) := dk_19 1 173 (dk_at dksX3_setup_6 21 rfl rfl)
theorem dX3_setup_164 : decode cX3_setup 164 = .ok (.invokevirtual 378, 3) := dk_182 1 122 (dk_at dksX3_setup_7 0 rfl rfl)
theorem dX3_setup_167 : decode cX3_setup 167 = .ok (.aload_n 0, 1) := dk_42 (dk_at dksX3_setup_7 3 rfl rfl)
theorem dX3_setup_168 : decode cX3_setup 168 = .ok (.iload_n 2, 1) := dk_28 (dk_at dksX3_setup_7 4 rfl rfl)
theorem dX3_setup_169 : decode cX3_setup 169 = .ok (.invokevirtual 199, 3) := dk_182 0 199 (dk_at dksX3_setup_7 5 rfl rfl)
theorem dX3_setup_172 : decode cX3_setup 172 = .ok (.getfield 253, 3) := dk_180 0 253 (dk_at dksX3_setup_7 8 rfl rfl)
theorem dX3_setup_175 : decode cX3_setup 175 = .ok (.invokevirtual 385, 3) := dk_182 1 129 (dk_at dksX3_setup_7 11 rfl rfl)
theorem dX3_setup_178 : decode cX3_setup 178 = .ok (.ldc_w 431, 3) := dk_19 1 175 (dk_at dksX3_setup_7 14 rfl rfl)
theorem dX3_setup_181 : decode cX3_setup 181 = .ok (.invokevirtual 378, 3) := dk_182 1 122 (dk_at dksX3_setup_7 17 rfl rfl)
theorem dX3_setup_184 : decode cX3_setup 184 = .ok (.aload_n 0, 1) := dk_42 (dk_at dksX3_setup_7 20 rfl rfl)
theorem dX3_setup_185 : decode cX3_setup 185 = .ok (.iload_n 2, 1) := dk_28 (dk_at dksX3_setup_7 21 rfl rfl)
theorem dX3_setup_186 : decode cX3_setup 186 = .ok (.invokevirtual 199, 3) := dk_182 0 199 (dk_at dksX3_setup_8 0 rfl rfl)
theorem dX3_setup_189 : decode cX3_setup 189 = .ok (.getfield 324, 3) := dk_180 1 68 (dk_at dksX3_setup_8 3 rfl rfl)
theorem dX3_setup_192 : decode cX3_setup 192 = .ok (.invokevirtual 385, 3) := dk_182 1 129 (dk_at dksX3_setup_8 6 rfl rfl)
theorem dX3_setup_195 : decode cX3_setup 195 = .ok (.aload_n 0, 1) := dk_42 (dk_at dksX3_setup_8 9 rfl rfl)
theorem dX3_setup_196 : decode cX3_setup 196 = .ok (.getfield 15, 3) := dk_180 0 15 (dk_at dksX3_setup_8 10 rfl rfl)
theorem dX3_setup_199 : decode cX3_setup 199 = .ok (.iload_n 2, 1) := dk_28 (dk_at dksX3_setup_8 13 rfl rfl)
theorem dX3_setup_200 : decode cX3_setup 200 = .ok (.baload, 1) := dk_51 (dk_at dksX3_setup_8 14 rfl rfl)
theorem dX3_setup_201 : decode cX3_setup 201 = .ok (.ifCond .eq 9, 3) := dk_153 0 9 (dk_at dksX3_setup_8 15 rfl rfl)
theorem dX3_setup_204 : decode cX3_setup 204 = .ok (.ldc_w 433, 3) := dk_19 1 177 (dk_at dksX3_setup_8 18 rfl rfl)
theorem dX3_setup_207 : decode cX3_setup 207 = .ok (.goto 6, 3) := dk_167 0 6 (dk_at dksX3_setup_8 21 rfl rfl)
theorem dX3_setup_210 : decode cX3_setup 210 = .ok (.ldc_w 435, 3) := dk_19 1 179 (dk_at dksX3_setup_9 0 rfl rfl)
theorem dX3_setup_213 : decode cX3_setup 213 = .ok (.invokevirtual 378, 3) := dk_182 1 122 (dk_at dksX3_setup_9 3 rfl rfl)
theorem dX3_setup_216 : decode cX3_setup 216 = .ok (.pop, 1) := dk_87 (dk_at dksX3_setup_9 6 rfl rfl)
theorem dX3_setup_217 : decode cX3_setup 217 = .ok (.iinc 2 1, 3) := dk_132 2 1 (dk_at dksX3_setup_9 7 rfl rfl)
theorem dX3_setup_220 : decode cX3_setup 220 = .ok (.goto (-85), 3) := dk_167 255 171 (dk_at dksX3_setup_9 10 rfl rfl)
theorem dX3_setup_223 : decode cX3_setup 223 = .ok (.iconst 0, 1) := dk_3 (dk_at dksX3_setup_9 13 rfl rfl)
theorem dX3_setup_224 : decode cX3_setup 224 = .ok (.istore_n 2, 1) := dk_61 (dk_at dksX3_setup_9 14 rfl rfl)
theorem dX3_setup_225 : decode cX3_setup 225 = .ok (.iload_n 2, 1) := dk_28 (dk_at dksX3_setup_9 15 rfl rfl)
theorem dX3_setup_226 : decode cX3_setup 226 = .ok (.aload_n 0, 1) := dk_42 (dk_at dksX3_setup_9 16 rfl rfl)
theorem dX3_setup_227 : decode cX3_setup 227 = .ok (.getfield 77, 3) := dk_180 0 77 (dk_at dksX3_setup_9 17 rfl rfl)
theorem dX3_setup_230 : decode cX3_setup 230 = .ok (.arraylength, 1) := dk_190 (dk_at dksX3_setup_9 20 rfl rfl)
theorem dX3_setup_231 : decode cX3_setup 231 = .ok (.if_icmp .ge 52, 3) := dk_162 0 52 (dk_at dksX3_setup_9 21 rfl rfl)
theorem dX3_setup_234 : decode cX3_setup 234 = .ok (.aload_n 1, 1) := dk_43 (dk_at dksX3_setup_10 0 rfl rfl)
theorem dX3_setup_235 : decode cX3_setup 235 = .ok (.ldc_w 437, 3) := dk_19 1 181 (dk_at dksX3_setup_10 1 rfl rfl)
theorem dX3_setup_238 : decode cX3_setup 238 = .ok (.invokevirtual 378, 3) := dk_182 1 122 (dk_at dksX3_setup_10 4 rfl rfl)
theorem dX3_setup_241 : decode cX3_setup 241 = .ok (.aload_n 0, 1) := dk_42 (dk_at dksX3_setup_10 7 rfl rfl)
theorem dX3_setup_242 : decode cX3_setup 242 = .ok (.getfield 77, 3) := dk_180 0 77 (dk_at dksX3_setup_10 8 rfl rfl)
theorem dX3_setup_245 : decode cX3_setup 245 = .ok (.iload_n 2, 1) := dk_28 (dk_at dksX3_setup_10 11 rfl rfl)
theorem dX3_setup_246 : decode cX3_setup 246 = .ok (.aaload, 1) := dk_50 (dk_at dksX3_setup_10 12 rfl rfl)
theorem dX3_setup_247 : decode cX3_setup 247 = .ok (.getfield 439, 3) := dk_180 1 183 (dk_at dksX3_setup_10 13 rfl rfl)
theorem dX3_setup_250 : decode cX3_setup 250 = .ok (.invokevirtual 385, 3) := dk_182 1 129 (dk_at dksX3_setup_10 16 rfl rfl)
theorem dX3_setup_253 : decode cX3_setup 253 = .ok (.ldc_w 441, 3) := dk_19 1 185 (dk_at dksX3_setup_10 19 rfl rfl)
theorem dX3_setup_256 : decode cX3_setup 256 = .ok (.invokevirtual 378, 3) := dk_182 1 122 (dk_at dksX3_setup_11 0 rfl rfl)
theorem dX3_setup_259 : decode cX3_setup 259 = .ok (.aload_n 0, 1) := dk_42 (dk_at dksX3_setup_11 3 rfl rfl)
theorem dX3_setup_260 : decode cX3_setup 260 = .ok (.getfield 77, 3) := dk_180 0 77 (dk_at dksX3_setup_11 4 rfl rfl)
theorem dX3_setup_263 : decode cX3_setup 263 = .ok (.iload_n 2, 1) := dk_28 (dk_at dksX3_setup_11 7 rfl rfl)
theorem dX3_setup_264 : decode cX3_setup 264 = .ok (.aaload, 1) := dk_50 (dk_at dksX3_setup_11 8 rfl rfl)
theorem dX3_setup_265 : decode cX3_setup 265 = .ok (.getfield 321, 3) := dk_180 1 65 (dk_at dksX3_setup_11 9 rfl rfl)
theorem dX3_setup_268 : decode cX3_setup 268 = .ok (.invokevirtual 385, 3) := dk_182 1 129 (dk_at dksX3_setup_11 12 rfl rfl)
theorem dX3_setup_271 : decode cX3_setup 271 = .ok (.bipush 59, 2) := dk_16 59 (dk_at dksX3_setup_11 15 rfl rfl)
theorem dX3_setup_273 : decode cX3_setup 273 = .ok (.invokevirtual 382, 3) := dk_182 1 126 (dk_at dksX3_setup_11 17 rfl rfl)
theorem dX3_setup_276 : decode cX3_setup 276 = .ok (.pop, 1) := dk_87 (dk_at dksX3_setup_11 20 rfl rfl)
theorem dX3_setup_277 : decode cX3_setup 277 = .ok (.iinc 2 1, 3) := dk_132 2 1 (dk_at dksX3_setup_11 21 rfl rfl)
theorem dX3_setup_280 : decode cX3_setup 280 = .ok (.goto (-55), 3) := dk_167 255 201 (dk_at dksX3_setup_12 0 rfl rfl)
theorem dX3_setup_283 : decode cX3_setup 283 = .ok (.iconst 0, 1) := dk_3 (dk_at dksX3_setup_12 3 rfl rfl)
theorem dX3_setup_284 : decode cX3_setup 284 = .ok (.istore_n 2, 1) := dk_61 (dk_at dksX3_setup_12 4 rfl rfl)
theorem dX3_setup_285 : decode cX3_setup 285 = .ok (.iload_n 2, 1) := dk_28 (dk_at dksX3_setup_12 5 rfl rfl)
theorem dX3_setup_286 : decode cX3_setup 286 = .ok (.aload_n 0, 1) := dk_42 (dk_at dksX3_setup_12 6 rfl rfl)
theorem dX3_setup_287 : decode cX3_setup 287 = .ok (.getfield 59, 3) := dk_180 0 59 (dk_at dksX3_setup_12 7 rfl rfl)
theorem dX3_setup_290 : decode cX3_setup 290 = .ok (.getfield 171, 3) := dk_180 0 171 (dk_at dksX3_setup_12 10 rfl rfl)
theorem dX3_setup_293 : decode cX3_setup 293 = .ok (.invokevirtual 69, 3) := dk_182 0 69 (dk_at dksX3_setup_12 13 rfl rfl)
theorem dX3_setup_296 : decode cX3_setup 296 = .ok (.if_icmp .ge 93, 3) := dk_162 0 93 (dk_at dksX3_setup_12 16 rfl rfl)
theorem dX3_setup_299 : decode cX3_setup 299 = .ok (.aload_n 0, 1) := dk_42 (dk_at dksX3_setup_12 19 rfl rfl)
theorem dX3_setup_300 : decode cX3_setup 300 = .ok (.getfield 59, 3) := dk_180 0 59 (dk_at dksX3_setup_12 20 rfl rfl)
theorem dX3_setup_303 : decode cX3_setup 303 = .ok (.getfield 171, 3) := dk_180 0 171 (dk_at dksX3_setup_13 0 rfl rfl)
theorem dX3_setup_306 : decode cX3_setup 306 = .ok (.iload_n 2, 1) := dk_28 (dk_at dksX3_setup_13 3 rfl rfl)
theorem dX3_setup_307 : decode cX3_setup 307 = .ok (.invokevirtual 105, 3) := dk_182 0 105 (dk_at dksX3_setup_13 4 rfl rfl)
theorem dX3_setup_310 : decode cX3_setup 310 = .ok (.checkcast 207, 3) := dk_192 0 207 (dk_at dksX3_setup_13 7 rfl rfl)
theorem dX3_setup_313 : decode cX3_setup 313 = .ok (.astore_n 3, 1) := dk_78 (dk_at dksX3_setup_13 10 rfl rfl)
theorem dX3_setup_314 : decode cX3_setup 314 = .ok (.aload_n 1, 1) := dk_43 (dk_at dksX3_setup_13 11 rfl rfl)
theorem dX3_setup_315 : decode cX3_setup 315 = .ok (.ldc_w 443, 3) := dk_19 1 187 (dk_at dksX3_setup_13 12 rfl rfl)
theorem dX3_setup_318 : decode cX3_setup 318 = .ok (.invokevirtual 378, 3) := dk_182 1 122 (dk_at dksX3_setup_13 15 rfl rfl)
theorem dX3_setup_321 : decode cX3_setup 321 = .ok (.aload_n 3, 1) := dk_45 (dk_at dksX3_setup_13 18 rfl rfl)
theorem dX3_setup_322 : decode cX3_setup 322 = .ok (.getfield 445, 3) := dk_180 1 189 (dk_at dksX3_setup_13 19 rfl rfl)
theorem dX3_setup_325 : decode cX3_setup 325 = .ok (.getfield 374, 3) := dk_180 1 118 (dk_at dksX3_setup_14 0 rfl rfl)
theorem dX3_setup_328 : decode cX3_setup 328 = .ok (.invokevirtual 378, 3) := dk_182 1 122 (dk_at dksX3_setup_14 3 rfl rfl)
theorem dX3_setup_331 : decode cX3_setup 331 = .ok (.ldc_w 449, 3) := dk_19 1 193 (dk_at dksX3_setup_14 6 rfl rfl)
theorem dX3_setup_334 : decode cX3_setup 334 = .ok (.invokevirtual 378, 3) := dk_182 1 122 (dk_at dksX3_setup_14 9 rfl rfl)
theorem dX3_setup_337 : decode cX3_setup 337 = .ok (.aload_n 0, 1) := dk_42 (dk_at dksX3_setup_14 12 rfl rfl)
theorem dX3_setup_338 : decode cX3_setup 338 = .ok (.aload_n 3, 1) := dk_45 (dk_at dksX3_setup_14 13 rfl rfl)
theorem dX3_setup_339 : decode cX3_setup 339 = .ok (.getfield 218, 3) := dk_180 0 218 (dk_at dksX3_setup_14 14 rfl rfl)
theorem dX3_setup_342 : decode cX3_setup 342 = .ok (.invokevirtual 199, 3) := dk_182 0 199 (dk_at dksX3_setup_14 17 rfl rfl)
theorem dX3_setup_345 : decode cX3_setup 345 = .ok (.getfield 374, 3) := dk_180 1 118 (dk_at dksX3_setup_14 20 rfl rfl)
theorem dX3_setup_348 : decode cX3_setup 348 = .ok (.invokevirtual 378, 3) := dk_182 1 122 (dk_at dksX3_setup_15 0 rfl rfl)
theorem dX3_setup_351 : decode cX3_setup 351 = .ok (.ldc_w 451, 3) := dk_19 1 195 (dk_at dksX3_setup_15 3 rfl rfl)
theorem dX3_setup_354 : decode cX3_setup 354 = .ok (.invokevirtual 378, 3) := dk_182 1 122 (dk_at dksX3_setup_15 6 rfl rfl)
theorem dX3_setup_357 : decode cX3_setup 357 = .ok (.aload_n 3, 1) := dk_45 (dk_at dksX3_setup_15 9 rfl rfl)
theorem dX3_setup_358 : decode cX3_setup 358 = .ok (.getfield 453, 3) := dk_180 1 197 (dk_at dksX3_setup_15 10 rfl rfl)
theorem dX3_setup_361 : decode cX3_setup 361 = .ok (.invokevirtual 385, 3) := dk_182 1 129 (dk_at dksX3_setup_15 13 rfl rfl)
theorem dX3_setup_364 : decode cX3_setup 364 = .ok (.ldc_w 456, 3) := dk_19 1 200 (dk_at dksX3_setup_15 16 rfl rfl)
theorem dX3_setup_367 : decode cX3_setup 367 = .ok (.invokevirtual 378, 3) := dk_182 1 122 (dk_at dksX3_setup_15 19 rfl rfl)
theorem dX3_setup_370 : decode cX3_setup 370 = .ok (.aload_n 3, 1) := dk_45 (dk_at dksX3_setup_15 22 rfl rfl)
theorem dX3_setup_371 : decode cX3_setup 371 = .ok (.getfield 458, 3) := dk_180 1 202 (dk_at dksX3_setup_16 0 rfl rfl)
theorem dX3_setup_374 : decode cX3_setup 374 = .ok (.invokevirtual 385, 3) := dk_182 1 129 (dk_at dksX3_setup_16 3 rfl rfl)
theorem dX3_setup_377 : decode cX3_setup 377 = .ok (.bipush 59, 2) := dk_16 59 (dk_at dksX3_setup_16 6 rfl rfl)
theorem dX3_setup_379 : decode cX3_setup 379 = .ok (.invokevirtual 382, 3) := dk_182 1 126 (dk_at dksX3_setup_16 8 rfl rfl)
theorem dX3_setup_382 : decode cX3_setup 382 = .ok (.pop, 1) := dk_87 (dk_at dksX3_setup_16 11 rfl rfl)
theorem dX3_setup_383 : decode cX3_setup 383 = .ok (.iinc 2 1, 3) := dk_132 2 1 (dk_at dksX3_setup_16 12 rfl rfl)
theorem dX3_setup_386 : decode cX3_setup 386 = .ok (.goto (-101), 3) := dk_167 255 155 (dk_at dksX3_setup_16 15 rfl rfl)
theorem dX3_setup_389 : decode cX3_setup 389 = .ok (.aload_n 1, 1) := dk_43 (dk_at dksX3_setup_16 18 rfl rfl)
theorem dX3_setup_390 : decode cX3_setup 390 = .ok (.invokevirtual 392, 3) := dk_182 1 136 (dk_at dksX3_setup_16 19 rfl rfl)
theorem dX3_setup_393 : decode cX3_setup 393 = .ok (.areturn, 1) := dk_176 (dk_at dksX3_setup_16 22 rfl rfl)
theorem q149 : (Jvm.Cond.initialized "BusLine$State") ∈ lw_all := lw_g (lw_at lw_m1 25 rfl) rfl
theorem q253 : (Jvm.Cond.fieldLinkNest "BusLine$State" (278 : Nat) "BusLine$Plan" "open" "I" "BusLine") ∈ lw_tbl := lw_at lw_m1 129 rfl
theorem q257 : (Jvm.Cond.fieldLinkNest "BusLine$State" (284 : Nat) "BusLine$Plan" "on" "I" "BusLine") ∈ lw_tbl := lw_at lw_m1 133 rfl
theorem q261 : (Jvm.Cond.fieldLinkNest "BusLine$State" (281 : Nat) "BusLine$Plan" "down" "I" "BusLine") ∈ lw_tbl := lw_at lw_m1 137 rfl
theorem q263 : (Jvm.Cond.fieldLinkNest "BusLine$State" (91 : Nat) "BusLine$Plan" "mode" "I" "BusLine") ∈ lw_tbl := lw_at lw_m1 139 rfl
theorem q266 : (Jvm.Cond.fieldLinkNest "BusLine$State" (96 : Nat) "BusLine$Plan" "numbers" "[I" "BusLine") ∈ lw_tbl := lw_at lw_m1 142 rfl
theorem q269 : (Jvm.Cond.fieldLinkNest "BusLine$State" (103 : Nat) "BusLine$Plan" "stops" "Ljava/util/ArrayList;" "BusLine") ∈ lw_tbl := lw_at lw_m1 145 rfl
theorem q272 : (Jvm.Cond.fieldLinkNest "BusLine$State" (63 : Nat) "BusLine$Plan" "seats" "Ljava/util/ArrayList;" "BusLine") ∈ lw_tbl := lw_at lw_m1 148 rfl
theorem q275 : (Jvm.Cond.fieldLinkNest "BusLine$State" (119 : Nat) "BusLine$Plan" "starts" "Ljava/util/ArrayList;" "BusLine") ∈ lw_tbl := lw_at lw_m1 151 rfl
theorem q278 : (Jvm.Cond.fieldLinkNest "BusLine$State" (171 : Nat) "BusLine$Plan" "flows" "Ljava/util/ArrayList;" "BusLine") ∈ lw_tbl := lw_at lw_m1 154 rfl
theorem q390 : (Jvm.Cond.selects "BusLine$State" ({ cls := "java/lang/Object", name := "getClass", desc := "()Ljava/lang/Class;" } : Jvm.MethodName) ({ cls := "java/lang/Object", name := "getClass", desc := "()Ljava/lang/Class;" } : Jvm.MethodName)) ∈ lw_all := lw_g (lw_at lw_m2 26 rfl) rfl
theorem q710 : (Jvm.Cond.fieldLinkNest "BusLine$State" (374 : Nat) "BusLine$Stop" "name" "Ljava/lang/String;" "BusLine") ∈ lw_tbl := lw_at lw_m3 106 rfl
theorem q715 : (Jvm.Cond.fieldLinkNest "BusLine$State" (253 : Nat) "BusLine$Stop" "drive" "I" "BusLine") ∈ lw_tbl := lw_at lw_m3 111 rfl
theorem q718 : (Jvm.Cond.fieldLinkNest "BusLine$State" (324 : Nat) "BusLine$Stop" "off" "I" "BusLine") ∈ lw_tbl := lw_at lw_m3 114 rfl
theorem q721 : (Jvm.Cond.fieldLinkNest "BusLine$State" (111 : Nat) "BusLine$Stop" "isPoint" "Z" "BusLine") ∈ lw_tbl := lw_at lw_m3 117 rfl
theorem q724 : (Jvm.Cond.fieldLinkNest "BusLine$State" (202 : Nat) "BusLine$Stop" "flows" "Ljava/util/ArrayList;" "BusLine") ∈ lw_tbl := lw_at lw_m3 120 rfl
theorem q782 : (Jvm.Cond.static ({ cls := "BusLine$State", name := "of", desc := "(LBusLine$Plan;)LBusLine$State;" } : Jvm.MethodName)) ∈ lw_all := lw_g (lw_at lw_m3 178 rfl) rfl
theorem q783 : (Jvm.Cond.code ({ cls := "BusLine$State", name := "of", desc := "(LBusLine$Plan;)LBusLine$State;" } : Jvm.MethodName) prog_9_method_2_code (3 : Nat) (Option.some (Jvm.ClassFile.FieldType.object "BusLine$State"))) ∈ lw_all := lw_g (lw_at lw_m3 179 rfl) rfl
theorem q784 : (Jvm.Cond.classLink "BusLine$State" (10 : Nat) "BusLine$State") ∈ lw_all := lw_g (lw_at lw_m3 180 rfl) rfl
theorem q785 : (Jvm.Cond.instantiable "BusLine$State" (25 : Nat)) ∈ lw_all := lw_g (lw_at lw_m3 181 rfl) rfl
theorem q786 : (Jvm.Cond.methodLink "BusLine$State" (88 : Nat) ({ cls := "BusLine$State", name := "<init>", desc := "(LBusLine$Plan;)V" } : Jvm.MethodName)) ∈ lw_all := lw_g (lw_at lw_m3 182 rfl) rfl
theorem q787 : (Jvm.Cond.instanceMethod ({ cls := "BusLine$State", name := "<init>", desc := "(LBusLine$Plan;)V" } : Jvm.MethodName)) ∈ lw_all := lw_g (lw_at lw_m3 183 rfl) rfl
theorem q788 : (Jvm.Cond.code ({ cls := "BusLine$State", name := "<init>", desc := "(LBusLine$Plan;)V" } : Jvm.MethodName) prog_9_method_1_code (3 : Nat) (Option.none : Option Jvm.ClassFile.FieldType)) ∈ lw_all := lw_g (lw_at lw_m3 184 rfl) rfl
theorem q789 : (Jvm.Cond.methodLink "BusLine$State" (3 : Nat) ({ cls := "java/lang/Object", name := "<init>", desc := "()V" } : Jvm.MethodName)) ∈ lw_all := lw_g (lw_at lw_m3 185 rfl) rfl
theorem q790 : (Jvm.Cond.classLink "BusLine$State" (19 : Nat) "BusLine$Riders") ∈ lw_all := lw_g (lw_at lw_m3 186 rfl) rfl
theorem q792 : (Jvm.Cond.classLink "BusLine$State" (25 : Nat) "BusLine$Leavings") ∈ lw_all := lw_g (lw_at lw_m3 188 rfl) rfl
theorem q794 : (Jvm.Cond.classLink "BusLine$State" (31 : Nat) "java/util/PriorityQueue") ∈ lw_all := lw_g (lw_at lw_m3 190 rfl) rfl
theorem q796 : (Jvm.Cond.methodLink "BusLine$State" (33 : Nat) ({ cls := "java/util/PriorityQueue", name := "<init>", desc := "()V" } : Jvm.MethodName)) ∈ lw_all := lw_g (lw_at lw_m3 192 rfl) rfl
theorem q821 : (Jvm.Cond.methodLink "BusLine$State" (69 : Nat) ({ cls := "java/util/ArrayList", name := "size", desc := "()I" } : Jvm.MethodName)) ∈ lw_all := lw_g (lw_at lw_m3 217 rfl) rfl
theorem q822 : (Jvm.Cond.classLink "BusLine$State" (75 : Nat) "BusLine$Bus") ∈ lw_all := lw_g (lw_at lw_m3 218 rfl) rfl
theorem q824 : (Jvm.Cond.methodLink "BusLine$State" (81 : Nat) ({ cls := "BusLine$State", name := "stops", desc := "()I" } : Jvm.MethodName)) ∈ lw_all := lw_g (lw_at lw_m3 220 rfl) rfl
theorem q825 : (Jvm.Cond.instanceMethod ({ cls := "BusLine$State", name := "stops", desc := "()I" } : Jvm.MethodName)) ∈ lw_all := lw_g (lw_at lw_m3 221 rfl) rfl
theorem q826 : (Jvm.Cond.selects "BusLine$State" ({ cls := "BusLine$State", name := "stops", desc := "()I" } : Jvm.MethodName) ({ cls := "BusLine$State", name := "stops", desc := "()I" } : Jvm.MethodName)) ∈ lw_all := lw_g (lw_at lw_m3 222 rfl) rfl
theorem q827 : (Jvm.Cond.code ({ cls := "BusLine$State", name := "stops", desc := "()I" } : Jvm.MethodName) prog_9_method_4_code (1 : Nat) (Option.some Jvm.ClassFile.FieldType.int)) ∈ lw_all := lw_g (lw_at lw_m3 223 rfl) rfl
theorem q829 : (Jvm.Cond.methodLink "BusLine$State" (84 : Nat) ({ cls := "BusLine$Riders", name := "<init>", desc := "(I)V" } : Jvm.MethodName)) ∈ lw_all := lw_g (lw_at lw_m3 225 rfl) rfl
theorem q834 : (Jvm.Cond.fieldLinkNest "BusLine$State" (233 : Nat) "BusLine$Riders" "to" "[I" "BusLine") ∈ lw_tbl := lw_at lw_m3 230 rfl
theorem q837 : (Jvm.Cond.fieldLinkNest "BusLine$State" (184 : Nat) "BusLine$Riders" "since" "[I" "BusLine") ∈ lw_tbl := lw_at lw_m3 233 rfl
theorem q840 : (Jvm.Cond.fieldLinkNest "BusLine$State" (187 : Nat) "BusLine$Riders" "flow" "[I" "BusLine") ∈ lw_tbl := lw_at lw_m3 236 rfl
theorem q844 : (Jvm.Cond.fieldLinkNest "BusLine$State" (181 : Nat) "BusLine$Riders" "many" "I" "BusLine") ∈ lw_tbl := lw_at lw_m4 0 rfl
theorem q856 : (Jvm.Cond.methodLinkNest "BusLine$State" (87 : Nat) ({ cls := "BusLine$Leavings", name := "<init>", desc := "()V" } : Jvm.MethodName) "BusLine") ∈ lw_tbl := lw_at lw_m4 12 rfl
theorem q871 : (Jvm.Cond.fieldLinkNest "BusLine$State" (327 : Nat) "BusLine$Leavings" "last" "I" "BusLine") ∈ lw_tbl := lw_at lw_m4 27 rfl
theorem q886 : (Jvm.Cond.fieldLink "BusLine$State" (59 : Nat) "BusLine$State" "plan" "LBusLine$Plan;") ∈ lw_all := lw_g (lw_at lw_m4 42 rfl) rfl
theorem q888 : (Jvm.Cond.fieldLink "BusLine$State" (129 : Nat) "BusLine$State" "time" "I") ∈ lw_all := lw_g (lw_at lw_m4 44 rfl) rfl
theorem q890 : (Jvm.Cond.fieldLink "BusLine$State" (95 : Nat) "BusLine$State" "mode" "I") ∈ lw_all := lw_g (lw_at lw_m4 46 rfl) rfl
theorem q892 : (Jvm.Cond.fieldLink "BusLine$State" (132 : Nat) "BusLine$State" "bunches" "I") ∈ lw_all := lw_g (lw_at lw_m4 48 rfl) rfl
theorem q894 : (Jvm.Cond.fieldLink "BusLine$State" (135 : Nat) "BusLine$State" "splits" "I") ∈ lw_all := lw_g (lw_at lw_m4 50 rfl) rfl
theorem q896 : (Jvm.Cond.fieldLink "BusLine$State" (138 : Nat) "BusLine$State" "holds" "I") ∈ lw_all := lw_g (lw_at lw_m4 52 rfl) rfl
theorem q898 : (Jvm.Cond.fieldLink "BusLine$State" (141 : Nat) "BusLine$State" "heldFor" "I") ∈ lw_all := lw_g (lw_at lw_m4 54 rfl) rfl
theorem q900 : (Jvm.Cond.fieldLink "BusLine$State" (144 : Nat) "BusLine$State" "leftBehind" "I") ∈ lw_all := lw_g (lw_at lw_m4 56 rfl) rfl
theorem q902 : (Jvm.Cond.fieldLink "BusLine$State" (147 : Nat) "BusLine$State" "skips" "I") ∈ lw_all := lw_g (lw_at lw_m4 58 rfl) rfl
theorem q904 : (Jvm.Cond.fieldLink "BusLine$State" (150 : Nat) "BusLine$State" "logged" "I") ∈ lw_all := lw_g (lw_at lw_m4 60 rfl) rfl
theorem q906 : (Jvm.Cond.fieldLink "BusLine$State" (153 : Nat) "BusLine$State" "waited" "J") ∈ lw_all := lw_g (lw_at lw_m4 62 rfl) rfl
theorem q908 : (Jvm.Cond.fieldLink "BusLine$State" (157 : Nat) "BusLine$State" "ridden" "J") ∈ lw_all := lw_g (lw_at lw_m4 64 rfl) rfl
theorem q910 : (Jvm.Cond.fieldLink "BusLine$State" (9 : Nat) "BusLine$State" "numbers" "[I") ∈ lw_all := lw_g (lw_at lw_m4 66 rfl) rfl
theorem q912 : (Jvm.Cond.fieldLink "BusLine$State" (15 : Nat) "BusLine$State" "isPoint" "[Z") ∈ lw_all := lw_g (lw_at lw_m4 68 rfl) rfl
theorem q914 : (Jvm.Cond.fieldLink "BusLine$State" (21 : Nat) "BusLine$State" "rows" "[LBusLine$Riders;") ∈ lw_all := lw_g (lw_at lw_m4 70 rfl) rfl
theorem q916 : (Jvm.Cond.fieldLink "BusLine$State" (27 : Nat) "BusLine$State" "leavings" "[LBusLine$Leavings;") ∈ lw_all := lw_g (lw_at lw_m4 72 rfl) rfl
theorem q918 : (Jvm.Cond.fieldLink "BusLine$State" (77 : Nat) "BusLine$State" "buses" "[LBusLine$Bus;") ∈ lw_all := lw_g (lw_at lw_m4 74 rfl) rfl
theorem q920 : (Jvm.Cond.fieldLink "BusLine$State" (34 : Nat) "BusLine$State" "queue" "Ljava/util/PriorityQueue;") ∈ lw_all := lw_g (lw_at lw_m4 76 rfl) rfl
theorem q921 : (Jvm.Cond.fieldLink "BusLine$State" (38 : Nat) "BusLine$State" "come" "[I") ∈ lw_all := lw_g (lw_at lw_m4 77 rfl) rfl
theorem q923 : (Jvm.Cond.fieldLink "BusLine$State" (41 : Nat) "BusLine$State" "away" "[I") ∈ lw_all := lw_g (lw_at lw_m4 79 rfl) rfl
theorem q925 : (Jvm.Cond.fieldLink "BusLine$State" (44 : Nat) "BusLine$State" "gone" "[I") ∈ lw_all := lw_g (lw_at lw_m4 81 rfl) rfl
theorem q927 : (Jvm.Cond.fieldLink "BusLine$State" (47 : Nat) "BusLine$State" "up" "[I") ∈ lw_all := lw_g (lw_at lw_m4 83 rfl) rfl
theorem q929 : (Jvm.Cond.fieldLink "BusLine$State" (50 : Nat) "BusLine$State" "out" "[I") ∈ lw_all := lw_g (lw_at lw_m4 85 rfl) rfl
theorem q931 : (Jvm.Cond.fieldLink "BusLine$State" (53 : Nat) "BusLine$State" "next" "[I") ∈ lw_all := lw_g (lw_at lw_m4 87 rfl) rfl
theorem q932 : (Jvm.Cond.fieldLink "BusLine$State" (56 : Nat) "BusLine$State" "log" "[I") ∈ lw_all := lw_g (lw_at lw_m4 88 rfl) rfl
theorem q934 : (Jvm.Cond.laysFinal "BusLine$State" "BusLine$State" "plan" "LBusLine$Plan;") ∈ lw_all := lw_g (lw_at lw_m4 90 rfl) rfl
theorem q935 : (Jvm.Cond.soleField "BusLine$State" "plan") ∈ lw_all := lw_g (lw_at lw_m4 91 rfl) rfl
theorem q936 : (Jvm.Cond.lays "BusLine$State" "BusLine$State" "time" "I") ∈ lw_all := lw_g (lw_at lw_m4 92 rfl) rfl
theorem q937 : (Jvm.Cond.soleField "BusLine$State" "time") ∈ lw_all := lw_g (lw_at lw_m4 93 rfl) rfl
theorem q938 : (Jvm.Cond.lays "BusLine$State" "BusLine$State" "mode" "I") ∈ lw_all := lw_g (lw_at lw_m4 94 rfl) rfl
theorem q939 : (Jvm.Cond.soleField "BusLine$State" "mode") ∈ lw_all := lw_g (lw_at lw_m4 95 rfl) rfl
theorem q940 : (Jvm.Cond.lays "BusLine$State" "BusLine$State" "bunches" "I") ∈ lw_all := lw_g (lw_at lw_m4 96 rfl) rfl
theorem q941 : (Jvm.Cond.soleField "BusLine$State" "bunches") ∈ lw_all := lw_g (lw_at lw_m4 97 rfl) rfl
theorem q942 : (Jvm.Cond.lays "BusLine$State" "BusLine$State" "splits" "I") ∈ lw_all := lw_g (lw_at lw_m4 98 rfl) rfl
theorem q943 : (Jvm.Cond.soleField "BusLine$State" "splits") ∈ lw_all := lw_g (lw_at lw_m4 99 rfl) rfl
theorem q944 : (Jvm.Cond.lays "BusLine$State" "BusLine$State" "holds" "I") ∈ lw_all := lw_g (lw_at lw_m4 100 rfl) rfl
theorem q945 : (Jvm.Cond.soleField "BusLine$State" "holds") ∈ lw_all := lw_g (lw_at lw_m4 101 rfl) rfl
theorem q946 : (Jvm.Cond.lays "BusLine$State" "BusLine$State" "heldFor" "I") ∈ lw_all := lw_g (lw_at lw_m4 102 rfl) rfl
theorem q947 : (Jvm.Cond.soleField "BusLine$State" "heldFor") ∈ lw_all := lw_g (lw_at lw_m4 103 rfl) rfl
theorem q948 : (Jvm.Cond.lays "BusLine$State" "BusLine$State" "leftBehind" "I") ∈ lw_all := lw_g (lw_at lw_m4 104 rfl) rfl
theorem q949 : (Jvm.Cond.soleField "BusLine$State" "leftBehind") ∈ lw_all := lw_g (lw_at lw_m4 105 rfl) rfl
theorem q950 : (Jvm.Cond.lays "BusLine$State" "BusLine$State" "skips" "I") ∈ lw_all := lw_g (lw_at lw_m4 106 rfl) rfl
theorem q951 : (Jvm.Cond.soleField "BusLine$State" "skips") ∈ lw_all := lw_g (lw_at lw_m4 107 rfl) rfl
theorem q952 : (Jvm.Cond.lays "BusLine$State" "BusLine$State" "logged" "I") ∈ lw_all := lw_g (lw_at lw_m4 108 rfl) rfl
theorem q953 : (Jvm.Cond.soleField "BusLine$State" "logged") ∈ lw_all := lw_g (lw_at lw_m4 109 rfl) rfl
theorem q954 : (Jvm.Cond.lays "BusLine$State" "BusLine$State" "waited" "J") ∈ lw_all := lw_g (lw_at lw_m4 110 rfl) rfl
theorem q955 : (Jvm.Cond.soleField "BusLine$State" "waited") ∈ lw_all := lw_g (lw_at lw_m4 111 rfl) rfl
theorem q956 : (Jvm.Cond.lays "BusLine$State" "BusLine$State" "ridden" "J") ∈ lw_all := lw_g (lw_at lw_m4 112 rfl) rfl
theorem q957 : (Jvm.Cond.soleField "BusLine$State" "ridden") ∈ lw_all := lw_g (lw_at lw_m4 113 rfl) rfl
theorem q958 : (Jvm.Cond.laysFinal "BusLine$State" "BusLine$State" "numbers" "[I") ∈ lw_all := lw_g (lw_at lw_m4 114 rfl) rfl
theorem q959 : (Jvm.Cond.soleField "BusLine$State" "numbers") ∈ lw_all := lw_g (lw_at lw_m4 115 rfl) rfl
theorem q960 : (Jvm.Cond.laysFinal "BusLine$State" "BusLine$State" "isPoint" "[Z") ∈ lw_all := lw_g (lw_at lw_m4 116 rfl) rfl
theorem q961 : (Jvm.Cond.soleField "BusLine$State" "isPoint") ∈ lw_all := lw_g (lw_at lw_m4 117 rfl) rfl
theorem q962 : (Jvm.Cond.laysFinal "BusLine$State" "BusLine$State" "rows" "[LBusLine$Riders;") ∈ lw_all := lw_g (lw_at lw_m4 118 rfl) rfl
theorem q963 : (Jvm.Cond.soleField "BusLine$State" "rows") ∈ lw_all := lw_g (lw_at lw_m4 119 rfl) rfl
theorem q964 : (Jvm.Cond.laysFinal "BusLine$State" "BusLine$State" "leavings" "[LBusLine$Leavings;") ∈ lw_all := lw_g (lw_at lw_m4 120 rfl) rfl
theorem q965 : (Jvm.Cond.soleField "BusLine$State" "leavings") ∈ lw_all := lw_g (lw_at lw_m4 121 rfl) rfl
theorem q966 : (Jvm.Cond.laysFinal "BusLine$State" "BusLine$State" "buses" "[LBusLine$Bus;") ∈ lw_all := lw_g (lw_at lw_m4 122 rfl) rfl
theorem q967 : (Jvm.Cond.soleField "BusLine$State" "buses") ∈ lw_all := lw_g (lw_at lw_m4 123 rfl) rfl
theorem q968 : (Jvm.Cond.laysFinal "BusLine$State" "BusLine$State" "queue" "Ljava/util/PriorityQueue;") ∈ lw_all := lw_g (lw_at lw_m4 124 rfl) rfl
theorem q969 : (Jvm.Cond.soleField "BusLine$State" "queue") ∈ lw_all := lw_g (lw_at lw_m4 125 rfl) rfl
theorem q970 : (Jvm.Cond.laysFinal "BusLine$State" "BusLine$State" "come" "[I") ∈ lw_all := lw_g (lw_at lw_m4 126 rfl) rfl
theorem q971 : (Jvm.Cond.soleField "BusLine$State" "come") ∈ lw_all := lw_g (lw_at lw_m4 127 rfl) rfl
theorem q972 : (Jvm.Cond.laysFinal "BusLine$State" "BusLine$State" "away" "[I") ∈ lw_all := lw_g (lw_at lw_m4 128 rfl) rfl
theorem q973 : (Jvm.Cond.soleField "BusLine$State" "away") ∈ lw_all := lw_g (lw_at lw_m4 129 rfl) rfl
theorem q974 : (Jvm.Cond.laysFinal "BusLine$State" "BusLine$State" "gone" "[I") ∈ lw_all := lw_g (lw_at lw_m4 130 rfl) rfl
theorem q975 : (Jvm.Cond.soleField "BusLine$State" "gone") ∈ lw_all := lw_g (lw_at lw_m4 131 rfl) rfl
theorem q976 : (Jvm.Cond.laysFinal "BusLine$State" "BusLine$State" "up" "[I") ∈ lw_all := lw_g (lw_at lw_m4 132 rfl) rfl
theorem q977 : (Jvm.Cond.soleField "BusLine$State" "up") ∈ lw_all := lw_g (lw_at lw_m4 133 rfl) rfl
theorem q978 : (Jvm.Cond.laysFinal "BusLine$State" "BusLine$State" "out" "[I") ∈ lw_all := lw_g (lw_at lw_m4 134 rfl) rfl
theorem q979 : (Jvm.Cond.soleField "BusLine$State" "out") ∈ lw_all := lw_g (lw_at lw_m4 135 rfl) rfl
theorem q980 : (Jvm.Cond.laysFinal "BusLine$State" "BusLine$State" "next" "[I") ∈ lw_all := lw_g (lw_at lw_m4 136 rfl) rfl
theorem q981 : (Jvm.Cond.soleField "BusLine$State" "next") ∈ lw_all := lw_g (lw_at lw_m4 137 rfl) rfl
theorem q982 : (Jvm.Cond.laysFinal "BusLine$State" "BusLine$State" "log" "[I") ∈ lw_all := lw_g (lw_at lw_m4 138 rfl) rfl
theorem q983 : (Jvm.Cond.soleField "BusLine$State" "log") ∈ lw_all := lw_g (lw_at lw_m4 139 rfl) rfl
theorem q984 : (Jvm.Cond.superclass "BusLine$State" "java/lang/Object") ∈ lw_all := lw_g (lw_at lw_m4 140 rfl) rfl
theorem q985 : (Jvm.Cond.methodLink "BusLine$State" (97 : Nat) ({ cls := "java/lang/System", name := "arraycopy", desc := "(Ljava/lang/Object;ILjava/lang/Object;II)V" } : Jvm.MethodName)) ∈ lw_all := lw_g (lw_at lw_m4 141 rfl) rfl
theorem q986 : (Jvm.Cond.methodLink "BusLine$State" (105 : Nat) ({ cls := "java/util/ArrayList", name := "get", desc := "(I)Ljava/lang/Object;" } : Jvm.MethodName)) ∈ lw_all := lw_g (lw_at lw_m4 142 rfl) rfl
theorem q1000 : (Jvm.Cond.classLink "BusLine$State" (109 : Nat) "BusLine$Stop") ∈ lw_all := lw_g (lw_at lw_m4 156 rfl) rfl
theorem q1002 : (Jvm.Cond.classLink "BusLine$State" (114 : Nat) "java/lang/Integer") ∈ lw_all := lw_g (lw_at lw_m4 158 rfl) rfl
theorem q1003 : (Jvm.Cond.methodLink "BusLine$State" (116 : Nat) ({ cls := "java/lang/Integer", name := "intValue", desc := "()I" } : Jvm.MethodName)) ∈ lw_all := lw_g (lw_at lw_m4 159 rfl) rfl
theorem q1007 : (Jvm.Cond.methodLink "BusLine$State" (122 : Nat) ({ cls := "BusLine$Bus", name := "<init>", desc := "(III)V" } : Jvm.MethodName)) ∈ lw_all := lw_g (lw_at lw_m4 163 rfl) rfl
theorem q1014 : (Jvm.Cond.fieldLinkNest "BusLine$State" (175 : Nat) "BusLine$Bus" "number" "I" "BusLine") ∈ lw_tbl := lw_at lw_m4 170 rfl
theorem q1017 : (Jvm.Cond.fieldLinkNest "BusLine$State" (439 : Nat) "BusLine$Bus" "seats" "I" "BusLine") ∈ lw_tbl := lw_at lw_m4 173 rfl
theorem q1019 : (Jvm.Cond.fieldLinkNest "BusLine$State" (321 : Nat) "BusLine$Bus" "start" "I" "BusLine") ∈ lw_tbl := lw_at lw_m4 175 rfl
theorem q1022 : (Jvm.Cond.fieldLinkNest "BusLine$State" (250 : Nat) "BusLine$Bus" "state" "I" "BusLine") ∈ lw_tbl := lw_at lw_m4 178 rfl
theorem q1025 : (Jvm.Cond.fieldLinkNest "BusLine$State" (178 : Nat) "BusLine$Bus" "stop" "I" "BusLine") ∈ lw_tbl := lw_at lw_m4 181 rfl
theorem q1028 : (Jvm.Cond.fieldLinkNest "BusLine$State" (174 : Nat) "BusLine$Bus" "time" "I" "BusLine") ∈ lw_tbl := lw_at lw_m4 184 rfl
theorem q1031 : (Jvm.Cond.fieldLinkNest "BusLine$State" (258 : Nat) "BusLine$Bus" "round" "I" "BusLine") ∈ lw_tbl := lw_at lw_m4 187 rfl
theorem q1034 : (Jvm.Cond.fieldLinkNest "BusLine$State" (247 : Nat) "BusLine$Bus" "boarded" "I" "BusLine") ∈ lw_tbl := lw_at lw_m4 190 rfl
theorem q1037 : (Jvm.Cond.fieldLinkNest "BusLine$State" (297 : Nat) "BusLine$Bus" "why" "I" "BusLine") ∈ lw_tbl := lw_at lw_m4 193 rfl
theorem q1040 : (Jvm.Cond.fieldLinkNest "BusLine$State" (294 : Nat) "BusLine$Bus" "held" "I" "BusLine") ∈ lw_tbl := lw_at lw_m4 196 rfl
theorem q1043 : (Jvm.Cond.fieldLinkNest "BusLine$State" (309 : Nat) "BusLine$Bus" "leftTime" "I" "BusLine") ∈ lw_tbl := lw_at lw_m4 199 rfl
theorem q1046 : (Jvm.Cond.fieldLinkNest "BusLine$State" (315 : Nat) "BusLine$Bus" "leftDue" "I" "BusLine") ∈ lw_tbl := lw_at lw_m4 202 rfl
theorem q1049 : (Jvm.Cond.fieldLinkNest "BusLine$State" (318 : Nat) "BusLine$Bus" "isBunched" "Z" "BusLine") ∈ lw_tbl := lw_at lw_m4 205 rfl
theorem q1052 : (Jvm.Cond.fieldLinkNest "BusLine$State" (261 : Nat) "BusLine$Bus" "skips" "Z" "BusLine") ∈ lw_tbl := lw_at lw_m4 208 rfl
theorem q1055 : (Jvm.Cond.fieldLinkNest "BusLine$State" (229 : Nat) "BusLine$Bus" "riders" "LBusLine$Riders;" "BusLine") ∈ lw_tbl := lw_at lw_m4 211 rfl
theorem q1088 : (Jvm.Cond.methodLink "BusLine$State" (125 : Nat) ({ cls := "java/util/PriorityQueue", name := "add", desc := "(Ljava/lang/Object;)Z" } : Jvm.MethodName)) ∈ lw_all := lw_g (lw_at lw_m5 4 rfl) rfl
theorem q1611 : (Jvm.Cond.selects "BusLine$State" ({ cls := "java/lang/Object", name := "equals", desc := "(Ljava/lang/Object;)Z" } : Jvm.MethodName) ({ cls := "java/lang/Object", name := "equals", desc := "(Ljava/lang/Object;)Z" } : Jvm.MethodName)) ∈ lw_all := lw_g (lw_at lw_m7 47 rfl) rfl
theorem q1806 : (Jvm.Cond.fieldLinkNest "BusLine$State" (209 : Nat) "BusLine$Flow" "number" "I" "BusLine") ∈ lw_tbl := lw_at lw_m8 2 rfl
theorem q1808 : (Jvm.Cond.fieldLinkNest "BusLine$State" (218 : Nat) "BusLine$Flow" "to" "I" "BusLine") ∈ lw_tbl := lw_at lw_m8 4 rfl
theorem q1812 : (Jvm.Cond.fieldLinkNest "BusLine$State" (453 : Nat) "BusLine$Flow" "every" "I" "BusLine") ∈ lw_tbl := lw_at lw_m8 8 rfl
theorem q1815 : (Jvm.Cond.fieldLinkNest "BusLine$State" (458 : Nat) "BusLine$Flow" "first" "I" "BusLine") ∈ lw_tbl := lw_at lw_m8 11 rfl
theorem q1818 : (Jvm.Cond.fieldLinkNest "BusLine$State" (445 : Nat) "BusLine$Flow" "from" "LBusLine$Stop;" "BusLine") ∈ lw_tbl := lw_at lw_m8 14 rfl
theorem q1894 : (Jvm.Cond.instanceMethod ({ cls := "BusLine$State", name := "copy", desc := "()LBusLine$State;" } : Jvm.MethodName)) ∈ lw_all := lw_g (lw_at lw_m8 90 rfl) rfl
theorem q1895 : (Jvm.Cond.selects "BusLine$State" ({ cls := "BusLine$State", name := "copy", desc := "()LBusLine$State;" } : Jvm.MethodName) ({ cls := "BusLine$State", name := "copy", desc := "()LBusLine$State;" } : Jvm.MethodName)) ∈ lw_all := lw_g (lw_at lw_m8 91 rfl) rfl
theorem q1896 : (Jvm.Cond.code ({ cls := "BusLine$State", name := "copy", desc := "()LBusLine$State;" } : Jvm.MethodName) prog_9_method_3_code (3 : Nat) (Option.some (Jvm.ClassFile.FieldType.object "BusLine$State"))) ∈ lw_all := lw_g (lw_at lw_m8 92 rfl) rfl
theorem q1897 : (Jvm.Cond.methodLink "BusLine$State" (160 : Nat) ({ cls := "BusLine$Riders", name := "copyTo", desc := "(LBusLine$Riders;)V" } : Jvm.MethodName)) ∈ lw_all := lw_g (lw_at lw_m8 93 rfl) rfl
theorem q1902 : (Jvm.Cond.methodLink "BusLine$State" (164 : Nat) ({ cls := "BusLine$Leavings", name := "copyTo", desc := "(LBusLine$Leavings;)V" } : Jvm.MethodName)) ∈ lw_all := lw_g (lw_at lw_m8 98 rfl) rfl
theorem q1907 : (Jvm.Cond.methodLink "BusLine$State" (167 : Nat) ({ cls := "BusLine$Bus", name := "copy", desc := "()LBusLine$Bus;" } : Jvm.MethodName)) ∈ lw_all := lw_g (lw_at lw_m8 103 rfl) rfl
theorem q1953 : (Jvm.Cond.instanceMethod ({ cls := "BusLine$State", name := "delay", desc := "(LBusLine$Bus;I)I" } : Jvm.MethodName)) ∈ lw_all := lw_g (lw_at lw_m8 149 rfl) rfl
theorem q1954 : (Jvm.Cond.selects "BusLine$State" ({ cls := "BusLine$State", name := "delay", desc := "(LBusLine$Bus;I)I" } : Jvm.MethodName) ({ cls := "BusLine$State", name := "delay", desc := "(LBusLine$Bus;I)I" } : Jvm.MethodName)) ∈ lw_all := lw_g (lw_at lw_m8 150 rfl) rfl
theorem q1955 : (Jvm.Cond.code ({ cls := "BusLine$State", name := "delay", desc := "(LBusLine$Bus;I)I" } : Jvm.MethodName) prog_9_method_26_code (3 : Nat) (Option.some Jvm.ClassFile.FieldType.int)) ∈ lw_all := lw_g (lw_at lw_m8 151 rfl) rfl
theorem q1956 : (Jvm.Cond.methodLink "BusLine$State" (365 : Nat) ({ cls := "java/util/PriorityQueue", name := "remove", desc := "(Ljava/lang/Object;)Z" } : Jvm.MethodName)) ∈ lw_all := lw_g (lw_at lw_m8 152 rfl) rfl
theorem q1984 : (Jvm.Cond.instanceMethod ({ cls := "BusLine$State", name := "group", desc := "(III)I" } : Jvm.MethodName)) ∈ lw_all := lw_g (lw_at lw_m8 180 rfl) rfl
theorem q1985 : (Jvm.Cond.selects "BusLine$State" ({ cls := "BusLine$State", name := "group", desc := "(III)I" } : Jvm.MethodName) ({ cls := "BusLine$State", name := "group", desc := "(III)I" } : Jvm.MethodName)) ∈ lw_all := lw_g (lw_at lw_m8 181 rfl) rfl
theorem q1986 : (Jvm.Cond.code ({ cls := "BusLine$State", name := "group", desc := "(III)I" } : Jvm.MethodName) prog_9_method_12_code (6 : Nat) (Option.some Jvm.ClassFile.FieldType.int)) ∈ lw_all := lw_g (lw_at lw_m8 182 rfl) rfl
theorem q1987 : (Jvm.Cond.methodLink "BusLine$State" (225 : Nat) ({ cls := "BusLine$State", name := "bring", desc := "(II)V" } : Jvm.MethodName)) ∈ lw_all := lw_g (lw_at lw_m8 183 rfl) rfl
theorem q1988 : (Jvm.Cond.instanceMethod ({ cls := "BusLine$State", name := "bring", desc := "(II)V" } : Jvm.MethodName)) ∈ lw_all := lw_g (lw_at lw_m8 184 rfl) rfl
theorem q1989 : (Jvm.Cond.selects "BusLine$State" ({ cls := "BusLine$State", name := "bring", desc := "(II)V" } : Jvm.MethodName) ({ cls := "BusLine$State", name := "bring", desc := "(II)V" } : Jvm.MethodName)) ∈ lw_all := lw_g (lw_at lw_m8 185 rfl) rfl
theorem q1990 : (Jvm.Cond.code ({ cls := "BusLine$State", name := "bring", desc := "(II)V" } : Jvm.MethodName) prog_9_method_11_code (6 : Nat) (Option.none : Option Jvm.ClassFile.FieldType)) ∈ lw_all := lw_g (lw_at lw_m8 186 rfl) rfl
theorem q1991 : (Jvm.Cond.methodLink "BusLine$State" (214 : Nat) ({ cls := "BusLine$State", name := "firstOf", desc := "(II)LBusLine$Flow;" } : Jvm.MethodName)) ∈ lw_all := lw_g (lw_at lw_m8 187 rfl) rfl
theorem q1992 : (Jvm.Cond.privateMethod ({ cls := "BusLine$State", name := "firstOf", desc := "(II)LBusLine$Flow;" } : Jvm.MethodName)) ∈ lw_tbl := lw_at lw_m8 188 rfl
theorem q1993 : (Jvm.Cond.instanceMethod ({ cls := "BusLine$State", name := "firstOf", desc := "(II)LBusLine$Flow;" } : Jvm.MethodName)) ∈ lw_all := lw_g (lw_at lw_m8 189 rfl) rfl
theorem q1994 : (Jvm.Cond.code ({ cls := "BusLine$State", name := "firstOf", desc := "(II)LBusLine$Flow;" } : Jvm.MethodName) prog_9_method_10_code (8 : Nat) (Option.some (Jvm.ClassFile.FieldType.object "BusLine$Flow"))) ∈ lw_all := lw_g (lw_at lw_m8 190 rfl) rfl
theorem q1995 : (Jvm.Cond.methodLink "BusLine$State" (199 : Nat) ({ cls := "BusLine$State", name := "stop", desc := "(I)LBusLine$Stop;" } : Jvm.MethodName)) ∈ lw_all := lw_g (lw_at lw_m8 191 rfl) rfl
theorem q1996 : (Jvm.Cond.instanceMethod ({ cls := "BusLine$State", name := "stop", desc := "(I)LBusLine$Stop;" } : Jvm.MethodName)) ∈ lw_all := lw_g (lw_at lw_m8 192 rfl) rfl
theorem q1997 : (Jvm.Cond.selects "BusLine$State" ({ cls := "BusLine$State", name := "stop", desc := "(I)LBusLine$Stop;" } : Jvm.MethodName) ({ cls := "BusLine$State", name := "stop", desc := "(I)LBusLine$Stop;" } : Jvm.MethodName)) ∈ lw_all := lw_g (lw_at lw_m8 193 rfl) rfl
theorem q1998 : (Jvm.Cond.code ({ cls := "BusLine$State", name := "stop", desc := "(I)LBusLine$Stop;" } : Jvm.MethodName) prog_9_method_5_code (2 : Nat) (Option.some (Jvm.ClassFile.FieldType.object "BusLine$Stop"))) ∈ lw_all := lw_g (lw_at lw_m8 194 rfl) rfl
theorem q1999 : (Jvm.Cond.interfaceEntry "BusLine$State" (203 : Nat)) ∈ lw_tbl := lw_at lw_m8 195 rfl
theorem q2000 : (Jvm.Cond.methodLink "BusLine$State" (203 : Nat) ({ cls := "java/util/List", name := "size", desc := "()I" } : Jvm.MethodName)) ∈ lw_all := lw_g (lw_at lw_m8 196 rfl) rfl
theorem q2021 : (Jvm.Cond.interfaceEntry "BusLine$State" (206 : Nat)) ∈ lw_tbl := lw_at lw_m8 217 rfl
theorem q2022 : (Jvm.Cond.methodLink "BusLine$State" (206 : Nat) ({ cls := "java/util/List", name := "get", desc := "(I)Ljava/lang/Object;" } : Jvm.MethodName)) ∈ lw_all := lw_g (lw_at lw_m8 218 rfl) rfl
theorem q2044 : (Jvm.Cond.classLink "BusLine$State" (207 : Nat) "BusLine$Flow") ∈ lw_all := lw_g (lw_at lw_m9 0 rfl) rfl
theorem q2045 : (Jvm.Cond.methodLink "BusLine$State" (210 : Nat) ({ cls := "BusLine$Flow", name := "at", desc := "(I)I" } : Jvm.MethodName)) ∈ lw_all := lw_g (lw_at lw_m9 1 rfl) rfl
theorem q2049 : (Jvm.Cond.methodLink "BusLine$State" (221 : Nat) ({ cls := "BusLine$State", name := "comes", desc := "(LBusLine$Riders;III)Z" } : Jvm.MethodName)) ∈ lw_all := lw_g (lw_at lw_m9 5 rfl) rfl
theorem q2050 : (Jvm.Cond.privateMethod ({ cls := "BusLine$State", name := "comes", desc := "(LBusLine$Riders;III)Z" } : Jvm.MethodName)) ∈ lw_tbl := lw_at lw_m9 6 rfl
theorem q2051 : (Jvm.Cond.instanceMethod ({ cls := "BusLine$State", name := "comes", desc := "(LBusLine$Riders;III)Z" } : Jvm.MethodName)) ∈ lw_all := lw_g (lw_at lw_m9 7 rfl) rfl
theorem q2052 : (Jvm.Cond.code ({ cls := "BusLine$State", name := "comes", desc := "(LBusLine$Riders;III)Z" } : Jvm.MethodName) prog_9_method_9_code (5 : Nat) (Option.some Jvm.ClassFile.FieldType.boolean)) ∈ lw_all := lw_g (lw_at lw_m9 8 rfl) rfl
theorem q2053 : (Jvm.Cond.methodLink "BusLine$State" (193 : Nat) ({ cls := "BusLine$State", name := "giveUp", desc := "(LBusLine$Riders;I)V" } : Jvm.MethodName)) ∈ lw_all := lw_g (lw_at lw_m9 9 rfl) rfl
theorem q2054 : (Jvm.Cond.privateMethod ({ cls := "BusLine$State", name := "giveUp", desc := "(LBusLine$Riders;I)V" } : Jvm.MethodName)) ∈ lw_tbl := lw_at lw_m9 10 rfl
theorem q2055 : (Jvm.Cond.instanceMethod ({ cls := "BusLine$State", name := "giveUp", desc := "(LBusLine$Riders;I)V" } : Jvm.MethodName)) ∈ lw_all := lw_g (lw_at lw_m9 11 rfl) rfl
theorem q2056 : (Jvm.Cond.code ({ cls := "BusLine$State", name := "giveUp", desc := "(LBusLine$Riders;I)V" } : Jvm.MethodName) prog_9_method_8_code (4 : Nat) (Option.none : Option Jvm.ClassFile.FieldType)) ∈ lw_all := lw_g (lw_at lw_m9 12 rfl) rfl
theorem q2057 : (Jvm.Cond.methodLink "BusLine$State" (190 : Nat) ({ cls := "BusLine$Riders", name := "dropFirst", desc := "(I)V" } : Jvm.MethodName)) ∈ lw_all := lw_g (lw_at lw_m9 13 rfl) rfl
theorem q2061 : (Jvm.Cond.methodLink "BusLine$State" (197 : Nat) ({ cls := "BusLine$Riders", name := "add", desc := "(III)V" } : Jvm.MethodName)) ∈ lw_all := lw_g (lw_at lw_m9 17 rfl) rfl
theorem q2073 : (Jvm.Cond.static ({ cls := "BusLine$State", name := "sum", desc := "([I)I" } : Jvm.MethodName)) ∈ lw_all := lw_g (lw_at lw_m9 29 rfl) rfl
theorem q2074 : (Jvm.Cond.code ({ cls := "BusLine$State", name := "sum", desc := "([I)I" } : Jvm.MethodName) prog_9_method_27_code (3 : Nat) (Option.some Jvm.ClassFile.FieldType.int)) ∈ lw_all := lw_g (lw_at lw_m9 30 rfl) rfl
theorem q2076 : (Jvm.Cond.instanceMethod ({ cls := "BusLine$State", name := "pass", desc := "(I)LBusLine$State;" } : Jvm.MethodName)) ∈ lw_all := lw_g (lw_at lw_m9 32 rfl) rfl
theorem q2077 : (Jvm.Cond.selects "BusLine$State" ({ cls := "BusLine$State", name := "pass", desc := "(I)LBusLine$State;" } : Jvm.MethodName) ({ cls := "BusLine$State", name := "pass", desc := "(I)LBusLine$State;" } : Jvm.MethodName)) ∈ lw_all := lw_g (lw_at lw_m9 33 rfl) rfl
theorem q2078 : (Jvm.Cond.code ({ cls := "BusLine$State", name := "pass", desc := "(I)LBusLine$State;" } : Jvm.MethodName) prog_9_method_25_code (5 : Nat) (Option.some (Jvm.ClassFile.FieldType.object "BusLine$State"))) ∈ lw_all := lw_g (lw_at lw_m9 34 rfl) rfl
theorem q2079 : (Jvm.Cond.methodLink "BusLine$State" (361 : Nat) ({ cls := "BusLine$State", name := "event", desc := "(I)LBusLine$Bus;" } : Jvm.MethodName)) ∈ lw_all := lw_g (lw_at lw_m9 35 rfl) rfl
theorem q2080 : (Jvm.Cond.instanceMethod ({ cls := "BusLine$State", name := "event", desc := "(I)LBusLine$Bus;" } : Jvm.MethodName)) ∈ lw_all := lw_g (lw_at lw_m9 36 rfl) rfl
theorem q2081 : (Jvm.Cond.selects "BusLine$State" ({ cls := "BusLine$State", name := "event", desc := "(I)LBusLine$Bus;" } : Jvm.MethodName) ({ cls := "BusLine$State", name := "event", desc := "(I)LBusLine$Bus;" } : Jvm.MethodName)) ∈ lw_all := lw_g (lw_at lw_m9 37 rfl) rfl
theorem q2082 : (Jvm.Cond.code ({ cls := "BusLine$State", name := "event", desc := "(I)LBusLine$Bus;" } : Jvm.MethodName) prog_9_method_24_code (3 : Nat) (Option.some (Jvm.ClassFile.FieldType.object "BusLine$Bus"))) ∈ lw_all := lw_g (lw_at lw_m9 38 rfl) rfl
theorem q2083 : (Jvm.Cond.methodLink "BusLine$State" (352 : Nat) ({ cls := "java/util/PriorityQueue", name := "peek", desc := "()Ljava/lang/Object;" } : Jvm.MethodName)) ∈ lw_all := lw_g (lw_at lw_m9 39 rfl) rfl
theorem q2087 : (Jvm.Cond.methodLink "BusLine$State" (356 : Nat) ({ cls := "java/util/PriorityQueue", name := "remove", desc := "()Ljava/lang/Object;" } : Jvm.MethodName)) ∈ lw_all := lw_g (lw_at lw_m9 43 rfl) rfl
theorem q2098 : (Jvm.Cond.methodLink "BusLine$State" (358 : Nat) ({ cls := "BusLine$State", name := "happen", desc := "(LBusLine$Bus;)V" } : Jvm.MethodName)) ∈ lw_all := lw_g (lw_at lw_m9 54 rfl) rfl
theorem q2099 : (Jvm.Cond.privateMethod ({ cls := "BusLine$State", name := "happen", desc := "(LBusLine$Bus;)V" } : Jvm.MethodName)) ∈ lw_tbl := lw_at lw_m9 55 rfl
theorem q2100 : (Jvm.Cond.instanceMethod ({ cls := "BusLine$State", name := "happen", desc := "(LBusLine$Bus;)V" } : Jvm.MethodName)) ∈ lw_all := lw_g (lw_at lw_m9 56 rfl) rfl
theorem q2101 : (Jvm.Cond.code ({ cls := "BusLine$State", name := "happen", desc := "(LBusLine$Bus;)V" } : Jvm.MethodName) prog_9_method_23_code (2 : Nat) (Option.none : Option Jvm.ClassFile.FieldType)) ∈ lw_all := lw_g (lw_at lw_m9 57 rfl) rfl
theorem q2102 : (Jvm.Cond.methodLink "BusLine$State" (346 : Nat) ({ cls := "BusLine$State", name := "ready", desc := "(LBusLine$Bus;)V" } : Jvm.MethodName)) ∈ lw_all := lw_g (lw_at lw_m9 58 rfl) rfl
theorem q2103 : (Jvm.Cond.privateMethod ({ cls := "BusLine$State", name := "ready", desc := "(LBusLine$Bus;)V" } : Jvm.MethodName)) ∈ lw_tbl := lw_at lw_m9 59 rfl
theorem q2104 : (Jvm.Cond.instanceMethod ({ cls := "BusLine$State", name := "ready", desc := "(LBusLine$Bus;)V" } : Jvm.MethodName)) ∈ lw_all := lw_g (lw_at lw_m9 60 rfl) rfl
theorem q2105 : (Jvm.Cond.code ({ cls := "BusLine$State", name := "ready", desc := "(LBusLine$Bus;)V" } : Jvm.MethodName) prog_9_method_17_code (4 : Nat) (Option.none : Option Jvm.ClassFile.FieldType)) ∈ lw_all := lw_g (lw_at lw_m9 61 rfl) rfl
theorem q2106 : (Jvm.Cond.methodLink "BusLine$State" (287 : Nat) ({ cls := "BusLine$State", name := "wanted", desc := "(LBusLine$Bus;II)I" } : Jvm.MethodName)) ∈ lw_all := lw_g (lw_at lw_m9 62 rfl) rfl
theorem q2107 : (Jvm.Cond.instanceMethod ({ cls := "BusLine$State", name := "wanted", desc := "(LBusLine$Bus;II)I" } : Jvm.MethodName)) ∈ lw_all := lw_g (lw_at lw_m9 63 rfl) rfl
theorem q2108 : (Jvm.Cond.selects "BusLine$State" ({ cls := "BusLine$State", name := "wanted", desc := "(LBusLine$Bus;II)I" } : Jvm.MethodName) ({ cls := "BusLine$State", name := "wanted", desc := "(LBusLine$Bus;II)I" } : Jvm.MethodName)) ∈ lw_all := lw_g (lw_at lw_m9 64 rfl) rfl
theorem q2109 : (Jvm.Cond.code ({ cls := "BusLine$State", name := "wanted", desc := "(LBusLine$Bus;II)I" } : Jvm.MethodName) prog_9_method_21_code (5 : Nat) (Option.some Jvm.ClassFile.FieldType.int)) ∈ lw_all := lw_g (lw_at lw_m9 65 rfl) rfl
theorem q2110 : (Jvm.Cond.methodLink "BusLine$State" (312 : Nat) ({ cls := "BusLine$State", name := "due", desc := "(LBusLine$Bus;)I" } : Jvm.MethodName)) ∈ lw_all := lw_g (lw_at lw_m9 66 rfl) rfl
theorem q2111 : (Jvm.Cond.instanceMethod ({ cls := "BusLine$State", name := "due", desc := "(LBusLine$Bus;)I" } : Jvm.MethodName)) ∈ lw_all := lw_g (lw_at lw_m9 67 rfl) rfl
theorem q2112 : (Jvm.Cond.selects "BusLine$State" ({ cls := "BusLine$State", name := "due", desc := "(LBusLine$Bus;)I" } : Jvm.MethodName) ({ cls := "BusLine$State", name := "due", desc := "(LBusLine$Bus;)I" } : Jvm.MethodName)) ∈ lw_all := lw_g (lw_at lw_m9 68 rfl) rfl
theorem q2113 : (Jvm.Cond.code ({ cls := "BusLine$State", name := "due", desc := "(LBusLine$Bus;)I" } : Jvm.MethodName) prog_9_method_20_code (2 : Nat) (Option.some Jvm.ClassFile.FieldType.int)) ∈ lw_all := lw_g (lw_at lw_m9 69 rfl) rfl
theorem q2114 : (Jvm.Cond.methodLink "BusLine$State" (330 : Nat) ({ cls := "BusLine$State", name := "wise", desc := "(LBusLine$Bus;II)I" } : Jvm.MethodName)) ∈ lw_all := lw_g (lw_at lw_m9 70 rfl) rfl
theorem q2115 : (Jvm.Cond.privateMethod ({ cls := "BusLine$State", name := "wise", desc := "(LBusLine$Bus;II)I" } : Jvm.MethodName)) ∈ lw_tbl := lw_at lw_m9 71 rfl
theorem q2116 : (Jvm.Cond.instanceMethod ({ cls := "BusLine$State", name := "wise", desc := "(LBusLine$Bus;II)I" } : Jvm.MethodName)) ∈ lw_all := lw_g (lw_at lw_m9 72 rfl) rfl
theorem q2117 : (Jvm.Cond.code ({ cls := "BusLine$State", name := "wise", desc := "(LBusLine$Bus;II)I" } : Jvm.MethodName) prog_9_method_22_code (8 : Nat) (Option.some Jvm.ClassFile.FieldType.int)) ∈ lw_all := lw_g (lw_at lw_m9 73 rfl) rfl
theorem q2118 : (Jvm.Cond.methodLink "BusLine$State" (333 : Nat) ({ cls := "BusLine$Bus", name := "isOut", desc := "()Z" } : Jvm.MethodName)) ∈ lw_all := lw_g (lw_at lw_m9 74 rfl) rfl
theorem q2122 : (Jvm.Cond.methodLink "BusLine$State" (337 : Nat) ({ cls := "BusLine$Bus", name := "isAtStop", desc := "()Z" } : Jvm.MethodName)) ∈ lw_all := lw_g (lw_at lw_m9 78 rfl) rfl
theorem q2123 : (Jvm.Cond.methodLink "BusLine$State" (340 : Nat) ({ cls := "BusLine$Plan", name := "around", desc := "()I" } : Jvm.MethodName)) ∈ lw_all := lw_g (lw_at lw_m9 79 rfl) rfl
theorem q2128 : (Jvm.Cond.methodLink "BusLine$State" (343 : Nat) ({ cls := "BusLine$Plan", name := "way", desc := "(II)I" } : Jvm.MethodName)) ∈ lw_all := lw_g (lw_at lw_m9 84 rfl) rfl
theorem q2136 : (Jvm.Cond.methodLink "BusLine$State" (241 : Nat) ({ cls := "java/lang/Math", name := "min", desc := "(II)I" } : Jvm.MethodName)) ∈ lw_all := lw_g (lw_at lw_m9 92 rfl) rfl
theorem q2137 : (Jvm.Cond.methodLink "BusLine$State" (291 : Nat) ({ cls := "java/lang/Math", name := "max", desc := "(II)I" } : Jvm.MethodName)) ∈ lw_all := lw_g (lw_at lw_m9 93 rfl) rfl
theorem q2138 : (Jvm.Cond.methodLink "BusLine$State" (300 : Nat) ({ cls := "BusLine$State", name := "leave", desc := "(LBusLine$Bus;)V" } : Jvm.MethodName)) ∈ lw_all := lw_g (lw_at lw_m9 94 rfl) rfl
theorem q2139 : (Jvm.Cond.privateMethod ({ cls := "BusLine$State", name := "leave", desc := "(LBusLine$Bus;)V" } : Jvm.MethodName)) ∈ lw_tbl := lw_at lw_m9 95 rfl
theorem q2140 : (Jvm.Cond.instanceMethod ({ cls := "BusLine$State", name := "leave", desc := "(LBusLine$Bus;)V" } : Jvm.MethodName)) ∈ lw_all := lw_g (lw_at lw_m9 96 rfl) rfl
theorem q2141 : (Jvm.Cond.code ({ cls := "BusLine$State", name := "leave", desc := "(LBusLine$Bus;)V" } : Jvm.MethodName) prog_9_method_18_code (4 : Nat) (Option.none : Option Jvm.ClassFile.FieldType)) ∈ lw_all := lw_g (lw_at lw_m9 97 rfl) rfl
theorem q2142 : (Jvm.Cond.methodLink "BusLine$State" (271 : Nat) ({ cls := "BusLine$State", name := "board", desc := "(LBusLine$Bus;)I" } : Jvm.MethodName)) ∈ lw_all := lw_g (lw_at lw_m9 98 rfl) rfl
theorem q2143 : (Jvm.Cond.privateMethod ({ cls := "BusLine$State", name := "board", desc := "(LBusLine$Bus;)I" } : Jvm.MethodName)) ∈ lw_tbl := lw_at lw_m9 99 rfl
theorem q2144 : (Jvm.Cond.instanceMethod ({ cls := "BusLine$State", name := "board", desc := "(LBusLine$Bus;)I" } : Jvm.MethodName)) ∈ lw_all := lw_g (lw_at lw_m9 100 rfl) rfl
theorem q2145 : (Jvm.Cond.code ({ cls := "BusLine$State", name := "board", desc := "(LBusLine$Bus;)I" } : Jvm.MethodName) prog_9_method_14_code (5 : Nat) (Option.some Jvm.ClassFile.FieldType.int)) ∈ lw_all := lw_g (lw_at lw_m9 101 rfl) rfl
theorem q2146 : (Jvm.Cond.methodLink "BusLine$State" (238 : Nat) ({ cls := "BusLine$Bus", name := "free", desc := "()I" } : Jvm.MethodName)) ∈ lw_all := lw_g (lw_at lw_m9 102 rfl) rfl
theorem q2150 : (Jvm.Cond.methodLink "BusLine$State" (274 : Nat) ({ cls := "BusLine$State", name := "tell", desc := "(ILBusLine$Bus;I)V" } : Jvm.MethodName)) ∈ lw_all := lw_g (lw_at lw_m9 106 rfl) rfl
theorem q2151 : (Jvm.Cond.privateMethod ({ cls := "BusLine$State", name := "tell", desc := "(ILBusLine$Bus;I)V" } : Jvm.MethodName)) ∈ lw_tbl := lw_at lw_m9 107 rfl
theorem q2152 : (Jvm.Cond.instanceMethod ({ cls := "BusLine$State", name := "tell", desc := "(ILBusLine$Bus;I)V" } : Jvm.MethodName)) ∈ lw_all := lw_g (lw_at lw_m9 108 rfl) rfl
theorem q2153 : (Jvm.Cond.code ({ cls := "BusLine$State", name := "tell", desc := "(ILBusLine$Bus;I)V" } : Jvm.MethodName) prog_9_method_7_code (5 : Nat) (Option.none : Option Jvm.ClassFile.FieldType)) ∈ lw_all := lw_g (lw_at lw_m9 109 rfl) rfl
theorem q2154 : (Jvm.Cond.methodLink "BusLine$State" (303 : Nat) ({ cls := "BusLine$Leavings", name := "add", desc := "(II)I" } : Jvm.MethodName)) ∈ lw_all := lw_g (lw_at lw_m9 110 rfl) rfl
theorem q2159 : (Jvm.Cond.methodLink "BusLine$State" (305 : Nat) ({ cls := "BusLine$State", name := "bunch", desc := "(LBusLine$Bus;I)V" } : Jvm.MethodName)) ∈ lw_all := lw_g (lw_at lw_m9 115 rfl) rfl
theorem q2160 : (Jvm.Cond.privateMethod ({ cls := "BusLine$State", name := "bunch", desc := "(LBusLine$Bus;I)V" } : Jvm.MethodName)) ∈ lw_tbl := lw_at lw_m9 116 rfl
theorem q2161 : (Jvm.Cond.instanceMethod ({ cls := "BusLine$State", name := "bunch", desc := "(LBusLine$Bus;I)V" } : Jvm.MethodName)) ∈ lw_all := lw_g (lw_at lw_m9 117 rfl) rfl
theorem q2162 : (Jvm.Cond.code ({ cls := "BusLine$State", name := "bunch", desc := "(LBusLine$Bus;I)V" } : Jvm.MethodName) prog_9_method_19_code (3 : Nat) (Option.none : Option Jvm.ClassFile.FieldType)) ∈ lw_all := lw_g (lw_at lw_m9 118 rfl) rfl
theorem q2163 : (Jvm.Cond.methodLink "BusLine$State" (263 : Nat) ({ cls := "BusLine$State", name := "driveOn", desc := "(LBusLine$Bus;)V" } : Jvm.MethodName)) ∈ lw_all := lw_g (lw_at lw_m9 119 rfl) rfl
theorem q2164 : (Jvm.Cond.privateMethod ({ cls := "BusLine$State", name := "driveOn", desc := "(LBusLine$Bus;)V" } : Jvm.MethodName)) ∈ lw_tbl := lw_at lw_m9 120 rfl
theorem q2165 : (Jvm.Cond.instanceMethod ({ cls := "BusLine$State", name := "driveOn", desc := "(LBusLine$Bus;)V" } : Jvm.MethodName)) ∈ lw_all := lw_g (lw_at lw_m9 121 rfl) rfl
theorem q2166 : (Jvm.Cond.code ({ cls := "BusLine$State", name := "driveOn", desc := "(LBusLine$Bus;)V" } : Jvm.MethodName) prog_9_method_15_code (2 : Nat) (Option.none : Option Jvm.ClassFile.FieldType)) ∈ lw_all := lw_g (lw_at lw_m9 122 rfl) rfl
theorem q2167 : (Jvm.Cond.methodLink "BusLine$State" (256 : Nat) ({ cls := "BusLine$Plan", name := "next", desc := "(I)I" } : Jvm.MethodName)) ∈ lw_all := lw_g (lw_at lw_m9 123 rfl) rfl
theorem q2168 : (Jvm.Cond.methodLink "BusLine$State" (349 : Nat) ({ cls := "BusLine$State", name := "arrive", desc := "(LBusLine$Bus;)V" } : Jvm.MethodName)) ∈ lw_all := lw_g (lw_at lw_m9 124 rfl) rfl
theorem q2169 : (Jvm.Cond.privateMethod ({ cls := "BusLine$State", name := "arrive", desc := "(LBusLine$Bus;)V" } : Jvm.MethodName)) ∈ lw_tbl := lw_at lw_m9 125 rfl
theorem q2170 : (Jvm.Cond.instanceMethod ({ cls := "BusLine$State", name := "arrive", desc := "(LBusLine$Bus;)V" } : Jvm.MethodName)) ∈ lw_all := lw_g (lw_at lw_m9 126 rfl) rfl
theorem q2171 : (Jvm.Cond.code ({ cls := "BusLine$State", name := "arrive", desc := "(LBusLine$Bus;)V" } : Jvm.MethodName) prog_9_method_16_code (5 : Nat) (Option.none : Option Jvm.ClassFile.FieldType)) ∈ lw_all := lw_g (lw_at lw_m9 127 rfl) rfl
theorem q2172 : (Jvm.Cond.methodLink "BusLine$State" (267 : Nat) ({ cls := "BusLine$State", name := "alight", desc := "(LBusLine$Bus;)I" } : Jvm.MethodName)) ∈ lw_all := lw_g (lw_at lw_m9 128 rfl) rfl
theorem q2173 : (Jvm.Cond.privateMethod ({ cls := "BusLine$State", name := "alight", desc := "(LBusLine$Bus;)I" } : Jvm.MethodName)) ∈ lw_tbl := lw_at lw_m9 129 rfl
theorem q2174 : (Jvm.Cond.instanceMethod ({ cls := "BusLine$State", name := "alight", desc := "(LBusLine$Bus;)I" } : Jvm.MethodName)) ∈ lw_all := lw_g (lw_at lw_m9 130 rfl) rfl
theorem q2175 : (Jvm.Cond.code ({ cls := "BusLine$State", name := "alight", desc := "(LBusLine$Bus;)I" } : Jvm.MethodName) prog_9_method_13_code (4 : Nat) (Option.some Jvm.ClassFile.FieldType.int)) ∈ lw_all := lw_g (lw_at lw_m9 131 rfl) rfl
theorem q2176 : (Jvm.Cond.methodLink "BusLine$State" (235 : Nat) ({ cls := "BusLine$Riders", name := "remove", desc := "(I)V" } : Jvm.MethodName)) ∈ lw_all := lw_g (lw_at lw_m9 132 rfl) rfl
theorem q2217 : (Jvm.Cond.instanceMethod ({ cls := "BusLine$State", name := "waiting", desc := "()I" } : Jvm.MethodName)) ∈ lw_all := lw_g (lw_at lw_m9 173 rfl) rfl
theorem q2218 : (Jvm.Cond.selects "BusLine$State" ({ cls := "BusLine$State", name := "waiting", desc := "()I" } : Jvm.MethodName) ({ cls := "BusLine$State", name := "waiting", desc := "()I" } : Jvm.MethodName)) ∈ lw_all := lw_g (lw_at lw_m9 174 rfl) rfl
theorem q2219 : (Jvm.Cond.code ({ cls := "BusLine$State", name := "waiting", desc := "()I" } : Jvm.MethodName) prog_9_method_29_code (3 : Nat) (Option.some Jvm.ClassFile.FieldType.int)) ∈ lw_all := lw_g (lw_at lw_m9 175 rfl) rfl
theorem q2221 : (Jvm.Cond.instanceMethod ({ cls := "BusLine$State", name := "aboard", desc := "()I" } : Jvm.MethodName)) ∈ lw_all := lw_g (lw_at lw_m9 177 rfl) rfl
theorem q2222 : (Jvm.Cond.selects "BusLine$State" ({ cls := "BusLine$State", name := "aboard", desc := "()I" } : Jvm.MethodName) ({ cls := "BusLine$State", name := "aboard", desc := "()I" } : Jvm.MethodName)) ∈ lw_all := lw_g (lw_at lw_m9 178 rfl) rfl
theorem q2223 : (Jvm.Cond.code ({ cls := "BusLine$State", name := "aboard", desc := "()I" } : Jvm.MethodName) prog_9_method_30_code (3 : Nat) (Option.some Jvm.ClassFile.FieldType.int)) ∈ lw_all := lw_g (lw_at lw_m9 179 rfl) rfl
theorem q2246 : (Jvm.Cond.instanceMethod ({ cls := "BusLine$State", name := "account", desc := "(I)I" } : Jvm.MethodName)) ∈ lw_all := lw_g (lw_at lw_m9 202 rfl) rfl
theorem q2247 : (Jvm.Cond.selects "BusLine$State" ({ cls := "BusLine$State", name := "account", desc := "(I)I" } : Jvm.MethodName) ({ cls := "BusLine$State", name := "account", desc := "(I)I" } : Jvm.MethodName)) ∈ lw_all := lw_g (lw_at lw_m9 203 rfl) rfl
theorem q2248 : (Jvm.Cond.code ({ cls := "BusLine$State", name := "account", desc := "(I)I" } : Jvm.MethodName) prog_9_method_6_code (2 : Nat) (Option.some Jvm.ClassFile.FieldType.int)) ∈ lw_all := lw_g (lw_at lw_m9 204 rfl) rfl
theorem q2337 : (Jvm.Cond.instanceMethod ({ cls := "BusLine$State", name := "lost", desc := "()I" } : Jvm.MethodName)) ∈ lw_all := lw_g (lw_at lw_m10 53 rfl) rfl
theorem q2338 : (Jvm.Cond.selects "BusLine$State" ({ cls := "BusLine$State", name := "lost", desc := "()I" } : Jvm.MethodName) ({ cls := "BusLine$State", name := "lost", desc := "()I" } : Jvm.MethodName)) ∈ lw_all := lw_g (lw_at lw_m10 54 rfl) rfl
theorem q2339 : (Jvm.Cond.code ({ cls := "BusLine$State", name := "lost", desc := "()I" } : Jvm.MethodName) prog_9_method_28_code (1 : Nat) (Option.some Jvm.ClassFile.FieldType.int)) ∈ lw_all := lw_g (lw_at lw_m10 55 rfl) rfl
theorem q2340 : (Jvm.Cond.methodLink "BusLine$State" (367 : Nat) ({ cls := "BusLine$State", name := "sum", desc := "([I)I" } : Jvm.MethodName)) ∈ lw_all := lw_g (lw_at lw_m10 56 rfl) rfl
theorem q2372 : (Jvm.Cond.instanceMethod ({ cls := "BusLine$State", name := "board", desc := "()Ljava/lang/String;" } : Jvm.MethodName)) ∈ lw_all := lw_g (lw_at lw_m10 88 rfl) rfl
theorem q2373 : (Jvm.Cond.selects "BusLine$State" ({ cls := "BusLine$State", name := "board", desc := "()Ljava/lang/String;" } : Jvm.MethodName) ({ cls := "BusLine$State", name := "board", desc := "()Ljava/lang/String;" } : Jvm.MethodName)) ∈ lw_all := lw_g (lw_at lw_m10 89 rfl) rfl
theorem q2374 : (Jvm.Cond.code ({ cls := "BusLine$State", name := "board", desc := "()Ljava/lang/String;" } : Jvm.MethodName) prog_9_method_31_code (4 : Nat) (Option.some (Jvm.ClassFile.FieldType.object "java/lang/String"))) ∈ lw_all := lw_g (lw_at lw_m10 90 rfl) rfl
theorem q2375 : (Jvm.Cond.classLink "BusLine$State" (371 : Nat) "java/lang/StringBuilder") ∈ lw_all := lw_g (lw_at lw_m10 91 rfl) rfl
theorem q2376 : (Jvm.Cond.methodLink "BusLine$State" (373 : Nat) ({ cls := "java/lang/StringBuilder", name := "<init>", desc := "()V" } : Jvm.MethodName)) ∈ lw_all := lw_g (lw_at lw_m10 92 rfl) rfl
theorem q2377 : (Jvm.Cond.methodLink "BusLine$State" (378 : Nat) ({ cls := "java/lang/StringBuilder", name := "append", desc := "(Ljava/lang/String;)Ljava/lang/StringBuilder;" } : Jvm.MethodName)) ∈ lw_all := lw_g (lw_at lw_m10 93 rfl) rfl
theorem q2411 : (Jvm.Cond.methodLink "BusLine$State" (382 : Nat) ({ cls := "java/lang/StringBuilder", name := "append", desc := "(C)Ljava/lang/StringBuilder;" } : Jvm.MethodName)) ∈ lw_all := lw_g (lw_at lw_m10 127 rfl) rfl
theorem q2412 : (Jvm.Cond.methodLink "BusLine$State" (385 : Nat) ({ cls := "java/lang/StringBuilder", name := "append", desc := "(I)Ljava/lang/StringBuilder;" } : Jvm.MethodName)) ∈ lw_all := lw_g (lw_at lw_m10 128 rfl) rfl
theorem q2437 : (Jvm.Cond.stringRef "BusLine$State" (388 : Nat) " *") ∈ lw_tbl := lw_at lw_m10 153 rfl
theorem q2438 : (Jvm.Cond.stringRef "BusLine$State" (390 : Nat) " -") ∈ lw_tbl := lw_at lw_m10 154 rfl
theorem q2439 : (Jvm.Cond.methodLink "BusLine$State" (392 : Nat) ({ cls := "java/lang/StringBuilder", name := "toString", desc := "()Ljava/lang/String;" } : Jvm.MethodName)) ∈ lw_all := lw_g (lw_at lw_m10 155 rfl) rfl
theorem q2454 : (Jvm.Cond.instanceMethod ({ cls := "BusLine$State", name := "story", desc := "()Ljava/lang/String;" } : Jvm.MethodName)) ∈ lw_all := lw_g (lw_at lw_m10 170 rfl) rfl
theorem q2455 : (Jvm.Cond.selects "BusLine$State" ({ cls := "BusLine$State", name := "story", desc := "()Ljava/lang/String;" } : Jvm.MethodName) ({ cls := "BusLine$State", name := "story", desc := "()Ljava/lang/String;" } : Jvm.MethodName)) ∈ lw_all := lw_g (lw_at lw_m10 171 rfl) rfl
theorem q2456 : (Jvm.Cond.code ({ cls := "BusLine$State", name := "story", desc := "()Ljava/lang/String;" } : Jvm.MethodName) prog_9_method_33_code (3 : Nat) (Option.some (Jvm.ClassFile.FieldType.object "java/lang/String"))) ∈ lw_all := lw_g (lw_at lw_m10 172 rfl) rfl
theorem q2457 : (Jvm.Cond.methodLink "BusLine$State" (404 : Nat) ({ cls := "BusLine$State", name := "word", desc := "(I)Ljava/lang/String;" } : Jvm.MethodName)) ∈ lw_all := lw_g (lw_at lw_m10 173 rfl) rfl
theorem q2458 : (Jvm.Cond.static ({ cls := "BusLine$State", name := "word", desc := "(I)Ljava/lang/String;" } : Jvm.MethodName)) ∈ lw_all := lw_g (lw_at lw_m10 174 rfl) rfl
theorem q2459 : (Jvm.Cond.code ({ cls := "BusLine$State", name := "word", desc := "(I)Ljava/lang/String;" } : Jvm.MethodName) prog_9_method_32_code (1 : Nat) (Option.some (Jvm.ClassFile.FieldType.object "java/lang/String"))) ∈ lw_all := lw_g (lw_at lw_m10 175 rfl) rfl
theorem q2460 : (Jvm.Cond.stringRef "BusLine$State" (396 : Nat) "bunch") ∈ lw_tbl := lw_at lw_m10 176 rfl
theorem q2461 : (Jvm.Cond.stringRef "BusLine$State" (397 : Nat) "split") ∈ lw_tbl := lw_at lw_m10 177 rfl
theorem q2462 : (Jvm.Cond.stringRef "BusLine$State" (399 : Nat) "held") ∈ lw_tbl := lw_at lw_m10 178 rfl
theorem q2463 : (Jvm.Cond.stringRef "BusLine$State" (400 : Nat) "left") ∈ lw_tbl := lw_at lw_m10 179 rfl
theorem q2464 : (Jvm.Cond.stringRef "BusLine$State" (402 : Nat) "full") ∈ lw_tbl := lw_at lw_m10 180 rfl
theorem q2474 : (Jvm.Cond.instanceMethod ({ cls := "BusLine$State", name := "setup", desc := "()Ljava/lang/String;" } : Jvm.MethodName)) ∈ lw_all := lw_g (lw_at lw_m10 190 rfl) rfl
theorem q2475 : (Jvm.Cond.selects "BusLine$State" ({ cls := "BusLine$State", name := "setup", desc := "()Ljava/lang/String;" } : Jvm.MethodName) ({ cls := "BusLine$State", name := "setup", desc := "()Ljava/lang/String;" } : Jvm.MethodName)) ∈ lw_all := lw_g (lw_at lw_m10 191 rfl) rfl
theorem q2476 : (Jvm.Cond.code ({ cls := "BusLine$State", name := "setup", desc := "()Ljava/lang/String;" } : Jvm.MethodName) prog_9_method_34_code (4 : Nat) (Option.some (Jvm.ClassFile.FieldType.object "java/lang/String"))) ∈ lw_all := lw_g (lw_at lw_m10 192 rfl) rfl
theorem q2477 : (Jvm.Cond.stringRef "BusLine$State" (408 : Nat) "open ") ∈ lw_tbl := lw_at lw_m10 193 rfl
theorem q2478 : (Jvm.Cond.methodLink "BusLine$State" (410 : Nat) ({ cls := "java/lang/StringBuilder", name := "<init>", desc := "(Ljava/lang/String;)V" } : Jvm.MethodName)) ∈ lw_all := lw_g (lw_at lw_m10 194 rfl) rfl
theorem q2489 : (Jvm.Cond.stringRef "BusLine$State" (413 : Nat) " on ") ∈ lw_tbl := lw_at lw_m10 205 rfl
theorem q2490 : (Jvm.Cond.stringRef "BusLine$State" (415 : Nat) " down ") ∈ lw_tbl := lw_at lw_m10 206 rfl
theorem q2491 : (Jvm.Cond.stringRef "BusLine$State" (417 : Nat) " headway ") ∈ lw_tbl := lw_at lw_m10 207 rfl
theorem q2492 : (Jvm.Cond.stringRef "BusLine$State" (419 : Nat) " cap ") ∈ lw_tbl := lw_at lw_m10 208 rfl
theorem q2493 : (Jvm.Cond.stringRef "BusLine$State" (421 : Nat) " patience ") ∈ lw_tbl := lw_at lw_m10 209 rfl
theorem q2494 : (Jvm.Cond.stringRef "BusLine$State" (423 : Nat) " round ") ∈ lw_tbl := lw_at lw_m10 210 rfl
theorem q2495 : (Jvm.Cond.stringRef "BusLine$State" (425 : Nat) " mode ") ∈ lw_tbl := lw_at lw_m10 211 rfl
theorem q2496 : (Jvm.Cond.stringRef "BusLine$State" (427 : Nat) "stop ") ∈ lw_tbl := lw_at lw_m10 212 rfl
theorem q2497 : (Jvm.Cond.stringRef "BusLine$State" (429 : Nat) " drive ") ∈ lw_tbl := lw_at lw_m10 213 rfl
theorem q2498 : (Jvm.Cond.stringRef "BusLine$State" (431 : Nat) " off ") ∈ lw_tbl := lw_at lw_m10 214 rfl
theorem q2499 : (Jvm.Cond.stringRef "BusLine$State" (433 : Nat) " point;") ∈ lw_tbl := lw_at lw_m10 215 rfl
theorem q2500 : (Jvm.Cond.stringRef "BusLine$State" (435 : Nat) ";") ∈ lw_tbl := lw_at lw_m10 216 rfl
theorem q2501 : (Jvm.Cond.stringRef "BusLine$State" (437 : Nat) "bus ") ∈ lw_tbl := lw_at lw_m10 217 rfl
theorem q2502 : (Jvm.Cond.stringRef "BusLine$State" (441 : Nat) " start ") ∈ lw_tbl := lw_at lw_m10 218 rfl
theorem q2503 : (Jvm.Cond.stringRef "BusLine$State" (443 : Nat) "from ") ∈ lw_tbl := lw_at lw_m10 219 rfl
theorem q2504 : (Jvm.Cond.stringRef "BusLine$State" (449 : Nat) " to ") ∈ lw_tbl := lw_at lw_m10 220 rfl
theorem q2505 : (Jvm.Cond.stringRef "BusLine$State" (451 : Nat) " every ") ∈ lw_tbl := lw_at lw_m10 221 rfl
theorem q2506 : (Jvm.Cond.stringRef "BusLine$State" (456 : Nat) " first ") ∈ lw_tbl := lw_at lw_m10 222 rfl
theorem q3240 : (Jvm.Cond.castable "BusLine$State" "java/lang/Object") ∈ lw_tbl := lw_at lw_m13 236 rfl
theorem in_X3 : ∀ w ∈ wsX30, w ∈ lw_all := lw_in wsX30 [934, 936, 938, 940, 942, 944, 946, 948, 950, 952, 954, 956, 958, 960, 962, 964, 966, 968, 970, 972, 974, 976, 978, 980, 982] (by decide +kernel) (by decide +kernel)

/-! BusLine$Riders -/
set_option maxRecDepth 100000
def RX4 : String := "BusLine$Riders"
def TX4 : u_T := fun k => match k with
  | 0 => ("BusLine$Riders", "to", "[I", true)
  | 1 => ("BusLine$Riders", "since", "[I", true)
  | 2 => ("BusLine$Riders", "flow", "[I", true)
  | _ => ("BusLine$Riders", "many", "I", false)
def tyX4 : Nat → FieldType := fun k => match k with
  | 0 => .array .int
  | 1 => .array .int
  | 2 => .array .int
  | _ => .int
abbrev wsX40 : List Cond := u_ws RX4 TX4 4
theorem nmX4 : ∀ a, a < 4 → ∀ b, b < 4 → a ≠ b → (TX4 a).2.1 ≠ (TX4 b).2.1 := by decide +kernel
theorem tyX4_ok : ∀ k, k < 4 → parseFieldDescriptor (TX4 k).2.2.1 = some (tyX4 k) := by decide +kernel
abbrev cX4_init : ByteArray := prog_8_method_1_code
def yX4_init : MethodName := ⟨RX4, "<init>", "(I)V"⟩
def dkwX4_init_1 : List UInt8 := [181, 0, 16, 177]
abbrev dktX4_init_1 : List UInt8 := dkwX4_init_1 ++ []
def dkwX4_init_0 : List UInt8 := [42, 183, 0, 1, 42, 27, 188, 10, 181, 0, 7, 42, 27, 188, 10, 181, 0, 13, 42, 27, 188, 10]
abbrev dktX4_init_0 : List UInt8 := dkwX4_init_0 ++ dktX4_init_1
theorem dksX4_init_0 : cX4_init.data.toList.drop 0 = dktX4_init_0 := by decide +kernel
theorem dksX4_init_1 : cX4_init.data.toList.drop 22 = dktX4_init_1 := dk_seg dksX4_init_0 22 rfl rfl
theorem dX4_init_0 : decode cX4_init 0 = .ok (.aload_n 0, 1) := dk_42 (dk_at dksX4_init_0 0 rfl rfl)
theorem dX4_init_1 : decode cX4_init 1 = .ok (.invokespecial 1, 3) := dk_183 0 1 (dk_at dksX4_init_0 1 rfl rfl)
theorem dX4_init_4 : decode cX4_init 4 = .ok (.aload_n 0, 1) := dk_42 (dk_at dksX4_init_0 4 rfl rfl)
theorem dX4_init_5 : decode cX4_init 5 = .ok (.iload_n 1, 1) := dk_27 (dk_at dksX4_init_0 5 rfl rfl)
theorem dX4_init_6 : decode cX4_init 6 = .ok (.newarray .int, 2) := dk_188_10 (dk_at dksX4_init_0 6 rfl rfl)
theorem dX4_init_8 : decode cX4_init 8 = .ok (.putfield 7, 3) := dk_181 0 7 (dk_at dksX4_init_0 8 rfl rfl)
theorem dX4_init_11 : decode cX4_init 11 = .ok (.aload_n 0, 1) := dk_42 (dk_at dksX4_init_0 11 rfl rfl)
theorem dX4_init_12 : decode cX4_init 12 = .ok (.iload_n 1, 1) := dk_27 (dk_at dksX4_init_0 12 rfl rfl)
theorem dX4_init_13 : decode cX4_init 13 = .ok (.newarray .int, 2) := dk_188_10 (dk_at dksX4_init_0 13 rfl rfl)
theorem dX4_init_15 : decode cX4_init 15 = .ok (.putfield 13, 3) := dk_181 0 13 (dk_at dksX4_init_0 15 rfl rfl)
theorem dX4_init_18 : decode cX4_init 18 = .ok (.aload_n 0, 1) := dk_42 (dk_at dksX4_init_0 18 rfl rfl)
theorem dX4_init_19 : decode cX4_init 19 = .ok (.iload_n 1, 1) := dk_27 (dk_at dksX4_init_0 19 rfl rfl)
theorem dX4_init_20 : decode cX4_init 20 = .ok (.newarray .int, 2) := dk_188_10 (dk_at dksX4_init_0 20 rfl rfl)
theorem dX4_init_22 : decode cX4_init 22 = .ok (.putfield 16, 3) := dk_181 0 16 (dk_at dksX4_init_1 0 rfl rfl)
theorem dX4_init_25 : decode cX4_init 25 = .ok (.return_, 1) := dk_177 (dk_at dksX4_init_1 3 rfl rfl)
abbrev cX4_copyTo : ByteArray := prog_8_method_2_code
def yX4_copyTo : MethodName := ⟨RX4, "copyTo", "(LBusLine$Riders;)V"⟩
def dkwX4_copyTo_2 : List UInt8 := [3, 43, 180, 0, 16, 3, 42, 180, 0, 19, 184, 0, 23, 177]
abbrev dktX4_copyTo_2 : List UInt8 := dkwX4_copyTo_2 ++ []
def dkwX4_copyTo_1 : List UInt8 := [184, 0, 23, 42, 180, 0, 13, 3, 43, 180, 0, 13, 3, 42, 180, 0, 19, 184, 0, 23, 42, 180, 0, 16]
abbrev dktX4_copyTo_1 : List UInt8 := dkwX4_copyTo_1 ++ dktX4_copyTo_2
def dkwX4_copyTo_0 : List UInt8 := [43, 42, 180, 0, 19, 181, 0, 19, 42, 180, 0, 7, 3, 43, 180, 0, 7, 3, 42, 180, 0, 19]
abbrev dktX4_copyTo_0 : List UInt8 := dkwX4_copyTo_0 ++ dktX4_copyTo_1
theorem dksX4_copyTo_0 : cX4_copyTo.data.toList.drop 0 = dktX4_copyTo_0 := by decide +kernel
theorem dksX4_copyTo_1 : cX4_copyTo.data.toList.drop 22 = dktX4_copyTo_1 := dk_seg dksX4_copyTo_0 22 rfl rfl
theorem dksX4_copyTo_2 : cX4_copyTo.data.toList.drop 46 = dktX4_copyTo_2 := dk_seg dksX4_copyTo_1 24 rfl rfl
theorem dX4_copyTo_0 : decode cX4_copyTo 0 = .ok (.aload_n 1, 1) := dk_43 (dk_at dksX4_copyTo_0 0 rfl rfl)
theorem dX4_copyTo_1 : decode cX4_copyTo 1 = .ok (.aload_n 0, 1) := dk_42 (dk_at dksX4_copyTo_0 1 rfl rfl)
theorem dX4_copyTo_2 : decode cX4_copyTo 2 = .ok (.getfield 19, 3) := dk_180 0 19 (dk_at dksX4_copyTo_0 2 rfl rfl)
theorem dX4_copyTo_5 : decode cX4_copyTo 5 = .ok (.putfield 19, 3) := dk_181 0 19 (dk_at dksX4_copyTo_0 5 rfl rfl)
theorem dX4_copyTo_8 : decode cX4_copyTo 8 = .ok (.aload_n 0, 1) := dk_42 (dk_at dksX4_copyTo_0 8 rfl rfl)
theorem dX4_copyTo_9 : decode cX4_copyTo 9 = .ok (.getfield 7, 3) := dk_180 0 7 (dk_at dksX4_copyTo_0 9 rfl rfl)
theorem dX4_copyTo_12 : decode cX4_copyTo 12 = .ok (.iconst 0, 1) := dk_3 (dk_at dksX4_copyTo_0 12 rfl rfl)
theorem dX4_copyTo_13 : decode cX4_copyTo 13 = .ok (.aload_n 1, 1) := dk_43 (dk_at dksX4_copyTo_0 13 rfl rfl)
theorem dX4_copyTo_14 : decode cX4_copyTo 14 = .ok (.getfield 7, 3) := dk_180 0 7 (dk_at dksX4_copyTo_0 14 rfl rfl)
theorem dX4_copyTo_17 : decode cX4_copyTo 17 = .ok (.iconst 0, 1) := dk_3 (dk_at dksX4_copyTo_0 17 rfl rfl)
theorem dX4_copyTo_18 : decode cX4_copyTo 18 = .ok (.aload_n 0, 1) := dk_42 (dk_at dksX4_copyTo_0 18 rfl rfl)
theorem dX4_copyTo_19 : decode cX4_copyTo 19 = .ok (.getfield 19, 3) := dk_180 0 19 (dk_at dksX4_copyTo_0 19 rfl rfl)
theorem dX4_copyTo_22 : decode cX4_copyTo 22 = .ok (.invokestatic 23, 3) := dk_184 0 23 (dk_at dksX4_copyTo_1 0 rfl rfl)
theorem dX4_copyTo_25 : decode cX4_copyTo 25 = .ok (.aload_n 0, 1) := dk_42 (dk_at dksX4_copyTo_1 3 rfl rfl)
theorem dX4_copyTo_26 : decode cX4_copyTo 26 = .ok (.getfield 13, 3) := dk_180 0 13 (dk_at dksX4_copyTo_1 4 rfl rfl)
theorem dX4_copyTo_29 : decode cX4_copyTo 29 = .ok (.iconst 0, 1) := dk_3 (dk_at dksX4_copyTo_1 7 rfl rfl)
theorem dX4_copyTo_30 : decode cX4_copyTo 30 = .ok (.aload_n 1, 1) := dk_43 (dk_at dksX4_copyTo_1 8 rfl rfl)
theorem dX4_copyTo_31 : decode cX4_copyTo 31 = .ok (.getfield 13, 3) := dk_180 0 13 (dk_at dksX4_copyTo_1 9 rfl rfl)
theorem dX4_copyTo_34 : decode cX4_copyTo 34 = .ok (.iconst 0, 1) := dk_3 (dk_at dksX4_copyTo_1 12 rfl rfl)
theorem dX4_copyTo_35 : decode cX4_copyTo 35 = .ok (.aload_n 0, 1) := dk_42 (dk_at dksX4_copyTo_1 13 rfl rfl)
theorem dX4_copyTo_36 : decode cX4_copyTo 36 = .ok (.getfield 19, 3) := dk_180 0 19 (dk_at dksX4_copyTo_1 14 rfl rfl)
theorem dX4_copyTo_39 : decode cX4_copyTo 39 = .ok (.invokestatic 23, 3) := dk_184 0 23 (dk_at dksX4_copyTo_1 17 rfl rfl)
theorem dX4_copyTo_42 : decode cX4_copyTo 42 = .ok (.aload_n 0, 1) := dk_42 (dk_at dksX4_copyTo_1 20 rfl rfl)
theorem dX4_copyTo_43 : decode cX4_copyTo 43 = .ok (.getfield 16, 3) := dk_180 0 16 (dk_at dksX4_copyTo_1 21 rfl rfl)
theorem dX4_copyTo_46 : decode cX4_copyTo 46 = .ok (.iconst 0, 1) := dk_3 (dk_at dksX4_copyTo_2 0 rfl rfl)
theorem dX4_copyTo_47 : decode cX4_copyTo 47 = .ok (.aload_n 1, 1) := dk_43 (dk_at dksX4_copyTo_2 1 rfl rfl)
theorem dX4_copyTo_48 : decode cX4_copyTo 48 = .ok (.getfield 16, 3) := dk_180 0 16 (dk_at dksX4_copyTo_2 2 rfl rfl)
theorem dX4_copyTo_51 : decode cX4_copyTo 51 = .ok (.iconst 0, 1) := dk_3 (dk_at dksX4_copyTo_2 5 rfl rfl)
theorem dX4_copyTo_52 : decode cX4_copyTo 52 = .ok (.aload_n 0, 1) := dk_42 (dk_at dksX4_copyTo_2 6 rfl rfl)
theorem dX4_copyTo_53 : decode cX4_copyTo 53 = .ok (.getfield 19, 3) := dk_180 0 19 (dk_at dksX4_copyTo_2 7 rfl rfl)
theorem dX4_copyTo_56 : decode cX4_copyTo 56 = .ok (.invokestatic 23, 3) := dk_184 0 23 (dk_at dksX4_copyTo_2 10 rfl rfl)
theorem dX4_copyTo_59 : decode cX4_copyTo 59 = .ok (.return_, 1) := dk_177 (dk_at dksX4_copyTo_2 13 rfl rfl)
abbrev cX4_going : ByteArray := prog_8_method_6_code
def yX4_going : MethodName := ⟨RX4, "going", "(I)I"⟩
def dkwX4_going_1 : List UInt8 := [132, 2, 1, 132, 3, 1, 167, 255, 232, 28, 172]
abbrev dktX4_going_1 : List UInt8 := dkwX4_going_1 ++ []
def dkwX4_going_0 : List UInt8 := [3, 61, 3, 62, 29, 42, 180, 0, 19, 162, 0, 22, 42, 180, 0, 7, 29, 46, 27, 160, 0, 6]
abbrev dktX4_going_0 : List UInt8 := dkwX4_going_0 ++ dktX4_going_1
theorem dksX4_going_0 : cX4_going.data.toList.drop 0 = dktX4_going_0 := by decide +kernel
theorem dksX4_going_1 : cX4_going.data.toList.drop 22 = dktX4_going_1 := dk_seg dksX4_going_0 22 rfl rfl
theorem dX4_going_0 : decode cX4_going 0 = .ok (.iconst 0, 1) := dk_3 (dk_at dksX4_going_0 0 rfl rfl)
theorem dX4_going_1 : decode cX4_going 1 = .ok (.istore_n 2, 1) := dk_61 (dk_at dksX4_going_0 1 rfl rfl)
theorem dX4_going_2 : decode cX4_going 2 = .ok (.iconst 0, 1) := dk_3 (dk_at dksX4_going_0 2 rfl rfl)
theorem dX4_going_3 : decode cX4_going 3 = .ok (.istore_n 3, 1) := dk_62 (dk_at dksX4_going_0 3 rfl rfl)
theorem dX4_going_4 : decode cX4_going 4 = .ok (.iload_n 3, 1) := dk_29 (dk_at dksX4_going_0 4 rfl rfl)
theorem dX4_going_5 : decode cX4_going 5 = .ok (.aload_n 0, 1) := dk_42 (dk_at dksX4_going_0 5 rfl rfl)
theorem dX4_going_6 : decode cX4_going 6 = .ok (.getfield 19, 3) := dk_180 0 19 (dk_at dksX4_going_0 6 rfl rfl)
theorem dX4_going_9 : decode cX4_going 9 = .ok (.if_icmp .ge 22, 3) := dk_162 0 22 (dk_at dksX4_going_0 9 rfl rfl)
theorem dX4_going_12 : decode cX4_going 12 = .ok (.aload_n 0, 1) := dk_42 (dk_at dksX4_going_0 12 rfl rfl)
theorem dX4_going_13 : decode cX4_going 13 = .ok (.getfield 7, 3) := dk_180 0 7 (dk_at dksX4_going_0 13 rfl rfl)
theorem dX4_going_16 : decode cX4_going 16 = .ok (.iload_n 3, 1) := dk_29 (dk_at dksX4_going_0 16 rfl rfl)
theorem dX4_going_17 : decode cX4_going 17 = .ok (.iaload, 1) := dk_46 (dk_at dksX4_going_0 17 rfl rfl)
theorem dX4_going_18 : decode cX4_going 18 = .ok (.iload_n 1, 1) := dk_27 (dk_at dksX4_going_0 18 rfl rfl)
theorem dX4_going_19 : decode cX4_going 19 = .ok (.if_icmp .ne 6, 3) := dk_160 0 6 (dk_at dksX4_going_0 19 rfl rfl)
theorem dX4_going_22 : decode cX4_going 22 = .ok (.iinc 2 1, 3) := dk_132 2 1 (dk_at dksX4_going_1 0 rfl rfl)
theorem dX4_going_25 : decode cX4_going 25 = .ok (.iinc 3 1, 3) := dk_132 3 1 (dk_at dksX4_going_1 3 rfl rfl)
theorem dX4_going_28 : decode cX4_going 28 = .ok (.goto (-24), 3) := dk_167 255 232 (dk_at dksX4_going_1 6 rfl rfl)
theorem dX4_going_31 : decode cX4_going 31 = .ok (.iload_n 2, 1) := dk_28 (dk_at dksX4_going_1 9 rfl rfl)
theorem dX4_going_32 : decode cX4_going 32 = .ok (.ireturn, 1) := dk_172 (dk_at dksX4_going_1 10 rfl rfl)
abbrev cX4_dropFirst : ByteArray := prog_8_method_4_code
def yX4_dropFirst : MethodName := ⟨RX4, "dropFirst", "(I)V"⟩
def dkwX4_dropFirst_2 : List UInt8 := [27, 42, 180, 0, 16, 3, 42, 180, 0, 19, 184, 0, 23, 177]
abbrev dktX4_dropFirst_2 : List UInt8 := dkwX4_dropFirst_2 ++ []
def dkwX4_dropFirst_1 : List UInt8 := [184, 0, 23, 42, 180, 0, 13, 27, 42, 180, 0, 13, 3, 42, 180, 0, 19, 184, 0, 23, 42, 180, 0, 16]
abbrev dktX4_dropFirst_1 : List UInt8 := dkwX4_dropFirst_1 ++ dktX4_dropFirst_2
def dkwX4_dropFirst_0 : List UInt8 := [42, 89, 180, 0, 19, 27, 100, 181, 0, 19, 42, 180, 0, 7, 27, 42, 180, 0, 7, 3, 42, 180, 0, 19]
abbrev dktX4_dropFirst_0 : List UInt8 := dkwX4_dropFirst_0 ++ dktX4_dropFirst_1
theorem dksX4_dropFirst_0 : cX4_dropFirst.data.toList.drop 0 = dktX4_dropFirst_0 := by decide +kernel
theorem dksX4_dropFirst_1 : cX4_dropFirst.data.toList.drop 24 = dktX4_dropFirst_1 := dk_seg dksX4_dropFirst_0 24 rfl rfl
theorem dksX4_dropFirst_2 : cX4_dropFirst.data.toList.drop 48 = dktX4_dropFirst_2 := dk_seg dksX4_dropFirst_1 24 rfl rfl
theorem dX4_dropFirst_0 : decode cX4_dropFirst 0 = .ok (.aload_n 0, 1) := dk_42 (dk_at dksX4_dropFirst_0 0 rfl rfl)
theorem dX4_dropFirst_1 : decode cX4_dropFirst 1 = .ok (.dup, 1) := dk_89 (dk_at dksX4_dropFirst_0 1 rfl rfl)
theorem dX4_dropFirst_2 : decode cX4_dropFirst 2 = .ok (.getfield 19, 3) := dk_180 0 19 (dk_at dksX4_dropFirst_0 2 rfl rfl)
theorem dX4_dropFirst_5 : decode cX4_dropFirst 5 = .ok (.iload_n 1, 1) := dk_27 (dk_at dksX4_dropFirst_0 5 rfl rfl)
theorem dX4_dropFirst_6 : decode cX4_dropFirst 6 = .ok (.isub, 1) := dk_100 (dk_at dksX4_dropFirst_0 6 rfl rfl)
theorem dX4_dropFirst_7 : decode cX4_dropFirst 7 = .ok (.putfield 19, 3) := dk_181 0 19 (dk_at dksX4_dropFirst_0 7 rfl rfl)
theorem dX4_dropFirst_10 : decode cX4_dropFirst 10 = .ok (.aload_n 0, 1) := dk_42 (dk_at dksX4_dropFirst_0 10 rfl rfl)
theorem dX4_dropFirst_11 : decode cX4_dropFirst 11 = .ok (.getfield 7, 3) := dk_180 0 7 (dk_at dksX4_dropFirst_0 11 rfl rfl)
theorem dX4_dropFirst_14 : decode cX4_dropFirst 14 = .ok (.iload_n 1, 1) := dk_27 (dk_at dksX4_dropFirst_0 14 rfl rfl)
theorem dX4_dropFirst_15 : decode cX4_dropFirst 15 = .ok (.aload_n 0, 1) := dk_42 (dk_at dksX4_dropFirst_0 15 rfl rfl)
theorem dX4_dropFirst_16 : decode cX4_dropFirst 16 = .ok (.getfield 7, 3) := dk_180 0 7 (dk_at dksX4_dropFirst_0 16 rfl rfl)
theorem dX4_dropFirst_19 : decode cX4_dropFirst 19 = .ok (.iconst 0, 1) := dk_3 (dk_at dksX4_dropFirst_0 19 rfl rfl)
theorem dX4_dropFirst_20 : decode cX4_dropFirst 20 = .ok (.aload_n 0, 1) := dk_42 (dk_at dksX4_dropFirst_0 20 rfl rfl)
theorem dX4_dropFirst_21 : decode cX4_dropFirst 21 = .ok (.getfield 19, 3) := dk_180 0 19 (dk_at dksX4_dropFirst_0 21 rfl rfl)
theorem dX4_dropFirst_24 : decode cX4_dropFirst 24 = .ok (.invokestatic 23, 3) := dk_184 0 23 (dk_at dksX4_dropFirst_1 0 rfl rfl)
theorem dX4_dropFirst_27 : decode cX4_dropFirst 27 = .ok (.aload_n 0, 1) := dk_42 (dk_at dksX4_dropFirst_1 3 rfl rfl)
theorem dX4_dropFirst_28 : decode cX4_dropFirst 28 = .ok (.getfield 13, 3) := dk_180 0 13 (dk_at dksX4_dropFirst_1 4 rfl rfl)
theorem dX4_dropFirst_31 : decode cX4_dropFirst 31 = .ok (.iload_n 1, 1) := dk_27 (dk_at dksX4_dropFirst_1 7 rfl rfl)
theorem dX4_dropFirst_32 : decode cX4_dropFirst 32 = .ok (.aload_n 0, 1) := dk_42 (dk_at dksX4_dropFirst_1 8 rfl rfl)
theorem dX4_dropFirst_33 : decode cX4_dropFirst 33 = .ok (.getfield 13, 3) := dk_180 0 13 (dk_at dksX4_dropFirst_1 9 rfl rfl)
theorem dX4_dropFirst_36 : decode cX4_dropFirst 36 = .ok (.iconst 0, 1) := dk_3 (dk_at dksX4_dropFirst_1 12 rfl rfl)
theorem dX4_dropFirst_37 : decode cX4_dropFirst 37 = .ok (.aload_n 0, 1) := dk_42 (dk_at dksX4_dropFirst_1 13 rfl rfl)
theorem dX4_dropFirst_38 : decode cX4_dropFirst 38 = .ok (.getfield 19, 3) := dk_180 0 19 (dk_at dksX4_dropFirst_1 14 rfl rfl)
theorem dX4_dropFirst_41 : decode cX4_dropFirst 41 = .ok (.invokestatic 23, 3) := dk_184 0 23 (dk_at dksX4_dropFirst_1 17 rfl rfl)
theorem dX4_dropFirst_44 : decode cX4_dropFirst 44 = .ok (.aload_n 0, 1) := dk_42 (dk_at dksX4_dropFirst_1 20 rfl rfl)
theorem dX4_dropFirst_45 : decode cX4_dropFirst 45 = .ok (.getfield 16, 3) := dk_180 0 16 (dk_at dksX4_dropFirst_1 21 rfl rfl)
theorem dX4_dropFirst_48 : decode cX4_dropFirst 48 = .ok (.iload_n 1, 1) := dk_27 (dk_at dksX4_dropFirst_2 0 rfl rfl)
theorem dX4_dropFirst_49 : decode cX4_dropFirst 49 = .ok (.aload_n 0, 1) := dk_42 (dk_at dksX4_dropFirst_2 1 rfl rfl)
theorem dX4_dropFirst_50 : decode cX4_dropFirst 50 = .ok (.getfield 16, 3) := dk_180 0 16 (dk_at dksX4_dropFirst_2 2 rfl rfl)
theorem dX4_dropFirst_53 : decode cX4_dropFirst 53 = .ok (.iconst 0, 1) := dk_3 (dk_at dksX4_dropFirst_2 5 rfl rfl)
theorem dX4_dropFirst_54 : decode cX4_dropFirst 54 = .ok (.aload_n 0, 1) := dk_42 (dk_at dksX4_dropFirst_2 6 rfl rfl)
theorem dX4_dropFirst_55 : decode cX4_dropFirst 55 = .ok (.getfield 19, 3) := dk_180 0 19 (dk_at dksX4_dropFirst_2 7 rfl rfl)
theorem dX4_dropFirst_58 : decode cX4_dropFirst 58 = .ok (.invokestatic 23, 3) := dk_184 0 23 (dk_at dksX4_dropFirst_2 10 rfl rfl)
theorem dX4_dropFirst_61 : decode cX4_dropFirst 61 = .ok (.return_, 1) := dk_177 (dk_at dksX4_dropFirst_2 13 rfl rfl)
abbrev cX4_add : ByteArray := prog_8_method_3_code
def yX4_add : MethodName := ⟨RX4, "add", "(III)V"⟩
def dkwX4_add_1 : List UInt8 := [42, 180, 0, 19, 29, 79, 42, 89, 180, 0, 19, 4, 96, 181, 0, 19, 177]
abbrev dktX4_add_1 : List UInt8 := dkwX4_add_1 ++ []
def dkwX4_add_0 : List UInt8 := [42, 180, 0, 7, 42, 180, 0, 19, 27, 79, 42, 180, 0, 13, 42, 180, 0, 19, 28, 79, 42, 180, 0, 16]
abbrev dktX4_add_0 : List UInt8 := dkwX4_add_0 ++ dktX4_add_1
theorem dksX4_add_0 : cX4_add.data.toList.drop 0 = dktX4_add_0 := by decide +kernel
theorem dksX4_add_1 : cX4_add.data.toList.drop 24 = dktX4_add_1 := dk_seg dksX4_add_0 24 rfl rfl
theorem dX4_add_0 : decode cX4_add 0 = .ok (.aload_n 0, 1) := dk_42 (dk_at dksX4_add_0 0 rfl rfl)
theorem dX4_add_1 : decode cX4_add 1 = .ok (.getfield 7, 3) := dk_180 0 7 (dk_at dksX4_add_0 1 rfl rfl)
theorem dX4_add_4 : decode cX4_add 4 = .ok (.aload_n 0, 1) := dk_42 (dk_at dksX4_add_0 4 rfl rfl)
theorem dX4_add_5 : decode cX4_add 5 = .ok (.getfield 19, 3) := dk_180 0 19 (dk_at dksX4_add_0 5 rfl rfl)
theorem dX4_add_8 : decode cX4_add 8 = .ok (.iload_n 1, 1) := dk_27 (dk_at dksX4_add_0 8 rfl rfl)
theorem dX4_add_9 : decode cX4_add 9 = .ok (.iastore, 1) := dk_79 (dk_at dksX4_add_0 9 rfl rfl)
theorem dX4_add_10 : decode cX4_add 10 = .ok (.aload_n 0, 1) := dk_42 (dk_at dksX4_add_0 10 rfl rfl)
theorem dX4_add_11 : decode cX4_add 11 = .ok (.getfield 13, 3) := dk_180 0 13 (dk_at dksX4_add_0 11 rfl rfl)
theorem dX4_add_14 : decode cX4_add 14 = .ok (.aload_n 0, 1) := dk_42 (dk_at dksX4_add_0 14 rfl rfl)
theorem dX4_add_15 : decode cX4_add 15 = .ok (.getfield 19, 3) := dk_180 0 19 (dk_at dksX4_add_0 15 rfl rfl)
theorem dX4_add_18 : decode cX4_add 18 = .ok (.iload_n 2, 1) := dk_28 (dk_at dksX4_add_0 18 rfl rfl)
theorem dX4_add_19 : decode cX4_add 19 = .ok (.iastore, 1) := dk_79 (dk_at dksX4_add_0 19 rfl rfl)
theorem dX4_add_20 : decode cX4_add 20 = .ok (.aload_n 0, 1) := dk_42 (dk_at dksX4_add_0 20 rfl rfl)
theorem dX4_add_21 : decode cX4_add 21 = .ok (.getfield 16, 3) := dk_180 0 16 (dk_at dksX4_add_0 21 rfl rfl)
theorem dX4_add_24 : decode cX4_add 24 = .ok (.aload_n 0, 1) := dk_42 (dk_at dksX4_add_1 0 rfl rfl)
theorem dX4_add_25 : decode cX4_add 25 = .ok (.getfield 19, 3) := dk_180 0 19 (dk_at dksX4_add_1 1 rfl rfl)
theorem dX4_add_28 : decode cX4_add 28 = .ok (.iload_n 3, 1) := dk_29 (dk_at dksX4_add_1 4 rfl rfl)
theorem dX4_add_29 : decode cX4_add 29 = .ok (.iastore, 1) := dk_79 (dk_at dksX4_add_1 5 rfl rfl)
theorem dX4_add_30 : decode cX4_add 30 = .ok (.aload_n 0, 1) := dk_42 (dk_at dksX4_add_1 6 rfl rfl)
theorem dX4_add_31 : decode cX4_add 31 = .ok (.dup, 1) := dk_89 (dk_at dksX4_add_1 7 rfl rfl)
theorem dX4_add_32 : decode cX4_add 32 = .ok (.getfield 19, 3) := dk_180 0 19 (dk_at dksX4_add_1 8 rfl rfl)
theorem dX4_add_35 : decode cX4_add 35 = .ok (.iconst 1, 1) := dk_4 (dk_at dksX4_add_1 11 rfl rfl)
theorem dX4_add_36 : decode cX4_add 36 = .ok (.iadd, 1) := dk_96 (dk_at dksX4_add_1 12 rfl rfl)
theorem dX4_add_37 : decode cX4_add 37 = .ok (.putfield 19, 3) := dk_181 0 19 (dk_at dksX4_add_1 13 rfl rfl)
theorem dX4_add_40 : decode cX4_add 40 = .ok (.return_, 1) := dk_177 (dk_at dksX4_add_1 16 rfl rfl)
abbrev cX4_remove : ByteArray := prog_8_method_5_code
def yX4_remove : MethodName := ⟨RX4, "remove", "(I)V"⟩
def dkwX4_remove_2 : List UInt8 := [42, 180, 0, 16, 28, 42, 180, 0, 16, 28, 4, 96, 46, 79, 132, 2, 1, 167, 255, 203, 177]
abbrev dktX4_remove_2 : List UInt8 := dkwX4_remove_2 ++ []
def dkwX4_remove_1 : List UInt8 := [28, 42, 180, 0, 7, 28, 4, 96, 46, 79, 42, 180, 0, 13, 28, 42, 180, 0, 13, 28, 4, 96, 46, 79]
abbrev dktX4_remove_1 : List UInt8 := dkwX4_remove_1 ++ dktX4_remove_2
def dkwX4_remove_0 : List UInt8 := [42, 89, 180, 0, 19, 4, 100, 181, 0, 19, 27, 61, 28, 42, 180, 0, 19, 162, 0, 51, 42, 180, 0, 7]
abbrev dktX4_remove_0 : List UInt8 := dkwX4_remove_0 ++ dktX4_remove_1
theorem dksX4_remove_0 : cX4_remove.data.toList.drop 0 = dktX4_remove_0 := by decide +kernel
theorem dksX4_remove_1 : cX4_remove.data.toList.drop 24 = dktX4_remove_1 := dk_seg dksX4_remove_0 24 rfl rfl
theorem dksX4_remove_2 : cX4_remove.data.toList.drop 48 = dktX4_remove_2 := dk_seg dksX4_remove_1 24 rfl rfl
theorem dX4_remove_0 : decode cX4_remove 0 = .ok (.aload_n 0, 1) := dk_42 (dk_at dksX4_remove_0 0 rfl rfl)
theorem dX4_remove_1 : decode cX4_remove 1 = .ok (.dup, 1) := dk_89 (dk_at dksX4_remove_0 1 rfl rfl)
theorem dX4_remove_2 : decode cX4_remove 2 = .ok (.getfield 19, 3) := dk_180 0 19 (dk_at dksX4_remove_0 2 rfl rfl)
theorem dX4_remove_5 : decode cX4_remove 5 = .ok (.iconst 1, 1) := dk_4 (dk_at dksX4_remove_0 5 rfl rfl)
theorem dX4_remove_6 : decode cX4_remove 6 = .ok (.isub, 1) := dk_100 (dk_at dksX4_remove_0 6 rfl rfl)
theorem dX4_remove_7 : decode cX4_remove 7 = .ok (.putfield 19, 3) := dk_181 0 19 (dk_at dksX4_remove_0 7 rfl rfl)
theorem dX4_remove_10 : decode cX4_remove 10 = .ok (.iload_n 1, 1) := dk_27 (dk_at dksX4_remove_0 10 rfl rfl)
theorem dX4_remove_11 : decode cX4_remove 11 = .ok (.istore_n 2, 1) := dk_61 (dk_at dksX4_remove_0 11 rfl rfl)
theorem dX4_remove_12 : decode cX4_remove 12 = .ok (.iload_n 2, 1) := dk_28 (dk_at dksX4_remove_0 12 rfl rfl)
theorem dX4_remove_13 : decode cX4_remove 13 = .ok (.aload_n 0, 1) := dk_42 (dk_at dksX4_remove_0 13 rfl rfl)
theorem dX4_remove_14 : decode cX4_remove 14 = .ok (.getfield 19, 3) := dk_180 0 19 (dk_at dksX4_remove_0 14 rfl rfl)
theorem dX4_remove_17 : decode cX4_remove 17 = .ok (.if_icmp .ge 51, 3) := dk_162 0 51 (dk_at dksX4_remove_0 17 rfl rfl)
theorem dX4_remove_20 : decode cX4_remove 20 = .ok (.aload_n 0, 1) := dk_42 (dk_at dksX4_remove_0 20 rfl rfl)
theorem dX4_remove_21 : decode cX4_remove 21 = .ok (.getfield 7, 3) := dk_180 0 7 (dk_at dksX4_remove_0 21 rfl rfl)
theorem dX4_remove_24 : decode cX4_remove 24 = .ok (.iload_n 2, 1) := dk_28 (dk_at dksX4_remove_1 0 rfl rfl)
theorem dX4_remove_25 : decode cX4_remove 25 = .ok (.aload_n 0, 1) := dk_42 (dk_at dksX4_remove_1 1 rfl rfl)
theorem dX4_remove_26 : decode cX4_remove 26 = .ok (.getfield 7, 3) := dk_180 0 7 (dk_at dksX4_remove_1 2 rfl rfl)
theorem dX4_remove_29 : decode cX4_remove 29 = .ok (.iload_n 2, 1) := dk_28 (dk_at dksX4_remove_1 5 rfl rfl)
theorem dX4_remove_30 : decode cX4_remove 30 = .ok (.iconst 1, 1) := dk_4 (dk_at dksX4_remove_1 6 rfl rfl)
theorem dX4_remove_31 : decode cX4_remove 31 = .ok (.iadd, 1) := dk_96 (dk_at dksX4_remove_1 7 rfl rfl)
theorem dX4_remove_32 : decode cX4_remove 32 = .ok (.iaload, 1) := dk_46 (dk_at dksX4_remove_1 8 rfl rfl)
theorem dX4_remove_33 : decode cX4_remove 33 = .ok (.iastore, 1) := dk_79 (dk_at dksX4_remove_1 9 rfl rfl)
theorem dX4_remove_34 : decode cX4_remove 34 = .ok (.aload_n 0, 1) := dk_42 (dk_at dksX4_remove_1 10 rfl rfl)
theorem dX4_remove_35 : decode cX4_remove 35 = .ok (.getfield 13, 3) := dk_180 0 13 (dk_at dksX4_remove_1 11 rfl rfl)
theorem dX4_remove_38 : decode cX4_remove 38 = .ok (.iload_n 2, 1) := dk_28 (dk_at dksX4_remove_1 14 rfl rfl)
theorem dX4_remove_39 : decode cX4_remove 39 = .ok (.aload_n 0, 1) := dk_42 (dk_at dksX4_remove_1 15 rfl rfl)
theorem dX4_remove_40 : decode cX4_remove 40 = .ok (.getfield 13, 3) := dk_180 0 13 (dk_at dksX4_remove_1 16 rfl rfl)
theorem dX4_remove_43 : decode cX4_remove 43 = .ok (.iload_n 2, 1) := dk_28 (dk_at dksX4_remove_1 19 rfl rfl)
theorem dX4_remove_44 : decode cX4_remove 44 = .ok (.iconst 1, 1) := dk_4 (dk_at dksX4_remove_1 20 rfl rfl)
theorem dX4_remove_45 : decode cX4_remove 45 = .ok (.iadd, 1) := dk_96 (dk_at dksX4_remove_1 21 rfl rfl)
theorem dX4_remove_46 : decode cX4_remove 46 = .ok (.iaload, 1) := dk_46 (dk_at dksX4_remove_1 22 rfl rfl)
theorem dX4_remove_47 : decode cX4_remove 47 = .ok (.iastore, 1) := dk_79 (dk_at dksX4_remove_1 23 rfl rfl)
theorem dX4_remove_48 : decode cX4_remove 48 = .ok (.aload_n 0, 1) := dk_42 (dk_at dksX4_remove_2 0 rfl rfl)
theorem dX4_remove_49 : decode cX4_remove 49 = .ok (.getfield 16, 3) := dk_180 0 16 (dk_at dksX4_remove_2 1 rfl rfl)
theorem dX4_remove_52 : decode cX4_remove 52 = .ok (.iload_n 2, 1) := dk_28 (dk_at dksX4_remove_2 4 rfl rfl)
theorem dX4_remove_53 : decode cX4_remove 53 = .ok (.aload_n 0, 1) := dk_42 (dk_at dksX4_remove_2 5 rfl rfl)
theorem dX4_remove_54 : decode cX4_remove 54 = .ok (.getfield 16, 3) := dk_180 0 16 (dk_at dksX4_remove_2 6 rfl rfl)
theorem dX4_remove_57 : decode cX4_remove 57 = .ok (.iload_n 2, 1) := dk_28 (dk_at dksX4_remove_2 9 rfl rfl)
theorem dX4_remove_58 : decode cX4_remove 58 = .ok (.iconst 1, 1) := dk_4 (dk_at dksX4_remove_2 10 rfl rfl)
theorem dX4_remove_59 : decode cX4_remove 59 = .ok (.iadd, 1) := dk_96 (dk_at dksX4_remove_2 11 rfl rfl)
theorem dX4_remove_60 : decode cX4_remove 60 = .ok (.iaload, 1) := dk_46 (dk_at dksX4_remove_2 12 rfl rfl)
theorem dX4_remove_61 : decode cX4_remove 61 = .ok (.iastore, 1) := dk_79 (dk_at dksX4_remove_2 13 rfl rfl)
theorem dX4_remove_62 : decode cX4_remove 62 = .ok (.iinc 2 1, 3) := dk_132 2 1 (dk_at dksX4_remove_2 14 rfl rfl)
theorem dX4_remove_65 : decode cX4_remove 65 = .ok (.goto (-53), 3) := dk_167 255 203 (dk_at dksX4_remove_2 17 rfl rfl)
theorem dX4_remove_68 : decode cX4_remove 68 = .ok (.return_, 1) := dk_177 (dk_at dksX4_remove_2 20 rfl rfl)
abbrev cX4_of : ByteArray := prog_8_method_7_code
def yX4_of : MethodName := ⟨RX4, "of", "(I)I"⟩
def dkwX4_of_1 : List UInt8 := [132, 2, 1, 132, 3, 1, 167, 255, 232, 28, 172]
abbrev dktX4_of_1 : List UInt8 := dkwX4_of_1 ++ []
def dkwX4_of_0 : List UInt8 := [3, 61, 3, 62, 29, 42, 180, 0, 19, 162, 0, 22, 42, 180, 0, 16, 29, 46, 27, 160, 0, 6]
abbrev dktX4_of_0 : List UInt8 := dkwX4_of_0 ++ dktX4_of_1
theorem dksX4_of_0 : cX4_of.data.toList.drop 0 = dktX4_of_0 := by decide +kernel
theorem dksX4_of_1 : cX4_of.data.toList.drop 22 = dktX4_of_1 := dk_seg dksX4_of_0 22 rfl rfl
theorem dX4_of_0 : decode cX4_of 0 = .ok (.iconst 0, 1) := dk_3 (dk_at dksX4_of_0 0 rfl rfl)
theorem dX4_of_1 : decode cX4_of 1 = .ok (.istore_n 2, 1) := dk_61 (dk_at dksX4_of_0 1 rfl rfl)
theorem dX4_of_2 : decode cX4_of 2 = .ok (.iconst 0, 1) := dk_3 (dk_at dksX4_of_0 2 rfl rfl)
theorem dX4_of_3 : decode cX4_of 3 = .ok (.istore_n 3, 1) := dk_62 (dk_at dksX4_of_0 3 rfl rfl)
theorem dX4_of_4 : decode cX4_of 4 = .ok (.iload_n 3, 1) := dk_29 (dk_at dksX4_of_0 4 rfl rfl)
theorem dX4_of_5 : decode cX4_of 5 = .ok (.aload_n 0, 1) := dk_42 (dk_at dksX4_of_0 5 rfl rfl)
theorem dX4_of_6 : decode cX4_of 6 = .ok (.getfield 19, 3) := dk_180 0 19 (dk_at dksX4_of_0 6 rfl rfl)
theorem dX4_of_9 : decode cX4_of 9 = .ok (.if_icmp .ge 22, 3) := dk_162 0 22 (dk_at dksX4_of_0 9 rfl rfl)
theorem dX4_of_12 : decode cX4_of 12 = .ok (.aload_n 0, 1) := dk_42 (dk_at dksX4_of_0 12 rfl rfl)
theorem dX4_of_13 : decode cX4_of 13 = .ok (.getfield 16, 3) := dk_180 0 16 (dk_at dksX4_of_0 13 rfl rfl)
theorem dX4_of_16 : decode cX4_of 16 = .ok (.iload_n 3, 1) := dk_29 (dk_at dksX4_of_0 16 rfl rfl)
theorem dX4_of_17 : decode cX4_of 17 = .ok (.iaload, 1) := dk_46 (dk_at dksX4_of_0 17 rfl rfl)
theorem dX4_of_18 : decode cX4_of 18 = .ok (.iload_n 1, 1) := dk_27 (dk_at dksX4_of_0 18 rfl rfl)
theorem dX4_of_19 : decode cX4_of 19 = .ok (.if_icmp .ne 6, 3) := dk_160 0 6 (dk_at dksX4_of_0 19 rfl rfl)
theorem dX4_of_22 : decode cX4_of 22 = .ok (.iinc 2 1, 3) := dk_132 2 1 (dk_at dksX4_of_1 0 rfl rfl)
theorem dX4_of_25 : decode cX4_of 25 = .ok (.iinc 3 1, 3) := dk_132 3 1 (dk_at dksX4_of_1 3 rfl rfl)
theorem dX4_of_28 : decode cX4_of 28 = .ok (.goto (-24), 3) := dk_167 255 232 (dk_at dksX4_of_1 6 rfl rfl)
theorem dX4_of_31 : decode cX4_of 31 = .ok (.iload_n 2, 1) := dk_28 (dk_at dksX4_of_1 9 rfl rfl)
theorem dX4_of_32 : decode cX4_of 32 = .ok (.ireturn, 1) := dk_172 (dk_at dksX4_of_1 10 rfl rfl)
theorem q152 : (Jvm.Cond.initialized "BusLine$Riders") ∈ lw_all := lw_g (lw_at lw_m1 28 rfl) rfl
theorem q389 : (Jvm.Cond.selects "BusLine$Riders" ({ cls := "java/lang/Object", name := "getClass", desc := "()Ljava/lang/Class;" } : Jvm.MethodName) ({ cls := "java/lang/Object", name := "getClass", desc := "()Ljava/lang/Class;" } : Jvm.MethodName)) ∈ lw_all := lw_g (lw_at lw_m2 25 rfl) rfl
theorem q828 : (Jvm.Cond.instantiable "BusLine$Riders" (4 : Nat)) ∈ lw_all := lw_g (lw_at lw_m3 224 rfl) rfl
theorem q830 : (Jvm.Cond.instanceMethod ({ cls := "BusLine$Riders", name := "<init>", desc := "(I)V" } : Jvm.MethodName)) ∈ lw_all := lw_g (lw_at lw_m3 226 rfl) rfl
theorem q831 : (Jvm.Cond.code ({ cls := "BusLine$Riders", name := "<init>", desc := "(I)V" } : Jvm.MethodName) prog_8_method_1_code (2 : Nat) (Option.none : Option Jvm.ClassFile.FieldType)) ∈ lw_all := lw_g (lw_at lw_m3 227 rfl) rfl
theorem q832 : (Jvm.Cond.methodLink "BusLine$Riders" (1 : Nat) ({ cls := "java/lang/Object", name := "<init>", desc := "()V" } : Jvm.MethodName)) ∈ lw_all := lw_g (lw_at lw_m3 228 rfl) rfl
theorem q833 : (Jvm.Cond.fieldLink "BusLine$Riders" (7 : Nat) "BusLine$Riders" "to" "[I") ∈ lw_all := lw_g (lw_at lw_m3 229 rfl) rfl
theorem q836 : (Jvm.Cond.fieldLink "BusLine$Riders" (13 : Nat) "BusLine$Riders" "since" "[I") ∈ lw_all := lw_g (lw_at lw_m3 232 rfl) rfl
theorem q839 : (Jvm.Cond.fieldLink "BusLine$Riders" (16 : Nat) "BusLine$Riders" "flow" "[I") ∈ lw_all := lw_g (lw_at lw_m3 235 rfl) rfl
theorem q842 : (Jvm.Cond.fieldLink "BusLine$Riders" (19 : Nat) "BusLine$Riders" "many" "I") ∈ lw_all := lw_g (lw_at lw_m3 238 rfl) rfl
theorem q846 : (Jvm.Cond.laysFinal "BusLine$Riders" "BusLine$Riders" "to" "[I") ∈ lw_all := lw_g (lw_at lw_m4 2 rfl) rfl
theorem q847 : (Jvm.Cond.soleField "BusLine$Riders" "to") ∈ lw_all := lw_g (lw_at lw_m4 3 rfl) rfl
theorem q848 : (Jvm.Cond.laysFinal "BusLine$Riders" "BusLine$Riders" "since" "[I") ∈ lw_all := lw_g (lw_at lw_m4 4 rfl) rfl
theorem q849 : (Jvm.Cond.soleField "BusLine$Riders" "since") ∈ lw_all := lw_g (lw_at lw_m4 5 rfl) rfl
theorem q850 : (Jvm.Cond.laysFinal "BusLine$Riders" "BusLine$Riders" "flow" "[I") ∈ lw_all := lw_g (lw_at lw_m4 6 rfl) rfl
theorem q851 : (Jvm.Cond.soleField "BusLine$Riders" "flow") ∈ lw_all := lw_g (lw_at lw_m4 7 rfl) rfl
theorem q852 : (Jvm.Cond.lays "BusLine$Riders" "BusLine$Riders" "many" "I") ∈ lw_all := lw_g (lw_at lw_m4 8 rfl) rfl
theorem q853 : (Jvm.Cond.soleField "BusLine$Riders" "many") ∈ lw_all := lw_g (lw_at lw_m4 9 rfl) rfl
theorem q854 : (Jvm.Cond.superclass "BusLine$Riders" "java/lang/Object") ∈ lw_all := lw_g (lw_at lw_m4 10 rfl) rfl
theorem q1610 : (Jvm.Cond.selects "BusLine$Riders" ({ cls := "java/lang/Object", name := "equals", desc := "(Ljava/lang/Object;)Z" } : Jvm.MethodName) ({ cls := "java/lang/Object", name := "equals", desc := "(Ljava/lang/Object;)Z" } : Jvm.MethodName)) ∈ lw_all := lw_g (lw_at lw_m7 46 rfl) rfl
theorem q1898 : (Jvm.Cond.instanceMethod ({ cls := "BusLine$Riders", name := "copyTo", desc := "(LBusLine$Riders;)V" } : Jvm.MethodName)) ∈ lw_all := lw_g (lw_at lw_m8 94 rfl) rfl
theorem q1899 : (Jvm.Cond.selects "BusLine$Riders" ({ cls := "BusLine$Riders", name := "copyTo", desc := "(LBusLine$Riders;)V" } : Jvm.MethodName) ({ cls := "BusLine$Riders", name := "copyTo", desc := "(LBusLine$Riders;)V" } : Jvm.MethodName)) ∈ lw_all := lw_g (lw_at lw_m8 95 rfl) rfl
theorem q1900 : (Jvm.Cond.code ({ cls := "BusLine$Riders", name := "copyTo", desc := "(LBusLine$Riders;)V" } : Jvm.MethodName) prog_8_method_2_code (2 : Nat) (Option.none : Option Jvm.ClassFile.FieldType)) ∈ lw_all := lw_g (lw_at lw_m8 96 rfl) rfl
theorem q1901 : (Jvm.Cond.methodLink "BusLine$Riders" (23 : Nat) ({ cls := "java/lang/System", name := "arraycopy", desc := "(Ljava/lang/Object;ILjava/lang/Object;II)V" } : Jvm.MethodName)) ∈ lw_all := lw_g (lw_at lw_m8 97 rfl) rfl
theorem q1941 : (Jvm.Cond.instanceMethod ({ cls := "BusLine$Riders", name := "going", desc := "(I)I" } : Jvm.MethodName)) ∈ lw_all := lw_g (lw_at lw_m8 137 rfl) rfl
theorem q1942 : (Jvm.Cond.selects "BusLine$Riders" ({ cls := "BusLine$Riders", name := "going", desc := "(I)I" } : Jvm.MethodName) ({ cls := "BusLine$Riders", name := "going", desc := "(I)I" } : Jvm.MethodName)) ∈ lw_all := lw_g (lw_at lw_m8 138 rfl) rfl
theorem q1943 : (Jvm.Cond.code ({ cls := "BusLine$Riders", name := "going", desc := "(I)I" } : Jvm.MethodName) prog_8_method_6_code (4 : Nat) (Option.some Jvm.ClassFile.FieldType.int)) ∈ lw_all := lw_g (lw_at lw_m8 139 rfl) rfl
theorem q2058 : (Jvm.Cond.instanceMethod ({ cls := "BusLine$Riders", name := "dropFirst", desc := "(I)V" } : Jvm.MethodName)) ∈ lw_all := lw_g (lw_at lw_m9 14 rfl) rfl
theorem q2059 : (Jvm.Cond.selects "BusLine$Riders" ({ cls := "BusLine$Riders", name := "dropFirst", desc := "(I)V" } : Jvm.MethodName) ({ cls := "BusLine$Riders", name := "dropFirst", desc := "(I)V" } : Jvm.MethodName)) ∈ lw_all := lw_g (lw_at lw_m9 15 rfl) rfl
theorem q2060 : (Jvm.Cond.code ({ cls := "BusLine$Riders", name := "dropFirst", desc := "(I)V" } : Jvm.MethodName) prog_8_method_4_code (2 : Nat) (Option.none : Option Jvm.ClassFile.FieldType)) ∈ lw_all := lw_g (lw_at lw_m9 16 rfl) rfl
theorem q2062 : (Jvm.Cond.instanceMethod ({ cls := "BusLine$Riders", name := "add", desc := "(III)V" } : Jvm.MethodName)) ∈ lw_all := lw_g (lw_at lw_m9 18 rfl) rfl
theorem q2063 : (Jvm.Cond.selects "BusLine$Riders" ({ cls := "BusLine$Riders", name := "add", desc := "(III)V" } : Jvm.MethodName) ({ cls := "BusLine$Riders", name := "add", desc := "(III)V" } : Jvm.MethodName)) ∈ lw_all := lw_g (lw_at lw_m9 19 rfl) rfl
theorem q2064 : (Jvm.Cond.code ({ cls := "BusLine$Riders", name := "add", desc := "(III)V" } : Jvm.MethodName) prog_8_method_3_code (4 : Nat) (Option.none : Option Jvm.ClassFile.FieldType)) ∈ lw_all := lw_g (lw_at lw_m9 20 rfl) rfl
theorem q2177 : (Jvm.Cond.instanceMethod ({ cls := "BusLine$Riders", name := "remove", desc := "(I)V" } : Jvm.MethodName)) ∈ lw_all := lw_g (lw_at lw_m9 133 rfl) rfl
theorem q2178 : (Jvm.Cond.selects "BusLine$Riders" ({ cls := "BusLine$Riders", name := "remove", desc := "(I)V" } : Jvm.MethodName) ({ cls := "BusLine$Riders", name := "remove", desc := "(I)V" } : Jvm.MethodName)) ∈ lw_all := lw_g (lw_at lw_m9 134 rfl) rfl
theorem q2179 : (Jvm.Cond.code ({ cls := "BusLine$Riders", name := "remove", desc := "(I)V" } : Jvm.MethodName) prog_8_method_5_code (3 : Nat) (Option.none : Option Jvm.ClassFile.FieldType)) ∈ lw_all := lw_g (lw_at lw_m9 135 rfl) rfl
theorem q2263 : (Jvm.Cond.instanceMethod ({ cls := "BusLine$Riders", name := "of", desc := "(I)I" } : Jvm.MethodName)) ∈ lw_all := lw_g (lw_at lw_m9 219 rfl) rfl
theorem q2264 : (Jvm.Cond.selects "BusLine$Riders" ({ cls := "BusLine$Riders", name := "of", desc := "(I)I" } : Jvm.MethodName) ({ cls := "BusLine$Riders", name := "of", desc := "(I)I" } : Jvm.MethodName)) ∈ lw_all := lw_g (lw_at lw_m9 220 rfl) rfl
theorem q2265 : (Jvm.Cond.code ({ cls := "BusLine$Riders", name := "of", desc := "(I)I" } : Jvm.MethodName) prog_8_method_7_code (4 : Nat) (Option.some Jvm.ClassFile.FieldType.int)) ∈ lw_all := lw_g (lw_at lw_m9 221 rfl) rfl
theorem q3228 : (Jvm.Cond.castable "BusLine$Riders" "java/lang/Object") ∈ lw_tbl := lw_at lw_m13 224 rfl
theorem in_X4 : ∀ w ∈ wsX40, w ∈ lw_all := lw_in wsX40 [846, 848, 850, 852] (by decide +kernel) (by decide +kernel)

/-! BusLine$Leavings -/
set_option maxRecDepth 100000
def RX5 : String := "BusLine$Leavings"
def TX5 : u_T := fun k => match k with
  | 0 => ("BusLine$Leavings", "buses", "[I", true)
  | 1 => ("BusLine$Leavings", "times", "[I", true)
  | 2 => ("BusLine$Leavings", "gaps", "[I", true)
  | 3 => ("BusLine$Leavings", "many", "I", false)
  | 4 => ("BusLine$Leavings", "all", "I", false)
  | _ => ("BusLine$Leavings", "last", "I", false)
def tyX5 : Nat → FieldType := fun k => match k with
  | 0 => .array .int
  | 1 => .array .int
  | 2 => .array .int
  | 3 => .int
  | 4 => .int
  | _ => .int
abbrev wsX50 : List Cond := u_ws RX5 TX5 6
theorem nmX5 : ∀ a, a < 6 → ∀ b, b < 6 → a ≠ b → (TX5 a).2.1 ≠ (TX5 b).2.1 := by decide +kernel
theorem tyX5_ok : ∀ k, k < 6 → parseFieldDescriptor (TX5 k).2.2.1 = some (tyX5 k) := by decide +kernel
abbrev cX5_init : ByteArray := prog_5_method_1_code
def yX5_init : MethodName := ⟨RX5, "<init>", "()V"⟩
def dkwX5_init_1 : List UInt8 := [188, 10, 181, 0, 18, 42, 16, 254, 181, 0, 21, 177]
abbrev dktX5_init_1 : List UInt8 := dkwX5_init_1 ++ []
def dkwX5_init_0 : List UInt8 := [42, 183, 0, 3, 42, 16, 8, 188, 10, 181, 0, 9, 42, 16, 8, 188, 10, 181, 0, 15, 42, 16, 8]
abbrev dktX5_init_0 : List UInt8 := dkwX5_init_0 ++ dktX5_init_1
theorem dksX5_init_0 : cX5_init.data.toList.drop 0 = dktX5_init_0 := by decide +kernel
theorem dksX5_init_1 : cX5_init.data.toList.drop 23 = dktX5_init_1 := dk_seg dksX5_init_0 23 rfl rfl
theorem dX5_init_0 : decode cX5_init 0 = .ok (.aload_n 0, 1) := dk_42 (dk_at dksX5_init_0 0 rfl rfl)
theorem dX5_init_1 : decode cX5_init 1 = .ok (.invokespecial 3, 3) := dk_183 0 3 (dk_at dksX5_init_0 1 rfl rfl)
theorem dX5_init_4 : decode cX5_init 4 = .ok (.aload_n 0, 1) := dk_42 (dk_at dksX5_init_0 4 rfl rfl)
theorem dX5_init_5 : decode cX5_init 5 = .ok (.bipush 8, 2) := dk_16 8 (dk_at dksX5_init_0 5 rfl rfl)
theorem dX5_init_7 : decode cX5_init 7 = .ok (.newarray .int, 2) := dk_188_10 (dk_at dksX5_init_0 7 rfl rfl)
theorem dX5_init_9 : decode cX5_init 9 = .ok (.putfield 9, 3) := dk_181 0 9 (dk_at dksX5_init_0 9 rfl rfl)
theorem dX5_init_12 : decode cX5_init 12 = .ok (.aload_n 0, 1) := dk_42 (dk_at dksX5_init_0 12 rfl rfl)
theorem dX5_init_13 : decode cX5_init 13 = .ok (.bipush 8, 2) := dk_16 8 (dk_at dksX5_init_0 13 rfl rfl)
theorem dX5_init_15 : decode cX5_init 15 = .ok (.newarray .int, 2) := dk_188_10 (dk_at dksX5_init_0 15 rfl rfl)
theorem dX5_init_17 : decode cX5_init 17 = .ok (.putfield 15, 3) := dk_181 0 15 (dk_at dksX5_init_0 17 rfl rfl)
theorem dX5_init_20 : decode cX5_init 20 = .ok (.aload_n 0, 1) := dk_42 (dk_at dksX5_init_0 20 rfl rfl)
theorem dX5_init_21 : decode cX5_init 21 = .ok (.bipush 8, 2) := dk_16 8 (dk_at dksX5_init_0 21 rfl rfl)
theorem dX5_init_23 : decode cX5_init 23 = .ok (.newarray .int, 2) := dk_188_10 (dk_at dksX5_init_1 0 rfl rfl)
theorem dX5_init_25 : decode cX5_init 25 = .ok (.putfield 18, 3) := dk_181 0 18 (dk_at dksX5_init_1 2 rfl rfl)
theorem dX5_init_28 : decode cX5_init 28 = .ok (.aload_n 0, 1) := dk_42 (dk_at dksX5_init_1 5 rfl rfl)
theorem dX5_init_29 : decode cX5_init 29 = .ok (.bipush (-2), 2) := dk_16 254 (dk_at dksX5_init_1 6 rfl rfl)
theorem dX5_init_31 : decode cX5_init 31 = .ok (.putfield 21, 3) := dk_181 0 21 (dk_at dksX5_init_1 8 rfl rfl)
theorem dX5_init_34 : decode cX5_init 34 = .ok (.return_, 1) := dk_177 (dk_at dksX5_init_1 11 rfl rfl)
abbrev cX5_copyTo : ByteArray := prog_5_method_2_code
def yX5_copyTo : MethodName := ⟨RX5, "copyTo", "(LBusLine$Leavings;)V"⟩
def dkwX5_copyTo_2 : List UInt8 := [3, 16, 8, 184, 0, 31, 42, 180, 0, 18, 3, 43, 180, 0, 18, 3, 16, 8, 184, 0, 31, 177]
abbrev dktX5_copyTo_2 : List UInt8 := dkwX5_copyTo_2 ++ []
def dkwX5_copyTo_1 : List UInt8 := [42, 180, 0, 9, 3, 43, 180, 0, 9, 3, 16, 8, 184, 0, 31, 42, 180, 0, 15, 3, 43, 180, 0, 15]
abbrev dktX5_copyTo_1 : List UInt8 := dkwX5_copyTo_1 ++ dktX5_copyTo_2
def dkwX5_copyTo_0 : List UInt8 := [43, 42, 180, 0, 25, 181, 0, 25, 43, 42, 180, 0, 28, 181, 0, 28, 43, 42, 180, 0, 21, 181, 0, 21]
abbrev dktX5_copyTo_0 : List UInt8 := dkwX5_copyTo_0 ++ dktX5_copyTo_1
theorem dksX5_copyTo_0 : cX5_copyTo.data.toList.drop 0 = dktX5_copyTo_0 := by decide +kernel
theorem dksX5_copyTo_1 : cX5_copyTo.data.toList.drop 24 = dktX5_copyTo_1 := dk_seg dksX5_copyTo_0 24 rfl rfl
theorem dksX5_copyTo_2 : cX5_copyTo.data.toList.drop 48 = dktX5_copyTo_2 := dk_seg dksX5_copyTo_1 24 rfl rfl
theorem dX5_copyTo_0 : decode cX5_copyTo 0 = .ok (.aload_n 1, 1) := dk_43 (dk_at dksX5_copyTo_0 0 rfl rfl)
theorem dX5_copyTo_1 : decode cX5_copyTo 1 = .ok (.aload_n 0, 1) := dk_42 (dk_at dksX5_copyTo_0 1 rfl rfl)
theorem dX5_copyTo_2 : decode cX5_copyTo 2 = .ok (.getfield 25, 3) := dk_180 0 25 (dk_at dksX5_copyTo_0 2 rfl rfl)
theorem dX5_copyTo_5 : decode cX5_copyTo 5 = .ok (.putfield 25, 3) := dk_181 0 25 (dk_at dksX5_copyTo_0 5 rfl rfl)
theorem dX5_copyTo_8 : decode cX5_copyTo 8 = .ok (.aload_n 1, 1) := dk_43 (dk_at dksX5_copyTo_0 8 rfl rfl)
theorem dX5_copyTo_9 : decode cX5_copyTo 9 = .ok (.aload_n 0, 1) := dk_42 (dk_at dksX5_copyTo_0 9 rfl rfl)
theorem dX5_copyTo_10 : decode cX5_copyTo 10 = .ok (.getfield 28, 3) := dk_180 0 28 (dk_at dksX5_copyTo_0 10 rfl rfl)
theorem dX5_copyTo_13 : decode cX5_copyTo 13 = .ok (.putfield 28, 3) := dk_181 0 28 (dk_at dksX5_copyTo_0 13 rfl rfl)
theorem dX5_copyTo_16 : decode cX5_copyTo 16 = .ok (.aload_n 1, 1) := dk_43 (dk_at dksX5_copyTo_0 16 rfl rfl)
theorem dX5_copyTo_17 : decode cX5_copyTo 17 = .ok (.aload_n 0, 1) := dk_42 (dk_at dksX5_copyTo_0 17 rfl rfl)
theorem dX5_copyTo_18 : decode cX5_copyTo 18 = .ok (.getfield 21, 3) := dk_180 0 21 (dk_at dksX5_copyTo_0 18 rfl rfl)
theorem dX5_copyTo_21 : decode cX5_copyTo 21 = .ok (.putfield 21, 3) := dk_181 0 21 (dk_at dksX5_copyTo_0 21 rfl rfl)
theorem dX5_copyTo_24 : decode cX5_copyTo 24 = .ok (.aload_n 0, 1) := dk_42 (dk_at dksX5_copyTo_1 0 rfl rfl)
theorem dX5_copyTo_25 : decode cX5_copyTo 25 = .ok (.getfield 9, 3) := dk_180 0 9 (dk_at dksX5_copyTo_1 1 rfl rfl)
theorem dX5_copyTo_28 : decode cX5_copyTo 28 = .ok (.iconst 0, 1) := dk_3 (dk_at dksX5_copyTo_1 4 rfl rfl)
theorem dX5_copyTo_29 : decode cX5_copyTo 29 = .ok (.aload_n 1, 1) := dk_43 (dk_at dksX5_copyTo_1 5 rfl rfl)
theorem dX5_copyTo_30 : decode cX5_copyTo 30 = .ok (.getfield 9, 3) := dk_180 0 9 (dk_at dksX5_copyTo_1 6 rfl rfl)
theorem dX5_copyTo_33 : decode cX5_copyTo 33 = .ok (.iconst 0, 1) := dk_3 (dk_at dksX5_copyTo_1 9 rfl rfl)
theorem dX5_copyTo_34 : decode cX5_copyTo 34 = .ok (.bipush 8, 2) := dk_16 8 (dk_at dksX5_copyTo_1 10 rfl rfl)
theorem dX5_copyTo_36 : decode cX5_copyTo 36 = .ok (.invokestatic 31, 3) := dk_184 0 31 (dk_at dksX5_copyTo_1 12 rfl rfl)
theorem dX5_copyTo_39 : decode cX5_copyTo 39 = .ok (.aload_n 0, 1) := dk_42 (dk_at dksX5_copyTo_1 15 rfl rfl)
theorem dX5_copyTo_40 : decode cX5_copyTo 40 = .ok (.getfield 15, 3) := dk_180 0 15 (dk_at dksX5_copyTo_1 16 rfl rfl)
theorem dX5_copyTo_43 : decode cX5_copyTo 43 = .ok (.iconst 0, 1) := dk_3 (dk_at dksX5_copyTo_1 19 rfl rfl)
theorem dX5_copyTo_44 : decode cX5_copyTo 44 = .ok (.aload_n 1, 1) := dk_43 (dk_at dksX5_copyTo_1 20 rfl rfl)
theorem dX5_copyTo_45 : decode cX5_copyTo 45 = .ok (.getfield 15, 3) := dk_180 0 15 (dk_at dksX5_copyTo_1 21 rfl rfl)
theorem dX5_copyTo_48 : decode cX5_copyTo 48 = .ok (.iconst 0, 1) := dk_3 (dk_at dksX5_copyTo_2 0 rfl rfl)
theorem dX5_copyTo_49 : decode cX5_copyTo 49 = .ok (.bipush 8, 2) := dk_16 8 (dk_at dksX5_copyTo_2 1 rfl rfl)
theorem dX5_copyTo_51 : decode cX5_copyTo 51 = .ok (.invokestatic 31, 3) := dk_184 0 31 (dk_at dksX5_copyTo_2 3 rfl rfl)
theorem dX5_copyTo_54 : decode cX5_copyTo 54 = .ok (.aload_n 0, 1) := dk_42 (dk_at dksX5_copyTo_2 6 rfl rfl)
theorem dX5_copyTo_55 : decode cX5_copyTo 55 = .ok (.getfield 18, 3) := dk_180 0 18 (dk_at dksX5_copyTo_2 7 rfl rfl)
theorem dX5_copyTo_58 : decode cX5_copyTo 58 = .ok (.iconst 0, 1) := dk_3 (dk_at dksX5_copyTo_2 10 rfl rfl)
theorem dX5_copyTo_59 : decode cX5_copyTo 59 = .ok (.aload_n 1, 1) := dk_43 (dk_at dksX5_copyTo_2 11 rfl rfl)
theorem dX5_copyTo_60 : decode cX5_copyTo 60 = .ok (.getfield 18, 3) := dk_180 0 18 (dk_at dksX5_copyTo_2 12 rfl rfl)
theorem dX5_copyTo_63 : decode cX5_copyTo 63 = .ok (.iconst 0, 1) := dk_3 (dk_at dksX5_copyTo_2 15 rfl rfl)
theorem dX5_copyTo_64 : decode cX5_copyTo 64 = .ok (.bipush 8, 2) := dk_16 8 (dk_at dksX5_copyTo_2 16 rfl rfl)
theorem dX5_copyTo_66 : decode cX5_copyTo 66 = .ok (.invokestatic 31, 3) := dk_184 0 31 (dk_at dksX5_copyTo_2 18 rfl rfl)
theorem dX5_copyTo_69 : decode cX5_copyTo 69 = .ok (.return_, 1) := dk_177 (dk_at dksX5_copyTo_2 21 rfl rfl)
abbrev cX5_add : ByteArray := prog_5_method_3_code
def yX5_add : MethodName := ⟨RX5, "add", "(II)I"⟩
def dkwX5_add_5 : List UInt8 := [180, 0, 18, 3, 29, 79, 42, 89, 180, 0, 28, 4, 96, 181, 0, 28, 42, 28, 181, 0, 21, 29, 172]
abbrev dktX5_add_5 : List UInt8 := dkwX5_add_5 ++ []
def dkwX5_add_4 : List UInt8 := [79, 132, 4, 255, 167, 255, 200, 42, 180, 0, 9, 3, 27, 79, 42, 180, 0, 15, 3, 28, 79, 42]
abbrev dktX5_add_4 : List UInt8 := dkwX5_add_4 ++ dktX5_add_5
def dkwX5_add_3 : List UInt8 := [180, 0, 15, 21, 4, 4, 100, 46, 79, 42, 180, 0, 18, 21, 4, 42, 180, 0, 18, 21, 4, 4, 100, 46]
abbrev dktX5_add_3 : List UInt8 := dkwX5_add_3 ++ dktX5_add_4
def dkwX5_add_2 : List UInt8 := [42, 180, 0, 9, 21, 4, 42, 180, 0, 9, 21, 4, 4, 100, 46, 79, 42, 180, 0, 15, 21, 4, 42]
abbrev dktX5_add_2 : List UInt8 := dkwX5_add_2 ++ dktX5_add_3
def dkwX5_add_1 : List UInt8 := [180, 0, 25, 4, 96, 184, 0, 37, 181, 0, 25, 42, 180, 0, 25, 4, 100, 54, 4, 21, 4, 158, 0, 57]
abbrev dktX5_add_1 : List UInt8 := dkwX5_add_1 ++ dktX5_add_2
def dkwX5_add_0 : List UInt8 := [42, 180, 0, 21, 156, 0, 8, 16, 254, 167, 0, 9, 28, 42, 180, 0, 21, 100, 62, 42, 16, 8, 42]
abbrev dktX5_add_0 : List UInt8 := dkwX5_add_0 ++ dktX5_add_1
theorem dksX5_add_0 : cX5_add.data.toList.drop 0 = dktX5_add_0 := by decide +kernel
theorem dksX5_add_1 : cX5_add.data.toList.drop 23 = dktX5_add_1 := dk_seg dksX5_add_0 23 rfl rfl
theorem dksX5_add_2 : cX5_add.data.toList.drop 47 = dktX5_add_2 := dk_seg dksX5_add_1 24 rfl rfl
theorem dksX5_add_3 : cX5_add.data.toList.drop 70 = dktX5_add_3 := dk_seg dksX5_add_2 23 rfl rfl
theorem dksX5_add_4 : cX5_add.data.toList.drop 94 = dktX5_add_4 := dk_seg dksX5_add_3 24 rfl rfl
theorem dksX5_add_5 : cX5_add.data.toList.drop 116 = dktX5_add_5 := dk_seg dksX5_add_4 22 rfl rfl
theorem dX5_add_0 : decode cX5_add 0 = .ok (.aload_n 0, 1) := dk_42 (dk_at dksX5_add_0 0 rfl rfl)
theorem dX5_add_1 : decode cX5_add 1 = .ok (.getfield 21, 3) := dk_180 0 21 (dk_at dksX5_add_0 1 rfl rfl)
theorem dX5_add_4 : decode cX5_add 4 = .ok (.ifCond .ge 8, 3) := dk_156 0 8 (dk_at dksX5_add_0 4 rfl rfl)
theorem dX5_add_7 : decode cX5_add 7 = .ok (.bipush (-2), 2) := dk_16 254 (dk_at dksX5_add_0 7 rfl rfl)
theorem dX5_add_9 : decode cX5_add 9 = .ok (.goto 9, 3) := dk_167 0 9 (dk_at dksX5_add_0 9 rfl rfl)
theorem dX5_add_12 : decode cX5_add 12 = .ok (.iload_n 2, 1) := dk_28 (dk_at dksX5_add_0 12 rfl rfl)
theorem dX5_add_13 : decode cX5_add 13 = .ok (.aload_n 0, 1) := dk_42 (dk_at dksX5_add_0 13 rfl rfl)
theorem dX5_add_14 : decode cX5_add 14 = .ok (.getfield 21, 3) := dk_180 0 21 (dk_at dksX5_add_0 14 rfl rfl)
theorem dX5_add_17 : decode cX5_add 17 = .ok (.isub, 1) := dk_100 (dk_at dksX5_add_0 17 rfl rfl)
theorem dX5_add_18 : decode cX5_add 18 = .ok (.istore_n 3, 1) := dk_62 (dk_at dksX5_add_0 18 rfl rfl)
theorem dX5_add_19 : decode cX5_add 19 = .ok (.aload_n 0, 1) := dk_42 (dk_at dksX5_add_0 19 rfl rfl)
theorem dX5_add_20 : decode cX5_add 20 = .ok (.bipush 8, 2) := dk_16 8 (dk_at dksX5_add_0 20 rfl rfl)
theorem dX5_add_22 : decode cX5_add 22 = .ok (.aload_n 0, 1) := dk_42 (dk_at dksX5_add_0 22 rfl rfl)
theorem dX5_add_23 : decode cX5_add 23 = .ok (.getfield 25, 3) := dk_180 0 25 (dk_at dksX5_add_1 0 rfl rfl)
theorem dX5_add_26 : decode cX5_add 26 = .ok (.iconst 1, 1) := dk_4 (dk_at dksX5_add_1 3 rfl rfl)
theorem dX5_add_27 : decode cX5_add 27 = .ok (.iadd, 1) := dk_96 (dk_at dksX5_add_1 4 rfl rfl)
theorem dX5_add_28 : decode cX5_add 28 = .ok (.invokestatic 37, 3) := dk_184 0 37 (dk_at dksX5_add_1 5 rfl rfl)
theorem dX5_add_31 : decode cX5_add 31 = .ok (.putfield 25, 3) := dk_181 0 25 (dk_at dksX5_add_1 8 rfl rfl)
theorem dX5_add_34 : decode cX5_add 34 = .ok (.aload_n 0, 1) := dk_42 (dk_at dksX5_add_1 11 rfl rfl)
theorem dX5_add_35 : decode cX5_add 35 = .ok (.getfield 25, 3) := dk_180 0 25 (dk_at dksX5_add_1 12 rfl rfl)
theorem dX5_add_38 : decode cX5_add 38 = .ok (.iconst 1, 1) := dk_4 (dk_at dksX5_add_1 15 rfl rfl)
theorem dX5_add_39 : decode cX5_add 39 = .ok (.isub, 1) := dk_100 (dk_at dksX5_add_1 16 rfl rfl)
theorem dX5_add_40 : decode cX5_add 40 = .ok (.istore 4, 2) := dk_54 4 (dk_at dksX5_add_1 17 rfl rfl)
theorem dX5_add_42 : decode cX5_add 42 = .ok (.iload 4, 2) := dk_21 4 (dk_at dksX5_add_1 19 rfl rfl)
theorem dX5_add_44 : decode cX5_add 44 = .ok (.ifCond .le 57, 3) := dk_158 0 57 (dk_at dksX5_add_1 21 rfl rfl)
theorem dX5_add_47 : decode cX5_add 47 = .ok (.aload_n 0, 1) := dk_42 (dk_at dksX5_add_2 0 rfl rfl)
theorem dX5_add_48 : decode cX5_add 48 = .ok (.getfield 9, 3) := dk_180 0 9 (dk_at dksX5_add_2 1 rfl rfl)
theorem dX5_add_51 : decode cX5_add 51 = .ok (.iload 4, 2) := dk_21 4 (dk_at dksX5_add_2 4 rfl rfl)
theorem dX5_add_53 : decode cX5_add 53 = .ok (.aload_n 0, 1) := dk_42 (dk_at dksX5_add_2 6 rfl rfl)
theorem dX5_add_54 : decode cX5_add 54 = .ok (.getfield 9, 3) := dk_180 0 9 (dk_at dksX5_add_2 7 rfl rfl)
theorem dX5_add_57 : decode cX5_add 57 = .ok (.iload 4, 2) := dk_21 4 (dk_at dksX5_add_2 10 rfl rfl)
theorem dX5_add_59 : decode cX5_add 59 = .ok (.iconst 1, 1) := dk_4 (dk_at dksX5_add_2 12 rfl rfl)
theorem dX5_add_60 : decode cX5_add 60 = .ok (.isub, 1) := dk_100 (dk_at dksX5_add_2 13 rfl rfl)
theorem dX5_add_61 : decode cX5_add 61 = .ok (.iaload, 1) := dk_46 (dk_at dksX5_add_2 14 rfl rfl)
theorem dX5_add_62 : decode cX5_add 62 = .ok (.iastore, 1) := dk_79 (dk_at dksX5_add_2 15 rfl rfl)
theorem dX5_add_63 : decode cX5_add 63 = .ok (.aload_n 0, 1) := dk_42 (dk_at dksX5_add_2 16 rfl rfl)
theorem dX5_add_64 : decode cX5_add 64 = .ok (.getfield 15, 3) := dk_180 0 15 (dk_at dksX5_add_2 17 rfl rfl)
theorem dX5_add_67 : decode cX5_add 67 = .ok (.iload 4, 2) := dk_21 4 (dk_at dksX5_add_2 20 rfl rfl)
theorem dX5_add_69 : decode cX5_add 69 = .ok (.aload_n 0, 1) := dk_42 (dk_at dksX5_add_2 22 rfl rfl)
theorem dX5_add_70 : decode cX5_add 70 = .ok (.getfield 15, 3) := dk_180 0 15 (dk_at dksX5_add_3 0 rfl rfl)
theorem dX5_add_73 : decode cX5_add 73 = .ok (.iload 4, 2) := dk_21 4 (dk_at dksX5_add_3 3 rfl rfl)
theorem dX5_add_75 : decode cX5_add 75 = .ok (.iconst 1, 1) := dk_4 (dk_at dksX5_add_3 5 rfl rfl)
theorem dX5_add_76 : decode cX5_add 76 = .ok (.isub, 1) := dk_100 (dk_at dksX5_add_3 6 rfl rfl)
theorem dX5_add_77 : decode cX5_add 77 = .ok (.iaload, 1) := dk_46 (dk_at dksX5_add_3 7 rfl rfl)
theorem dX5_add_78 : decode cX5_add 78 = .ok (.iastore, 1) := dk_79 (dk_at dksX5_add_3 8 rfl rfl)
theorem dX5_add_79 : decode cX5_add 79 = .ok (.aload_n 0, 1) := dk_42 (dk_at dksX5_add_3 9 rfl rfl)
theorem dX5_add_80 : decode cX5_add 80 = .ok (.getfield 18, 3) := dk_180 0 18 (dk_at dksX5_add_3 10 rfl rfl)
theorem dX5_add_83 : decode cX5_add 83 = .ok (.iload 4, 2) := dk_21 4 (dk_at dksX5_add_3 13 rfl rfl)
theorem dX5_add_85 : decode cX5_add 85 = .ok (.aload_n 0, 1) := dk_42 (dk_at dksX5_add_3 15 rfl rfl)
theorem dX5_add_86 : decode cX5_add 86 = .ok (.getfield 18, 3) := dk_180 0 18 (dk_at dksX5_add_3 16 rfl rfl)
theorem dX5_add_89 : decode cX5_add 89 = .ok (.iload 4, 2) := dk_21 4 (dk_at dksX5_add_3 19 rfl rfl)
theorem dX5_add_91 : decode cX5_add 91 = .ok (.iconst 1, 1) := dk_4 (dk_at dksX5_add_3 21 rfl rfl)
theorem dX5_add_92 : decode cX5_add 92 = .ok (.isub, 1) := dk_100 (dk_at dksX5_add_3 22 rfl rfl)
theorem dX5_add_93 : decode cX5_add 93 = .ok (.iaload, 1) := dk_46 (dk_at dksX5_add_3 23 rfl rfl)
theorem dX5_add_94 : decode cX5_add 94 = .ok (.iastore, 1) := dk_79 (dk_at dksX5_add_4 0 rfl rfl)
theorem dX5_add_95 : decode cX5_add 95 = .ok (.iinc 4 (-1), 3) := dk_132 4 255 (dk_at dksX5_add_4 1 rfl rfl)
theorem dX5_add_98 : decode cX5_add 98 = .ok (.goto (-56), 3) := dk_167 255 200 (dk_at dksX5_add_4 4 rfl rfl)
theorem dX5_add_101 : decode cX5_add 101 = .ok (.aload_n 0, 1) := dk_42 (dk_at dksX5_add_4 7 rfl rfl)
theorem dX5_add_102 : decode cX5_add 102 = .ok (.getfield 9, 3) := dk_180 0 9 (dk_at dksX5_add_4 8 rfl rfl)
theorem dX5_add_105 : decode cX5_add 105 = .ok (.iconst 0, 1) := dk_3 (dk_at dksX5_add_4 11 rfl rfl)
theorem dX5_add_106 : decode cX5_add 106 = .ok (.iload_n 1, 1) := dk_27 (dk_at dksX5_add_4 12 rfl rfl)
theorem dX5_add_107 : decode cX5_add 107 = .ok (.iastore, 1) := dk_79 (dk_at dksX5_add_4 13 rfl rfl)
theorem dX5_add_108 : decode cX5_add 108 = .ok (.aload_n 0, 1) := dk_42 (dk_at dksX5_add_4 14 rfl rfl)
theorem dX5_add_109 : decode cX5_add 109 = .ok (.getfield 15, 3) := dk_180 0 15 (dk_at dksX5_add_4 15 rfl rfl)
theorem dX5_add_112 : decode cX5_add 112 = .ok (.iconst 0, 1) := dk_3 (dk_at dksX5_add_4 18 rfl rfl)
theorem dX5_add_113 : decode cX5_add 113 = .ok (.iload_n 2, 1) := dk_28 (dk_at dksX5_add_4 19 rfl rfl)
theorem dX5_add_114 : decode cX5_add 114 = .ok (.iastore, 1) := dk_79 (dk_at dksX5_add_4 20 rfl rfl)
theorem dX5_add_115 : decode cX5_add 115 = .ok (.aload_n 0, 1) := dk_42 (dk_at dksX5_add_4 21 rfl rfl)
theorem dX5_add_116 : decode cX5_add 116 = .ok (.getfield 18, 3) := dk_180 0 18 (dk_at dksX5_add_5 0 rfl rfl)
theorem dX5_add_119 : decode cX5_add 119 = .ok (.iconst 0, 1) := dk_3 (dk_at dksX5_add_5 3 rfl rfl)
theorem dX5_add_120 : decode cX5_add 120 = .ok (.iload_n 3, 1) := dk_29 (dk_at dksX5_add_5 4 rfl rfl)
theorem dX5_add_121 : decode cX5_add 121 = .ok (.iastore, 1) := dk_79 (dk_at dksX5_add_5 5 rfl rfl)
theorem dX5_add_122 : decode cX5_add 122 = .ok (.aload_n 0, 1) := dk_42 (dk_at dksX5_add_5 6 rfl rfl)
theorem dX5_add_123 : decode cX5_add 123 = .ok (.dup, 1) := dk_89 (dk_at dksX5_add_5 7 rfl rfl)
theorem dX5_add_124 : decode cX5_add 124 = .ok (.getfield 28, 3) := dk_180 0 28 (dk_at dksX5_add_5 8 rfl rfl)
theorem dX5_add_127 : decode cX5_add 127 = .ok (.iconst 1, 1) := dk_4 (dk_at dksX5_add_5 11 rfl rfl)
theorem dX5_add_128 : decode cX5_add 128 = .ok (.iadd, 1) := dk_96 (dk_at dksX5_add_5 12 rfl rfl)
theorem dX5_add_129 : decode cX5_add 129 = .ok (.putfield 28, 3) := dk_181 0 28 (dk_at dksX5_add_5 13 rfl rfl)
theorem dX5_add_132 : decode cX5_add 132 = .ok (.aload_n 0, 1) := dk_42 (dk_at dksX5_add_5 16 rfl rfl)
theorem dX5_add_133 : decode cX5_add 133 = .ok (.iload_n 2, 1) := dk_28 (dk_at dksX5_add_5 17 rfl rfl)
theorem dX5_add_134 : decode cX5_add 134 = .ok (.putfield 21, 3) := dk_181 0 21 (dk_at dksX5_add_5 18 rfl rfl)
theorem dX5_add_137 : decode cX5_add 137 = .ok (.iload_n 3, 1) := dk_29 (dk_at dksX5_add_5 21 rfl rfl)
theorem dX5_add_138 : decode cX5_add 138 = .ok (.ireturn, 1) := dk_172 (dk_at dksX5_add_5 22 rfl rfl)
abbrev cX5_spread : ByteArray := prog_5_method_4_code
def yX5_spread : MethodName := ⟨RX5, "spread", "()I"⟩
def dkwX5_spread_3 : List UInt8 := [16, 254, 167, 0, 6, 28, 27, 100, 172]
abbrev dktX5_spread_3 : List UInt8 := dkwX5_spread_3 ++ []
def dkwX5_spread_2 : List UInt8 := [29, 46, 60, 28, 42, 180, 0, 18, 29, 46, 184, 0, 43, 61, 132, 3, 1, 167, 255, 201, 27, 156, 0, 8]
abbrev dktX5_spread_2 : List UInt8 := dkwX5_spread_2 ++ dktX5_spread_3
def dkwX5_spread_1 : List UInt8 := [156, 0, 6, 167, 0, 35, 27, 155, 0, 13, 42, 180, 0, 18, 29, 46, 27, 162, 0, 10, 42, 180, 0, 18]
abbrev dktX5_spread_1 : List UInt8 := dkwX5_spread_1 ++ dktX5_spread_2
def dkwX5_spread_0 : List UInt8 := [16, 254, 60, 16, 254, 61, 3, 62, 29, 42, 180, 0, 25, 162, 0, 53, 42, 180, 0, 18, 29, 46]
abbrev dktX5_spread_0 : List UInt8 := dkwX5_spread_0 ++ dktX5_spread_1
theorem dksX5_spread_0 : cX5_spread.data.toList.drop 0 = dktX5_spread_0 := by decide +kernel
theorem dksX5_spread_1 : cX5_spread.data.toList.drop 22 = dktX5_spread_1 := dk_seg dksX5_spread_0 22 rfl rfl
theorem dksX5_spread_2 : cX5_spread.data.toList.drop 46 = dktX5_spread_2 := dk_seg dksX5_spread_1 24 rfl rfl
theorem dksX5_spread_3 : cX5_spread.data.toList.drop 70 = dktX5_spread_3 := dk_seg dksX5_spread_2 24 rfl rfl
theorem dX5_spread_0 : decode cX5_spread 0 = .ok (.bipush (-2), 2) := dk_16 254 (dk_at dksX5_spread_0 0 rfl rfl)
theorem dX5_spread_2 : decode cX5_spread 2 = .ok (.istore_n 1, 1) := dk_60 (dk_at dksX5_spread_0 2 rfl rfl)
theorem dX5_spread_3 : decode cX5_spread 3 = .ok (.bipush (-2), 2) := dk_16 254 (dk_at dksX5_spread_0 3 rfl rfl)
theorem dX5_spread_5 : decode cX5_spread 5 = .ok (.istore_n 2, 1) := dk_61 (dk_at dksX5_spread_0 5 rfl rfl)
theorem dX5_spread_6 : decode cX5_spread 6 = .ok (.iconst 0, 1) := dk_3 (dk_at dksX5_spread_0 6 rfl rfl)
theorem dX5_spread_7 : decode cX5_spread 7 = .ok (.istore_n 3, 1) := dk_62 (dk_at dksX5_spread_0 7 rfl rfl)
theorem dX5_spread_8 : decode cX5_spread 8 = .ok (.iload_n 3, 1) := dk_29 (dk_at dksX5_spread_0 8 rfl rfl)
theorem dX5_spread_9 : decode cX5_spread 9 = .ok (.aload_n 0, 1) := dk_42 (dk_at dksX5_spread_0 9 rfl rfl)
theorem dX5_spread_10 : decode cX5_spread 10 = .ok (.getfield 25, 3) := dk_180 0 25 (dk_at dksX5_spread_0 10 rfl rfl)
theorem dX5_spread_13 : decode cX5_spread 13 = .ok (.if_icmp .ge 53, 3) := dk_162 0 53 (dk_at dksX5_spread_0 13 rfl rfl)
theorem dX5_spread_16 : decode cX5_spread 16 = .ok (.aload_n 0, 1) := dk_42 (dk_at dksX5_spread_0 16 rfl rfl)
theorem dX5_spread_17 : decode cX5_spread 17 = .ok (.getfield 18, 3) := dk_180 0 18 (dk_at dksX5_spread_0 17 rfl rfl)
theorem dX5_spread_20 : decode cX5_spread 20 = .ok (.iload_n 3, 1) := dk_29 (dk_at dksX5_spread_0 20 rfl rfl)
theorem dX5_spread_21 : decode cX5_spread 21 = .ok (.iaload, 1) := dk_46 (dk_at dksX5_spread_0 21 rfl rfl)
theorem dX5_spread_22 : decode cX5_spread 22 = .ok (.ifCond .ge 6, 3) := dk_156 0 6 (dk_at dksX5_spread_1 0 rfl rfl)
theorem dX5_spread_25 : decode cX5_spread 25 = .ok (.goto 35, 3) := dk_167 0 35 (dk_at dksX5_spread_1 3 rfl rfl)
theorem dX5_spread_28 : decode cX5_spread 28 = .ok (.iload_n 1, 1) := dk_27 (dk_at dksX5_spread_1 6 rfl rfl)
theorem dX5_spread_29 : decode cX5_spread 29 = .ok (.ifCond .lt 13, 3) := dk_155 0 13 (dk_at dksX5_spread_1 7 rfl rfl)
theorem dX5_spread_32 : decode cX5_spread 32 = .ok (.aload_n 0, 1) := dk_42 (dk_at dksX5_spread_1 10 rfl rfl)
theorem dX5_spread_33 : decode cX5_spread 33 = .ok (.getfield 18, 3) := dk_180 0 18 (dk_at dksX5_spread_1 11 rfl rfl)
theorem dX5_spread_36 : decode cX5_spread 36 = .ok (.iload_n 3, 1) := dk_29 (dk_at dksX5_spread_1 14 rfl rfl)
theorem dX5_spread_37 : decode cX5_spread 37 = .ok (.iaload, 1) := dk_46 (dk_at dksX5_spread_1 15 rfl rfl)
theorem dX5_spread_38 : decode cX5_spread 38 = .ok (.iload_n 1, 1) := dk_27 (dk_at dksX5_spread_1 16 rfl rfl)
theorem dX5_spread_39 : decode cX5_spread 39 = .ok (.if_icmp .ge 10, 3) := dk_162 0 10 (dk_at dksX5_spread_1 17 rfl rfl)
theorem dX5_spread_42 : decode cX5_spread 42 = .ok (.aload_n 0, 1) := dk_42 (dk_at dksX5_spread_1 20 rfl rfl)
theorem dX5_spread_43 : decode cX5_spread 43 = .ok (.getfield 18, 3) := dk_180 0 18 (dk_at dksX5_spread_1 21 rfl rfl)
theorem dX5_spread_46 : decode cX5_spread 46 = .ok (.iload_n 3, 1) := dk_29 (dk_at dksX5_spread_2 0 rfl rfl)
theorem dX5_spread_47 : decode cX5_spread 47 = .ok (.iaload, 1) := dk_46 (dk_at dksX5_spread_2 1 rfl rfl)
theorem dX5_spread_48 : decode cX5_spread 48 = .ok (.istore_n 1, 1) := dk_60 (dk_at dksX5_spread_2 2 rfl rfl)
theorem dX5_spread_49 : decode cX5_spread 49 = .ok (.iload_n 2, 1) := dk_28 (dk_at dksX5_spread_2 3 rfl rfl)
theorem dX5_spread_50 : decode cX5_spread 50 = .ok (.aload_n 0, 1) := dk_42 (dk_at dksX5_spread_2 4 rfl rfl)
theorem dX5_spread_51 : decode cX5_spread 51 = .ok (.getfield 18, 3) := dk_180 0 18 (dk_at dksX5_spread_2 5 rfl rfl)
theorem dX5_spread_54 : decode cX5_spread 54 = .ok (.iload_n 3, 1) := dk_29 (dk_at dksX5_spread_2 8 rfl rfl)
theorem dX5_spread_55 : decode cX5_spread 55 = .ok (.iaload, 1) := dk_46 (dk_at dksX5_spread_2 9 rfl rfl)
theorem dX5_spread_56 : decode cX5_spread 56 = .ok (.invokestatic 43, 3) := dk_184 0 43 (dk_at dksX5_spread_2 10 rfl rfl)
theorem dX5_spread_59 : decode cX5_spread 59 = .ok (.istore_n 2, 1) := dk_61 (dk_at dksX5_spread_2 13 rfl rfl)
theorem dX5_spread_60 : decode cX5_spread 60 = .ok (.iinc 3 1, 3) := dk_132 3 1 (dk_at dksX5_spread_2 14 rfl rfl)
theorem dX5_spread_63 : decode cX5_spread 63 = .ok (.goto (-55), 3) := dk_167 255 201 (dk_at dksX5_spread_2 17 rfl rfl)
theorem dX5_spread_66 : decode cX5_spread 66 = .ok (.iload_n 1, 1) := dk_27 (dk_at dksX5_spread_2 20 rfl rfl)
theorem dX5_spread_67 : decode cX5_spread 67 = .ok (.ifCond .ge 8, 3) := dk_156 0 8 (dk_at dksX5_spread_2 21 rfl rfl)
theorem dX5_spread_70 : decode cX5_spread 70 = .ok (.bipush (-2), 2) := dk_16 254 (dk_at dksX5_spread_3 0 rfl rfl)
theorem dX5_spread_72 : decode cX5_spread 72 = .ok (.goto 6, 3) := dk_167 0 6 (dk_at dksX5_spread_3 2 rfl rfl)
theorem dX5_spread_75 : decode cX5_spread 75 = .ok (.iload_n 2, 1) := dk_28 (dk_at dksX5_spread_3 5 rfl rfl)
theorem dX5_spread_76 : decode cX5_spread 76 = .ok (.iload_n 1, 1) := dk_27 (dk_at dksX5_spread_3 6 rfl rfl)
theorem dX5_spread_77 : decode cX5_spread 77 = .ok (.isub, 1) := dk_100 (dk_at dksX5_spread_3 7 rfl rfl)
theorem dX5_spread_78 : decode cX5_spread 78 = .ok (.ireturn, 1) := dk_172 (dk_at dksX5_spread_3 8 rfl rfl)
theorem q153 : (Jvm.Cond.initialized "BusLine$Leavings") ∈ lw_all := lw_g (lw_at lw_m1 29 rfl) rfl
theorem q386 : (Jvm.Cond.selects "BusLine$Leavings" ({ cls := "java/lang/Object", name := "getClass", desc := "()Ljava/lang/Class;" } : Jvm.MethodName) ({ cls := "java/lang/Object", name := "getClass", desc := "()Ljava/lang/Class;" } : Jvm.MethodName)) ∈ lw_all := lw_g (lw_at lw_m2 22 rfl) rfl
theorem q855 : (Jvm.Cond.instantiable "BusLine$Leavings" (6 : Nat)) ∈ lw_all := lw_g (lw_at lw_m4 11 rfl) rfl
theorem q857 : (Jvm.Cond.instanceMethod ({ cls := "BusLine$Leavings", name := "<init>", desc := "()V" } : Jvm.MethodName)) ∈ lw_all := lw_g (lw_at lw_m4 13 rfl) rfl
theorem q858 : (Jvm.Cond.code ({ cls := "BusLine$Leavings", name := "<init>", desc := "()V" } : Jvm.MethodName) prog_5_method_1_code (1 : Nat) (Option.none : Option Jvm.ClassFile.FieldType)) ∈ lw_all := lw_g (lw_at lw_m4 14 rfl) rfl
theorem q859 : (Jvm.Cond.methodLink "BusLine$Leavings" (3 : Nat) ({ cls := "java/lang/Object", name := "<init>", desc := "()V" } : Jvm.MethodName)) ∈ lw_all := lw_g (lw_at lw_m4 15 rfl) rfl
theorem q860 : (Jvm.Cond.fieldLink "BusLine$Leavings" (9 : Nat) "BusLine$Leavings" "buses" "[I") ∈ lw_all := lw_g (lw_at lw_m4 16 rfl) rfl
theorem q862 : (Jvm.Cond.fieldLink "BusLine$Leavings" (15 : Nat) "BusLine$Leavings" "times" "[I") ∈ lw_all := lw_g (lw_at lw_m4 18 rfl) rfl
theorem q864 : (Jvm.Cond.fieldLink "BusLine$Leavings" (18 : Nat) "BusLine$Leavings" "gaps" "[I") ∈ lw_all := lw_g (lw_at lw_m4 20 rfl) rfl
theorem q866 : (Jvm.Cond.fieldLink "BusLine$Leavings" (25 : Nat) "BusLine$Leavings" "many" "I") ∈ lw_all := lw_g (lw_at lw_m4 22 rfl) rfl
theorem q868 : (Jvm.Cond.fieldLink "BusLine$Leavings" (28 : Nat) "BusLine$Leavings" "all" "I") ∈ lw_all := lw_g (lw_at lw_m4 24 rfl) rfl
theorem q870 : (Jvm.Cond.fieldLink "BusLine$Leavings" (21 : Nat) "BusLine$Leavings" "last" "I") ∈ lw_all := lw_g (lw_at lw_m4 26 rfl) rfl
theorem q873 : (Jvm.Cond.laysFinal "BusLine$Leavings" "BusLine$Leavings" "buses" "[I") ∈ lw_all := lw_g (lw_at lw_m4 29 rfl) rfl
theorem q874 : (Jvm.Cond.soleField "BusLine$Leavings" "buses") ∈ lw_all := lw_g (lw_at lw_m4 30 rfl) rfl
theorem q875 : (Jvm.Cond.laysFinal "BusLine$Leavings" "BusLine$Leavings" "times" "[I") ∈ lw_all := lw_g (lw_at lw_m4 31 rfl) rfl
theorem q876 : (Jvm.Cond.soleField "BusLine$Leavings" "times") ∈ lw_all := lw_g (lw_at lw_m4 32 rfl) rfl
theorem q877 : (Jvm.Cond.laysFinal "BusLine$Leavings" "BusLine$Leavings" "gaps" "[I") ∈ lw_all := lw_g (lw_at lw_m4 33 rfl) rfl
theorem q878 : (Jvm.Cond.soleField "BusLine$Leavings" "gaps") ∈ lw_all := lw_g (lw_at lw_m4 34 rfl) rfl
theorem q879 : (Jvm.Cond.lays "BusLine$Leavings" "BusLine$Leavings" "many" "I") ∈ lw_all := lw_g (lw_at lw_m4 35 rfl) rfl
theorem q880 : (Jvm.Cond.soleField "BusLine$Leavings" "many") ∈ lw_all := lw_g (lw_at lw_m4 36 rfl) rfl
theorem q881 : (Jvm.Cond.lays "BusLine$Leavings" "BusLine$Leavings" "all" "I") ∈ lw_all := lw_g (lw_at lw_m4 37 rfl) rfl
theorem q882 : (Jvm.Cond.soleField "BusLine$Leavings" "all") ∈ lw_all := lw_g (lw_at lw_m4 38 rfl) rfl
theorem q883 : (Jvm.Cond.lays "BusLine$Leavings" "BusLine$Leavings" "last" "I") ∈ lw_all := lw_g (lw_at lw_m4 39 rfl) rfl
theorem q884 : (Jvm.Cond.soleField "BusLine$Leavings" "last") ∈ lw_all := lw_g (lw_at lw_m4 40 rfl) rfl
theorem q885 : (Jvm.Cond.superclass "BusLine$Leavings" "java/lang/Object") ∈ lw_all := lw_g (lw_at lw_m4 41 rfl) rfl
theorem q1607 : (Jvm.Cond.selects "BusLine$Leavings" ({ cls := "java/lang/Object", name := "equals", desc := "(Ljava/lang/Object;)Z" } : Jvm.MethodName) ({ cls := "java/lang/Object", name := "equals", desc := "(Ljava/lang/Object;)Z" } : Jvm.MethodName)) ∈ lw_all := lw_g (lw_at lw_m7 43 rfl) rfl
theorem q1903 : (Jvm.Cond.instanceMethod ({ cls := "BusLine$Leavings", name := "copyTo", desc := "(LBusLine$Leavings;)V" } : Jvm.MethodName)) ∈ lw_all := lw_g (lw_at lw_m8 99 rfl) rfl
theorem q1904 : (Jvm.Cond.selects "BusLine$Leavings" ({ cls := "BusLine$Leavings", name := "copyTo", desc := "(LBusLine$Leavings;)V" } : Jvm.MethodName) ({ cls := "BusLine$Leavings", name := "copyTo", desc := "(LBusLine$Leavings;)V" } : Jvm.MethodName)) ∈ lw_all := lw_g (lw_at lw_m8 100 rfl) rfl
theorem q1905 : (Jvm.Cond.code ({ cls := "BusLine$Leavings", name := "copyTo", desc := "(LBusLine$Leavings;)V" } : Jvm.MethodName) prog_5_method_2_code (2 : Nat) (Option.none : Option Jvm.ClassFile.FieldType)) ∈ lw_all := lw_g (lw_at lw_m8 101 rfl) rfl
theorem q1906 : (Jvm.Cond.methodLink "BusLine$Leavings" (31 : Nat) ({ cls := "java/lang/System", name := "arraycopy", desc := "(Ljava/lang/Object;ILjava/lang/Object;II)V" } : Jvm.MethodName)) ∈ lw_all := lw_g (lw_at lw_m8 102 rfl) rfl
theorem q2155 : (Jvm.Cond.instanceMethod ({ cls := "BusLine$Leavings", name := "add", desc := "(II)I" } : Jvm.MethodName)) ∈ lw_all := lw_g (lw_at lw_m9 111 rfl) rfl
theorem q2156 : (Jvm.Cond.selects "BusLine$Leavings" ({ cls := "BusLine$Leavings", name := "add", desc := "(II)I" } : Jvm.MethodName) ({ cls := "BusLine$Leavings", name := "add", desc := "(II)I" } : Jvm.MethodName)) ∈ lw_all := lw_g (lw_at lw_m9 112 rfl) rfl
theorem q2157 : (Jvm.Cond.code ({ cls := "BusLine$Leavings", name := "add", desc := "(II)I" } : Jvm.MethodName) prog_5_method_3_code (5 : Nat) (Option.some Jvm.ClassFile.FieldType.int)) ∈ lw_all := lw_g (lw_at lw_m9 113 rfl) rfl
theorem q2158 : (Jvm.Cond.methodLink "BusLine$Leavings" (37 : Nat) ({ cls := "java/lang/Math", name := "min", desc := "(II)I" } : Jvm.MethodName)) ∈ lw_all := lw_g (lw_at lw_m9 114 rfl) rfl
theorem q2303 : (Jvm.Cond.instanceMethod ({ cls := "BusLine$Leavings", name := "spread", desc := "()I" } : Jvm.MethodName)) ∈ lw_all := lw_g (lw_at lw_m10 19 rfl) rfl
theorem q2304 : (Jvm.Cond.selects "BusLine$Leavings" ({ cls := "BusLine$Leavings", name := "spread", desc := "()I" } : Jvm.MethodName) ({ cls := "BusLine$Leavings", name := "spread", desc := "()I" } : Jvm.MethodName)) ∈ lw_all := lw_g (lw_at lw_m10 20 rfl) rfl
theorem q2305 : (Jvm.Cond.code ({ cls := "BusLine$Leavings", name := "spread", desc := "()I" } : Jvm.MethodName) prog_5_method_4_code (4 : Nat) (Option.some Jvm.ClassFile.FieldType.int)) ∈ lw_all := lw_g (lw_at lw_m10 21 rfl) rfl
theorem q2306 : (Jvm.Cond.methodLink "BusLine$Leavings" (43 : Nat) ({ cls := "java/lang/Math", name := "max", desc := "(II)I" } : Jvm.MethodName)) ∈ lw_all := lw_g (lw_at lw_m10 22 rfl) rfl
theorem q3229 : (Jvm.Cond.castable "BusLine$Leavings" "java/lang/Object") ∈ lw_tbl := lw_at lw_m13 225 rfl
theorem in_X5 : ∀ w ∈ wsX50, w ∈ lw_all := lw_in wsX50 [873, 875, 877, 879, 881, 883] (by decide +kernel) (by decide +kernel)

/-! BusLine$Bus -/
set_option maxRecDepth 100000
def RX6 : String := "BusLine$Bus"
def TX6 : u_T := fun k => match k with
  | 0 => ("BusLine$Bus", "number", "I", true)
  | 1 => ("BusLine$Bus", "seats", "I", true)
  | 2 => ("BusLine$Bus", "start", "I", true)
  | 3 => ("BusLine$Bus", "state", "I", false)
  | 4 => ("BusLine$Bus", "stop", "I", false)
  | 5 => ("BusLine$Bus", "time", "I", false)
  | 6 => ("BusLine$Bus", "round", "I", false)
  | 7 => ("BusLine$Bus", "boarded", "I", false)
  | 8 => ("BusLine$Bus", "why", "I", false)
  | 9 => ("BusLine$Bus", "held", "I", false)
  | 10 => ("BusLine$Bus", "leftTime", "I", false)
  | 11 => ("BusLine$Bus", "leftDue", "I", false)
  | 12 => ("BusLine$Bus", "isBunched", "Z", false)
  | 13 => ("BusLine$Bus", "skips", "Z", false)
  | _ => ("BusLine$Bus", "riders", "LBusLine$Riders;", true)
def tyX6 : Nat → FieldType := fun k => match k with
  | 0 => .int
  | 1 => .int
  | 2 => .int
  | 3 => .int
  | 4 => .int
  | 5 => .int
  | 6 => .int
  | 7 => .int
  | 8 => .int
  | 9 => .int
  | 10 => .int
  | 11 => .int
  | 12 => .boolean
  | 13 => .boolean
  | _ => .object "BusLine$Riders"
abbrev wsX60 : List Cond := u_ws RX6 TX6 15
set_option maxRecDepth 100000 in
theorem nmX6 : ∀ a, a < 15 → ∀ b, b < 15 → a ≠ b → (TX6 a).2.1 ≠ (TX6 b).2.1 := by decide +kernel
set_option maxRecDepth 100000 in
theorem tyX6_ok : ∀ k, k < 15 → parseFieldDescriptor (TX6 k).2.2.1 = some (tyX6 k) := by decide +kernel
abbrev cX6_compareTo : ByteArray := prog_2_method_7_code
def yX6_compareTo : MethodName := ⟨RX6, "compareTo", "(Ljava/lang/Object;)I"⟩
def dkwX6_compareTo_0 : List UInt8 := [42, 43, 192, 0, 10, 182, 0, 80, 172]
abbrev dktX6_compareTo_0 : List UInt8 := dkwX6_compareTo_0 ++ []
theorem dksX6_compareTo_0 : cX6_compareTo.data.toList.drop 0 = dktX6_compareTo_0 := by decide +kernel
theorem dX6_compareTo_0 : decode cX6_compareTo 0 = .ok (.aload_n 0, 1) := dk_42 (dk_at dksX6_compareTo_0 0 rfl rfl)
theorem dX6_compareTo_1 : decode cX6_compareTo 1 = .ok (.aload_n 1, 1) := dk_43 (dk_at dksX6_compareTo_0 1 rfl rfl)
theorem dX6_compareTo_2 : decode cX6_compareTo 2 = .ok (.checkcast 10, 3) := dk_192 0 10 (dk_at dksX6_compareTo_0 2 rfl rfl)
theorem dX6_compareTo_5 : decode cX6_compareTo 5 = .ok (.invokevirtual 80, 3) := dk_182 0 80 (dk_at dksX6_compareTo_0 5 rfl rfl)
theorem dX6_compareTo_8 : decode cX6_compareTo 8 = .ok (.ireturn, 1) := dk_172 (dk_at dksX6_compareTo_0 8 rfl rfl)
abbrev cX6_compareTo_2 : ByteArray := prog_2_method_3_code
def yX6_compareTo_2 : MethodName := ⟨RX6, "compareTo", "(LBusLine$Bus;)I"⟩
def dkwX6_compareTo_2_1 : List UInt8 := [167, 0, 14, 42, 180, 0, 21, 43, 180, 0, 21, 184, 0, 71, 172]
abbrev dktX6_compareTo_2_1 : List UInt8 := dkwX6_compareTo_2_1 ++ []
def dkwX6_compareTo_2_0 : List UInt8 := [42, 180, 0, 39, 43, 180, 0, 39, 159, 0, 17, 42, 180, 0, 39, 43, 180, 0, 39, 184, 0, 71]
abbrev dktX6_compareTo_2_0 : List UInt8 := dkwX6_compareTo_2_0 ++ dktX6_compareTo_2_1
theorem dksX6_compareTo_2_0 : cX6_compareTo_2.data.toList.drop 0 = dktX6_compareTo_2_0 := by decide +kernel
theorem dksX6_compareTo_2_1 : cX6_compareTo_2.data.toList.drop 22 = dktX6_compareTo_2_1 := dk_seg dksX6_compareTo_2_0 22 rfl rfl
theorem dX6_compareTo_2_0 : decode cX6_compareTo_2 0 = .ok (.aload_n 0, 1) := dk_42 (dk_at dksX6_compareTo_2_0 0 rfl rfl)
theorem dX6_compareTo_2_1 : decode cX6_compareTo_2 1 = .ok (.getfield 39, 3) := dk_180 0 39 (dk_at dksX6_compareTo_2_0 1 rfl rfl)
theorem dX6_compareTo_2_4 : decode cX6_compareTo_2 4 = .ok (.aload_n 1, 1) := dk_43 (dk_at dksX6_compareTo_2_0 4 rfl rfl)
theorem dX6_compareTo_2_5 : decode cX6_compareTo_2 5 = .ok (.getfield 39, 3) := dk_180 0 39 (dk_at dksX6_compareTo_2_0 5 rfl rfl)
theorem dX6_compareTo_2_8 : decode cX6_compareTo_2 8 = .ok (.if_icmp .eq 17, 3) := dk_159 0 17 (dk_at dksX6_compareTo_2_0 8 rfl rfl)
theorem dX6_compareTo_2_11 : decode cX6_compareTo_2 11 = .ok (.aload_n 0, 1) := dk_42 (dk_at dksX6_compareTo_2_0 11 rfl rfl)
theorem dX6_compareTo_2_12 : decode cX6_compareTo_2 12 = .ok (.getfield 39, 3) := dk_180 0 39 (dk_at dksX6_compareTo_2_0 12 rfl rfl)
theorem dX6_compareTo_2_15 : decode cX6_compareTo_2 15 = .ok (.aload_n 1, 1) := dk_43 (dk_at dksX6_compareTo_2_0 15 rfl rfl)
theorem dX6_compareTo_2_16 : decode cX6_compareTo_2 16 = .ok (.getfield 39, 3) := dk_180 0 39 (dk_at dksX6_compareTo_2_0 16 rfl rfl)
theorem dX6_compareTo_2_19 : decode cX6_compareTo_2 19 = .ok (.invokestatic 71, 3) := dk_184 0 71 (dk_at dksX6_compareTo_2_0 19 rfl rfl)
theorem dX6_compareTo_2_22 : decode cX6_compareTo_2 22 = .ok (.goto 14, 3) := dk_167 0 14 (dk_at dksX6_compareTo_2_1 0 rfl rfl)
theorem dX6_compareTo_2_25 : decode cX6_compareTo_2 25 = .ok (.aload_n 0, 1) := dk_42 (dk_at dksX6_compareTo_2_1 3 rfl rfl)
theorem dX6_compareTo_2_26 : decode cX6_compareTo_2 26 = .ok (.getfield 21, 3) := dk_180 0 21 (dk_at dksX6_compareTo_2_1 4 rfl rfl)
theorem dX6_compareTo_2_29 : decode cX6_compareTo_2 29 = .ok (.aload_n 1, 1) := dk_43 (dk_at dksX6_compareTo_2_1 7 rfl rfl)
theorem dX6_compareTo_2_30 : decode cX6_compareTo_2 30 = .ok (.getfield 21, 3) := dk_180 0 21 (dk_at dksX6_compareTo_2_1 8 rfl rfl)
theorem dX6_compareTo_2_33 : decode cX6_compareTo_2 33 = .ok (.invokestatic 71, 3) := dk_184 0 71 (dk_at dksX6_compareTo_2_1 11 rfl rfl)
theorem dX6_compareTo_2_36 : decode cX6_compareTo_2 36 = .ok (.ireturn, 1) := dk_172 (dk_at dksX6_compareTo_2_1 14 rfl rfl)
abbrev cX6_init : ByteArray := prog_2_method_1_code
def yX6_init : MethodName := ⟨RX6, "<init>", "(III)V"⟩
def dkwX6_init_2 : List UInt8 := [181, 0, 35, 42, 29, 181, 0, 39, 42, 29, 181, 0, 42, 42, 29, 181, 0, 45, 177]
abbrev dktX6_init_2 : List UInt8 := dkwX6_init_2 ++ []
def dkwX6_init_1 : List UInt8 := [181, 0, 21, 42, 28, 181, 0, 24, 42, 29, 181, 0, 27, 42, 187, 0, 30, 89, 28, 183, 0, 32]
abbrev dktX6_init_1 : List UInt8 := dkwX6_init_1 ++ dktX6_init_2
def dkwX6_init_0 : List UInt8 := [42, 183, 0, 3, 42, 3, 181, 0, 9, 42, 16, 254, 181, 0, 15, 42, 16, 254, 181, 0, 18, 42, 27]
abbrev dktX6_init_0 : List UInt8 := dkwX6_init_0 ++ dktX6_init_1
theorem dksX6_init_0 : cX6_init.data.toList.drop 0 = dktX6_init_0 := by decide +kernel
theorem dksX6_init_1 : cX6_init.data.toList.drop 23 = dktX6_init_1 := dk_seg dksX6_init_0 23 rfl rfl
theorem dksX6_init_2 : cX6_init.data.toList.drop 45 = dktX6_init_2 := dk_seg dksX6_init_1 22 rfl rfl
theorem dX6_init_0 : decode cX6_init 0 = .ok (.aload_n 0, 1) := dk_42 (dk_at dksX6_init_0 0 rfl rfl)
theorem dX6_init_1 : decode cX6_init 1 = .ok (.invokespecial 3, 3) := dk_183 0 3 (dk_at dksX6_init_0 1 rfl rfl)
theorem dX6_init_4 : decode cX6_init 4 = .ok (.aload_n 0, 1) := dk_42 (dk_at dksX6_init_0 4 rfl rfl)
theorem dX6_init_5 : decode cX6_init 5 = .ok (.iconst 0, 1) := dk_3 (dk_at dksX6_init_0 5 rfl rfl)
theorem dX6_init_6 : decode cX6_init 6 = .ok (.putfield 9, 3) := dk_181 0 9 (dk_at dksX6_init_0 6 rfl rfl)
theorem dX6_init_9 : decode cX6_init 9 = .ok (.aload_n 0, 1) := dk_42 (dk_at dksX6_init_0 9 rfl rfl)
theorem dX6_init_10 : decode cX6_init 10 = .ok (.bipush (-2), 2) := dk_16 254 (dk_at dksX6_init_0 10 rfl rfl)
theorem dX6_init_12 : decode cX6_init 12 = .ok (.putfield 15, 3) := dk_181 0 15 (dk_at dksX6_init_0 12 rfl rfl)
theorem dX6_init_15 : decode cX6_init 15 = .ok (.aload_n 0, 1) := dk_42 (dk_at dksX6_init_0 15 rfl rfl)
theorem dX6_init_16 : decode cX6_init 16 = .ok (.bipush (-2), 2) := dk_16 254 (dk_at dksX6_init_0 16 rfl rfl)
theorem dX6_init_18 : decode cX6_init 18 = .ok (.putfield 18, 3) := dk_181 0 18 (dk_at dksX6_init_0 18 rfl rfl)
theorem dX6_init_21 : decode cX6_init 21 = .ok (.aload_n 0, 1) := dk_42 (dk_at dksX6_init_0 21 rfl rfl)
theorem dX6_init_22 : decode cX6_init 22 = .ok (.iload_n 1, 1) := dk_27 (dk_at dksX6_init_0 22 rfl rfl)
theorem dX6_init_23 : decode cX6_init 23 = .ok (.putfield 21, 3) := dk_181 0 21 (dk_at dksX6_init_1 0 rfl rfl)
theorem dX6_init_26 : decode cX6_init 26 = .ok (.aload_n 0, 1) := dk_42 (dk_at dksX6_init_1 3 rfl rfl)
theorem dX6_init_27 : decode cX6_init 27 = .ok (.iload_n 2, 1) := dk_28 (dk_at dksX6_init_1 4 rfl rfl)
theorem dX6_init_28 : decode cX6_init 28 = .ok (.putfield 24, 3) := dk_181 0 24 (dk_at dksX6_init_1 5 rfl rfl)
theorem dX6_init_31 : decode cX6_init 31 = .ok (.aload_n 0, 1) := dk_42 (dk_at dksX6_init_1 8 rfl rfl)
theorem dX6_init_32 : decode cX6_init 32 = .ok (.iload_n 3, 1) := dk_29 (dk_at dksX6_init_1 9 rfl rfl)
theorem dX6_init_33 : decode cX6_init 33 = .ok (.putfield 27, 3) := dk_181 0 27 (dk_at dksX6_init_1 10 rfl rfl)
theorem dX6_init_36 : decode cX6_init 36 = .ok (.aload_n 0, 1) := dk_42 (dk_at dksX6_init_1 13 rfl rfl)
theorem dX6_init_37 : decode cX6_init 37 = .ok (.new 30, 3) := dk_187 0 30 (dk_at dksX6_init_1 14 rfl rfl)
theorem dX6_init_40 : decode cX6_init 40 = .ok (.dup, 1) := dk_89 (dk_at dksX6_init_1 17 rfl rfl)
theorem dX6_init_41 : decode cX6_init 41 = .ok (.iload_n 2, 1) := dk_28 (dk_at dksX6_init_1 18 rfl rfl)
theorem dX6_init_42 : decode cX6_init 42 = .ok (.invokespecial 32, 3) := dk_183 0 32 (dk_at dksX6_init_1 19 rfl rfl)
theorem dX6_init_45 : decode cX6_init 45 = .ok (.putfield 35, 3) := dk_181 0 35 (dk_at dksX6_init_2 0 rfl rfl)
theorem dX6_init_48 : decode cX6_init 48 = .ok (.aload_n 0, 1) := dk_42 (dk_at dksX6_init_2 3 rfl rfl)
theorem dX6_init_49 : decode cX6_init 49 = .ok (.iload_n 3, 1) := dk_29 (dk_at dksX6_init_2 4 rfl rfl)
theorem dX6_init_50 : decode cX6_init 50 = .ok (.putfield 39, 3) := dk_181 0 39 (dk_at dksX6_init_2 5 rfl rfl)
theorem dX6_init_53 : decode cX6_init 53 = .ok (.aload_n 0, 1) := dk_42 (dk_at dksX6_init_2 8 rfl rfl)
theorem dX6_init_54 : decode cX6_init 54 = .ok (.iload_n 3, 1) := dk_29 (dk_at dksX6_init_2 9 rfl rfl)
theorem dX6_init_55 : decode cX6_init 55 = .ok (.putfield 42, 3) := dk_181 0 42 (dk_at dksX6_init_2 10 rfl rfl)
theorem dX6_init_58 : decode cX6_init 58 = .ok (.aload_n 0, 1) := dk_42 (dk_at dksX6_init_2 13 rfl rfl)
theorem dX6_init_59 : decode cX6_init 59 = .ok (.iload_n 3, 1) := dk_29 (dk_at dksX6_init_2 14 rfl rfl)
theorem dX6_init_60 : decode cX6_init 60 = .ok (.putfield 45, 3) := dk_181 0 45 (dk_at dksX6_init_2 15 rfl rfl)
theorem dX6_init_63 : decode cX6_init 63 = .ok (.return_, 1) := dk_177 (dk_at dksX6_init_2 18 rfl rfl)
abbrev cX6_copy : ByteArray := prog_2_method_2_code
def yX6_copy : MethodName := ⟨RX6, "copy", "()LBusLine$Bus;"⟩
def dkwX6_copy_5 : List UInt8 := [182, 0, 67, 43, 176]
abbrev dktX6_copy_5 : List UInt8 := dkwX6_copy_5 ++ []
def dkwX6_copy_4 : List UInt8 := [180, 0, 60, 181, 0, 60, 43, 42, 180, 0, 64, 181, 0, 64, 42, 180, 0, 35, 43, 180, 0, 35]
abbrev dktX6_copy_4 : List UInt8 := dkwX6_copy_4 ++ dktX6_copy_5
def dkwX6_copy_3 : List UInt8 := [180, 0, 18, 181, 0, 18, 43, 42, 180, 0, 42, 181, 0, 42, 43, 42, 180, 0, 45, 181, 0, 45, 43, 42]
abbrev dktX6_copy_3 : List UInt8 := dkwX6_copy_3 ++ dktX6_copy_4
def dkwX6_copy_2 : List UInt8 := [180, 0, 54, 181, 0, 54, 43, 42, 180, 0, 57, 181, 0, 57, 43, 42, 180, 0, 15, 181, 0, 15, 43, 42]
abbrev dktX6_copy_2 : List UInt8 := dkwX6_copy_2 ++ dktX6_copy_3
def dkwX6_copy_1 : List UInt8 := [180, 0, 9, 181, 0, 9, 43, 42, 180, 0, 51, 181, 0, 51, 43, 42, 180, 0, 39, 181, 0, 39, 43, 42]
abbrev dktX6_copy_1 : List UInt8 := dkwX6_copy_1 ++ dktX6_copy_2
def dkwX6_copy_0 : List UInt8 := [187, 0, 10, 89, 42, 180, 0, 21, 42, 180, 0, 24, 42, 180, 0, 27, 183, 0, 48, 76, 43, 42]
abbrev dktX6_copy_0 : List UInt8 := dkwX6_copy_0 ++ dktX6_copy_1
theorem dksX6_copy_0 : cX6_copy.data.toList.drop 0 = dktX6_copy_0 := by decide +kernel
theorem dksX6_copy_1 : cX6_copy.data.toList.drop 22 = dktX6_copy_1 := dk_seg dksX6_copy_0 22 rfl rfl
theorem dksX6_copy_2 : cX6_copy.data.toList.drop 46 = dktX6_copy_2 := dk_seg dksX6_copy_1 24 rfl rfl
theorem dksX6_copy_3 : cX6_copy.data.toList.drop 70 = dktX6_copy_3 := dk_seg dksX6_copy_2 24 rfl rfl
theorem dksX6_copy_4 : cX6_copy.data.toList.drop 94 = dktX6_copy_4 := dk_seg dksX6_copy_3 24 rfl rfl
theorem dksX6_copy_5 : cX6_copy.data.toList.drop 116 = dktX6_copy_5 := dk_seg dksX6_copy_4 22 rfl rfl
theorem dX6_copy_0 : decode cX6_copy 0 = .ok (.new 10, 3) := dk_187 0 10 (dk_at dksX6_copy_0 0 rfl rfl)
theorem dX6_copy_3 : decode cX6_copy 3 = .ok (.dup, 1) := dk_89 (dk_at dksX6_copy_0 3 rfl rfl)
theorem dX6_copy_4 : decode cX6_copy 4 = .ok (.aload_n 0, 1) := dk_42 (dk_at dksX6_copy_0 4 rfl rfl)
theorem dX6_copy_5 : decode cX6_copy 5 = .ok (.getfield 21, 3) := dk_180 0 21 (dk_at dksX6_copy_0 5 rfl rfl)
theorem dX6_copy_8 : decode cX6_copy 8 = .ok (.aload_n 0, 1) := dk_42 (dk_at dksX6_copy_0 8 rfl rfl)
theorem dX6_copy_9 : decode cX6_copy 9 = .ok (.getfield 24, 3) := dk_180 0 24 (dk_at dksX6_copy_0 9 rfl rfl)
theorem dX6_copy_12 : decode cX6_copy 12 = .ok (.aload_n 0, 1) := dk_42 (dk_at dksX6_copy_0 12 rfl rfl)
theorem dX6_copy_13 : decode cX6_copy 13 = .ok (.getfield 27, 3) := dk_180 0 27 (dk_at dksX6_copy_0 13 rfl rfl)
theorem dX6_copy_16 : decode cX6_copy 16 = .ok (.invokespecial 48, 3) := dk_183 0 48 (dk_at dksX6_copy_0 16 rfl rfl)
theorem dX6_copy_19 : decode cX6_copy 19 = .ok (.astore_n 1, 1) := dk_76 (dk_at dksX6_copy_0 19 rfl rfl)
theorem dX6_copy_20 : decode cX6_copy 20 = .ok (.aload_n 1, 1) := dk_43 (dk_at dksX6_copy_0 20 rfl rfl)
theorem dX6_copy_21 : decode cX6_copy 21 = .ok (.aload_n 0, 1) := dk_42 (dk_at dksX6_copy_0 21 rfl rfl)
theorem dX6_copy_22 : decode cX6_copy 22 = .ok (.getfield 9, 3) := dk_180 0 9 (dk_at dksX6_copy_1 0 rfl rfl)
theorem dX6_copy_25 : decode cX6_copy 25 = .ok (.putfield 9, 3) := dk_181 0 9 (dk_at dksX6_copy_1 3 rfl rfl)
theorem dX6_copy_28 : decode cX6_copy 28 = .ok (.aload_n 1, 1) := dk_43 (dk_at dksX6_copy_1 6 rfl rfl)
theorem dX6_copy_29 : decode cX6_copy 29 = .ok (.aload_n 0, 1) := dk_42 (dk_at dksX6_copy_1 7 rfl rfl)
theorem dX6_copy_30 : decode cX6_copy 30 = .ok (.getfield 51, 3) := dk_180 0 51 (dk_at dksX6_copy_1 8 rfl rfl)
theorem dX6_copy_33 : decode cX6_copy 33 = .ok (.putfield 51, 3) := dk_181 0 51 (dk_at dksX6_copy_1 11 rfl rfl)
theorem dX6_copy_36 : decode cX6_copy 36 = .ok (.aload_n 1, 1) := dk_43 (dk_at dksX6_copy_1 14 rfl rfl)
theorem dX6_copy_37 : decode cX6_copy 37 = .ok (.aload_n 0, 1) := dk_42 (dk_at dksX6_copy_1 15 rfl rfl)
theorem dX6_copy_38 : decode cX6_copy 38 = .ok (.getfield 39, 3) := dk_180 0 39 (dk_at dksX6_copy_1 16 rfl rfl)
theorem dX6_copy_41 : decode cX6_copy 41 = .ok (.putfield 39, 3) := dk_181 0 39 (dk_at dksX6_copy_1 19 rfl rfl)
theorem dX6_copy_44 : decode cX6_copy 44 = .ok (.aload_n 1, 1) := dk_43 (dk_at dksX6_copy_1 22 rfl rfl)
theorem dX6_copy_45 : decode cX6_copy 45 = .ok (.aload_n 0, 1) := dk_42 (dk_at dksX6_copy_1 23 rfl rfl)
theorem dX6_copy_46 : decode cX6_copy 46 = .ok (.getfield 54, 3) := dk_180 0 54 (dk_at dksX6_copy_2 0 rfl rfl)
theorem dX6_copy_49 : decode cX6_copy 49 = .ok (.putfield 54, 3) := dk_181 0 54 (dk_at dksX6_copy_2 3 rfl rfl)
theorem dX6_copy_52 : decode cX6_copy 52 = .ok (.aload_n 1, 1) := dk_43 (dk_at dksX6_copy_2 6 rfl rfl)
theorem dX6_copy_53 : decode cX6_copy 53 = .ok (.aload_n 0, 1) := dk_42 (dk_at dksX6_copy_2 7 rfl rfl)
theorem dX6_copy_54 : decode cX6_copy 54 = .ok (.getfield 57, 3) := dk_180 0 57 (dk_at dksX6_copy_2 8 rfl rfl)
theorem dX6_copy_57 : decode cX6_copy 57 = .ok (.putfield 57, 3) := dk_181 0 57 (dk_at dksX6_copy_2 11 rfl rfl)
theorem dX6_copy_60 : decode cX6_copy 60 = .ok (.aload_n 1, 1) := dk_43 (dk_at dksX6_copy_2 14 rfl rfl)
theorem dX6_copy_61 : decode cX6_copy 61 = .ok (.aload_n 0, 1) := dk_42 (dk_at dksX6_copy_2 15 rfl rfl)
theorem dX6_copy_62 : decode cX6_copy 62 = .ok (.getfield 15, 3) := dk_180 0 15 (dk_at dksX6_copy_2 16 rfl rfl)
theorem dX6_copy_65 : decode cX6_copy 65 = .ok (.putfield 15, 3) := dk_181 0 15 (dk_at dksX6_copy_2 19 rfl rfl)
theorem dX6_copy_68 : decode cX6_copy 68 = .ok (.aload_n 1, 1) := dk_43 (dk_at dksX6_copy_2 22 rfl rfl)
theorem dX6_copy_69 : decode cX6_copy 69 = .ok (.aload_n 0, 1) := dk_42 (dk_at dksX6_copy_2 23 rfl rfl)
theorem dX6_copy_70 : decode cX6_copy 70 = .ok (.getfield 18, 3) := dk_180 0 18 (dk_at dksX6_copy_3 0 rfl rfl)
theorem dX6_copy_73 : decode cX6_copy 73 = .ok (.putfield 18, 3) := dk_181 0 18 (dk_at dksX6_copy_3 3 rfl rfl)
theorem dX6_copy_76 : decode cX6_copy 76 = .ok (.aload_n 1, 1) := dk_43 (dk_at dksX6_copy_3 6 rfl rfl)
theorem dX6_copy_77 : decode cX6_copy 77 = .ok (.aload_n 0, 1) := dk_42 (dk_at dksX6_copy_3 7 rfl rfl)
theorem dX6_copy_78 : decode cX6_copy 78 = .ok (.getfield 42, 3) := dk_180 0 42 (dk_at dksX6_copy_3 8 rfl rfl)
theorem dX6_copy_81 : decode cX6_copy 81 = .ok (.putfield 42, 3) := dk_181 0 42 (dk_at dksX6_copy_3 11 rfl rfl)
theorem dX6_copy_84 : decode cX6_copy 84 = .ok (.aload_n 1, 1) := dk_43 (dk_at dksX6_copy_3 14 rfl rfl)
theorem dX6_copy_85 : decode cX6_copy 85 = .ok (.aload_n 0, 1) := dk_42 (dk_at dksX6_copy_3 15 rfl rfl)
theorem dX6_copy_86 : decode cX6_copy 86 = .ok (.getfield 45, 3) := dk_180 0 45 (dk_at dksX6_copy_3 16 rfl rfl)
theorem dX6_copy_89 : decode cX6_copy 89 = .ok (.putfield 45, 3) := dk_181 0 45 (dk_at dksX6_copy_3 19 rfl rfl)
theorem dX6_copy_92 : decode cX6_copy 92 = .ok (.aload_n 1, 1) := dk_43 (dk_at dksX6_copy_3 22 rfl rfl)
theorem dX6_copy_93 : decode cX6_copy 93 = .ok (.aload_n 0, 1) := dk_42 (dk_at dksX6_copy_3 23 rfl rfl)
theorem dX6_copy_94 : decode cX6_copy 94 = .ok (.getfield 60, 3) := dk_180 0 60 (dk_at dksX6_copy_4 0 rfl rfl)
theorem dX6_copy_97 : decode cX6_copy 97 = .ok (.putfield 60, 3) := dk_181 0 60 (dk_at dksX6_copy_4 3 rfl rfl)
theorem dX6_copy_100 : decode cX6_copy 100 = .ok (.aload_n 1, 1) := dk_43 (dk_at dksX6_copy_4 6 rfl rfl)
theorem dX6_copy_101 : decode cX6_copy 101 = .ok (.aload_n 0, 1) := dk_42 (dk_at dksX6_copy_4 7 rfl rfl)
theorem dX6_copy_102 : decode cX6_copy 102 = .ok (.getfield 64, 3) := dk_180 0 64 (dk_at dksX6_copy_4 8 rfl rfl)
theorem dX6_copy_105 : decode cX6_copy 105 = .ok (.putfield 64, 3) := dk_181 0 64 (dk_at dksX6_copy_4 11 rfl rfl)
theorem dX6_copy_108 : decode cX6_copy 108 = .ok (.aload_n 0, 1) := dk_42 (dk_at dksX6_copy_4 14 rfl rfl)
theorem dX6_copy_109 : decode cX6_copy 109 = .ok (.getfield 35, 3) := dk_180 0 35 (dk_at dksX6_copy_4 15 rfl rfl)
theorem dX6_copy_112 : decode cX6_copy 112 = .ok (.aload_n 1, 1) := dk_43 (dk_at dksX6_copy_4 18 rfl rfl)
theorem dX6_copy_113 : decode cX6_copy 113 = .ok (.getfield 35, 3) := dk_180 0 35 (dk_at dksX6_copy_4 19 rfl rfl)
theorem dX6_copy_116 : decode cX6_copy 116 = .ok (.invokevirtual 67, 3) := dk_182 0 67 (dk_at dksX6_copy_5 0 rfl rfl)
theorem dX6_copy_119 : decode cX6_copy 119 = .ok (.aload_n 1, 1) := dk_43 (dk_at dksX6_copy_5 3 rfl rfl)
theorem dX6_copy_120 : decode cX6_copy 120 = .ok (.areturn, 1) := dk_176 (dk_at dksX6_copy_5 4 rfl rfl)
abbrev cX6_isAtStop : ByteArray := prog_2_method_5_code
def yX6_isAtStop : MethodName := ⟨RX6, "isAtStop", "()Z"⟩
def dkwX6_isAtStop_0 : List UInt8 := [42, 180, 0, 9, 5, 159, 0, 11, 42, 180, 0, 9, 6, 160, 0, 7, 4, 167, 0, 4, 3, 172]
abbrev dktX6_isAtStop_0 : List UInt8 := dkwX6_isAtStop_0 ++ []
theorem dksX6_isAtStop_0 : cX6_isAtStop.data.toList.drop 0 = dktX6_isAtStop_0 := by decide +kernel
theorem dX6_isAtStop_0 : decode cX6_isAtStop 0 = .ok (.aload_n 0, 1) := dk_42 (dk_at dksX6_isAtStop_0 0 rfl rfl)
theorem dX6_isAtStop_1 : decode cX6_isAtStop 1 = .ok (.getfield 9, 3) := dk_180 0 9 (dk_at dksX6_isAtStop_0 1 rfl rfl)
theorem dX6_isAtStop_4 : decode cX6_isAtStop 4 = .ok (.iconst 2, 1) := dk_5 (dk_at dksX6_isAtStop_0 4 rfl rfl)
theorem dX6_isAtStop_5 : decode cX6_isAtStop 5 = .ok (.if_icmp .eq 11, 3) := dk_159 0 11 (dk_at dksX6_isAtStop_0 5 rfl rfl)
theorem dX6_isAtStop_8 : decode cX6_isAtStop 8 = .ok (.aload_n 0, 1) := dk_42 (dk_at dksX6_isAtStop_0 8 rfl rfl)
theorem dX6_isAtStop_9 : decode cX6_isAtStop 9 = .ok (.getfield 9, 3) := dk_180 0 9 (dk_at dksX6_isAtStop_0 9 rfl rfl)
theorem dX6_isAtStop_12 : decode cX6_isAtStop 12 = .ok (.iconst 3, 1) := dk_6 (dk_at dksX6_isAtStop_0 12 rfl rfl)
theorem dX6_isAtStop_13 : decode cX6_isAtStop 13 = .ok (.if_icmp .ne 7, 3) := dk_160 0 7 (dk_at dksX6_isAtStop_0 13 rfl rfl)
theorem dX6_isAtStop_16 : decode cX6_isAtStop 16 = .ok (.iconst 1, 1) := dk_4 (dk_at dksX6_isAtStop_0 16 rfl rfl)
theorem dX6_isAtStop_17 : decode cX6_isAtStop 17 = .ok (.goto 4, 3) := dk_167 0 4 (dk_at dksX6_isAtStop_0 17 rfl rfl)
theorem dX6_isAtStop_20 : decode cX6_isAtStop 20 = .ok (.iconst 0, 1) := dk_3 (dk_at dksX6_isAtStop_0 20 rfl rfl)
theorem dX6_isAtStop_21 : decode cX6_isAtStop 21 = .ok (.ireturn, 1) := dk_172 (dk_at dksX6_isAtStop_0 21 rfl rfl)
abbrev cX6_isOut : ByteArray := prog_2_method_4_code
def yX6_isOut : MethodName := ⟨RX6, "isOut", "()Z"⟩
def dkwX6_isOut_0 : List UInt8 := [42, 180, 0, 9, 153, 0, 7, 4, 167, 0, 4, 3, 172]
abbrev dktX6_isOut_0 : List UInt8 := dkwX6_isOut_0 ++ []
theorem dksX6_isOut_0 : cX6_isOut.data.toList.drop 0 = dktX6_isOut_0 := by decide +kernel
theorem dX6_isOut_0 : decode cX6_isOut 0 = .ok (.aload_n 0, 1) := dk_42 (dk_at dksX6_isOut_0 0 rfl rfl)
theorem dX6_isOut_1 : decode cX6_isOut 1 = .ok (.getfield 9, 3) := dk_180 0 9 (dk_at dksX6_isOut_0 1 rfl rfl)
theorem dX6_isOut_4 : decode cX6_isOut 4 = .ok (.ifCond .eq 7, 3) := dk_153 0 7 (dk_at dksX6_isOut_0 4 rfl rfl)
theorem dX6_isOut_7 : decode cX6_isOut 7 = .ok (.iconst 1, 1) := dk_4 (dk_at dksX6_isOut_0 7 rfl rfl)
theorem dX6_isOut_8 : decode cX6_isOut 8 = .ok (.goto 4, 3) := dk_167 0 4 (dk_at dksX6_isOut_0 8 rfl rfl)
theorem dX6_isOut_11 : decode cX6_isOut 11 = .ok (.iconst 0, 1) := dk_3 (dk_at dksX6_isOut_0 11 rfl rfl)
theorem dX6_isOut_12 : decode cX6_isOut 12 = .ok (.ireturn, 1) := dk_172 (dk_at dksX6_isOut_0 12 rfl rfl)
abbrev cX6_free : ByteArray := prog_2_method_6_code
def yX6_free : MethodName := ⟨RX6, "free", "()I"⟩
def dkwX6_free_0 : List UInt8 := [42, 180, 0, 24, 42, 180, 0, 35, 180, 0, 77, 100, 172]
abbrev dktX6_free_0 : List UInt8 := dkwX6_free_0 ++ []
theorem dksX6_free_0 : cX6_free.data.toList.drop 0 = dktX6_free_0 := by decide +kernel
theorem dX6_free_0 : decode cX6_free 0 = .ok (.aload_n 0, 1) := dk_42 (dk_at dksX6_free_0 0 rfl rfl)
theorem dX6_free_1 : decode cX6_free 1 = .ok (.getfield 24, 3) := dk_180 0 24 (dk_at dksX6_free_0 1 rfl rfl)
theorem dX6_free_4 : decode cX6_free 4 = .ok (.aload_n 0, 1) := dk_42 (dk_at dksX6_free_0 4 rfl rfl)
theorem dX6_free_5 : decode cX6_free 5 = .ok (.getfield 35, 3) := dk_180 0 35 (dk_at dksX6_free_0 5 rfl rfl)
theorem dX6_free_8 : decode cX6_free 8 = .ok (.getfield 77, 3) := dk_180 0 77 (dk_at dksX6_free_0 8 rfl rfl)
theorem dX6_free_11 : decode cX6_free 11 = .ok (.isub, 1) := dk_100 (dk_at dksX6_free_0 11 rfl rfl)
theorem dX6_free_12 : decode cX6_free 12 = .ok (.ireturn, 1) := dk_172 (dk_at dksX6_free_0 12 rfl rfl)
theorem q154 : (Jvm.Cond.initialized "BusLine$Bus") ∈ lw_all := lw_g (lw_at lw_m1 30 rfl) rfl
theorem q353 : (Jvm.Cond.castable "BusLine$Bus" "java/lang/Comparable") ∈ lw_tbl := lw_at lw_m1 229 rfl
theorem q354 : (Jvm.Cond.selects "BusLine$Bus" ({ cls := "java/lang/Comparable", name := "compareTo", desc := "(Ljava/lang/Object;)I" } : Jvm.MethodName) ({ cls := "BusLine$Bus", name := "compareTo", desc := "(Ljava/lang/Object;)I" } : Jvm.MethodName)) ∈ lw_all := lw_g (lw_at lw_m1 230 rfl) rfl
theorem q355 : (Jvm.Cond.unhidden "BusLine$Bus" "compareTo" "(Ljava/lang/Object;)I") ∈ lw_tbl := lw_at lw_m1 231 rfl
theorem q356 : (Jvm.Cond.instanceMethod ({ cls := "BusLine$Bus", name := "compareTo", desc := "(Ljava/lang/Object;)I" } : Jvm.MethodName)) ∈ lw_all := lw_g (lw_at lw_m1 232 rfl) rfl
theorem q357 : (Jvm.Cond.publicMethod ({ cls := "BusLine$Bus", name := "compareTo", desc := "(Ljava/lang/Object;)I" } : Jvm.MethodName)) ∈ lw_tbl := lw_at lw_m1 233 rfl
theorem q358 : (Jvm.Cond.code ({ cls := "BusLine$Bus", name := "compareTo", desc := "(Ljava/lang/Object;)I" } : Jvm.MethodName) prog_2_method_7_code (2 : Nat) (Option.some Jvm.ClassFile.FieldType.int)) ∈ lw_all := lw_g (lw_at lw_m1 234 rfl) rfl
theorem q359 : (Jvm.Cond.classLink "BusLine$Bus" (10 : Nat) "BusLine$Bus") ∈ lw_all := lw_g (lw_at lw_m1 235 rfl) rfl
theorem q360 : (Jvm.Cond.methodLink "BusLine$Bus" (80 : Nat) ({ cls := "BusLine$Bus", name := "compareTo", desc := "(LBusLine$Bus;)I" } : Jvm.MethodName)) ∈ lw_all := lw_g (lw_at lw_m1 236 rfl) rfl
theorem q361 : (Jvm.Cond.instanceMethod ({ cls := "BusLine$Bus", name := "compareTo", desc := "(LBusLine$Bus;)I" } : Jvm.MethodName)) ∈ lw_all := lw_g (lw_at lw_m1 237 rfl) rfl
theorem q362 : (Jvm.Cond.selects "BusLine$Bus" ({ cls := "BusLine$Bus", name := "compareTo", desc := "(LBusLine$Bus;)I" } : Jvm.MethodName) ({ cls := "BusLine$Bus", name := "compareTo", desc := "(LBusLine$Bus;)I" } : Jvm.MethodName)) ∈ lw_all := lw_g (lw_at lw_m1 238 rfl) rfl
theorem q363 : (Jvm.Cond.code ({ cls := "BusLine$Bus", name := "compareTo", desc := "(LBusLine$Bus;)I" } : Jvm.MethodName) prog_2_method_3_code (2 : Nat) (Option.some Jvm.ClassFile.FieldType.int)) ∈ lw_all := lw_g (lw_at lw_m1 239 rfl) rfl
theorem q364 : (Jvm.Cond.methodLink "BusLine$Bus" (71 : Nat) ({ cls := "java/lang/Integer", name := "compare", desc := "(II)I" } : Jvm.MethodName)) ∈ lw_all := lw_g (lw_at lw_m2 0 rfl) rfl
theorem q383 : (Jvm.Cond.selects "BusLine$Bus" ({ cls := "java/lang/Object", name := "getClass", desc := "()Ljava/lang/Class;" } : Jvm.MethodName) ({ cls := "java/lang/Object", name := "getClass", desc := "()Ljava/lang/Class;" } : Jvm.MethodName)) ∈ lw_all := lw_g (lw_at lw_m2 19 rfl) rfl
theorem q843 : (Jvm.Cond.fieldLinkNest "BusLine$Bus" (77 : Nat) "BusLine$Riders" "many" "I" "BusLine") ∈ lw_tbl := lw_at lw_m3 239 rfl
theorem q1001 : (Jvm.Cond.instantiable "BusLine$Bus" (15 : Nat)) ∈ lw_all := lw_g (lw_at lw_m4 157 rfl) rfl
theorem q1008 : (Jvm.Cond.instanceMethod ({ cls := "BusLine$Bus", name := "<init>", desc := "(III)V" } : Jvm.MethodName)) ∈ lw_all := lw_g (lw_at lw_m4 164 rfl) rfl
theorem q1009 : (Jvm.Cond.code ({ cls := "BusLine$Bus", name := "<init>", desc := "(III)V" } : Jvm.MethodName) prog_2_method_1_code (4 : Nat) (Option.none : Option Jvm.ClassFile.FieldType)) ∈ lw_all := lw_g (lw_at lw_m4 165 rfl) rfl
theorem q1010 : (Jvm.Cond.methodLink "BusLine$Bus" (3 : Nat) ({ cls := "java/lang/Object", name := "<init>", desc := "()V" } : Jvm.MethodName)) ∈ lw_all := lw_g (lw_at lw_m4 166 rfl) rfl
theorem q1011 : (Jvm.Cond.classLink "BusLine$Bus" (30 : Nat) "BusLine$Riders") ∈ lw_all := lw_g (lw_at lw_m4 167 rfl) rfl
theorem q1012 : (Jvm.Cond.methodLink "BusLine$Bus" (32 : Nat) ({ cls := "BusLine$Riders", name := "<init>", desc := "(I)V" } : Jvm.MethodName)) ∈ lw_all := lw_g (lw_at lw_m4 168 rfl) rfl
theorem q1013 : (Jvm.Cond.fieldLink "BusLine$Bus" (21 : Nat) "BusLine$Bus" "number" "I") ∈ lw_all := lw_g (lw_at lw_m4 169 rfl) rfl
theorem q1015 : (Jvm.Cond.fieldLink "BusLine$Bus" (24 : Nat) "BusLine$Bus" "seats" "I") ∈ lw_all := lw_g (lw_at lw_m4 171 rfl) rfl
theorem q1018 : (Jvm.Cond.fieldLink "BusLine$Bus" (27 : Nat) "BusLine$Bus" "start" "I") ∈ lw_all := lw_g (lw_at lw_m4 174 rfl) rfl
theorem q1021 : (Jvm.Cond.fieldLink "BusLine$Bus" (9 : Nat) "BusLine$Bus" "state" "I") ∈ lw_all := lw_g (lw_at lw_m4 177 rfl) rfl
theorem q1024 : (Jvm.Cond.fieldLink "BusLine$Bus" (51 : Nat) "BusLine$Bus" "stop" "I") ∈ lw_all := lw_g (lw_at lw_m4 180 rfl) rfl
theorem q1027 : (Jvm.Cond.fieldLink "BusLine$Bus" (39 : Nat) "BusLine$Bus" "time" "I") ∈ lw_all := lw_g (lw_at lw_m4 183 rfl) rfl
theorem q1030 : (Jvm.Cond.fieldLink "BusLine$Bus" (54 : Nat) "BusLine$Bus" "round" "I") ∈ lw_all := lw_g (lw_at lw_m4 186 rfl) rfl
theorem q1033 : (Jvm.Cond.fieldLink "BusLine$Bus" (57 : Nat) "BusLine$Bus" "boarded" "I") ∈ lw_all := lw_g (lw_at lw_m4 189 rfl) rfl
theorem q1036 : (Jvm.Cond.fieldLink "BusLine$Bus" (15 : Nat) "BusLine$Bus" "why" "I") ∈ lw_all := lw_g (lw_at lw_m4 192 rfl) rfl
theorem q1039 : (Jvm.Cond.fieldLink "BusLine$Bus" (18 : Nat) "BusLine$Bus" "held" "I") ∈ lw_all := lw_g (lw_at lw_m4 195 rfl) rfl
theorem q1042 : (Jvm.Cond.fieldLink "BusLine$Bus" (42 : Nat) "BusLine$Bus" "leftTime" "I") ∈ lw_all := lw_g (lw_at lw_m4 198 rfl) rfl
theorem q1045 : (Jvm.Cond.fieldLink "BusLine$Bus" (45 : Nat) "BusLine$Bus" "leftDue" "I") ∈ lw_all := lw_g (lw_at lw_m4 201 rfl) rfl
theorem q1048 : (Jvm.Cond.fieldLink "BusLine$Bus" (60 : Nat) "BusLine$Bus" "isBunched" "Z") ∈ lw_all := lw_g (lw_at lw_m4 204 rfl) rfl
theorem q1051 : (Jvm.Cond.fieldLink "BusLine$Bus" (64 : Nat) "BusLine$Bus" "skips" "Z") ∈ lw_all := lw_g (lw_at lw_m4 207 rfl) rfl
theorem q1054 : (Jvm.Cond.fieldLink "BusLine$Bus" (35 : Nat) "BusLine$Bus" "riders" "LBusLine$Riders;") ∈ lw_all := lw_g (lw_at lw_m4 210 rfl) rfl
theorem q1057 : (Jvm.Cond.laysFinal "BusLine$Bus" "BusLine$Bus" "number" "I") ∈ lw_all := lw_g (lw_at lw_m4 213 rfl) rfl
theorem q1058 : (Jvm.Cond.soleField "BusLine$Bus" "number") ∈ lw_all := lw_g (lw_at lw_m4 214 rfl) rfl
theorem q1059 : (Jvm.Cond.laysFinal "BusLine$Bus" "BusLine$Bus" "seats" "I") ∈ lw_all := lw_g (lw_at lw_m4 215 rfl) rfl
theorem q1060 : (Jvm.Cond.soleField "BusLine$Bus" "seats") ∈ lw_all := lw_g (lw_at lw_m4 216 rfl) rfl
theorem q1061 : (Jvm.Cond.laysFinal "BusLine$Bus" "BusLine$Bus" "start" "I") ∈ lw_all := lw_g (lw_at lw_m4 217 rfl) rfl
theorem q1062 : (Jvm.Cond.soleField "BusLine$Bus" "start") ∈ lw_all := lw_g (lw_at lw_m4 218 rfl) rfl
theorem q1063 : (Jvm.Cond.lays "BusLine$Bus" "BusLine$Bus" "state" "I") ∈ lw_all := lw_g (lw_at lw_m4 219 rfl) rfl
theorem q1064 : (Jvm.Cond.soleField "BusLine$Bus" "state") ∈ lw_all := lw_g (lw_at lw_m4 220 rfl) rfl
theorem q1065 : (Jvm.Cond.lays "BusLine$Bus" "BusLine$Bus" "stop" "I") ∈ lw_all := lw_g (lw_at lw_m4 221 rfl) rfl
theorem q1066 : (Jvm.Cond.soleField "BusLine$Bus" "stop") ∈ lw_all := lw_g (lw_at lw_m4 222 rfl) rfl
theorem q1067 : (Jvm.Cond.lays "BusLine$Bus" "BusLine$Bus" "time" "I") ∈ lw_all := lw_g (lw_at lw_m4 223 rfl) rfl
theorem q1068 : (Jvm.Cond.soleField "BusLine$Bus" "time") ∈ lw_all := lw_g (lw_at lw_m4 224 rfl) rfl
theorem q1069 : (Jvm.Cond.lays "BusLine$Bus" "BusLine$Bus" "round" "I") ∈ lw_all := lw_g (lw_at lw_m4 225 rfl) rfl
theorem q1070 : (Jvm.Cond.soleField "BusLine$Bus" "round") ∈ lw_all := lw_g (lw_at lw_m4 226 rfl) rfl
theorem q1071 : (Jvm.Cond.lays "BusLine$Bus" "BusLine$Bus" "boarded" "I") ∈ lw_all := lw_g (lw_at lw_m4 227 rfl) rfl
theorem q1072 : (Jvm.Cond.soleField "BusLine$Bus" "boarded") ∈ lw_all := lw_g (lw_at lw_m4 228 rfl) rfl
theorem q1073 : (Jvm.Cond.lays "BusLine$Bus" "BusLine$Bus" "why" "I") ∈ lw_all := lw_g (lw_at lw_m4 229 rfl) rfl
theorem q1074 : (Jvm.Cond.soleField "BusLine$Bus" "why") ∈ lw_all := lw_g (lw_at lw_m4 230 rfl) rfl
theorem q1075 : (Jvm.Cond.lays "BusLine$Bus" "BusLine$Bus" "held" "I") ∈ lw_all := lw_g (lw_at lw_m4 231 rfl) rfl
theorem q1076 : (Jvm.Cond.soleField "BusLine$Bus" "held") ∈ lw_all := lw_g (lw_at lw_m4 232 rfl) rfl
theorem q1077 : (Jvm.Cond.lays "BusLine$Bus" "BusLine$Bus" "leftTime" "I") ∈ lw_all := lw_g (lw_at lw_m4 233 rfl) rfl
theorem q1078 : (Jvm.Cond.soleField "BusLine$Bus" "leftTime") ∈ lw_all := lw_g (lw_at lw_m4 234 rfl) rfl
theorem q1079 : (Jvm.Cond.lays "BusLine$Bus" "BusLine$Bus" "leftDue" "I") ∈ lw_all := lw_g (lw_at lw_m4 235 rfl) rfl
theorem q1080 : (Jvm.Cond.soleField "BusLine$Bus" "leftDue") ∈ lw_all := lw_g (lw_at lw_m4 236 rfl) rfl
theorem q1081 : (Jvm.Cond.lays "BusLine$Bus" "BusLine$Bus" "isBunched" "Z") ∈ lw_all := lw_g (lw_at lw_m4 237 rfl) rfl
theorem q1082 : (Jvm.Cond.soleField "BusLine$Bus" "isBunched") ∈ lw_all := lw_g (lw_at lw_m4 238 rfl) rfl
theorem q1083 : (Jvm.Cond.lays "BusLine$Bus" "BusLine$Bus" "skips" "Z") ∈ lw_all := lw_g (lw_at lw_m4 239 rfl) rfl
theorem q1084 : (Jvm.Cond.soleField "BusLine$Bus" "skips") ∈ lw_all := lw_g (lw_at lw_m5 0 rfl) rfl
theorem q1085 : (Jvm.Cond.laysFinal "BusLine$Bus" "BusLine$Bus" "riders" "LBusLine$Riders;") ∈ lw_all := lw_g (lw_at lw_m5 1 rfl) rfl
theorem q1086 : (Jvm.Cond.soleField "BusLine$Bus" "riders") ∈ lw_all := lw_g (lw_at lw_m5 2 rfl) rfl
theorem q1087 : (Jvm.Cond.superclass "BusLine$Bus" "java/lang/Object") ∈ lw_all := lw_g (lw_at lw_m5 3 rfl) rfl
theorem q1602 : (Jvm.Cond.selects "BusLine$Bus" ({ cls := "java/lang/Object", name := "equals", desc := "(Ljava/lang/Object;)Z" } : Jvm.MethodName) ({ cls := "java/lang/Object", name := "equals", desc := "(Ljava/lang/Object;)Z" } : Jvm.MethodName)) ∈ lw_all := lw_g (lw_at lw_m7 38 rfl) rfl
theorem q1908 : (Jvm.Cond.instanceMethod ({ cls := "BusLine$Bus", name := "copy", desc := "()LBusLine$Bus;" } : Jvm.MethodName)) ∈ lw_all := lw_g (lw_at lw_m8 104 rfl) rfl
theorem q1909 : (Jvm.Cond.selects "BusLine$Bus" ({ cls := "BusLine$Bus", name := "copy", desc := "()LBusLine$Bus;" } : Jvm.MethodName) ({ cls := "BusLine$Bus", name := "copy", desc := "()LBusLine$Bus;" } : Jvm.MethodName)) ∈ lw_all := lw_g (lw_at lw_m8 105 rfl) rfl
theorem q1910 : (Jvm.Cond.code ({ cls := "BusLine$Bus", name := "copy", desc := "()LBusLine$Bus;" } : Jvm.MethodName) prog_2_method_2_code (2 : Nat) (Option.some (Jvm.ClassFile.FieldType.object "BusLine$Bus"))) ∈ lw_all := lw_g (lw_at lw_m8 106 rfl) rfl
theorem q1911 : (Jvm.Cond.methodLink "BusLine$Bus" (48 : Nat) ({ cls := "BusLine$Bus", name := "<init>", desc := "(III)V" } : Jvm.MethodName)) ∈ lw_all := lw_g (lw_at lw_m8 107 rfl) rfl
theorem q1912 : (Jvm.Cond.methodLink "BusLine$Bus" (67 : Nat) ({ cls := "BusLine$Riders", name := "copyTo", desc := "(LBusLine$Riders;)V" } : Jvm.MethodName)) ∈ lw_all := lw_g (lw_at lw_m8 108 rfl) rfl
theorem q1949 : (Jvm.Cond.instanceMethod ({ cls := "BusLine$Bus", name := "isAtStop", desc := "()Z" } : Jvm.MethodName)) ∈ lw_all := lw_g (lw_at lw_m8 145 rfl) rfl
theorem q1950 : (Jvm.Cond.selects "BusLine$Bus" ({ cls := "BusLine$Bus", name := "isAtStop", desc := "()Z" } : Jvm.MethodName) ({ cls := "BusLine$Bus", name := "isAtStop", desc := "()Z" } : Jvm.MethodName)) ∈ lw_all := lw_g (lw_at lw_m8 146 rfl) rfl
theorem q1951 : (Jvm.Cond.code ({ cls := "BusLine$Bus", name := "isAtStop", desc := "()Z" } : Jvm.MethodName) prog_2_method_5_code (1 : Nat) (Option.some Jvm.ClassFile.FieldType.boolean)) ∈ lw_all := lw_g (lw_at lw_m8 147 rfl) rfl
theorem q2119 : (Jvm.Cond.instanceMethod ({ cls := "BusLine$Bus", name := "isOut", desc := "()Z" } : Jvm.MethodName)) ∈ lw_all := lw_g (lw_at lw_m9 75 rfl) rfl
theorem q2120 : (Jvm.Cond.selects "BusLine$Bus" ({ cls := "BusLine$Bus", name := "isOut", desc := "()Z" } : Jvm.MethodName) ({ cls := "BusLine$Bus", name := "isOut", desc := "()Z" } : Jvm.MethodName)) ∈ lw_all := lw_g (lw_at lw_m9 76 rfl) rfl
theorem q2121 : (Jvm.Cond.code ({ cls := "BusLine$Bus", name := "isOut", desc := "()Z" } : Jvm.MethodName) prog_2_method_4_code (1 : Nat) (Option.some Jvm.ClassFile.FieldType.boolean)) ∈ lw_all := lw_g (lw_at lw_m9 77 rfl) rfl
theorem q2147 : (Jvm.Cond.instanceMethod ({ cls := "BusLine$Bus", name := "free", desc := "()I" } : Jvm.MethodName)) ∈ lw_all := lw_g (lw_at lw_m9 103 rfl) rfl
theorem q2148 : (Jvm.Cond.selects "BusLine$Bus" ({ cls := "BusLine$Bus", name := "free", desc := "()I" } : Jvm.MethodName) ({ cls := "BusLine$Bus", name := "free", desc := "()I" } : Jvm.MethodName)) ∈ lw_all := lw_g (lw_at lw_m9 104 rfl) rfl
theorem q2149 : (Jvm.Cond.code ({ cls := "BusLine$Bus", name := "free", desc := "()I" } : Jvm.MethodName) prog_2_method_6_code (1 : Nat) (Option.some Jvm.ClassFile.FieldType.int)) ∈ lw_all := lw_g (lw_at lw_m9 105 rfl) rfl
theorem q3230 : (Jvm.Cond.castable "BusLine$Bus" "java/lang/Object") ∈ lw_tbl := lw_at lw_m13 226 rfl
theorem in_X6 : ∀ w ∈ wsX60, w ∈ lw_all := lw_in wsX60 [1057, 1059, 1061, 1063, 1065, 1067, 1069, 1071, 1073, 1075, 1077, 1079, 1081, 1083, 1085] (by decide +kernel) (by decide +kernel)

/-! BusLine$Parser -/
set_option maxRecDepth 100000
def RX8 : String := "BusLine$Parser"
def TX8 : u_T := fun k => match k with
  | 0 => ("BusLine$Parser", "keywords", "Ljava/util/List;", true)
  | 1 => ("BusLine$Parser", "text", "Ljava/lang/String;", true)
  | 2 => ("BusLine$Parser", "at", "I", false)
  | 3 => ("BusLine$Parser", "begin", "I", false)
  | 4 => ("BusLine$Parser", "number", "I", false)
  | 5 => ("BusLine$Parser", "kind", "LBusLine$Kind;", false)
  | _ => ("BusLine$Parser", "plan", "LBusLine$Plan;", true)
def tyX8 : Nat → FieldType := fun k => match k with
  | 0 => .object "java/util/List"
  | 1 => .object "java/lang/String"
  | 2 => .int
  | 3 => .int
  | 4 => .int
  | 5 => .object "BusLine$Kind"
  | _ => .object "BusLine$Plan"
abbrev wsX80 : List Cond := u_ws RX8 TX8 7
theorem nmX8 : ∀ a, a < 7 → ∀ b, b < 7 → a ≠ b → (TX8 a).2.1 ≠ (TX8 b).2.1 := by decide +kernel
theorem tyX8_ok : ∀ k, k < 7 → parseFieldDescriptor (TX8 k).2.2.1 = some (tyX8 k) := by decide +kernel
abbrev cX8_init : ByteArray := prog_6_method_1_code
def yX8_init : MethodName := ⟨RX8, "<init>", "(Ljava/lang/String;)V"⟩
def dkwX8_init_5 : List UInt8 := [187, 0, 59, 89, 183, 0, 61, 181, 0, 62, 42, 43, 181, 0, 66, 177]
abbrev dktX8_init_5 : List UInt8 := dkwX8_init_5 ++ []
def dkwX8_init_4 : List UInt8 := [16, 15, 18, 41, 83, 89, 16, 16, 18, 43, 83, 89, 16, 17, 18, 45, 83, 184, 0, 47, 181, 0, 53, 42]
abbrev dktX8_init_4 : List UInt8 := dkwX8_init_4 ++ dktX8_init_5
def dkwX8_init_3 : List UInt8 := [16, 11, 18, 33, 83, 89, 16, 12, 18, 35, 83, 89, 16, 13, 18, 37, 83, 89, 16, 14, 18, 39, 83, 89]
abbrev dktX8_init_3 : List UInt8 := dkwX8_init_3 ++ dktX8_init_4
def dkwX8_init_2 : List UInt8 := [16, 7, 18, 25, 83, 89, 16, 8, 18, 27, 83, 89, 16, 9, 18, 29, 83, 89, 16, 10, 18, 31, 83, 89]
abbrev dktX8_init_2 : List UInt8 := dkwX8_init_2 ++ dktX8_init_3
def dkwX8_init_1 : List UInt8 := [83, 89, 6, 18, 17, 83, 89, 7, 18, 19, 83, 89, 8, 18, 21, 83, 89, 16, 6, 18, 23, 83, 89]
abbrev dktX8_init_1 : List UInt8 := dkwX8_init_1 ++ dktX8_init_2
def dkwX8_init_0 : List UInt8 := [42, 183, 0, 3, 42, 16, 18, 189, 0, 9, 89, 3, 18, 11, 83, 89, 4, 18, 13, 83, 89, 5, 18, 15]
abbrev dktX8_init_0 : List UInt8 := dkwX8_init_0 ++ dktX8_init_1
theorem dksX8_init_0 : cX8_init.data.toList.drop 0 = dktX8_init_0 := by decide +kernel
theorem dksX8_init_1 : cX8_init.data.toList.drop 24 = dktX8_init_1 := dk_seg dksX8_init_0 24 rfl rfl
theorem dksX8_init_2 : cX8_init.data.toList.drop 47 = dktX8_init_2 := dk_seg dksX8_init_1 23 rfl rfl
theorem dksX8_init_3 : cX8_init.data.toList.drop 71 = dktX8_init_3 := dk_seg dksX8_init_2 24 rfl rfl
theorem dksX8_init_4 : cX8_init.data.toList.drop 95 = dktX8_init_4 := dk_seg dksX8_init_3 24 rfl rfl
theorem dksX8_init_5 : cX8_init.data.toList.drop 119 = dktX8_init_5 := dk_seg dksX8_init_4 24 rfl rfl
theorem dX8_init_0 : decode cX8_init 0 = .ok (.aload_n 0, 1) := dk_42 (dk_at dksX8_init_0 0 rfl rfl)
theorem dX8_init_1 : decode cX8_init 1 = .ok (.invokespecial 3, 3) := dk_183 0 3 (dk_at dksX8_init_0 1 rfl rfl)
theorem dX8_init_4 : decode cX8_init 4 = .ok (.aload_n 0, 1) := dk_42 (dk_at dksX8_init_0 4 rfl rfl)
theorem dX8_init_5 : decode cX8_init 5 = .ok (.bipush 18, 2) := dk_16 18 (dk_at dksX8_init_0 5 rfl rfl)
theorem dX8_init_7 : decode cX8_init 7 = .ok (.anewarray 9, 3) := dk_189 0 9 (dk_at dksX8_init_0 7 rfl rfl)
theorem dX8_init_10 : decode cX8_init 10 = .ok (.dup, 1) := dk_89 (dk_at dksX8_init_0 10 rfl rfl)
theorem dX8_init_11 : decode cX8_init 11 = .ok (.iconst 0, 1) := dk_3 (dk_at dksX8_init_0 11 rfl rfl)
theorem dX8_init_12 : decode cX8_init 12 = .ok (.ldc 11, 2) := dk_18 11 (dk_at dksX8_init_0 12 rfl rfl)
theorem dX8_init_14 : decode cX8_init 14 = .ok (.aastore, 1) := dk_83 (dk_at dksX8_init_0 14 rfl rfl)
theorem dX8_init_15 : decode cX8_init 15 = .ok (.dup, 1) := dk_89 (dk_at dksX8_init_0 15 rfl rfl)
theorem dX8_init_16 : decode cX8_init 16 = .ok (.iconst 1, 1) := dk_4 (dk_at dksX8_init_0 16 rfl rfl)
theorem dX8_init_17 : decode cX8_init 17 = .ok (.ldc 13, 2) := dk_18 13 (dk_at dksX8_init_0 17 rfl rfl)
theorem dX8_init_19 : decode cX8_init 19 = .ok (.aastore, 1) := dk_83 (dk_at dksX8_init_0 19 rfl rfl)
theorem dX8_init_20 : decode cX8_init 20 = .ok (.dup, 1) := dk_89 (dk_at dksX8_init_0 20 rfl rfl)
theorem dX8_init_21 : decode cX8_init 21 = .ok (.iconst 2, 1) := dk_5 (dk_at dksX8_init_0 21 rfl rfl)
theorem dX8_init_22 : decode cX8_init 22 = .ok (.ldc 15, 2) := dk_18 15 (dk_at dksX8_init_0 22 rfl rfl)
theorem dX8_init_24 : decode cX8_init 24 = .ok (.aastore, 1) := dk_83 (dk_at dksX8_init_1 0 rfl rfl)
theorem dX8_init_25 : decode cX8_init 25 = .ok (.dup, 1) := dk_89 (dk_at dksX8_init_1 1 rfl rfl)
theorem dX8_init_26 : decode cX8_init 26 = .ok (.iconst 3, 1) := dk_6 (dk_at dksX8_init_1 2 rfl rfl)
theorem dX8_init_27 : decode cX8_init 27 = .ok (.ldc 17, 2) := dk_18 17 (dk_at dksX8_init_1 3 rfl rfl)
theorem dX8_init_29 : decode cX8_init 29 = .ok (.aastore, 1) := dk_83 (dk_at dksX8_init_1 5 rfl rfl)
theorem dX8_init_30 : decode cX8_init 30 = .ok (.dup, 1) := dk_89 (dk_at dksX8_init_1 6 rfl rfl)
theorem dX8_init_31 : decode cX8_init 31 = .ok (.iconst 4, 1) := dk_7 (dk_at dksX8_init_1 7 rfl rfl)
theorem dX8_init_32 : decode cX8_init 32 = .ok (.ldc 19, 2) := dk_18 19 (dk_at dksX8_init_1 8 rfl rfl)
theorem dX8_init_34 : decode cX8_init 34 = .ok (.aastore, 1) := dk_83 (dk_at dksX8_init_1 10 rfl rfl)
theorem dX8_init_35 : decode cX8_init 35 = .ok (.dup, 1) := dk_89 (dk_at dksX8_init_1 11 rfl rfl)
theorem dX8_init_36 : decode cX8_init 36 = .ok (.iconst 5, 1) := dk_8 (dk_at dksX8_init_1 12 rfl rfl)
theorem dX8_init_37 : decode cX8_init 37 = .ok (.ldc 21, 2) := dk_18 21 (dk_at dksX8_init_1 13 rfl rfl)
theorem dX8_init_39 : decode cX8_init 39 = .ok (.aastore, 1) := dk_83 (dk_at dksX8_init_1 15 rfl rfl)
theorem dX8_init_40 : decode cX8_init 40 = .ok (.dup, 1) := dk_89 (dk_at dksX8_init_1 16 rfl rfl)
theorem dX8_init_41 : decode cX8_init 41 = .ok (.bipush 6, 2) := dk_16 6 (dk_at dksX8_init_1 17 rfl rfl)
theorem dX8_init_43 : decode cX8_init 43 = .ok (.ldc 23, 2) := dk_18 23 (dk_at dksX8_init_1 19 rfl rfl)
theorem dX8_init_45 : decode cX8_init 45 = .ok (.aastore, 1) := dk_83 (dk_at dksX8_init_1 21 rfl rfl)
theorem dX8_init_46 : decode cX8_init 46 = .ok (.dup, 1) := dk_89 (dk_at dksX8_init_1 22 rfl rfl)
theorem dX8_init_47 : decode cX8_init 47 = .ok (.bipush 7, 2) := dk_16 7 (dk_at dksX8_init_2 0 rfl rfl)
theorem dX8_init_49 : decode cX8_init 49 = .ok (.ldc 25, 2) := dk_18 25 (dk_at dksX8_init_2 2 rfl rfl)
theorem dX8_init_51 : decode cX8_init 51 = .ok (.aastore, 1) := dk_83 (dk_at dksX8_init_2 4 rfl rfl)
theorem dX8_init_52 : decode cX8_init 52 = .ok (.dup, 1) := dk_89 (dk_at dksX8_init_2 5 rfl rfl)
theorem dX8_init_53 : decode cX8_init 53 = .ok (.bipush 8, 2) := dk_16 8 (dk_at dksX8_init_2 6 rfl rfl)
theorem dX8_init_55 : decode cX8_init 55 = .ok (.ldc 27, 2) := dk_18 27 (dk_at dksX8_init_2 8 rfl rfl)
theorem dX8_init_57 : decode cX8_init 57 = .ok (.aastore, 1) := dk_83 (dk_at dksX8_init_2 10 rfl rfl)
theorem dX8_init_58 : decode cX8_init 58 = .ok (.dup, 1) := dk_89 (dk_at dksX8_init_2 11 rfl rfl)
theorem dX8_init_59 : decode cX8_init 59 = .ok (.bipush 9, 2) := dk_16 9 (dk_at dksX8_init_2 12 rfl rfl)
theorem dX8_init_61 : decode cX8_init 61 = .ok (.ldc 29, 2) := dk_18 29 (dk_at dksX8_init_2 14 rfl rfl)
theorem dX8_init_63 : decode cX8_init 63 = .ok (.aastore, 1) := dk_83 (dk_at dksX8_init_2 16 rfl rfl)
theorem dX8_init_64 : decode cX8_init 64 = .ok (.dup, 1) := dk_89 (dk_at dksX8_init_2 17 rfl rfl)
theorem dX8_init_65 : decode cX8_init 65 = .ok (.bipush 10, 2) := dk_16 10 (dk_at dksX8_init_2 18 rfl rfl)
theorem dX8_init_67 : decode cX8_init 67 = .ok (.ldc 31, 2) := dk_18 31 (dk_at dksX8_init_2 20 rfl rfl)
theorem dX8_init_69 : decode cX8_init 69 = .ok (.aastore, 1) := dk_83 (dk_at dksX8_init_2 22 rfl rfl)
theorem dX8_init_70 : decode cX8_init 70 = .ok (.dup, 1) := dk_89 (dk_at dksX8_init_2 23 rfl rfl)
theorem dX8_init_71 : decode cX8_init 71 = .ok (.bipush 11, 2) := dk_16 11 (dk_at dksX8_init_3 0 rfl rfl)
theorem dX8_init_73 : decode cX8_init 73 = .ok (.ldc 33, 2) := dk_18 33 (dk_at dksX8_init_3 2 rfl rfl)
theorem dX8_init_75 : decode cX8_init 75 = .ok (.aastore, 1) := dk_83 (dk_at dksX8_init_3 4 rfl rfl)
theorem dX8_init_76 : decode cX8_init 76 = .ok (.dup, 1) := dk_89 (dk_at dksX8_init_3 5 rfl rfl)
theorem dX8_init_77 : decode cX8_init 77 = .ok (.bipush 12, 2) := dk_16 12 (dk_at dksX8_init_3 6 rfl rfl)
theorem dX8_init_79 : decode cX8_init 79 = .ok (.ldc 35, 2) := dk_18 35 (dk_at dksX8_init_3 8 rfl rfl)
theorem dX8_init_81 : decode cX8_init 81 = .ok (.aastore, 1) := dk_83 (dk_at dksX8_init_3 10 rfl rfl)
theorem dX8_init_82 : decode cX8_init 82 = .ok (.dup, 1) := dk_89 (dk_at dksX8_init_3 11 rfl rfl)
theorem dX8_init_83 : decode cX8_init 83 = .ok (.bipush 13, 2) := dk_16 13 (dk_at dksX8_init_3 12 rfl rfl)
theorem dX8_init_85 : decode cX8_init 85 = .ok (.ldc 37, 2) := dk_18 37 (dk_at dksX8_init_3 14 rfl rfl)
theorem dX8_init_87 : decode cX8_init 87 = .ok (.aastore, 1) := dk_83 (dk_at dksX8_init_3 16 rfl rfl)
theorem dX8_init_88 : decode cX8_init 88 = .ok (.dup, 1) := dk_89 (dk_at dksX8_init_3 17 rfl rfl)
theorem dX8_init_89 : decode cX8_init 89 = .ok (.bipush 14, 2) := dk_16 14 (dk_at dksX8_init_3 18 rfl rfl)
theorem dX8_init_91 : decode cX8_init 91 = .ok (.ldc 39, 2) := dk_18 39 (dk_at dksX8_init_3 20 rfl rfl)
theorem dX8_init_93 : decode cX8_init 93 = .ok (.aastore, 1) := dk_83 (dk_at dksX8_init_3 22 rfl rfl)
theorem dX8_init_94 : decode cX8_init 94 = .ok (.dup, 1) := dk_89 (dk_at dksX8_init_3 23 rfl rfl)
theorem dX8_init_95 : decode cX8_init 95 = .ok (.bipush 15, 2) := dk_16 15 (dk_at dksX8_init_4 0 rfl rfl)
theorem dX8_init_97 : decode cX8_init 97 = .ok (.ldc 41, 2) := dk_18 41 (dk_at dksX8_init_4 2 rfl rfl)
theorem dX8_init_99 : decode cX8_init 99 = .ok (.aastore, 1) := dk_83 (dk_at dksX8_init_4 4 rfl rfl)
theorem dX8_init_100 : decode cX8_init 100 = .ok (.dup, 1) := dk_89 (dk_at dksX8_init_4 5 rfl rfl)
theorem dX8_init_101 : decode cX8_init 101 = .ok (.bipush 16, 2) := dk_16 16 (dk_at dksX8_init_4 6 rfl rfl)
theorem dX8_init_103 : decode cX8_init 103 = .ok (.ldc 43, 2) := dk_18 43 (dk_at dksX8_init_4 8 rfl rfl)
theorem dX8_init_105 : decode cX8_init 105 = .ok (.aastore, 1) := dk_83 (dk_at dksX8_init_4 10 rfl rfl)
theorem dX8_init_106 : decode cX8_init 106 = .ok (.dup, 1) := dk_89 (dk_at dksX8_init_4 11 rfl rfl)
theorem dX8_init_107 : decode cX8_init 107 = .ok (.bipush 17, 2) := dk_16 17 (dk_at dksX8_init_4 12 rfl rfl)
theorem dX8_init_109 : decode cX8_init 109 = .ok (.ldc 45, 2) := dk_18 45 (dk_at dksX8_init_4 14 rfl rfl)
theorem dX8_init_111 : decode cX8_init 111 = .ok (.aastore, 1) := dk_83 (dk_at dksX8_init_4 16 rfl rfl)
theorem dX8_init_112 : decode cX8_init 112 = .ok (.invokestatic 47, 3) := dk_184 0 47 (dk_at dksX8_init_4 17 rfl rfl)
theorem dX8_init_115 : decode cX8_init 115 = .ok (.putfield 53, 3) := dk_181 0 53 (dk_at dksX8_init_4 20 rfl rfl)
theorem dX8_init_118 : decode cX8_init 118 = .ok (.aload_n 0, 1) := dk_42 (dk_at dksX8_init_4 23 rfl rfl)
theorem dX8_init_119 : decode cX8_init 119 = .ok (.new 59, 3) := dk_187 0 59 (dk_at dksX8_init_5 0 rfl rfl)
theorem dX8_init_122 : decode cX8_init 122 = .ok (.dup, 1) := dk_89 (dk_at dksX8_init_5 3 rfl rfl)
theorem dX8_init_123 : decode cX8_init 123 = .ok (.invokespecial 61, 3) := dk_183 0 61 (dk_at dksX8_init_5 4 rfl rfl)
theorem dX8_init_126 : decode cX8_init 126 = .ok (.putfield 62, 3) := dk_181 0 62 (dk_at dksX8_init_5 7 rfl rfl)
theorem dX8_init_129 : decode cX8_init 129 = .ok (.aload_n 0, 1) := dk_42 (dk_at dksX8_init_5 10 rfl rfl)
theorem dX8_init_130 : decode cX8_init 130 = .ok (.aload_n 1, 1) := dk_43 (dk_at dksX8_init_5 11 rfl rfl)
theorem dX8_init_131 : decode cX8_init 131 = .ok (.putfield 66, 3) := dk_181 0 66 (dk_at dksX8_init_5 12 rfl rfl)
theorem dX8_init_134 : decode cX8_init 134 = .ok (.return_, 1) := dk_177 (dk_at dksX8_init_5 15 rfl rfl)
abbrev cX8_parse : ByteArray := prog_6_method_11_code
def yX8_parse : MethodName := ⟨RX8, "parse", "()LBusLine$Plan;"⟩
def dkwX8_parse_9 : List UInt8 := [187, 0, 135, 89, 42, 180, 0, 86, 183, 0, 137, 191, 42, 180, 0, 62, 176]
abbrev dktX8_parse_9 : List UInt8 := dkwX8_parse_9 ++ []
def dkwX8_parse_8 : List UInt8 := [182, 0, 147, 153, 0, 10, 42, 182, 0, 177, 167, 255, 243, 42, 180, 0, 95, 178, 0, 89, 165, 0, 15]
abbrev dktX8_parse_8 : List UInt8 := dkwX8_parse_8 ++ dktX8_parse_9
def dkwX8_parse_7 : List UInt8 := [182, 0, 147, 154, 255, 246, 42, 182, 0, 175, 42, 18, 35, 182, 0, 147, 154, 255, 246, 42, 18, 39]
abbrev dktX8_parse_7 : List UInt8 := dkwX8_parse_7 ++ dktX8_parse_8
def dkwX8_parse_6 : List UInt8 := [6, 182, 0, 154, 181, 0, 168, 42, 182, 0, 170, 42, 182, 0, 173, 42, 182, 0, 173, 42, 18, 27]
abbrev dktX8_parse_6 : List UInt8 := dkwX8_parse_6 ++ dktX8_parse_7
def dkwX8_parse_5 : List UInt8 := [180, 0, 164, 6, 42, 18, 23, 16, 60, 17, 39, 15, 182, 0, 154, 79, 42, 180, 0, 62, 42, 18, 25, 3]
abbrev dktX8_parse_5 : List UInt8 := dkwX8_parse_5 ++ dktX8_parse_6
def dkwX8_parse_4 : List UInt8 := [180, 0, 62, 180, 0, 164, 5, 42, 18, 21, 16, 60, 17, 39, 15, 182, 0, 154, 79, 42, 180, 0, 62]
abbrev dktX8_parse_4 : List UInt8 := dkwX8_parse_4 ++ dktX8_parse_5
def dkwX8_parse_3 : List UInt8 := [182, 0, 154, 79, 42, 180, 0, 62, 180, 0, 164, 4, 42, 18, 19, 3, 17, 3, 132, 182, 0, 154, 79, 42]
abbrev dktX8_parse_3 : List UInt8 := dkwX8_parse_3 ++ dktX8_parse_4
def dkwX8_parse_2 : List UInt8 := [182, 0, 154, 181, 0, 162, 42, 180, 0, 62, 180, 0, 164, 3, 42, 18, 17, 16, 30, 17, 14, 16]
abbrev dktX8_parse_2 : List UInt8 := dkwX8_parse_2 ++ dktX8_parse_3
def dkwX8_parse_1 : List UInt8 := [42, 18, 13, 3, 16, 9, 182, 0, 154, 181, 0, 160, 42, 180, 0, 62, 42, 18, 15, 3, 16, 9]
abbrev dktX8_parse_1 : List UInt8 := dkwX8_parse_1 ++ dktX8_parse_2
def dkwX8_parse_0 : List UInt8 := [42, 182, 0, 140, 42, 180, 0, 62, 42, 18, 11, 3, 16, 60, 182, 0, 154, 181, 0, 158, 42, 180, 0, 62]
abbrev dktX8_parse_0 : List UInt8 := dkwX8_parse_0 ++ dktX8_parse_1
theorem dksX8_parse_0 : cX8_parse.data.toList.drop 0 = dktX8_parse_0 := by decide +kernel
theorem dksX8_parse_1 : cX8_parse.data.toList.drop 24 = dktX8_parse_1 := dk_seg dksX8_parse_0 24 rfl rfl
theorem dksX8_parse_2 : cX8_parse.data.toList.drop 46 = dktX8_parse_2 := dk_seg dksX8_parse_1 22 rfl rfl
theorem dksX8_parse_3 : cX8_parse.data.toList.drop 68 = dktX8_parse_3 := dk_seg dksX8_parse_2 22 rfl rfl
theorem dksX8_parse_4 : cX8_parse.data.toList.drop 92 = dktX8_parse_4 := dk_seg dksX8_parse_3 24 rfl rfl
theorem dksX8_parse_5 : cX8_parse.data.toList.drop 115 = dktX8_parse_5 := dk_seg dksX8_parse_4 23 rfl rfl
theorem dksX8_parse_6 : cX8_parse.data.toList.drop 139 = dktX8_parse_6 := dk_seg dksX8_parse_5 24 rfl rfl
theorem dksX8_parse_7 : cX8_parse.data.toList.drop 161 = dktX8_parse_7 := dk_seg dksX8_parse_6 22 rfl rfl
theorem dksX8_parse_8 : cX8_parse.data.toList.drop 183 = dktX8_parse_8 := dk_seg dksX8_parse_7 22 rfl rfl
theorem dksX8_parse_9 : cX8_parse.data.toList.drop 206 = dktX8_parse_9 := dk_seg dksX8_parse_8 23 rfl rfl
theorem dX8_parse_0 : decode cX8_parse 0 = .ok (.aload_n 0, 1) := dk_42 (dk_at dksX8_parse_0 0 rfl rfl)
theorem dX8_parse_1 : decode cX8_parse 1 = .ok (.invokevirtual 140, 3) := dk_182 0 140 (dk_at dksX8_parse_0 1 rfl rfl)
theorem dX8_parse_4 : decode cX8_parse 4 = .ok (.aload_n 0, 1) := dk_42 (dk_at dksX8_parse_0 4 rfl rfl)
theorem dX8_parse_5 : decode cX8_parse 5 = .ok (.getfield 62, 3) := dk_180 0 62 (dk_at dksX8_parse_0 5 rfl rfl)
theorem dX8_parse_8 : decode cX8_parse 8 = .ok (.aload_n 0, 1) := dk_42 (dk_at dksX8_parse_0 8 rfl rfl)
theorem dX8_parse_9 : decode cX8_parse 9 = .ok (.ldc 11, 2) := dk_18 11 (dk_at dksX8_parse_0 9 rfl rfl)
theorem dX8_parse_11 : decode cX8_parse 11 = .ok (.iconst 0, 1) := dk_3 (dk_at dksX8_parse_0 11 rfl rfl)
theorem dX8_parse_12 : decode cX8_parse 12 = .ok (.bipush 60, 2) := dk_16 60 (dk_at dksX8_parse_0 12 rfl rfl)
theorem dX8_parse_14 : decode cX8_parse 14 = .ok (.invokevirtual 154, 3) := dk_182 0 154 (dk_at dksX8_parse_0 14 rfl rfl)
theorem dX8_parse_17 : decode cX8_parse 17 = .ok (.putfield 158, 3) := dk_181 0 158 (dk_at dksX8_parse_0 17 rfl rfl)
theorem dX8_parse_20 : decode cX8_parse 20 = .ok (.aload_n 0, 1) := dk_42 (dk_at dksX8_parse_0 20 rfl rfl)
theorem dX8_parse_21 : decode cX8_parse 21 = .ok (.getfield 62, 3) := dk_180 0 62 (dk_at dksX8_parse_0 21 rfl rfl)
theorem dX8_parse_24 : decode cX8_parse 24 = .ok (.aload_n 0, 1) := dk_42 (dk_at dksX8_parse_1 0 rfl rfl)
theorem dX8_parse_25 : decode cX8_parse 25 = .ok (.ldc 13, 2) := dk_18 13 (dk_at dksX8_parse_1 1 rfl rfl)
theorem dX8_parse_27 : decode cX8_parse 27 = .ok (.iconst 0, 1) := dk_3 (dk_at dksX8_parse_1 3 rfl rfl)
theorem dX8_parse_28 : decode cX8_parse 28 = .ok (.bipush 9, 2) := dk_16 9 (dk_at dksX8_parse_1 4 rfl rfl)
theorem dX8_parse_30 : decode cX8_parse 30 = .ok (.invokevirtual 154, 3) := dk_182 0 154 (dk_at dksX8_parse_1 6 rfl rfl)
theorem dX8_parse_33 : decode cX8_parse 33 = .ok (.putfield 160, 3) := dk_181 0 160 (dk_at dksX8_parse_1 9 rfl rfl)
theorem dX8_parse_36 : decode cX8_parse 36 = .ok (.aload_n 0, 1) := dk_42 (dk_at dksX8_parse_1 12 rfl rfl)
theorem dX8_parse_37 : decode cX8_parse 37 = .ok (.getfield 62, 3) := dk_180 0 62 (dk_at dksX8_parse_1 13 rfl rfl)
theorem dX8_parse_40 : decode cX8_parse 40 = .ok (.aload_n 0, 1) := dk_42 (dk_at dksX8_parse_1 16 rfl rfl)
theorem dX8_parse_41 : decode cX8_parse 41 = .ok (.ldc 15, 2) := dk_18 15 (dk_at dksX8_parse_1 17 rfl rfl)
theorem dX8_parse_43 : decode cX8_parse 43 = .ok (.iconst 0, 1) := dk_3 (dk_at dksX8_parse_1 19 rfl rfl)
theorem dX8_parse_44 : decode cX8_parse 44 = .ok (.bipush 9, 2) := dk_16 9 (dk_at dksX8_parse_1 20 rfl rfl)
theorem dX8_parse_46 : decode cX8_parse 46 = .ok (.invokevirtual 154, 3) := dk_182 0 154 (dk_at dksX8_parse_2 0 rfl rfl)
theorem dX8_parse_49 : decode cX8_parse 49 = .ok (.putfield 162, 3) := dk_181 0 162 (dk_at dksX8_parse_2 3 rfl rfl)
theorem dX8_parse_52 : decode cX8_parse 52 = .ok (.aload_n 0, 1) := dk_42 (dk_at dksX8_parse_2 6 rfl rfl)
theorem dX8_parse_53 : decode cX8_parse 53 = .ok (.getfield 62, 3) := dk_180 0 62 (dk_at dksX8_parse_2 7 rfl rfl)
theorem dX8_parse_56 : decode cX8_parse 56 = .ok (.getfield 164, 3) := dk_180 0 164 (dk_at dksX8_parse_2 10 rfl rfl)
theorem dX8_parse_59 : decode cX8_parse 59 = .ok (.iconst 0, 1) := dk_3 (dk_at dksX8_parse_2 13 rfl rfl)
theorem dX8_parse_60 : decode cX8_parse 60 = .ok (.aload_n 0, 1) := dk_42 (dk_at dksX8_parse_2 14 rfl rfl)
theorem dX8_parse_61 : decode cX8_parse 61 = .ok (.ldc 17, 2) := dk_18 17 (dk_at dksX8_parse_2 15 rfl rfl)
theorem dX8_parse_63 : decode cX8_parse 63 = .ok (.bipush 30, 2) := dk_16 30 (dk_at dksX8_parse_2 17 rfl rfl)
theorem dX8_parse_65 : decode cX8_parse 65 = .ok (.sipush 3600, 3) := dk_17 14 16 (dk_at dksX8_parse_2 19 rfl rfl)
theorem dX8_parse_68 : decode cX8_parse 68 = .ok (.invokevirtual 154, 3) := dk_182 0 154 (dk_at dksX8_parse_3 0 rfl rfl)
theorem dX8_parse_71 : decode cX8_parse 71 = .ok (.iastore, 1) := dk_79 (dk_at dksX8_parse_3 3 rfl rfl)
theorem dX8_parse_72 : decode cX8_parse 72 = .ok (.aload_n 0, 1) := dk_42 (dk_at dksX8_parse_3 4 rfl rfl)
theorem dX8_parse_73 : decode cX8_parse 73 = .ok (.getfield 62, 3) := dk_180 0 62 (dk_at dksX8_parse_3 5 rfl rfl)
theorem dX8_parse_76 : decode cX8_parse 76 = .ok (.getfield 164, 3) := dk_180 0 164 (dk_at dksX8_parse_3 8 rfl rfl)
theorem dX8_parse_79 : decode cX8_parse 79 = .ok (.iconst 1, 1) := dk_4 (dk_at dksX8_parse_3 11 rfl rfl)
theorem dX8_parse_80 : decode cX8_parse 80 = .ok (.aload_n 0, 1) := dk_42 (dk_at dksX8_parse_3 12 rfl rfl)
theorem dX8_parse_81 : decode cX8_parse 81 = .ok (.ldc 19, 2) := dk_18 19 (dk_at dksX8_parse_3 13 rfl rfl)
theorem dX8_parse_83 : decode cX8_parse 83 = .ok (.iconst 0, 1) := dk_3 (dk_at dksX8_parse_3 15 rfl rfl)
theorem dX8_parse_84 : decode cX8_parse 84 = .ok (.sipush 900, 3) := dk_17 3 132 (dk_at dksX8_parse_3 16 rfl rfl)
theorem dX8_parse_87 : decode cX8_parse 87 = .ok (.invokevirtual 154, 3) := dk_182 0 154 (dk_at dksX8_parse_3 19 rfl rfl)
theorem dX8_parse_90 : decode cX8_parse 90 = .ok (.iastore, 1) := dk_79 (dk_at dksX8_parse_3 22 rfl rfl)
theorem dX8_parse_91 : decode cX8_parse 91 = .ok (.aload_n 0, 1) := dk_42 (dk_at dksX8_parse_3 23 rfl rfl)
theorem dX8_parse_92 : decode cX8_parse 92 = .ok (.getfield 62, 3) := dk_180 0 62 (dk_at dksX8_parse_4 0 rfl rfl)
theorem dX8_parse_95 : decode cX8_parse 95 = .ok (.getfield 164, 3) := dk_180 0 164 (dk_at dksX8_parse_4 3 rfl rfl)
theorem dX8_parse_98 : decode cX8_parse 98 = .ok (.iconst 2, 1) := dk_5 (dk_at dksX8_parse_4 6 rfl rfl)
theorem dX8_parse_99 : decode cX8_parse 99 = .ok (.aload_n 0, 1) := dk_42 (dk_at dksX8_parse_4 7 rfl rfl)
theorem dX8_parse_100 : decode cX8_parse 100 = .ok (.ldc 21, 2) := dk_18 21 (dk_at dksX8_parse_4 8 rfl rfl)
theorem dX8_parse_102 : decode cX8_parse 102 = .ok (.bipush 60, 2) := dk_16 60 (dk_at dksX8_parse_4 10 rfl rfl)
theorem dX8_parse_104 : decode cX8_parse 104 = .ok (.sipush 9999, 3) := dk_17 39 15 (dk_at dksX8_parse_4 12 rfl rfl)
theorem dX8_parse_107 : decode cX8_parse 107 = .ok (.invokevirtual 154, 3) := dk_182 0 154 (dk_at dksX8_parse_4 15 rfl rfl)
theorem dX8_parse_110 : decode cX8_parse 110 = .ok (.iastore, 1) := dk_79 (dk_at dksX8_parse_4 18 rfl rfl)
theorem dX8_parse_111 : decode cX8_parse 111 = .ok (.aload_n 0, 1) := dk_42 (dk_at dksX8_parse_4 19 rfl rfl)
theorem dX8_parse_112 : decode cX8_parse 112 = .ok (.getfield 62, 3) := dk_180 0 62 (dk_at dksX8_parse_4 20 rfl rfl)
theorem dX8_parse_115 : decode cX8_parse 115 = .ok (.getfield 164, 3) := dk_180 0 164 (dk_at dksX8_parse_5 0 rfl rfl)
theorem dX8_parse_118 : decode cX8_parse 118 = .ok (.iconst 3, 1) := dk_6 (dk_at dksX8_parse_5 3 rfl rfl)
theorem dX8_parse_119 : decode cX8_parse 119 = .ok (.aload_n 0, 1) := dk_42 (dk_at dksX8_parse_5 4 rfl rfl)
theorem dX8_parse_120 : decode cX8_parse 120 = .ok (.ldc 23, 2) := dk_18 23 (dk_at dksX8_parse_5 5 rfl rfl)
theorem dX8_parse_122 : decode cX8_parse 122 = .ok (.bipush 60, 2) := dk_16 60 (dk_at dksX8_parse_5 7 rfl rfl)
theorem dX8_parse_124 : decode cX8_parse 124 = .ok (.sipush 9999, 3) := dk_17 39 15 (dk_at dksX8_parse_5 9 rfl rfl)
theorem dX8_parse_127 : decode cX8_parse 127 = .ok (.invokevirtual 154, 3) := dk_182 0 154 (dk_at dksX8_parse_5 12 rfl rfl)
theorem dX8_parse_130 : decode cX8_parse 130 = .ok (.iastore, 1) := dk_79 (dk_at dksX8_parse_5 15 rfl rfl)
theorem dX8_parse_131 : decode cX8_parse 131 = .ok (.aload_n 0, 1) := dk_42 (dk_at dksX8_parse_5 16 rfl rfl)
theorem dX8_parse_132 : decode cX8_parse 132 = .ok (.getfield 62, 3) := dk_180 0 62 (dk_at dksX8_parse_5 17 rfl rfl)
theorem dX8_parse_135 : decode cX8_parse 135 = .ok (.aload_n 0, 1) := dk_42 (dk_at dksX8_parse_5 20 rfl rfl)
theorem dX8_parse_136 : decode cX8_parse 136 = .ok (.ldc 25, 2) := dk_18 25 (dk_at dksX8_parse_5 21 rfl rfl)
theorem dX8_parse_138 : decode cX8_parse 138 = .ok (.iconst 0, 1) := dk_3 (dk_at dksX8_parse_5 23 rfl rfl)
theorem dX8_parse_139 : decode cX8_parse 139 = .ok (.iconst 3, 1) := dk_6 (dk_at dksX8_parse_6 0 rfl rfl)
theorem dX8_parse_140 : decode cX8_parse 140 = .ok (.invokevirtual 154, 3) := dk_182 0 154 (dk_at dksX8_parse_6 1 rfl rfl)
theorem dX8_parse_143 : decode cX8_parse 143 = .ok (.putfield 168, 3) := dk_181 0 168 (dk_at dksX8_parse_6 4 rfl rfl)
theorem dX8_parse_146 : decode cX8_parse 146 = .ok (.aload_n 0, 1) := dk_42 (dk_at dksX8_parse_6 7 rfl rfl)
theorem dX8_parse_147 : decode cX8_parse 147 = .ok (.invokevirtual 170, 3) := dk_182 0 170 (dk_at dksX8_parse_6 8 rfl rfl)
theorem dX8_parse_150 : decode cX8_parse 150 = .ok (.aload_n 0, 1) := dk_42 (dk_at dksX8_parse_6 11 rfl rfl)
theorem dX8_parse_151 : decode cX8_parse 151 = .ok (.invokevirtual 173, 3) := dk_182 0 173 (dk_at dksX8_parse_6 12 rfl rfl)
theorem dX8_parse_154 : decode cX8_parse 154 = .ok (.aload_n 0, 1) := dk_42 (dk_at dksX8_parse_6 15 rfl rfl)
theorem dX8_parse_155 : decode cX8_parse 155 = .ok (.invokevirtual 173, 3) := dk_182 0 173 (dk_at dksX8_parse_6 16 rfl rfl)
theorem dX8_parse_158 : decode cX8_parse 158 = .ok (.aload_n 0, 1) := dk_42 (dk_at dksX8_parse_6 19 rfl rfl)
theorem dX8_parse_159 : decode cX8_parse 159 = .ok (.ldc 27, 2) := dk_18 27 (dk_at dksX8_parse_6 20 rfl rfl)
theorem dX8_parse_161 : decode cX8_parse 161 = .ok (.invokevirtual 147, 3) := dk_182 0 147 (dk_at dksX8_parse_7 0 rfl rfl)
theorem dX8_parse_164 : decode cX8_parse 164 = .ok (.ifCond .ne (-10), 3) := dk_154 255 246 (dk_at dksX8_parse_7 3 rfl rfl)
theorem dX8_parse_167 : decode cX8_parse 167 = .ok (.aload_n 0, 1) := dk_42 (dk_at dksX8_parse_7 6 rfl rfl)
theorem dX8_parse_168 : decode cX8_parse 168 = .ok (.invokevirtual 175, 3) := dk_182 0 175 (dk_at dksX8_parse_7 7 rfl rfl)
theorem dX8_parse_171 : decode cX8_parse 171 = .ok (.aload_n 0, 1) := dk_42 (dk_at dksX8_parse_7 10 rfl rfl)
theorem dX8_parse_172 : decode cX8_parse 172 = .ok (.ldc 35, 2) := dk_18 35 (dk_at dksX8_parse_7 11 rfl rfl)
theorem dX8_parse_174 : decode cX8_parse 174 = .ok (.invokevirtual 147, 3) := dk_182 0 147 (dk_at dksX8_parse_7 13 rfl rfl)
theorem dX8_parse_177 : decode cX8_parse 177 = .ok (.ifCond .ne (-10), 3) := dk_154 255 246 (dk_at dksX8_parse_7 16 rfl rfl)
theorem dX8_parse_180 : decode cX8_parse 180 = .ok (.aload_n 0, 1) := dk_42 (dk_at dksX8_parse_7 19 rfl rfl)
theorem dX8_parse_181 : decode cX8_parse 181 = .ok (.ldc 39, 2) := dk_18 39 (dk_at dksX8_parse_7 20 rfl rfl)
theorem dX8_parse_183 : decode cX8_parse 183 = .ok (.invokevirtual 147, 3) := dk_182 0 147 (dk_at dksX8_parse_8 0 rfl rfl)
theorem dX8_parse_186 : decode cX8_parse 186 = .ok (.ifCond .eq 10, 3) := dk_153 0 10 (dk_at dksX8_parse_8 3 rfl rfl)
theorem dX8_parse_189 : decode cX8_parse 189 = .ok (.aload_n 0, 1) := dk_42 (dk_at dksX8_parse_8 6 rfl rfl)
theorem dX8_parse_190 : decode cX8_parse 190 = .ok (.invokevirtual 177, 3) := dk_182 0 177 (dk_at dksX8_parse_8 7 rfl rfl)
theorem dX8_parse_193 : decode cX8_parse 193 = .ok (.goto (-13), 3) := dk_167 255 243 (dk_at dksX8_parse_8 10 rfl rfl)
theorem dX8_parse_196 : decode cX8_parse 196 = .ok (.aload_n 0, 1) := dk_42 (dk_at dksX8_parse_8 13 rfl rfl)
theorem dX8_parse_197 : decode cX8_parse 197 = .ok (.getfield 95, 3) := dk_180 0 95 (dk_at dksX8_parse_8 14 rfl rfl)
theorem dX8_parse_200 : decode cX8_parse 200 = .ok (.getstatic 89, 3) := dk_178 0 89 (dk_at dksX8_parse_8 17 rfl rfl)
theorem dX8_parse_203 : decode cX8_parse 203 = .ok (.if_acmp .eq 15, 3) := dk_165 0 15 (dk_at dksX8_parse_8 20 rfl rfl)
theorem dX8_parse_206 : decode cX8_parse 206 = .ok (.new 135, 3) := dk_187 0 135 (dk_at dksX8_parse_9 0 rfl rfl)
theorem dX8_parse_209 : decode cX8_parse 209 = .ok (.dup, 1) := dk_89 (dk_at dksX8_parse_9 3 rfl rfl)
theorem dX8_parse_210 : decode cX8_parse 210 = .ok (.aload_n 0, 1) := dk_42 (dk_at dksX8_parse_9 4 rfl rfl)
theorem dX8_parse_211 : decode cX8_parse 211 = .ok (.getfield 86, 3) := dk_180 0 86 (dk_at dksX8_parse_9 5 rfl rfl)
theorem dX8_parse_214 : decode cX8_parse 214 = .ok (.invokespecial 137, 3) := dk_183 0 137 (dk_at dksX8_parse_9 8 rfl rfl)
theorem dX8_parse_217 : decode cX8_parse 217 = .ok (.athrow, 1) := dk_191 (dk_at dksX8_parse_9 11 rfl rfl)
theorem dX8_parse_218 : decode cX8_parse 218 = .ok (.aload_n 0, 1) := dk_42 (dk_at dksX8_parse_9 12 rfl rfl)
theorem dX8_parse_219 : decode cX8_parse 219 = .ok (.getfield 62, 3) := dk_180 0 62 (dk_at dksX8_parse_9 13 rfl rfl)
theorem dX8_parse_222 : decode cX8_parse 222 = .ok (.areturn, 1) := dk_176 (dk_at dksX8_parse_9 16 rfl rfl)
abbrev cX8_next : ByteArray := prog_6_method_3_code
def yX8_next : MethodName := ⟨RX8, "next", "()V"⟩
def dkwX8_next_8 : List UInt8 := [178, 0, 119, 167, 0, 6, 178, 0, 109, 181, 0, 95, 42, 89, 180, 0, 70, 4, 96, 181, 0, 70, 177]
abbrev dktX8_next_8 : List UInt8 := dkwX8_next_8 ++ []
def dkwX8_next_7 : List UInt8 := [42, 182, 0, 115, 181, 0, 95, 167, 0, 37, 42, 42, 16, 59, 16, 59, 182, 0, 82, 153, 0, 9]
abbrev dktX8_next_7 : List UInt8 := dkwX8_next_7 ++ dktX8_next_8
def dkwX8_next_6 : List UInt8 := [167, 0, 6, 178, 0, 112, 181, 0, 95, 167, 0, 59, 42, 16, 48, 16, 57, 182, 0, 82, 153, 0, 14, 42]
abbrev dktX8_next_6 : List UInt8 := dkwX8_next_6 ++ dktX8_next_7
def dkwX8_next_5 : List UInt8 := [178, 0, 106, 167, 0, 26, 42, 180, 0, 70, 42, 180, 0, 86, 100, 16, 6, 164, 0, 9, 178, 0, 109]
abbrev dktX8_next_5 : List UInt8 := dkwX8_next_5 ++ dktX8_next_6
def dkwX8_next_4 : List UInt8 := [181, 0, 70, 167, 255, 235, 42, 42, 180, 0, 53, 42, 182, 0, 98, 185, 0, 102, 2, 0, 153, 0, 9]
abbrev dktX8_next_4 : List UInt8 := dkwX8_next_4 ++ dktX8_next_5
def dkwX8_next_3 : List UInt8 := [182, 0, 82, 153, 0, 79, 42, 16, 97, 16, 122, 182, 0, 82, 153, 0, 16, 42, 89, 180, 0, 70, 4, 96]
abbrev dktX8_next_3 : List UInt8 := dkwX8_next_3 ++ dktX8_next_4
def dkwX8_next_2 : List UInt8 := [180, 0, 66, 182, 0, 74, 160, 0, 13, 42, 178, 0, 89, 181, 0, 95, 167, 0, 146, 42, 16, 97, 16, 122]
abbrev dktX8_next_2 : List UInt8 := dkwX8_next_2 ++ dktX8_next_3
def dkwX8_next_1 : List UInt8 := [180, 0, 70, 4, 96, 181, 0, 70, 167, 255, 224, 42, 42, 180, 0, 70, 181, 0, 86, 42, 180, 0, 70, 42]
abbrev dktX8_next_1 : List UInt8 := dkwX8_next_1 ++ dktX8_next_2
def dkwX8_next_0 : List UInt8 := [42, 16, 32, 16, 32, 182, 0, 82, 154, 0, 14, 42, 16, 10, 16, 10, 182, 0, 82, 153, 0, 16, 42, 89]
abbrev dktX8_next_0 : List UInt8 := dkwX8_next_0 ++ dktX8_next_1
theorem dksX8_next_0 : cX8_next.data.toList.drop 0 = dktX8_next_0 := by decide +kernel
theorem dksX8_next_1 : cX8_next.data.toList.drop 24 = dktX8_next_1 := dk_seg dksX8_next_0 24 rfl rfl
theorem dksX8_next_2 : cX8_next.data.toList.drop 48 = dktX8_next_2 := dk_seg dksX8_next_1 24 rfl rfl
theorem dksX8_next_3 : cX8_next.data.toList.drop 72 = dktX8_next_3 := dk_seg dksX8_next_2 24 rfl rfl
theorem dksX8_next_4 : cX8_next.data.toList.drop 96 = dktX8_next_4 := dk_seg dksX8_next_3 24 rfl rfl
theorem dksX8_next_5 : cX8_next.data.toList.drop 119 = dktX8_next_5 := dk_seg dksX8_next_4 23 rfl rfl
theorem dksX8_next_6 : cX8_next.data.toList.drop 142 = dktX8_next_6 := dk_seg dksX8_next_5 23 rfl rfl
theorem dksX8_next_7 : cX8_next.data.toList.drop 166 = dktX8_next_7 := dk_seg dksX8_next_6 24 rfl rfl
theorem dksX8_next_8 : cX8_next.data.toList.drop 188 = dktX8_next_8 := dk_seg dksX8_next_7 22 rfl rfl
theorem dX8_next_0 : decode cX8_next 0 = .ok (.aload_n 0, 1) := dk_42 (dk_at dksX8_next_0 0 rfl rfl)
theorem dX8_next_1 : decode cX8_next 1 = .ok (.bipush 32, 2) := dk_16 32 (dk_at dksX8_next_0 1 rfl rfl)
theorem dX8_next_3 : decode cX8_next 3 = .ok (.bipush 32, 2) := dk_16 32 (dk_at dksX8_next_0 3 rfl rfl)
theorem dX8_next_5 : decode cX8_next 5 = .ok (.invokevirtual 82, 3) := dk_182 0 82 (dk_at dksX8_next_0 5 rfl rfl)
theorem dX8_next_8 : decode cX8_next 8 = .ok (.ifCond .ne 14, 3) := dk_154 0 14 (dk_at dksX8_next_0 8 rfl rfl)
theorem dX8_next_11 : decode cX8_next 11 = .ok (.aload_n 0, 1) := dk_42 (dk_at dksX8_next_0 11 rfl rfl)
theorem dX8_next_12 : decode cX8_next 12 = .ok (.bipush 10, 2) := dk_16 10 (dk_at dksX8_next_0 12 rfl rfl)
theorem dX8_next_14 : decode cX8_next 14 = .ok (.bipush 10, 2) := dk_16 10 (dk_at dksX8_next_0 14 rfl rfl)
theorem dX8_next_16 : decode cX8_next 16 = .ok (.invokevirtual 82, 3) := dk_182 0 82 (dk_at dksX8_next_0 16 rfl rfl)
theorem dX8_next_19 : decode cX8_next 19 = .ok (.ifCond .eq 16, 3) := dk_153 0 16 (dk_at dksX8_next_0 19 rfl rfl)
theorem dX8_next_22 : decode cX8_next 22 = .ok (.aload_n 0, 1) := dk_42 (dk_at dksX8_next_0 22 rfl rfl)
theorem dX8_next_23 : decode cX8_next 23 = .ok (.dup, 1) := dk_89 (dk_at dksX8_next_0 23 rfl rfl)
theorem dX8_next_24 : decode cX8_next 24 = .ok (.getfield 70, 3) := dk_180 0 70 (dk_at dksX8_next_1 0 rfl rfl)
theorem dX8_next_27 : decode cX8_next 27 = .ok (.iconst 1, 1) := dk_4 (dk_at dksX8_next_1 3 rfl rfl)
theorem dX8_next_28 : decode cX8_next 28 = .ok (.iadd, 1) := dk_96 (dk_at dksX8_next_1 4 rfl rfl)
theorem dX8_next_29 : decode cX8_next 29 = .ok (.putfield 70, 3) := dk_181 0 70 (dk_at dksX8_next_1 5 rfl rfl)
theorem dX8_next_32 : decode cX8_next 32 = .ok (.goto (-32), 3) := dk_167 255 224 (dk_at dksX8_next_1 8 rfl rfl)
theorem dX8_next_35 : decode cX8_next 35 = .ok (.aload_n 0, 1) := dk_42 (dk_at dksX8_next_1 11 rfl rfl)
theorem dX8_next_36 : decode cX8_next 36 = .ok (.aload_n 0, 1) := dk_42 (dk_at dksX8_next_1 12 rfl rfl)
theorem dX8_next_37 : decode cX8_next 37 = .ok (.getfield 70, 3) := dk_180 0 70 (dk_at dksX8_next_1 13 rfl rfl)
theorem dX8_next_40 : decode cX8_next 40 = .ok (.putfield 86, 3) := dk_181 0 86 (dk_at dksX8_next_1 16 rfl rfl)
theorem dX8_next_43 : decode cX8_next 43 = .ok (.aload_n 0, 1) := dk_42 (dk_at dksX8_next_1 19 rfl rfl)
theorem dX8_next_44 : decode cX8_next 44 = .ok (.getfield 70, 3) := dk_180 0 70 (dk_at dksX8_next_1 20 rfl rfl)
theorem dX8_next_47 : decode cX8_next 47 = .ok (.aload_n 0, 1) := dk_42 (dk_at dksX8_next_1 23 rfl rfl)
theorem dX8_next_48 : decode cX8_next 48 = .ok (.getfield 66, 3) := dk_180 0 66 (dk_at dksX8_next_2 0 rfl rfl)
theorem dX8_next_51 : decode cX8_next 51 = .ok (.invokevirtual 74, 3) := dk_182 0 74 (dk_at dksX8_next_2 3 rfl rfl)
theorem dX8_next_54 : decode cX8_next 54 = .ok (.if_icmp .ne 13, 3) := dk_160 0 13 (dk_at dksX8_next_2 6 rfl rfl)
theorem dX8_next_57 : decode cX8_next 57 = .ok (.aload_n 0, 1) := dk_42 (dk_at dksX8_next_2 9 rfl rfl)
theorem dX8_next_58 : decode cX8_next 58 = .ok (.getstatic 89, 3) := dk_178 0 89 (dk_at dksX8_next_2 10 rfl rfl)
theorem dX8_next_61 : decode cX8_next 61 = .ok (.putfield 95, 3) := dk_181 0 95 (dk_at dksX8_next_2 13 rfl rfl)
theorem dX8_next_64 : decode cX8_next 64 = .ok (.goto 146, 3) := dk_167 0 146 (dk_at dksX8_next_2 16 rfl rfl)
theorem dX8_next_67 : decode cX8_next 67 = .ok (.aload_n 0, 1) := dk_42 (dk_at dksX8_next_2 19 rfl rfl)
theorem dX8_next_68 : decode cX8_next 68 = .ok (.bipush 97, 2) := dk_16 97 (dk_at dksX8_next_2 20 rfl rfl)
theorem dX8_next_70 : decode cX8_next 70 = .ok (.bipush 122, 2) := dk_16 122 (dk_at dksX8_next_2 22 rfl rfl)
theorem dX8_next_72 : decode cX8_next 72 = .ok (.invokevirtual 82, 3) := dk_182 0 82 (dk_at dksX8_next_3 0 rfl rfl)
theorem dX8_next_75 : decode cX8_next 75 = .ok (.ifCond .eq 79, 3) := dk_153 0 79 (dk_at dksX8_next_3 3 rfl rfl)
theorem dX8_next_78 : decode cX8_next 78 = .ok (.aload_n 0, 1) := dk_42 (dk_at dksX8_next_3 6 rfl rfl)
theorem dX8_next_79 : decode cX8_next 79 = .ok (.bipush 97, 2) := dk_16 97 (dk_at dksX8_next_3 7 rfl rfl)
theorem dX8_next_81 : decode cX8_next 81 = .ok (.bipush 122, 2) := dk_16 122 (dk_at dksX8_next_3 9 rfl rfl)
theorem dX8_next_83 : decode cX8_next 83 = .ok (.invokevirtual 82, 3) := dk_182 0 82 (dk_at dksX8_next_3 11 rfl rfl)
theorem dX8_next_86 : decode cX8_next 86 = .ok (.ifCond .eq 16, 3) := dk_153 0 16 (dk_at dksX8_next_3 14 rfl rfl)
theorem dX8_next_89 : decode cX8_next 89 = .ok (.aload_n 0, 1) := dk_42 (dk_at dksX8_next_3 17 rfl rfl)
theorem dX8_next_90 : decode cX8_next 90 = .ok (.dup, 1) := dk_89 (dk_at dksX8_next_3 18 rfl rfl)
theorem dX8_next_91 : decode cX8_next 91 = .ok (.getfield 70, 3) := dk_180 0 70 (dk_at dksX8_next_3 19 rfl rfl)
theorem dX8_next_94 : decode cX8_next 94 = .ok (.iconst 1, 1) := dk_4 (dk_at dksX8_next_3 22 rfl rfl)
theorem dX8_next_95 : decode cX8_next 95 = .ok (.iadd, 1) := dk_96 (dk_at dksX8_next_3 23 rfl rfl)
theorem dX8_next_96 : decode cX8_next 96 = .ok (.putfield 70, 3) := dk_181 0 70 (dk_at dksX8_next_4 0 rfl rfl)
theorem dX8_next_99 : decode cX8_next 99 = .ok (.goto (-21), 3) := dk_167 255 235 (dk_at dksX8_next_4 3 rfl rfl)
theorem dX8_next_102 : decode cX8_next 102 = .ok (.aload_n 0, 1) := dk_42 (dk_at dksX8_next_4 6 rfl rfl)
theorem dX8_next_103 : decode cX8_next 103 = .ok (.aload_n 0, 1) := dk_42 (dk_at dksX8_next_4 7 rfl rfl)
theorem dX8_next_104 : decode cX8_next 104 = .ok (.getfield 53, 3) := dk_180 0 53 (dk_at dksX8_next_4 8 rfl rfl)
theorem dX8_next_107 : decode cX8_next 107 = .ok (.aload_n 0, 1) := dk_42 (dk_at dksX8_next_4 11 rfl rfl)
theorem dX8_next_108 : decode cX8_next 108 = .ok (.invokevirtual 98, 3) := dk_182 0 98 (dk_at dksX8_next_4 12 rfl rfl)
theorem dX8_next_111 : decode cX8_next 111 = .ok (.invokeinterface 102 2, 5) := by decide +kernel
theorem dX8_next_116 : decode cX8_next 116 = .ok (.ifCond .eq 9, 3) := dk_153 0 9 (dk_at dksX8_next_4 20 rfl rfl)
theorem dX8_next_119 : decode cX8_next 119 = .ok (.getstatic 106, 3) := dk_178 0 106 (dk_at dksX8_next_5 0 rfl rfl)
theorem dX8_next_122 : decode cX8_next 122 = .ok (.goto 26, 3) := dk_167 0 26 (dk_at dksX8_next_5 3 rfl rfl)
theorem dX8_next_125 : decode cX8_next 125 = .ok (.aload_n 0, 1) := dk_42 (dk_at dksX8_next_5 6 rfl rfl)
theorem dX8_next_126 : decode cX8_next 126 = .ok (.getfield 70, 3) := dk_180 0 70 (dk_at dksX8_next_5 7 rfl rfl)
theorem dX8_next_129 : decode cX8_next 129 = .ok (.aload_n 0, 1) := dk_42 (dk_at dksX8_next_5 10 rfl rfl)
theorem dX8_next_130 : decode cX8_next 130 = .ok (.getfield 86, 3) := dk_180 0 86 (dk_at dksX8_next_5 11 rfl rfl)
theorem dX8_next_133 : decode cX8_next 133 = .ok (.isub, 1) := dk_100 (dk_at dksX8_next_5 14 rfl rfl)
theorem dX8_next_134 : decode cX8_next 134 = .ok (.bipush 6, 2) := dk_16 6 (dk_at dksX8_next_5 15 rfl rfl)
theorem dX8_next_136 : decode cX8_next 136 = .ok (.if_icmp .le 9, 3) := dk_164 0 9 (dk_at dksX8_next_5 17 rfl rfl)
theorem dX8_next_139 : decode cX8_next 139 = .ok (.getstatic 109, 3) := dk_178 0 109 (dk_at dksX8_next_5 20 rfl rfl)
theorem dX8_next_142 : decode cX8_next 142 = .ok (.goto 6, 3) := dk_167 0 6 (dk_at dksX8_next_6 0 rfl rfl)
theorem dX8_next_145 : decode cX8_next 145 = .ok (.getstatic 112, 3) := dk_178 0 112 (dk_at dksX8_next_6 3 rfl rfl)
theorem dX8_next_148 : decode cX8_next 148 = .ok (.putfield 95, 3) := dk_181 0 95 (dk_at dksX8_next_6 6 rfl rfl)
theorem dX8_next_151 : decode cX8_next 151 = .ok (.goto 59, 3) := dk_167 0 59 (dk_at dksX8_next_6 9 rfl rfl)
theorem dX8_next_154 : decode cX8_next 154 = .ok (.aload_n 0, 1) := dk_42 (dk_at dksX8_next_6 12 rfl rfl)
theorem dX8_next_155 : decode cX8_next 155 = .ok (.bipush 48, 2) := dk_16 48 (dk_at dksX8_next_6 13 rfl rfl)
theorem dX8_next_157 : decode cX8_next 157 = .ok (.bipush 57, 2) := dk_16 57 (dk_at dksX8_next_6 15 rfl rfl)
theorem dX8_next_159 : decode cX8_next 159 = .ok (.invokevirtual 82, 3) := dk_182 0 82 (dk_at dksX8_next_6 17 rfl rfl)
theorem dX8_next_162 : decode cX8_next 162 = .ok (.ifCond .eq 14, 3) := dk_153 0 14 (dk_at dksX8_next_6 20 rfl rfl)
theorem dX8_next_165 : decode cX8_next 165 = .ok (.aload_n 0, 1) := dk_42 (dk_at dksX8_next_6 23 rfl rfl)
theorem dX8_next_166 : decode cX8_next 166 = .ok (.aload_n 0, 1) := dk_42 (dk_at dksX8_next_7 0 rfl rfl)
theorem dX8_next_167 : decode cX8_next 167 = .ok (.invokevirtual 115, 3) := dk_182 0 115 (dk_at dksX8_next_7 1 rfl rfl)
theorem dX8_next_170 : decode cX8_next 170 = .ok (.putfield 95, 3) := dk_181 0 95 (dk_at dksX8_next_7 4 rfl rfl)
theorem dX8_next_173 : decode cX8_next 173 = .ok (.goto 37, 3) := dk_167 0 37 (dk_at dksX8_next_7 7 rfl rfl)
theorem dX8_next_176 : decode cX8_next 176 = .ok (.aload_n 0, 1) := dk_42 (dk_at dksX8_next_7 10 rfl rfl)
theorem dX8_next_177 : decode cX8_next 177 = .ok (.aload_n 0, 1) := dk_42 (dk_at dksX8_next_7 11 rfl rfl)
theorem dX8_next_178 : decode cX8_next 178 = .ok (.bipush 59, 2) := dk_16 59 (dk_at dksX8_next_7 12 rfl rfl)
theorem dX8_next_180 : decode cX8_next 180 = .ok (.bipush 59, 2) := dk_16 59 (dk_at dksX8_next_7 14 rfl rfl)
theorem dX8_next_182 : decode cX8_next 182 = .ok (.invokevirtual 82, 3) := dk_182 0 82 (dk_at dksX8_next_7 16 rfl rfl)
theorem dX8_next_185 : decode cX8_next 185 = .ok (.ifCond .eq 9, 3) := dk_153 0 9 (dk_at dksX8_next_7 19 rfl rfl)
theorem dX8_next_188 : decode cX8_next 188 = .ok (.getstatic 119, 3) := dk_178 0 119 (dk_at dksX8_next_8 0 rfl rfl)
theorem dX8_next_191 : decode cX8_next 191 = .ok (.goto 6, 3) := dk_167 0 6 (dk_at dksX8_next_8 3 rfl rfl)
theorem dX8_next_194 : decode cX8_next 194 = .ok (.getstatic 109, 3) := dk_178 0 109 (dk_at dksX8_next_8 6 rfl rfl)
theorem dX8_next_197 : decode cX8_next 197 = .ok (.putfield 95, 3) := dk_181 0 95 (dk_at dksX8_next_8 9 rfl rfl)
theorem dX8_next_200 : decode cX8_next 200 = .ok (.aload_n 0, 1) := dk_42 (dk_at dksX8_next_8 12 rfl rfl)
theorem dX8_next_201 : decode cX8_next 201 = .ok (.dup, 1) := dk_89 (dk_at dksX8_next_8 13 rfl rfl)
theorem dX8_next_202 : decode cX8_next 202 = .ok (.getfield 70, 3) := dk_180 0 70 (dk_at dksX8_next_8 14 rfl rfl)
theorem dX8_next_205 : decode cX8_next 205 = .ok (.iconst 1, 1) := dk_4 (dk_at dksX8_next_8 17 rfl rfl)
theorem dX8_next_206 : decode cX8_next 206 = .ok (.iadd, 1) := dk_96 (dk_at dksX8_next_8 18 rfl rfl)
theorem dX8_next_207 : decode cX8_next 207 = .ok (.putfield 70, 3) := dk_181 0 70 (dk_at dksX8_next_8 19 rfl rfl)
theorem dX8_next_210 : decode cX8_next 210 = .ok (.return_, 1) := dk_177 (dk_at dksX8_next_8 22 rfl rfl)
abbrev cX8_isHere : ByteArray := prog_6_method_2_code
def yX8_isHere : MethodName := ⟨RX8, "isHere", "(CC)Z"⟩
def dkwX8_isHere_2 : List UInt8 := [167, 0, 4, 3, 172]
abbrev dktX8_isHere_2 : List UInt8 := dkwX8_isHere_2 ++ []
def dkwX8_isHere_1 : List UInt8 := [182, 0, 78, 27, 161, 0, 22, 42, 180, 0, 66, 42, 180, 0, 70, 182, 0, 78, 28, 163, 0, 7, 4]
abbrev dktX8_isHere_1 : List UInt8 := dkwX8_isHere_1 ++ dktX8_isHere_2
def dkwX8_isHere_0 : List UInt8 := [42, 180, 0, 70, 42, 180, 0, 66, 182, 0, 74, 162, 0, 37, 42, 180, 0, 66, 42, 180, 0, 70]
abbrev dktX8_isHere_0 : List UInt8 := dkwX8_isHere_0 ++ dktX8_isHere_1
theorem dksX8_isHere_0 : cX8_isHere.data.toList.drop 0 = dktX8_isHere_0 := by decide +kernel
theorem dksX8_isHere_1 : cX8_isHere.data.toList.drop 22 = dktX8_isHere_1 := dk_seg dksX8_isHere_0 22 rfl rfl
theorem dksX8_isHere_2 : cX8_isHere.data.toList.drop 45 = dktX8_isHere_2 := dk_seg dksX8_isHere_1 23 rfl rfl
theorem dX8_isHere_0 : decode cX8_isHere 0 = .ok (.aload_n 0, 1) := dk_42 (dk_at dksX8_isHere_0 0 rfl rfl)
theorem dX8_isHere_1 : decode cX8_isHere 1 = .ok (.getfield 70, 3) := dk_180 0 70 (dk_at dksX8_isHere_0 1 rfl rfl)
theorem dX8_isHere_4 : decode cX8_isHere 4 = .ok (.aload_n 0, 1) := dk_42 (dk_at dksX8_isHere_0 4 rfl rfl)
theorem dX8_isHere_5 : decode cX8_isHere 5 = .ok (.getfield 66, 3) := dk_180 0 66 (dk_at dksX8_isHere_0 5 rfl rfl)
theorem dX8_isHere_8 : decode cX8_isHere 8 = .ok (.invokevirtual 74, 3) := dk_182 0 74 (dk_at dksX8_isHere_0 8 rfl rfl)
theorem dX8_isHere_11 : decode cX8_isHere 11 = .ok (.if_icmp .ge 37, 3) := dk_162 0 37 (dk_at dksX8_isHere_0 11 rfl rfl)
theorem dX8_isHere_14 : decode cX8_isHere 14 = .ok (.aload_n 0, 1) := dk_42 (dk_at dksX8_isHere_0 14 rfl rfl)
theorem dX8_isHere_15 : decode cX8_isHere 15 = .ok (.getfield 66, 3) := dk_180 0 66 (dk_at dksX8_isHere_0 15 rfl rfl)
theorem dX8_isHere_18 : decode cX8_isHere 18 = .ok (.aload_n 0, 1) := dk_42 (dk_at dksX8_isHere_0 18 rfl rfl)
theorem dX8_isHere_19 : decode cX8_isHere 19 = .ok (.getfield 70, 3) := dk_180 0 70 (dk_at dksX8_isHere_0 19 rfl rfl)
theorem dX8_isHere_22 : decode cX8_isHere 22 = .ok (.invokevirtual 78, 3) := dk_182 0 78 (dk_at dksX8_isHere_1 0 rfl rfl)
theorem dX8_isHere_25 : decode cX8_isHere 25 = .ok (.iload_n 1, 1) := dk_27 (dk_at dksX8_isHere_1 3 rfl rfl)
theorem dX8_isHere_26 : decode cX8_isHere 26 = .ok (.if_icmp .lt 22, 3) := dk_161 0 22 (dk_at dksX8_isHere_1 4 rfl rfl)
theorem dX8_isHere_29 : decode cX8_isHere 29 = .ok (.aload_n 0, 1) := dk_42 (dk_at dksX8_isHere_1 7 rfl rfl)
theorem dX8_isHere_30 : decode cX8_isHere 30 = .ok (.getfield 66, 3) := dk_180 0 66 (dk_at dksX8_isHere_1 8 rfl rfl)
theorem dX8_isHere_33 : decode cX8_isHere 33 = .ok (.aload_n 0, 1) := dk_42 (dk_at dksX8_isHere_1 11 rfl rfl)
theorem dX8_isHere_34 : decode cX8_isHere 34 = .ok (.getfield 70, 3) := dk_180 0 70 (dk_at dksX8_isHere_1 12 rfl rfl)
theorem dX8_isHere_37 : decode cX8_isHere 37 = .ok (.invokevirtual 78, 3) := dk_182 0 78 (dk_at dksX8_isHere_1 15 rfl rfl)
theorem dX8_isHere_40 : decode cX8_isHere 40 = .ok (.iload_n 2, 1) := dk_28 (dk_at dksX8_isHere_1 18 rfl rfl)
theorem dX8_isHere_41 : decode cX8_isHere 41 = .ok (.if_icmp .gt 7, 3) := dk_163 0 7 (dk_at dksX8_isHere_1 19 rfl rfl)
theorem dX8_isHere_44 : decode cX8_isHere 44 = .ok (.iconst 1, 1) := dk_4 (dk_at dksX8_isHere_1 22 rfl rfl)
theorem dX8_isHere_45 : decode cX8_isHere 45 = .ok (.goto 4, 3) := dk_167 0 4 (dk_at dksX8_isHere_2 0 rfl rfl)
theorem dX8_isHere_48 : decode cX8_isHere 48 = .ok (.iconst 0, 1) := dk_3 (dk_at dksX8_isHere_2 3 rfl rfl)
theorem dX8_isHere_49 : decode cX8_isHere 49 = .ok (.ireturn, 1) := dk_172 (dk_at dksX8_isHere_2 4 rfl rfl)
abbrev cX8_word : ByteArray := prog_6_method_5_code
def yX8_word : MethodName := ⟨RX8, "word", "()Ljava/lang/String;"⟩
def dkwX8_word_0 : List UInt8 := [42, 180, 0, 66, 42, 180, 0, 86, 42, 180, 0, 70, 182, 0, 128, 176]
abbrev dktX8_word_0 : List UInt8 := dkwX8_word_0 ++ []
theorem dksX8_word_0 : cX8_word.data.toList.drop 0 = dktX8_word_0 := by decide +kernel
theorem dX8_word_0 : decode cX8_word 0 = .ok (.aload_n 0, 1) := dk_42 (dk_at dksX8_word_0 0 rfl rfl)
theorem dX8_word_1 : decode cX8_word 1 = .ok (.getfield 66, 3) := dk_180 0 66 (dk_at dksX8_word_0 1 rfl rfl)
theorem dX8_word_4 : decode cX8_word 4 = .ok (.aload_n 0, 1) := dk_42 (dk_at dksX8_word_0 4 rfl rfl)
theorem dX8_word_5 : decode cX8_word 5 = .ok (.getfield 86, 3) := dk_180 0 86 (dk_at dksX8_word_0 5 rfl rfl)
theorem dX8_word_8 : decode cX8_word 8 = .ok (.aload_n 0, 1) := dk_42 (dk_at dksX8_word_0 8 rfl rfl)
theorem dX8_word_9 : decode cX8_word 9 = .ok (.getfield 70, 3) := dk_180 0 70 (dk_at dksX8_word_0 9 rfl rfl)
theorem dX8_word_12 : decode cX8_word 12 = .ok (.invokevirtual 128, 3) := dk_182 0 128 (dk_at dksX8_word_0 12 rfl rfl)
theorem dX8_word_15 : decode cX8_word 15 = .ok (.areturn, 1) := dk_176 (dk_at dksX8_word_0 15 rfl rfl)
abbrev cX8_digits : ByteArray := prog_6_method_4_code
def yX8_digits : MethodName := ⟨RX8, "digits", "()LBusLine$Kind;"⟩
def dkwX8_digits_3 : List UInt8 := [42, 180, 0, 86, 100, 7, 164, 0, 9, 178, 0, 109, 167, 0, 6, 178, 0, 125, 176]
abbrev dktX8_digits_3 : List UInt8 := dkwX8_digits_3 ++ []
def dkwX8_digits_2 : List UInt8 := [96, 16, 48, 100, 181, 0, 122, 42, 89, 180, 0, 70, 4, 96, 181, 0, 70, 167, 255, 196, 42, 180, 0, 70]
abbrev dktX8_digits_2 : List UInt8 := dkwX8_digits_2 ++ dktX8_digits_3
def dkwX8_digits_1 : List UInt8 := [100, 7, 162, 0, 29, 42, 16, 10, 42, 180, 0, 122, 104, 42, 180, 0, 66, 42, 180, 0, 70, 182, 0, 78]
abbrev dktX8_digits_1 : List UInt8 := dkwX8_digits_1 ++ dktX8_digits_2
def dkwX8_digits_0 : List UInt8 := [42, 3, 181, 0, 122, 42, 16, 48, 16, 57, 182, 0, 82, 153, 0, 55, 42, 180, 0, 70, 42, 180, 0, 86]
abbrev dktX8_digits_0 : List UInt8 := dkwX8_digits_0 ++ dktX8_digits_1
theorem dksX8_digits_0 : cX8_digits.data.toList.drop 0 = dktX8_digits_0 := by decide +kernel
theorem dksX8_digits_1 : cX8_digits.data.toList.drop 24 = dktX8_digits_1 := dk_seg dksX8_digits_0 24 rfl rfl
theorem dksX8_digits_2 : cX8_digits.data.toList.drop 48 = dktX8_digits_2 := dk_seg dksX8_digits_1 24 rfl rfl
theorem dksX8_digits_3 : cX8_digits.data.toList.drop 72 = dktX8_digits_3 := dk_seg dksX8_digits_2 24 rfl rfl
theorem dX8_digits_0 : decode cX8_digits 0 = .ok (.aload_n 0, 1) := dk_42 (dk_at dksX8_digits_0 0 rfl rfl)
theorem dX8_digits_1 : decode cX8_digits 1 = .ok (.iconst 0, 1) := dk_3 (dk_at dksX8_digits_0 1 rfl rfl)
theorem dX8_digits_2 : decode cX8_digits 2 = .ok (.putfield 122, 3) := dk_181 0 122 (dk_at dksX8_digits_0 2 rfl rfl)
theorem dX8_digits_5 : decode cX8_digits 5 = .ok (.aload_n 0, 1) := dk_42 (dk_at dksX8_digits_0 5 rfl rfl)
theorem dX8_digits_6 : decode cX8_digits 6 = .ok (.bipush 48, 2) := dk_16 48 (dk_at dksX8_digits_0 6 rfl rfl)
theorem dX8_digits_8 : decode cX8_digits 8 = .ok (.bipush 57, 2) := dk_16 57 (dk_at dksX8_digits_0 8 rfl rfl)
theorem dX8_digits_10 : decode cX8_digits 10 = .ok (.invokevirtual 82, 3) := dk_182 0 82 (dk_at dksX8_digits_0 10 rfl rfl)
theorem dX8_digits_13 : decode cX8_digits 13 = .ok (.ifCond .eq 55, 3) := dk_153 0 55 (dk_at dksX8_digits_0 13 rfl rfl)
theorem dX8_digits_16 : decode cX8_digits 16 = .ok (.aload_n 0, 1) := dk_42 (dk_at dksX8_digits_0 16 rfl rfl)
theorem dX8_digits_17 : decode cX8_digits 17 = .ok (.getfield 70, 3) := dk_180 0 70 (dk_at dksX8_digits_0 17 rfl rfl)
theorem dX8_digits_20 : decode cX8_digits 20 = .ok (.aload_n 0, 1) := dk_42 (dk_at dksX8_digits_0 20 rfl rfl)
theorem dX8_digits_21 : decode cX8_digits 21 = .ok (.getfield 86, 3) := dk_180 0 86 (dk_at dksX8_digits_0 21 rfl rfl)
theorem dX8_digits_24 : decode cX8_digits 24 = .ok (.isub, 1) := dk_100 (dk_at dksX8_digits_1 0 rfl rfl)
theorem dX8_digits_25 : decode cX8_digits 25 = .ok (.iconst 4, 1) := dk_7 (dk_at dksX8_digits_1 1 rfl rfl)
theorem dX8_digits_26 : decode cX8_digits 26 = .ok (.if_icmp .ge 29, 3) := dk_162 0 29 (dk_at dksX8_digits_1 2 rfl rfl)
theorem dX8_digits_29 : decode cX8_digits 29 = .ok (.aload_n 0, 1) := dk_42 (dk_at dksX8_digits_1 5 rfl rfl)
theorem dX8_digits_30 : decode cX8_digits 30 = .ok (.bipush 10, 2) := dk_16 10 (dk_at dksX8_digits_1 6 rfl rfl)
theorem dX8_digits_32 : decode cX8_digits 32 = .ok (.aload_n 0, 1) := dk_42 (dk_at dksX8_digits_1 8 rfl rfl)
theorem dX8_digits_33 : decode cX8_digits 33 = .ok (.getfield 122, 3) := dk_180 0 122 (dk_at dksX8_digits_1 9 rfl rfl)
theorem dX8_digits_36 : decode cX8_digits 36 = .ok (.imul, 1) := dk_104 (dk_at dksX8_digits_1 12 rfl rfl)
theorem dX8_digits_37 : decode cX8_digits 37 = .ok (.aload_n 0, 1) := dk_42 (dk_at dksX8_digits_1 13 rfl rfl)
theorem dX8_digits_38 : decode cX8_digits 38 = .ok (.getfield 66, 3) := dk_180 0 66 (dk_at dksX8_digits_1 14 rfl rfl)
theorem dX8_digits_41 : decode cX8_digits 41 = .ok (.aload_n 0, 1) := dk_42 (dk_at dksX8_digits_1 17 rfl rfl)
theorem dX8_digits_42 : decode cX8_digits 42 = .ok (.getfield 70, 3) := dk_180 0 70 (dk_at dksX8_digits_1 18 rfl rfl)
theorem dX8_digits_45 : decode cX8_digits 45 = .ok (.invokevirtual 78, 3) := dk_182 0 78 (dk_at dksX8_digits_1 21 rfl rfl)
theorem dX8_digits_48 : decode cX8_digits 48 = .ok (.iadd, 1) := dk_96 (dk_at dksX8_digits_2 0 rfl rfl)
theorem dX8_digits_49 : decode cX8_digits 49 = .ok (.bipush 48, 2) := dk_16 48 (dk_at dksX8_digits_2 1 rfl rfl)
theorem dX8_digits_51 : decode cX8_digits 51 = .ok (.isub, 1) := dk_100 (dk_at dksX8_digits_2 3 rfl rfl)
theorem dX8_digits_52 : decode cX8_digits 52 = .ok (.putfield 122, 3) := dk_181 0 122 (dk_at dksX8_digits_2 4 rfl rfl)
theorem dX8_digits_55 : decode cX8_digits 55 = .ok (.aload_n 0, 1) := dk_42 (dk_at dksX8_digits_2 7 rfl rfl)
theorem dX8_digits_56 : decode cX8_digits 56 = .ok (.dup, 1) := dk_89 (dk_at dksX8_digits_2 8 rfl rfl)
theorem dX8_digits_57 : decode cX8_digits 57 = .ok (.getfield 70, 3) := dk_180 0 70 (dk_at dksX8_digits_2 9 rfl rfl)
theorem dX8_digits_60 : decode cX8_digits 60 = .ok (.iconst 1, 1) := dk_4 (dk_at dksX8_digits_2 12 rfl rfl)
theorem dX8_digits_61 : decode cX8_digits 61 = .ok (.iadd, 1) := dk_96 (dk_at dksX8_digits_2 13 rfl rfl)
theorem dX8_digits_62 : decode cX8_digits 62 = .ok (.putfield 70, 3) := dk_181 0 70 (dk_at dksX8_digits_2 14 rfl rfl)
theorem dX8_digits_65 : decode cX8_digits 65 = .ok (.goto (-60), 3) := dk_167 255 196 (dk_at dksX8_digits_2 17 rfl rfl)
theorem dX8_digits_68 : decode cX8_digits 68 = .ok (.aload_n 0, 1) := dk_42 (dk_at dksX8_digits_2 20 rfl rfl)
theorem dX8_digits_69 : decode cX8_digits 69 = .ok (.getfield 70, 3) := dk_180 0 70 (dk_at dksX8_digits_2 21 rfl rfl)
theorem dX8_digits_72 : decode cX8_digits 72 = .ok (.aload_n 0, 1) := dk_42 (dk_at dksX8_digits_3 0 rfl rfl)
theorem dX8_digits_73 : decode cX8_digits 73 = .ok (.getfield 86, 3) := dk_180 0 86 (dk_at dksX8_digits_3 1 rfl rfl)
theorem dX8_digits_76 : decode cX8_digits 76 = .ok (.isub, 1) := dk_100 (dk_at dksX8_digits_3 4 rfl rfl)
theorem dX8_digits_77 : decode cX8_digits 77 = .ok (.iconst 4, 1) := dk_7 (dk_at dksX8_digits_3 5 rfl rfl)
theorem dX8_digits_78 : decode cX8_digits 78 = .ok (.if_icmp .le 9, 3) := dk_164 0 9 (dk_at dksX8_digits_3 6 rfl rfl)
theorem dX8_digits_81 : decode cX8_digits 81 = .ok (.getstatic 109, 3) := dk_178 0 109 (dk_at dksX8_digits_3 9 rfl rfl)
theorem dX8_digits_84 : decode cX8_digits 84 = .ok (.goto 6, 3) := dk_167 0 6 (dk_at dksX8_digits_3 12 rfl rfl)
theorem dX8_digits_87 : decode cX8_digits 87 = .ok (.getstatic 125, 3) := dk_178 0 125 (dk_at dksX8_digits_3 15 rfl rfl)
theorem dX8_digits_90 : decode cX8_digits 90 = .ok (.areturn, 1) := dk_176 (dk_at dksX8_digits_3 18 rfl rfl)
abbrev cX8_after : ByteArray := prog_6_method_9_code
def yX8_after : MethodName := ⟨RX8, "after", "(Ljava/lang/String;II)I"⟩
def dkwX8_after_0 : List UInt8 := [42, 42, 43, 182, 0, 147, 182, 0, 143, 42, 28, 29, 182, 0, 151, 172]
abbrev dktX8_after_0 : List UInt8 := dkwX8_after_0 ++ []
theorem dksX8_after_0 : cX8_after.data.toList.drop 0 = dktX8_after_0 := by decide +kernel
theorem dX8_after_0 : decode cX8_after 0 = .ok (.aload_n 0, 1) := dk_42 (dk_at dksX8_after_0 0 rfl rfl)
theorem dX8_after_1 : decode cX8_after 1 = .ok (.aload_n 0, 1) := dk_42 (dk_at dksX8_after_0 1 rfl rfl)
theorem dX8_after_2 : decode cX8_after 2 = .ok (.aload_n 1, 1) := dk_43 (dk_at dksX8_after_0 2 rfl rfl)
theorem dX8_after_3 : decode cX8_after 3 = .ok (.invokevirtual 147, 3) := dk_182 0 147 (dk_at dksX8_after_0 3 rfl rfl)
theorem dX8_after_6 : decode cX8_after 6 = .ok (.invokevirtual 143, 3) := dk_182 0 143 (dk_at dksX8_after_0 6 rfl rfl)
theorem dX8_after_9 : decode cX8_after 9 = .ok (.aload_n 0, 1) := dk_42 (dk_at dksX8_after_0 9 rfl rfl)
theorem dX8_after_10 : decode cX8_after 10 = .ok (.iload_n 2, 1) := dk_28 (dk_at dksX8_after_0 10 rfl rfl)
theorem dX8_after_11 : decode cX8_after 11 = .ok (.iload_n 3, 1) := dk_29 (dk_at dksX8_after_0 11 rfl rfl)
theorem dX8_after_12 : decode cX8_after 12 = .ok (.invokevirtual 151, 3) := dk_182 0 151 (dk_at dksX8_after_0 12 rfl rfl)
theorem dX8_after_15 : decode cX8_after 15 = .ok (.ireturn, 1) := dk_172 (dk_at dksX8_after_0 15 rfl rfl)
abbrev cX8_is : ByteArray := prog_6_method_6_code
def yX8_is : MethodName := ⟨RX8, "is", "(Ljava/lang/String;)Z"⟩
def dkwX8_is_1 : List UInt8 := [167, 0, 4, 3, 172]
abbrev dktX8_is_1 : List UInt8 := dkwX8_is_1 ++ []
def dkwX8_is_0 : List UInt8 := [42, 180, 0, 95, 178, 0, 106, 166, 0, 18, 42, 182, 0, 98, 43, 182, 0, 132, 153, 0, 7, 4]
abbrev dktX8_is_0 : List UInt8 := dkwX8_is_0 ++ dktX8_is_1
theorem dksX8_is_0 : cX8_is.data.toList.drop 0 = dktX8_is_0 := by decide +kernel
theorem dksX8_is_1 : cX8_is.data.toList.drop 22 = dktX8_is_1 := dk_seg dksX8_is_0 22 rfl rfl
theorem dX8_is_0 : decode cX8_is 0 = .ok (.aload_n 0, 1) := dk_42 (dk_at dksX8_is_0 0 rfl rfl)
theorem dX8_is_1 : decode cX8_is 1 = .ok (.getfield 95, 3) := dk_180 0 95 (dk_at dksX8_is_0 1 rfl rfl)
theorem dX8_is_4 : decode cX8_is 4 = .ok (.getstatic 106, 3) := dk_178 0 106 (dk_at dksX8_is_0 4 rfl rfl)
theorem dX8_is_7 : decode cX8_is 7 = .ok (.if_acmp .ne 18, 3) := dk_166 0 18 (dk_at dksX8_is_0 7 rfl rfl)
theorem dX8_is_10 : decode cX8_is 10 = .ok (.aload_n 0, 1) := dk_42 (dk_at dksX8_is_0 10 rfl rfl)
theorem dX8_is_11 : decode cX8_is 11 = .ok (.invokevirtual 98, 3) := dk_182 0 98 (dk_at dksX8_is_0 11 rfl rfl)
theorem dX8_is_14 : decode cX8_is 14 = .ok (.aload_n 1, 1) := dk_43 (dk_at dksX8_is_0 14 rfl rfl)
theorem dX8_is_15 : decode cX8_is 15 = .ok (.invokevirtual 132, 3) := dk_182 0 132 (dk_at dksX8_is_0 15 rfl rfl)
theorem dX8_is_18 : decode cX8_is 18 = .ok (.ifCond .eq 7, 3) := dk_153 0 7 (dk_at dksX8_is_0 18 rfl rfl)
theorem dX8_is_21 : decode cX8_is 21 = .ok (.iconst 1, 1) := dk_4 (dk_at dksX8_is_0 21 rfl rfl)
theorem dX8_is_22 : decode cX8_is 22 = .ok (.goto 4, 3) := dk_167 0 4 (dk_at dksX8_is_1 0 rfl rfl)
theorem dX8_is_25 : decode cX8_is 25 = .ok (.iconst 0, 1) := dk_3 (dk_at dksX8_is_1 3 rfl rfl)
theorem dX8_is_26 : decode cX8_is 26 = .ok (.ireturn, 1) := dk_172 (dk_at dksX8_is_1 4 rfl rfl)
abbrev cX8_expect : ByteArray := prog_6_method_7_code
def yX8_expect : MethodName := ⟨RX8, "expect", "(Z)V"⟩
def dkwX8_expect_0 : List UInt8 := [27, 154, 0, 15, 187, 0, 135, 89, 42, 180, 0, 86, 183, 0, 137, 191, 42, 182, 0, 140, 177]
abbrev dktX8_expect_0 : List UInt8 := dkwX8_expect_0 ++ []
theorem dksX8_expect_0 : cX8_expect.data.toList.drop 0 = dktX8_expect_0 := by decide +kernel
theorem dX8_expect_0 : decode cX8_expect 0 = .ok (.iload_n 1, 1) := dk_27 (dk_at dksX8_expect_0 0 rfl rfl)
theorem dX8_expect_1 : decode cX8_expect 1 = .ok (.ifCond .ne 15, 3) := dk_154 0 15 (dk_at dksX8_expect_0 1 rfl rfl)
theorem dX8_expect_4 : decode cX8_expect 4 = .ok (.new 135, 3) := dk_187 0 135 (dk_at dksX8_expect_0 4 rfl rfl)
theorem dX8_expect_7 : decode cX8_expect 7 = .ok (.dup, 1) := dk_89 (dk_at dksX8_expect_0 7 rfl rfl)
theorem dX8_expect_8 : decode cX8_expect 8 = .ok (.aload_n 0, 1) := dk_42 (dk_at dksX8_expect_0 8 rfl rfl)
theorem dX8_expect_9 : decode cX8_expect 9 = .ok (.getfield 86, 3) := dk_180 0 86 (dk_at dksX8_expect_0 9 rfl rfl)
theorem dX8_expect_12 : decode cX8_expect 12 = .ok (.invokespecial 137, 3) := dk_183 0 137 (dk_at dksX8_expect_0 12 rfl rfl)
theorem dX8_expect_15 : decode cX8_expect 15 = .ok (.athrow, 1) := dk_191 (dk_at dksX8_expect_0 15 rfl rfl)
theorem dX8_expect_16 : decode cX8_expect 16 = .ok (.aload_n 0, 1) := dk_42 (dk_at dksX8_expect_0 16 rfl rfl)
theorem dX8_expect_17 : decode cX8_expect 17 = .ok (.invokevirtual 140, 3) := dk_182 0 140 (dk_at dksX8_expect_0 17 rfl rfl)
theorem dX8_expect_20 : decode cX8_expect 20 = .ok (.return_, 1) := dk_177 (dk_at dksX8_expect_0 20 rfl rfl)
abbrev cX8_number : ByteArray := prog_6_method_8_code
def yX8_number : MethodName := ⟨RX8, "number", "(II)I"⟩
def dkwX8_number_1 : List UInt8 := [42, 180, 0, 122, 28, 163, 0, 7, 4, 167, 0, 4, 3, 182, 0, 143, 29, 172]
abbrev dktX8_number_1 : List UInt8 := dkwX8_number_1 ++ []
def dkwX8_number_0 : List UInt8 := [42, 180, 0, 122, 62, 42, 42, 180, 0, 95, 178, 0, 125, 166, 0, 23, 27, 42, 180, 0, 122, 163, 0, 15]
abbrev dktX8_number_0 : List UInt8 := dkwX8_number_0 ++ dktX8_number_1
theorem dksX8_number_0 : cX8_number.data.toList.drop 0 = dktX8_number_0 := by decide +kernel
theorem dksX8_number_1 : cX8_number.data.toList.drop 24 = dktX8_number_1 := dk_seg dksX8_number_0 24 rfl rfl
theorem dX8_number_0 : decode cX8_number 0 = .ok (.aload_n 0, 1) := dk_42 (dk_at dksX8_number_0 0 rfl rfl)
theorem dX8_number_1 : decode cX8_number 1 = .ok (.getfield 122, 3) := dk_180 0 122 (dk_at dksX8_number_0 1 rfl rfl)
theorem dX8_number_4 : decode cX8_number 4 = .ok (.istore_n 3, 1) := dk_62 (dk_at dksX8_number_0 4 rfl rfl)
theorem dX8_number_5 : decode cX8_number 5 = .ok (.aload_n 0, 1) := dk_42 (dk_at dksX8_number_0 5 rfl rfl)
theorem dX8_number_6 : decode cX8_number 6 = .ok (.aload_n 0, 1) := dk_42 (dk_at dksX8_number_0 6 rfl rfl)
theorem dX8_number_7 : decode cX8_number 7 = .ok (.getfield 95, 3) := dk_180 0 95 (dk_at dksX8_number_0 7 rfl rfl)
theorem dX8_number_10 : decode cX8_number 10 = .ok (.getstatic 125, 3) := dk_178 0 125 (dk_at dksX8_number_0 10 rfl rfl)
theorem dX8_number_13 : decode cX8_number 13 = .ok (.if_acmp .ne 23, 3) := dk_166 0 23 (dk_at dksX8_number_0 13 rfl rfl)
theorem dX8_number_16 : decode cX8_number 16 = .ok (.iload_n 1, 1) := dk_27 (dk_at dksX8_number_0 16 rfl rfl)
theorem dX8_number_17 : decode cX8_number 17 = .ok (.aload_n 0, 1) := dk_42 (dk_at dksX8_number_0 17 rfl rfl)
theorem dX8_number_18 : decode cX8_number 18 = .ok (.getfield 122, 3) := dk_180 0 122 (dk_at dksX8_number_0 18 rfl rfl)
theorem dX8_number_21 : decode cX8_number 21 = .ok (.if_icmp .gt 15, 3) := dk_163 0 15 (dk_at dksX8_number_0 21 rfl rfl)
theorem dX8_number_24 : decode cX8_number 24 = .ok (.aload_n 0, 1) := dk_42 (dk_at dksX8_number_1 0 rfl rfl)
theorem dX8_number_25 : decode cX8_number 25 = .ok (.getfield 122, 3) := dk_180 0 122 (dk_at dksX8_number_1 1 rfl rfl)
theorem dX8_number_28 : decode cX8_number 28 = .ok (.iload_n 2, 1) := dk_28 (dk_at dksX8_number_1 4 rfl rfl)
theorem dX8_number_29 : decode cX8_number 29 = .ok (.if_icmp .gt 7, 3) := dk_163 0 7 (dk_at dksX8_number_1 5 rfl rfl)
theorem dX8_number_32 : decode cX8_number 32 = .ok (.iconst 1, 1) := dk_4 (dk_at dksX8_number_1 8 rfl rfl)
theorem dX8_number_33 : decode cX8_number 33 = .ok (.goto 4, 3) := dk_167 0 4 (dk_at dksX8_number_1 9 rfl rfl)
theorem dX8_number_36 : decode cX8_number 36 = .ok (.iconst 0, 1) := dk_3 (dk_at dksX8_number_1 12 rfl rfl)
theorem dX8_number_37 : decode cX8_number 37 = .ok (.invokevirtual 143, 3) := dk_182 0 143 (dk_at dksX8_number_1 13 rfl rfl)
theorem dX8_number_40 : decode cX8_number 40 = .ok (.iload_n 3, 1) := dk_29 (dk_at dksX8_number_1 16 rfl rfl)
theorem dX8_number_41 : decode cX8_number 41 = .ok (.ireturn, 1) := dk_172 (dk_at dksX8_number_1 17 rfl rfl)
abbrev cX8_close : ByteArray := prog_6_method_10_code
def yX8_close : MethodName := ⟨RX8, "close", "()V"⟩
def dkwX8_close_0 : List UInt8 := [42, 42, 180, 0, 95, 178, 0, 119, 166, 0, 7, 4, 167, 0, 4, 3, 182, 0, 143, 177]
abbrev dktX8_close_0 : List UInt8 := dkwX8_close_0 ++ []
theorem dksX8_close_0 : cX8_close.data.toList.drop 0 = dktX8_close_0 := by decide +kernel
theorem dX8_close_0 : decode cX8_close 0 = .ok (.aload_n 0, 1) := dk_42 (dk_at dksX8_close_0 0 rfl rfl)
theorem dX8_close_1 : decode cX8_close 1 = .ok (.aload_n 0, 1) := dk_42 (dk_at dksX8_close_0 1 rfl rfl)
theorem dX8_close_2 : decode cX8_close 2 = .ok (.getfield 95, 3) := dk_180 0 95 (dk_at dksX8_close_0 2 rfl rfl)
theorem dX8_close_5 : decode cX8_close 5 = .ok (.getstatic 119, 3) := dk_178 0 119 (dk_at dksX8_close_0 5 rfl rfl)
theorem dX8_close_8 : decode cX8_close 8 = .ok (.if_acmp .ne 7, 3) := dk_166 0 7 (dk_at dksX8_close_0 8 rfl rfl)
theorem dX8_close_11 : decode cX8_close 11 = .ok (.iconst 1, 1) := dk_4 (dk_at dksX8_close_0 11 rfl rfl)
theorem dX8_close_12 : decode cX8_close 12 = .ok (.goto 4, 3) := dk_167 0 4 (dk_at dksX8_close_0 12 rfl rfl)
theorem dX8_close_15 : decode cX8_close 15 = .ok (.iconst 0, 1) := dk_3 (dk_at dksX8_close_0 15 rfl rfl)
theorem dX8_close_16 : decode cX8_close 16 = .ok (.invokevirtual 143, 3) := dk_182 0 143 (dk_at dksX8_close_0 16 rfl rfl)
theorem dX8_close_19 : decode cX8_close 19 = .ok (.return_, 1) := dk_177 (dk_at dksX8_close_0 19 rfl rfl)
abbrev cX8_stop : ByteArray := prog_6_method_12_code
def yX8_stop : MethodName := ⟨RX8, "stop", "()V"⟩
def dkwX8_stop_5 : List UInt8 := [43, 28, 29, 21, 4, 182, 0, 193, 177]
abbrev dktX8_stop_5 : List UInt8 := dkwX8_stop_5 ++ []
def dkwX8_stop_4 : List UInt8 := [18, 33, 182, 0, 147, 54, 4, 21, 4, 153, 0, 7, 42, 182, 0, 140, 42, 182, 0, 170, 42, 180, 0, 62]
abbrev dktX8_stop_4 : List UInt8 := dkwX8_stop_4 ++ dktX8_stop_5
def dkwX8_stop_3 : List UInt8 := [18, 29, 16, 20, 17, 3, 132, 182, 0, 154, 61, 42, 18, 31, 3, 17, 39, 15, 182, 0, 154, 62, 42]
abbrev dktX8_stop_3 : List UInt8 := dkwX8_stop_3 ++ dktX8_stop_4
def dkwX8_stop_2 : List UInt8 := [166, 0, 18, 42, 180, 0, 62, 43, 182, 0, 189, 156, 0, 7, 4, 167, 0, 4, 3, 182, 0, 143, 42]
abbrev dktX8_stop_2 : List UInt8 := dkwX8_stop_2 ++ dktX8_stop_3
def dkwX8_stop_1 : List UInt8 := [162, 0, 7, 4, 167, 0, 4, 3, 182, 0, 143, 42, 182, 0, 98, 76, 42, 42, 180, 0, 95, 178, 0, 112]
abbrev dktX8_stop_1 : List UInt8 := dkwX8_stop_1 ++ dktX8_stop_2
def dkwX8_stop_0 : List UInt8 := [42, 42, 18, 27, 182, 0, 147, 153, 0, 22, 42, 180, 0, 62, 180, 0, 180, 182, 0, 184, 16, 10]
abbrev dktX8_stop_0 : List UInt8 := dkwX8_stop_0 ++ dktX8_stop_1
theorem dksX8_stop_0 : cX8_stop.data.toList.drop 0 = dktX8_stop_0 := by decide +kernel
theorem dksX8_stop_1 : cX8_stop.data.toList.drop 22 = dktX8_stop_1 := dk_seg dksX8_stop_0 22 rfl rfl
theorem dksX8_stop_2 : cX8_stop.data.toList.drop 46 = dktX8_stop_2 := dk_seg dksX8_stop_1 24 rfl rfl
theorem dksX8_stop_3 : cX8_stop.data.toList.drop 69 = dktX8_stop_3 := dk_seg dksX8_stop_2 23 rfl rfl
theorem dksX8_stop_4 : cX8_stop.data.toList.drop 92 = dktX8_stop_4 := dk_seg dksX8_stop_3 23 rfl rfl
theorem dksX8_stop_5 : cX8_stop.data.toList.drop 116 = dktX8_stop_5 := dk_seg dksX8_stop_4 24 rfl rfl
theorem dX8_stop_0 : decode cX8_stop 0 = .ok (.aload_n 0, 1) := dk_42 (dk_at dksX8_stop_0 0 rfl rfl)
theorem dX8_stop_1 : decode cX8_stop 1 = .ok (.aload_n 0, 1) := dk_42 (dk_at dksX8_stop_0 1 rfl rfl)
theorem dX8_stop_2 : decode cX8_stop 2 = .ok (.ldc 27, 2) := dk_18 27 (dk_at dksX8_stop_0 2 rfl rfl)
theorem dX8_stop_4 : decode cX8_stop 4 = .ok (.invokevirtual 147, 3) := dk_182 0 147 (dk_at dksX8_stop_0 4 rfl rfl)
theorem dX8_stop_7 : decode cX8_stop 7 = .ok (.ifCond .eq 22, 3) := dk_153 0 22 (dk_at dksX8_stop_0 7 rfl rfl)
theorem dX8_stop_10 : decode cX8_stop 10 = .ok (.aload_n 0, 1) := dk_42 (dk_at dksX8_stop_0 10 rfl rfl)
theorem dX8_stop_11 : decode cX8_stop 11 = .ok (.getfield 62, 3) := dk_180 0 62 (dk_at dksX8_stop_0 11 rfl rfl)
theorem dX8_stop_14 : decode cX8_stop 14 = .ok (.getfield 180, 3) := dk_180 0 180 (dk_at dksX8_stop_0 14 rfl rfl)
theorem dX8_stop_17 : decode cX8_stop 17 = .ok (.invokevirtual 184, 3) := dk_182 0 184 (dk_at dksX8_stop_0 17 rfl rfl)
theorem dX8_stop_20 : decode cX8_stop 20 = .ok (.bipush 10, 2) := dk_16 10 (dk_at dksX8_stop_0 20 rfl rfl)
theorem dX8_stop_22 : decode cX8_stop 22 = .ok (.if_icmp .ge 7, 3) := dk_162 0 7 (dk_at dksX8_stop_1 0 rfl rfl)
theorem dX8_stop_25 : decode cX8_stop 25 = .ok (.iconst 1, 1) := dk_4 (dk_at dksX8_stop_1 3 rfl rfl)
theorem dX8_stop_26 : decode cX8_stop 26 = .ok (.goto 4, 3) := dk_167 0 4 (dk_at dksX8_stop_1 4 rfl rfl)
theorem dX8_stop_29 : decode cX8_stop 29 = .ok (.iconst 0, 1) := dk_3 (dk_at dksX8_stop_1 7 rfl rfl)
theorem dX8_stop_30 : decode cX8_stop 30 = .ok (.invokevirtual 143, 3) := dk_182 0 143 (dk_at dksX8_stop_1 8 rfl rfl)
theorem dX8_stop_33 : decode cX8_stop 33 = .ok (.aload_n 0, 1) := dk_42 (dk_at dksX8_stop_1 11 rfl rfl)
theorem dX8_stop_34 : decode cX8_stop 34 = .ok (.invokevirtual 98, 3) := dk_182 0 98 (dk_at dksX8_stop_1 12 rfl rfl)
theorem dX8_stop_37 : decode cX8_stop 37 = .ok (.astore_n 1, 1) := dk_76 (dk_at dksX8_stop_1 15 rfl rfl)
theorem dX8_stop_38 : decode cX8_stop 38 = .ok (.aload_n 0, 1) := dk_42 (dk_at dksX8_stop_1 16 rfl rfl)
theorem dX8_stop_39 : decode cX8_stop 39 = .ok (.aload_n 0, 1) := dk_42 (dk_at dksX8_stop_1 17 rfl rfl)
theorem dX8_stop_40 : decode cX8_stop 40 = .ok (.getfield 95, 3) := dk_180 0 95 (dk_at dksX8_stop_1 18 rfl rfl)
theorem dX8_stop_43 : decode cX8_stop 43 = .ok (.getstatic 112, 3) := dk_178 0 112 (dk_at dksX8_stop_1 21 rfl rfl)
theorem dX8_stop_46 : decode cX8_stop 46 = .ok (.if_acmp .ne 18, 3) := dk_166 0 18 (dk_at dksX8_stop_2 0 rfl rfl)
theorem dX8_stop_49 : decode cX8_stop 49 = .ok (.aload_n 0, 1) := dk_42 (dk_at dksX8_stop_2 3 rfl rfl)
theorem dX8_stop_50 : decode cX8_stop 50 = .ok (.getfield 62, 3) := dk_180 0 62 (dk_at dksX8_stop_2 4 rfl rfl)
theorem dX8_stop_53 : decode cX8_stop 53 = .ok (.aload_n 1, 1) := dk_43 (dk_at dksX8_stop_2 7 rfl rfl)
theorem dX8_stop_54 : decode cX8_stop 54 = .ok (.invokevirtual 189, 3) := dk_182 0 189 (dk_at dksX8_stop_2 8 rfl rfl)
theorem dX8_stop_57 : decode cX8_stop 57 = .ok (.ifCond .ge 7, 3) := dk_156 0 7 (dk_at dksX8_stop_2 11 rfl rfl)
theorem dX8_stop_60 : decode cX8_stop 60 = .ok (.iconst 1, 1) := dk_4 (dk_at dksX8_stop_2 14 rfl rfl)
theorem dX8_stop_61 : decode cX8_stop 61 = .ok (.goto 4, 3) := dk_167 0 4 (dk_at dksX8_stop_2 15 rfl rfl)
theorem dX8_stop_64 : decode cX8_stop 64 = .ok (.iconst 0, 1) := dk_3 (dk_at dksX8_stop_2 18 rfl rfl)
theorem dX8_stop_65 : decode cX8_stop 65 = .ok (.invokevirtual 143, 3) := dk_182 0 143 (dk_at dksX8_stop_2 19 rfl rfl)
theorem dX8_stop_68 : decode cX8_stop 68 = .ok (.aload_n 0, 1) := dk_42 (dk_at dksX8_stop_2 22 rfl rfl)
theorem dX8_stop_69 : decode cX8_stop 69 = .ok (.ldc 29, 2) := dk_18 29 (dk_at dksX8_stop_3 0 rfl rfl)
theorem dX8_stop_71 : decode cX8_stop 71 = .ok (.bipush 20, 2) := dk_16 20 (dk_at dksX8_stop_3 2 rfl rfl)
theorem dX8_stop_73 : decode cX8_stop 73 = .ok (.sipush 900, 3) := dk_17 3 132 (dk_at dksX8_stop_3 4 rfl rfl)
theorem dX8_stop_76 : decode cX8_stop 76 = .ok (.invokevirtual 154, 3) := dk_182 0 154 (dk_at dksX8_stop_3 7 rfl rfl)
theorem dX8_stop_79 : decode cX8_stop 79 = .ok (.istore_n 2, 1) := dk_61 (dk_at dksX8_stop_3 10 rfl rfl)
theorem dX8_stop_80 : decode cX8_stop 80 = .ok (.aload_n 0, 1) := dk_42 (dk_at dksX8_stop_3 11 rfl rfl)
theorem dX8_stop_81 : decode cX8_stop 81 = .ok (.ldc 31, 2) := dk_18 31 (dk_at dksX8_stop_3 12 rfl rfl)
theorem dX8_stop_83 : decode cX8_stop 83 = .ok (.iconst 0, 1) := dk_3 (dk_at dksX8_stop_3 14 rfl rfl)
theorem dX8_stop_84 : decode cX8_stop 84 = .ok (.sipush 9999, 3) := dk_17 39 15 (dk_at dksX8_stop_3 15 rfl rfl)
theorem dX8_stop_87 : decode cX8_stop 87 = .ok (.invokevirtual 154, 3) := dk_182 0 154 (dk_at dksX8_stop_3 18 rfl rfl)
theorem dX8_stop_90 : decode cX8_stop 90 = .ok (.istore_n 3, 1) := dk_62 (dk_at dksX8_stop_3 21 rfl rfl)
theorem dX8_stop_91 : decode cX8_stop 91 = .ok (.aload_n 0, 1) := dk_42 (dk_at dksX8_stop_3 22 rfl rfl)
theorem dX8_stop_92 : decode cX8_stop 92 = .ok (.ldc 33, 2) := dk_18 33 (dk_at dksX8_stop_4 0 rfl rfl)
theorem dX8_stop_94 : decode cX8_stop 94 = .ok (.invokevirtual 147, 3) := dk_182 0 147 (dk_at dksX8_stop_4 2 rfl rfl)
theorem dX8_stop_97 : decode cX8_stop 97 = .ok (.istore 4, 2) := dk_54 4 (dk_at dksX8_stop_4 5 rfl rfl)
theorem dX8_stop_99 : decode cX8_stop 99 = .ok (.iload 4, 2) := dk_21 4 (dk_at dksX8_stop_4 7 rfl rfl)
theorem dX8_stop_101 : decode cX8_stop 101 = .ok (.ifCond .eq 7, 3) := dk_153 0 7 (dk_at dksX8_stop_4 9 rfl rfl)
theorem dX8_stop_104 : decode cX8_stop 104 = .ok (.aload_n 0, 1) := dk_42 (dk_at dksX8_stop_4 12 rfl rfl)
theorem dX8_stop_105 : decode cX8_stop 105 = .ok (.invokevirtual 140, 3) := dk_182 0 140 (dk_at dksX8_stop_4 13 rfl rfl)
theorem dX8_stop_108 : decode cX8_stop 108 = .ok (.aload_n 0, 1) := dk_42 (dk_at dksX8_stop_4 16 rfl rfl)
theorem dX8_stop_109 : decode cX8_stop 109 = .ok (.invokevirtual 170, 3) := dk_182 0 170 (dk_at dksX8_stop_4 17 rfl rfl)
theorem dX8_stop_112 : decode cX8_stop 112 = .ok (.aload_n 0, 1) := dk_42 (dk_at dksX8_stop_4 20 rfl rfl)
theorem dX8_stop_113 : decode cX8_stop 113 = .ok (.getfield 62, 3) := dk_180 0 62 (dk_at dksX8_stop_4 21 rfl rfl)
theorem dX8_stop_116 : decode cX8_stop 116 = .ok (.aload_n 1, 1) := dk_43 (dk_at dksX8_stop_5 0 rfl rfl)
theorem dX8_stop_117 : decode cX8_stop 117 = .ok (.iload_n 2, 1) := dk_28 (dk_at dksX8_stop_5 1 rfl rfl)
theorem dX8_stop_118 : decode cX8_stop 118 = .ok (.iload_n 3, 1) := dk_29 (dk_at dksX8_stop_5 2 rfl rfl)
theorem dX8_stop_119 : decode cX8_stop 119 = .ok (.iload 4, 2) := dk_21 4 (dk_at dksX8_stop_5 3 rfl rfl)
theorem dX8_stop_121 : decode cX8_stop 121 = .ok (.invokevirtual 193, 3) := dk_182 0 193 (dk_at dksX8_stop_5 5 rfl rfl)
theorem dX8_stop_124 : decode cX8_stop 124 = .ok (.return_, 1) := dk_177 (dk_at dksX8_stop_5 8 rfl rfl)
abbrev cX8_bus : ByteArray := prog_6_method_13_code
def yX8_bus : MethodName := ⟨RX8, "bus", "()V"⟩
def dkwX8_bus_3 : List UInt8 := [182, 0, 154, 184, 0, 200, 182, 0, 206, 87, 42, 182, 0, 170, 177]
abbrev dktX8_bus_3 : List UInt8 := dkwX8_bus_3 ++ []
def dkwX8_bus_2 : List UInt8 := [182, 0, 151, 184, 0, 200, 182, 0, 206, 87, 42, 180, 0, 62, 180, 0, 208, 42, 18, 37, 3, 17, 39, 15]
abbrev dktX8_bus_2 : List UInt8 := dkwX8_bus_2 ++ dktX8_bus_3
def dkwX8_bus_1 : List UInt8 := [162, 0, 7, 4, 167, 0, 4, 3, 182, 0, 143, 42, 180, 0, 62, 180, 0, 197, 42, 4, 16, 99]
abbrev dktX8_bus_1 : List UInt8 := dkwX8_bus_1 ++ dktX8_bus_2
def dkwX8_bus_0 : List UInt8 := [42, 42, 18, 35, 182, 0, 147, 153, 0, 22, 42, 180, 0, 62, 180, 0, 197, 182, 0, 184, 16, 6]
abbrev dktX8_bus_0 : List UInt8 := dkwX8_bus_0 ++ dktX8_bus_1
theorem dksX8_bus_0 : cX8_bus.data.toList.drop 0 = dktX8_bus_0 := by decide +kernel
theorem dksX8_bus_1 : cX8_bus.data.toList.drop 22 = dktX8_bus_1 := dk_seg dksX8_bus_0 22 rfl rfl
theorem dksX8_bus_2 : cX8_bus.data.toList.drop 44 = dktX8_bus_2 := dk_seg dksX8_bus_1 22 rfl rfl
theorem dksX8_bus_3 : cX8_bus.data.toList.drop 68 = dktX8_bus_3 := dk_seg dksX8_bus_2 24 rfl rfl
theorem dX8_bus_0 : decode cX8_bus 0 = .ok (.aload_n 0, 1) := dk_42 (dk_at dksX8_bus_0 0 rfl rfl)
theorem dX8_bus_1 : decode cX8_bus 1 = .ok (.aload_n 0, 1) := dk_42 (dk_at dksX8_bus_0 1 rfl rfl)
theorem dX8_bus_2 : decode cX8_bus 2 = .ok (.ldc 35, 2) := dk_18 35 (dk_at dksX8_bus_0 2 rfl rfl)
theorem dX8_bus_4 : decode cX8_bus 4 = .ok (.invokevirtual 147, 3) := dk_182 0 147 (dk_at dksX8_bus_0 4 rfl rfl)
theorem dX8_bus_7 : decode cX8_bus 7 = .ok (.ifCond .eq 22, 3) := dk_153 0 22 (dk_at dksX8_bus_0 7 rfl rfl)
theorem dX8_bus_10 : decode cX8_bus 10 = .ok (.aload_n 0, 1) := dk_42 (dk_at dksX8_bus_0 10 rfl rfl)
theorem dX8_bus_11 : decode cX8_bus 11 = .ok (.getfield 62, 3) := dk_180 0 62 (dk_at dksX8_bus_0 11 rfl rfl)
theorem dX8_bus_14 : decode cX8_bus 14 = .ok (.getfield 197, 3) := dk_180 0 197 (dk_at dksX8_bus_0 14 rfl rfl)
theorem dX8_bus_17 : decode cX8_bus 17 = .ok (.invokevirtual 184, 3) := dk_182 0 184 (dk_at dksX8_bus_0 17 rfl rfl)
theorem dX8_bus_20 : decode cX8_bus 20 = .ok (.bipush 6, 2) := dk_16 6 (dk_at dksX8_bus_0 20 rfl rfl)
theorem dX8_bus_22 : decode cX8_bus 22 = .ok (.if_icmp .ge 7, 3) := dk_162 0 7 (dk_at dksX8_bus_1 0 rfl rfl)
theorem dX8_bus_25 : decode cX8_bus 25 = .ok (.iconst 1, 1) := dk_4 (dk_at dksX8_bus_1 3 rfl rfl)
theorem dX8_bus_26 : decode cX8_bus 26 = .ok (.goto 4, 3) := dk_167 0 4 (dk_at dksX8_bus_1 4 rfl rfl)
theorem dX8_bus_29 : decode cX8_bus 29 = .ok (.iconst 0, 1) := dk_3 (dk_at dksX8_bus_1 7 rfl rfl)
theorem dX8_bus_30 : decode cX8_bus 30 = .ok (.invokevirtual 143, 3) := dk_182 0 143 (dk_at dksX8_bus_1 8 rfl rfl)
theorem dX8_bus_33 : decode cX8_bus 33 = .ok (.aload_n 0, 1) := dk_42 (dk_at dksX8_bus_1 11 rfl rfl)
theorem dX8_bus_34 : decode cX8_bus 34 = .ok (.getfield 62, 3) := dk_180 0 62 (dk_at dksX8_bus_1 12 rfl rfl)
theorem dX8_bus_37 : decode cX8_bus 37 = .ok (.getfield 197, 3) := dk_180 0 197 (dk_at dksX8_bus_1 15 rfl rfl)
theorem dX8_bus_40 : decode cX8_bus 40 = .ok (.aload_n 0, 1) := dk_42 (dk_at dksX8_bus_1 18 rfl rfl)
theorem dX8_bus_41 : decode cX8_bus 41 = .ok (.iconst 1, 1) := dk_4 (dk_at dksX8_bus_1 19 rfl rfl)
theorem dX8_bus_42 : decode cX8_bus 42 = .ok (.bipush 99, 2) := dk_16 99 (dk_at dksX8_bus_1 20 rfl rfl)
theorem dX8_bus_44 : decode cX8_bus 44 = .ok (.invokevirtual 151, 3) := dk_182 0 151 (dk_at dksX8_bus_2 0 rfl rfl)
theorem dX8_bus_47 : decode cX8_bus 47 = .ok (.invokestatic 200, 3) := dk_184 0 200 (dk_at dksX8_bus_2 3 rfl rfl)
theorem dX8_bus_50 : decode cX8_bus 50 = .ok (.invokevirtual 206, 3) := dk_182 0 206 (dk_at dksX8_bus_2 6 rfl rfl)
theorem dX8_bus_53 : decode cX8_bus 53 = .ok (.pop, 1) := dk_87 (dk_at dksX8_bus_2 9 rfl rfl)
theorem dX8_bus_54 : decode cX8_bus 54 = .ok (.aload_n 0, 1) := dk_42 (dk_at dksX8_bus_2 10 rfl rfl)
theorem dX8_bus_55 : decode cX8_bus 55 = .ok (.getfield 62, 3) := dk_180 0 62 (dk_at dksX8_bus_2 11 rfl rfl)
theorem dX8_bus_58 : decode cX8_bus 58 = .ok (.getfield 208, 3) := dk_180 0 208 (dk_at dksX8_bus_2 14 rfl rfl)
theorem dX8_bus_61 : decode cX8_bus 61 = .ok (.aload_n 0, 1) := dk_42 (dk_at dksX8_bus_2 17 rfl rfl)
theorem dX8_bus_62 : decode cX8_bus 62 = .ok (.ldc 37, 2) := dk_18 37 (dk_at dksX8_bus_2 18 rfl rfl)
theorem dX8_bus_64 : decode cX8_bus 64 = .ok (.iconst 0, 1) := dk_3 (dk_at dksX8_bus_2 20 rfl rfl)
theorem dX8_bus_65 : decode cX8_bus 65 = .ok (.sipush 9999, 3) := dk_17 39 15 (dk_at dksX8_bus_2 21 rfl rfl)
theorem dX8_bus_68 : decode cX8_bus 68 = .ok (.invokevirtual 154, 3) := dk_182 0 154 (dk_at dksX8_bus_3 0 rfl rfl)
theorem dX8_bus_71 : decode cX8_bus 71 = .ok (.invokestatic 200, 3) := dk_184 0 200 (dk_at dksX8_bus_3 3 rfl rfl)
theorem dX8_bus_74 : decode cX8_bus 74 = .ok (.invokevirtual 206, 3) := dk_182 0 206 (dk_at dksX8_bus_3 6 rfl rfl)
theorem dX8_bus_77 : decode cX8_bus 77 = .ok (.pop, 1) := dk_87 (dk_at dksX8_bus_3 9 rfl rfl)
theorem dX8_bus_78 : decode cX8_bus 78 = .ok (.aload_n 0, 1) := dk_42 (dk_at dksX8_bus_3 10 rfl rfl)
theorem dX8_bus_79 : decode cX8_bus 79 = .ok (.invokevirtual 170, 3) := dk_182 0 170 (dk_at dksX8_bus_3 11 rfl rfl)
theorem dX8_bus_82 : decode cX8_bus 82 = .ok (.return_, 1) := dk_177 (dk_at dksX8_bus_3 14 rfl rfl)
abbrev cX8_flow : ByteArray := prog_6_method_15_code
def yX8_flow : MethodName := ⟨RX8, "flow", "()V"⟩
def dkwX8_flow_4 : List UInt8 := [21, 4, 182, 0, 224, 177]
abbrev dktX8_flow_4 : List UInt8 := dkwX8_flow_4 ++ []
def dkwX8_flow_3 : List UInt8 := [182, 0, 170, 42, 180, 0, 62, 42, 180, 0, 62, 180, 0, 180, 27, 182, 0, 218, 192, 0, 222, 28, 29]
abbrev dktX8_flow_3 : List UInt8 := dkwX8_flow_3 ++ dktX8_flow_4
def dkwX8_flow_2 : List UInt8 := [18, 43, 16, 10, 17, 39, 15, 182, 0, 154, 62, 42, 18, 45, 3, 17, 39, 15, 182, 0, 154, 54, 4, 42]
abbrev dktX8_flow_2 : List UInt8 := dkwX8_flow_2 ++ dktX8_flow_3
def dkwX8_flow_1 : List UInt8 := [42, 16, 254, 182, 0, 214, 60, 42, 42, 18, 41, 182, 0, 147, 182, 0, 143, 42, 27, 182, 0, 214, 61, 42]
abbrev dktX8_flow_1 : List UInt8 := dkwX8_flow_1 ++ dktX8_flow_2
def dkwX8_flow_0 : List UInt8 := [42, 42, 180, 0, 62, 180, 0, 211, 182, 0, 184, 16, 16, 162, 0, 7, 4, 167, 0, 4, 3, 182, 0, 143]
abbrev dktX8_flow_0 : List UInt8 := dkwX8_flow_0 ++ dktX8_flow_1
theorem dksX8_flow_0 : cX8_flow.data.toList.drop 0 = dktX8_flow_0 := by decide +kernel
theorem dksX8_flow_1 : cX8_flow.data.toList.drop 24 = dktX8_flow_1 := dk_seg dksX8_flow_0 24 rfl rfl
theorem dksX8_flow_2 : cX8_flow.data.toList.drop 48 = dktX8_flow_2 := dk_seg dksX8_flow_1 24 rfl rfl
theorem dksX8_flow_3 : cX8_flow.data.toList.drop 72 = dktX8_flow_3 := dk_seg dksX8_flow_2 24 rfl rfl
theorem dksX8_flow_4 : cX8_flow.data.toList.drop 95 = dktX8_flow_4 := dk_seg dksX8_flow_3 23 rfl rfl
theorem dX8_flow_0 : decode cX8_flow 0 = .ok (.aload_n 0, 1) := dk_42 (dk_at dksX8_flow_0 0 rfl rfl)
theorem dX8_flow_1 : decode cX8_flow 1 = .ok (.aload_n 0, 1) := dk_42 (dk_at dksX8_flow_0 1 rfl rfl)
theorem dX8_flow_2 : decode cX8_flow 2 = .ok (.getfield 62, 3) := dk_180 0 62 (dk_at dksX8_flow_0 2 rfl rfl)
theorem dX8_flow_5 : decode cX8_flow 5 = .ok (.getfield 211, 3) := dk_180 0 211 (dk_at dksX8_flow_0 5 rfl rfl)
theorem dX8_flow_8 : decode cX8_flow 8 = .ok (.invokevirtual 184, 3) := dk_182 0 184 (dk_at dksX8_flow_0 8 rfl rfl)
theorem dX8_flow_11 : decode cX8_flow 11 = .ok (.bipush 16, 2) := dk_16 16 (dk_at dksX8_flow_0 11 rfl rfl)
theorem dX8_flow_13 : decode cX8_flow 13 = .ok (.if_icmp .ge 7, 3) := dk_162 0 7 (dk_at dksX8_flow_0 13 rfl rfl)
theorem dX8_flow_16 : decode cX8_flow 16 = .ok (.iconst 1, 1) := dk_4 (dk_at dksX8_flow_0 16 rfl rfl)
theorem dX8_flow_17 : decode cX8_flow 17 = .ok (.goto 4, 3) := dk_167 0 4 (dk_at dksX8_flow_0 17 rfl rfl)
theorem dX8_flow_20 : decode cX8_flow 20 = .ok (.iconst 0, 1) := dk_3 (dk_at dksX8_flow_0 20 rfl rfl)
theorem dX8_flow_21 : decode cX8_flow 21 = .ok (.invokevirtual 143, 3) := dk_182 0 143 (dk_at dksX8_flow_0 21 rfl rfl)
theorem dX8_flow_24 : decode cX8_flow 24 = .ok (.aload_n 0, 1) := dk_42 (dk_at dksX8_flow_1 0 rfl rfl)
theorem dX8_flow_25 : decode cX8_flow 25 = .ok (.bipush (-2), 2) := dk_16 254 (dk_at dksX8_flow_1 1 rfl rfl)
theorem dX8_flow_27 : decode cX8_flow 27 = .ok (.invokevirtual 214, 3) := dk_182 0 214 (dk_at dksX8_flow_1 3 rfl rfl)
theorem dX8_flow_30 : decode cX8_flow 30 = .ok (.istore_n 1, 1) := dk_60 (dk_at dksX8_flow_1 6 rfl rfl)
theorem dX8_flow_31 : decode cX8_flow 31 = .ok (.aload_n 0, 1) := dk_42 (dk_at dksX8_flow_1 7 rfl rfl)
theorem dX8_flow_32 : decode cX8_flow 32 = .ok (.aload_n 0, 1) := dk_42 (dk_at dksX8_flow_1 8 rfl rfl)
theorem dX8_flow_33 : decode cX8_flow 33 = .ok (.ldc 41, 2) := dk_18 41 (dk_at dksX8_flow_1 9 rfl rfl)
theorem dX8_flow_35 : decode cX8_flow 35 = .ok (.invokevirtual 147, 3) := dk_182 0 147 (dk_at dksX8_flow_1 11 rfl rfl)
theorem dX8_flow_38 : decode cX8_flow 38 = .ok (.invokevirtual 143, 3) := dk_182 0 143 (dk_at dksX8_flow_1 14 rfl rfl)
theorem dX8_flow_41 : decode cX8_flow 41 = .ok (.aload_n 0, 1) := dk_42 (dk_at dksX8_flow_1 17 rfl rfl)
theorem dX8_flow_42 : decode cX8_flow 42 = .ok (.iload_n 1, 1) := dk_27 (dk_at dksX8_flow_1 18 rfl rfl)
theorem dX8_flow_43 : decode cX8_flow 43 = .ok (.invokevirtual 214, 3) := dk_182 0 214 (dk_at dksX8_flow_1 19 rfl rfl)
theorem dX8_flow_46 : decode cX8_flow 46 = .ok (.istore_n 2, 1) := dk_61 (dk_at dksX8_flow_1 22 rfl rfl)
theorem dX8_flow_47 : decode cX8_flow 47 = .ok (.aload_n 0, 1) := dk_42 (dk_at dksX8_flow_1 23 rfl rfl)
theorem dX8_flow_48 : decode cX8_flow 48 = .ok (.ldc 43, 2) := dk_18 43 (dk_at dksX8_flow_2 0 rfl rfl)
theorem dX8_flow_50 : decode cX8_flow 50 = .ok (.bipush 10, 2) := dk_16 10 (dk_at dksX8_flow_2 2 rfl rfl)
theorem dX8_flow_52 : decode cX8_flow 52 = .ok (.sipush 9999, 3) := dk_17 39 15 (dk_at dksX8_flow_2 4 rfl rfl)
theorem dX8_flow_55 : decode cX8_flow 55 = .ok (.invokevirtual 154, 3) := dk_182 0 154 (dk_at dksX8_flow_2 7 rfl rfl)
theorem dX8_flow_58 : decode cX8_flow 58 = .ok (.istore_n 3, 1) := dk_62 (dk_at dksX8_flow_2 10 rfl rfl)
theorem dX8_flow_59 : decode cX8_flow 59 = .ok (.aload_n 0, 1) := dk_42 (dk_at dksX8_flow_2 11 rfl rfl)
theorem dX8_flow_60 : decode cX8_flow 60 = .ok (.ldc 45, 2) := dk_18 45 (dk_at dksX8_flow_2 12 rfl rfl)
theorem dX8_flow_62 : decode cX8_flow 62 = .ok (.iconst 0, 1) := dk_3 (dk_at dksX8_flow_2 14 rfl rfl)
theorem dX8_flow_63 : decode cX8_flow 63 = .ok (.sipush 9999, 3) := dk_17 39 15 (dk_at dksX8_flow_2 15 rfl rfl)
theorem dX8_flow_66 : decode cX8_flow 66 = .ok (.invokevirtual 154, 3) := dk_182 0 154 (dk_at dksX8_flow_2 18 rfl rfl)
theorem dX8_flow_69 : decode cX8_flow 69 = .ok (.istore 4, 2) := dk_54 4 (dk_at dksX8_flow_2 21 rfl rfl)
theorem dX8_flow_71 : decode cX8_flow 71 = .ok (.aload_n 0, 1) := dk_42 (dk_at dksX8_flow_2 23 rfl rfl)
theorem dX8_flow_72 : decode cX8_flow 72 = .ok (.invokevirtual 170, 3) := dk_182 0 170 (dk_at dksX8_flow_3 0 rfl rfl)
theorem dX8_flow_75 : decode cX8_flow 75 = .ok (.aload_n 0, 1) := dk_42 (dk_at dksX8_flow_3 3 rfl rfl)
theorem dX8_flow_76 : decode cX8_flow 76 = .ok (.getfield 62, 3) := dk_180 0 62 (dk_at dksX8_flow_3 4 rfl rfl)
theorem dX8_flow_79 : decode cX8_flow 79 = .ok (.aload_n 0, 1) := dk_42 (dk_at dksX8_flow_3 7 rfl rfl)
theorem dX8_flow_80 : decode cX8_flow 80 = .ok (.getfield 62, 3) := dk_180 0 62 (dk_at dksX8_flow_3 8 rfl rfl)
theorem dX8_flow_83 : decode cX8_flow 83 = .ok (.getfield 180, 3) := dk_180 0 180 (dk_at dksX8_flow_3 11 rfl rfl)
theorem dX8_flow_86 : decode cX8_flow 86 = .ok (.iload_n 1, 1) := dk_27 (dk_at dksX8_flow_3 14 rfl rfl)
theorem dX8_flow_87 : decode cX8_flow 87 = .ok (.invokevirtual 218, 3) := dk_182 0 218 (dk_at dksX8_flow_3 15 rfl rfl)
theorem dX8_flow_90 : decode cX8_flow 90 = .ok (.checkcast 222, 3) := dk_192 0 222 (dk_at dksX8_flow_3 18 rfl rfl)
theorem dX8_flow_93 : decode cX8_flow 93 = .ok (.iload_n 2, 1) := dk_28 (dk_at dksX8_flow_3 21 rfl rfl)
theorem dX8_flow_94 : decode cX8_flow 94 = .ok (.iload_n 3, 1) := dk_29 (dk_at dksX8_flow_3 22 rfl rfl)
theorem dX8_flow_95 : decode cX8_flow 95 = .ok (.iload 4, 2) := dk_21 4 (dk_at dksX8_flow_4 0 rfl rfl)
theorem dX8_flow_97 : decode cX8_flow 97 = .ok (.invokevirtual 224, 3) := dk_182 0 224 (dk_at dksX8_flow_4 2 rfl rfl)
theorem dX8_flow_100 : decode cX8_flow 100 = .ok (.return_, 1) := dk_177 (dk_at dksX8_flow_4 5 rfl rfl)
abbrev cX8_place : ByteArray := prog_6_method_14_code
def yX8_place : MethodName := ⟨RX8, "place", "(I)I"⟩
def dkwX8_place_1 : List UInt8 := [16, 254, 61, 42, 28, 155, 0, 12, 28, 27, 159, 0, 7, 4, 167, 0, 4, 3, 182, 0, 143, 28, 172]
abbrev dktX8_place_1 : List UInt8 := dkwX8_place_1 ++ []
def dkwX8_place_0 : List UInt8 := [42, 180, 0, 95, 178, 0, 112, 166, 0, 17, 42, 180, 0, 62, 42, 182, 0, 98, 182, 0, 189, 167, 0, 5]
abbrev dktX8_place_0 : List UInt8 := dkwX8_place_0 ++ dktX8_place_1
theorem dksX8_place_0 : cX8_place.data.toList.drop 0 = dktX8_place_0 := by decide +kernel
theorem dksX8_place_1 : cX8_place.data.toList.drop 24 = dktX8_place_1 := dk_seg dksX8_place_0 24 rfl rfl
theorem dX8_place_0 : decode cX8_place 0 = .ok (.aload_n 0, 1) := dk_42 (dk_at dksX8_place_0 0 rfl rfl)
theorem dX8_place_1 : decode cX8_place 1 = .ok (.getfield 95, 3) := dk_180 0 95 (dk_at dksX8_place_0 1 rfl rfl)
theorem dX8_place_4 : decode cX8_place 4 = .ok (.getstatic 112, 3) := dk_178 0 112 (dk_at dksX8_place_0 4 rfl rfl)
theorem dX8_place_7 : decode cX8_place 7 = .ok (.if_acmp .ne 17, 3) := dk_166 0 17 (dk_at dksX8_place_0 7 rfl rfl)
theorem dX8_place_10 : decode cX8_place 10 = .ok (.aload_n 0, 1) := dk_42 (dk_at dksX8_place_0 10 rfl rfl)
theorem dX8_place_11 : decode cX8_place 11 = .ok (.getfield 62, 3) := dk_180 0 62 (dk_at dksX8_place_0 11 rfl rfl)
theorem dX8_place_14 : decode cX8_place 14 = .ok (.aload_n 0, 1) := dk_42 (dk_at dksX8_place_0 14 rfl rfl)
theorem dX8_place_15 : decode cX8_place 15 = .ok (.invokevirtual 98, 3) := dk_182 0 98 (dk_at dksX8_place_0 15 rfl rfl)
theorem dX8_place_18 : decode cX8_place 18 = .ok (.invokevirtual 189, 3) := dk_182 0 189 (dk_at dksX8_place_0 18 rfl rfl)
theorem dX8_place_21 : decode cX8_place 21 = .ok (.goto 5, 3) := dk_167 0 5 (dk_at dksX8_place_0 21 rfl rfl)
theorem dX8_place_24 : decode cX8_place 24 = .ok (.bipush (-2), 2) := dk_16 254 (dk_at dksX8_place_1 0 rfl rfl)
theorem dX8_place_26 : decode cX8_place 26 = .ok (.istore_n 2, 1) := dk_61 (dk_at dksX8_place_1 2 rfl rfl)
theorem dX8_place_27 : decode cX8_place 27 = .ok (.aload_n 0, 1) := dk_42 (dk_at dksX8_place_1 3 rfl rfl)
theorem dX8_place_28 : decode cX8_place 28 = .ok (.iload_n 2, 1) := dk_28 (dk_at dksX8_place_1 4 rfl rfl)
theorem dX8_place_29 : decode cX8_place 29 = .ok (.ifCond .lt 12, 3) := dk_155 0 12 (dk_at dksX8_place_1 5 rfl rfl)
theorem dX8_place_32 : decode cX8_place 32 = .ok (.iload_n 2, 1) := dk_28 (dk_at dksX8_place_1 8 rfl rfl)
theorem dX8_place_33 : decode cX8_place 33 = .ok (.iload_n 1, 1) := dk_27 (dk_at dksX8_place_1 9 rfl rfl)
theorem dX8_place_34 : decode cX8_place 34 = .ok (.if_icmp .eq 7, 3) := dk_159 0 7 (dk_at dksX8_place_1 10 rfl rfl)
theorem dX8_place_37 : decode cX8_place 37 = .ok (.iconst 1, 1) := dk_4 (dk_at dksX8_place_1 13 rfl rfl)
theorem dX8_place_38 : decode cX8_place 38 = .ok (.goto 4, 3) := dk_167 0 4 (dk_at dksX8_place_1 14 rfl rfl)
theorem dX8_place_41 : decode cX8_place 41 = .ok (.iconst 0, 1) := dk_3 (dk_at dksX8_place_1 17 rfl rfl)
theorem dX8_place_42 : decode cX8_place 42 = .ok (.invokevirtual 143, 3) := dk_182 0 143 (dk_at dksX8_place_1 18 rfl rfl)
theorem dX8_place_45 : decode cX8_place 45 = .ok (.iload_n 2, 1) := dk_28 (dk_at dksX8_place_1 21 rfl rfl)
theorem dX8_place_46 : decode cX8_place 46 = .ok (.ireturn, 1) := dk_172 (dk_at dksX8_place_1 22 rfl rfl)
theorem q162 : (Jvm.Cond.initialized "BusLine$Parser") ∈ lw_all := lw_g (lw_at lw_m1 38 rfl) rfl
theorem q252 : (Jvm.Cond.fieldLinkNest "BusLine$Parser" (158 : Nat) "BusLine$Plan" "open" "I" "BusLine") ∈ lw_tbl := lw_at lw_m1 128 rfl
theorem q256 : (Jvm.Cond.fieldLinkNest "BusLine$Parser" (160 : Nat) "BusLine$Plan" "on" "I" "BusLine") ∈ lw_tbl := lw_at lw_m1 132 rfl
theorem q260 : (Jvm.Cond.fieldLinkNest "BusLine$Parser" (162 : Nat) "BusLine$Plan" "down" "I" "BusLine") ∈ lw_tbl := lw_at lw_m1 136 rfl
theorem q264 : (Jvm.Cond.fieldLinkNest "BusLine$Parser" (168 : Nat) "BusLine$Plan" "mode" "I" "BusLine") ∈ lw_tbl := lw_at lw_m1 140 rfl
theorem q267 : (Jvm.Cond.fieldLinkNest "BusLine$Parser" (164 : Nat) "BusLine$Plan" "numbers" "[I" "BusLine") ∈ lw_tbl := lw_at lw_m1 143 rfl
theorem q270 : (Jvm.Cond.fieldLinkNest "BusLine$Parser" (180 : Nat) "BusLine$Plan" "stops" "Ljava/util/ArrayList;" "BusLine") ∈ lw_tbl := lw_at lw_m1 146 rfl
theorem q273 : (Jvm.Cond.fieldLinkNest "BusLine$Parser" (197 : Nat) "BusLine$Plan" "seats" "Ljava/util/ArrayList;" "BusLine") ∈ lw_tbl := lw_at lw_m1 149 rfl
theorem q276 : (Jvm.Cond.fieldLinkNest "BusLine$Parser" (208 : Nat) "BusLine$Plan" "starts" "Ljava/util/ArrayList;" "BusLine") ∈ lw_tbl := lw_at lw_m1 152 rfl
theorem q280 : (Jvm.Cond.fieldLinkNest "BusLine$Parser" (211 : Nat) "BusLine$Plan" "flows" "Ljava/util/ArrayList;" "BusLine") ∈ lw_tbl := lw_at lw_m1 156 rfl
theorem q387 : (Jvm.Cond.selects "BusLine$Parser" ({ cls := "java/lang/Object", name := "getClass", desc := "()Ljava/lang/Class;" } : Jvm.MethodName) ({ cls := "java/lang/Object", name := "getClass", desc := "()Ljava/lang/Class;" } : Jvm.MethodName)) ∈ lw_all := lw_g (lw_at lw_m2 23 rfl) rfl
theorem q1364 : (Jvm.Cond.instantiable "BusLine$Parser" (7 : Nat)) ∈ lw_all := lw_g (lw_at lw_m6 40 rfl) rfl
theorem q1423 : (Jvm.Cond.instanceMethod ({ cls := "BusLine$Parser", name := "<init>", desc := "(Ljava/lang/String;)V" } : Jvm.MethodName)) ∈ lw_all := lw_g (lw_at lw_m6 99 rfl) rfl
theorem q1424 : (Jvm.Cond.code ({ cls := "BusLine$Parser", name := "<init>", desc := "(Ljava/lang/String;)V" } : Jvm.MethodName) prog_6_method_1_code (2 : Nat) (Option.none : Option Jvm.ClassFile.FieldType)) ∈ lw_all := lw_g (lw_at lw_m6 100 rfl) rfl
theorem q1425 : (Jvm.Cond.methodLink "BusLine$Parser" (3 : Nat) ({ cls := "java/lang/Object", name := "<init>", desc := "()V" } : Jvm.MethodName)) ∈ lw_all := lw_g (lw_at lw_m6 101 rfl) rfl
theorem q1426 : (Jvm.Cond.classLink "BusLine$Parser" (9 : Nat) "java/lang/String") ∈ lw_all := lw_g (lw_at lw_m6 102 rfl) rfl
theorem q1428 : (Jvm.Cond.stringRef "BusLine$Parser" (11 : Nat) "open") ∈ lw_tbl := lw_at lw_m6 104 rfl
theorem q1429 : (Jvm.Cond.stringRef "BusLine$Parser" (13 : Nat) "on") ∈ lw_tbl := lw_at lw_m6 105 rfl
theorem q1430 : (Jvm.Cond.stringRef "BusLine$Parser" (15 : Nat) "down") ∈ lw_tbl := lw_at lw_m6 106 rfl
theorem q1431 : (Jvm.Cond.stringRef "BusLine$Parser" (17 : Nat) "headway") ∈ lw_tbl := lw_at lw_m6 107 rfl
theorem q1432 : (Jvm.Cond.stringRef "BusLine$Parser" (19 : Nat) "cap") ∈ lw_tbl := lw_at lw_m6 108 rfl
theorem q1433 : (Jvm.Cond.stringRef "BusLine$Parser" (21 : Nat) "patience") ∈ lw_tbl := lw_at lw_m6 109 rfl
theorem q1434 : (Jvm.Cond.stringRef "BusLine$Parser" (23 : Nat) "round") ∈ lw_tbl := lw_at lw_m6 110 rfl
theorem q1435 : (Jvm.Cond.stringRef "BusLine$Parser" (25 : Nat) "mode") ∈ lw_tbl := lw_at lw_m6 111 rfl
theorem q1436 : (Jvm.Cond.stringRef "BusLine$Parser" (27 : Nat) "stop") ∈ lw_tbl := lw_at lw_m6 112 rfl
theorem q1437 : (Jvm.Cond.stringRef "BusLine$Parser" (29 : Nat) "drive") ∈ lw_tbl := lw_at lw_m6 113 rfl
theorem q1438 : (Jvm.Cond.stringRef "BusLine$Parser" (31 : Nat) "off") ∈ lw_tbl := lw_at lw_m6 114 rfl
theorem q1439 : (Jvm.Cond.stringRef "BusLine$Parser" (33 : Nat) "point") ∈ lw_tbl := lw_at lw_m6 115 rfl
theorem q1440 : (Jvm.Cond.stringRef "BusLine$Parser" (35 : Nat) "bus") ∈ lw_tbl := lw_at lw_m6 116 rfl
theorem q1441 : (Jvm.Cond.stringRef "BusLine$Parser" (37 : Nat) "start") ∈ lw_tbl := lw_at lw_m6 117 rfl
theorem q1442 : (Jvm.Cond.stringRef "BusLine$Parser" (39 : Nat) "from") ∈ lw_tbl := lw_at lw_m6 118 rfl
theorem q1443 : (Jvm.Cond.stringRef "BusLine$Parser" (41 : Nat) "to") ∈ lw_tbl := lw_at lw_m6 119 rfl
theorem q1444 : (Jvm.Cond.stringRef "BusLine$Parser" (43 : Nat) "every") ∈ lw_tbl := lw_at lw_m6 120 rfl
theorem q1445 : (Jvm.Cond.stringRef "BusLine$Parser" (45 : Nat) "first") ∈ lw_tbl := lw_at lw_m6 121 rfl
theorem q1446 : (Jvm.Cond.methodLink "BusLine$Parser" (47 : Nat) ({ cls := "java/util/List", name := "of", desc := "([Ljava/lang/Object;)Ljava/util/List;" } : Jvm.MethodName)) ∈ lw_all := lw_g (lw_at lw_m6 122 rfl) rfl
theorem q1492 : (Jvm.Cond.classLink "BusLine$Parser" (59 : Nat) "BusLine$Plan") ∈ lw_all := lw_g (lw_at lw_m6 168 rfl) rfl
theorem q1493 : (Jvm.Cond.methodLinkNest "BusLine$Parser" (61 : Nat) ({ cls := "BusLine$Plan", name := "<init>", desc := "()V" } : Jvm.MethodName) "BusLine") ∈ lw_tbl := lw_at lw_m6 169 rfl
theorem q1494 : (Jvm.Cond.fieldLink "BusLine$Parser" (53 : Nat) "BusLine$Parser" "keywords" "Ljava/util/List;") ∈ lw_all := lw_g (lw_at lw_m6 170 rfl) rfl
theorem q1495 : (Jvm.Cond.fieldLink "BusLine$Parser" (66 : Nat) "BusLine$Parser" "text" "Ljava/lang/String;") ∈ lw_all := lw_g (lw_at lw_m6 171 rfl) rfl
theorem q1496 : (Jvm.Cond.fieldLink "BusLine$Parser" (70 : Nat) "BusLine$Parser" "at" "I") ∈ lw_all := lw_g (lw_at lw_m6 172 rfl) rfl
theorem q1497 : (Jvm.Cond.fieldLink "BusLine$Parser" (86 : Nat) "BusLine$Parser" "begin" "I") ∈ lw_all := lw_g (lw_at lw_m6 173 rfl) rfl
theorem q1498 : (Jvm.Cond.fieldLink "BusLine$Parser" (122 : Nat) "BusLine$Parser" "number" "I") ∈ lw_all := lw_g (lw_at lw_m6 174 rfl) rfl
theorem q1499 : (Jvm.Cond.fieldLink "BusLine$Parser" (95 : Nat) "BusLine$Parser" "kind" "LBusLine$Kind;") ∈ lw_all := lw_g (lw_at lw_m6 175 rfl) rfl
theorem q1500 : (Jvm.Cond.fieldLink "BusLine$Parser" (62 : Nat) "BusLine$Parser" "plan" "LBusLine$Plan;") ∈ lw_all := lw_g (lw_at lw_m6 176 rfl) rfl
theorem q1501 : (Jvm.Cond.laysFinal "BusLine$Parser" "BusLine$Parser" "keywords" "Ljava/util/List;") ∈ lw_all := lw_g (lw_at lw_m6 177 rfl) rfl
theorem q1502 : (Jvm.Cond.soleField "BusLine$Parser" "keywords") ∈ lw_all := lw_g (lw_at lw_m6 178 rfl) rfl
theorem q1503 : (Jvm.Cond.laysFinal "BusLine$Parser" "BusLine$Parser" "text" "Ljava/lang/String;") ∈ lw_all := lw_g (lw_at lw_m6 179 rfl) rfl
theorem q1504 : (Jvm.Cond.soleField "BusLine$Parser" "text") ∈ lw_all := lw_g (lw_at lw_m6 180 rfl) rfl
theorem q1505 : (Jvm.Cond.lays "BusLine$Parser" "BusLine$Parser" "at" "I") ∈ lw_all := lw_g (lw_at lw_m6 181 rfl) rfl
theorem q1506 : (Jvm.Cond.soleField "BusLine$Parser" "at") ∈ lw_all := lw_g (lw_at lw_m6 182 rfl) rfl
theorem q1507 : (Jvm.Cond.lays "BusLine$Parser" "BusLine$Parser" "begin" "I") ∈ lw_all := lw_g (lw_at lw_m6 183 rfl) rfl
theorem q1508 : (Jvm.Cond.soleField "BusLine$Parser" "begin") ∈ lw_all := lw_g (lw_at lw_m6 184 rfl) rfl
theorem q1509 : (Jvm.Cond.lays "BusLine$Parser" "BusLine$Parser" "number" "I") ∈ lw_all := lw_g (lw_at lw_m6 185 rfl) rfl
theorem q1510 : (Jvm.Cond.soleField "BusLine$Parser" "number") ∈ lw_all := lw_g (lw_at lw_m6 186 rfl) rfl
theorem q1511 : (Jvm.Cond.lays "BusLine$Parser" "BusLine$Parser" "kind" "LBusLine$Kind;") ∈ lw_all := lw_g (lw_at lw_m6 187 rfl) rfl
theorem q1512 : (Jvm.Cond.soleField "BusLine$Parser" "kind") ∈ lw_all := lw_g (lw_at lw_m6 188 rfl) rfl
theorem q1513 : (Jvm.Cond.laysFinal "BusLine$Parser" "BusLine$Parser" "plan" "LBusLine$Plan;") ∈ lw_all := lw_g (lw_at lw_m6 189 rfl) rfl
theorem q1514 : (Jvm.Cond.soleField "BusLine$Parser" "plan") ∈ lw_all := lw_g (lw_at lw_m6 190 rfl) rfl
theorem q1515 : (Jvm.Cond.superclass "BusLine$Parser" "java/lang/Object") ∈ lw_all := lw_g (lw_at lw_m6 191 rfl) rfl
theorem q1517 : (Jvm.Cond.instanceMethod ({ cls := "BusLine$Parser", name := "parse", desc := "()LBusLine$Plan;" } : Jvm.MethodName)) ∈ lw_all := lw_g (lw_at lw_m6 193 rfl) rfl
theorem q1518 : (Jvm.Cond.selects "BusLine$Parser" ({ cls := "BusLine$Parser", name := "parse", desc := "()LBusLine$Plan;" } : Jvm.MethodName) ({ cls := "BusLine$Parser", name := "parse", desc := "()LBusLine$Plan;" } : Jvm.MethodName)) ∈ lw_all := lw_g (lw_at lw_m6 194 rfl) rfl
theorem q1519 : (Jvm.Cond.code ({ cls := "BusLine$Parser", name := "parse", desc := "()LBusLine$Plan;" } : Jvm.MethodName) prog_6_method_11_code (1 : Nat) (Option.some (Jvm.ClassFile.FieldType.object "BusLine$Plan"))) ∈ lw_all := lw_g (lw_at lw_m6 195 rfl) rfl
theorem q1520 : (Jvm.Cond.methodLink "BusLine$Parser" (140 : Nat) ({ cls := "BusLine$Parser", name := "next", desc := "()V" } : Jvm.MethodName)) ∈ lw_all := lw_g (lw_at lw_m6 196 rfl) rfl
theorem q1521 : (Jvm.Cond.privateMethod ({ cls := "BusLine$Parser", name := "next", desc := "()V" } : Jvm.MethodName)) ∈ lw_tbl := lw_at lw_m6 197 rfl
theorem q1522 : (Jvm.Cond.instanceMethod ({ cls := "BusLine$Parser", name := "next", desc := "()V" } : Jvm.MethodName)) ∈ lw_all := lw_g (lw_at lw_m6 198 rfl) rfl
theorem q1523 : (Jvm.Cond.code ({ cls := "BusLine$Parser", name := "next", desc := "()V" } : Jvm.MethodName) prog_6_method_3_code (1 : Nat) (Option.none : Option Jvm.ClassFile.FieldType)) ∈ lw_all := lw_g (lw_at lw_m6 199 rfl) rfl
theorem q1524 : (Jvm.Cond.methodLink "BusLine$Parser" (82 : Nat) ({ cls := "BusLine$Parser", name := "isHere", desc := "(CC)Z" } : Jvm.MethodName)) ∈ lw_all := lw_g (lw_at lw_m6 200 rfl) rfl
theorem q1525 : (Jvm.Cond.privateMethod ({ cls := "BusLine$Parser", name := "isHere", desc := "(CC)Z" } : Jvm.MethodName)) ∈ lw_tbl := lw_at lw_m6 201 rfl
theorem q1526 : (Jvm.Cond.instanceMethod ({ cls := "BusLine$Parser", name := "isHere", desc := "(CC)Z" } : Jvm.MethodName)) ∈ lw_all := lw_g (lw_at lw_m6 202 rfl) rfl
theorem q1527 : (Jvm.Cond.code ({ cls := "BusLine$Parser", name := "isHere", desc := "(CC)Z" } : Jvm.MethodName) prog_6_method_2_code (3 : Nat) (Option.some Jvm.ClassFile.FieldType.boolean)) ∈ lw_all := lw_g (lw_at lw_m6 203 rfl) rfl
theorem q1528 : (Jvm.Cond.methodLink "BusLine$Parser" (74 : Nat) ({ cls := "java/lang/String", name := "length", desc := "()I" } : Jvm.MethodName)) ∈ lw_all := lw_g (lw_at lw_m6 204 rfl) rfl
theorem q1532 : (Jvm.Cond.methodLink "BusLine$Parser" (78 : Nat) ({ cls := "java/lang/String", name := "charAt", desc := "(I)C" } : Jvm.MethodName)) ∈ lw_all := lw_g (lw_at lw_m6 208 rfl) rfl
theorem q1547 : (Jvm.Cond.fieldLink "BusLine$Parser" (89 : Nat) "BusLine$Kind" "END" "LBusLine$Kind;") ∈ lw_all := lw_g (lw_at lw_m6 223 rfl) rfl
theorem q1549 : (Jvm.Cond.methodLink "BusLine$Parser" (98 : Nat) ({ cls := "BusLine$Parser", name := "word", desc := "()Ljava/lang/String;" } : Jvm.MethodName)) ∈ lw_all := lw_g (lw_at lw_m6 225 rfl) rfl
theorem q1550 : (Jvm.Cond.privateMethod ({ cls := "BusLine$Parser", name := "word", desc := "()Ljava/lang/String;" } : Jvm.MethodName)) ∈ lw_tbl := lw_at lw_m6 226 rfl
theorem q1551 : (Jvm.Cond.instanceMethod ({ cls := "BusLine$Parser", name := "word", desc := "()Ljava/lang/String;" } : Jvm.MethodName)) ∈ lw_all := lw_g (lw_at lw_m6 227 rfl) rfl
theorem q1552 : (Jvm.Cond.code ({ cls := "BusLine$Parser", name := "word", desc := "()Ljava/lang/String;" } : Jvm.MethodName) prog_6_method_5_code (1 : Nat) (Option.some (Jvm.ClassFile.FieldType.object "java/lang/String"))) ∈ lw_all := lw_g (lw_at lw_m6 228 rfl) rfl
theorem q1553 : (Jvm.Cond.methodLink "BusLine$Parser" (128 : Nat) ({ cls := "java/lang/String", name := "substring", desc := "(II)Ljava/lang/String;" } : Jvm.MethodName)) ∈ lw_all := lw_g (lw_at lw_m6 229 rfl) rfl
theorem q1579 : (Jvm.Cond.interfaceEntry "BusLine$Parser" (102 : Nat)) ∈ lw_tbl := lw_at lw_m7 15 rfl
theorem q1580 : (Jvm.Cond.methodLink "BusLine$Parser" (102 : Nat) ({ cls := "java/util/List", name := "contains", desc := "(Ljava/lang/Object;)Z" } : Jvm.MethodName)) ∈ lw_all := lw_g (lw_at lw_m7 16 rfl) rfl
theorem q1608 : (Jvm.Cond.selects "BusLine$Parser" ({ cls := "java/lang/Object", name := "equals", desc := "(Ljava/lang/Object;)Z" } : Jvm.MethodName) ({ cls := "java/lang/Object", name := "equals", desc := "(Ljava/lang/Object;)Z" } : Jvm.MethodName)) ∈ lw_all := lw_g (lw_at lw_m7 44 rfl) rfl
theorem q1660 : (Jvm.Cond.fieldLink "BusLine$Parser" (106 : Nat) "BusLine$Kind" "KEYWORD" "LBusLine$Kind;") ∈ lw_all := lw_g (lw_at lw_m7 96 rfl) rfl
theorem q1662 : (Jvm.Cond.fieldLink "BusLine$Parser" (109 : Nat) "BusLine$Kind" "BAD" "LBusLine$Kind;") ∈ lw_all := lw_g (lw_at lw_m7 98 rfl) rfl
theorem q1664 : (Jvm.Cond.fieldLink "BusLine$Parser" (112 : Nat) "BusLine$Kind" "NAME" "LBusLine$Kind;") ∈ lw_all := lw_g (lw_at lw_m7 100 rfl) rfl
theorem q1666 : (Jvm.Cond.methodLink "BusLine$Parser" (115 : Nat) ({ cls := "BusLine$Parser", name := "digits", desc := "()LBusLine$Kind;" } : Jvm.MethodName)) ∈ lw_all := lw_g (lw_at lw_m7 102 rfl) rfl
theorem q1667 : (Jvm.Cond.privateMethod ({ cls := "BusLine$Parser", name := "digits", desc := "()LBusLine$Kind;" } : Jvm.MethodName)) ∈ lw_tbl := lw_at lw_m7 103 rfl
theorem q1668 : (Jvm.Cond.instanceMethod ({ cls := "BusLine$Parser", name := "digits", desc := "()LBusLine$Kind;" } : Jvm.MethodName)) ∈ lw_all := lw_g (lw_at lw_m7 104 rfl) rfl
theorem q1669 : (Jvm.Cond.code ({ cls := "BusLine$Parser", name := "digits", desc := "()LBusLine$Kind;" } : Jvm.MethodName) prog_6_method_4_code (1 : Nat) (Option.some (Jvm.ClassFile.FieldType.object "BusLine$Kind"))) ∈ lw_all := lw_g (lw_at lw_m7 105 rfl) rfl
theorem q1670 : (Jvm.Cond.fieldLink "BusLine$Parser" (125 : Nat) "BusLine$Kind" "NUMBER" "LBusLine$Kind;") ∈ lw_all := lw_g (lw_at lw_m7 106 rfl) rfl
theorem q1672 : (Jvm.Cond.fieldLink "BusLine$Parser" (119 : Nat) "BusLine$Kind" "CLOSE" "LBusLine$Kind;") ∈ lw_all := lw_g (lw_at lw_m7 108 rfl) rfl
theorem q1674 : (Jvm.Cond.methodLink "BusLine$Parser" (154 : Nat) ({ cls := "BusLine$Parser", name := "after", desc := "(Ljava/lang/String;II)I" } : Jvm.MethodName)) ∈ lw_all := lw_g (lw_at lw_m7 110 rfl) rfl
theorem q1675 : (Jvm.Cond.privateMethod ({ cls := "BusLine$Parser", name := "after", desc := "(Ljava/lang/String;II)I" } : Jvm.MethodName)) ∈ lw_tbl := lw_at lw_m7 111 rfl
theorem q1676 : (Jvm.Cond.instanceMethod ({ cls := "BusLine$Parser", name := "after", desc := "(Ljava/lang/String;II)I" } : Jvm.MethodName)) ∈ lw_all := lw_g (lw_at lw_m7 112 rfl) rfl
theorem q1677 : (Jvm.Cond.code ({ cls := "BusLine$Parser", name := "after", desc := "(Ljava/lang/String;II)I" } : Jvm.MethodName) prog_6_method_9_code (4 : Nat) (Option.some Jvm.ClassFile.FieldType.int)) ∈ lw_all := lw_g (lw_at lw_m7 113 rfl) rfl
theorem q1678 : (Jvm.Cond.methodLink "BusLine$Parser" (147 : Nat) ({ cls := "BusLine$Parser", name := "is", desc := "(Ljava/lang/String;)Z" } : Jvm.MethodName)) ∈ lw_all := lw_g (lw_at lw_m7 114 rfl) rfl
theorem q1679 : (Jvm.Cond.privateMethod ({ cls := "BusLine$Parser", name := "is", desc := "(Ljava/lang/String;)Z" } : Jvm.MethodName)) ∈ lw_tbl := lw_at lw_m7 115 rfl
theorem q1680 : (Jvm.Cond.instanceMethod ({ cls := "BusLine$Parser", name := "is", desc := "(Ljava/lang/String;)Z" } : Jvm.MethodName)) ∈ lw_all := lw_g (lw_at lw_m7 116 rfl) rfl
theorem q1681 : (Jvm.Cond.code ({ cls := "BusLine$Parser", name := "is", desc := "(Ljava/lang/String;)Z" } : Jvm.MethodName) prog_6_method_6_code (2 : Nat) (Option.some Jvm.ClassFile.FieldType.boolean)) ∈ lw_all := lw_g (lw_at lw_m7 117 rfl) rfl
theorem q1682 : (Jvm.Cond.methodLink "BusLine$Parser" (132 : Nat) ({ cls := "java/lang/String", name := "equals", desc := "(Ljava/lang/Object;)Z" } : Jvm.MethodName)) ∈ lw_all := lw_g (lw_at lw_m7 118 rfl) rfl
theorem q1683 : (Jvm.Cond.methodLink "BusLine$Parser" (143 : Nat) ({ cls := "BusLine$Parser", name := "expect", desc := "(Z)V" } : Jvm.MethodName)) ∈ lw_all := lw_g (lw_at lw_m7 119 rfl) rfl
theorem q1684 : (Jvm.Cond.privateMethod ({ cls := "BusLine$Parser", name := "expect", desc := "(Z)V" } : Jvm.MethodName)) ∈ lw_tbl := lw_at lw_m7 120 rfl
theorem q1685 : (Jvm.Cond.instanceMethod ({ cls := "BusLine$Parser", name := "expect", desc := "(Z)V" } : Jvm.MethodName)) ∈ lw_all := lw_g (lw_at lw_m7 121 rfl) rfl
theorem q1686 : (Jvm.Cond.code ({ cls := "BusLine$Parser", name := "expect", desc := "(Z)V" } : Jvm.MethodName) prog_6_method_7_code (2 : Nat) (Option.none : Option Jvm.ClassFile.FieldType)) ∈ lw_all := lw_g (lw_at lw_m7 122 rfl) rfl
theorem q1687 : (Jvm.Cond.classLink "BusLine$Parser" (135 : Nat) "BusLine$Unreadable") ∈ lw_all := lw_g (lw_at lw_m7 123 rfl) rfl
theorem q1724 : (Jvm.Cond.methodLink "BusLine$Parser" (137 : Nat) ({ cls := "BusLine$Unreadable", name := "<init>", desc := "(I)V" } : Jvm.MethodName)) ∈ lw_all := lw_g (lw_at lw_m7 160 rfl) rfl
theorem q1747 : (Jvm.Cond.methodLink "BusLine$Parser" (151 : Nat) ({ cls := "BusLine$Parser", name := "number", desc := "(II)I" } : Jvm.MethodName)) ∈ lw_all := lw_g (lw_at lw_m7 183 rfl) rfl
theorem q1748 : (Jvm.Cond.privateMethod ({ cls := "BusLine$Parser", name := "number", desc := "(II)I" } : Jvm.MethodName)) ∈ lw_tbl := lw_at lw_m7 184 rfl
theorem q1749 : (Jvm.Cond.instanceMethod ({ cls := "BusLine$Parser", name := "number", desc := "(II)I" } : Jvm.MethodName)) ∈ lw_all := lw_g (lw_at lw_m7 185 rfl) rfl
theorem q1750 : (Jvm.Cond.code ({ cls := "BusLine$Parser", name := "number", desc := "(II)I" } : Jvm.MethodName) prog_6_method_8_code (4 : Nat) (Option.some Jvm.ClassFile.FieldType.int)) ∈ lw_all := lw_g (lw_at lw_m7 186 rfl) rfl
theorem q1751 : (Jvm.Cond.methodLink "BusLine$Parser" (170 : Nat) ({ cls := "BusLine$Parser", name := "close", desc := "()V" } : Jvm.MethodName)) ∈ lw_all := lw_g (lw_at lw_m7 187 rfl) rfl
theorem q1752 : (Jvm.Cond.privateMethod ({ cls := "BusLine$Parser", name := "close", desc := "()V" } : Jvm.MethodName)) ∈ lw_tbl := lw_at lw_m7 188 rfl
theorem q1753 : (Jvm.Cond.instanceMethod ({ cls := "BusLine$Parser", name := "close", desc := "()V" } : Jvm.MethodName)) ∈ lw_all := lw_g (lw_at lw_m7 189 rfl) rfl
theorem q1754 : (Jvm.Cond.code ({ cls := "BusLine$Parser", name := "close", desc := "()V" } : Jvm.MethodName) prog_6_method_10_code (1 : Nat) (Option.none : Option Jvm.ClassFile.FieldType)) ∈ lw_all := lw_g (lw_at lw_m7 190 rfl) rfl
theorem q1755 : (Jvm.Cond.methodLink "BusLine$Parser" (173 : Nat) ({ cls := "BusLine$Parser", name := "stop", desc := "()V" } : Jvm.MethodName)) ∈ lw_all := lw_g (lw_at lw_m7 191 rfl) rfl
theorem q1756 : (Jvm.Cond.privateMethod ({ cls := "BusLine$Parser", name := "stop", desc := "()V" } : Jvm.MethodName)) ∈ lw_tbl := lw_at lw_m7 192 rfl
theorem q1757 : (Jvm.Cond.instanceMethod ({ cls := "BusLine$Parser", name := "stop", desc := "()V" } : Jvm.MethodName)) ∈ lw_all := lw_g (lw_at lw_m7 193 rfl) rfl
theorem q1758 : (Jvm.Cond.code ({ cls := "BusLine$Parser", name := "stop", desc := "()V" } : Jvm.MethodName) prog_6_method_12_code (5 : Nat) (Option.none : Option Jvm.ClassFile.FieldType)) ∈ lw_all := lw_g (lw_at lw_m7 194 rfl) rfl
theorem q1759 : (Jvm.Cond.methodLink "BusLine$Parser" (184 : Nat) ({ cls := "java/util/ArrayList", name := "size", desc := "()I" } : Jvm.MethodName)) ∈ lw_all := lw_g (lw_at lw_m7 195 rfl) rfl
theorem q1760 : (Jvm.Cond.methodLink "BusLine$Parser" (189 : Nat) ({ cls := "BusLine$Plan", name := "named", desc := "(Ljava/lang/String;)I" } : Jvm.MethodName)) ∈ lw_all := lw_g (lw_at lw_m7 196 rfl) rfl
theorem q1778 : (Jvm.Cond.methodLink "BusLine$Parser" (193 : Nat) ({ cls := "BusLine$Plan", name := "add", desc := "(Ljava/lang/String;IIZ)V" } : Jvm.MethodName)) ∈ lw_all := lw_g (lw_at lw_m7 214 rfl) rfl
theorem q1779 : (Jvm.Cond.methodLink "BusLine$Parser" (175 : Nat) ({ cls := "BusLine$Parser", name := "bus", desc := "()V" } : Jvm.MethodName)) ∈ lw_all := lw_g (lw_at lw_m7 215 rfl) rfl
theorem q1780 : (Jvm.Cond.privateMethod ({ cls := "BusLine$Parser", name := "bus", desc := "()V" } : Jvm.MethodName)) ∈ lw_tbl := lw_at lw_m7 216 rfl
theorem q1781 : (Jvm.Cond.instanceMethod ({ cls := "BusLine$Parser", name := "bus", desc := "()V" } : Jvm.MethodName)) ∈ lw_all := lw_g (lw_at lw_m7 217 rfl) rfl
theorem q1782 : (Jvm.Cond.code ({ cls := "BusLine$Parser", name := "bus", desc := "()V" } : Jvm.MethodName) prog_6_method_13_code (1 : Nat) (Option.none : Option Jvm.ClassFile.FieldType)) ∈ lw_all := lw_g (lw_at lw_m7 218 rfl) rfl
theorem q1783 : (Jvm.Cond.methodLink "BusLine$Parser" (200 : Nat) ({ cls := "java/lang/Integer", name := "valueOf", desc := "(I)Ljava/lang/Integer;" } : Jvm.MethodName)) ∈ lw_all := lw_g (lw_at lw_m7 219 rfl) rfl
theorem q1784 : (Jvm.Cond.methodLink "BusLine$Parser" (206 : Nat) ({ cls := "java/util/ArrayList", name := "add", desc := "(Ljava/lang/Object;)Z" } : Jvm.MethodName)) ∈ lw_all := lw_g (lw_at lw_m7 220 rfl) rfl
theorem q1785 : (Jvm.Cond.methodLink "BusLine$Parser" (177 : Nat) ({ cls := "BusLine$Parser", name := "flow", desc := "()V" } : Jvm.MethodName)) ∈ lw_all := lw_g (lw_at lw_m7 221 rfl) rfl
theorem q1786 : (Jvm.Cond.privateMethod ({ cls := "BusLine$Parser", name := "flow", desc := "()V" } : Jvm.MethodName)) ∈ lw_tbl := lw_at lw_m7 222 rfl
theorem q1787 : (Jvm.Cond.instanceMethod ({ cls := "BusLine$Parser", name := "flow", desc := "()V" } : Jvm.MethodName)) ∈ lw_all := lw_g (lw_at lw_m7 223 rfl) rfl
theorem q1788 : (Jvm.Cond.code ({ cls := "BusLine$Parser", name := "flow", desc := "()V" } : Jvm.MethodName) prog_6_method_15_code (5 : Nat) (Option.none : Option Jvm.ClassFile.FieldType)) ∈ lw_all := lw_g (lw_at lw_m7 224 rfl) rfl
theorem q1789 : (Jvm.Cond.methodLink "BusLine$Parser" (214 : Nat) ({ cls := "BusLine$Parser", name := "place", desc := "(I)I" } : Jvm.MethodName)) ∈ lw_all := lw_g (lw_at lw_m7 225 rfl) rfl
theorem q1790 : (Jvm.Cond.privateMethod ({ cls := "BusLine$Parser", name := "place", desc := "(I)I" } : Jvm.MethodName)) ∈ lw_tbl := lw_at lw_m7 226 rfl
theorem q1791 : (Jvm.Cond.instanceMethod ({ cls := "BusLine$Parser", name := "place", desc := "(I)I" } : Jvm.MethodName)) ∈ lw_all := lw_g (lw_at lw_m7 227 rfl) rfl
theorem q1792 : (Jvm.Cond.code ({ cls := "BusLine$Parser", name := "place", desc := "(I)I" } : Jvm.MethodName) prog_6_method_14_code (3 : Nat) (Option.some Jvm.ClassFile.FieldType.int)) ∈ lw_all := lw_g (lw_at lw_m7 228 rfl) rfl
theorem q1793 : (Jvm.Cond.methodLink "BusLine$Parser" (218 : Nat) ({ cls := "java/util/ArrayList", name := "get", desc := "(I)Ljava/lang/Object;" } : Jvm.MethodName)) ∈ lw_all := lw_g (lw_at lw_m7 229 rfl) rfl
theorem q1794 : (Jvm.Cond.classLink "BusLine$Parser" (222 : Nat) "BusLine$Stop") ∈ lw_all := lw_g (lw_at lw_m7 230 rfl) rfl
theorem q1795 : (Jvm.Cond.methodLink "BusLine$Parser" (224 : Nat) ({ cls := "BusLine$Plan", name := "add", desc := "(LBusLine$Stop;III)V" } : Jvm.MethodName)) ∈ lw_all := lw_g (lw_at lw_m7 231 rfl) rfl
theorem q3246 : (Jvm.Cond.castable "BusLine$Parser" "java/lang/Object") ∈ lw_tbl := lw_at lw_m14 2 rfl
theorem in_X8 : ∀ w ∈ wsX80, w ∈ lw_all := lw_in wsX80 [1501, 1503, 1505, 1507, 1509, 1511, 1513] (by decide +kernel) (by decide +kernel)

/-! BusLine$Unreadable -/
set_option maxRecDepth 100000
def RX9 : String := "BusLine$Unreadable"
def TX9 : u_T := fun k => match k with
  | 0 => ("java/lang/Throwable", "cause", "Ljava/lang/Throwable;", false)
  | 1 => ("java/lang/Throwable", "stackTrace", "[Ljava/lang/StackTraceElement;", false)
  | 2 => ("java/lang/Throwable", "suppressedExceptions", "Ljava/util/List;", false)
  | 3 => ("java/lang/Throwable", "detailMessage", "Ljava/lang/String;", false)
  | 4 => ("java/lang/Throwable", "backtrace", "Ljava/lang/Object;", false)
  | 5 => ("java/lang/Throwable", "depth", "I", false)
  | _ => ("BusLine$Unreadable", "position", "I", true)
def tyX9 : Nat → FieldType := fun k => match k with
  | 0 => .object "java/lang/Throwable"
  | 1 => .array (.object "java/lang/StackTraceElement")
  | 2 => .object "java/util/List"
  | 3 => .object "java/lang/String"
  | 4 => .object "java/lang/Object"
  | 5 => .int
  | _ => .int
abbrev wsX90 : List Cond := u_ws RX9 TX9 7
theorem nmX9 : ∀ a, a < 7 → ∀ b, b < 7 → a ≠ b → (TX9 a).2.1 ≠ (TX9 b).2.1 := by decide +kernel
theorem tyX9_ok : ∀ k, k < 7 → parseFieldDescriptor (TX9 k).2.2.1 = some (tyX9 k) := by decide +kernel
abbrev cX9_init : ByteArray := prog_11_method_1_code
def yX9_init : MethodName := ⟨RX9, "<init>", "(I)V"⟩
def dkwX9_init_0 : List UInt8 := [42, 183, 0, 1, 42, 27, 181, 0, 7, 177]
abbrev dktX9_init_0 : List UInt8 := dkwX9_init_0 ++ []
theorem dksX9_init_0 : cX9_init.data.toList.drop 0 = dktX9_init_0 := by decide +kernel
theorem dX9_init_0 : decode cX9_init 0 = .ok (.aload_n 0, 1) := dk_42 (dk_at dksX9_init_0 0 rfl rfl)
theorem dX9_init_1 : decode cX9_init 1 = .ok (.invokespecial 1, 3) := dk_183 0 1 (dk_at dksX9_init_0 1 rfl rfl)
theorem dX9_init_4 : decode cX9_init 4 = .ok (.aload_n 0, 1) := dk_42 (dk_at dksX9_init_0 4 rfl rfl)
theorem dX9_init_5 : decode cX9_init 5 = .ok (.iload_n 1, 1) := dk_27 (dk_at dksX9_init_0 5 rfl rfl)
theorem dX9_init_6 : decode cX9_init 6 = .ok (.putfield 7, 3) := dk_181 0 7 (dk_at dksX9_init_0 6 rfl rfl)
theorem dX9_init_9 : decode cX9_init 9 = .ok (.return_, 1) := dk_177 (dk_at dksX9_init_0 9 rfl rfl)
theorem q172 : (Jvm.Cond.initialized "BusLine$Unreadable") ∈ lw_all := lw_g (lw_at lw_m1 48 rfl) rfl
theorem q392 : (Jvm.Cond.selects "BusLine$Unreadable" ({ cls := "java/lang/Object", name := "getClass", desc := "()Ljava/lang/Class;" } : Jvm.MethodName) ({ cls := "java/lang/Object", name := "getClass", desc := "()Ljava/lang/Class;" } : Jvm.MethodName)) ∈ lw_all := lw_g (lw_at lw_m2 28 rfl) rfl
theorem q1613 : (Jvm.Cond.selects "BusLine$Unreadable" ({ cls := "java/lang/Object", name := "equals", desc := "(Ljava/lang/Object;)Z" } : Jvm.MethodName) ({ cls := "java/lang/Object", name := "equals", desc := "(Ljava/lang/Object;)Z" } : Jvm.MethodName)) ∈ lw_all := lw_g (lw_at lw_m7 49 rfl) rfl
theorem q1688 : (Jvm.Cond.instantiable "BusLine$Unreadable" (7 : Nat)) ∈ lw_all := lw_g (lw_at lw_m7 124 rfl) rfl
theorem q1689 : (Jvm.Cond.castable "BusLine$Unreadable" "BusLine$Unreadable") ∈ lw_tbl := lw_at lw_m7 125 rfl
theorem q1694 : (Jvm.Cond.selects "BusLine$Unreadable" ({ cls := "java/lang/Throwable", name := "fillInStackTrace", desc := "(I)Ljava/lang/Throwable;" } : Jvm.MethodName) ({ cls := "java/lang/Throwable", name := "fillInStackTrace", desc := "(I)Ljava/lang/Throwable;" } : Jvm.MethodName)) ∈ lw_all := lw_g (lw_at lw_m7 130 rfl) rfl
theorem q1695 : (Jvm.Cond.selects "BusLine$Unreadable" ({ cls := "java/lang/Throwable", name := "fillInStackTrace", desc := "()Ljava/lang/Throwable;" } : Jvm.MethodName) ({ cls := "java/lang/Throwable", name := "fillInStackTrace", desc := "()Ljava/lang/Throwable;" } : Jvm.MethodName)) ∈ lw_all := lw_g (lw_at lw_m7 131 rfl) rfl
theorem q1696 : (Jvm.Cond.lays "BusLine$Unreadable" "java/lang/Throwable" "cause" "Ljava/lang/Throwable;") ∈ lw_all := lw_g (lw_at lw_m7 132 rfl) rfl
theorem q1698 : (Jvm.Cond.lays "BusLine$Unreadable" "java/lang/Throwable" "stackTrace" "[Ljava/lang/StackTraceElement;") ∈ lw_all := lw_g (lw_at lw_m7 134 rfl) rfl
theorem q1700 : (Jvm.Cond.lays "BusLine$Unreadable" "java/lang/Throwable" "suppressedExceptions" "Ljava/util/List;") ∈ lw_all := lw_g (lw_at lw_m7 136 rfl) rfl
theorem q1702 : (Jvm.Cond.lays "BusLine$Unreadable" "java/lang/Throwable" "detailMessage" "Ljava/lang/String;") ∈ lw_all := lw_g (lw_at lw_m7 138 rfl) rfl
theorem q1704 : (Jvm.Cond.lays "BusLine$Unreadable" "java/lang/Throwable" "backtrace" "Ljava/lang/Object;") ∈ lw_all := lw_g (lw_at lw_m7 140 rfl) rfl
theorem q1725 : (Jvm.Cond.instanceMethod ({ cls := "BusLine$Unreadable", name := "<init>", desc := "(I)V" } : Jvm.MethodName)) ∈ lw_all := lw_g (lw_at lw_m7 161 rfl) rfl
theorem q1726 : (Jvm.Cond.code ({ cls := "BusLine$Unreadable", name := "<init>", desc := "(I)V" } : Jvm.MethodName) prog_11_method_1_code (2 : Nat) (Option.none : Option Jvm.ClassFile.FieldType)) ∈ lw_all := lw_g (lw_at lw_m7 162 rfl) rfl
theorem q1727 : (Jvm.Cond.methodLink "BusLine$Unreadable" (1 : Nat) ({ cls := "java/lang/Exception", name := "<init>", desc := "()V" } : Jvm.MethodName)) ∈ lw_all := lw_g (lw_at lw_m7 163 rfl) rfl
theorem q1731 : (Jvm.Cond.fieldLink "BusLine$Unreadable" (7 : Nat) "BusLine$Unreadable" "position" "I") ∈ lw_all := lw_g (lw_at lw_m7 167 rfl) rfl
theorem q1737 : (Jvm.Cond.laysFinal "BusLine$Unreadable" "BusLine$Unreadable" "position" "I") ∈ lw_all := lw_g (lw_at lw_m7 173 rfl) rfl
theorem q1738 : (Jvm.Cond.soleField "BusLine$Unreadable" "position") ∈ lw_all := lw_g (lw_at lw_m7 174 rfl) rfl
theorem q1743 : (Jvm.Cond.lays "BusLine$Unreadable" "java/lang/Throwable" "depth" "I") ∈ lw_all := lw_g (lw_at lw_m7 179 rfl) rfl
theorem q1746 : (Jvm.Cond.superclass "BusLine$Unreadable" "java/lang/Exception") ∈ lw_all := lw_g (lw_at lw_m7 182 rfl) rfl
theorem q3250 : (Jvm.Cond.castable "BusLine$Unreadable" "java/lang/Object") ∈ lw_tbl := lw_at lw_m14 6 rfl
theorem in_X9 : ∀ w ∈ wsX90, w ∈ lw_all := lw_in wsX90 [1696, 1698, 1700, 1702, 1704, 1743, 1737] (by decide +kernel) (by decide +kernel)
