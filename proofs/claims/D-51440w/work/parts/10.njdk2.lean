/-! java/lang/String -/
set_option maxRecDepth 100000
def RJ13 : String := "java/lang/String"
def TJ13 : u_T := fun k => match k with
  | 0 => ("java/lang/String", "value", "[B", true)
  | 1 => ("java/lang/String", "coder", "B", true)
  | 2 => ("java/lang/String", "hash", "I", false)
  | _ => ("java/lang/String", "hashIsZero", "Z", false)
def tyJ13 : Nat → FieldType := fun k => match k with
  | 0 => .array .byte
  | 1 => .byte
  | 2 => .int
  | _ => .boolean
abbrev wsJ130 : List Cond := u_ws RJ13 TJ13 4
theorem nmJ13 : ∀ a, a < 4 → ∀ b, b < 4 → a ≠ b → (TJ13 a).2.1 ≠ (TJ13 b).2.1 := by decide +kernel
theorem tyJ13_ok : ∀ k, k < 4 → parseFieldDescriptor (TJ13 k).2.2.1 = some (tyJ13 k) := by decide +kernel
abbrev cJ13_hashCode : ByteArray := prog_37_method_78_code
def yJ13_hashCode : MethodName := ⟨RJ13, "hashCode", "()I"⟩
def dkwJ13_hashCode_2 : List UInt8 := [181, 0, 23, 167, 0, 8, 42, 27, 181, 0, 19, 27, 172]
abbrev dktJ13_hashCode_2 : List UInt8 := dkwJ13_hashCode_2 ++ []
def dkwJ13_hashCode_1 : List UInt8 := [180, 0, 9, 184, 2, 116, 167, 0, 10, 42, 180, 0, 9, 184, 2, 120, 60, 27, 154, 0, 11, 42, 4]
abbrev dktJ13_hashCode_1 : List UInt8 := dkwJ13_hashCode_1 ++ dktJ13_hashCode_2
def dkwJ13_hashCode_0 : List UInt8 := [42, 180, 0, 19, 60, 27, 154, 0, 52, 42, 180, 0, 23, 154, 0, 45, 42, 182, 1, 236, 153, 0, 13, 42]
abbrev dktJ13_hashCode_0 : List UInt8 := dkwJ13_hashCode_0 ++ dktJ13_hashCode_1
theorem dksJ13_hashCode_0 : cJ13_hashCode.data.toList.drop 0 = dktJ13_hashCode_0 := by decide +kernel
theorem dksJ13_hashCode_1 : cJ13_hashCode.data.toList.drop 24 = dktJ13_hashCode_1 := dk_seg dksJ13_hashCode_0 24 rfl rfl
theorem dksJ13_hashCode_2 : cJ13_hashCode.data.toList.drop 47 = dktJ13_hashCode_2 := dk_seg dksJ13_hashCode_1 23 rfl rfl
theorem dJ13_hashCode_0 : decode cJ13_hashCode 0 = .ok (.aload_n 0, 1) := dk_42 (dk_at dksJ13_hashCode_0 0 rfl rfl)
theorem dJ13_hashCode_1 : decode cJ13_hashCode 1 = .ok (.getfield 19, 3) := dk_180 0 19 (dk_at dksJ13_hashCode_0 1 rfl rfl)
theorem dJ13_hashCode_4 : decode cJ13_hashCode 4 = .ok (.istore_n 1, 1) := dk_60 (dk_at dksJ13_hashCode_0 4 rfl rfl)
theorem dJ13_hashCode_5 : decode cJ13_hashCode 5 = .ok (.iload_n 1, 1) := dk_27 (dk_at dksJ13_hashCode_0 5 rfl rfl)
theorem dJ13_hashCode_6 : decode cJ13_hashCode 6 = .ok (.ifCond .ne 52, 3) := dk_154 0 52 (dk_at dksJ13_hashCode_0 6 rfl rfl)
theorem dJ13_hashCode_9 : decode cJ13_hashCode 9 = .ok (.aload_n 0, 1) := dk_42 (dk_at dksJ13_hashCode_0 9 rfl rfl)
theorem dJ13_hashCode_10 : decode cJ13_hashCode 10 = .ok (.getfield 23, 3) := dk_180 0 23 (dk_at dksJ13_hashCode_0 10 rfl rfl)
theorem dJ13_hashCode_13 : decode cJ13_hashCode 13 = .ok (.ifCond .ne 45, 3) := dk_154 0 45 (dk_at dksJ13_hashCode_0 13 rfl rfl)
theorem dJ13_hashCode_16 : decode cJ13_hashCode 16 = .ok (.aload_n 0, 1) := dk_42 (dk_at dksJ13_hashCode_0 16 rfl rfl)
theorem dJ13_hashCode_17 : decode cJ13_hashCode 17 = .ok (.invokevirtual 492, 3) := dk_182 1 236 (dk_at dksJ13_hashCode_0 17 rfl rfl)
theorem dJ13_hashCode_20 : decode cJ13_hashCode 20 = .ok (.ifCond .eq 13, 3) := dk_153 0 13 (dk_at dksJ13_hashCode_0 20 rfl rfl)
theorem dJ13_hashCode_23 : decode cJ13_hashCode 23 = .ok (.aload_n 0, 1) := dk_42 (dk_at dksJ13_hashCode_0 23 rfl rfl)
theorem dJ13_hashCode_24 : decode cJ13_hashCode 24 = .ok (.getfield 9, 3) := dk_180 0 9 (dk_at dksJ13_hashCode_1 0 rfl rfl)
theorem dJ13_hashCode_27 : decode cJ13_hashCode 27 = .ok (.invokestatic 628, 3) := dk_184 2 116 (dk_at dksJ13_hashCode_1 3 rfl rfl)
theorem dJ13_hashCode_30 : decode cJ13_hashCode 30 = .ok (.goto 10, 3) := dk_167 0 10 (dk_at dksJ13_hashCode_1 6 rfl rfl)
theorem dJ13_hashCode_33 : decode cJ13_hashCode 33 = .ok (.aload_n 0, 1) := dk_42 (dk_at dksJ13_hashCode_1 9 rfl rfl)
theorem dJ13_hashCode_34 : decode cJ13_hashCode 34 = .ok (.getfield 9, 3) := dk_180 0 9 (dk_at dksJ13_hashCode_1 10 rfl rfl)
theorem dJ13_hashCode_37 : decode cJ13_hashCode 37 = .ok (.invokestatic 632, 3) := dk_184 2 120 (dk_at dksJ13_hashCode_1 13 rfl rfl)
theorem dJ13_hashCode_40 : decode cJ13_hashCode 40 = .ok (.istore_n 1, 1) := dk_60 (dk_at dksJ13_hashCode_1 16 rfl rfl)
theorem dJ13_hashCode_41 : decode cJ13_hashCode 41 = .ok (.iload_n 1, 1) := dk_27 (dk_at dksJ13_hashCode_1 17 rfl rfl)
theorem dJ13_hashCode_42 : decode cJ13_hashCode 42 = .ok (.ifCond .ne 11, 3) := dk_154 0 11 (dk_at dksJ13_hashCode_1 18 rfl rfl)
theorem dJ13_hashCode_45 : decode cJ13_hashCode 45 = .ok (.aload_n 0, 1) := dk_42 (dk_at dksJ13_hashCode_1 21 rfl rfl)
theorem dJ13_hashCode_46 : decode cJ13_hashCode 46 = .ok (.iconst 1, 1) := dk_4 (dk_at dksJ13_hashCode_1 22 rfl rfl)
theorem dJ13_hashCode_47 : decode cJ13_hashCode 47 = .ok (.putfield 23, 3) := dk_181 0 23 (dk_at dksJ13_hashCode_2 0 rfl rfl)
theorem dJ13_hashCode_50 : decode cJ13_hashCode 50 = .ok (.goto 8, 3) := dk_167 0 8 (dk_at dksJ13_hashCode_2 3 rfl rfl)
theorem dJ13_hashCode_53 : decode cJ13_hashCode 53 = .ok (.aload_n 0, 1) := dk_42 (dk_at dksJ13_hashCode_2 6 rfl rfl)
theorem dJ13_hashCode_54 : decode cJ13_hashCode 54 = .ok (.iload_n 1, 1) := dk_27 (dk_at dksJ13_hashCode_2 7 rfl rfl)
theorem dJ13_hashCode_55 : decode cJ13_hashCode 55 = .ok (.putfield 19, 3) := dk_181 0 19 (dk_at dksJ13_hashCode_2 8 rfl rfl)
theorem dJ13_hashCode_58 : decode cJ13_hashCode 58 = .ok (.iload_n 1, 1) := dk_27 (dk_at dksJ13_hashCode_2 11 rfl rfl)
theorem dJ13_hashCode_59 : decode cJ13_hashCode 59 = .ok (.ireturn, 1) := dk_172 (dk_at dksJ13_hashCode_2 12 rfl rfl)
abbrev cJ13_isLatin1 : ByteArray := prog_37_method_154_code
def yJ13_isLatin1 : MethodName := ⟨RJ13, "isLatin1", "()Z"⟩
def dkwJ13_isLatin1_0 : List UInt8 := [178, 0, 38, 153, 0, 14, 42, 180, 0, 15, 154, 0, 7, 4, 167, 0, 4, 3, 172]
abbrev dktJ13_isLatin1_0 : List UInt8 := dkwJ13_isLatin1_0 ++ []
theorem dksJ13_isLatin1_0 : cJ13_isLatin1.data.toList.drop 0 = dktJ13_isLatin1_0 := by decide +kernel
theorem dJ13_isLatin1_0 : decode cJ13_isLatin1 0 = .ok (.getstatic 38, 3) := dk_178 0 38 (dk_at dksJ13_isLatin1_0 0 rfl rfl)
theorem dJ13_isLatin1_3 : decode cJ13_isLatin1 3 = .ok (.ifCond .eq 14, 3) := dk_153 0 14 (dk_at dksJ13_isLatin1_0 3 rfl rfl)
theorem dJ13_isLatin1_6 : decode cJ13_isLatin1 6 = .ok (.aload_n 0, 1) := dk_42 (dk_at dksJ13_isLatin1_0 6 rfl rfl)
theorem dJ13_isLatin1_7 : decode cJ13_isLatin1 7 = .ok (.getfield 15, 3) := dk_180 0 15 (dk_at dksJ13_isLatin1_0 7 rfl rfl)
theorem dJ13_isLatin1_10 : decode cJ13_isLatin1 10 = .ok (.ifCond .ne 7, 3) := dk_154 0 7 (dk_at dksJ13_isLatin1_0 10 rfl rfl)
theorem dJ13_isLatin1_13 : decode cJ13_isLatin1 13 = .ok (.iconst 1, 1) := dk_4 (dk_at dksJ13_isLatin1_0 13 rfl rfl)
theorem dJ13_isLatin1_14 : decode cJ13_isLatin1 14 = .ok (.goto 4, 3) := dk_167 0 4 (dk_at dksJ13_isLatin1_0 14 rfl rfl)
theorem dJ13_isLatin1_17 : decode cJ13_isLatin1 17 = .ok (.iconst 0, 1) := dk_3 (dk_at dksJ13_isLatin1_0 17 rfl rfl)
theorem dJ13_isLatin1_18 : decode cJ13_isLatin1 18 = .ok (.ireturn, 1) := dk_172 (dk_at dksJ13_isLatin1_0 18 rfl rfl)
abbrev cJ13_checkBoundsBeginEnd : ByteArray := prog_37_method_158_code
def yJ13_checkBoundsBeginEnd : MethodName := ⟨RJ13, "checkBoundsBeginEnd", "(III)V"⟩
def dkwJ13_checkBoundsBeginEnd_0 : List UInt8 := [26, 27, 28, 178, 4, 29, 184, 4, 38, 87, 177]
abbrev dktJ13_checkBoundsBeginEnd_0 : List UInt8 := dkwJ13_checkBoundsBeginEnd_0 ++ []
theorem dksJ13_checkBoundsBeginEnd_0 : cJ13_checkBoundsBeginEnd.data.toList.drop 0 = dktJ13_checkBoundsBeginEnd_0 := by decide +kernel
theorem dJ13_checkBoundsBeginEnd_0 : decode cJ13_checkBoundsBeginEnd 0 = .ok (.iload_n 0, 1) := dk_26 (dk_at dksJ13_checkBoundsBeginEnd_0 0 rfl rfl)
theorem dJ13_checkBoundsBeginEnd_1 : decode cJ13_checkBoundsBeginEnd 1 = .ok (.iload_n 1, 1) := dk_27 (dk_at dksJ13_checkBoundsBeginEnd_0 1 rfl rfl)
theorem dJ13_checkBoundsBeginEnd_2 : decode cJ13_checkBoundsBeginEnd 2 = .ok (.iload_n 2, 1) := dk_28 (dk_at dksJ13_checkBoundsBeginEnd_0 2 rfl rfl)
theorem dJ13_checkBoundsBeginEnd_3 : decode cJ13_checkBoundsBeginEnd 3 = .ok (.getstatic 1053, 3) := dk_178 4 29 (dk_at dksJ13_checkBoundsBeginEnd_0 3 rfl rfl)
theorem dJ13_checkBoundsBeginEnd_6 : decode cJ13_checkBoundsBeginEnd 6 = .ok (.invokestatic 1062, 3) := dk_184 4 38 (dk_at dksJ13_checkBoundsBeginEnd_0 6 rfl rfl)
theorem dJ13_checkBoundsBeginEnd_9 : decode cJ13_checkBoundsBeginEnd 9 = .ok (.pop, 1) := dk_87 (dk_at dksJ13_checkBoundsBeginEnd_0 9 rfl rfl)
theorem dJ13_checkBoundsBeginEnd_10 : decode cJ13_checkBoundsBeginEnd 10 = .ok (.return_, 1) := dk_177 (dk_at dksJ13_checkBoundsBeginEnd_0 10 rfl rfl)
abbrev cJ13_length : ByteArray := prog_37_method_54_code
def yJ13_length : MethodName := ⟨RJ13, "length", "()I"⟩
def dkwJ13_length_0 : List UInt8 := [42, 180, 0, 9, 190, 42, 182, 1, 79, 122, 172]
abbrev dktJ13_length_0 : List UInt8 := dkwJ13_length_0 ++ []
theorem dksJ13_length_0 : cJ13_length.data.toList.drop 0 = dktJ13_length_0 := by decide +kernel
theorem dJ13_length_0 : decode cJ13_length 0 = .ok (.aload_n 0, 1) := dk_42 (dk_at dksJ13_length_0 0 rfl rfl)
theorem dJ13_length_1 : decode cJ13_length 1 = .ok (.getfield 9, 3) := dk_180 0 9 (dk_at dksJ13_length_0 1 rfl rfl)
theorem dJ13_length_4 : decode cJ13_length 4 = .ok (.arraylength, 1) := dk_190 (dk_at dksJ13_length_0 4 rfl rfl)
theorem dJ13_length_5 : decode cJ13_length 5 = .ok (.aload_n 0, 1) := dk_42 (dk_at dksJ13_length_0 5 rfl rfl)
theorem dJ13_length_6 : decode cJ13_length 6 = .ok (.invokevirtual 335, 3) := dk_182 1 79 (dk_at dksJ13_length_0 6 rfl rfl)
theorem dJ13_length_9 : decode cJ13_length 9 = .ok (.ishr, 1) := dk_122 (dk_at dksJ13_length_0 9 rfl rfl)
theorem dJ13_length_10 : decode cJ13_length 10 = .ok (.ireturn, 1) := dk_172 (dk_at dksJ13_length_0 10 rfl rfl)
abbrev cJ13_coder : ByteArray := prog_37_method_152_code
def yJ13_coder : MethodName := ⟨RJ13, "coder", "()B"⟩
def dkwJ13_coder_0 : List UInt8 := [178, 0, 38, 153, 0, 10, 42, 180, 0, 15, 167, 0, 4, 4, 172]
abbrev dktJ13_coder_0 : List UInt8 := dkwJ13_coder_0 ++ []
theorem dksJ13_coder_0 : cJ13_coder.data.toList.drop 0 = dktJ13_coder_0 := by decide +kernel
theorem dJ13_coder_0 : decode cJ13_coder 0 = .ok (.getstatic 38, 3) := dk_178 0 38 (dk_at dksJ13_coder_0 0 rfl rfl)
theorem dJ13_coder_3 : decode cJ13_coder 3 = .ok (.ifCond .eq 10, 3) := dk_153 0 10 (dk_at dksJ13_coder_0 3 rfl rfl)
theorem dJ13_coder_6 : decode cJ13_coder 6 = .ok (.aload_n 0, 1) := dk_42 (dk_at dksJ13_coder_0 6 rfl rfl)
theorem dJ13_coder_7 : decode cJ13_coder 7 = .ok (.getfield 15, 3) := dk_180 0 15 (dk_at dksJ13_coder_0 7 rfl rfl)
theorem dJ13_coder_10 : decode cJ13_coder 10 = .ok (.goto 4, 3) := dk_167 0 4 (dk_at dksJ13_coder_0 10 rfl rfl)
theorem dJ13_coder_13 : decode cJ13_coder 13 = .ok (.iconst 1, 1) := dk_4 (dk_at dksJ13_coder_0 13 rfl rfl)
theorem dJ13_coder_14 : decode cJ13_coder 14 = .ok (.ireturn, 1) := dk_172 (dk_at dksJ13_coder_0 14 rfl rfl)
abbrev cJ13_checkBoundsOffCount : ByteArray := prog_37_method_157_code
def yJ13_checkBoundsOffCount : MethodName := ⟨RJ13, "checkBoundsOffCount", "(III)I"⟩
def dkwJ13_checkBoundsOffCount_0 : List UInt8 := [26, 27, 28, 178, 4, 29, 184, 4, 41, 172]
abbrev dktJ13_checkBoundsOffCount_0 : List UInt8 := dkwJ13_checkBoundsOffCount_0 ++ []
theorem dksJ13_checkBoundsOffCount_0 : cJ13_checkBoundsOffCount.data.toList.drop 0 = dktJ13_checkBoundsOffCount_0 := by decide +kernel
theorem dJ13_checkBoundsOffCount_0 : decode cJ13_checkBoundsOffCount 0 = .ok (.iload_n 0, 1) := dk_26 (dk_at dksJ13_checkBoundsOffCount_0 0 rfl rfl)
theorem dJ13_checkBoundsOffCount_1 : decode cJ13_checkBoundsOffCount 1 = .ok (.iload_n 1, 1) := dk_27 (dk_at dksJ13_checkBoundsOffCount_0 1 rfl rfl)
theorem dJ13_checkBoundsOffCount_2 : decode cJ13_checkBoundsOffCount 2 = .ok (.iload_n 2, 1) := dk_28 (dk_at dksJ13_checkBoundsOffCount_0 2 rfl rfl)
theorem dJ13_checkBoundsOffCount_3 : decode cJ13_checkBoundsOffCount 3 = .ok (.getstatic 1053, 3) := dk_178 4 29 (dk_at dksJ13_checkBoundsOffCount_0 3 rfl rfl)
theorem dJ13_checkBoundsOffCount_6 : decode cJ13_checkBoundsOffCount 6 = .ok (.invokestatic 1065, 3) := dk_184 4 41 (dk_at dksJ13_checkBoundsOffCount_0 6 rfl rfl)
theorem dJ13_checkBoundsOffCount_9 : decode cJ13_checkBoundsOffCount 9 = .ok (.ireturn, 1) := dk_172 (dk_at dksJ13_checkBoundsOffCount_0 9 rfl rfl)
abbrev cJ13_getBytes : ByteArray := prog_37_method_147_code
def yJ13_getBytes : MethodName := ⟨RJ13, "getBytes", "([BIB)V"⟩
def dkwJ13_getBytes_1 : List UInt8 := [184, 0, 212, 167, 0, 18, 42, 180, 0, 9, 3, 43, 28, 42, 180, 0, 9, 190, 184, 0, 106, 177]
abbrev dktJ13_getBytes_1 : List UInt8 := dkwJ13_getBytes_1 ++ []
def dkwJ13_getBytes_0 : List UInt8 := [42, 182, 1, 79, 29, 160, 0, 23, 42, 180, 0, 9, 3, 43, 28, 29, 120, 42, 180, 0, 9, 190]
abbrev dktJ13_getBytes_0 : List UInt8 := dkwJ13_getBytes_0 ++ dktJ13_getBytes_1
theorem dksJ13_getBytes_0 : cJ13_getBytes.data.toList.drop 0 = dktJ13_getBytes_0 := by decide +kernel
theorem dksJ13_getBytes_1 : cJ13_getBytes.data.toList.drop 22 = dktJ13_getBytes_1 := dk_seg dksJ13_getBytes_0 22 rfl rfl
theorem dJ13_getBytes_0 : decode cJ13_getBytes 0 = .ok (.aload_n 0, 1) := dk_42 (dk_at dksJ13_getBytes_0 0 rfl rfl)
theorem dJ13_getBytes_1 : decode cJ13_getBytes 1 = .ok (.invokevirtual 335, 3) := dk_182 1 79 (dk_at dksJ13_getBytes_0 1 rfl rfl)
theorem dJ13_getBytes_4 : decode cJ13_getBytes 4 = .ok (.iload_n 3, 1) := dk_29 (dk_at dksJ13_getBytes_0 4 rfl rfl)
theorem dJ13_getBytes_5 : decode cJ13_getBytes 5 = .ok (.if_icmp .ne 23, 3) := dk_160 0 23 (dk_at dksJ13_getBytes_0 5 rfl rfl)
theorem dJ13_getBytes_8 : decode cJ13_getBytes 8 = .ok (.aload_n 0, 1) := dk_42 (dk_at dksJ13_getBytes_0 8 rfl rfl)
theorem dJ13_getBytes_9 : decode cJ13_getBytes 9 = .ok (.getfield 9, 3) := dk_180 0 9 (dk_at dksJ13_getBytes_0 9 rfl rfl)
theorem dJ13_getBytes_12 : decode cJ13_getBytes 12 = .ok (.iconst 0, 1) := dk_3 (dk_at dksJ13_getBytes_0 12 rfl rfl)
theorem dJ13_getBytes_13 : decode cJ13_getBytes 13 = .ok (.aload_n 1, 1) := dk_43 (dk_at dksJ13_getBytes_0 13 rfl rfl)
theorem dJ13_getBytes_14 : decode cJ13_getBytes 14 = .ok (.iload_n 2, 1) := dk_28 (dk_at dksJ13_getBytes_0 14 rfl rfl)
theorem dJ13_getBytes_15 : decode cJ13_getBytes 15 = .ok (.iload_n 3, 1) := dk_29 (dk_at dksJ13_getBytes_0 15 rfl rfl)
theorem dJ13_getBytes_16 : decode cJ13_getBytes 16 = .ok (.ishl, 1) := dk_120 (dk_at dksJ13_getBytes_0 16 rfl rfl)
theorem dJ13_getBytes_17 : decode cJ13_getBytes 17 = .ok (.aload_n 0, 1) := dk_42 (dk_at dksJ13_getBytes_0 17 rfl rfl)
theorem dJ13_getBytes_18 : decode cJ13_getBytes 18 = .ok (.getfield 9, 3) := dk_180 0 9 (dk_at dksJ13_getBytes_0 18 rfl rfl)
theorem dJ13_getBytes_21 : decode cJ13_getBytes 21 = .ok (.arraylength, 1) := dk_190 (dk_at dksJ13_getBytes_0 21 rfl rfl)
theorem dJ13_getBytes_22 : decode cJ13_getBytes 22 = .ok (.invokestatic 212, 3) := dk_184 0 212 (dk_at dksJ13_getBytes_1 0 rfl rfl)
theorem dJ13_getBytes_25 : decode cJ13_getBytes 25 = .ok (.goto 18, 3) := dk_167 0 18 (dk_at dksJ13_getBytes_1 3 rfl rfl)
theorem dJ13_getBytes_28 : decode cJ13_getBytes 28 = .ok (.aload_n 0, 1) := dk_42 (dk_at dksJ13_getBytes_1 6 rfl rfl)
theorem dJ13_getBytes_29 : decode cJ13_getBytes 29 = .ok (.getfield 9, 3) := dk_180 0 9 (dk_at dksJ13_getBytes_1 7 rfl rfl)
theorem dJ13_getBytes_32 : decode cJ13_getBytes 32 = .ok (.iconst 0, 1) := dk_3 (dk_at dksJ13_getBytes_1 10 rfl rfl)
theorem dJ13_getBytes_33 : decode cJ13_getBytes 33 = .ok (.aload_n 1, 1) := dk_43 (dk_at dksJ13_getBytes_1 11 rfl rfl)
theorem dJ13_getBytes_34 : decode cJ13_getBytes 34 = .ok (.iload_n 2, 1) := dk_28 (dk_at dksJ13_getBytes_1 12 rfl rfl)
theorem dJ13_getBytes_35 : decode cJ13_getBytes 35 = .ok (.aload_n 0, 1) := dk_42 (dk_at dksJ13_getBytes_1 13 rfl rfl)
theorem dJ13_getBytes_36 : decode cJ13_getBytes 36 = .ok (.getfield 9, 3) := dk_180 0 9 (dk_at dksJ13_getBytes_1 14 rfl rfl)
theorem dJ13_getBytes_39 : decode cJ13_getBytes 39 = .ok (.arraylength, 1) := dk_190 (dk_at dksJ13_getBytes_1 17 rfl rfl)
theorem dJ13_getBytes_40 : decode cJ13_getBytes 40 = .ok (.invokestatic 106, 3) := dk_184 0 106 (dk_at dksJ13_getBytes_1 18 rfl rfl)
theorem dJ13_getBytes_43 : decode cJ13_getBytes 43 = .ok (.return_, 1) := dk_177 (dk_at dksJ13_getBytes_1 21 rfl rfl)
abbrev cJ13_init : ByteArray := prog_37_method_53_code
def yJ13_init : MethodName := ⟨RJ13, "<init>", "(Ljava/lang/StringBuilder;)V"⟩
def dkwJ13_init_0 : List UInt8 := [42, 43, 1, 183, 1, 233, 177]
abbrev dktJ13_init_0 : List UInt8 := dkwJ13_init_0 ++ []
theorem dksJ13_init_0 : cJ13_init.data.toList.drop 0 = dktJ13_init_0 := by decide +kernel
theorem dJ13_init_0 : decode cJ13_init 0 = .ok (.aload_n 0, 1) := dk_42 (dk_at dksJ13_init_0 0 rfl rfl)
theorem dJ13_init_1 : decode cJ13_init 1 = .ok (.aload_n 1, 1) := dk_43 (dk_at dksJ13_init_0 1 rfl rfl)
theorem dJ13_init_2 : decode cJ13_init 2 = .ok (.aconst_null, 1) := dk_1 (dk_at dksJ13_init_0 2 rfl rfl)
theorem dJ13_init_3 : decode cJ13_init 3 = .ok (.invokespecial 489, 3) := dk_183 1 233 (dk_at dksJ13_init_0 3 rfl rfl)
theorem dJ13_init_6 : decode cJ13_init 6 = .ok (.return_, 1) := dk_177 (dk_at dksJ13_init_0 6 rfl rfl)
abbrev cJ13_init_2 : ByteArray := prog_37_method_150_code
def yJ13_init_2 : MethodName := ⟨RJ13, "<init>", "(Ljava/lang/AbstractStringBuilder;Ljava/lang/Void;)V"⟩
def dkwJ13_init_2_4 : List UInt8 := [181, 0, 9, 177]
abbrev dktJ13_init_2_4 : List UInt8 := dkwJ13_init_2_4 ++ []
def dkwJ13_init_2_3 : List UInt8 := [184, 0, 47, 181, 0, 15, 177, 42, 4, 181, 0, 15, 42, 45, 3, 21, 4, 4, 120, 184, 0, 54]
abbrev dktJ13_init_2_3 : List UInt8 := dkwJ13_init_2_3 ++ dktJ13_init_2_4
def dkwJ13_init_2_2 : List UInt8 := [180, 4, 24, 153, 0, 28, 42, 45, 3, 21, 4, 184, 4, 27, 181, 0, 9, 42, 42, 180, 0, 9, 21, 4]
abbrev dktJ13_init_2_2 : List UInt8 := dkwJ13_init_2_2 ++ dktJ13_init_2_3
def dkwJ13_init_2_1 : List UInt8 := [181, 0, 15, 42, 45, 3, 21, 4, 184, 0, 54, 181, 0, 9, 167, 0, 59, 178, 0, 38, 153, 0, 35, 43]
abbrev dktJ13_init_2_1 : List UInt8 := dkwJ13_init_2_1 ++ dktJ13_init_2_2
def dkwJ13_init_2_0 : List UInt8 := [42, 183, 0, 1, 43, 182, 2, 40, 78, 43, 182, 2, 37, 54, 4, 43, 182, 4, 23, 153, 0, 22, 42, 3]
abbrev dktJ13_init_2_0 : List UInt8 := dkwJ13_init_2_0 ++ dktJ13_init_2_1
theorem dksJ13_init_2_0 : cJ13_init_2.data.toList.drop 0 = dktJ13_init_2_0 := by decide +kernel
theorem dksJ13_init_2_1 : cJ13_init_2.data.toList.drop 24 = dktJ13_init_2_1 := dk_seg dksJ13_init_2_0 24 rfl rfl
theorem dksJ13_init_2_2 : cJ13_init_2.data.toList.drop 48 = dktJ13_init_2_2 := dk_seg dksJ13_init_2_1 24 rfl rfl
theorem dksJ13_init_2_3 : cJ13_init_2.data.toList.drop 72 = dktJ13_init_2_3 := dk_seg dksJ13_init_2_2 24 rfl rfl
theorem dksJ13_init_2_4 : cJ13_init_2.data.toList.drop 94 = dktJ13_init_2_4 := dk_seg dksJ13_init_2_3 22 rfl rfl
theorem dJ13_init_2_0 : decode cJ13_init_2 0 = .ok (.aload_n 0, 1) := dk_42 (dk_at dksJ13_init_2_0 0 rfl rfl)
theorem dJ13_init_2_1 : decode cJ13_init_2 1 = .ok (.invokespecial 1, 3) := dk_183 0 1 (dk_at dksJ13_init_2_0 1 rfl rfl)
theorem dJ13_init_2_4 : decode cJ13_init_2 4 = .ok (.aload_n 1, 1) := dk_43 (dk_at dksJ13_init_2_0 4 rfl rfl)
theorem dJ13_init_2_5 : decode cJ13_init_2 5 = .ok (.invokevirtual 552, 3) := dk_182 2 40 (dk_at dksJ13_init_2_0 5 rfl rfl)
theorem dJ13_init_2_8 : decode cJ13_init_2 8 = .ok (.astore_n 3, 1) := dk_78 (dk_at dksJ13_init_2_0 8 rfl rfl)
theorem dJ13_init_2_9 : decode cJ13_init_2 9 = .ok (.aload_n 1, 1) := dk_43 (dk_at dksJ13_init_2_0 9 rfl rfl)
theorem dJ13_init_2_10 : decode cJ13_init_2 10 = .ok (.invokevirtual 549, 3) := dk_182 2 37 (dk_at dksJ13_init_2_0 10 rfl rfl)
theorem dJ13_init_2_13 : decode cJ13_init_2 13 = .ok (.istore 4, 2) := dk_54 4 (dk_at dksJ13_init_2_0 13 rfl rfl)
theorem dJ13_init_2_15 : decode cJ13_init_2 15 = .ok (.aload_n 1, 1) := dk_43 (dk_at dksJ13_init_2_0 15 rfl rfl)
theorem dJ13_init_2_16 : decode cJ13_init_2 16 = .ok (.invokevirtual 1047, 3) := dk_182 4 23 (dk_at dksJ13_init_2_0 16 rfl rfl)
theorem dJ13_init_2_19 : decode cJ13_init_2 19 = .ok (.ifCond .eq 22, 3) := dk_153 0 22 (dk_at dksJ13_init_2_0 19 rfl rfl)
theorem dJ13_init_2_22 : decode cJ13_init_2 22 = .ok (.aload_n 0, 1) := dk_42 (dk_at dksJ13_init_2_0 22 rfl rfl)
theorem dJ13_init_2_23 : decode cJ13_init_2 23 = .ok (.iconst 0, 1) := dk_3 (dk_at dksJ13_init_2_0 23 rfl rfl)
theorem dJ13_init_2_24 : decode cJ13_init_2 24 = .ok (.putfield 15, 3) := dk_181 0 15 (dk_at dksJ13_init_2_1 0 rfl rfl)
theorem dJ13_init_2_27 : decode cJ13_init_2 27 = .ok (.aload_n 0, 1) := dk_42 (dk_at dksJ13_init_2_1 3 rfl rfl)
theorem dJ13_init_2_28 : decode cJ13_init_2 28 = .ok (.aload_n 3, 1) := dk_45 (dk_at dksJ13_init_2_1 4 rfl rfl)
theorem dJ13_init_2_29 : decode cJ13_init_2 29 = .ok (.iconst 0, 1) := dk_3 (dk_at dksJ13_init_2_1 5 rfl rfl)
theorem dJ13_init_2_30 : decode cJ13_init_2 30 = .ok (.iload 4, 2) := dk_21 4 (dk_at dksJ13_init_2_1 6 rfl rfl)
theorem dJ13_init_2_32 : decode cJ13_init_2 32 = .ok (.invokestatic 54, 3) := dk_184 0 54 (dk_at dksJ13_init_2_1 8 rfl rfl)
theorem dJ13_init_2_35 : decode cJ13_init_2 35 = .ok (.putfield 9, 3) := dk_181 0 9 (dk_at dksJ13_init_2_1 11 rfl rfl)
theorem dJ13_init_2_38 : decode cJ13_init_2 38 = .ok (.goto 59, 3) := dk_167 0 59 (dk_at dksJ13_init_2_1 14 rfl rfl)
theorem dJ13_init_2_41 : decode cJ13_init_2 41 = .ok (.getstatic 38, 3) := dk_178 0 38 (dk_at dksJ13_init_2_1 17 rfl rfl)
theorem dJ13_init_2_44 : decode cJ13_init_2 44 = .ok (.ifCond .eq 35, 3) := dk_153 0 35 (dk_at dksJ13_init_2_1 20 rfl rfl)
theorem dJ13_init_2_47 : decode cJ13_init_2 47 = .ok (.aload_n 1, 1) := dk_43 (dk_at dksJ13_init_2_1 23 rfl rfl)
theorem dJ13_init_2_48 : decode cJ13_init_2 48 = .ok (.getfield 1048, 3) := dk_180 4 24 (dk_at dksJ13_init_2_2 0 rfl rfl)
theorem dJ13_init_2_51 : decode cJ13_init_2 51 = .ok (.ifCond .eq 28, 3) := dk_153 0 28 (dk_at dksJ13_init_2_2 3 rfl rfl)
theorem dJ13_init_2_54 : decode cJ13_init_2 54 = .ok (.aload_n 0, 1) := dk_42 (dk_at dksJ13_init_2_2 6 rfl rfl)
theorem dJ13_init_2_55 : decode cJ13_init_2 55 = .ok (.aload_n 3, 1) := dk_45 (dk_at dksJ13_init_2_2 7 rfl rfl)
theorem dJ13_init_2_56 : decode cJ13_init_2 56 = .ok (.iconst 0, 1) := dk_3 (dk_at dksJ13_init_2_2 8 rfl rfl)
theorem dJ13_init_2_57 : decode cJ13_init_2 57 = .ok (.iload 4, 2) := dk_21 4 (dk_at dksJ13_init_2_2 9 rfl rfl)
theorem dJ13_init_2_59 : decode cJ13_init_2 59 = .ok (.invokestatic 1051, 3) := dk_184 4 27 (dk_at dksJ13_init_2_2 11 rfl rfl)
theorem dJ13_init_2_62 : decode cJ13_init_2 62 = .ok (.putfield 9, 3) := dk_181 0 9 (dk_at dksJ13_init_2_2 14 rfl rfl)
theorem dJ13_init_2_65 : decode cJ13_init_2 65 = .ok (.aload_n 0, 1) := dk_42 (dk_at dksJ13_init_2_2 17 rfl rfl)
theorem dJ13_init_2_66 : decode cJ13_init_2 66 = .ok (.aload_n 0, 1) := dk_42 (dk_at dksJ13_init_2_2 18 rfl rfl)
theorem dJ13_init_2_67 : decode cJ13_init_2 67 = .ok (.getfield 9, 3) := dk_180 0 9 (dk_at dksJ13_init_2_2 19 rfl rfl)
theorem dJ13_init_2_70 : decode cJ13_init_2 70 = .ok (.iload 4, 2) := dk_21 4 (dk_at dksJ13_init_2_2 22 rfl rfl)
theorem dJ13_init_2_72 : decode cJ13_init_2 72 = .ok (.invokestatic 47, 3) := dk_184 0 47 (dk_at dksJ13_init_2_3 0 rfl rfl)
theorem dJ13_init_2_75 : decode cJ13_init_2 75 = .ok (.putfield 15, 3) := dk_181 0 15 (dk_at dksJ13_init_2_3 3 rfl rfl)
theorem dJ13_init_2_78 : decode cJ13_init_2 78 = .ok (.return_, 1) := dk_177 (dk_at dksJ13_init_2_3 6 rfl rfl)
theorem dJ13_init_2_79 : decode cJ13_init_2 79 = .ok (.aload_n 0, 1) := dk_42 (dk_at dksJ13_init_2_3 7 rfl rfl)
theorem dJ13_init_2_80 : decode cJ13_init_2 80 = .ok (.iconst 1, 1) := dk_4 (dk_at dksJ13_init_2_3 8 rfl rfl)
theorem dJ13_init_2_81 : decode cJ13_init_2 81 = .ok (.putfield 15, 3) := dk_181 0 15 (dk_at dksJ13_init_2_3 9 rfl rfl)
theorem dJ13_init_2_84 : decode cJ13_init_2 84 = .ok (.aload_n 0, 1) := dk_42 (dk_at dksJ13_init_2_3 12 rfl rfl)
theorem dJ13_init_2_85 : decode cJ13_init_2 85 = .ok (.aload_n 3, 1) := dk_45 (dk_at dksJ13_init_2_3 13 rfl rfl)
theorem dJ13_init_2_86 : decode cJ13_init_2 86 = .ok (.iconst 0, 1) := dk_3 (dk_at dksJ13_init_2_3 14 rfl rfl)
theorem dJ13_init_2_87 : decode cJ13_init_2 87 = .ok (.iload 4, 2) := dk_21 4 (dk_at dksJ13_init_2_3 15 rfl rfl)
theorem dJ13_init_2_89 : decode cJ13_init_2 89 = .ok (.iconst 1, 1) := dk_4 (dk_at dksJ13_init_2_3 17 rfl rfl)
theorem dJ13_init_2_90 : decode cJ13_init_2 90 = .ok (.ishl, 1) := dk_120 (dk_at dksJ13_init_2_3 18 rfl rfl)
theorem dJ13_init_2_91 : decode cJ13_init_2 91 = .ok (.invokestatic 54, 3) := dk_184 0 54 (dk_at dksJ13_init_2_3 19 rfl rfl)
theorem dJ13_init_2_94 : decode cJ13_init_2 94 = .ok (.putfield 9, 3) := dk_181 0 9 (dk_at dksJ13_init_2_4 0 rfl rfl)
theorem dJ13_init_2_97 : decode cJ13_init_2 97 = .ok (.return_, 1) := dk_177 (dk_at dksJ13_init_2_4 3 rfl rfl)
abbrev cJ13_compareTo : ByteArray := prog_37_method_162_code
def yJ13_compareTo : MethodName := ⟨RJ13, "compareTo", "(Ljava/lang/Object;)I"⟩
def dkwJ13_compareTo_0 : List UInt8 := [42, 43, 192, 0, 10, 182, 4, 60, 172]
abbrev dktJ13_compareTo_0 : List UInt8 := dkwJ13_compareTo_0 ++ []
theorem dksJ13_compareTo_0 : cJ13_compareTo.data.toList.drop 0 = dktJ13_compareTo_0 := by decide +kernel
theorem dJ13_compareTo_0 : decode cJ13_compareTo 0 = .ok (.aload_n 0, 1) := dk_42 (dk_at dksJ13_compareTo_0 0 rfl rfl)
theorem dJ13_compareTo_1 : decode cJ13_compareTo 1 = .ok (.aload_n 1, 1) := dk_43 (dk_at dksJ13_compareTo_0 1 rfl rfl)
theorem dJ13_compareTo_2 : decode cJ13_compareTo 2 = .ok (.checkcast 10, 3) := dk_192 0 10 (dk_at dksJ13_compareTo_0 2 rfl rfl)
theorem dJ13_compareTo_5 : decode cJ13_compareTo 5 = .ok (.invokevirtual 1084, 3) := dk_182 4 60 (dk_at dksJ13_compareTo_0 5 rfl rfl)
theorem dJ13_compareTo_8 : decode cJ13_compareTo 8 = .ok (.ireturn, 1) := dk_172 (dk_at dksJ13_compareTo_0 8 rfl rfl)
abbrev cJ13_compareTo_2 : ByteArray := prog_37_method_71_code
def yJ13_compareTo_2 : MethodName := ⟨RJ13, "compareTo", "(Ljava/lang/String;)I"⟩
def dkwJ13_compareTo_2_2 : List UInt8 := [154, 0, 11, 44, 45, 184, 2, 79, 167, 0, 8, 44, 45, 184, 2, 82, 172]
abbrev dktJ13_compareTo_2_2 : List UInt8 := dkwJ13_compareTo_2_2 ++ []
def dkwJ13_compareTo_2_1 : List UInt8 := [160, 0, 22, 21, 4, 154, 0, 11, 44, 45, 184, 2, 74, 167, 0, 8, 44, 45, 184, 2, 78, 172, 21, 4]
abbrev dktJ13_compareTo_2_1 : List UInt8 := dkwJ13_compareTo_2_1 ++ dktJ13_compareTo_2_2
def dkwJ13_compareTo_2_0 : List UInt8 := [42, 180, 0, 9, 77, 43, 180, 0, 9, 78, 42, 182, 1, 79, 54, 4, 21, 4, 43, 182, 1, 79]
abbrev dktJ13_compareTo_2_0 : List UInt8 := dkwJ13_compareTo_2_0 ++ dktJ13_compareTo_2_1
theorem dksJ13_compareTo_2_0 : cJ13_compareTo_2.data.toList.drop 0 = dktJ13_compareTo_2_0 := by decide +kernel
theorem dksJ13_compareTo_2_1 : cJ13_compareTo_2.data.toList.drop 22 = dktJ13_compareTo_2_1 := dk_seg dksJ13_compareTo_2_0 22 rfl rfl
theorem dksJ13_compareTo_2_2 : cJ13_compareTo_2.data.toList.drop 46 = dktJ13_compareTo_2_2 := dk_seg dksJ13_compareTo_2_1 24 rfl rfl
theorem dJ13_compareTo_2_0 : decode cJ13_compareTo_2 0 = .ok (.aload_n 0, 1) := dk_42 (dk_at dksJ13_compareTo_2_0 0 rfl rfl)
theorem dJ13_compareTo_2_1 : decode cJ13_compareTo_2 1 = .ok (.getfield 9, 3) := dk_180 0 9 (dk_at dksJ13_compareTo_2_0 1 rfl rfl)
theorem dJ13_compareTo_2_4 : decode cJ13_compareTo_2 4 = .ok (.astore_n 2, 1) := dk_77 (dk_at dksJ13_compareTo_2_0 4 rfl rfl)
theorem dJ13_compareTo_2_5 : decode cJ13_compareTo_2 5 = .ok (.aload_n 1, 1) := dk_43 (dk_at dksJ13_compareTo_2_0 5 rfl rfl)
theorem dJ13_compareTo_2_6 : decode cJ13_compareTo_2 6 = .ok (.getfield 9, 3) := dk_180 0 9 (dk_at dksJ13_compareTo_2_0 6 rfl rfl)
theorem dJ13_compareTo_2_9 : decode cJ13_compareTo_2 9 = .ok (.astore_n 3, 1) := dk_78 (dk_at dksJ13_compareTo_2_0 9 rfl rfl)
theorem dJ13_compareTo_2_10 : decode cJ13_compareTo_2 10 = .ok (.aload_n 0, 1) := dk_42 (dk_at dksJ13_compareTo_2_0 10 rfl rfl)
theorem dJ13_compareTo_2_11 : decode cJ13_compareTo_2 11 = .ok (.invokevirtual 335, 3) := dk_182 1 79 (dk_at dksJ13_compareTo_2_0 11 rfl rfl)
theorem dJ13_compareTo_2_14 : decode cJ13_compareTo_2 14 = .ok (.istore 4, 2) := dk_54 4 (dk_at dksJ13_compareTo_2_0 14 rfl rfl)
theorem dJ13_compareTo_2_16 : decode cJ13_compareTo_2 16 = .ok (.iload 4, 2) := dk_21 4 (dk_at dksJ13_compareTo_2_0 16 rfl rfl)
theorem dJ13_compareTo_2_18 : decode cJ13_compareTo_2 18 = .ok (.aload_n 1, 1) := dk_43 (dk_at dksJ13_compareTo_2_0 18 rfl rfl)
theorem dJ13_compareTo_2_19 : decode cJ13_compareTo_2 19 = .ok (.invokevirtual 335, 3) := dk_182 1 79 (dk_at dksJ13_compareTo_2_0 19 rfl rfl)
theorem dJ13_compareTo_2_22 : decode cJ13_compareTo_2 22 = .ok (.if_icmp .ne 22, 3) := dk_160 0 22 (dk_at dksJ13_compareTo_2_1 0 rfl rfl)
theorem dJ13_compareTo_2_25 : decode cJ13_compareTo_2 25 = .ok (.iload 4, 2) := dk_21 4 (dk_at dksJ13_compareTo_2_1 3 rfl rfl)
theorem dJ13_compareTo_2_27 : decode cJ13_compareTo_2 27 = .ok (.ifCond .ne 11, 3) := dk_154 0 11 (dk_at dksJ13_compareTo_2_1 5 rfl rfl)
theorem dJ13_compareTo_2_30 : decode cJ13_compareTo_2 30 = .ok (.aload_n 2, 1) := dk_44 (dk_at dksJ13_compareTo_2_1 8 rfl rfl)
theorem dJ13_compareTo_2_31 : decode cJ13_compareTo_2 31 = .ok (.aload_n 3, 1) := dk_45 (dk_at dksJ13_compareTo_2_1 9 rfl rfl)
theorem dJ13_compareTo_2_32 : decode cJ13_compareTo_2 32 = .ok (.invokestatic 586, 3) := dk_184 2 74 (dk_at dksJ13_compareTo_2_1 10 rfl rfl)
theorem dJ13_compareTo_2_35 : decode cJ13_compareTo_2 35 = .ok (.goto 8, 3) := dk_167 0 8 (dk_at dksJ13_compareTo_2_1 13 rfl rfl)
theorem dJ13_compareTo_2_38 : decode cJ13_compareTo_2 38 = .ok (.aload_n 2, 1) := dk_44 (dk_at dksJ13_compareTo_2_1 16 rfl rfl)
theorem dJ13_compareTo_2_39 : decode cJ13_compareTo_2 39 = .ok (.aload_n 3, 1) := dk_45 (dk_at dksJ13_compareTo_2_1 17 rfl rfl)
theorem dJ13_compareTo_2_40 : decode cJ13_compareTo_2 40 = .ok (.invokestatic 590, 3) := dk_184 2 78 (dk_at dksJ13_compareTo_2_1 18 rfl rfl)
theorem dJ13_compareTo_2_43 : decode cJ13_compareTo_2 43 = .ok (.ireturn, 1) := dk_172 (dk_at dksJ13_compareTo_2_1 21 rfl rfl)
theorem dJ13_compareTo_2_44 : decode cJ13_compareTo_2 44 = .ok (.iload 4, 2) := dk_21 4 (dk_at dksJ13_compareTo_2_1 22 rfl rfl)
theorem dJ13_compareTo_2_46 : decode cJ13_compareTo_2 46 = .ok (.ifCond .ne 11, 3) := dk_154 0 11 (dk_at dksJ13_compareTo_2_2 0 rfl rfl)
theorem dJ13_compareTo_2_49 : decode cJ13_compareTo_2 49 = .ok (.aload_n 2, 1) := dk_44 (dk_at dksJ13_compareTo_2_2 3 rfl rfl)
theorem dJ13_compareTo_2_50 : decode cJ13_compareTo_2 50 = .ok (.aload_n 3, 1) := dk_45 (dk_at dksJ13_compareTo_2_2 4 rfl rfl)
theorem dJ13_compareTo_2_51 : decode cJ13_compareTo_2 51 = .ok (.invokestatic 591, 3) := dk_184 2 79 (dk_at dksJ13_compareTo_2_2 5 rfl rfl)
theorem dJ13_compareTo_2_54 : decode cJ13_compareTo_2 54 = .ok (.goto 8, 3) := dk_167 0 8 (dk_at dksJ13_compareTo_2_2 8 rfl rfl)
theorem dJ13_compareTo_2_57 : decode cJ13_compareTo_2 57 = .ok (.aload_n 2, 1) := dk_44 (dk_at dksJ13_compareTo_2_2 11 rfl rfl)
theorem dJ13_compareTo_2_58 : decode cJ13_compareTo_2 58 = .ok (.aload_n 3, 1) := dk_45 (dk_at dksJ13_compareTo_2_2 12 rfl rfl)
theorem dJ13_compareTo_2_59 : decode cJ13_compareTo_2 59 = .ok (.invokestatic 594, 3) := dk_184 2 82 (dk_at dksJ13_compareTo_2_2 13 rfl rfl)
theorem dJ13_compareTo_2_62 : decode cJ13_compareTo_2 62 = .ok (.ireturn, 1) := dk_172 (dk_at dksJ13_compareTo_2_2 16 rfl rfl)
abbrev cJ13_checkOffset : ByteArray := prog_37_method_156_code
def yJ13_checkOffset : MethodName := ⟨RJ13, "checkOffset", "(II)V"⟩
def dkwJ13_checkOffset_0 : List UInt8 := [26, 27, 27, 178, 4, 29, 184, 4, 38, 87, 177]
abbrev dktJ13_checkOffset_0 : List UInt8 := dkwJ13_checkOffset_0 ++ []
theorem dksJ13_checkOffset_0 : cJ13_checkOffset.data.toList.drop 0 = dktJ13_checkOffset_0 := by decide +kernel
theorem dJ13_checkOffset_0 : decode cJ13_checkOffset 0 = .ok (.iload_n 0, 1) := dk_26 (dk_at dksJ13_checkOffset_0 0 rfl rfl)
theorem dJ13_checkOffset_1 : decode cJ13_checkOffset 1 = .ok (.iload_n 1, 1) := dk_27 (dk_at dksJ13_checkOffset_0 1 rfl rfl)
theorem dJ13_checkOffset_2 : decode cJ13_checkOffset 2 = .ok (.iload_n 1, 1) := dk_27 (dk_at dksJ13_checkOffset_0 2 rfl rfl)
theorem dJ13_checkOffset_3 : decode cJ13_checkOffset 3 = .ok (.getstatic 1053, 3) := dk_178 4 29 (dk_at dksJ13_checkOffset_0 3 rfl rfl)
theorem dJ13_checkOffset_6 : decode cJ13_checkOffset 6 = .ok (.invokestatic 1062, 3) := dk_184 4 38 (dk_at dksJ13_checkOffset_0 6 rfl rfl)
theorem dJ13_checkOffset_9 : decode cJ13_checkOffset 9 = .ok (.pop, 1) := dk_87 (dk_at dksJ13_checkOffset_0 9 rfl rfl)
theorem dJ13_checkOffset_10 : decode cJ13_checkOffset 10 = .ok (.return_, 1) := dk_177 (dk_at dksJ13_checkOffset_0 10 rfl rfl)
abbrev cJ13_equals : ByteArray := prog_37_method_66_code
def yJ13_equals : MethodName := ⟨RJ13, "equals", "(Ljava/lang/Object;)Z"⟩
def dkwJ13_equals_2 : List UInt8 := [184, 2, 29, 153, 0, 7, 4, 167, 0, 4, 3, 172]
abbrev dktJ13_equals_2 : List UInt8 := dkwJ13_equals_2 ++ []
def dkwJ13_equals_1 : List UInt8 := [153, 0, 14, 42, 180, 0, 15, 44, 180, 0, 15, 160, 0, 21, 42, 180, 0, 9, 44, 180, 0, 9]
abbrev dktJ13_equals_1 : List UInt8 := dkwJ13_equals_1 ++ dktJ13_equals_2
def dkwJ13_equals_0 : List UInt8 := [42, 43, 166, 0, 5, 4, 172, 43, 193, 0, 10, 153, 0, 43, 43, 192, 0, 10, 77, 178, 0, 38]
abbrev dktJ13_equals_0 : List UInt8 := dkwJ13_equals_0 ++ dktJ13_equals_1
theorem dksJ13_equals_0 : cJ13_equals.data.toList.drop 0 = dktJ13_equals_0 := by decide +kernel
theorem dksJ13_equals_1 : cJ13_equals.data.toList.drop 22 = dktJ13_equals_1 := dk_seg dksJ13_equals_0 22 rfl rfl
theorem dksJ13_equals_2 : cJ13_equals.data.toList.drop 44 = dktJ13_equals_2 := dk_seg dksJ13_equals_1 22 rfl rfl
theorem dJ13_equals_0 : decode cJ13_equals 0 = .ok (.aload_n 0, 1) := dk_42 (dk_at dksJ13_equals_0 0 rfl rfl)
theorem dJ13_equals_1 : decode cJ13_equals 1 = .ok (.aload_n 1, 1) := dk_43 (dk_at dksJ13_equals_0 1 rfl rfl)
theorem dJ13_equals_2 : decode cJ13_equals 2 = .ok (.if_acmp .ne 5, 3) := dk_166 0 5 (dk_at dksJ13_equals_0 2 rfl rfl)
theorem dJ13_equals_5 : decode cJ13_equals 5 = .ok (.iconst 1, 1) := dk_4 (dk_at dksJ13_equals_0 5 rfl rfl)
theorem dJ13_equals_6 : decode cJ13_equals 6 = .ok (.ireturn, 1) := dk_172 (dk_at dksJ13_equals_0 6 rfl rfl)
theorem dJ13_equals_7 : decode cJ13_equals 7 = .ok (.aload_n 1, 1) := dk_43 (dk_at dksJ13_equals_0 7 rfl rfl)
theorem dJ13_equals_8 : decode cJ13_equals 8 = .ok (.instanceof 10, 3) := dk_193 0 10 (dk_at dksJ13_equals_0 8 rfl rfl)
theorem dJ13_equals_11 : decode cJ13_equals 11 = .ok (.ifCond .eq 43, 3) := dk_153 0 43 (dk_at dksJ13_equals_0 11 rfl rfl)
theorem dJ13_equals_14 : decode cJ13_equals 14 = .ok (.aload_n 1, 1) := dk_43 (dk_at dksJ13_equals_0 14 rfl rfl)
theorem dJ13_equals_15 : decode cJ13_equals 15 = .ok (.checkcast 10, 3) := dk_192 0 10 (dk_at dksJ13_equals_0 15 rfl rfl)
theorem dJ13_equals_18 : decode cJ13_equals 18 = .ok (.astore_n 2, 1) := dk_77 (dk_at dksJ13_equals_0 18 rfl rfl)
theorem dJ13_equals_19 : decode cJ13_equals 19 = .ok (.getstatic 38, 3) := dk_178 0 38 (dk_at dksJ13_equals_0 19 rfl rfl)
theorem dJ13_equals_22 : decode cJ13_equals 22 = .ok (.ifCond .eq 14, 3) := dk_153 0 14 (dk_at dksJ13_equals_1 0 rfl rfl)
theorem dJ13_equals_25 : decode cJ13_equals 25 = .ok (.aload_n 0, 1) := dk_42 (dk_at dksJ13_equals_1 3 rfl rfl)
theorem dJ13_equals_26 : decode cJ13_equals 26 = .ok (.getfield 15, 3) := dk_180 0 15 (dk_at dksJ13_equals_1 4 rfl rfl)
theorem dJ13_equals_29 : decode cJ13_equals 29 = .ok (.aload_n 2, 1) := dk_44 (dk_at dksJ13_equals_1 7 rfl rfl)
theorem dJ13_equals_30 : decode cJ13_equals 30 = .ok (.getfield 15, 3) := dk_180 0 15 (dk_at dksJ13_equals_1 8 rfl rfl)
theorem dJ13_equals_33 : decode cJ13_equals 33 = .ok (.if_icmp .ne 21, 3) := dk_160 0 21 (dk_at dksJ13_equals_1 11 rfl rfl)
theorem dJ13_equals_36 : decode cJ13_equals 36 = .ok (.aload_n 0, 1) := dk_42 (dk_at dksJ13_equals_1 14 rfl rfl)
theorem dJ13_equals_37 : decode cJ13_equals 37 = .ok (.getfield 9, 3) := dk_180 0 9 (dk_at dksJ13_equals_1 15 rfl rfl)
theorem dJ13_equals_40 : decode cJ13_equals 40 = .ok (.aload_n 2, 1) := dk_44 (dk_at dksJ13_equals_1 18 rfl rfl)
theorem dJ13_equals_41 : decode cJ13_equals 41 = .ok (.getfield 9, 3) := dk_180 0 9 (dk_at dksJ13_equals_1 19 rfl rfl)
theorem dJ13_equals_44 : decode cJ13_equals 44 = .ok (.invokestatic 541, 3) := dk_184 2 29 (dk_at dksJ13_equals_2 0 rfl rfl)
theorem dJ13_equals_47 : decode cJ13_equals 47 = .ok (.ifCond .eq 7, 3) := dk_153 0 7 (dk_at dksJ13_equals_2 3 rfl rfl)
theorem dJ13_equals_50 : decode cJ13_equals 50 = .ok (.iconst 1, 1) := dk_4 (dk_at dksJ13_equals_2 6 rfl rfl)
theorem dJ13_equals_51 : decode cJ13_equals 51 = .ok (.goto 4, 3) := dk_167 0 4 (dk_at dksJ13_equals_2 7 rfl rfl)
theorem dJ13_equals_54 : decode cJ13_equals 54 = .ok (.iconst 0, 1) := dk_3 (dk_at dksJ13_equals_2 10 rfl rfl)
theorem dJ13_equals_55 : decode cJ13_equals 55 = .ok (.ireturn, 1) := dk_172 (dk_at dksJ13_equals_2 11 rfl rfl)
abbrev cJ13_checkIndex : ByteArray := prog_37_method_155_code
def yJ13_checkIndex : MethodName := ⟨RJ13, "checkIndex", "(II)V"⟩
def dkwJ13_checkIndex_0 : List UInt8 := [26, 27, 178, 4, 29, 184, 4, 35, 87, 177]
abbrev dktJ13_checkIndex_0 : List UInt8 := dkwJ13_checkIndex_0 ++ []
theorem dksJ13_checkIndex_0 : cJ13_checkIndex.data.toList.drop 0 = dktJ13_checkIndex_0 := by decide +kernel
theorem dJ13_checkIndex_0 : decode cJ13_checkIndex 0 = .ok (.iload_n 0, 1) := dk_26 (dk_at dksJ13_checkIndex_0 0 rfl rfl)
theorem dJ13_checkIndex_1 : decode cJ13_checkIndex 1 = .ok (.iload_n 1, 1) := dk_27 (dk_at dksJ13_checkIndex_0 1 rfl rfl)
theorem dJ13_checkIndex_2 : decode cJ13_checkIndex 2 = .ok (.getstatic 1053, 3) := dk_178 4 29 (dk_at dksJ13_checkIndex_0 2 rfl rfl)
theorem dJ13_checkIndex_5 : decode cJ13_checkIndex 5 = .ok (.invokestatic 1059, 3) := dk_184 4 35 (dk_at dksJ13_checkIndex_0 5 rfl rfl)
theorem dJ13_checkIndex_8 : decode cJ13_checkIndex 8 = .ok (.pop, 1) := dk_87 (dk_at dksJ13_checkIndex_0 8 rfl rfl)
theorem dJ13_checkIndex_9 : decode cJ13_checkIndex 9 = .ok (.return_, 1) := dk_177 (dk_at dksJ13_checkIndex_0 9 rfl rfl)
abbrev cJ13_charAt : ByteArray := prog_37_method_56_code
def yJ13_charAt : MethodName := ⟨RJ13, "charAt", "(I)C"⟩
def dkwJ13_charAt_1 : List UInt8 := [172]
abbrev dktJ13_charAt_1 : List UInt8 := dkwJ13_charAt_1 ++ []
def dkwJ13_charAt_0 : List UInt8 := [42, 182, 1, 236, 153, 0, 12, 42, 180, 0, 9, 27, 184, 1, 239, 172, 42, 180, 0, 9, 27, 184, 1, 242]
abbrev dktJ13_charAt_0 : List UInt8 := dkwJ13_charAt_0 ++ dktJ13_charAt_1
theorem dksJ13_charAt_0 : cJ13_charAt.data.toList.drop 0 = dktJ13_charAt_0 := by decide +kernel
theorem dksJ13_charAt_1 : cJ13_charAt.data.toList.drop 24 = dktJ13_charAt_1 := dk_seg dksJ13_charAt_0 24 rfl rfl
theorem dJ13_charAt_0 : decode cJ13_charAt 0 = .ok (.aload_n 0, 1) := dk_42 (dk_at dksJ13_charAt_0 0 rfl rfl)
theorem dJ13_charAt_1 : decode cJ13_charAt 1 = .ok (.invokevirtual 492, 3) := dk_182 1 236 (dk_at dksJ13_charAt_0 1 rfl rfl)
theorem dJ13_charAt_4 : decode cJ13_charAt 4 = .ok (.ifCond .eq 12, 3) := dk_153 0 12 (dk_at dksJ13_charAt_0 4 rfl rfl)
theorem dJ13_charAt_7 : decode cJ13_charAt 7 = .ok (.aload_n 0, 1) := dk_42 (dk_at dksJ13_charAt_0 7 rfl rfl)
theorem dJ13_charAt_8 : decode cJ13_charAt 8 = .ok (.getfield 9, 3) := dk_180 0 9 (dk_at dksJ13_charAt_0 8 rfl rfl)
theorem dJ13_charAt_11 : decode cJ13_charAt 11 = .ok (.iload_n 1, 1) := dk_27 (dk_at dksJ13_charAt_0 11 rfl rfl)
theorem dJ13_charAt_12 : decode cJ13_charAt 12 = .ok (.invokestatic 495, 3) := dk_184 1 239 (dk_at dksJ13_charAt_0 12 rfl rfl)
theorem dJ13_charAt_15 : decode cJ13_charAt 15 = .ok (.ireturn, 1) := dk_172 (dk_at dksJ13_charAt_0 15 rfl rfl)
theorem dJ13_charAt_16 : decode cJ13_charAt 16 = .ok (.aload_n 0, 1) := dk_42 (dk_at dksJ13_charAt_0 16 rfl rfl)
theorem dJ13_charAt_17 : decode cJ13_charAt 17 = .ok (.getfield 9, 3) := dk_180 0 9 (dk_at dksJ13_charAt_0 17 rfl rfl)
theorem dJ13_charAt_20 : decode cJ13_charAt 20 = .ok (.iload_n 1, 1) := dk_27 (dk_at dksJ13_charAt_0 20 rfl rfl)
theorem dJ13_charAt_21 : decode cJ13_charAt 21 = .ok (.invokestatic 498, 3) := dk_184 1 242 (dk_at dksJ13_charAt_0 21 rfl rfl)
theorem dJ13_charAt_24 : decode cJ13_charAt 24 = .ok (.ireturn, 1) := dk_172 (dk_at dksJ13_charAt_1 0 rfl rfl)
theorem q171 : (Jvm.Cond.initialized "java/lang/String") ∈ lw_all := lw_g (lw_at lw_m1 20 rfl) rfl
theorem q512 : (Jvm.Cond.selects "java/lang/String" ({ cls := "java/lang/Object", name := "getClass", desc := "()Ljava/lang/Class;" } : Jvm.MethodName) ({ cls := "java/lang/Object", name := "getClass", desc := "()Ljava/lang/Class;" } : Jvm.MethodName)) ∈ lw_all := lw_g (lw_at lw_m2 121 rfl) rfl
theorem q593 : (Jvm.Cond.selects "java/lang/String" ({ cls := "java/lang/Object", name := "hashCode", desc := "()I" } : Jvm.MethodName) ({ cls := "java/lang/String", name := "hashCode", desc := "()I" } : Jvm.MethodName)) ∈ lw_all := lw_g (lw_at lw_m2 202 rfl) rfl
theorem q594 : (Jvm.Cond.instanceMethod ({ cls := "java/lang/String", name := "hashCode", desc := "()I" } : Jvm.MethodName)) ∈ lw_all := lw_g (lw_at lw_m2 203 rfl) rfl
theorem q595 : (Jvm.Cond.code ({ cls := "java/lang/String", name := "hashCode", desc := "()I" } : Jvm.MethodName) prog_37_method_78_code (2 : Nat) (Option.some Jvm.ClassFile.FieldType.int)) ∈ lw_all := lw_g (lw_at lw_m2 204 rfl) rfl
theorem q596 : (Jvm.Cond.methodLink "java/lang/String" (492 : Nat) ({ cls := "java/lang/String", name := "isLatin1", desc := "()Z" } : Jvm.MethodName)) ∈ lw_all := lw_g (lw_at lw_m2 205 rfl) rfl
theorem q597 : (Jvm.Cond.instanceMethod ({ cls := "java/lang/String", name := "isLatin1", desc := "()Z" } : Jvm.MethodName)) ∈ lw_all := lw_g (lw_at lw_m2 206 rfl) rfl
theorem q598 : (Jvm.Cond.selects "java/lang/String" ({ cls := "java/lang/String", name := "isLatin1", desc := "()Z" } : Jvm.MethodName) ({ cls := "java/lang/String", name := "isLatin1", desc := "()Z" } : Jvm.MethodName)) ∈ lw_all := lw_g (lw_at lw_m2 207 rfl) rfl
theorem q599 : (Jvm.Cond.code ({ cls := "java/lang/String", name := "isLatin1", desc := "()Z" } : Jvm.MethodName) prog_37_method_154_code (1 : Nat) (Option.some Jvm.ClassFile.FieldType.boolean)) ∈ lw_all := lw_g (lw_at lw_m2 208 rfl) rfl
theorem q600 : (Jvm.Cond.fieldLink "java/lang/String" (38 : Nat) "java/lang/String" "COMPACT_STRINGS" "Z") ∈ lw_all := lw_g (lw_at lw_m2 209 rfl) rfl
theorem q601 : (Jvm.Cond.laysStatic "java/lang/String" "COMPACT_STRINGS" "Z") ∈ lw_tbl := lw_at lw_m2 210 rfl
theorem q602 : (Jvm.Cond.methodLink "java/lang/String" (628 : Nat) ({ cls := "java/lang/StringLatin1", name := "hashCode", desc := "([B)I" } : Jvm.MethodName)) ∈ lw_all := lw_g (lw_at lw_m2 211 rfl) rfl
theorem q734 : (Jvm.Cond.fieldLink "java/lang/String" (1048 : Nat) "java/lang/AbstractStringBuilder" "maybeLatin1" "Z") ∈ lw_all := lw_g (lw_at lw_m3 103 rfl) rfl
theorem q789 : (Jvm.Cond.static ({ cls := "java/lang/String", name := "checkBoundsBeginEnd", desc := "(III)V" } : Jvm.MethodName)) ∈ lw_all := lw_g (lw_at lw_m3 158 rfl) rfl
theorem q790 : (Jvm.Cond.code ({ cls := "java/lang/String", name := "checkBoundsBeginEnd", desc := "(III)V" } : Jvm.MethodName) prog_37_method_158_code (3 : Nat) (Option.none : Option Jvm.ClassFile.FieldType)) ∈ lw_all := lw_g (lw_at lw_m3 159 rfl) rfl
theorem q791 : (Jvm.Cond.fieldLink "java/lang/String" (1053 : Nat) "jdk/internal/util/Preconditions" "SIOOBE_FORMATTER" "Ljava/util/function/BiFunction;") ∈ lw_all := lw_g (lw_at lw_m3 160 rfl) rfl
theorem q793 : (Jvm.Cond.methodLink "java/lang/String" (1062 : Nat) ({ cls := "jdk/internal/util/Preconditions", name := "checkFromToIndex", desc := "(IIILjava/util/function/BiFunction;)I" } : Jvm.MethodName)) ∈ lw_all := lw_g (lw_at lw_m3 162 rfl) rfl
theorem q800 : (Jvm.Cond.instanceMethod ({ cls := "java/lang/String", name := "length", desc := "()I" } : Jvm.MethodName)) ∈ lw_all := lw_g (lw_at lw_m3 169 rfl) rfl
theorem q801 : (Jvm.Cond.selects "java/lang/String" ({ cls := "java/lang/String", name := "length", desc := "()I" } : Jvm.MethodName) ({ cls := "java/lang/String", name := "length", desc := "()I" } : Jvm.MethodName)) ∈ lw_all := lw_g (lw_at lw_m3 170 rfl) rfl
theorem q802 : (Jvm.Cond.code ({ cls := "java/lang/String", name := "length", desc := "()I" } : Jvm.MethodName) prog_37_method_54_code (1 : Nat) (Option.some Jvm.ClassFile.FieldType.int)) ∈ lw_all := lw_g (lw_at lw_m3 171 rfl) rfl
theorem q803 : (Jvm.Cond.methodLink "java/lang/String" (335 : Nat) ({ cls := "java/lang/String", name := "coder", desc := "()B" } : Jvm.MethodName)) ∈ lw_all := lw_g (lw_at lw_m3 172 rfl) rfl
theorem q804 : (Jvm.Cond.instanceMethod ({ cls := "java/lang/String", name := "coder", desc := "()B" } : Jvm.MethodName)) ∈ lw_all := lw_g (lw_at lw_m3 173 rfl) rfl
theorem q805 : (Jvm.Cond.selects "java/lang/String" ({ cls := "java/lang/String", name := "coder", desc := "()B" } : Jvm.MethodName) ({ cls := "java/lang/String", name := "coder", desc := "()B" } : Jvm.MethodName)) ∈ lw_all := lw_g (lw_at lw_m3 174 rfl) rfl
theorem q806 : (Jvm.Cond.code ({ cls := "java/lang/String", name := "coder", desc := "()B" } : Jvm.MethodName) prog_37_method_152_code (1 : Nat) (Option.some Jvm.ClassFile.FieldType.byte)) ∈ lw_all := lw_g (lw_at lw_m3 175 rfl) rfl
theorem q830 : (Jvm.Cond.static ({ cls := "java/lang/String", name := "checkBoundsOffCount", desc := "(III)I" } : Jvm.MethodName)) ∈ lw_all := lw_g (lw_at lw_m3 199 rfl) rfl
theorem q831 : (Jvm.Cond.code ({ cls := "java/lang/String", name := "checkBoundsOffCount", desc := "(III)I" } : Jvm.MethodName) prog_37_method_157_code (3 : Nat) (Option.some Jvm.ClassFile.FieldType.int)) ∈ lw_all := lw_g (lw_at lw_m3 200 rfl) rfl
theorem q832 : (Jvm.Cond.methodLink "java/lang/String" (1065 : Nat) ({ cls := "jdk/internal/util/Preconditions", name := "checkFromIndexSize", desc := "(IIILjava/util/function/BiFunction;)I" } : Jvm.MethodName)) ∈ lw_all := lw_g (lw_at lw_m3 201 rfl) rfl
theorem q836 : (Jvm.Cond.instanceMethod ({ cls := "java/lang/String", name := "getBytes", desc := "([BIB)V" } : Jvm.MethodName)) ∈ lw_all := lw_g (lw_at lw_m3 205 rfl) rfl
theorem q837 : (Jvm.Cond.selects "java/lang/String" ({ cls := "java/lang/String", name := "getBytes", desc := "([BIB)V" } : Jvm.MethodName) ({ cls := "java/lang/String", name := "getBytes", desc := "([BIB)V" } : Jvm.MethodName)) ∈ lw_all := lw_g (lw_at lw_m3 206 rfl) rfl
theorem q838 : (Jvm.Cond.code ({ cls := "java/lang/String", name := "getBytes", desc := "([BIB)V" } : Jvm.MethodName) prog_37_method_147_code (4 : Nat) (Option.none : Option Jvm.ClassFile.FieldType)) ∈ lw_all := lw_g (lw_at lw_m3 207 rfl) rfl
theorem q839 : (Jvm.Cond.methodLink "java/lang/String" (212 : Nat) ({ cls := "java/lang/System", name := "arraycopy", desc := "(Ljava/lang/Object;ILjava/lang/Object;II)V" } : Jvm.MethodName)) ∈ lw_all := lw_g (lw_at lw_m3 208 rfl) rfl
theorem q840 : (Jvm.Cond.methodLink "java/lang/String" (106 : Nat) ({ cls := "java/lang/StringLatin1", name := "inflate", desc := "([BI[BII)V" } : Jvm.MethodName)) ∈ lw_all := lw_g (lw_at lw_m3 209 rfl) rfl
theorem q871 : (Jvm.Cond.instantiable "java/lang/String" (4 : Nat)) ∈ lw_all := lw_g (lw_at lw_m4 0 rfl) rfl
theorem q873 : (Jvm.Cond.instanceMethod ({ cls := "java/lang/String", name := "<init>", desc := "(Ljava/lang/StringBuilder;)V" } : Jvm.MethodName)) ∈ lw_all := lw_g (lw_at lw_m4 2 rfl) rfl
theorem q874 : (Jvm.Cond.code ({ cls := "java/lang/String", name := "<init>", desc := "(Ljava/lang/StringBuilder;)V" } : Jvm.MethodName) prog_37_method_53_code (2 : Nat) (Option.none : Option Jvm.ClassFile.FieldType)) ∈ lw_all := lw_g (lw_at lw_m4 3 rfl) rfl
theorem q875 : (Jvm.Cond.methodLink "java/lang/String" (489 : Nat) ({ cls := "java/lang/String", name := "<init>", desc := "(Ljava/lang/AbstractStringBuilder;Ljava/lang/Void;)V" } : Jvm.MethodName)) ∈ lw_all := lw_g (lw_at lw_m4 4 rfl) rfl
theorem q876 : (Jvm.Cond.instanceMethod ({ cls := "java/lang/String", name := "<init>", desc := "(Ljava/lang/AbstractStringBuilder;Ljava/lang/Void;)V" } : Jvm.MethodName)) ∈ lw_all := lw_g (lw_at lw_m4 5 rfl) rfl
theorem q877 : (Jvm.Cond.code ({ cls := "java/lang/String", name := "<init>", desc := "(Ljava/lang/AbstractStringBuilder;Ljava/lang/Void;)V" } : Jvm.MethodName) prog_37_method_150_code (5 : Nat) (Option.none : Option Jvm.ClassFile.FieldType)) ∈ lw_all := lw_g (lw_at lw_m4 6 rfl) rfl
theorem q878 : (Jvm.Cond.methodLink "java/lang/String" (1 : Nat) ({ cls := "java/lang/Object", name := "<init>", desc := "()V" } : Jvm.MethodName)) ∈ lw_all := lw_g (lw_at lw_m4 7 rfl) rfl
theorem q879 : (Jvm.Cond.methodLink "java/lang/String" (552 : Nat) ({ cls := "java/lang/AbstractStringBuilder", name := "getValue", desc := "()[B" } : Jvm.MethodName)) ∈ lw_all := lw_g (lw_at lw_m4 8 rfl) rfl
theorem q884 : (Jvm.Cond.methodLink "java/lang/String" (549 : Nat) ({ cls := "java/lang/AbstractStringBuilder", name := "length", desc := "()I" } : Jvm.MethodName)) ∈ lw_all := lw_g (lw_at lw_m4 13 rfl) rfl
theorem q892 : (Jvm.Cond.methodLink "java/lang/String" (1047 : Nat) ({ cls := "java/lang/AbstractStringBuilder", name := "isLatin1", desc := "()Z" } : Jvm.MethodName)) ∈ lw_all := lw_g (lw_at lw_m4 21 rfl) rfl
theorem q893 : (Jvm.Cond.methodLink "java/lang/String" (54 : Nat) ({ cls := "java/util/Arrays", name := "copyOfRange", desc := "([BII)[B" } : Jvm.MethodName)) ∈ lw_all := lw_g (lw_at lw_m4 22 rfl) rfl
theorem q934 : (Jvm.Cond.methodLink "java/lang/String" (1051 : Nat) ({ cls := "java/lang/StringUTF16", name := "compress", desc := "([BII)[B" } : Jvm.MethodName)) ∈ lw_all := lw_g (lw_at lw_m4 63 rfl) rfl
theorem q942 : (Jvm.Cond.methodLink "java/lang/String" (47 : Nat) ({ cls := "java/lang/StringUTF16", name := "coderFromArrayLen", desc := "([BI)B" } : Jvm.MethodName)) ∈ lw_all := lw_g (lw_at lw_m4 71 rfl) rfl
theorem q945 : (Jvm.Cond.fieldLink "java/lang/String" (9 : Nat) "java/lang/String" "value" "[B") ∈ lw_all := lw_g (lw_at lw_m4 74 rfl) rfl
theorem q946 : (Jvm.Cond.fieldLink "java/lang/String" (15 : Nat) "java/lang/String" "coder" "B") ∈ lw_all := lw_g (lw_at lw_m4 75 rfl) rfl
theorem q947 : (Jvm.Cond.fieldLink "java/lang/String" (19 : Nat) "java/lang/String" "hash" "I") ∈ lw_all := lw_g (lw_at lw_m4 76 rfl) rfl
theorem q948 : (Jvm.Cond.fieldLink "java/lang/String" (23 : Nat) "java/lang/String" "hashIsZero" "Z") ∈ lw_all := lw_g (lw_at lw_m4 77 rfl) rfl
theorem q949 : (Jvm.Cond.laysFinal "java/lang/String" "java/lang/String" "value" "[B") ∈ lw_all := lw_g (lw_at lw_m4 78 rfl) rfl
theorem q950 : (Jvm.Cond.soleField "java/lang/String" "value") ∈ lw_all := lw_g (lw_at lw_m4 79 rfl) rfl
theorem q951 : (Jvm.Cond.laysFinal "java/lang/String" "java/lang/String" "coder" "B") ∈ lw_all := lw_g (lw_at lw_m4 80 rfl) rfl
theorem q952 : (Jvm.Cond.soleField "java/lang/String" "coder") ∈ lw_all := lw_g (lw_at lw_m4 81 rfl) rfl
theorem q953 : (Jvm.Cond.lays "java/lang/String" "java/lang/String" "hash" "I") ∈ lw_all := lw_g (lw_at lw_m4 82 rfl) rfl
theorem q954 : (Jvm.Cond.soleField "java/lang/String" "hash") ∈ lw_all := lw_g (lw_at lw_m4 83 rfl) rfl
theorem q955 : (Jvm.Cond.lays "java/lang/String" "java/lang/String" "hashIsZero" "Z") ∈ lw_all := lw_g (lw_at lw_m4 84 rfl) rfl
theorem q956 : (Jvm.Cond.soleField "java/lang/String" "hashIsZero") ∈ lw_all := lw_g (lw_at lw_m4 85 rfl) rfl
theorem q957 : (Jvm.Cond.superclass "java/lang/String" "java/lang/Object") ∈ lw_all := lw_g (lw_at lw_m4 86 rfl) rfl
theorem q959 : (Jvm.Cond.methodLink "java/lang/String" (632 : Nat) ({ cls := "java/lang/StringUTF16", name := "hashCode", desc := "([B)I" } : Jvm.MethodName)) ∈ lw_all := lw_g (lw_at lw_m4 88 rfl) rfl
theorem q1090 : (Jvm.Cond.castable "java/lang/String" "java/lang/Comparable") ∈ lw_tbl := lw_at lw_m4 219 rfl
theorem q1091 : (Jvm.Cond.selects "java/lang/String" ({ cls := "java/lang/Comparable", name := "compareTo", desc := "(Ljava/lang/Object;)I" } : Jvm.MethodName) ({ cls := "java/lang/String", name := "compareTo", desc := "(Ljava/lang/Object;)I" } : Jvm.MethodName)) ∈ lw_all := lw_g (lw_at lw_m4 220 rfl) rfl
theorem q1092 : (Jvm.Cond.unhidden "java/lang/String" "compareTo" "(Ljava/lang/Object;)I") ∈ lw_tbl := lw_at lw_m4 221 rfl
theorem q1093 : (Jvm.Cond.instanceMethod ({ cls := "java/lang/String", name := "compareTo", desc := "(Ljava/lang/Object;)I" } : Jvm.MethodName)) ∈ lw_all := lw_g (lw_at lw_m4 222 rfl) rfl
theorem q1094 : (Jvm.Cond.publicMethod ({ cls := "java/lang/String", name := "compareTo", desc := "(Ljava/lang/Object;)I" } : Jvm.MethodName)) ∈ lw_tbl := lw_at lw_m4 223 rfl
theorem q1095 : (Jvm.Cond.code ({ cls := "java/lang/String", name := "compareTo", desc := "(Ljava/lang/Object;)I" } : Jvm.MethodName) prog_37_method_162_code (2 : Nat) (Option.some Jvm.ClassFile.FieldType.int)) ∈ lw_all := lw_g (lw_at lw_m4 224 rfl) rfl
theorem q1096 : (Jvm.Cond.classLink "java/lang/String" (10 : Nat) "java/lang/String") ∈ lw_all := lw_g (lw_at lw_m4 225 rfl) rfl
theorem q1097 : (Jvm.Cond.methodLink "java/lang/String" (1084 : Nat) ({ cls := "java/lang/String", name := "compareTo", desc := "(Ljava/lang/String;)I" } : Jvm.MethodName)) ∈ lw_all := lw_g (lw_at lw_m4 226 rfl) rfl
theorem q1098 : (Jvm.Cond.instanceMethod ({ cls := "java/lang/String", name := "compareTo", desc := "(Ljava/lang/String;)I" } : Jvm.MethodName)) ∈ lw_all := lw_g (lw_at lw_m4 227 rfl) rfl
theorem q1099 : (Jvm.Cond.selects "java/lang/String" ({ cls := "java/lang/String", name := "compareTo", desc := "(Ljava/lang/String;)I" } : Jvm.MethodName) ({ cls := "java/lang/String", name := "compareTo", desc := "(Ljava/lang/String;)I" } : Jvm.MethodName)) ∈ lw_all := lw_g (lw_at lw_m4 228 rfl) rfl
theorem q1100 : (Jvm.Cond.code ({ cls := "java/lang/String", name := "compareTo", desc := "(Ljava/lang/String;)I" } : Jvm.MethodName) prog_37_method_71_code (5 : Nat) (Option.some Jvm.ClassFile.FieldType.int)) ∈ lw_all := lw_g (lw_at lw_m4 229 rfl) rfl
theorem q1101 : (Jvm.Cond.methodLink "java/lang/String" (586 : Nat) ({ cls := "java/lang/StringLatin1", name := "compareTo", desc := "([B[B)I" } : Jvm.MethodName)) ∈ lw_all := lw_g (lw_at lw_m4 230 rfl) rfl
theorem q1215 : (Jvm.Cond.methodLink "java/lang/String" (590 : Nat) ({ cls := "java/lang/StringUTF16", name := "compareTo", desc := "([B[B)I" } : Jvm.MethodName)) ∈ lw_all := lw_g (lw_at lw_m5 104 rfl) rfl
theorem q1222 : (Jvm.Cond.methodLink "java/lang/String" (591 : Nat) ({ cls := "java/lang/StringLatin1", name := "compareToUTF16", desc := "([B[B)I" } : Jvm.MethodName)) ∈ lw_all := lw_g (lw_at lw_m5 111 rfl) rfl
theorem q1233 : (Jvm.Cond.methodLink "java/lang/String" (594 : Nat) ({ cls := "java/lang/StringUTF16", name := "compareToLatin1", desc := "([B[B)I" } : Jvm.MethodName)) ∈ lw_all := lw_g (lw_at lw_m5 122 rfl) rfl
theorem q1259 : (Jvm.Cond.static ({ cls := "java/lang/String", name := "checkOffset", desc := "(II)V" } : Jvm.MethodName)) ∈ lw_all := lw_g (lw_at lw_m5 148 rfl) rfl
theorem q1260 : (Jvm.Cond.code ({ cls := "java/lang/String", name := "checkOffset", desc := "(II)V" } : Jvm.MethodName) prog_37_method_156_code (2 : Nat) (Option.none : Option Jvm.ClassFile.FieldType)) ∈ lw_all := lw_g (lw_at lw_m5 149 rfl) rfl
theorem q1329 : (Jvm.Cond.selects "java/lang/String" ({ cls := "java/lang/Object", name := "equals", desc := "(Ljava/lang/Object;)Z" } : Jvm.MethodName) ({ cls := "java/lang/String", name := "equals", desc := "(Ljava/lang/Object;)Z" } : Jvm.MethodName)) ∈ lw_all := lw_g (lw_at lw_m5 218 rfl) rfl
theorem q1330 : (Jvm.Cond.instanceMethod ({ cls := "java/lang/String", name := "equals", desc := "(Ljava/lang/Object;)Z" } : Jvm.MethodName)) ∈ lw_all := lw_g (lw_at lw_m5 219 rfl) rfl
theorem q1331 : (Jvm.Cond.code ({ cls := "java/lang/String", name := "equals", desc := "(Ljava/lang/Object;)Z" } : Jvm.MethodName) prog_37_method_66_code (3 : Nat) (Option.some Jvm.ClassFile.FieldType.boolean)) ∈ lw_all := lw_g (lw_at lw_m5 220 rfl) rfl
theorem q1332 : (Jvm.Cond.methodLink "java/lang/String" (541 : Nat) ({ cls := "java/lang/StringLatin1", name := "equals", desc := "([B[B)Z" } : Jvm.MethodName)) ∈ lw_all := lw_g (lw_at lw_m5 221 rfl) rfl
theorem q1551 : (Jvm.Cond.static ({ cls := "java/lang/String", name := "checkIndex", desc := "(II)V" } : Jvm.MethodName)) ∈ lw_all := lw_g (lw_at lw_m6 200 rfl) rfl
theorem q1552 : (Jvm.Cond.code ({ cls := "java/lang/String", name := "checkIndex", desc := "(II)V" } : Jvm.MethodName) prog_37_method_155_code (2 : Nat) (Option.none : Option Jvm.ClassFile.FieldType)) ∈ lw_all := lw_g (lw_at lw_m6 201 rfl) rfl
theorem q1553 : (Jvm.Cond.methodLink "java/lang/String" (1059 : Nat) ({ cls := "jdk/internal/util/Preconditions", name := "checkIndex", desc := "(IILjava/util/function/BiFunction;)I" } : Jvm.MethodName)) ∈ lw_all := lw_g (lw_at lw_m6 202 rfl) rfl
theorem q2428 : (Jvm.Cond.instanceMethod ({ cls := "java/lang/String", name := "charAt", desc := "(I)C" } : Jvm.MethodName)) ∈ lw_all := lw_g (lw_at lw_m10 117 rfl) rfl
theorem q2429 : (Jvm.Cond.selects "java/lang/String" ({ cls := "java/lang/String", name := "charAt", desc := "(I)C" } : Jvm.MethodName) ({ cls := "java/lang/String", name := "charAt", desc := "(I)C" } : Jvm.MethodName)) ∈ lw_all := lw_g (lw_at lw_m10 118 rfl) rfl
theorem q2430 : (Jvm.Cond.code ({ cls := "java/lang/String", name := "charAt", desc := "(I)C" } : Jvm.MethodName) prog_37_method_56_code (2 : Nat) (Option.some Jvm.ClassFile.FieldType.char)) ∈ lw_all := lw_g (lw_at lw_m10 119 rfl) rfl
theorem q2431 : (Jvm.Cond.methodLink "java/lang/String" (495 : Nat) ({ cls := "java/lang/StringLatin1", name := "charAt", desc := "([BI)C" } : Jvm.MethodName)) ∈ lw_all := lw_g (lw_at lw_m10 120 rfl) rfl
theorem q2435 : (Jvm.Cond.methodLink "java/lang/String" (498 : Nat) ({ cls := "java/lang/StringUTF16", name := "charAt", desc := "([BI)C" } : Jvm.MethodName)) ∈ lw_all := lw_g (lw_at lw_m10 124 rfl) rfl
theorem q3500 : (Jvm.Cond.selects "java/lang/String" ({ cls := "java/lang/String", name := "equals", desc := "(Ljava/lang/Object;)Z" } : Jvm.MethodName) ({ cls := "java/lang/String", name := "equals", desc := "(Ljava/lang/Object;)Z" } : Jvm.MethodName)) ∈ lw_all := lw_g (lw_at lw_m14 229 rfl) rfl
theorem q3501 : (Jvm.Cond.selects "java/lang/String" ({ cls := "java/lang/String", name := "hashCode", desc := "()I" } : Jvm.MethodName) ({ cls := "java/lang/String", name := "hashCode", desc := "()I" } : Jvm.MethodName)) ∈ lw_all := lw_g (lw_at lw_m14 230 rfl) rfl
theorem q3527 : (Jvm.Cond.castable "java/lang/String" "java/lang/Object") ∈ lw_tbl := lw_at lw_m15 16 rfl
theorem in_J13 : ∀ w ∈ wsJ130, w ∈ lw_all := lw_in wsJ130 [949, 951, 953, 955] (by decide +kernel) (by decide +kernel)
/-! java/lang/StringLatin1 -/
set_option maxRecDepth 100000
def RJ14 : String := "java/lang/StringLatin1"
abbrev cJ14_hashCode : ByteArray := prog_39_method_21_code
def yJ14_hashCode : MethodName := ⟨RJ14, "hashCode", "([B)I"⟩
def dkwJ14_hashCode_2 : List UInt8 := [3, 167, 0, 22, 42, 3, 51, 17, 0, 255, 126, 167, 0, 12, 42, 3, 42, 190, 3, 7, 184, 0, 84, 172]
abbrev dktJ14_hashCode_2 : List UInt8 := dkwJ14_hashCode_2 ++ []
def dkwJ14_hashCode_1 : List UInt8 := [171, 0, 0, 0, 0, 40, 0, 0, 0, 2, 0, 0, 0, 0, 0, 0, 0, 26, 0, 0, 0, 1, 0, 0, 0, 30]
abbrev dktJ14_hashCode_1 : List UInt8 := dkwJ14_hashCode_1 ++ dktJ14_hashCode_2
def dkwJ14_hashCode_0 : List UInt8 := [42, 190]
abbrev dktJ14_hashCode_0 : List UInt8 := dkwJ14_hashCode_0 ++ dktJ14_hashCode_1
theorem dksJ14_hashCode_0 : cJ14_hashCode.data.toList.drop 0 = dktJ14_hashCode_0 := by decide +kernel
theorem dksJ14_hashCode_1 : cJ14_hashCode.data.toList.drop 2 = dktJ14_hashCode_1 := dk_seg dksJ14_hashCode_0 2 rfl rfl
theorem dksJ14_hashCode_2 : cJ14_hashCode.data.toList.drop 28 = dktJ14_hashCode_2 := dk_seg dksJ14_hashCode_1 26 rfl rfl
theorem dJ14_hashCode_0 : decode cJ14_hashCode 0 = .ok (.aload_n 0, 1) := dk_42 (dk_at dksJ14_hashCode_0 0 rfl rfl)
theorem dJ14_hashCode_1 : decode cJ14_hashCode 1 = .ok (.arraylength, 1) := dk_190 (dk_at dksJ14_hashCode_0 1 rfl rfl)
theorem dJ14_hashCode_2 : decode cJ14_hashCode 2 = .ok (.lookupswitch 40 #[(0, 26), (1, 30)], 26) := by decide +kernel
theorem dJ14_hashCode_28 : decode cJ14_hashCode 28 = .ok (.iconst 0, 1) := dk_3 (dk_at dksJ14_hashCode_2 0 rfl rfl)
theorem dJ14_hashCode_29 : decode cJ14_hashCode 29 = .ok (.goto 22, 3) := dk_167 0 22 (dk_at dksJ14_hashCode_2 1 rfl rfl)
theorem dJ14_hashCode_32 : decode cJ14_hashCode 32 = .ok (.aload_n 0, 1) := dk_42 (dk_at dksJ14_hashCode_2 4 rfl rfl)
theorem dJ14_hashCode_33 : decode cJ14_hashCode 33 = .ok (.iconst 0, 1) := dk_3 (dk_at dksJ14_hashCode_2 5 rfl rfl)
theorem dJ14_hashCode_34 : decode cJ14_hashCode 34 = .ok (.baload, 1) := dk_51 (dk_at dksJ14_hashCode_2 6 rfl rfl)
theorem dJ14_hashCode_35 : decode cJ14_hashCode 35 = .ok (.sipush 255, 3) := dk_17 0 255 (dk_at dksJ14_hashCode_2 7 rfl rfl)
theorem dJ14_hashCode_38 : decode cJ14_hashCode 38 = .ok (.iand, 1) := dk_126 (dk_at dksJ14_hashCode_2 10 rfl rfl)
theorem dJ14_hashCode_39 : decode cJ14_hashCode 39 = .ok (.goto 12, 3) := dk_167 0 12 (dk_at dksJ14_hashCode_2 11 rfl rfl)
theorem dJ14_hashCode_42 : decode cJ14_hashCode 42 = .ok (.aload_n 0, 1) := dk_42 (dk_at dksJ14_hashCode_2 14 rfl rfl)
theorem dJ14_hashCode_43 : decode cJ14_hashCode 43 = .ok (.iconst 0, 1) := dk_3 (dk_at dksJ14_hashCode_2 15 rfl rfl)
theorem dJ14_hashCode_44 : decode cJ14_hashCode 44 = .ok (.aload_n 0, 1) := dk_42 (dk_at dksJ14_hashCode_2 16 rfl rfl)
theorem dJ14_hashCode_45 : decode cJ14_hashCode 45 = .ok (.arraylength, 1) := dk_190 (dk_at dksJ14_hashCode_2 17 rfl rfl)
theorem dJ14_hashCode_46 : decode cJ14_hashCode 46 = .ok (.iconst 0, 1) := dk_3 (dk_at dksJ14_hashCode_2 18 rfl rfl)
theorem dJ14_hashCode_47 : decode cJ14_hashCode 47 = .ok (.iconst 4, 1) := dk_7 (dk_at dksJ14_hashCode_2 19 rfl rfl)
theorem dJ14_hashCode_48 : decode cJ14_hashCode 48 = .ok (.invokestatic 84, 3) := dk_184 0 84 (dk_at dksJ14_hashCode_2 20 rfl rfl)
theorem dJ14_hashCode_51 : decode cJ14_hashCode 51 = .ok (.ireturn, 1) := dk_172 (dk_at dksJ14_hashCode_2 23 rfl rfl)
abbrev cJ14_inflate : ByteArray := prog_39_method_50_code
def yJ14_inflate : MethodName := ⟨RJ14, "inflate", "([BI[BII)V"⟩
def dkwJ14_inflate_0 : List UInt8 := [42, 27, 44, 29, 21, 4, 184, 0, 240, 177]
abbrev dktJ14_inflate_0 : List UInt8 := dkwJ14_inflate_0 ++ []
theorem dksJ14_inflate_0 : cJ14_inflate.data.toList.drop 0 = dktJ14_inflate_0 := by decide +kernel
theorem dJ14_inflate_0 : decode cJ14_inflate 0 = .ok (.aload_n 0, 1) := dk_42 (dk_at dksJ14_inflate_0 0 rfl rfl)
theorem dJ14_inflate_1 : decode cJ14_inflate 1 = .ok (.iload_n 1, 1) := dk_27 (dk_at dksJ14_inflate_0 1 rfl rfl)
theorem dJ14_inflate_2 : decode cJ14_inflate 2 = .ok (.aload_n 2, 1) := dk_44 (dk_at dksJ14_inflate_0 2 rfl rfl)
theorem dJ14_inflate_3 : decode cJ14_inflate 3 = .ok (.iload_n 3, 1) := dk_29 (dk_at dksJ14_inflate_0 3 rfl rfl)
theorem dJ14_inflate_4 : decode cJ14_inflate 4 = .ok (.iload 4, 2) := dk_21 4 (dk_at dksJ14_inflate_0 4 rfl rfl)
theorem dJ14_inflate_6 : decode cJ14_inflate 6 = .ok (.invokestatic 240, 3) := dk_184 0 240 (dk_at dksJ14_inflate_0 6 rfl rfl)
theorem dJ14_inflate_9 : decode cJ14_inflate 9 = .ok (.return_, 1) := dk_177 (dk_at dksJ14_inflate_0 9 rfl rfl)
abbrev cJ14_compareTo : ByteArray := prog_39_method_14_code
def yJ14_compareTo : MethodName := ⟨RJ14, "compareTo", "([B[B)I"⟩
def dkwJ14_compareTo_0 : List UInt8 := [42, 190, 61, 43, 190, 62, 42, 43, 28, 29, 184, 0, 34, 172]
abbrev dktJ14_compareTo_0 : List UInt8 := dkwJ14_compareTo_0 ++ []
theorem dksJ14_compareTo_0 : cJ14_compareTo.data.toList.drop 0 = dktJ14_compareTo_0 := by decide +kernel
theorem dJ14_compareTo_0 : decode cJ14_compareTo 0 = .ok (.aload_n 0, 1) := dk_42 (dk_at dksJ14_compareTo_0 0 rfl rfl)
theorem dJ14_compareTo_1 : decode cJ14_compareTo 1 = .ok (.arraylength, 1) := dk_190 (dk_at dksJ14_compareTo_0 1 rfl rfl)
theorem dJ14_compareTo_2 : decode cJ14_compareTo 2 = .ok (.istore_n 2, 1) := dk_61 (dk_at dksJ14_compareTo_0 2 rfl rfl)
theorem dJ14_compareTo_3 : decode cJ14_compareTo 3 = .ok (.aload_n 1, 1) := dk_43 (dk_at dksJ14_compareTo_0 3 rfl rfl)
theorem dJ14_compareTo_4 : decode cJ14_compareTo 4 = .ok (.arraylength, 1) := dk_190 (dk_at dksJ14_compareTo_0 4 rfl rfl)
theorem dJ14_compareTo_5 : decode cJ14_compareTo 5 = .ok (.istore_n 3, 1) := dk_62 (dk_at dksJ14_compareTo_0 5 rfl rfl)
theorem dJ14_compareTo_6 : decode cJ14_compareTo 6 = .ok (.aload_n 0, 1) := dk_42 (dk_at dksJ14_compareTo_0 6 rfl rfl)
theorem dJ14_compareTo_7 : decode cJ14_compareTo 7 = .ok (.aload_n 1, 1) := dk_43 (dk_at dksJ14_compareTo_0 7 rfl rfl)
theorem dJ14_compareTo_8 : decode cJ14_compareTo 8 = .ok (.iload_n 2, 1) := dk_28 (dk_at dksJ14_compareTo_0 8 rfl rfl)
theorem dJ14_compareTo_9 : decode cJ14_compareTo 9 = .ok (.iload_n 3, 1) := dk_29 (dk_at dksJ14_compareTo_0 9 rfl rfl)
theorem dJ14_compareTo_10 : decode cJ14_compareTo 10 = .ok (.invokestatic 34, 3) := dk_184 0 34 (dk_at dksJ14_compareTo_0 10 rfl rfl)
theorem dJ14_compareTo_13 : decode cJ14_compareTo 13 = .ok (.ireturn, 1) := dk_172 (dk_at dksJ14_compareTo_0 13 rfl rfl)
abbrev cJ14_compareTo_2 : ByteArray := prog_39_method_15_code
def yJ14_compareTo_2 : MethodName := ⟨RJ14, "compareTo", "([B[BII)I"⟩
def dkwJ14_compareTo_2_1 : List UInt8 := [167, 0, 16, 42, 21, 5, 184, 0, 50, 43, 21, 5, 184, 0, 50, 100, 172]
abbrev dktJ14_compareTo_2_1 : List UInt8 := dkwJ14_compareTo_2_1 ++ []
def dkwJ14_compareTo_2_0 : List UInt8 := [28, 29, 184, 0, 38, 54, 4, 42, 43, 21, 4, 184, 0, 44, 54, 5, 21, 5, 156, 0, 9, 28, 29, 100]
abbrev dktJ14_compareTo_2_0 : List UInt8 := dkwJ14_compareTo_2_0 ++ dktJ14_compareTo_2_1
theorem dksJ14_compareTo_2_0 : cJ14_compareTo_2.data.toList.drop 0 = dktJ14_compareTo_2_0 := by decide +kernel
theorem dksJ14_compareTo_2_1 : cJ14_compareTo_2.data.toList.drop 24 = dktJ14_compareTo_2_1 := dk_seg dksJ14_compareTo_2_0 24 rfl rfl
theorem dJ14_compareTo_2_0 : decode cJ14_compareTo_2 0 = .ok (.iload_n 2, 1) := dk_28 (dk_at dksJ14_compareTo_2_0 0 rfl rfl)
theorem dJ14_compareTo_2_1 : decode cJ14_compareTo_2 1 = .ok (.iload_n 3, 1) := dk_29 (dk_at dksJ14_compareTo_2_0 1 rfl rfl)
theorem dJ14_compareTo_2_2 : decode cJ14_compareTo_2 2 = .ok (.invokestatic 38, 3) := dk_184 0 38 (dk_at dksJ14_compareTo_2_0 2 rfl rfl)
theorem dJ14_compareTo_2_5 : decode cJ14_compareTo_2 5 = .ok (.istore 4, 2) := dk_54 4 (dk_at dksJ14_compareTo_2_0 5 rfl rfl)
theorem dJ14_compareTo_2_7 : decode cJ14_compareTo_2 7 = .ok (.aload_n 0, 1) := dk_42 (dk_at dksJ14_compareTo_2_0 7 rfl rfl)
theorem dJ14_compareTo_2_8 : decode cJ14_compareTo_2 8 = .ok (.aload_n 1, 1) := dk_43 (dk_at dksJ14_compareTo_2_0 8 rfl rfl)
theorem dJ14_compareTo_2_9 : decode cJ14_compareTo_2 9 = .ok (.iload 4, 2) := dk_21 4 (dk_at dksJ14_compareTo_2_0 9 rfl rfl)
theorem dJ14_compareTo_2_11 : decode cJ14_compareTo_2 11 = .ok (.invokestatic 44, 3) := dk_184 0 44 (dk_at dksJ14_compareTo_2_0 11 rfl rfl)
theorem dJ14_compareTo_2_14 : decode cJ14_compareTo_2 14 = .ok (.istore 5, 2) := dk_54 5 (dk_at dksJ14_compareTo_2_0 14 rfl rfl)
theorem dJ14_compareTo_2_16 : decode cJ14_compareTo_2 16 = .ok (.iload 5, 2) := dk_21 5 (dk_at dksJ14_compareTo_2_0 16 rfl rfl)
theorem dJ14_compareTo_2_18 : decode cJ14_compareTo_2 18 = .ok (.ifCond .ge 9, 3) := dk_156 0 9 (dk_at dksJ14_compareTo_2_0 18 rfl rfl)
theorem dJ14_compareTo_2_21 : decode cJ14_compareTo_2 21 = .ok (.iload_n 2, 1) := dk_28 (dk_at dksJ14_compareTo_2_0 21 rfl rfl)
theorem dJ14_compareTo_2_22 : decode cJ14_compareTo_2 22 = .ok (.iload_n 3, 1) := dk_29 (dk_at dksJ14_compareTo_2_0 22 rfl rfl)
theorem dJ14_compareTo_2_23 : decode cJ14_compareTo_2 23 = .ok (.isub, 1) := dk_100 (dk_at dksJ14_compareTo_2_0 23 rfl rfl)
theorem dJ14_compareTo_2_24 : decode cJ14_compareTo_2 24 = .ok (.goto 16, 3) := dk_167 0 16 (dk_at dksJ14_compareTo_2_1 0 rfl rfl)
theorem dJ14_compareTo_2_27 : decode cJ14_compareTo_2 27 = .ok (.aload_n 0, 1) := dk_42 (dk_at dksJ14_compareTo_2_1 3 rfl rfl)
theorem dJ14_compareTo_2_28 : decode cJ14_compareTo_2 28 = .ok (.iload 5, 2) := dk_21 5 (dk_at dksJ14_compareTo_2_1 4 rfl rfl)
theorem dJ14_compareTo_2_30 : decode cJ14_compareTo_2 30 = .ok (.invokestatic 50, 3) := dk_184 0 50 (dk_at dksJ14_compareTo_2_1 6 rfl rfl)
theorem dJ14_compareTo_2_33 : decode cJ14_compareTo_2 33 = .ok (.aload_n 1, 1) := dk_43 (dk_at dksJ14_compareTo_2_1 9 rfl rfl)
theorem dJ14_compareTo_2_34 : decode cJ14_compareTo_2 34 = .ok (.iload 5, 2) := dk_21 5 (dk_at dksJ14_compareTo_2_1 10 rfl rfl)
theorem dJ14_compareTo_2_36 : decode cJ14_compareTo_2 36 = .ok (.invokestatic 50, 3) := dk_184 0 50 (dk_at dksJ14_compareTo_2_1 12 rfl rfl)
theorem dJ14_compareTo_2_39 : decode cJ14_compareTo_2 39 = .ok (.isub, 1) := dk_100 (dk_at dksJ14_compareTo_2_1 15 rfl rfl)
theorem dJ14_compareTo_2_40 : decode cJ14_compareTo_2 40 = .ok (.ireturn, 1) := dk_172 (dk_at dksJ14_compareTo_2_1 16 rfl rfl)
abbrev cJ14_getChar : ByteArray := prog_39_method_44_code
def yJ14_getChar : MethodName := ⟨RJ14, "getChar", "([BI)C"⟩
def dkwJ14_getChar_0 : List UInt8 := [42, 27, 51, 17, 0, 255, 126, 146, 172]
abbrev dktJ14_getChar_0 : List UInt8 := dkwJ14_getChar_0 ++ []
theorem dksJ14_getChar_0 : cJ14_getChar.data.toList.drop 0 = dktJ14_getChar_0 := by decide +kernel
theorem dJ14_getChar_0 : decode cJ14_getChar 0 = .ok (.aload_n 0, 1) := dk_42 (dk_at dksJ14_getChar_0 0 rfl rfl)
theorem dJ14_getChar_1 : decode cJ14_getChar 1 = .ok (.iload_n 1, 1) := dk_27 (dk_at dksJ14_getChar_0 1 rfl rfl)
theorem dJ14_getChar_2 : decode cJ14_getChar 2 = .ok (.baload, 1) := dk_51 (dk_at dksJ14_getChar_0 2 rfl rfl)
theorem dJ14_getChar_3 : decode cJ14_getChar 3 = .ok (.sipush 255, 3) := dk_17 0 255 (dk_at dksJ14_getChar_0 3 rfl rfl)
theorem dJ14_getChar_6 : decode cJ14_getChar 6 = .ok (.iand, 1) := dk_126 (dk_at dksJ14_getChar_0 6 rfl rfl)
theorem dJ14_getChar_7 : decode cJ14_getChar 7 = .ok (.i2c, 1) := dk_146 (dk_at dksJ14_getChar_0 7 rfl rfl)
theorem dJ14_getChar_8 : decode cJ14_getChar 8 = .ok (.ireturn, 1) := dk_172 (dk_at dksJ14_getChar_0 8 rfl rfl)
abbrev cJ14_compareToUTF16 : ByteArray := prog_39_method_16_code
def yJ14_compareToUTF16 : MethodName := ⟨RJ14, "compareToUTF16", "([B[B)I"⟩
def dkwJ14_compareToUTF16_0 : List UInt8 := [42, 184, 0, 54, 61, 43, 184, 0, 58, 62, 42, 43, 28, 29, 184, 0, 59, 172]
abbrev dktJ14_compareToUTF16_0 : List UInt8 := dkwJ14_compareToUTF16_0 ++ []
theorem dksJ14_compareToUTF16_0 : cJ14_compareToUTF16.data.toList.drop 0 = dktJ14_compareToUTF16_0 := by decide +kernel
theorem dJ14_compareToUTF16_0 : decode cJ14_compareToUTF16 0 = .ok (.aload_n 0, 1) := dk_42 (dk_at dksJ14_compareToUTF16_0 0 rfl rfl)
theorem dJ14_compareToUTF16_1 : decode cJ14_compareToUTF16 1 = .ok (.invokestatic 54, 3) := dk_184 0 54 (dk_at dksJ14_compareToUTF16_0 1 rfl rfl)
theorem dJ14_compareToUTF16_4 : decode cJ14_compareToUTF16 4 = .ok (.istore_n 2, 1) := dk_61 (dk_at dksJ14_compareToUTF16_0 4 rfl rfl)
theorem dJ14_compareToUTF16_5 : decode cJ14_compareToUTF16 5 = .ok (.aload_n 1, 1) := dk_43 (dk_at dksJ14_compareToUTF16_0 5 rfl rfl)
theorem dJ14_compareToUTF16_6 : decode cJ14_compareToUTF16 6 = .ok (.invokestatic 58, 3) := dk_184 0 58 (dk_at dksJ14_compareToUTF16_0 6 rfl rfl)
theorem dJ14_compareToUTF16_9 : decode cJ14_compareToUTF16 9 = .ok (.istore_n 3, 1) := dk_62 (dk_at dksJ14_compareToUTF16_0 9 rfl rfl)
theorem dJ14_compareToUTF16_10 : decode cJ14_compareToUTF16 10 = .ok (.aload_n 0, 1) := dk_42 (dk_at dksJ14_compareToUTF16_0 10 rfl rfl)
theorem dJ14_compareToUTF16_11 : decode cJ14_compareToUTF16 11 = .ok (.aload_n 1, 1) := dk_43 (dk_at dksJ14_compareToUTF16_0 11 rfl rfl)
theorem dJ14_compareToUTF16_12 : decode cJ14_compareToUTF16 12 = .ok (.iload_n 2, 1) := dk_28 (dk_at dksJ14_compareToUTF16_0 12 rfl rfl)
theorem dJ14_compareToUTF16_13 : decode cJ14_compareToUTF16 13 = .ok (.iload_n 3, 1) := dk_29 (dk_at dksJ14_compareToUTF16_0 13 rfl rfl)
theorem dJ14_compareToUTF16_14 : decode cJ14_compareToUTF16 14 = .ok (.invokestatic 59, 3) := dk_184 0 59 (dk_at dksJ14_compareToUTF16_0 14 rfl rfl)
theorem dJ14_compareToUTF16_17 : decode cJ14_compareToUTF16 17 = .ok (.ireturn, 1) := dk_172 (dk_at dksJ14_compareToUTF16_0 17 rfl rfl)
abbrev cJ14_length : ByteArray := prog_39_method_5_code
def yJ14_length : MethodName := ⟨RJ14, "length", "([B)I"⟩
theorem dJ14_length_0 : decode cJ14_length 0 = .ok (.aload_n 0, 1) := by decide +kernel
theorem dJ14_length_1 : decode cJ14_length 1 = .ok (.arraylength, 1) := by decide +kernel
theorem dJ14_length_2 : decode cJ14_length 2 = .ok (.ireturn, 1) := by decide +kernel
abbrev cJ14_compareToUTF16Values : ByteArray := prog_39_method_18_code
def yJ14_compareToUTF16Values : MethodName := ⟨RJ14, "compareToUTF16Values", "([B[BII)I"⟩
def dkwJ14_compareToUTF16Values_2 : List UInt8 := [132, 5, 1, 167, 255, 217, 28, 29, 100, 172]
abbrev dktJ14_compareToUTF16Values_2 : List UInt8 := dkwJ14_compareToUTF16Values_2 ++ []
def dkwJ14_compareToUTF16Values_1 : List UInt8 := [54, 6, 43, 21, 5, 184, 0, 65, 54, 7, 21, 6, 21, 7, 159, 0, 9, 21, 6, 21, 7, 100, 172]
abbrev dktJ14_compareToUTF16Values_1 : List UInt8 := dkwJ14_compareToUTF16Values_1 ++ dktJ14_compareToUTF16Values_2
def dkwJ14_compareToUTF16Values_0 : List UInt8 := [28, 29, 184, 0, 38, 54, 4, 3, 54, 5, 21, 5, 21, 4, 162, 0, 38, 42, 21, 5, 184, 0, 50]
abbrev dktJ14_compareToUTF16Values_0 : List UInt8 := dkwJ14_compareToUTF16Values_0 ++ dktJ14_compareToUTF16Values_1
theorem dksJ14_compareToUTF16Values_0 : cJ14_compareToUTF16Values.data.toList.drop 0 = dktJ14_compareToUTF16Values_0 := by decide +kernel
theorem dksJ14_compareToUTF16Values_1 : cJ14_compareToUTF16Values.data.toList.drop 23 = dktJ14_compareToUTF16Values_1 := dk_seg dksJ14_compareToUTF16Values_0 23 rfl rfl
theorem dksJ14_compareToUTF16Values_2 : cJ14_compareToUTF16Values.data.toList.drop 46 = dktJ14_compareToUTF16Values_2 := dk_seg dksJ14_compareToUTF16Values_1 23 rfl rfl
theorem dJ14_compareToUTF16Values_0 : decode cJ14_compareToUTF16Values 0 = .ok (.iload_n 2, 1) := dk_28 (dk_at dksJ14_compareToUTF16Values_0 0 rfl rfl)
theorem dJ14_compareToUTF16Values_1 : decode cJ14_compareToUTF16Values 1 = .ok (.iload_n 3, 1) := dk_29 (dk_at dksJ14_compareToUTF16Values_0 1 rfl rfl)
theorem dJ14_compareToUTF16Values_2 : decode cJ14_compareToUTF16Values 2 = .ok (.invokestatic 38, 3) := dk_184 0 38 (dk_at dksJ14_compareToUTF16Values_0 2 rfl rfl)
theorem dJ14_compareToUTF16Values_5 : decode cJ14_compareToUTF16Values 5 = .ok (.istore 4, 2) := dk_54 4 (dk_at dksJ14_compareToUTF16Values_0 5 rfl rfl)
theorem dJ14_compareToUTF16Values_7 : decode cJ14_compareToUTF16Values 7 = .ok (.iconst 0, 1) := dk_3 (dk_at dksJ14_compareToUTF16Values_0 7 rfl rfl)
theorem dJ14_compareToUTF16Values_8 : decode cJ14_compareToUTF16Values 8 = .ok (.istore 5, 2) := dk_54 5 (dk_at dksJ14_compareToUTF16Values_0 8 rfl rfl)
theorem dJ14_compareToUTF16Values_10 : decode cJ14_compareToUTF16Values 10 = .ok (.iload 5, 2) := dk_21 5 (dk_at dksJ14_compareToUTF16Values_0 10 rfl rfl)
theorem dJ14_compareToUTF16Values_12 : decode cJ14_compareToUTF16Values 12 = .ok (.iload 4, 2) := dk_21 4 (dk_at dksJ14_compareToUTF16Values_0 12 rfl rfl)
theorem dJ14_compareToUTF16Values_14 : decode cJ14_compareToUTF16Values 14 = .ok (.if_icmp .ge 38, 3) := dk_162 0 38 (dk_at dksJ14_compareToUTF16Values_0 14 rfl rfl)
theorem dJ14_compareToUTF16Values_17 : decode cJ14_compareToUTF16Values 17 = .ok (.aload_n 0, 1) := dk_42 (dk_at dksJ14_compareToUTF16Values_0 17 rfl rfl)
theorem dJ14_compareToUTF16Values_18 : decode cJ14_compareToUTF16Values 18 = .ok (.iload 5, 2) := dk_21 5 (dk_at dksJ14_compareToUTF16Values_0 18 rfl rfl)
theorem dJ14_compareToUTF16Values_20 : decode cJ14_compareToUTF16Values 20 = .ok (.invokestatic 50, 3) := dk_184 0 50 (dk_at dksJ14_compareToUTF16Values_0 20 rfl rfl)
theorem dJ14_compareToUTF16Values_23 : decode cJ14_compareToUTF16Values 23 = .ok (.istore 6, 2) := dk_54 6 (dk_at dksJ14_compareToUTF16Values_1 0 rfl rfl)
theorem dJ14_compareToUTF16Values_25 : decode cJ14_compareToUTF16Values 25 = .ok (.aload_n 1, 1) := dk_43 (dk_at dksJ14_compareToUTF16Values_1 2 rfl rfl)
theorem dJ14_compareToUTF16Values_26 : decode cJ14_compareToUTF16Values 26 = .ok (.iload 5, 2) := dk_21 5 (dk_at dksJ14_compareToUTF16Values_1 3 rfl rfl)
theorem dJ14_compareToUTF16Values_28 : decode cJ14_compareToUTF16Values 28 = .ok (.invokestatic 65, 3) := dk_184 0 65 (dk_at dksJ14_compareToUTF16Values_1 5 rfl rfl)
theorem dJ14_compareToUTF16Values_31 : decode cJ14_compareToUTF16Values 31 = .ok (.istore 7, 2) := dk_54 7 (dk_at dksJ14_compareToUTF16Values_1 8 rfl rfl)
theorem dJ14_compareToUTF16Values_33 : decode cJ14_compareToUTF16Values 33 = .ok (.iload 6, 2) := dk_21 6 (dk_at dksJ14_compareToUTF16Values_1 10 rfl rfl)
theorem dJ14_compareToUTF16Values_35 : decode cJ14_compareToUTF16Values 35 = .ok (.iload 7, 2) := dk_21 7 (dk_at dksJ14_compareToUTF16Values_1 12 rfl rfl)
theorem dJ14_compareToUTF16Values_37 : decode cJ14_compareToUTF16Values 37 = .ok (.if_icmp .eq 9, 3) := dk_159 0 9 (dk_at dksJ14_compareToUTF16Values_1 14 rfl rfl)
theorem dJ14_compareToUTF16Values_40 : decode cJ14_compareToUTF16Values 40 = .ok (.iload 6, 2) := dk_21 6 (dk_at dksJ14_compareToUTF16Values_1 17 rfl rfl)
theorem dJ14_compareToUTF16Values_42 : decode cJ14_compareToUTF16Values 42 = .ok (.iload 7, 2) := dk_21 7 (dk_at dksJ14_compareToUTF16Values_1 19 rfl rfl)
theorem dJ14_compareToUTF16Values_44 : decode cJ14_compareToUTF16Values 44 = .ok (.isub, 1) := dk_100 (dk_at dksJ14_compareToUTF16Values_1 21 rfl rfl)
theorem dJ14_compareToUTF16Values_45 : decode cJ14_compareToUTF16Values 45 = .ok (.ireturn, 1) := dk_172 (dk_at dksJ14_compareToUTF16Values_1 22 rfl rfl)
theorem dJ14_compareToUTF16Values_46 : decode cJ14_compareToUTF16Values 46 = .ok (.iinc 5 1, 3) := dk_132 5 1 (dk_at dksJ14_compareToUTF16Values_2 0 rfl rfl)
theorem dJ14_compareToUTF16Values_49 : decode cJ14_compareToUTF16Values 49 = .ok (.goto (-39), 3) := dk_167 255 217 (dk_at dksJ14_compareToUTF16Values_2 3 rfl rfl)
theorem dJ14_compareToUTF16Values_52 : decode cJ14_compareToUTF16Values 52 = .ok (.iload_n 2, 1) := dk_28 (dk_at dksJ14_compareToUTF16Values_2 6 rfl rfl)
theorem dJ14_compareToUTF16Values_53 : decode cJ14_compareToUTF16Values 53 = .ok (.iload_n 3, 1) := dk_29 (dk_at dksJ14_compareToUTF16Values_2 7 rfl rfl)
theorem dJ14_compareToUTF16Values_54 : decode cJ14_compareToUTF16Values 54 = .ok (.isub, 1) := dk_100 (dk_at dksJ14_compareToUTF16Values_2 8 rfl rfl)
theorem dJ14_compareToUTF16Values_55 : decode cJ14_compareToUTF16Values 55 = .ok (.ireturn, 1) := dk_172 (dk_at dksJ14_compareToUTF16Values_2 9 rfl rfl)
abbrev cJ14_compareToUTF16_2 : ByteArray := prog_39_method_17_code
def yJ14_compareToUTF16_2 : MethodName := ⟨RJ14, "compareToUTF16", "([B[BII)I"⟩
def dkwJ14_compareToUTF16_2_0 : List UInt8 := [28, 42, 184, 0, 54, 184, 0, 62, 29, 43, 184, 0, 58, 184, 0, 62, 42, 43, 28, 29, 184, 0, 59, 172]
abbrev dktJ14_compareToUTF16_2_0 : List UInt8 := dkwJ14_compareToUTF16_2_0 ++ []
theorem dksJ14_compareToUTF16_2_0 : cJ14_compareToUTF16_2.data.toList.drop 0 = dktJ14_compareToUTF16_2_0 := by decide +kernel
theorem dJ14_compareToUTF16_2_0 : decode cJ14_compareToUTF16_2 0 = .ok (.iload_n 2, 1) := dk_28 (dk_at dksJ14_compareToUTF16_2_0 0 rfl rfl)
theorem dJ14_compareToUTF16_2_1 : decode cJ14_compareToUTF16_2 1 = .ok (.aload_n 0, 1) := dk_42 (dk_at dksJ14_compareToUTF16_2_0 1 rfl rfl)
theorem dJ14_compareToUTF16_2_2 : decode cJ14_compareToUTF16_2 2 = .ok (.invokestatic 54, 3) := dk_184 0 54 (dk_at dksJ14_compareToUTF16_2_0 2 rfl rfl)
theorem dJ14_compareToUTF16_2_5 : decode cJ14_compareToUTF16_2 5 = .ok (.invokestatic 62, 3) := dk_184 0 62 (dk_at dksJ14_compareToUTF16_2_0 5 rfl rfl)
theorem dJ14_compareToUTF16_2_8 : decode cJ14_compareToUTF16_2 8 = .ok (.iload_n 3, 1) := dk_29 (dk_at dksJ14_compareToUTF16_2_0 8 rfl rfl)
theorem dJ14_compareToUTF16_2_9 : decode cJ14_compareToUTF16_2 9 = .ok (.aload_n 1, 1) := dk_43 (dk_at dksJ14_compareToUTF16_2_0 9 rfl rfl)
theorem dJ14_compareToUTF16_2_10 : decode cJ14_compareToUTF16_2 10 = .ok (.invokestatic 58, 3) := dk_184 0 58 (dk_at dksJ14_compareToUTF16_2_0 10 rfl rfl)
theorem dJ14_compareToUTF16_2_13 : decode cJ14_compareToUTF16_2 13 = .ok (.invokestatic 62, 3) := dk_184 0 62 (dk_at dksJ14_compareToUTF16_2_0 13 rfl rfl)
theorem dJ14_compareToUTF16_2_16 : decode cJ14_compareToUTF16_2 16 = .ok (.aload_n 0, 1) := dk_42 (dk_at dksJ14_compareToUTF16_2_0 16 rfl rfl)
theorem dJ14_compareToUTF16_2_17 : decode cJ14_compareToUTF16_2 17 = .ok (.aload_n 1, 1) := dk_43 (dk_at dksJ14_compareToUTF16_2_0 17 rfl rfl)
theorem dJ14_compareToUTF16_2_18 : decode cJ14_compareToUTF16_2 18 = .ok (.iload_n 2, 1) := dk_28 (dk_at dksJ14_compareToUTF16_2_0 18 rfl rfl)
theorem dJ14_compareToUTF16_2_19 : decode cJ14_compareToUTF16_2 19 = .ok (.iload_n 3, 1) := dk_29 (dk_at dksJ14_compareToUTF16_2_0 19 rfl rfl)
theorem dJ14_compareToUTF16_2_20 : decode cJ14_compareToUTF16_2 20 = .ok (.invokestatic 59, 3) := dk_184 0 59 (dk_at dksJ14_compareToUTF16_2_0 20 rfl rfl)
theorem dJ14_compareToUTF16_2_23 : decode cJ14_compareToUTF16_2 23 = .ok (.ireturn, 1) := dk_172 (dk_at dksJ14_compareToUTF16_2_0 23 rfl rfl)
abbrev cJ14_equals : ByteArray := prog_39_method_13_code
def yJ14_equals : MethodName := ⟨RJ14, "equals", "([B[B)Z"⟩
def dkwJ14_equals_1 : List UInt8 := [3, 172, 132, 2, 1, 167, 255, 236, 4, 172, 3, 172]
abbrev dktJ14_equals_1 : List UInt8 := dkwJ14_equals_1 ++ []
def dkwJ14_equals_0 : List UInt8 := [42, 190, 43, 190, 160, 0, 30, 3, 61, 28, 42, 190, 162, 0, 20, 42, 28, 51, 43, 28, 51, 159, 0, 5]
abbrev dktJ14_equals_0 : List UInt8 := dkwJ14_equals_0 ++ dktJ14_equals_1
theorem dksJ14_equals_0 : cJ14_equals.data.toList.drop 0 = dktJ14_equals_0 := by decide +kernel
theorem dksJ14_equals_1 : cJ14_equals.data.toList.drop 24 = dktJ14_equals_1 := dk_seg dksJ14_equals_0 24 rfl rfl
theorem dJ14_equals_0 : decode cJ14_equals 0 = .ok (.aload_n 0, 1) := dk_42 (dk_at dksJ14_equals_0 0 rfl rfl)
theorem dJ14_equals_1 : decode cJ14_equals 1 = .ok (.arraylength, 1) := dk_190 (dk_at dksJ14_equals_0 1 rfl rfl)
theorem dJ14_equals_2 : decode cJ14_equals 2 = .ok (.aload_n 1, 1) := dk_43 (dk_at dksJ14_equals_0 2 rfl rfl)
theorem dJ14_equals_3 : decode cJ14_equals 3 = .ok (.arraylength, 1) := dk_190 (dk_at dksJ14_equals_0 3 rfl rfl)
theorem dJ14_equals_4 : decode cJ14_equals 4 = .ok (.if_icmp .ne 30, 3) := dk_160 0 30 (dk_at dksJ14_equals_0 4 rfl rfl)
theorem dJ14_equals_7 : decode cJ14_equals 7 = .ok (.iconst 0, 1) := dk_3 (dk_at dksJ14_equals_0 7 rfl rfl)
theorem dJ14_equals_8 : decode cJ14_equals 8 = .ok (.istore_n 2, 1) := dk_61 (dk_at dksJ14_equals_0 8 rfl rfl)
theorem dJ14_equals_9 : decode cJ14_equals 9 = .ok (.iload_n 2, 1) := dk_28 (dk_at dksJ14_equals_0 9 rfl rfl)
theorem dJ14_equals_10 : decode cJ14_equals 10 = .ok (.aload_n 0, 1) := dk_42 (dk_at dksJ14_equals_0 10 rfl rfl)
theorem dJ14_equals_11 : decode cJ14_equals 11 = .ok (.arraylength, 1) := dk_190 (dk_at dksJ14_equals_0 11 rfl rfl)
theorem dJ14_equals_12 : decode cJ14_equals 12 = .ok (.if_icmp .ge 20, 3) := dk_162 0 20 (dk_at dksJ14_equals_0 12 rfl rfl)
theorem dJ14_equals_15 : decode cJ14_equals 15 = .ok (.aload_n 0, 1) := dk_42 (dk_at dksJ14_equals_0 15 rfl rfl)
theorem dJ14_equals_16 : decode cJ14_equals 16 = .ok (.iload_n 2, 1) := dk_28 (dk_at dksJ14_equals_0 16 rfl rfl)
theorem dJ14_equals_17 : decode cJ14_equals 17 = .ok (.baload, 1) := dk_51 (dk_at dksJ14_equals_0 17 rfl rfl)
theorem dJ14_equals_18 : decode cJ14_equals 18 = .ok (.aload_n 1, 1) := dk_43 (dk_at dksJ14_equals_0 18 rfl rfl)
theorem dJ14_equals_19 : decode cJ14_equals 19 = .ok (.iload_n 2, 1) := dk_28 (dk_at dksJ14_equals_0 19 rfl rfl)
theorem dJ14_equals_20 : decode cJ14_equals 20 = .ok (.baload, 1) := dk_51 (dk_at dksJ14_equals_0 20 rfl rfl)
theorem dJ14_equals_21 : decode cJ14_equals 21 = .ok (.if_icmp .eq 5, 3) := dk_159 0 5 (dk_at dksJ14_equals_0 21 rfl rfl)
theorem dJ14_equals_24 : decode cJ14_equals 24 = .ok (.iconst 0, 1) := dk_3 (dk_at dksJ14_equals_1 0 rfl rfl)
theorem dJ14_equals_25 : decode cJ14_equals 25 = .ok (.ireturn, 1) := dk_172 (dk_at dksJ14_equals_1 1 rfl rfl)
theorem dJ14_equals_26 : decode cJ14_equals 26 = .ok (.iinc 2 1, 3) := dk_132 2 1 (dk_at dksJ14_equals_1 2 rfl rfl)
theorem dJ14_equals_29 : decode cJ14_equals 29 = .ok (.goto (-20), 3) := dk_167 255 236 (dk_at dksJ14_equals_1 5 rfl rfl)
theorem dJ14_equals_32 : decode cJ14_equals 32 = .ok (.iconst 1, 1) := dk_4 (dk_at dksJ14_equals_1 8 rfl rfl)
theorem dJ14_equals_33 : decode cJ14_equals 33 = .ok (.ireturn, 1) := dk_172 (dk_at dksJ14_equals_1 9 rfl rfl)
theorem dJ14_equals_34 : decode cJ14_equals 34 = .ok (.iconst 0, 1) := dk_3 (dk_at dksJ14_equals_1 10 rfl rfl)
theorem dJ14_equals_35 : decode cJ14_equals 35 = .ok (.ireturn, 1) := dk_172 (dk_at dksJ14_equals_1 11 rfl rfl)
abbrev cJ14_canEncode : ByteArray := prog_39_method_3_code
def yJ14_canEncode : MethodName := ⟨RJ14, "canEncode", "(C)Z"⟩
def dkwJ14_canEncode_0 : List UInt8 := [26, 17, 0, 255, 163, 0, 7, 4, 167, 0, 4, 3, 172]
abbrev dktJ14_canEncode_0 : List UInt8 := dkwJ14_canEncode_0 ++ []
theorem dksJ14_canEncode_0 : cJ14_canEncode.data.toList.drop 0 = dktJ14_canEncode_0 := by decide +kernel
theorem dJ14_canEncode_0 : decode cJ14_canEncode 0 = .ok (.iload_n 0, 1) := dk_26 (dk_at dksJ14_canEncode_0 0 rfl rfl)
theorem dJ14_canEncode_1 : decode cJ14_canEncode 1 = .ok (.sipush 255, 3) := dk_17 0 255 (dk_at dksJ14_canEncode_0 1 rfl rfl)
theorem dJ14_canEncode_4 : decode cJ14_canEncode 4 = .ok (.if_icmp .gt 7, 3) := dk_163 0 7 (dk_at dksJ14_canEncode_0 4 rfl rfl)
theorem dJ14_canEncode_7 : decode cJ14_canEncode 7 = .ok (.iconst 1, 1) := dk_4 (dk_at dksJ14_canEncode_0 7 rfl rfl)
theorem dJ14_canEncode_8 : decode cJ14_canEncode 8 = .ok (.goto 4, 3) := dk_167 0 4 (dk_at dksJ14_canEncode_0 8 rfl rfl)
theorem dJ14_canEncode_11 : decode cJ14_canEncode 11 = .ok (.iconst 0, 1) := dk_3 (dk_at dksJ14_canEncode_0 11 rfl rfl)
theorem dJ14_canEncode_12 : decode cJ14_canEncode 12 = .ok (.ireturn, 1) := dk_172 (dk_at dksJ14_canEncode_0 12 rfl rfl)
abbrev cJ14_charAt : ByteArray := prog_39_method_2_code
def yJ14_charAt : MethodName := ⟨RJ14, "charAt", "([BI)C"⟩
def dkwJ14_charAt_0 : List UInt8 := [27, 42, 190, 184, 0, 9, 42, 27, 51, 17, 0, 255, 126, 146, 172]
abbrev dktJ14_charAt_0 : List UInt8 := dkwJ14_charAt_0 ++ []
theorem dksJ14_charAt_0 : cJ14_charAt.data.toList.drop 0 = dktJ14_charAt_0 := by decide +kernel
theorem dJ14_charAt_0 : decode cJ14_charAt 0 = .ok (.iload_n 1, 1) := dk_27 (dk_at dksJ14_charAt_0 0 rfl rfl)
theorem dJ14_charAt_1 : decode cJ14_charAt 1 = .ok (.aload_n 0, 1) := dk_42 (dk_at dksJ14_charAt_0 1 rfl rfl)
theorem dJ14_charAt_2 : decode cJ14_charAt 2 = .ok (.arraylength, 1) := dk_190 (dk_at dksJ14_charAt_0 2 rfl rfl)
theorem dJ14_charAt_3 : decode cJ14_charAt 3 = .ok (.invokestatic 9, 3) := dk_184 0 9 (dk_at dksJ14_charAt_0 3 rfl rfl)
theorem dJ14_charAt_6 : decode cJ14_charAt 6 = .ok (.aload_n 0, 1) := dk_42 (dk_at dksJ14_charAt_0 6 rfl rfl)
theorem dJ14_charAt_7 : decode cJ14_charAt 7 = .ok (.iload_n 1, 1) := dk_27 (dk_at dksJ14_charAt_0 7 rfl rfl)
theorem dJ14_charAt_8 : decode cJ14_charAt 8 = .ok (.baload, 1) := dk_51 (dk_at dksJ14_charAt_0 8 rfl rfl)
theorem dJ14_charAt_9 : decode cJ14_charAt 9 = .ok (.sipush 255, 3) := dk_17 0 255 (dk_at dksJ14_charAt_0 9 rfl rfl)
theorem dJ14_charAt_12 : decode cJ14_charAt 12 = .ok (.iand, 1) := dk_126 (dk_at dksJ14_charAt_0 12 rfl rfl)
theorem dJ14_charAt_13 : decode cJ14_charAt 13 = .ok (.i2c, 1) := dk_146 (dk_at dksJ14_charAt_0 13 rfl rfl)
theorem dJ14_charAt_14 : decode cJ14_charAt 14 = .ok (.ireturn, 1) := dk_172 (dk_at dksJ14_charAt_0 14 rfl rfl)
theorem q172 : (Jvm.Cond.initialized "java/lang/StringLatin1") ∈ lw_all := lw_g (lw_at lw_m1 21 rfl) rfl
theorem q603 : (Jvm.Cond.static ({ cls := "java/lang/StringLatin1", name := "hashCode", desc := "([B)I" } : Jvm.MethodName)) ∈ lw_all := lw_g (lw_at lw_m2 212 rfl) rfl
theorem q604 : (Jvm.Cond.code ({ cls := "java/lang/StringLatin1", name := "hashCode", desc := "([B)I" } : Jvm.MethodName) prog_39_method_21_code (1 : Nat) (Option.some Jvm.ClassFile.FieldType.int)) ∈ lw_all := lw_g (lw_at lw_m2 213 rfl) rfl
theorem q605 : (Jvm.Cond.methodLink "java/lang/StringLatin1" (84 : Nat) ({ cls := "jdk/internal/util/ArraysSupport", name := "vectorizedHashCode", desc := "(Ljava/lang/Object;IIII)I" } : Jvm.MethodName)) ∈ lw_all := lw_g (lw_at lw_m2 214 rfl) rfl
theorem q821 : (Jvm.Cond.static ({ cls := "java/lang/StringLatin1", name := "inflate", desc := "([BI[BII)V" } : Jvm.MethodName)) ∈ lw_all := lw_g (lw_at lw_m3 190 rfl) rfl
theorem q822 : (Jvm.Cond.code ({ cls := "java/lang/StringLatin1", name := "inflate", desc := "([BI[BII)V" } : Jvm.MethodName) prog_39_method_50_code (5 : Nat) (Option.none : Option Jvm.ClassFile.FieldType)) ∈ lw_all := lw_g (lw_at lw_m3 191 rfl) rfl
theorem q823 : (Jvm.Cond.methodLink "java/lang/StringLatin1" (240 : Nat) ({ cls := "java/lang/StringUTF16", name := "inflate", desc := "([BI[BII)V" } : Jvm.MethodName)) ∈ lw_all := lw_g (lw_at lw_m3 192 rfl) rfl
theorem q1102 : (Jvm.Cond.static ({ cls := "java/lang/StringLatin1", name := "compareTo", desc := "([B[B)I" } : Jvm.MethodName)) ∈ lw_all := lw_g (lw_at lw_m4 231 rfl) rfl
theorem q1103 : (Jvm.Cond.code ({ cls := "java/lang/StringLatin1", name := "compareTo", desc := "([B[B)I" } : Jvm.MethodName) prog_39_method_14_code (4 : Nat) (Option.some Jvm.ClassFile.FieldType.int)) ∈ lw_all := lw_g (lw_at lw_m4 232 rfl) rfl
theorem q1104 : (Jvm.Cond.methodLink "java/lang/StringLatin1" (34 : Nat) ({ cls := "java/lang/StringLatin1", name := "compareTo", desc := "([B[BII)I" } : Jvm.MethodName)) ∈ lw_all := lw_g (lw_at lw_m4 233 rfl) rfl
theorem q1105 : (Jvm.Cond.static ({ cls := "java/lang/StringLatin1", name := "compareTo", desc := "([B[BII)I" } : Jvm.MethodName)) ∈ lw_all := lw_g (lw_at lw_m4 234 rfl) rfl
theorem q1106 : (Jvm.Cond.code ({ cls := "java/lang/StringLatin1", name := "compareTo", desc := "([B[BII)I" } : Jvm.MethodName) prog_39_method_15_code (6 : Nat) (Option.some Jvm.ClassFile.FieldType.int)) ∈ lw_all := lw_g (lw_at lw_m4 235 rfl) rfl
theorem q1107 : (Jvm.Cond.methodLink "java/lang/StringLatin1" (38 : Nat) ({ cls := "java/lang/Math", name := "min", desc := "(II)I" } : Jvm.MethodName)) ∈ lw_all := lw_g (lw_at lw_m4 236 rfl) rfl
theorem q1108 : (Jvm.Cond.methodLink "java/lang/StringLatin1" (44 : Nat) ({ cls := "jdk/internal/util/ArraysSupport", name := "mismatch", desc := "([B[BI)I" } : Jvm.MethodName)) ∈ lw_all := lw_g (lw_at lw_m4 237 rfl) rfl
theorem q1212 : (Jvm.Cond.methodLink "java/lang/StringLatin1" (50 : Nat) ({ cls := "java/lang/StringLatin1", name := "getChar", desc := "([BI)C" } : Jvm.MethodName)) ∈ lw_all := lw_g (lw_at lw_m5 101 rfl) rfl
theorem q1213 : (Jvm.Cond.static ({ cls := "java/lang/StringLatin1", name := "getChar", desc := "([BI)C" } : Jvm.MethodName)) ∈ lw_all := lw_g (lw_at lw_m5 102 rfl) rfl
theorem q1214 : (Jvm.Cond.code ({ cls := "java/lang/StringLatin1", name := "getChar", desc := "([BI)C" } : Jvm.MethodName) prog_39_method_44_code (2 : Nat) (Option.some Jvm.ClassFile.FieldType.char)) ∈ lw_all := lw_g (lw_at lw_m5 103 rfl) rfl
theorem q1223 : (Jvm.Cond.static ({ cls := "java/lang/StringLatin1", name := "compareToUTF16", desc := "([B[B)I" } : Jvm.MethodName)) ∈ lw_all := lw_g (lw_at lw_m5 112 rfl) rfl
theorem q1224 : (Jvm.Cond.code ({ cls := "java/lang/StringLatin1", name := "compareToUTF16", desc := "([B[B)I" } : Jvm.MethodName) prog_39_method_16_code (4 : Nat) (Option.some Jvm.ClassFile.FieldType.int)) ∈ lw_all := lw_g (lw_at lw_m5 113 rfl) rfl
theorem q1225 : (Jvm.Cond.methodLink "java/lang/StringLatin1" (54 : Nat) ({ cls := "java/lang/StringLatin1", name := "length", desc := "([B)I" } : Jvm.MethodName)) ∈ lw_all := lw_g (lw_at lw_m5 114 rfl) rfl
theorem q1226 : (Jvm.Cond.static ({ cls := "java/lang/StringLatin1", name := "length", desc := "([B)I" } : Jvm.MethodName)) ∈ lw_all := lw_g (lw_at lw_m5 115 rfl) rfl
theorem q1227 : (Jvm.Cond.code ({ cls := "java/lang/StringLatin1", name := "length", desc := "([B)I" } : Jvm.MethodName) prog_39_method_5_code (1 : Nat) (Option.some Jvm.ClassFile.FieldType.int)) ∈ lw_all := lw_g (lw_at lw_m5 116 rfl) rfl
theorem q1228 : (Jvm.Cond.methodLink "java/lang/StringLatin1" (58 : Nat) ({ cls := "java/lang/StringUTF16", name := "length", desc := "([B)I" } : Jvm.MethodName)) ∈ lw_all := lw_g (lw_at lw_m5 117 rfl) rfl
theorem q1229 : (Jvm.Cond.methodLink "java/lang/StringLatin1" (59 : Nat) ({ cls := "java/lang/StringLatin1", name := "compareToUTF16Values", desc := "([B[BII)I" } : Jvm.MethodName)) ∈ lw_all := lw_g (lw_at lw_m5 118 rfl) rfl
theorem q1230 : (Jvm.Cond.static ({ cls := "java/lang/StringLatin1", name := "compareToUTF16Values", desc := "([B[BII)I" } : Jvm.MethodName)) ∈ lw_all := lw_g (lw_at lw_m5 119 rfl) rfl
theorem q1231 : (Jvm.Cond.code ({ cls := "java/lang/StringLatin1", name := "compareToUTF16Values", desc := "([B[BII)I" } : Jvm.MethodName) prog_39_method_18_code (8 : Nat) (Option.some Jvm.ClassFile.FieldType.int)) ∈ lw_all := lw_g (lw_at lw_m5 120 rfl) rfl
theorem q1232 : (Jvm.Cond.methodLink "java/lang/StringLatin1" (65 : Nat) ({ cls := "java/lang/StringUTF16", name := "getChar", desc := "([BI)C" } : Jvm.MethodName)) ∈ lw_all := lw_g (lw_at lw_m5 121 rfl) rfl
theorem q1262 : (Jvm.Cond.static ({ cls := "java/lang/StringLatin1", name := "compareToUTF16", desc := "([B[BII)I" } : Jvm.MethodName)) ∈ lw_all := lw_g (lw_at lw_m5 151 rfl) rfl
theorem q1263 : (Jvm.Cond.code ({ cls := "java/lang/StringLatin1", name := "compareToUTF16", desc := "([B[BII)I" } : Jvm.MethodName) prog_39_method_17_code (4 : Nat) (Option.some Jvm.ClassFile.FieldType.int)) ∈ lw_all := lw_g (lw_at lw_m5 152 rfl) rfl
theorem q1264 : (Jvm.Cond.methodLink "java/lang/StringLatin1" (62 : Nat) ({ cls := "java/lang/String", name := "checkOffset", desc := "(II)V" } : Jvm.MethodName)) ∈ lw_all := lw_g (lw_at lw_m5 153 rfl) rfl
theorem q1333 : (Jvm.Cond.static ({ cls := "java/lang/StringLatin1", name := "equals", desc := "([B[B)Z" } : Jvm.MethodName)) ∈ lw_all := lw_g (lw_at lw_m5 222 rfl) rfl
theorem q1334 : (Jvm.Cond.code ({ cls := "java/lang/StringLatin1", name := "equals", desc := "([B[B)Z" } : Jvm.MethodName) prog_39_method_13_code (3 : Nat) (Option.some Jvm.ClassFile.FieldType.boolean)) ∈ lw_all := lw_g (lw_at lw_m5 223 rfl) rfl
theorem q1542 : (Jvm.Cond.static ({ cls := "java/lang/StringLatin1", name := "canEncode", desc := "(C)Z" } : Jvm.MethodName)) ∈ lw_all := lw_g (lw_at lw_m6 191 rfl) rfl
theorem q1543 : (Jvm.Cond.code ({ cls := "java/lang/StringLatin1", name := "canEncode", desc := "(C)Z" } : Jvm.MethodName) prog_39_method_3_code (1 : Nat) (Option.some Jvm.ClassFile.FieldType.boolean)) ∈ lw_all := lw_g (lw_at lw_m6 192 rfl) rfl
theorem q2432 : (Jvm.Cond.static ({ cls := "java/lang/StringLatin1", name := "charAt", desc := "([BI)C" } : Jvm.MethodName)) ∈ lw_all := lw_g (lw_at lw_m10 121 rfl) rfl
theorem q2433 : (Jvm.Cond.code ({ cls := "java/lang/StringLatin1", name := "charAt", desc := "([BI)C" } : Jvm.MethodName) prog_39_method_2_code (2 : Nat) (Option.some Jvm.ClassFile.FieldType.char)) ∈ lw_all := lw_g (lw_at lw_m10 122 rfl) rfl
theorem q2434 : (Jvm.Cond.methodLink "java/lang/StringLatin1" (9 : Nat) ({ cls := "java/lang/String", name := "checkIndex", desc := "(II)V" } : Jvm.MethodName)) ∈ lw_all := lw_g (lw_at lw_m10 123 rfl) rfl
/-! java/lang/Throwable -/
set_option maxRecDepth 100000
def RJ16 : String := "java/lang/Throwable"
def TJ16 : u_T := fun k => match k with
  | 0 => ("java/lang/Throwable", "cause", "Ljava/lang/Throwable;", false)
  | 1 => ("java/lang/Throwable", "stackTrace", "[Ljava/lang/StackTraceElement;", false)
  | 2 => ("java/lang/Throwable", "suppressedExceptions", "Ljava/util/List;", false)
  | 3 => ("java/lang/Throwable", "detailMessage", "Ljava/lang/String;", false)
  | _ => ("java/lang/Throwable", "backtrace", "Ljava/lang/Object;", false)
def tyJ16 : Nat → FieldType := fun k => match k with
  | 0 => .object "java/lang/Throwable"
  | 1 => .array (.object "java/lang/StackTraceElement")
  | 2 => .object "java/util/List"
  | 3 => .object "java/lang/String"
  | _ => .object "java/lang/Object"
abbrev wsJ160 : List Cond := u_ws RJ16 TJ16 5
theorem nmJ16 : ∀ a, a < 5 → ∀ b, b < 5 → a ≠ b → (TJ16 a).2.1 ≠ (TJ16 b).2.1 := by decide +kernel
theorem tyJ16_ok : ∀ k, k < 5 → parseFieldDescriptor (TJ16 k).2.2.1 = some (tyJ16 k) := by decide +kernel
abbrev cJ16_init : ByteArray := prog_43_method_1_code
def yJ16_init : MethodName := ⟨RJ16, "<init>", "()V"⟩
def dkwJ16_init_1 : List UInt8 := [182, 0, 27, 87, 177]
abbrev dktJ16_init_1 : List UInt8 := dkwJ16_init_1 ++ []
def dkwJ16_init_0 : List UInt8 := [42, 183, 0, 1, 42, 42, 181, 0, 7, 42, 178, 0, 13, 181, 0, 17, 42, 178, 0, 20, 181, 0, 24, 42]
abbrev dktJ16_init_0 : List UInt8 := dkwJ16_init_0 ++ dktJ16_init_1
theorem dksJ16_init_0 : cJ16_init.data.toList.drop 0 = dktJ16_init_0 := by decide +kernel
theorem dksJ16_init_1 : cJ16_init.data.toList.drop 24 = dktJ16_init_1 := dk_seg dksJ16_init_0 24 rfl rfl
theorem dJ16_init_0 : decode cJ16_init 0 = .ok (.aload_n 0, 1) := dk_42 (dk_at dksJ16_init_0 0 rfl rfl)
theorem dJ16_init_1 : decode cJ16_init 1 = .ok (.invokespecial 1, 3) := dk_183 0 1 (dk_at dksJ16_init_0 1 rfl rfl)
theorem dJ16_init_4 : decode cJ16_init 4 = .ok (.aload_n 0, 1) := dk_42 (dk_at dksJ16_init_0 4 rfl rfl)
theorem dJ16_init_5 : decode cJ16_init 5 = .ok (.aload_n 0, 1) := dk_42 (dk_at dksJ16_init_0 5 rfl rfl)
theorem dJ16_init_6 : decode cJ16_init 6 = .ok (.putfield 7, 3) := dk_181 0 7 (dk_at dksJ16_init_0 6 rfl rfl)
theorem dJ16_init_9 : decode cJ16_init 9 = .ok (.aload_n 0, 1) := dk_42 (dk_at dksJ16_init_0 9 rfl rfl)
theorem dJ16_init_10 : decode cJ16_init 10 = .ok (.getstatic 13, 3) := dk_178 0 13 (dk_at dksJ16_init_0 10 rfl rfl)
theorem dJ16_init_13 : decode cJ16_init 13 = .ok (.putfield 17, 3) := dk_181 0 17 (dk_at dksJ16_init_0 13 rfl rfl)
theorem dJ16_init_16 : decode cJ16_init 16 = .ok (.aload_n 0, 1) := dk_42 (dk_at dksJ16_init_0 16 rfl rfl)
theorem dJ16_init_17 : decode cJ16_init 17 = .ok (.getstatic 20, 3) := dk_178 0 20 (dk_at dksJ16_init_0 17 rfl rfl)
theorem dJ16_init_20 : decode cJ16_init 20 = .ok (.putfield 24, 3) := dk_181 0 24 (dk_at dksJ16_init_0 20 rfl rfl)
theorem dJ16_init_23 : decode cJ16_init 23 = .ok (.aload_n 0, 1) := dk_42 (dk_at dksJ16_init_0 23 rfl rfl)
theorem dJ16_init_24 : decode cJ16_init 24 = .ok (.invokevirtual 27, 3) := dk_182 0 27 (dk_at dksJ16_init_1 0 rfl rfl)
theorem dJ16_init_27 : decode cJ16_init 27 = .ok (.pop, 1) := dk_87 (dk_at dksJ16_init_1 3 rfl rfl)
theorem dJ16_init_28 : decode cJ16_init 28 = .ok (.return_, 1) := dk_177 (dk_at dksJ16_init_1 4 rfl rfl)
abbrev cJ16_init_2 : ByteArray := prog_43_method_2_code
def yJ16_init_2 : MethodName := ⟨RJ16, "<init>", "(Ljava/lang/String;)V"⟩
def dkwJ16_init_2_1 : List UInt8 := [182, 0, 27, 87, 42, 43, 181, 0, 31, 177]
abbrev dktJ16_init_2_1 : List UInt8 := dkwJ16_init_2_1 ++ []
def dkwJ16_init_2_0 : List UInt8 := [42, 183, 0, 1, 42, 42, 181, 0, 7, 42, 178, 0, 13, 181, 0, 17, 42, 178, 0, 20, 181, 0, 24, 42]
abbrev dktJ16_init_2_0 : List UInt8 := dkwJ16_init_2_0 ++ dktJ16_init_2_1
theorem dksJ16_init_2_0 : cJ16_init_2.data.toList.drop 0 = dktJ16_init_2_0 := by decide +kernel
theorem dksJ16_init_2_1 : cJ16_init_2.data.toList.drop 24 = dktJ16_init_2_1 := dk_seg dksJ16_init_2_0 24 rfl rfl
theorem dJ16_init_2_0 : decode cJ16_init_2 0 = .ok (.aload_n 0, 1) := dk_42 (dk_at dksJ16_init_2_0 0 rfl rfl)
theorem dJ16_init_2_1 : decode cJ16_init_2 1 = .ok (.invokespecial 1, 3) := dk_183 0 1 (dk_at dksJ16_init_2_0 1 rfl rfl)
theorem dJ16_init_2_4 : decode cJ16_init_2 4 = .ok (.aload_n 0, 1) := dk_42 (dk_at dksJ16_init_2_0 4 rfl rfl)
theorem dJ16_init_2_5 : decode cJ16_init_2 5 = .ok (.aload_n 0, 1) := dk_42 (dk_at dksJ16_init_2_0 5 rfl rfl)
theorem dJ16_init_2_6 : decode cJ16_init_2 6 = .ok (.putfield 7, 3) := dk_181 0 7 (dk_at dksJ16_init_2_0 6 rfl rfl)
theorem dJ16_init_2_9 : decode cJ16_init_2 9 = .ok (.aload_n 0, 1) := dk_42 (dk_at dksJ16_init_2_0 9 rfl rfl)
theorem dJ16_init_2_10 : decode cJ16_init_2 10 = .ok (.getstatic 13, 3) := dk_178 0 13 (dk_at dksJ16_init_2_0 10 rfl rfl)
theorem dJ16_init_2_13 : decode cJ16_init_2 13 = .ok (.putfield 17, 3) := dk_181 0 17 (dk_at dksJ16_init_2_0 13 rfl rfl)
theorem dJ16_init_2_16 : decode cJ16_init_2 16 = .ok (.aload_n 0, 1) := dk_42 (dk_at dksJ16_init_2_0 16 rfl rfl)
theorem dJ16_init_2_17 : decode cJ16_init_2 17 = .ok (.getstatic 20, 3) := dk_178 0 20 (dk_at dksJ16_init_2_0 17 rfl rfl)
theorem dJ16_init_2_20 : decode cJ16_init_2 20 = .ok (.putfield 24, 3) := dk_181 0 24 (dk_at dksJ16_init_2_0 20 rfl rfl)
theorem dJ16_init_2_23 : decode cJ16_init_2 23 = .ok (.aload_n 0, 1) := dk_42 (dk_at dksJ16_init_2_0 23 rfl rfl)
theorem dJ16_init_2_24 : decode cJ16_init_2 24 = .ok (.invokevirtual 27, 3) := dk_182 0 27 (dk_at dksJ16_init_2_1 0 rfl rfl)
theorem dJ16_init_2_27 : decode cJ16_init_2 27 = .ok (.pop, 1) := dk_87 (dk_at dksJ16_init_2_1 3 rfl rfl)
theorem dJ16_init_2_28 : decode cJ16_init_2 28 = .ok (.aload_n 0, 1) := dk_42 (dk_at dksJ16_init_2_1 4 rfl rfl)
theorem dJ16_init_2_29 : decode cJ16_init_2 29 = .ok (.aload_n 1, 1) := dk_43 (dk_at dksJ16_init_2_1 5 rfl rfl)
theorem dJ16_init_2_30 : decode cJ16_init_2 30 = .ok (.putfield 31, 3) := dk_181 0 31 (dk_at dksJ16_init_2_1 6 rfl rfl)
theorem dJ16_init_2_33 : decode cJ16_init_2 33 = .ok (.return_, 1) := dk_177 (dk_at dksJ16_init_2_1 9 rfl rfl)
abbrev cJ16_init_3 : ByteArray := prog_43_method_3_code
def yJ16_init_3 : MethodName := ⟨RJ16, "<init>", "(Ljava/lang/String;Ljava/lang/Throwable;)V"⟩
def dkwJ16_init_3_1 : List UInt8 := [182, 0, 27, 87, 42, 43, 181, 0, 31, 42, 44, 181, 0, 7, 177]
abbrev dktJ16_init_3_1 : List UInt8 := dkwJ16_init_3_1 ++ []
def dkwJ16_init_3_0 : List UInt8 := [42, 183, 0, 1, 42, 42, 181, 0, 7, 42, 178, 0, 13, 181, 0, 17, 42, 178, 0, 20, 181, 0, 24, 42]
abbrev dktJ16_init_3_0 : List UInt8 := dkwJ16_init_3_0 ++ dktJ16_init_3_1
theorem dksJ16_init_3_0 : cJ16_init_3.data.toList.drop 0 = dktJ16_init_3_0 := by decide +kernel
theorem dksJ16_init_3_1 : cJ16_init_3.data.toList.drop 24 = dktJ16_init_3_1 := dk_seg dksJ16_init_3_0 24 rfl rfl
theorem dJ16_init_3_0 : decode cJ16_init_3 0 = .ok (.aload_n 0, 1) := dk_42 (dk_at dksJ16_init_3_0 0 rfl rfl)
theorem dJ16_init_3_1 : decode cJ16_init_3 1 = .ok (.invokespecial 1, 3) := dk_183 0 1 (dk_at dksJ16_init_3_0 1 rfl rfl)
theorem dJ16_init_3_4 : decode cJ16_init_3 4 = .ok (.aload_n 0, 1) := dk_42 (dk_at dksJ16_init_3_0 4 rfl rfl)
theorem dJ16_init_3_5 : decode cJ16_init_3 5 = .ok (.aload_n 0, 1) := dk_42 (dk_at dksJ16_init_3_0 5 rfl rfl)
theorem dJ16_init_3_6 : decode cJ16_init_3 6 = .ok (.putfield 7, 3) := dk_181 0 7 (dk_at dksJ16_init_3_0 6 rfl rfl)
theorem dJ16_init_3_9 : decode cJ16_init_3 9 = .ok (.aload_n 0, 1) := dk_42 (dk_at dksJ16_init_3_0 9 rfl rfl)
theorem dJ16_init_3_10 : decode cJ16_init_3 10 = .ok (.getstatic 13, 3) := dk_178 0 13 (dk_at dksJ16_init_3_0 10 rfl rfl)
theorem dJ16_init_3_13 : decode cJ16_init_3 13 = .ok (.putfield 17, 3) := dk_181 0 17 (dk_at dksJ16_init_3_0 13 rfl rfl)
theorem dJ16_init_3_16 : decode cJ16_init_3 16 = .ok (.aload_n 0, 1) := dk_42 (dk_at dksJ16_init_3_0 16 rfl rfl)
theorem dJ16_init_3_17 : decode cJ16_init_3 17 = .ok (.getstatic 20, 3) := dk_178 0 20 (dk_at dksJ16_init_3_0 17 rfl rfl)
theorem dJ16_init_3_20 : decode cJ16_init_3 20 = .ok (.putfield 24, 3) := dk_181 0 24 (dk_at dksJ16_init_3_0 20 rfl rfl)
theorem dJ16_init_3_23 : decode cJ16_init_3 23 = .ok (.aload_n 0, 1) := dk_42 (dk_at dksJ16_init_3_0 23 rfl rfl)
theorem dJ16_init_3_24 : decode cJ16_init_3 24 = .ok (.invokevirtual 27, 3) := dk_182 0 27 (dk_at dksJ16_init_3_1 0 rfl rfl)
theorem dJ16_init_3_27 : decode cJ16_init_3 27 = .ok (.pop, 1) := dk_87 (dk_at dksJ16_init_3_1 3 rfl rfl)
theorem dJ16_init_3_28 : decode cJ16_init_3 28 = .ok (.aload_n 0, 1) := dk_42 (dk_at dksJ16_init_3_1 4 rfl rfl)
theorem dJ16_init_3_29 : decode cJ16_init_3 29 = .ok (.aload_n 1, 1) := dk_43 (dk_at dksJ16_init_3_1 5 rfl rfl)
theorem dJ16_init_3_30 : decode cJ16_init_3 30 = .ok (.putfield 31, 3) := dk_181 0 31 (dk_at dksJ16_init_3_1 6 rfl rfl)
theorem dJ16_init_3_33 : decode cJ16_init_3 33 = .ok (.aload_n 0, 1) := dk_42 (dk_at dksJ16_init_3_1 9 rfl rfl)
theorem dJ16_init_3_34 : decode cJ16_init_3 34 = .ok (.aload_n 2, 1) := dk_44 (dk_at dksJ16_init_3_1 10 rfl rfl)
theorem dJ16_init_3_35 : decode cJ16_init_3 35 = .ok (.putfield 7, 3) := dk_181 0 7 (dk_at dksJ16_init_3_1 11 rfl rfl)
theorem dJ16_init_3_38 : decode cJ16_init_3 38 = .ok (.return_, 1) := dk_177 (dk_at dksJ16_init_3_1 14 rfl rfl)
theorem q174 : (Jvm.Cond.initialized "java/lang/Throwable") ∈ lw_all := lw_g (lw_at lw_m1 23 rfl) rfl
theorem q661 : (Jvm.Cond.declares ({ cls := "java/lang/Throwable", name := "<init>", desc := "()V" } : Jvm.MethodName)) ∈ lw_tbl := lw_at lw_m3 30 rfl
theorem q662 : (Jvm.Cond.declares ({ cls := "java/lang/Throwable", name := "<init>", desc := "(Ljava/lang/String;)V" } : Jvm.MethodName)) ∈ lw_tbl := lw_at lw_m3 31 rfl
theorem q666 : (Jvm.Cond.lays "java/lang/Throwable" "java/lang/Throwable" "cause" "Ljava/lang/Throwable;") ∈ lw_all := lw_g (lw_at lw_m3 35 rfl) rfl
theorem q668 : (Jvm.Cond.lays "java/lang/Throwable" "java/lang/Throwable" "stackTrace" "[Ljava/lang/StackTraceElement;") ∈ lw_all := lw_g (lw_at lw_m3 37 rfl) rfl
theorem q670 : (Jvm.Cond.lays "java/lang/Throwable" "java/lang/Throwable" "suppressedExceptions" "Ljava/util/List;") ∈ lw_all := lw_g (lw_at lw_m3 39 rfl) rfl
theorem q672 : (Jvm.Cond.lays "java/lang/Throwable" "java/lang/Throwable" "detailMessage" "Ljava/lang/String;") ∈ lw_all := lw_g (lw_at lw_m3 41 rfl) rfl
theorem q674 : (Jvm.Cond.lays "java/lang/Throwable" "java/lang/Throwable" "backtrace" "Ljava/lang/Object;") ∈ lw_all := lw_g (lw_at lw_m3 43 rfl) rfl
theorem q675 : (Jvm.Cond.fieldLink "java/lang/Throwable" (198 : Nat) "java/lang/Throwable" "backtrace" "Ljava/lang/Object;") ∈ lw_all := lw_g (lw_at lw_m3 44 rfl) rfl
theorem q676 : (Jvm.Cond.superclass "java/lang/Throwable" "java/lang/Object") ∈ lw_all := lw_g (lw_at lw_m3 45 rfl) rfl
theorem q677 : (Jvm.Cond.instanceMethod ({ cls := "java/lang/Throwable", name := "<init>", desc := "()V" } : Jvm.MethodName)) ∈ lw_all := lw_g (lw_at lw_m3 46 rfl) rfl
theorem q678 : (Jvm.Cond.code ({ cls := "java/lang/Throwable", name := "<init>", desc := "()V" } : Jvm.MethodName) prog_43_method_1_code (1 : Nat) (Option.none : Option Jvm.ClassFile.FieldType)) ∈ lw_all := lw_g (lw_at lw_m3 47 rfl) rfl
theorem q679 : (Jvm.Cond.methodLink "java/lang/Throwable" (1 : Nat) ({ cls := "java/lang/Object", name := "<init>", desc := "()V" } : Jvm.MethodName)) ∈ lw_all := lw_g (lw_at lw_m3 48 rfl) rfl
theorem q680 : (Jvm.Cond.fieldLink "java/lang/Throwable" (13 : Nat) "java/lang/Throwable" "UNASSIGNED_STACK" "[Ljava/lang/StackTraceElement;") ∈ lw_all := lw_g (lw_at lw_m3 49 rfl) rfl
theorem q681 : (Jvm.Cond.laysStatic "java/lang/Throwable" "UNASSIGNED_STACK" "[Ljava/lang/StackTraceElement;") ∈ lw_tbl := lw_at lw_m3 50 rfl
theorem q682 : (Jvm.Cond.fieldLink "java/lang/Throwable" (20 : Nat) "java/lang/Throwable" "SUPPRESSED_SENTINEL" "Ljava/util/List;") ∈ lw_all := lw_g (lw_at lw_m3 51 rfl) rfl
theorem q683 : (Jvm.Cond.laysStatic "java/lang/Throwable" "SUPPRESSED_SENTINEL" "Ljava/util/List;") ∈ lw_tbl := lw_at lw_m3 52 rfl
theorem q684 : (Jvm.Cond.methodLink "java/lang/Throwable" (27 : Nat) ({ cls := "java/lang/Throwable", name := "fillInStackTrace", desc := "()Ljava/lang/Throwable;" } : Jvm.MethodName)) ∈ lw_all := lw_g (lw_at lw_m3 53 rfl) rfl
theorem q685 : (Jvm.Cond.instanceMethod ({ cls := "java/lang/Throwable", name := "fillInStackTrace", desc := "()Ljava/lang/Throwable;" } : Jvm.MethodName)) ∈ lw_all := lw_g (lw_at lw_m3 54 rfl) rfl
theorem q686 : (Jvm.Cond.sameMethod "java/lang/Throwable" "java/lang/Throwable" "fillInStackTrace" "()Ljava/lang/Throwable;") ∈ lw_all := lw_g (lw_at lw_m3 55 rfl) rfl
theorem q705 : (Jvm.Cond.declares ({ cls := "java/lang/Throwable", name := "fillInStackTrace", desc := "()Ljava/lang/Throwable;" } : Jvm.MethodName)) ∈ lw_tbl := lw_at lw_m3 74 rfl
theorem q709 : (Jvm.Cond.codeSync ({ cls := "java/lang/Throwable", name := "fillInStackTrace", desc := "()Ljava/lang/Throwable;" } : Jvm.MethodName) prog_43_method_18_code (1 : Nat) (Option.some (Jvm.ClassFile.FieldType.object "java/lang/Throwable"))) ∈ lw_all := lw_g (lw_at lw_m3 78 rfl) rfl
theorem q710 : (Jvm.Cond.methodLink "java/lang/Throwable" (202 : Nat) ({ cls := "java/lang/Throwable", name := "fillInStackTrace", desc := "(I)Ljava/lang/Throwable;" } : Jvm.MethodName)) ∈ lw_all := lw_g (lw_at lw_m3 79 rfl) rfl
theorem q711 : (Jvm.Cond.privateMethod ({ cls := "java/lang/Throwable", name := "fillInStackTrace", desc := "(I)Ljava/lang/Throwable;" } : Jvm.MethodName)) ∈ lw_tbl := lw_at lw_m3 80 rfl
theorem q712 : (Jvm.Cond.instanceMethod ({ cls := "java/lang/Throwable", name := "fillInStackTrace", desc := "(I)Ljava/lang/Throwable;" } : Jvm.MethodName)) ∈ lw_all := lw_g (lw_at lw_m3 81 rfl) rfl
theorem q713 : (Jvm.Cond.instantiable "java/lang/Throwable" (6 : Nat)) ∈ lw_all := lw_g (lw_at lw_m3 82 rfl) rfl
theorem q714 : (Jvm.Cond.native ({ cls := "java/lang/Throwable", name := "fillInStackTrace", desc := "(I)Ljava/lang/Throwable;" } : Jvm.MethodName)) ∈ lw_all := lw_g (lw_at lw_m3 83 rfl) rfl
theorem q919 : (Jvm.Cond.instanceMethod ({ cls := "java/lang/Throwable", name := "<init>", desc := "(Ljava/lang/String;)V" } : Jvm.MethodName)) ∈ lw_all := lw_g (lw_at lw_m4 48 rfl) rfl
theorem q920 : (Jvm.Cond.code ({ cls := "java/lang/Throwable", name := "<init>", desc := "(Ljava/lang/String;)V" } : Jvm.MethodName) prog_43_method_2_code (2 : Nat) (Option.none : Option Jvm.ClassFile.FieldType)) ∈ lw_all := lw_g (lw_at lw_m4 49 rfl) rfl
theorem q921 : (Jvm.Cond.fieldLink "java/lang/Throwable" (198 : Nat) "java/lang/Throwable" "backtrace" "Ljava/lang/Object;") ∈ lw_all := lw_g (lw_at lw_m4 50 rfl) rfl
theorem q922 : (Jvm.Cond.fieldLink "java/lang/Throwable" (31 : Nat) "java/lang/Throwable" "detailMessage" "Ljava/lang/String;") ∈ lw_all := lw_g (lw_at lw_m4 51 rfl) rfl
theorem q923 : (Jvm.Cond.fieldLink "java/lang/Throwable" (7 : Nat) "java/lang/Throwable" "cause" "Ljava/lang/Throwable;") ∈ lw_all := lw_g (lw_at lw_m4 52 rfl) rfl
theorem q924 : (Jvm.Cond.fieldLink "java/lang/Throwable" (17 : Nat) "java/lang/Throwable" "stackTrace" "[Ljava/lang/StackTraceElement;") ∈ lw_all := lw_g (lw_at lw_m4 53 rfl) rfl
theorem q925 : (Jvm.Cond.fieldLink "java/lang/Throwable" (24 : Nat) "java/lang/Throwable" "suppressedExceptions" "Ljava/util/List;") ∈ lw_all := lw_g (lw_at lw_m4 54 rfl) rfl
theorem q926 : (Jvm.Cond.soleField "java/lang/Throwable" "backtrace") ∈ lw_all := lw_g (lw_at lw_m4 55 rfl) rfl
theorem q927 : (Jvm.Cond.soleField "java/lang/Throwable" "detailMessage") ∈ lw_all := lw_g (lw_at lw_m4 56 rfl) rfl
theorem q928 : (Jvm.Cond.soleField "java/lang/Throwable" "cause") ∈ lw_all := lw_g (lw_at lw_m4 57 rfl) rfl
theorem q929 : (Jvm.Cond.soleField "java/lang/Throwable" "stackTrace") ∈ lw_all := lw_g (lw_at lw_m4 58 rfl) rfl
theorem q931 : (Jvm.Cond.soleField "java/lang/Throwable" "depth") ∈ lw_all := lw_g (lw_at lw_m4 60 rfl) rfl
theorem q932 : (Jvm.Cond.soleField "java/lang/Throwable" "suppressedExceptions") ∈ lw_all := lw_g (lw_at lw_m4 61 rfl) rfl
theorem q1593 : (Jvm.Cond.instanceMethod ({ cls := "java/lang/Throwable", name := "<init>", desc := "(Ljava/lang/String;Ljava/lang/Throwable;)V" } : Jvm.MethodName)) ∈ lw_all := lw_g (lw_at lw_m7 2 rfl) rfl
theorem q1594 : (Jvm.Cond.code ({ cls := "java/lang/Throwable", name := "<init>", desc := "(Ljava/lang/String;Ljava/lang/Throwable;)V" } : Jvm.MethodName) prog_43_method_3_code (3 : Nat) (Option.none : Option Jvm.ClassFile.FieldType)) ∈ lw_all := lw_g (lw_at lw_m7 3 rfl) rfl
theorem q2347 : (Jvm.Cond.instanceMethod ({ cls := "java/lang/Throwable", name := "addSuppressed", desc := "(Ljava/lang/Throwable;)V" } : Jvm.MethodName)) ∈ lw_all := lw_g (lw_at lw_m10 36 rfl) rfl
theorem q2348 : (Jvm.Cond.sameMethod "java/lang/Throwable" "java/lang/Throwable" "addSuppressed" "(Ljava/lang/Throwable;)V") ∈ lw_all := lw_g (lw_at lw_m10 37 rfl) rfl
theorem q2359 : (Jvm.Cond.codeSync ({ cls := "java/lang/Throwable", name := "addSuppressed", desc := "(Ljava/lang/Throwable;)V" } : Jvm.MethodName) prog_43_method_26_code (2 : Nat) (Option.none : Option Jvm.ClassFile.FieldType)) ∈ lw_all := lw_g (lw_at lw_m10 48 rfl) rfl
theorem q2360 : (Jvm.Cond.classLink "java/lang/Throwable" (64 : Nat) "java/lang/IllegalArgumentException") ∈ lw_all := lw_g (lw_at lw_m10 49 rfl) rfl
theorem q2361 : (Jvm.Cond.stringRef "java/lang/Throwable" (264 : Nat) "Self-suppression not permitted") ∈ lw_tbl := lw_at lw_m10 50 rfl
theorem q2362 : (Jvm.Cond.methodLink "java/lang/Throwable" (68 : Nat) ({ cls := "java/lang/IllegalArgumentException", name := "<init>", desc := "(Ljava/lang/String;Ljava/lang/Throwable;)V" } : Jvm.MethodName)) ∈ lw_all := lw_g (lw_at lw_m10 51 rfl) rfl
theorem q2369 : (Jvm.Cond.stringRef "java/lang/Throwable" (258 : Nat) "Cannot suppress a null exception.") ∈ lw_tbl := lw_at lw_m10 58 rfl
theorem q2370 : (Jvm.Cond.methodLink "java/lang/Throwable" (260 : Nat) ({ cls := "java/util/Objects", name := "requireNonNull", desc := "(Ljava/lang/Object;Ljava/lang/String;)Ljava/lang/Object;" } : Jvm.MethodName)) ∈ lw_all := lw_g (lw_at lw_m10 59 rfl) rfl
theorem q2373 : (Jvm.Cond.classLink "java/lang/Throwable" (233 : Nat) "java/util/ArrayList") ∈ lw_all := lw_g (lw_at lw_m10 62 rfl) rfl
theorem q2374 : (Jvm.Cond.methodLink "java/lang/Throwable" (241 : Nat) ({ cls := "java/util/ArrayList", name := "<init>", desc := "(I)V" } : Jvm.MethodName)) ∈ lw_all := lw_g (lw_at lw_m10 63 rfl) rfl
theorem q2375 : (Jvm.Cond.interfaceEntry "java/lang/Throwable" (301 : Nat)) ∈ lw_tbl := lw_at lw_m10 64 rfl
theorem q2376 : (Jvm.Cond.methodLink "java/lang/Throwable" (301 : Nat) ({ cls := "java/util/List", name := "add", desc := "(Ljava/lang/Object;)Z" } : Jvm.MethodName)) ∈ lw_all := lw_g (lw_at lw_m10 65 rfl) rfl
theorem q3489 : (Jvm.Cond.sameMethod "java/lang/Throwable" "java/lang/Throwable" "fillInStackTrace" "(I)Ljava/lang/Throwable;") ∈ lw_all := lw_g (lw_at lw_m14 218 rfl) rfl
theorem q3556 : (Jvm.Cond.castable "java/lang/Throwable" "java/lang/Object") ∈ lw_tbl := lw_at lw_m15 45 rfl
theorem in_J16 : ∀ w ∈ wsJ160, w ∈ lw_all := lw_in wsJ160 [666, 668, 670, 672, 674] (by decide +kernel) (by decide +kernel)
/-! java/lang/Exception -/
set_option maxRecDepth 100000
def RJ17 : String := "java/lang/Exception"
abbrev cJ17_init : ByteArray := prog_24_method_2_code
def yJ17_init : MethodName := ⟨RJ17, "<init>", "(Ljava/lang/String;)V"⟩
def dkwJ17_init_0 : List UInt8 := [42, 43, 183, 0, 7, 177]
abbrev dktJ17_init_0 : List UInt8 := dkwJ17_init_0 ++ []
theorem dksJ17_init_0 : cJ17_init.data.toList.drop 0 = dktJ17_init_0 := by decide +kernel
theorem dJ17_init_0 : decode cJ17_init 0 = .ok (.aload_n 0, 1) := dk_42 (dk_at dksJ17_init_0 0 rfl rfl)
theorem dJ17_init_1 : decode cJ17_init 1 = .ok (.aload_n 1, 1) := dk_43 (dk_at dksJ17_init_0 1 rfl rfl)
theorem dJ17_init_2 : decode cJ17_init 2 = .ok (.invokespecial 7, 3) := dk_183 0 7 (dk_at dksJ17_init_0 2 rfl rfl)
theorem dJ17_init_5 : decode cJ17_init 5 = .ok (.return_, 1) := dk_177 (dk_at dksJ17_init_0 5 rfl rfl)
abbrev cJ17_init_2 : ByteArray := prog_24_method_3_code
def yJ17_init_2 : MethodName := ⟨RJ17, "<init>", "(Ljava/lang/String;Ljava/lang/Throwable;)V"⟩
def dkwJ17_init_2_0 : List UInt8 := [42, 43, 44, 183, 0, 10, 177]
abbrev dktJ17_init_2_0 : List UInt8 := dkwJ17_init_2_0 ++ []
theorem dksJ17_init_2_0 : cJ17_init_2.data.toList.drop 0 = dktJ17_init_2_0 := by decide +kernel
theorem dJ17_init_2_0 : decode cJ17_init_2 0 = .ok (.aload_n 0, 1) := dk_42 (dk_at dksJ17_init_2_0 0 rfl rfl)
theorem dJ17_init_2_1 : decode cJ17_init_2 1 = .ok (.aload_n 1, 1) := dk_43 (dk_at dksJ17_init_2_0 1 rfl rfl)
theorem dJ17_init_2_2 : decode cJ17_init_2 2 = .ok (.aload_n 2, 1) := dk_44 (dk_at dksJ17_init_2_0 2 rfl rfl)
theorem dJ17_init_2_3 : decode cJ17_init_2 3 = .ok (.invokespecial 10, 3) := dk_183 0 10 (dk_at dksJ17_init_2_0 3 rfl rfl)
theorem dJ17_init_2_6 : decode cJ17_init_2 6 = .ok (.return_, 1) := dk_177 (dk_at dksJ17_init_2_0 6 rfl rfl)
abbrev cJ17_init_3 : ByteArray := prog_24_method_1_code
def yJ17_init_3 : MethodName := ⟨RJ17, "<init>", "()V"⟩
theorem dJ17_init_3_0 : decode cJ17_init_3 0 = .ok (.aload_n 0, 1) := by decide +kernel
theorem dJ17_init_3_1 : decode cJ17_init_3 1 = .ok (.invokespecial 1, 3) := by decide +kernel
theorem dJ17_init_3_4 : decode cJ17_init_3 4 = .ok (.return_, 1) := by decide +kernel
theorem q175 : (Jvm.Cond.initialized "java/lang/Exception") ∈ lw_all := lw_g (lw_at lw_m1 24 rfl) rfl
theorem q659 : (Jvm.Cond.declares ({ cls := "java/lang/Exception", name := "<init>", desc := "()V" } : Jvm.MethodName)) ∈ lw_tbl := lw_at lw_m3 28 rfl
theorem q660 : (Jvm.Cond.declares ({ cls := "java/lang/Exception", name := "<init>", desc := "(Ljava/lang/String;)V" } : Jvm.MethodName)) ∈ lw_tbl := lw_at lw_m3 29 rfl
theorem q708 : (Jvm.Cond.superclass "java/lang/Exception" "java/lang/Throwable") ∈ lw_all := lw_g (lw_at lw_m3 77 rfl) rfl
theorem q916 : (Jvm.Cond.instanceMethod ({ cls := "java/lang/Exception", name := "<init>", desc := "(Ljava/lang/String;)V" } : Jvm.MethodName)) ∈ lw_all := lw_g (lw_at lw_m4 45 rfl) rfl
theorem q917 : (Jvm.Cond.code ({ cls := "java/lang/Exception", name := "<init>", desc := "(Ljava/lang/String;)V" } : Jvm.MethodName) prog_24_method_2_code (2 : Nat) (Option.none : Option Jvm.ClassFile.FieldType)) ∈ lw_all := lw_g (lw_at lw_m4 46 rfl) rfl
theorem q918 : (Jvm.Cond.methodLink "java/lang/Exception" (7 : Nat) ({ cls := "java/lang/Throwable", name := "<init>", desc := "(Ljava/lang/String;)V" } : Jvm.MethodName)) ∈ lw_all := lw_g (lw_at lw_m4 47 rfl) rfl
theorem q1590 : (Jvm.Cond.instanceMethod ({ cls := "java/lang/Exception", name := "<init>", desc := "(Ljava/lang/String;Ljava/lang/Throwable;)V" } : Jvm.MethodName)) ∈ lw_all := lw_g (lw_at lw_m6 239 rfl) rfl
theorem q1591 : (Jvm.Cond.code ({ cls := "java/lang/Exception", name := "<init>", desc := "(Ljava/lang/String;Ljava/lang/Throwable;)V" } : Jvm.MethodName) prog_24_method_3_code (3 : Nat) (Option.none : Option Jvm.ClassFile.FieldType)) ∈ lw_all := lw_g (lw_at lw_m7 0 rfl) rfl
theorem q1592 : (Jvm.Cond.methodLink "java/lang/Exception" (10 : Nat) ({ cls := "java/lang/Throwable", name := "<init>", desc := "(Ljava/lang/String;Ljava/lang/Throwable;)V" } : Jvm.MethodName)) ∈ lw_all := lw_g (lw_at lw_m7 1 rfl) rfl
theorem q2270 : (Jvm.Cond.instanceMethod ({ cls := "java/lang/Exception", name := "<init>", desc := "()V" } : Jvm.MethodName)) ∈ lw_all := lw_g (lw_at lw_m9 199 rfl) rfl
theorem q2271 : (Jvm.Cond.code ({ cls := "java/lang/Exception", name := "<init>", desc := "()V" } : Jvm.MethodName) prog_24_method_1_code (1 : Nat) (Option.none : Option Jvm.ClassFile.FieldType)) ∈ lw_all := lw_g (lw_at lw_m9 200 rfl) rfl
theorem q2272 : (Jvm.Cond.methodLink "java/lang/Exception" (1 : Nat) ({ cls := "java/lang/Throwable", name := "<init>", desc := "()V" } : Jvm.MethodName)) ∈ lw_all := lw_g (lw_at lw_m9 201 rfl) rfl
/-! java/lang/RuntimeException -/
set_option maxRecDepth 100000
def RJ18 : String := "java/lang/RuntimeException"
abbrev cJ18_init : ByteArray := prog_36_method_2_code
def yJ18_init : MethodName := ⟨RJ18, "<init>", "(Ljava/lang/String;)V"⟩
def dkwJ18_init_0 : List UInt8 := [42, 43, 183, 0, 7, 177]
abbrev dktJ18_init_0 : List UInt8 := dkwJ18_init_0 ++ []
theorem dksJ18_init_0 : cJ18_init.data.toList.drop 0 = dktJ18_init_0 := by decide +kernel
theorem dJ18_init_0 : decode cJ18_init 0 = .ok (.aload_n 0, 1) := dk_42 (dk_at dksJ18_init_0 0 rfl rfl)
theorem dJ18_init_1 : decode cJ18_init 1 = .ok (.aload_n 1, 1) := dk_43 (dk_at dksJ18_init_0 1 rfl rfl)
theorem dJ18_init_2 : decode cJ18_init 2 = .ok (.invokespecial 7, 3) := dk_183 0 7 (dk_at dksJ18_init_0 2 rfl rfl)
theorem dJ18_init_5 : decode cJ18_init 5 = .ok (.return_, 1) := dk_177 (dk_at dksJ18_init_0 5 rfl rfl)
abbrev cJ18_init_2 : ByteArray := prog_36_method_1_code
def yJ18_init_2 : MethodName := ⟨RJ18, "<init>", "()V"⟩
theorem dJ18_init_2_0 : decode cJ18_init_2 0 = .ok (.aload_n 0, 1) := by decide +kernel
theorem dJ18_init_2_1 : decode cJ18_init_2 1 = .ok (.invokespecial 1, 3) := by decide +kernel
theorem dJ18_init_2_4 : decode cJ18_init_2 4 = .ok (.return_, 1) := by decide +kernel
abbrev cJ18_init_3 : ByteArray := prog_36_method_3_code
def yJ18_init_3 : MethodName := ⟨RJ18, "<init>", "(Ljava/lang/String;Ljava/lang/Throwable;)V"⟩
def dkwJ18_init_3_0 : List UInt8 := [42, 43, 44, 183, 0, 10, 177]
abbrev dktJ18_init_3_0 : List UInt8 := dkwJ18_init_3_0 ++ []
theorem dksJ18_init_3_0 : cJ18_init_3.data.toList.drop 0 = dktJ18_init_3_0 := by decide +kernel
theorem dJ18_init_3_0 : decode cJ18_init_3 0 = .ok (.aload_n 0, 1) := dk_42 (dk_at dksJ18_init_3_0 0 rfl rfl)
theorem dJ18_init_3_1 : decode cJ18_init_3 1 = .ok (.aload_n 1, 1) := dk_43 (dk_at dksJ18_init_3_0 1 rfl rfl)
theorem dJ18_init_3_2 : decode cJ18_init_3 2 = .ok (.aload_n 2, 1) := dk_44 (dk_at dksJ18_init_3_0 2 rfl rfl)
theorem dJ18_init_3_3 : decode cJ18_init_3 3 = .ok (.invokespecial 10, 3) := dk_183 0 10 (dk_at dksJ18_init_3_0 3 rfl rfl)
theorem dJ18_init_3_6 : decode cJ18_init_3 6 = .ok (.return_, 1) := dk_177 (dk_at dksJ18_init_3_0 6 rfl rfl)
theorem q176 : (Jvm.Cond.initialized "java/lang/RuntimeException") ∈ lw_all := lw_g (lw_at lw_m1 25 rfl) rfl
theorem q657 : (Jvm.Cond.declares ({ cls := "java/lang/RuntimeException", name := "<init>", desc := "()V" } : Jvm.MethodName)) ∈ lw_tbl := lw_at lw_m3 26 rfl
theorem q658 : (Jvm.Cond.declares ({ cls := "java/lang/RuntimeException", name := "<init>", desc := "(Ljava/lang/String;)V" } : Jvm.MethodName)) ∈ lw_tbl := lw_at lw_m3 27 rfl
theorem q704 : (Jvm.Cond.sameMethod "java/lang/RuntimeException" "java/lang/Throwable" "fillInStackTrace" "()Ljava/lang/Throwable;") ∈ lw_all := lw_g (lw_at lw_m3 73 rfl) rfl
theorem q707 : (Jvm.Cond.superclass "java/lang/RuntimeException" "java/lang/Exception") ∈ lw_all := lw_g (lw_at lw_m3 76 rfl) rfl
theorem q913 : (Jvm.Cond.instanceMethod ({ cls := "java/lang/RuntimeException", name := "<init>", desc := "(Ljava/lang/String;)V" } : Jvm.MethodName)) ∈ lw_all := lw_g (lw_at lw_m4 42 rfl) rfl
theorem q914 : (Jvm.Cond.code ({ cls := "java/lang/RuntimeException", name := "<init>", desc := "(Ljava/lang/String;)V" } : Jvm.MethodName) prog_36_method_2_code (2 : Nat) (Option.none : Option Jvm.ClassFile.FieldType)) ∈ lw_all := lw_g (lw_at lw_m4 43 rfl) rfl
theorem q915 : (Jvm.Cond.methodLink "java/lang/RuntimeException" (7 : Nat) ({ cls := "java/lang/Exception", name := "<init>", desc := "(Ljava/lang/String;)V" } : Jvm.MethodName)) ∈ lw_all := lw_g (lw_at lw_m4 44 rfl) rfl
theorem q2267 : (Jvm.Cond.instanceMethod ({ cls := "java/lang/RuntimeException", name := "<init>", desc := "()V" } : Jvm.MethodName)) ∈ lw_all := lw_g (lw_at lw_m9 196 rfl) rfl
theorem q2268 : (Jvm.Cond.code ({ cls := "java/lang/RuntimeException", name := "<init>", desc := "()V" } : Jvm.MethodName) prog_36_method_1_code (1 : Nat) (Option.none : Option Jvm.ClassFile.FieldType)) ∈ lw_all := lw_g (lw_at lw_m9 197 rfl) rfl
theorem q2269 : (Jvm.Cond.methodLink "java/lang/RuntimeException" (1 : Nat) ({ cls := "java/lang/Exception", name := "<init>", desc := "()V" } : Jvm.MethodName)) ∈ lw_all := lw_g (lw_at lw_m9 198 rfl) rfl
theorem q2287 : (Jvm.Cond.castable "java/lang/RuntimeException" "java/lang/Throwable") ∈ lw_tbl := lw_at lw_m9 216 rfl
theorem q2366 : (Jvm.Cond.instanceMethod ({ cls := "java/lang/RuntimeException", name := "<init>", desc := "(Ljava/lang/String;Ljava/lang/Throwable;)V" } : Jvm.MethodName)) ∈ lw_all := lw_g (lw_at lw_m10 55 rfl) rfl
theorem q2367 : (Jvm.Cond.code ({ cls := "java/lang/RuntimeException", name := "<init>", desc := "(Ljava/lang/String;Ljava/lang/Throwable;)V" } : Jvm.MethodName) prog_36_method_3_code (3 : Nat) (Option.none : Option Jvm.ClassFile.FieldType)) ∈ lw_all := lw_g (lw_at lw_m10 56 rfl) rfl
theorem q2368 : (Jvm.Cond.methodLink "java/lang/RuntimeException" (10 : Nat) ({ cls := "java/lang/Exception", name := "<init>", desc := "(Ljava/lang/String;Ljava/lang/Throwable;)V" } : Jvm.MethodName)) ∈ lw_all := lw_g (lw_at lw_m10 57 rfl) rfl
/-! java/lang/IllegalArgumentException -/
set_option maxRecDepth 100000
def RJ19 : String := "java/lang/IllegalArgumentException"
def TJ19 : u_T := fun k => match k with
  | 0 => ("java/lang/Throwable", "cause", "Ljava/lang/Throwable;", false)
  | 1 => ("java/lang/Throwable", "stackTrace", "[Ljava/lang/StackTraceElement;", false)
  | 2 => ("java/lang/Throwable", "suppressedExceptions", "Ljava/util/List;", false)
  | 3 => ("java/lang/Throwable", "detailMessage", "Ljava/lang/String;", false)
  | 4 => ("java/lang/Throwable", "backtrace", "Ljava/lang/Object;", false)
  | _ => ("java/lang/Throwable", "depth", "I", false)
def tyJ19 : Nat → FieldType := fun k => match k with
  | 0 => .object "java/lang/Throwable"
  | 1 => .array (.object "java/lang/StackTraceElement")
  | 2 => .object "java/util/List"
  | 3 => .object "java/lang/String"
  | 4 => .object "java/lang/Object"
  | _ => .int
abbrev wsJ190 : List Cond := u_ws RJ19 TJ19 6
theorem nmJ19 : ∀ a, a < 6 → ∀ b, b < 6 → a ≠ b → (TJ19 a).2.1 ≠ (TJ19 b).2.1 := by decide +kernel
theorem tyJ19_ok : ∀ k, k < 6 → parseFieldDescriptor (TJ19 k).2.2.1 = some (tyJ19 k) := by decide +kernel
abbrev cJ19_init : ByteArray := prog_25_method_2_code
def yJ19_init : MethodName := ⟨RJ19, "<init>", "(Ljava/lang/String;)V"⟩
def dkwJ19_init_0 : List UInt8 := [42, 43, 183, 0, 7, 177]
abbrev dktJ19_init_0 : List UInt8 := dkwJ19_init_0 ++ []
theorem dksJ19_init_0 : cJ19_init.data.toList.drop 0 = dktJ19_init_0 := by decide +kernel
theorem dJ19_init_0 : decode cJ19_init 0 = .ok (.aload_n 0, 1) := dk_42 (dk_at dksJ19_init_0 0 rfl rfl)
theorem dJ19_init_1 : decode cJ19_init 1 = .ok (.aload_n 1, 1) := dk_43 (dk_at dksJ19_init_0 1 rfl rfl)
theorem dJ19_init_2 : decode cJ19_init 2 = .ok (.invokespecial 7, 3) := dk_183 0 7 (dk_at dksJ19_init_0 2 rfl rfl)
theorem dJ19_init_5 : decode cJ19_init 5 = .ok (.return_, 1) := dk_177 (dk_at dksJ19_init_0 5 rfl rfl)
abbrev cJ19_init_2 : ByteArray := prog_25_method_3_code
def yJ19_init_2 : MethodName := ⟨RJ19, "<init>", "(Ljava/lang/String;Ljava/lang/Throwable;)V"⟩
def dkwJ19_init_2_0 : List UInt8 := [42, 43, 44, 183, 0, 10, 177]
abbrev dktJ19_init_2_0 : List UInt8 := dkwJ19_init_2_0 ++ []
theorem dksJ19_init_2_0 : cJ19_init_2.data.toList.drop 0 = dktJ19_init_2_0 := by decide +kernel
theorem dJ19_init_2_0 : decode cJ19_init_2 0 = .ok (.aload_n 0, 1) := dk_42 (dk_at dksJ19_init_2_0 0 rfl rfl)
theorem dJ19_init_2_1 : decode cJ19_init_2 1 = .ok (.aload_n 1, 1) := dk_43 (dk_at dksJ19_init_2_0 1 rfl rfl)
theorem dJ19_init_2_2 : decode cJ19_init_2 2 = .ok (.aload_n 2, 1) := dk_44 (dk_at dksJ19_init_2_0 2 rfl rfl)
theorem dJ19_init_2_3 : decode cJ19_init_2 3 = .ok (.invokespecial 10, 3) := dk_183 0 10 (dk_at dksJ19_init_2_0 3 rfl rfl)
theorem dJ19_init_2_6 : decode cJ19_init_2 6 = .ok (.return_, 1) := dk_177 (dk_at dksJ19_init_2_0 6 rfl rfl)
abbrev cJ19_init_3 : ByteArray := prog_25_method_1_code
def yJ19_init_3 : MethodName := ⟨RJ19, "<init>", "()V"⟩
theorem dJ19_init_3_0 : decode cJ19_init_3 0 = .ok (.aload_n 0, 1) := by decide +kernel
theorem dJ19_init_3_1 : decode cJ19_init_3 1 = .ok (.invokespecial 1, 3) := by decide +kernel
theorem dJ19_init_3_4 : decode cJ19_init_3 4 = .ok (.return_, 1) := by decide +kernel
theorem q177 : (Jvm.Cond.initialized "java/lang/IllegalArgumentException") ∈ lw_all := lw_g (lw_at lw_m1 26 rfl) rfl
theorem q506 : (Jvm.Cond.selects "java/lang/IllegalArgumentException" ({ cls := "java/lang/Object", name := "getClass", desc := "()Ljava/lang/Class;" } : Jvm.MethodName) ({ cls := "java/lang/Object", name := "getClass", desc := "()Ljava/lang/Class;" } : Jvm.MethodName)) ∈ lw_all := lw_g (lw_at lw_m2 115 rfl) rfl
theorem q582 : (Jvm.Cond.selects "java/lang/IllegalArgumentException" ({ cls := "java/lang/Object", name := "hashCode", desc := "()I" } : Jvm.MethodName) ({ cls := "java/lang/Object", name := "hashCode", desc := "()I" } : Jvm.MethodName)) ∈ lw_all := lw_g (lw_at lw_m2 191 rfl) rfl
theorem q655 : (Jvm.Cond.instantiable "java/lang/IllegalArgumentException" (6 : Nat)) ∈ lw_all := lw_g (lw_at lw_m3 24 rfl) rfl
theorem q656 : (Jvm.Cond.castable "java/lang/IllegalArgumentException" "java/lang/IllegalArgumentException") ∈ lw_tbl := lw_at lw_m3 25 rfl
theorem q663 : (Jvm.Cond.selects "java/lang/IllegalArgumentException" ({ cls := "java/lang/Throwable", name := "fillInStackTrace", desc := "(I)Ljava/lang/Throwable;" } : Jvm.MethodName) ({ cls := "java/lang/Throwable", name := "fillInStackTrace", desc := "(I)Ljava/lang/Throwable;" } : Jvm.MethodName)) ∈ lw_all := lw_g (lw_at lw_m3 32 rfl) rfl
theorem q664 : (Jvm.Cond.selects "java/lang/IllegalArgumentException" ({ cls := "java/lang/Throwable", name := "fillInStackTrace", desc := "()Ljava/lang/Throwable;" } : Jvm.MethodName) ({ cls := "java/lang/Throwable", name := "fillInStackTrace", desc := "()Ljava/lang/Throwable;" } : Jvm.MethodName)) ∈ lw_all := lw_g (lw_at lw_m3 33 rfl) rfl
theorem q665 : (Jvm.Cond.lays "java/lang/IllegalArgumentException" "java/lang/Throwable" "cause" "Ljava/lang/Throwable;") ∈ lw_all := lw_g (lw_at lw_m3 34 rfl) rfl
theorem q667 : (Jvm.Cond.lays "java/lang/IllegalArgumentException" "java/lang/Throwable" "stackTrace" "[Ljava/lang/StackTraceElement;") ∈ lw_all := lw_g (lw_at lw_m3 36 rfl) rfl
theorem q669 : (Jvm.Cond.lays "java/lang/IllegalArgumentException" "java/lang/Throwable" "suppressedExceptions" "Ljava/util/List;") ∈ lw_all := lw_g (lw_at lw_m3 38 rfl) rfl
theorem q671 : (Jvm.Cond.lays "java/lang/IllegalArgumentException" "java/lang/Throwable" "detailMessage" "Ljava/lang/String;") ∈ lw_all := lw_g (lw_at lw_m3 40 rfl) rfl
theorem q673 : (Jvm.Cond.lays "java/lang/IllegalArgumentException" "java/lang/Throwable" "backtrace" "Ljava/lang/Object;") ∈ lw_all := lw_g (lw_at lw_m3 42 rfl) rfl
theorem q910 : (Jvm.Cond.instanceMethod ({ cls := "java/lang/IllegalArgumentException", name := "<init>", desc := "(Ljava/lang/String;)V" } : Jvm.MethodName)) ∈ lw_all := lw_g (lw_at lw_m4 39 rfl) rfl
theorem q911 : (Jvm.Cond.code ({ cls := "java/lang/IllegalArgumentException", name := "<init>", desc := "(Ljava/lang/String;)V" } : Jvm.MethodName) prog_25_method_2_code (2 : Nat) (Option.none : Option Jvm.ClassFile.FieldType)) ∈ lw_all := lw_g (lw_at lw_m4 40 rfl) rfl
theorem q912 : (Jvm.Cond.methodLink "java/lang/IllegalArgumentException" (7 : Nat) ({ cls := "java/lang/RuntimeException", name := "<init>", desc := "(Ljava/lang/String;)V" } : Jvm.MethodName)) ∈ lw_all := lw_g (lw_at lw_m4 41 rfl) rfl
theorem q930 : (Jvm.Cond.lays "java/lang/IllegalArgumentException" "java/lang/Throwable" "depth" "I") ∈ lw_all := lw_g (lw_at lw_m4 59 rfl) rfl
theorem q933 : (Jvm.Cond.superclass "java/lang/IllegalArgumentException" "java/lang/RuntimeException") ∈ lw_all := lw_g (lw_at lw_m4 62 rfl) rfl
theorem q1317 : (Jvm.Cond.selects "java/lang/IllegalArgumentException" ({ cls := "java/lang/Object", name := "equals", desc := "(Ljava/lang/Object;)Z" } : Jvm.MethodName) ({ cls := "java/lang/Object", name := "equals", desc := "(Ljava/lang/Object;)Z" } : Jvm.MethodName)) ∈ lw_all := lw_g (lw_at lw_m5 206 rfl) rfl
theorem q2354 : (Jvm.Cond.selects "java/lang/IllegalArgumentException" ({ cls := "java/lang/Throwable", name := "addSuppressed", desc := "(Ljava/lang/Throwable;)V" } : Jvm.MethodName) ({ cls := "java/lang/Throwable", name := "addSuppressed", desc := "(Ljava/lang/Throwable;)V" } : Jvm.MethodName)) ∈ lw_all := lw_g (lw_at lw_m10 43 rfl) rfl
theorem q2363 : (Jvm.Cond.instanceMethod ({ cls := "java/lang/IllegalArgumentException", name := "<init>", desc := "(Ljava/lang/String;Ljava/lang/Throwable;)V" } : Jvm.MethodName)) ∈ lw_all := lw_g (lw_at lw_m10 52 rfl) rfl
theorem q2364 : (Jvm.Cond.code ({ cls := "java/lang/IllegalArgumentException", name := "<init>", desc := "(Ljava/lang/String;Ljava/lang/Throwable;)V" } : Jvm.MethodName) prog_25_method_3_code (3 : Nat) (Option.none : Option Jvm.ClassFile.FieldType)) ∈ lw_all := lw_g (lw_at lw_m10 53 rfl) rfl
theorem q2365 : (Jvm.Cond.methodLink "java/lang/IllegalArgumentException" (10 : Nat) ({ cls := "java/lang/RuntimeException", name := "<init>", desc := "(Ljava/lang/String;Ljava/lang/Throwable;)V" } : Jvm.MethodName)) ∈ lw_all := lw_g (lw_at lw_m10 54 rfl) rfl
theorem q2451 : (Jvm.Cond.instanceMethod ({ cls := "java/lang/IllegalArgumentException", name := "<init>", desc := "()V" } : Jvm.MethodName)) ∈ lw_all := lw_g (lw_at lw_m10 140 rfl) rfl
theorem q2452 : (Jvm.Cond.code ({ cls := "java/lang/IllegalArgumentException", name := "<init>", desc := "()V" } : Jvm.MethodName) prog_25_method_1_code (1 : Nat) (Option.none : Option Jvm.ClassFile.FieldType)) ∈ lw_all := lw_g (lw_at lw_m10 141 rfl) rfl
theorem q2453 : (Jvm.Cond.methodLink "java/lang/IllegalArgumentException" (1 : Nat) ({ cls := "java/lang/RuntimeException", name := "<init>", desc := "()V" } : Jvm.MethodName)) ∈ lw_all := lw_g (lw_at lw_m10 142 rfl) rfl
theorem q3517 : (Jvm.Cond.castable "java/lang/IllegalArgumentException" "java/lang/Throwable") ∈ lw_tbl := lw_at lw_m15 6 rfl
theorem q3537 : (Jvm.Cond.castable "java/lang/IllegalArgumentException" "java/lang/Object") ∈ lw_tbl := lw_at lw_m15 26 rfl
theorem in_J19 : ∀ w ∈ wsJ190, w ∈ lw_all := lw_in wsJ190 [665, 667, 669, 671, 673, 930] (by decide +kernel) (by decide +kernel)
/-! java/lang/AbstractStringBuilder -/
set_option maxRecDepth 100000
def RJ20 : String := "java/lang/AbstractStringBuilder"
abbrev cJ20_init : ByteArray := prog_14_method_2_code
def yJ20_init : MethodName := ⟨RJ20, "<init>", "(I)V"⟩
def dkwJ20_init_1 : List UInt8 := [167, 0, 16, 42, 27, 184, 0, 26, 181, 0, 15, 42, 4, 181, 0, 22, 177]
abbrev dktJ20_init_1 : List UInt8 := dkwJ20_init_1 ++ []
def dkwJ20_init_0 : List UInt8 := [42, 183, 0, 3, 178, 0, 18, 153, 0, 18, 42, 27, 188, 8, 181, 0, 15, 42, 3, 181, 0, 22]
abbrev dktJ20_init_0 : List UInt8 := dkwJ20_init_0 ++ dktJ20_init_1
theorem dksJ20_init_0 : cJ20_init.data.toList.drop 0 = dktJ20_init_0 := by decide +kernel
theorem dksJ20_init_1 : cJ20_init.data.toList.drop 22 = dktJ20_init_1 := dk_seg dksJ20_init_0 22 rfl rfl
theorem dJ20_init_0 : decode cJ20_init 0 = .ok (.aload_n 0, 1) := dk_42 (dk_at dksJ20_init_0 0 rfl rfl)
theorem dJ20_init_1 : decode cJ20_init 1 = .ok (.invokespecial 3, 3) := dk_183 0 3 (dk_at dksJ20_init_0 1 rfl rfl)
theorem dJ20_init_4 : decode cJ20_init 4 = .ok (.getstatic 18, 3) := dk_178 0 18 (dk_at dksJ20_init_0 4 rfl rfl)
theorem dJ20_init_7 : decode cJ20_init 7 = .ok (.ifCond .eq 18, 3) := dk_153 0 18 (dk_at dksJ20_init_0 7 rfl rfl)
theorem dJ20_init_10 : decode cJ20_init 10 = .ok (.aload_n 0, 1) := dk_42 (dk_at dksJ20_init_0 10 rfl rfl)
theorem dJ20_init_11 : decode cJ20_init 11 = .ok (.iload_n 1, 1) := dk_27 (dk_at dksJ20_init_0 11 rfl rfl)
theorem dJ20_init_12 : decode cJ20_init 12 = .ok (.newarray .byte, 2) := dk_188_8 (dk_at dksJ20_init_0 12 rfl rfl)
theorem dJ20_init_14 : decode cJ20_init 14 = .ok (.putfield 15, 3) := dk_181 0 15 (dk_at dksJ20_init_0 14 rfl rfl)
theorem dJ20_init_17 : decode cJ20_init 17 = .ok (.aload_n 0, 1) := dk_42 (dk_at dksJ20_init_0 17 rfl rfl)
theorem dJ20_init_18 : decode cJ20_init 18 = .ok (.iconst 0, 1) := dk_3 (dk_at dksJ20_init_0 18 rfl rfl)
theorem dJ20_init_19 : decode cJ20_init 19 = .ok (.putfield 22, 3) := dk_181 0 22 (dk_at dksJ20_init_0 19 rfl rfl)
theorem dJ20_init_22 : decode cJ20_init 22 = .ok (.goto 16, 3) := dk_167 0 16 (dk_at dksJ20_init_1 0 rfl rfl)
theorem dJ20_init_25 : decode cJ20_init 25 = .ok (.aload_n 0, 1) := dk_42 (dk_at dksJ20_init_1 3 rfl rfl)
theorem dJ20_init_26 : decode cJ20_init 26 = .ok (.iload_n 1, 1) := dk_27 (dk_at dksJ20_init_1 4 rfl rfl)
theorem dJ20_init_27 : decode cJ20_init 27 = .ok (.invokestatic 26, 3) := dk_184 0 26 (dk_at dksJ20_init_1 5 rfl rfl)
theorem dJ20_init_30 : decode cJ20_init 30 = .ok (.putfield 15, 3) := dk_181 0 15 (dk_at dksJ20_init_1 8 rfl rfl)
theorem dJ20_init_33 : decode cJ20_init 33 = .ok (.aload_n 0, 1) := dk_42 (dk_at dksJ20_init_1 11 rfl rfl)
theorem dJ20_init_34 : decode cJ20_init 34 = .ok (.iconst 1, 1) := dk_4 (dk_at dksJ20_init_1 12 rfl rfl)
theorem dJ20_init_35 : decode cJ20_init 35 = .ok (.putfield 22, 3) := dk_181 0 22 (dk_at dksJ20_init_1 13 rfl rfl)
theorem dJ20_init_38 : decode cJ20_init 38 = .ok (.return_, 1) := dk_177 (dk_at dksJ20_init_1 16 rfl rfl)
abbrev cJ20_append : ByteArray := prog_14_method_22_code
def yJ20_append : MethodName := ⟨RJ20, "append", "(Ljava/lang/String;)Ljava/lang/AbstractStringBuilder;"⟩
def dkwJ20_append_1 : List UInt8 := [42, 42, 180, 0, 79, 43, 182, 0, 208, 42, 89, 180, 0, 79, 28, 96, 181, 0, 79, 42, 176]
abbrev dktJ20_append_1 : List UInt8 := dkwJ20_append_1 ++ []
def dkwJ20_append_0 : List UInt8 := [43, 199, 0, 8, 42, 182, 0, 204, 176, 43, 182, 0, 32, 61, 42, 42, 180, 0, 79, 28, 96, 182, 0, 100]
abbrev dktJ20_append_0 : List UInt8 := dkwJ20_append_0 ++ dktJ20_append_1
theorem dksJ20_append_0 : cJ20_append.data.toList.drop 0 = dktJ20_append_0 := by decide +kernel
theorem dksJ20_append_1 : cJ20_append.data.toList.drop 24 = dktJ20_append_1 := dk_seg dksJ20_append_0 24 rfl rfl
theorem dJ20_append_0 : decode cJ20_append 0 = .ok (.aload_n 1, 1) := dk_43 (dk_at dksJ20_append_0 0 rfl rfl)
theorem dJ20_append_1 : decode cJ20_append 1 = .ok (.ifnonnull 8, 3) := dk_199 0 8 (dk_at dksJ20_append_0 1 rfl rfl)
theorem dJ20_append_4 : decode cJ20_append 4 = .ok (.aload_n 0, 1) := dk_42 (dk_at dksJ20_append_0 4 rfl rfl)
theorem dJ20_append_5 : decode cJ20_append 5 = .ok (.invokevirtual 204, 3) := dk_182 0 204 (dk_at dksJ20_append_0 5 rfl rfl)
theorem dJ20_append_8 : decode cJ20_append 8 = .ok (.areturn, 1) := dk_176 (dk_at dksJ20_append_0 8 rfl rfl)
theorem dJ20_append_9 : decode cJ20_append 9 = .ok (.aload_n 1, 1) := dk_43 (dk_at dksJ20_append_0 9 rfl rfl)
theorem dJ20_append_10 : decode cJ20_append 10 = .ok (.invokevirtual 32, 3) := dk_182 0 32 (dk_at dksJ20_append_0 10 rfl rfl)
theorem dJ20_append_13 : decode cJ20_append 13 = .ok (.istore_n 2, 1) := dk_61 (dk_at dksJ20_append_0 13 rfl rfl)
theorem dJ20_append_14 : decode cJ20_append 14 = .ok (.aload_n 0, 1) := dk_42 (dk_at dksJ20_append_0 14 rfl rfl)
theorem dJ20_append_15 : decode cJ20_append 15 = .ok (.aload_n 0, 1) := dk_42 (dk_at dksJ20_append_0 15 rfl rfl)
theorem dJ20_append_16 : decode cJ20_append 16 = .ok (.getfield 79, 3) := dk_180 0 79 (dk_at dksJ20_append_0 16 rfl rfl)
theorem dJ20_append_19 : decode cJ20_append 19 = .ok (.iload_n 2, 1) := dk_28 (dk_at dksJ20_append_0 19 rfl rfl)
theorem dJ20_append_20 : decode cJ20_append 20 = .ok (.iadd, 1) := dk_96 (dk_at dksJ20_append_0 20 rfl rfl)
theorem dJ20_append_21 : decode cJ20_append 21 = .ok (.invokevirtual 100, 3) := dk_182 0 100 (dk_at dksJ20_append_0 21 rfl rfl)
theorem dJ20_append_24 : decode cJ20_append 24 = .ok (.aload_n 0, 1) := dk_42 (dk_at dksJ20_append_1 0 rfl rfl)
theorem dJ20_append_25 : decode cJ20_append 25 = .ok (.aload_n 0, 1) := dk_42 (dk_at dksJ20_append_1 1 rfl rfl)
theorem dJ20_append_26 : decode cJ20_append 26 = .ok (.getfield 79, 3) := dk_180 0 79 (dk_at dksJ20_append_1 2 rfl rfl)
theorem dJ20_append_29 : decode cJ20_append 29 = .ok (.aload_n 1, 1) := dk_43 (dk_at dksJ20_append_1 5 rfl rfl)
theorem dJ20_append_30 : decode cJ20_append 30 = .ok (.invokevirtual 208, 3) := dk_182 0 208 (dk_at dksJ20_append_1 6 rfl rfl)
theorem dJ20_append_33 : decode cJ20_append 33 = .ok (.aload_n 0, 1) := dk_42 (dk_at dksJ20_append_1 9 rfl rfl)
theorem dJ20_append_34 : decode cJ20_append 34 = .ok (.dup, 1) := dk_89 (dk_at dksJ20_append_1 10 rfl rfl)
theorem dJ20_append_35 : decode cJ20_append 35 = .ok (.getfield 79, 3) := dk_180 0 79 (dk_at dksJ20_append_1 11 rfl rfl)
theorem dJ20_append_38 : decode cJ20_append 38 = .ok (.iload_n 2, 1) := dk_28 (dk_at dksJ20_append_1 14 rfl rfl)
theorem dJ20_append_39 : decode cJ20_append 39 = .ok (.iadd, 1) := dk_96 (dk_at dksJ20_append_1 15 rfl rfl)
theorem dJ20_append_40 : decode cJ20_append 40 = .ok (.putfield 79, 3) := dk_181 0 79 (dk_at dksJ20_append_1 16 rfl rfl)
theorem dJ20_append_43 : decode cJ20_append 43 = .ok (.aload_n 0, 1) := dk_42 (dk_at dksJ20_append_1 19 rfl rfl)
theorem dJ20_append_44 : decode cJ20_append 44 = .ok (.areturn, 1) := dk_176 (dk_at dksJ20_append_1 20 rfl rfl)
abbrev cJ20_appendNull : ByteArray := prog_14_method_26_code
def yJ20_appendNull : MethodName := ⟨RJ20, "appendNull", "()Ljava/lang/AbstractStringBuilder;"⟩
def dkwJ20_appendNull_3 : List UInt8 := [184, 0, 226, 60, 42, 27, 181, 0, 79, 42, 176]
abbrev dktJ20_appendNull_3 : List UInt8 := dkwJ20_appendNull_3 ++ []
def dkwJ20_appendNull_2 : List UInt8 := [16, 108, 84, 44, 27, 132, 1, 1, 16, 108, 84, 167, 0, 17, 44, 27, 16, 110, 16, 117, 16, 108, 16, 108]
abbrev dktJ20_appendNull_2 : List UInt8 := dkwJ20_appendNull_2 ++ dktJ20_appendNull_3
def dkwJ20_appendNull_1 : List UInt8 := [153, 0, 38, 44, 27, 132, 1, 1, 16, 110, 84, 44, 27, 132, 1, 1, 16, 117, 84, 44, 27, 132, 1, 1]
abbrev dktJ20_appendNull_1 : List UInt8 := dkwJ20_appendNull_1 ++ dktJ20_appendNull_2
def dkwJ20_appendNull_0 : List UInt8 := [42, 42, 180, 0, 79, 7, 96, 182, 0, 100, 42, 180, 0, 79, 60, 42, 180, 0, 15, 77, 42, 182, 0, 83]
abbrev dktJ20_appendNull_0 : List UInt8 := dkwJ20_appendNull_0 ++ dktJ20_appendNull_1
theorem dksJ20_appendNull_0 : cJ20_appendNull.data.toList.drop 0 = dktJ20_appendNull_0 := by decide +kernel
theorem dksJ20_appendNull_1 : cJ20_appendNull.data.toList.drop 24 = dktJ20_appendNull_1 := dk_seg dksJ20_appendNull_0 24 rfl rfl
theorem dksJ20_appendNull_2 : cJ20_appendNull.data.toList.drop 48 = dktJ20_appendNull_2 := dk_seg dksJ20_appendNull_1 24 rfl rfl
theorem dksJ20_appendNull_3 : cJ20_appendNull.data.toList.drop 72 = dktJ20_appendNull_3 := dk_seg dksJ20_appendNull_2 24 rfl rfl
theorem dJ20_appendNull_0 : decode cJ20_appendNull 0 = .ok (.aload_n 0, 1) := dk_42 (dk_at dksJ20_appendNull_0 0 rfl rfl)
theorem dJ20_appendNull_1 : decode cJ20_appendNull 1 = .ok (.aload_n 0, 1) := dk_42 (dk_at dksJ20_appendNull_0 1 rfl rfl)
theorem dJ20_appendNull_2 : decode cJ20_appendNull 2 = .ok (.getfield 79, 3) := dk_180 0 79 (dk_at dksJ20_appendNull_0 2 rfl rfl)
theorem dJ20_appendNull_5 : decode cJ20_appendNull 5 = .ok (.iconst 4, 1) := dk_7 (dk_at dksJ20_appendNull_0 5 rfl rfl)
theorem dJ20_appendNull_6 : decode cJ20_appendNull 6 = .ok (.iadd, 1) := dk_96 (dk_at dksJ20_appendNull_0 6 rfl rfl)
theorem dJ20_appendNull_7 : decode cJ20_appendNull 7 = .ok (.invokevirtual 100, 3) := dk_182 0 100 (dk_at dksJ20_appendNull_0 7 rfl rfl)
theorem dJ20_appendNull_10 : decode cJ20_appendNull 10 = .ok (.aload_n 0, 1) := dk_42 (dk_at dksJ20_appendNull_0 10 rfl rfl)
theorem dJ20_appendNull_11 : decode cJ20_appendNull 11 = .ok (.getfield 79, 3) := dk_180 0 79 (dk_at dksJ20_appendNull_0 11 rfl rfl)
theorem dJ20_appendNull_14 : decode cJ20_appendNull 14 = .ok (.istore_n 1, 1) := dk_60 (dk_at dksJ20_appendNull_0 14 rfl rfl)
theorem dJ20_appendNull_15 : decode cJ20_appendNull 15 = .ok (.aload_n 0, 1) := dk_42 (dk_at dksJ20_appendNull_0 15 rfl rfl)
theorem dJ20_appendNull_16 : decode cJ20_appendNull 16 = .ok (.getfield 15, 3) := dk_180 0 15 (dk_at dksJ20_appendNull_0 16 rfl rfl)
theorem dJ20_appendNull_19 : decode cJ20_appendNull 19 = .ok (.astore_n 2, 1) := dk_77 (dk_at dksJ20_appendNull_0 19 rfl rfl)
theorem dJ20_appendNull_20 : decode cJ20_appendNull 20 = .ok (.aload_n 0, 1) := dk_42 (dk_at dksJ20_appendNull_0 20 rfl rfl)
theorem dJ20_appendNull_21 : decode cJ20_appendNull 21 = .ok (.invokevirtual 83, 3) := dk_182 0 83 (dk_at dksJ20_appendNull_0 21 rfl rfl)
theorem dJ20_appendNull_24 : decode cJ20_appendNull 24 = .ok (.ifCond .eq 38, 3) := dk_153 0 38 (dk_at dksJ20_appendNull_1 0 rfl rfl)
theorem dJ20_appendNull_27 : decode cJ20_appendNull 27 = .ok (.aload_n 2, 1) := dk_44 (dk_at dksJ20_appendNull_1 3 rfl rfl)
theorem dJ20_appendNull_28 : decode cJ20_appendNull 28 = .ok (.iload_n 1, 1) := dk_27 (dk_at dksJ20_appendNull_1 4 rfl rfl)
theorem dJ20_appendNull_29 : decode cJ20_appendNull 29 = .ok (.iinc 1 1, 3) := dk_132 1 1 (dk_at dksJ20_appendNull_1 5 rfl rfl)
theorem dJ20_appendNull_32 : decode cJ20_appendNull 32 = .ok (.bipush 110, 2) := dk_16 110 (dk_at dksJ20_appendNull_1 8 rfl rfl)
theorem dJ20_appendNull_34 : decode cJ20_appendNull 34 = .ok (.bastore, 1) := dk_84 (dk_at dksJ20_appendNull_1 10 rfl rfl)
theorem dJ20_appendNull_35 : decode cJ20_appendNull 35 = .ok (.aload_n 2, 1) := dk_44 (dk_at dksJ20_appendNull_1 11 rfl rfl)
theorem dJ20_appendNull_36 : decode cJ20_appendNull 36 = .ok (.iload_n 1, 1) := dk_27 (dk_at dksJ20_appendNull_1 12 rfl rfl)
theorem dJ20_appendNull_37 : decode cJ20_appendNull 37 = .ok (.iinc 1 1, 3) := dk_132 1 1 (dk_at dksJ20_appendNull_1 13 rfl rfl)
theorem dJ20_appendNull_40 : decode cJ20_appendNull 40 = .ok (.bipush 117, 2) := dk_16 117 (dk_at dksJ20_appendNull_1 16 rfl rfl)
theorem dJ20_appendNull_42 : decode cJ20_appendNull 42 = .ok (.bastore, 1) := dk_84 (dk_at dksJ20_appendNull_1 18 rfl rfl)
theorem dJ20_appendNull_43 : decode cJ20_appendNull 43 = .ok (.aload_n 2, 1) := dk_44 (dk_at dksJ20_appendNull_1 19 rfl rfl)
theorem dJ20_appendNull_44 : decode cJ20_appendNull 44 = .ok (.iload_n 1, 1) := dk_27 (dk_at dksJ20_appendNull_1 20 rfl rfl)
theorem dJ20_appendNull_45 : decode cJ20_appendNull 45 = .ok (.iinc 1 1, 3) := dk_132 1 1 (dk_at dksJ20_appendNull_1 21 rfl rfl)
theorem dJ20_appendNull_48 : decode cJ20_appendNull 48 = .ok (.bipush 108, 2) := dk_16 108 (dk_at dksJ20_appendNull_2 0 rfl rfl)
theorem dJ20_appendNull_50 : decode cJ20_appendNull 50 = .ok (.bastore, 1) := dk_84 (dk_at dksJ20_appendNull_2 2 rfl rfl)
theorem dJ20_appendNull_51 : decode cJ20_appendNull 51 = .ok (.aload_n 2, 1) := dk_44 (dk_at dksJ20_appendNull_2 3 rfl rfl)
theorem dJ20_appendNull_52 : decode cJ20_appendNull 52 = .ok (.iload_n 1, 1) := dk_27 (dk_at dksJ20_appendNull_2 4 rfl rfl)
theorem dJ20_appendNull_53 : decode cJ20_appendNull 53 = .ok (.iinc 1 1, 3) := dk_132 1 1 (dk_at dksJ20_appendNull_2 5 rfl rfl)
theorem dJ20_appendNull_56 : decode cJ20_appendNull 56 = .ok (.bipush 108, 2) := dk_16 108 (dk_at dksJ20_appendNull_2 8 rfl rfl)
theorem dJ20_appendNull_58 : decode cJ20_appendNull 58 = .ok (.bastore, 1) := dk_84 (dk_at dksJ20_appendNull_2 10 rfl rfl)
theorem dJ20_appendNull_59 : decode cJ20_appendNull 59 = .ok (.goto 17, 3) := dk_167 0 17 (dk_at dksJ20_appendNull_2 11 rfl rfl)
theorem dJ20_appendNull_62 : decode cJ20_appendNull 62 = .ok (.aload_n 2, 1) := dk_44 (dk_at dksJ20_appendNull_2 14 rfl rfl)
theorem dJ20_appendNull_63 : decode cJ20_appendNull 63 = .ok (.iload_n 1, 1) := dk_27 (dk_at dksJ20_appendNull_2 15 rfl rfl)
theorem dJ20_appendNull_64 : decode cJ20_appendNull 64 = .ok (.bipush 110, 2) := dk_16 110 (dk_at dksJ20_appendNull_2 16 rfl rfl)
theorem dJ20_appendNull_66 : decode cJ20_appendNull 66 = .ok (.bipush 117, 2) := dk_16 117 (dk_at dksJ20_appendNull_2 18 rfl rfl)
theorem dJ20_appendNull_68 : decode cJ20_appendNull 68 = .ok (.bipush 108, 2) := dk_16 108 (dk_at dksJ20_appendNull_2 20 rfl rfl)
theorem dJ20_appendNull_70 : decode cJ20_appendNull 70 = .ok (.bipush 108, 2) := dk_16 108 (dk_at dksJ20_appendNull_2 22 rfl rfl)
theorem dJ20_appendNull_72 : decode cJ20_appendNull 72 = .ok (.invokestatic 226, 3) := dk_184 0 226 (dk_at dksJ20_appendNull_3 0 rfl rfl)
theorem dJ20_appendNull_75 : decode cJ20_appendNull 75 = .ok (.istore_n 1, 1) := dk_60 (dk_at dksJ20_appendNull_3 3 rfl rfl)
theorem dJ20_appendNull_76 : decode cJ20_appendNull 76 = .ok (.aload_n 0, 1) := dk_42 (dk_at dksJ20_appendNull_3 4 rfl rfl)
theorem dJ20_appendNull_77 : decode cJ20_appendNull 77 = .ok (.iload_n 1, 1) := dk_27 (dk_at dksJ20_appendNull_3 5 rfl rfl)
theorem dJ20_appendNull_78 : decode cJ20_appendNull 78 = .ok (.putfield 79, 3) := dk_181 0 79 (dk_at dksJ20_appendNull_3 6 rfl rfl)
theorem dJ20_appendNull_81 : decode cJ20_appendNull 81 = .ok (.aload_n 0, 1) := dk_42 (dk_at dksJ20_appendNull_3 9 rfl rfl)
theorem dJ20_appendNull_82 : decode cJ20_appendNull 82 = .ok (.areturn, 1) := dk_176 (dk_at dksJ20_appendNull_3 10 rfl rfl)
abbrev cJ20_ensureCapacityInternal : ByteArray := prog_14_method_9_code
def yJ20_ensureCapacityInternal : MethodName := ⟨RJ20, "ensureCapacityInternal", "(I)V"⟩
def dkwJ20_ensureCapacityInternal_1 : List UInt8 := [182, 0, 104, 42, 180, 0, 22, 120, 184, 0, 108, 181, 0, 15, 177]
abbrev dktJ20_ensureCapacityInternal_1 : List UInt8 := dkwJ20_ensureCapacityInternal_1 ++ []
def dkwJ20_ensureCapacityInternal_0 : List UInt8 := [42, 180, 0, 15, 190, 42, 180, 0, 22, 122, 61, 27, 28, 100, 158, 0, 24, 42, 42, 180, 0, 15, 42, 27]
abbrev dktJ20_ensureCapacityInternal_0 : List UInt8 := dkwJ20_ensureCapacityInternal_0 ++ dktJ20_ensureCapacityInternal_1
theorem dksJ20_ensureCapacityInternal_0 : cJ20_ensureCapacityInternal.data.toList.drop 0 = dktJ20_ensureCapacityInternal_0 := by decide +kernel
theorem dksJ20_ensureCapacityInternal_1 : cJ20_ensureCapacityInternal.data.toList.drop 24 = dktJ20_ensureCapacityInternal_1 := dk_seg dksJ20_ensureCapacityInternal_0 24 rfl rfl
theorem dJ20_ensureCapacityInternal_0 : decode cJ20_ensureCapacityInternal 0 = .ok (.aload_n 0, 1) := dk_42 (dk_at dksJ20_ensureCapacityInternal_0 0 rfl rfl)
theorem dJ20_ensureCapacityInternal_1 : decode cJ20_ensureCapacityInternal 1 = .ok (.getfield 15, 3) := dk_180 0 15 (dk_at dksJ20_ensureCapacityInternal_0 1 rfl rfl)
theorem dJ20_ensureCapacityInternal_4 : decode cJ20_ensureCapacityInternal 4 = .ok (.arraylength, 1) := dk_190 (dk_at dksJ20_ensureCapacityInternal_0 4 rfl rfl)
theorem dJ20_ensureCapacityInternal_5 : decode cJ20_ensureCapacityInternal 5 = .ok (.aload_n 0, 1) := dk_42 (dk_at dksJ20_ensureCapacityInternal_0 5 rfl rfl)
theorem dJ20_ensureCapacityInternal_6 : decode cJ20_ensureCapacityInternal 6 = .ok (.getfield 22, 3) := dk_180 0 22 (dk_at dksJ20_ensureCapacityInternal_0 6 rfl rfl)
theorem dJ20_ensureCapacityInternal_9 : decode cJ20_ensureCapacityInternal 9 = .ok (.ishr, 1) := dk_122 (dk_at dksJ20_ensureCapacityInternal_0 9 rfl rfl)
theorem dJ20_ensureCapacityInternal_10 : decode cJ20_ensureCapacityInternal 10 = .ok (.istore_n 2, 1) := dk_61 (dk_at dksJ20_ensureCapacityInternal_0 10 rfl rfl)
theorem dJ20_ensureCapacityInternal_11 : decode cJ20_ensureCapacityInternal 11 = .ok (.iload_n 1, 1) := dk_27 (dk_at dksJ20_ensureCapacityInternal_0 11 rfl rfl)
theorem dJ20_ensureCapacityInternal_12 : decode cJ20_ensureCapacityInternal 12 = .ok (.iload_n 2, 1) := dk_28 (dk_at dksJ20_ensureCapacityInternal_0 12 rfl rfl)
theorem dJ20_ensureCapacityInternal_13 : decode cJ20_ensureCapacityInternal 13 = .ok (.isub, 1) := dk_100 (dk_at dksJ20_ensureCapacityInternal_0 13 rfl rfl)
theorem dJ20_ensureCapacityInternal_14 : decode cJ20_ensureCapacityInternal 14 = .ok (.ifCond .le 24, 3) := dk_158 0 24 (dk_at dksJ20_ensureCapacityInternal_0 14 rfl rfl)
theorem dJ20_ensureCapacityInternal_17 : decode cJ20_ensureCapacityInternal 17 = .ok (.aload_n 0, 1) := dk_42 (dk_at dksJ20_ensureCapacityInternal_0 17 rfl rfl)
theorem dJ20_ensureCapacityInternal_18 : decode cJ20_ensureCapacityInternal 18 = .ok (.aload_n 0, 1) := dk_42 (dk_at dksJ20_ensureCapacityInternal_0 18 rfl rfl)
theorem dJ20_ensureCapacityInternal_19 : decode cJ20_ensureCapacityInternal 19 = .ok (.getfield 15, 3) := dk_180 0 15 (dk_at dksJ20_ensureCapacityInternal_0 19 rfl rfl)
theorem dJ20_ensureCapacityInternal_22 : decode cJ20_ensureCapacityInternal 22 = .ok (.aload_n 0, 1) := dk_42 (dk_at dksJ20_ensureCapacityInternal_0 22 rfl rfl)
theorem dJ20_ensureCapacityInternal_23 : decode cJ20_ensureCapacityInternal 23 = .ok (.iload_n 1, 1) := dk_27 (dk_at dksJ20_ensureCapacityInternal_0 23 rfl rfl)
theorem dJ20_ensureCapacityInternal_24 : decode cJ20_ensureCapacityInternal 24 = .ok (.invokevirtual 104, 3) := dk_182 0 104 (dk_at dksJ20_ensureCapacityInternal_1 0 rfl rfl)
theorem dJ20_ensureCapacityInternal_27 : decode cJ20_ensureCapacityInternal 27 = .ok (.aload_n 0, 1) := dk_42 (dk_at dksJ20_ensureCapacityInternal_1 3 rfl rfl)
theorem dJ20_ensureCapacityInternal_28 : decode cJ20_ensureCapacityInternal 28 = .ok (.getfield 22, 3) := dk_180 0 22 (dk_at dksJ20_ensureCapacityInternal_1 4 rfl rfl)
theorem dJ20_ensureCapacityInternal_31 : decode cJ20_ensureCapacityInternal 31 = .ok (.ishl, 1) := dk_120 (dk_at dksJ20_ensureCapacityInternal_1 7 rfl rfl)
theorem dJ20_ensureCapacityInternal_32 : decode cJ20_ensureCapacityInternal 32 = .ok (.invokestatic 108, 3) := dk_184 0 108 (dk_at dksJ20_ensureCapacityInternal_1 8 rfl rfl)
theorem dJ20_ensureCapacityInternal_35 : decode cJ20_ensureCapacityInternal 35 = .ok (.putfield 15, 3) := dk_181 0 15 (dk_at dksJ20_ensureCapacityInternal_1 11 rfl rfl)
theorem dJ20_ensureCapacityInternal_38 : decode cJ20_ensureCapacityInternal 38 = .ok (.return_, 1) := dk_177 (dk_at dksJ20_ensureCapacityInternal_1 14 rfl rfl)
abbrev cJ20_newCapacity : ByteArray := prog_14_method_10_code
def yJ20_newCapacity : MethodName := ⟨RJ20, "newCapacity", "(I)I"⟩
def dkwJ20_newCapacity_2 : List UInt8 := [183, 0, 124, 191, 21, 5, 42, 180, 0, 22, 122, 172]
abbrev dktJ20_newCapacity_2 : List UInt8 := dkwJ20_newCapacity_2 ++ []
def dkwJ20_newCapacity_1 : List UInt8 := [180, 0, 22, 120, 96, 184, 0, 114, 54, 5, 21, 5, 18, 39, 160, 0, 13, 187, 0, 120, 89, 18, 122]
abbrev dktJ20_newCapacity_1 : List UInt8 := dkwJ20_newCapacity_1 ++ dktJ20_newCapacity_2
def dkwJ20_newCapacity_0 : List UInt8 := [42, 180, 0, 15, 190, 61, 27, 42, 180, 0, 22, 120, 62, 29, 28, 100, 54, 4, 28, 21, 4, 28, 5, 42]
abbrev dktJ20_newCapacity_0 : List UInt8 := dkwJ20_newCapacity_0 ++ dktJ20_newCapacity_1
theorem dksJ20_newCapacity_0 : cJ20_newCapacity.data.toList.drop 0 = dktJ20_newCapacity_0 := by decide +kernel
theorem dksJ20_newCapacity_1 : cJ20_newCapacity.data.toList.drop 24 = dktJ20_newCapacity_1 := dk_seg dksJ20_newCapacity_0 24 rfl rfl
theorem dksJ20_newCapacity_2 : cJ20_newCapacity.data.toList.drop 47 = dktJ20_newCapacity_2 := dk_seg dksJ20_newCapacity_1 23 rfl rfl
theorem dJ20_newCapacity_0 : decode cJ20_newCapacity 0 = .ok (.aload_n 0, 1) := dk_42 (dk_at dksJ20_newCapacity_0 0 rfl rfl)
theorem dJ20_newCapacity_1 : decode cJ20_newCapacity 1 = .ok (.getfield 15, 3) := dk_180 0 15 (dk_at dksJ20_newCapacity_0 1 rfl rfl)
theorem dJ20_newCapacity_4 : decode cJ20_newCapacity 4 = .ok (.arraylength, 1) := dk_190 (dk_at dksJ20_newCapacity_0 4 rfl rfl)
theorem dJ20_newCapacity_5 : decode cJ20_newCapacity 5 = .ok (.istore_n 2, 1) := dk_61 (dk_at dksJ20_newCapacity_0 5 rfl rfl)
theorem dJ20_newCapacity_6 : decode cJ20_newCapacity 6 = .ok (.iload_n 1, 1) := dk_27 (dk_at dksJ20_newCapacity_0 6 rfl rfl)
theorem dJ20_newCapacity_7 : decode cJ20_newCapacity 7 = .ok (.aload_n 0, 1) := dk_42 (dk_at dksJ20_newCapacity_0 7 rfl rfl)
theorem dJ20_newCapacity_8 : decode cJ20_newCapacity 8 = .ok (.getfield 22, 3) := dk_180 0 22 (dk_at dksJ20_newCapacity_0 8 rfl rfl)
theorem dJ20_newCapacity_11 : decode cJ20_newCapacity 11 = .ok (.ishl, 1) := dk_120 (dk_at dksJ20_newCapacity_0 11 rfl rfl)
theorem dJ20_newCapacity_12 : decode cJ20_newCapacity 12 = .ok (.istore_n 3, 1) := dk_62 (dk_at dksJ20_newCapacity_0 12 rfl rfl)
theorem dJ20_newCapacity_13 : decode cJ20_newCapacity 13 = .ok (.iload_n 3, 1) := dk_29 (dk_at dksJ20_newCapacity_0 13 rfl rfl)
theorem dJ20_newCapacity_14 : decode cJ20_newCapacity 14 = .ok (.iload_n 2, 1) := dk_28 (dk_at dksJ20_newCapacity_0 14 rfl rfl)
theorem dJ20_newCapacity_15 : decode cJ20_newCapacity 15 = .ok (.isub, 1) := dk_100 (dk_at dksJ20_newCapacity_0 15 rfl rfl)
theorem dJ20_newCapacity_16 : decode cJ20_newCapacity 16 = .ok (.istore 4, 2) := dk_54 4 (dk_at dksJ20_newCapacity_0 16 rfl rfl)
theorem dJ20_newCapacity_18 : decode cJ20_newCapacity 18 = .ok (.iload_n 2, 1) := dk_28 (dk_at dksJ20_newCapacity_0 18 rfl rfl)
theorem dJ20_newCapacity_19 : decode cJ20_newCapacity 19 = .ok (.iload 4, 2) := dk_21 4 (dk_at dksJ20_newCapacity_0 19 rfl rfl)
theorem dJ20_newCapacity_21 : decode cJ20_newCapacity 21 = .ok (.iload_n 2, 1) := dk_28 (dk_at dksJ20_newCapacity_0 21 rfl rfl)
theorem dJ20_newCapacity_22 : decode cJ20_newCapacity 22 = .ok (.iconst 2, 1) := dk_5 (dk_at dksJ20_newCapacity_0 22 rfl rfl)
theorem dJ20_newCapacity_23 : decode cJ20_newCapacity 23 = .ok (.aload_n 0, 1) := dk_42 (dk_at dksJ20_newCapacity_0 23 rfl rfl)
theorem dJ20_newCapacity_24 : decode cJ20_newCapacity 24 = .ok (.getfield 22, 3) := dk_180 0 22 (dk_at dksJ20_newCapacity_1 0 rfl rfl)
theorem dJ20_newCapacity_27 : decode cJ20_newCapacity 27 = .ok (.ishl, 1) := dk_120 (dk_at dksJ20_newCapacity_1 3 rfl rfl)
theorem dJ20_newCapacity_28 : decode cJ20_newCapacity 28 = .ok (.iadd, 1) := dk_96 (dk_at dksJ20_newCapacity_1 4 rfl rfl)
theorem dJ20_newCapacity_29 : decode cJ20_newCapacity 29 = .ok (.invokestatic 114, 3) := dk_184 0 114 (dk_at dksJ20_newCapacity_1 5 rfl rfl)
theorem dJ20_newCapacity_32 : decode cJ20_newCapacity 32 = .ok (.istore 5, 2) := dk_54 5 (dk_at dksJ20_newCapacity_1 8 rfl rfl)
theorem dJ20_newCapacity_34 : decode cJ20_newCapacity 34 = .ok (.iload 5, 2) := dk_21 5 (dk_at dksJ20_newCapacity_1 10 rfl rfl)
theorem dJ20_newCapacity_36 : decode cJ20_newCapacity 36 = .ok (.ldc 39, 2) := dk_18 39 (dk_at dksJ20_newCapacity_1 12 rfl rfl)
theorem dJ20_newCapacity_38 : decode cJ20_newCapacity 38 = .ok (.if_icmp .ne 13, 3) := dk_160 0 13 (dk_at dksJ20_newCapacity_1 14 rfl rfl)
theorem dJ20_newCapacity_41 : decode cJ20_newCapacity 41 = .ok (.new 120, 3) := dk_187 0 120 (dk_at dksJ20_newCapacity_1 17 rfl rfl)
theorem dJ20_newCapacity_44 : decode cJ20_newCapacity 44 = .ok (.dup, 1) := dk_89 (dk_at dksJ20_newCapacity_1 20 rfl rfl)
theorem dJ20_newCapacity_45 : decode cJ20_newCapacity 45 = .ok (.ldc 122, 2) := dk_18 122 (dk_at dksJ20_newCapacity_1 21 rfl rfl)
theorem dJ20_newCapacity_47 : decode cJ20_newCapacity 47 = .ok (.invokespecial 124, 3) := dk_183 0 124 (dk_at dksJ20_newCapacity_2 0 rfl rfl)
theorem dJ20_newCapacity_50 : decode cJ20_newCapacity 50 = .ok (.athrow, 1) := dk_191 (dk_at dksJ20_newCapacity_2 3 rfl rfl)
theorem dJ20_newCapacity_51 : decode cJ20_newCapacity 51 = .ok (.iload 5, 2) := dk_21 5 (dk_at dksJ20_newCapacity_2 4 rfl rfl)
theorem dJ20_newCapacity_53 : decode cJ20_newCapacity 53 = .ok (.aload_n 0, 1) := dk_42 (dk_at dksJ20_newCapacity_2 6 rfl rfl)
theorem dJ20_newCapacity_54 : decode cJ20_newCapacity 54 = .ok (.getfield 22, 3) := dk_180 0 22 (dk_at dksJ20_newCapacity_2 7 rfl rfl)
theorem dJ20_newCapacity_57 : decode cJ20_newCapacity 57 = .ok (.ishr, 1) := dk_122 (dk_at dksJ20_newCapacity_2 10 rfl rfl)
theorem dJ20_newCapacity_58 : decode cJ20_newCapacity 58 = .ok (.ireturn, 1) := dk_172 (dk_at dksJ20_newCapacity_2 11 rfl rfl)
abbrev cJ20_isLatin1 : ByteArray := prog_14_method_68_code
def yJ20_isLatin1 : MethodName := ⟨RJ20, "isLatin1", "()Z"⟩
def dkwJ20_isLatin1_0 : List UInt8 := [178, 0, 18, 153, 0, 14, 42, 180, 0, 22, 154, 0, 7, 4, 167, 0, 4, 3, 172]
abbrev dktJ20_isLatin1_0 : List UInt8 := dkwJ20_isLatin1_0 ++ []
theorem dksJ20_isLatin1_0 : cJ20_isLatin1.data.toList.drop 0 = dktJ20_isLatin1_0 := by decide +kernel
theorem dJ20_isLatin1_0 : decode cJ20_isLatin1 0 = .ok (.getstatic 18, 3) := dk_178 0 18 (dk_at dksJ20_isLatin1_0 0 rfl rfl)
theorem dJ20_isLatin1_3 : decode cJ20_isLatin1 3 = .ok (.ifCond .eq 14, 3) := dk_153 0 14 (dk_at dksJ20_isLatin1_0 3 rfl rfl)
theorem dJ20_isLatin1_6 : decode cJ20_isLatin1 6 = .ok (.aload_n 0, 1) := dk_42 (dk_at dksJ20_isLatin1_0 6 rfl rfl)
theorem dJ20_isLatin1_7 : decode cJ20_isLatin1 7 = .ok (.getfield 22, 3) := dk_180 0 22 (dk_at dksJ20_isLatin1_0 7 rfl rfl)
theorem dJ20_isLatin1_10 : decode cJ20_isLatin1 10 = .ok (.ifCond .ne 7, 3) := dk_154 0 7 (dk_at dksJ20_isLatin1_0 10 rfl rfl)
theorem dJ20_isLatin1_13 : decode cJ20_isLatin1 13 = .ok (.iconst 1, 1) := dk_4 (dk_at dksJ20_isLatin1_0 13 rfl rfl)
theorem dJ20_isLatin1_14 : decode cJ20_isLatin1 14 = .ok (.goto 4, 3) := dk_167 0 4 (dk_at dksJ20_isLatin1_0 14 rfl rfl)
theorem dJ20_isLatin1_17 : decode cJ20_isLatin1 17 = .ok (.iconst 0, 1) := dk_3 (dk_at dksJ20_isLatin1_0 17 rfl rfl)
theorem dJ20_isLatin1_18 : decode cJ20_isLatin1 18 = .ok (.ireturn, 1) := dk_172 (dk_at dksJ20_isLatin1_0 18 rfl rfl)
abbrev cJ20_putStringAt : ByteArray := prog_14_method_73_code
def yJ20_putStringAt : MethodName := ⟨RJ20, "putStringAt", "(ILjava/lang/String;)V"⟩
def dkwJ20_putStringAt_0 : List UInt8 := [42, 44, 182, 1, 141, 44, 42, 180, 0, 15, 27, 42, 180, 0, 22, 182, 1, 143, 177]
abbrev dktJ20_putStringAt_0 : List UInt8 := dkwJ20_putStringAt_0 ++ []
theorem dksJ20_putStringAt_0 : cJ20_putStringAt.data.toList.drop 0 = dktJ20_putStringAt_0 := by decide +kernel
theorem dJ20_putStringAt_0 : decode cJ20_putStringAt 0 = .ok (.aload_n 0, 1) := dk_42 (dk_at dksJ20_putStringAt_0 0 rfl rfl)
theorem dJ20_putStringAt_1 : decode cJ20_putStringAt 1 = .ok (.aload_n 2, 1) := dk_44 (dk_at dksJ20_putStringAt_0 1 rfl rfl)
theorem dJ20_putStringAt_2 : decode cJ20_putStringAt 2 = .ok (.invokevirtual 397, 3) := dk_182 1 141 (dk_at dksJ20_putStringAt_0 2 rfl rfl)
theorem dJ20_putStringAt_5 : decode cJ20_putStringAt 5 = .ok (.aload_n 2, 1) := dk_44 (dk_at dksJ20_putStringAt_0 5 rfl rfl)
theorem dJ20_putStringAt_6 : decode cJ20_putStringAt 6 = .ok (.aload_n 0, 1) := dk_42 (dk_at dksJ20_putStringAt_0 6 rfl rfl)
theorem dJ20_putStringAt_7 : decode cJ20_putStringAt 7 = .ok (.getfield 15, 3) := dk_180 0 15 (dk_at dksJ20_putStringAt_0 7 rfl rfl)
theorem dJ20_putStringAt_10 : decode cJ20_putStringAt 10 = .ok (.iload_n 1, 1) := dk_27 (dk_at dksJ20_putStringAt_0 10 rfl rfl)
theorem dJ20_putStringAt_11 : decode cJ20_putStringAt 11 = .ok (.aload_n 0, 1) := dk_42 (dk_at dksJ20_putStringAt_0 11 rfl rfl)
theorem dJ20_putStringAt_12 : decode cJ20_putStringAt 12 = .ok (.getfield 22, 3) := dk_180 0 22 (dk_at dksJ20_putStringAt_0 12 rfl rfl)
theorem dJ20_putStringAt_15 : decode cJ20_putStringAt 15 = .ok (.invokevirtual 399, 3) := dk_182 1 143 (dk_at dksJ20_putStringAt_0 15 rfl rfl)
theorem dJ20_putStringAt_18 : decode cJ20_putStringAt 18 = .ok (.return_, 1) := dk_177 (dk_at dksJ20_putStringAt_0 18 rfl rfl)
abbrev cJ20_inflateIfNeededFor : ByteArray := prog_14_method_71_code
def yJ20_inflateIfNeededFor : MethodName := ⟨RJ20, "inflateIfNeededFor", "(Ljava/lang/String;)V"⟩
def dkwJ20_inflateIfNeededFor_0 : List UInt8 := [178, 0, 18, 153, 0, 18, 42, 180, 0, 22, 43, 182, 0, 40, 159, 0, 7, 42, 182, 0, 195, 177]
abbrev dktJ20_inflateIfNeededFor_0 : List UInt8 := dkwJ20_inflateIfNeededFor_0 ++ []
theorem dksJ20_inflateIfNeededFor_0 : cJ20_inflateIfNeededFor.data.toList.drop 0 = dktJ20_inflateIfNeededFor_0 := by decide +kernel
theorem dJ20_inflateIfNeededFor_0 : decode cJ20_inflateIfNeededFor 0 = .ok (.getstatic 18, 3) := dk_178 0 18 (dk_at dksJ20_inflateIfNeededFor_0 0 rfl rfl)
theorem dJ20_inflateIfNeededFor_3 : decode cJ20_inflateIfNeededFor 3 = .ok (.ifCond .eq 18, 3) := dk_153 0 18 (dk_at dksJ20_inflateIfNeededFor_0 3 rfl rfl)
theorem dJ20_inflateIfNeededFor_6 : decode cJ20_inflateIfNeededFor 6 = .ok (.aload_n 0, 1) := dk_42 (dk_at dksJ20_inflateIfNeededFor_0 6 rfl rfl)
theorem dJ20_inflateIfNeededFor_7 : decode cJ20_inflateIfNeededFor 7 = .ok (.getfield 22, 3) := dk_180 0 22 (dk_at dksJ20_inflateIfNeededFor_0 7 rfl rfl)
theorem dJ20_inflateIfNeededFor_10 : decode cJ20_inflateIfNeededFor 10 = .ok (.aload_n 1, 1) := dk_43 (dk_at dksJ20_inflateIfNeededFor_0 10 rfl rfl)
theorem dJ20_inflateIfNeededFor_11 : decode cJ20_inflateIfNeededFor 11 = .ok (.invokevirtual 40, 3) := dk_182 0 40 (dk_at dksJ20_inflateIfNeededFor_0 11 rfl rfl)
theorem dJ20_inflateIfNeededFor_14 : decode cJ20_inflateIfNeededFor 14 = .ok (.if_icmp .eq 7, 3) := dk_159 0 7 (dk_at dksJ20_inflateIfNeededFor_0 14 rfl rfl)
theorem dJ20_inflateIfNeededFor_17 : decode cJ20_inflateIfNeededFor 17 = .ok (.aload_n 0, 1) := dk_42 (dk_at dksJ20_inflateIfNeededFor_0 17 rfl rfl)
theorem dJ20_inflateIfNeededFor_18 : decode cJ20_inflateIfNeededFor 18 = .ok (.invokevirtual 195, 3) := dk_182 0 195 (dk_at dksJ20_inflateIfNeededFor_0 18 rfl rfl)
theorem dJ20_inflateIfNeededFor_21 : decode cJ20_inflateIfNeededFor 21 = .ok (.return_, 1) := dk_177 (dk_at dksJ20_inflateIfNeededFor_0 21 rfl rfl)
abbrev cJ20_inflate : ByteArray := prog_14_method_11_code
def yJ20_inflate : MethodName := ⟨RJ20, "inflate", "()V"⟩
def dkwJ20_inflate_1 : List UInt8 := [42, 180, 0, 79, 184, 0, 125, 42, 43, 181, 0, 15, 42, 4, 181, 0, 22, 177]
abbrev dktJ20_inflate_1 : List UInt8 := dkwJ20_inflate_1 ++ []
def dkwJ20_inflate_0 : List UInt8 := [42, 182, 0, 83, 154, 0, 4, 177, 42, 180, 0, 15, 190, 184, 0, 26, 76, 42, 180, 0, 15, 3, 43, 3]
abbrev dktJ20_inflate_0 : List UInt8 := dkwJ20_inflate_0 ++ dktJ20_inflate_1
theorem dksJ20_inflate_0 : cJ20_inflate.data.toList.drop 0 = dktJ20_inflate_0 := by decide +kernel
theorem dksJ20_inflate_1 : cJ20_inflate.data.toList.drop 24 = dktJ20_inflate_1 := dk_seg dksJ20_inflate_0 24 rfl rfl
theorem dJ20_inflate_0 : decode cJ20_inflate 0 = .ok (.aload_n 0, 1) := dk_42 (dk_at dksJ20_inflate_0 0 rfl rfl)
theorem dJ20_inflate_1 : decode cJ20_inflate 1 = .ok (.invokevirtual 83, 3) := dk_182 0 83 (dk_at dksJ20_inflate_0 1 rfl rfl)
theorem dJ20_inflate_4 : decode cJ20_inflate 4 = .ok (.ifCond .ne 4, 3) := dk_154 0 4 (dk_at dksJ20_inflate_0 4 rfl rfl)
theorem dJ20_inflate_7 : decode cJ20_inflate 7 = .ok (.return_, 1) := dk_177 (dk_at dksJ20_inflate_0 7 rfl rfl)
theorem dJ20_inflate_8 : decode cJ20_inflate 8 = .ok (.aload_n 0, 1) := dk_42 (dk_at dksJ20_inflate_0 8 rfl rfl)
theorem dJ20_inflate_9 : decode cJ20_inflate 9 = .ok (.getfield 15, 3) := dk_180 0 15 (dk_at dksJ20_inflate_0 9 rfl rfl)
theorem dJ20_inflate_12 : decode cJ20_inflate 12 = .ok (.arraylength, 1) := dk_190 (dk_at dksJ20_inflate_0 12 rfl rfl)
theorem dJ20_inflate_13 : decode cJ20_inflate 13 = .ok (.invokestatic 26, 3) := dk_184 0 26 (dk_at dksJ20_inflate_0 13 rfl rfl)
theorem dJ20_inflate_16 : decode cJ20_inflate 16 = .ok (.astore_n 1, 1) := dk_76 (dk_at dksJ20_inflate_0 16 rfl rfl)
theorem dJ20_inflate_17 : decode cJ20_inflate 17 = .ok (.aload_n 0, 1) := dk_42 (dk_at dksJ20_inflate_0 17 rfl rfl)
theorem dJ20_inflate_18 : decode cJ20_inflate 18 = .ok (.getfield 15, 3) := dk_180 0 15 (dk_at dksJ20_inflate_0 18 rfl rfl)
theorem dJ20_inflate_21 : decode cJ20_inflate 21 = .ok (.iconst 0, 1) := dk_3 (dk_at dksJ20_inflate_0 21 rfl rfl)
theorem dJ20_inflate_22 : decode cJ20_inflate 22 = .ok (.aload_n 1, 1) := dk_43 (dk_at dksJ20_inflate_0 22 rfl rfl)
theorem dJ20_inflate_23 : decode cJ20_inflate 23 = .ok (.iconst 0, 1) := dk_3 (dk_at dksJ20_inflate_0 23 rfl rfl)
theorem dJ20_inflate_24 : decode cJ20_inflate 24 = .ok (.aload_n 0, 1) := dk_42 (dk_at dksJ20_inflate_1 0 rfl rfl)
theorem dJ20_inflate_25 : decode cJ20_inflate 25 = .ok (.getfield 79, 3) := dk_180 0 79 (dk_at dksJ20_inflate_1 1 rfl rfl)
theorem dJ20_inflate_28 : decode cJ20_inflate 28 = .ok (.invokestatic 125, 3) := dk_184 0 125 (dk_at dksJ20_inflate_1 4 rfl rfl)
theorem dJ20_inflate_31 : decode cJ20_inflate 31 = .ok (.aload_n 0, 1) := dk_42 (dk_at dksJ20_inflate_1 7 rfl rfl)
theorem dJ20_inflate_32 : decode cJ20_inflate 32 = .ok (.aload_n 1, 1) := dk_43 (dk_at dksJ20_inflate_1 8 rfl rfl)
theorem dJ20_inflate_33 : decode cJ20_inflate 33 = .ok (.putfield 15, 3) := dk_181 0 15 (dk_at dksJ20_inflate_1 9 rfl rfl)
theorem dJ20_inflate_36 : decode cJ20_inflate 36 = .ok (.aload_n 0, 1) := dk_42 (dk_at dksJ20_inflate_1 12 rfl rfl)
theorem dJ20_inflate_37 : decode cJ20_inflate 37 = .ok (.iconst 1, 1) := dk_4 (dk_at dksJ20_inflate_1 13 rfl rfl)
theorem dJ20_inflate_38 : decode cJ20_inflate 38 = .ok (.putfield 22, 3) := dk_181 0 22 (dk_at dksJ20_inflate_1 14 rfl rfl)
theorem dJ20_inflate_41 : decode cJ20_inflate 41 = .ok (.return_, 1) := dk_177 (dk_at dksJ20_inflate_1 17 rfl rfl)
abbrev cJ20_append_2 : ByteArray := prog_14_method_32_code
def yJ20_append_2 : MethodName := ⟨RJ20, "append", "(I)Ljava/lang/AbstractStringBuilder;"⟩
def dkwJ20_append_2_2 : List UInt8 := [42, 29, 181, 0, 79, 42, 176]
abbrev dktJ20_append_2_2 : List UInt8 := dkwJ20_append_2_2 ++ []
def dkwJ20_append_2_1 : List UInt8 := [27, 29, 42, 180, 0, 15, 184, 0, 248, 87, 167, 0, 14, 27, 28, 29, 42, 180, 0, 15, 184, 0, 251, 87]
abbrev dktJ20_append_2_1 : List UInt8 := dkwJ20_append_2_1 ++ dktJ20_append_2_2
def dkwJ20_append_2_0 : List UInt8 := [42, 180, 0, 79, 61, 28, 27, 184, 0, 245, 96, 62, 42, 29, 182, 0, 100, 42, 182, 0, 83, 153, 0, 16]
abbrev dktJ20_append_2_0 : List UInt8 := dkwJ20_append_2_0 ++ dktJ20_append_2_1
theorem dksJ20_append_2_0 : cJ20_append_2.data.toList.drop 0 = dktJ20_append_2_0 := by decide +kernel
theorem dksJ20_append_2_1 : cJ20_append_2.data.toList.drop 24 = dktJ20_append_2_1 := dk_seg dksJ20_append_2_0 24 rfl rfl
theorem dksJ20_append_2_2 : cJ20_append_2.data.toList.drop 48 = dktJ20_append_2_2 := dk_seg dksJ20_append_2_1 24 rfl rfl
theorem dJ20_append_2_0 : decode cJ20_append_2 0 = .ok (.aload_n 0, 1) := dk_42 (dk_at dksJ20_append_2_0 0 rfl rfl)
theorem dJ20_append_2_1 : decode cJ20_append_2 1 = .ok (.getfield 79, 3) := dk_180 0 79 (dk_at dksJ20_append_2_0 1 rfl rfl)
theorem dJ20_append_2_4 : decode cJ20_append_2 4 = .ok (.istore_n 2, 1) := dk_61 (dk_at dksJ20_append_2_0 4 rfl rfl)
theorem dJ20_append_2_5 : decode cJ20_append_2 5 = .ok (.iload_n 2, 1) := dk_28 (dk_at dksJ20_append_2_0 5 rfl rfl)
theorem dJ20_append_2_6 : decode cJ20_append_2 6 = .ok (.iload_n 1, 1) := dk_27 (dk_at dksJ20_append_2_0 6 rfl rfl)
theorem dJ20_append_2_7 : decode cJ20_append_2 7 = .ok (.invokestatic 245, 3) := dk_184 0 245 (dk_at dksJ20_append_2_0 7 rfl rfl)
theorem dJ20_append_2_10 : decode cJ20_append_2 10 = .ok (.iadd, 1) := dk_96 (dk_at dksJ20_append_2_0 10 rfl rfl)
theorem dJ20_append_2_11 : decode cJ20_append_2 11 = .ok (.istore_n 3, 1) := dk_62 (dk_at dksJ20_append_2_0 11 rfl rfl)
theorem dJ20_append_2_12 : decode cJ20_append_2 12 = .ok (.aload_n 0, 1) := dk_42 (dk_at dksJ20_append_2_0 12 rfl rfl)
theorem dJ20_append_2_13 : decode cJ20_append_2 13 = .ok (.iload_n 3, 1) := dk_29 (dk_at dksJ20_append_2_0 13 rfl rfl)
theorem dJ20_append_2_14 : decode cJ20_append_2 14 = .ok (.invokevirtual 100, 3) := dk_182 0 100 (dk_at dksJ20_append_2_0 14 rfl rfl)
theorem dJ20_append_2_17 : decode cJ20_append_2 17 = .ok (.aload_n 0, 1) := dk_42 (dk_at dksJ20_append_2_0 17 rfl rfl)
theorem dJ20_append_2_18 : decode cJ20_append_2 18 = .ok (.invokevirtual 83, 3) := dk_182 0 83 (dk_at dksJ20_append_2_0 18 rfl rfl)
theorem dJ20_append_2_21 : decode cJ20_append_2 21 = .ok (.ifCond .eq 16, 3) := dk_153 0 16 (dk_at dksJ20_append_2_0 21 rfl rfl)
theorem dJ20_append_2_24 : decode cJ20_append_2 24 = .ok (.iload_n 1, 1) := dk_27 (dk_at dksJ20_append_2_1 0 rfl rfl)
theorem dJ20_append_2_25 : decode cJ20_append_2 25 = .ok (.iload_n 3, 1) := dk_29 (dk_at dksJ20_append_2_1 1 rfl rfl)
theorem dJ20_append_2_26 : decode cJ20_append_2 26 = .ok (.aload_n 0, 1) := dk_42 (dk_at dksJ20_append_2_1 2 rfl rfl)
theorem dJ20_append_2_27 : decode cJ20_append_2 27 = .ok (.getfield 15, 3) := dk_180 0 15 (dk_at dksJ20_append_2_1 3 rfl rfl)
theorem dJ20_append_2_30 : decode cJ20_append_2 30 = .ok (.invokestatic 248, 3) := dk_184 0 248 (dk_at dksJ20_append_2_1 6 rfl rfl)
theorem dJ20_append_2_33 : decode cJ20_append_2 33 = .ok (.pop, 1) := dk_87 (dk_at dksJ20_append_2_1 9 rfl rfl)
theorem dJ20_append_2_34 : decode cJ20_append_2 34 = .ok (.goto 14, 3) := dk_167 0 14 (dk_at dksJ20_append_2_1 10 rfl rfl)
theorem dJ20_append_2_37 : decode cJ20_append_2 37 = .ok (.iload_n 1, 1) := dk_27 (dk_at dksJ20_append_2_1 13 rfl rfl)
theorem dJ20_append_2_38 : decode cJ20_append_2 38 = .ok (.iload_n 2, 1) := dk_28 (dk_at dksJ20_append_2_1 14 rfl rfl)
theorem dJ20_append_2_39 : decode cJ20_append_2 39 = .ok (.iload_n 3, 1) := dk_29 (dk_at dksJ20_append_2_1 15 rfl rfl)
theorem dJ20_append_2_40 : decode cJ20_append_2 40 = .ok (.aload_n 0, 1) := dk_42 (dk_at dksJ20_append_2_1 16 rfl rfl)
theorem dJ20_append_2_41 : decode cJ20_append_2 41 = .ok (.getfield 15, 3) := dk_180 0 15 (dk_at dksJ20_append_2_1 17 rfl rfl)
theorem dJ20_append_2_44 : decode cJ20_append_2 44 = .ok (.invokestatic 251, 3) := dk_184 0 251 (dk_at dksJ20_append_2_1 20 rfl rfl)
theorem dJ20_append_2_47 : decode cJ20_append_2 47 = .ok (.pop, 1) := dk_87 (dk_at dksJ20_append_2_1 23 rfl rfl)
theorem dJ20_append_2_48 : decode cJ20_append_2 48 = .ok (.aload_n 0, 1) := dk_42 (dk_at dksJ20_append_2_2 0 rfl rfl)
theorem dJ20_append_2_49 : decode cJ20_append_2 49 = .ok (.iload_n 3, 1) := dk_29 (dk_at dksJ20_append_2_2 1 rfl rfl)
theorem dJ20_append_2_50 : decode cJ20_append_2 50 = .ok (.putfield 79, 3) := dk_181 0 79 (dk_at dksJ20_append_2_2 2 rfl rfl)
theorem dJ20_append_2_53 : decode cJ20_append_2 53 = .ok (.aload_n 0, 1) := dk_42 (dk_at dksJ20_append_2_2 5 rfl rfl)
theorem dJ20_append_2_54 : decode cJ20_append_2 54 = .ok (.areturn, 1) := dk_176 (dk_at dksJ20_append_2_2 6 rfl rfl)
abbrev cJ20_getValue : ByteArray := prog_14_method_64_code
def yJ20_getValue : MethodName := ⟨RJ20, "getValue", "()[B"⟩
theorem dJ20_getValue_0 : decode cJ20_getValue 0 = .ok (.aload_n 0, 1) := by decide +kernel
theorem dJ20_getValue_1 : decode cJ20_getValue 1 = .ok (.getfield 15, 3) := by decide +kernel
theorem dJ20_getValue_4 : decode cJ20_getValue 4 = .ok (.areturn, 1) := by decide +kernel
abbrev cJ20_length : ByteArray := prog_14_method_6_code
def yJ20_length : MethodName := ⟨RJ20, "length", "()I"⟩
theorem dJ20_length_0 : decode cJ20_length 0 = .ok (.aload_n 0, 1) := by decide +kernel
theorem dJ20_length_1 : decode cJ20_length 1 = .ok (.getfield 79, 3) := by decide +kernel
theorem dJ20_length_4 : decode cJ20_length 4 = .ok (.ireturn, 1) := by decide +kernel
abbrev cJ20_compareTo : ByteArray := prog_14_method_5_code
def yJ20_compareTo : MethodName := ⟨RJ20, "compareTo", "(Ljava/lang/AbstractStringBuilder;)I"⟩
def dkwJ20_compareTo_4 : List UInt8 := [184, 0, 97, 172]
abbrev dktJ20_compareTo_4 : List UInt8 := dkwJ20_compareTo_4 ++ []
def dkwJ20_compareTo_3 : List UInt8 := [182, 0, 83, 153, 0, 15, 44, 45, 21, 4, 21, 5, 184, 0, 94, 167, 0, 12, 44, 45, 21, 4, 21, 5]
abbrev dktJ20_compareTo_3 : List UInt8 := dkwJ20_compareTo_3 ++ dktJ20_compareTo_4
def dkwJ20_compareTo_2 : List UInt8 := [45, 21, 4, 21, 5, 184, 0, 87, 167, 0, 12, 44, 45, 21, 4, 21, 5, 184, 0, 93, 172, 42]
abbrev dktJ20_compareTo_2 : List UInt8 := dkwJ20_compareTo_2 ++ dktJ20_compareTo_3
def dkwJ20_compareTo_1 : List UInt8 := [180, 0, 79, 54, 5, 42, 180, 0, 22, 43, 180, 0, 22, 160, 0, 32, 42, 182, 0, 83, 153, 0, 15, 44]
abbrev dktJ20_compareTo_1 : List UInt8 := dkwJ20_compareTo_1 ++ dktJ20_compareTo_2
def dkwJ20_compareTo_0 : List UInt8 := [42, 43, 166, 0, 5, 3, 172, 42, 180, 0, 15, 77, 43, 180, 0, 15, 78, 42, 180, 0, 79, 54, 4, 43]
abbrev dktJ20_compareTo_0 : List UInt8 := dkwJ20_compareTo_0 ++ dktJ20_compareTo_1
theorem dksJ20_compareTo_0 : cJ20_compareTo.data.toList.drop 0 = dktJ20_compareTo_0 := by decide +kernel
theorem dksJ20_compareTo_1 : cJ20_compareTo.data.toList.drop 24 = dktJ20_compareTo_1 := dk_seg dksJ20_compareTo_0 24 rfl rfl
theorem dksJ20_compareTo_2 : cJ20_compareTo.data.toList.drop 48 = dktJ20_compareTo_2 := dk_seg dksJ20_compareTo_1 24 rfl rfl
theorem dksJ20_compareTo_3 : cJ20_compareTo.data.toList.drop 70 = dktJ20_compareTo_3 := dk_seg dksJ20_compareTo_2 22 rfl rfl
theorem dksJ20_compareTo_4 : cJ20_compareTo.data.toList.drop 94 = dktJ20_compareTo_4 := dk_seg dksJ20_compareTo_3 24 rfl rfl
theorem dJ20_compareTo_0 : decode cJ20_compareTo 0 = .ok (.aload_n 0, 1) := dk_42 (dk_at dksJ20_compareTo_0 0 rfl rfl)
theorem dJ20_compareTo_1 : decode cJ20_compareTo 1 = .ok (.aload_n 1, 1) := dk_43 (dk_at dksJ20_compareTo_0 1 rfl rfl)
theorem dJ20_compareTo_2 : decode cJ20_compareTo 2 = .ok (.if_acmp .ne 5, 3) := dk_166 0 5 (dk_at dksJ20_compareTo_0 2 rfl rfl)
theorem dJ20_compareTo_5 : decode cJ20_compareTo 5 = .ok (.iconst 0, 1) := dk_3 (dk_at dksJ20_compareTo_0 5 rfl rfl)
theorem dJ20_compareTo_6 : decode cJ20_compareTo 6 = .ok (.ireturn, 1) := dk_172 (dk_at dksJ20_compareTo_0 6 rfl rfl)
theorem dJ20_compareTo_7 : decode cJ20_compareTo 7 = .ok (.aload_n 0, 1) := dk_42 (dk_at dksJ20_compareTo_0 7 rfl rfl)
theorem dJ20_compareTo_8 : decode cJ20_compareTo 8 = .ok (.getfield 15, 3) := dk_180 0 15 (dk_at dksJ20_compareTo_0 8 rfl rfl)
theorem dJ20_compareTo_11 : decode cJ20_compareTo 11 = .ok (.astore_n 2, 1) := dk_77 (dk_at dksJ20_compareTo_0 11 rfl rfl)
theorem dJ20_compareTo_12 : decode cJ20_compareTo 12 = .ok (.aload_n 1, 1) := dk_43 (dk_at dksJ20_compareTo_0 12 rfl rfl)
theorem dJ20_compareTo_13 : decode cJ20_compareTo 13 = .ok (.getfield 15, 3) := dk_180 0 15 (dk_at dksJ20_compareTo_0 13 rfl rfl)
theorem dJ20_compareTo_16 : decode cJ20_compareTo 16 = .ok (.astore_n 3, 1) := dk_78 (dk_at dksJ20_compareTo_0 16 rfl rfl)
theorem dJ20_compareTo_17 : decode cJ20_compareTo 17 = .ok (.aload_n 0, 1) := dk_42 (dk_at dksJ20_compareTo_0 17 rfl rfl)
theorem dJ20_compareTo_18 : decode cJ20_compareTo 18 = .ok (.getfield 79, 3) := dk_180 0 79 (dk_at dksJ20_compareTo_0 18 rfl rfl)
theorem dJ20_compareTo_21 : decode cJ20_compareTo 21 = .ok (.istore 4, 2) := dk_54 4 (dk_at dksJ20_compareTo_0 21 rfl rfl)
theorem dJ20_compareTo_23 : decode cJ20_compareTo 23 = .ok (.aload_n 1, 1) := dk_43 (dk_at dksJ20_compareTo_0 23 rfl rfl)
theorem dJ20_compareTo_24 : decode cJ20_compareTo 24 = .ok (.getfield 79, 3) := dk_180 0 79 (dk_at dksJ20_compareTo_1 0 rfl rfl)
theorem dJ20_compareTo_27 : decode cJ20_compareTo 27 = .ok (.istore 5, 2) := dk_54 5 (dk_at dksJ20_compareTo_1 3 rfl rfl)
theorem dJ20_compareTo_29 : decode cJ20_compareTo 29 = .ok (.aload_n 0, 1) := dk_42 (dk_at dksJ20_compareTo_1 5 rfl rfl)
theorem dJ20_compareTo_30 : decode cJ20_compareTo 30 = .ok (.getfield 22, 3) := dk_180 0 22 (dk_at dksJ20_compareTo_1 6 rfl rfl)
theorem dJ20_compareTo_33 : decode cJ20_compareTo 33 = .ok (.aload_n 1, 1) := dk_43 (dk_at dksJ20_compareTo_1 9 rfl rfl)
theorem dJ20_compareTo_34 : decode cJ20_compareTo 34 = .ok (.getfield 22, 3) := dk_180 0 22 (dk_at dksJ20_compareTo_1 10 rfl rfl)
theorem dJ20_compareTo_37 : decode cJ20_compareTo 37 = .ok (.if_icmp .ne 32, 3) := dk_160 0 32 (dk_at dksJ20_compareTo_1 13 rfl rfl)
theorem dJ20_compareTo_40 : decode cJ20_compareTo 40 = .ok (.aload_n 0, 1) := dk_42 (dk_at dksJ20_compareTo_1 16 rfl rfl)
theorem dJ20_compareTo_41 : decode cJ20_compareTo 41 = .ok (.invokevirtual 83, 3) := dk_182 0 83 (dk_at dksJ20_compareTo_1 17 rfl rfl)
theorem dJ20_compareTo_44 : decode cJ20_compareTo 44 = .ok (.ifCond .eq 15, 3) := dk_153 0 15 (dk_at dksJ20_compareTo_1 20 rfl rfl)
theorem dJ20_compareTo_47 : decode cJ20_compareTo 47 = .ok (.aload_n 2, 1) := dk_44 (dk_at dksJ20_compareTo_1 23 rfl rfl)
theorem dJ20_compareTo_48 : decode cJ20_compareTo 48 = .ok (.aload_n 3, 1) := dk_45 (dk_at dksJ20_compareTo_2 0 rfl rfl)
theorem dJ20_compareTo_49 : decode cJ20_compareTo 49 = .ok (.iload 4, 2) := dk_21 4 (dk_at dksJ20_compareTo_2 1 rfl rfl)
theorem dJ20_compareTo_51 : decode cJ20_compareTo 51 = .ok (.iload 5, 2) := dk_21 5 (dk_at dksJ20_compareTo_2 3 rfl rfl)
theorem dJ20_compareTo_53 : decode cJ20_compareTo 53 = .ok (.invokestatic 87, 3) := dk_184 0 87 (dk_at dksJ20_compareTo_2 5 rfl rfl)
theorem dJ20_compareTo_56 : decode cJ20_compareTo 56 = .ok (.goto 12, 3) := dk_167 0 12 (dk_at dksJ20_compareTo_2 8 rfl rfl)
theorem dJ20_compareTo_59 : decode cJ20_compareTo 59 = .ok (.aload_n 2, 1) := dk_44 (dk_at dksJ20_compareTo_2 11 rfl rfl)
theorem dJ20_compareTo_60 : decode cJ20_compareTo 60 = .ok (.aload_n 3, 1) := dk_45 (dk_at dksJ20_compareTo_2 12 rfl rfl)
theorem dJ20_compareTo_61 : decode cJ20_compareTo 61 = .ok (.iload 4, 2) := dk_21 4 (dk_at dksJ20_compareTo_2 13 rfl rfl)
theorem dJ20_compareTo_63 : decode cJ20_compareTo 63 = .ok (.iload 5, 2) := dk_21 5 (dk_at dksJ20_compareTo_2 15 rfl rfl)
theorem dJ20_compareTo_65 : decode cJ20_compareTo 65 = .ok (.invokestatic 93, 3) := dk_184 0 93 (dk_at dksJ20_compareTo_2 17 rfl rfl)
theorem dJ20_compareTo_68 : decode cJ20_compareTo 68 = .ok (.ireturn, 1) := dk_172 (dk_at dksJ20_compareTo_2 20 rfl rfl)
theorem dJ20_compareTo_69 : decode cJ20_compareTo 69 = .ok (.aload_n 0, 1) := dk_42 (dk_at dksJ20_compareTo_2 21 rfl rfl)
theorem dJ20_compareTo_70 : decode cJ20_compareTo 70 = .ok (.invokevirtual 83, 3) := dk_182 0 83 (dk_at dksJ20_compareTo_3 0 rfl rfl)
theorem dJ20_compareTo_73 : decode cJ20_compareTo 73 = .ok (.ifCond .eq 15, 3) := dk_153 0 15 (dk_at dksJ20_compareTo_3 3 rfl rfl)
theorem dJ20_compareTo_76 : decode cJ20_compareTo 76 = .ok (.aload_n 2, 1) := dk_44 (dk_at dksJ20_compareTo_3 6 rfl rfl)
theorem dJ20_compareTo_77 : decode cJ20_compareTo 77 = .ok (.aload_n 3, 1) := dk_45 (dk_at dksJ20_compareTo_3 7 rfl rfl)
theorem dJ20_compareTo_78 : decode cJ20_compareTo 78 = .ok (.iload 4, 2) := dk_21 4 (dk_at dksJ20_compareTo_3 8 rfl rfl)
theorem dJ20_compareTo_80 : decode cJ20_compareTo 80 = .ok (.iload 5, 2) := dk_21 5 (dk_at dksJ20_compareTo_3 10 rfl rfl)
theorem dJ20_compareTo_82 : decode cJ20_compareTo 82 = .ok (.invokestatic 94, 3) := dk_184 0 94 (dk_at dksJ20_compareTo_3 12 rfl rfl)
theorem dJ20_compareTo_85 : decode cJ20_compareTo 85 = .ok (.goto 12, 3) := dk_167 0 12 (dk_at dksJ20_compareTo_3 15 rfl rfl)
theorem dJ20_compareTo_88 : decode cJ20_compareTo 88 = .ok (.aload_n 2, 1) := dk_44 (dk_at dksJ20_compareTo_3 18 rfl rfl)
theorem dJ20_compareTo_89 : decode cJ20_compareTo 89 = .ok (.aload_n 3, 1) := dk_45 (dk_at dksJ20_compareTo_3 19 rfl rfl)
theorem dJ20_compareTo_90 : decode cJ20_compareTo 90 = .ok (.iload 4, 2) := dk_21 4 (dk_at dksJ20_compareTo_3 20 rfl rfl)
theorem dJ20_compareTo_92 : decode cJ20_compareTo 92 = .ok (.iload 5, 2) := dk_21 5 (dk_at dksJ20_compareTo_3 22 rfl rfl)
theorem dJ20_compareTo_94 : decode cJ20_compareTo 94 = .ok (.invokestatic 97, 3) := dk_184 0 97 (dk_at dksJ20_compareTo_4 0 rfl rfl)
theorem dJ20_compareTo_97 : decode cJ20_compareTo 97 = .ok (.ireturn, 1) := dk_172 (dk_at dksJ20_compareTo_4 3 rfl rfl)
abbrev cJ20_append_3 : ByteArray := prog_14_method_31_code
def yJ20_append_3 : MethodName := ⟨RJ20, "append", "(C)Ljava/lang/AbstractStringBuilder;"⟩
def dkwJ20_append_3_3 : List UInt8 := [181, 0, 79, 27, 184, 0, 197, 42, 176]
abbrev dktJ20_append_3_3 : List UInt8 := dkwJ20_append_3_3 ++ []
def dkwJ20_append_3_2 : List UInt8 := [182, 0, 83, 153, 0, 7, 42, 182, 0, 195, 42, 180, 0, 15, 42, 89, 180, 0, 79, 90, 4, 96]
abbrev dktJ20_append_3_2 : List UInt8 := dkwJ20_append_3_2 ++ dktJ20_append_3_3
def dkwJ20_append_3_1 : List UInt8 := [42, 180, 0, 15, 42, 89, 180, 0, 79, 90, 4, 96, 181, 0, 79, 27, 145, 84, 167, 0, 33, 42]
abbrev dktJ20_append_3_1 : List UInt8 := dkwJ20_append_3_1 ++ dktJ20_append_3_2
def dkwJ20_append_3_0 : List UInt8 := [42, 42, 180, 0, 79, 4, 96, 182, 0, 100, 42, 182, 0, 83, 153, 0, 31, 27, 184, 0, 191, 153, 0, 24]
abbrev dktJ20_append_3_0 : List UInt8 := dkwJ20_append_3_0 ++ dktJ20_append_3_1
theorem dksJ20_append_3_0 : cJ20_append_3.data.toList.drop 0 = dktJ20_append_3_0 := by decide +kernel
theorem dksJ20_append_3_1 : cJ20_append_3.data.toList.drop 24 = dktJ20_append_3_1 := dk_seg dksJ20_append_3_0 24 rfl rfl
theorem dksJ20_append_3_2 : cJ20_append_3.data.toList.drop 46 = dktJ20_append_3_2 := dk_seg dksJ20_append_3_1 22 rfl rfl
theorem dksJ20_append_3_3 : cJ20_append_3.data.toList.drop 68 = dktJ20_append_3_3 := dk_seg dksJ20_append_3_2 22 rfl rfl
theorem dJ20_append_3_0 : decode cJ20_append_3 0 = .ok (.aload_n 0, 1) := dk_42 (dk_at dksJ20_append_3_0 0 rfl rfl)
theorem dJ20_append_3_1 : decode cJ20_append_3 1 = .ok (.aload_n 0, 1) := dk_42 (dk_at dksJ20_append_3_0 1 rfl rfl)
theorem dJ20_append_3_2 : decode cJ20_append_3 2 = .ok (.getfield 79, 3) := dk_180 0 79 (dk_at dksJ20_append_3_0 2 rfl rfl)
theorem dJ20_append_3_5 : decode cJ20_append_3 5 = .ok (.iconst 1, 1) := dk_4 (dk_at dksJ20_append_3_0 5 rfl rfl)
theorem dJ20_append_3_6 : decode cJ20_append_3 6 = .ok (.iadd, 1) := dk_96 (dk_at dksJ20_append_3_0 6 rfl rfl)
theorem dJ20_append_3_7 : decode cJ20_append_3 7 = .ok (.invokevirtual 100, 3) := dk_182 0 100 (dk_at dksJ20_append_3_0 7 rfl rfl)
theorem dJ20_append_3_10 : decode cJ20_append_3 10 = .ok (.aload_n 0, 1) := dk_42 (dk_at dksJ20_append_3_0 10 rfl rfl)
theorem dJ20_append_3_11 : decode cJ20_append_3 11 = .ok (.invokevirtual 83, 3) := dk_182 0 83 (dk_at dksJ20_append_3_0 11 rfl rfl)
theorem dJ20_append_3_14 : decode cJ20_append_3 14 = .ok (.ifCond .eq 31, 3) := dk_153 0 31 (dk_at dksJ20_append_3_0 14 rfl rfl)
theorem dJ20_append_3_17 : decode cJ20_append_3 17 = .ok (.iload_n 1, 1) := dk_27 (dk_at dksJ20_append_3_0 17 rfl rfl)
theorem dJ20_append_3_18 : decode cJ20_append_3 18 = .ok (.invokestatic 191, 3) := dk_184 0 191 (dk_at dksJ20_append_3_0 18 rfl rfl)
theorem dJ20_append_3_21 : decode cJ20_append_3 21 = .ok (.ifCond .eq 24, 3) := dk_153 0 24 (dk_at dksJ20_append_3_0 21 rfl rfl)
theorem dJ20_append_3_24 : decode cJ20_append_3 24 = .ok (.aload_n 0, 1) := dk_42 (dk_at dksJ20_append_3_1 0 rfl rfl)
theorem dJ20_append_3_25 : decode cJ20_append_3 25 = .ok (.getfield 15, 3) := dk_180 0 15 (dk_at dksJ20_append_3_1 1 rfl rfl)
theorem dJ20_append_3_28 : decode cJ20_append_3 28 = .ok (.aload_n 0, 1) := dk_42 (dk_at dksJ20_append_3_1 4 rfl rfl)
theorem dJ20_append_3_29 : decode cJ20_append_3 29 = .ok (.dup, 1) := dk_89 (dk_at dksJ20_append_3_1 5 rfl rfl)
theorem dJ20_append_3_30 : decode cJ20_append_3 30 = .ok (.getfield 79, 3) := dk_180 0 79 (dk_at dksJ20_append_3_1 6 rfl rfl)
theorem dJ20_append_3_33 : decode cJ20_append_3 33 = .ok (.dup_x1, 1) := dk_90 (dk_at dksJ20_append_3_1 9 rfl rfl)
theorem dJ20_append_3_34 : decode cJ20_append_3 34 = .ok (.iconst 1, 1) := dk_4 (dk_at dksJ20_append_3_1 10 rfl rfl)
theorem dJ20_append_3_35 : decode cJ20_append_3 35 = .ok (.iadd, 1) := dk_96 (dk_at dksJ20_append_3_1 11 rfl rfl)
theorem dJ20_append_3_36 : decode cJ20_append_3 36 = .ok (.putfield 79, 3) := dk_181 0 79 (dk_at dksJ20_append_3_1 12 rfl rfl)
theorem dJ20_append_3_39 : decode cJ20_append_3 39 = .ok (.iload_n 1, 1) := dk_27 (dk_at dksJ20_append_3_1 15 rfl rfl)
theorem dJ20_append_3_40 : decode cJ20_append_3 40 = .ok (.i2b, 1) := dk_145 (dk_at dksJ20_append_3_1 16 rfl rfl)
theorem dJ20_append_3_41 : decode cJ20_append_3 41 = .ok (.bastore, 1) := dk_84 (dk_at dksJ20_append_3_1 17 rfl rfl)
theorem dJ20_append_3_42 : decode cJ20_append_3 42 = .ok (.goto 33, 3) := dk_167 0 33 (dk_at dksJ20_append_3_1 18 rfl rfl)
theorem dJ20_append_3_45 : decode cJ20_append_3 45 = .ok (.aload_n 0, 1) := dk_42 (dk_at dksJ20_append_3_1 21 rfl rfl)
theorem dJ20_append_3_46 : decode cJ20_append_3 46 = .ok (.invokevirtual 83, 3) := dk_182 0 83 (dk_at dksJ20_append_3_2 0 rfl rfl)
theorem dJ20_append_3_49 : decode cJ20_append_3 49 = .ok (.ifCond .eq 7, 3) := dk_153 0 7 (dk_at dksJ20_append_3_2 3 rfl rfl)
theorem dJ20_append_3_52 : decode cJ20_append_3 52 = .ok (.aload_n 0, 1) := dk_42 (dk_at dksJ20_append_3_2 6 rfl rfl)
theorem dJ20_append_3_53 : decode cJ20_append_3 53 = .ok (.invokevirtual 195, 3) := dk_182 0 195 (dk_at dksJ20_append_3_2 7 rfl rfl)
theorem dJ20_append_3_56 : decode cJ20_append_3 56 = .ok (.aload_n 0, 1) := dk_42 (dk_at dksJ20_append_3_2 10 rfl rfl)
theorem dJ20_append_3_57 : decode cJ20_append_3 57 = .ok (.getfield 15, 3) := dk_180 0 15 (dk_at dksJ20_append_3_2 11 rfl rfl)
theorem dJ20_append_3_60 : decode cJ20_append_3 60 = .ok (.aload_n 0, 1) := dk_42 (dk_at dksJ20_append_3_2 14 rfl rfl)
theorem dJ20_append_3_61 : decode cJ20_append_3 61 = .ok (.dup, 1) := dk_89 (dk_at dksJ20_append_3_2 15 rfl rfl)
theorem dJ20_append_3_62 : decode cJ20_append_3 62 = .ok (.getfield 79, 3) := dk_180 0 79 (dk_at dksJ20_append_3_2 16 rfl rfl)
theorem dJ20_append_3_65 : decode cJ20_append_3 65 = .ok (.dup_x1, 1) := dk_90 (dk_at dksJ20_append_3_2 19 rfl rfl)
theorem dJ20_append_3_66 : decode cJ20_append_3 66 = .ok (.iconst 1, 1) := dk_4 (dk_at dksJ20_append_3_2 20 rfl rfl)
theorem dJ20_append_3_67 : decode cJ20_append_3 67 = .ok (.iadd, 1) := dk_96 (dk_at dksJ20_append_3_2 21 rfl rfl)
theorem dJ20_append_3_68 : decode cJ20_append_3 68 = .ok (.putfield 79, 3) := dk_181 0 79 (dk_at dksJ20_append_3_3 0 rfl rfl)
theorem dJ20_append_3_71 : decode cJ20_append_3 71 = .ok (.iload_n 1, 1) := dk_27 (dk_at dksJ20_append_3_3 3 rfl rfl)
theorem dJ20_append_3_72 : decode cJ20_append_3 72 = .ok (.invokestatic 197, 3) := dk_184 0 197 (dk_at dksJ20_append_3_3 4 rfl rfl)
theorem dJ20_append_3_75 : decode cJ20_append_3 75 = .ok (.aload_n 0, 1) := dk_42 (dk_at dksJ20_append_3_3 7 rfl rfl)
theorem dJ20_append_3_76 : decode cJ20_append_3 76 = .ok (.areturn, 1) := dk_176 (dk_at dksJ20_append_3_3 8 rfl rfl)
theorem q178 : (Jvm.Cond.initialized "java/lang/AbstractStringBuilder") ∈ lw_all := lw_g (lw_at lw_m1 27 rfl) rfl
theorem q721 : (Jvm.Cond.instanceMethod ({ cls := "java/lang/AbstractStringBuilder", name := "<init>", desc := "(I)V" } : Jvm.MethodName)) ∈ lw_all := lw_g (lw_at lw_m3 90 rfl) rfl
theorem q722 : (Jvm.Cond.code ({ cls := "java/lang/AbstractStringBuilder", name := "<init>", desc := "(I)V" } : Jvm.MethodName) prog_14_method_2_code (2 : Nat) (Option.none : Option Jvm.ClassFile.FieldType)) ∈ lw_all := lw_g (lw_at lw_m3 91 rfl) rfl
theorem q723 : (Jvm.Cond.methodLink "java/lang/AbstractStringBuilder" (3 : Nat) ({ cls := "java/lang/Object", name := "<init>", desc := "()V" } : Jvm.MethodName)) ∈ lw_all := lw_g (lw_at lw_m3 92 rfl) rfl
theorem q724 : (Jvm.Cond.fieldLink "java/lang/AbstractStringBuilder" (18 : Nat) "java/lang/String" "COMPACT_STRINGS" "Z") ∈ lw_all := lw_g (lw_at lw_m3 93 rfl) rfl
theorem q725 : (Jvm.Cond.methodLink "java/lang/AbstractStringBuilder" (26 : Nat) ({ cls := "java/lang/StringUTF16", name := "newBytesFor", desc := "(I)[B" } : Jvm.MethodName)) ∈ lw_all := lw_g (lw_at lw_m3 94 rfl) rfl
theorem q732 : (Jvm.Cond.fieldLink "java/lang/AbstractStringBuilder" (15 : Nat) "java/lang/AbstractStringBuilder" "value" "[B") ∈ lw_all := lw_g (lw_at lw_m3 101 rfl) rfl
theorem q733 : (Jvm.Cond.fieldLink "java/lang/AbstractStringBuilder" (22 : Nat) "java/lang/AbstractStringBuilder" "coder" "B") ∈ lw_all := lw_g (lw_at lw_m3 102 rfl) rfl
theorem q735 : (Jvm.Cond.fieldLink "java/lang/AbstractStringBuilder" (79 : Nat) "java/lang/AbstractStringBuilder" "count" "I") ∈ lw_all := lw_g (lw_at lw_m3 104 rfl) rfl
theorem q737 : (Jvm.Cond.soleField "java/lang/AbstractStringBuilder" "value") ∈ lw_all := lw_g (lw_at lw_m3 106 rfl) rfl
theorem q739 : (Jvm.Cond.soleField "java/lang/AbstractStringBuilder" "coder") ∈ lw_all := lw_g (lw_at lw_m3 108 rfl) rfl
theorem q741 : (Jvm.Cond.soleField "java/lang/AbstractStringBuilder" "maybeLatin1") ∈ lw_all := lw_g (lw_at lw_m3 110 rfl) rfl
theorem q743 : (Jvm.Cond.soleField "java/lang/AbstractStringBuilder" "count") ∈ lw_all := lw_g (lw_at lw_m3 112 rfl) rfl
theorem q751 : (Jvm.Cond.instanceMethod ({ cls := "java/lang/AbstractStringBuilder", name := "append", desc := "(Ljava/lang/String;)Ljava/lang/AbstractStringBuilder;" } : Jvm.MethodName)) ∈ lw_all := lw_g (lw_at lw_m3 120 rfl) rfl
theorem q752 : (Jvm.Cond.code ({ cls := "java/lang/AbstractStringBuilder", name := "append", desc := "(Ljava/lang/String;)Ljava/lang/AbstractStringBuilder;" } : Jvm.MethodName) prog_14_method_22_code (3 : Nat) (Option.some (Jvm.ClassFile.FieldType.object "java/lang/AbstractStringBuilder"))) ∈ lw_all := lw_g (lw_at lw_m3 121 rfl) rfl
theorem q753 : (Jvm.Cond.methodLink "java/lang/AbstractStringBuilder" (204 : Nat) ({ cls := "java/lang/AbstractStringBuilder", name := "appendNull", desc := "()Ljava/lang/AbstractStringBuilder;" } : Jvm.MethodName)) ∈ lw_all := lw_g (lw_at lw_m3 122 rfl) rfl
theorem q754 : (Jvm.Cond.privateMethod ({ cls := "java/lang/AbstractStringBuilder", name := "appendNull", desc := "()Ljava/lang/AbstractStringBuilder;" } : Jvm.MethodName)) ∈ lw_tbl := lw_at lw_m3 123 rfl
theorem q755 : (Jvm.Cond.instanceMethod ({ cls := "java/lang/AbstractStringBuilder", name := "appendNull", desc := "()Ljava/lang/AbstractStringBuilder;" } : Jvm.MethodName)) ∈ lw_all := lw_g (lw_at lw_m3 124 rfl) rfl
theorem q756 : (Jvm.Cond.code ({ cls := "java/lang/AbstractStringBuilder", name := "appendNull", desc := "()Ljava/lang/AbstractStringBuilder;" } : Jvm.MethodName) prog_14_method_26_code (3 : Nat) (Option.some (Jvm.ClassFile.FieldType.object "java/lang/AbstractStringBuilder"))) ∈ lw_all := lw_g (lw_at lw_m3 125 rfl) rfl
theorem q757 : (Jvm.Cond.methodLink "java/lang/AbstractStringBuilder" (100 : Nat) ({ cls := "java/lang/AbstractStringBuilder", name := "ensureCapacityInternal", desc := "(I)V" } : Jvm.MethodName)) ∈ lw_all := lw_g (lw_at lw_m3 126 rfl) rfl
theorem q758 : (Jvm.Cond.privateMethod ({ cls := "java/lang/AbstractStringBuilder", name := "ensureCapacityInternal", desc := "(I)V" } : Jvm.MethodName)) ∈ lw_tbl := lw_at lw_m3 127 rfl
theorem q759 : (Jvm.Cond.instanceMethod ({ cls := "java/lang/AbstractStringBuilder", name := "ensureCapacityInternal", desc := "(I)V" } : Jvm.MethodName)) ∈ lw_all := lw_g (lw_at lw_m3 128 rfl) rfl
theorem q760 : (Jvm.Cond.code ({ cls := "java/lang/AbstractStringBuilder", name := "ensureCapacityInternal", desc := "(I)V" } : Jvm.MethodName) prog_14_method_9_code (3 : Nat) (Option.none : Option Jvm.ClassFile.FieldType)) ∈ lw_all := lw_g (lw_at lw_m3 129 rfl) rfl
theorem q761 : (Jvm.Cond.methodLink "java/lang/AbstractStringBuilder" (104 : Nat) ({ cls := "java/lang/AbstractStringBuilder", name := "newCapacity", desc := "(I)I" } : Jvm.MethodName)) ∈ lw_all := lw_g (lw_at lw_m3 130 rfl) rfl
theorem q762 : (Jvm.Cond.privateMethod ({ cls := "java/lang/AbstractStringBuilder", name := "newCapacity", desc := "(I)I" } : Jvm.MethodName)) ∈ lw_tbl := lw_at lw_m3 131 rfl
theorem q763 : (Jvm.Cond.instanceMethod ({ cls := "java/lang/AbstractStringBuilder", name := "newCapacity", desc := "(I)I" } : Jvm.MethodName)) ∈ lw_all := lw_g (lw_at lw_m3 132 rfl) rfl
theorem q764 : (Jvm.Cond.code ({ cls := "java/lang/AbstractStringBuilder", name := "newCapacity", desc := "(I)I" } : Jvm.MethodName) prog_14_method_10_code (6 : Nat) (Option.some Jvm.ClassFile.FieldType.int)) ∈ lw_all := lw_g (lw_at lw_m3 133 rfl) rfl
theorem q765 : (Jvm.Cond.methodLink "java/lang/AbstractStringBuilder" (114 : Nat) ({ cls := "jdk/internal/util/ArraysSupport", name := "newLength", desc := "(III)I" } : Jvm.MethodName)) ∈ lw_all := lw_g (lw_at lw_m3 134 rfl) rfl
theorem q766 : (Jvm.Cond.constant "java/lang/AbstractStringBuilder" (39 : Nat) (2147483647 : Int32)) ∈ lw_all := lw_g (lw_at lw_m3 135 rfl) rfl
theorem q767 : (Jvm.Cond.methodLink "java/lang/AbstractStringBuilder" (108 : Nat) ({ cls := "java/util/Arrays", name := "copyOf", desc := "([BI)[B" } : Jvm.MethodName)) ∈ lw_all := lw_g (lw_at lw_m3 136 rfl) rfl
theorem q777 : (Jvm.Cond.methodLink "java/lang/AbstractStringBuilder" (83 : Nat) ({ cls := "java/lang/AbstractStringBuilder", name := "isLatin1", desc := "()Z" } : Jvm.MethodName)) ∈ lw_all := lw_g (lw_at lw_m3 146 rfl) rfl
theorem q778 : (Jvm.Cond.instanceMethod ({ cls := "java/lang/AbstractStringBuilder", name := "isLatin1", desc := "()Z" } : Jvm.MethodName)) ∈ lw_all := lw_g (lw_at lw_m3 147 rfl) rfl
theorem q779 : (Jvm.Cond.sameMethod "java/lang/AbstractStringBuilder" "java/lang/AbstractStringBuilder" "isLatin1" "()Z") ∈ lw_all := lw_g (lw_at lw_m3 148 rfl) rfl
theorem q781 : (Jvm.Cond.code ({ cls := "java/lang/AbstractStringBuilder", name := "isLatin1", desc := "()Z" } : Jvm.MethodName) prog_14_method_68_code (1 : Nat) (Option.some Jvm.ClassFile.FieldType.boolean)) ∈ lw_all := lw_g (lw_at lw_m3 150 rfl) rfl
theorem q782 : (Jvm.Cond.methodLink "java/lang/AbstractStringBuilder" (226 : Nat) ({ cls := "java/lang/StringUTF16", name := "putCharsAt", desc := "([BICCCC)I" } : Jvm.MethodName)) ∈ lw_all := lw_g (lw_at lw_m3 151 rfl) rfl
theorem q799 : (Jvm.Cond.methodLink "java/lang/AbstractStringBuilder" (32 : Nat) ({ cls := "java/lang/String", name := "length", desc := "()I" } : Jvm.MethodName)) ∈ lw_all := lw_g (lw_at lw_m3 168 rfl) rfl
theorem q807 : (Jvm.Cond.methodLink "java/lang/AbstractStringBuilder" (208 : Nat) ({ cls := "java/lang/AbstractStringBuilder", name := "putStringAt", desc := "(ILjava/lang/String;)V" } : Jvm.MethodName)) ∈ lw_all := lw_g (lw_at lw_m3 176 rfl) rfl
theorem q808 : (Jvm.Cond.privateMethod ({ cls := "java/lang/AbstractStringBuilder", name := "putStringAt", desc := "(ILjava/lang/String;)V" } : Jvm.MethodName)) ∈ lw_tbl := lw_at lw_m3 177 rfl
theorem q809 : (Jvm.Cond.instanceMethod ({ cls := "java/lang/AbstractStringBuilder", name := "putStringAt", desc := "(ILjava/lang/String;)V" } : Jvm.MethodName)) ∈ lw_all := lw_g (lw_at lw_m3 178 rfl) rfl
theorem q810 : (Jvm.Cond.code ({ cls := "java/lang/AbstractStringBuilder", name := "putStringAt", desc := "(ILjava/lang/String;)V" } : Jvm.MethodName) prog_14_method_73_code (3 : Nat) (Option.none : Option Jvm.ClassFile.FieldType)) ∈ lw_all := lw_g (lw_at lw_m3 179 rfl) rfl
theorem q811 : (Jvm.Cond.methodLink "java/lang/AbstractStringBuilder" (397 : Nat) ({ cls := "java/lang/AbstractStringBuilder", name := "inflateIfNeededFor", desc := "(Ljava/lang/String;)V" } : Jvm.MethodName)) ∈ lw_all := lw_g (lw_at lw_m3 180 rfl) rfl
theorem q812 : (Jvm.Cond.privateMethod ({ cls := "java/lang/AbstractStringBuilder", name := "inflateIfNeededFor", desc := "(Ljava/lang/String;)V" } : Jvm.MethodName)) ∈ lw_tbl := lw_at lw_m3 181 rfl
theorem q813 : (Jvm.Cond.instanceMethod ({ cls := "java/lang/AbstractStringBuilder", name := "inflateIfNeededFor", desc := "(Ljava/lang/String;)V" } : Jvm.MethodName)) ∈ lw_all := lw_g (lw_at lw_m3 182 rfl) rfl
theorem q814 : (Jvm.Cond.code ({ cls := "java/lang/AbstractStringBuilder", name := "inflateIfNeededFor", desc := "(Ljava/lang/String;)V" } : Jvm.MethodName) prog_14_method_71_code (2 : Nat) (Option.none : Option Jvm.ClassFile.FieldType)) ∈ lw_all := lw_g (lw_at lw_m3 183 rfl) rfl
theorem q815 : (Jvm.Cond.methodLink "java/lang/AbstractStringBuilder" (40 : Nat) ({ cls := "java/lang/String", name := "coder", desc := "()B" } : Jvm.MethodName)) ∈ lw_all := lw_g (lw_at lw_m3 184 rfl) rfl
theorem q816 : (Jvm.Cond.methodLink "java/lang/AbstractStringBuilder" (195 : Nat) ({ cls := "java/lang/AbstractStringBuilder", name := "inflate", desc := "()V" } : Jvm.MethodName)) ∈ lw_all := lw_g (lw_at lw_m3 185 rfl) rfl
theorem q817 : (Jvm.Cond.privateMethod ({ cls := "java/lang/AbstractStringBuilder", name := "inflate", desc := "()V" } : Jvm.MethodName)) ∈ lw_tbl := lw_at lw_m3 186 rfl
theorem q818 : (Jvm.Cond.instanceMethod ({ cls := "java/lang/AbstractStringBuilder", name := "inflate", desc := "()V" } : Jvm.MethodName)) ∈ lw_all := lw_g (lw_at lw_m3 187 rfl) rfl
theorem q819 : (Jvm.Cond.code ({ cls := "java/lang/AbstractStringBuilder", name := "inflate", desc := "()V" } : Jvm.MethodName) prog_14_method_11_code (2 : Nat) (Option.none : Option Jvm.ClassFile.FieldType)) ∈ lw_all := lw_g (lw_at lw_m3 188 rfl) rfl
theorem q820 : (Jvm.Cond.methodLink "java/lang/AbstractStringBuilder" (125 : Nat) ({ cls := "java/lang/StringLatin1", name := "inflate", desc := "([BI[BII)V" } : Jvm.MethodName)) ∈ lw_all := lw_g (lw_at lw_m3 189 rfl) rfl
theorem q835 : (Jvm.Cond.methodLink "java/lang/AbstractStringBuilder" (399 : Nat) ({ cls := "java/lang/String", name := "getBytes", desc := "([BIB)V" } : Jvm.MethodName)) ∈ lw_all := lw_g (lw_at lw_m3 204 rfl) rfl
theorem q846 : (Jvm.Cond.instanceMethod ({ cls := "java/lang/AbstractStringBuilder", name := "append", desc := "(I)Ljava/lang/AbstractStringBuilder;" } : Jvm.MethodName)) ∈ lw_all := lw_g (lw_at lw_m3 215 rfl) rfl
theorem q847 : (Jvm.Cond.code ({ cls := "java/lang/AbstractStringBuilder", name := "append", desc := "(I)Ljava/lang/AbstractStringBuilder;" } : Jvm.MethodName) prog_14_method_32_code (4 : Nat) (Option.some (Jvm.ClassFile.FieldType.object "java/lang/AbstractStringBuilder"))) ∈ lw_all := lw_g (lw_at lw_m3 216 rfl) rfl
theorem q848 : (Jvm.Cond.methodLink "java/lang/AbstractStringBuilder" (245 : Nat) ({ cls := "java/lang/Integer", name := "stringSize", desc := "(I)I" } : Jvm.MethodName)) ∈ lw_all := lw_g (lw_at lw_m3 217 rfl) rfl
theorem q851 : (Jvm.Cond.methodLink "java/lang/AbstractStringBuilder" (248 : Nat) ({ cls := "java/lang/Integer", name := "getChars", desc := "(II[B)I" } : Jvm.MethodName)) ∈ lw_all := lw_g (lw_at lw_m3 220 rfl) rfl
theorem q858 : (Jvm.Cond.methodLink "java/lang/AbstractStringBuilder" (251 : Nat) ({ cls := "java/lang/StringUTF16", name := "getChars", desc := "(III[B)I" } : Jvm.MethodName)) ∈ lw_all := lw_g (lw_at lw_m3 227 rfl) rfl
theorem q880 : (Jvm.Cond.instanceMethod ({ cls := "java/lang/AbstractStringBuilder", name := "getValue", desc := "()[B" } : Jvm.MethodName)) ∈ lw_all := lw_g (lw_at lw_m4 9 rfl) rfl
theorem q881 : (Jvm.Cond.sameMethod "java/lang/AbstractStringBuilder" "java/lang/AbstractStringBuilder" "getValue" "()[B") ∈ lw_all := lw_g (lw_at lw_m4 10 rfl) rfl
theorem q883 : (Jvm.Cond.code ({ cls := "java/lang/AbstractStringBuilder", name := "getValue", desc := "()[B" } : Jvm.MethodName) prog_14_method_64_code (1 : Nat) (Option.some (Jvm.ClassFile.FieldType.array Jvm.ClassFile.FieldType.byte))) ∈ lw_all := lw_g (lw_at lw_m4 12 rfl) rfl
theorem q885 : (Jvm.Cond.instanceMethod ({ cls := "java/lang/AbstractStringBuilder", name := "length", desc := "()I" } : Jvm.MethodName)) ∈ lw_all := lw_g (lw_at lw_m4 14 rfl) rfl
theorem q886 : (Jvm.Cond.sameMethod "java/lang/AbstractStringBuilder" "java/lang/AbstractStringBuilder" "length" "()I") ∈ lw_all := lw_g (lw_at lw_m4 15 rfl) rfl
theorem q891 : (Jvm.Cond.code ({ cls := "java/lang/AbstractStringBuilder", name := "length", desc := "()I" } : Jvm.MethodName) prog_14_method_6_code (1 : Nat) (Option.some Jvm.ClassFile.FieldType.int)) ∈ lw_all := lw_g (lw_at lw_m4 20 rfl) rfl
theorem q1249 : (Jvm.Cond.instanceMethod ({ cls := "java/lang/AbstractStringBuilder", name := "compareTo", desc := "(Ljava/lang/AbstractStringBuilder;)I" } : Jvm.MethodName)) ∈ lw_all := lw_g (lw_at lw_m5 138 rfl) rfl
theorem q1250 : (Jvm.Cond.code ({ cls := "java/lang/AbstractStringBuilder", name := "compareTo", desc := "(Ljava/lang/AbstractStringBuilder;)I" } : Jvm.MethodName) prog_14_method_5_code (6 : Nat) (Option.some Jvm.ClassFile.FieldType.int)) ∈ lw_all := lw_g (lw_at lw_m5 139 rfl) rfl
theorem q1251 : (Jvm.Cond.methodLink "java/lang/AbstractStringBuilder" (87 : Nat) ({ cls := "java/lang/StringLatin1", name := "compareTo", desc := "([B[BII)I" } : Jvm.MethodName)) ∈ lw_all := lw_g (lw_at lw_m5 140 rfl) rfl
theorem q1252 : (Jvm.Cond.methodLink "java/lang/AbstractStringBuilder" (93 : Nat) ({ cls := "java/lang/StringUTF16", name := "compareTo", desc := "([B[BII)I" } : Jvm.MethodName)) ∈ lw_all := lw_g (lw_at lw_m5 141 rfl) rfl
theorem q1261 : (Jvm.Cond.methodLink "java/lang/AbstractStringBuilder" (94 : Nat) ({ cls := "java/lang/StringLatin1", name := "compareToUTF16", desc := "([B[BII)I" } : Jvm.MethodName)) ∈ lw_all := lw_g (lw_at lw_m5 150 rfl) rfl
theorem q1265 : (Jvm.Cond.methodLink "java/lang/AbstractStringBuilder" (97 : Nat) ({ cls := "java/lang/StringUTF16", name := "compareToLatin1", desc := "([B[BII)I" } : Jvm.MethodName)) ∈ lw_all := lw_g (lw_at lw_m5 154 rfl) rfl
theorem q1539 : (Jvm.Cond.instanceMethod ({ cls := "java/lang/AbstractStringBuilder", name := "append", desc := "(C)Ljava/lang/AbstractStringBuilder;" } : Jvm.MethodName)) ∈ lw_all := lw_g (lw_at lw_m6 188 rfl) rfl
theorem q1540 : (Jvm.Cond.code ({ cls := "java/lang/AbstractStringBuilder", name := "append", desc := "(C)Ljava/lang/AbstractStringBuilder;" } : Jvm.MethodName) prog_14_method_31_code (2 : Nat) (Option.some (Jvm.ClassFile.FieldType.object "java/lang/AbstractStringBuilder"))) ∈ lw_all := lw_g (lw_at lw_m6 189 rfl) rfl
theorem q1541 : (Jvm.Cond.methodLink "java/lang/AbstractStringBuilder" (191 : Nat) ({ cls := "java/lang/StringLatin1", name := "canEncode", desc := "(C)Z" } : Jvm.MethodName)) ∈ lw_all := lw_g (lw_at lw_m6 190 rfl) rfl
theorem q1544 : (Jvm.Cond.methodLink "java/lang/AbstractStringBuilder" (197 : Nat) ({ cls := "java/lang/StringUTF16", name := "putCharSB", desc := "([BII)V" } : Jvm.MethodName)) ∈ lw_all := lw_g (lw_at lw_m6 193 rfl) rfl
theorem q3490 : (Jvm.Cond.sameMethod "java/lang/AbstractStringBuilder" "java/lang/AbstractStringBuilder" "append" "(Ljava/lang/String;)Ljava/lang/AbstractStringBuilder;") ∈ lw_all := lw_g (lw_at lw_m14 219 rfl) rfl
theorem q3491 : (Jvm.Cond.sameMethod "java/lang/AbstractStringBuilder" "java/lang/AbstractStringBuilder" "appendNull" "()Ljava/lang/AbstractStringBuilder;") ∈ lw_all := lw_g (lw_at lw_m14 220 rfl) rfl
theorem q3492 : (Jvm.Cond.sameMethod "java/lang/AbstractStringBuilder" "java/lang/AbstractStringBuilder" "ensureCapacityInternal" "(I)V") ∈ lw_all := lw_g (lw_at lw_m14 221 rfl) rfl
theorem q3493 : (Jvm.Cond.sameMethod "java/lang/AbstractStringBuilder" "java/lang/AbstractStringBuilder" "newCapacity" "(I)I") ∈ lw_all := lw_g (lw_at lw_m14 222 rfl) rfl
theorem q3494 : (Jvm.Cond.sameMethod "java/lang/AbstractStringBuilder" "java/lang/AbstractStringBuilder" "putStringAt" "(ILjava/lang/String;)V") ∈ lw_all := lw_g (lw_at lw_m14 223 rfl) rfl
theorem q3495 : (Jvm.Cond.sameMethod "java/lang/AbstractStringBuilder" "java/lang/AbstractStringBuilder" "inflateIfNeededFor" "(Ljava/lang/String;)V") ∈ lw_all := lw_g (lw_at lw_m14 224 rfl) rfl
theorem q3496 : (Jvm.Cond.sameMethod "java/lang/AbstractStringBuilder" "java/lang/AbstractStringBuilder" "inflate" "()V") ∈ lw_all := lw_g (lw_at lw_m14 225 rfl) rfl
theorem q3497 : (Jvm.Cond.sameMethod "java/lang/AbstractStringBuilder" "java/lang/AbstractStringBuilder" "append" "(I)Ljava/lang/AbstractStringBuilder;") ∈ lw_all := lw_g (lw_at lw_m14 226 rfl) rfl
theorem q3498 : (Jvm.Cond.sameMethod "java/lang/AbstractStringBuilder" "java/lang/AbstractStringBuilder" "compareTo" "(Ljava/lang/AbstractStringBuilder;)I") ∈ lw_all := lw_g (lw_at lw_m14 227 rfl) rfl
theorem q3499 : (Jvm.Cond.sameMethod "java/lang/AbstractStringBuilder" "java/lang/AbstractStringBuilder" "append" "(C)Ljava/lang/AbstractStringBuilder;") ∈ lw_all := lw_g (lw_at lw_m14 228 rfl) rfl
/-! java/lang/StringBuilder -/
set_option maxRecDepth 100000
def RJ21 : String := "java/lang/StringBuilder"
def TJ21 : u_T := fun k => match k with
  | 0 => ("java/lang/AbstractStringBuilder", "value", "[B", false)
  | 1 => ("java/lang/AbstractStringBuilder", "coder", "B", false)
  | 2 => ("java/lang/AbstractStringBuilder", "maybeLatin1", "Z", false)
  | _ => ("java/lang/AbstractStringBuilder", "count", "I", false)
def tyJ21 : Nat → FieldType := fun k => match k with
  | 0 => .array .byte
  | 1 => .byte
  | 2 => .boolean
  | _ => .int
abbrev wsJ210 : List Cond := u_ws RJ21 TJ21 4
theorem nmJ21 : ∀ a, a < 4 → ∀ b, b < 4 → a ≠ b → (TJ21 a).2.1 ≠ (TJ21 b).2.1 := by decide +kernel
theorem tyJ21_ok : ∀ k, k < 4 → parseFieldDescriptor (TJ21 k).2.2.1 = some (tyJ21 k) := by decide +kernel
abbrev cJ21_init : ByteArray := prog_38_method_1_code
def yJ21_init : MethodName := ⟨RJ21, "<init>", "()V"⟩
def dkwJ21_init_0 : List UInt8 := [42, 16, 16, 183, 0, 1, 177]
abbrev dktJ21_init_0 : List UInt8 := dkwJ21_init_0 ++ []
theorem dksJ21_init_0 : cJ21_init.data.toList.drop 0 = dktJ21_init_0 := by decide +kernel
theorem dJ21_init_0 : decode cJ21_init 0 = .ok (.aload_n 0, 1) := dk_42 (dk_at dksJ21_init_0 0 rfl rfl)
theorem dJ21_init_1 : decode cJ21_init 1 = .ok (.bipush 16, 2) := dk_16 16 (dk_at dksJ21_init_0 1 rfl rfl)
theorem dJ21_init_3 : decode cJ21_init 3 = .ok (.invokespecial 1, 3) := dk_183 0 1 (dk_at dksJ21_init_0 3 rfl rfl)
theorem dJ21_init_6 : decode cJ21_init 6 = .ok (.return_, 1) := dk_177 (dk_at dksJ21_init_0 6 rfl rfl)
abbrev cJ21_append : ByteArray := prog_38_method_7_code
def yJ21_append : MethodName := ⟨RJ21, "append", "(Ljava/lang/String;)Ljava/lang/StringBuilder;"⟩
def dkwJ21_append_0 : List UInt8 := [42, 43, 183, 0, 29, 87, 42, 176]
abbrev dktJ21_append_0 : List UInt8 := dkwJ21_append_0 ++ []
theorem dksJ21_append_0 : cJ21_append.data.toList.drop 0 = dktJ21_append_0 := by decide +kernel
theorem dJ21_append_0 : decode cJ21_append 0 = .ok (.aload_n 0, 1) := dk_42 (dk_at dksJ21_append_0 0 rfl rfl)
theorem dJ21_append_1 : decode cJ21_append 1 = .ok (.aload_n 1, 1) := dk_43 (dk_at dksJ21_append_0 1 rfl rfl)
theorem dJ21_append_2 : decode cJ21_append 2 = .ok (.invokespecial 29, 3) := dk_183 0 29 (dk_at dksJ21_append_0 2 rfl rfl)
theorem dJ21_append_5 : decode cJ21_append 5 = .ok (.pop, 1) := dk_87 (dk_at dksJ21_append_0 5 rfl rfl)
theorem dJ21_append_6 : decode cJ21_append 6 = .ok (.aload_n 0, 1) := dk_42 (dk_at dksJ21_append_0 6 rfl rfl)
theorem dJ21_append_7 : decode cJ21_append 7 = .ok (.areturn, 1) := dk_176 (dk_at dksJ21_append_0 7 rfl rfl)
abbrev cJ21_append_2 : ByteArray := prog_38_method_15_code
def yJ21_append_2 : MethodName := ⟨RJ21, "append", "(I)Ljava/lang/StringBuilder;"⟩
def dkwJ21_append_2_0 : List UInt8 := [42, 27, 183, 0, 53, 87, 42, 176]
abbrev dktJ21_append_2_0 : List UInt8 := dkwJ21_append_2_0 ++ []
theorem dksJ21_append_2_0 : cJ21_append_2.data.toList.drop 0 = dktJ21_append_2_0 := by decide +kernel
theorem dJ21_append_2_0 : decode cJ21_append_2 0 = .ok (.aload_n 0, 1) := dk_42 (dk_at dksJ21_append_2_0 0 rfl rfl)
theorem dJ21_append_2_1 : decode cJ21_append_2 1 = .ok (.iload_n 1, 1) := dk_27 (dk_at dksJ21_append_2_0 1 rfl rfl)
theorem dJ21_append_2_2 : decode cJ21_append_2 2 = .ok (.invokespecial 53, 3) := dk_183 0 53 (dk_at dksJ21_append_2_0 2 rfl rfl)
theorem dJ21_append_2_5 : decode cJ21_append_2 5 = .ok (.pop, 1) := dk_87 (dk_at dksJ21_append_2_0 5 rfl rfl)
theorem dJ21_append_2_6 : decode cJ21_append_2 6 = .ok (.aload_n 0, 1) := dk_42 (dk_at dksJ21_append_2_0 6 rfl rfl)
theorem dJ21_append_2_7 : decode cJ21_append_2 7 = .ok (.areturn, 1) := dk_176 (dk_at dksJ21_append_2_0 7 rfl rfl)
abbrev cJ21_toString : ByteArray := prog_38_method_42_code
def yJ21_toString : MethodName := ⟨RJ21, "toString", "()Ljava/lang/String;"⟩
def dkwJ21_toString_0 : List UInt8 := [187, 0, 18, 89, 42, 183, 0, 137, 176]
abbrev dktJ21_toString_0 : List UInt8 := dkwJ21_toString_0 ++ []
theorem dksJ21_toString_0 : cJ21_toString.data.toList.drop 0 = dktJ21_toString_0 := by decide +kernel
theorem dJ21_toString_0 : decode cJ21_toString 0 = .ok (.new 18, 3) := dk_187 0 18 (dk_at dksJ21_toString_0 0 rfl rfl)
theorem dJ21_toString_3 : decode cJ21_toString 3 = .ok (.dup, 1) := dk_89 (dk_at dksJ21_toString_0 3 rfl rfl)
theorem dJ21_toString_4 : decode cJ21_toString 4 = .ok (.aload_n 0, 1) := dk_42 (dk_at dksJ21_toString_0 4 rfl rfl)
theorem dJ21_toString_5 : decode cJ21_toString 5 = .ok (.invokespecial 137, 3) := dk_183 0 137 (dk_at dksJ21_toString_0 5 rfl rfl)
theorem dJ21_toString_8 : decode cJ21_toString 8 = .ok (.areturn, 1) := dk_176 (dk_at dksJ21_toString_0 8 rfl rfl)
abbrev cJ21_length : ByteArray := prog_38_method_93_code
def yJ21_length : MethodName := ⟨RJ21, "length", "()I"⟩
theorem dJ21_length_0 : decode cJ21_length 0 = .ok (.aload_n 0, 1) := by decide +kernel
theorem dJ21_length_1 : decode cJ21_length 1 = .ok (.invokespecial 343, 3) := by decide +kernel
theorem dJ21_length_4 : decode cJ21_length 4 = .ok (.ireturn, 1) := by decide +kernel
abbrev cJ21_compareTo : ByteArray := prog_38_method_97_code
def yJ21_compareTo : MethodName := ⟨RJ21, "compareTo", "(Ljava/lang/Object;)I"⟩
def dkwJ21_compareTo_0 : List UInt8 := [42, 43, 192, 0, 24, 182, 1, 90, 172]
abbrev dktJ21_compareTo_0 : List UInt8 := dkwJ21_compareTo_0 ++ []
theorem dksJ21_compareTo_0 : cJ21_compareTo.data.toList.drop 0 = dktJ21_compareTo_0 := by decide +kernel
theorem dJ21_compareTo_0 : decode cJ21_compareTo 0 = .ok (.aload_n 0, 1) := dk_42 (dk_at dksJ21_compareTo_0 0 rfl rfl)
theorem dJ21_compareTo_1 : decode cJ21_compareTo 1 = .ok (.aload_n 1, 1) := dk_43 (dk_at dksJ21_compareTo_0 1 rfl rfl)
theorem dJ21_compareTo_2 : decode cJ21_compareTo 2 = .ok (.checkcast 24, 3) := dk_192 0 24 (dk_at dksJ21_compareTo_0 2 rfl rfl)
theorem dJ21_compareTo_5 : decode cJ21_compareTo 5 = .ok (.invokevirtual 346, 3) := dk_182 1 90 (dk_at dksJ21_compareTo_0 5 rfl rfl)
theorem dJ21_compareTo_8 : decode cJ21_compareTo 8 = .ok (.ireturn, 1) := dk_172 (dk_at dksJ21_compareTo_0 8 rfl rfl)
abbrev cJ21_compareTo_2 : ByteArray := prog_38_method_5_code
def yJ21_compareTo_2 : MethodName := ⟨RJ21, "compareTo", "(Ljava/lang/StringBuilder;)I"⟩
def dkwJ21_compareTo_2_0 : List UInt8 := [42, 43, 183, 0, 13, 172]
abbrev dktJ21_compareTo_2_0 : List UInt8 := dkwJ21_compareTo_2_0 ++ []
theorem dksJ21_compareTo_2_0 : cJ21_compareTo_2.data.toList.drop 0 = dktJ21_compareTo_2_0 := by decide +kernel
theorem dJ21_compareTo_2_0 : decode cJ21_compareTo_2 0 = .ok (.aload_n 0, 1) := dk_42 (dk_at dksJ21_compareTo_2_0 0 rfl rfl)
theorem dJ21_compareTo_2_1 : decode cJ21_compareTo_2 1 = .ok (.aload_n 1, 1) := dk_43 (dk_at dksJ21_compareTo_2_0 1 rfl rfl)
theorem dJ21_compareTo_2_2 : decode cJ21_compareTo_2 2 = .ok (.invokespecial 13, 3) := dk_183 0 13 (dk_at dksJ21_compareTo_2_0 2 rfl rfl)
theorem dJ21_compareTo_2_5 : decode cJ21_compareTo_2 5 = .ok (.ireturn, 1) := dk_172 (dk_at dksJ21_compareTo_2_0 5 rfl rfl)
abbrev cJ21_append_3 : ByteArray := prog_38_method_14_code
def yJ21_append_3 : MethodName := ⟨RJ21, "append", "(C)Ljava/lang/StringBuilder;"⟩
def dkwJ21_append_3_0 : List UInt8 := [42, 27, 183, 0, 50, 87, 42, 176]
abbrev dktJ21_append_3_0 : List UInt8 := dkwJ21_append_3_0 ++ []
theorem dksJ21_append_3_0 : cJ21_append_3.data.toList.drop 0 = dktJ21_append_3_0 := by decide +kernel
theorem dJ21_append_3_0 : decode cJ21_append_3 0 = .ok (.aload_n 0, 1) := dk_42 (dk_at dksJ21_append_3_0 0 rfl rfl)
theorem dJ21_append_3_1 : decode cJ21_append_3 1 = .ok (.iload_n 1, 1) := dk_27 (dk_at dksJ21_append_3_0 1 rfl rfl)
theorem dJ21_append_3_2 : decode cJ21_append_3 2 = .ok (.invokespecial 50, 3) := dk_183 0 50 (dk_at dksJ21_append_3_0 2 rfl rfl)
theorem dJ21_append_3_5 : decode cJ21_append_3 5 = .ok (.pop, 1) := dk_87 (dk_at dksJ21_append_3_0 5 rfl rfl)
theorem dJ21_append_3_6 : decode cJ21_append_3 6 = .ok (.aload_n 0, 1) := dk_42 (dk_at dksJ21_append_3_0 6 rfl rfl)
theorem dJ21_append_3_7 : decode cJ21_append_3 7 = .ok (.areturn, 1) := dk_176 (dk_at dksJ21_append_3_0 7 rfl rfl)
theorem q179 : (Jvm.Cond.initialized "java/lang/StringBuilder") ∈ lw_all := lw_g (lw_at lw_m1 28 rfl) rfl
theorem q513 : (Jvm.Cond.selects "java/lang/StringBuilder" ({ cls := "java/lang/Object", name := "getClass", desc := "()Ljava/lang/Class;" } : Jvm.MethodName) ({ cls := "java/lang/Object", name := "getClass", desc := "()Ljava/lang/Class;" } : Jvm.MethodName)) ∈ lw_all := lw_g (lw_at lw_m2 122 rfl) rfl
theorem q716 : (Jvm.Cond.instantiable "java/lang/StringBuilder" (4 : Nat)) ∈ lw_all := lw_g (lw_at lw_m3 85 rfl) rfl
theorem q718 : (Jvm.Cond.instanceMethod ({ cls := "java/lang/StringBuilder", name := "<init>", desc := "()V" } : Jvm.MethodName)) ∈ lw_all := lw_g (lw_at lw_m3 87 rfl) rfl
theorem q719 : (Jvm.Cond.code ({ cls := "java/lang/StringBuilder", name := "<init>", desc := "()V" } : Jvm.MethodName) prog_38_method_1_code (1 : Nat) (Option.none : Option Jvm.ClassFile.FieldType)) ∈ lw_all := lw_g (lw_at lw_m3 88 rfl) rfl
theorem q720 : (Jvm.Cond.methodLink "java/lang/StringBuilder" (1 : Nat) ({ cls := "java/lang/AbstractStringBuilder", name := "<init>", desc := "(I)V" } : Jvm.MethodName)) ∈ lw_all := lw_g (lw_at lw_m3 89 rfl) rfl
theorem q736 : (Jvm.Cond.lays "java/lang/StringBuilder" "java/lang/AbstractStringBuilder" "value" "[B") ∈ lw_all := lw_g (lw_at lw_m3 105 rfl) rfl
theorem q738 : (Jvm.Cond.lays "java/lang/StringBuilder" "java/lang/AbstractStringBuilder" "coder" "B") ∈ lw_all := lw_g (lw_at lw_m3 107 rfl) rfl
theorem q740 : (Jvm.Cond.lays "java/lang/StringBuilder" "java/lang/AbstractStringBuilder" "maybeLatin1" "Z") ∈ lw_all := lw_g (lw_at lw_m3 109 rfl) rfl
theorem q742 : (Jvm.Cond.lays "java/lang/StringBuilder" "java/lang/AbstractStringBuilder" "count" "I") ∈ lw_all := lw_g (lw_at lw_m3 111 rfl) rfl
theorem q744 : (Jvm.Cond.superclass "java/lang/StringBuilder" "java/lang/AbstractStringBuilder") ∈ lw_all := lw_g (lw_at lw_m3 113 rfl) rfl
theorem q747 : (Jvm.Cond.instanceMethod ({ cls := "java/lang/StringBuilder", name := "append", desc := "(Ljava/lang/String;)Ljava/lang/StringBuilder;" } : Jvm.MethodName)) ∈ lw_all := lw_g (lw_at lw_m3 116 rfl) rfl
theorem q748 : (Jvm.Cond.selects "java/lang/StringBuilder" ({ cls := "java/lang/StringBuilder", name := "append", desc := "(Ljava/lang/String;)Ljava/lang/StringBuilder;" } : Jvm.MethodName) ({ cls := "java/lang/StringBuilder", name := "append", desc := "(Ljava/lang/String;)Ljava/lang/StringBuilder;" } : Jvm.MethodName)) ∈ lw_all := lw_g (lw_at lw_m3 117 rfl) rfl
theorem q749 : (Jvm.Cond.code ({ cls := "java/lang/StringBuilder", name := "append", desc := "(Ljava/lang/String;)Ljava/lang/StringBuilder;" } : Jvm.MethodName) prog_38_method_7_code (2 : Nat) (Option.some (Jvm.ClassFile.FieldType.object "java/lang/StringBuilder"))) ∈ lw_all := lw_g (lw_at lw_m3 118 rfl) rfl
theorem q750 : (Jvm.Cond.methodLink "java/lang/StringBuilder" (29 : Nat) ({ cls := "java/lang/AbstractStringBuilder", name := "append", desc := "(Ljava/lang/String;)Ljava/lang/AbstractStringBuilder;" } : Jvm.MethodName)) ∈ lw_all := lw_g (lw_at lw_m3 119 rfl) rfl
theorem q780 : (Jvm.Cond.selects "java/lang/StringBuilder" ({ cls := "java/lang/AbstractStringBuilder", name := "isLatin1", desc := "()Z" } : Jvm.MethodName) ({ cls := "java/lang/AbstractStringBuilder", name := "isLatin1", desc := "()Z" } : Jvm.MethodName)) ∈ lw_all := lw_g (lw_at lw_m3 149 rfl) rfl
theorem q842 : (Jvm.Cond.instanceMethod ({ cls := "java/lang/StringBuilder", name := "append", desc := "(I)Ljava/lang/StringBuilder;" } : Jvm.MethodName)) ∈ lw_all := lw_g (lw_at lw_m3 211 rfl) rfl
theorem q843 : (Jvm.Cond.selects "java/lang/StringBuilder" ({ cls := "java/lang/StringBuilder", name := "append", desc := "(I)Ljava/lang/StringBuilder;" } : Jvm.MethodName) ({ cls := "java/lang/StringBuilder", name := "append", desc := "(I)Ljava/lang/StringBuilder;" } : Jvm.MethodName)) ∈ lw_all := lw_g (lw_at lw_m3 212 rfl) rfl
theorem q844 : (Jvm.Cond.code ({ cls := "java/lang/StringBuilder", name := "append", desc := "(I)Ljava/lang/StringBuilder;" } : Jvm.MethodName) prog_38_method_15_code (2 : Nat) (Option.some (Jvm.ClassFile.FieldType.object "java/lang/StringBuilder"))) ∈ lw_all := lw_g (lw_at lw_m3 213 rfl) rfl
theorem q845 : (Jvm.Cond.methodLink "java/lang/StringBuilder" (53 : Nat) ({ cls := "java/lang/AbstractStringBuilder", name := "append", desc := "(I)Ljava/lang/AbstractStringBuilder;" } : Jvm.MethodName)) ∈ lw_all := lw_g (lw_at lw_m3 214 rfl) rfl
theorem q867 : (Jvm.Cond.instanceMethod ({ cls := "java/lang/StringBuilder", name := "toString", desc := "()Ljava/lang/String;" } : Jvm.MethodName)) ∈ lw_all := lw_g (lw_at lw_m3 236 rfl) rfl
theorem q868 : (Jvm.Cond.selects "java/lang/StringBuilder" ({ cls := "java/lang/StringBuilder", name := "toString", desc := "()Ljava/lang/String;" } : Jvm.MethodName) ({ cls := "java/lang/StringBuilder", name := "toString", desc := "()Ljava/lang/String;" } : Jvm.MethodName)) ∈ lw_all := lw_g (lw_at lw_m3 237 rfl) rfl
theorem q869 : (Jvm.Cond.code ({ cls := "java/lang/StringBuilder", name := "toString", desc := "()Ljava/lang/String;" } : Jvm.MethodName) prog_38_method_42_code (1 : Nat) (Option.some (Jvm.ClassFile.FieldType.object "java/lang/String"))) ∈ lw_all := lw_g (lw_at lw_m3 238 rfl) rfl
theorem q870 : (Jvm.Cond.classLink "java/lang/StringBuilder" (18 : Nat) "java/lang/String") ∈ lw_all := lw_g (lw_at lw_m3 239 rfl) rfl
theorem q872 : (Jvm.Cond.methodLink "java/lang/StringBuilder" (137 : Nat) ({ cls := "java/lang/String", name := "<init>", desc := "(Ljava/lang/StringBuilder;)V" } : Jvm.MethodName)) ∈ lw_all := lw_g (lw_at lw_m4 1 rfl) rfl
theorem q882 : (Jvm.Cond.selects "java/lang/StringBuilder" ({ cls := "java/lang/AbstractStringBuilder", name := "getValue", desc := "()[B" } : Jvm.MethodName) ({ cls := "java/lang/AbstractStringBuilder", name := "getValue", desc := "()[B" } : Jvm.MethodName)) ∈ lw_all := lw_g (lw_at lw_m4 11 rfl) rfl
theorem q887 : (Jvm.Cond.selects "java/lang/StringBuilder" ({ cls := "java/lang/AbstractStringBuilder", name := "length", desc := "()I" } : Jvm.MethodName) ({ cls := "java/lang/StringBuilder", name := "length", desc := "()I" } : Jvm.MethodName)) ∈ lw_all := lw_g (lw_at lw_m4 16 rfl) rfl
theorem q888 : (Jvm.Cond.instanceMethod ({ cls := "java/lang/StringBuilder", name := "length", desc := "()I" } : Jvm.MethodName)) ∈ lw_all := lw_g (lw_at lw_m4 17 rfl) rfl
theorem q889 : (Jvm.Cond.code ({ cls := "java/lang/StringBuilder", name := "length", desc := "()I" } : Jvm.MethodName) prog_38_method_93_code (1 : Nat) (Option.some Jvm.ClassFile.FieldType.int)) ∈ lw_all := lw_g (lw_at lw_m4 18 rfl) rfl
theorem q890 : (Jvm.Cond.methodLink "java/lang/StringBuilder" (343 : Nat) ({ cls := "java/lang/AbstractStringBuilder", name := "length", desc := "()I" } : Jvm.MethodName)) ∈ lw_all := lw_g (lw_at lw_m4 19 rfl) rfl
theorem q963 : (Jvm.Cond.selects "java/lang/StringBuilder" ({ cls := "java/lang/Object", name := "hashCode", desc := "()I" } : Jvm.MethodName) ({ cls := "java/lang/Object", name := "hashCode", desc := "()I" } : Jvm.MethodName)) ∈ lw_all := lw_g (lw_at lw_m4 92 rfl) rfl
theorem q1237 : (Jvm.Cond.castable "java/lang/StringBuilder" "java/lang/Comparable") ∈ lw_tbl := lw_at lw_m5 126 rfl
theorem q1238 : (Jvm.Cond.selects "java/lang/StringBuilder" ({ cls := "java/lang/Comparable", name := "compareTo", desc := "(Ljava/lang/Object;)I" } : Jvm.MethodName) ({ cls := "java/lang/StringBuilder", name := "compareTo", desc := "(Ljava/lang/Object;)I" } : Jvm.MethodName)) ∈ lw_all := lw_g (lw_at lw_m5 127 rfl) rfl
theorem q1239 : (Jvm.Cond.unhidden "java/lang/StringBuilder" "compareTo" "(Ljava/lang/Object;)I") ∈ lw_tbl := lw_at lw_m5 128 rfl
theorem q1240 : (Jvm.Cond.instanceMethod ({ cls := "java/lang/StringBuilder", name := "compareTo", desc := "(Ljava/lang/Object;)I" } : Jvm.MethodName)) ∈ lw_all := lw_g (lw_at lw_m5 129 rfl) rfl
theorem q1241 : (Jvm.Cond.publicMethod ({ cls := "java/lang/StringBuilder", name := "compareTo", desc := "(Ljava/lang/Object;)I" } : Jvm.MethodName)) ∈ lw_tbl := lw_at lw_m5 130 rfl
theorem q1242 : (Jvm.Cond.code ({ cls := "java/lang/StringBuilder", name := "compareTo", desc := "(Ljava/lang/Object;)I" } : Jvm.MethodName) prog_38_method_97_code (2 : Nat) (Option.some Jvm.ClassFile.FieldType.int)) ∈ lw_all := lw_g (lw_at lw_m5 131 rfl) rfl
theorem q1243 : (Jvm.Cond.classLink "java/lang/StringBuilder" (24 : Nat) "java/lang/StringBuilder") ∈ lw_all := lw_g (lw_at lw_m5 132 rfl) rfl
theorem q1244 : (Jvm.Cond.methodLink "java/lang/StringBuilder" (346 : Nat) ({ cls := "java/lang/StringBuilder", name := "compareTo", desc := "(Ljava/lang/StringBuilder;)I" } : Jvm.MethodName)) ∈ lw_all := lw_g (lw_at lw_m5 133 rfl) rfl
theorem q1245 : (Jvm.Cond.instanceMethod ({ cls := "java/lang/StringBuilder", name := "compareTo", desc := "(Ljava/lang/StringBuilder;)I" } : Jvm.MethodName)) ∈ lw_all := lw_g (lw_at lw_m5 134 rfl) rfl
theorem q1246 : (Jvm.Cond.selects "java/lang/StringBuilder" ({ cls := "java/lang/StringBuilder", name := "compareTo", desc := "(Ljava/lang/StringBuilder;)I" } : Jvm.MethodName) ({ cls := "java/lang/StringBuilder", name := "compareTo", desc := "(Ljava/lang/StringBuilder;)I" } : Jvm.MethodName)) ∈ lw_all := lw_g (lw_at lw_m5 135 rfl) rfl
theorem q1247 : (Jvm.Cond.code ({ cls := "java/lang/StringBuilder", name := "compareTo", desc := "(Ljava/lang/StringBuilder;)I" } : Jvm.MethodName) prog_38_method_5_code (2 : Nat) (Option.some Jvm.ClassFile.FieldType.int)) ∈ lw_all := lw_g (lw_at lw_m5 136 rfl) rfl
theorem q1248 : (Jvm.Cond.methodLink "java/lang/StringBuilder" (13 : Nat) ({ cls := "java/lang/AbstractStringBuilder", name := "compareTo", desc := "(Ljava/lang/AbstractStringBuilder;)I" } : Jvm.MethodName)) ∈ lw_all := lw_g (lw_at lw_m5 137 rfl) rfl
theorem q1335 : (Jvm.Cond.selects "java/lang/StringBuilder" ({ cls := "java/lang/Object", name := "equals", desc := "(Ljava/lang/Object;)Z" } : Jvm.MethodName) ({ cls := "java/lang/Object", name := "equals", desc := "(Ljava/lang/Object;)Z" } : Jvm.MethodName)) ∈ lw_all := lw_g (lw_at lw_m5 224 rfl) rfl
theorem q1535 : (Jvm.Cond.instanceMethod ({ cls := "java/lang/StringBuilder", name := "append", desc := "(C)Ljava/lang/StringBuilder;" } : Jvm.MethodName)) ∈ lw_all := lw_g (lw_at lw_m6 184 rfl) rfl
theorem q1536 : (Jvm.Cond.selects "java/lang/StringBuilder" ({ cls := "java/lang/StringBuilder", name := "append", desc := "(C)Ljava/lang/StringBuilder;" } : Jvm.MethodName) ({ cls := "java/lang/StringBuilder", name := "append", desc := "(C)Ljava/lang/StringBuilder;" } : Jvm.MethodName)) ∈ lw_all := lw_g (lw_at lw_m6 185 rfl) rfl
theorem q1537 : (Jvm.Cond.code ({ cls := "java/lang/StringBuilder", name := "append", desc := "(C)Ljava/lang/StringBuilder;" } : Jvm.MethodName) prog_38_method_14_code (2 : Nat) (Option.some (Jvm.ClassFile.FieldType.object "java/lang/StringBuilder"))) ∈ lw_all := lw_g (lw_at lw_m6 186 rfl) rfl
theorem q1538 : (Jvm.Cond.methodLink "java/lang/StringBuilder" (50 : Nat) ({ cls := "java/lang/AbstractStringBuilder", name := "append", desc := "(C)Ljava/lang/AbstractStringBuilder;" } : Jvm.MethodName)) ∈ lw_all := lw_g (lw_at lw_m6 187 rfl) rfl
theorem q3510 : (Jvm.Cond.selects "java/lang/StringBuilder" ({ cls := "java/lang/StringBuilder", name := "length", desc := "()I" } : Jvm.MethodName) ({ cls := "java/lang/StringBuilder", name := "length", desc := "()I" } : Jvm.MethodName)) ∈ lw_all := lw_g (lw_at lw_m14 239 rfl) rfl
theorem q3538 : (Jvm.Cond.castable "java/lang/StringBuilder" "java/lang/Object") ∈ lw_tbl := lw_at lw_m15 27 rfl
theorem in_J21 : ∀ w ∈ wsJ210, w ∈ lw_all := lw_in wsJ210 [736, 738, 740, 742] (by decide +kernel) (by decide +kernel)
/-! jdk/internal/util/Preconditions -/
set_option maxRecDepth 100000
def RJ22 : String := "jdk/internal/util/Preconditions"
abbrev cJ22_checkFromToIndex : ByteArray := prog_71_method_12_code
def yJ22_checkFromToIndex : MethodName := ⟨RJ22, "checkFromToIndex", "(IIILjava/util/function/BiFunction;)I"⟩
def dkwJ22_checkFromToIndex_0 : List UInt8 := [26, 155, 0, 13, 26, 27, 163, 0, 8, 27, 28, 164, 0, 11, 45, 26, 27, 28, 184, 0, 99, 191, 26, 172]
abbrev dktJ22_checkFromToIndex_0 : List UInt8 := dkwJ22_checkFromToIndex_0 ++ []
theorem dksJ22_checkFromToIndex_0 : cJ22_checkFromToIndex.data.toList.drop 0 = dktJ22_checkFromToIndex_0 := by decide +kernel
theorem dJ22_checkFromToIndex_0 : decode cJ22_checkFromToIndex 0 = .ok (.iload_n 0, 1) := dk_26 (dk_at dksJ22_checkFromToIndex_0 0 rfl rfl)
theorem dJ22_checkFromToIndex_1 : decode cJ22_checkFromToIndex 1 = .ok (.ifCond .lt 13, 3) := dk_155 0 13 (dk_at dksJ22_checkFromToIndex_0 1 rfl rfl)
theorem dJ22_checkFromToIndex_4 : decode cJ22_checkFromToIndex 4 = .ok (.iload_n 0, 1) := dk_26 (dk_at dksJ22_checkFromToIndex_0 4 rfl rfl)
theorem dJ22_checkFromToIndex_5 : decode cJ22_checkFromToIndex 5 = .ok (.iload_n 1, 1) := dk_27 (dk_at dksJ22_checkFromToIndex_0 5 rfl rfl)
theorem dJ22_checkFromToIndex_6 : decode cJ22_checkFromToIndex 6 = .ok (.if_icmp .gt 8, 3) := dk_163 0 8 (dk_at dksJ22_checkFromToIndex_0 6 rfl rfl)
theorem dJ22_checkFromToIndex_9 : decode cJ22_checkFromToIndex 9 = .ok (.iload_n 1, 1) := dk_27 (dk_at dksJ22_checkFromToIndex_0 9 rfl rfl)
theorem dJ22_checkFromToIndex_10 : decode cJ22_checkFromToIndex 10 = .ok (.iload_n 2, 1) := dk_28 (dk_at dksJ22_checkFromToIndex_0 10 rfl rfl)
theorem dJ22_checkFromToIndex_11 : decode cJ22_checkFromToIndex 11 = .ok (.if_icmp .le 11, 3) := dk_164 0 11 (dk_at dksJ22_checkFromToIndex_0 11 rfl rfl)
theorem dJ22_checkFromToIndex_14 : decode cJ22_checkFromToIndex 14 = .ok (.aload_n 3, 1) := dk_45 (dk_at dksJ22_checkFromToIndex_0 14 rfl rfl)
theorem dJ22_checkFromToIndex_15 : decode cJ22_checkFromToIndex 15 = .ok (.iload_n 0, 1) := dk_26 (dk_at dksJ22_checkFromToIndex_0 15 rfl rfl)
theorem dJ22_checkFromToIndex_16 : decode cJ22_checkFromToIndex 16 = .ok (.iload_n 1, 1) := dk_27 (dk_at dksJ22_checkFromToIndex_0 16 rfl rfl)
theorem dJ22_checkFromToIndex_17 : decode cJ22_checkFromToIndex 17 = .ok (.iload_n 2, 1) := dk_28 (dk_at dksJ22_checkFromToIndex_0 17 rfl rfl)
theorem dJ22_checkFromToIndex_18 : decode cJ22_checkFromToIndex 18 = .ok (.invokestatic 99, 3) := dk_184 0 99 (dk_at dksJ22_checkFromToIndex_0 18 rfl rfl)
theorem dJ22_checkFromToIndex_21 : decode cJ22_checkFromToIndex 21 = .ok (.athrow, 1) := dk_191 (dk_at dksJ22_checkFromToIndex_0 21 rfl rfl)
theorem dJ22_checkFromToIndex_22 : decode cJ22_checkFromToIndex 22 = .ok (.iload_n 0, 1) := dk_26 (dk_at dksJ22_checkFromToIndex_0 22 rfl rfl)
theorem dJ22_checkFromToIndex_23 : decode cJ22_checkFromToIndex 23 = .ok (.ireturn, 1) := dk_172 (dk_at dksJ22_checkFromToIndex_0 23 rfl rfl)
abbrev cJ22_checkFromIndexSize : ByteArray := prog_71_method_13_code
def yJ22_checkFromIndexSize : MethodName := ⟨RJ22, "checkFromIndexSize", "(IIILjava/util/function/BiFunction;)I"⟩
def dkwJ22_checkFromIndexSize_1 : List UInt8 := [172]
abbrev dktJ22_checkFromIndexSize_1 : List UInt8 := dkwJ22_checkFromIndexSize_1 ++ []
def dkwJ22_checkFromIndexSize_0 : List UInt8 := [28, 26, 128, 27, 128, 155, 0, 10, 27, 28, 26, 100, 164, 0, 11, 45, 26, 27, 28, 184, 0, 103, 191, 26]
abbrev dktJ22_checkFromIndexSize_0 : List UInt8 := dkwJ22_checkFromIndexSize_0 ++ dktJ22_checkFromIndexSize_1
theorem dksJ22_checkFromIndexSize_0 : cJ22_checkFromIndexSize.data.toList.drop 0 = dktJ22_checkFromIndexSize_0 := by decide +kernel
theorem dksJ22_checkFromIndexSize_1 : cJ22_checkFromIndexSize.data.toList.drop 24 = dktJ22_checkFromIndexSize_1 := dk_seg dksJ22_checkFromIndexSize_0 24 rfl rfl
theorem dJ22_checkFromIndexSize_0 : decode cJ22_checkFromIndexSize 0 = .ok (.iload_n 2, 1) := dk_28 (dk_at dksJ22_checkFromIndexSize_0 0 rfl rfl)
theorem dJ22_checkFromIndexSize_1 : decode cJ22_checkFromIndexSize 1 = .ok (.iload_n 0, 1) := dk_26 (dk_at dksJ22_checkFromIndexSize_0 1 rfl rfl)
theorem dJ22_checkFromIndexSize_2 : decode cJ22_checkFromIndexSize 2 = .ok (.ior, 1) := dk_128 (dk_at dksJ22_checkFromIndexSize_0 2 rfl rfl)
theorem dJ22_checkFromIndexSize_3 : decode cJ22_checkFromIndexSize 3 = .ok (.iload_n 1, 1) := dk_27 (dk_at dksJ22_checkFromIndexSize_0 3 rfl rfl)
theorem dJ22_checkFromIndexSize_4 : decode cJ22_checkFromIndexSize 4 = .ok (.ior, 1) := dk_128 (dk_at dksJ22_checkFromIndexSize_0 4 rfl rfl)
theorem dJ22_checkFromIndexSize_5 : decode cJ22_checkFromIndexSize 5 = .ok (.ifCond .lt 10, 3) := dk_155 0 10 (dk_at dksJ22_checkFromIndexSize_0 5 rfl rfl)
theorem dJ22_checkFromIndexSize_8 : decode cJ22_checkFromIndexSize 8 = .ok (.iload_n 1, 1) := dk_27 (dk_at dksJ22_checkFromIndexSize_0 8 rfl rfl)
theorem dJ22_checkFromIndexSize_9 : decode cJ22_checkFromIndexSize 9 = .ok (.iload_n 2, 1) := dk_28 (dk_at dksJ22_checkFromIndexSize_0 9 rfl rfl)
theorem dJ22_checkFromIndexSize_10 : decode cJ22_checkFromIndexSize 10 = .ok (.iload_n 0, 1) := dk_26 (dk_at dksJ22_checkFromIndexSize_0 10 rfl rfl)
theorem dJ22_checkFromIndexSize_11 : decode cJ22_checkFromIndexSize 11 = .ok (.isub, 1) := dk_100 (dk_at dksJ22_checkFromIndexSize_0 11 rfl rfl)
theorem dJ22_checkFromIndexSize_12 : decode cJ22_checkFromIndexSize 12 = .ok (.if_icmp .le 11, 3) := dk_164 0 11 (dk_at dksJ22_checkFromIndexSize_0 12 rfl rfl)
theorem dJ22_checkFromIndexSize_15 : decode cJ22_checkFromIndexSize 15 = .ok (.aload_n 3, 1) := dk_45 (dk_at dksJ22_checkFromIndexSize_0 15 rfl rfl)
theorem dJ22_checkFromIndexSize_16 : decode cJ22_checkFromIndexSize 16 = .ok (.iload_n 0, 1) := dk_26 (dk_at dksJ22_checkFromIndexSize_0 16 rfl rfl)
theorem dJ22_checkFromIndexSize_17 : decode cJ22_checkFromIndexSize 17 = .ok (.iload_n 1, 1) := dk_27 (dk_at dksJ22_checkFromIndexSize_0 17 rfl rfl)
theorem dJ22_checkFromIndexSize_18 : decode cJ22_checkFromIndexSize 18 = .ok (.iload_n 2, 1) := dk_28 (dk_at dksJ22_checkFromIndexSize_0 18 rfl rfl)
theorem dJ22_checkFromIndexSize_19 : decode cJ22_checkFromIndexSize 19 = .ok (.invokestatic 103, 3) := dk_184 0 103 (dk_at dksJ22_checkFromIndexSize_0 19 rfl rfl)
theorem dJ22_checkFromIndexSize_22 : decode cJ22_checkFromIndexSize 22 = .ok (.athrow, 1) := dk_191 (dk_at dksJ22_checkFromIndexSize_0 22 rfl rfl)
theorem dJ22_checkFromIndexSize_23 : decode cJ22_checkFromIndexSize 23 = .ok (.iload_n 0, 1) := dk_26 (dk_at dksJ22_checkFromIndexSize_0 23 rfl rfl)
theorem dJ22_checkFromIndexSize_24 : decode cJ22_checkFromIndexSize 24 = .ok (.ireturn, 1) := dk_172 (dk_at dksJ22_checkFromIndexSize_1 0 rfl rfl)
abbrev cJ22_checkIndex : ByteArray := prog_71_method_11_code
def yJ22_checkIndex : MethodName := ⟨RJ22, "checkIndex", "(IILjava/util/function/BiFunction;)I"⟩
def dkwJ22_checkIndex_0 : List UInt8 := [26, 155, 0, 8, 26, 27, 161, 0, 10, 44, 26, 27, 184, 0, 95, 191, 26, 172]
abbrev dktJ22_checkIndex_0 : List UInt8 := dkwJ22_checkIndex_0 ++ []
theorem dksJ22_checkIndex_0 : cJ22_checkIndex.data.toList.drop 0 = dktJ22_checkIndex_0 := by decide +kernel
theorem dJ22_checkIndex_0 : decode cJ22_checkIndex 0 = .ok (.iload_n 0, 1) := dk_26 (dk_at dksJ22_checkIndex_0 0 rfl rfl)
theorem dJ22_checkIndex_1 : decode cJ22_checkIndex 1 = .ok (.ifCond .lt 8, 3) := dk_155 0 8 (dk_at dksJ22_checkIndex_0 1 rfl rfl)
theorem dJ22_checkIndex_4 : decode cJ22_checkIndex 4 = .ok (.iload_n 0, 1) := dk_26 (dk_at dksJ22_checkIndex_0 4 rfl rfl)
theorem dJ22_checkIndex_5 : decode cJ22_checkIndex 5 = .ok (.iload_n 1, 1) := dk_27 (dk_at dksJ22_checkIndex_0 5 rfl rfl)
theorem dJ22_checkIndex_6 : decode cJ22_checkIndex 6 = .ok (.if_icmp .lt 10, 3) := dk_161 0 10 (dk_at dksJ22_checkIndex_0 6 rfl rfl)
theorem dJ22_checkIndex_9 : decode cJ22_checkIndex 9 = .ok (.aload_n 2, 1) := dk_44 (dk_at dksJ22_checkIndex_0 9 rfl rfl)
theorem dJ22_checkIndex_10 : decode cJ22_checkIndex 10 = .ok (.iload_n 0, 1) := dk_26 (dk_at dksJ22_checkIndex_0 10 rfl rfl)
theorem dJ22_checkIndex_11 : decode cJ22_checkIndex 11 = .ok (.iload_n 1, 1) := dk_27 (dk_at dksJ22_checkIndex_0 11 rfl rfl)
theorem dJ22_checkIndex_12 : decode cJ22_checkIndex 12 = .ok (.invokestatic 95, 3) := dk_184 0 95 (dk_at dksJ22_checkIndex_0 12 rfl rfl)
theorem dJ22_checkIndex_15 : decode cJ22_checkIndex 15 = .ok (.athrow, 1) := dk_191 (dk_at dksJ22_checkIndex_0 15 rfl rfl)
theorem dJ22_checkIndex_16 : decode cJ22_checkIndex 16 = .ok (.iload_n 0, 1) := dk_26 (dk_at dksJ22_checkIndex_0 16 rfl rfl)
theorem dJ22_checkIndex_17 : decode cJ22_checkIndex 17 = .ok (.ireturn, 1) := dk_172 (dk_at dksJ22_checkIndex_0 17 rfl rfl)
theorem q180 : (Jvm.Cond.initialized "jdk/internal/util/Preconditions") ∈ lw_all := lw_g (lw_at lw_m1 29 rfl) rfl
theorem q792 : (Jvm.Cond.laysStatic "jdk/internal/util/Preconditions" "SIOOBE_FORMATTER" "Ljava/util/function/BiFunction;") ∈ lw_tbl := lw_at lw_m3 161 rfl
theorem q794 : (Jvm.Cond.static ({ cls := "jdk/internal/util/Preconditions", name := "checkFromToIndex", desc := "(IIILjava/util/function/BiFunction;)I" } : Jvm.MethodName)) ∈ lw_all := lw_g (lw_at lw_m3 163 rfl) rfl
theorem q795 : (Jvm.Cond.code ({ cls := "jdk/internal/util/Preconditions", name := "checkFromToIndex", desc := "(IIILjava/util/function/BiFunction;)I" } : Jvm.MethodName) prog_71_method_12_code (4 : Nat) (Option.some Jvm.ClassFile.FieldType.int)) ∈ lw_all := lw_g (lw_at lw_m3 164 rfl) rfl
theorem q833 : (Jvm.Cond.static ({ cls := "jdk/internal/util/Preconditions", name := "checkFromIndexSize", desc := "(IIILjava/util/function/BiFunction;)I" } : Jvm.MethodName)) ∈ lw_all := lw_g (lw_at lw_m3 202 rfl) rfl
theorem q834 : (Jvm.Cond.code ({ cls := "jdk/internal/util/Preconditions", name := "checkFromIndexSize", desc := "(IIILjava/util/function/BiFunction;)I" } : Jvm.MethodName) prog_71_method_13_code (4 : Nat) (Option.some Jvm.ClassFile.FieldType.int)) ∈ lw_all := lw_g (lw_at lw_m3 203 rfl) rfl
theorem q1554 : (Jvm.Cond.static ({ cls := "jdk/internal/util/Preconditions", name := "checkIndex", desc := "(IILjava/util/function/BiFunction;)I" } : Jvm.MethodName)) ∈ lw_all := lw_g (lw_at lw_m6 203 rfl) rfl
theorem q1555 : (Jvm.Cond.code ({ cls := "jdk/internal/util/Preconditions", name := "checkIndex", desc := "(IILjava/util/function/BiFunction;)I" } : Jvm.MethodName) prog_71_method_11_code (3 : Nat) (Option.some Jvm.ClassFile.FieldType.int)) ∈ lw_all := lw_g (lw_at lw_m6 204 rfl) rfl
/-! java/util/HashMap$Node -/
set_option maxRecDepth 100000
def RJ23 : String := "java/util/HashMap$Node"
def TJ23 : u_T := fun k => match k with
  | 0 => ("java/util/HashMap$Node", "hash", "I", true)
  | 1 => ("java/util/HashMap$Node", "key", "Ljava/lang/Object;", true)
  | 2 => ("java/util/HashMap$Node", "value", "Ljava/lang/Object;", false)
  | _ => ("java/util/HashMap$Node", "next", "Ljava/util/HashMap$Node;", false)
def tyJ23 : Nat → FieldType := fun k => match k with
  | 0 => .int
  | 1 => .object "java/lang/Object"
  | 2 => .object "java/lang/Object"
  | _ => .object "java/util/HashMap$Node"
abbrev wsJ230 : List Cond := u_ws RJ23 TJ23 4
theorem nmJ23 : ∀ a, a < 4 → ∀ b, b < 4 → a ≠ b → (TJ23 a).2.1 ≠ (TJ23 b).2.1 := by decide +kernel
theorem tyJ23_ok : ∀ k, k < 4 → parseFieldDescriptor (TJ23 k).2.2.1 = some (tyJ23 k) := by decide +kernel
abbrev cJ23_init : ByteArray := prog_54_method_1_code
def yJ23_init : MethodName := ⟨RJ23, "<init>", "(ILjava/lang/Object;Ljava/lang/Object;Ljava/util/HashMap$Node;)V"⟩
def dkwJ23_init_1 : List UInt8 := [181, 0, 20, 177]
abbrev dktJ23_init_1 : List UInt8 := dkwJ23_init_1 ++ []
def dkwJ23_init_0 : List UInt8 := [42, 183, 0, 1, 42, 27, 181, 0, 7, 42, 44, 181, 0, 13, 42, 45, 181, 0, 17, 42, 25, 4]
abbrev dktJ23_init_0 : List UInt8 := dkwJ23_init_0 ++ dktJ23_init_1
theorem dksJ23_init_0 : cJ23_init.data.toList.drop 0 = dktJ23_init_0 := by decide +kernel
theorem dksJ23_init_1 : cJ23_init.data.toList.drop 22 = dktJ23_init_1 := dk_seg dksJ23_init_0 22 rfl rfl
theorem dJ23_init_0 : decode cJ23_init 0 = .ok (.aload_n 0, 1) := dk_42 (dk_at dksJ23_init_0 0 rfl rfl)
theorem dJ23_init_1 : decode cJ23_init 1 = .ok (.invokespecial 1, 3) := dk_183 0 1 (dk_at dksJ23_init_0 1 rfl rfl)
theorem dJ23_init_4 : decode cJ23_init 4 = .ok (.aload_n 0, 1) := dk_42 (dk_at dksJ23_init_0 4 rfl rfl)
theorem dJ23_init_5 : decode cJ23_init 5 = .ok (.iload_n 1, 1) := dk_27 (dk_at dksJ23_init_0 5 rfl rfl)
theorem dJ23_init_6 : decode cJ23_init 6 = .ok (.putfield 7, 3) := dk_181 0 7 (dk_at dksJ23_init_0 6 rfl rfl)
theorem dJ23_init_9 : decode cJ23_init 9 = .ok (.aload_n 0, 1) := dk_42 (dk_at dksJ23_init_0 9 rfl rfl)
theorem dJ23_init_10 : decode cJ23_init 10 = .ok (.aload_n 2, 1) := dk_44 (dk_at dksJ23_init_0 10 rfl rfl)
theorem dJ23_init_11 : decode cJ23_init 11 = .ok (.putfield 13, 3) := dk_181 0 13 (dk_at dksJ23_init_0 11 rfl rfl)
theorem dJ23_init_14 : decode cJ23_init 14 = .ok (.aload_n 0, 1) := dk_42 (dk_at dksJ23_init_0 14 rfl rfl)
theorem dJ23_init_15 : decode cJ23_init 15 = .ok (.aload_n 3, 1) := dk_45 (dk_at dksJ23_init_0 15 rfl rfl)
theorem dJ23_init_16 : decode cJ23_init 16 = .ok (.putfield 17, 3) := dk_181 0 17 (dk_at dksJ23_init_0 16 rfl rfl)
theorem dJ23_init_19 : decode cJ23_init 19 = .ok (.aload_n 0, 1) := dk_42 (dk_at dksJ23_init_0 19 rfl rfl)
theorem dJ23_init_20 : decode cJ23_init 20 = .ok (.aload 4, 2) := dk_25 4 (dk_at dksJ23_init_0 20 rfl rfl)
theorem dJ23_init_22 : decode cJ23_init 22 = .ok (.putfield 20, 3) := dk_181 0 20 (dk_at dksJ23_init_1 0 rfl rfl)
theorem dJ23_init_25 : decode cJ23_init 25 = .ok (.return_, 1) := dk_177 (dk_at dksJ23_init_1 3 rfl rfl)
theorem q181 : (Jvm.Cond.initialized "java/util/HashMap$Node") ∈ lw_all := lw_g (lw_at lw_m1 30 rfl) rfl
theorem q517 : (Jvm.Cond.selects "java/util/HashMap$Node" ({ cls := "java/lang/Object", name := "getClass", desc := "()Ljava/lang/Class;" } : Jvm.MethodName) ({ cls := "java/lang/Object", name := "getClass", desc := "()Ljava/lang/Class;" } : Jvm.MethodName)) ∈ lw_all := lw_g (lw_at lw_m2 126 rfl) rfl
theorem q1007 : (Jvm.Cond.instanceMethod ({ cls := "java/util/HashMap$Node", name := "<init>", desc := "(ILjava/lang/Object;Ljava/lang/Object;Ljava/util/HashMap$Node;)V" } : Jvm.MethodName)) ∈ lw_all := lw_g (lw_at lw_m4 136 rfl) rfl
theorem q1008 : (Jvm.Cond.code ({ cls := "java/util/HashMap$Node", name := "<init>", desc := "(ILjava/lang/Object;Ljava/lang/Object;Ljava/util/HashMap$Node;)V" } : Jvm.MethodName) prog_54_method_1_code (5 : Nat) (Option.none : Option Jvm.ClassFile.FieldType)) ∈ lw_all := lw_g (lw_at lw_m4 137 rfl) rfl
theorem q1009 : (Jvm.Cond.methodLink "java/util/HashMap$Node" (1 : Nat) ({ cls := "java/lang/Object", name := "<init>", desc := "()V" } : Jvm.MethodName)) ∈ lw_all := lw_g (lw_at lw_m4 138 rfl) rfl
theorem q1012 : (Jvm.Cond.fieldLink "java/util/HashMap$Node" (7 : Nat) "java/util/HashMap$Node" "hash" "I") ∈ lw_all := lw_g (lw_at lw_m4 141 rfl) rfl
theorem q1018 : (Jvm.Cond.fieldLink "java/util/HashMap$Node" (13 : Nat) "java/util/HashMap$Node" "key" "Ljava/lang/Object;") ∈ lw_all := lw_g (lw_at lw_m4 147 rfl) rfl
theorem q1024 : (Jvm.Cond.fieldLink "java/util/HashMap$Node" (17 : Nat) "java/util/HashMap$Node" "value" "Ljava/lang/Object;") ∈ lw_all := lw_g (lw_at lw_m4 153 rfl) rfl
theorem q1029 : (Jvm.Cond.fieldLink "java/util/HashMap$Node" (20 : Nat) "java/util/HashMap$Node" "next" "Ljava/util/HashMap$Node;") ∈ lw_all := lw_g (lw_at lw_m4 158 rfl) rfl
theorem q1040 : (Jvm.Cond.soleField "java/util/HashMap$Node" "hash") ∈ lw_all := lw_g (lw_at lw_m4 169 rfl) rfl
theorem q1042 : (Jvm.Cond.soleField "java/util/HashMap$Node" "key") ∈ lw_all := lw_g (lw_at lw_m4 171 rfl) rfl
theorem q1044 : (Jvm.Cond.soleField "java/util/HashMap$Node" "value") ∈ lw_all := lw_g (lw_at lw_m4 173 rfl) rfl
theorem q1046 : (Jvm.Cond.soleField "java/util/HashMap$Node" "next") ∈ lw_all := lw_g (lw_at lw_m4 175 rfl) rfl
theorem q1053 : (Jvm.Cond.instantiable "java/util/HashMap$Node" (4 : Nat)) ∈ lw_all := lw_g (lw_at lw_m4 182 rfl) rfl
theorem q1055 : (Jvm.Cond.laysFinal "java/util/HashMap$Node" "java/util/HashMap$Node" "hash" "I") ∈ lw_all := lw_g (lw_at lw_m4 184 rfl) rfl
theorem q1056 : (Jvm.Cond.laysFinal "java/util/HashMap$Node" "java/util/HashMap$Node" "key" "Ljava/lang/Object;") ∈ lw_all := lw_g (lw_at lw_m4 185 rfl) rfl
theorem q1057 : (Jvm.Cond.lays "java/util/HashMap$Node" "java/util/HashMap$Node" "value" "Ljava/lang/Object;") ∈ lw_all := lw_g (lw_at lw_m4 186 rfl) rfl
theorem q1058 : (Jvm.Cond.lays "java/util/HashMap$Node" "java/util/HashMap$Node" "next" "Ljava/util/HashMap$Node;") ∈ lw_all := lw_g (lw_at lw_m4 187 rfl) rfl
theorem q1059 : (Jvm.Cond.superclass "java/util/HashMap$Node" "java/lang/Object") ∈ lw_all := lw_g (lw_at lw_m4 188 rfl) rfl
theorem q3526 : (Jvm.Cond.castable "java/util/HashMap$Node" "java/lang/Object") ∈ lw_tbl := lw_at lw_m15 15 rfl
theorem in_J23 : ∀ w ∈ wsJ230, w ∈ lw_all := lw_in wsJ230 [1055, 1056, 1057, 1058] (by decide +kernel) (by decide +kernel)
/-! java/util/LinkedHashMap$Entry -/
set_option maxRecDepth 100000
def RJ24 : String := "java/util/LinkedHashMap$Entry"
def TJ24 : u_T := fun k => match k with
  | 0 => ("java/util/HashMap$Node", "hash", "I", true)
  | 1 => ("java/util/HashMap$Node", "key", "Ljava/lang/Object;", true)
  | 2 => ("java/util/HashMap$Node", "value", "Ljava/lang/Object;", false)
  | 3 => ("java/util/HashMap$Node", "next", "Ljava/util/HashMap$Node;", false)
  | 4 => ("java/util/LinkedHashMap$Entry", "before", "Ljava/util/LinkedHashMap$Entry;", false)
  | _ => ("java/util/LinkedHashMap$Entry", "after", "Ljava/util/LinkedHashMap$Entry;", false)
def tyJ24 : Nat → FieldType := fun k => match k with
  | 0 => .int
  | 1 => .object "java/lang/Object"
  | 2 => .object "java/lang/Object"
  | 3 => .object "java/util/HashMap$Node"
  | 4 => .object "java/util/LinkedHashMap$Entry"
  | _ => .object "java/util/LinkedHashMap$Entry"
abbrev wsJ240 : List Cond := u_ws RJ24 TJ24 6
theorem nmJ24 : ∀ a, a < 6 → ∀ b, b < 6 → a ≠ b → (TJ24 a).2.1 ≠ (TJ24 b).2.1 := by decide +kernel
theorem tyJ24_ok : ∀ k, k < 6 → parseFieldDescriptor (TJ24 k).2.2.1 = some (tyJ24 k) := by decide +kernel
abbrev cJ24_init : ByteArray := prog_58_method_1_code
def yJ24_init : MethodName := ⟨RJ24, "<init>", "(ILjava/lang/Object;Ljava/lang/Object;Ljava/util/HashMap$Node;)V"⟩
def dkwJ24_init_0 : List UInt8 := [42, 27, 44, 45, 25, 4, 183, 0, 1, 177]
abbrev dktJ24_init_0 : List UInt8 := dkwJ24_init_0 ++ []
theorem dksJ24_init_0 : cJ24_init.data.toList.drop 0 = dktJ24_init_0 := by decide +kernel
theorem dJ24_init_0 : decode cJ24_init 0 = .ok (.aload_n 0, 1) := dk_42 (dk_at dksJ24_init_0 0 rfl rfl)
theorem dJ24_init_1 : decode cJ24_init 1 = .ok (.iload_n 1, 1) := dk_27 (dk_at dksJ24_init_0 1 rfl rfl)
theorem dJ24_init_2 : decode cJ24_init 2 = .ok (.aload_n 2, 1) := dk_44 (dk_at dksJ24_init_0 2 rfl rfl)
theorem dJ24_init_3 : decode cJ24_init 3 = .ok (.aload_n 3, 1) := dk_45 (dk_at dksJ24_init_0 3 rfl rfl)
theorem dJ24_init_4 : decode cJ24_init 4 = .ok (.aload 4, 2) := dk_25 4 (dk_at dksJ24_init_0 4 rfl rfl)
theorem dJ24_init_6 : decode cJ24_init 6 = .ok (.invokespecial 1, 3) := dk_183 0 1 (dk_at dksJ24_init_0 6 rfl rfl)
theorem dJ24_init_9 : decode cJ24_init 9 = .ok (.return_, 1) := dk_177 (dk_at dksJ24_init_0 9 rfl rfl)
theorem q182 : (Jvm.Cond.initialized "java/util/LinkedHashMap$Entry") ∈ lw_all := lw_g (lw_at lw_m1 31 rfl) rfl
theorem q521 : (Jvm.Cond.selects "java/util/LinkedHashMap$Entry" ({ cls := "java/lang/Object", name := "getClass", desc := "()Ljava/lang/Class;" } : Jvm.MethodName) ({ cls := "java/lang/Object", name := "getClass", desc := "()Ljava/lang/Class;" } : Jvm.MethodName)) ∈ lw_all := lw_g (lw_at lw_m2 130 rfl) rfl
theorem q1002 : (Jvm.Cond.instantiable "java/util/LinkedHashMap$Entry" (6 : Nat)) ∈ lw_all := lw_g (lw_at lw_m4 131 rfl) rfl
theorem q1004 : (Jvm.Cond.instanceMethod ({ cls := "java/util/LinkedHashMap$Entry", name := "<init>", desc := "(ILjava/lang/Object;Ljava/lang/Object;Ljava/util/HashMap$Node;)V" } : Jvm.MethodName)) ∈ lw_all := lw_g (lw_at lw_m4 133 rfl) rfl
theorem q1005 : (Jvm.Cond.code ({ cls := "java/util/LinkedHashMap$Entry", name := "<init>", desc := "(ILjava/lang/Object;Ljava/lang/Object;Ljava/util/HashMap$Node;)V" } : Jvm.MethodName) prog_58_method_1_code (5 : Nat) (Option.none : Option Jvm.ClassFile.FieldType)) ∈ lw_all := lw_g (lw_at lw_m4 134 rfl) rfl
theorem q1006 : (Jvm.Cond.methodLink "java/util/LinkedHashMap$Entry" (1 : Nat) ({ cls := "java/util/HashMap$Node", name := "<init>", desc := "(ILjava/lang/Object;Ljava/lang/Object;Ljava/util/HashMap$Node;)V" } : Jvm.MethodName)) ∈ lw_all := lw_g (lw_at lw_m4 135 rfl) rfl
theorem q1016 : (Jvm.Cond.sameField "java/util/LinkedHashMap$Entry" "java/util/HashMap$Node" "hash" "I") ∈ lw_all := lw_g (lw_at lw_m4 145 rfl) rfl
theorem q1022 : (Jvm.Cond.sameField "java/util/LinkedHashMap$Entry" "java/util/HashMap$Node" "key" "Ljava/lang/Object;") ∈ lw_all := lw_g (lw_at lw_m4 151 rfl) rfl
theorem q1026 : (Jvm.Cond.sameField "java/util/LinkedHashMap$Entry" "java/util/HashMap$Node" "value" "Ljava/lang/Object;") ∈ lw_all := lw_g (lw_at lw_m4 155 rfl) rfl
theorem q1035 : (Jvm.Cond.lays "java/util/LinkedHashMap$Entry" "java/util/LinkedHashMap$Entry" "before" "Ljava/util/LinkedHashMap$Entry;") ∈ lw_all := lw_g (lw_at lw_m4 164 rfl) rfl
theorem q1036 : (Jvm.Cond.soleField "java/util/LinkedHashMap$Entry" "before") ∈ lw_all := lw_g (lw_at lw_m4 165 rfl) rfl
theorem q1037 : (Jvm.Cond.lays "java/util/LinkedHashMap$Entry" "java/util/LinkedHashMap$Entry" "after" "Ljava/util/LinkedHashMap$Entry;") ∈ lw_all := lw_g (lw_at lw_m4 166 rfl) rfl
theorem q1038 : (Jvm.Cond.soleField "java/util/LinkedHashMap$Entry" "after") ∈ lw_all := lw_g (lw_at lw_m4 167 rfl) rfl
theorem q1039 : (Jvm.Cond.laysFinal "java/util/LinkedHashMap$Entry" "java/util/HashMap$Node" "hash" "I") ∈ lw_all := lw_g (lw_at lw_m4 168 rfl) rfl
theorem q1041 : (Jvm.Cond.laysFinal "java/util/LinkedHashMap$Entry" "java/util/HashMap$Node" "key" "Ljava/lang/Object;") ∈ lw_all := lw_g (lw_at lw_m4 170 rfl) rfl
theorem q1043 : (Jvm.Cond.lays "java/util/LinkedHashMap$Entry" "java/util/HashMap$Node" "value" "Ljava/lang/Object;") ∈ lw_all := lw_g (lw_at lw_m4 172 rfl) rfl
theorem q1045 : (Jvm.Cond.lays "java/util/LinkedHashMap$Entry" "java/util/HashMap$Node" "next" "Ljava/util/HashMap$Node;") ∈ lw_all := lw_g (lw_at lw_m4 174 rfl) rfl
theorem q1047 : (Jvm.Cond.superclass "java/util/LinkedHashMap$Entry" "java/util/HashMap$Node") ∈ lw_all := lw_g (lw_at lw_m4 176 rfl) rfl
theorem q3539 : (Jvm.Cond.castable "java/util/LinkedHashMap$Entry" "java/lang/Object") ∈ lw_tbl := lw_at lw_m15 28 rfl
theorem q3557 : (Jvm.Cond.castable "java/util/LinkedHashMap$Entry" "java/util/HashMap$Node") ∈ lw_tbl := lw_at lw_m15 46 rfl
theorem in_J24 : ∀ w ∈ wsJ240, w ∈ lw_all := lw_in wsJ240 [1039, 1041, 1043, 1045, 1035, 1037] (by decide +kernel) (by decide +kernel)
/-! java/util/Objects -/
set_option maxRecDepth 100000
def RJ28 : String := "java/util/Objects"
abbrev cJ28_checkIndex : ByteArray := prog_62_method_17_code
def yJ28_checkIndex : MethodName := ⟨RJ28, "checkIndex", "(II)I"⟩
def dkwJ28_checkIndex_0 : List UInt8 := [26, 27, 1, 184, 0, 105, 172]
abbrev dktJ28_checkIndex_0 : List UInt8 := dkwJ28_checkIndex_0 ++ []
theorem dksJ28_checkIndex_0 : cJ28_checkIndex.data.toList.drop 0 = dktJ28_checkIndex_0 := by decide +kernel
theorem dJ28_checkIndex_0 : decode cJ28_checkIndex 0 = .ok (.iload_n 0, 1) := dk_26 (dk_at dksJ28_checkIndex_0 0 rfl rfl)
theorem dJ28_checkIndex_1 : decode cJ28_checkIndex 1 = .ok (.iload_n 1, 1) := dk_27 (dk_at dksJ28_checkIndex_0 1 rfl rfl)
theorem dJ28_checkIndex_2 : decode cJ28_checkIndex 2 = .ok (.aconst_null, 1) := dk_1 (dk_at dksJ28_checkIndex_0 2 rfl rfl)
theorem dJ28_checkIndex_3 : decode cJ28_checkIndex 3 = .ok (.invokestatic 105, 3) := dk_184 0 105 (dk_at dksJ28_checkIndex_0 3 rfl rfl)
theorem dJ28_checkIndex_6 : decode cJ28_checkIndex 6 = .ok (.ireturn, 1) := dk_172 (dk_at dksJ28_checkIndex_0 6 rfl rfl)
abbrev cJ28_requireNonNull : ByteArray := prog_62_method_11_code
def yJ28_requireNonNull : MethodName := ⟨RJ28, "requireNonNull", "(Ljava/lang/Object;Ljava/lang/String;)Ljava/lang/Object;"⟩
def dkwJ28_requireNonNull_0 : List UInt8 := [42, 199, 0, 12, 187, 0, 84, 89, 43, 183, 0, 87, 191, 42, 176]
abbrev dktJ28_requireNonNull_0 : List UInt8 := dkwJ28_requireNonNull_0 ++ []
theorem dksJ28_requireNonNull_0 : cJ28_requireNonNull.data.toList.drop 0 = dktJ28_requireNonNull_0 := by decide +kernel
theorem dJ28_requireNonNull_0 : decode cJ28_requireNonNull 0 = .ok (.aload_n 0, 1) := dk_42 (dk_at dksJ28_requireNonNull_0 0 rfl rfl)
theorem dJ28_requireNonNull_1 : decode cJ28_requireNonNull 1 = .ok (.ifnonnull 12, 3) := dk_199 0 12 (dk_at dksJ28_requireNonNull_0 1 rfl rfl)
theorem dJ28_requireNonNull_4 : decode cJ28_requireNonNull 4 = .ok (.new 84, 3) := dk_187 0 84 (dk_at dksJ28_requireNonNull_0 4 rfl rfl)
theorem dJ28_requireNonNull_7 : decode cJ28_requireNonNull 7 = .ok (.dup, 1) := dk_89 (dk_at dksJ28_requireNonNull_0 7 rfl rfl)
theorem dJ28_requireNonNull_8 : decode cJ28_requireNonNull 8 = .ok (.aload_n 1, 1) := dk_43 (dk_at dksJ28_requireNonNull_0 8 rfl rfl)
theorem dJ28_requireNonNull_9 : decode cJ28_requireNonNull 9 = .ok (.invokespecial 87, 3) := dk_183 0 87 (dk_at dksJ28_requireNonNull_0 9 rfl rfl)
theorem dJ28_requireNonNull_12 : decode cJ28_requireNonNull 12 = .ok (.athrow, 1) := dk_191 (dk_at dksJ28_requireNonNull_0 12 rfl rfl)
theorem dJ28_requireNonNull_13 : decode cJ28_requireNonNull 13 = .ok (.aload_n 0, 1) := dk_42 (dk_at dksJ28_requireNonNull_0 13 rfl rfl)
theorem dJ28_requireNonNull_14 : decode cJ28_requireNonNull 14 = .ok (.areturn, 1) := dk_176 (dk_at dksJ28_requireNonNull_0 14 rfl rfl)
theorem q190 : (Jvm.Cond.initialized "java/util/Objects") ∈ lw_all := lw_g (lw_at lw_m1 39 rfl) rfl
theorem q1677 : (Jvm.Cond.static ({ cls := "java/util/Objects", name := "checkIndex", desc := "(II)I" } : Jvm.MethodName)) ∈ lw_all := lw_g (lw_at lw_m7 86 rfl) rfl
theorem q1678 : (Jvm.Cond.code ({ cls := "java/util/Objects", name := "checkIndex", desc := "(II)I" } : Jvm.MethodName) prog_62_method_17_code (2 : Nat) (Option.some Jvm.ClassFile.FieldType.int)) ∈ lw_all := lw_g (lw_at lw_m7 87 rfl) rfl
theorem q1679 : (Jvm.Cond.methodLink "java/util/Objects" (105 : Nat) ({ cls := "jdk/internal/util/Preconditions", name := "checkIndex", desc := "(IILjava/util/function/BiFunction;)I" } : Jvm.MethodName)) ∈ lw_all := lw_g (lw_at lw_m7 88 rfl) rfl
theorem q2371 : (Jvm.Cond.static ({ cls := "java/util/Objects", name := "requireNonNull", desc := "(Ljava/lang/Object;Ljava/lang/String;)Ljava/lang/Object;" } : Jvm.MethodName)) ∈ lw_all := lw_g (lw_at lw_m10 60 rfl) rfl
theorem q2372 : (Jvm.Cond.code ({ cls := "java/util/Objects", name := "requireNonNull", desc := "(Ljava/lang/Object;Ljava/lang/String;)Ljava/lang/Object;" } : Jvm.MethodName) prog_62_method_11_code (2 : Nat) (Option.some (Jvm.ClassFile.FieldType.object "java/lang/Object"))) ∈ lw_all := lw_g (lw_at lw_m10 61 rfl) rfl
/-! java/lang/IndexOutOfBoundsException -/
set_option maxRecDepth 100000
def RJ29 : String := "java/lang/IndexOutOfBoundsException"
def TJ29 : u_T := fun k => match k with
  | 0 => ("java/lang/Throwable", "cause", "Ljava/lang/Throwable;", false)
  | 1 => ("java/lang/Throwable", "stackTrace", "[Ljava/lang/StackTraceElement;", false)
  | 2 => ("java/lang/Throwable", "suppressedExceptions", "Ljava/util/List;", false)
  | 3 => ("java/lang/Throwable", "detailMessage", "Ljava/lang/String;", false)
  | 4 => ("java/lang/Throwable", "backtrace", "Ljava/lang/Object;", false)
  | _ => ("java/lang/Throwable", "depth", "I", false)
def tyJ29 : Nat → FieldType := fun k => match k with
  | 0 => .object "java/lang/Throwable"
  | 1 => .array (.object "java/lang/StackTraceElement")
  | 2 => .object "java/util/List"
  | 3 => .object "java/lang/String"
  | 4 => .object "java/lang/Object"
  | _ => .int
abbrev wsJ290 : List Cond := u_ws RJ29 TJ29 6
theorem nmJ29 : ∀ a, a < 6 → ∀ b, b < 6 → a ≠ b → (TJ29 a).2.1 ≠ (TJ29 b).2.1 := by decide +kernel
theorem tyJ29_ok : ∀ k, k < 6 → parseFieldDescriptor (TJ29 k).2.2.1 = some (tyJ29 k) := by decide +kernel
abbrev cJ29_init : ByteArray := prog_27_method_2_code
def yJ29_init : MethodName := ⟨RJ29, "<init>", "(Ljava/lang/String;)V"⟩
def dkwJ29_init_0 : List UInt8 := [42, 43, 183, 0, 7, 177]
abbrev dktJ29_init_0 : List UInt8 := dkwJ29_init_0 ++ []
theorem dksJ29_init_0 : cJ29_init.data.toList.drop 0 = dktJ29_init_0 := by decide +kernel
theorem dJ29_init_0 : decode cJ29_init 0 = .ok (.aload_n 0, 1) := dk_42 (dk_at dksJ29_init_0 0 rfl rfl)
theorem dJ29_init_1 : decode cJ29_init 1 = .ok (.aload_n 1, 1) := dk_43 (dk_at dksJ29_init_0 1 rfl rfl)
theorem dJ29_init_2 : decode cJ29_init 2 = .ok (.invokespecial 7, 3) := dk_183 0 7 (dk_at dksJ29_init_0 2 rfl rfl)
theorem dJ29_init_5 : decode cJ29_init 5 = .ok (.return_, 1) := dk_177 (dk_at dksJ29_init_0 5 rfl rfl)
abbrev cJ29_init_2 : ByteArray := prog_27_method_1_code
def yJ29_init_2 : MethodName := ⟨RJ29, "<init>", "()V"⟩
theorem dJ29_init_2_0 : decode cJ29_init_2 0 = .ok (.aload_n 0, 1) := by decide +kernel
theorem dJ29_init_2_1 : decode cJ29_init_2 1 = .ok (.invokespecial 1, 3) := by decide +kernel
theorem dJ29_init_2_4 : decode cJ29_init_2 4 = .ok (.return_, 1) := by decide +kernel
theorem q194 : (Jvm.Cond.initialized "java/lang/IndexOutOfBoundsException") ∈ lw_all := lw_g (lw_at lw_m1 43 rfl) rfl
theorem q508 : (Jvm.Cond.selects "java/lang/IndexOutOfBoundsException" ({ cls := "java/lang/Object", name := "getClass", desc := "()Ljava/lang/Class;" } : Jvm.MethodName) ({ cls := "java/lang/Object", name := "getClass", desc := "()Ljava/lang/Class;" } : Jvm.MethodName)) ∈ lw_all := lw_g (lw_at lw_m2 117 rfl) rfl
theorem q584 : (Jvm.Cond.selects "java/lang/IndexOutOfBoundsException" ({ cls := "java/lang/Object", name := "hashCode", desc := "()I" } : Jvm.MethodName) ({ cls := "java/lang/Object", name := "hashCode", desc := "()I" } : Jvm.MethodName)) ∈ lw_all := lw_g (lw_at lw_m2 193 rfl) rfl
theorem q693 : (Jvm.Cond.selects "java/lang/IndexOutOfBoundsException" ({ cls := "java/lang/Throwable", name := "fillInStackTrace", desc := "()Ljava/lang/Throwable;" } : Jvm.MethodName) ({ cls := "java/lang/Throwable", name := "fillInStackTrace", desc := "()Ljava/lang/Throwable;" } : Jvm.MethodName)) ∈ lw_all := lw_g (lw_at lw_m3 62 rfl) rfl
theorem q1319 : (Jvm.Cond.selects "java/lang/IndexOutOfBoundsException" ({ cls := "java/lang/Object", name := "equals", desc := "(Ljava/lang/Object;)Z" } : Jvm.MethodName) ({ cls := "java/lang/Object", name := "equals", desc := "(Ljava/lang/Object;)Z" } : Jvm.MethodName)) ∈ lw_all := lw_g (lw_at lw_m5 208 rfl) rfl
theorem q2250 : (Jvm.Cond.instanceMethod ({ cls := "java/lang/IndexOutOfBoundsException", name := "<init>", desc := "(Ljava/lang/String;)V" } : Jvm.MethodName)) ∈ lw_all := lw_g (lw_at lw_m9 179 rfl) rfl
theorem q2251 : (Jvm.Cond.code ({ cls := "java/lang/IndexOutOfBoundsException", name := "<init>", desc := "(Ljava/lang/String;)V" } : Jvm.MethodName) prog_27_method_2_code (2 : Nat) (Option.none : Option Jvm.ClassFile.FieldType)) ∈ lw_all := lw_g (lw_at lw_m9 180 rfl) rfl
theorem q2252 : (Jvm.Cond.methodLink "java/lang/IndexOutOfBoundsException" (7 : Nat) ({ cls := "java/lang/RuntimeException", name := "<init>", desc := "(Ljava/lang/String;)V" } : Jvm.MethodName)) ∈ lw_all := lw_g (lw_at lw_m9 181 rfl) rfl
theorem q2261 : (Jvm.Cond.declares ({ cls := "java/lang/IndexOutOfBoundsException", name := "<init>", desc := "()V" } : Jvm.MethodName)) ∈ lw_tbl := lw_at lw_m9 190 rfl
theorem q2262 : (Jvm.Cond.declares ({ cls := "java/lang/IndexOutOfBoundsException", name := "<init>", desc := "(Ljava/lang/String;)V" } : Jvm.MethodName)) ∈ lw_tbl := lw_at lw_m9 191 rfl
theorem q2356 : (Jvm.Cond.selects "java/lang/IndexOutOfBoundsException" ({ cls := "java/lang/Throwable", name := "addSuppressed", desc := "(Ljava/lang/Throwable;)V" } : Jvm.MethodName) ({ cls := "java/lang/Throwable", name := "addSuppressed", desc := "(Ljava/lang/Throwable;)V" } : Jvm.MethodName)) ∈ lw_all := lw_g (lw_at lw_m10 45 rfl) rfl
theorem q2475 : (Jvm.Cond.instantiable "java/lang/IndexOutOfBoundsException" (6 : Nat)) ∈ lw_all := lw_g (lw_at lw_m10 164 rfl) rfl
theorem q2476 : (Jvm.Cond.castable "java/lang/IndexOutOfBoundsException" "java/lang/IndexOutOfBoundsException") ∈ lw_tbl := lw_at lw_m10 165 rfl
theorem q2477 : (Jvm.Cond.selects "java/lang/IndexOutOfBoundsException" ({ cls := "java/lang/Throwable", name := "fillInStackTrace", desc := "(I)Ljava/lang/Throwable;" } : Jvm.MethodName) ({ cls := "java/lang/Throwable", name := "fillInStackTrace", desc := "(I)Ljava/lang/Throwable;" } : Jvm.MethodName)) ∈ lw_all := lw_g (lw_at lw_m10 166 rfl) rfl
theorem q2478 : (Jvm.Cond.lays "java/lang/IndexOutOfBoundsException" "java/lang/Throwable" "cause" "Ljava/lang/Throwable;") ∈ lw_all := lw_g (lw_at lw_m10 167 rfl) rfl
theorem q2479 : (Jvm.Cond.lays "java/lang/IndexOutOfBoundsException" "java/lang/Throwable" "stackTrace" "[Ljava/lang/StackTraceElement;") ∈ lw_all := lw_g (lw_at lw_m10 168 rfl) rfl
theorem q2480 : (Jvm.Cond.lays "java/lang/IndexOutOfBoundsException" "java/lang/Throwable" "suppressedExceptions" "Ljava/util/List;") ∈ lw_all := lw_g (lw_at lw_m10 169 rfl) rfl
theorem q2481 : (Jvm.Cond.lays "java/lang/IndexOutOfBoundsException" "java/lang/Throwable" "detailMessage" "Ljava/lang/String;") ∈ lw_all := lw_g (lw_at lw_m10 170 rfl) rfl
theorem q2482 : (Jvm.Cond.lays "java/lang/IndexOutOfBoundsException" "java/lang/Throwable" "backtrace" "Ljava/lang/Object;") ∈ lw_all := lw_g (lw_at lw_m10 171 rfl) rfl
theorem q2484 : (Jvm.Cond.instanceMethod ({ cls := "java/lang/IndexOutOfBoundsException", name := "<init>", desc := "()V" } : Jvm.MethodName)) ∈ lw_all := lw_g (lw_at lw_m10 173 rfl) rfl
theorem q2485 : (Jvm.Cond.code ({ cls := "java/lang/IndexOutOfBoundsException", name := "<init>", desc := "()V" } : Jvm.MethodName) prog_27_method_1_code (1 : Nat) (Option.none : Option Jvm.ClassFile.FieldType)) ∈ lw_all := lw_g (lw_at lw_m10 174 rfl) rfl
theorem q2486 : (Jvm.Cond.methodLink "java/lang/IndexOutOfBoundsException" (1 : Nat) ({ cls := "java/lang/RuntimeException", name := "<init>", desc := "()V" } : Jvm.MethodName)) ∈ lw_all := lw_g (lw_at lw_m10 175 rfl) rfl
theorem q2487 : (Jvm.Cond.lays "java/lang/IndexOutOfBoundsException" "java/lang/Throwable" "depth" "I") ∈ lw_all := lw_g (lw_at lw_m10 176 rfl) rfl
theorem q2488 : (Jvm.Cond.superclass "java/lang/IndexOutOfBoundsException" "java/lang/RuntimeException") ∈ lw_all := lw_g (lw_at lw_m10 177 rfl) rfl
theorem q3519 : (Jvm.Cond.castable "java/lang/IndexOutOfBoundsException" "java/lang/Throwable") ∈ lw_tbl := lw_at lw_m15 8 rfl
theorem q3548 : (Jvm.Cond.castable "java/lang/IndexOutOfBoundsException" "java/lang/Object") ∈ lw_tbl := lw_at lw_m15 37 rfl
theorem in_J29 : ∀ w ∈ wsJ290, w ∈ lw_all := lw_in wsJ290 [2478, 2479, 2480, 2481, 2482, 2487] (by decide +kernel) (by decide +kernel)
/-! java/lang/IllegalStateException -/
set_option maxRecDepth 100000
def RJ31 : String := "java/lang/IllegalStateException"
def TJ31 : u_T := fun k => match k with
  | 0 => ("java/lang/Throwable", "cause", "Ljava/lang/Throwable;", false)
  | 1 => ("java/lang/Throwable", "stackTrace", "[Ljava/lang/StackTraceElement;", false)
  | 2 => ("java/lang/Throwable", "suppressedExceptions", "Ljava/util/List;", false)
  | 3 => ("java/lang/Throwable", "detailMessage", "Ljava/lang/String;", false)
  | 4 => ("java/lang/Throwable", "backtrace", "Ljava/lang/Object;", false)
  | _ => ("java/lang/Throwable", "depth", "I", false)
def tyJ31 : Nat → FieldType := fun k => match k with
  | 0 => .object "java/lang/Throwable"
  | 1 => .array (.object "java/lang/StackTraceElement")
  | 2 => .object "java/util/List"
  | 3 => .object "java/lang/String"
  | 4 => .object "java/lang/Object"
  | _ => .int
abbrev wsJ310 : List Cond := u_ws RJ31 TJ31 6
theorem nmJ31 : ∀ a, a < 6 → ∀ b, b < 6 → a ≠ b → (TJ31 a).2.1 ≠ (TJ31 b).2.1 := by decide +kernel
theorem tyJ31_ok : ∀ k, k < 6 → parseFieldDescriptor (TJ31 k).2.2.1 = some (tyJ31 k) := by decide +kernel
abbrev cJ31_init : ByteArray := prog_26_method_1_code
def yJ31_init : MethodName := ⟨RJ31, "<init>", "()V"⟩
theorem dJ31_init_0 : decode cJ31_init 0 = .ok (.aload_n 0, 1) := by decide +kernel
theorem dJ31_init_1 : decode cJ31_init 1 = .ok (.invokespecial 1, 3) := by decide +kernel
theorem dJ31_init_4 : decode cJ31_init 4 = .ok (.return_, 1) := by decide +kernel
theorem q196 : (Jvm.Cond.initialized "java/lang/IllegalStateException") ∈ lw_all := lw_g (lw_at lw_m1 45 rfl) rfl
theorem q507 : (Jvm.Cond.selects "java/lang/IllegalStateException" ({ cls := "java/lang/Object", name := "getClass", desc := "()Ljava/lang/Class;" } : Jvm.MethodName) ({ cls := "java/lang/Object", name := "getClass", desc := "()Ljava/lang/Class;" } : Jvm.MethodName)) ∈ lw_all := lw_g (lw_at lw_m2 116 rfl) rfl
theorem q583 : (Jvm.Cond.selects "java/lang/IllegalStateException" ({ cls := "java/lang/Object", name := "hashCode", desc := "()I" } : Jvm.MethodName) ({ cls := "java/lang/Object", name := "hashCode", desc := "()I" } : Jvm.MethodName)) ∈ lw_all := lw_g (lw_at lw_m2 192 rfl) rfl
theorem q692 : (Jvm.Cond.selects "java/lang/IllegalStateException" ({ cls := "java/lang/Throwable", name := "fillInStackTrace", desc := "()Ljava/lang/Throwable;" } : Jvm.MethodName) ({ cls := "java/lang/Throwable", name := "fillInStackTrace", desc := "()Ljava/lang/Throwable;" } : Jvm.MethodName)) ∈ lw_all := lw_g (lw_at lw_m3 61 rfl) rfl
theorem q1318 : (Jvm.Cond.selects "java/lang/IllegalStateException" ({ cls := "java/lang/Object", name := "equals", desc := "(Ljava/lang/Object;)Z" } : Jvm.MethodName) ({ cls := "java/lang/Object", name := "equals", desc := "(Ljava/lang/Object;)Z" } : Jvm.MethodName)) ∈ lw_all := lw_g (lw_at lw_m5 207 rfl) rfl
theorem q2355 : (Jvm.Cond.selects "java/lang/IllegalStateException" ({ cls := "java/lang/Throwable", name := "addSuppressed", desc := "(Ljava/lang/Throwable;)V" } : Jvm.MethodName) ({ cls := "java/lang/Throwable", name := "addSuppressed", desc := "(Ljava/lang/Throwable;)V" } : Jvm.MethodName)) ∈ lw_all := lw_g (lw_at lw_m10 44 rfl) rfl
theorem q2520 : (Jvm.Cond.instantiable "java/lang/IllegalStateException" (6 : Nat)) ∈ lw_all := lw_g (lw_at lw_m10 209 rfl) rfl
theorem q2521 : (Jvm.Cond.castable "java/lang/IllegalStateException" "java/lang/IllegalStateException") ∈ lw_tbl := lw_at lw_m10 210 rfl
theorem q2522 : (Jvm.Cond.selects "java/lang/IllegalStateException" ({ cls := "java/lang/Throwable", name := "fillInStackTrace", desc := "(I)Ljava/lang/Throwable;" } : Jvm.MethodName) ({ cls := "java/lang/Throwable", name := "fillInStackTrace", desc := "(I)Ljava/lang/Throwable;" } : Jvm.MethodName)) ∈ lw_all := lw_g (lw_at lw_m10 211 rfl) rfl
theorem q2523 : (Jvm.Cond.lays "java/lang/IllegalStateException" "java/lang/Throwable" "cause" "Ljava/lang/Throwable;") ∈ lw_all := lw_g (lw_at lw_m10 212 rfl) rfl
theorem q2524 : (Jvm.Cond.lays "java/lang/IllegalStateException" "java/lang/Throwable" "stackTrace" "[Ljava/lang/StackTraceElement;") ∈ lw_all := lw_g (lw_at lw_m10 213 rfl) rfl
theorem q2525 : (Jvm.Cond.lays "java/lang/IllegalStateException" "java/lang/Throwable" "suppressedExceptions" "Ljava/util/List;") ∈ lw_all := lw_g (lw_at lw_m10 214 rfl) rfl
theorem q2526 : (Jvm.Cond.lays "java/lang/IllegalStateException" "java/lang/Throwable" "detailMessage" "Ljava/lang/String;") ∈ lw_all := lw_g (lw_at lw_m10 215 rfl) rfl
theorem q2527 : (Jvm.Cond.lays "java/lang/IllegalStateException" "java/lang/Throwable" "backtrace" "Ljava/lang/Object;") ∈ lw_all := lw_g (lw_at lw_m10 216 rfl) rfl
theorem q2529 : (Jvm.Cond.instanceMethod ({ cls := "java/lang/IllegalStateException", name := "<init>", desc := "()V" } : Jvm.MethodName)) ∈ lw_all := lw_g (lw_at lw_m10 218 rfl) rfl
theorem q2530 : (Jvm.Cond.code ({ cls := "java/lang/IllegalStateException", name := "<init>", desc := "()V" } : Jvm.MethodName) prog_26_method_1_code (1 : Nat) (Option.none : Option Jvm.ClassFile.FieldType)) ∈ lw_all := lw_g (lw_at lw_m10 219 rfl) rfl
theorem q2531 : (Jvm.Cond.methodLink "java/lang/IllegalStateException" (1 : Nat) ({ cls := "java/lang/RuntimeException", name := "<init>", desc := "()V" } : Jvm.MethodName)) ∈ lw_all := lw_g (lw_at lw_m10 220 rfl) rfl
theorem q2532 : (Jvm.Cond.lays "java/lang/IllegalStateException" "java/lang/Throwable" "depth" "I") ∈ lw_all := lw_g (lw_at lw_m10 221 rfl) rfl
theorem q2533 : (Jvm.Cond.superclass "java/lang/IllegalStateException" "java/lang/RuntimeException") ∈ lw_all := lw_g (lw_at lw_m10 222 rfl) rfl
theorem q3518 : (Jvm.Cond.castable "java/lang/IllegalStateException" "java/lang/Throwable") ∈ lw_tbl := lw_at lw_m15 7 rfl
theorem q3549 : (Jvm.Cond.castable "java/lang/IllegalStateException" "java/lang/Object") ∈ lw_tbl := lw_at lw_m15 38 rfl
theorem in_J31 : ∀ w ∈ wsJ310, w ∈ lw_all := lw_in wsJ310 [2523, 2524, 2525, 2526, 2527, 2532] (by decide +kernel) (by decide +kernel)
/-! java/lang/Object -/
set_option maxRecDepth 100000
def RJ37 : String := "java/lang/Object"
abbrev cJ37_init : ByteArray := object_method_1_code
def yJ37_init : MethodName := ⟨RJ37, "<init>", "()V"⟩
theorem dJ37_init_0 : decode cJ37_init 0 = .ok (.return_, 1) := by decide +kernel
abbrev cJ37_equals : ByteArray := object_method_4_code
def yJ37_equals : MethodName := ⟨RJ37, "equals", "(Ljava/lang/Object;)Z"⟩
def dkwJ37_equals_0 : List UInt8 := [42, 43, 166, 0, 7, 4, 167, 0, 4, 3, 172]
abbrev dktJ37_equals_0 : List UInt8 := dkwJ37_equals_0 ++ []
theorem dksJ37_equals_0 : cJ37_equals.data.toList.drop 0 = dktJ37_equals_0 := by decide +kernel
theorem dJ37_equals_0 : decode cJ37_equals 0 = .ok (.aload_n 0, 1) := dk_42 (dk_at dksJ37_equals_0 0 rfl rfl)
theorem dJ37_equals_1 : decode cJ37_equals 1 = .ok (.aload_n 1, 1) := dk_43 (dk_at dksJ37_equals_0 1 rfl rfl)
theorem dJ37_equals_2 : decode cJ37_equals 2 = .ok (.if_acmp .ne 7, 3) := dk_166 0 7 (dk_at dksJ37_equals_0 2 rfl rfl)
theorem dJ37_equals_5 : decode cJ37_equals 5 = .ok (.iconst 1, 1) := dk_4 (dk_at dksJ37_equals_0 5 rfl rfl)
theorem dJ37_equals_6 : decode cJ37_equals 6 = .ok (.goto 4, 3) := dk_167 0 4 (dk_at dksJ37_equals_0 6 rfl rfl)
theorem dJ37_equals_9 : decode cJ37_equals 9 = .ok (.iconst 0, 1) := dk_3 (dk_at dksJ37_equals_0 9 rfl rfl)
theorem dJ37_equals_10 : decode cJ37_equals 10 = .ok (.ireturn, 1) := dk_172 (dk_at dksJ37_equals_0 10 rfl rfl)
theorem q209 : (Jvm.Cond.instanceMethod ({ cls := "java/lang/Object", name := "<init>", desc := "()V" } : Jvm.MethodName)) ∈ lw_all := lw_g (lw_at lw_m1 58 rfl) rfl
theorem q210 : (Jvm.Cond.code ({ cls := "java/lang/Object", name := "<init>", desc := "()V" } : Jvm.MethodName) object_method_1_code (1 : Nat) (Option.none : Option Jvm.ClassFile.FieldType)) ∈ lw_all := lw_g (lw_at lw_m1 59 rfl) rfl
theorem q489 : (Jvm.Cond.instanceMethod ({ cls := "java/lang/Object", name := "getClass", desc := "()Ljava/lang/Class;" } : Jvm.MethodName)) ∈ lw_all := lw_g (lw_at lw_m2 98 rfl) rfl
theorem q490 : (Jvm.Cond.sameMethod "java/lang/Object" "java/lang/Object" "getClass" "()Ljava/lang/Class;") ∈ lw_all := lw_g (lw_at lw_m2 99 rfl) rfl
theorem q523 : (Jvm.Cond.native ({ cls := "java/lang/Object", name := "getClass", desc := "()Ljava/lang/Class;" } : Jvm.MethodName)) ∈ lw_all := lw_g (lw_at lw_m2 132 rfl) rfl
theorem q561 : (Jvm.Cond.declares ({ cls := "java/lang/Object", name := "hashCode", desc := "()I" } : Jvm.MethodName)) ∈ lw_tbl := lw_at lw_m2 170 rfl
theorem q563 : (Jvm.Cond.instanceMethod ({ cls := "java/lang/Object", name := "hashCode", desc := "()I" } : Jvm.MethodName)) ∈ lw_all := lw_g (lw_at lw_m2 172 rfl) rfl
theorem q564 : (Jvm.Cond.sameMethod "java/lang/Object" "java/lang/Object" "hashCode" "()I") ∈ lw_all := lw_g (lw_at lw_m2 173 rfl) rfl
theorem q772 : (Jvm.Cond.native ({ cls := "java/lang/Object", name := "clone", desc := "()Ljava/lang/Object;" } : Jvm.MethodName)) ∈ lw_all := lw_g (lw_at lw_m3 141 rfl) rfl
theorem q773 : (Jvm.Cond.instanceMethod ({ cls := "java/lang/Object", name := "clone", desc := "()Ljava/lang/Object;" } : Jvm.MethodName)) ∈ lw_all := lw_g (lw_at lw_m3 142 rfl) rfl
theorem q966 : (Jvm.Cond.native ({ cls := "java/lang/Object", name := "hashCode", desc := "()I" } : Jvm.MethodName)) ∈ lw_all := lw_g (lw_at lw_m4 95 rfl) rfl
theorem q1295 : (Jvm.Cond.declares ({ cls := "java/lang/Object", name := "equals", desc := "(Ljava/lang/Object;)Z" } : Jvm.MethodName)) ∈ lw_tbl := lw_at lw_m5 184 rfl
theorem q1297 : (Jvm.Cond.instanceMethod ({ cls := "java/lang/Object", name := "equals", desc := "(Ljava/lang/Object;)Z" } : Jvm.MethodName)) ∈ lw_all := lw_g (lw_at lw_m5 186 rfl) rfl
theorem q1298 : (Jvm.Cond.sameMethod "java/lang/Object" "java/lang/Object" "equals" "(Ljava/lang/Object;)Z") ∈ lw_all := lw_g (lw_at lw_m5 187 rfl) rfl
theorem q1338 : (Jvm.Cond.code ({ cls := "java/lang/Object", name := "equals", desc := "(Ljava/lang/Object;)Z" } : Jvm.MethodName) object_method_4_code (2 : Nat) (Option.some Jvm.ClassFile.FieldType.boolean)) ∈ lw_all := lw_g (lw_at lw_m5 227 rfl) rfl
theorem q3511 : (Jvm.Cond.initialized "java/lang/Object") ∈ lw_all := lw_g (lw_at lw_m15 0 rfl) rfl
theorem q3561 : (Jvm.Cond.declares ({ cls := "java/lang/Object", name := "getClass", desc := "()Ljava/lang/Class;" } : Jvm.MethodName)) ∈ lw_tbl := lw_at lw_m15 50 rfl
