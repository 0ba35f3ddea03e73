/-! CrossbarExchange -/
set_option maxRecDepth 100000
def RX1 : String := "CrossbarExchange"
def TX1 : u_T := fun k => match k with
  | 0 => ("CrossbarExchange", "buffer", "[B", true)
  | 1 => ("CrossbarExchange", "buffered", "I", false)
  | 2 => ("CrossbarExchange", "errorCode", "I", false)
  | 3 => ("CrossbarExchange", "errorPosition", "I", false)
  | 4 => ("CrossbarExchange", "output", "Ljava/lang/String;", false)
  | 5 => ("CrossbarExchange", "now", "LCrossbarExchange$Exchange;", false)
  | 6 => ("CrossbarExchange", "before", "[LCrossbarExchange$Exchange;", true)
  | 7 => ("CrossbarExchange", "saved", "[LCrossbarExchange$Exchange;", true)
  | _ => ("CrossbarExchange", "befores", "I", false)
def tyX1 : Nat → FieldType := fun k => match k with
  | 0 => .array .byte
  | 1 => .int
  | 2 => .int
  | 3 => .int
  | 4 => .object "java/lang/String"
  | 5 => .object "CrossbarExchange$Exchange"
  | 6 => .array (.object "CrossbarExchange$Exchange")
  | 7 => .array (.object "CrossbarExchange$Exchange")
  | _ => .int
abbrev wsX10 : List Cond := u_ws RX1 TX1 9
theorem nmX1 : ∀ a, a < 9 → ∀ b, b < 9 → a ≠ b → (TX1 a).2.1 ≠ (TX1 b).2.1 := by decide +kernel
theorem tyX1_ok : ∀ k, k < 9 → parseFieldDescriptor (TX1 k).2.2.1 = some (tyX1 k) := by decide +kernel
abbrev cX1_init : ByteArray := prog_1_method_2_code
def yX1_init : MethodName := ⟨RX1, "<init>", "()V"⟩
def dkwX1_init_4 : List UInt8 := [153, 0, 7, 4, 167, 0, 4, 3, 61, 42, 180, 0, 28, 43, 182, 0, 62, 177]
abbrev dktX1_init_4 : List UInt8 := dkwX1_init_4 ++ []
def dkwX1_init_3 : List UInt8 := [184, 0, 50, 185, 0, 56, 2, 0, 153, 0, 23, 43, 180, 0, 46, 8, 184, 0, 50, 185, 0, 56, 2, 0]
abbrev dktX1_init_3 : List UInt8 := dkwX1_init_3 ++ dktX1_init_4
def dkwX1_init_2 : List UInt8 := [5, 189, 0, 23, 181, 0, 36, 187, 0, 39, 89, 18, 41, 183, 0, 43, 76, 43, 180, 0, 46, 7]
abbrev dktX1_init_2 : List UInt8 := dkwX1_init_2 ++ dktX1_init_3
def dkwX1_init_1 : List UInt8 := [42, 187, 0, 23, 89, 6, 5, 5, 183, 0, 25, 181, 0, 28, 42, 16, 8, 189, 0, 23, 181, 0, 32, 42]
abbrev dktX1_init_1 : List UInt8 := dkwX1_init_1 ++ dktX1_init_2
def dkwX1_init_0 : List UInt8 := [42, 183, 0, 1, 42, 17, 2, 88, 188, 8, 181, 0, 9, 42, 2, 181, 0, 13, 42, 18, 17, 181, 0, 19]
abbrev dktX1_init_0 : List UInt8 := dkwX1_init_0 ++ dktX1_init_1
theorem dksX1_init_0 : cX1_init.data.toList.drop 0 = dktX1_init_0 := by decide +kernel
theorem dksX1_init_1 : cX1_init.data.toList.drop 24 = dktX1_init_1 := dk_seg dksX1_init_0 24 rfl rfl
theorem dksX1_init_2 : cX1_init.data.toList.drop 48 = dktX1_init_2 := dk_seg dksX1_init_1 24 rfl rfl
theorem dksX1_init_3 : cX1_init.data.toList.drop 70 = dktX1_init_3 := dk_seg dksX1_init_2 22 rfl rfl
theorem dksX1_init_4 : cX1_init.data.toList.drop 94 = dktX1_init_4 := dk_seg dksX1_init_3 24 rfl rfl
theorem dX1_init_0 : decode cX1_init 0 = .ok (.aload_n 0, 1) := dk_42 (dk_at dksX1_init_0 0 rfl rfl)
theorem dX1_init_1 : decode cX1_init 1 = .ok (.invokespecial 1, 3) := dk_183 0 1 (dk_at dksX1_init_0 1 rfl rfl)
theorem dX1_init_4 : decode cX1_init 4 = .ok (.aload_n 0, 1) := dk_42 (dk_at dksX1_init_0 4 rfl rfl)
theorem dX1_init_5 : decode cX1_init 5 = .ok (.sipush 600, 3) := dk_17 2 88 (dk_at dksX1_init_0 5 rfl rfl)
theorem dX1_init_8 : decode cX1_init 8 = .ok (.newarray .byte, 2) := dk_188_8 (dk_at dksX1_init_0 8 rfl rfl)
theorem dX1_init_10 : decode cX1_init 10 = .ok (.putfield 9, 3) := dk_181 0 9 (dk_at dksX1_init_0 10 rfl rfl)
theorem dX1_init_13 : decode cX1_init 13 = .ok (.aload_n 0, 1) := dk_42 (dk_at dksX1_init_0 13 rfl rfl)
theorem dX1_init_14 : decode cX1_init 14 = .ok (.iconst (-1), 1) := dk_2 (dk_at dksX1_init_0 14 rfl rfl)
theorem dX1_init_15 : decode cX1_init 15 = .ok (.putfield 13, 3) := dk_181 0 13 (dk_at dksX1_init_0 15 rfl rfl)
theorem dX1_init_18 : decode cX1_init 18 = .ok (.aload_n 0, 1) := dk_42 (dk_at dksX1_init_0 18 rfl rfl)
theorem dX1_init_19 : decode cX1_init 19 = .ok (.ldc 17, 2) := dk_18 17 (dk_at dksX1_init_0 19 rfl rfl)
theorem dX1_init_21 : decode cX1_init 21 = .ok (.putfield 19, 3) := dk_181 0 19 (dk_at dksX1_init_0 21 rfl rfl)
theorem dX1_init_24 : decode cX1_init 24 = .ok (.aload_n 0, 1) := dk_42 (dk_at dksX1_init_1 0 rfl rfl)
theorem dX1_init_25 : decode cX1_init 25 = .ok (.new 23, 3) := dk_187 0 23 (dk_at dksX1_init_1 1 rfl rfl)
theorem dX1_init_28 : decode cX1_init 28 = .ok (.dup, 1) := dk_89 (dk_at dksX1_init_1 4 rfl rfl)
theorem dX1_init_29 : decode cX1_init 29 = .ok (.iconst 3, 1) := dk_6 (dk_at dksX1_init_1 5 rfl rfl)
theorem dX1_init_30 : decode cX1_init 30 = .ok (.iconst 2, 1) := dk_5 (dk_at dksX1_init_1 6 rfl rfl)
theorem dX1_init_31 : decode cX1_init 31 = .ok (.iconst 2, 1) := dk_5 (dk_at dksX1_init_1 7 rfl rfl)
theorem dX1_init_32 : decode cX1_init 32 = .ok (.invokespecial 25, 3) := dk_183 0 25 (dk_at dksX1_init_1 8 rfl rfl)
theorem dX1_init_35 : decode cX1_init 35 = .ok (.putfield 28, 3) := dk_181 0 28 (dk_at dksX1_init_1 11 rfl rfl)
theorem dX1_init_38 : decode cX1_init 38 = .ok (.aload_n 0, 1) := dk_42 (dk_at dksX1_init_1 14 rfl rfl)
theorem dX1_init_39 : decode cX1_init 39 = .ok (.bipush 8, 2) := dk_16 8 (dk_at dksX1_init_1 15 rfl rfl)
theorem dX1_init_41 : decode cX1_init 41 = .ok (.anewarray 23, 3) := dk_189 0 23 (dk_at dksX1_init_1 17 rfl rfl)
theorem dX1_init_44 : decode cX1_init 44 = .ok (.putfield 32, 3) := dk_181 0 32 (dk_at dksX1_init_1 20 rfl rfl)
theorem dX1_init_47 : decode cX1_init 47 = .ok (.aload_n 0, 1) := dk_42 (dk_at dksX1_init_1 23 rfl rfl)
theorem dX1_init_48 : decode cX1_init 48 = .ok (.iconst 2, 1) := dk_5 (dk_at dksX1_init_2 0 rfl rfl)
theorem dX1_init_49 : decode cX1_init 49 = .ok (.anewarray 23, 3) := dk_189 0 23 (dk_at dksX1_init_2 1 rfl rfl)
theorem dX1_init_52 : decode cX1_init 52 = .ok (.putfield 36, 3) := dk_181 0 36 (dk_at dksX1_init_2 4 rfl rfl)
theorem dX1_init_55 : decode cX1_init 55 = .ok (.new 39, 3) := dk_187 0 39 (dk_at dksX1_init_2 7 rfl rfl)
theorem dX1_init_58 : decode cX1_init 58 = .ok (.dup, 1) := dk_89 (dk_at dksX1_init_2 10 rfl rfl)
theorem dX1_init_59 : decode cX1_init 59 = .ok (.ldc 41, 2) := dk_18 41 (dk_at dksX1_init_2 11 rfl rfl)
theorem dX1_init_61 : decode cX1_init 61 = .ok (.invokespecial 43, 3) := dk_183 0 43 (dk_at dksX1_init_2 13 rfl rfl)
theorem dX1_init_64 : decode cX1_init 64 = .ok (.astore_n 1, 1) := dk_76 (dk_at dksX1_init_2 16 rfl rfl)
theorem dX1_init_65 : decode cX1_init 65 = .ok (.aload_n 1, 1) := dk_43 (dk_at dksX1_init_2 17 rfl rfl)
theorem dX1_init_66 : decode cX1_init 66 = .ok (.getfield 46, 3) := dk_180 0 46 (dk_at dksX1_init_2 18 rfl rfl)
theorem dX1_init_69 : decode cX1_init 69 = .ok (.iconst 4, 1) := dk_7 (dk_at dksX1_init_2 21 rfl rfl)
theorem dX1_init_70 : decode cX1_init 70 = .ok (.invokestatic 50, 3) := dk_184 0 50 (dk_at dksX1_init_3 0 rfl rfl)
theorem dX1_init_73 : decode cX1_init 73 = .ok (.invokeinterface 56 2, 5) := by decide +kernel
theorem dX1_init_78 : decode cX1_init 78 = .ok (.ifCond .eq 23, 3) := dk_153 0 23 (dk_at dksX1_init_3 8 rfl rfl)
theorem dX1_init_81 : decode cX1_init 81 = .ok (.aload_n 1, 1) := dk_43 (dk_at dksX1_init_3 11 rfl rfl)
theorem dX1_init_82 : decode cX1_init 82 = .ok (.getfield 46, 3) := dk_180 0 46 (dk_at dksX1_init_3 12 rfl rfl)
theorem dX1_init_85 : decode cX1_init 85 = .ok (.iconst 5, 1) := dk_8 (dk_at dksX1_init_3 15 rfl rfl)
theorem dX1_init_86 : decode cX1_init 86 = .ok (.invokestatic 50, 3) := dk_184 0 50 (dk_at dksX1_init_3 16 rfl rfl)
theorem dX1_init_89 : decode cX1_init 89 = .ok (.invokeinterface 56 2, 5) := by decide +kernel
theorem dX1_init_94 : decode cX1_init 94 = .ok (.ifCond .eq 7, 3) := dk_153 0 7 (dk_at dksX1_init_4 0 rfl rfl)
theorem dX1_init_97 : decode cX1_init 97 = .ok (.iconst 1, 1) := dk_4 (dk_at dksX1_init_4 3 rfl rfl)
theorem dX1_init_98 : decode cX1_init 98 = .ok (.goto 4, 3) := dk_167 0 4 (dk_at dksX1_init_4 4 rfl rfl)
theorem dX1_init_101 : decode cX1_init 101 = .ok (.iconst 0, 1) := dk_3 (dk_at dksX1_init_4 7 rfl rfl)
theorem dX1_init_102 : decode cX1_init 102 = .ok (.istore_n 2, 1) := dk_61 (dk_at dksX1_init_4 8 rfl rfl)
theorem dX1_init_103 : decode cX1_init 103 = .ok (.aload_n 0, 1) := dk_42 (dk_at dksX1_init_4 9 rfl rfl)
theorem dX1_init_104 : decode cX1_init 104 = .ok (.getfield 28, 3) := dk_180 0 28 (dk_at dksX1_init_4 10 rfl rfl)
theorem dX1_init_107 : decode cX1_init 107 = .ok (.aload_n 1, 1) := dk_43 (dk_at dksX1_init_4 13 rfl rfl)
theorem dX1_init_108 : decode cX1_init 108 = .ok (.invokevirtual 62, 3) := dk_182 0 62 (dk_at dksX1_init_4 14 rfl rfl)
theorem dX1_init_111 : decode cX1_init 111 = .ok (.return_, 1) := dk_177 (dk_at dksX1_init_4 17 rfl rfl)
abbrev cX1_append : ByteArray := prog_1_method_3_code
def yX1_append : MethodName := ⟨RX1, "append", "(IIIII)I"⟩
def dkwX1_append_2 : List UInt8 := [172]
abbrev dktX1_append_2 : List UInt8 := dkwX1_append_2 ++ []
def dkwX1_append_1 : List UInt8 := [182, 0, 69, 42, 29, 182, 0, 69, 42, 21, 4, 182, 0, 69, 42, 21, 5, 182, 0, 69, 42, 180, 0, 66]
abbrev dktX1_append_1 : List UInt8 := dkwX1_append_1 ++ dktX1_append_2
def dkwX1_append_0 : List UInt8 := [42, 180, 0, 66, 16, 20, 96, 17, 2, 88, 164, 0, 5, 2, 172, 42, 27, 182, 0, 69, 42, 28]
abbrev dktX1_append_0 : List UInt8 := dkwX1_append_0 ++ dktX1_append_1
theorem dksX1_append_0 : cX1_append.data.toList.drop 0 = dktX1_append_0 := by decide +kernel
theorem dksX1_append_1 : cX1_append.data.toList.drop 22 = dktX1_append_1 := dk_seg dksX1_append_0 22 rfl rfl
theorem dksX1_append_2 : cX1_append.data.toList.drop 46 = dktX1_append_2 := dk_seg dksX1_append_1 24 rfl rfl
theorem dX1_append_0 : decode cX1_append 0 = .ok (.aload_n 0, 1) := dk_42 (dk_at dksX1_append_0 0 rfl rfl)
theorem dX1_append_1 : decode cX1_append 1 = .ok (.getfield 66, 3) := dk_180 0 66 (dk_at dksX1_append_0 1 rfl rfl)
theorem dX1_append_4 : decode cX1_append 4 = .ok (.bipush 20, 2) := dk_16 20 (dk_at dksX1_append_0 4 rfl rfl)
theorem dX1_append_6 : decode cX1_append 6 = .ok (.iadd, 1) := dk_96 (dk_at dksX1_append_0 6 rfl rfl)
theorem dX1_append_7 : decode cX1_append 7 = .ok (.sipush 600, 3) := dk_17 2 88 (dk_at dksX1_append_0 7 rfl rfl)
theorem dX1_append_10 : decode cX1_append 10 = .ok (.if_icmp .le 5, 3) := dk_164 0 5 (dk_at dksX1_append_0 10 rfl rfl)
theorem dX1_append_13 : decode cX1_append 13 = .ok (.iconst (-1), 1) := dk_2 (dk_at dksX1_append_0 13 rfl rfl)
theorem dX1_append_14 : decode cX1_append 14 = .ok (.ireturn, 1) := dk_172 (dk_at dksX1_append_0 14 rfl rfl)
theorem dX1_append_15 : decode cX1_append 15 = .ok (.aload_n 0, 1) := dk_42 (dk_at dksX1_append_0 15 rfl rfl)
theorem dX1_append_16 : decode cX1_append 16 = .ok (.iload_n 1, 1) := dk_27 (dk_at dksX1_append_0 16 rfl rfl)
theorem dX1_append_17 : decode cX1_append 17 = .ok (.invokevirtual 69, 3) := dk_182 0 69 (dk_at dksX1_append_0 17 rfl rfl)
theorem dX1_append_20 : decode cX1_append 20 = .ok (.aload_n 0, 1) := dk_42 (dk_at dksX1_append_0 20 rfl rfl)
theorem dX1_append_21 : decode cX1_append 21 = .ok (.iload_n 2, 1) := dk_28 (dk_at dksX1_append_0 21 rfl rfl)
theorem dX1_append_22 : decode cX1_append 22 = .ok (.invokevirtual 69, 3) := dk_182 0 69 (dk_at dksX1_append_1 0 rfl rfl)
theorem dX1_append_25 : decode cX1_append 25 = .ok (.aload_n 0, 1) := dk_42 (dk_at dksX1_append_1 3 rfl rfl)
theorem dX1_append_26 : decode cX1_append 26 = .ok (.iload_n 3, 1) := dk_29 (dk_at dksX1_append_1 4 rfl rfl)
theorem dX1_append_27 : decode cX1_append 27 = .ok (.invokevirtual 69, 3) := dk_182 0 69 (dk_at dksX1_append_1 5 rfl rfl)
theorem dX1_append_30 : decode cX1_append 30 = .ok (.aload_n 0, 1) := dk_42 (dk_at dksX1_append_1 8 rfl rfl)
theorem dX1_append_31 : decode cX1_append 31 = .ok (.iload 4, 2) := dk_21 4 (dk_at dksX1_append_1 9 rfl rfl)
theorem dX1_append_33 : decode cX1_append 33 = .ok (.invokevirtual 69, 3) := dk_182 0 69 (dk_at dksX1_append_1 11 rfl rfl)
theorem dX1_append_36 : decode cX1_append 36 = .ok (.aload_n 0, 1) := dk_42 (dk_at dksX1_append_1 14 rfl rfl)
theorem dX1_append_37 : decode cX1_append 37 = .ok (.iload 5, 2) := dk_21 5 (dk_at dksX1_append_1 15 rfl rfl)
theorem dX1_append_39 : decode cX1_append 39 = .ok (.invokevirtual 69, 3) := dk_182 0 69 (dk_at dksX1_append_1 17 rfl rfl)
theorem dX1_append_42 : decode cX1_append 42 = .ok (.aload_n 0, 1) := dk_42 (dk_at dksX1_append_1 20 rfl rfl)
theorem dX1_append_43 : decode cX1_append 43 = .ok (.getfield 66, 3) := dk_180 0 66 (dk_at dksX1_append_1 21 rfl rfl)
theorem dX1_append_46 : decode cX1_append 46 = .ok (.ireturn, 1) := dk_172 (dk_at dksX1_append_2 0 rfl rfl)
abbrev cX1_putFour : ByteArray := prog_1_method_4_code
def yX1_putFour : MethodName := ⟨RX1, "putFour", "(I)V"⟩
def dkwX1_putFour_1 : List UInt8 := [180, 0, 66, 4, 96, 181, 0, 66, 132, 2, 248, 167, 255, 226, 177]
abbrev dktX1_putFour_1 : List UInt8 := dkwX1_putFour_1 ++ []
def dkwX1_putFour_0 : List UInt8 := [16, 24, 61, 28, 155, 0, 32, 42, 180, 0, 9, 42, 180, 0, 66, 27, 28, 122, 145, 84, 42, 89]
abbrev dktX1_putFour_0 : List UInt8 := dkwX1_putFour_0 ++ dktX1_putFour_1
theorem dksX1_putFour_0 : cX1_putFour.data.toList.drop 0 = dktX1_putFour_0 := by decide +kernel
theorem dksX1_putFour_1 : cX1_putFour.data.toList.drop 22 = dktX1_putFour_1 := dk_seg dksX1_putFour_0 22 rfl rfl
theorem dX1_putFour_0 : decode cX1_putFour 0 = .ok (.bipush 24, 2) := dk_16 24 (dk_at dksX1_putFour_0 0 rfl rfl)
theorem dX1_putFour_2 : decode cX1_putFour 2 = .ok (.istore_n 2, 1) := dk_61 (dk_at dksX1_putFour_0 2 rfl rfl)
theorem dX1_putFour_3 : decode cX1_putFour 3 = .ok (.iload_n 2, 1) := dk_28 (dk_at dksX1_putFour_0 3 rfl rfl)
theorem dX1_putFour_4 : decode cX1_putFour 4 = .ok (.ifCond .lt 32, 3) := dk_155 0 32 (dk_at dksX1_putFour_0 4 rfl rfl)
theorem dX1_putFour_7 : decode cX1_putFour 7 = .ok (.aload_n 0, 1) := dk_42 (dk_at dksX1_putFour_0 7 rfl rfl)
theorem dX1_putFour_8 : decode cX1_putFour 8 = .ok (.getfield 9, 3) := dk_180 0 9 (dk_at dksX1_putFour_0 8 rfl rfl)
theorem dX1_putFour_11 : decode cX1_putFour 11 = .ok (.aload_n 0, 1) := dk_42 (dk_at dksX1_putFour_0 11 rfl rfl)
theorem dX1_putFour_12 : decode cX1_putFour 12 = .ok (.getfield 66, 3) := dk_180 0 66 (dk_at dksX1_putFour_0 12 rfl rfl)
theorem dX1_putFour_15 : decode cX1_putFour 15 = .ok (.iload_n 1, 1) := dk_27 (dk_at dksX1_putFour_0 15 rfl rfl)
theorem dX1_putFour_16 : decode cX1_putFour 16 = .ok (.iload_n 2, 1) := dk_28 (dk_at dksX1_putFour_0 16 rfl rfl)
theorem dX1_putFour_17 : decode cX1_putFour 17 = .ok (.ishr, 1) := dk_122 (dk_at dksX1_putFour_0 17 rfl rfl)
theorem dX1_putFour_18 : decode cX1_putFour 18 = .ok (.i2b, 1) := dk_145 (dk_at dksX1_putFour_0 18 rfl rfl)
theorem dX1_putFour_19 : decode cX1_putFour 19 = .ok (.bastore, 1) := dk_84 (dk_at dksX1_putFour_0 19 rfl rfl)
theorem dX1_putFour_20 : decode cX1_putFour 20 = .ok (.aload_n 0, 1) := dk_42 (dk_at dksX1_putFour_0 20 rfl rfl)
theorem dX1_putFour_21 : decode cX1_putFour 21 = .ok (.dup, 1) := dk_89 (dk_at dksX1_putFour_0 21 rfl rfl)
theorem dX1_putFour_22 : decode cX1_putFour 22 = .ok (.getfield 66, 3) := dk_180 0 66 (dk_at dksX1_putFour_1 0 rfl rfl)
theorem dX1_putFour_25 : decode cX1_putFour 25 = .ok (.iconst 1, 1) := dk_4 (dk_at dksX1_putFour_1 3 rfl rfl)
theorem dX1_putFour_26 : decode cX1_putFour 26 = .ok (.iadd, 1) := dk_96 (dk_at dksX1_putFour_1 4 rfl rfl)
theorem dX1_putFour_27 : decode cX1_putFour 27 = .ok (.putfield 66, 3) := dk_181 0 66 (dk_at dksX1_putFour_1 5 rfl rfl)
theorem dX1_putFour_30 : decode cX1_putFour 30 = .ok (.iinc 2 (-8), 3) := dk_132 2 248 (dk_at dksX1_putFour_1 8 rfl rfl)
theorem dX1_putFour_33 : decode cX1_putFour 33 = .ok (.goto (-30), 3) := dk_167 255 226 (dk_at dksX1_putFour_1 11 rfl rfl)
theorem dX1_putFour_36 : decode cX1_putFour 36 = .ok (.return_, 1) := dk_177 (dk_at dksX1_putFour_1 14 rfl rfl)
abbrev cX1_load : ByteArray := prog_1_method_8_code
def yX1_load : MethodName := ⟨RX1, "load", "()I"⟩
def dkwX1_load_1 : List UInt8 := [172, 42, 3, 181, 0, 109, 42, 180, 0, 28, 182, 0, 112, 172]
abbrev dktX1_load_1 : List UInt8 := dkwX1_load_1 ++ []
def dkwX1_load_0 : List UInt8 := [42, 42, 42, 180, 0, 28, 182, 0, 97, 182, 0, 101, 181, 0, 28, 167, 0, 10, 76, 42, 43, 182, 0, 105]
abbrev dktX1_load_0 : List UInt8 := dkwX1_load_0 ++ dktX1_load_1
theorem dksX1_load_0 : cX1_load.data.toList.drop 0 = dktX1_load_0 := by decide +kernel
theorem dksX1_load_1 : cX1_load.data.toList.drop 24 = dktX1_load_1 := dk_seg dksX1_load_0 24 rfl rfl
theorem dX1_load_0 : decode cX1_load 0 = .ok (.aload_n 0, 1) := dk_42 (dk_at dksX1_load_0 0 rfl rfl)
theorem dX1_load_1 : decode cX1_load 1 = .ok (.aload_n 0, 1) := dk_42 (dk_at dksX1_load_0 1 rfl rfl)
theorem dX1_load_2 : decode cX1_load 2 = .ok (.aload_n 0, 1) := dk_42 (dk_at dksX1_load_0 2 rfl rfl)
theorem dX1_load_3 : decode cX1_load 3 = .ok (.getfield 28, 3) := dk_180 0 28 (dk_at dksX1_load_0 3 rfl rfl)
theorem dX1_load_6 : decode cX1_load 6 = .ok (.invokevirtual 97, 3) := dk_182 0 97 (dk_at dksX1_load_0 6 rfl rfl)
theorem dX1_load_9 : decode cX1_load 9 = .ok (.invokevirtual 101, 3) := dk_182 0 101 (dk_at dksX1_load_0 9 rfl rfl)
theorem dX1_load_12 : decode cX1_load 12 = .ok (.putfield 28, 3) := dk_181 0 28 (dk_at dksX1_load_0 12 rfl rfl)
theorem dX1_load_15 : decode cX1_load 15 = .ok (.goto 10, 3) := dk_167 0 10 (dk_at dksX1_load_0 15 rfl rfl)
theorem dX1_load_18 : decode cX1_load 18 = .ok (.astore_n 1, 1) := dk_76 (dk_at dksX1_load_0 18 rfl rfl)
theorem dX1_load_19 : decode cX1_load 19 = .ok (.aload_n 0, 1) := dk_42 (dk_at dksX1_load_0 19 rfl rfl)
theorem dX1_load_20 : decode cX1_load 20 = .ok (.aload_n 1, 1) := dk_43 (dk_at dksX1_load_0 20 rfl rfl)
theorem dX1_load_21 : decode cX1_load 21 = .ok (.invokevirtual 105, 3) := dk_182 0 105 (dk_at dksX1_load_0 21 rfl rfl)
theorem dX1_load_24 : decode cX1_load 24 = .ok (.ireturn, 1) := dk_172 (dk_at dksX1_load_1 0 rfl rfl)
theorem dX1_load_25 : decode cX1_load 25 = .ok (.aload_n 0, 1) := dk_42 (dk_at dksX1_load_1 1 rfl rfl)
theorem dX1_load_26 : decode cX1_load 26 = .ok (.iconst 0, 1) := dk_3 (dk_at dksX1_load_1 2 rfl rfl)
theorem dX1_load_27 : decode cX1_load 27 = .ok (.putfield 109, 3) := dk_181 0 109 (dk_at dksX1_load_1 3 rfl rfl)
theorem dX1_load_30 : decode cX1_load 30 = .ok (.aload_n 0, 1) := dk_42 (dk_at dksX1_load_1 6 rfl rfl)
theorem dX1_load_31 : decode cX1_load 31 = .ok (.getfield 28, 3) := dk_180 0 28 (dk_at dksX1_load_1 7 rfl rfl)
theorem dX1_load_34 : decode cX1_load 34 = .ok (.invokevirtual 112, 3) := dk_182 0 112 (dk_at dksX1_load_1 10 rfl rfl)
theorem dX1_load_37 : decode cX1_load 37 = .ok (.ireturn, 1) := dk_172 (dk_at dksX1_load_1 13 rfl rfl)
abbrev cX1_reader : ByteArray := prog_1_method_6_code
def yX1_reader : MethodName := ⟨RX1, "reader", "(LCrossbarExchange$Exchange;)LCrossbarExchange$Reader;"⟩
def dkwX1_reader_1 : List UInt8 := [42, 180, 0, 9, 28, 43, 183, 0, 86, 176]
abbrev dktX1_reader_1 : List UInt8 := dkwX1_reader_1 ++ []
def dkwX1_reader_0 : List UInt8 := [42, 180, 0, 66, 61, 42, 3, 181, 0, 66, 42, 3, 181, 0, 81, 42, 2, 181, 0, 13, 187, 0, 84, 89]
abbrev dktX1_reader_0 : List UInt8 := dkwX1_reader_0 ++ dktX1_reader_1
theorem dksX1_reader_0 : cX1_reader.data.toList.drop 0 = dktX1_reader_0 := by decide +kernel
theorem dksX1_reader_1 : cX1_reader.data.toList.drop 24 = dktX1_reader_1 := dk_seg dksX1_reader_0 24 rfl rfl
theorem dX1_reader_0 : decode cX1_reader 0 = .ok (.aload_n 0, 1) := dk_42 (dk_at dksX1_reader_0 0 rfl rfl)
theorem dX1_reader_1 : decode cX1_reader 1 = .ok (.getfield 66, 3) := dk_180 0 66 (dk_at dksX1_reader_0 1 rfl rfl)
theorem dX1_reader_4 : decode cX1_reader 4 = .ok (.istore_n 2, 1) := dk_61 (dk_at dksX1_reader_0 4 rfl rfl)
theorem dX1_reader_5 : decode cX1_reader 5 = .ok (.aload_n 0, 1) := dk_42 (dk_at dksX1_reader_0 5 rfl rfl)
theorem dX1_reader_6 : decode cX1_reader 6 = .ok (.iconst 0, 1) := dk_3 (dk_at dksX1_reader_0 6 rfl rfl)
theorem dX1_reader_7 : decode cX1_reader 7 = .ok (.putfield 66, 3) := dk_181 0 66 (dk_at dksX1_reader_0 7 rfl rfl)
theorem dX1_reader_10 : decode cX1_reader 10 = .ok (.aload_n 0, 1) := dk_42 (dk_at dksX1_reader_0 10 rfl rfl)
theorem dX1_reader_11 : decode cX1_reader 11 = .ok (.iconst 0, 1) := dk_3 (dk_at dksX1_reader_0 11 rfl rfl)
theorem dX1_reader_12 : decode cX1_reader 12 = .ok (.putfield 81, 3) := dk_181 0 81 (dk_at dksX1_reader_0 12 rfl rfl)
theorem dX1_reader_15 : decode cX1_reader 15 = .ok (.aload_n 0, 1) := dk_42 (dk_at dksX1_reader_0 15 rfl rfl)
theorem dX1_reader_16 : decode cX1_reader 16 = .ok (.iconst (-1), 1) := dk_2 (dk_at dksX1_reader_0 16 rfl rfl)
theorem dX1_reader_17 : decode cX1_reader 17 = .ok (.putfield 13, 3) := dk_181 0 13 (dk_at dksX1_reader_0 17 rfl rfl)
theorem dX1_reader_20 : decode cX1_reader 20 = .ok (.new 84, 3) := dk_187 0 84 (dk_at dksX1_reader_0 20 rfl rfl)
theorem dX1_reader_23 : decode cX1_reader 23 = .ok (.dup, 1) := dk_89 (dk_at dksX1_reader_0 23 rfl rfl)
theorem dX1_reader_24 : decode cX1_reader 24 = .ok (.aload_n 0, 1) := dk_42 (dk_at dksX1_reader_1 0 rfl rfl)
theorem dX1_reader_25 : decode cX1_reader 25 = .ok (.getfield 9, 3) := dk_180 0 9 (dk_at dksX1_reader_1 1 rfl rfl)
theorem dX1_reader_28 : decode cX1_reader 28 = .ok (.iload_n 2, 1) := dk_28 (dk_at dksX1_reader_1 4 rfl rfl)
theorem dX1_reader_29 : decode cX1_reader 29 = .ok (.aload_n 1, 1) := dk_43 (dk_at dksX1_reader_1 5 rfl rfl)
theorem dX1_reader_30 : decode cX1_reader 30 = .ok (.invokespecial 86, 3) := dk_183 0 86 (dk_at dksX1_reader_1 6 rfl rfl)
theorem dX1_reader_33 : decode cX1_reader 33 = .ok (.areturn, 1) := dk_176 (dk_at dksX1_reader_1 9 rfl rfl)
abbrev cX1_isIn : ByteArray := prog_1_method_1_code
def yX1_isIn : MethodName := ⟨RX1, "isIn", "(III)Z"⟩
def dkwX1_isIn_0 : List UInt8 := [26, 27, 161, 0, 12, 26, 28, 163, 0, 7, 4, 167, 0, 4, 3, 172]
abbrev dktX1_isIn_0 : List UInt8 := dkwX1_isIn_0 ++ []
theorem dksX1_isIn_0 : cX1_isIn.data.toList.drop 0 = dktX1_isIn_0 := by decide +kernel
theorem dX1_isIn_0 : decode cX1_isIn 0 = .ok (.iload_n 0, 1) := dk_26 (dk_at dksX1_isIn_0 0 rfl rfl)
theorem dX1_isIn_1 : decode cX1_isIn 1 = .ok (.iload_n 1, 1) := dk_27 (dk_at dksX1_isIn_0 1 rfl rfl)
theorem dX1_isIn_2 : decode cX1_isIn 2 = .ok (.if_icmp .lt 12, 3) := dk_161 0 12 (dk_at dksX1_isIn_0 2 rfl rfl)
theorem dX1_isIn_5 : decode cX1_isIn 5 = .ok (.iload_n 0, 1) := dk_26 (dk_at dksX1_isIn_0 5 rfl rfl)
theorem dX1_isIn_6 : decode cX1_isIn 6 = .ok (.iload_n 2, 1) := dk_28 (dk_at dksX1_isIn_0 6 rfl rfl)
theorem dX1_isIn_7 : decode cX1_isIn 7 = .ok (.if_icmp .gt 7, 3) := dk_163 0 7 (dk_at dksX1_isIn_0 7 rfl rfl)
theorem dX1_isIn_10 : decode cX1_isIn 10 = .ok (.iconst 1, 1) := dk_4 (dk_at dksX1_isIn_0 10 rfl rfl)
theorem dX1_isIn_11 : decode cX1_isIn 11 = .ok (.goto 4, 3) := dk_167 0 4 (dk_at dksX1_isIn_0 11 rfl rfl)
theorem dX1_isIn_14 : decode cX1_isIn 14 = .ok (.iconst 0, 1) := dk_3 (dk_at dksX1_isIn_0 14 rfl rfl)
theorem dX1_isIn_15 : decode cX1_isIn 15 = .ok (.ireturn, 1) := dk_172 (dk_at dksX1_isIn_0 15 rfl rfl)
abbrev cX1_failed : ByteArray := prog_1_method_7_code
def yX1_failed : MethodName := ⟨RX1, "failed", "(LCrossbarExchange$Fault;)I"⟩
def dkwX1_failed_0 : List UInt8 := [42, 43, 180, 0, 89, 181, 0, 81, 42, 43, 180, 0, 94, 181, 0, 13, 2, 172]
abbrev dktX1_failed_0 : List UInt8 := dkwX1_failed_0 ++ []
theorem dksX1_failed_0 : cX1_failed.data.toList.drop 0 = dktX1_failed_0 := by decide +kernel
theorem dX1_failed_0 : decode cX1_failed 0 = .ok (.aload_n 0, 1) := dk_42 (dk_at dksX1_failed_0 0 rfl rfl)
theorem dX1_failed_1 : decode cX1_failed 1 = .ok (.aload_n 1, 1) := dk_43 (dk_at dksX1_failed_0 1 rfl rfl)
theorem dX1_failed_2 : decode cX1_failed 2 = .ok (.getfield 89, 3) := dk_180 0 89 (dk_at dksX1_failed_0 2 rfl rfl)
theorem dX1_failed_5 : decode cX1_failed 5 = .ok (.putfield 81, 3) := dk_181 0 81 (dk_at dksX1_failed_0 5 rfl rfl)
theorem dX1_failed_8 : decode cX1_failed 8 = .ok (.aload_n 0, 1) := dk_42 (dk_at dksX1_failed_0 8 rfl rfl)
theorem dX1_failed_9 : decode cX1_failed 9 = .ok (.aload_n 1, 1) := dk_43 (dk_at dksX1_failed_0 9 rfl rfl)
theorem dX1_failed_10 : decode cX1_failed 10 = .ok (.getfield 94, 3) := dk_180 0 94 (dk_at dksX1_failed_0 10 rfl rfl)
theorem dX1_failed_13 : decode cX1_failed 13 = .ok (.putfield 13, 3) := dk_181 0 13 (dk_at dksX1_failed_0 13 rfl rfl)
theorem dX1_failed_16 : decode cX1_failed 16 = .ok (.iconst (-1), 1) := dk_2 (dk_at dksX1_failed_0 16 rfl rfl)
theorem dX1_failed_17 : decode cX1_failed 17 = .ok (.ireturn, 1) := dk_172 (dk_at dksX1_failed_0 17 rfl rfl)
abbrev cX1_run : ByteArray := prog_1_method_9_code
def yX1_run : MethodName := ⟨RX1, "run", "()I"⟩
def dkwX1_run_1 : List UInt8 := [182, 0, 105, 172, 42, 43, 182, 0, 122, 28, 172]
abbrev dktX1_run_1 : List UInt8 := dkwX1_run_1 ++ []
def dkwX1_run_0 : List UInt8 := [42, 180, 0, 28, 182, 0, 116, 76, 42, 43, 182, 0, 97, 182, 0, 119, 61, 167, 0, 10, 78, 42, 45]
abbrev dktX1_run_0 : List UInt8 := dkwX1_run_0 ++ dktX1_run_1
theorem dksX1_run_0 : cX1_run.data.toList.drop 0 = dktX1_run_0 := by decide +kernel
theorem dksX1_run_1 : cX1_run.data.toList.drop 23 = dktX1_run_1 := dk_seg dksX1_run_0 23 rfl rfl
theorem dX1_run_0 : decode cX1_run 0 = .ok (.aload_n 0, 1) := dk_42 (dk_at dksX1_run_0 0 rfl rfl)
theorem dX1_run_1 : decode cX1_run 1 = .ok (.getfield 28, 3) := dk_180 0 28 (dk_at dksX1_run_0 1 rfl rfl)
theorem dX1_run_4 : decode cX1_run 4 = .ok (.invokevirtual 116, 3) := dk_182 0 116 (dk_at dksX1_run_0 4 rfl rfl)
theorem dX1_run_7 : decode cX1_run 7 = .ok (.astore_n 1, 1) := dk_76 (dk_at dksX1_run_0 7 rfl rfl)
theorem dX1_run_8 : decode cX1_run 8 = .ok (.aload_n 0, 1) := dk_42 (dk_at dksX1_run_0 8 rfl rfl)
theorem dX1_run_9 : decode cX1_run 9 = .ok (.aload_n 1, 1) := dk_43 (dk_at dksX1_run_0 9 rfl rfl)
theorem dX1_run_10 : decode cX1_run 10 = .ok (.invokevirtual 97, 3) := dk_182 0 97 (dk_at dksX1_run_0 10 rfl rfl)
theorem dX1_run_13 : decode cX1_run 13 = .ok (.invokevirtual 119, 3) := dk_182 0 119 (dk_at dksX1_run_0 13 rfl rfl)
theorem dX1_run_16 : decode cX1_run 16 = .ok (.istore_n 2, 1) := dk_61 (dk_at dksX1_run_0 16 rfl rfl)
theorem dX1_run_17 : decode cX1_run 17 = .ok (.goto 10, 3) := dk_167 0 10 (dk_at dksX1_run_0 17 rfl rfl)
theorem dX1_run_20 : decode cX1_run 20 = .ok (.astore_n 3, 1) := dk_78 (dk_at dksX1_run_0 20 rfl rfl)
theorem dX1_run_21 : decode cX1_run 21 = .ok (.aload_n 0, 1) := dk_42 (dk_at dksX1_run_0 21 rfl rfl)
theorem dX1_run_22 : decode cX1_run 22 = .ok (.aload_n 3, 1) := dk_45 (dk_at dksX1_run_0 22 rfl rfl)
theorem dX1_run_23 : decode cX1_run 23 = .ok (.invokevirtual 105, 3) := dk_182 0 105 (dk_at dksX1_run_1 0 rfl rfl)
theorem dX1_run_26 : decode cX1_run 26 = .ok (.ireturn, 1) := dk_172 (dk_at dksX1_run_1 3 rfl rfl)
theorem dX1_run_27 : decode cX1_run 27 = .ok (.aload_n 0, 1) := dk_42 (dk_at dksX1_run_1 4 rfl rfl)
theorem dX1_run_28 : decode cX1_run 28 = .ok (.aload_n 1, 1) := dk_43 (dk_at dksX1_run_1 5 rfl rfl)
theorem dX1_run_29 : decode cX1_run 29 = .ok (.invokevirtual 122, 3) := dk_182 0 122 (dk_at dksX1_run_1 6 rfl rfl)
theorem dX1_run_32 : decode cX1_run 32 = .ok (.iload_n 2, 1) := dk_28 (dk_at dksX1_run_1 9 rfl rfl)
theorem dX1_run_33 : decode cX1_run 33 = .ok (.ireturn, 1) := dk_172 (dk_at dksX1_run_1 10 rfl rfl)
abbrev cX1_become : ByteArray := prog_1_method_22_code
def yX1_become : MethodName := ⟨RX1, "become", "(LCrossbarExchange$Exchange;)V"⟩
def dkwX1_become_2 : List UInt8 := [89, 180, 0, 109, 4, 96, 181, 0, 109, 42, 43, 181, 0, 28, 177]
abbrev dktX1_become_2 : List UInt8 := dkwX1_become_2 ++ []
def dkwX1_become_1 : List UInt8 := [42, 89, 180, 0, 109, 4, 100, 181, 0, 109, 42, 180, 0, 32, 42, 180, 0, 109, 42, 180, 0, 28, 83, 42]
abbrev dktX1_become_1 : List UInt8 := dkwX1_become_1 ++ dktX1_become_2
def dkwX1_become_0 : List UInt8 := [42, 180, 0, 109, 16, 8, 160, 0, 28, 42, 180, 0, 32, 4, 42, 180, 0, 32, 3, 16, 7, 184, 0, 156]
abbrev dktX1_become_0 : List UInt8 := dkwX1_become_0 ++ dktX1_become_1
theorem dksX1_become_0 : cX1_become.data.toList.drop 0 = dktX1_become_0 := by decide +kernel
theorem dksX1_become_1 : cX1_become.data.toList.drop 24 = dktX1_become_1 := dk_seg dksX1_become_0 24 rfl rfl
theorem dksX1_become_2 : cX1_become.data.toList.drop 48 = dktX1_become_2 := dk_seg dksX1_become_1 24 rfl rfl
theorem dX1_become_0 : decode cX1_become 0 = .ok (.aload_n 0, 1) := dk_42 (dk_at dksX1_become_0 0 rfl rfl)
theorem dX1_become_1 : decode cX1_become 1 = .ok (.getfield 109, 3) := dk_180 0 109 (dk_at dksX1_become_0 1 rfl rfl)
theorem dX1_become_4 : decode cX1_become 4 = .ok (.bipush 8, 2) := dk_16 8 (dk_at dksX1_become_0 4 rfl rfl)
theorem dX1_become_6 : decode cX1_become 6 = .ok (.if_icmp .ne 28, 3) := dk_160 0 28 (dk_at dksX1_become_0 6 rfl rfl)
theorem dX1_become_9 : decode cX1_become 9 = .ok (.aload_n 0, 1) := dk_42 (dk_at dksX1_become_0 9 rfl rfl)
theorem dX1_become_10 : decode cX1_become 10 = .ok (.getfield 32, 3) := dk_180 0 32 (dk_at dksX1_become_0 10 rfl rfl)
theorem dX1_become_13 : decode cX1_become 13 = .ok (.iconst 1, 1) := dk_4 (dk_at dksX1_become_0 13 rfl rfl)
theorem dX1_become_14 : decode cX1_become 14 = .ok (.aload_n 0, 1) := dk_42 (dk_at dksX1_become_0 14 rfl rfl)
theorem dX1_become_15 : decode cX1_become 15 = .ok (.getfield 32, 3) := dk_180 0 32 (dk_at dksX1_become_0 15 rfl rfl)
theorem dX1_become_18 : decode cX1_become 18 = .ok (.iconst 0, 1) := dk_3 (dk_at dksX1_become_0 18 rfl rfl)
theorem dX1_become_19 : decode cX1_become 19 = .ok (.bipush 7, 2) := dk_16 7 (dk_at dksX1_become_0 19 rfl rfl)
theorem dX1_become_21 : decode cX1_become 21 = .ok (.invokestatic 156, 3) := dk_184 0 156 (dk_at dksX1_become_0 21 rfl rfl)
theorem dX1_become_24 : decode cX1_become 24 = .ok (.aload_n 0, 1) := dk_42 (dk_at dksX1_become_1 0 rfl rfl)
theorem dX1_become_25 : decode cX1_become 25 = .ok (.dup, 1) := dk_89 (dk_at dksX1_become_1 1 rfl rfl)
theorem dX1_become_26 : decode cX1_become 26 = .ok (.getfield 109, 3) := dk_180 0 109 (dk_at dksX1_become_1 2 rfl rfl)
theorem dX1_become_29 : decode cX1_become 29 = .ok (.iconst 1, 1) := dk_4 (dk_at dksX1_become_1 5 rfl rfl)
theorem dX1_become_30 : decode cX1_become 30 = .ok (.isub, 1) := dk_100 (dk_at dksX1_become_1 6 rfl rfl)
theorem dX1_become_31 : decode cX1_become 31 = .ok (.putfield 109, 3) := dk_181 0 109 (dk_at dksX1_become_1 7 rfl rfl)
theorem dX1_become_34 : decode cX1_become 34 = .ok (.aload_n 0, 1) := dk_42 (dk_at dksX1_become_1 10 rfl rfl)
theorem dX1_become_35 : decode cX1_become 35 = .ok (.getfield 32, 3) := dk_180 0 32 (dk_at dksX1_become_1 11 rfl rfl)
theorem dX1_become_38 : decode cX1_become 38 = .ok (.aload_n 0, 1) := dk_42 (dk_at dksX1_become_1 14 rfl rfl)
theorem dX1_become_39 : decode cX1_become 39 = .ok (.getfield 109, 3) := dk_180 0 109 (dk_at dksX1_become_1 15 rfl rfl)
theorem dX1_become_42 : decode cX1_become 42 = .ok (.aload_n 0, 1) := dk_42 (dk_at dksX1_become_1 18 rfl rfl)
theorem dX1_become_43 : decode cX1_become 43 = .ok (.getfield 28, 3) := dk_180 0 28 (dk_at dksX1_become_1 19 rfl rfl)
theorem dX1_become_46 : decode cX1_become 46 = .ok (.aastore, 1) := dk_83 (dk_at dksX1_become_1 22 rfl rfl)
theorem dX1_become_47 : decode cX1_become 47 = .ok (.aload_n 0, 1) := dk_42 (dk_at dksX1_become_1 23 rfl rfl)
theorem dX1_become_48 : decode cX1_become 48 = .ok (.dup, 1) := dk_89 (dk_at dksX1_become_2 0 rfl rfl)
theorem dX1_become_49 : decode cX1_become 49 = .ok (.getfield 109, 3) := dk_180 0 109 (dk_at dksX1_become_2 1 rfl rfl)
theorem dX1_become_52 : decode cX1_become 52 = .ok (.iconst 1, 1) := dk_4 (dk_at dksX1_become_2 4 rfl rfl)
theorem dX1_become_53 : decode cX1_become 53 = .ok (.iadd, 1) := dk_96 (dk_at dksX1_become_2 5 rfl rfl)
theorem dX1_become_54 : decode cX1_become 54 = .ok (.putfield 109, 3) := dk_181 0 109 (dk_at dksX1_become_2 6 rfl rfl)
theorem dX1_become_57 : decode cX1_become 57 = .ok (.aload_n 0, 1) := dk_42 (dk_at dksX1_become_2 9 rfl rfl)
theorem dX1_become_58 : decode cX1_become 58 = .ok (.aload_n 1, 1) := dk_43 (dk_at dksX1_become_2 10 rfl rfl)
theorem dX1_become_59 : decode cX1_become 59 = .ok (.putfield 28, 3) := dk_181 0 28 (dk_at dksX1_become_2 11 rfl rfl)
theorem dX1_become_62 : decode cX1_become 62 = .ok (.return_, 1) := dk_177 (dk_at dksX1_become_2 14 rfl rfl)
abbrev cX1_errorCode : ByteArray := prog_1_method_10_code
def yX1_errorCode : MethodName := ⟨RX1, "errorCode", "()I"⟩
theorem dX1_errorCode_0 : decode cX1_errorCode 0 = .ok (.aload_n 0, 1) := by decide +kernel
theorem dX1_errorCode_1 : decode cX1_errorCode 1 = .ok (.getfield 81, 3) := by decide +kernel
theorem dX1_errorCode_4 : decode cX1_errorCode 4 = .ok (.ireturn, 1) := by decide +kernel
abbrev cX1_errorPosition : ByteArray := prog_1_method_11_code
def yX1_errorPosition : MethodName := ⟨RX1, "errorPosition", "()I"⟩
theorem dX1_errorPosition_0 : decode cX1_errorPosition 0 = .ok (.aload_n 0, 1) := by decide +kernel
theorem dX1_errorPosition_1 : decode cX1_errorPosition 1 = .ok (.getfield 13, 3) := by decide +kernel
theorem dX1_errorPosition_4 : decode cX1_errorPosition 4 = .ok (.ireturn, 1) := by decide +kernel
abbrev cX1_pack : ByteArray := prog_1_method_32_code
def yX1_pack : MethodName := ⟨RX1, "pack", "()I"⟩
def dkwX1_pack_0 : List UInt8 := [42, 182, 0, 169, 182, 0, 220, 60, 42, 180, 0, 28, 182, 0, 214, 27, 172]
abbrev dktX1_pack_0 : List UInt8 := dkwX1_pack_0 ++ []
theorem dksX1_pack_0 : cX1_pack.data.toList.drop 0 = dktX1_pack_0 := by decide +kernel
theorem dX1_pack_0 : decode cX1_pack 0 = .ok (.aload_n 0, 1) := dk_42 (dk_at dksX1_pack_0 0 rfl rfl)
theorem dX1_pack_1 : decode cX1_pack 1 = .ok (.invokevirtual 169, 3) := dk_182 0 169 (dk_at dksX1_pack_0 1 rfl rfl)
theorem dX1_pack_4 : decode cX1_pack 4 = .ok (.invokevirtual 220, 3) := dk_182 0 220 (dk_at dksX1_pack_0 4 rfl rfl)
theorem dX1_pack_7 : decode cX1_pack 7 = .ok (.istore_n 1, 1) := dk_60 (dk_at dksX1_pack_0 7 rfl rfl)
theorem dX1_pack_8 : decode cX1_pack 8 = .ok (.aload_n 0, 1) := dk_42 (dk_at dksX1_pack_0 8 rfl rfl)
theorem dX1_pack_9 : decode cX1_pack 9 = .ok (.getfield 28, 3) := dk_180 0 28 (dk_at dksX1_pack_0 9 rfl rfl)
theorem dX1_pack_12 : decode cX1_pack 12 = .ok (.invokevirtual 214, 3) := dk_182 0 214 (dk_at dksX1_pack_0 12 rfl rfl)
theorem dX1_pack_15 : decode cX1_pack 15 = .ok (.iload_n 1, 1) := dk_27 (dk_at dksX1_pack_0 15 rfl rfl)
theorem dX1_pack_16 : decode cX1_pack 16 = .ok (.ireturn, 1) := dk_172 (dk_at dksX1_pack_0 16 rfl rfl)
abbrev cX1_change : ByteArray := prog_1_method_23_code
def yX1_change : MethodName := ⟨RX1, "change", "()LCrossbarExchange$Exchange;"⟩
def dkwX1_change_0 : List UInt8 := [42, 42, 180, 0, 28, 182, 0, 116, 182, 0, 122, 42, 180, 0, 28, 176]
abbrev dktX1_change_0 : List UInt8 := dkwX1_change_0 ++ []
theorem dksX1_change_0 : cX1_change.data.toList.drop 0 = dktX1_change_0 := by decide +kernel
theorem dX1_change_0 : decode cX1_change 0 = .ok (.aload_n 0, 1) := dk_42 (dk_at dksX1_change_0 0 rfl rfl)
theorem dX1_change_1 : decode cX1_change 1 = .ok (.aload_n 0, 1) := dk_42 (dk_at dksX1_change_0 1 rfl rfl)
theorem dX1_change_2 : decode cX1_change 2 = .ok (.getfield 28, 3) := dk_180 0 28 (dk_at dksX1_change_0 2 rfl rfl)
theorem dX1_change_5 : decode cX1_change 5 = .ok (.invokevirtual 116, 3) := dk_182 0 116 (dk_at dksX1_change_0 5 rfl rfl)
theorem dX1_change_8 : decode cX1_change 8 = .ok (.invokevirtual 122, 3) := dk_182 0 122 (dk_at dksX1_change_0 8 rfl rfl)
theorem dX1_change_11 : decode cX1_change 11 = .ok (.aload_n 0, 1) := dk_42 (dk_at dksX1_change_0 11 rfl rfl)
theorem dX1_change_12 : decode cX1_change 12 = .ok (.getfield 28, 3) := dk_180 0 28 (dk_at dksX1_change_0 12 rfl rfl)
theorem dX1_change_15 : decode cX1_change 15 = .ok (.areturn, 1) := dk_176 (dk_at dksX1_change_0 15 rfl rfl)
abbrev cX1_callAt : ByteArray := prog_1_method_48_code
def yX1_callAt : MethodName := ⟨RX1, "callAt", "(I)I"⟩
def dkwX1_callAt_1 : List UInt8 := [199, 0, 6, 167, 0, 13, 28, 27, 160, 0, 5, 29, 172, 132, 2, 1, 132, 3, 1, 167, 255, 217, 2, 172]
abbrev dktX1_callAt_1 : List UInt8 := dkwX1_callAt_1 ++ []
def dkwX1_callAt_0 : List UInt8 := [3, 61, 3, 62, 29, 42, 180, 0, 28, 180, 0, 244, 162, 0, 34, 42, 180, 0, 28, 180, 1, 35, 29, 50]
abbrev dktX1_callAt_0 : List UInt8 := dkwX1_callAt_0 ++ dktX1_callAt_1
theorem dksX1_callAt_0 : cX1_callAt.data.toList.drop 0 = dktX1_callAt_0 := by decide +kernel
theorem dksX1_callAt_1 : cX1_callAt.data.toList.drop 24 = dktX1_callAt_1 := dk_seg dksX1_callAt_0 24 rfl rfl
theorem dX1_callAt_0 : decode cX1_callAt 0 = .ok (.iconst 0, 1) := dk_3 (dk_at dksX1_callAt_0 0 rfl rfl)
theorem dX1_callAt_1 : decode cX1_callAt 1 = .ok (.istore_n 2, 1) := dk_61 (dk_at dksX1_callAt_0 1 rfl rfl)
theorem dX1_callAt_2 : decode cX1_callAt 2 = .ok (.iconst 0, 1) := dk_3 (dk_at dksX1_callAt_0 2 rfl rfl)
theorem dX1_callAt_3 : decode cX1_callAt 3 = .ok (.istore_n 3, 1) := dk_62 (dk_at dksX1_callAt_0 3 rfl rfl)
theorem dX1_callAt_4 : decode cX1_callAt 4 = .ok (.iload_n 3, 1) := dk_29 (dk_at dksX1_callAt_0 4 rfl rfl)
theorem dX1_callAt_5 : decode cX1_callAt 5 = .ok (.aload_n 0, 1) := dk_42 (dk_at dksX1_callAt_0 5 rfl rfl)
theorem dX1_callAt_6 : decode cX1_callAt 6 = .ok (.getfield 28, 3) := dk_180 0 28 (dk_at dksX1_callAt_0 6 rfl rfl)
theorem dX1_callAt_9 : decode cX1_callAt 9 = .ok (.getfield 244, 3) := dk_180 0 244 (dk_at dksX1_callAt_0 9 rfl rfl)
theorem dX1_callAt_12 : decode cX1_callAt 12 = .ok (.if_icmp .ge 34, 3) := dk_162 0 34 (dk_at dksX1_callAt_0 12 rfl rfl)
theorem dX1_callAt_15 : decode cX1_callAt 15 = .ok (.aload_n 0, 1) := dk_42 (dk_at dksX1_callAt_0 15 rfl rfl)
theorem dX1_callAt_16 : decode cX1_callAt 16 = .ok (.getfield 28, 3) := dk_180 0 28 (dk_at dksX1_callAt_0 16 rfl rfl)
theorem dX1_callAt_19 : decode cX1_callAt 19 = .ok (.getfield 291, 3) := dk_180 1 35 (dk_at dksX1_callAt_0 19 rfl rfl)
theorem dX1_callAt_22 : decode cX1_callAt 22 = .ok (.iload_n 3, 1) := dk_29 (dk_at dksX1_callAt_0 22 rfl rfl)
theorem dX1_callAt_23 : decode cX1_callAt 23 = .ok (.aaload, 1) := dk_50 (dk_at dksX1_callAt_0 23 rfl rfl)
theorem dX1_callAt_24 : decode cX1_callAt 24 = .ok (.ifnonnull 6, 3) := dk_199 0 6 (dk_at dksX1_callAt_1 0 rfl rfl)
theorem dX1_callAt_27 : decode cX1_callAt 27 = .ok (.goto 13, 3) := dk_167 0 13 (dk_at dksX1_callAt_1 3 rfl rfl)
theorem dX1_callAt_30 : decode cX1_callAt 30 = .ok (.iload_n 2, 1) := dk_28 (dk_at dksX1_callAt_1 6 rfl rfl)
theorem dX1_callAt_31 : decode cX1_callAt 31 = .ok (.iload_n 1, 1) := dk_27 (dk_at dksX1_callAt_1 7 rfl rfl)
theorem dX1_callAt_32 : decode cX1_callAt 32 = .ok (.if_icmp .ne 5, 3) := dk_160 0 5 (dk_at dksX1_callAt_1 8 rfl rfl)
theorem dX1_callAt_35 : decode cX1_callAt 35 = .ok (.iload_n 3, 1) := dk_29 (dk_at dksX1_callAt_1 11 rfl rfl)
theorem dX1_callAt_36 : decode cX1_callAt 36 = .ok (.ireturn, 1) := dk_172 (dk_at dksX1_callAt_1 12 rfl rfl)
theorem dX1_callAt_37 : decode cX1_callAt 37 = .ok (.iinc 2 1, 3) := dk_132 2 1 (dk_at dksX1_callAt_1 13 rfl rfl)
theorem dX1_callAt_40 : decode cX1_callAt 40 = .ok (.iinc 3 1, 3) := dk_132 3 1 (dk_at dksX1_callAt_1 16 rfl rfl)
theorem dX1_callAt_43 : decode cX1_callAt 43 = .ok (.goto (-39), 3) := dk_167 255 217 (dk_at dksX1_callAt_1 19 rfl rfl)
theorem dX1_callAt_46 : decode cX1_callAt 46 = .ok (.iconst (-1), 1) := dk_2 (dk_at dksX1_callAt_1 22 rfl rfl)
theorem dX1_callAt_47 : decode cX1_callAt 47 = .ok (.ireturn, 1) := dk_172 (dk_at dksX1_callAt_1 23 rfl rfl)
abbrev cX1_blocked : ByteArray := prog_1_method_59_code
def yX1_blocked : MethodName := ⟨RX1, "blocked", "()I"⟩
def dkwX1_blocked_0 : List UInt8 := [42, 180, 0, 28, 182, 1, 145, 172]
abbrev dktX1_blocked_0 : List UInt8 := dkwX1_blocked_0 ++ []
theorem dksX1_blocked_0 : cX1_blocked.data.toList.drop 0 = dktX1_blocked_0 := by decide +kernel
theorem dX1_blocked_0 : decode cX1_blocked 0 = .ok (.aload_n 0, 1) := dk_42 (dk_at dksX1_blocked_0 0 rfl rfl)
theorem dX1_blocked_1 : decode cX1_blocked 1 = .ok (.getfield 28, 3) := dk_180 0 28 (dk_at dksX1_blocked_0 1 rfl rfl)
theorem dX1_blocked_4 : decode cX1_blocked 4 = .ok (.invokevirtual 401, 3) := dk_182 1 145 (dk_at dksX1_blocked_0 4 rfl rfl)
theorem dX1_blocked_7 : decode cX1_blocked 7 = .ok (.ireturn, 1) := dk_172 (dk_at dksX1_blocked_0 7 rfl rfl)
abbrev cX1_needed : ByteArray := prog_1_method_60_code
def yX1_needed : MethodName := ⟨RX1, "needed", "()I"⟩
def dkwX1_needed_0 : List UInt8 := [42, 180, 0, 28, 182, 1, 148, 172]
abbrev dktX1_needed_0 : List UInt8 := dkwX1_needed_0 ++ []
theorem dksX1_needed_0 : cX1_needed.data.toList.drop 0 = dktX1_needed_0 := by decide +kernel
theorem dX1_needed_0 : decode cX1_needed 0 = .ok (.aload_n 0, 1) := dk_42 (dk_at dksX1_needed_0 0 rfl rfl)
theorem dX1_needed_1 : decode cX1_needed 1 = .ok (.getfield 28, 3) := dk_180 0 28 (dk_at dksX1_needed_0 1 rfl rfl)
theorem dX1_needed_4 : decode cX1_needed 4 = .ok (.invokevirtual 404, 3) := dk_182 1 148 (dk_at dksX1_needed_0 4 rfl rfl)
theorem dX1_needed_7 : decode cX1_needed 7 = .ok (.ireturn, 1) := dk_172 (dk_at dksX1_needed_0 7 rfl rfl)
abbrev cX1_isFree : ByteArray := prog_1_method_61_code
def yX1_isFree : MethodName := ⟨RX1, "isFree", "(Z)Z"⟩
def dkwX1_isFree_1 : List UInt8 := [180, 0, 28, 180, 0, 229, 104, 4, 100, 161, 0, 7, 4, 167, 0, 4, 3, 172]
abbrev dktX1_isFree_1 : List UInt8 := dkwX1_isFree_1 ++ []
def dkwX1_isFree_0 : List UInt8 := [42, 180, 0, 28, 182, 0, 232, 27, 153, 0, 13, 42, 180, 0, 28, 180, 0, 229, 167, 0, 14, 5, 42]
abbrev dktX1_isFree_0 : List UInt8 := dkwX1_isFree_0 ++ dktX1_isFree_1
theorem dksX1_isFree_0 : cX1_isFree.data.toList.drop 0 = dktX1_isFree_0 := by decide +kernel
theorem dksX1_isFree_1 : cX1_isFree.data.toList.drop 23 = dktX1_isFree_1 := dk_seg dksX1_isFree_0 23 rfl rfl
theorem dX1_isFree_0 : decode cX1_isFree 0 = .ok (.aload_n 0, 1) := dk_42 (dk_at dksX1_isFree_0 0 rfl rfl)
theorem dX1_isFree_1 : decode cX1_isFree 1 = .ok (.getfield 28, 3) := dk_180 0 28 (dk_at dksX1_isFree_0 1 rfl rfl)
theorem dX1_isFree_4 : decode cX1_isFree 4 = .ok (.invokevirtual 232, 3) := dk_182 0 232 (dk_at dksX1_isFree_0 4 rfl rfl)
theorem dX1_isFree_7 : decode cX1_isFree 7 = .ok (.iload_n 1, 1) := dk_27 (dk_at dksX1_isFree_0 7 rfl rfl)
theorem dX1_isFree_8 : decode cX1_isFree 8 = .ok (.ifCond .eq 13, 3) := dk_153 0 13 (dk_at dksX1_isFree_0 8 rfl rfl)
theorem dX1_isFree_11 : decode cX1_isFree 11 = .ok (.aload_n 0, 1) := dk_42 (dk_at dksX1_isFree_0 11 rfl rfl)
theorem dX1_isFree_12 : decode cX1_isFree 12 = .ok (.getfield 28, 3) := dk_180 0 28 (dk_at dksX1_isFree_0 12 rfl rfl)
theorem dX1_isFree_15 : decode cX1_isFree 15 = .ok (.getfield 229, 3) := dk_180 0 229 (dk_at dksX1_isFree_0 15 rfl rfl)
theorem dX1_isFree_18 : decode cX1_isFree 18 = .ok (.goto 14, 3) := dk_167 0 14 (dk_at dksX1_isFree_0 18 rfl rfl)
theorem dX1_isFree_21 : decode cX1_isFree 21 = .ok (.iconst 2, 1) := dk_5 (dk_at dksX1_isFree_0 21 rfl rfl)
theorem dX1_isFree_22 : decode cX1_isFree 22 = .ok (.aload_n 0, 1) := dk_42 (dk_at dksX1_isFree_0 22 rfl rfl)
theorem dX1_isFree_23 : decode cX1_isFree 23 = .ok (.getfield 28, 3) := dk_180 0 28 (dk_at dksX1_isFree_1 0 rfl rfl)
theorem dX1_isFree_26 : decode cX1_isFree 26 = .ok (.getfield 229, 3) := dk_180 0 229 (dk_at dksX1_isFree_1 3 rfl rfl)
theorem dX1_isFree_29 : decode cX1_isFree 29 = .ok (.imul, 1) := dk_104 (dk_at dksX1_isFree_1 6 rfl rfl)
theorem dX1_isFree_30 : decode cX1_isFree 30 = .ok (.iconst 1, 1) := dk_4 (dk_at dksX1_isFree_1 7 rfl rfl)
theorem dX1_isFree_31 : decode cX1_isFree 31 = .ok (.isub, 1) := dk_100 (dk_at dksX1_isFree_1 8 rfl rfl)
theorem dX1_isFree_32 : decode cX1_isFree 32 = .ok (.if_icmp .lt 7, 3) := dk_161 0 7 (dk_at dksX1_isFree_1 9 rfl rfl)
theorem dX1_isFree_35 : decode cX1_isFree 35 = .ok (.iconst 1, 1) := dk_4 (dk_at dksX1_isFree_1 12 rfl rfl)
theorem dX1_isFree_36 : decode cX1_isFree 36 = .ok (.goto 4, 3) := dk_167 0 4 (dk_at dksX1_isFree_1 13 rfl rfl)
theorem dX1_isFree_39 : decode cX1_isFree 39 = .ok (.iconst 0, 1) := dk_3 (dk_at dksX1_isFree_1 16 rfl rfl)
theorem dX1_isFree_40 : decode cX1_isFree 40 = .ok (.ireturn, 1) := dk_172 (dk_at dksX1_isFree_1 17 rfl rfl)
abbrev cX1_leastCut : ByteArray := prog_1_method_64_code
def yX1_leastCut : MethodName := ⟨RX1, "leastCut", "()I"⟩
def dkwX1_leastCut_2 : List UInt8 := [161, 0, 6, 167, 0, 8, 29, 60, 21, 4, 61, 132, 3, 1, 167, 255, 202, 27, 172]
abbrev dktX1_leastCut_2 : List UInt8 := dkwX1_leastCut_2 ++ []
def dkwX1_leastCut_1 : List UInt8 := [182, 0, 202, 154, 0, 6, 167, 0, 29, 42, 29, 182, 1, 165, 54, 4, 27, 2, 159, 0, 12, 21, 4, 28]
abbrev dktX1_leastCut_1 : List UInt8 := dkwX1_leastCut_1 ++ dktX1_leastCut_2
def dkwX1_leastCut_0 : List UInt8 := [2, 60, 3, 61, 3, 62, 29, 42, 180, 0, 28, 180, 0, 147, 162, 0, 49, 42, 180, 0, 28, 29]
abbrev dktX1_leastCut_0 : List UInt8 := dkwX1_leastCut_0 ++ dktX1_leastCut_1
theorem dksX1_leastCut_0 : cX1_leastCut.data.toList.drop 0 = dktX1_leastCut_0 := by decide +kernel
theorem dksX1_leastCut_1 : cX1_leastCut.data.toList.drop 22 = dktX1_leastCut_1 := dk_seg dksX1_leastCut_0 22 rfl rfl
theorem dksX1_leastCut_2 : cX1_leastCut.data.toList.drop 46 = dktX1_leastCut_2 := dk_seg dksX1_leastCut_1 24 rfl rfl
theorem dX1_leastCut_0 : decode cX1_leastCut 0 = .ok (.iconst (-1), 1) := dk_2 (dk_at dksX1_leastCut_0 0 rfl rfl)
theorem dX1_leastCut_1 : decode cX1_leastCut 1 = .ok (.istore_n 1, 1) := dk_60 (dk_at dksX1_leastCut_0 1 rfl rfl)
theorem dX1_leastCut_2 : decode cX1_leastCut 2 = .ok (.iconst 0, 1) := dk_3 (dk_at dksX1_leastCut_0 2 rfl rfl)
theorem dX1_leastCut_3 : decode cX1_leastCut 3 = .ok (.istore_n 2, 1) := dk_61 (dk_at dksX1_leastCut_0 3 rfl rfl)
theorem dX1_leastCut_4 : decode cX1_leastCut 4 = .ok (.iconst 0, 1) := dk_3 (dk_at dksX1_leastCut_0 4 rfl rfl)
theorem dX1_leastCut_5 : decode cX1_leastCut 5 = .ok (.istore_n 3, 1) := dk_62 (dk_at dksX1_leastCut_0 5 rfl rfl)
theorem dX1_leastCut_6 : decode cX1_leastCut 6 = .ok (.iload_n 3, 1) := dk_29 (dk_at dksX1_leastCut_0 6 rfl rfl)
theorem dX1_leastCut_7 : decode cX1_leastCut 7 = .ok (.aload_n 0, 1) := dk_42 (dk_at dksX1_leastCut_0 7 rfl rfl)
theorem dX1_leastCut_8 : decode cX1_leastCut 8 = .ok (.getfield 28, 3) := dk_180 0 28 (dk_at dksX1_leastCut_0 8 rfl rfl)
theorem dX1_leastCut_11 : decode cX1_leastCut 11 = .ok (.getfield 147, 3) := dk_180 0 147 (dk_at dksX1_leastCut_0 11 rfl rfl)
theorem dX1_leastCut_14 : decode cX1_leastCut 14 = .ok (.if_icmp .ge 49, 3) := dk_162 0 49 (dk_at dksX1_leastCut_0 14 rfl rfl)
theorem dX1_leastCut_17 : decode cX1_leastCut 17 = .ok (.aload_n 0, 1) := dk_42 (dk_at dksX1_leastCut_0 17 rfl rfl)
theorem dX1_leastCut_18 : decode cX1_leastCut 18 = .ok (.getfield 28, 3) := dk_180 0 28 (dk_at dksX1_leastCut_0 18 rfl rfl)
theorem dX1_leastCut_21 : decode cX1_leastCut 21 = .ok (.iload_n 3, 1) := dk_29 (dk_at dksX1_leastCut_0 21 rfl rfl)
theorem dX1_leastCut_22 : decode cX1_leastCut 22 = .ok (.invokevirtual 202, 3) := dk_182 0 202 (dk_at dksX1_leastCut_1 0 rfl rfl)
theorem dX1_leastCut_25 : decode cX1_leastCut 25 = .ok (.ifCond .ne 6, 3) := dk_154 0 6 (dk_at dksX1_leastCut_1 3 rfl rfl)
theorem dX1_leastCut_28 : decode cX1_leastCut 28 = .ok (.goto 29, 3) := dk_167 0 29 (dk_at dksX1_leastCut_1 6 rfl rfl)
theorem dX1_leastCut_31 : decode cX1_leastCut 31 = .ok (.aload_n 0, 1) := dk_42 (dk_at dksX1_leastCut_1 9 rfl rfl)
theorem dX1_leastCut_32 : decode cX1_leastCut 32 = .ok (.iload_n 3, 1) := dk_29 (dk_at dksX1_leastCut_1 10 rfl rfl)
theorem dX1_leastCut_33 : decode cX1_leastCut 33 = .ok (.invokevirtual 421, 3) := dk_182 1 165 (dk_at dksX1_leastCut_1 11 rfl rfl)
theorem dX1_leastCut_36 : decode cX1_leastCut 36 = .ok (.istore 4, 2) := dk_54 4 (dk_at dksX1_leastCut_1 14 rfl rfl)
theorem dX1_leastCut_38 : decode cX1_leastCut 38 = .ok (.iload_n 1, 1) := dk_27 (dk_at dksX1_leastCut_1 16 rfl rfl)
theorem dX1_leastCut_39 : decode cX1_leastCut 39 = .ok (.iconst (-1), 1) := dk_2 (dk_at dksX1_leastCut_1 17 rfl rfl)
theorem dX1_leastCut_40 : decode cX1_leastCut 40 = .ok (.if_icmp .eq 12, 3) := dk_159 0 12 (dk_at dksX1_leastCut_1 18 rfl rfl)
theorem dX1_leastCut_43 : decode cX1_leastCut 43 = .ok (.iload 4, 2) := dk_21 4 (dk_at dksX1_leastCut_1 21 rfl rfl)
theorem dX1_leastCut_45 : decode cX1_leastCut 45 = .ok (.iload_n 2, 1) := dk_28 (dk_at dksX1_leastCut_1 23 rfl rfl)
theorem dX1_leastCut_46 : decode cX1_leastCut 46 = .ok (.if_icmp .lt 6, 3) := dk_161 0 6 (dk_at dksX1_leastCut_2 0 rfl rfl)
theorem dX1_leastCut_49 : decode cX1_leastCut 49 = .ok (.goto 8, 3) := dk_167 0 8 (dk_at dksX1_leastCut_2 3 rfl rfl)
theorem dX1_leastCut_52 : decode cX1_leastCut 52 = .ok (.iload_n 3, 1) := dk_29 (dk_at dksX1_leastCut_2 6 rfl rfl)
theorem dX1_leastCut_53 : decode cX1_leastCut 53 = .ok (.istore_n 1, 1) := dk_60 (dk_at dksX1_leastCut_2 7 rfl rfl)
theorem dX1_leastCut_54 : decode cX1_leastCut 54 = .ok (.iload 4, 2) := dk_21 4 (dk_at dksX1_leastCut_2 8 rfl rfl)
theorem dX1_leastCut_56 : decode cX1_leastCut 56 = .ok (.istore_n 2, 1) := dk_61 (dk_at dksX1_leastCut_2 10 rfl rfl)
theorem dX1_leastCut_57 : decode cX1_leastCut 57 = .ok (.iinc 3 1, 3) := dk_132 3 1 (dk_at dksX1_leastCut_2 11 rfl rfl)
theorem dX1_leastCut_60 : decode cX1_leastCut 60 = .ok (.goto (-54), 3) := dk_167 255 202 (dk_at dksX1_leastCut_2 14 rfl rfl)
theorem dX1_leastCut_63 : decode cX1_leastCut 63 = .ok (.iload_n 1, 1) := dk_27 (dk_at dksX1_leastCut_2 17 rfl rfl)
theorem dX1_leastCut_64 : decode cX1_leastCut 64 = .ok (.ireturn, 1) := dk_172 (dk_at dksX1_leastCut_2 18 rfl rfl)
abbrev cX1_dropsOf : ByteArray := prog_1_method_62_code
def yX1_dropsOf : MethodName := ⟨RX1, "dropsOf", "(I)I"⟩
def dkwX1_dropsOf_1 : List UInt8 := [78, 44, 182, 1, 156, 167, 0, 11, 58, 4, 45, 25, 4, 182, 1, 161, 45, 191]
abbrev dktX1_dropsOf_1 : List UInt8 := dkwX1_dropsOf_1 ++ []
def dkwX1_dropsOf_0 : List UInt8 := [187, 1, 151, 89, 42, 183, 1, 153, 77, 42, 180, 0, 28, 27, 182, 0, 205, 62, 44, 182, 1, 156, 29, 172]
abbrev dktX1_dropsOf_0 : List UInt8 := dkwX1_dropsOf_0 ++ dktX1_dropsOf_1
theorem dksX1_dropsOf_0 : cX1_dropsOf.data.toList.drop 0 = dktX1_dropsOf_0 := by decide +kernel
theorem dksX1_dropsOf_1 : cX1_dropsOf.data.toList.drop 24 = dktX1_dropsOf_1 := dk_seg dksX1_dropsOf_0 24 rfl rfl
theorem dX1_dropsOf_0 : decode cX1_dropsOf 0 = .ok (.new 407, 3) := dk_187 1 151 (dk_at dksX1_dropsOf_0 0 rfl rfl)
theorem dX1_dropsOf_3 : decode cX1_dropsOf 3 = .ok (.dup, 1) := dk_89 (dk_at dksX1_dropsOf_0 3 rfl rfl)
theorem dX1_dropsOf_4 : decode cX1_dropsOf 4 = .ok (.aload_n 0, 1) := dk_42 (dk_at dksX1_dropsOf_0 4 rfl rfl)
theorem dX1_dropsOf_5 : decode cX1_dropsOf 5 = .ok (.invokespecial 409, 3) := dk_183 1 153 (dk_at dksX1_dropsOf_0 5 rfl rfl)
theorem dX1_dropsOf_8 : decode cX1_dropsOf 8 = .ok (.astore_n 2, 1) := dk_77 (dk_at dksX1_dropsOf_0 8 rfl rfl)
theorem dX1_dropsOf_9 : decode cX1_dropsOf 9 = .ok (.aload_n 0, 1) := dk_42 (dk_at dksX1_dropsOf_0 9 rfl rfl)
theorem dX1_dropsOf_10 : decode cX1_dropsOf 10 = .ok (.getfield 28, 3) := dk_180 0 28 (dk_at dksX1_dropsOf_0 10 rfl rfl)
theorem dX1_dropsOf_13 : decode cX1_dropsOf 13 = .ok (.iload_n 1, 1) := dk_27 (dk_at dksX1_dropsOf_0 13 rfl rfl)
theorem dX1_dropsOf_14 : decode cX1_dropsOf 14 = .ok (.invokevirtual 205, 3) := dk_182 0 205 (dk_at dksX1_dropsOf_0 14 rfl rfl)
theorem dX1_dropsOf_17 : decode cX1_dropsOf 17 = .ok (.istore_n 3, 1) := dk_62 (dk_at dksX1_dropsOf_0 17 rfl rfl)
theorem dX1_dropsOf_18 : decode cX1_dropsOf 18 = .ok (.aload_n 2, 1) := dk_44 (dk_at dksX1_dropsOf_0 18 rfl rfl)
theorem dX1_dropsOf_19 : decode cX1_dropsOf 19 = .ok (.invokevirtual 412, 3) := dk_182 1 156 (dk_at dksX1_dropsOf_0 19 rfl rfl)
theorem dX1_dropsOf_22 : decode cX1_dropsOf 22 = .ok (.iload_n 3, 1) := dk_29 (dk_at dksX1_dropsOf_0 22 rfl rfl)
theorem dX1_dropsOf_23 : decode cX1_dropsOf 23 = .ok (.ireturn, 1) := dk_172 (dk_at dksX1_dropsOf_0 23 rfl rfl)
theorem dX1_dropsOf_24 : decode cX1_dropsOf 24 = .ok (.astore_n 3, 1) := dk_78 (dk_at dksX1_dropsOf_1 0 rfl rfl)
theorem dX1_dropsOf_25 : decode cX1_dropsOf 25 = .ok (.aload_n 2, 1) := dk_44 (dk_at dksX1_dropsOf_1 1 rfl rfl)
theorem dX1_dropsOf_26 : decode cX1_dropsOf 26 = .ok (.invokevirtual 412, 3) := dk_182 1 156 (dk_at dksX1_dropsOf_1 2 rfl rfl)
theorem dX1_dropsOf_29 : decode cX1_dropsOf 29 = .ok (.goto 11, 3) := dk_167 0 11 (dk_at dksX1_dropsOf_1 5 rfl rfl)
theorem dX1_dropsOf_32 : decode cX1_dropsOf 32 = .ok (.astore 4, 2) := dk_58 4 (dk_at dksX1_dropsOf_1 8 rfl rfl)
theorem dX1_dropsOf_34 : decode cX1_dropsOf 34 = .ok (.aload_n 3, 1) := dk_45 (dk_at dksX1_dropsOf_1 10 rfl rfl)
theorem dX1_dropsOf_35 : decode cX1_dropsOf 35 = .ok (.aload 4, 2) := dk_25 4 (dk_at dksX1_dropsOf_1 11 rfl rfl)
theorem dX1_dropsOf_37 : decode cX1_dropsOf 37 = .ok (.invokevirtual 417, 3) := dk_182 1 161 (dk_at dksX1_dropsOf_1 13 rfl rfl)
theorem dX1_dropsOf_40 : decode cX1_dropsOf 40 = .ok (.aload_n 3, 1) := dk_45 (dk_at dksX1_dropsOf_1 16 rfl rfl)
theorem dX1_dropsOf_41 : decode cX1_dropsOf 41 = .ok (.athrow, 1) := dk_191 (dk_at dksX1_dropsOf_1 17 rfl rfl)
abbrev cX1_gap : ByteArray := prog_1_method_70_code
def yX1_gap : MethodName := ⟨RX1, "gap", "()I"⟩
def dkwX1_gap_6 : List UInt8 := [184, 1, 175, 96, 172]
abbrev dktX1_gap_6 : List UInt8 := dkwX1_gap_6 ++ []
def dkwX1_gap_5 : List UInt8 := [16, 6, 46, 100, 42, 180, 0, 28, 180, 0, 247, 16, 7, 46, 100, 42, 180, 0, 28, 182, 0, 112, 100]
abbrev dktX1_gap_5 : List UInt8 := dkwX1_gap_5 ++ dktX1_gap_6
def dkwX1_gap_4 : List UInt8 := [180, 0, 28, 180, 0, 244, 42, 180, 0, 28, 180, 0, 247, 3, 46, 100, 42, 180, 0, 28, 180, 0, 247]
abbrev dktX1_gap_4 : List UInt8 := dkwX1_gap_4 ++ dktX1_gap_5
def dkwX1_gap_3 : List UInt8 := [154, 0, 8, 27, 21, 4, 96, 60, 132, 3, 1, 167, 255, 194, 132, 2, 1, 167, 255, 175, 27, 42]
abbrev dktX1_gap_3 : List UInt8 := dkwX1_gap_3 ++ dktX1_gap_4
def dkwX1_gap_2 : List UInt8 := [42, 28, 29, 4, 182, 1, 171, 4, 164, 0, 6, 132, 1, 1, 42, 180, 0, 28, 28, 182, 0, 202]
abbrev dktX1_gap_2 : List UInt8 := dkwX1_gap_2 ++ dktX1_gap_3
def dkwX1_gap_1 : List UInt8 := [180, 0, 144, 162, 0, 57, 42, 28, 29, 3, 182, 1, 171, 54, 4, 21, 4, 4, 164, 0, 6, 132, 1, 1]
abbrev dktX1_gap_1 : List UInt8 := dkwX1_gap_1 ++ dktX1_gap_2
def dkwX1_gap_0 : List UInt8 := [3, 60, 3, 61, 28, 42, 180, 0, 28, 180, 0, 147, 162, 0, 76, 3, 62, 29, 42, 180, 0, 28]
abbrev dktX1_gap_0 : List UInt8 := dkwX1_gap_0 ++ dktX1_gap_1
theorem dksX1_gap_0 : cX1_gap.data.toList.drop 0 = dktX1_gap_0 := by decide +kernel
theorem dksX1_gap_1 : cX1_gap.data.toList.drop 22 = dktX1_gap_1 := dk_seg dksX1_gap_0 22 rfl rfl
theorem dksX1_gap_2 : cX1_gap.data.toList.drop 46 = dktX1_gap_2 := dk_seg dksX1_gap_1 24 rfl rfl
theorem dksX1_gap_3 : cX1_gap.data.toList.drop 68 = dktX1_gap_3 := dk_seg dksX1_gap_2 22 rfl rfl
theorem dksX1_gap_4 : cX1_gap.data.toList.drop 90 = dktX1_gap_4 := dk_seg dksX1_gap_3 22 rfl rfl
theorem dksX1_gap_5 : cX1_gap.data.toList.drop 113 = dktX1_gap_5 := dk_seg dksX1_gap_4 23 rfl rfl
theorem dksX1_gap_6 : cX1_gap.data.toList.drop 136 = dktX1_gap_6 := dk_seg dksX1_gap_5 23 rfl rfl
theorem dX1_gap_0 : decode cX1_gap 0 = .ok (.iconst 0, 1) := dk_3 (dk_at dksX1_gap_0 0 rfl rfl)
theorem dX1_gap_1 : decode cX1_gap 1 = .ok (.istore_n 1, 1) := dk_60 (dk_at dksX1_gap_0 1 rfl rfl)
theorem dX1_gap_2 : decode cX1_gap 2 = .ok (.iconst 0, 1) := dk_3 (dk_at dksX1_gap_0 2 rfl rfl)
theorem dX1_gap_3 : decode cX1_gap 3 = .ok (.istore_n 2, 1) := dk_61 (dk_at dksX1_gap_0 3 rfl rfl)
theorem dX1_gap_4 : decode cX1_gap 4 = .ok (.iload_n 2, 1) := dk_28 (dk_at dksX1_gap_0 4 rfl rfl)
theorem dX1_gap_5 : decode cX1_gap 5 = .ok (.aload_n 0, 1) := dk_42 (dk_at dksX1_gap_0 5 rfl rfl)
theorem dX1_gap_6 : decode cX1_gap 6 = .ok (.getfield 28, 3) := dk_180 0 28 (dk_at dksX1_gap_0 6 rfl rfl)
theorem dX1_gap_9 : decode cX1_gap 9 = .ok (.getfield 147, 3) := dk_180 0 147 (dk_at dksX1_gap_0 9 rfl rfl)
theorem dX1_gap_12 : decode cX1_gap 12 = .ok (.if_icmp .ge 76, 3) := dk_162 0 76 (dk_at dksX1_gap_0 12 rfl rfl)
theorem dX1_gap_15 : decode cX1_gap 15 = .ok (.iconst 0, 1) := dk_3 (dk_at dksX1_gap_0 15 rfl rfl)
theorem dX1_gap_16 : decode cX1_gap 16 = .ok (.istore_n 3, 1) := dk_62 (dk_at dksX1_gap_0 16 rfl rfl)
theorem dX1_gap_17 : decode cX1_gap 17 = .ok (.iload_n 3, 1) := dk_29 (dk_at dksX1_gap_0 17 rfl rfl)
theorem dX1_gap_18 : decode cX1_gap 18 = .ok (.aload_n 0, 1) := dk_42 (dk_at dksX1_gap_0 18 rfl rfl)
theorem dX1_gap_19 : decode cX1_gap 19 = .ok (.getfield 28, 3) := dk_180 0 28 (dk_at dksX1_gap_0 19 rfl rfl)
theorem dX1_gap_22 : decode cX1_gap 22 = .ok (.getfield 144, 3) := dk_180 0 144 (dk_at dksX1_gap_1 0 rfl rfl)
theorem dX1_gap_25 : decode cX1_gap 25 = .ok (.if_icmp .ge 57, 3) := dk_162 0 57 (dk_at dksX1_gap_1 3 rfl rfl)
theorem dX1_gap_28 : decode cX1_gap 28 = .ok (.aload_n 0, 1) := dk_42 (dk_at dksX1_gap_1 6 rfl rfl)
theorem dX1_gap_29 : decode cX1_gap 29 = .ok (.iload_n 2, 1) := dk_28 (dk_at dksX1_gap_1 7 rfl rfl)
theorem dX1_gap_30 : decode cX1_gap 30 = .ok (.iload_n 3, 1) := dk_29 (dk_at dksX1_gap_1 8 rfl rfl)
theorem dX1_gap_31 : decode cX1_gap 31 = .ok (.iconst 0, 1) := dk_3 (dk_at dksX1_gap_1 9 rfl rfl)
theorem dX1_gap_32 : decode cX1_gap 32 = .ok (.invokevirtual 427, 3) := dk_182 1 171 (dk_at dksX1_gap_1 10 rfl rfl)
theorem dX1_gap_35 : decode cX1_gap 35 = .ok (.istore 4, 2) := dk_54 4 (dk_at dksX1_gap_1 13 rfl rfl)
theorem dX1_gap_37 : decode cX1_gap 37 = .ok (.iload 4, 2) := dk_21 4 (dk_at dksX1_gap_1 15 rfl rfl)
theorem dX1_gap_39 : decode cX1_gap 39 = .ok (.iconst 1, 1) := dk_4 (dk_at dksX1_gap_1 17 rfl rfl)
theorem dX1_gap_40 : decode cX1_gap 40 = .ok (.if_icmp .le 6, 3) := dk_164 0 6 (dk_at dksX1_gap_1 18 rfl rfl)
theorem dX1_gap_43 : decode cX1_gap 43 = .ok (.iinc 1 1, 3) := dk_132 1 1 (dk_at dksX1_gap_1 21 rfl rfl)
theorem dX1_gap_46 : decode cX1_gap 46 = .ok (.aload_n 0, 1) := dk_42 (dk_at dksX1_gap_2 0 rfl rfl)
theorem dX1_gap_47 : decode cX1_gap 47 = .ok (.iload_n 2, 1) := dk_28 (dk_at dksX1_gap_2 1 rfl rfl)
theorem dX1_gap_48 : decode cX1_gap 48 = .ok (.iload_n 3, 1) := dk_29 (dk_at dksX1_gap_2 2 rfl rfl)
theorem dX1_gap_49 : decode cX1_gap 49 = .ok (.iconst 1, 1) := dk_4 (dk_at dksX1_gap_2 3 rfl rfl)
theorem dX1_gap_50 : decode cX1_gap 50 = .ok (.invokevirtual 427, 3) := dk_182 1 171 (dk_at dksX1_gap_2 4 rfl rfl)
theorem dX1_gap_53 : decode cX1_gap 53 = .ok (.iconst 1, 1) := dk_4 (dk_at dksX1_gap_2 7 rfl rfl)
theorem dX1_gap_54 : decode cX1_gap 54 = .ok (.if_icmp .le 6, 3) := dk_164 0 6 (dk_at dksX1_gap_2 8 rfl rfl)
theorem dX1_gap_57 : decode cX1_gap 57 = .ok (.iinc 1 1, 3) := dk_132 1 1 (dk_at dksX1_gap_2 11 rfl rfl)
theorem dX1_gap_60 : decode cX1_gap 60 = .ok (.aload_n 0, 1) := dk_42 (dk_at dksX1_gap_2 14 rfl rfl)
theorem dX1_gap_61 : decode cX1_gap 61 = .ok (.getfield 28, 3) := dk_180 0 28 (dk_at dksX1_gap_2 15 rfl rfl)
theorem dX1_gap_64 : decode cX1_gap 64 = .ok (.iload_n 2, 1) := dk_28 (dk_at dksX1_gap_2 18 rfl rfl)
theorem dX1_gap_65 : decode cX1_gap 65 = .ok (.invokevirtual 202, 3) := dk_182 0 202 (dk_at dksX1_gap_2 19 rfl rfl)
theorem dX1_gap_68 : decode cX1_gap 68 = .ok (.ifCond .ne 8, 3) := dk_154 0 8 (dk_at dksX1_gap_3 0 rfl rfl)
theorem dX1_gap_71 : decode cX1_gap 71 = .ok (.iload_n 1, 1) := dk_27 (dk_at dksX1_gap_3 3 rfl rfl)
theorem dX1_gap_72 : decode cX1_gap 72 = .ok (.iload 4, 2) := dk_21 4 (dk_at dksX1_gap_3 4 rfl rfl)
theorem dX1_gap_74 : decode cX1_gap 74 = .ok (.iadd, 1) := dk_96 (dk_at dksX1_gap_3 6 rfl rfl)
theorem dX1_gap_75 : decode cX1_gap 75 = .ok (.istore_n 1, 1) := dk_60 (dk_at dksX1_gap_3 7 rfl rfl)
theorem dX1_gap_76 : decode cX1_gap 76 = .ok (.iinc 3 1, 3) := dk_132 3 1 (dk_at dksX1_gap_3 8 rfl rfl)
theorem dX1_gap_79 : decode cX1_gap 79 = .ok (.goto (-62), 3) := dk_167 255 194 (dk_at dksX1_gap_3 11 rfl rfl)
theorem dX1_gap_82 : decode cX1_gap 82 = .ok (.iinc 2 1, 3) := dk_132 2 1 (dk_at dksX1_gap_3 14 rfl rfl)
theorem dX1_gap_85 : decode cX1_gap 85 = .ok (.goto (-81), 3) := dk_167 255 175 (dk_at dksX1_gap_3 17 rfl rfl)
theorem dX1_gap_88 : decode cX1_gap 88 = .ok (.iload_n 1, 1) := dk_27 (dk_at dksX1_gap_3 20 rfl rfl)
theorem dX1_gap_89 : decode cX1_gap 89 = .ok (.aload_n 0, 1) := dk_42 (dk_at dksX1_gap_3 21 rfl rfl)
theorem dX1_gap_90 : decode cX1_gap 90 = .ok (.getfield 28, 3) := dk_180 0 28 (dk_at dksX1_gap_4 0 rfl rfl)
theorem dX1_gap_93 : decode cX1_gap 93 = .ok (.getfield 244, 3) := dk_180 0 244 (dk_at dksX1_gap_4 3 rfl rfl)
theorem dX1_gap_96 : decode cX1_gap 96 = .ok (.aload_n 0, 1) := dk_42 (dk_at dksX1_gap_4 6 rfl rfl)
theorem dX1_gap_97 : decode cX1_gap 97 = .ok (.getfield 28, 3) := dk_180 0 28 (dk_at dksX1_gap_4 7 rfl rfl)
theorem dX1_gap_100 : decode cX1_gap 100 = .ok (.getfield 247, 3) := dk_180 0 247 (dk_at dksX1_gap_4 10 rfl rfl)
theorem dX1_gap_103 : decode cX1_gap 103 = .ok (.iconst 0, 1) := dk_3 (dk_at dksX1_gap_4 13 rfl rfl)
theorem dX1_gap_104 : decode cX1_gap 104 = .ok (.iaload, 1) := dk_46 (dk_at dksX1_gap_4 14 rfl rfl)
theorem dX1_gap_105 : decode cX1_gap 105 = .ok (.isub, 1) := dk_100 (dk_at dksX1_gap_4 15 rfl rfl)
theorem dX1_gap_106 : decode cX1_gap 106 = .ok (.aload_n 0, 1) := dk_42 (dk_at dksX1_gap_4 16 rfl rfl)
theorem dX1_gap_107 : decode cX1_gap 107 = .ok (.getfield 28, 3) := dk_180 0 28 (dk_at dksX1_gap_4 17 rfl rfl)
theorem dX1_gap_110 : decode cX1_gap 110 = .ok (.getfield 247, 3) := dk_180 0 247 (dk_at dksX1_gap_4 20 rfl rfl)
theorem dX1_gap_113 : decode cX1_gap 113 = .ok (.bipush 6, 2) := dk_16 6 (dk_at dksX1_gap_5 0 rfl rfl)
theorem dX1_gap_115 : decode cX1_gap 115 = .ok (.iaload, 1) := dk_46 (dk_at dksX1_gap_5 2 rfl rfl)
theorem dX1_gap_116 : decode cX1_gap 116 = .ok (.isub, 1) := dk_100 (dk_at dksX1_gap_5 3 rfl rfl)
theorem dX1_gap_117 : decode cX1_gap 117 = .ok (.aload_n 0, 1) := dk_42 (dk_at dksX1_gap_5 4 rfl rfl)
theorem dX1_gap_118 : decode cX1_gap 118 = .ok (.getfield 28, 3) := dk_180 0 28 (dk_at dksX1_gap_5 5 rfl rfl)
theorem dX1_gap_121 : decode cX1_gap 121 = .ok (.getfield 247, 3) := dk_180 0 247 (dk_at dksX1_gap_5 8 rfl rfl)
theorem dX1_gap_124 : decode cX1_gap 124 = .ok (.bipush 7, 2) := dk_16 7 (dk_at dksX1_gap_5 11 rfl rfl)
theorem dX1_gap_126 : decode cX1_gap 126 = .ok (.iaload, 1) := dk_46 (dk_at dksX1_gap_5 13 rfl rfl)
theorem dX1_gap_127 : decode cX1_gap 127 = .ok (.isub, 1) := dk_100 (dk_at dksX1_gap_5 14 rfl rfl)
theorem dX1_gap_128 : decode cX1_gap 128 = .ok (.aload_n 0, 1) := dk_42 (dk_at dksX1_gap_5 15 rfl rfl)
theorem dX1_gap_129 : decode cX1_gap 129 = .ok (.getfield 28, 3) := dk_180 0 28 (dk_at dksX1_gap_5 16 rfl rfl)
theorem dX1_gap_132 : decode cX1_gap 132 = .ok (.invokevirtual 112, 3) := dk_182 0 112 (dk_at dksX1_gap_5 19 rfl rfl)
theorem dX1_gap_135 : decode cX1_gap 135 = .ok (.isub, 1) := dk_100 (dk_at dksX1_gap_5 22 rfl rfl)
theorem dX1_gap_136 : decode cX1_gap 136 = .ok (.invokestatic 431, 3) := dk_184 1 175 (dk_at dksX1_gap_6 0 rfl rfl)
theorem dX1_gap_139 : decode cX1_gap 139 = .ok (.iadd, 1) := dk_96 (dk_at dksX1_gap_6 3 rfl rfl)
theorem dX1_gap_140 : decode cX1_gap 140 = .ok (.ireturn, 1) := dk_172 (dk_at dksX1_gap_6 4 rfl rfl)
abbrev cX1_counted : ByteArray := prog_1_method_69_code
def yX1_counted : MethodName := ⟨RX1, "counted", "(IIZ)I"⟩
def dkwX1_counted_3 : List UInt8 := [28, 160, 0, 6, 132, 4, 1, 132, 5, 1, 167, 255, 183, 21, 4, 172]
abbrev dktX1_counted_3 : List UInt8 := dkwX1_counted_3 ++ []
def dkwX1_counted_2 : List UInt8 := [153, 0, 15, 42, 180, 0, 28, 25, 6, 182, 1, 42, 167, 0, 12, 42, 180, 0, 28, 25, 6, 182, 1, 38]
abbrev dktX1_counted_2 : List UInt8 := dkwX1_counted_2 ++ dktX1_counted_3
def dkwX1_counted_1 : List UInt8 := [180, 1, 35, 21, 5, 50, 58, 6, 25, 6, 198, 0, 44, 25, 6, 180, 1, 62, 27, 160, 0, 35, 29]
abbrev dktX1_counted_1 : List UInt8 := dkwX1_counted_1 ++ dktX1_counted_2
def dkwX1_counted_0 : List UInt8 := [3, 54, 4, 3, 54, 5, 21, 5, 42, 180, 0, 28, 180, 0, 244, 162, 0, 67, 42, 180, 0, 28]
abbrev dktX1_counted_0 : List UInt8 := dkwX1_counted_0 ++ dktX1_counted_1
theorem dksX1_counted_0 : cX1_counted.data.toList.drop 0 = dktX1_counted_0 := by decide +kernel
theorem dksX1_counted_1 : cX1_counted.data.toList.drop 22 = dktX1_counted_1 := dk_seg dksX1_counted_0 22 rfl rfl
theorem dksX1_counted_2 : cX1_counted.data.toList.drop 45 = dktX1_counted_2 := dk_seg dksX1_counted_1 23 rfl rfl
theorem dksX1_counted_3 : cX1_counted.data.toList.drop 69 = dktX1_counted_3 := dk_seg dksX1_counted_2 24 rfl rfl
theorem dX1_counted_0 : decode cX1_counted 0 = .ok (.iconst 0, 1) := dk_3 (dk_at dksX1_counted_0 0 rfl rfl)
theorem dX1_counted_1 : decode cX1_counted 1 = .ok (.istore 4, 2) := dk_54 4 (dk_at dksX1_counted_0 1 rfl rfl)
theorem dX1_counted_3 : decode cX1_counted 3 = .ok (.iconst 0, 1) := dk_3 (dk_at dksX1_counted_0 3 rfl rfl)
theorem dX1_counted_4 : decode cX1_counted 4 = .ok (.istore 5, 2) := dk_54 5 (dk_at dksX1_counted_0 4 rfl rfl)
theorem dX1_counted_6 : decode cX1_counted 6 = .ok (.iload 5, 2) := dk_21 5 (dk_at dksX1_counted_0 6 rfl rfl)
theorem dX1_counted_8 : decode cX1_counted 8 = .ok (.aload_n 0, 1) := dk_42 (dk_at dksX1_counted_0 8 rfl rfl)
theorem dX1_counted_9 : decode cX1_counted 9 = .ok (.getfield 28, 3) := dk_180 0 28 (dk_at dksX1_counted_0 9 rfl rfl)
theorem dX1_counted_12 : decode cX1_counted 12 = .ok (.getfield 244, 3) := dk_180 0 244 (dk_at dksX1_counted_0 12 rfl rfl)
theorem dX1_counted_15 : decode cX1_counted 15 = .ok (.if_icmp .ge 67, 3) := dk_162 0 67 (dk_at dksX1_counted_0 15 rfl rfl)
theorem dX1_counted_18 : decode cX1_counted 18 = .ok (.aload_n 0, 1) := dk_42 (dk_at dksX1_counted_0 18 rfl rfl)
theorem dX1_counted_19 : decode cX1_counted 19 = .ok (.getfield 28, 3) := dk_180 0 28 (dk_at dksX1_counted_0 19 rfl rfl)
theorem dX1_counted_22 : decode cX1_counted 22 = .ok (.getfield 291, 3) := dk_180 1 35 (dk_at dksX1_counted_1 0 rfl rfl)
theorem dX1_counted_25 : decode cX1_counted 25 = .ok (.iload 5, 2) := dk_21 5 (dk_at dksX1_counted_1 3 rfl rfl)
theorem dX1_counted_27 : decode cX1_counted 27 = .ok (.aaload, 1) := dk_50 (dk_at dksX1_counted_1 5 rfl rfl)
theorem dX1_counted_28 : decode cX1_counted 28 = .ok (.astore 6, 2) := dk_58 6 (dk_at dksX1_counted_1 6 rfl rfl)
theorem dX1_counted_30 : decode cX1_counted 30 = .ok (.aload 6, 2) := dk_25 6 (dk_at dksX1_counted_1 8 rfl rfl)
theorem dX1_counted_32 : decode cX1_counted 32 = .ok (.ifnull 44, 3) := dk_198 0 44 (dk_at dksX1_counted_1 10 rfl rfl)
theorem dX1_counted_35 : decode cX1_counted 35 = .ok (.aload 6, 2) := dk_25 6 (dk_at dksX1_counted_1 13 rfl rfl)
theorem dX1_counted_37 : decode cX1_counted 37 = .ok (.getfield 318, 3) := dk_180 1 62 (dk_at dksX1_counted_1 15 rfl rfl)
theorem dX1_counted_40 : decode cX1_counted 40 = .ok (.iload_n 1, 1) := dk_27 (dk_at dksX1_counted_1 18 rfl rfl)
theorem dX1_counted_41 : decode cX1_counted 41 = .ok (.if_icmp .ne 35, 3) := dk_160 0 35 (dk_at dksX1_counted_1 19 rfl rfl)
theorem dX1_counted_44 : decode cX1_counted 44 = .ok (.iload_n 3, 1) := dk_29 (dk_at dksX1_counted_1 22 rfl rfl)
theorem dX1_counted_45 : decode cX1_counted 45 = .ok (.ifCond .eq 15, 3) := dk_153 0 15 (dk_at dksX1_counted_2 0 rfl rfl)
theorem dX1_counted_48 : decode cX1_counted 48 = .ok (.aload_n 0, 1) := dk_42 (dk_at dksX1_counted_2 3 rfl rfl)
theorem dX1_counted_49 : decode cX1_counted 49 = .ok (.getfield 28, 3) := dk_180 0 28 (dk_at dksX1_counted_2 4 rfl rfl)
theorem dX1_counted_52 : decode cX1_counted 52 = .ok (.aload 6, 2) := dk_25 6 (dk_at dksX1_counted_2 7 rfl rfl)
theorem dX1_counted_54 : decode cX1_counted 54 = .ok (.invokevirtual 298, 3) := dk_182 1 42 (dk_at dksX1_counted_2 9 rfl rfl)
theorem dX1_counted_57 : decode cX1_counted 57 = .ok (.goto 12, 3) := dk_167 0 12 (dk_at dksX1_counted_2 12 rfl rfl)
theorem dX1_counted_60 : decode cX1_counted 60 = .ok (.aload_n 0, 1) := dk_42 (dk_at dksX1_counted_2 15 rfl rfl)
theorem dX1_counted_61 : decode cX1_counted 61 = .ok (.getfield 28, 3) := dk_180 0 28 (dk_at dksX1_counted_2 16 rfl rfl)
theorem dX1_counted_64 : decode cX1_counted 64 = .ok (.aload 6, 2) := dk_25 6 (dk_at dksX1_counted_2 19 rfl rfl)
theorem dX1_counted_66 : decode cX1_counted 66 = .ok (.invokevirtual 294, 3) := dk_182 1 38 (dk_at dksX1_counted_2 21 rfl rfl)
theorem dX1_counted_69 : decode cX1_counted 69 = .ok (.iload_n 2, 1) := dk_28 (dk_at dksX1_counted_3 0 rfl rfl)
theorem dX1_counted_70 : decode cX1_counted 70 = .ok (.if_icmp .ne 6, 3) := dk_160 0 6 (dk_at dksX1_counted_3 1 rfl rfl)
theorem dX1_counted_73 : decode cX1_counted 73 = .ok (.iinc 4 1, 3) := dk_132 4 1 (dk_at dksX1_counted_3 4 rfl rfl)
theorem dX1_counted_76 : decode cX1_counted 76 = .ok (.iinc 5 1, 3) := dk_132 5 1 (dk_at dksX1_counted_3 7 rfl rfl)
theorem dX1_counted_79 : decode cX1_counted 79 = .ok (.goto (-73), 3) := dk_167 255 183 (dk_at dksX1_counted_3 10 rfl rfl)
theorem dX1_counted_82 : decode cX1_counted 82 = .ok (.iload 4, 2) := dk_21 4 (dk_at dksX1_counted_3 13 rfl rfl)
theorem dX1_counted_84 : decode cX1_counted 84 = .ok (.ireturn, 1) := dk_172 (dk_at dksX1_counted_3 15 rfl rfl)
abbrev cX1_fullness : ByteArray := prog_1_method_71_code
def yX1_fullness : MethodName := ⟨RX1, "fullness", "()F"⟩
def dkwX1_fullness_1 : List UInt8 := [42, 180, 0, 28, 182, 0, 112, 134, 27, 134, 110, 174]
abbrev dktX1_fullness_1 : List UInt8 := dkwX1_fullness_1 ++ []
def dkwX1_fullness_0 : List UInt8 := [42, 180, 0, 28, 182, 0, 232, 42, 180, 0, 28, 180, 0, 144, 104, 60, 27, 154, 0, 7, 11, 167, 0, 14]
abbrev dktX1_fullness_0 : List UInt8 := dkwX1_fullness_0 ++ dktX1_fullness_1
theorem dksX1_fullness_0 : cX1_fullness.data.toList.drop 0 = dktX1_fullness_0 := by decide +kernel
theorem dksX1_fullness_1 : cX1_fullness.data.toList.drop 24 = dktX1_fullness_1 := dk_seg dksX1_fullness_0 24 rfl rfl
theorem dX1_fullness_0 : decode cX1_fullness 0 = .ok (.aload_n 0, 1) := dk_42 (dk_at dksX1_fullness_0 0 rfl rfl)
theorem dX1_fullness_1 : decode cX1_fullness 1 = .ok (.getfield 28, 3) := dk_180 0 28 (dk_at dksX1_fullness_0 1 rfl rfl)
theorem dX1_fullness_4 : decode cX1_fullness 4 = .ok (.invokevirtual 232, 3) := dk_182 0 232 (dk_at dksX1_fullness_0 4 rfl rfl)
theorem dX1_fullness_7 : decode cX1_fullness 7 = .ok (.aload_n 0, 1) := dk_42 (dk_at dksX1_fullness_0 7 rfl rfl)
theorem dX1_fullness_8 : decode cX1_fullness 8 = .ok (.getfield 28, 3) := dk_180 0 28 (dk_at dksX1_fullness_0 8 rfl rfl)
theorem dX1_fullness_11 : decode cX1_fullness 11 = .ok (.getfield 144, 3) := dk_180 0 144 (dk_at dksX1_fullness_0 11 rfl rfl)
theorem dX1_fullness_14 : decode cX1_fullness 14 = .ok (.imul, 1) := dk_104 (dk_at dksX1_fullness_0 14 rfl rfl)
theorem dX1_fullness_15 : decode cX1_fullness 15 = .ok (.istore_n 1, 1) := dk_60 (dk_at dksX1_fullness_0 15 rfl rfl)
theorem dX1_fullness_16 : decode cX1_fullness 16 = .ok (.iload_n 1, 1) := dk_27 (dk_at dksX1_fullness_0 16 rfl rfl)
theorem dX1_fullness_17 : decode cX1_fullness 17 = .ok (.ifCond .ne 7, 3) := dk_154 0 7 (dk_at dksX1_fullness_0 17 rfl rfl)
theorem dX1_fullness_20 : decode cX1_fullness 20 = .ok (.fconst 0, 1) := dk_11 (dk_at dksX1_fullness_0 20 rfl rfl)
theorem dX1_fullness_21 : decode cX1_fullness 21 = .ok (.goto 14, 3) := dk_167 0 14 (dk_at dksX1_fullness_0 21 rfl rfl)
theorem dX1_fullness_24 : decode cX1_fullness 24 = .ok (.aload_n 0, 1) := dk_42 (dk_at dksX1_fullness_1 0 rfl rfl)
theorem dX1_fullness_25 : decode cX1_fullness 25 = .ok (.getfield 28, 3) := dk_180 0 28 (dk_at dksX1_fullness_1 1 rfl rfl)
theorem dX1_fullness_28 : decode cX1_fullness 28 = .ok (.invokevirtual 112, 3) := dk_182 0 112 (dk_at dksX1_fullness_1 4 rfl rfl)
theorem dX1_fullness_31 : decode cX1_fullness 31 = .ok (.i2f, 1) := dk_134 (dk_at dksX1_fullness_1 7 rfl rfl)
theorem dX1_fullness_32 : decode cX1_fullness 32 = .ok (.iload_n 1, 1) := dk_27 (dk_at dksX1_fullness_1 8 rfl rfl)
theorem dX1_fullness_33 : decode cX1_fullness 33 = .ok (.i2f, 1) := dk_134 (dk_at dksX1_fullness_1 9 rfl rfl)
theorem dX1_fullness_34 : decode cX1_fullness 34 = .ok (.fdiv, 1) := dk_110 (dk_at dksX1_fullness_1 10 rfl rfl)
theorem dX1_fullness_35 : decode cX1_fullness 35 = .ok (.freturn, 1) := dk_174 (dk_at dksX1_fullness_1 11 rfl rfl)
abbrev cX1_meanChain : ByteArray := prog_1_method_72_code
def yX1_meanChain : MethodName := ⟨RX1, "meanChain", "()D"⟩
def dkwX1_meanChain_1 : List UInt8 := [16, 9, 46, 135, 42, 180, 0, 28, 180, 0, 247, 16, 8, 46, 135, 111, 175]
abbrev dktX1_meanChain_1 : List UInt8 := dkwX1_meanChain_1 ++ []
def dkwX1_meanChain_0 : List UInt8 := [42, 180, 0, 28, 180, 0, 247, 16, 8, 46, 154, 0, 7, 14, 167, 0, 26, 42, 180, 0, 28, 180, 0, 247]
abbrev dktX1_meanChain_0 : List UInt8 := dkwX1_meanChain_0 ++ dktX1_meanChain_1
theorem dksX1_meanChain_0 : cX1_meanChain.data.toList.drop 0 = dktX1_meanChain_0 := by decide +kernel
theorem dksX1_meanChain_1 : cX1_meanChain.data.toList.drop 24 = dktX1_meanChain_1 := dk_seg dksX1_meanChain_0 24 rfl rfl
theorem dX1_meanChain_0 : decode cX1_meanChain 0 = .ok (.aload_n 0, 1) := dk_42 (dk_at dksX1_meanChain_0 0 rfl rfl)
theorem dX1_meanChain_1 : decode cX1_meanChain 1 = .ok (.getfield 28, 3) := dk_180 0 28 (dk_at dksX1_meanChain_0 1 rfl rfl)
theorem dX1_meanChain_4 : decode cX1_meanChain 4 = .ok (.getfield 247, 3) := dk_180 0 247 (dk_at dksX1_meanChain_0 4 rfl rfl)
theorem dX1_meanChain_7 : decode cX1_meanChain 7 = .ok (.bipush 8, 2) := dk_16 8 (dk_at dksX1_meanChain_0 7 rfl rfl)
theorem dX1_meanChain_9 : decode cX1_meanChain 9 = .ok (.iaload, 1) := dk_46 (dk_at dksX1_meanChain_0 9 rfl rfl)
theorem dX1_meanChain_10 : decode cX1_meanChain 10 = .ok (.ifCond .ne 7, 3) := dk_154 0 7 (dk_at dksX1_meanChain_0 10 rfl rfl)
theorem dX1_meanChain_13 : decode cX1_meanChain 13 = .ok (.dconst 0, 1) := dk_14 (dk_at dksX1_meanChain_0 13 rfl rfl)
theorem dX1_meanChain_14 : decode cX1_meanChain 14 = .ok (.goto 26, 3) := dk_167 0 26 (dk_at dksX1_meanChain_0 14 rfl rfl)
theorem dX1_meanChain_17 : decode cX1_meanChain 17 = .ok (.aload_n 0, 1) := dk_42 (dk_at dksX1_meanChain_0 17 rfl rfl)
theorem dX1_meanChain_18 : decode cX1_meanChain 18 = .ok (.getfield 28, 3) := dk_180 0 28 (dk_at dksX1_meanChain_0 18 rfl rfl)
theorem dX1_meanChain_21 : decode cX1_meanChain 21 = .ok (.getfield 247, 3) := dk_180 0 247 (dk_at dksX1_meanChain_0 21 rfl rfl)
theorem dX1_meanChain_24 : decode cX1_meanChain 24 = .ok (.bipush 9, 2) := dk_16 9 (dk_at dksX1_meanChain_1 0 rfl rfl)
theorem dX1_meanChain_26 : decode cX1_meanChain 26 = .ok (.iaload, 1) := dk_46 (dk_at dksX1_meanChain_1 2 rfl rfl)
theorem dX1_meanChain_27 : decode cX1_meanChain 27 = .ok (.i2d, 1) := dk_135 (dk_at dksX1_meanChain_1 3 rfl rfl)
theorem dX1_meanChain_28 : decode cX1_meanChain 28 = .ok (.aload_n 0, 1) := dk_42 (dk_at dksX1_meanChain_1 4 rfl rfl)
theorem dX1_meanChain_29 : decode cX1_meanChain 29 = .ok (.getfield 28, 3) := dk_180 0 28 (dk_at dksX1_meanChain_1 5 rfl rfl)
theorem dX1_meanChain_32 : decode cX1_meanChain 32 = .ok (.getfield 247, 3) := dk_180 0 247 (dk_at dksX1_meanChain_1 8 rfl rfl)
theorem dX1_meanChain_35 : decode cX1_meanChain 35 = .ok (.bipush 8, 2) := dk_16 8 (dk_at dksX1_meanChain_1 11 rfl rfl)
theorem dX1_meanChain_37 : decode cX1_meanChain 37 = .ok (.iaload, 1) := dk_46 (dk_at dksX1_meanChain_1 13 rfl rfl)
theorem dX1_meanChain_38 : decode cX1_meanChain 38 = .ok (.i2d, 1) := dk_135 (dk_at dksX1_meanChain_1 14 rfl rfl)
theorem dX1_meanChain_39 : decode cX1_meanChain 39 = .ok (.ddiv, 1) := dk_111 (dk_at dksX1_meanChain_1 15 rfl rfl)
theorem dX1_meanChain_40 : decode cX1_meanChain 40 = .ok (.dreturn, 1) := dk_175 (dk_at dksX1_meanChain_1 16 rfl rfl)
abbrev cX1_writeMiddles : ByteArray := prog_1_method_75_code
def yX1_writeMiddles : MethodName := ⟨RX1, "writeMiddles", "()I"⟩
def dkwX1_writeMiddles_3 : List UInt8 := [132, 2, 1, 167, 255, 194, 42, 43, 182, 1, 199, 172]
abbrev dktX1_writeMiddles_3 : List UInt8 := dkwX1_writeMiddles_3 ++ []
def dkwX1_writeMiddles_2 : List UInt8 := [158, 0, 10, 43, 16, 32, 182, 1, 191, 87, 42, 43, 28, 29, 182, 1, 195, 132, 3, 1, 167, 255, 224]
abbrev dktX1_writeMiddles_2 : List UInt8 := dkwX1_writeMiddles_2 ++ dktX1_writeMiddles_3
def dkwX1_writeMiddles_1 : List UInt8 := [158, 0, 10, 43, 16, 47, 182, 1, 191, 87, 3, 62, 29, 42, 180, 0, 28, 180, 0, 144, 162, 0, 27, 29]
abbrev dktX1_writeMiddles_1 : List UInt8 := dkwX1_writeMiddles_1 ++ dktX1_writeMiddles_2
def dkwX1_writeMiddles_0 : List UInt8 := [187, 1, 181, 89, 183, 1, 194, 76, 3, 61, 28, 42, 180, 0, 28, 180, 0, 144, 162, 0, 57, 28]
abbrev dktX1_writeMiddles_0 : List UInt8 := dkwX1_writeMiddles_0 ++ dktX1_writeMiddles_1
theorem dksX1_writeMiddles_0 : cX1_writeMiddles.data.toList.drop 0 = dktX1_writeMiddles_0 := by decide +kernel
theorem dksX1_writeMiddles_1 : cX1_writeMiddles.data.toList.drop 22 = dktX1_writeMiddles_1 := dk_seg dksX1_writeMiddles_0 22 rfl rfl
theorem dksX1_writeMiddles_2 : cX1_writeMiddles.data.toList.drop 46 = dktX1_writeMiddles_2 := dk_seg dksX1_writeMiddles_1 24 rfl rfl
theorem dksX1_writeMiddles_3 : cX1_writeMiddles.data.toList.drop 69 = dktX1_writeMiddles_3 := dk_seg dksX1_writeMiddles_2 23 rfl rfl
theorem dX1_writeMiddles_0 : decode cX1_writeMiddles 0 = .ok (.new 437, 3) := dk_187 1 181 (dk_at dksX1_writeMiddles_0 0 rfl rfl)
theorem dX1_writeMiddles_3 : decode cX1_writeMiddles 3 = .ok (.dup, 1) := dk_89 (dk_at dksX1_writeMiddles_0 3 rfl rfl)
theorem dX1_writeMiddles_4 : decode cX1_writeMiddles 4 = .ok (.invokespecial 450, 3) := dk_183 1 194 (dk_at dksX1_writeMiddles_0 4 rfl rfl)
theorem dX1_writeMiddles_7 : decode cX1_writeMiddles 7 = .ok (.astore_n 1, 1) := dk_76 (dk_at dksX1_writeMiddles_0 7 rfl rfl)
theorem dX1_writeMiddles_8 : decode cX1_writeMiddles 8 = .ok (.iconst 0, 1) := dk_3 (dk_at dksX1_writeMiddles_0 8 rfl rfl)
theorem dX1_writeMiddles_9 : decode cX1_writeMiddles 9 = .ok (.istore_n 2, 1) := dk_61 (dk_at dksX1_writeMiddles_0 9 rfl rfl)
theorem dX1_writeMiddles_10 : decode cX1_writeMiddles 10 = .ok (.iload_n 2, 1) := dk_28 (dk_at dksX1_writeMiddles_0 10 rfl rfl)
theorem dX1_writeMiddles_11 : decode cX1_writeMiddles 11 = .ok (.aload_n 0, 1) := dk_42 (dk_at dksX1_writeMiddles_0 11 rfl rfl)
theorem dX1_writeMiddles_12 : decode cX1_writeMiddles 12 = .ok (.getfield 28, 3) := dk_180 0 28 (dk_at dksX1_writeMiddles_0 12 rfl rfl)
theorem dX1_writeMiddles_15 : decode cX1_writeMiddles 15 = .ok (.getfield 144, 3) := dk_180 0 144 (dk_at dksX1_writeMiddles_0 15 rfl rfl)
theorem dX1_writeMiddles_18 : decode cX1_writeMiddles 18 = .ok (.if_icmp .ge 57, 3) := dk_162 0 57 (dk_at dksX1_writeMiddles_0 18 rfl rfl)
theorem dX1_writeMiddles_21 : decode cX1_writeMiddles 21 = .ok (.iload_n 2, 1) := dk_28 (dk_at dksX1_writeMiddles_0 21 rfl rfl)
theorem dX1_writeMiddles_22 : decode cX1_writeMiddles 22 = .ok (.ifCond .le 10, 3) := dk_158 0 10 (dk_at dksX1_writeMiddles_1 0 rfl rfl)
theorem dX1_writeMiddles_25 : decode cX1_writeMiddles 25 = .ok (.aload_n 1, 1) := dk_43 (dk_at dksX1_writeMiddles_1 3 rfl rfl)
theorem dX1_writeMiddles_26 : decode cX1_writeMiddles 26 = .ok (.bipush 47, 2) := dk_16 47 (dk_at dksX1_writeMiddles_1 4 rfl rfl)
theorem dX1_writeMiddles_28 : decode cX1_writeMiddles 28 = .ok (.invokevirtual 447, 3) := dk_182 1 191 (dk_at dksX1_writeMiddles_1 6 rfl rfl)
theorem dX1_writeMiddles_31 : decode cX1_writeMiddles 31 = .ok (.pop, 1) := dk_87 (dk_at dksX1_writeMiddles_1 9 rfl rfl)
theorem dX1_writeMiddles_32 : decode cX1_writeMiddles 32 = .ok (.iconst 0, 1) := dk_3 (dk_at dksX1_writeMiddles_1 10 rfl rfl)
theorem dX1_writeMiddles_33 : decode cX1_writeMiddles 33 = .ok (.istore_n 3, 1) := dk_62 (dk_at dksX1_writeMiddles_1 11 rfl rfl)
theorem dX1_writeMiddles_34 : decode cX1_writeMiddles 34 = .ok (.iload_n 3, 1) := dk_29 (dk_at dksX1_writeMiddles_1 12 rfl rfl)
theorem dX1_writeMiddles_35 : decode cX1_writeMiddles 35 = .ok (.aload_n 0, 1) := dk_42 (dk_at dksX1_writeMiddles_1 13 rfl rfl)
theorem dX1_writeMiddles_36 : decode cX1_writeMiddles 36 = .ok (.getfield 28, 3) := dk_180 0 28 (dk_at dksX1_writeMiddles_1 14 rfl rfl)
theorem dX1_writeMiddles_39 : decode cX1_writeMiddles 39 = .ok (.getfield 144, 3) := dk_180 0 144 (dk_at dksX1_writeMiddles_1 17 rfl rfl)
theorem dX1_writeMiddles_42 : decode cX1_writeMiddles 42 = .ok (.if_icmp .ge 27, 3) := dk_162 0 27 (dk_at dksX1_writeMiddles_1 20 rfl rfl)
theorem dX1_writeMiddles_45 : decode cX1_writeMiddles 45 = .ok (.iload_n 3, 1) := dk_29 (dk_at dksX1_writeMiddles_1 23 rfl rfl)
theorem dX1_writeMiddles_46 : decode cX1_writeMiddles 46 = .ok (.ifCond .le 10, 3) := dk_158 0 10 (dk_at dksX1_writeMiddles_2 0 rfl rfl)
theorem dX1_writeMiddles_49 : decode cX1_writeMiddles 49 = .ok (.aload_n 1, 1) := dk_43 (dk_at dksX1_writeMiddles_2 3 rfl rfl)
theorem dX1_writeMiddles_50 : decode cX1_writeMiddles 50 = .ok (.bipush 32, 2) := dk_16 32 (dk_at dksX1_writeMiddles_2 4 rfl rfl)
theorem dX1_writeMiddles_52 : decode cX1_writeMiddles 52 = .ok (.invokevirtual 447, 3) := dk_182 1 191 (dk_at dksX1_writeMiddles_2 6 rfl rfl)
theorem dX1_writeMiddles_55 : decode cX1_writeMiddles 55 = .ok (.pop, 1) := dk_87 (dk_at dksX1_writeMiddles_2 9 rfl rfl)
theorem dX1_writeMiddles_56 : decode cX1_writeMiddles 56 = .ok (.aload_n 0, 1) := dk_42 (dk_at dksX1_writeMiddles_2 10 rfl rfl)
theorem dX1_writeMiddles_57 : decode cX1_writeMiddles 57 = .ok (.aload_n 1, 1) := dk_43 (dk_at dksX1_writeMiddles_2 11 rfl rfl)
theorem dX1_writeMiddles_58 : decode cX1_writeMiddles 58 = .ok (.iload_n 2, 1) := dk_28 (dk_at dksX1_writeMiddles_2 12 rfl rfl)
theorem dX1_writeMiddles_59 : decode cX1_writeMiddles 59 = .ok (.iload_n 3, 1) := dk_29 (dk_at dksX1_writeMiddles_2 13 rfl rfl)
theorem dX1_writeMiddles_60 : decode cX1_writeMiddles 60 = .ok (.invokevirtual 451, 3) := dk_182 1 195 (dk_at dksX1_writeMiddles_2 14 rfl rfl)
theorem dX1_writeMiddles_63 : decode cX1_writeMiddles 63 = .ok (.iinc 3 1, 3) := dk_132 3 1 (dk_at dksX1_writeMiddles_2 17 rfl rfl)
theorem dX1_writeMiddles_66 : decode cX1_writeMiddles 66 = .ok (.goto (-32), 3) := dk_167 255 224 (dk_at dksX1_writeMiddles_2 20 rfl rfl)
theorem dX1_writeMiddles_69 : decode cX1_writeMiddles 69 = .ok (.iinc 2 1, 3) := dk_132 2 1 (dk_at dksX1_writeMiddles_3 0 rfl rfl)
theorem dX1_writeMiddles_72 : decode cX1_writeMiddles 72 = .ok (.goto (-62), 3) := dk_167 255 194 (dk_at dksX1_writeMiddles_3 3 rfl rfl)
theorem dX1_writeMiddles_75 : decode cX1_writeMiddles 75 = .ok (.aload_n 0, 1) := dk_42 (dk_at dksX1_writeMiddles_3 6 rfl rfl)
theorem dX1_writeMiddles_76 : decode cX1_writeMiddles 76 = .ok (.aload_n 1, 1) := dk_43 (dk_at dksX1_writeMiddles_3 7 rfl rfl)
theorem dX1_writeMiddles_77 : decode cX1_writeMiddles 77 = .ok (.invokevirtual 455, 3) := dk_182 1 199 (dk_at dksX1_writeMiddles_3 8 rfl rfl)
theorem dX1_writeMiddles_80 : decode cX1_writeMiddles 80 = .ok (.ireturn, 1) := dk_172 (dk_at dksX1_writeMiddles_3 11 rfl rfl)
abbrev cX1_writeCell : ByteArray := prog_1_method_74_code
def yX1_writeCell : MethodName := ⟨RX1, "writeCell", "(Ljava/lang/StringBuilder;II)V"⟩
def dkwX1_writeCell_3 : List UInt8 := [21, 4, 160, 0, 10, 43, 16, 46, 182, 1, 191, 87, 177]
abbrev dktX1_writeCell_3 : List UInt8 := dkwX1_writeCell_3 ++ []
def dkwX1_writeCell_2 : List UInt8 := [182, 1, 42, 29, 160, 0, 10, 43, 21, 5, 182, 1, 187, 87, 132, 5, 1, 167, 255, 203, 43, 182, 1, 186]
abbrev dktX1_writeCell_2 : List UInt8 := dkwX1_writeCell_2 ++ dktX1_writeCell_3
def dkwX1_writeCell_1 : List UInt8 := [180, 0, 28, 21, 5, 28, 3, 182, 1, 45, 58, 6, 25, 6, 198, 0, 23, 42, 180, 0, 28, 25, 6]
abbrev dktX1_writeCell_1 : List UInt8 := dkwX1_writeCell_1 ++ dktX1_writeCell_2
def dkwX1_writeCell_0 : List UInt8 := [43, 182, 1, 186, 54, 4, 3, 54, 5, 21, 5, 42, 180, 0, 28, 180, 0, 147, 162, 0, 47, 42]
abbrev dktX1_writeCell_0 : List UInt8 := dkwX1_writeCell_0 ++ dktX1_writeCell_1
theorem dksX1_writeCell_0 : cX1_writeCell.data.toList.drop 0 = dktX1_writeCell_0 := by decide +kernel
theorem dksX1_writeCell_1 : cX1_writeCell.data.toList.drop 22 = dktX1_writeCell_1 := dk_seg dksX1_writeCell_0 22 rfl rfl
theorem dksX1_writeCell_2 : cX1_writeCell.data.toList.drop 45 = dktX1_writeCell_2 := dk_seg dksX1_writeCell_1 23 rfl rfl
theorem dksX1_writeCell_3 : cX1_writeCell.data.toList.drop 69 = dktX1_writeCell_3 := dk_seg dksX1_writeCell_2 24 rfl rfl
theorem dX1_writeCell_0 : decode cX1_writeCell 0 = .ok (.aload_n 1, 1) := dk_43 (dk_at dksX1_writeCell_0 0 rfl rfl)
theorem dX1_writeCell_1 : decode cX1_writeCell 1 = .ok (.invokevirtual 442, 3) := dk_182 1 186 (dk_at dksX1_writeCell_0 1 rfl rfl)
theorem dX1_writeCell_4 : decode cX1_writeCell 4 = .ok (.istore 4, 2) := dk_54 4 (dk_at dksX1_writeCell_0 4 rfl rfl)
theorem dX1_writeCell_6 : decode cX1_writeCell 6 = .ok (.iconst 0, 1) := dk_3 (dk_at dksX1_writeCell_0 6 rfl rfl)
theorem dX1_writeCell_7 : decode cX1_writeCell 7 = .ok (.istore 5, 2) := dk_54 5 (dk_at dksX1_writeCell_0 7 rfl rfl)
theorem dX1_writeCell_9 : decode cX1_writeCell 9 = .ok (.iload 5, 2) := dk_21 5 (dk_at dksX1_writeCell_0 9 rfl rfl)
theorem dX1_writeCell_11 : decode cX1_writeCell 11 = .ok (.aload_n 0, 1) := dk_42 (dk_at dksX1_writeCell_0 11 rfl rfl)
theorem dX1_writeCell_12 : decode cX1_writeCell 12 = .ok (.getfield 28, 3) := dk_180 0 28 (dk_at dksX1_writeCell_0 12 rfl rfl)
theorem dX1_writeCell_15 : decode cX1_writeCell 15 = .ok (.getfield 147, 3) := dk_180 0 147 (dk_at dksX1_writeCell_0 15 rfl rfl)
theorem dX1_writeCell_18 : decode cX1_writeCell 18 = .ok (.if_icmp .ge 47, 3) := dk_162 0 47 (dk_at dksX1_writeCell_0 18 rfl rfl)
theorem dX1_writeCell_21 : decode cX1_writeCell 21 = .ok (.aload_n 0, 1) := dk_42 (dk_at dksX1_writeCell_0 21 rfl rfl)
theorem dX1_writeCell_22 : decode cX1_writeCell 22 = .ok (.getfield 28, 3) := dk_180 0 28 (dk_at dksX1_writeCell_1 0 rfl rfl)
theorem dX1_writeCell_25 : decode cX1_writeCell 25 = .ok (.iload 5, 2) := dk_21 5 (dk_at dksX1_writeCell_1 3 rfl rfl)
theorem dX1_writeCell_27 : decode cX1_writeCell 27 = .ok (.iload_n 2, 1) := dk_28 (dk_at dksX1_writeCell_1 5 rfl rfl)
theorem dX1_writeCell_28 : decode cX1_writeCell 28 = .ok (.iconst 0, 1) := dk_3 (dk_at dksX1_writeCell_1 6 rfl rfl)
theorem dX1_writeCell_29 : decode cX1_writeCell 29 = .ok (.invokevirtual 301, 3) := dk_182 1 45 (dk_at dksX1_writeCell_1 7 rfl rfl)
theorem dX1_writeCell_32 : decode cX1_writeCell 32 = .ok (.astore 6, 2) := dk_58 6 (dk_at dksX1_writeCell_1 10 rfl rfl)
theorem dX1_writeCell_34 : decode cX1_writeCell 34 = .ok (.aload 6, 2) := dk_25 6 (dk_at dksX1_writeCell_1 12 rfl rfl)
theorem dX1_writeCell_36 : decode cX1_writeCell 36 = .ok (.ifnull 23, 3) := dk_198 0 23 (dk_at dksX1_writeCell_1 14 rfl rfl)
theorem dX1_writeCell_39 : decode cX1_writeCell 39 = .ok (.aload_n 0, 1) := dk_42 (dk_at dksX1_writeCell_1 17 rfl rfl)
theorem dX1_writeCell_40 : decode cX1_writeCell 40 = .ok (.getfield 28, 3) := dk_180 0 28 (dk_at dksX1_writeCell_1 18 rfl rfl)
theorem dX1_writeCell_43 : decode cX1_writeCell 43 = .ok (.aload 6, 2) := dk_25 6 (dk_at dksX1_writeCell_1 21 rfl rfl)
theorem dX1_writeCell_45 : decode cX1_writeCell 45 = .ok (.invokevirtual 298, 3) := dk_182 1 42 (dk_at dksX1_writeCell_2 0 rfl rfl)
theorem dX1_writeCell_48 : decode cX1_writeCell 48 = .ok (.iload_n 3, 1) := dk_29 (dk_at dksX1_writeCell_2 3 rfl rfl)
theorem dX1_writeCell_49 : decode cX1_writeCell 49 = .ok (.if_icmp .ne 10, 3) := dk_160 0 10 (dk_at dksX1_writeCell_2 4 rfl rfl)
theorem dX1_writeCell_52 : decode cX1_writeCell 52 = .ok (.aload_n 1, 1) := dk_43 (dk_at dksX1_writeCell_2 7 rfl rfl)
theorem dX1_writeCell_53 : decode cX1_writeCell 53 = .ok (.iload 5, 2) := dk_21 5 (dk_at dksX1_writeCell_2 8 rfl rfl)
theorem dX1_writeCell_55 : decode cX1_writeCell 55 = .ok (.invokevirtual 443, 3) := dk_182 1 187 (dk_at dksX1_writeCell_2 10 rfl rfl)
theorem dX1_writeCell_58 : decode cX1_writeCell 58 = .ok (.pop, 1) := dk_87 (dk_at dksX1_writeCell_2 13 rfl rfl)
theorem dX1_writeCell_59 : decode cX1_writeCell 59 = .ok (.iinc 5 1, 3) := dk_132 5 1 (dk_at dksX1_writeCell_2 14 rfl rfl)
theorem dX1_writeCell_62 : decode cX1_writeCell 62 = .ok (.goto (-53), 3) := dk_167 255 203 (dk_at dksX1_writeCell_2 17 rfl rfl)
theorem dX1_writeCell_65 : decode cX1_writeCell 65 = .ok (.aload_n 1, 1) := dk_43 (dk_at dksX1_writeCell_2 20 rfl rfl)
theorem dX1_writeCell_66 : decode cX1_writeCell 66 = .ok (.invokevirtual 442, 3) := dk_182 1 186 (dk_at dksX1_writeCell_2 21 rfl rfl)
theorem dX1_writeCell_69 : decode cX1_writeCell 69 = .ok (.iload 4, 2) := dk_21 4 (dk_at dksX1_writeCell_3 0 rfl rfl)
theorem dX1_writeCell_71 : decode cX1_writeCell 71 = .ok (.if_icmp .ne 10, 3) := dk_160 0 10 (dk_at dksX1_writeCell_3 2 rfl rfl)
theorem dX1_writeCell_74 : decode cX1_writeCell 74 = .ok (.aload_n 1, 1) := dk_43 (dk_at dksX1_writeCell_3 5 rfl rfl)
theorem dX1_writeCell_75 : decode cX1_writeCell 75 = .ok (.bipush 46, 2) := dk_16 46 (dk_at dksX1_writeCell_3 6 rfl rfl)
theorem dX1_writeCell_77 : decode cX1_writeCell 77 = .ok (.invokevirtual 447, 3) := dk_182 1 191 (dk_at dksX1_writeCell_3 8 rfl rfl)
theorem dX1_writeCell_80 : decode cX1_writeCell 80 = .ok (.pop, 1) := dk_87 (dk_at dksX1_writeCell_3 11 rfl rfl)
theorem dX1_writeCell_81 : decode cX1_writeCell 81 = .ok (.return_, 1) := dk_177 (dk_at dksX1_writeCell_3 12 rfl rfl)
abbrev cX1_write : ByteArray := prog_1_method_73_code
def yX1_write : MethodName := ⟨RX1, "write", "(Ljava/lang/StringBuilder;)I"⟩
def dkwX1_write_0 : List UInt8 := [42, 43, 182, 1, 180, 181, 0, 19, 42, 180, 0, 19, 182, 1, 99, 172]
abbrev dktX1_write_0 : List UInt8 := dkwX1_write_0 ++ []
theorem dksX1_write_0 : cX1_write.data.toList.drop 0 = dktX1_write_0 := by decide +kernel
theorem dX1_write_0 : decode cX1_write 0 = .ok (.aload_n 0, 1) := dk_42 (dk_at dksX1_write_0 0 rfl rfl)
theorem dX1_write_1 : decode cX1_write 1 = .ok (.aload_n 1, 1) := dk_43 (dk_at dksX1_write_0 1 rfl rfl)
theorem dX1_write_2 : decode cX1_write 2 = .ok (.invokevirtual 436, 3) := dk_182 1 180 (dk_at dksX1_write_0 2 rfl rfl)
theorem dX1_write_5 : decode cX1_write 5 = .ok (.putfield 19, 3) := dk_181 0 19 (dk_at dksX1_write_0 5 rfl rfl)
theorem dX1_write_8 : decode cX1_write 8 = .ok (.aload_n 0, 1) := dk_42 (dk_at dksX1_write_0 8 rfl rfl)
theorem dX1_write_9 : decode cX1_write 9 = .ok (.getfield 19, 3) := dk_180 0 19 (dk_at dksX1_write_0 9 rfl rfl)
theorem dX1_write_12 : decode cX1_write 12 = .ok (.invokevirtual 355, 3) := dk_182 1 99 (dk_at dksX1_write_0 12 rfl rfl)
theorem dX1_write_15 : decode cX1_write 15 = .ok (.ireturn, 1) := dk_172 (dk_at dksX1_write_0 15 rfl rfl)
abbrev cX1_writeCalls : ByteArray := prog_1_method_76_code
def yX1_writeCalls : MethodName := ⟨RX1, "writeCalls", "()I"⟩
def dkwX1_writeCalls_4 : List UInt8 := [182, 1, 187, 87, 132, 2, 1, 167, 255, 166, 42, 43, 182, 1, 199, 172]
abbrev dktX1_writeCalls_4 : List UInt8 := dkwX1_writeCalls_4 ++ []
def dkwX1_writeCalls_3 : List UInt8 := [182, 1, 187, 16, 62, 182, 1, 191, 45, 180, 1, 71, 182, 1, 187, 16, 64, 182, 1, 191, 45, 180, 1, 62]
abbrev dktX1_writeCalls_3 : List UInt8 := dkwX1_writeCalls_3 ++ dktX1_writeCalls_4
def dkwX1_writeCalls_2 : List UInt8 := [16, 32, 182, 1, 191, 87, 43, 45, 180, 1, 16, 182, 1, 187, 16, 58, 182, 1, 191, 45, 180, 1, 24]
abbrev dktX1_writeCalls_2 : List UInt8 := dkwX1_writeCalls_2 ++ dktX1_writeCalls_3
def dkwX1_writeCalls_1 : List UInt8 := [180, 0, 28, 180, 1, 35, 28, 50, 78, 45, 199, 0, 6, 167, 0, 62, 43, 182, 1, 186, 158, 0, 10, 43]
abbrev dktX1_writeCalls_1 : List UInt8 := dkwX1_writeCalls_1 ++ dktX1_writeCalls_2
def dkwX1_writeCalls_0 : List UInt8 := [187, 1, 181, 89, 183, 1, 194, 76, 3, 61, 28, 42, 180, 0, 28, 180, 0, 244, 162, 0, 85, 42]
abbrev dktX1_writeCalls_0 : List UInt8 := dkwX1_writeCalls_0 ++ dktX1_writeCalls_1
theorem dksX1_writeCalls_0 : cX1_writeCalls.data.toList.drop 0 = dktX1_writeCalls_0 := by decide +kernel
theorem dksX1_writeCalls_1 : cX1_writeCalls.data.toList.drop 22 = dktX1_writeCalls_1 := dk_seg dksX1_writeCalls_0 22 rfl rfl
theorem dksX1_writeCalls_2 : cX1_writeCalls.data.toList.drop 46 = dktX1_writeCalls_2 := dk_seg dksX1_writeCalls_1 24 rfl rfl
theorem dksX1_writeCalls_3 : cX1_writeCalls.data.toList.drop 69 = dktX1_writeCalls_3 := dk_seg dksX1_writeCalls_2 23 rfl rfl
theorem dksX1_writeCalls_4 : cX1_writeCalls.data.toList.drop 93 = dktX1_writeCalls_4 := dk_seg dksX1_writeCalls_3 24 rfl rfl
theorem dX1_writeCalls_0 : decode cX1_writeCalls 0 = .ok (.new 437, 3) := dk_187 1 181 (dk_at dksX1_writeCalls_0 0 rfl rfl)
theorem dX1_writeCalls_3 : decode cX1_writeCalls 3 = .ok (.dup, 1) := dk_89 (dk_at dksX1_writeCalls_0 3 rfl rfl)
theorem dX1_writeCalls_4 : decode cX1_writeCalls 4 = .ok (.invokespecial 450, 3) := dk_183 1 194 (dk_at dksX1_writeCalls_0 4 rfl rfl)
theorem dX1_writeCalls_7 : decode cX1_writeCalls 7 = .ok (.astore_n 1, 1) := dk_76 (dk_at dksX1_writeCalls_0 7 rfl rfl)
theorem dX1_writeCalls_8 : decode cX1_writeCalls 8 = .ok (.iconst 0, 1) := dk_3 (dk_at dksX1_writeCalls_0 8 rfl rfl)
theorem dX1_writeCalls_9 : decode cX1_writeCalls 9 = .ok (.istore_n 2, 1) := dk_61 (dk_at dksX1_writeCalls_0 9 rfl rfl)
theorem dX1_writeCalls_10 : decode cX1_writeCalls 10 = .ok (.iload_n 2, 1) := dk_28 (dk_at dksX1_writeCalls_0 10 rfl rfl)
theorem dX1_writeCalls_11 : decode cX1_writeCalls 11 = .ok (.aload_n 0, 1) := dk_42 (dk_at dksX1_writeCalls_0 11 rfl rfl)
theorem dX1_writeCalls_12 : decode cX1_writeCalls 12 = .ok (.getfield 28, 3) := dk_180 0 28 (dk_at dksX1_writeCalls_0 12 rfl rfl)
theorem dX1_writeCalls_15 : decode cX1_writeCalls 15 = .ok (.getfield 244, 3) := dk_180 0 244 (dk_at dksX1_writeCalls_0 15 rfl rfl)
theorem dX1_writeCalls_18 : decode cX1_writeCalls 18 = .ok (.if_icmp .ge 85, 3) := dk_162 0 85 (dk_at dksX1_writeCalls_0 18 rfl rfl)
theorem dX1_writeCalls_21 : decode cX1_writeCalls 21 = .ok (.aload_n 0, 1) := dk_42 (dk_at dksX1_writeCalls_0 21 rfl rfl)
theorem dX1_writeCalls_22 : decode cX1_writeCalls 22 = .ok (.getfield 28, 3) := dk_180 0 28 (dk_at dksX1_writeCalls_1 0 rfl rfl)
theorem dX1_writeCalls_25 : decode cX1_writeCalls 25 = .ok (.getfield 291, 3) := dk_180 1 35 (dk_at dksX1_writeCalls_1 3 rfl rfl)
theorem dX1_writeCalls_28 : decode cX1_writeCalls 28 = .ok (.iload_n 2, 1) := dk_28 (dk_at dksX1_writeCalls_1 6 rfl rfl)
theorem dX1_writeCalls_29 : decode cX1_writeCalls 29 = .ok (.aaload, 1) := dk_50 (dk_at dksX1_writeCalls_1 7 rfl rfl)
theorem dX1_writeCalls_30 : decode cX1_writeCalls 30 = .ok (.astore_n 3, 1) := dk_78 (dk_at dksX1_writeCalls_1 8 rfl rfl)
theorem dX1_writeCalls_31 : decode cX1_writeCalls 31 = .ok (.aload_n 3, 1) := dk_45 (dk_at dksX1_writeCalls_1 9 rfl rfl)
theorem dX1_writeCalls_32 : decode cX1_writeCalls 32 = .ok (.ifnonnull 6, 3) := dk_199 0 6 (dk_at dksX1_writeCalls_1 10 rfl rfl)
theorem dX1_writeCalls_35 : decode cX1_writeCalls 35 = .ok (.goto 62, 3) := dk_167 0 62 (dk_at dksX1_writeCalls_1 13 rfl rfl)
theorem dX1_writeCalls_38 : decode cX1_writeCalls 38 = .ok (.aload_n 1, 1) := dk_43 (dk_at dksX1_writeCalls_1 16 rfl rfl)
theorem dX1_writeCalls_39 : decode cX1_writeCalls 39 = .ok (.invokevirtual 442, 3) := dk_182 1 186 (dk_at dksX1_writeCalls_1 17 rfl rfl)
theorem dX1_writeCalls_42 : decode cX1_writeCalls 42 = .ok (.ifCond .le 10, 3) := dk_158 0 10 (dk_at dksX1_writeCalls_1 20 rfl rfl)
theorem dX1_writeCalls_45 : decode cX1_writeCalls 45 = .ok (.aload_n 1, 1) := dk_43 (dk_at dksX1_writeCalls_1 23 rfl rfl)
theorem dX1_writeCalls_46 : decode cX1_writeCalls 46 = .ok (.bipush 32, 2) := dk_16 32 (dk_at dksX1_writeCalls_2 0 rfl rfl)
theorem dX1_writeCalls_48 : decode cX1_writeCalls 48 = .ok (.invokevirtual 447, 3) := dk_182 1 191 (dk_at dksX1_writeCalls_2 2 rfl rfl)
theorem dX1_writeCalls_51 : decode cX1_writeCalls 51 = .ok (.pop, 1) := dk_87 (dk_at dksX1_writeCalls_2 5 rfl rfl)
theorem dX1_writeCalls_52 : decode cX1_writeCalls 52 = .ok (.aload_n 1, 1) := dk_43 (dk_at dksX1_writeCalls_2 6 rfl rfl)
theorem dX1_writeCalls_53 : decode cX1_writeCalls 53 = .ok (.aload_n 3, 1) := dk_45 (dk_at dksX1_writeCalls_2 7 rfl rfl)
theorem dX1_writeCalls_54 : decode cX1_writeCalls 54 = .ok (.getfield 272, 3) := dk_180 1 16 (dk_at dksX1_writeCalls_2 8 rfl rfl)
theorem dX1_writeCalls_57 : decode cX1_writeCalls 57 = .ok (.invokevirtual 443, 3) := dk_182 1 187 (dk_at dksX1_writeCalls_2 11 rfl rfl)
theorem dX1_writeCalls_60 : decode cX1_writeCalls 60 = .ok (.bipush 58, 2) := dk_16 58 (dk_at dksX1_writeCalls_2 14 rfl rfl)
theorem dX1_writeCalls_62 : decode cX1_writeCalls 62 = .ok (.invokevirtual 447, 3) := dk_182 1 191 (dk_at dksX1_writeCalls_2 16 rfl rfl)
theorem dX1_writeCalls_65 : decode cX1_writeCalls 65 = .ok (.aload_n 3, 1) := dk_45 (dk_at dksX1_writeCalls_2 19 rfl rfl)
theorem dX1_writeCalls_66 : decode cX1_writeCalls 66 = .ok (.getfield 280, 3) := dk_180 1 24 (dk_at dksX1_writeCalls_2 20 rfl rfl)
theorem dX1_writeCalls_69 : decode cX1_writeCalls 69 = .ok (.invokevirtual 443, 3) := dk_182 1 187 (dk_at dksX1_writeCalls_3 0 rfl rfl)
theorem dX1_writeCalls_72 : decode cX1_writeCalls 72 = .ok (.bipush 62, 2) := dk_16 62 (dk_at dksX1_writeCalls_3 3 rfl rfl)
theorem dX1_writeCalls_74 : decode cX1_writeCalls 74 = .ok (.invokevirtual 447, 3) := dk_182 1 191 (dk_at dksX1_writeCalls_3 5 rfl rfl)
theorem dX1_writeCalls_77 : decode cX1_writeCalls 77 = .ok (.aload_n 3, 1) := dk_45 (dk_at dksX1_writeCalls_3 8 rfl rfl)
theorem dX1_writeCalls_78 : decode cX1_writeCalls 78 = .ok (.getfield 327, 3) := dk_180 1 71 (dk_at dksX1_writeCalls_3 9 rfl rfl)
theorem dX1_writeCalls_81 : decode cX1_writeCalls 81 = .ok (.invokevirtual 443, 3) := dk_182 1 187 (dk_at dksX1_writeCalls_3 12 rfl rfl)
theorem dX1_writeCalls_84 : decode cX1_writeCalls 84 = .ok (.bipush 64, 2) := dk_16 64 (dk_at dksX1_writeCalls_3 15 rfl rfl)
theorem dX1_writeCalls_86 : decode cX1_writeCalls 86 = .ok (.invokevirtual 447, 3) := dk_182 1 191 (dk_at dksX1_writeCalls_3 17 rfl rfl)
theorem dX1_writeCalls_89 : decode cX1_writeCalls 89 = .ok (.aload_n 3, 1) := dk_45 (dk_at dksX1_writeCalls_3 20 rfl rfl)
theorem dX1_writeCalls_90 : decode cX1_writeCalls 90 = .ok (.getfield 318, 3) := dk_180 1 62 (dk_at dksX1_writeCalls_3 21 rfl rfl)
theorem dX1_writeCalls_93 : decode cX1_writeCalls 93 = .ok (.invokevirtual 443, 3) := dk_182 1 187 (dk_at dksX1_writeCalls_4 0 rfl rfl)
theorem dX1_writeCalls_96 : decode cX1_writeCalls 96 = .ok (.pop, 1) := dk_87 (dk_at dksX1_writeCalls_4 3 rfl rfl)
theorem dX1_writeCalls_97 : decode cX1_writeCalls 97 = .ok (.iinc 2 1, 3) := dk_132 2 1 (dk_at dksX1_writeCalls_4 4 rfl rfl)
theorem dX1_writeCalls_100 : decode cX1_writeCalls 100 = .ok (.goto (-90), 3) := dk_167 255 166 (dk_at dksX1_writeCalls_4 7 rfl rfl)
theorem dX1_writeCalls_103 : decode cX1_writeCalls 103 = .ok (.aload_n 0, 1) := dk_42 (dk_at dksX1_writeCalls_4 10 rfl rfl)
theorem dX1_writeCalls_104 : decode cX1_writeCalls 104 = .ok (.aload_n 1, 1) := dk_43 (dk_at dksX1_writeCalls_4 11 rfl rfl)
theorem dX1_writeCalls_105 : decode cX1_writeCalls 105 = .ok (.invokevirtual 455, 3) := dk_182 1 199 (dk_at dksX1_writeCalls_4 12 rfl rfl)
theorem dX1_writeCalls_108 : decode cX1_writeCalls 108 = .ok (.ireturn, 1) := dk_172 (dk_at dksX1_writeCalls_4 15 rfl rfl)
abbrev cX1_outputByte : ByteArray := prog_1_method_77_code
def yX1_outputByte : MethodName := ⟨RX1, "outputByte", "(I)I"⟩
def dkwX1_outputByte_1 : List UInt8 := [182, 1, 203, 167, 0, 4, 2, 172]
abbrev dktX1_outputByte_1 : List UInt8 := dkwX1_outputByte_1 ++ []
def dkwX1_outputByte_0 : List UInt8 := [27, 3, 42, 180, 0, 19, 182, 1, 99, 4, 100, 184, 0, 73, 153, 0, 14, 42, 180, 0, 19, 27]
abbrev dktX1_outputByte_0 : List UInt8 := dkwX1_outputByte_0 ++ dktX1_outputByte_1
theorem dksX1_outputByte_0 : cX1_outputByte.data.toList.drop 0 = dktX1_outputByte_0 := by decide +kernel
theorem dksX1_outputByte_1 : cX1_outputByte.data.toList.drop 22 = dktX1_outputByte_1 := dk_seg dksX1_outputByte_0 22 rfl rfl
theorem dX1_outputByte_0 : decode cX1_outputByte 0 = .ok (.iload_n 1, 1) := dk_27 (dk_at dksX1_outputByte_0 0 rfl rfl)
theorem dX1_outputByte_1 : decode cX1_outputByte 1 = .ok (.iconst 0, 1) := dk_3 (dk_at dksX1_outputByte_0 1 rfl rfl)
theorem dX1_outputByte_2 : decode cX1_outputByte 2 = .ok (.aload_n 0, 1) := dk_42 (dk_at dksX1_outputByte_0 2 rfl rfl)
theorem dX1_outputByte_3 : decode cX1_outputByte 3 = .ok (.getfield 19, 3) := dk_180 0 19 (dk_at dksX1_outputByte_0 3 rfl rfl)
theorem dX1_outputByte_6 : decode cX1_outputByte 6 = .ok (.invokevirtual 355, 3) := dk_182 1 99 (dk_at dksX1_outputByte_0 6 rfl rfl)
theorem dX1_outputByte_9 : decode cX1_outputByte 9 = .ok (.iconst 1, 1) := dk_4 (dk_at dksX1_outputByte_0 9 rfl rfl)
theorem dX1_outputByte_10 : decode cX1_outputByte 10 = .ok (.isub, 1) := dk_100 (dk_at dksX1_outputByte_0 10 rfl rfl)
theorem dX1_outputByte_11 : decode cX1_outputByte 11 = .ok (.invokestatic 73, 3) := dk_184 0 73 (dk_at dksX1_outputByte_0 11 rfl rfl)
theorem dX1_outputByte_14 : decode cX1_outputByte 14 = .ok (.ifCond .eq 14, 3) := dk_153 0 14 (dk_at dksX1_outputByte_0 14 rfl rfl)
theorem dX1_outputByte_17 : decode cX1_outputByte 17 = .ok (.aload_n 0, 1) := dk_42 (dk_at dksX1_outputByte_0 17 rfl rfl)
theorem dX1_outputByte_18 : decode cX1_outputByte 18 = .ok (.getfield 19, 3) := dk_180 0 19 (dk_at dksX1_outputByte_0 18 rfl rfl)
theorem dX1_outputByte_21 : decode cX1_outputByte 21 = .ok (.iload_n 1, 1) := dk_27 (dk_at dksX1_outputByte_0 21 rfl rfl)
theorem dX1_outputByte_22 : decode cX1_outputByte 22 = .ok (.invokevirtual 459, 3) := dk_182 1 203 (dk_at dksX1_outputByte_1 0 rfl rfl)
theorem dX1_outputByte_25 : decode cX1_outputByte 25 = .ok (.goto 4, 3) := dk_167 0 4 (dk_at dksX1_outputByte_1 3 rfl rfl)
theorem dX1_outputByte_28 : decode cX1_outputByte 28 = .ok (.iconst (-1), 1) := dk_2 (dk_at dksX1_outputByte_1 6 rfl rfl)
theorem dX1_outputByte_29 : decode cX1_outputByte 29 = .ok (.ireturn, 1) := dk_172 (dk_at dksX1_outputByte_1 7 rfl rfl)
abbrev cX1_truncate : ByteArray := prog_1_method_5_code
def yX1_truncate : MethodName := ⟨RX1, "truncate", "(I)I"⟩
def dkwX1_truncate_0 : List UInt8 := [27, 3, 42, 180, 0, 66, 184, 0, 73, 184, 0, 77, 42, 27, 181, 0, 66, 27, 172]
abbrev dktX1_truncate_0 : List UInt8 := dkwX1_truncate_0 ++ []
theorem dksX1_truncate_0 : cX1_truncate.data.toList.drop 0 = dktX1_truncate_0 := by decide +kernel
theorem dX1_truncate_0 : decode cX1_truncate 0 = .ok (.iload_n 1, 1) := dk_27 (dk_at dksX1_truncate_0 0 rfl rfl)
theorem dX1_truncate_1 : decode cX1_truncate 1 = .ok (.iconst 0, 1) := dk_3 (dk_at dksX1_truncate_0 1 rfl rfl)
theorem dX1_truncate_2 : decode cX1_truncate 2 = .ok (.aload_n 0, 1) := dk_42 (dk_at dksX1_truncate_0 2 rfl rfl)
theorem dX1_truncate_3 : decode cX1_truncate 3 = .ok (.getfield 66, 3) := dk_180 0 66 (dk_at dksX1_truncate_0 3 rfl rfl)
theorem dX1_truncate_6 : decode cX1_truncate 6 = .ok (.invokestatic 73, 3) := dk_184 0 73 (dk_at dksX1_truncate_0 6 rfl rfl)
theorem dX1_truncate_9 : decode cX1_truncate 9 = .ok (.invokestatic 77, 3) := dk_184 0 77 (dk_at dksX1_truncate_0 9 rfl rfl)
theorem dX1_truncate_12 : decode cX1_truncate 12 = .ok (.aload_n 0, 1) := dk_42 (dk_at dksX1_truncate_0 12 rfl rfl)
theorem dX1_truncate_13 : decode cX1_truncate 13 = .ok (.iload_n 1, 1) := dk_27 (dk_at dksX1_truncate_0 13 rfl rfl)
theorem dX1_truncate_14 : decode cX1_truncate 14 = .ok (.putfield 66, 3) := dk_181 0 66 (dk_at dksX1_truncate_0 14 rfl rfl)
theorem dX1_truncate_17 : decode cX1_truncate 17 = .ok (.iload_n 1, 1) := dk_27 (dk_at dksX1_truncate_0 17 rfl rfl)
theorem dX1_truncate_18 : decode cX1_truncate 18 = .ok (.ireturn, 1) := dk_172 (dk_at dksX1_truncate_0 18 rfl rfl)
abbrev cX1_needArgument : ByteArray := prog_1_method_12_code
def yX1_needArgument : MethodName := ⟨RX1, "needArgument", "(Z)V"⟩
def dkwX1_needArgument_0 : List UInt8 := [26, 154, 0, 11, 187, 0, 126, 89, 183, 0, 128, 191, 177]
abbrev dktX1_needArgument_0 : List UInt8 := dkwX1_needArgument_0 ++ []
theorem dksX1_needArgument_0 : cX1_needArgument.data.toList.drop 0 = dktX1_needArgument_0 := by decide +kernel
theorem dX1_needArgument_0 : decode cX1_needArgument 0 = .ok (.iload_n 0, 1) := dk_26 (dk_at dksX1_needArgument_0 0 rfl rfl)
theorem dX1_needArgument_1 : decode cX1_needArgument 1 = .ok (.ifCond .ne 11, 3) := dk_154 0 11 (dk_at dksX1_needArgument_0 1 rfl rfl)
theorem dX1_needArgument_4 : decode cX1_needArgument 4 = .ok (.new 126, 3) := dk_187 0 126 (dk_at dksX1_needArgument_0 4 rfl rfl)
theorem dX1_needArgument_7 : decode cX1_needArgument 7 = .ok (.dup, 1) := dk_89 (dk_at dksX1_needArgument_0 7 rfl rfl)
theorem dX1_needArgument_8 : decode cX1_needArgument 8 = .ok (.invokespecial 128, 3) := dk_183 0 128 (dk_at dksX1_needArgument_0 8 rfl rfl)
theorem dX1_needArgument_11 : decode cX1_needArgument 11 = .ok (.athrow, 1) := dk_191 (dk_at dksX1_needArgument_0 11 rfl rfl)
theorem dX1_needArgument_12 : decode cX1_needArgument 12 = .ok (.return_, 1) := dk_177 (dk_at dksX1_needArgument_0 12 rfl rfl)
abbrev cX1_call : ByteArray := prog_1_method_24_code
def yX1_call : MethodName := ⟨RX1, "call", "(III)I"⟩
def dkwX1_call_0 : List UInt8 := [42, 27, 28, 182, 0, 162, 29, 184, 0, 166, 42, 182, 0, 169, 27, 28, 29, 182, 0, 172, 172]
abbrev dktX1_call_0 : List UInt8 := dkwX1_call_0 ++ []
theorem dksX1_call_0 : cX1_call.data.toList.drop 0 = dktX1_call_0 := by decide +kernel
theorem dX1_call_0 : decode cX1_call 0 = .ok (.aload_n 0, 1) := dk_42 (dk_at dksX1_call_0 0 rfl rfl)
theorem dX1_call_1 : decode cX1_call 1 = .ok (.iload_n 1, 1) := dk_27 (dk_at dksX1_call_0 1 rfl rfl)
theorem dX1_call_2 : decode cX1_call 2 = .ok (.iload_n 2, 1) := dk_28 (dk_at dksX1_call_0 2 rfl rfl)
theorem dX1_call_3 : decode cX1_call 3 = .ok (.invokevirtual 162, 3) := dk_182 0 162 (dk_at dksX1_call_0 3 rfl rfl)
theorem dX1_call_6 : decode cX1_call 6 = .ok (.iload_n 3, 1) := dk_29 (dk_at dksX1_call_0 6 rfl rfl)
theorem dX1_call_7 : decode cX1_call 7 = .ok (.invokestatic 166, 3) := dk_184 0 166 (dk_at dksX1_call_0 7 rfl rfl)
theorem dX1_call_10 : decode cX1_call 10 = .ok (.aload_n 0, 1) := dk_42 (dk_at dksX1_call_0 10 rfl rfl)
theorem dX1_call_11 : decode cX1_call 11 = .ok (.invokevirtual 169, 3) := dk_182 0 169 (dk_at dksX1_call_0 11 rfl rfl)
theorem dX1_call_14 : decode cX1_call 14 = .ok (.iload_n 1, 1) := dk_27 (dk_at dksX1_call_0 14 rfl rfl)
theorem dX1_call_15 : decode cX1_call 15 = .ok (.iload_n 2, 1) := dk_28 (dk_at dksX1_call_0 15 rfl rfl)
theorem dX1_call_16 : decode cX1_call 16 = .ok (.iload_n 3, 1) := dk_29 (dk_at dksX1_call_0 16 rfl rfl)
theorem dX1_call_17 : decode cX1_call 17 = .ok (.invokevirtual 172, 3) := dk_182 0 172 (dk_at dksX1_call_0 17 rfl rfl)
theorem dX1_call_20 : decode cX1_call 20 = .ok (.ireturn, 1) := dk_172 (dk_at dksX1_call_0 20 rfl rfl)
abbrev cX1_needTwo : ByteArray := prog_1_method_16_code
def yX1_needTwo : MethodName := ⟨RX1, "needTwo", "(II)V"⟩
def dkwX1_needTwo_0 : List UInt8 := [42, 27, 182, 0, 141, 42, 28, 182, 0, 141, 27, 28, 159, 0, 7, 4, 167, 0, 4, 3, 184, 0, 77, 177]
abbrev dktX1_needTwo_0 : List UInt8 := dkwX1_needTwo_0 ++ []
theorem dksX1_needTwo_0 : cX1_needTwo.data.toList.drop 0 = dktX1_needTwo_0 := by decide +kernel
theorem dX1_needTwo_0 : decode cX1_needTwo 0 = .ok (.aload_n 0, 1) := dk_42 (dk_at dksX1_needTwo_0 0 rfl rfl)
theorem dX1_needTwo_1 : decode cX1_needTwo 1 = .ok (.iload_n 1, 1) := dk_27 (dk_at dksX1_needTwo_0 1 rfl rfl)
theorem dX1_needTwo_2 : decode cX1_needTwo 2 = .ok (.invokevirtual 141, 3) := dk_182 0 141 (dk_at dksX1_needTwo_0 2 rfl rfl)
theorem dX1_needTwo_5 : decode cX1_needTwo 5 = .ok (.aload_n 0, 1) := dk_42 (dk_at dksX1_needTwo_0 5 rfl rfl)
theorem dX1_needTwo_6 : decode cX1_needTwo 6 = .ok (.iload_n 2, 1) := dk_28 (dk_at dksX1_needTwo_0 6 rfl rfl)
theorem dX1_needTwo_7 : decode cX1_needTwo 7 = .ok (.invokevirtual 141, 3) := dk_182 0 141 (dk_at dksX1_needTwo_0 7 rfl rfl)
theorem dX1_needTwo_10 : decode cX1_needTwo 10 = .ok (.iload_n 1, 1) := dk_27 (dk_at dksX1_needTwo_0 10 rfl rfl)
theorem dX1_needTwo_11 : decode cX1_needTwo 11 = .ok (.iload_n 2, 1) := dk_28 (dk_at dksX1_needTwo_0 11 rfl rfl)
theorem dX1_needTwo_12 : decode cX1_needTwo 12 = .ok (.if_icmp .eq 7, 3) := dk_159 0 7 (dk_at dksX1_needTwo_0 12 rfl rfl)
theorem dX1_needTwo_15 : decode cX1_needTwo 15 = .ok (.iconst 1, 1) := dk_4 (dk_at dksX1_needTwo_0 15 rfl rfl)
theorem dX1_needTwo_16 : decode cX1_needTwo 16 = .ok (.goto 4, 3) := dk_167 0 4 (dk_at dksX1_needTwo_0 16 rfl rfl)
theorem dX1_needTwo_19 : decode cX1_needTwo 19 = .ok (.iconst 0, 1) := dk_3 (dk_at dksX1_needTwo_0 19 rfl rfl)
theorem dX1_needTwo_20 : decode cX1_needTwo 20 = .ok (.invokestatic 77, 3) := dk_184 0 77 (dk_at dksX1_needTwo_0 20 rfl rfl)
theorem dX1_needTwo_23 : decode cX1_needTwo 23 = .ok (.return_, 1) := dk_177 (dk_at dksX1_needTwo_0 23 rfl rfl)
abbrev cX1_needSubscriber : ByteArray := prog_1_method_15_code
def yX1_needSubscriber : MethodName := ⟨RX1, "needSubscriber", "(I)V"⟩
def dkwX1_needSubscriber_0 : List UInt8 := [27, 3, 42, 180, 0, 28, 182, 0, 135, 4, 100, 184, 0, 73, 184, 0, 138, 177]
abbrev dktX1_needSubscriber_0 : List UInt8 := dkwX1_needSubscriber_0 ++ []
theorem dksX1_needSubscriber_0 : cX1_needSubscriber.data.toList.drop 0 = dktX1_needSubscriber_0 := by decide +kernel
theorem dX1_needSubscriber_0 : decode cX1_needSubscriber 0 = .ok (.iload_n 1, 1) := dk_27 (dk_at dksX1_needSubscriber_0 0 rfl rfl)
theorem dX1_needSubscriber_1 : decode cX1_needSubscriber 1 = .ok (.iconst 0, 1) := dk_3 (dk_at dksX1_needSubscriber_0 1 rfl rfl)
theorem dX1_needSubscriber_2 : decode cX1_needSubscriber 2 = .ok (.aload_n 0, 1) := dk_42 (dk_at dksX1_needSubscriber_0 2 rfl rfl)
theorem dX1_needSubscriber_3 : decode cX1_needSubscriber 3 = .ok (.getfield 28, 3) := dk_180 0 28 (dk_at dksX1_needSubscriber_0 3 rfl rfl)
theorem dX1_needSubscriber_6 : decode cX1_needSubscriber 6 = .ok (.invokevirtual 135, 3) := dk_182 0 135 (dk_at dksX1_needSubscriber_0 6 rfl rfl)
theorem dX1_needSubscriber_9 : decode cX1_needSubscriber 9 = .ok (.iconst 1, 1) := dk_4 (dk_at dksX1_needSubscriber_0 9 rfl rfl)
theorem dX1_needSubscriber_10 : decode cX1_needSubscriber 10 = .ok (.isub, 1) := dk_100 (dk_at dksX1_needSubscriber_0 10 rfl rfl)
theorem dX1_needSubscriber_11 : decode cX1_needSubscriber 11 = .ok (.invokestatic 73, 3) := dk_184 0 73 (dk_at dksX1_needSubscriber_0 11 rfl rfl)
theorem dX1_needSubscriber_14 : decode cX1_needSubscriber 14 = .ok (.invokestatic 138, 3) := dk_184 0 138 (dk_at dksX1_needSubscriber_0 14 rfl rfl)
theorem dX1_needSubscriber_17 : decode cX1_needSubscriber 17 = .ok (.return_, 1) := dk_177 (dk_at dksX1_needSubscriber_0 17 rfl rfl)
abbrev cX1_needIndex : ByteArray := prog_1_method_13_code
def yX1_needIndex : MethodName := ⟨RX1, "needIndex", "(Z)V"⟩
def dkwX1_needIndex_0 : List UInt8 := [26, 154, 0, 11, 187, 0, 129, 89, 183, 0, 131, 191, 177]
abbrev dktX1_needIndex_0 : List UInt8 := dkwX1_needIndex_0 ++ []
theorem dksX1_needIndex_0 : cX1_needIndex.data.toList.drop 0 = dktX1_needIndex_0 := by decide +kernel
theorem dX1_needIndex_0 : decode cX1_needIndex 0 = .ok (.iload_n 0, 1) := dk_26 (dk_at dksX1_needIndex_0 0 rfl rfl)
theorem dX1_needIndex_1 : decode cX1_needIndex 1 = .ok (.ifCond .ne 11, 3) := dk_154 0 11 (dk_at dksX1_needIndex_0 1 rfl rfl)
theorem dX1_needIndex_4 : decode cX1_needIndex 4 = .ok (.new 129, 3) := dk_187 0 129 (dk_at dksX1_needIndex_0 4 rfl rfl)
theorem dX1_needIndex_7 : decode cX1_needIndex 7 = .ok (.dup, 1) := dk_89 (dk_at dksX1_needIndex_0 7 rfl rfl)
theorem dX1_needIndex_8 : decode cX1_needIndex 8 = .ok (.invokespecial 131, 3) := dk_183 0 131 (dk_at dksX1_needIndex_0 8 rfl rfl)
theorem dX1_needIndex_11 : decode cX1_needIndex 11 = .ok (.athrow, 1) := dk_191 (dk_at dksX1_needIndex_0 11 rfl rfl)
theorem dX1_needIndex_12 : decode cX1_needIndex 12 = .ok (.return_, 1) := dk_177 (dk_at dksX1_needIndex_0 12 rfl rfl)
abbrev cX1_needLasts : ByteArray := prog_1_method_21_code
def yX1_needLasts : MethodName := ⟨RX1, "needLasts", "(I)V"⟩
def dkwX1_needLasts_0 : List UInt8 := [26, 3, 16, 99, 184, 0, 73, 184, 0, 77, 177]
abbrev dktX1_needLasts_0 : List UInt8 := dkwX1_needLasts_0 ++ []
theorem dksX1_needLasts_0 : cX1_needLasts.data.toList.drop 0 = dktX1_needLasts_0 := by decide +kernel
theorem dX1_needLasts_0 : decode cX1_needLasts 0 = .ok (.iload_n 0, 1) := dk_26 (dk_at dksX1_needLasts_0 0 rfl rfl)
theorem dX1_needLasts_1 : decode cX1_needLasts 1 = .ok (.iconst 0, 1) := dk_3 (dk_at dksX1_needLasts_0 1 rfl rfl)
theorem dX1_needLasts_2 : decode cX1_needLasts 2 = .ok (.bipush 99, 2) := dk_16 99 (dk_at dksX1_needLasts_0 2 rfl rfl)
theorem dX1_needLasts_4 : decode cX1_needLasts 4 = .ok (.invokestatic 73, 3) := dk_184 0 73 (dk_at dksX1_needLasts_0 4 rfl rfl)
theorem dX1_needLasts_7 : decode cX1_needLasts 7 = .ok (.invokestatic 77, 3) := dk_184 0 77 (dk_at dksX1_needLasts_0 7 rfl rfl)
theorem dX1_needLasts_10 : decode cX1_needLasts 10 = .ok (.return_, 1) := dk_177 (dk_at dksX1_needLasts_0 10 rfl rfl)
abbrev cX1_dial : ByteArray := prog_1_method_25_code
def yX1_dial : MethodName := ⟨RX1, "dial", "(III)I"⟩
def dkwX1_dial_1 : List UInt8 := [172]
abbrev dktX1_dial_1 : List UInt8 := dkwX1_dial_1 ++ []
def dkwX1_dial_0 : List UInt8 := [42, 27, 182, 0, 141, 42, 28, 182, 0, 176, 29, 184, 0, 166, 42, 182, 0, 169, 27, 28, 29, 182, 0, 179]
abbrev dktX1_dial_0 : List UInt8 := dkwX1_dial_0 ++ dktX1_dial_1
theorem dksX1_dial_0 : cX1_dial.data.toList.drop 0 = dktX1_dial_0 := by decide +kernel
theorem dksX1_dial_1 : cX1_dial.data.toList.drop 24 = dktX1_dial_1 := dk_seg dksX1_dial_0 24 rfl rfl
theorem dX1_dial_0 : decode cX1_dial 0 = .ok (.aload_n 0, 1) := dk_42 (dk_at dksX1_dial_0 0 rfl rfl)
theorem dX1_dial_1 : decode cX1_dial 1 = .ok (.iload_n 1, 1) := dk_27 (dk_at dksX1_dial_0 1 rfl rfl)
theorem dX1_dial_2 : decode cX1_dial 2 = .ok (.invokevirtual 141, 3) := dk_182 0 141 (dk_at dksX1_dial_0 2 rfl rfl)
theorem dX1_dial_5 : decode cX1_dial 5 = .ok (.aload_n 0, 1) := dk_42 (dk_at dksX1_dial_0 5 rfl rfl)
theorem dX1_dial_6 : decode cX1_dial 6 = .ok (.iload_n 2, 1) := dk_28 (dk_at dksX1_dial_0 6 rfl rfl)
theorem dX1_dial_7 : decode cX1_dial 7 = .ok (.invokevirtual 176, 3) := dk_182 0 176 (dk_at dksX1_dial_0 7 rfl rfl)
theorem dX1_dial_10 : decode cX1_dial 10 = .ok (.iload_n 3, 1) := dk_29 (dk_at dksX1_dial_0 10 rfl rfl)
theorem dX1_dial_11 : decode cX1_dial 11 = .ok (.invokestatic 166, 3) := dk_184 0 166 (dk_at dksX1_dial_0 11 rfl rfl)
theorem dX1_dial_14 : decode cX1_dial 14 = .ok (.aload_n 0, 1) := dk_42 (dk_at dksX1_dial_0 14 rfl rfl)
theorem dX1_dial_15 : decode cX1_dial 15 = .ok (.invokevirtual 169, 3) := dk_182 0 169 (dk_at dksX1_dial_0 15 rfl rfl)
theorem dX1_dial_18 : decode cX1_dial 18 = .ok (.iload_n 1, 1) := dk_27 (dk_at dksX1_dial_0 18 rfl rfl)
theorem dX1_dial_19 : decode cX1_dial 19 = .ok (.iload_n 2, 1) := dk_28 (dk_at dksX1_dial_0 19 rfl rfl)
theorem dX1_dial_20 : decode cX1_dial 20 = .ok (.iload_n 3, 1) := dk_29 (dk_at dksX1_dial_0 20 rfl rfl)
theorem dX1_dial_21 : decode cX1_dial 21 = .ok (.invokevirtual 179, 3) := dk_182 0 179 (dk_at dksX1_dial_0 21 rfl rfl)
theorem dX1_dial_24 : decode cX1_dial 24 = .ok (.ireturn, 1) := dk_172 (dk_at dksX1_dial_1 0 rfl rfl)
abbrev cX1_needGroup : ByteArray := prog_1_method_19_code
def yX1_needGroup : MethodName := ⟨RX1, "needGroup", "(I)V"⟩
def dkwX1_needGroup_0 : List UInt8 := [27, 3, 42, 180, 0, 28, 180, 0, 150, 185, 0, 153, 1, 0, 4, 100, 184, 0, 73, 184, 0, 138, 177]
abbrev dktX1_needGroup_0 : List UInt8 := dkwX1_needGroup_0 ++ []
theorem dksX1_needGroup_0 : cX1_needGroup.data.toList.drop 0 = dktX1_needGroup_0 := by decide +kernel
theorem dX1_needGroup_0 : decode cX1_needGroup 0 = .ok (.iload_n 1, 1) := dk_27 (dk_at dksX1_needGroup_0 0 rfl rfl)
theorem dX1_needGroup_1 : decode cX1_needGroup 1 = .ok (.iconst 0, 1) := dk_3 (dk_at dksX1_needGroup_0 1 rfl rfl)
theorem dX1_needGroup_2 : decode cX1_needGroup 2 = .ok (.aload_n 0, 1) := dk_42 (dk_at dksX1_needGroup_0 2 rfl rfl)
theorem dX1_needGroup_3 : decode cX1_needGroup 3 = .ok (.getfield 28, 3) := dk_180 0 28 (dk_at dksX1_needGroup_0 3 rfl rfl)
theorem dX1_needGroup_6 : decode cX1_needGroup 6 = .ok (.getfield 150, 3) := dk_180 0 150 (dk_at dksX1_needGroup_0 6 rfl rfl)
theorem dX1_needGroup_9 : decode cX1_needGroup 9 = .ok (.invokeinterface 153 1, 5) := by decide +kernel
theorem dX1_needGroup_14 : decode cX1_needGroup 14 = .ok (.iconst 1, 1) := dk_4 (dk_at dksX1_needGroup_0 14 rfl rfl)
theorem dX1_needGroup_15 : decode cX1_needGroup 15 = .ok (.isub, 1) := dk_100 (dk_at dksX1_needGroup_0 15 rfl rfl)
theorem dX1_needGroup_16 : decode cX1_needGroup 16 = .ok (.invokestatic 73, 3) := dk_184 0 73 (dk_at dksX1_needGroup_0 16 rfl rfl)
theorem dX1_needGroup_19 : decode cX1_needGroup 19 = .ok (.invokestatic 138, 3) := dk_184 0 138 (dk_at dksX1_needGroup_0 19 rfl rfl)
theorem dX1_needGroup_22 : decode cX1_needGroup 22 = .ok (.return_, 1) := dk_177 (dk_at dksX1_needGroup_0 22 rfl rfl)
abbrev cX1_hangUp : ByteArray := prog_1_method_26_code
def yX1_hangUp : MethodName := ⟨RX1, "hangUp", "(I)I"⟩
def dkwX1_hangUp_1 : List UInt8 := [42, 182, 0, 169, 27, 182, 0, 189, 172]
abbrev dktX1_hangUp_1 : List UInt8 := dkwX1_hangUp_1 ++ []
def dkwX1_hangUp_0 : List UInt8 := [42, 27, 182, 0, 141, 42, 180, 0, 28, 27, 182, 0, 182, 154, 0, 7, 4, 167, 0, 4, 3, 184, 0, 186]
abbrev dktX1_hangUp_0 : List UInt8 := dkwX1_hangUp_0 ++ dktX1_hangUp_1
theorem dksX1_hangUp_0 : cX1_hangUp.data.toList.drop 0 = dktX1_hangUp_0 := by decide +kernel
theorem dksX1_hangUp_1 : cX1_hangUp.data.toList.drop 24 = dktX1_hangUp_1 := dk_seg dksX1_hangUp_0 24 rfl rfl
theorem dX1_hangUp_0 : decode cX1_hangUp 0 = .ok (.aload_n 0, 1) := dk_42 (dk_at dksX1_hangUp_0 0 rfl rfl)
theorem dX1_hangUp_1 : decode cX1_hangUp 1 = .ok (.iload_n 1, 1) := dk_27 (dk_at dksX1_hangUp_0 1 rfl rfl)
theorem dX1_hangUp_2 : decode cX1_hangUp 2 = .ok (.invokevirtual 141, 3) := dk_182 0 141 (dk_at dksX1_hangUp_0 2 rfl rfl)
theorem dX1_hangUp_5 : decode cX1_hangUp 5 = .ok (.aload_n 0, 1) := dk_42 (dk_at dksX1_hangUp_0 5 rfl rfl)
theorem dX1_hangUp_6 : decode cX1_hangUp 6 = .ok (.getfield 28, 3) := dk_180 0 28 (dk_at dksX1_hangUp_0 6 rfl rfl)
theorem dX1_hangUp_9 : decode cX1_hangUp 9 = .ok (.iload_n 1, 1) := dk_27 (dk_at dksX1_hangUp_0 9 rfl rfl)
theorem dX1_hangUp_10 : decode cX1_hangUp 10 = .ok (.invokevirtual 182, 3) := dk_182 0 182 (dk_at dksX1_hangUp_0 10 rfl rfl)
theorem dX1_hangUp_13 : decode cX1_hangUp 13 = .ok (.ifCond .ne 7, 3) := dk_154 0 7 (dk_at dksX1_hangUp_0 13 rfl rfl)
theorem dX1_hangUp_16 : decode cX1_hangUp 16 = .ok (.iconst 1, 1) := dk_4 (dk_at dksX1_hangUp_0 16 rfl rfl)
theorem dX1_hangUp_17 : decode cX1_hangUp 17 = .ok (.goto 4, 3) := dk_167 0 4 (dk_at dksX1_hangUp_0 17 rfl rfl)
theorem dX1_hangUp_20 : decode cX1_hangUp 20 = .ok (.iconst 0, 1) := dk_3 (dk_at dksX1_hangUp_0 20 rfl rfl)
theorem dX1_hangUp_21 : decode cX1_hangUp 21 = .ok (.invokestatic 186, 3) := dk_184 0 186 (dk_at dksX1_hangUp_0 21 rfl rfl)
theorem dX1_hangUp_24 : decode cX1_hangUp 24 = .ok (.aload_n 0, 1) := dk_42 (dk_at dksX1_hangUp_1 0 rfl rfl)
theorem dX1_hangUp_25 : decode cX1_hangUp 25 = .ok (.invokevirtual 169, 3) := dk_182 0 169 (dk_at dksX1_hangUp_1 1 rfl rfl)
theorem dX1_hangUp_28 : decode cX1_hangUp 28 = .ok (.iload_n 1, 1) := dk_27 (dk_at dksX1_hangUp_1 4 rfl rfl)
theorem dX1_hangUp_29 : decode cX1_hangUp 29 = .ok (.invokevirtual 189, 3) := dk_182 0 189 (dk_at dksX1_hangUp_1 5 rfl rfl)
theorem dX1_hangUp_32 : decode cX1_hangUp 32 = .ok (.ireturn, 1) := dk_172 (dk_at dksX1_hangUp_1 8 rfl rfl)
abbrev cX1_needState : ByteArray := prog_1_method_14_code
def yX1_needState : MethodName := ⟨RX1, "needState", "(Z)V"⟩
def dkwX1_needState_0 : List UInt8 := [26, 154, 0, 11, 187, 0, 132, 89, 183, 0, 134, 191, 177]
abbrev dktX1_needState_0 : List UInt8 := dkwX1_needState_0 ++ []
theorem dksX1_needState_0 : cX1_needState.data.toList.drop 0 = dktX1_needState_0 := by decide +kernel
theorem dX1_needState_0 : decode cX1_needState 0 = .ok (.iload_n 0, 1) := dk_26 (dk_at dksX1_needState_0 0 rfl rfl)
theorem dX1_needState_1 : decode cX1_needState 1 = .ok (.ifCond .ne 11, 3) := dk_154 0 11 (dk_at dksX1_needState_0 1 rfl rfl)
theorem dX1_needState_4 : decode cX1_needState 4 = .ok (.new 132, 3) := dk_187 0 132 (dk_at dksX1_needState_0 4 rfl rfl)
theorem dX1_needState_7 : decode cX1_needState 7 = .ok (.dup, 1) := dk_89 (dk_at dksX1_needState_0 7 rfl rfl)
theorem dX1_needState_8 : decode cX1_needState 8 = .ok (.invokespecial 134, 3) := dk_183 0 134 (dk_at dksX1_needState_0 8 rfl rfl)
theorem dX1_needState_11 : decode cX1_needState 11 = .ok (.athrow, 1) := dk_191 (dk_at dksX1_needState_0 11 rfl rfl)
theorem dX1_needState_12 : decode cX1_needState 12 = .ok (.return_, 1) := dk_177 (dk_at dksX1_needState_0 12 rfl rfl)
abbrev cX1_tick : ByteArray := prog_1_method_27_code
def yX1_tick : MethodName := ⟨RX1, "tick", "(I)I"⟩
def dkwX1_tick_1 : List UInt8 := [163, 0, 7, 4, 167, 0, 4, 3, 184, 0, 186, 42, 182, 0, 169, 27, 182, 0, 196, 172]
abbrev dktX1_tick_1 : List UInt8 := dkwX1_tick_1 ++ []
def dkwX1_tick_0 : List UInt8 := [27, 4, 16, 100, 184, 0, 73, 184, 0, 77, 42, 180, 0, 28, 180, 0, 193, 27, 96, 17, 39, 15]
abbrev dktX1_tick_0 : List UInt8 := dkwX1_tick_0 ++ dktX1_tick_1
theorem dksX1_tick_0 : cX1_tick.data.toList.drop 0 = dktX1_tick_0 := by decide +kernel
theorem dksX1_tick_1 : cX1_tick.data.toList.drop 22 = dktX1_tick_1 := dk_seg dksX1_tick_0 22 rfl rfl
theorem dX1_tick_0 : decode cX1_tick 0 = .ok (.iload_n 1, 1) := dk_27 (dk_at dksX1_tick_0 0 rfl rfl)
theorem dX1_tick_1 : decode cX1_tick 1 = .ok (.iconst 1, 1) := dk_4 (dk_at dksX1_tick_0 1 rfl rfl)
theorem dX1_tick_2 : decode cX1_tick 2 = .ok (.bipush 100, 2) := dk_16 100 (dk_at dksX1_tick_0 2 rfl rfl)
theorem dX1_tick_4 : decode cX1_tick 4 = .ok (.invokestatic 73, 3) := dk_184 0 73 (dk_at dksX1_tick_0 4 rfl rfl)
theorem dX1_tick_7 : decode cX1_tick 7 = .ok (.invokestatic 77, 3) := dk_184 0 77 (dk_at dksX1_tick_0 7 rfl rfl)
theorem dX1_tick_10 : decode cX1_tick 10 = .ok (.aload_n 0, 1) := dk_42 (dk_at dksX1_tick_0 10 rfl rfl)
theorem dX1_tick_11 : decode cX1_tick 11 = .ok (.getfield 28, 3) := dk_180 0 28 (dk_at dksX1_tick_0 11 rfl rfl)
theorem dX1_tick_14 : decode cX1_tick 14 = .ok (.getfield 193, 3) := dk_180 0 193 (dk_at dksX1_tick_0 14 rfl rfl)
theorem dX1_tick_17 : decode cX1_tick 17 = .ok (.iload_n 1, 1) := dk_27 (dk_at dksX1_tick_0 17 rfl rfl)
theorem dX1_tick_18 : decode cX1_tick 18 = .ok (.iadd, 1) := dk_96 (dk_at dksX1_tick_0 18 rfl rfl)
theorem dX1_tick_19 : decode cX1_tick 19 = .ok (.sipush 9999, 3) := dk_17 39 15 (dk_at dksX1_tick_0 19 rfl rfl)
theorem dX1_tick_22 : decode cX1_tick 22 = .ok (.if_icmp .gt 7, 3) := dk_163 0 7 (dk_at dksX1_tick_1 0 rfl rfl)
theorem dX1_tick_25 : decode cX1_tick 25 = .ok (.iconst 1, 1) := dk_4 (dk_at dksX1_tick_1 3 rfl rfl)
theorem dX1_tick_26 : decode cX1_tick 26 = .ok (.goto 4, 3) := dk_167 0 4 (dk_at dksX1_tick_1 4 rfl rfl)
theorem dX1_tick_29 : decode cX1_tick 29 = .ok (.iconst 0, 1) := dk_3 (dk_at dksX1_tick_1 7 rfl rfl)
theorem dX1_tick_30 : decode cX1_tick 30 = .ok (.invokestatic 186, 3) := dk_184 0 186 (dk_at dksX1_tick_1 8 rfl rfl)
theorem dX1_tick_33 : decode cX1_tick 33 = .ok (.aload_n 0, 1) := dk_42 (dk_at dksX1_tick_1 11 rfl rfl)
theorem dX1_tick_34 : decode cX1_tick 34 = .ok (.invokevirtual 169, 3) := dk_182 0 169 (dk_at dksX1_tick_1 12 rfl rfl)
theorem dX1_tick_37 : decode cX1_tick 37 = .ok (.iload_n 1, 1) := dk_27 (dk_at dksX1_tick_1 15 rfl rfl)
theorem dX1_tick_38 : decode cX1_tick 38 = .ok (.invokevirtual 196, 3) := dk_182 0 196 (dk_at dksX1_tick_1 16 rfl rfl)
theorem dX1_tick_41 : decode cX1_tick 41 = .ok (.ireturn, 1) := dk_172 (dk_at dksX1_tick_1 19 rfl rfl)
abbrev cX1_cut : ByteArray := prog_1_method_28_code
def yX1_cut : MethodName := ⟨RX1, "cut", "(I)I"⟩
def dkwX1_cut_1 : List UInt8 := [172]
abbrev dktX1_cut_1 : List UInt8 := dkwX1_cut_1 ++ []
def dkwX1_cut_0 : List UInt8 := [42, 27, 182, 0, 199, 42, 180, 0, 28, 27, 182, 0, 202, 184, 0, 186, 42, 182, 0, 169, 27, 182, 0, 205]
abbrev dktX1_cut_0 : List UInt8 := dkwX1_cut_0 ++ dktX1_cut_1
theorem dksX1_cut_0 : cX1_cut.data.toList.drop 0 = dktX1_cut_0 := by decide +kernel
theorem dksX1_cut_1 : cX1_cut.data.toList.drop 24 = dktX1_cut_1 := dk_seg dksX1_cut_0 24 rfl rfl
theorem dX1_cut_0 : decode cX1_cut 0 = .ok (.aload_n 0, 1) := dk_42 (dk_at dksX1_cut_0 0 rfl rfl)
theorem dX1_cut_1 : decode cX1_cut 1 = .ok (.iload_n 1, 1) := dk_27 (dk_at dksX1_cut_0 1 rfl rfl)
theorem dX1_cut_2 : decode cX1_cut 2 = .ok (.invokevirtual 199, 3) := dk_182 0 199 (dk_at dksX1_cut_0 2 rfl rfl)
theorem dX1_cut_5 : decode cX1_cut 5 = .ok (.aload_n 0, 1) := dk_42 (dk_at dksX1_cut_0 5 rfl rfl)
theorem dX1_cut_6 : decode cX1_cut 6 = .ok (.getfield 28, 3) := dk_180 0 28 (dk_at dksX1_cut_0 6 rfl rfl)
theorem dX1_cut_9 : decode cX1_cut 9 = .ok (.iload_n 1, 1) := dk_27 (dk_at dksX1_cut_0 9 rfl rfl)
theorem dX1_cut_10 : decode cX1_cut 10 = .ok (.invokevirtual 202, 3) := dk_182 0 202 (dk_at dksX1_cut_0 10 rfl rfl)
theorem dX1_cut_13 : decode cX1_cut 13 = .ok (.invokestatic 186, 3) := dk_184 0 186 (dk_at dksX1_cut_0 13 rfl rfl)
theorem dX1_cut_16 : decode cX1_cut 16 = .ok (.aload_n 0, 1) := dk_42 (dk_at dksX1_cut_0 16 rfl rfl)
theorem dX1_cut_17 : decode cX1_cut 17 = .ok (.invokevirtual 169, 3) := dk_182 0 169 (dk_at dksX1_cut_0 17 rfl rfl)
theorem dX1_cut_20 : decode cX1_cut 20 = .ok (.iload_n 1, 1) := dk_27 (dk_at dksX1_cut_0 20 rfl rfl)
theorem dX1_cut_21 : decode cX1_cut 21 = .ok (.invokevirtual 205, 3) := dk_182 0 205 (dk_at dksX1_cut_0 21 rfl rfl)
theorem dX1_cut_24 : decode cX1_cut 24 = .ok (.ireturn, 1) := dk_172 (dk_at dksX1_cut_1 0 rfl rfl)
abbrev cX1_needMiddle : ByteArray := prog_1_method_18_code
def yX1_needMiddle : MethodName := ⟨RX1, "needMiddle", "(I)V"⟩
def dkwX1_needMiddle_0 : List UInt8 := [27, 3, 42, 180, 0, 28, 180, 0, 147, 4, 100, 184, 0, 73, 184, 0, 138, 177]
abbrev dktX1_needMiddle_0 : List UInt8 := dkwX1_needMiddle_0 ++ []
theorem dksX1_needMiddle_0 : cX1_needMiddle.data.toList.drop 0 = dktX1_needMiddle_0 := by decide +kernel
theorem dX1_needMiddle_0 : decode cX1_needMiddle 0 = .ok (.iload_n 1, 1) := dk_27 (dk_at dksX1_needMiddle_0 0 rfl rfl)
theorem dX1_needMiddle_1 : decode cX1_needMiddle 1 = .ok (.iconst 0, 1) := dk_3 (dk_at dksX1_needMiddle_0 1 rfl rfl)
theorem dX1_needMiddle_2 : decode cX1_needMiddle 2 = .ok (.aload_n 0, 1) := dk_42 (dk_at dksX1_needMiddle_0 2 rfl rfl)
theorem dX1_needMiddle_3 : decode cX1_needMiddle 3 = .ok (.getfield 28, 3) := dk_180 0 28 (dk_at dksX1_needMiddle_0 3 rfl rfl)
theorem dX1_needMiddle_6 : decode cX1_needMiddle 6 = .ok (.getfield 147, 3) := dk_180 0 147 (dk_at dksX1_needMiddle_0 6 rfl rfl)
theorem dX1_needMiddle_9 : decode cX1_needMiddle 9 = .ok (.iconst 1, 1) := dk_4 (dk_at dksX1_needMiddle_0 9 rfl rfl)
theorem dX1_needMiddle_10 : decode cX1_needMiddle 10 = .ok (.isub, 1) := dk_100 (dk_at dksX1_needMiddle_0 10 rfl rfl)
theorem dX1_needMiddle_11 : decode cX1_needMiddle 11 = .ok (.invokestatic 73, 3) := dk_184 0 73 (dk_at dksX1_needMiddle_0 11 rfl rfl)
theorem dX1_needMiddle_14 : decode cX1_needMiddle 14 = .ok (.invokestatic 138, 3) := dk_184 0 138 (dk_at dksX1_needMiddle_0 14 rfl rfl)
theorem dX1_needMiddle_17 : decode cX1_needMiddle 17 = .ok (.return_, 1) := dk_177 (dk_at dksX1_needMiddle_0 17 rfl rfl)
abbrev cX1_mend : ByteArray := prog_1_method_29_code
def yX1_mend : MethodName := ⟨RX1, "mend", "(I)I"⟩
def dkwX1_mend_1 : List UInt8 := [42, 182, 0, 169, 27, 182, 0, 208, 172]
abbrev dktX1_mend_1 : List UInt8 := dkwX1_mend_1 ++ []
def dkwX1_mend_0 : List UInt8 := [42, 27, 182, 0, 199, 42, 180, 0, 28, 27, 182, 0, 202, 154, 0, 7, 4, 167, 0, 4, 3, 184, 0, 186]
abbrev dktX1_mend_0 : List UInt8 := dkwX1_mend_0 ++ dktX1_mend_1
theorem dksX1_mend_0 : cX1_mend.data.toList.drop 0 = dktX1_mend_0 := by decide +kernel
theorem dksX1_mend_1 : cX1_mend.data.toList.drop 24 = dktX1_mend_1 := dk_seg dksX1_mend_0 24 rfl rfl
theorem dX1_mend_0 : decode cX1_mend 0 = .ok (.aload_n 0, 1) := dk_42 (dk_at dksX1_mend_0 0 rfl rfl)
theorem dX1_mend_1 : decode cX1_mend 1 = .ok (.iload_n 1, 1) := dk_27 (dk_at dksX1_mend_0 1 rfl rfl)
theorem dX1_mend_2 : decode cX1_mend 2 = .ok (.invokevirtual 199, 3) := dk_182 0 199 (dk_at dksX1_mend_0 2 rfl rfl)
theorem dX1_mend_5 : decode cX1_mend 5 = .ok (.aload_n 0, 1) := dk_42 (dk_at dksX1_mend_0 5 rfl rfl)
theorem dX1_mend_6 : decode cX1_mend 6 = .ok (.getfield 28, 3) := dk_180 0 28 (dk_at dksX1_mend_0 6 rfl rfl)
theorem dX1_mend_9 : decode cX1_mend 9 = .ok (.iload_n 1, 1) := dk_27 (dk_at dksX1_mend_0 9 rfl rfl)
theorem dX1_mend_10 : decode cX1_mend 10 = .ok (.invokevirtual 202, 3) := dk_182 0 202 (dk_at dksX1_mend_0 10 rfl rfl)
theorem dX1_mend_13 : decode cX1_mend 13 = .ok (.ifCond .ne 7, 3) := dk_154 0 7 (dk_at dksX1_mend_0 13 rfl rfl)
theorem dX1_mend_16 : decode cX1_mend 16 = .ok (.iconst 1, 1) := dk_4 (dk_at dksX1_mend_0 16 rfl rfl)
theorem dX1_mend_17 : decode cX1_mend 17 = .ok (.goto 4, 3) := dk_167 0 4 (dk_at dksX1_mend_0 17 rfl rfl)
theorem dX1_mend_20 : decode cX1_mend 20 = .ok (.iconst 0, 1) := dk_3 (dk_at dksX1_mend_0 20 rfl rfl)
theorem dX1_mend_21 : decode cX1_mend 21 = .ok (.invokestatic 186, 3) := dk_184 0 186 (dk_at dksX1_mend_0 21 rfl rfl)
theorem dX1_mend_24 : decode cX1_mend 24 = .ok (.aload_n 0, 1) := dk_42 (dk_at dksX1_mend_1 0 rfl rfl)
theorem dX1_mend_25 : decode cX1_mend 25 = .ok (.invokevirtual 169, 3) := dk_182 0 169 (dk_at dksX1_mend_1 1 rfl rfl)
theorem dX1_mend_28 : decode cX1_mend 28 = .ok (.iload_n 1, 1) := dk_27 (dk_at dksX1_mend_1 4 rfl rfl)
theorem dX1_mend_29 : decode cX1_mend 29 = .ok (.invokevirtual 208, 3) := dk_182 0 208 (dk_at dksX1_mend_1 5 rfl rfl)
theorem dX1_mend_32 : decode cX1_mend 32 = .ok (.ireturn, 1) := dk_172 (dk_at dksX1_mend_1 8 rfl rfl)
abbrev cX1_setMode : ByteArray := prog_1_method_30_code
def yX1_setMode : MethodName := ⟨RX1, "setMode", "(I)I"⟩
def dkwX1_setMode_1 : List UInt8 := [181, 0, 211, 42, 180, 0, 28, 182, 0, 214, 28, 172]
abbrev dktX1_setMode_1 : List UInt8 := dkwX1_setMode_1 ++ []
def dkwX1_setMode_0 : List UInt8 := [27, 3, 4, 184, 0, 73, 184, 0, 77, 42, 180, 0, 28, 180, 0, 211, 61, 42, 182, 0, 169, 27]
abbrev dktX1_setMode_0 : List UInt8 := dkwX1_setMode_0 ++ dktX1_setMode_1
theorem dksX1_setMode_0 : cX1_setMode.data.toList.drop 0 = dktX1_setMode_0 := by decide +kernel
theorem dksX1_setMode_1 : cX1_setMode.data.toList.drop 22 = dktX1_setMode_1 := dk_seg dksX1_setMode_0 22 rfl rfl
theorem dX1_setMode_0 : decode cX1_setMode 0 = .ok (.iload_n 1, 1) := dk_27 (dk_at dksX1_setMode_0 0 rfl rfl)
theorem dX1_setMode_1 : decode cX1_setMode 1 = .ok (.iconst 0, 1) := dk_3 (dk_at dksX1_setMode_0 1 rfl rfl)
theorem dX1_setMode_2 : decode cX1_setMode 2 = .ok (.iconst 1, 1) := dk_4 (dk_at dksX1_setMode_0 2 rfl rfl)
theorem dX1_setMode_3 : decode cX1_setMode 3 = .ok (.invokestatic 73, 3) := dk_184 0 73 (dk_at dksX1_setMode_0 3 rfl rfl)
theorem dX1_setMode_6 : decode cX1_setMode 6 = .ok (.invokestatic 77, 3) := dk_184 0 77 (dk_at dksX1_setMode_0 6 rfl rfl)
theorem dX1_setMode_9 : decode cX1_setMode 9 = .ok (.aload_n 0, 1) := dk_42 (dk_at dksX1_setMode_0 9 rfl rfl)
theorem dX1_setMode_10 : decode cX1_setMode 10 = .ok (.getfield 28, 3) := dk_180 0 28 (dk_at dksX1_setMode_0 10 rfl rfl)
theorem dX1_setMode_13 : decode cX1_setMode 13 = .ok (.getfield 211, 3) := dk_180 0 211 (dk_at dksX1_setMode_0 13 rfl rfl)
theorem dX1_setMode_16 : decode cX1_setMode 16 = .ok (.istore_n 2, 1) := dk_61 (dk_at dksX1_setMode_0 16 rfl rfl)
theorem dX1_setMode_17 : decode cX1_setMode 17 = .ok (.aload_n 0, 1) := dk_42 (dk_at dksX1_setMode_0 17 rfl rfl)
theorem dX1_setMode_18 : decode cX1_setMode 18 = .ok (.invokevirtual 169, 3) := dk_182 0 169 (dk_at dksX1_setMode_0 18 rfl rfl)
theorem dX1_setMode_21 : decode cX1_setMode 21 = .ok (.iload_n 1, 1) := dk_27 (dk_at dksX1_setMode_0 21 rfl rfl)
theorem dX1_setMode_22 : decode cX1_setMode 22 = .ok (.putfield 211, 3) := dk_181 0 211 (dk_at dksX1_setMode_1 0 rfl rfl)
theorem dX1_setMode_25 : decode cX1_setMode 25 = .ok (.aload_n 0, 1) := dk_42 (dk_at dksX1_setMode_1 3 rfl rfl)
theorem dX1_setMode_26 : decode cX1_setMode 26 = .ok (.getfield 28, 3) := dk_180 0 28 (dk_at dksX1_setMode_1 4 rfl rfl)
theorem dX1_setMode_29 : decode cX1_setMode 29 = .ok (.invokevirtual 214, 3) := dk_182 0 214 (dk_at dksX1_setMode_1 7 rfl rfl)
theorem dX1_setMode_32 : decode cX1_setMode 32 = .ok (.iload_n 2, 1) := dk_28 (dk_at dksX1_setMode_1 10 rfl rfl)
theorem dX1_setMode_33 : decode cX1_setMode 33 = .ok (.ireturn, 1) := dk_172 (dk_at dksX1_setMode_1 11 rfl rfl)
abbrev cX1_setHunt : ByteArray := prog_1_method_31_code
def yX1_setHunt : MethodName := ⟨RX1, "setHunt", "(I)I"⟩
def dkwX1_setHunt_1 : List UInt8 := [181, 0, 217, 28, 172]
abbrev dktX1_setHunt_1 : List UInt8 := dkwX1_setHunt_1 ++ []
def dkwX1_setHunt_0 : List UInt8 := [27, 3, 5, 184, 0, 73, 184, 0, 77, 42, 180, 0, 28, 180, 0, 217, 61, 42, 182, 0, 169, 27]
abbrev dktX1_setHunt_0 : List UInt8 := dkwX1_setHunt_0 ++ dktX1_setHunt_1
theorem dksX1_setHunt_0 : cX1_setHunt.data.toList.drop 0 = dktX1_setHunt_0 := by decide +kernel
theorem dksX1_setHunt_1 : cX1_setHunt.data.toList.drop 22 = dktX1_setHunt_1 := dk_seg dksX1_setHunt_0 22 rfl rfl
theorem dX1_setHunt_0 : decode cX1_setHunt 0 = .ok (.iload_n 1, 1) := dk_27 (dk_at dksX1_setHunt_0 0 rfl rfl)
theorem dX1_setHunt_1 : decode cX1_setHunt 1 = .ok (.iconst 0, 1) := dk_3 (dk_at dksX1_setHunt_0 1 rfl rfl)
theorem dX1_setHunt_2 : decode cX1_setHunt 2 = .ok (.iconst 2, 1) := dk_5 (dk_at dksX1_setHunt_0 2 rfl rfl)
theorem dX1_setHunt_3 : decode cX1_setHunt 3 = .ok (.invokestatic 73, 3) := dk_184 0 73 (dk_at dksX1_setHunt_0 3 rfl rfl)
theorem dX1_setHunt_6 : decode cX1_setHunt 6 = .ok (.invokestatic 77, 3) := dk_184 0 77 (dk_at dksX1_setHunt_0 6 rfl rfl)
theorem dX1_setHunt_9 : decode cX1_setHunt 9 = .ok (.aload_n 0, 1) := dk_42 (dk_at dksX1_setHunt_0 9 rfl rfl)
theorem dX1_setHunt_10 : decode cX1_setHunt 10 = .ok (.getfield 28, 3) := dk_180 0 28 (dk_at dksX1_setHunt_0 10 rfl rfl)
theorem dX1_setHunt_13 : decode cX1_setHunt 13 = .ok (.getfield 217, 3) := dk_180 0 217 (dk_at dksX1_setHunt_0 13 rfl rfl)
theorem dX1_setHunt_16 : decode cX1_setHunt 16 = .ok (.istore_n 2, 1) := dk_61 (dk_at dksX1_setHunt_0 16 rfl rfl)
theorem dX1_setHunt_17 : decode cX1_setHunt 17 = .ok (.aload_n 0, 1) := dk_42 (dk_at dksX1_setHunt_0 17 rfl rfl)
theorem dX1_setHunt_18 : decode cX1_setHunt 18 = .ok (.invokevirtual 169, 3) := dk_182 0 169 (dk_at dksX1_setHunt_0 18 rfl rfl)
theorem dX1_setHunt_21 : decode cX1_setHunt 21 = .ok (.iload_n 1, 1) := dk_27 (dk_at dksX1_setHunt_0 21 rfl rfl)
theorem dX1_setHunt_22 : decode cX1_setHunt 22 = .ok (.putfield 217, 3) := dk_181 0 217 (dk_at dksX1_setHunt_1 0 rfl rfl)
theorem dX1_setHunt_25 : decode cX1_setHunt 25 = .ok (.iload_n 2, 1) := dk_28 (dk_at dksX1_setHunt_1 3 rfl rfl)
theorem dX1_setHunt_26 : decode cX1_setHunt 26 = .ok (.ireturn, 1) := dk_172 (dk_at dksX1_setHunt_1 4 rfl rfl)
abbrev cX1_undo : ByteArray := prog_1_method_33_code
def yX1_undo : MethodName := ⟨RX1, "undo", "()I"⟩
def dkwX1_undo_1 : List UInt8 := [181, 0, 109, 42, 42, 180, 0, 32, 42, 180, 0, 109, 50, 181, 0, 28, 42, 180, 0, 109, 172]
abbrev dktX1_undo_1 : List UInt8 := dkwX1_undo_1 ++ []
def dkwX1_undo_0 : List UInt8 := [42, 180, 0, 109, 158, 0, 7, 4, 167, 0, 4, 3, 184, 0, 186, 42, 89, 180, 0, 109, 4, 100]
abbrev dktX1_undo_0 : List UInt8 := dkwX1_undo_0 ++ dktX1_undo_1
theorem dksX1_undo_0 : cX1_undo.data.toList.drop 0 = dktX1_undo_0 := by decide +kernel
theorem dksX1_undo_1 : cX1_undo.data.toList.drop 22 = dktX1_undo_1 := dk_seg dksX1_undo_0 22 rfl rfl
theorem dX1_undo_0 : decode cX1_undo 0 = .ok (.aload_n 0, 1) := dk_42 (dk_at dksX1_undo_0 0 rfl rfl)
theorem dX1_undo_1 : decode cX1_undo 1 = .ok (.getfield 109, 3) := dk_180 0 109 (dk_at dksX1_undo_0 1 rfl rfl)
theorem dX1_undo_4 : decode cX1_undo 4 = .ok (.ifCond .le 7, 3) := dk_158 0 7 (dk_at dksX1_undo_0 4 rfl rfl)
theorem dX1_undo_7 : decode cX1_undo 7 = .ok (.iconst 1, 1) := dk_4 (dk_at dksX1_undo_0 7 rfl rfl)
theorem dX1_undo_8 : decode cX1_undo 8 = .ok (.goto 4, 3) := dk_167 0 4 (dk_at dksX1_undo_0 8 rfl rfl)
theorem dX1_undo_11 : decode cX1_undo 11 = .ok (.iconst 0, 1) := dk_3 (dk_at dksX1_undo_0 11 rfl rfl)
theorem dX1_undo_12 : decode cX1_undo 12 = .ok (.invokestatic 186, 3) := dk_184 0 186 (dk_at dksX1_undo_0 12 rfl rfl)
theorem dX1_undo_15 : decode cX1_undo 15 = .ok (.aload_n 0, 1) := dk_42 (dk_at dksX1_undo_0 15 rfl rfl)
theorem dX1_undo_16 : decode cX1_undo 16 = .ok (.dup, 1) := dk_89 (dk_at dksX1_undo_0 16 rfl rfl)
theorem dX1_undo_17 : decode cX1_undo 17 = .ok (.getfield 109, 3) := dk_180 0 109 (dk_at dksX1_undo_0 17 rfl rfl)
theorem dX1_undo_20 : decode cX1_undo 20 = .ok (.iconst 1, 1) := dk_4 (dk_at dksX1_undo_0 20 rfl rfl)
theorem dX1_undo_21 : decode cX1_undo 21 = .ok (.isub, 1) := dk_100 (dk_at dksX1_undo_0 21 rfl rfl)
theorem dX1_undo_22 : decode cX1_undo 22 = .ok (.putfield 109, 3) := dk_181 0 109 (dk_at dksX1_undo_1 0 rfl rfl)
theorem dX1_undo_25 : decode cX1_undo 25 = .ok (.aload_n 0, 1) := dk_42 (dk_at dksX1_undo_1 3 rfl rfl)
theorem dX1_undo_26 : decode cX1_undo 26 = .ok (.aload_n 0, 1) := dk_42 (dk_at dksX1_undo_1 4 rfl rfl)
theorem dX1_undo_27 : decode cX1_undo 27 = .ok (.getfield 32, 3) := dk_180 0 32 (dk_at dksX1_undo_1 5 rfl rfl)
theorem dX1_undo_30 : decode cX1_undo 30 = .ok (.aload_n 0, 1) := dk_42 (dk_at dksX1_undo_1 8 rfl rfl)
theorem dX1_undo_31 : decode cX1_undo 31 = .ok (.getfield 109, 3) := dk_180 0 109 (dk_at dksX1_undo_1 9 rfl rfl)
theorem dX1_undo_34 : decode cX1_undo 34 = .ok (.aaload, 1) := dk_50 (dk_at dksX1_undo_1 12 rfl rfl)
theorem dX1_undo_35 : decode cX1_undo 35 = .ok (.putfield 28, 3) := dk_181 0 28 (dk_at dksX1_undo_1 13 rfl rfl)
theorem dX1_undo_38 : decode cX1_undo 38 = .ok (.aload_n 0, 1) := dk_42 (dk_at dksX1_undo_1 16 rfl rfl)
theorem dX1_undo_39 : decode cX1_undo 39 = .ok (.getfield 109, 3) := dk_180 0 109 (dk_at dksX1_undo_1 17 rfl rfl)
theorem dX1_undo_42 : decode cX1_undo 42 = .ok (.ireturn, 1) := dk_172 (dk_at dksX1_undo_1 20 rfl rfl)
abbrev cX1_save : ByteArray := prog_1_method_34_code
def yX1_save : MethodName := ⟨RX1, "save", "(I)I"⟩
def dkwX1_save_1 : List UInt8 := [172]
abbrev dktX1_save_1 : List UInt8 := dkwX1_save_1 ++ []
def dkwX1_save_0 : List UInt8 := [27, 184, 0, 223, 42, 180, 0, 36, 27, 42, 180, 0, 28, 182, 0, 116, 83, 42, 180, 0, 28, 180, 0, 193]
abbrev dktX1_save_0 : List UInt8 := dkwX1_save_0 ++ dktX1_save_1
theorem dksX1_save_0 : cX1_save.data.toList.drop 0 = dktX1_save_0 := by decide +kernel
theorem dksX1_save_1 : cX1_save.data.toList.drop 24 = dktX1_save_1 := dk_seg dksX1_save_0 24 rfl rfl
theorem dX1_save_0 : decode cX1_save 0 = .ok (.iload_n 1, 1) := dk_27 (dk_at dksX1_save_0 0 rfl rfl)
theorem dX1_save_1 : decode cX1_save 1 = .ok (.invokestatic 223, 3) := dk_184 0 223 (dk_at dksX1_save_0 1 rfl rfl)
theorem dX1_save_4 : decode cX1_save 4 = .ok (.aload_n 0, 1) := dk_42 (dk_at dksX1_save_0 4 rfl rfl)
theorem dX1_save_5 : decode cX1_save 5 = .ok (.getfield 36, 3) := dk_180 0 36 (dk_at dksX1_save_0 5 rfl rfl)
theorem dX1_save_8 : decode cX1_save 8 = .ok (.iload_n 1, 1) := dk_27 (dk_at dksX1_save_0 8 rfl rfl)
theorem dX1_save_9 : decode cX1_save 9 = .ok (.aload_n 0, 1) := dk_42 (dk_at dksX1_save_0 9 rfl rfl)
theorem dX1_save_10 : decode cX1_save 10 = .ok (.getfield 28, 3) := dk_180 0 28 (dk_at dksX1_save_0 10 rfl rfl)
theorem dX1_save_13 : decode cX1_save 13 = .ok (.invokevirtual 116, 3) := dk_182 0 116 (dk_at dksX1_save_0 13 rfl rfl)
theorem dX1_save_16 : decode cX1_save 16 = .ok (.aastore, 1) := dk_83 (dk_at dksX1_save_0 16 rfl rfl)
theorem dX1_save_17 : decode cX1_save 17 = .ok (.aload_n 0, 1) := dk_42 (dk_at dksX1_save_0 17 rfl rfl)
theorem dX1_save_18 : decode cX1_save 18 = .ok (.getfield 28, 3) := dk_180 0 28 (dk_at dksX1_save_0 18 rfl rfl)
theorem dX1_save_21 : decode cX1_save 21 = .ok (.getfield 193, 3) := dk_180 0 193 (dk_at dksX1_save_0 21 rfl rfl)
theorem dX1_save_24 : decode cX1_save 24 = .ok (.ireturn, 1) := dk_172 (dk_at dksX1_save_1 0 rfl rfl)
abbrev cX1_needSlot : ByteArray := prog_1_method_20_code
def yX1_needSlot : MethodName := ⟨RX1, "needSlot", "(I)V"⟩
def dkwX1_needSlot_0 : List UInt8 := [26, 3, 4, 184, 0, 73, 184, 0, 138, 177]
abbrev dktX1_needSlot_0 : List UInt8 := dkwX1_needSlot_0 ++ []
theorem dksX1_needSlot_0 : cX1_needSlot.data.toList.drop 0 = dktX1_needSlot_0 := by decide +kernel
theorem dX1_needSlot_0 : decode cX1_needSlot 0 = .ok (.iload_n 0, 1) := dk_26 (dk_at dksX1_needSlot_0 0 rfl rfl)
theorem dX1_needSlot_1 : decode cX1_needSlot 1 = .ok (.iconst 0, 1) := dk_3 (dk_at dksX1_needSlot_0 1 rfl rfl)
theorem dX1_needSlot_2 : decode cX1_needSlot 2 = .ok (.iconst 1, 1) := dk_4 (dk_at dksX1_needSlot_0 2 rfl rfl)
theorem dX1_needSlot_3 : decode cX1_needSlot 3 = .ok (.invokestatic 73, 3) := dk_184 0 73 (dk_at dksX1_needSlot_0 3 rfl rfl)
theorem dX1_needSlot_6 : decode cX1_needSlot 6 = .ok (.invokestatic 138, 3) := dk_184 0 138 (dk_at dksX1_needSlot_0 6 rfl rfl)
theorem dX1_needSlot_9 : decode cX1_needSlot 9 = .ok (.return_, 1) := dk_177 (dk_at dksX1_needSlot_0 9 rfl rfl)
abbrev cX1_restore : ByteArray := prog_1_method_35_code
def yX1_restore : MethodName := ⟨RX1, "restore", "(I)I"⟩
def dkwX1_restore_1 : List UInt8 := [180, 0, 36, 27, 50, 182, 0, 116, 182, 0, 122, 42, 180, 0, 28, 180, 0, 193, 172]
abbrev dktX1_restore_1 : List UInt8 := dkwX1_restore_1 ++ []
def dkwX1_restore_0 : List UInt8 := [27, 184, 0, 223, 42, 180, 0, 36, 27, 50, 198, 0, 7, 4, 167, 0, 4, 3, 184, 0, 186, 42, 42]
abbrev dktX1_restore_0 : List UInt8 := dkwX1_restore_0 ++ dktX1_restore_1
theorem dksX1_restore_0 : cX1_restore.data.toList.drop 0 = dktX1_restore_0 := by decide +kernel
theorem dksX1_restore_1 : cX1_restore.data.toList.drop 23 = dktX1_restore_1 := dk_seg dksX1_restore_0 23 rfl rfl
theorem dX1_restore_0 : decode cX1_restore 0 = .ok (.iload_n 1, 1) := dk_27 (dk_at dksX1_restore_0 0 rfl rfl)
theorem dX1_restore_1 : decode cX1_restore 1 = .ok (.invokestatic 223, 3) := dk_184 0 223 (dk_at dksX1_restore_0 1 rfl rfl)
theorem dX1_restore_4 : decode cX1_restore 4 = .ok (.aload_n 0, 1) := dk_42 (dk_at dksX1_restore_0 4 rfl rfl)
theorem dX1_restore_5 : decode cX1_restore 5 = .ok (.getfield 36, 3) := dk_180 0 36 (dk_at dksX1_restore_0 5 rfl rfl)
theorem dX1_restore_8 : decode cX1_restore 8 = .ok (.iload_n 1, 1) := dk_27 (dk_at dksX1_restore_0 8 rfl rfl)
theorem dX1_restore_9 : decode cX1_restore 9 = .ok (.aaload, 1) := dk_50 (dk_at dksX1_restore_0 9 rfl rfl)
theorem dX1_restore_10 : decode cX1_restore 10 = .ok (.ifnull 7, 3) := dk_198 0 7 (dk_at dksX1_restore_0 10 rfl rfl)
theorem dX1_restore_13 : decode cX1_restore 13 = .ok (.iconst 1, 1) := dk_4 (dk_at dksX1_restore_0 13 rfl rfl)
theorem dX1_restore_14 : decode cX1_restore 14 = .ok (.goto 4, 3) := dk_167 0 4 (dk_at dksX1_restore_0 14 rfl rfl)
theorem dX1_restore_17 : decode cX1_restore 17 = .ok (.iconst 0, 1) := dk_3 (dk_at dksX1_restore_0 17 rfl rfl)
theorem dX1_restore_18 : decode cX1_restore 18 = .ok (.invokestatic 186, 3) := dk_184 0 186 (dk_at dksX1_restore_0 18 rfl rfl)
theorem dX1_restore_21 : decode cX1_restore 21 = .ok (.aload_n 0, 1) := dk_42 (dk_at dksX1_restore_0 21 rfl rfl)
theorem dX1_restore_22 : decode cX1_restore 22 = .ok (.aload_n 0, 1) := dk_42 (dk_at dksX1_restore_0 22 rfl rfl)
theorem dX1_restore_23 : decode cX1_restore 23 = .ok (.getfield 36, 3) := dk_180 0 36 (dk_at dksX1_restore_1 0 rfl rfl)
theorem dX1_restore_26 : decode cX1_restore 26 = .ok (.iload_n 1, 1) := dk_27 (dk_at dksX1_restore_1 3 rfl rfl)
theorem dX1_restore_27 : decode cX1_restore 27 = .ok (.aaload, 1) := dk_50 (dk_at dksX1_restore_1 4 rfl rfl)
theorem dX1_restore_28 : decode cX1_restore 28 = .ok (.invokevirtual 116, 3) := dk_182 0 116 (dk_at dksX1_restore_1 5 rfl rfl)
theorem dX1_restore_31 : decode cX1_restore 31 = .ok (.invokevirtual 122, 3) := dk_182 0 122 (dk_at dksX1_restore_1 8 rfl rfl)
theorem dX1_restore_34 : decode cX1_restore 34 = .ok (.aload_n 0, 1) := dk_42 (dk_at dksX1_restore_1 11 rfl rfl)
theorem dX1_restore_35 : decode cX1_restore 35 = .ok (.getfield 28, 3) := dk_180 0 28 (dk_at dksX1_restore_1 12 rfl rfl)
theorem dX1_restore_38 : decode cX1_restore 38 = .ok (.getfield 193, 3) := dk_180 0 193 (dk_at dksX1_restore_1 15 rfl rfl)
theorem dX1_restore_41 : decode cX1_restore 41 = .ok (.ireturn, 1) := dk_172 (dk_at dksX1_restore_1 18 rfl rfl)
abbrev cX1_count : ByteArray := prog_1_method_37_code
def yX1_count : MethodName := ⟨RX1, "count", "(I)I"⟩
def dkwX1_count_7 : List UInt8 := [180, 0, 244, 172, 187, 0, 126, 89, 183, 0, 128, 191]
abbrev dktX1_count_7 : List UInt8 := dkwX1_count_7 ++ []
def dkwX1_count_6 : List UInt8 := [180, 0, 150, 185, 0, 153, 1, 0, 172, 42, 180, 0, 109, 172, 42, 180, 0, 66, 172, 42, 180, 0, 28]
abbrev dktX1_count_6 : List UInt8 := dkwX1_count_6 ++ dktX1_count_7
def dkwX1_count_5 : List UInt8 := [180, 0, 211, 172, 42, 180, 0, 28, 180, 0, 217, 172, 42, 180, 0, 28, 180, 0, 241, 172, 42, 180, 0, 28]
abbrev dktX1_count_5 : List UInt8 := dkwX1_count_5 ++ dktX1_count_6
def dkwX1_count_4 : List UInt8 := [185, 0, 153, 1, 0, 172, 42, 182, 0, 238, 172, 42, 180, 0, 28, 180, 0, 193, 172, 42, 180, 0, 28]
abbrev dktX1_count_4 : List UInt8 := dkwX1_count_4 ++ dktX1_count_5
def dkwX1_count_3 : List UInt8 := [42, 180, 0, 28, 182, 0, 232, 172, 42, 180, 0, 28, 182, 0, 112, 172, 42, 180, 0, 28, 180, 0, 235]
abbrev dktX1_count_3 : List UInt8 := dkwX1_count_3 ++ dktX1_count_4
def dkwX1_count_2 : List UInt8 := [42, 180, 0, 28, 180, 0, 144, 172, 42, 180, 0, 28, 180, 0, 229, 172, 42, 180, 0, 28, 180, 0, 147, 172]
abbrev dktX1_count_2 : List UInt8 := dkwX1_count_2 ++ dktX1_count_3
def dkwX1_count_1 : List UInt8 := [170, 0, 0, 0, 0, 0, 196, 0, 0, 0, 0, 0, 0, 0, 14, 0, 0, 0, 75, 0, 0, 0, 83, 0, 0, 0, 91, 0, 0, 0, 99, 0, 0, 0, 107, 0, 0, 0, 115, 0, 0, 0, 128, 0, 0, 0, 133, 0, 0, 0, 141, 0, 0, 0, 149, 0, 0, 0, 157, 0, 0, 0, 165, 0, 0, 0, 178, 0, 0, 0, 183, 0, 0, 0, 188]
abbrev dktX1_count_1 : List UInt8 := dkwX1_count_1 ++ dktX1_count_2
def dkwX1_count_0 : List UInt8 := [27]
abbrev dktX1_count_0 : List UInt8 := dkwX1_count_0 ++ dktX1_count_1
theorem dksX1_count_0 : cX1_count.data.toList.drop 0 = dktX1_count_0 := by decide +kernel
theorem dksX1_count_1 : cX1_count.data.toList.drop 1 = dktX1_count_1 := dk_seg dksX1_count_0 1 rfl rfl
theorem dksX1_count_2 : cX1_count.data.toList.drop 76 = dktX1_count_2 := dk_seg dksX1_count_1 75 rfl rfl
theorem dksX1_count_3 : cX1_count.data.toList.drop 100 = dktX1_count_3 := dk_seg dksX1_count_2 24 rfl rfl
theorem dksX1_count_4 : cX1_count.data.toList.drop 123 = dktX1_count_4 := dk_seg dksX1_count_3 23 rfl rfl
theorem dksX1_count_5 : cX1_count.data.toList.drop 146 = dktX1_count_5 := dk_seg dksX1_count_4 23 rfl rfl
theorem dksX1_count_6 : cX1_count.data.toList.drop 170 = dktX1_count_6 := dk_seg dksX1_count_5 24 rfl rfl
theorem dksX1_count_7 : cX1_count.data.toList.drop 193 = dktX1_count_7 := dk_seg dksX1_count_6 23 rfl rfl
theorem dX1_count_0 : decode cX1_count 0 = .ok (.iload_n 1, 1) := dk_27 (dk_at dksX1_count_0 0 rfl rfl)
theorem dX1_count_1 : decode cX1_count 1 = .ok (.tableswitch 196 0 14 #[75, 83, 91, 99, 107, 115, 128, 133, 141, 149, 157, 165, 178, 183, 188], 75) := by decide +kernel
theorem dX1_count_76 : decode cX1_count 76 = .ok (.aload_n 0, 1) := dk_42 (dk_at dksX1_count_2 0 rfl rfl)
theorem dX1_count_77 : decode cX1_count 77 = .ok (.getfield 28, 3) := dk_180 0 28 (dk_at dksX1_count_2 1 rfl rfl)
theorem dX1_count_80 : decode cX1_count 80 = .ok (.getfield 144, 3) := dk_180 0 144 (dk_at dksX1_count_2 4 rfl rfl)
theorem dX1_count_83 : decode cX1_count 83 = .ok (.ireturn, 1) := dk_172 (dk_at dksX1_count_2 7 rfl rfl)
theorem dX1_count_84 : decode cX1_count 84 = .ok (.aload_n 0, 1) := dk_42 (dk_at dksX1_count_2 8 rfl rfl)
theorem dX1_count_85 : decode cX1_count 85 = .ok (.getfield 28, 3) := dk_180 0 28 (dk_at dksX1_count_2 9 rfl rfl)
theorem dX1_count_88 : decode cX1_count 88 = .ok (.getfield 229, 3) := dk_180 0 229 (dk_at dksX1_count_2 12 rfl rfl)
theorem dX1_count_91 : decode cX1_count 91 = .ok (.ireturn, 1) := dk_172 (dk_at dksX1_count_2 15 rfl rfl)
theorem dX1_count_92 : decode cX1_count 92 = .ok (.aload_n 0, 1) := dk_42 (dk_at dksX1_count_2 16 rfl rfl)
theorem dX1_count_93 : decode cX1_count 93 = .ok (.getfield 28, 3) := dk_180 0 28 (dk_at dksX1_count_2 17 rfl rfl)
theorem dX1_count_96 : decode cX1_count 96 = .ok (.getfield 147, 3) := dk_180 0 147 (dk_at dksX1_count_2 20 rfl rfl)
theorem dX1_count_99 : decode cX1_count 99 = .ok (.ireturn, 1) := dk_172 (dk_at dksX1_count_2 23 rfl rfl)
theorem dX1_count_100 : decode cX1_count 100 = .ok (.aload_n 0, 1) := dk_42 (dk_at dksX1_count_3 0 rfl rfl)
theorem dX1_count_101 : decode cX1_count 101 = .ok (.getfield 28, 3) := dk_180 0 28 (dk_at dksX1_count_3 1 rfl rfl)
theorem dX1_count_104 : decode cX1_count 104 = .ok (.invokevirtual 232, 3) := dk_182 0 232 (dk_at dksX1_count_3 4 rfl rfl)
theorem dX1_count_107 : decode cX1_count 107 = .ok (.ireturn, 1) := dk_172 (dk_at dksX1_count_3 7 rfl rfl)
theorem dX1_count_108 : decode cX1_count 108 = .ok (.aload_n 0, 1) := dk_42 (dk_at dksX1_count_3 8 rfl rfl)
theorem dX1_count_109 : decode cX1_count 109 = .ok (.getfield 28, 3) := dk_180 0 28 (dk_at dksX1_count_3 9 rfl rfl)
theorem dX1_count_112 : decode cX1_count 112 = .ok (.invokevirtual 112, 3) := dk_182 0 112 (dk_at dksX1_count_3 12 rfl rfl)
theorem dX1_count_115 : decode cX1_count 115 = .ok (.ireturn, 1) := dk_172 (dk_at dksX1_count_3 15 rfl rfl)
theorem dX1_count_116 : decode cX1_count 116 = .ok (.aload_n 0, 1) := dk_42 (dk_at dksX1_count_3 16 rfl rfl)
theorem dX1_count_117 : decode cX1_count 117 = .ok (.getfield 28, 3) := dk_180 0 28 (dk_at dksX1_count_3 17 rfl rfl)
theorem dX1_count_120 : decode cX1_count 120 = .ok (.getfield 235, 3) := dk_180 0 235 (dk_at dksX1_count_3 20 rfl rfl)
theorem dX1_count_123 : decode cX1_count 123 = .ok (.invokeinterface 153 1, 5) := by decide +kernel
theorem dX1_count_128 : decode cX1_count 128 = .ok (.ireturn, 1) := dk_172 (dk_at dksX1_count_4 5 rfl rfl)
theorem dX1_count_129 : decode cX1_count 129 = .ok (.aload_n 0, 1) := dk_42 (dk_at dksX1_count_4 6 rfl rfl)
theorem dX1_count_130 : decode cX1_count 130 = .ok (.invokevirtual 238, 3) := dk_182 0 238 (dk_at dksX1_count_4 7 rfl rfl)
theorem dX1_count_133 : decode cX1_count 133 = .ok (.ireturn, 1) := dk_172 (dk_at dksX1_count_4 10 rfl rfl)
theorem dX1_count_134 : decode cX1_count 134 = .ok (.aload_n 0, 1) := dk_42 (dk_at dksX1_count_4 11 rfl rfl)
theorem dX1_count_135 : decode cX1_count 135 = .ok (.getfield 28, 3) := dk_180 0 28 (dk_at dksX1_count_4 12 rfl rfl)
theorem dX1_count_138 : decode cX1_count 138 = .ok (.getfield 193, 3) := dk_180 0 193 (dk_at dksX1_count_4 15 rfl rfl)
theorem dX1_count_141 : decode cX1_count 141 = .ok (.ireturn, 1) := dk_172 (dk_at dksX1_count_4 18 rfl rfl)
theorem dX1_count_142 : decode cX1_count 142 = .ok (.aload_n 0, 1) := dk_42 (dk_at dksX1_count_4 19 rfl rfl)
theorem dX1_count_143 : decode cX1_count 143 = .ok (.getfield 28, 3) := dk_180 0 28 (dk_at dksX1_count_4 20 rfl rfl)
theorem dX1_count_146 : decode cX1_count 146 = .ok (.getfield 211, 3) := dk_180 0 211 (dk_at dksX1_count_5 0 rfl rfl)
theorem dX1_count_149 : decode cX1_count 149 = .ok (.ireturn, 1) := dk_172 (dk_at dksX1_count_5 3 rfl rfl)
theorem dX1_count_150 : decode cX1_count 150 = .ok (.aload_n 0, 1) := dk_42 (dk_at dksX1_count_5 4 rfl rfl)
theorem dX1_count_151 : decode cX1_count 151 = .ok (.getfield 28, 3) := dk_180 0 28 (dk_at dksX1_count_5 5 rfl rfl)
theorem dX1_count_154 : decode cX1_count 154 = .ok (.getfield 217, 3) := dk_180 0 217 (dk_at dksX1_count_5 8 rfl rfl)
theorem dX1_count_157 : decode cX1_count 157 = .ok (.ireturn, 1) := dk_172 (dk_at dksX1_count_5 11 rfl rfl)
theorem dX1_count_158 : decode cX1_count 158 = .ok (.aload_n 0, 1) := dk_42 (dk_at dksX1_count_5 12 rfl rfl)
theorem dX1_count_159 : decode cX1_count 159 = .ok (.getfield 28, 3) := dk_180 0 28 (dk_at dksX1_count_5 13 rfl rfl)
theorem dX1_count_162 : decode cX1_count 162 = .ok (.getfield 241, 3) := dk_180 0 241 (dk_at dksX1_count_5 16 rfl rfl)
theorem dX1_count_165 : decode cX1_count 165 = .ok (.ireturn, 1) := dk_172 (dk_at dksX1_count_5 19 rfl rfl)
theorem dX1_count_166 : decode cX1_count 166 = .ok (.aload_n 0, 1) := dk_42 (dk_at dksX1_count_5 20 rfl rfl)
theorem dX1_count_167 : decode cX1_count 167 = .ok (.getfield 28, 3) := dk_180 0 28 (dk_at dksX1_count_5 21 rfl rfl)
theorem dX1_count_170 : decode cX1_count 170 = .ok (.getfield 150, 3) := dk_180 0 150 (dk_at dksX1_count_6 0 rfl rfl)
theorem dX1_count_173 : decode cX1_count 173 = .ok (.invokeinterface 153 1, 5) := by decide +kernel
theorem dX1_count_178 : decode cX1_count 178 = .ok (.ireturn, 1) := dk_172 (dk_at dksX1_count_6 8 rfl rfl)
theorem dX1_count_179 : decode cX1_count 179 = .ok (.aload_n 0, 1) := dk_42 (dk_at dksX1_count_6 9 rfl rfl)
theorem dX1_count_180 : decode cX1_count 180 = .ok (.getfield 109, 3) := dk_180 0 109 (dk_at dksX1_count_6 10 rfl rfl)
theorem dX1_count_183 : decode cX1_count 183 = .ok (.ireturn, 1) := dk_172 (dk_at dksX1_count_6 13 rfl rfl)
theorem dX1_count_184 : decode cX1_count 184 = .ok (.aload_n 0, 1) := dk_42 (dk_at dksX1_count_6 14 rfl rfl)
theorem dX1_count_185 : decode cX1_count 185 = .ok (.getfield 66, 3) := dk_180 0 66 (dk_at dksX1_count_6 15 rfl rfl)
theorem dX1_count_188 : decode cX1_count 188 = .ok (.ireturn, 1) := dk_172 (dk_at dksX1_count_6 18 rfl rfl)
theorem dX1_count_189 : decode cX1_count 189 = .ok (.aload_n 0, 1) := dk_42 (dk_at dksX1_count_6 19 rfl rfl)
theorem dX1_count_190 : decode cX1_count 190 = .ok (.getfield 28, 3) := dk_180 0 28 (dk_at dksX1_count_6 20 rfl rfl)
theorem dX1_count_193 : decode cX1_count 193 = .ok (.getfield 244, 3) := dk_180 0 244 (dk_at dksX1_count_7 0 rfl rfl)
theorem dX1_count_196 : decode cX1_count 196 = .ok (.ireturn, 1) := dk_172 (dk_at dksX1_count_7 3 rfl rfl)
theorem dX1_count_197 : decode cX1_count 197 = .ok (.new 126, 3) := dk_187 0 126 (dk_at dksX1_count_7 4 rfl rfl)
theorem dX1_count_200 : decode cX1_count 200 = .ok (.dup, 1) := dk_89 (dk_at dksX1_count_7 7 rfl rfl)
theorem dX1_count_201 : decode cX1_count 201 = .ok (.invokespecial 128, 3) := dk_183 0 128 (dk_at dksX1_count_7 8 rfl rfl)
theorem dX1_count_204 : decode cX1_count 204 = .ok (.athrow, 1) := dk_191 (dk_at dksX1_count_7 11 rfl rfl)
abbrev cX1_idle : ByteArray := prog_1_method_36_code
def yX1_idle : MethodName := ⟨RX1, "idle", "()I"⟩
def dkwX1_idle_1 : List UInt8 := [96, 60, 132, 2, 1, 167, 255, 231, 27, 172]
abbrev dktX1_idle_1 : List UInt8 := dkwX1_idle_1 ++ []
def dkwX1_idle_0 : List UInt8 := [3, 60, 3, 61, 28, 42, 180, 0, 28, 180, 0, 144, 162, 0, 20, 27, 42, 180, 0, 28, 28, 182, 0, 226]
abbrev dktX1_idle_0 : List UInt8 := dkwX1_idle_0 ++ dktX1_idle_1
theorem dksX1_idle_0 : cX1_idle.data.toList.drop 0 = dktX1_idle_0 := by decide +kernel
theorem dksX1_idle_1 : cX1_idle.data.toList.drop 24 = dktX1_idle_1 := dk_seg dksX1_idle_0 24 rfl rfl
theorem dX1_idle_0 : decode cX1_idle 0 = .ok (.iconst 0, 1) := dk_3 (dk_at dksX1_idle_0 0 rfl rfl)
theorem dX1_idle_1 : decode cX1_idle 1 = .ok (.istore_n 1, 1) := dk_60 (dk_at dksX1_idle_0 1 rfl rfl)
theorem dX1_idle_2 : decode cX1_idle 2 = .ok (.iconst 0, 1) := dk_3 (dk_at dksX1_idle_0 2 rfl rfl)
theorem dX1_idle_3 : decode cX1_idle 3 = .ok (.istore_n 2, 1) := dk_61 (dk_at dksX1_idle_0 3 rfl rfl)
theorem dX1_idle_4 : decode cX1_idle 4 = .ok (.iload_n 2, 1) := dk_28 (dk_at dksX1_idle_0 4 rfl rfl)
theorem dX1_idle_5 : decode cX1_idle 5 = .ok (.aload_n 0, 1) := dk_42 (dk_at dksX1_idle_0 5 rfl rfl)
theorem dX1_idle_6 : decode cX1_idle 6 = .ok (.getfield 28, 3) := dk_180 0 28 (dk_at dksX1_idle_0 6 rfl rfl)
theorem dX1_idle_9 : decode cX1_idle 9 = .ok (.getfield 144, 3) := dk_180 0 144 (dk_at dksX1_idle_0 9 rfl rfl)
theorem dX1_idle_12 : decode cX1_idle 12 = .ok (.if_icmp .ge 20, 3) := dk_162 0 20 (dk_at dksX1_idle_0 12 rfl rfl)
theorem dX1_idle_15 : decode cX1_idle 15 = .ok (.iload_n 1, 1) := dk_27 (dk_at dksX1_idle_0 15 rfl rfl)
theorem dX1_idle_16 : decode cX1_idle 16 = .ok (.aload_n 0, 1) := dk_42 (dk_at dksX1_idle_0 16 rfl rfl)
theorem dX1_idle_17 : decode cX1_idle 17 = .ok (.getfield 28, 3) := dk_180 0 28 (dk_at dksX1_idle_0 17 rfl rfl)
theorem dX1_idle_20 : decode cX1_idle 20 = .ok (.iload_n 2, 1) := dk_28 (dk_at dksX1_idle_0 20 rfl rfl)
theorem dX1_idle_21 : decode cX1_idle 21 = .ok (.invokevirtual 226, 3) := dk_182 0 226 (dk_at dksX1_idle_0 21 rfl rfl)
theorem dX1_idle_24 : decode cX1_idle 24 = .ok (.iadd, 1) := dk_96 (dk_at dksX1_idle_1 0 rfl rfl)
theorem dX1_idle_25 : decode cX1_idle 25 = .ok (.istore_n 1, 1) := dk_60 (dk_at dksX1_idle_1 1 rfl rfl)
theorem dX1_idle_26 : decode cX1_idle 26 = .ok (.iinc 2 1, 3) := dk_132 2 1 (dk_at dksX1_idle_1 2 rfl rfl)
theorem dX1_idle_29 : decode cX1_idle 29 = .ok (.goto (-25), 3) := dk_167 255 231 (dk_at dksX1_idle_1 5 rfl rfl)
theorem dX1_idle_32 : decode cX1_idle 32 = .ok (.iload_n 1, 1) := dk_27 (dk_at dksX1_idle_1 8 rfl rfl)
theorem dX1_idle_33 : decode cX1_idle 33 = .ok (.ireturn, 1) := dk_172 (dk_at dksX1_idle_1 9 rfl rfl)
abbrev cX1_account : ByteArray := prog_1_method_38_code
def yX1_account : MethodName := ⟨RX1, "account", "(I)I"⟩
def dkwX1_account_0 : List UInt8 := [27, 3, 16, 12, 184, 0, 73, 184, 0, 77, 42, 180, 0, 28, 180, 0, 247, 27, 46, 172]
abbrev dktX1_account_0 : List UInt8 := dkwX1_account_0 ++ []
theorem dksX1_account_0 : cX1_account.data.toList.drop 0 = dktX1_account_0 := by decide +kernel
theorem dX1_account_0 : decode cX1_account 0 = .ok (.iload_n 1, 1) := dk_27 (dk_at dksX1_account_0 0 rfl rfl)
theorem dX1_account_1 : decode cX1_account 1 = .ok (.iconst 0, 1) := dk_3 (dk_at dksX1_account_0 1 rfl rfl)
theorem dX1_account_2 : decode cX1_account 2 = .ok (.bipush 12, 2) := dk_16 12 (dk_at dksX1_account_0 2 rfl rfl)
theorem dX1_account_4 : decode cX1_account 4 = .ok (.invokestatic 73, 3) := dk_184 0 73 (dk_at dksX1_account_0 4 rfl rfl)
theorem dX1_account_7 : decode cX1_account 7 = .ok (.invokestatic 77, 3) := dk_184 0 77 (dk_at dksX1_account_0 7 rfl rfl)
theorem dX1_account_10 : decode cX1_account 10 = .ok (.aload_n 0, 1) := dk_42 (dk_at dksX1_account_0 10 rfl rfl)
theorem dX1_account_11 : decode cX1_account 11 = .ok (.getfield 28, 3) := dk_180 0 28 (dk_at dksX1_account_0 11 rfl rfl)
theorem dX1_account_14 : decode cX1_account 14 = .ok (.getfield 247, 3) := dk_180 0 247 (dk_at dksX1_account_0 14 rfl rfl)
theorem dX1_account_17 : decode cX1_account 17 = .ok (.iload_n 1, 1) := dk_27 (dk_at dksX1_account_0 17 rfl rfl)
theorem dX1_account_18 : decode cX1_account 18 = .ok (.iaload, 1) := dk_46 (dk_at dksX1_account_0 18 rfl rfl)
theorem dX1_account_19 : decode cX1_account 19 = .ok (.ireturn, 1) := dk_172 (dk_at dksX1_account_0 19 rfl rfl)
abbrev cX1_subscriber : ByteArray := prog_1_method_40_code
def yX1_subscriber : MethodName := ⟨RX1, "subscriber", "(II)I"⟩
def dkwX1_subscriber_6 : List UInt8 := [167, 0, 8, 25, 4, 180, 1, 27, 172, 42, 27, 182, 1, 32, 172, 187, 0, 126, 89, 183, 0, 128, 191]
abbrev dktX1_subscriber_6 : List UInt8 := dkwX1_subscriber_6 ++ []
def dkwX1_subscriber_5 : List UInt8 := [198, 0, 15, 45, 180, 1, 24, 27, 160, 0, 7, 4, 167, 0, 4, 3, 172, 25, 4, 199, 0, 7, 2]
abbrev dktX1_subscriber_5 : List UInt8 := dkwX1_subscriber_5 ++ dktX1_subscriber_6
def dkwX1_subscriber_4 : List UInt8 := [167, 0, 7, 45, 180, 1, 16, 172, 45, 199, 0, 7, 2, 167, 0, 8, 45, 27, 182, 1, 21, 172, 45]
abbrev dktX1_subscriber_4 : List UInt8 := dkwX1_subscriber_4 ++ dktX1_subscriber_5
def dkwX1_subscriber_3 : List UInt8 := [42, 180, 0, 28, 27, 182, 1, 10, 172, 42, 180, 0, 28, 27, 182, 1, 13, 172, 45, 199, 0, 7, 2]
abbrev dktX1_subscriber_3 : List UInt8 := dkwX1_subscriber_3 ++ dktX1_subscriber_4
def dkwX1_subscriber_2 : List UInt8 := [170, 0, 0, 0, 0, 126, 0, 0, 0, 0, 0, 0, 0, 6, 0, 0, 0, 42, 0, 0, 0, 51, 0, 0, 0, 60, 0, 0, 0, 73, 0, 0, 0, 87, 0, 0, 0, 105, 0, 0, 0, 120]
abbrev dktX1_subscriber_2 : List UInt8 := dkwX1_subscriber_2 ++ dktX1_subscriber_3
def dkwX1_subscriber_1 : List UInt8 := [58, 4, 28]
abbrev dktX1_subscriber_1 : List UInt8 := dkwX1_subscriber_1 ++ dktX1_subscriber_2
def dkwX1_subscriber_0 : List UInt8 := [42, 27, 182, 0, 141, 42, 180, 0, 28, 180, 1, 2, 27, 50, 78, 42, 180, 0, 28, 27, 182, 1, 6]
abbrev dktX1_subscriber_0 : List UInt8 := dkwX1_subscriber_0 ++ dktX1_subscriber_1
theorem dksX1_subscriber_0 : cX1_subscriber.data.toList.drop 0 = dktX1_subscriber_0 := by decide +kernel
theorem dksX1_subscriber_1 : cX1_subscriber.data.toList.drop 23 = dktX1_subscriber_1 := dk_seg dksX1_subscriber_0 23 rfl rfl
theorem dksX1_subscriber_2 : cX1_subscriber.data.toList.drop 26 = dktX1_subscriber_2 := dk_seg dksX1_subscriber_1 3 rfl rfl
theorem dksX1_subscriber_3 : cX1_subscriber.data.toList.drop 68 = dktX1_subscriber_3 := dk_seg dksX1_subscriber_2 42 rfl rfl
theorem dksX1_subscriber_4 : cX1_subscriber.data.toList.drop 91 = dktX1_subscriber_4 := dk_seg dksX1_subscriber_3 23 rfl rfl
theorem dksX1_subscriber_5 : cX1_subscriber.data.toList.drop 114 = dktX1_subscriber_5 := dk_seg dksX1_subscriber_4 23 rfl rfl
theorem dksX1_subscriber_6 : cX1_subscriber.data.toList.drop 137 = dktX1_subscriber_6 := dk_seg dksX1_subscriber_5 23 rfl rfl
theorem dX1_subscriber_0 : decode cX1_subscriber 0 = .ok (.aload_n 0, 1) := dk_42 (dk_at dksX1_subscriber_0 0 rfl rfl)
theorem dX1_subscriber_1 : decode cX1_subscriber 1 = .ok (.iload_n 1, 1) := dk_27 (dk_at dksX1_subscriber_0 1 rfl rfl)
theorem dX1_subscriber_2 : decode cX1_subscriber 2 = .ok (.invokevirtual 141, 3) := dk_182 0 141 (dk_at dksX1_subscriber_0 2 rfl rfl)
theorem dX1_subscriber_5 : decode cX1_subscriber 5 = .ok (.aload_n 0, 1) := dk_42 (dk_at dksX1_subscriber_0 5 rfl rfl)
theorem dX1_subscriber_6 : decode cX1_subscriber 6 = .ok (.getfield 28, 3) := dk_180 0 28 (dk_at dksX1_subscriber_0 6 rfl rfl)
theorem dX1_subscriber_9 : decode cX1_subscriber 9 = .ok (.getfield 258, 3) := dk_180 1 2 (dk_at dksX1_subscriber_0 9 rfl rfl)
theorem dX1_subscriber_12 : decode cX1_subscriber 12 = .ok (.iload_n 1, 1) := dk_27 (dk_at dksX1_subscriber_0 12 rfl rfl)
theorem dX1_subscriber_13 : decode cX1_subscriber 13 = .ok (.aaload, 1) := dk_50 (dk_at dksX1_subscriber_0 13 rfl rfl)
theorem dX1_subscriber_14 : decode cX1_subscriber 14 = .ok (.astore_n 3, 1) := dk_78 (dk_at dksX1_subscriber_0 14 rfl rfl)
theorem dX1_subscriber_15 : decode cX1_subscriber 15 = .ok (.aload_n 0, 1) := dk_42 (dk_at dksX1_subscriber_0 15 rfl rfl)
theorem dX1_subscriber_16 : decode cX1_subscriber 16 = .ok (.getfield 28, 3) := dk_180 0 28 (dk_at dksX1_subscriber_0 16 rfl rfl)
theorem dX1_subscriber_19 : decode cX1_subscriber 19 = .ok (.iload_n 1, 1) := dk_27 (dk_at dksX1_subscriber_0 19 rfl rfl)
theorem dX1_subscriber_20 : decode cX1_subscriber 20 = .ok (.invokevirtual 262, 3) := dk_182 1 6 (dk_at dksX1_subscriber_0 20 rfl rfl)
theorem dX1_subscriber_23 : decode cX1_subscriber 23 = .ok (.astore 4, 2) := dk_58 4 (dk_at dksX1_subscriber_1 0 rfl rfl)
theorem dX1_subscriber_25 : decode cX1_subscriber 25 = .ok (.iload_n 2, 1) := dk_28 (dk_at dksX1_subscriber_1 2 rfl rfl)
theorem dX1_subscriber_26 : decode cX1_subscriber 26 = .ok (.tableswitch 126 0 6 #[42, 51, 60, 73, 87, 105, 120], 42) := by decide +kernel
theorem dX1_subscriber_68 : decode cX1_subscriber 68 = .ok (.aload_n 0, 1) := dk_42 (dk_at dksX1_subscriber_3 0 rfl rfl)
theorem dX1_subscriber_69 : decode cX1_subscriber 69 = .ok (.getfield 28, 3) := dk_180 0 28 (dk_at dksX1_subscriber_3 1 rfl rfl)
theorem dX1_subscriber_72 : decode cX1_subscriber 72 = .ok (.iload_n 1, 1) := dk_27 (dk_at dksX1_subscriber_3 4 rfl rfl)
theorem dX1_subscriber_73 : decode cX1_subscriber 73 = .ok (.invokevirtual 266, 3) := dk_182 1 10 (dk_at dksX1_subscriber_3 5 rfl rfl)
theorem dX1_subscriber_76 : decode cX1_subscriber 76 = .ok (.ireturn, 1) := dk_172 (dk_at dksX1_subscriber_3 8 rfl rfl)
theorem dX1_subscriber_77 : decode cX1_subscriber 77 = .ok (.aload_n 0, 1) := dk_42 (dk_at dksX1_subscriber_3 9 rfl rfl)
theorem dX1_subscriber_78 : decode cX1_subscriber 78 = .ok (.getfield 28, 3) := dk_180 0 28 (dk_at dksX1_subscriber_3 10 rfl rfl)
theorem dX1_subscriber_81 : decode cX1_subscriber 81 = .ok (.iload_n 1, 1) := dk_27 (dk_at dksX1_subscriber_3 13 rfl rfl)
theorem dX1_subscriber_82 : decode cX1_subscriber 82 = .ok (.invokevirtual 269, 3) := dk_182 1 13 (dk_at dksX1_subscriber_3 14 rfl rfl)
theorem dX1_subscriber_85 : decode cX1_subscriber 85 = .ok (.ireturn, 1) := dk_172 (dk_at dksX1_subscriber_3 17 rfl rfl)
theorem dX1_subscriber_86 : decode cX1_subscriber 86 = .ok (.aload_n 3, 1) := dk_45 (dk_at dksX1_subscriber_3 18 rfl rfl)
theorem dX1_subscriber_87 : decode cX1_subscriber 87 = .ok (.ifnonnull 7, 3) := dk_199 0 7 (dk_at dksX1_subscriber_3 19 rfl rfl)
theorem dX1_subscriber_90 : decode cX1_subscriber 90 = .ok (.iconst (-1), 1) := dk_2 (dk_at dksX1_subscriber_3 22 rfl rfl)
theorem dX1_subscriber_91 : decode cX1_subscriber 91 = .ok (.goto 7, 3) := dk_167 0 7 (dk_at dksX1_subscriber_4 0 rfl rfl)
theorem dX1_subscriber_94 : decode cX1_subscriber 94 = .ok (.aload_n 3, 1) := dk_45 (dk_at dksX1_subscriber_4 3 rfl rfl)
theorem dX1_subscriber_95 : decode cX1_subscriber 95 = .ok (.getfield 272, 3) := dk_180 1 16 (dk_at dksX1_subscriber_4 4 rfl rfl)
theorem dX1_subscriber_98 : decode cX1_subscriber 98 = .ok (.ireturn, 1) := dk_172 (dk_at dksX1_subscriber_4 7 rfl rfl)
theorem dX1_subscriber_99 : decode cX1_subscriber 99 = .ok (.aload_n 3, 1) := dk_45 (dk_at dksX1_subscriber_4 8 rfl rfl)
theorem dX1_subscriber_100 : decode cX1_subscriber 100 = .ok (.ifnonnull 7, 3) := dk_199 0 7 (dk_at dksX1_subscriber_4 9 rfl rfl)
theorem dX1_subscriber_103 : decode cX1_subscriber 103 = .ok (.iconst (-1), 1) := dk_2 (dk_at dksX1_subscriber_4 12 rfl rfl)
theorem dX1_subscriber_104 : decode cX1_subscriber 104 = .ok (.goto 8, 3) := dk_167 0 8 (dk_at dksX1_subscriber_4 13 rfl rfl)
theorem dX1_subscriber_107 : decode cX1_subscriber 107 = .ok (.aload_n 3, 1) := dk_45 (dk_at dksX1_subscriber_4 16 rfl rfl)
theorem dX1_subscriber_108 : decode cX1_subscriber 108 = .ok (.iload_n 1, 1) := dk_27 (dk_at dksX1_subscriber_4 17 rfl rfl)
theorem dX1_subscriber_109 : decode cX1_subscriber 109 = .ok (.invokevirtual 277, 3) := dk_182 1 21 (dk_at dksX1_subscriber_4 18 rfl rfl)
theorem dX1_subscriber_112 : decode cX1_subscriber 112 = .ok (.ireturn, 1) := dk_172 (dk_at dksX1_subscriber_4 21 rfl rfl)
theorem dX1_subscriber_113 : decode cX1_subscriber 113 = .ok (.aload_n 3, 1) := dk_45 (dk_at dksX1_subscriber_4 22 rfl rfl)
theorem dX1_subscriber_114 : decode cX1_subscriber 114 = .ok (.ifnull 15, 3) := dk_198 0 15 (dk_at dksX1_subscriber_5 0 rfl rfl)
theorem dX1_subscriber_117 : decode cX1_subscriber 117 = .ok (.aload_n 3, 1) := dk_45 (dk_at dksX1_subscriber_5 3 rfl rfl)
theorem dX1_subscriber_118 : decode cX1_subscriber 118 = .ok (.getfield 280, 3) := dk_180 1 24 (dk_at dksX1_subscriber_5 4 rfl rfl)
theorem dX1_subscriber_121 : decode cX1_subscriber 121 = .ok (.iload_n 1, 1) := dk_27 (dk_at dksX1_subscriber_5 7 rfl rfl)
theorem dX1_subscriber_122 : decode cX1_subscriber 122 = .ok (.if_icmp .ne 7, 3) := dk_160 0 7 (dk_at dksX1_subscriber_5 8 rfl rfl)
theorem dX1_subscriber_125 : decode cX1_subscriber 125 = .ok (.iconst 1, 1) := dk_4 (dk_at dksX1_subscriber_5 11 rfl rfl)
theorem dX1_subscriber_126 : decode cX1_subscriber 126 = .ok (.goto 4, 3) := dk_167 0 4 (dk_at dksX1_subscriber_5 12 rfl rfl)
theorem dX1_subscriber_129 : decode cX1_subscriber 129 = .ok (.iconst 0, 1) := dk_3 (dk_at dksX1_subscriber_5 15 rfl rfl)
theorem dX1_subscriber_130 : decode cX1_subscriber 130 = .ok (.ireturn, 1) := dk_172 (dk_at dksX1_subscriber_5 16 rfl rfl)
theorem dX1_subscriber_131 : decode cX1_subscriber 131 = .ok (.aload 4, 2) := dk_25 4 (dk_at dksX1_subscriber_5 17 rfl rfl)
theorem dX1_subscriber_133 : decode cX1_subscriber 133 = .ok (.ifnonnull 7, 3) := dk_199 0 7 (dk_at dksX1_subscriber_5 19 rfl rfl)
theorem dX1_subscriber_136 : decode cX1_subscriber 136 = .ok (.iconst (-1), 1) := dk_2 (dk_at dksX1_subscriber_5 22 rfl rfl)
theorem dX1_subscriber_137 : decode cX1_subscriber 137 = .ok (.goto 8, 3) := dk_167 0 8 (dk_at dksX1_subscriber_6 0 rfl rfl)
theorem dX1_subscriber_140 : decode cX1_subscriber 140 = .ok (.aload 4, 2) := dk_25 4 (dk_at dksX1_subscriber_6 3 rfl rfl)
theorem dX1_subscriber_142 : decode cX1_subscriber 142 = .ok (.getfield 283, 3) := dk_180 1 27 (dk_at dksX1_subscriber_6 5 rfl rfl)
theorem dX1_subscriber_145 : decode cX1_subscriber 145 = .ok (.ireturn, 1) := dk_172 (dk_at dksX1_subscriber_6 8 rfl rfl)
theorem dX1_subscriber_146 : decode cX1_subscriber 146 = .ok (.aload_n 0, 1) := dk_42 (dk_at dksX1_subscriber_6 9 rfl rfl)
theorem dX1_subscriber_147 : decode cX1_subscriber 147 = .ok (.iload_n 1, 1) := dk_27 (dk_at dksX1_subscriber_6 10 rfl rfl)
theorem dX1_subscriber_148 : decode cX1_subscriber 148 = .ok (.invokevirtual 288, 3) := dk_182 1 32 (dk_at dksX1_subscriber_6 11 rfl rfl)
theorem dX1_subscriber_151 : decode cX1_subscriber 151 = .ok (.ireturn, 1) := dk_172 (dk_at dksX1_subscriber_6 14 rfl rfl)
theorem dX1_subscriber_152 : decode cX1_subscriber 152 = .ok (.new 126, 3) := dk_187 0 126 (dk_at dksX1_subscriber_6 15 rfl rfl)
theorem dX1_subscriber_155 : decode cX1_subscriber 155 = .ok (.dup, 1) := dk_89 (dk_at dksX1_subscriber_6 18 rfl rfl)
theorem dX1_subscriber_156 : decode cX1_subscriber 156 = .ok (.invokespecial 128, 3) := dk_183 0 128 (dk_at dksX1_subscriber_6 19 rfl rfl)
theorem dX1_subscriber_159 : decode cX1_subscriber 159 = .ok (.athrow, 1) := dk_191 (dk_at dksX1_subscriber_6 22 rfl rfl)
abbrev cX1_groupsOf : ByteArray := prog_1_method_39_code
def yX1_groupsOf : MethodName := ⟨RX1, "groupsOf", "(I)I"⟩
def dkwX1_groupsOf_2 : List UInt8 := [132, 3, 1, 167, 255, 211, 28, 172]
abbrev dktX1_groupsOf_2 : List UInt8 := dkwX1_groupsOf_2 ++ []
def dkwX1_groupsOf_1 : List UInt8 := [180, 0, 150, 29, 185, 0, 251, 2, 0, 192, 0, 39, 27, 182, 0, 255, 153, 0, 6, 132, 2, 1]
abbrev dktX1_groupsOf_1 : List UInt8 := dkwX1_groupsOf_1 ++ dktX1_groupsOf_2
def dkwX1_groupsOf_0 : List UInt8 := [3, 61, 3, 62, 29, 42, 180, 0, 28, 180, 0, 150, 185, 0, 153, 1, 0, 162, 0, 35, 42, 180, 0, 28]
abbrev dktX1_groupsOf_0 : List UInt8 := dkwX1_groupsOf_0 ++ dktX1_groupsOf_1
theorem dksX1_groupsOf_0 : cX1_groupsOf.data.toList.drop 0 = dktX1_groupsOf_0 := by decide +kernel
theorem dksX1_groupsOf_1 : cX1_groupsOf.data.toList.drop 24 = dktX1_groupsOf_1 := dk_seg dksX1_groupsOf_0 24 rfl rfl
theorem dksX1_groupsOf_2 : cX1_groupsOf.data.toList.drop 46 = dktX1_groupsOf_2 := dk_seg dksX1_groupsOf_1 22 rfl rfl
theorem dX1_groupsOf_0 : decode cX1_groupsOf 0 = .ok (.iconst 0, 1) := dk_3 (dk_at dksX1_groupsOf_0 0 rfl rfl)
theorem dX1_groupsOf_1 : decode cX1_groupsOf 1 = .ok (.istore_n 2, 1) := dk_61 (dk_at dksX1_groupsOf_0 1 rfl rfl)
theorem dX1_groupsOf_2 : decode cX1_groupsOf 2 = .ok (.iconst 0, 1) := dk_3 (dk_at dksX1_groupsOf_0 2 rfl rfl)
theorem dX1_groupsOf_3 : decode cX1_groupsOf 3 = .ok (.istore_n 3, 1) := dk_62 (dk_at dksX1_groupsOf_0 3 rfl rfl)
theorem dX1_groupsOf_4 : decode cX1_groupsOf 4 = .ok (.iload_n 3, 1) := dk_29 (dk_at dksX1_groupsOf_0 4 rfl rfl)
theorem dX1_groupsOf_5 : decode cX1_groupsOf 5 = .ok (.aload_n 0, 1) := dk_42 (dk_at dksX1_groupsOf_0 5 rfl rfl)
theorem dX1_groupsOf_6 : decode cX1_groupsOf 6 = .ok (.getfield 28, 3) := dk_180 0 28 (dk_at dksX1_groupsOf_0 6 rfl rfl)
theorem dX1_groupsOf_9 : decode cX1_groupsOf 9 = .ok (.getfield 150, 3) := dk_180 0 150 (dk_at dksX1_groupsOf_0 9 rfl rfl)
theorem dX1_groupsOf_12 : decode cX1_groupsOf 12 = .ok (.invokeinterface 153 1, 5) := by decide +kernel
theorem dX1_groupsOf_17 : decode cX1_groupsOf 17 = .ok (.if_icmp .ge 35, 3) := dk_162 0 35 (dk_at dksX1_groupsOf_0 17 rfl rfl)
theorem dX1_groupsOf_20 : decode cX1_groupsOf 20 = .ok (.aload_n 0, 1) := dk_42 (dk_at dksX1_groupsOf_0 20 rfl rfl)
theorem dX1_groupsOf_21 : decode cX1_groupsOf 21 = .ok (.getfield 28, 3) := dk_180 0 28 (dk_at dksX1_groupsOf_0 21 rfl rfl)
theorem dX1_groupsOf_24 : decode cX1_groupsOf 24 = .ok (.getfield 150, 3) := dk_180 0 150 (dk_at dksX1_groupsOf_1 0 rfl rfl)
theorem dX1_groupsOf_27 : decode cX1_groupsOf 27 = .ok (.iload_n 3, 1) := dk_29 (dk_at dksX1_groupsOf_1 3 rfl rfl)
theorem dX1_groupsOf_28 : decode cX1_groupsOf 28 = .ok (.invokeinterface 251 2, 5) := by decide +kernel
theorem dX1_groupsOf_33 : decode cX1_groupsOf 33 = .ok (.checkcast 39, 3) := dk_192 0 39 (dk_at dksX1_groupsOf_1 9 rfl rfl)
theorem dX1_groupsOf_36 : decode cX1_groupsOf 36 = .ok (.iload_n 1, 1) := dk_27 (dk_at dksX1_groupsOf_1 12 rfl rfl)
theorem dX1_groupsOf_37 : decode cX1_groupsOf 37 = .ok (.invokevirtual 255, 3) := dk_182 0 255 (dk_at dksX1_groupsOf_1 13 rfl rfl)
theorem dX1_groupsOf_40 : decode cX1_groupsOf 40 = .ok (.ifCond .eq 6, 3) := dk_153 0 6 (dk_at dksX1_groupsOf_1 16 rfl rfl)
theorem dX1_groupsOf_43 : decode cX1_groupsOf 43 = .ok (.iinc 2 1, 3) := dk_132 2 1 (dk_at dksX1_groupsOf_1 19 rfl rfl)
theorem dX1_groupsOf_46 : decode cX1_groupsOf 46 = .ok (.iinc 3 1, 3) := dk_132 3 1 (dk_at dksX1_groupsOf_2 0 rfl rfl)
theorem dX1_groupsOf_49 : decode cX1_groupsOf 49 = .ok (.goto (-45), 3) := dk_167 255 211 (dk_at dksX1_groupsOf_2 3 rfl rfl)
theorem dX1_groupsOf_52 : decode cX1_groupsOf 52 = .ok (.iload_n 2, 1) := dk_28 (dk_at dksX1_groupsOf_2 6 rfl rfl)
theorem dX1_groupsOf_53 : decode cX1_groupsOf 53 = .ok (.ireturn, 1) := dk_172 (dk_at dksX1_groupsOf_2 7 rfl rfl)
abbrev cX1_stage : ByteArray := prog_1_method_43_code
def yX1_stage : MethodName := ⟨RX1, "stage", "(II)I"⟩
def dkwX1_stage_4 : List UInt8 := [172, 187, 0, 126, 89, 183, 0, 128, 191]
abbrev dktX1_stage_4 : List UInt8 := dkwX1_stage_4 ++ []
def dkwX1_stage_3 : List UInt8 := [27, 182, 0, 226, 172, 42, 27, 182, 1, 56, 172, 42, 27, 3, 182, 1, 59, 172, 42, 27, 4, 182, 1, 59]
abbrev dktX1_stage_3 : List UInt8 := dkwX1_stage_3 ++ dktX1_stage_4
def dkwX1_stage_2 : List UInt8 := [42, 180, 0, 28, 27, 3, 182, 1, 52, 172, 42, 180, 0, 28, 27, 4, 182, 1, 52, 172, 42, 180, 0, 28]
abbrev dktX1_stage_2 : List UInt8 := dkwX1_stage_2 ++ dktX1_stage_3
def dkwX1_stage_1 : List UInt8 := [170, 0, 0, 0, 0, 87, 0, 0, 0, 0, 0, 0, 0, 5, 0, 0, 0, 38, 0, 0, 0, 48, 0, 0, 0, 58, 0, 0, 0, 67, 0, 0, 0, 73, 0, 0, 0, 80]
abbrev dktX1_stage_1 : List UInt8 := dkwX1_stage_1 ++ dktX1_stage_2
def dkwX1_stage_0 : List UInt8 := [42, 27, 182, 1, 49, 28]
abbrev dktX1_stage_0 : List UInt8 := dkwX1_stage_0 ++ dktX1_stage_1
theorem dksX1_stage_0 : cX1_stage.data.toList.drop 0 = dktX1_stage_0 := by decide +kernel
theorem dksX1_stage_1 : cX1_stage.data.toList.drop 6 = dktX1_stage_1 := dk_seg dksX1_stage_0 6 rfl rfl
theorem dksX1_stage_2 : cX1_stage.data.toList.drop 44 = dktX1_stage_2 := dk_seg dksX1_stage_1 38 rfl rfl
theorem dksX1_stage_3 : cX1_stage.data.toList.drop 68 = dktX1_stage_3 := dk_seg dksX1_stage_2 24 rfl rfl
theorem dksX1_stage_4 : cX1_stage.data.toList.drop 92 = dktX1_stage_4 := dk_seg dksX1_stage_3 24 rfl rfl
theorem dX1_stage_0 : decode cX1_stage 0 = .ok (.aload_n 0, 1) := dk_42 (dk_at dksX1_stage_0 0 rfl rfl)
theorem dX1_stage_1 : decode cX1_stage 1 = .ok (.iload_n 1, 1) := dk_27 (dk_at dksX1_stage_0 1 rfl rfl)
theorem dX1_stage_2 : decode cX1_stage 2 = .ok (.invokevirtual 305, 3) := dk_182 1 49 (dk_at dksX1_stage_0 2 rfl rfl)
theorem dX1_stage_5 : decode cX1_stage 5 = .ok (.iload_n 2, 1) := dk_28 (dk_at dksX1_stage_0 5 rfl rfl)
theorem dX1_stage_6 : decode cX1_stage 6 = .ok (.tableswitch 87 0 5 #[38, 48, 58, 67, 73, 80], 38) := by decide +kernel
theorem dX1_stage_44 : decode cX1_stage 44 = .ok (.aload_n 0, 1) := dk_42 (dk_at dksX1_stage_2 0 rfl rfl)
theorem dX1_stage_45 : decode cX1_stage 45 = .ok (.getfield 28, 3) := dk_180 0 28 (dk_at dksX1_stage_2 1 rfl rfl)
theorem dX1_stage_48 : decode cX1_stage 48 = .ok (.iload_n 1, 1) := dk_27 (dk_at dksX1_stage_2 4 rfl rfl)
theorem dX1_stage_49 : decode cX1_stage 49 = .ok (.iconst 0, 1) := dk_3 (dk_at dksX1_stage_2 5 rfl rfl)
theorem dX1_stage_50 : decode cX1_stage 50 = .ok (.invokevirtual 308, 3) := dk_182 1 52 (dk_at dksX1_stage_2 6 rfl rfl)
theorem dX1_stage_53 : decode cX1_stage 53 = .ok (.ireturn, 1) := dk_172 (dk_at dksX1_stage_2 9 rfl rfl)
theorem dX1_stage_54 : decode cX1_stage 54 = .ok (.aload_n 0, 1) := dk_42 (dk_at dksX1_stage_2 10 rfl rfl)
theorem dX1_stage_55 : decode cX1_stage 55 = .ok (.getfield 28, 3) := dk_180 0 28 (dk_at dksX1_stage_2 11 rfl rfl)
theorem dX1_stage_58 : decode cX1_stage 58 = .ok (.iload_n 1, 1) := dk_27 (dk_at dksX1_stage_2 14 rfl rfl)
theorem dX1_stage_59 : decode cX1_stage 59 = .ok (.iconst 1, 1) := dk_4 (dk_at dksX1_stage_2 15 rfl rfl)
theorem dX1_stage_60 : decode cX1_stage 60 = .ok (.invokevirtual 308, 3) := dk_182 1 52 (dk_at dksX1_stage_2 16 rfl rfl)
theorem dX1_stage_63 : decode cX1_stage 63 = .ok (.ireturn, 1) := dk_172 (dk_at dksX1_stage_2 19 rfl rfl)
theorem dX1_stage_64 : decode cX1_stage 64 = .ok (.aload_n 0, 1) := dk_42 (dk_at dksX1_stage_2 20 rfl rfl)
theorem dX1_stage_65 : decode cX1_stage 65 = .ok (.getfield 28, 3) := dk_180 0 28 (dk_at dksX1_stage_2 21 rfl rfl)
theorem dX1_stage_68 : decode cX1_stage 68 = .ok (.iload_n 1, 1) := dk_27 (dk_at dksX1_stage_3 0 rfl rfl)
theorem dX1_stage_69 : decode cX1_stage 69 = .ok (.invokevirtual 226, 3) := dk_182 0 226 (dk_at dksX1_stage_3 1 rfl rfl)
theorem dX1_stage_72 : decode cX1_stage 72 = .ok (.ireturn, 1) := dk_172 (dk_at dksX1_stage_3 4 rfl rfl)
theorem dX1_stage_73 : decode cX1_stage 73 = .ok (.aload_n 0, 1) := dk_42 (dk_at dksX1_stage_3 5 rfl rfl)
theorem dX1_stage_74 : decode cX1_stage 74 = .ok (.iload_n 1, 1) := dk_27 (dk_at dksX1_stage_3 6 rfl rfl)
theorem dX1_stage_75 : decode cX1_stage 75 = .ok (.invokevirtual 312, 3) := dk_182 1 56 (dk_at dksX1_stage_3 7 rfl rfl)
theorem dX1_stage_78 : decode cX1_stage 78 = .ok (.ireturn, 1) := dk_172 (dk_at dksX1_stage_3 10 rfl rfl)
theorem dX1_stage_79 : decode cX1_stage 79 = .ok (.aload_n 0, 1) := dk_42 (dk_at dksX1_stage_3 11 rfl rfl)
theorem dX1_stage_80 : decode cX1_stage 80 = .ok (.iload_n 1, 1) := dk_27 (dk_at dksX1_stage_3 12 rfl rfl)
theorem dX1_stage_81 : decode cX1_stage 81 = .ok (.iconst 0, 1) := dk_3 (dk_at dksX1_stage_3 13 rfl rfl)
theorem dX1_stage_82 : decode cX1_stage 82 = .ok (.invokevirtual 315, 3) := dk_182 1 59 (dk_at dksX1_stage_3 14 rfl rfl)
theorem dX1_stage_85 : decode cX1_stage 85 = .ok (.ireturn, 1) := dk_172 (dk_at dksX1_stage_3 17 rfl rfl)
theorem dX1_stage_86 : decode cX1_stage 86 = .ok (.aload_n 0, 1) := dk_42 (dk_at dksX1_stage_3 18 rfl rfl)
theorem dX1_stage_87 : decode cX1_stage 87 = .ok (.iload_n 1, 1) := dk_27 (dk_at dksX1_stage_3 19 rfl rfl)
theorem dX1_stage_88 : decode cX1_stage 88 = .ok (.iconst 1, 1) := dk_4 (dk_at dksX1_stage_3 20 rfl rfl)
theorem dX1_stage_89 : decode cX1_stage 89 = .ok (.invokevirtual 315, 3) := dk_182 1 59 (dk_at dksX1_stage_3 21 rfl rfl)
theorem dX1_stage_92 : decode cX1_stage 92 = .ok (.ireturn, 1) := dk_172 (dk_at dksX1_stage_4 0 rfl rfl)
theorem dX1_stage_93 : decode cX1_stage 93 = .ok (.new 126, 3) := dk_187 0 126 (dk_at dksX1_stage_4 1 rfl rfl)
theorem dX1_stage_96 : decode cX1_stage 96 = .ok (.dup, 1) := dk_89 (dk_at dksX1_stage_4 4 rfl rfl)
theorem dX1_stage_97 : decode cX1_stage 97 = .ok (.invokespecial 128, 3) := dk_183 0 128 (dk_at dksX1_stage_4 5 rfl rfl)
theorem dX1_stage_100 : decode cX1_stage 100 = .ok (.athrow, 1) := dk_191 (dk_at dksX1_stage_4 8 rfl rfl)
abbrev cX1_needStage : ByteArray := prog_1_method_17_code
def yX1_needStage : MethodName := ⟨RX1, "needStage", "(I)V"⟩
def dkwX1_needStage_0 : List UInt8 := [27, 3, 42, 180, 0, 28, 180, 0, 144, 4, 100, 184, 0, 73, 184, 0, 138, 177]
abbrev dktX1_needStage_0 : List UInt8 := dkwX1_needStage_0 ++ []
theorem dksX1_needStage_0 : cX1_needStage.data.toList.drop 0 = dktX1_needStage_0 := by decide +kernel
theorem dX1_needStage_0 : decode cX1_needStage 0 = .ok (.iload_n 1, 1) := dk_27 (dk_at dksX1_needStage_0 0 rfl rfl)
theorem dX1_needStage_1 : decode cX1_needStage 1 = .ok (.iconst 0, 1) := dk_3 (dk_at dksX1_needStage_0 1 rfl rfl)
theorem dX1_needStage_2 : decode cX1_needStage 2 = .ok (.aload_n 0, 1) := dk_42 (dk_at dksX1_needStage_0 2 rfl rfl)
theorem dX1_needStage_3 : decode cX1_needStage 3 = .ok (.getfield 28, 3) := dk_180 0 28 (dk_at dksX1_needStage_0 3 rfl rfl)
theorem dX1_needStage_6 : decode cX1_needStage 6 = .ok (.getfield 144, 3) := dk_180 0 144 (dk_at dksX1_needStage_0 6 rfl rfl)
theorem dX1_needStage_9 : decode cX1_needStage 9 = .ok (.iconst 1, 1) := dk_4 (dk_at dksX1_needStage_0 9 rfl rfl)
theorem dX1_needStage_10 : decode cX1_needStage 10 = .ok (.isub, 1) := dk_100 (dk_at dksX1_needStage_0 10 rfl rfl)
theorem dX1_needStage_11 : decode cX1_needStage 11 = .ok (.invokestatic 73, 3) := dk_184 0 73 (dk_at dksX1_needStage_0 11 rfl rfl)
theorem dX1_needStage_14 : decode cX1_needStage 14 = .ok (.invokestatic 138, 3) := dk_184 0 138 (dk_at dksX1_needStage_0 14 rfl rfl)
theorem dX1_needStage_17 : decode cX1_needStage 17 = .ok (.return_, 1) := dk_177 (dk_at dksX1_needStage_0 17 rfl rfl)
abbrev cX1_own : ByteArray := prog_1_method_41_code
def yX1_own : MethodName := ⟨RX1, "own", "(I)I"⟩
def dkwX1_own_3 : List UInt8 := [132, 3, 1, 167, 255, 187, 28, 172]
abbrev dktX1_own_3 : List UInt8 := dkwX1_own_3 ++ []
def dkwX1_own_2 : List UInt8 := [180, 0, 28, 42, 180, 0, 28, 180, 1, 35, 29, 50, 182, 1, 42, 27, 160, 0, 6, 132, 2, 1]
abbrev dktX1_own_2 : List UInt8 := dkwX1_own_2 ++ dktX1_own_3
def dkwX1_own_1 : List UInt8 := [198, 0, 46, 42, 180, 0, 28, 42, 180, 0, 28, 180, 1, 35, 29, 50, 182, 1, 38, 27, 160, 0, 26, 42]
abbrev dktX1_own_1 : List UInt8 := dkwX1_own_1 ++ dktX1_own_2
def dkwX1_own_0 : List UInt8 := [3, 61, 3, 62, 29, 42, 180, 0, 28, 180, 0, 244, 162, 0, 64, 42, 180, 0, 28, 180, 1, 35, 29, 50]
abbrev dktX1_own_0 : List UInt8 := dkwX1_own_0 ++ dktX1_own_1
theorem dksX1_own_0 : cX1_own.data.toList.drop 0 = dktX1_own_0 := by decide +kernel
theorem dksX1_own_1 : cX1_own.data.toList.drop 24 = dktX1_own_1 := dk_seg dksX1_own_0 24 rfl rfl
theorem dksX1_own_2 : cX1_own.data.toList.drop 48 = dktX1_own_2 := dk_seg dksX1_own_1 24 rfl rfl
theorem dksX1_own_3 : cX1_own.data.toList.drop 70 = dktX1_own_3 := dk_seg dksX1_own_2 22 rfl rfl
theorem dX1_own_0 : decode cX1_own 0 = .ok (.iconst 0, 1) := dk_3 (dk_at dksX1_own_0 0 rfl rfl)
theorem dX1_own_1 : decode cX1_own 1 = .ok (.istore_n 2, 1) := dk_61 (dk_at dksX1_own_0 1 rfl rfl)
theorem dX1_own_2 : decode cX1_own 2 = .ok (.iconst 0, 1) := dk_3 (dk_at dksX1_own_0 2 rfl rfl)
theorem dX1_own_3 : decode cX1_own 3 = .ok (.istore_n 3, 1) := dk_62 (dk_at dksX1_own_0 3 rfl rfl)
theorem dX1_own_4 : decode cX1_own 4 = .ok (.iload_n 3, 1) := dk_29 (dk_at dksX1_own_0 4 rfl rfl)
theorem dX1_own_5 : decode cX1_own 5 = .ok (.aload_n 0, 1) := dk_42 (dk_at dksX1_own_0 5 rfl rfl)
theorem dX1_own_6 : decode cX1_own 6 = .ok (.getfield 28, 3) := dk_180 0 28 (dk_at dksX1_own_0 6 rfl rfl)
theorem dX1_own_9 : decode cX1_own 9 = .ok (.getfield 244, 3) := dk_180 0 244 (dk_at dksX1_own_0 9 rfl rfl)
theorem dX1_own_12 : decode cX1_own 12 = .ok (.if_icmp .ge 64, 3) := dk_162 0 64 (dk_at dksX1_own_0 12 rfl rfl)
theorem dX1_own_15 : decode cX1_own 15 = .ok (.aload_n 0, 1) := dk_42 (dk_at dksX1_own_0 15 rfl rfl)
theorem dX1_own_16 : decode cX1_own 16 = .ok (.getfield 28, 3) := dk_180 0 28 (dk_at dksX1_own_0 16 rfl rfl)
theorem dX1_own_19 : decode cX1_own 19 = .ok (.getfield 291, 3) := dk_180 1 35 (dk_at dksX1_own_0 19 rfl rfl)
theorem dX1_own_22 : decode cX1_own 22 = .ok (.iload_n 3, 1) := dk_29 (dk_at dksX1_own_0 22 rfl rfl)
theorem dX1_own_23 : decode cX1_own 23 = .ok (.aaload, 1) := dk_50 (dk_at dksX1_own_0 23 rfl rfl)
theorem dX1_own_24 : decode cX1_own 24 = .ok (.ifnull 46, 3) := dk_198 0 46 (dk_at dksX1_own_1 0 rfl rfl)
theorem dX1_own_27 : decode cX1_own 27 = .ok (.aload_n 0, 1) := dk_42 (dk_at dksX1_own_1 3 rfl rfl)
theorem dX1_own_28 : decode cX1_own 28 = .ok (.getfield 28, 3) := dk_180 0 28 (dk_at dksX1_own_1 4 rfl rfl)
theorem dX1_own_31 : decode cX1_own 31 = .ok (.aload_n 0, 1) := dk_42 (dk_at dksX1_own_1 7 rfl rfl)
theorem dX1_own_32 : decode cX1_own 32 = .ok (.getfield 28, 3) := dk_180 0 28 (dk_at dksX1_own_1 8 rfl rfl)
theorem dX1_own_35 : decode cX1_own 35 = .ok (.getfield 291, 3) := dk_180 1 35 (dk_at dksX1_own_1 11 rfl rfl)
theorem dX1_own_38 : decode cX1_own 38 = .ok (.iload_n 3, 1) := dk_29 (dk_at dksX1_own_1 14 rfl rfl)
theorem dX1_own_39 : decode cX1_own 39 = .ok (.aaload, 1) := dk_50 (dk_at dksX1_own_1 15 rfl rfl)
theorem dX1_own_40 : decode cX1_own 40 = .ok (.invokevirtual 294, 3) := dk_182 1 38 (dk_at dksX1_own_1 16 rfl rfl)
theorem dX1_own_43 : decode cX1_own 43 = .ok (.iload_n 1, 1) := dk_27 (dk_at dksX1_own_1 19 rfl rfl)
theorem dX1_own_44 : decode cX1_own 44 = .ok (.if_icmp .ne 26, 3) := dk_160 0 26 (dk_at dksX1_own_1 20 rfl rfl)
theorem dX1_own_47 : decode cX1_own 47 = .ok (.aload_n 0, 1) := dk_42 (dk_at dksX1_own_1 23 rfl rfl)
theorem dX1_own_48 : decode cX1_own 48 = .ok (.getfield 28, 3) := dk_180 0 28 (dk_at dksX1_own_2 0 rfl rfl)
theorem dX1_own_51 : decode cX1_own 51 = .ok (.aload_n 0, 1) := dk_42 (dk_at dksX1_own_2 3 rfl rfl)
theorem dX1_own_52 : decode cX1_own 52 = .ok (.getfield 28, 3) := dk_180 0 28 (dk_at dksX1_own_2 4 rfl rfl)
theorem dX1_own_55 : decode cX1_own 55 = .ok (.getfield 291, 3) := dk_180 1 35 (dk_at dksX1_own_2 7 rfl rfl)
theorem dX1_own_58 : decode cX1_own 58 = .ok (.iload_n 3, 1) := dk_29 (dk_at dksX1_own_2 10 rfl rfl)
theorem dX1_own_59 : decode cX1_own 59 = .ok (.aaload, 1) := dk_50 (dk_at dksX1_own_2 11 rfl rfl)
theorem dX1_own_60 : decode cX1_own 60 = .ok (.invokevirtual 298, 3) := dk_182 1 42 (dk_at dksX1_own_2 12 rfl rfl)
theorem dX1_own_63 : decode cX1_own 63 = .ok (.iload_n 1, 1) := dk_27 (dk_at dksX1_own_2 15 rfl rfl)
theorem dX1_own_64 : decode cX1_own 64 = .ok (.if_icmp .ne 6, 3) := dk_160 0 6 (dk_at dksX1_own_2 16 rfl rfl)
theorem dX1_own_67 : decode cX1_own 67 = .ok (.iinc 2 1, 3) := dk_132 2 1 (dk_at dksX1_own_2 19 rfl rfl)
theorem dX1_own_70 : decode cX1_own 70 = .ok (.iinc 3 1, 3) := dk_132 3 1 (dk_at dksX1_own_3 0 rfl rfl)
theorem dX1_own_73 : decode cX1_own 73 = .ok (.goto (-69), 3) := dk_167 255 187 (dk_at dksX1_own_3 3 rfl rfl)
theorem dX1_own_76 : decode cX1_own 76 = .ok (.iload_n 2, 1) := dk_28 (dk_at dksX1_own_3 6 rfl rfl)
theorem dX1_own_77 : decode cX1_own 77 = .ok (.ireturn, 1) := dk_172 (dk_at dksX1_own_3 7 rfl rfl)
abbrev cX1_silent : ByteArray := prog_1_method_42_code
def yX1_silent : MethodName := ⟨RX1, "silent", "(IZ)I"⟩
def dkwX1_silent_2 : List UInt8 := [132, 4, 1, 167, 255, 212, 29, 172]
abbrev dktX1_silent_2 : List UInt8 := dkwX1_silent_2 ++ []
def dkwX1_silent_1 : List UInt8 := [182, 0, 202, 153, 0, 20, 42, 180, 0, 28, 21, 4, 27, 28, 182, 1, 45, 199, 0, 6, 132, 3, 1]
abbrev dktX1_silent_1 : List UInt8 := dkwX1_silent_1 ++ dktX1_silent_2
def dkwX1_silent_0 : List UInt8 := [3, 62, 3, 54, 4, 21, 4, 42, 180, 0, 28, 180, 0, 147, 162, 0, 38, 42, 180, 0, 28, 21, 4]
abbrev dktX1_silent_0 : List UInt8 := dkwX1_silent_0 ++ dktX1_silent_1
theorem dksX1_silent_0 : cX1_silent.data.toList.drop 0 = dktX1_silent_0 := by decide +kernel
theorem dksX1_silent_1 : cX1_silent.data.toList.drop 23 = dktX1_silent_1 := dk_seg dksX1_silent_0 23 rfl rfl
theorem dksX1_silent_2 : cX1_silent.data.toList.drop 46 = dktX1_silent_2 := dk_seg dksX1_silent_1 23 rfl rfl
theorem dX1_silent_0 : decode cX1_silent 0 = .ok (.iconst 0, 1) := dk_3 (dk_at dksX1_silent_0 0 rfl rfl)
theorem dX1_silent_1 : decode cX1_silent 1 = .ok (.istore_n 3, 1) := dk_62 (dk_at dksX1_silent_0 1 rfl rfl)
theorem dX1_silent_2 : decode cX1_silent 2 = .ok (.iconst 0, 1) := dk_3 (dk_at dksX1_silent_0 2 rfl rfl)
theorem dX1_silent_3 : decode cX1_silent 3 = .ok (.istore 4, 2) := dk_54 4 (dk_at dksX1_silent_0 3 rfl rfl)
theorem dX1_silent_5 : decode cX1_silent 5 = .ok (.iload 4, 2) := dk_21 4 (dk_at dksX1_silent_0 5 rfl rfl)
theorem dX1_silent_7 : decode cX1_silent 7 = .ok (.aload_n 0, 1) := dk_42 (dk_at dksX1_silent_0 7 rfl rfl)
theorem dX1_silent_8 : decode cX1_silent 8 = .ok (.getfield 28, 3) := dk_180 0 28 (dk_at dksX1_silent_0 8 rfl rfl)
theorem dX1_silent_11 : decode cX1_silent 11 = .ok (.getfield 147, 3) := dk_180 0 147 (dk_at dksX1_silent_0 11 rfl rfl)
theorem dX1_silent_14 : decode cX1_silent 14 = .ok (.if_icmp .ge 38, 3) := dk_162 0 38 (dk_at dksX1_silent_0 14 rfl rfl)
theorem dX1_silent_17 : decode cX1_silent 17 = .ok (.aload_n 0, 1) := dk_42 (dk_at dksX1_silent_0 17 rfl rfl)
theorem dX1_silent_18 : decode cX1_silent 18 = .ok (.getfield 28, 3) := dk_180 0 28 (dk_at dksX1_silent_0 18 rfl rfl)
theorem dX1_silent_21 : decode cX1_silent 21 = .ok (.iload 4, 2) := dk_21 4 (dk_at dksX1_silent_0 21 rfl rfl)
theorem dX1_silent_23 : decode cX1_silent 23 = .ok (.invokevirtual 202, 3) := dk_182 0 202 (dk_at dksX1_silent_1 0 rfl rfl)
theorem dX1_silent_26 : decode cX1_silent 26 = .ok (.ifCond .eq 20, 3) := dk_153 0 20 (dk_at dksX1_silent_1 3 rfl rfl)
theorem dX1_silent_29 : decode cX1_silent 29 = .ok (.aload_n 0, 1) := dk_42 (dk_at dksX1_silent_1 6 rfl rfl)
theorem dX1_silent_30 : decode cX1_silent 30 = .ok (.getfield 28, 3) := dk_180 0 28 (dk_at dksX1_silent_1 7 rfl rfl)
theorem dX1_silent_33 : decode cX1_silent 33 = .ok (.iload 4, 2) := dk_21 4 (dk_at dksX1_silent_1 10 rfl rfl)
theorem dX1_silent_35 : decode cX1_silent 35 = .ok (.iload_n 1, 1) := dk_27 (dk_at dksX1_silent_1 12 rfl rfl)
theorem dX1_silent_36 : decode cX1_silent 36 = .ok (.iload_n 2, 1) := dk_28 (dk_at dksX1_silent_1 13 rfl rfl)
theorem dX1_silent_37 : decode cX1_silent 37 = .ok (.invokevirtual 301, 3) := dk_182 1 45 (dk_at dksX1_silent_1 14 rfl rfl)
theorem dX1_silent_40 : decode cX1_silent 40 = .ok (.ifnonnull 6, 3) := dk_199 0 6 (dk_at dksX1_silent_1 17 rfl rfl)
theorem dX1_silent_43 : decode cX1_silent 43 = .ok (.iinc 3 1, 3) := dk_132 3 1 (dk_at dksX1_silent_1 20 rfl rfl)
theorem dX1_silent_46 : decode cX1_silent 46 = .ok (.iinc 4 1, 3) := dk_132 4 1 (dk_at dksX1_silent_2 0 rfl rfl)
theorem dX1_silent_49 : decode cX1_silent 49 = .ok (.goto (-44), 3) := dk_167 255 212 (dk_at dksX1_silent_2 3 rfl rfl)
theorem dX1_silent_52 : decode cX1_silent 52 = .ok (.iload_n 3, 1) := dk_29 (dk_at dksX1_silent_2 6 rfl rfl)
theorem dX1_silent_53 : decode cX1_silent 53 = .ok (.ireturn, 1) := dk_172 (dk_at dksX1_silent_2 7 rfl rfl)
abbrev cX1_middle : ByteArray := prog_1_method_45_code
def yX1_middle : MethodName := ⟨RX1, "middle", "(II)I"⟩
def dkwX1_middle_3 : List UInt8 := [182, 1, 65, 172, 42, 27, 182, 1, 68, 172, 187, 0, 126, 89, 183, 0, 128, 191]
abbrev dktX1_middle_3 : List UInt8 := dkwX1_middle_3 ++ []
def dkwX1_middle_2 : List UInt8 := [42, 180, 0, 28, 27, 182, 0, 202, 153, 0, 7, 4, 167, 0, 4, 3, 172, 42, 180, 0, 28, 27]
abbrev dktX1_middle_2 : List UInt8 := dkwX1_middle_2 ++ dktX1_middle_3
def dkwX1_middle_1 : List UInt8 := [170, 0, 0, 0, 0, 58, 0, 0, 0, 0, 0, 0, 0, 2, 0, 0, 0, 26, 0, 0, 0, 43, 0, 0, 0, 52]
abbrev dktX1_middle_1 : List UInt8 := dkwX1_middle_1 ++ dktX1_middle_2
def dkwX1_middle_0 : List UInt8 := [42, 27, 182, 0, 199, 28]
abbrev dktX1_middle_0 : List UInt8 := dkwX1_middle_0 ++ dktX1_middle_1
theorem dksX1_middle_0 : cX1_middle.data.toList.drop 0 = dktX1_middle_0 := by decide +kernel
theorem dksX1_middle_1 : cX1_middle.data.toList.drop 6 = dktX1_middle_1 := dk_seg dksX1_middle_0 6 rfl rfl
theorem dksX1_middle_2 : cX1_middle.data.toList.drop 32 = dktX1_middle_2 := dk_seg dksX1_middle_1 26 rfl rfl
theorem dksX1_middle_3 : cX1_middle.data.toList.drop 54 = dktX1_middle_3 := dk_seg dksX1_middle_2 22 rfl rfl
theorem dX1_middle_0 : decode cX1_middle 0 = .ok (.aload_n 0, 1) := dk_42 (dk_at dksX1_middle_0 0 rfl rfl)
theorem dX1_middle_1 : decode cX1_middle 1 = .ok (.iload_n 1, 1) := dk_27 (dk_at dksX1_middle_0 1 rfl rfl)
theorem dX1_middle_2 : decode cX1_middle 2 = .ok (.invokevirtual 199, 3) := dk_182 0 199 (dk_at dksX1_middle_0 2 rfl rfl)
theorem dX1_middle_5 : decode cX1_middle 5 = .ok (.iload_n 2, 1) := dk_28 (dk_at dksX1_middle_0 5 rfl rfl)
theorem dX1_middle_6 : decode cX1_middle 6 = .ok (.tableswitch 58 0 2 #[26, 43, 52], 26) := by decide +kernel
theorem dX1_middle_32 : decode cX1_middle 32 = .ok (.aload_n 0, 1) := dk_42 (dk_at dksX1_middle_2 0 rfl rfl)
theorem dX1_middle_33 : decode cX1_middle 33 = .ok (.getfield 28, 3) := dk_180 0 28 (dk_at dksX1_middle_2 1 rfl rfl)
theorem dX1_middle_36 : decode cX1_middle 36 = .ok (.iload_n 1, 1) := dk_27 (dk_at dksX1_middle_2 4 rfl rfl)
theorem dX1_middle_37 : decode cX1_middle 37 = .ok (.invokevirtual 202, 3) := dk_182 0 202 (dk_at dksX1_middle_2 5 rfl rfl)
theorem dX1_middle_40 : decode cX1_middle 40 = .ok (.ifCond .eq 7, 3) := dk_153 0 7 (dk_at dksX1_middle_2 8 rfl rfl)
theorem dX1_middle_43 : decode cX1_middle 43 = .ok (.iconst 1, 1) := dk_4 (dk_at dksX1_middle_2 11 rfl rfl)
theorem dX1_middle_44 : decode cX1_middle 44 = .ok (.goto 4, 3) := dk_167 0 4 (dk_at dksX1_middle_2 12 rfl rfl)
theorem dX1_middle_47 : decode cX1_middle 47 = .ok (.iconst 0, 1) := dk_3 (dk_at dksX1_middle_2 15 rfl rfl)
theorem dX1_middle_48 : decode cX1_middle 48 = .ok (.ireturn, 1) := dk_172 (dk_at dksX1_middle_2 16 rfl rfl)
theorem dX1_middle_49 : decode cX1_middle 49 = .ok (.aload_n 0, 1) := dk_42 (dk_at dksX1_middle_2 17 rfl rfl)
theorem dX1_middle_50 : decode cX1_middle 50 = .ok (.getfield 28, 3) := dk_180 0 28 (dk_at dksX1_middle_2 18 rfl rfl)
theorem dX1_middle_53 : decode cX1_middle 53 = .ok (.iload_n 1, 1) := dk_27 (dk_at dksX1_middle_2 21 rfl rfl)
theorem dX1_middle_54 : decode cX1_middle 54 = .ok (.invokevirtual 321, 3) := dk_182 1 65 (dk_at dksX1_middle_3 0 rfl rfl)
theorem dX1_middle_57 : decode cX1_middle 57 = .ok (.ireturn, 1) := dk_172 (dk_at dksX1_middle_3 3 rfl rfl)
theorem dX1_middle_58 : decode cX1_middle 58 = .ok (.aload_n 0, 1) := dk_42 (dk_at dksX1_middle_3 4 rfl rfl)
theorem dX1_middle_59 : decode cX1_middle 59 = .ok (.iload_n 1, 1) := dk_27 (dk_at dksX1_middle_3 5 rfl rfl)
theorem dX1_middle_60 : decode cX1_middle 60 = .ok (.invokevirtual 324, 3) := dk_182 1 68 (dk_at dksX1_middle_3 6 rfl rfl)
theorem dX1_middle_63 : decode cX1_middle 63 = .ok (.ireturn, 1) := dk_172 (dk_at dksX1_middle_3 9 rfl rfl)
theorem dX1_middle_64 : decode cX1_middle 64 = .ok (.new 126, 3) := dk_187 0 126 (dk_at dksX1_middle_3 10 rfl rfl)
theorem dX1_middle_67 : decode cX1_middle 67 = .ok (.dup, 1) := dk_89 (dk_at dksX1_middle_3 13 rfl rfl)
theorem dX1_middle_68 : decode cX1_middle 68 = .ok (.invokespecial 128, 3) := dk_183 0 128 (dk_at dksX1_middle_3 14 rfl rfl)
theorem dX1_middle_71 : decode cX1_middle 71 = .ok (.athrow, 1) := dk_191 (dk_at dksX1_middle_3 17 rfl rfl)
abbrev cX1_lowestOn : ByteArray := prog_1_method_44_code
def yX1_lowestOn : MethodName := ⟨RX1, "lowestOn", "(I)I"⟩
def dkwX1_lowestOn_2 : List UInt8 := [167, 255, 212, 2, 172]
abbrev dktX1_lowestOn_2 : List UInt8 := dkwX1_lowestOn_2 ++ []
def dkwX1_lowestOn_1 : List UInt8 := [198, 0, 21, 42, 180, 0, 28, 180, 1, 35, 28, 50, 180, 1, 62, 27, 160, 0, 5, 28, 172, 132, 2, 1]
abbrev dktX1_lowestOn_1 : List UInt8 := dkwX1_lowestOn_1 ++ dktX1_lowestOn_2
def dkwX1_lowestOn_0 : List UInt8 := [3, 61, 28, 42, 180, 0, 28, 180, 0, 244, 162, 0, 39, 42, 180, 0, 28, 180, 1, 35, 28, 50]
abbrev dktX1_lowestOn_0 : List UInt8 := dkwX1_lowestOn_0 ++ dktX1_lowestOn_1
theorem dksX1_lowestOn_0 : cX1_lowestOn.data.toList.drop 0 = dktX1_lowestOn_0 := by decide +kernel
theorem dksX1_lowestOn_1 : cX1_lowestOn.data.toList.drop 22 = dktX1_lowestOn_1 := dk_seg dksX1_lowestOn_0 22 rfl rfl
theorem dksX1_lowestOn_2 : cX1_lowestOn.data.toList.drop 46 = dktX1_lowestOn_2 := dk_seg dksX1_lowestOn_1 24 rfl rfl
theorem dX1_lowestOn_0 : decode cX1_lowestOn 0 = .ok (.iconst 0, 1) := dk_3 (dk_at dksX1_lowestOn_0 0 rfl rfl)
theorem dX1_lowestOn_1 : decode cX1_lowestOn 1 = .ok (.istore_n 2, 1) := dk_61 (dk_at dksX1_lowestOn_0 1 rfl rfl)
theorem dX1_lowestOn_2 : decode cX1_lowestOn 2 = .ok (.iload_n 2, 1) := dk_28 (dk_at dksX1_lowestOn_0 2 rfl rfl)
theorem dX1_lowestOn_3 : decode cX1_lowestOn 3 = .ok (.aload_n 0, 1) := dk_42 (dk_at dksX1_lowestOn_0 3 rfl rfl)
theorem dX1_lowestOn_4 : decode cX1_lowestOn 4 = .ok (.getfield 28, 3) := dk_180 0 28 (dk_at dksX1_lowestOn_0 4 rfl rfl)
theorem dX1_lowestOn_7 : decode cX1_lowestOn 7 = .ok (.getfield 244, 3) := dk_180 0 244 (dk_at dksX1_lowestOn_0 7 rfl rfl)
theorem dX1_lowestOn_10 : decode cX1_lowestOn 10 = .ok (.if_icmp .ge 39, 3) := dk_162 0 39 (dk_at dksX1_lowestOn_0 10 rfl rfl)
theorem dX1_lowestOn_13 : decode cX1_lowestOn 13 = .ok (.aload_n 0, 1) := dk_42 (dk_at dksX1_lowestOn_0 13 rfl rfl)
theorem dX1_lowestOn_14 : decode cX1_lowestOn 14 = .ok (.getfield 28, 3) := dk_180 0 28 (dk_at dksX1_lowestOn_0 14 rfl rfl)
theorem dX1_lowestOn_17 : decode cX1_lowestOn 17 = .ok (.getfield 291, 3) := dk_180 1 35 (dk_at dksX1_lowestOn_0 17 rfl rfl)
theorem dX1_lowestOn_20 : decode cX1_lowestOn 20 = .ok (.iload_n 2, 1) := dk_28 (dk_at dksX1_lowestOn_0 20 rfl rfl)
theorem dX1_lowestOn_21 : decode cX1_lowestOn 21 = .ok (.aaload, 1) := dk_50 (dk_at dksX1_lowestOn_0 21 rfl rfl)
theorem dX1_lowestOn_22 : decode cX1_lowestOn 22 = .ok (.ifnull 21, 3) := dk_198 0 21 (dk_at dksX1_lowestOn_1 0 rfl rfl)
theorem dX1_lowestOn_25 : decode cX1_lowestOn 25 = .ok (.aload_n 0, 1) := dk_42 (dk_at dksX1_lowestOn_1 3 rfl rfl)
theorem dX1_lowestOn_26 : decode cX1_lowestOn 26 = .ok (.getfield 28, 3) := dk_180 0 28 (dk_at dksX1_lowestOn_1 4 rfl rfl)
theorem dX1_lowestOn_29 : decode cX1_lowestOn 29 = .ok (.getfield 291, 3) := dk_180 1 35 (dk_at dksX1_lowestOn_1 7 rfl rfl)
theorem dX1_lowestOn_32 : decode cX1_lowestOn 32 = .ok (.iload_n 2, 1) := dk_28 (dk_at dksX1_lowestOn_1 10 rfl rfl)
theorem dX1_lowestOn_33 : decode cX1_lowestOn 33 = .ok (.aaload, 1) := dk_50 (dk_at dksX1_lowestOn_1 11 rfl rfl)
theorem dX1_lowestOn_34 : decode cX1_lowestOn 34 = .ok (.getfield 318, 3) := dk_180 1 62 (dk_at dksX1_lowestOn_1 12 rfl rfl)
theorem dX1_lowestOn_37 : decode cX1_lowestOn 37 = .ok (.iload_n 1, 1) := dk_27 (dk_at dksX1_lowestOn_1 15 rfl rfl)
theorem dX1_lowestOn_38 : decode cX1_lowestOn 38 = .ok (.if_icmp .ne 5, 3) := dk_160 0 5 (dk_at dksX1_lowestOn_1 16 rfl rfl)
theorem dX1_lowestOn_41 : decode cX1_lowestOn 41 = .ok (.iload_n 2, 1) := dk_28 (dk_at dksX1_lowestOn_1 19 rfl rfl)
theorem dX1_lowestOn_42 : decode cX1_lowestOn 42 = .ok (.ireturn, 1) := dk_172 (dk_at dksX1_lowestOn_1 20 rfl rfl)
theorem dX1_lowestOn_43 : decode cX1_lowestOn 43 = .ok (.iinc 2 1, 3) := dk_132 2 1 (dk_at dksX1_lowestOn_1 21 rfl rfl)
theorem dX1_lowestOn_46 : decode cX1_lowestOn 46 = .ok (.goto (-44), 3) := dk_167 255 212 (dk_at dksX1_lowestOn_2 0 rfl rfl)
theorem dX1_lowestOn_49 : decode cX1_lowestOn 49 = .ok (.iconst (-1), 1) := dk_2 (dk_at dksX1_lowestOn_2 3 rfl rfl)
theorem dX1_lowestOn_50 : decode cX1_lowestOn 50 = .ok (.ireturn, 1) := dk_172 (dk_at dksX1_lowestOn_2 4 rfl rfl)
abbrev cX1_carried : ByteArray := prog_1_method_46_code
def yX1_carried : MethodName := ⟨RX1, "carried", "(IIZ)I"⟩
def dkwX1_carried_1 : List UInt8 := [199, 0, 7, 2, 167, 0, 8, 25, 4, 180, 1, 16, 172]
abbrev dktX1_carried_1 : List UInt8 := dkwX1_carried_1 ++ []
def dkwX1_carried_0 : List UInt8 := [42, 27, 182, 0, 199, 42, 28, 182, 1, 49, 42, 180, 0, 28, 27, 28, 29, 182, 1, 45, 58, 4, 25, 4]
abbrev dktX1_carried_0 : List UInt8 := dkwX1_carried_0 ++ dktX1_carried_1
theorem dksX1_carried_0 : cX1_carried.data.toList.drop 0 = dktX1_carried_0 := by decide +kernel
theorem dksX1_carried_1 : cX1_carried.data.toList.drop 24 = dktX1_carried_1 := dk_seg dksX1_carried_0 24 rfl rfl
theorem dX1_carried_0 : decode cX1_carried 0 = .ok (.aload_n 0, 1) := dk_42 (dk_at dksX1_carried_0 0 rfl rfl)
theorem dX1_carried_1 : decode cX1_carried 1 = .ok (.iload_n 1, 1) := dk_27 (dk_at dksX1_carried_0 1 rfl rfl)
theorem dX1_carried_2 : decode cX1_carried 2 = .ok (.invokevirtual 199, 3) := dk_182 0 199 (dk_at dksX1_carried_0 2 rfl rfl)
theorem dX1_carried_5 : decode cX1_carried 5 = .ok (.aload_n 0, 1) := dk_42 (dk_at dksX1_carried_0 5 rfl rfl)
theorem dX1_carried_6 : decode cX1_carried 6 = .ok (.iload_n 2, 1) := dk_28 (dk_at dksX1_carried_0 6 rfl rfl)
theorem dX1_carried_7 : decode cX1_carried 7 = .ok (.invokevirtual 305, 3) := dk_182 1 49 (dk_at dksX1_carried_0 7 rfl rfl)
theorem dX1_carried_10 : decode cX1_carried 10 = .ok (.aload_n 0, 1) := dk_42 (dk_at dksX1_carried_0 10 rfl rfl)
theorem dX1_carried_11 : decode cX1_carried 11 = .ok (.getfield 28, 3) := dk_180 0 28 (dk_at dksX1_carried_0 11 rfl rfl)
theorem dX1_carried_14 : decode cX1_carried 14 = .ok (.iload_n 1, 1) := dk_27 (dk_at dksX1_carried_0 14 rfl rfl)
theorem dX1_carried_15 : decode cX1_carried 15 = .ok (.iload_n 2, 1) := dk_28 (dk_at dksX1_carried_0 15 rfl rfl)
theorem dX1_carried_16 : decode cX1_carried 16 = .ok (.iload_n 3, 1) := dk_29 (dk_at dksX1_carried_0 16 rfl rfl)
theorem dX1_carried_17 : decode cX1_carried 17 = .ok (.invokevirtual 301, 3) := dk_182 1 45 (dk_at dksX1_carried_0 17 rfl rfl)
theorem dX1_carried_20 : decode cX1_carried 20 = .ok (.astore 4, 2) := dk_58 4 (dk_at dksX1_carried_0 20 rfl rfl)
theorem dX1_carried_22 : decode cX1_carried 22 = .ok (.aload 4, 2) := dk_25 4 (dk_at dksX1_carried_0 22 rfl rfl)
theorem dX1_carried_24 : decode cX1_carried 24 = .ok (.ifnonnull 7, 3) := dk_199 0 7 (dk_at dksX1_carried_1 0 rfl rfl)
theorem dX1_carried_27 : decode cX1_carried 27 = .ok (.iconst (-1), 1) := dk_2 (dk_at dksX1_carried_1 3 rfl rfl)
theorem dX1_carried_28 : decode cX1_carried 28 = .ok (.goto 8, 3) := dk_167 0 8 (dk_at dksX1_carried_1 4 rfl rfl)
theorem dX1_carried_31 : decode cX1_carried 31 = .ok (.aload 4, 2) := dk_25 4 (dk_at dksX1_carried_1 7 rfl rfl)
theorem dX1_carried_33 : decode cX1_carried 33 = .ok (.getfield 272, 3) := dk_180 1 16 (dk_at dksX1_carried_1 9 rfl rfl)
theorem dX1_carried_36 : decode cX1_carried 36 = .ok (.ireturn, 1) := dk_172 (dk_at dksX1_carried_1 12 rfl rfl)
abbrev cX1_callOf : ByteArray := prog_1_method_47_code
def yX1_callOf : MethodName := ⟨RX1, "callOf", "(II)I"⟩
def dkwX1_callOf_5 : List UInt8 := [180, 0, 28, 180, 0, 193, 100, 172, 187, 0, 126, 89, 183, 0, 128, 191]
abbrev dktX1_callOf_5 : List UInt8 := dkwX1_callOf_5 ++ []
def dkwX1_callOf_4 : List UInt8 := [172, 45, 180, 1, 80, 172, 45, 180, 1, 77, 154, 0, 7, 2, 167, 0, 15, 45, 182, 1, 83, 42]
abbrev dktX1_callOf_4 : List UInt8 := dkwX1_callOf_4 ++ dktX1_callOf_5
def dkwX1_callOf_3 : List UInt8 := [45, 180, 1, 24, 172, 45, 180, 1, 71, 172, 45, 180, 1, 62, 172, 45, 180, 1, 74, 172, 45, 180, 1, 77]
abbrev dktX1_callOf_3 : List UInt8 := dkwX1_callOf_3 ++ dktX1_callOf_4
def dkwX1_callOf_2 : List UInt8 := [170, 0, 0, 0, 0, 0, 0, 98, 0, 0, 0, 0, 0, 0, 0, 6, 0, 0, 0, 44, 0, 0, 0, 49, 0, 0, 0, 54, 0, 0, 0, 59, 0, 0, 0, 64, 0, 0, 0, 69, 0, 0, 0, 74]
abbrev dktX1_callOf_2 : List UInt8 := dkwX1_callOf_2 ++ dktX1_callOf_3
def dkwX1_callOf_1 : List UInt8 := [27, 50, 78, 45, 198, 0, 7, 4, 167, 0, 4, 3, 184, 0, 138, 28]
abbrev dktX1_callOf_1 : List UInt8 := dkwX1_callOf_1 ++ dktX1_callOf_2
def dkwX1_callOf_0 : List UInt8 := [27, 3, 42, 180, 0, 28, 180, 0, 244, 4, 100, 184, 0, 73, 184, 0, 138, 42, 180, 0, 28, 180, 1, 35]
abbrev dktX1_callOf_0 : List UInt8 := dkwX1_callOf_0 ++ dktX1_callOf_1
theorem dksX1_callOf_0 : cX1_callOf.data.toList.drop 0 = dktX1_callOf_0 := by decide +kernel
theorem dksX1_callOf_1 : cX1_callOf.data.toList.drop 24 = dktX1_callOf_1 := dk_seg dksX1_callOf_0 24 rfl rfl
theorem dksX1_callOf_2 : cX1_callOf.data.toList.drop 40 = dktX1_callOf_2 := dk_seg dksX1_callOf_1 16 rfl rfl
theorem dksX1_callOf_3 : cX1_callOf.data.toList.drop 84 = dktX1_callOf_3 := dk_seg dksX1_callOf_2 44 rfl rfl
theorem dksX1_callOf_4 : cX1_callOf.data.toList.drop 108 = dktX1_callOf_4 := dk_seg dksX1_callOf_3 24 rfl rfl
theorem dksX1_callOf_5 : cX1_callOf.data.toList.drop 130 = dktX1_callOf_5 := dk_seg dksX1_callOf_4 22 rfl rfl
theorem dX1_callOf_0 : decode cX1_callOf 0 = .ok (.iload_n 1, 1) := dk_27 (dk_at dksX1_callOf_0 0 rfl rfl)
theorem dX1_callOf_1 : decode cX1_callOf 1 = .ok (.iconst 0, 1) := dk_3 (dk_at dksX1_callOf_0 1 rfl rfl)
theorem dX1_callOf_2 : decode cX1_callOf 2 = .ok (.aload_n 0, 1) := dk_42 (dk_at dksX1_callOf_0 2 rfl rfl)
theorem dX1_callOf_3 : decode cX1_callOf 3 = .ok (.getfield 28, 3) := dk_180 0 28 (dk_at dksX1_callOf_0 3 rfl rfl)
theorem dX1_callOf_6 : decode cX1_callOf 6 = .ok (.getfield 244, 3) := dk_180 0 244 (dk_at dksX1_callOf_0 6 rfl rfl)
theorem dX1_callOf_9 : decode cX1_callOf 9 = .ok (.iconst 1, 1) := dk_4 (dk_at dksX1_callOf_0 9 rfl rfl)
theorem dX1_callOf_10 : decode cX1_callOf 10 = .ok (.isub, 1) := dk_100 (dk_at dksX1_callOf_0 10 rfl rfl)
theorem dX1_callOf_11 : decode cX1_callOf 11 = .ok (.invokestatic 73, 3) := dk_184 0 73 (dk_at dksX1_callOf_0 11 rfl rfl)
theorem dX1_callOf_14 : decode cX1_callOf 14 = .ok (.invokestatic 138, 3) := dk_184 0 138 (dk_at dksX1_callOf_0 14 rfl rfl)
theorem dX1_callOf_17 : decode cX1_callOf 17 = .ok (.aload_n 0, 1) := dk_42 (dk_at dksX1_callOf_0 17 rfl rfl)
theorem dX1_callOf_18 : decode cX1_callOf 18 = .ok (.getfield 28, 3) := dk_180 0 28 (dk_at dksX1_callOf_0 18 rfl rfl)
theorem dX1_callOf_21 : decode cX1_callOf 21 = .ok (.getfield 291, 3) := dk_180 1 35 (dk_at dksX1_callOf_0 21 rfl rfl)
theorem dX1_callOf_24 : decode cX1_callOf 24 = .ok (.iload_n 1, 1) := dk_27 (dk_at dksX1_callOf_1 0 rfl rfl)
theorem dX1_callOf_25 : decode cX1_callOf 25 = .ok (.aaload, 1) := dk_50 (dk_at dksX1_callOf_1 1 rfl rfl)
theorem dX1_callOf_26 : decode cX1_callOf 26 = .ok (.astore_n 3, 1) := dk_78 (dk_at dksX1_callOf_1 2 rfl rfl)
theorem dX1_callOf_27 : decode cX1_callOf 27 = .ok (.aload_n 3, 1) := dk_45 (dk_at dksX1_callOf_1 3 rfl rfl)
theorem dX1_callOf_28 : decode cX1_callOf 28 = .ok (.ifnull 7, 3) := dk_198 0 7 (dk_at dksX1_callOf_1 4 rfl rfl)
theorem dX1_callOf_31 : decode cX1_callOf 31 = .ok (.iconst 1, 1) := dk_4 (dk_at dksX1_callOf_1 7 rfl rfl)
theorem dX1_callOf_32 : decode cX1_callOf 32 = .ok (.goto 4, 3) := dk_167 0 4 (dk_at dksX1_callOf_1 8 rfl rfl)
theorem dX1_callOf_35 : decode cX1_callOf 35 = .ok (.iconst 0, 1) := dk_3 (dk_at dksX1_callOf_1 11 rfl rfl)
theorem dX1_callOf_36 : decode cX1_callOf 36 = .ok (.invokestatic 138, 3) := dk_184 0 138 (dk_at dksX1_callOf_1 12 rfl rfl)
theorem dX1_callOf_39 : decode cX1_callOf 39 = .ok (.iload_n 2, 1) := dk_28 (dk_at dksX1_callOf_1 15 rfl rfl)
theorem dX1_callOf_40 : decode cX1_callOf 40 = .ok (.tableswitch 98 0 6 #[44, 49, 54, 59, 64, 69, 74], 44) := by decide +kernel
theorem dX1_callOf_84 : decode cX1_callOf 84 = .ok (.aload_n 3, 1) := dk_45 (dk_at dksX1_callOf_3 0 rfl rfl)
theorem dX1_callOf_85 : decode cX1_callOf 85 = .ok (.getfield 280, 3) := dk_180 1 24 (dk_at dksX1_callOf_3 1 rfl rfl)
theorem dX1_callOf_88 : decode cX1_callOf 88 = .ok (.ireturn, 1) := dk_172 (dk_at dksX1_callOf_3 4 rfl rfl)
theorem dX1_callOf_89 : decode cX1_callOf 89 = .ok (.aload_n 3, 1) := dk_45 (dk_at dksX1_callOf_3 5 rfl rfl)
theorem dX1_callOf_90 : decode cX1_callOf 90 = .ok (.getfield 327, 3) := dk_180 1 71 (dk_at dksX1_callOf_3 6 rfl rfl)
theorem dX1_callOf_93 : decode cX1_callOf 93 = .ok (.ireturn, 1) := dk_172 (dk_at dksX1_callOf_3 9 rfl rfl)
theorem dX1_callOf_94 : decode cX1_callOf 94 = .ok (.aload_n 3, 1) := dk_45 (dk_at dksX1_callOf_3 10 rfl rfl)
theorem dX1_callOf_95 : decode cX1_callOf 95 = .ok (.getfield 318, 3) := dk_180 1 62 (dk_at dksX1_callOf_3 11 rfl rfl)
theorem dX1_callOf_98 : decode cX1_callOf 98 = .ok (.ireturn, 1) := dk_172 (dk_at dksX1_callOf_3 14 rfl rfl)
theorem dX1_callOf_99 : decode cX1_callOf 99 = .ok (.aload_n 3, 1) := dk_45 (dk_at dksX1_callOf_3 15 rfl rfl)
theorem dX1_callOf_100 : decode cX1_callOf 100 = .ok (.getfield 330, 3) := dk_180 1 74 (dk_at dksX1_callOf_3 16 rfl rfl)
theorem dX1_callOf_103 : decode cX1_callOf 103 = .ok (.ireturn, 1) := dk_172 (dk_at dksX1_callOf_3 19 rfl rfl)
theorem dX1_callOf_104 : decode cX1_callOf 104 = .ok (.aload_n 3, 1) := dk_45 (dk_at dksX1_callOf_3 20 rfl rfl)
theorem dX1_callOf_105 : decode cX1_callOf 105 = .ok (.getfield 333, 3) := dk_180 1 77 (dk_at dksX1_callOf_3 21 rfl rfl)
theorem dX1_callOf_108 : decode cX1_callOf 108 = .ok (.ireturn, 1) := dk_172 (dk_at dksX1_callOf_4 0 rfl rfl)
theorem dX1_callOf_109 : decode cX1_callOf 109 = .ok (.aload_n 3, 1) := dk_45 (dk_at dksX1_callOf_4 1 rfl rfl)
theorem dX1_callOf_110 : decode cX1_callOf 110 = .ok (.getfield 336, 3) := dk_180 1 80 (dk_at dksX1_callOf_4 2 rfl rfl)
theorem dX1_callOf_113 : decode cX1_callOf 113 = .ok (.ireturn, 1) := dk_172 (dk_at dksX1_callOf_4 5 rfl rfl)
theorem dX1_callOf_114 : decode cX1_callOf 114 = .ok (.aload_n 3, 1) := dk_45 (dk_at dksX1_callOf_4 6 rfl rfl)
theorem dX1_callOf_115 : decode cX1_callOf 115 = .ok (.getfield 333, 3) := dk_180 1 77 (dk_at dksX1_callOf_4 7 rfl rfl)
theorem dX1_callOf_118 : decode cX1_callOf 118 = .ok (.ifCond .ne 7, 3) := dk_154 0 7 (dk_at dksX1_callOf_4 10 rfl rfl)
theorem dX1_callOf_121 : decode cX1_callOf 121 = .ok (.iconst (-1), 1) := dk_2 (dk_at dksX1_callOf_4 13 rfl rfl)
theorem dX1_callOf_122 : decode cX1_callOf 122 = .ok (.goto 15, 3) := dk_167 0 15 (dk_at dksX1_callOf_4 14 rfl rfl)
theorem dX1_callOf_125 : decode cX1_callOf 125 = .ok (.aload_n 3, 1) := dk_45 (dk_at dksX1_callOf_4 17 rfl rfl)
theorem dX1_callOf_126 : decode cX1_callOf 126 = .ok (.invokevirtual 339, 3) := dk_182 1 83 (dk_at dksX1_callOf_4 18 rfl rfl)
theorem dX1_callOf_129 : decode cX1_callOf 129 = .ok (.aload_n 0, 1) := dk_42 (dk_at dksX1_callOf_4 21 rfl rfl)
theorem dX1_callOf_130 : decode cX1_callOf 130 = .ok (.getfield 28, 3) := dk_180 0 28 (dk_at dksX1_callOf_5 0 rfl rfl)
theorem dX1_callOf_133 : decode cX1_callOf 133 = .ok (.getfield 193, 3) := dk_180 0 193 (dk_at dksX1_callOf_5 3 rfl rfl)
theorem dX1_callOf_136 : decode cX1_callOf 136 = .ok (.isub, 1) := dk_100 (dk_at dksX1_callOf_5 6 rfl rfl)
theorem dX1_callOf_137 : decode cX1_callOf 137 = .ok (.ireturn, 1) := dk_172 (dk_at dksX1_callOf_5 7 rfl rfl)
theorem dX1_callOf_138 : decode cX1_callOf 138 = .ok (.new 126, 3) := dk_187 0 126 (dk_at dksX1_callOf_5 8 rfl rfl)
theorem dX1_callOf_141 : decode cX1_callOf 141 = .ok (.dup, 1) := dk_89 (dk_at dksX1_callOf_5 11 rfl rfl)
theorem dX1_callOf_142 : decode cX1_callOf 142 = .ok (.invokespecial 128, 3) := dk_183 0 128 (dk_at dksX1_callOf_5 12 rfl rfl)
theorem dX1_callOf_145 : decode cX1_callOf 145 = .ok (.athrow, 1) := dk_191 (dk_at dksX1_callOf_5 15 rfl rfl)
abbrev cX1_group : ByteArray := prog_1_method_51_code
def yX1_group : MethodName := ⟨RX1, "group", "(II)I"⟩
def dkwX1_group_3 : List UInt8 := [180, 1, 96, 182, 1, 99, 172, 187, 0, 126, 89, 183, 0, 128, 191]
abbrev dktX1_group_3 : List UInt8 := dkwX1_group_3 ++ []
def dkwX1_group_2 : List UInt8 := [45, 180, 0, 46, 185, 0, 153, 1, 0, 172, 42, 45, 182, 1, 89, 172, 42, 27, 182, 1, 93, 172, 45]
abbrev dktX1_group_2 : List UInt8 := dkwX1_group_2 ++ dktX1_group_3
def dkwX1_group_1 : List UInt8 := [170, 0, 0, 0, 59, 0, 0, 0, 0, 0, 0, 0, 3, 0, 0, 0, 29, 0, 0, 0, 39, 0, 0, 0, 45, 0, 0, 0, 51]
abbrev dktX1_group_1 : List UInt8 := dkwX1_group_1 ++ dktX1_group_2
def dkwX1_group_0 : List UInt8 := [42, 27, 182, 0, 176, 42, 180, 0, 28, 180, 0, 150, 27, 185, 0, 251, 2, 0, 192, 0, 39, 78, 28]
abbrev dktX1_group_0 : List UInt8 := dkwX1_group_0 ++ dktX1_group_1
theorem dksX1_group_0 : cX1_group.data.toList.drop 0 = dktX1_group_0 := by decide +kernel
theorem dksX1_group_1 : cX1_group.data.toList.drop 23 = dktX1_group_1 := dk_seg dksX1_group_0 23 rfl rfl
theorem dksX1_group_2 : cX1_group.data.toList.drop 52 = dktX1_group_2 := dk_seg dksX1_group_1 29 rfl rfl
theorem dksX1_group_3 : cX1_group.data.toList.drop 75 = dktX1_group_3 := dk_seg dksX1_group_2 23 rfl rfl
theorem dX1_group_0 : decode cX1_group 0 = .ok (.aload_n 0, 1) := dk_42 (dk_at dksX1_group_0 0 rfl rfl)
theorem dX1_group_1 : decode cX1_group 1 = .ok (.iload_n 1, 1) := dk_27 (dk_at dksX1_group_0 1 rfl rfl)
theorem dX1_group_2 : decode cX1_group 2 = .ok (.invokevirtual 176, 3) := dk_182 0 176 (dk_at dksX1_group_0 2 rfl rfl)
theorem dX1_group_5 : decode cX1_group 5 = .ok (.aload_n 0, 1) := dk_42 (dk_at dksX1_group_0 5 rfl rfl)
theorem dX1_group_6 : decode cX1_group 6 = .ok (.getfield 28, 3) := dk_180 0 28 (dk_at dksX1_group_0 6 rfl rfl)
theorem dX1_group_9 : decode cX1_group 9 = .ok (.getfield 150, 3) := dk_180 0 150 (dk_at dksX1_group_0 9 rfl rfl)
theorem dX1_group_12 : decode cX1_group 12 = .ok (.iload_n 1, 1) := dk_27 (dk_at dksX1_group_0 12 rfl rfl)
theorem dX1_group_13 : decode cX1_group 13 = .ok (.invokeinterface 251 2, 5) := by decide +kernel
theorem dX1_group_18 : decode cX1_group 18 = .ok (.checkcast 39, 3) := dk_192 0 39 (dk_at dksX1_group_0 18 rfl rfl)
theorem dX1_group_21 : decode cX1_group 21 = .ok (.astore_n 3, 1) := dk_78 (dk_at dksX1_group_0 21 rfl rfl)
theorem dX1_group_22 : decode cX1_group 22 = .ok (.iload_n 2, 1) := dk_28 (dk_at dksX1_group_0 22 rfl rfl)
theorem dX1_group_23 : decode cX1_group 23 = .ok (.tableswitch 59 0 3 #[29, 39, 45, 51], 29) := by decide +kernel
theorem dX1_group_52 : decode cX1_group 52 = .ok (.aload_n 3, 1) := dk_45 (dk_at dksX1_group_2 0 rfl rfl)
theorem dX1_group_53 : decode cX1_group 53 = .ok (.getfield 46, 3) := dk_180 0 46 (dk_at dksX1_group_2 1 rfl rfl)
theorem dX1_group_56 : decode cX1_group 56 = .ok (.invokeinterface 153 1, 5) := by decide +kernel
theorem dX1_group_61 : decode cX1_group 61 = .ok (.ireturn, 1) := dk_172 (dk_at dksX1_group_2 9 rfl rfl)
theorem dX1_group_62 : decode cX1_group 62 = .ok (.aload_n 0, 1) := dk_42 (dk_at dksX1_group_2 10 rfl rfl)
theorem dX1_group_63 : decode cX1_group 63 = .ok (.aload_n 3, 1) := dk_45 (dk_at dksX1_group_2 11 rfl rfl)
theorem dX1_group_64 : decode cX1_group 64 = .ok (.invokevirtual 345, 3) := dk_182 1 89 (dk_at dksX1_group_2 12 rfl rfl)
theorem dX1_group_67 : decode cX1_group 67 = .ok (.ireturn, 1) := dk_172 (dk_at dksX1_group_2 15 rfl rfl)
theorem dX1_group_68 : decode cX1_group 68 = .ok (.aload_n 0, 1) := dk_42 (dk_at dksX1_group_2 16 rfl rfl)
theorem dX1_group_69 : decode cX1_group 69 = .ok (.iload_n 1, 1) := dk_27 (dk_at dksX1_group_2 17 rfl rfl)
theorem dX1_group_70 : decode cX1_group 70 = .ok (.invokevirtual 349, 3) := dk_182 1 93 (dk_at dksX1_group_2 18 rfl rfl)
theorem dX1_group_73 : decode cX1_group 73 = .ok (.ireturn, 1) := dk_172 (dk_at dksX1_group_2 21 rfl rfl)
theorem dX1_group_74 : decode cX1_group 74 = .ok (.aload_n 3, 1) := dk_45 (dk_at dksX1_group_2 22 rfl rfl)
theorem dX1_group_75 : decode cX1_group 75 = .ok (.getfield 352, 3) := dk_180 1 96 (dk_at dksX1_group_3 0 rfl rfl)
theorem dX1_group_78 : decode cX1_group 78 = .ok (.invokevirtual 355, 3) := dk_182 1 99 (dk_at dksX1_group_3 3 rfl rfl)
theorem dX1_group_81 : decode cX1_group 81 = .ok (.ireturn, 1) := dk_172 (dk_at dksX1_group_3 6 rfl rfl)
theorem dX1_group_82 : decode cX1_group 82 = .ok (.new 126, 3) := dk_187 0 126 (dk_at dksX1_group_3 7 rfl rfl)
theorem dX1_group_85 : decode cX1_group 85 = .ok (.dup, 1) := dk_89 (dk_at dksX1_group_3 10 rfl rfl)
theorem dX1_group_86 : decode cX1_group 86 = .ok (.invokespecial 128, 3) := dk_183 0 128 (dk_at dksX1_group_3 11 rfl rfl)
theorem dX1_group_89 : decode cX1_group 89 = .ok (.athrow, 1) := dk_191 (dk_at dksX1_group_3 14 rfl rfl)
abbrev cX1_idleMembers : ByteArray := prog_1_method_49_code
def yX1_idleMembers : MethodName := ⟨RX1, "idleMembers", "(LCrossbarExchange$Group;)I"⟩
def dkwX1_idleMembers_2 : List UInt8 := [132, 3, 1, 167, 255, 211, 28, 172]
abbrev dktX1_idleMembers_2 : List UInt8 := dkwX1_idleMembers_2 ++ []
def dkwX1_idleMembers_1 : List UInt8 := [180, 0, 46, 29, 185, 0, 251, 2, 0, 192, 0, 51, 182, 1, 86, 182, 0, 182, 153, 0, 6, 132, 2, 1]
abbrev dktX1_idleMembers_1 : List UInt8 := dkwX1_idleMembers_1 ++ dktX1_idleMembers_2
def dkwX1_idleMembers_0 : List UInt8 := [3, 61, 3, 62, 29, 43, 180, 0, 46, 185, 0, 153, 1, 0, 162, 0, 38, 42, 180, 0, 28, 43]
abbrev dktX1_idleMembers_0 : List UInt8 := dkwX1_idleMembers_0 ++ dktX1_idleMembers_1
theorem dksX1_idleMembers_0 : cX1_idleMembers.data.toList.drop 0 = dktX1_idleMembers_0 := by decide +kernel
theorem dksX1_idleMembers_1 : cX1_idleMembers.data.toList.drop 22 = dktX1_idleMembers_1 := dk_seg dksX1_idleMembers_0 22 rfl rfl
theorem dksX1_idleMembers_2 : cX1_idleMembers.data.toList.drop 46 = dktX1_idleMembers_2 := dk_seg dksX1_idleMembers_1 24 rfl rfl
theorem dX1_idleMembers_0 : decode cX1_idleMembers 0 = .ok (.iconst 0, 1) := dk_3 (dk_at dksX1_idleMembers_0 0 rfl rfl)
theorem dX1_idleMembers_1 : decode cX1_idleMembers 1 = .ok (.istore_n 2, 1) := dk_61 (dk_at dksX1_idleMembers_0 1 rfl rfl)
theorem dX1_idleMembers_2 : decode cX1_idleMembers 2 = .ok (.iconst 0, 1) := dk_3 (dk_at dksX1_idleMembers_0 2 rfl rfl)
theorem dX1_idleMembers_3 : decode cX1_idleMembers 3 = .ok (.istore_n 3, 1) := dk_62 (dk_at dksX1_idleMembers_0 3 rfl rfl)
theorem dX1_idleMembers_4 : decode cX1_idleMembers 4 = .ok (.iload_n 3, 1) := dk_29 (dk_at dksX1_idleMembers_0 4 rfl rfl)
theorem dX1_idleMembers_5 : decode cX1_idleMembers 5 = .ok (.aload_n 1, 1) := dk_43 (dk_at dksX1_idleMembers_0 5 rfl rfl)
theorem dX1_idleMembers_6 : decode cX1_idleMembers 6 = .ok (.getfield 46, 3) := dk_180 0 46 (dk_at dksX1_idleMembers_0 6 rfl rfl)
theorem dX1_idleMembers_9 : decode cX1_idleMembers 9 = .ok (.invokeinterface 153 1, 5) := by decide +kernel
theorem dX1_idleMembers_14 : decode cX1_idleMembers 14 = .ok (.if_icmp .ge 38, 3) := dk_162 0 38 (dk_at dksX1_idleMembers_0 14 rfl rfl)
theorem dX1_idleMembers_17 : decode cX1_idleMembers 17 = .ok (.aload_n 0, 1) := dk_42 (dk_at dksX1_idleMembers_0 17 rfl rfl)
theorem dX1_idleMembers_18 : decode cX1_idleMembers 18 = .ok (.getfield 28, 3) := dk_180 0 28 (dk_at dksX1_idleMembers_0 18 rfl rfl)
theorem dX1_idleMembers_21 : decode cX1_idleMembers 21 = .ok (.aload_n 1, 1) := dk_43 (dk_at dksX1_idleMembers_0 21 rfl rfl)
theorem dX1_idleMembers_22 : decode cX1_idleMembers 22 = .ok (.getfield 46, 3) := dk_180 0 46 (dk_at dksX1_idleMembers_1 0 rfl rfl)
theorem dX1_idleMembers_25 : decode cX1_idleMembers 25 = .ok (.iload_n 3, 1) := dk_29 (dk_at dksX1_idleMembers_1 3 rfl rfl)
theorem dX1_idleMembers_26 : decode cX1_idleMembers 26 = .ok (.invokeinterface 251 2, 5) := by decide +kernel
theorem dX1_idleMembers_31 : decode cX1_idleMembers 31 = .ok (.checkcast 51, 3) := dk_192 0 51 (dk_at dksX1_idleMembers_1 9 rfl rfl)
theorem dX1_idleMembers_34 : decode cX1_idleMembers 34 = .ok (.invokevirtual 342, 3) := dk_182 1 86 (dk_at dksX1_idleMembers_1 12 rfl rfl)
theorem dX1_idleMembers_37 : decode cX1_idleMembers 37 = .ok (.invokevirtual 182, 3) := dk_182 0 182 (dk_at dksX1_idleMembers_1 15 rfl rfl)
theorem dX1_idleMembers_40 : decode cX1_idleMembers 40 = .ok (.ifCond .eq 6, 3) := dk_153 0 6 (dk_at dksX1_idleMembers_1 18 rfl rfl)
theorem dX1_idleMembers_43 : decode cX1_idleMembers 43 = .ok (.iinc 2 1, 3) := dk_132 2 1 (dk_at dksX1_idleMembers_1 21 rfl rfl)
theorem dX1_idleMembers_46 : decode cX1_idleMembers 46 = .ok (.iinc 3 1, 3) := dk_132 3 1 (dk_at dksX1_idleMembers_2 0 rfl rfl)
theorem dX1_idleMembers_49 : decode cX1_idleMembers 49 = .ok (.goto (-45), 3) := dk_167 255 211 (dk_at dksX1_idleMembers_2 3 rfl rfl)
theorem dX1_idleMembers_52 : decode cX1_idleMembers 52 = .ok (.iload_n 2, 1) := dk_28 (dk_at dksX1_idleMembers_2 6 rfl rfl)
theorem dX1_idleMembers_53 : decode cX1_idleMembers 53 = .ok (.ireturn, 1) := dk_172 (dk_at dksX1_idleMembers_2 7 rfl rfl)
abbrev cX1_waitersFor : ByteArray := prog_1_method_50_code
def yX1_waitersFor : MethodName := ⟨RX1, "waitersFor", "(I)I"⟩
def dkwX1_waitersFor_2 : List UInt8 := [132, 3, 1, 167, 255, 211, 28, 172]
abbrev dktX1_waitersFor_2 : List UInt8 := dkwX1_waitersFor_2 ++ []
def dkwX1_waitersFor_1 : List UInt8 := [180, 0, 235, 29, 185, 0, 251, 2, 0, 192, 1, 28, 180, 1, 27, 27, 160, 0, 6, 132, 2, 1]
abbrev dktX1_waitersFor_1 : List UInt8 := dkwX1_waitersFor_1 ++ dktX1_waitersFor_2
def dkwX1_waitersFor_0 : List UInt8 := [3, 61, 3, 62, 29, 42, 180, 0, 28, 180, 0, 235, 185, 0, 153, 1, 0, 162, 0, 35, 42, 180, 0, 28]
abbrev dktX1_waitersFor_0 : List UInt8 := dkwX1_waitersFor_0 ++ dktX1_waitersFor_1
theorem dksX1_waitersFor_0 : cX1_waitersFor.data.toList.drop 0 = dktX1_waitersFor_0 := by decide +kernel
theorem dksX1_waitersFor_1 : cX1_waitersFor.data.toList.drop 24 = dktX1_waitersFor_1 := dk_seg dksX1_waitersFor_0 24 rfl rfl
theorem dksX1_waitersFor_2 : cX1_waitersFor.data.toList.drop 46 = dktX1_waitersFor_2 := dk_seg dksX1_waitersFor_1 22 rfl rfl
theorem dX1_waitersFor_0 : decode cX1_waitersFor 0 = .ok (.iconst 0, 1) := dk_3 (dk_at dksX1_waitersFor_0 0 rfl rfl)
theorem dX1_waitersFor_1 : decode cX1_waitersFor 1 = .ok (.istore_n 2, 1) := dk_61 (dk_at dksX1_waitersFor_0 1 rfl rfl)
theorem dX1_waitersFor_2 : decode cX1_waitersFor 2 = .ok (.iconst 0, 1) := dk_3 (dk_at dksX1_waitersFor_0 2 rfl rfl)
theorem dX1_waitersFor_3 : decode cX1_waitersFor 3 = .ok (.istore_n 3, 1) := dk_62 (dk_at dksX1_waitersFor_0 3 rfl rfl)
theorem dX1_waitersFor_4 : decode cX1_waitersFor 4 = .ok (.iload_n 3, 1) := dk_29 (dk_at dksX1_waitersFor_0 4 rfl rfl)
theorem dX1_waitersFor_5 : decode cX1_waitersFor 5 = .ok (.aload_n 0, 1) := dk_42 (dk_at dksX1_waitersFor_0 5 rfl rfl)
theorem dX1_waitersFor_6 : decode cX1_waitersFor 6 = .ok (.getfield 28, 3) := dk_180 0 28 (dk_at dksX1_waitersFor_0 6 rfl rfl)
theorem dX1_waitersFor_9 : decode cX1_waitersFor 9 = .ok (.getfield 235, 3) := dk_180 0 235 (dk_at dksX1_waitersFor_0 9 rfl rfl)
theorem dX1_waitersFor_12 : decode cX1_waitersFor 12 = .ok (.invokeinterface 153 1, 5) := by decide +kernel
theorem dX1_waitersFor_17 : decode cX1_waitersFor 17 = .ok (.if_icmp .ge 35, 3) := dk_162 0 35 (dk_at dksX1_waitersFor_0 17 rfl rfl)
theorem dX1_waitersFor_20 : decode cX1_waitersFor 20 = .ok (.aload_n 0, 1) := dk_42 (dk_at dksX1_waitersFor_0 20 rfl rfl)
theorem dX1_waitersFor_21 : decode cX1_waitersFor 21 = .ok (.getfield 28, 3) := dk_180 0 28 (dk_at dksX1_waitersFor_0 21 rfl rfl)
theorem dX1_waitersFor_24 : decode cX1_waitersFor 24 = .ok (.getfield 235, 3) := dk_180 0 235 (dk_at dksX1_waitersFor_1 0 rfl rfl)
theorem dX1_waitersFor_27 : decode cX1_waitersFor 27 = .ok (.iload_n 3, 1) := dk_29 (dk_at dksX1_waitersFor_1 3 rfl rfl)
theorem dX1_waitersFor_28 : decode cX1_waitersFor 28 = .ok (.invokeinterface 251 2, 5) := by decide +kernel
theorem dX1_waitersFor_33 : decode cX1_waitersFor 33 = .ok (.checkcast 284, 3) := dk_192 1 28 (dk_at dksX1_waitersFor_1 9 rfl rfl)
theorem dX1_waitersFor_36 : decode cX1_waitersFor 36 = .ok (.getfield 283, 3) := dk_180 1 27 (dk_at dksX1_waitersFor_1 12 rfl rfl)
theorem dX1_waitersFor_39 : decode cX1_waitersFor 39 = .ok (.iload_n 1, 1) := dk_27 (dk_at dksX1_waitersFor_1 15 rfl rfl)
theorem dX1_waitersFor_40 : decode cX1_waitersFor 40 = .ok (.if_icmp .ne 6, 3) := dk_160 0 6 (dk_at dksX1_waitersFor_1 16 rfl rfl)
theorem dX1_waitersFor_43 : decode cX1_waitersFor 43 = .ok (.iinc 2 1, 3) := dk_132 2 1 (dk_at dksX1_waitersFor_1 19 rfl rfl)
theorem dX1_waitersFor_46 : decode cX1_waitersFor 46 = .ok (.iinc 3 1, 3) := dk_132 3 1 (dk_at dksX1_waitersFor_2 0 rfl rfl)
theorem dX1_waitersFor_49 : decode cX1_waitersFor 49 = .ok (.goto (-45), 3) := dk_167 255 211 (dk_at dksX1_waitersFor_2 3 rfl rfl)
theorem dX1_waitersFor_52 : decode cX1_waitersFor 52 = .ok (.iload_n 2, 1) := dk_28 (dk_at dksX1_waitersFor_2 6 rfl rfl)
theorem dX1_waitersFor_53 : decode cX1_waitersFor 53 = .ok (.ireturn, 1) := dk_172 (dk_at dksX1_waitersFor_2 7 rfl rfl)
abbrev cX1_member : ByteArray := prog_1_method_52_code
def yX1_member : MethodName := ⟨RX1, "member", "(II)I"⟩
def dkwX1_member_2 : List UInt8 := [185, 0, 251, 2, 0, 192, 0, 51, 182, 1, 86, 167, 0, 4, 2, 172]
abbrev dktX1_member_2 : List UInt8 := dkwX1_member_2 ++ []
def dkwX1_member_1 : List UInt8 := [45, 180, 0, 46, 185, 0, 153, 1, 0, 4, 100, 184, 0, 73, 153, 0, 22, 45, 180, 0, 46, 28]
abbrev dktX1_member_1 : List UInt8 := dkwX1_member_1 ++ dktX1_member_2
def dkwX1_member_0 : List UInt8 := [42, 27, 182, 0, 176, 42, 180, 0, 28, 180, 0, 150, 27, 185, 0, 251, 2, 0, 192, 0, 39, 78, 28, 3]
abbrev dktX1_member_0 : List UInt8 := dkwX1_member_0 ++ dktX1_member_1
theorem dksX1_member_0 : cX1_member.data.toList.drop 0 = dktX1_member_0 := by decide +kernel
theorem dksX1_member_1 : cX1_member.data.toList.drop 24 = dktX1_member_1 := dk_seg dksX1_member_0 24 rfl rfl
theorem dksX1_member_2 : cX1_member.data.toList.drop 46 = dktX1_member_2 := dk_seg dksX1_member_1 22 rfl rfl
theorem dX1_member_0 : decode cX1_member 0 = .ok (.aload_n 0, 1) := dk_42 (dk_at dksX1_member_0 0 rfl rfl)
theorem dX1_member_1 : decode cX1_member 1 = .ok (.iload_n 1, 1) := dk_27 (dk_at dksX1_member_0 1 rfl rfl)
theorem dX1_member_2 : decode cX1_member 2 = .ok (.invokevirtual 176, 3) := dk_182 0 176 (dk_at dksX1_member_0 2 rfl rfl)
theorem dX1_member_5 : decode cX1_member 5 = .ok (.aload_n 0, 1) := dk_42 (dk_at dksX1_member_0 5 rfl rfl)
theorem dX1_member_6 : decode cX1_member 6 = .ok (.getfield 28, 3) := dk_180 0 28 (dk_at dksX1_member_0 6 rfl rfl)
theorem dX1_member_9 : decode cX1_member 9 = .ok (.getfield 150, 3) := dk_180 0 150 (dk_at dksX1_member_0 9 rfl rfl)
theorem dX1_member_12 : decode cX1_member 12 = .ok (.iload_n 1, 1) := dk_27 (dk_at dksX1_member_0 12 rfl rfl)
theorem dX1_member_13 : decode cX1_member 13 = .ok (.invokeinterface 251 2, 5) := by decide +kernel
theorem dX1_member_18 : decode cX1_member 18 = .ok (.checkcast 39, 3) := dk_192 0 39 (dk_at dksX1_member_0 18 rfl rfl)
theorem dX1_member_21 : decode cX1_member 21 = .ok (.astore_n 3, 1) := dk_78 (dk_at dksX1_member_0 21 rfl rfl)
theorem dX1_member_22 : decode cX1_member 22 = .ok (.iload_n 2, 1) := dk_28 (dk_at dksX1_member_0 22 rfl rfl)
theorem dX1_member_23 : decode cX1_member 23 = .ok (.iconst 0, 1) := dk_3 (dk_at dksX1_member_0 23 rfl rfl)
theorem dX1_member_24 : decode cX1_member 24 = .ok (.aload_n 3, 1) := dk_45 (dk_at dksX1_member_1 0 rfl rfl)
theorem dX1_member_25 : decode cX1_member 25 = .ok (.getfield 46, 3) := dk_180 0 46 (dk_at dksX1_member_1 1 rfl rfl)
theorem dX1_member_28 : decode cX1_member 28 = .ok (.invokeinterface 153 1, 5) := by decide +kernel
theorem dX1_member_33 : decode cX1_member 33 = .ok (.iconst 1, 1) := dk_4 (dk_at dksX1_member_1 9 rfl rfl)
theorem dX1_member_34 : decode cX1_member 34 = .ok (.isub, 1) := dk_100 (dk_at dksX1_member_1 10 rfl rfl)
theorem dX1_member_35 : decode cX1_member 35 = .ok (.invokestatic 73, 3) := dk_184 0 73 (dk_at dksX1_member_1 11 rfl rfl)
theorem dX1_member_38 : decode cX1_member 38 = .ok (.ifCond .eq 22, 3) := dk_153 0 22 (dk_at dksX1_member_1 14 rfl rfl)
theorem dX1_member_41 : decode cX1_member 41 = .ok (.aload_n 3, 1) := dk_45 (dk_at dksX1_member_1 17 rfl rfl)
theorem dX1_member_42 : decode cX1_member 42 = .ok (.getfield 46, 3) := dk_180 0 46 (dk_at dksX1_member_1 18 rfl rfl)
theorem dX1_member_45 : decode cX1_member 45 = .ok (.iload_n 2, 1) := dk_28 (dk_at dksX1_member_1 21 rfl rfl)
theorem dX1_member_46 : decode cX1_member 46 = .ok (.invokeinterface 251 2, 5) := by decide +kernel
theorem dX1_member_51 : decode cX1_member 51 = .ok (.checkcast 51, 3) := dk_192 0 51 (dk_at dksX1_member_2 5 rfl rfl)
theorem dX1_member_54 : decode cX1_member 54 = .ok (.invokevirtual 342, 3) := dk_182 1 86 (dk_at dksX1_member_2 8 rfl rfl)
theorem dX1_member_57 : decode cX1_member 57 = .ok (.goto 4, 3) := dk_167 0 4 (dk_at dksX1_member_2 11 rfl rfl)
theorem dX1_member_60 : decode cX1_member 60 = .ok (.iconst (-1), 1) := dk_2 (dk_at dksX1_member_2 14 rfl rfl)
theorem dX1_member_61 : decode cX1_member 61 = .ok (.ireturn, 1) := dk_172 (dk_at dksX1_member_2 15 rfl rfl)
abbrev cX1_waiting : ByteArray := prog_1_method_53_code
def yX1_waiting : MethodName := ⟨RX1, "waiting", "(II)I"⟩
def dkwX1_waiting_4 : List UInt8 := [183, 0, 128, 191]
abbrev dktX1_waiting_4 : List UInt8 := dkwX1_waiting_4 ++ []
def dkwX1_waiting_3 : List UInt8 := [45, 180, 1, 104, 172, 45, 180, 1, 27, 172, 45, 180, 1, 105, 172, 45, 180, 1, 106, 172, 187, 0, 126, 89]
abbrev dktX1_waiting_3 : List UInt8 := dkwX1_waiting_3 ++ dktX1_waiting_4
def dkwX1_waiting_2 : List UInt8 := [170, 0, 0, 0, 0, 0, 0, 52, 0, 0, 0, 0, 0, 0, 0, 3, 0, 0, 0, 32, 0, 0, 0, 37, 0, 0, 0, 42, 0, 0, 0, 47]
abbrev dktX1_waiting_2 : List UInt8 := dkwX1_waiting_2 ++ dktX1_waiting_3
def dkwX1_waiting_1 : List UInt8 := [180, 0, 28, 180, 0, 235, 27, 185, 0, 251, 2, 0, 192, 1, 28, 78, 28]
abbrev dktX1_waiting_1 : List UInt8 := dkwX1_waiting_1 ++ dktX1_waiting_2
def dkwX1_waiting_0 : List UInt8 := [27, 3, 42, 180, 0, 28, 180, 0, 235, 185, 0, 153, 1, 0, 4, 100, 184, 0, 73, 184, 0, 138, 42]
abbrev dktX1_waiting_0 : List UInt8 := dkwX1_waiting_0 ++ dktX1_waiting_1
theorem dksX1_waiting_0 : cX1_waiting.data.toList.drop 0 = dktX1_waiting_0 := by decide +kernel
theorem dksX1_waiting_1 : cX1_waiting.data.toList.drop 23 = dktX1_waiting_1 := dk_seg dksX1_waiting_0 23 rfl rfl
theorem dksX1_waiting_2 : cX1_waiting.data.toList.drop 40 = dktX1_waiting_2 := dk_seg dksX1_waiting_1 17 rfl rfl
theorem dksX1_waiting_3 : cX1_waiting.data.toList.drop 72 = dktX1_waiting_3 := dk_seg dksX1_waiting_2 32 rfl rfl
theorem dksX1_waiting_4 : cX1_waiting.data.toList.drop 96 = dktX1_waiting_4 := dk_seg dksX1_waiting_3 24 rfl rfl
theorem dX1_waiting_0 : decode cX1_waiting 0 = .ok (.iload_n 1, 1) := dk_27 (dk_at dksX1_waiting_0 0 rfl rfl)
theorem dX1_waiting_1 : decode cX1_waiting 1 = .ok (.iconst 0, 1) := dk_3 (dk_at dksX1_waiting_0 1 rfl rfl)
theorem dX1_waiting_2 : decode cX1_waiting 2 = .ok (.aload_n 0, 1) := dk_42 (dk_at dksX1_waiting_0 2 rfl rfl)
theorem dX1_waiting_3 : decode cX1_waiting 3 = .ok (.getfield 28, 3) := dk_180 0 28 (dk_at dksX1_waiting_0 3 rfl rfl)
theorem dX1_waiting_6 : decode cX1_waiting 6 = .ok (.getfield 235, 3) := dk_180 0 235 (dk_at dksX1_waiting_0 6 rfl rfl)
theorem dX1_waiting_9 : decode cX1_waiting 9 = .ok (.invokeinterface 153 1, 5) := by decide +kernel
theorem dX1_waiting_14 : decode cX1_waiting 14 = .ok (.iconst 1, 1) := dk_4 (dk_at dksX1_waiting_0 14 rfl rfl)
theorem dX1_waiting_15 : decode cX1_waiting 15 = .ok (.isub, 1) := dk_100 (dk_at dksX1_waiting_0 15 rfl rfl)
theorem dX1_waiting_16 : decode cX1_waiting 16 = .ok (.invokestatic 73, 3) := dk_184 0 73 (dk_at dksX1_waiting_0 16 rfl rfl)
theorem dX1_waiting_19 : decode cX1_waiting 19 = .ok (.invokestatic 138, 3) := dk_184 0 138 (dk_at dksX1_waiting_0 19 rfl rfl)
theorem dX1_waiting_22 : decode cX1_waiting 22 = .ok (.aload_n 0, 1) := dk_42 (dk_at dksX1_waiting_0 22 rfl rfl)
theorem dX1_waiting_23 : decode cX1_waiting 23 = .ok (.getfield 28, 3) := dk_180 0 28 (dk_at dksX1_waiting_1 0 rfl rfl)
theorem dX1_waiting_26 : decode cX1_waiting 26 = .ok (.getfield 235, 3) := dk_180 0 235 (dk_at dksX1_waiting_1 3 rfl rfl)
theorem dX1_waiting_29 : decode cX1_waiting 29 = .ok (.iload_n 1, 1) := dk_27 (dk_at dksX1_waiting_1 6 rfl rfl)
theorem dX1_waiting_30 : decode cX1_waiting 30 = .ok (.invokeinterface 251 2, 5) := by decide +kernel
theorem dX1_waiting_35 : decode cX1_waiting 35 = .ok (.checkcast 284, 3) := dk_192 1 28 (dk_at dksX1_waiting_1 12 rfl rfl)
theorem dX1_waiting_38 : decode cX1_waiting 38 = .ok (.astore_n 3, 1) := dk_78 (dk_at dksX1_waiting_1 15 rfl rfl)
theorem dX1_waiting_39 : decode cX1_waiting 39 = .ok (.iload_n 2, 1) := dk_28 (dk_at dksX1_waiting_1 16 rfl rfl)
theorem dX1_waiting_40 : decode cX1_waiting 40 = .ok (.tableswitch 52 0 3 #[32, 37, 42, 47], 32) := by decide +kernel
theorem dX1_waiting_72 : decode cX1_waiting 72 = .ok (.aload_n 3, 1) := dk_45 (dk_at dksX1_waiting_3 0 rfl rfl)
theorem dX1_waiting_73 : decode cX1_waiting 73 = .ok (.getfield 360, 3) := dk_180 1 104 (dk_at dksX1_waiting_3 1 rfl rfl)
theorem dX1_waiting_76 : decode cX1_waiting 76 = .ok (.ireturn, 1) := dk_172 (dk_at dksX1_waiting_3 4 rfl rfl)
theorem dX1_waiting_77 : decode cX1_waiting 77 = .ok (.aload_n 3, 1) := dk_45 (dk_at dksX1_waiting_3 5 rfl rfl)
theorem dX1_waiting_78 : decode cX1_waiting 78 = .ok (.getfield 283, 3) := dk_180 1 27 (dk_at dksX1_waiting_3 6 rfl rfl)
theorem dX1_waiting_81 : decode cX1_waiting 81 = .ok (.ireturn, 1) := dk_172 (dk_at dksX1_waiting_3 9 rfl rfl)
theorem dX1_waiting_82 : decode cX1_waiting 82 = .ok (.aload_n 3, 1) := dk_45 (dk_at dksX1_waiting_3 10 rfl rfl)
theorem dX1_waiting_83 : decode cX1_waiting 83 = .ok (.getfield 361, 3) := dk_180 1 105 (dk_at dksX1_waiting_3 11 rfl rfl)
theorem dX1_waiting_86 : decode cX1_waiting 86 = .ok (.ireturn, 1) := dk_172 (dk_at dksX1_waiting_3 14 rfl rfl)
theorem dX1_waiting_87 : decode cX1_waiting 87 = .ok (.aload_n 3, 1) := dk_45 (dk_at dksX1_waiting_3 15 rfl rfl)
theorem dX1_waiting_88 : decode cX1_waiting 88 = .ok (.getfield 362, 3) := dk_180 1 106 (dk_at dksX1_waiting_3 16 rfl rfl)
theorem dX1_waiting_91 : decode cX1_waiting 91 = .ok (.ireturn, 1) := dk_172 (dk_at dksX1_waiting_3 19 rfl rfl)
theorem dX1_waiting_92 : decode cX1_waiting 92 = .ok (.new 126, 3) := dk_187 0 126 (dk_at dksX1_waiting_3 20 rfl rfl)
theorem dX1_waiting_95 : decode cX1_waiting 95 = .ok (.dup, 1) := dk_89 (dk_at dksX1_waiting_3 23 rfl rfl)
theorem dX1_waiting_96 : decode cX1_waiting 96 = .ok (.invokespecial 128, 3) := dk_183 0 128 (dk_at dksX1_waiting_4 0 rfl rfl)
theorem dX1_waiting_99 : decode cX1_waiting 99 = .ok (.athrow, 1) := dk_191 (dk_at dksX1_waiting_4 3 rfl rfl)
abbrev cX1_open : ByteArray := prog_1_method_54_code
def yX1_open : MethodName := ⟨RX1, "open", "(II)I"⟩
def dkwX1_open_2 : List UInt8 := [182, 1, 109, 153, 0, 6, 132, 3, 1, 132, 4, 1, 167, 255, 212, 29, 172]
abbrev dktX1_open_2 : List UInt8 := dkwX1_open_2 ++ []
def dkwX1_open_1 : List UInt8 := [162, 0, 38, 42, 180, 0, 28, 21, 4, 182, 0, 202, 153, 0, 20, 42, 180, 0, 28, 21, 4, 27, 28]
abbrev dktX1_open_1 : List UInt8 := dkwX1_open_1 ++ dktX1_open_2
def dkwX1_open_0 : List UInt8 := [42, 27, 182, 1, 49, 42, 28, 182, 1, 49, 3, 62, 3, 54, 4, 21, 4, 42, 180, 0, 28, 180, 0, 147]
abbrev dktX1_open_0 : List UInt8 := dkwX1_open_0 ++ dktX1_open_1
theorem dksX1_open_0 : cX1_open.data.toList.drop 0 = dktX1_open_0 := by decide +kernel
theorem dksX1_open_1 : cX1_open.data.toList.drop 24 = dktX1_open_1 := dk_seg dksX1_open_0 24 rfl rfl
theorem dksX1_open_2 : cX1_open.data.toList.drop 47 = dktX1_open_2 := dk_seg dksX1_open_1 23 rfl rfl
theorem dX1_open_0 : decode cX1_open 0 = .ok (.aload_n 0, 1) := dk_42 (dk_at dksX1_open_0 0 rfl rfl)
theorem dX1_open_1 : decode cX1_open 1 = .ok (.iload_n 1, 1) := dk_27 (dk_at dksX1_open_0 1 rfl rfl)
theorem dX1_open_2 : decode cX1_open 2 = .ok (.invokevirtual 305, 3) := dk_182 1 49 (dk_at dksX1_open_0 2 rfl rfl)
theorem dX1_open_5 : decode cX1_open 5 = .ok (.aload_n 0, 1) := dk_42 (dk_at dksX1_open_0 5 rfl rfl)
theorem dX1_open_6 : decode cX1_open 6 = .ok (.iload_n 2, 1) := dk_28 (dk_at dksX1_open_0 6 rfl rfl)
theorem dX1_open_7 : decode cX1_open 7 = .ok (.invokevirtual 305, 3) := dk_182 1 49 (dk_at dksX1_open_0 7 rfl rfl)
theorem dX1_open_10 : decode cX1_open 10 = .ok (.iconst 0, 1) := dk_3 (dk_at dksX1_open_0 10 rfl rfl)
theorem dX1_open_11 : decode cX1_open 11 = .ok (.istore_n 3, 1) := dk_62 (dk_at dksX1_open_0 11 rfl rfl)
theorem dX1_open_12 : decode cX1_open 12 = .ok (.iconst 0, 1) := dk_3 (dk_at dksX1_open_0 12 rfl rfl)
theorem dX1_open_13 : decode cX1_open 13 = .ok (.istore 4, 2) := dk_54 4 (dk_at dksX1_open_0 13 rfl rfl)
theorem dX1_open_15 : decode cX1_open 15 = .ok (.iload 4, 2) := dk_21 4 (dk_at dksX1_open_0 15 rfl rfl)
theorem dX1_open_17 : decode cX1_open 17 = .ok (.aload_n 0, 1) := dk_42 (dk_at dksX1_open_0 17 rfl rfl)
theorem dX1_open_18 : decode cX1_open 18 = .ok (.getfield 28, 3) := dk_180 0 28 (dk_at dksX1_open_0 18 rfl rfl)
theorem dX1_open_21 : decode cX1_open 21 = .ok (.getfield 147, 3) := dk_180 0 147 (dk_at dksX1_open_0 21 rfl rfl)
theorem dX1_open_24 : decode cX1_open 24 = .ok (.if_icmp .ge 38, 3) := dk_162 0 38 (dk_at dksX1_open_1 0 rfl rfl)
theorem dX1_open_27 : decode cX1_open 27 = .ok (.aload_n 0, 1) := dk_42 (dk_at dksX1_open_1 3 rfl rfl)
theorem dX1_open_28 : decode cX1_open 28 = .ok (.getfield 28, 3) := dk_180 0 28 (dk_at dksX1_open_1 4 rfl rfl)
theorem dX1_open_31 : decode cX1_open 31 = .ok (.iload 4, 2) := dk_21 4 (dk_at dksX1_open_1 7 rfl rfl)
theorem dX1_open_33 : decode cX1_open 33 = .ok (.invokevirtual 202, 3) := dk_182 0 202 (dk_at dksX1_open_1 9 rfl rfl)
theorem dX1_open_36 : decode cX1_open 36 = .ok (.ifCond .eq 20, 3) := dk_153 0 20 (dk_at dksX1_open_1 12 rfl rfl)
theorem dX1_open_39 : decode cX1_open 39 = .ok (.aload_n 0, 1) := dk_42 (dk_at dksX1_open_1 15 rfl rfl)
theorem dX1_open_40 : decode cX1_open 40 = .ok (.getfield 28, 3) := dk_180 0 28 (dk_at dksX1_open_1 16 rfl rfl)
theorem dX1_open_43 : decode cX1_open 43 = .ok (.iload 4, 2) := dk_21 4 (dk_at dksX1_open_1 19 rfl rfl)
theorem dX1_open_45 : decode cX1_open 45 = .ok (.iload_n 1, 1) := dk_27 (dk_at dksX1_open_1 21 rfl rfl)
theorem dX1_open_46 : decode cX1_open 46 = .ok (.iload_n 2, 1) := dk_28 (dk_at dksX1_open_1 22 rfl rfl)
theorem dX1_open_47 : decode cX1_open 47 = .ok (.invokevirtual 365, 3) := dk_182 1 109 (dk_at dksX1_open_2 0 rfl rfl)
theorem dX1_open_50 : decode cX1_open 50 = .ok (.ifCond .eq 6, 3) := dk_153 0 6 (dk_at dksX1_open_2 3 rfl rfl)
theorem dX1_open_53 : decode cX1_open 53 = .ok (.iinc 3 1, 3) := dk_132 3 1 (dk_at dksX1_open_2 6 rfl rfl)
theorem dX1_open_56 : decode cX1_open 56 = .ok (.iinc 4 1, 3) := dk_132 4 1 (dk_at dksX1_open_2 9 rfl rfl)
theorem dX1_open_59 : decode cX1_open 59 = .ok (.goto (-44), 3) := dk_167 255 212 (dk_at dksX1_open_2 12 rfl rfl)
theorem dX1_open_62 : decode cX1_open 62 = .ok (.iload_n 3, 1) := dk_29 (dk_at dksX1_open_2 15 rfl rfl)
theorem dX1_open_63 : decode cX1_open 63 = .ok (.ireturn, 1) := dk_172 (dk_at dksX1_open_2 16 rfl rfl)
abbrev cX1_chain : ByteArray := prog_1_method_55_code
def yX1_chain : MethodName := ⟨RX1, "chain", "(III)I"⟩
def dkwX1_chain_4 : List UInt8 := [25, 4, 180, 1, 126, 3, 185, 0, 251, 2, 0, 192, 1, 17, 180, 1, 16, 172]
abbrev dktX1_chain_4 : List UInt8 := dkwX1_chain_4 ++ []
def dkwX1_chain_3 : List UInt8 := [25, 4, 182, 1, 116, 172, 25, 4, 180, 1, 119, 172, 25, 4, 180, 1, 122, 172, 25, 4, 180, 1, 125, 172]
abbrev dktX1_chain_3 : List UInt8 := dkwX1_chain_3 ++ dktX1_chain_4
def dkwX1_chain_2 : List UInt8 := [170, 0, 0, 0, 0, 54, 0, 0, 0, 0, 0, 0, 0, 3, 0, 0, 0, 30, 0, 0, 0, 36, 0, 0, 0, 42, 0, 0, 0, 48]
abbrev dktX1_chain_2 : List UInt8 := dkwX1_chain_2 ++ dktX1_chain_3
def dkwX1_chain_1 : List UInt8 := [28, 182, 1, 112, 58, 4, 25, 4, 199, 0, 5, 2, 172, 29]
abbrev dktX1_chain_1 : List UInt8 := dkwX1_chain_1 ++ dktX1_chain_2
def dkwX1_chain_0 : List UInt8 := [42, 27, 182, 1, 49, 42, 28, 182, 1, 49, 29, 3, 7, 184, 0, 73, 184, 0, 77, 42, 180, 0, 28, 27]
abbrev dktX1_chain_0 : List UInt8 := dkwX1_chain_0 ++ dktX1_chain_1
theorem dksX1_chain_0 : cX1_chain.data.toList.drop 0 = dktX1_chain_0 := by decide +kernel
theorem dksX1_chain_1 : cX1_chain.data.toList.drop 24 = dktX1_chain_1 := dk_seg dksX1_chain_0 24 rfl rfl
theorem dksX1_chain_2 : cX1_chain.data.toList.drop 38 = dktX1_chain_2 := dk_seg dksX1_chain_1 14 rfl rfl
theorem dksX1_chain_3 : cX1_chain.data.toList.drop 68 = dktX1_chain_3 := dk_seg dksX1_chain_2 30 rfl rfl
theorem dksX1_chain_4 : cX1_chain.data.toList.drop 92 = dktX1_chain_4 := dk_seg dksX1_chain_3 24 rfl rfl
theorem dX1_chain_0 : decode cX1_chain 0 = .ok (.aload_n 0, 1) := dk_42 (dk_at dksX1_chain_0 0 rfl rfl)
theorem dX1_chain_1 : decode cX1_chain 1 = .ok (.iload_n 1, 1) := dk_27 (dk_at dksX1_chain_0 1 rfl rfl)
theorem dX1_chain_2 : decode cX1_chain 2 = .ok (.invokevirtual 305, 3) := dk_182 1 49 (dk_at dksX1_chain_0 2 rfl rfl)
theorem dX1_chain_5 : decode cX1_chain 5 = .ok (.aload_n 0, 1) := dk_42 (dk_at dksX1_chain_0 5 rfl rfl)
theorem dX1_chain_6 : decode cX1_chain 6 = .ok (.iload_n 2, 1) := dk_28 (dk_at dksX1_chain_0 6 rfl rfl)
theorem dX1_chain_7 : decode cX1_chain 7 = .ok (.invokevirtual 305, 3) := dk_182 1 49 (dk_at dksX1_chain_0 7 rfl rfl)
theorem dX1_chain_10 : decode cX1_chain 10 = .ok (.iload_n 3, 1) := dk_29 (dk_at dksX1_chain_0 10 rfl rfl)
theorem dX1_chain_11 : decode cX1_chain 11 = .ok (.iconst 0, 1) := dk_3 (dk_at dksX1_chain_0 11 rfl rfl)
theorem dX1_chain_12 : decode cX1_chain 12 = .ok (.iconst 4, 1) := dk_7 (dk_at dksX1_chain_0 12 rfl rfl)
theorem dX1_chain_13 : decode cX1_chain 13 = .ok (.invokestatic 73, 3) := dk_184 0 73 (dk_at dksX1_chain_0 13 rfl rfl)
theorem dX1_chain_16 : decode cX1_chain 16 = .ok (.invokestatic 77, 3) := dk_184 0 77 (dk_at dksX1_chain_0 16 rfl rfl)
theorem dX1_chain_19 : decode cX1_chain 19 = .ok (.aload_n 0, 1) := dk_42 (dk_at dksX1_chain_0 19 rfl rfl)
theorem dX1_chain_20 : decode cX1_chain 20 = .ok (.getfield 28, 3) := dk_180 0 28 (dk_at dksX1_chain_0 20 rfl rfl)
theorem dX1_chain_23 : decode cX1_chain 23 = .ok (.iload_n 1, 1) := dk_27 (dk_at dksX1_chain_0 23 rfl rfl)
theorem dX1_chain_24 : decode cX1_chain 24 = .ok (.iload_n 2, 1) := dk_28 (dk_at dksX1_chain_1 0 rfl rfl)
theorem dX1_chain_25 : decode cX1_chain 25 = .ok (.invokevirtual 368, 3) := dk_182 1 112 (dk_at dksX1_chain_1 1 rfl rfl)
theorem dX1_chain_28 : decode cX1_chain 28 = .ok (.astore 4, 2) := dk_58 4 (dk_at dksX1_chain_1 4 rfl rfl)
theorem dX1_chain_30 : decode cX1_chain 30 = .ok (.aload 4, 2) := dk_25 4 (dk_at dksX1_chain_1 6 rfl rfl)
theorem dX1_chain_32 : decode cX1_chain 32 = .ok (.ifnonnull 5, 3) := dk_199 0 5 (dk_at dksX1_chain_1 8 rfl rfl)
theorem dX1_chain_35 : decode cX1_chain 35 = .ok (.iconst (-1), 1) := dk_2 (dk_at dksX1_chain_1 11 rfl rfl)
theorem dX1_chain_36 : decode cX1_chain 36 = .ok (.ireturn, 1) := dk_172 (dk_at dksX1_chain_1 12 rfl rfl)
theorem dX1_chain_37 : decode cX1_chain 37 = .ok (.iload_n 3, 1) := dk_29 (dk_at dksX1_chain_1 13 rfl rfl)
theorem dX1_chain_38 : decode cX1_chain 38 = .ok (.tableswitch 54 0 3 #[30, 36, 42, 48], 30) := by decide +kernel
theorem dX1_chain_68 : decode cX1_chain 68 = .ok (.aload 4, 2) := dk_25 4 (dk_at dksX1_chain_3 0 rfl rfl)
theorem dX1_chain_70 : decode cX1_chain 70 = .ok (.invokevirtual 372, 3) := dk_182 1 116 (dk_at dksX1_chain_3 2 rfl rfl)
theorem dX1_chain_73 : decode cX1_chain 73 = .ok (.ireturn, 1) := dk_172 (dk_at dksX1_chain_3 5 rfl rfl)
theorem dX1_chain_74 : decode cX1_chain 74 = .ok (.aload 4, 2) := dk_25 4 (dk_at dksX1_chain_3 6 rfl rfl)
theorem dX1_chain_76 : decode cX1_chain 76 = .ok (.getfield 375, 3) := dk_180 1 119 (dk_at dksX1_chain_3 8 rfl rfl)
theorem dX1_chain_79 : decode cX1_chain 79 = .ok (.ireturn, 1) := dk_172 (dk_at dksX1_chain_3 11 rfl rfl)
theorem dX1_chain_80 : decode cX1_chain 80 = .ok (.aload 4, 2) := dk_25 4 (dk_at dksX1_chain_3 12 rfl rfl)
theorem dX1_chain_82 : decode cX1_chain 82 = .ok (.getfield 378, 3) := dk_180 1 122 (dk_at dksX1_chain_3 14 rfl rfl)
theorem dX1_chain_85 : decode cX1_chain 85 = .ok (.ireturn, 1) := dk_172 (dk_at dksX1_chain_3 17 rfl rfl)
theorem dX1_chain_86 : decode cX1_chain 86 = .ok (.aload 4, 2) := dk_25 4 (dk_at dksX1_chain_3 18 rfl rfl)
theorem dX1_chain_88 : decode cX1_chain 88 = .ok (.getfield 381, 3) := dk_180 1 125 (dk_at dksX1_chain_3 20 rfl rfl)
theorem dX1_chain_91 : decode cX1_chain 91 = .ok (.ireturn, 1) := dk_172 (dk_at dksX1_chain_3 23 rfl rfl)
theorem dX1_chain_92 : decode cX1_chain 92 = .ok (.aload 4, 2) := dk_25 4 (dk_at dksX1_chain_4 0 rfl rfl)
theorem dX1_chain_94 : decode cX1_chain 94 = .ok (.getfield 382, 3) := dk_180 1 126 (dk_at dksX1_chain_4 2 rfl rfl)
theorem dX1_chain_97 : decode cX1_chain 97 = .ok (.iconst 0, 1) := dk_3 (dk_at dksX1_chain_4 5 rfl rfl)
theorem dX1_chain_98 : decode cX1_chain 98 = .ok (.invokeinterface 251 2, 5) := by decide +kernel
theorem dX1_chain_103 : decode cX1_chain 103 = .ok (.checkcast 273, 3) := dk_192 1 17 (dk_at dksX1_chain_4 11 rfl rfl)
theorem dX1_chain_106 : decode cX1_chain 106 = .ok (.getfield 272, 3) := dk_180 1 16 (dk_at dksX1_chain_4 14 rfl rfl)
theorem dX1_chain_109 : decode cX1_chain 109 = .ok (.ireturn, 1) := dk_172 (dk_at dksX1_chain_4 17 rfl rfl)
abbrev cX1_why : ByteArray := prog_1_method_58_code
def yX1_why : MethodName := ⟨RX1, "why", "(III)I"⟩
def dkwX1_why_8 : List UInt8 := [172, 2, 172]
abbrev dktX1_why_8 : List UInt8 := dkwX1_why_8 ++ []
def dkwX1_why_7 : List UInt8 := [25, 5, 180, 1, 125, 172, 42, 27, 182, 1, 139, 172, 42, 28, 182, 1, 139, 172, 42, 27, 28, 182, 1, 142]
abbrev dktX1_why_7 : List UInt8 := dkwX1_why_7 ++ dktX1_why_8
def dkwX1_why_6 : List UInt8 := [170, 0, 0, 0, 58, 0, 0, 0, 0, 0, 0, 0, 4, 0, 0, 0, 33, 0, 0, 0, 39, 0, 0, 0, 45, 0, 0, 0, 58, 0, 0, 0, 51]
abbrev dktX1_why_6 : List UInt8 := dkwX1_why_6 ++ dktX1_why_7
def dkwX1_why_5 : List UInt8 := [172, 21, 4]
abbrev dktX1_why_5 : List UInt8 := dkwX1_why_5 ++ dktX1_why_6
def dkwX1_why_4 : List UInt8 := [182, 1, 116, 167, 0, 4, 2, 172, 29, 154, 0, 16, 21, 6, 153, 0, 8, 16, 6, 167, 0, 5, 21, 4]
abbrev dktX1_why_4 : List UInt8 := dkwX1_why_4 ++ dktX1_why_5
def dkwX1_why_3 : List UInt8 := [154, 0, 7, 4, 167, 0, 4, 3, 54, 6, 29, 5, 160, 0, 18, 21, 6, 153, 0, 11, 25, 5]
abbrev dktX1_why_3 : List UInt8 := dkwX1_why_3 ++ dktX1_why_4
def dkwX1_why_2 : List UInt8 := [182, 1, 13, 182, 1, 133, 167, 0, 4, 1, 58, 5, 25, 5, 198, 0, 15, 25, 5, 182, 1, 136]
abbrev dktX1_why_2 : List UInt8 := dkwX1_why_2 ++ dktX1_why_3
def dkwX1_why_1 : List UInt8 := [54, 4, 21, 4, 154, 0, 29, 42, 180, 0, 28, 42, 180, 0, 28, 27, 182, 1, 13, 42, 180, 0, 28, 28]
abbrev dktX1_why_1 : List UInt8 := dkwX1_why_1 ++ dktX1_why_2
def dkwX1_why_0 : List UInt8 := [42, 27, 28, 182, 0, 162, 29, 3, 5, 184, 0, 73, 184, 0, 77, 42, 180, 0, 28, 27, 28, 182, 1, 129]
abbrev dktX1_why_0 : List UInt8 := dkwX1_why_0 ++ dktX1_why_1
theorem dksX1_why_0 : cX1_why.data.toList.drop 0 = dktX1_why_0 := by decide +kernel
theorem dksX1_why_1 : cX1_why.data.toList.drop 24 = dktX1_why_1 := dk_seg dksX1_why_0 24 rfl rfl
theorem dksX1_why_2 : cX1_why.data.toList.drop 48 = dktX1_why_2 := dk_seg dksX1_why_1 24 rfl rfl
theorem dksX1_why_3 : cX1_why.data.toList.drop 70 = dktX1_why_3 := dk_seg dksX1_why_2 22 rfl rfl
theorem dksX1_why_4 : cX1_why.data.toList.drop 92 = dktX1_why_4 := dk_seg dksX1_why_3 22 rfl rfl
theorem dksX1_why_5 : cX1_why.data.toList.drop 116 = dktX1_why_5 := dk_seg dksX1_why_4 24 rfl rfl
theorem dksX1_why_6 : cX1_why.data.toList.drop 119 = dktX1_why_6 := dk_seg dksX1_why_5 3 rfl rfl
theorem dksX1_why_7 : cX1_why.data.toList.drop 152 = dktX1_why_7 := dk_seg dksX1_why_6 33 rfl rfl
theorem dksX1_why_8 : cX1_why.data.toList.drop 176 = dktX1_why_8 := dk_seg dksX1_why_7 24 rfl rfl
theorem dX1_why_0 : decode cX1_why 0 = .ok (.aload_n 0, 1) := dk_42 (dk_at dksX1_why_0 0 rfl rfl)
theorem dX1_why_1 : decode cX1_why 1 = .ok (.iload_n 1, 1) := dk_27 (dk_at dksX1_why_0 1 rfl rfl)
theorem dX1_why_2 : decode cX1_why 2 = .ok (.iload_n 2, 1) := dk_28 (dk_at dksX1_why_0 2 rfl rfl)
theorem dX1_why_3 : decode cX1_why 3 = .ok (.invokevirtual 162, 3) := dk_182 0 162 (dk_at dksX1_why_0 3 rfl rfl)
theorem dX1_why_6 : decode cX1_why 6 = .ok (.iload_n 3, 1) := dk_29 (dk_at dksX1_why_0 6 rfl rfl)
theorem dX1_why_7 : decode cX1_why 7 = .ok (.iconst 0, 1) := dk_3 (dk_at dksX1_why_0 7 rfl rfl)
theorem dX1_why_8 : decode cX1_why 8 = .ok (.iconst 2, 1) := dk_5 (dk_at dksX1_why_0 8 rfl rfl)
theorem dX1_why_9 : decode cX1_why 9 = .ok (.invokestatic 73, 3) := dk_184 0 73 (dk_at dksX1_why_0 9 rfl rfl)
theorem dX1_why_12 : decode cX1_why 12 = .ok (.invokestatic 77, 3) := dk_184 0 77 (dk_at dksX1_why_0 12 rfl rfl)
theorem dX1_why_15 : decode cX1_why 15 = .ok (.aload_n 0, 1) := dk_42 (dk_at dksX1_why_0 15 rfl rfl)
theorem dX1_why_16 : decode cX1_why 16 = .ok (.getfield 28, 3) := dk_180 0 28 (dk_at dksX1_why_0 16 rfl rfl)
theorem dX1_why_19 : decode cX1_why 19 = .ok (.iload_n 1, 1) := dk_27 (dk_at dksX1_why_0 19 rfl rfl)
theorem dX1_why_20 : decode cX1_why 20 = .ok (.iload_n 2, 1) := dk_28 (dk_at dksX1_why_0 20 rfl rfl)
theorem dX1_why_21 : decode cX1_why 21 = .ok (.invokevirtual 385, 3) := dk_182 1 129 (dk_at dksX1_why_0 21 rfl rfl)
theorem dX1_why_24 : decode cX1_why 24 = .ok (.istore 4, 2) := dk_54 4 (dk_at dksX1_why_1 0 rfl rfl)
theorem dX1_why_26 : decode cX1_why 26 = .ok (.iload 4, 2) := dk_21 4 (dk_at dksX1_why_1 2 rfl rfl)
theorem dX1_why_28 : decode cX1_why 28 = .ok (.ifCond .ne 29, 3) := dk_154 0 29 (dk_at dksX1_why_1 4 rfl rfl)
theorem dX1_why_31 : decode cX1_why 31 = .ok (.aload_n 0, 1) := dk_42 (dk_at dksX1_why_1 7 rfl rfl)
theorem dX1_why_32 : decode cX1_why 32 = .ok (.getfield 28, 3) := dk_180 0 28 (dk_at dksX1_why_1 8 rfl rfl)
theorem dX1_why_35 : decode cX1_why 35 = .ok (.aload_n 0, 1) := dk_42 (dk_at dksX1_why_1 11 rfl rfl)
theorem dX1_why_36 : decode cX1_why 36 = .ok (.getfield 28, 3) := dk_180 0 28 (dk_at dksX1_why_1 12 rfl rfl)
theorem dX1_why_39 : decode cX1_why 39 = .ok (.iload_n 1, 1) := dk_27 (dk_at dksX1_why_1 15 rfl rfl)
theorem dX1_why_40 : decode cX1_why 40 = .ok (.invokevirtual 269, 3) := dk_182 1 13 (dk_at dksX1_why_1 16 rfl rfl)
theorem dX1_why_43 : decode cX1_why 43 = .ok (.aload_n 0, 1) := dk_42 (dk_at dksX1_why_1 19 rfl rfl)
theorem dX1_why_44 : decode cX1_why 44 = .ok (.getfield 28, 3) := dk_180 0 28 (dk_at dksX1_why_1 20 rfl rfl)
theorem dX1_why_47 : decode cX1_why 47 = .ok (.iload_n 2, 1) := dk_28 (dk_at dksX1_why_1 23 rfl rfl)
theorem dX1_why_48 : decode cX1_why 48 = .ok (.invokevirtual 269, 3) := dk_182 1 13 (dk_at dksX1_why_2 0 rfl rfl)
theorem dX1_why_51 : decode cX1_why 51 = .ok (.invokevirtual 389, 3) := dk_182 1 133 (dk_at dksX1_why_2 3 rfl rfl)
theorem dX1_why_54 : decode cX1_why 54 = .ok (.goto 4, 3) := dk_167 0 4 (dk_at dksX1_why_2 6 rfl rfl)
theorem dX1_why_57 : decode cX1_why 57 = .ok (.aconst_null, 1) := dk_1 (dk_at dksX1_why_2 9 rfl rfl)
theorem dX1_why_58 : decode cX1_why 58 = .ok (.astore 5, 2) := dk_58 5 (dk_at dksX1_why_2 10 rfl rfl)
theorem dX1_why_60 : decode cX1_why 60 = .ok (.aload 5, 2) := dk_25 5 (dk_at dksX1_why_2 12 rfl rfl)
theorem dX1_why_62 : decode cX1_why 62 = .ok (.ifnull 15, 3) := dk_198 0 15 (dk_at dksX1_why_2 14 rfl rfl)
theorem dX1_why_65 : decode cX1_why 65 = .ok (.aload 5, 2) := dk_25 5 (dk_at dksX1_why_2 17 rfl rfl)
theorem dX1_why_67 : decode cX1_why 67 = .ok (.invokevirtual 392, 3) := dk_182 1 136 (dk_at dksX1_why_2 19 rfl rfl)
theorem dX1_why_70 : decode cX1_why 70 = .ok (.ifCond .ne 7, 3) := dk_154 0 7 (dk_at dksX1_why_3 0 rfl rfl)
theorem dX1_why_73 : decode cX1_why 73 = .ok (.iconst 1, 1) := dk_4 (dk_at dksX1_why_3 3 rfl rfl)
theorem dX1_why_74 : decode cX1_why 74 = .ok (.goto 4, 3) := dk_167 0 4 (dk_at dksX1_why_3 4 rfl rfl)
theorem dX1_why_77 : decode cX1_why 77 = .ok (.iconst 0, 1) := dk_3 (dk_at dksX1_why_3 7 rfl rfl)
theorem dX1_why_78 : decode cX1_why 78 = .ok (.istore 6, 2) := dk_54 6 (dk_at dksX1_why_3 8 rfl rfl)
theorem dX1_why_80 : decode cX1_why 80 = .ok (.iload_n 3, 1) := dk_29 (dk_at dksX1_why_3 10 rfl rfl)
theorem dX1_why_81 : decode cX1_why 81 = .ok (.iconst 2, 1) := dk_5 (dk_at dksX1_why_3 11 rfl rfl)
theorem dX1_why_82 : decode cX1_why 82 = .ok (.if_icmp .ne 18, 3) := dk_160 0 18 (dk_at dksX1_why_3 12 rfl rfl)
theorem dX1_why_85 : decode cX1_why 85 = .ok (.iload 6, 2) := dk_21 6 (dk_at dksX1_why_3 15 rfl rfl)
theorem dX1_why_87 : decode cX1_why 87 = .ok (.ifCond .eq 11, 3) := dk_153 0 11 (dk_at dksX1_why_3 17 rfl rfl)
theorem dX1_why_90 : decode cX1_why 90 = .ok (.aload 5, 2) := dk_25 5 (dk_at dksX1_why_3 20 rfl rfl)
theorem dX1_why_92 : decode cX1_why 92 = .ok (.invokevirtual 372, 3) := dk_182 1 116 (dk_at dksX1_why_4 0 rfl rfl)
theorem dX1_why_95 : decode cX1_why 95 = .ok (.goto 4, 3) := dk_167 0 4 (dk_at dksX1_why_4 3 rfl rfl)
theorem dX1_why_98 : decode cX1_why 98 = .ok (.iconst (-1), 1) := dk_2 (dk_at dksX1_why_4 6 rfl rfl)
theorem dX1_why_99 : decode cX1_why 99 = .ok (.ireturn, 1) := dk_172 (dk_at dksX1_why_4 7 rfl rfl)
theorem dX1_why_100 : decode cX1_why 100 = .ok (.iload_n 3, 1) := dk_29 (dk_at dksX1_why_4 8 rfl rfl)
theorem dX1_why_101 : decode cX1_why 101 = .ok (.ifCond .ne 16, 3) := dk_154 0 16 (dk_at dksX1_why_4 9 rfl rfl)
theorem dX1_why_104 : decode cX1_why 104 = .ok (.iload 6, 2) := dk_21 6 (dk_at dksX1_why_4 12 rfl rfl)
theorem dX1_why_106 : decode cX1_why 106 = .ok (.ifCond .eq 8, 3) := dk_153 0 8 (dk_at dksX1_why_4 14 rfl rfl)
theorem dX1_why_109 : decode cX1_why 109 = .ok (.bipush 6, 2) := dk_16 6 (dk_at dksX1_why_4 17 rfl rfl)
theorem dX1_why_111 : decode cX1_why 111 = .ok (.goto 5, 3) := dk_167 0 5 (dk_at dksX1_why_4 19 rfl rfl)
theorem dX1_why_114 : decode cX1_why 114 = .ok (.iload 4, 2) := dk_21 4 (dk_at dksX1_why_4 22 rfl rfl)
theorem dX1_why_116 : decode cX1_why 116 = .ok (.ireturn, 1) := dk_172 (dk_at dksX1_why_5 0 rfl rfl)
theorem dX1_why_117 : decode cX1_why 117 = .ok (.iload 4, 2) := dk_21 4 (dk_at dksX1_why_5 1 rfl rfl)
theorem dX1_why_119 : decode cX1_why 119 = .ok (.tableswitch 58 0 4 #[33, 39, 45, 58, 51], 33) := by decide +kernel
theorem dX1_why_152 : decode cX1_why 152 = .ok (.aload 5, 2) := dk_25 5 (dk_at dksX1_why_7 0 rfl rfl)
theorem dX1_why_154 : decode cX1_why 154 = .ok (.getfield 381, 3) := dk_180 1 125 (dk_at dksX1_why_7 2 rfl rfl)
theorem dX1_why_157 : decode cX1_why 157 = .ok (.ireturn, 1) := dk_172 (dk_at dksX1_why_7 5 rfl rfl)
theorem dX1_why_158 : decode cX1_why 158 = .ok (.aload_n 0, 1) := dk_42 (dk_at dksX1_why_7 6 rfl rfl)
theorem dX1_why_159 : decode cX1_why 159 = .ok (.iload_n 1, 1) := dk_27 (dk_at dksX1_why_7 7 rfl rfl)
theorem dX1_why_160 : decode cX1_why 160 = .ok (.invokevirtual 395, 3) := dk_182 1 139 (dk_at dksX1_why_7 8 rfl rfl)
theorem dX1_why_163 : decode cX1_why 163 = .ok (.ireturn, 1) := dk_172 (dk_at dksX1_why_7 11 rfl rfl)
theorem dX1_why_164 : decode cX1_why 164 = .ok (.aload_n 0, 1) := dk_42 (dk_at dksX1_why_7 12 rfl rfl)
theorem dX1_why_165 : decode cX1_why 165 = .ok (.iload_n 2, 1) := dk_28 (dk_at dksX1_why_7 13 rfl rfl)
theorem dX1_why_166 : decode cX1_why 166 = .ok (.invokevirtual 395, 3) := dk_182 1 139 (dk_at dksX1_why_7 14 rfl rfl)
theorem dX1_why_169 : decode cX1_why 169 = .ok (.ireturn, 1) := dk_172 (dk_at dksX1_why_7 17 rfl rfl)
theorem dX1_why_170 : decode cX1_why 170 = .ok (.aload_n 0, 1) := dk_42 (dk_at dksX1_why_7 18 rfl rfl)
theorem dX1_why_171 : decode cX1_why 171 = .ok (.iload_n 1, 1) := dk_27 (dk_at dksX1_why_7 19 rfl rfl)
theorem dX1_why_172 : decode cX1_why 172 = .ok (.iload_n 2, 1) := dk_28 (dk_at dksX1_why_7 20 rfl rfl)
theorem dX1_why_173 : decode cX1_why 173 = .ok (.invokevirtual 398, 3) := dk_182 1 142 (dk_at dksX1_why_7 21 rfl rfl)
theorem dX1_why_176 : decode cX1_why 176 = .ok (.ireturn, 1) := dk_172 (dk_at dksX1_why_8 0 rfl rfl)
theorem dX1_why_177 : decode cX1_why 177 = .ok (.iconst (-1), 1) := dk_2 (dk_at dksX1_why_8 1 rfl rfl)
theorem dX1_why_178 : decode cX1_why 178 = .ok (.ireturn, 1) := dk_172 (dk_at dksX1_why_8 2 rfl rfl)
abbrev cX1_callOfSubscriber : ByteArray := prog_1_method_56_code
def yX1_callOfSubscriber : MethodName := ⟨RX1, "callOfSubscriber", "(I)I"⟩
def dkwX1_callOfSubscriber_1 : List UInt8 := [50, 180, 1, 16, 172]
abbrev dktX1_callOfSubscriber_1 : List UInt8 := dkwX1_callOfSubscriber_1 ++ []
def dkwX1_callOfSubscriber_0 : List UInt8 := [42, 180, 0, 28, 180, 1, 2, 27, 50, 199, 0, 7, 2, 167, 0, 15, 42, 180, 0, 28, 180, 1, 2, 27]
abbrev dktX1_callOfSubscriber_0 : List UInt8 := dkwX1_callOfSubscriber_0 ++ dktX1_callOfSubscriber_1
theorem dksX1_callOfSubscriber_0 : cX1_callOfSubscriber.data.toList.drop 0 = dktX1_callOfSubscriber_0 := by decide +kernel
theorem dksX1_callOfSubscriber_1 : cX1_callOfSubscriber.data.toList.drop 24 = dktX1_callOfSubscriber_1 := dk_seg dksX1_callOfSubscriber_0 24 rfl rfl
theorem dX1_callOfSubscriber_0 : decode cX1_callOfSubscriber 0 = .ok (.aload_n 0, 1) := dk_42 (dk_at dksX1_callOfSubscriber_0 0 rfl rfl)
theorem dX1_callOfSubscriber_1 : decode cX1_callOfSubscriber 1 = .ok (.getfield 28, 3) := dk_180 0 28 (dk_at dksX1_callOfSubscriber_0 1 rfl rfl)
theorem dX1_callOfSubscriber_4 : decode cX1_callOfSubscriber 4 = .ok (.getfield 258, 3) := dk_180 1 2 (dk_at dksX1_callOfSubscriber_0 4 rfl rfl)
theorem dX1_callOfSubscriber_7 : decode cX1_callOfSubscriber 7 = .ok (.iload_n 1, 1) := dk_27 (dk_at dksX1_callOfSubscriber_0 7 rfl rfl)
theorem dX1_callOfSubscriber_8 : decode cX1_callOfSubscriber 8 = .ok (.aaload, 1) := dk_50 (dk_at dksX1_callOfSubscriber_0 8 rfl rfl)
theorem dX1_callOfSubscriber_9 : decode cX1_callOfSubscriber 9 = .ok (.ifnonnull 7, 3) := dk_199 0 7 (dk_at dksX1_callOfSubscriber_0 9 rfl rfl)
theorem dX1_callOfSubscriber_12 : decode cX1_callOfSubscriber 12 = .ok (.iconst (-1), 1) := dk_2 (dk_at dksX1_callOfSubscriber_0 12 rfl rfl)
theorem dX1_callOfSubscriber_13 : decode cX1_callOfSubscriber 13 = .ok (.goto 15, 3) := dk_167 0 15 (dk_at dksX1_callOfSubscriber_0 13 rfl rfl)
theorem dX1_callOfSubscriber_16 : decode cX1_callOfSubscriber 16 = .ok (.aload_n 0, 1) := dk_42 (dk_at dksX1_callOfSubscriber_0 16 rfl rfl)
theorem dX1_callOfSubscriber_17 : decode cX1_callOfSubscriber 17 = .ok (.getfield 28, 3) := dk_180 0 28 (dk_at dksX1_callOfSubscriber_0 17 rfl rfl)
theorem dX1_callOfSubscriber_20 : decode cX1_callOfSubscriber 20 = .ok (.getfield 258, 3) := dk_180 1 2 (dk_at dksX1_callOfSubscriber_0 20 rfl rfl)
theorem dX1_callOfSubscriber_23 : decode cX1_callOfSubscriber 23 = .ok (.iload_n 1, 1) := dk_27 (dk_at dksX1_callOfSubscriber_0 23 rfl rfl)
theorem dX1_callOfSubscriber_24 : decode cX1_callOfSubscriber 24 = .ok (.aaload, 1) := dk_50 (dk_at dksX1_callOfSubscriber_1 0 rfl rfl)
theorem dX1_callOfSubscriber_25 : decode cX1_callOfSubscriber 25 = .ok (.getfield 272, 3) := dk_180 1 16 (dk_at dksX1_callOfSubscriber_1 1 rfl rfl)
theorem dX1_callOfSubscriber_28 : decode cX1_callOfSubscriber 28 = .ok (.ireturn, 1) := dk_172 (dk_at dksX1_callOfSubscriber_1 4 rfl rfl)
abbrev cX1_fullEnd : ByteArray := prog_1_method_57_code
def yX1_fullEnd : MethodName := ⟨RX1, "fullEnd", "(II)I"⟩
def dkwX1_fullEnd_2 : List UInt8 := [180, 0, 28, 182, 0, 232, 160, 0, 7, 5, 167, 0, 4, 3, 172]
abbrev dktX1_fullEnd_2 : List UInt8 := dkwX1_fullEnd_2 ++ []
def dkwX1_fullEnd_1 : List UInt8 := [160, 0, 5, 4, 172, 42, 180, 0, 28, 42, 180, 0, 28, 28, 182, 1, 13, 4, 182, 1, 52, 42]
abbrev dktX1_fullEnd_1 : List UInt8 := dkwX1_fullEnd_1 ++ dktX1_fullEnd_2
def dkwX1_fullEnd_0 : List UInt8 := [42, 180, 0, 28, 42, 180, 0, 28, 27, 182, 1, 13, 3, 182, 1, 52, 42, 180, 0, 28, 182, 0, 232]
abbrev dktX1_fullEnd_0 : List UInt8 := dkwX1_fullEnd_0 ++ dktX1_fullEnd_1
theorem dksX1_fullEnd_0 : cX1_fullEnd.data.toList.drop 0 = dktX1_fullEnd_0 := by decide +kernel
theorem dksX1_fullEnd_1 : cX1_fullEnd.data.toList.drop 23 = dktX1_fullEnd_1 := dk_seg dksX1_fullEnd_0 23 rfl rfl
theorem dksX1_fullEnd_2 : cX1_fullEnd.data.toList.drop 45 = dktX1_fullEnd_2 := dk_seg dksX1_fullEnd_1 22 rfl rfl
theorem dX1_fullEnd_0 : decode cX1_fullEnd 0 = .ok (.aload_n 0, 1) := dk_42 (dk_at dksX1_fullEnd_0 0 rfl rfl)
theorem dX1_fullEnd_1 : decode cX1_fullEnd 1 = .ok (.getfield 28, 3) := dk_180 0 28 (dk_at dksX1_fullEnd_0 1 rfl rfl)
theorem dX1_fullEnd_4 : decode cX1_fullEnd 4 = .ok (.aload_n 0, 1) := dk_42 (dk_at dksX1_fullEnd_0 4 rfl rfl)
theorem dX1_fullEnd_5 : decode cX1_fullEnd 5 = .ok (.getfield 28, 3) := dk_180 0 28 (dk_at dksX1_fullEnd_0 5 rfl rfl)
theorem dX1_fullEnd_8 : decode cX1_fullEnd 8 = .ok (.iload_n 1, 1) := dk_27 (dk_at dksX1_fullEnd_0 8 rfl rfl)
theorem dX1_fullEnd_9 : decode cX1_fullEnd 9 = .ok (.invokevirtual 269, 3) := dk_182 1 13 (dk_at dksX1_fullEnd_0 9 rfl rfl)
theorem dX1_fullEnd_12 : decode cX1_fullEnd 12 = .ok (.iconst 0, 1) := dk_3 (dk_at dksX1_fullEnd_0 12 rfl rfl)
theorem dX1_fullEnd_13 : decode cX1_fullEnd 13 = .ok (.invokevirtual 308, 3) := dk_182 1 52 (dk_at dksX1_fullEnd_0 13 rfl rfl)
theorem dX1_fullEnd_16 : decode cX1_fullEnd 16 = .ok (.aload_n 0, 1) := dk_42 (dk_at dksX1_fullEnd_0 16 rfl rfl)
theorem dX1_fullEnd_17 : decode cX1_fullEnd 17 = .ok (.getfield 28, 3) := dk_180 0 28 (dk_at dksX1_fullEnd_0 17 rfl rfl)
theorem dX1_fullEnd_20 : decode cX1_fullEnd 20 = .ok (.invokevirtual 232, 3) := dk_182 0 232 (dk_at dksX1_fullEnd_0 20 rfl rfl)
theorem dX1_fullEnd_23 : decode cX1_fullEnd 23 = .ok (.if_icmp .ne 5, 3) := dk_160 0 5 (dk_at dksX1_fullEnd_1 0 rfl rfl)
theorem dX1_fullEnd_26 : decode cX1_fullEnd 26 = .ok (.iconst 1, 1) := dk_4 (dk_at dksX1_fullEnd_1 3 rfl rfl)
theorem dX1_fullEnd_27 : decode cX1_fullEnd 27 = .ok (.ireturn, 1) := dk_172 (dk_at dksX1_fullEnd_1 4 rfl rfl)
theorem dX1_fullEnd_28 : decode cX1_fullEnd 28 = .ok (.aload_n 0, 1) := dk_42 (dk_at dksX1_fullEnd_1 5 rfl rfl)
theorem dX1_fullEnd_29 : decode cX1_fullEnd 29 = .ok (.getfield 28, 3) := dk_180 0 28 (dk_at dksX1_fullEnd_1 6 rfl rfl)
theorem dX1_fullEnd_32 : decode cX1_fullEnd 32 = .ok (.aload_n 0, 1) := dk_42 (dk_at dksX1_fullEnd_1 9 rfl rfl)
theorem dX1_fullEnd_33 : decode cX1_fullEnd 33 = .ok (.getfield 28, 3) := dk_180 0 28 (dk_at dksX1_fullEnd_1 10 rfl rfl)
theorem dX1_fullEnd_36 : decode cX1_fullEnd 36 = .ok (.iload_n 2, 1) := dk_28 (dk_at dksX1_fullEnd_1 13 rfl rfl)
theorem dX1_fullEnd_37 : decode cX1_fullEnd 37 = .ok (.invokevirtual 269, 3) := dk_182 1 13 (dk_at dksX1_fullEnd_1 14 rfl rfl)
theorem dX1_fullEnd_40 : decode cX1_fullEnd 40 = .ok (.iconst 1, 1) := dk_4 (dk_at dksX1_fullEnd_1 17 rfl rfl)
theorem dX1_fullEnd_41 : decode cX1_fullEnd 41 = .ok (.invokevirtual 308, 3) := dk_182 1 52 (dk_at dksX1_fullEnd_1 18 rfl rfl)
theorem dX1_fullEnd_44 : decode cX1_fullEnd 44 = .ok (.aload_n 0, 1) := dk_42 (dk_at dksX1_fullEnd_1 21 rfl rfl)
theorem dX1_fullEnd_45 : decode cX1_fullEnd 45 = .ok (.getfield 28, 3) := dk_180 0 28 (dk_at dksX1_fullEnd_2 0 rfl rfl)
theorem dX1_fullEnd_48 : decode cX1_fullEnd 48 = .ok (.invokevirtual 232, 3) := dk_182 0 232 (dk_at dksX1_fullEnd_2 3 rfl rfl)
theorem dX1_fullEnd_51 : decode cX1_fullEnd 51 = .ok (.if_icmp .ne 7, 3) := dk_160 0 7 (dk_at dksX1_fullEnd_2 6 rfl rfl)
theorem dX1_fullEnd_54 : decode cX1_fullEnd 54 = .ok (.iconst 2, 1) := dk_5 (dk_at dksX1_fullEnd_2 9 rfl rfl)
theorem dX1_fullEnd_55 : decode cX1_fullEnd 55 = .ok (.goto 4, 3) := dk_167 0 4 (dk_at dksX1_fullEnd_2 10 rfl rfl)
theorem dX1_fullEnd_58 : decode cX1_fullEnd 58 = .ok (.iconst 0, 1) := dk_3 (dk_at dksX1_fullEnd_2 13 rfl rfl)
theorem dX1_fullEnd_59 : decode cX1_fullEnd 59 = .ok (.ireturn, 1) := dk_172 (dk_at dksX1_fullEnd_2 14 rfl rfl)
abbrev cX1_ifCut : ByteArray := prog_1_method_63_code
def yX1_ifCut : MethodName := ⟨RX1, "ifCut", "(II)I"⟩
def dkwX1_ifCut_5 : List UInt8 := [167, 0, 12, 58, 6, 25, 5, 25, 6, 182, 1, 161, 25, 5, 191]
abbrev dktX1_ifCut_5 : List UInt8 := dkwX1_ifCut_5 ++ []
def dkwX1_ifCut_4 : List UInt8 := [180, 0, 28, 182, 1, 145, 54, 6, 25, 4, 182, 1, 156, 21, 6, 172, 58, 5, 25, 4, 182, 1, 156]
abbrev dktX1_ifCut_4 : List UInt8 := dkwX1_ifCut_4 ++ dktX1_ifCut_5
def dkwX1_ifCut_3 : List UInt8 := [54, 5, 28, 154, 0, 8, 21, 5, 167, 0, 22, 28, 4, 160, 0, 10, 29, 21, 5, 100, 167, 0, 10, 42]
abbrev dktX1_ifCut_3 : List UInt8 := dkwX1_ifCut_3 ++ dktX1_ifCut_4
def dkwX1_ifCut_2 : List UInt8 := [27, 182, 1, 65, 62, 187, 1, 151, 89, 42, 183, 1, 153, 58, 4, 42, 180, 0, 28, 27, 182, 0, 205]
abbrev dktX1_ifCut_2 : List UInt8 := dkwX1_ifCut_2 ++ dktX1_ifCut_3
def dkwX1_ifCut_1 : List UInt8 := [154, 0, 20, 28, 5, 160, 0, 13, 42, 180, 0, 28, 182, 1, 145, 167, 0, 4, 3, 172, 42, 180, 0, 28]
abbrev dktX1_ifCut_1 : List UInt8 := dkwX1_ifCut_1 ++ dktX1_ifCut_2
def dkwX1_ifCut_0 : List UInt8 := [42, 27, 182, 0, 199, 28, 3, 5, 184, 0, 73, 184, 0, 77, 42, 180, 0, 28, 27, 182, 0, 202]
abbrev dktX1_ifCut_0 : List UInt8 := dkwX1_ifCut_0 ++ dktX1_ifCut_1
theorem dksX1_ifCut_0 : cX1_ifCut.data.toList.drop 0 = dktX1_ifCut_0 := by decide +kernel
theorem dksX1_ifCut_1 : cX1_ifCut.data.toList.drop 22 = dktX1_ifCut_1 := dk_seg dksX1_ifCut_0 22 rfl rfl
theorem dksX1_ifCut_2 : cX1_ifCut.data.toList.drop 46 = dktX1_ifCut_2 := dk_seg dksX1_ifCut_1 24 rfl rfl
theorem dksX1_ifCut_3 : cX1_ifCut.data.toList.drop 69 = dktX1_ifCut_3 := dk_seg dksX1_ifCut_2 23 rfl rfl
theorem dksX1_ifCut_4 : cX1_ifCut.data.toList.drop 93 = dktX1_ifCut_4 := dk_seg dksX1_ifCut_3 24 rfl rfl
theorem dksX1_ifCut_5 : cX1_ifCut.data.toList.drop 116 = dktX1_ifCut_5 := dk_seg dksX1_ifCut_4 23 rfl rfl
theorem dX1_ifCut_0 : decode cX1_ifCut 0 = .ok (.aload_n 0, 1) := dk_42 (dk_at dksX1_ifCut_0 0 rfl rfl)
theorem dX1_ifCut_1 : decode cX1_ifCut 1 = .ok (.iload_n 1, 1) := dk_27 (dk_at dksX1_ifCut_0 1 rfl rfl)
theorem dX1_ifCut_2 : decode cX1_ifCut 2 = .ok (.invokevirtual 199, 3) := dk_182 0 199 (dk_at dksX1_ifCut_0 2 rfl rfl)
theorem dX1_ifCut_5 : decode cX1_ifCut 5 = .ok (.iload_n 2, 1) := dk_28 (dk_at dksX1_ifCut_0 5 rfl rfl)
theorem dX1_ifCut_6 : decode cX1_ifCut 6 = .ok (.iconst 0, 1) := dk_3 (dk_at dksX1_ifCut_0 6 rfl rfl)
theorem dX1_ifCut_7 : decode cX1_ifCut 7 = .ok (.iconst 2, 1) := dk_5 (dk_at dksX1_ifCut_0 7 rfl rfl)
theorem dX1_ifCut_8 : decode cX1_ifCut 8 = .ok (.invokestatic 73, 3) := dk_184 0 73 (dk_at dksX1_ifCut_0 8 rfl rfl)
theorem dX1_ifCut_11 : decode cX1_ifCut 11 = .ok (.invokestatic 77, 3) := dk_184 0 77 (dk_at dksX1_ifCut_0 11 rfl rfl)
theorem dX1_ifCut_14 : decode cX1_ifCut 14 = .ok (.aload_n 0, 1) := dk_42 (dk_at dksX1_ifCut_0 14 rfl rfl)
theorem dX1_ifCut_15 : decode cX1_ifCut 15 = .ok (.getfield 28, 3) := dk_180 0 28 (dk_at dksX1_ifCut_0 15 rfl rfl)
theorem dX1_ifCut_18 : decode cX1_ifCut 18 = .ok (.iload_n 1, 1) := dk_27 (dk_at dksX1_ifCut_0 18 rfl rfl)
theorem dX1_ifCut_19 : decode cX1_ifCut 19 = .ok (.invokevirtual 202, 3) := dk_182 0 202 (dk_at dksX1_ifCut_0 19 rfl rfl)
theorem dX1_ifCut_22 : decode cX1_ifCut 22 = .ok (.ifCond .ne 20, 3) := dk_154 0 20 (dk_at dksX1_ifCut_1 0 rfl rfl)
theorem dX1_ifCut_25 : decode cX1_ifCut 25 = .ok (.iload_n 2, 1) := dk_28 (dk_at dksX1_ifCut_1 3 rfl rfl)
theorem dX1_ifCut_26 : decode cX1_ifCut 26 = .ok (.iconst 2, 1) := dk_5 (dk_at dksX1_ifCut_1 4 rfl rfl)
theorem dX1_ifCut_27 : decode cX1_ifCut 27 = .ok (.if_icmp .ne 13, 3) := dk_160 0 13 (dk_at dksX1_ifCut_1 5 rfl rfl)
theorem dX1_ifCut_30 : decode cX1_ifCut 30 = .ok (.aload_n 0, 1) := dk_42 (dk_at dksX1_ifCut_1 8 rfl rfl)
theorem dX1_ifCut_31 : decode cX1_ifCut 31 = .ok (.getfield 28, 3) := dk_180 0 28 (dk_at dksX1_ifCut_1 9 rfl rfl)
theorem dX1_ifCut_34 : decode cX1_ifCut 34 = .ok (.invokevirtual 401, 3) := dk_182 1 145 (dk_at dksX1_ifCut_1 12 rfl rfl)
theorem dX1_ifCut_37 : decode cX1_ifCut 37 = .ok (.goto 4, 3) := dk_167 0 4 (dk_at dksX1_ifCut_1 15 rfl rfl)
theorem dX1_ifCut_40 : decode cX1_ifCut 40 = .ok (.iconst 0, 1) := dk_3 (dk_at dksX1_ifCut_1 18 rfl rfl)
theorem dX1_ifCut_41 : decode cX1_ifCut 41 = .ok (.ireturn, 1) := dk_172 (dk_at dksX1_ifCut_1 19 rfl rfl)
theorem dX1_ifCut_42 : decode cX1_ifCut 42 = .ok (.aload_n 0, 1) := dk_42 (dk_at dksX1_ifCut_1 20 rfl rfl)
theorem dX1_ifCut_43 : decode cX1_ifCut 43 = .ok (.getfield 28, 3) := dk_180 0 28 (dk_at dksX1_ifCut_1 21 rfl rfl)
theorem dX1_ifCut_46 : decode cX1_ifCut 46 = .ok (.iload_n 1, 1) := dk_27 (dk_at dksX1_ifCut_2 0 rfl rfl)
theorem dX1_ifCut_47 : decode cX1_ifCut 47 = .ok (.invokevirtual 321, 3) := dk_182 1 65 (dk_at dksX1_ifCut_2 1 rfl rfl)
theorem dX1_ifCut_50 : decode cX1_ifCut 50 = .ok (.istore_n 3, 1) := dk_62 (dk_at dksX1_ifCut_2 4 rfl rfl)
theorem dX1_ifCut_51 : decode cX1_ifCut 51 = .ok (.new 407, 3) := dk_187 1 151 (dk_at dksX1_ifCut_2 5 rfl rfl)
theorem dX1_ifCut_54 : decode cX1_ifCut 54 = .ok (.dup, 1) := dk_89 (dk_at dksX1_ifCut_2 8 rfl rfl)
theorem dX1_ifCut_55 : decode cX1_ifCut 55 = .ok (.aload_n 0, 1) := dk_42 (dk_at dksX1_ifCut_2 9 rfl rfl)
theorem dX1_ifCut_56 : decode cX1_ifCut 56 = .ok (.invokespecial 409, 3) := dk_183 1 153 (dk_at dksX1_ifCut_2 10 rfl rfl)
theorem dX1_ifCut_59 : decode cX1_ifCut 59 = .ok (.astore 4, 2) := dk_58 4 (dk_at dksX1_ifCut_2 13 rfl rfl)
theorem dX1_ifCut_61 : decode cX1_ifCut 61 = .ok (.aload_n 0, 1) := dk_42 (dk_at dksX1_ifCut_2 15 rfl rfl)
theorem dX1_ifCut_62 : decode cX1_ifCut 62 = .ok (.getfield 28, 3) := dk_180 0 28 (dk_at dksX1_ifCut_2 16 rfl rfl)
theorem dX1_ifCut_65 : decode cX1_ifCut 65 = .ok (.iload_n 1, 1) := dk_27 (dk_at dksX1_ifCut_2 19 rfl rfl)
theorem dX1_ifCut_66 : decode cX1_ifCut 66 = .ok (.invokevirtual 205, 3) := dk_182 0 205 (dk_at dksX1_ifCut_2 20 rfl rfl)
theorem dX1_ifCut_69 : decode cX1_ifCut 69 = .ok (.istore 5, 2) := dk_54 5 (dk_at dksX1_ifCut_3 0 rfl rfl)
theorem dX1_ifCut_71 : decode cX1_ifCut 71 = .ok (.iload_n 2, 1) := dk_28 (dk_at dksX1_ifCut_3 2 rfl rfl)
theorem dX1_ifCut_72 : decode cX1_ifCut 72 = .ok (.ifCond .ne 8, 3) := dk_154 0 8 (dk_at dksX1_ifCut_3 3 rfl rfl)
theorem dX1_ifCut_75 : decode cX1_ifCut 75 = .ok (.iload 5, 2) := dk_21 5 (dk_at dksX1_ifCut_3 6 rfl rfl)
theorem dX1_ifCut_77 : decode cX1_ifCut 77 = .ok (.goto 22, 3) := dk_167 0 22 (dk_at dksX1_ifCut_3 8 rfl rfl)
theorem dX1_ifCut_80 : decode cX1_ifCut 80 = .ok (.iload_n 2, 1) := dk_28 (dk_at dksX1_ifCut_3 11 rfl rfl)
theorem dX1_ifCut_81 : decode cX1_ifCut 81 = .ok (.iconst 1, 1) := dk_4 (dk_at dksX1_ifCut_3 12 rfl rfl)
theorem dX1_ifCut_82 : decode cX1_ifCut 82 = .ok (.if_icmp .ne 10, 3) := dk_160 0 10 (dk_at dksX1_ifCut_3 13 rfl rfl)
theorem dX1_ifCut_85 : decode cX1_ifCut 85 = .ok (.iload_n 3, 1) := dk_29 (dk_at dksX1_ifCut_3 16 rfl rfl)
theorem dX1_ifCut_86 : decode cX1_ifCut 86 = .ok (.iload 5, 2) := dk_21 5 (dk_at dksX1_ifCut_3 17 rfl rfl)
theorem dX1_ifCut_88 : decode cX1_ifCut 88 = .ok (.isub, 1) := dk_100 (dk_at dksX1_ifCut_3 19 rfl rfl)
theorem dX1_ifCut_89 : decode cX1_ifCut 89 = .ok (.goto 10, 3) := dk_167 0 10 (dk_at dksX1_ifCut_3 20 rfl rfl)
theorem dX1_ifCut_92 : decode cX1_ifCut 92 = .ok (.aload_n 0, 1) := dk_42 (dk_at dksX1_ifCut_3 23 rfl rfl)
theorem dX1_ifCut_93 : decode cX1_ifCut 93 = .ok (.getfield 28, 3) := dk_180 0 28 (dk_at dksX1_ifCut_4 0 rfl rfl)
theorem dX1_ifCut_96 : decode cX1_ifCut 96 = .ok (.invokevirtual 401, 3) := dk_182 1 145 (dk_at dksX1_ifCut_4 3 rfl rfl)
theorem dX1_ifCut_99 : decode cX1_ifCut 99 = .ok (.istore 6, 2) := dk_54 6 (dk_at dksX1_ifCut_4 6 rfl rfl)
theorem dX1_ifCut_101 : decode cX1_ifCut 101 = .ok (.aload 4, 2) := dk_25 4 (dk_at dksX1_ifCut_4 8 rfl rfl)
theorem dX1_ifCut_103 : decode cX1_ifCut 103 = .ok (.invokevirtual 412, 3) := dk_182 1 156 (dk_at dksX1_ifCut_4 10 rfl rfl)
theorem dX1_ifCut_106 : decode cX1_ifCut 106 = .ok (.iload 6, 2) := dk_21 6 (dk_at dksX1_ifCut_4 13 rfl rfl)
theorem dX1_ifCut_108 : decode cX1_ifCut 108 = .ok (.ireturn, 1) := dk_172 (dk_at dksX1_ifCut_4 15 rfl rfl)
theorem dX1_ifCut_109 : decode cX1_ifCut 109 = .ok (.astore 5, 2) := dk_58 5 (dk_at dksX1_ifCut_4 16 rfl rfl)
theorem dX1_ifCut_111 : decode cX1_ifCut 111 = .ok (.aload 4, 2) := dk_25 4 (dk_at dksX1_ifCut_4 18 rfl rfl)
theorem dX1_ifCut_113 : decode cX1_ifCut 113 = .ok (.invokevirtual 412, 3) := dk_182 1 156 (dk_at dksX1_ifCut_4 20 rfl rfl)
theorem dX1_ifCut_116 : decode cX1_ifCut 116 = .ok (.goto 12, 3) := dk_167 0 12 (dk_at dksX1_ifCut_5 0 rfl rfl)
theorem dX1_ifCut_119 : decode cX1_ifCut 119 = .ok (.astore 6, 2) := dk_58 6 (dk_at dksX1_ifCut_5 3 rfl rfl)
theorem dX1_ifCut_121 : decode cX1_ifCut 121 = .ok (.aload 5, 2) := dk_25 5 (dk_at dksX1_ifCut_5 5 rfl rfl)
theorem dX1_ifCut_123 : decode cX1_ifCut 123 = .ok (.aload 6, 2) := dk_25 6 (dk_at dksX1_ifCut_5 7 rfl rfl)
theorem dX1_ifCut_125 : decode cX1_ifCut 125 = .ok (.invokevirtual 417, 3) := dk_182 1 161 (dk_at dksX1_ifCut_5 9 rfl rfl)
theorem dX1_ifCut_128 : decode cX1_ifCut 128 = .ok (.aload 5, 2) := dk_25 5 (dk_at dksX1_ifCut_5 12 rfl rfl)
theorem dX1_ifCut_130 : decode cX1_ifCut 130 = .ok (.athrow, 1) := dk_191 (dk_at dksX1_ifCut_5 14 rfl rfl)
abbrev cX1_ifPacked : ByteArray := prog_1_method_65_code
def yX1_ifPacked : MethodName := ⟨RX1, "ifPacked", "(I)I"⟩
def dkwX1_ifPacked_2 : List UInt8 := [182, 1, 156, 21, 4, 172, 78, 44, 182, 1, 156, 167, 0, 11, 58, 4, 45, 25, 4, 182, 1, 161, 45, 191]
abbrev dktX1_ifPacked_2 : List UInt8 := dkwX1_ifPacked_2 ++ []
def dkwX1_ifPacked_1 : List UInt8 := [182, 0, 220, 62, 27, 154, 0, 7, 29, 167, 0, 10, 42, 180, 0, 28, 182, 1, 168, 54, 4, 44]
abbrev dktX1_ifPacked_1 : List UInt8 := dkwX1_ifPacked_1 ++ dktX1_ifPacked_2
def dkwX1_ifPacked_0 : List UInt8 := [27, 3, 4, 184, 0, 73, 184, 0, 77, 187, 1, 151, 89, 42, 183, 1, 153, 77, 42, 180, 0, 28]
abbrev dktX1_ifPacked_0 : List UInt8 := dkwX1_ifPacked_0 ++ dktX1_ifPacked_1
theorem dksX1_ifPacked_0 : cX1_ifPacked.data.toList.drop 0 = dktX1_ifPacked_0 := by decide +kernel
theorem dksX1_ifPacked_1 : cX1_ifPacked.data.toList.drop 22 = dktX1_ifPacked_1 := dk_seg dksX1_ifPacked_0 22 rfl rfl
theorem dksX1_ifPacked_2 : cX1_ifPacked.data.toList.drop 44 = dktX1_ifPacked_2 := dk_seg dksX1_ifPacked_1 22 rfl rfl
theorem dX1_ifPacked_0 : decode cX1_ifPacked 0 = .ok (.iload_n 1, 1) := dk_27 (dk_at dksX1_ifPacked_0 0 rfl rfl)
theorem dX1_ifPacked_1 : decode cX1_ifPacked 1 = .ok (.iconst 0, 1) := dk_3 (dk_at dksX1_ifPacked_0 1 rfl rfl)
theorem dX1_ifPacked_2 : decode cX1_ifPacked 2 = .ok (.iconst 1, 1) := dk_4 (dk_at dksX1_ifPacked_0 2 rfl rfl)
theorem dX1_ifPacked_3 : decode cX1_ifPacked 3 = .ok (.invokestatic 73, 3) := dk_184 0 73 (dk_at dksX1_ifPacked_0 3 rfl rfl)
theorem dX1_ifPacked_6 : decode cX1_ifPacked 6 = .ok (.invokestatic 77, 3) := dk_184 0 77 (dk_at dksX1_ifPacked_0 6 rfl rfl)
theorem dX1_ifPacked_9 : decode cX1_ifPacked 9 = .ok (.new 407, 3) := dk_187 1 151 (dk_at dksX1_ifPacked_0 9 rfl rfl)
theorem dX1_ifPacked_12 : decode cX1_ifPacked 12 = .ok (.dup, 1) := dk_89 (dk_at dksX1_ifPacked_0 12 rfl rfl)
theorem dX1_ifPacked_13 : decode cX1_ifPacked 13 = .ok (.aload_n 0, 1) := dk_42 (dk_at dksX1_ifPacked_0 13 rfl rfl)
theorem dX1_ifPacked_14 : decode cX1_ifPacked 14 = .ok (.invokespecial 409, 3) := dk_183 1 153 (dk_at dksX1_ifPacked_0 14 rfl rfl)
theorem dX1_ifPacked_17 : decode cX1_ifPacked 17 = .ok (.astore_n 2, 1) := dk_77 (dk_at dksX1_ifPacked_0 17 rfl rfl)
theorem dX1_ifPacked_18 : decode cX1_ifPacked 18 = .ok (.aload_n 0, 1) := dk_42 (dk_at dksX1_ifPacked_0 18 rfl rfl)
theorem dX1_ifPacked_19 : decode cX1_ifPacked 19 = .ok (.getfield 28, 3) := dk_180 0 28 (dk_at dksX1_ifPacked_0 19 rfl rfl)
theorem dX1_ifPacked_22 : decode cX1_ifPacked 22 = .ok (.invokevirtual 220, 3) := dk_182 0 220 (dk_at dksX1_ifPacked_1 0 rfl rfl)
theorem dX1_ifPacked_25 : decode cX1_ifPacked 25 = .ok (.istore_n 3, 1) := dk_62 (dk_at dksX1_ifPacked_1 3 rfl rfl)
theorem dX1_ifPacked_26 : decode cX1_ifPacked 26 = .ok (.iload_n 1, 1) := dk_27 (dk_at dksX1_ifPacked_1 4 rfl rfl)
theorem dX1_ifPacked_27 : decode cX1_ifPacked 27 = .ok (.ifCond .ne 7, 3) := dk_154 0 7 (dk_at dksX1_ifPacked_1 5 rfl rfl)
theorem dX1_ifPacked_30 : decode cX1_ifPacked 30 = .ok (.iload_n 3, 1) := dk_29 (dk_at dksX1_ifPacked_1 8 rfl rfl)
theorem dX1_ifPacked_31 : decode cX1_ifPacked 31 = .ok (.goto 10, 3) := dk_167 0 10 (dk_at dksX1_ifPacked_1 9 rfl rfl)
theorem dX1_ifPacked_34 : decode cX1_ifPacked 34 = .ok (.aload_n 0, 1) := dk_42 (dk_at dksX1_ifPacked_1 12 rfl rfl)
theorem dX1_ifPacked_35 : decode cX1_ifPacked 35 = .ok (.getfield 28, 3) := dk_180 0 28 (dk_at dksX1_ifPacked_1 13 rfl rfl)
theorem dX1_ifPacked_38 : decode cX1_ifPacked 38 = .ok (.invokevirtual 424, 3) := dk_182 1 168 (dk_at dksX1_ifPacked_1 16 rfl rfl)
theorem dX1_ifPacked_41 : decode cX1_ifPacked 41 = .ok (.istore 4, 2) := dk_54 4 (dk_at dksX1_ifPacked_1 19 rfl rfl)
theorem dX1_ifPacked_43 : decode cX1_ifPacked 43 = .ok (.aload_n 2, 1) := dk_44 (dk_at dksX1_ifPacked_1 21 rfl rfl)
theorem dX1_ifPacked_44 : decode cX1_ifPacked 44 = .ok (.invokevirtual 412, 3) := dk_182 1 156 (dk_at dksX1_ifPacked_2 0 rfl rfl)
theorem dX1_ifPacked_47 : decode cX1_ifPacked 47 = .ok (.iload 4, 2) := dk_21 4 (dk_at dksX1_ifPacked_2 3 rfl rfl)
theorem dX1_ifPacked_49 : decode cX1_ifPacked 49 = .ok (.ireturn, 1) := dk_172 (dk_at dksX1_ifPacked_2 5 rfl rfl)
theorem dX1_ifPacked_50 : decode cX1_ifPacked 50 = .ok (.astore_n 3, 1) := dk_78 (dk_at dksX1_ifPacked_2 6 rfl rfl)
theorem dX1_ifPacked_51 : decode cX1_ifPacked 51 = .ok (.aload_n 2, 1) := dk_44 (dk_at dksX1_ifPacked_2 7 rfl rfl)
theorem dX1_ifPacked_52 : decode cX1_ifPacked 52 = .ok (.invokevirtual 412, 3) := dk_182 1 156 (dk_at dksX1_ifPacked_2 8 rfl rfl)
theorem dX1_ifPacked_55 : decode cX1_ifPacked 55 = .ok (.goto 11, 3) := dk_167 0 11 (dk_at dksX1_ifPacked_2 11 rfl rfl)
theorem dX1_ifPacked_58 : decode cX1_ifPacked 58 = .ok (.astore 4, 2) := dk_58 4 (dk_at dksX1_ifPacked_2 14 rfl rfl)
theorem dX1_ifPacked_60 : decode cX1_ifPacked 60 = .ok (.aload_n 3, 1) := dk_45 (dk_at dksX1_ifPacked_2 16 rfl rfl)
theorem dX1_ifPacked_61 : decode cX1_ifPacked 61 = .ok (.aload 4, 2) := dk_25 4 (dk_at dksX1_ifPacked_2 17 rfl rfl)
theorem dX1_ifPacked_63 : decode cX1_ifPacked 63 = .ok (.invokevirtual 417, 3) := dk_182 1 161 (dk_at dksX1_ifPacked_2 19 rfl rfl)
theorem dX1_ifPacked_66 : decode cX1_ifPacked 66 = .ok (.aload_n 3, 1) := dk_45 (dk_at dksX1_ifPacked_2 22 rfl rfl)
theorem dX1_ifPacked_67 : decode cX1_ifPacked 67 = .ok (.athrow, 1) := dk_191 (dk_at dksX1_ifPacked_2 23 rfl rfl)
abbrev cX1_callsIn : ByteArray := prog_1_method_66_code
def yX1_callsIn : MethodName := ⟨RX1, "callsIn", "(I)I"⟩
def dkwX1_callsIn_2 : List UInt8 := [182, 1, 156, 167, 0, 11, 58, 4, 45, 25, 4, 182, 1, 161, 45, 191]
abbrev dktX1_callsIn_2 : List UInt8 := dkwX1_callsIn_2 ++ []
def dkwX1_callsIn_1 : List UInt8 := [27, 182, 0, 196, 62, 42, 180, 0, 28, 182, 0, 112, 54, 4, 44, 182, 1, 156, 21, 4, 172, 78, 44]
abbrev dktX1_callsIn_1 : List UInt8 := dkwX1_callsIn_1 ++ dktX1_callsIn_2
def dkwX1_callsIn_0 : List UInt8 := [27, 3, 17, 0, 200, 184, 0, 73, 184, 0, 77, 187, 1, 151, 89, 42, 183, 1, 153, 77, 42, 180, 0, 28]
abbrev dktX1_callsIn_0 : List UInt8 := dkwX1_callsIn_0 ++ dktX1_callsIn_1
theorem dksX1_callsIn_0 : cX1_callsIn.data.toList.drop 0 = dktX1_callsIn_0 := by decide +kernel
theorem dksX1_callsIn_1 : cX1_callsIn.data.toList.drop 24 = dktX1_callsIn_1 := dk_seg dksX1_callsIn_0 24 rfl rfl
theorem dksX1_callsIn_2 : cX1_callsIn.data.toList.drop 47 = dktX1_callsIn_2 := dk_seg dksX1_callsIn_1 23 rfl rfl
theorem dX1_callsIn_0 : decode cX1_callsIn 0 = .ok (.iload_n 1, 1) := dk_27 (dk_at dksX1_callsIn_0 0 rfl rfl)
theorem dX1_callsIn_1 : decode cX1_callsIn 1 = .ok (.iconst 0, 1) := dk_3 (dk_at dksX1_callsIn_0 1 rfl rfl)
theorem dX1_callsIn_2 : decode cX1_callsIn 2 = .ok (.sipush 200, 3) := dk_17 0 200 (dk_at dksX1_callsIn_0 2 rfl rfl)
theorem dX1_callsIn_5 : decode cX1_callsIn 5 = .ok (.invokestatic 73, 3) := dk_184 0 73 (dk_at dksX1_callsIn_0 5 rfl rfl)
theorem dX1_callsIn_8 : decode cX1_callsIn 8 = .ok (.invokestatic 77, 3) := dk_184 0 77 (dk_at dksX1_callsIn_0 8 rfl rfl)
theorem dX1_callsIn_11 : decode cX1_callsIn 11 = .ok (.new 407, 3) := dk_187 1 151 (dk_at dksX1_callsIn_0 11 rfl rfl)
theorem dX1_callsIn_14 : decode cX1_callsIn 14 = .ok (.dup, 1) := dk_89 (dk_at dksX1_callsIn_0 14 rfl rfl)
theorem dX1_callsIn_15 : decode cX1_callsIn 15 = .ok (.aload_n 0, 1) := dk_42 (dk_at dksX1_callsIn_0 15 rfl rfl)
theorem dX1_callsIn_16 : decode cX1_callsIn 16 = .ok (.invokespecial 409, 3) := dk_183 1 153 (dk_at dksX1_callsIn_0 16 rfl rfl)
theorem dX1_callsIn_19 : decode cX1_callsIn 19 = .ok (.astore_n 2, 1) := dk_77 (dk_at dksX1_callsIn_0 19 rfl rfl)
theorem dX1_callsIn_20 : decode cX1_callsIn 20 = .ok (.aload_n 0, 1) := dk_42 (dk_at dksX1_callsIn_0 20 rfl rfl)
theorem dX1_callsIn_21 : decode cX1_callsIn 21 = .ok (.getfield 28, 3) := dk_180 0 28 (dk_at dksX1_callsIn_0 21 rfl rfl)
theorem dX1_callsIn_24 : decode cX1_callsIn 24 = .ok (.iload_n 1, 1) := dk_27 (dk_at dksX1_callsIn_1 0 rfl rfl)
theorem dX1_callsIn_25 : decode cX1_callsIn 25 = .ok (.invokevirtual 196, 3) := dk_182 0 196 (dk_at dksX1_callsIn_1 1 rfl rfl)
theorem dX1_callsIn_28 : decode cX1_callsIn 28 = .ok (.istore_n 3, 1) := dk_62 (dk_at dksX1_callsIn_1 4 rfl rfl)
theorem dX1_callsIn_29 : decode cX1_callsIn 29 = .ok (.aload_n 0, 1) := dk_42 (dk_at dksX1_callsIn_1 5 rfl rfl)
theorem dX1_callsIn_30 : decode cX1_callsIn 30 = .ok (.getfield 28, 3) := dk_180 0 28 (dk_at dksX1_callsIn_1 6 rfl rfl)
theorem dX1_callsIn_33 : decode cX1_callsIn 33 = .ok (.invokevirtual 112, 3) := dk_182 0 112 (dk_at dksX1_callsIn_1 9 rfl rfl)
theorem dX1_callsIn_36 : decode cX1_callsIn 36 = .ok (.istore 4, 2) := dk_54 4 (dk_at dksX1_callsIn_1 12 rfl rfl)
theorem dX1_callsIn_38 : decode cX1_callsIn 38 = .ok (.aload_n 2, 1) := dk_44 (dk_at dksX1_callsIn_1 14 rfl rfl)
theorem dX1_callsIn_39 : decode cX1_callsIn 39 = .ok (.invokevirtual 412, 3) := dk_182 1 156 (dk_at dksX1_callsIn_1 15 rfl rfl)
theorem dX1_callsIn_42 : decode cX1_callsIn 42 = .ok (.iload 4, 2) := dk_21 4 (dk_at dksX1_callsIn_1 18 rfl rfl)
theorem dX1_callsIn_44 : decode cX1_callsIn 44 = .ok (.ireturn, 1) := dk_172 (dk_at dksX1_callsIn_1 20 rfl rfl)
theorem dX1_callsIn_45 : decode cX1_callsIn 45 = .ok (.astore_n 3, 1) := dk_78 (dk_at dksX1_callsIn_1 21 rfl rfl)
theorem dX1_callsIn_46 : decode cX1_callsIn 46 = .ok (.aload_n 2, 1) := dk_44 (dk_at dksX1_callsIn_1 22 rfl rfl)
theorem dX1_callsIn_47 : decode cX1_callsIn 47 = .ok (.invokevirtual 412, 3) := dk_182 1 156 (dk_at dksX1_callsIn_2 0 rfl rfl)
theorem dX1_callsIn_50 : decode cX1_callsIn 50 = .ok (.goto 11, 3) := dk_167 0 11 (dk_at dksX1_callsIn_2 3 rfl rfl)
theorem dX1_callsIn_53 : decode cX1_callsIn 53 = .ok (.astore 4, 2) := dk_58 4 (dk_at dksX1_callsIn_2 6 rfl rfl)
theorem dX1_callsIn_55 : decode cX1_callsIn 55 = .ok (.aload_n 3, 1) := dk_45 (dk_at dksX1_callsIn_2 8 rfl rfl)
theorem dX1_callsIn_56 : decode cX1_callsIn 56 = .ok (.aload 4, 2) := dk_25 4 (dk_at dksX1_callsIn_2 9 rfl rfl)
theorem dX1_callsIn_58 : decode cX1_callsIn 58 = .ok (.invokevirtual 417, 3) := dk_182 1 161 (dk_at dksX1_callsIn_2 11 rfl rfl)
theorem dX1_callsIn_61 : decode cX1_callsIn 61 = .ok (.aload_n 3, 1) := dk_45 (dk_at dksX1_callsIn_2 14 rfl rfl)
theorem dX1_callsIn_62 : decode cX1_callsIn 62 = .ok (.athrow, 1) := dk_191 (dk_at dksX1_callsIn_2 15 rfl rfl)
abbrev cX1_idleIn : ByteArray := prog_1_method_67_code
def yX1_idleIn : MethodName := ⟨RX1, "idleIn", "(I)I"⟩
def dkwX1_idleIn_4 : List UInt8 := [191]
abbrev dktX1_idleIn_4 : List UInt8 := dkwX1_idleIn_4 ++ []
def dkwX1_idleIn_3 : List UInt8 := [62, 44, 182, 1, 156, 29, 172, 78, 44, 182, 1, 156, 167, 0, 11, 58, 4, 45, 25, 4, 182, 1, 161, 45]
abbrev dktX1_idleIn_3 : List UInt8 := dkwX1_idleIn_3 ++ dktX1_idleIn_4
def dkwX1_idleIn_2 : List UInt8 := [162, 0, 14, 42, 180, 0, 28, 4, 182, 0, 196, 167, 0, 4, 3, 54, 4, 132, 3, 1, 167, 255, 204, 2]
abbrev dktX1_idleIn_2 : List UInt8 := dkwX1_idleIn_2 ++ dktX1_idleIn_3
def dkwX1_idleIn_1 : List UInt8 := [180, 0, 28, 27, 182, 0, 182, 153, 0, 13, 29, 54, 4, 44, 182, 1, 156, 21, 4, 172, 29, 17, 0, 200]
abbrev dktX1_idleIn_1 : List UInt8 := dkwX1_idleIn_1 ++ dktX1_idleIn_2
def dkwX1_idleIn_0 : List UInt8 := [42, 27, 182, 0, 141, 187, 1, 151, 89, 42, 183, 1, 153, 77, 3, 62, 29, 17, 0, 200, 163, 0, 51, 42]
abbrev dktX1_idleIn_0 : List UInt8 := dkwX1_idleIn_0 ++ dktX1_idleIn_1
theorem dksX1_idleIn_0 : cX1_idleIn.data.toList.drop 0 = dktX1_idleIn_0 := by decide +kernel
theorem dksX1_idleIn_1 : cX1_idleIn.data.toList.drop 24 = dktX1_idleIn_1 := dk_seg dksX1_idleIn_0 24 rfl rfl
theorem dksX1_idleIn_2 : cX1_idleIn.data.toList.drop 48 = dktX1_idleIn_2 := dk_seg dksX1_idleIn_1 24 rfl rfl
theorem dksX1_idleIn_3 : cX1_idleIn.data.toList.drop 72 = dktX1_idleIn_3 := dk_seg dksX1_idleIn_2 24 rfl rfl
theorem dksX1_idleIn_4 : cX1_idleIn.data.toList.drop 96 = dktX1_idleIn_4 := dk_seg dksX1_idleIn_3 24 rfl rfl
theorem dX1_idleIn_0 : decode cX1_idleIn 0 = .ok (.aload_n 0, 1) := dk_42 (dk_at dksX1_idleIn_0 0 rfl rfl)
theorem dX1_idleIn_1 : decode cX1_idleIn 1 = .ok (.iload_n 1, 1) := dk_27 (dk_at dksX1_idleIn_0 1 rfl rfl)
theorem dX1_idleIn_2 : decode cX1_idleIn 2 = .ok (.invokevirtual 141, 3) := dk_182 0 141 (dk_at dksX1_idleIn_0 2 rfl rfl)
theorem dX1_idleIn_5 : decode cX1_idleIn 5 = .ok (.new 407, 3) := dk_187 1 151 (dk_at dksX1_idleIn_0 5 rfl rfl)
theorem dX1_idleIn_8 : decode cX1_idleIn 8 = .ok (.dup, 1) := dk_89 (dk_at dksX1_idleIn_0 8 rfl rfl)
theorem dX1_idleIn_9 : decode cX1_idleIn 9 = .ok (.aload_n 0, 1) := dk_42 (dk_at dksX1_idleIn_0 9 rfl rfl)
theorem dX1_idleIn_10 : decode cX1_idleIn 10 = .ok (.invokespecial 409, 3) := dk_183 1 153 (dk_at dksX1_idleIn_0 10 rfl rfl)
theorem dX1_idleIn_13 : decode cX1_idleIn 13 = .ok (.astore_n 2, 1) := dk_77 (dk_at dksX1_idleIn_0 13 rfl rfl)
theorem dX1_idleIn_14 : decode cX1_idleIn 14 = .ok (.iconst 0, 1) := dk_3 (dk_at dksX1_idleIn_0 14 rfl rfl)
theorem dX1_idleIn_15 : decode cX1_idleIn 15 = .ok (.istore_n 3, 1) := dk_62 (dk_at dksX1_idleIn_0 15 rfl rfl)
theorem dX1_idleIn_16 : decode cX1_idleIn 16 = .ok (.iload_n 3, 1) := dk_29 (dk_at dksX1_idleIn_0 16 rfl rfl)
theorem dX1_idleIn_17 : decode cX1_idleIn 17 = .ok (.sipush 200, 3) := dk_17 0 200 (dk_at dksX1_idleIn_0 17 rfl rfl)
theorem dX1_idleIn_20 : decode cX1_idleIn 20 = .ok (.if_icmp .gt 51, 3) := dk_163 0 51 (dk_at dksX1_idleIn_0 20 rfl rfl)
theorem dX1_idleIn_23 : decode cX1_idleIn 23 = .ok (.aload_n 0, 1) := dk_42 (dk_at dksX1_idleIn_0 23 rfl rfl)
theorem dX1_idleIn_24 : decode cX1_idleIn 24 = .ok (.getfield 28, 3) := dk_180 0 28 (dk_at dksX1_idleIn_1 0 rfl rfl)
theorem dX1_idleIn_27 : decode cX1_idleIn 27 = .ok (.iload_n 1, 1) := dk_27 (dk_at dksX1_idleIn_1 3 rfl rfl)
theorem dX1_idleIn_28 : decode cX1_idleIn 28 = .ok (.invokevirtual 182, 3) := dk_182 0 182 (dk_at dksX1_idleIn_1 4 rfl rfl)
theorem dX1_idleIn_31 : decode cX1_idleIn 31 = .ok (.ifCond .eq 13, 3) := dk_153 0 13 (dk_at dksX1_idleIn_1 7 rfl rfl)
theorem dX1_idleIn_34 : decode cX1_idleIn 34 = .ok (.iload_n 3, 1) := dk_29 (dk_at dksX1_idleIn_1 10 rfl rfl)
theorem dX1_idleIn_35 : decode cX1_idleIn 35 = .ok (.istore 4, 2) := dk_54 4 (dk_at dksX1_idleIn_1 11 rfl rfl)
theorem dX1_idleIn_37 : decode cX1_idleIn 37 = .ok (.aload_n 2, 1) := dk_44 (dk_at dksX1_idleIn_1 13 rfl rfl)
theorem dX1_idleIn_38 : decode cX1_idleIn 38 = .ok (.invokevirtual 412, 3) := dk_182 1 156 (dk_at dksX1_idleIn_1 14 rfl rfl)
theorem dX1_idleIn_41 : decode cX1_idleIn 41 = .ok (.iload 4, 2) := dk_21 4 (dk_at dksX1_idleIn_1 17 rfl rfl)
theorem dX1_idleIn_43 : decode cX1_idleIn 43 = .ok (.ireturn, 1) := dk_172 (dk_at dksX1_idleIn_1 19 rfl rfl)
theorem dX1_idleIn_44 : decode cX1_idleIn 44 = .ok (.iload_n 3, 1) := dk_29 (dk_at dksX1_idleIn_1 20 rfl rfl)
theorem dX1_idleIn_45 : decode cX1_idleIn 45 = .ok (.sipush 200, 3) := dk_17 0 200 (dk_at dksX1_idleIn_1 21 rfl rfl)
theorem dX1_idleIn_48 : decode cX1_idleIn 48 = .ok (.if_icmp .ge 14, 3) := dk_162 0 14 (dk_at dksX1_idleIn_2 0 rfl rfl)
theorem dX1_idleIn_51 : decode cX1_idleIn 51 = .ok (.aload_n 0, 1) := dk_42 (dk_at dksX1_idleIn_2 3 rfl rfl)
theorem dX1_idleIn_52 : decode cX1_idleIn 52 = .ok (.getfield 28, 3) := dk_180 0 28 (dk_at dksX1_idleIn_2 4 rfl rfl)
theorem dX1_idleIn_55 : decode cX1_idleIn 55 = .ok (.iconst 1, 1) := dk_4 (dk_at dksX1_idleIn_2 7 rfl rfl)
theorem dX1_idleIn_56 : decode cX1_idleIn 56 = .ok (.invokevirtual 196, 3) := dk_182 0 196 (dk_at dksX1_idleIn_2 8 rfl rfl)
theorem dX1_idleIn_59 : decode cX1_idleIn 59 = .ok (.goto 4, 3) := dk_167 0 4 (dk_at dksX1_idleIn_2 11 rfl rfl)
theorem dX1_idleIn_62 : decode cX1_idleIn 62 = .ok (.iconst 0, 1) := dk_3 (dk_at dksX1_idleIn_2 14 rfl rfl)
theorem dX1_idleIn_63 : decode cX1_idleIn 63 = .ok (.istore 4, 2) := dk_54 4 (dk_at dksX1_idleIn_2 15 rfl rfl)
theorem dX1_idleIn_65 : decode cX1_idleIn 65 = .ok (.iinc 3 1, 3) := dk_132 3 1 (dk_at dksX1_idleIn_2 17 rfl rfl)
theorem dX1_idleIn_68 : decode cX1_idleIn 68 = .ok (.goto (-52), 3) := dk_167 255 204 (dk_at dksX1_idleIn_2 20 rfl rfl)
theorem dX1_idleIn_71 : decode cX1_idleIn 71 = .ok (.iconst (-1), 1) := dk_2 (dk_at dksX1_idleIn_2 23 rfl rfl)
theorem dX1_idleIn_72 : decode cX1_idleIn 72 = .ok (.istore_n 3, 1) := dk_62 (dk_at dksX1_idleIn_3 0 rfl rfl)
theorem dX1_idleIn_73 : decode cX1_idleIn 73 = .ok (.aload_n 2, 1) := dk_44 (dk_at dksX1_idleIn_3 1 rfl rfl)
theorem dX1_idleIn_74 : decode cX1_idleIn 74 = .ok (.invokevirtual 412, 3) := dk_182 1 156 (dk_at dksX1_idleIn_3 2 rfl rfl)
theorem dX1_idleIn_77 : decode cX1_idleIn 77 = .ok (.iload_n 3, 1) := dk_29 (dk_at dksX1_idleIn_3 5 rfl rfl)
theorem dX1_idleIn_78 : decode cX1_idleIn 78 = .ok (.ireturn, 1) := dk_172 (dk_at dksX1_idleIn_3 6 rfl rfl)
theorem dX1_idleIn_79 : decode cX1_idleIn 79 = .ok (.astore_n 3, 1) := dk_78 (dk_at dksX1_idleIn_3 7 rfl rfl)
theorem dX1_idleIn_80 : decode cX1_idleIn 80 = .ok (.aload_n 2, 1) := dk_44 (dk_at dksX1_idleIn_3 8 rfl rfl)
theorem dX1_idleIn_81 : decode cX1_idleIn 81 = .ok (.invokevirtual 412, 3) := dk_182 1 156 (dk_at dksX1_idleIn_3 9 rfl rfl)
theorem dX1_idleIn_84 : decode cX1_idleIn 84 = .ok (.goto 11, 3) := dk_167 0 11 (dk_at dksX1_idleIn_3 12 rfl rfl)
theorem dX1_idleIn_87 : decode cX1_idleIn 87 = .ok (.astore 4, 2) := dk_58 4 (dk_at dksX1_idleIn_3 15 rfl rfl)
theorem dX1_idleIn_89 : decode cX1_idleIn 89 = .ok (.aload_n 3, 1) := dk_45 (dk_at dksX1_idleIn_3 17 rfl rfl)
theorem dX1_idleIn_90 : decode cX1_idleIn 90 = .ok (.aload 4, 2) := dk_25 4 (dk_at dksX1_idleIn_3 18 rfl rfl)
theorem dX1_idleIn_92 : decode cX1_idleIn 92 = .ok (.invokevirtual 417, 3) := dk_182 1 161 (dk_at dksX1_idleIn_3 20 rfl rfl)
theorem dX1_idleIn_95 : decode cX1_idleIn 95 = .ok (.aload_n 3, 1) := dk_45 (dk_at dksX1_idleIn_3 23 rfl rfl)
theorem dX1_idleIn_96 : decode cX1_idleIn 96 = .ok (.athrow, 1) := dk_191 (dk_at dksX1_idleIn_4 0 rfl rfl)
abbrev cX1_servedIn : ByteArray := prog_1_method_68_code
def yX1_servedIn : MethodName := ⟨RX1, "servedIn", "(I)I"⟩
def dkwX1_servedIn_5 : List UInt8 := [167, 0, 12, 58, 5, 25, 4, 25, 5, 182, 1, 161, 25, 4, 191]
abbrev dktX1_servedIn_5 : List UInt8 := dkwX1_servedIn_5 ++ []
def dkwX1_servedIn_4 : List UInt8 := [172, 132, 4, 1, 167, 255, 209, 2, 54, 4, 45, 182, 1, 156, 21, 4, 172, 58, 4, 45, 182, 1, 156]
abbrev dktX1_servedIn_4 : List UInt8 := dkwX1_servedIn_4 ++ dktX1_servedIn_5
def dkwX1_servedIn_3 : List UInt8 := [180, 0, 28, 44, 180, 1, 104, 182, 1, 6, 44, 165, 0, 14, 21, 4, 54, 6, 45, 182, 1, 156, 21, 6]
abbrev dktX1_servedIn_3 : List UInt8 := dkwX1_servedIn_3 ++ dktX1_servedIn_4
def dkwX1_servedIn_2 : List UInt8 := [78, 4, 54, 4, 21, 4, 17, 0, 200, 163, 0, 45, 42, 180, 0, 28, 4, 182, 0, 196, 54, 5, 42]
abbrev dktX1_servedIn_2 : List UInt8 := dkwX1_servedIn_2 ++ dktX1_servedIn_3
def dkwX1_servedIn_1 : List UInt8 := [180, 0, 28, 180, 0, 235, 27, 185, 0, 251, 2, 0, 192, 1, 28, 77, 187, 1, 151, 89, 42, 183, 1, 153]
abbrev dktX1_servedIn_1 : List UInt8 := dkwX1_servedIn_1 ++ dktX1_servedIn_2
def dkwX1_servedIn_0 : List UInt8 := [27, 3, 42, 180, 0, 28, 180, 0, 235, 185, 0, 153, 1, 0, 4, 100, 184, 0, 73, 184, 0, 138, 42]
abbrev dktX1_servedIn_0 : List UInt8 := dkwX1_servedIn_0 ++ dktX1_servedIn_1
theorem dksX1_servedIn_0 : cX1_servedIn.data.toList.drop 0 = dktX1_servedIn_0 := by decide +kernel
theorem dksX1_servedIn_1 : cX1_servedIn.data.toList.drop 23 = dktX1_servedIn_1 := dk_seg dksX1_servedIn_0 23 rfl rfl
theorem dksX1_servedIn_2 : cX1_servedIn.data.toList.drop 47 = dktX1_servedIn_2 := dk_seg dksX1_servedIn_1 24 rfl rfl
theorem dksX1_servedIn_3 : cX1_servedIn.data.toList.drop 70 = dktX1_servedIn_3 := dk_seg dksX1_servedIn_2 23 rfl rfl
theorem dksX1_servedIn_4 : cX1_servedIn.data.toList.drop 94 = dktX1_servedIn_4 := dk_seg dksX1_servedIn_3 24 rfl rfl
theorem dksX1_servedIn_5 : cX1_servedIn.data.toList.drop 117 = dktX1_servedIn_5 := dk_seg dksX1_servedIn_4 23 rfl rfl
theorem dX1_servedIn_0 : decode cX1_servedIn 0 = .ok (.iload_n 1, 1) := dk_27 (dk_at dksX1_servedIn_0 0 rfl rfl)
theorem dX1_servedIn_1 : decode cX1_servedIn 1 = .ok (.iconst 0, 1) := dk_3 (dk_at dksX1_servedIn_0 1 rfl rfl)
theorem dX1_servedIn_2 : decode cX1_servedIn 2 = .ok (.aload_n 0, 1) := dk_42 (dk_at dksX1_servedIn_0 2 rfl rfl)
theorem dX1_servedIn_3 : decode cX1_servedIn 3 = .ok (.getfield 28, 3) := dk_180 0 28 (dk_at dksX1_servedIn_0 3 rfl rfl)
theorem dX1_servedIn_6 : decode cX1_servedIn 6 = .ok (.getfield 235, 3) := dk_180 0 235 (dk_at dksX1_servedIn_0 6 rfl rfl)
theorem dX1_servedIn_9 : decode cX1_servedIn 9 = .ok (.invokeinterface 153 1, 5) := by decide +kernel
theorem dX1_servedIn_14 : decode cX1_servedIn 14 = .ok (.iconst 1, 1) := dk_4 (dk_at dksX1_servedIn_0 14 rfl rfl)
theorem dX1_servedIn_15 : decode cX1_servedIn 15 = .ok (.isub, 1) := dk_100 (dk_at dksX1_servedIn_0 15 rfl rfl)
theorem dX1_servedIn_16 : decode cX1_servedIn 16 = .ok (.invokestatic 73, 3) := dk_184 0 73 (dk_at dksX1_servedIn_0 16 rfl rfl)
theorem dX1_servedIn_19 : decode cX1_servedIn 19 = .ok (.invokestatic 138, 3) := dk_184 0 138 (dk_at dksX1_servedIn_0 19 rfl rfl)
theorem dX1_servedIn_22 : decode cX1_servedIn 22 = .ok (.aload_n 0, 1) := dk_42 (dk_at dksX1_servedIn_0 22 rfl rfl)
theorem dX1_servedIn_23 : decode cX1_servedIn 23 = .ok (.getfield 28, 3) := dk_180 0 28 (dk_at dksX1_servedIn_1 0 rfl rfl)
theorem dX1_servedIn_26 : decode cX1_servedIn 26 = .ok (.getfield 235, 3) := dk_180 0 235 (dk_at dksX1_servedIn_1 3 rfl rfl)
theorem dX1_servedIn_29 : decode cX1_servedIn 29 = .ok (.iload_n 1, 1) := dk_27 (dk_at dksX1_servedIn_1 6 rfl rfl)
theorem dX1_servedIn_30 : decode cX1_servedIn 30 = .ok (.invokeinterface 251 2, 5) := by decide +kernel
theorem dX1_servedIn_35 : decode cX1_servedIn 35 = .ok (.checkcast 284, 3) := dk_192 1 28 (dk_at dksX1_servedIn_1 12 rfl rfl)
theorem dX1_servedIn_38 : decode cX1_servedIn 38 = .ok (.astore_n 2, 1) := dk_77 (dk_at dksX1_servedIn_1 15 rfl rfl)
theorem dX1_servedIn_39 : decode cX1_servedIn 39 = .ok (.new 407, 3) := dk_187 1 151 (dk_at dksX1_servedIn_1 16 rfl rfl)
theorem dX1_servedIn_42 : decode cX1_servedIn 42 = .ok (.dup, 1) := dk_89 (dk_at dksX1_servedIn_1 19 rfl rfl)
theorem dX1_servedIn_43 : decode cX1_servedIn 43 = .ok (.aload_n 0, 1) := dk_42 (dk_at dksX1_servedIn_1 20 rfl rfl)
theorem dX1_servedIn_44 : decode cX1_servedIn 44 = .ok (.invokespecial 409, 3) := dk_183 1 153 (dk_at dksX1_servedIn_1 21 rfl rfl)
theorem dX1_servedIn_47 : decode cX1_servedIn 47 = .ok (.astore_n 3, 1) := dk_78 (dk_at dksX1_servedIn_2 0 rfl rfl)
theorem dX1_servedIn_48 : decode cX1_servedIn 48 = .ok (.iconst 1, 1) := dk_4 (dk_at dksX1_servedIn_2 1 rfl rfl)
theorem dX1_servedIn_49 : decode cX1_servedIn 49 = .ok (.istore 4, 2) := dk_54 4 (dk_at dksX1_servedIn_2 2 rfl rfl)
theorem dX1_servedIn_51 : decode cX1_servedIn 51 = .ok (.iload 4, 2) := dk_21 4 (dk_at dksX1_servedIn_2 4 rfl rfl)
theorem dX1_servedIn_53 : decode cX1_servedIn 53 = .ok (.sipush 200, 3) := dk_17 0 200 (dk_at dksX1_servedIn_2 6 rfl rfl)
theorem dX1_servedIn_56 : decode cX1_servedIn 56 = .ok (.if_icmp .gt 45, 3) := dk_163 0 45 (dk_at dksX1_servedIn_2 9 rfl rfl)
theorem dX1_servedIn_59 : decode cX1_servedIn 59 = .ok (.aload_n 0, 1) := dk_42 (dk_at dksX1_servedIn_2 12 rfl rfl)
theorem dX1_servedIn_60 : decode cX1_servedIn 60 = .ok (.getfield 28, 3) := dk_180 0 28 (dk_at dksX1_servedIn_2 13 rfl rfl)
theorem dX1_servedIn_63 : decode cX1_servedIn 63 = .ok (.iconst 1, 1) := dk_4 (dk_at dksX1_servedIn_2 16 rfl rfl)
theorem dX1_servedIn_64 : decode cX1_servedIn 64 = .ok (.invokevirtual 196, 3) := dk_182 0 196 (dk_at dksX1_servedIn_2 17 rfl rfl)
theorem dX1_servedIn_67 : decode cX1_servedIn 67 = .ok (.istore 5, 2) := dk_54 5 (dk_at dksX1_servedIn_2 20 rfl rfl)
theorem dX1_servedIn_69 : decode cX1_servedIn 69 = .ok (.aload_n 0, 1) := dk_42 (dk_at dksX1_servedIn_2 22 rfl rfl)
theorem dX1_servedIn_70 : decode cX1_servedIn 70 = .ok (.getfield 28, 3) := dk_180 0 28 (dk_at dksX1_servedIn_3 0 rfl rfl)
theorem dX1_servedIn_73 : decode cX1_servedIn 73 = .ok (.aload_n 2, 1) := dk_44 (dk_at dksX1_servedIn_3 3 rfl rfl)
theorem dX1_servedIn_74 : decode cX1_servedIn 74 = .ok (.getfield 360, 3) := dk_180 1 104 (dk_at dksX1_servedIn_3 4 rfl rfl)
theorem dX1_servedIn_77 : decode cX1_servedIn 77 = .ok (.invokevirtual 262, 3) := dk_182 1 6 (dk_at dksX1_servedIn_3 7 rfl rfl)
theorem dX1_servedIn_80 : decode cX1_servedIn 80 = .ok (.aload_n 2, 1) := dk_44 (dk_at dksX1_servedIn_3 10 rfl rfl)
theorem dX1_servedIn_81 : decode cX1_servedIn 81 = .ok (.if_acmp .eq 14, 3) := dk_165 0 14 (dk_at dksX1_servedIn_3 11 rfl rfl)
theorem dX1_servedIn_84 : decode cX1_servedIn 84 = .ok (.iload 4, 2) := dk_21 4 (dk_at dksX1_servedIn_3 14 rfl rfl)
theorem dX1_servedIn_86 : decode cX1_servedIn 86 = .ok (.istore 6, 2) := dk_54 6 (dk_at dksX1_servedIn_3 16 rfl rfl)
theorem dX1_servedIn_88 : decode cX1_servedIn 88 = .ok (.aload_n 3, 1) := dk_45 (dk_at dksX1_servedIn_3 18 rfl rfl)
theorem dX1_servedIn_89 : decode cX1_servedIn 89 = .ok (.invokevirtual 412, 3) := dk_182 1 156 (dk_at dksX1_servedIn_3 19 rfl rfl)
theorem dX1_servedIn_92 : decode cX1_servedIn 92 = .ok (.iload 6, 2) := dk_21 6 (dk_at dksX1_servedIn_3 22 rfl rfl)
theorem dX1_servedIn_94 : decode cX1_servedIn 94 = .ok (.ireturn, 1) := dk_172 (dk_at dksX1_servedIn_4 0 rfl rfl)
theorem dX1_servedIn_95 : decode cX1_servedIn 95 = .ok (.iinc 4 1, 3) := dk_132 4 1 (dk_at dksX1_servedIn_4 1 rfl rfl)
theorem dX1_servedIn_98 : decode cX1_servedIn 98 = .ok (.goto (-47), 3) := dk_167 255 209 (dk_at dksX1_servedIn_4 4 rfl rfl)
theorem dX1_servedIn_101 : decode cX1_servedIn 101 = .ok (.iconst (-1), 1) := dk_2 (dk_at dksX1_servedIn_4 7 rfl rfl)
theorem dX1_servedIn_102 : decode cX1_servedIn 102 = .ok (.istore 4, 2) := dk_54 4 (dk_at dksX1_servedIn_4 8 rfl rfl)
theorem dX1_servedIn_104 : decode cX1_servedIn 104 = .ok (.aload_n 3, 1) := dk_45 (dk_at dksX1_servedIn_4 10 rfl rfl)
theorem dX1_servedIn_105 : decode cX1_servedIn 105 = .ok (.invokevirtual 412, 3) := dk_182 1 156 (dk_at dksX1_servedIn_4 11 rfl rfl)
theorem dX1_servedIn_108 : decode cX1_servedIn 108 = .ok (.iload 4, 2) := dk_21 4 (dk_at dksX1_servedIn_4 14 rfl rfl)
theorem dX1_servedIn_110 : decode cX1_servedIn 110 = .ok (.ireturn, 1) := dk_172 (dk_at dksX1_servedIn_4 16 rfl rfl)
theorem dX1_servedIn_111 : decode cX1_servedIn 111 = .ok (.astore 4, 2) := dk_58 4 (dk_at dksX1_servedIn_4 17 rfl rfl)
theorem dX1_servedIn_113 : decode cX1_servedIn 113 = .ok (.aload_n 3, 1) := dk_45 (dk_at dksX1_servedIn_4 19 rfl rfl)
theorem dX1_servedIn_114 : decode cX1_servedIn 114 = .ok (.invokevirtual 412, 3) := dk_182 1 156 (dk_at dksX1_servedIn_4 20 rfl rfl)
theorem dX1_servedIn_117 : decode cX1_servedIn 117 = .ok (.goto 12, 3) := dk_167 0 12 (dk_at dksX1_servedIn_5 0 rfl rfl)
theorem dX1_servedIn_120 : decode cX1_servedIn 120 = .ok (.astore 5, 2) := dk_58 5 (dk_at dksX1_servedIn_5 3 rfl rfl)
theorem dX1_servedIn_122 : decode cX1_servedIn 122 = .ok (.aload 4, 2) := dk_25 4 (dk_at dksX1_servedIn_5 5 rfl rfl)
theorem dX1_servedIn_124 : decode cX1_servedIn 124 = .ok (.aload 5, 2) := dk_25 5 (dk_at dksX1_servedIn_5 7 rfl rfl)
theorem dX1_servedIn_126 : decode cX1_servedIn 126 = .ok (.invokevirtual 417, 3) := dk_182 1 161 (dk_at dksX1_servedIn_5 9 rfl rfl)
theorem dX1_servedIn_129 : decode cX1_servedIn 129 = .ok (.aload 4, 2) := dk_25 4 (dk_at dksX1_servedIn_5 12 rfl rfl)
theorem dX1_servedIn_131 : decode cX1_servedIn 131 = .ok (.athrow, 1) := dk_191 (dk_at dksX1_servedIn_5 14 rfl rfl)
theorem q152 : (Jvm.Cond.initialized "CrossbarExchange") ∈ lw_all := lw_g (lw_at lw_m1 1 rfl) rfl
theorem q204 : (Jvm.Cond.instantiable "CrossbarExchange" (9 : Nat)) ∈ lw_all := lw_g (lw_at lw_m1 53 rfl) rfl
theorem q206 : (Jvm.Cond.instanceMethod ({ cls := "CrossbarExchange", name := "<init>", desc := "()V" } : Jvm.MethodName)) ∈ lw_all := lw_g (lw_at lw_m1 55 rfl) rfl
theorem q207 : (Jvm.Cond.code ({ cls := "CrossbarExchange", name := "<init>", desc := "()V" } : Jvm.MethodName) prog_1_method_2_code (3 : Nat) (Option.none : Option Jvm.ClassFile.FieldType)) ∈ lw_all := lw_g (lw_at lw_m1 56 rfl) rfl
theorem q208 : (Jvm.Cond.methodLink "CrossbarExchange" (1 : Nat) ({ cls := "java/lang/Object", name := "<init>", desc := "()V" } : Jvm.MethodName)) ∈ lw_all := lw_g (lw_at lw_m1 57 rfl) rfl
theorem q211 : (Jvm.Cond.stringRef "CrossbarExchange" (17 : Nat) "") ∈ lw_tbl := lw_at lw_m1 60 rfl
theorem q212 : (Jvm.Cond.classLink "CrossbarExchange" (23 : Nat) "CrossbarExchange$Exchange") ∈ lw_all := lw_g (lw_at lw_m1 61 rfl) rfl
theorem q214 : (Jvm.Cond.methodLink "CrossbarExchange" (25 : Nat) ({ cls := "CrossbarExchange$Exchange", name := "<init>", desc := "(III)V" } : Jvm.MethodName)) ∈ lw_all := lw_g (lw_at lw_m1 63 rfl) rfl
theorem q341 : (Jvm.Cond.fieldLinkNest "CrossbarExchange" (144 : Nat) "CrossbarExchange$Exchange" "switches" "I" "CrossbarExchange") ∈ lw_tbl := lw_at lw_m1 190 rfl
theorem q343 : (Jvm.Cond.fieldLinkNest "CrossbarExchange" (229 : Nat) "CrossbarExchange$Exchange" "lines" "I" "CrossbarExchange") ∈ lw_tbl := lw_at lw_m1 192 rfl
theorem q345 : (Jvm.Cond.fieldLinkNest "CrossbarExchange" (147 : Nat) "CrossbarExchange$Exchange" "middles" "I" "CrossbarExchange") ∈ lw_tbl := lw_at lw_m1 194 rfl
theorem q348 : (Jvm.Cond.fieldLinkNest "CrossbarExchange" (291 : Nat) "CrossbarExchange$Exchange" "calls" "[LCrossbarExchange$Call;" "CrossbarExchange") ∈ lw_tbl := lw_at lw_m1 197 rfl
theorem q350 : (Jvm.Cond.fieldLinkNest "CrossbarExchange" (258 : Nat) "CrossbarExchange$Exchange" "talks" "[LCrossbarExchange$Call;" "CrossbarExchange") ∈ lw_tbl := lw_at lw_m1 199 rfl
theorem q357 : (Jvm.Cond.fieldLinkNest "CrossbarExchange" (150 : Nat) "CrossbarExchange$Exchange" "groups" "Ljava/util/List;" "CrossbarExchange") ∈ lw_tbl := lw_at lw_m1 206 rfl
theorem q359 : (Jvm.Cond.fieldLinkNest "CrossbarExchange" (235 : Nat) "CrossbarExchange$Exchange" "waiting" "Ljava/util/List;" "CrossbarExchange") ∈ lw_tbl := lw_at lw_m1 208 rfl
theorem q361 : (Jvm.Cond.fieldLinkNest "CrossbarExchange" (247 : Nat) "CrossbarExchange$Exchange" "accounts" "[I" "CrossbarExchange") ∈ lw_tbl := lw_at lw_m1 210 rfl
theorem q364 : (Jvm.Cond.fieldLinkNest "CrossbarExchange" (244 : Nat) "CrossbarExchange$Exchange" "begun" "I" "CrossbarExchange") ∈ lw_tbl := lw_at lw_m1 213 rfl
theorem q367 : (Jvm.Cond.fieldLinkNest "CrossbarExchange" (193 : Nat) "CrossbarExchange$Exchange" "tick" "I" "CrossbarExchange") ∈ lw_tbl := lw_at lw_m1 216 rfl
theorem q370 : (Jvm.Cond.fieldLinkNest "CrossbarExchange" (211 : Nat) "CrossbarExchange$Exchange" "mode" "I" "CrossbarExchange") ∈ lw_tbl := lw_at lw_m1 219 rfl
theorem q373 : (Jvm.Cond.fieldLinkNest "CrossbarExchange" (217 : Nat) "CrossbarExchange$Exchange" "hunt" "I" "CrossbarExchange") ∈ lw_tbl := lw_at lw_m1 222 rfl
theorem q375 : (Jvm.Cond.fieldLinkNest "CrossbarExchange" (241 : Nat) "CrossbarExchange$Exchange" "latest" "I" "CrossbarExchange") ∈ lw_tbl := lw_at lw_m1 224 rfl
theorem q412 : (Jvm.Cond.classLink "CrossbarExchange" (39 : Nat) "CrossbarExchange$Group") ∈ lw_all := lw_g (lw_at lw_m2 21 rfl) rfl
theorem q414 : (Jvm.Cond.stringRef "CrossbarExchange" (41 : Nat) "desk") ∈ lw_tbl := lw_at lw_m2 23 rfl
theorem q415 : (Jvm.Cond.methodLink "CrossbarExchange" (43 : Nat) ({ cls := "CrossbarExchange$Group", name := "<init>", desc := "(Ljava/lang/String;)V" } : Jvm.MethodName)) ∈ lw_all := lw_g (lw_at lw_m2 24 rfl) rfl
theorem q423 : (Jvm.Cond.fieldLinkNest "CrossbarExchange" (352 : Nat) "CrossbarExchange$Group" "name" "Ljava/lang/String;" "CrossbarExchange") ∈ lw_tbl := lw_at lw_m2 32 rfl
theorem q425 : (Jvm.Cond.fieldLinkNest "CrossbarExchange" (46 : Nat) "CrossbarExchange$Group" "members" "Ljava/util/List;" "CrossbarExchange") ∈ lw_tbl := lw_at lw_m2 34 rfl
theorem q433 : (Jvm.Cond.methodLink "CrossbarExchange" (50 : Nat) ({ cls := "java/lang/Integer", name := "valueOf", desc := "(I)Ljava/lang/Integer;" } : Jvm.MethodName)) ∈ lw_all := lw_g (lw_at lw_m2 42 rfl) rfl
theorem q453 : (Jvm.Cond.interfaceEntry "CrossbarExchange" (56 : Nat)) ∈ lw_tbl := lw_at lw_m2 62 rfl
theorem q454 : (Jvm.Cond.methodLink "CrossbarExchange" (56 : Nat) ({ cls := "java/util/List", name := "add", desc := "(Ljava/lang/Object;)Z" } : Jvm.MethodName)) ∈ lw_all := lw_g (lw_at lw_m2 63 rfl) rfl
theorem q491 : (Jvm.Cond.selects "CrossbarExchange" ({ cls := "java/lang/Object", name := "getClass", desc := "()Ljava/lang/Class;" } : Jvm.MethodName) ({ cls := "java/lang/Object", name := "getClass", desc := "()Ljava/lang/Class;" } : Jvm.MethodName)) ∈ lw_all := lw_g (lw_at lw_m2 100 rfl) rfl
theorem q538 : (Jvm.Cond.methodLink "CrossbarExchange" (62 : Nat) ({ cls := "CrossbarExchange$Exchange", name := "join", desc := "(LCrossbarExchange$Group;)V" } : Jvm.MethodName)) ∈ lw_all := lw_g (lw_at lw_m2 147 rfl) rfl
theorem q565 : (Jvm.Cond.selects "CrossbarExchange" ({ cls := "java/lang/Object", name := "hashCode", desc := "()I" } : Jvm.MethodName) ({ cls := "java/lang/Object", name := "hashCode", desc := "()I" } : Jvm.MethodName)) ∈ lw_all := lw_g (lw_at lw_m2 174 rfl) rfl
theorem q1299 : (Jvm.Cond.selects "CrossbarExchange" ({ cls := "java/lang/Object", name := "equals", desc := "(Ljava/lang/Object;)Z" } : Jvm.MethodName) ({ cls := "java/lang/Object", name := "equals", desc := "(Ljava/lang/Object;)Z" } : Jvm.MethodName)) ∈ lw_all := lw_g (lw_at lw_m5 188 rfl) rfl
theorem q1428 : (Jvm.Cond.fieldLink "CrossbarExchange" (9 : Nat) "CrossbarExchange" "buffer" "[B") ∈ lw_all := lw_g (lw_at lw_m6 77 rfl) rfl
theorem q1429 : (Jvm.Cond.fieldLink "CrossbarExchange" (66 : Nat) "CrossbarExchange" "buffered" "I") ∈ lw_all := lw_g (lw_at lw_m6 78 rfl) rfl
theorem q1430 : (Jvm.Cond.fieldLink "CrossbarExchange" (81 : Nat) "CrossbarExchange" "errorCode" "I") ∈ lw_all := lw_g (lw_at lw_m6 79 rfl) rfl
theorem q1431 : (Jvm.Cond.fieldLink "CrossbarExchange" (13 : Nat) "CrossbarExchange" "errorPosition" "I") ∈ lw_all := lw_g (lw_at lw_m6 80 rfl) rfl
theorem q1432 : (Jvm.Cond.fieldLink "CrossbarExchange" (19 : Nat) "CrossbarExchange" "output" "Ljava/lang/String;") ∈ lw_all := lw_g (lw_at lw_m6 81 rfl) rfl
theorem q1434 : (Jvm.Cond.fieldLink "CrossbarExchange" (28 : Nat) "CrossbarExchange" "now" "LCrossbarExchange$Exchange;") ∈ lw_all := lw_g (lw_at lw_m6 83 rfl) rfl
theorem q1435 : (Jvm.Cond.fieldLink "CrossbarExchange" (32 : Nat) "CrossbarExchange" "before" "[LCrossbarExchange$Exchange;") ∈ lw_all := lw_g (lw_at lw_m6 84 rfl) rfl
theorem q1436 : (Jvm.Cond.fieldLink "CrossbarExchange" (36 : Nat) "CrossbarExchange" "saved" "[LCrossbarExchange$Exchange;") ∈ lw_all := lw_g (lw_at lw_m6 85 rfl) rfl
theorem q1437 : (Jvm.Cond.fieldLink "CrossbarExchange" (109 : Nat) "CrossbarExchange" "befores" "I") ∈ lw_all := lw_g (lw_at lw_m6 86 rfl) rfl
theorem q1438 : (Jvm.Cond.laysFinal "CrossbarExchange" "CrossbarExchange" "buffer" "[B") ∈ lw_all := lw_g (lw_at lw_m6 87 rfl) rfl
theorem q1439 : (Jvm.Cond.soleField "CrossbarExchange" "buffer") ∈ lw_all := lw_g (lw_at lw_m6 88 rfl) rfl
theorem q1440 : (Jvm.Cond.lays "CrossbarExchange" "CrossbarExchange" "buffered" "I") ∈ lw_all := lw_g (lw_at lw_m6 89 rfl) rfl
theorem q1441 : (Jvm.Cond.soleField "CrossbarExchange" "buffered") ∈ lw_all := lw_g (lw_at lw_m6 90 rfl) rfl
theorem q1442 : (Jvm.Cond.lays "CrossbarExchange" "CrossbarExchange" "errorCode" "I") ∈ lw_all := lw_g (lw_at lw_m6 91 rfl) rfl
theorem q1443 : (Jvm.Cond.soleField "CrossbarExchange" "errorCode") ∈ lw_all := lw_g (lw_at lw_m6 92 rfl) rfl
theorem q1444 : (Jvm.Cond.lays "CrossbarExchange" "CrossbarExchange" "errorPosition" "I") ∈ lw_all := lw_g (lw_at lw_m6 93 rfl) rfl
theorem q1445 : (Jvm.Cond.soleField "CrossbarExchange" "errorPosition") ∈ lw_all := lw_g (lw_at lw_m6 94 rfl) rfl
theorem q1446 : (Jvm.Cond.lays "CrossbarExchange" "CrossbarExchange" "output" "Ljava/lang/String;") ∈ lw_all := lw_g (lw_at lw_m6 95 rfl) rfl
theorem q1447 : (Jvm.Cond.soleField "CrossbarExchange" "output") ∈ lw_all := lw_g (lw_at lw_m6 96 rfl) rfl
theorem q1448 : (Jvm.Cond.lays "CrossbarExchange" "CrossbarExchange" "now" "LCrossbarExchange$Exchange;") ∈ lw_all := lw_g (lw_at lw_m6 97 rfl) rfl
theorem q1449 : (Jvm.Cond.soleField "CrossbarExchange" "now") ∈ lw_all := lw_g (lw_at lw_m6 98 rfl) rfl
theorem q1450 : (Jvm.Cond.laysFinal "CrossbarExchange" "CrossbarExchange" "before" "[LCrossbarExchange$Exchange;") ∈ lw_all := lw_g (lw_at lw_m6 99 rfl) rfl
theorem q1451 : (Jvm.Cond.soleField "CrossbarExchange" "before") ∈ lw_all := lw_g (lw_at lw_m6 100 rfl) rfl
theorem q1452 : (Jvm.Cond.laysFinal "CrossbarExchange" "CrossbarExchange" "saved" "[LCrossbarExchange$Exchange;") ∈ lw_all := lw_g (lw_at lw_m6 101 rfl) rfl
theorem q1453 : (Jvm.Cond.soleField "CrossbarExchange" "saved") ∈ lw_all := lw_g (lw_at lw_m6 102 rfl) rfl
theorem q1454 : (Jvm.Cond.lays "CrossbarExchange" "CrossbarExchange" "befores" "I") ∈ lw_all := lw_g (lw_at lw_m6 103 rfl) rfl
theorem q1455 : (Jvm.Cond.soleField "CrossbarExchange" "befores") ∈ lw_all := lw_g (lw_at lw_m6 104 rfl) rfl
theorem q1456 : (Jvm.Cond.superclass "CrossbarExchange" "java/lang/Object") ∈ lw_all := lw_g (lw_at lw_m6 105 rfl) rfl
theorem q1458 : (Jvm.Cond.instanceMethod ({ cls := "CrossbarExchange", name := "append", desc := "(IIIII)I" } : Jvm.MethodName)) ∈ lw_all := lw_g (lw_at lw_m6 107 rfl) rfl
theorem q1459 : (Jvm.Cond.selects "CrossbarExchange" ({ cls := "CrossbarExchange", name := "append", desc := "(IIIII)I" } : Jvm.MethodName) ({ cls := "CrossbarExchange", name := "append", desc := "(IIIII)I" } : Jvm.MethodName)) ∈ lw_all := lw_g (lw_at lw_m6 108 rfl) rfl
theorem q1460 : (Jvm.Cond.code ({ cls := "CrossbarExchange", name := "append", desc := "(IIIII)I" } : Jvm.MethodName) prog_1_method_3_code (6 : Nat) (Option.some Jvm.ClassFile.FieldType.int)) ∈ lw_all := lw_g (lw_at lw_m6 109 rfl) rfl
theorem q1461 : (Jvm.Cond.methodLink "CrossbarExchange" (69 : Nat) ({ cls := "CrossbarExchange", name := "putFour", desc := "(I)V" } : Jvm.MethodName)) ∈ lw_all := lw_g (lw_at lw_m6 110 rfl) rfl
theorem q1462 : (Jvm.Cond.privateMethod ({ cls := "CrossbarExchange", name := "putFour", desc := "(I)V" } : Jvm.MethodName)) ∈ lw_tbl := lw_at lw_m6 111 rfl
theorem q1463 : (Jvm.Cond.instanceMethod ({ cls := "CrossbarExchange", name := "putFour", desc := "(I)V" } : Jvm.MethodName)) ∈ lw_all := lw_g (lw_at lw_m6 112 rfl) rfl
theorem q1464 : (Jvm.Cond.code ({ cls := "CrossbarExchange", name := "putFour", desc := "(I)V" } : Jvm.MethodName) prog_1_method_4_code (3 : Nat) (Option.none : Option Jvm.ClassFile.FieldType)) ∈ lw_all := lw_g (lw_at lw_m6 113 rfl) rfl
theorem q1466 : (Jvm.Cond.instanceMethod ({ cls := "CrossbarExchange", name := "load", desc := "()I" } : Jvm.MethodName)) ∈ lw_all := lw_g (lw_at lw_m6 115 rfl) rfl
theorem q1467 : (Jvm.Cond.selects "CrossbarExchange" ({ cls := "CrossbarExchange", name := "load", desc := "()I" } : Jvm.MethodName) ({ cls := "CrossbarExchange", name := "load", desc := "()I" } : Jvm.MethodName)) ∈ lw_all := lw_g (lw_at lw_m6 116 rfl) rfl
theorem q1468 : (Jvm.Cond.codeWith ({ cls := "CrossbarExchange", name := "load", desc := "()I" } : Jvm.MethodName) prog_1_method_8_code (2 : Nat) (Option.some Jvm.ClassFile.FieldType.int) [((0 : Nat), (15 : Nat), (18 : Nat), (90 : Nat))]) ∈ lw_all := lw_g (lw_at lw_m6 117 rfl) rfl
theorem q1469 : (Jvm.Cond.classLink "CrossbarExchange" (90 : Nat) "CrossbarExchange$Fault") ∈ lw_all := lw_g (lw_at lw_m6 118 rfl) rfl
theorem q1470 : (Jvm.Cond.methodLink "CrossbarExchange" (97 : Nat) ({ cls := "CrossbarExchange", name := "reader", desc := "(LCrossbarExchange$Exchange;)LCrossbarExchange$Reader;" } : Jvm.MethodName)) ∈ lw_all := lw_g (lw_at lw_m6 119 rfl) rfl
theorem q1471 : (Jvm.Cond.privateMethod ({ cls := "CrossbarExchange", name := "reader", desc := "(LCrossbarExchange$Exchange;)LCrossbarExchange$Reader;" } : Jvm.MethodName)) ∈ lw_tbl := lw_at lw_m6 120 rfl
theorem q1472 : (Jvm.Cond.instanceMethod ({ cls := "CrossbarExchange", name := "reader", desc := "(LCrossbarExchange$Exchange;)LCrossbarExchange$Reader;" } : Jvm.MethodName)) ∈ lw_all := lw_g (lw_at lw_m6 121 rfl) rfl
theorem q1473 : (Jvm.Cond.code ({ cls := "CrossbarExchange", name := "reader", desc := "(LCrossbarExchange$Exchange;)LCrossbarExchange$Reader;" } : Jvm.MethodName) prog_1_method_6_code (3 : Nat) (Option.some (Jvm.ClassFile.FieldType.object "CrossbarExchange$Reader"))) ∈ lw_all := lw_g (lw_at lw_m6 122 rfl) rfl
theorem q1474 : (Jvm.Cond.classLink "CrossbarExchange" (84 : Nat) "CrossbarExchange$Reader") ∈ lw_all := lw_g (lw_at lw_m6 123 rfl) rfl
theorem q1476 : (Jvm.Cond.methodLink "CrossbarExchange" (86 : Nat) ({ cls := "CrossbarExchange$Reader", name := "<init>", desc := "([BILCrossbarExchange$Exchange;)V" } : Jvm.MethodName)) ∈ lw_all := lw_g (lw_at lw_m6 125 rfl) rfl
theorem q1509 : (Jvm.Cond.methodLink "CrossbarExchange" (101 : Nat) ({ cls := "CrossbarExchange$Reader", name := "readWhole", desc := "()LCrossbarExchange$Exchange;" } : Jvm.MethodName)) ∈ lw_all := lw_g (lw_at lw_m6 158 rfl) rfl
theorem q1526 : (Jvm.Cond.static ({ cls := "CrossbarExchange", name := "isIn", desc := "(III)Z" } : Jvm.MethodName)) ∈ lw_all := lw_g (lw_at lw_m6 175 rfl) rfl
theorem q1527 : (Jvm.Cond.code ({ cls := "CrossbarExchange", name := "isIn", desc := "(III)Z" } : Jvm.MethodName) prog_1_method_1_code (3 : Nat) (Option.some Jvm.ClassFile.FieldType.boolean)) ∈ lw_all := lw_g (lw_at lw_m6 176 rfl) rfl
theorem q1596 : (Jvm.Cond.fieldLinkNest "CrossbarExchange" (89 : Nat) "CrossbarExchange$Fault" "code" "I" "CrossbarExchange") ∈ lw_tbl := lw_at lw_m7 5 rfl
theorem q1598 : (Jvm.Cond.fieldLinkNest "CrossbarExchange" (94 : Nat) "CrossbarExchange$Fault" "position" "I" "CrossbarExchange") ∈ lw_tbl := lw_at lw_m7 7 rfl
theorem q1827 : (Jvm.Cond.fieldLinkNest "CrossbarExchange" (381 : Nat) "CrossbarExchange$Path" "middle" "I" "CrossbarExchange") ∈ lw_tbl := lw_at lw_m7 236 rfl
theorem q1830 : (Jvm.Cond.fieldLinkNest "CrossbarExchange" (375 : Nat) "CrossbarExchange$Path" "p" "I" "CrossbarExchange") ∈ lw_tbl := lw_at lw_m7 239 rfl
theorem q1833 : (Jvm.Cond.fieldLinkNest "CrossbarExchange" (378 : Nat) "CrossbarExchange$Path" "q" "I" "CrossbarExchange") ∈ lw_tbl := lw_at lw_m8 2 rfl
theorem q1836 : (Jvm.Cond.fieldLinkNest "CrossbarExchange" (382 : Nat) "CrossbarExchange$Path" "chain" "Ljava/util/List;" "CrossbarExchange") ∈ lw_tbl := lw_at lw_m8 5 rfl
theorem q1880 : (Jvm.Cond.fieldLinkNest "CrossbarExchange" (272 : Nat) "CrossbarExchange$Call" "number" "I" "CrossbarExchange") ∈ lw_tbl := lw_at lw_m8 49 rfl
theorem q1883 : (Jvm.Cond.fieldLinkNest "CrossbarExchange" (280 : Nat) "CrossbarExchange$Call" "caller" "I" "CrossbarExchange") ∈ lw_tbl := lw_at lw_m8 52 rfl
theorem q1886 : (Jvm.Cond.fieldLinkNest "CrossbarExchange" (327 : Nat) "CrossbarExchange$Call" "callee" "I" "CrossbarExchange") ∈ lw_tbl := lw_at lw_m8 55 rfl
theorem q1888 : (Jvm.Cond.fieldLinkNest "CrossbarExchange" (330 : Nat) "CrossbarExchange$Call" "began" "I" "CrossbarExchange") ∈ lw_tbl := lw_at lw_m8 57 rfl
theorem q1891 : (Jvm.Cond.fieldLinkNest "CrossbarExchange" (333 : Nat) "CrossbarExchange$Call" "lasts" "I" "CrossbarExchange") ∈ lw_tbl := lw_at lw_m8 60 rfl
theorem q1894 : (Jvm.Cond.fieldLinkNest "CrossbarExchange" (318 : Nat) "CrossbarExchange$Call" "middle" "I" "CrossbarExchange") ∈ lw_tbl := lw_at lw_m8 63 rfl
theorem q1897 : (Jvm.Cond.fieldLinkNest "CrossbarExchange" (336 : Nat) "CrossbarExchange$Call" "moved" "I" "CrossbarExchange") ∈ lw_tbl := lw_at lw_m8 66 rfl
theorem q2002 : (Jvm.Cond.fieldLinkNest "CrossbarExchange" (360 : Nat) "CrossbarExchange$Waiter" "caller" "I" "CrossbarExchange") ∈ lw_tbl := lw_at lw_m8 171 rfl
theorem q2005 : (Jvm.Cond.fieldLinkNest "CrossbarExchange" (283 : Nat) "CrossbarExchange$Waiter" "group" "I" "CrossbarExchange") ∈ lw_tbl := lw_at lw_m8 174 rfl
theorem q2008 : (Jvm.Cond.fieldLinkNest "CrossbarExchange" (361 : Nat) "CrossbarExchange$Waiter" "lasts" "I" "CrossbarExchange") ∈ lw_tbl := lw_at lw_m8 177 rfl
theorem q2011 : (Jvm.Cond.fieldLinkNest "CrossbarExchange" (362 : Nat) "CrossbarExchange$Waiter" "since" "I" "CrossbarExchange") ∈ lw_tbl := lw_at lw_m8 180 rfl
theorem q2144 : (Jvm.Cond.methodLink "CrossbarExchange" (105 : Nat) ({ cls := "CrossbarExchange", name := "failed", desc := "(LCrossbarExchange$Fault;)I" } : Jvm.MethodName)) ∈ lw_all := lw_g (lw_at lw_m9 73 rfl) rfl
theorem q2145 : (Jvm.Cond.privateMethod ({ cls := "CrossbarExchange", name := "failed", desc := "(LCrossbarExchange$Fault;)I" } : Jvm.MethodName)) ∈ lw_tbl := lw_at lw_m9 74 rfl
theorem q2146 : (Jvm.Cond.instanceMethod ({ cls := "CrossbarExchange", name := "failed", desc := "(LCrossbarExchange$Fault;)I" } : Jvm.MethodName)) ∈ lw_all := lw_g (lw_at lw_m9 75 rfl) rfl
theorem q2147 : (Jvm.Cond.code ({ cls := "CrossbarExchange", name := "failed", desc := "(LCrossbarExchange$Fault;)I" } : Jvm.MethodName) prog_1_method_7_code (2 : Nat) (Option.some Jvm.ClassFile.FieldType.int)) ∈ lw_all := lw_g (lw_at lw_m9 76 rfl) rfl
theorem q2148 : (Jvm.Cond.methodLink "CrossbarExchange" (112 : Nat) ({ cls := "CrossbarExchange$Exchange", name := "live", desc := "()I" } : Jvm.MethodName)) ∈ lw_all := lw_g (lw_at lw_m9 77 rfl) rfl
theorem q2153 : (Jvm.Cond.instanceMethod ({ cls := "CrossbarExchange", name := "run", desc := "()I" } : Jvm.MethodName)) ∈ lw_all := lw_g (lw_at lw_m9 82 rfl) rfl
theorem q2154 : (Jvm.Cond.selects "CrossbarExchange" ({ cls := "CrossbarExchange", name := "run", desc := "()I" } : Jvm.MethodName) ({ cls := "CrossbarExchange", name := "run", desc := "()I" } : Jvm.MethodName)) ∈ lw_all := lw_g (lw_at lw_m9 83 rfl) rfl
theorem q2155 : (Jvm.Cond.codeWith ({ cls := "CrossbarExchange", name := "run", desc := "()I" } : Jvm.MethodName) prog_1_method_9_code (4 : Nat) (Option.some Jvm.ClassFile.FieldType.int) [((8 : Nat), (17 : Nat), (20 : Nat), (90 : Nat))]) ∈ lw_all := lw_g (lw_at lw_m9 84 rfl) rfl
theorem q2156 : (Jvm.Cond.methodLink "CrossbarExchange" (116 : Nat) ({ cls := "CrossbarExchange$Exchange", name := "copy", desc := "()LCrossbarExchange$Exchange;" } : Jvm.MethodName)) ∈ lw_all := lw_g (lw_at lw_m9 85 rfl) rfl
theorem q2170 : (Jvm.Cond.methodLink "CrossbarExchange" (119 : Nat) ({ cls := "CrossbarExchange$Reader", name := "readOn", desc := "()I" } : Jvm.MethodName)) ∈ lw_all := lw_g (lw_at lw_m9 99 rfl) rfl
theorem q2174 : (Jvm.Cond.methodLink "CrossbarExchange" (122 : Nat) ({ cls := "CrossbarExchange", name := "become", desc := "(LCrossbarExchange$Exchange;)V" } : Jvm.MethodName)) ∈ lw_all := lw_g (lw_at lw_m9 103 rfl) rfl
theorem q2175 : (Jvm.Cond.privateMethod ({ cls := "CrossbarExchange", name := "become", desc := "(LCrossbarExchange$Exchange;)V" } : Jvm.MethodName)) ∈ lw_tbl := lw_at lw_m9 104 rfl
theorem q2176 : (Jvm.Cond.instanceMethod ({ cls := "CrossbarExchange", name := "become", desc := "(LCrossbarExchange$Exchange;)V" } : Jvm.MethodName)) ∈ lw_all := lw_g (lw_at lw_m9 105 rfl) rfl
theorem q2177 : (Jvm.Cond.code ({ cls := "CrossbarExchange", name := "become", desc := "(LCrossbarExchange$Exchange;)V" } : Jvm.MethodName) prog_1_method_22_code (2 : Nat) (Option.none : Option Jvm.ClassFile.FieldType)) ∈ lw_all := lw_g (lw_at lw_m9 106 rfl) rfl
theorem q2178 : (Jvm.Cond.methodLink "CrossbarExchange" (156 : Nat) ({ cls := "java/lang/System", name := "arraycopy", desc := "(Ljava/lang/Object;ILjava/lang/Object;II)V" } : Jvm.MethodName)) ∈ lw_all := lw_g (lw_at lw_m9 107 rfl) rfl
theorem q2180 : (Jvm.Cond.instanceMethod ({ cls := "CrossbarExchange", name := "errorCode", desc := "()I" } : Jvm.MethodName)) ∈ lw_all := lw_g (lw_at lw_m9 109 rfl) rfl
theorem q2181 : (Jvm.Cond.selects "CrossbarExchange" ({ cls := "CrossbarExchange", name := "errorCode", desc := "()I" } : Jvm.MethodName) ({ cls := "CrossbarExchange", name := "errorCode", desc := "()I" } : Jvm.MethodName)) ∈ lw_all := lw_g (lw_at lw_m9 110 rfl) rfl
theorem q2182 : (Jvm.Cond.code ({ cls := "CrossbarExchange", name := "errorCode", desc := "()I" } : Jvm.MethodName) prog_1_method_10_code (1 : Nat) (Option.some Jvm.ClassFile.FieldType.int)) ∈ lw_all := lw_g (lw_at lw_m9 111 rfl) rfl
theorem q2184 : (Jvm.Cond.instanceMethod ({ cls := "CrossbarExchange", name := "errorPosition", desc := "()I" } : Jvm.MethodName)) ∈ lw_all := lw_g (lw_at lw_m9 113 rfl) rfl
theorem q2185 : (Jvm.Cond.selects "CrossbarExchange" ({ cls := "CrossbarExchange", name := "errorPosition", desc := "()I" } : Jvm.MethodName) ({ cls := "CrossbarExchange", name := "errorPosition", desc := "()I" } : Jvm.MethodName)) ∈ lw_all := lw_g (lw_at lw_m9 114 rfl) rfl
theorem q2186 : (Jvm.Cond.code ({ cls := "CrossbarExchange", name := "errorPosition", desc := "()I" } : Jvm.MethodName) prog_1_method_11_code (1 : Nat) (Option.some Jvm.ClassFile.FieldType.int)) ∈ lw_all := lw_g (lw_at lw_m9 115 rfl) rfl
theorem q2188 : (Jvm.Cond.instanceMethod ({ cls := "CrossbarExchange", name := "pack", desc := "()I" } : Jvm.MethodName)) ∈ lw_all := lw_g (lw_at lw_m9 117 rfl) rfl
theorem q2189 : (Jvm.Cond.selects "CrossbarExchange" ({ cls := "CrossbarExchange", name := "pack", desc := "()I" } : Jvm.MethodName) ({ cls := "CrossbarExchange", name := "pack", desc := "()I" } : Jvm.MethodName)) ∈ lw_all := lw_g (lw_at lw_m9 118 rfl) rfl
theorem q2190 : (Jvm.Cond.code ({ cls := "CrossbarExchange", name := "pack", desc := "()I" } : Jvm.MethodName) prog_1_method_32_code (2 : Nat) (Option.some Jvm.ClassFile.FieldType.int)) ∈ lw_all := lw_g (lw_at lw_m9 119 rfl) rfl
theorem q2191 : (Jvm.Cond.methodLink "CrossbarExchange" (169 : Nat) ({ cls := "CrossbarExchange", name := "change", desc := "()LCrossbarExchange$Exchange;" } : Jvm.MethodName)) ∈ lw_all := lw_g (lw_at lw_m9 120 rfl) rfl
theorem q2192 : (Jvm.Cond.privateMethod ({ cls := "CrossbarExchange", name := "change", desc := "()LCrossbarExchange$Exchange;" } : Jvm.MethodName)) ∈ lw_tbl := lw_at lw_m9 121 rfl
theorem q2193 : (Jvm.Cond.instanceMethod ({ cls := "CrossbarExchange", name := "change", desc := "()LCrossbarExchange$Exchange;" } : Jvm.MethodName)) ∈ lw_all := lw_g (lw_at lw_m9 122 rfl) rfl
theorem q2194 : (Jvm.Cond.code ({ cls := "CrossbarExchange", name := "change", desc := "()LCrossbarExchange$Exchange;" } : Jvm.MethodName) prog_1_method_23_code (1 : Nat) (Option.some (Jvm.ClassFile.FieldType.object "CrossbarExchange$Exchange"))) ∈ lw_all := lw_g (lw_at lw_m9 123 rfl) rfl
theorem q2195 : (Jvm.Cond.methodLink "CrossbarExchange" (220 : Nat) ({ cls := "CrossbarExchange$Exchange", name := "pack", desc := "()I" } : Jvm.MethodName)) ∈ lw_all := lw_g (lw_at lw_m9 124 rfl) rfl
theorem q2196 : (Jvm.Cond.methodLink "CrossbarExchange" (214 : Nat) ({ cls := "CrossbarExchange$Exchange", name := "serve", desc := "()V" } : Jvm.MethodName)) ∈ lw_all := lw_g (lw_at lw_m9 125 rfl) rfl
theorem q2198 : (Jvm.Cond.instanceMethod ({ cls := "CrossbarExchange", name := "callAt", desc := "(I)I" } : Jvm.MethodName)) ∈ lw_all := lw_g (lw_at lw_m9 127 rfl) rfl
theorem q2199 : (Jvm.Cond.selects "CrossbarExchange" ({ cls := "CrossbarExchange", name := "callAt", desc := "(I)I" } : Jvm.MethodName) ({ cls := "CrossbarExchange", name := "callAt", desc := "(I)I" } : Jvm.MethodName)) ∈ lw_all := lw_g (lw_at lw_m9 128 rfl) rfl
theorem q2200 : (Jvm.Cond.code ({ cls := "CrossbarExchange", name := "callAt", desc := "(I)I" } : Jvm.MethodName) prog_1_method_48_code (4 : Nat) (Option.some Jvm.ClassFile.FieldType.int)) ∈ lw_all := lw_g (lw_at lw_m9 129 rfl) rfl
theorem q2202 : (Jvm.Cond.instanceMethod ({ cls := "CrossbarExchange", name := "blocked", desc := "()I" } : Jvm.MethodName)) ∈ lw_all := lw_g (lw_at lw_m9 131 rfl) rfl
theorem q2203 : (Jvm.Cond.selects "CrossbarExchange" ({ cls := "CrossbarExchange", name := "blocked", desc := "()I" } : Jvm.MethodName) ({ cls := "CrossbarExchange", name := "blocked", desc := "()I" } : Jvm.MethodName)) ∈ lw_all := lw_g (lw_at lw_m9 132 rfl) rfl
theorem q2204 : (Jvm.Cond.code ({ cls := "CrossbarExchange", name := "blocked", desc := "()I" } : Jvm.MethodName) prog_1_method_59_code (1 : Nat) (Option.some Jvm.ClassFile.FieldType.int)) ∈ lw_all := lw_g (lw_at lw_m9 133 rfl) rfl
theorem q2205 : (Jvm.Cond.methodLink "CrossbarExchange" (401 : Nat) ({ cls := "CrossbarExchange$Exchange", name := "blocked", desc := "()I" } : Jvm.MethodName)) ∈ lw_all := lw_g (lw_at lw_m9 134 rfl) rfl
theorem q2214 : (Jvm.Cond.instanceMethod ({ cls := "CrossbarExchange", name := "needed", desc := "()I" } : Jvm.MethodName)) ∈ lw_all := lw_g (lw_at lw_m9 143 rfl) rfl
theorem q2215 : (Jvm.Cond.selects "CrossbarExchange" ({ cls := "CrossbarExchange", name := "needed", desc := "()I" } : Jvm.MethodName) ({ cls := "CrossbarExchange", name := "needed", desc := "()I" } : Jvm.MethodName)) ∈ lw_all := lw_g (lw_at lw_m9 144 rfl) rfl
theorem q2216 : (Jvm.Cond.code ({ cls := "CrossbarExchange", name := "needed", desc := "()I" } : Jvm.MethodName) prog_1_method_60_code (1 : Nat) (Option.some Jvm.ClassFile.FieldType.int)) ∈ lw_all := lw_g (lw_at lw_m9 145 rfl) rfl
theorem q2217 : (Jvm.Cond.methodLink "CrossbarExchange" (404 : Nat) ({ cls := "CrossbarExchange$Exchange", name := "needed", desc := "()I" } : Jvm.MethodName)) ∈ lw_all := lw_g (lw_at lw_m9 146 rfl) rfl
theorem q2219 : (Jvm.Cond.instanceMethod ({ cls := "CrossbarExchange", name := "isFree", desc := "(Z)Z" } : Jvm.MethodName)) ∈ lw_all := lw_g (lw_at lw_m9 148 rfl) rfl
theorem q2220 : (Jvm.Cond.selects "CrossbarExchange" ({ cls := "CrossbarExchange", name := "isFree", desc := "(Z)Z" } : Jvm.MethodName) ({ cls := "CrossbarExchange", name := "isFree", desc := "(Z)Z" } : Jvm.MethodName)) ∈ lw_all := lw_g (lw_at lw_m9 149 rfl) rfl
theorem q2221 : (Jvm.Cond.code ({ cls := "CrossbarExchange", name := "isFree", desc := "(Z)Z" } : Jvm.MethodName) prog_1_method_61_code (2 : Nat) (Option.some Jvm.ClassFile.FieldType.boolean)) ∈ lw_all := lw_g (lw_at lw_m9 150 rfl) rfl
theorem q2222 : (Jvm.Cond.methodLink "CrossbarExchange" (232 : Nat) ({ cls := "CrossbarExchange$Exchange", name := "inOrder", desc := "()I" } : Jvm.MethodName)) ∈ lw_all := lw_g (lw_at lw_m9 151 rfl) rfl
theorem q2224 : (Jvm.Cond.instanceMethod ({ cls := "CrossbarExchange", name := "leastCut", desc := "()I" } : Jvm.MethodName)) ∈ lw_all := lw_g (lw_at lw_m9 153 rfl) rfl
theorem q2225 : (Jvm.Cond.selects "CrossbarExchange" ({ cls := "CrossbarExchange", name := "leastCut", desc := "()I" } : Jvm.MethodName) ({ cls := "CrossbarExchange", name := "leastCut", desc := "()I" } : Jvm.MethodName)) ∈ lw_all := lw_g (lw_at lw_m9 154 rfl) rfl
theorem q2226 : (Jvm.Cond.code ({ cls := "CrossbarExchange", name := "leastCut", desc := "()I" } : Jvm.MethodName) prog_1_method_64_code (5 : Nat) (Option.some Jvm.ClassFile.FieldType.int)) ∈ lw_all := lw_g (lw_at lw_m9 155 rfl) rfl
theorem q2227 : (Jvm.Cond.methodLink "CrossbarExchange" (202 : Nat) ({ cls := "CrossbarExchange$Exchange", name := "isInOrder", desc := "(I)Z" } : Jvm.MethodName)) ∈ lw_all := lw_g (lw_at lw_m9 156 rfl) rfl
theorem q2228 : (Jvm.Cond.methodLink "CrossbarExchange" (421 : Nat) ({ cls := "CrossbarExchange", name := "dropsOf", desc := "(I)I" } : Jvm.MethodName)) ∈ lw_all := lw_g (lw_at lw_m9 157 rfl) rfl
theorem q2229 : (Jvm.Cond.privateMethod ({ cls := "CrossbarExchange", name := "dropsOf", desc := "(I)I" } : Jvm.MethodName)) ∈ lw_tbl := lw_at lw_m9 158 rfl
theorem q2230 : (Jvm.Cond.instanceMethod ({ cls := "CrossbarExchange", name := "dropsOf", desc := "(I)I" } : Jvm.MethodName)) ∈ lw_all := lw_g (lw_at lw_m9 159 rfl) rfl
theorem q2231 : (Jvm.Cond.codeWith ({ cls := "CrossbarExchange", name := "dropsOf", desc := "(I)I" } : Jvm.MethodName) prog_1_method_62_code (5 : Nat) (Option.some Jvm.ClassFile.FieldType.int) [((9 : Nat), (18 : Nat), (24 : Nat), (415 : Nat)), ((25 : Nat), (29 : Nat), (32 : Nat), (415 : Nat))]) ∈ lw_all := lw_g (lw_at lw_m9 160 rfl) rfl
theorem q2232 : (Jvm.Cond.classLink "CrossbarExchange" (415 : Nat) "java/lang/Throwable") ∈ lw_all := lw_g (lw_at lw_m9 161 rfl) rfl
theorem q2327 : (Jvm.Cond.classLink "CrossbarExchange" (407 : Nat) "CrossbarExchange$Trial") ∈ lw_all := lw_g (lw_at lw_m10 16 rfl) rfl
theorem q2329 : (Jvm.Cond.methodLink "CrossbarExchange" (409 : Nat) ({ cls := "CrossbarExchange$Trial", name := "<init>", desc := "(LCrossbarExchange;)V" } : Jvm.MethodName)) ∈ lw_all := lw_g (lw_at lw_m10 18 rfl) rfl
theorem q2341 : (Jvm.Cond.methodLink "CrossbarExchange" (205 : Nat) ({ cls := "CrossbarExchange$Exchange", name := "cut", desc := "(I)I" } : Jvm.MethodName)) ∈ lw_all := lw_g (lw_at lw_m10 30 rfl) rfl
theorem q2342 : (Jvm.Cond.methodLink "CrossbarExchange" (412 : Nat) ({ cls := "CrossbarExchange$Trial", name := "close", desc := "()V" } : Jvm.MethodName)) ∈ lw_all := lw_g (lw_at lw_m10 31 rfl) rfl
theorem q2346 : (Jvm.Cond.methodLink "CrossbarExchange" (417 : Nat) ({ cls := "java/lang/Throwable", name := "addSuppressed", desc := "(Ljava/lang/Throwable;)V" } : Jvm.MethodName)) ∈ lw_all := lw_g (lw_at lw_m10 35 rfl) rfl
theorem q2378 : (Jvm.Cond.instanceMethod ({ cls := "CrossbarExchange", name := "gap", desc := "()I" } : Jvm.MethodName)) ∈ lw_all := lw_g (lw_at lw_m10 67 rfl) rfl
theorem q2379 : (Jvm.Cond.selects "CrossbarExchange" ({ cls := "CrossbarExchange", name := "gap", desc := "()I" } : Jvm.MethodName) ({ cls := "CrossbarExchange", name := "gap", desc := "()I" } : Jvm.MethodName)) ∈ lw_all := lw_g (lw_at lw_m10 68 rfl) rfl
theorem q2380 : (Jvm.Cond.code ({ cls := "CrossbarExchange", name := "gap", desc := "()I" } : Jvm.MethodName) prog_1_method_70_code (5 : Nat) (Option.some Jvm.ClassFile.FieldType.int)) ∈ lw_all := lw_g (lw_at lw_m10 69 rfl) rfl
theorem q2381 : (Jvm.Cond.methodLink "CrossbarExchange" (427 : Nat) ({ cls := "CrossbarExchange", name := "counted", desc := "(IIZ)I" } : Jvm.MethodName)) ∈ lw_all := lw_g (lw_at lw_m10 70 rfl) rfl
theorem q2382 : (Jvm.Cond.privateMethod ({ cls := "CrossbarExchange", name := "counted", desc := "(IIZ)I" } : Jvm.MethodName)) ∈ lw_tbl := lw_at lw_m10 71 rfl
theorem q2383 : (Jvm.Cond.instanceMethod ({ cls := "CrossbarExchange", name := "counted", desc := "(IIZ)I" } : Jvm.MethodName)) ∈ lw_all := lw_g (lw_at lw_m10 72 rfl) rfl
theorem q2384 : (Jvm.Cond.code ({ cls := "CrossbarExchange", name := "counted", desc := "(IIZ)I" } : Jvm.MethodName) prog_1_method_69_code (7 : Nat) (Option.some Jvm.ClassFile.FieldType.int)) ∈ lw_all := lw_g (lw_at lw_m10 73 rfl) rfl
theorem q2385 : (Jvm.Cond.methodLink "CrossbarExchange" (298 : Nat) ({ cls := "CrossbarExchange$Exchange", name := "to", desc := "(LCrossbarExchange$Call;)I" } : Jvm.MethodName)) ∈ lw_all := lw_g (lw_at lw_m10 74 rfl) rfl
theorem q2386 : (Jvm.Cond.methodLink "CrossbarExchange" (294 : Nat) ({ cls := "CrossbarExchange$Exchange", name := "from", desc := "(LCrossbarExchange$Call;)I" } : Jvm.MethodName)) ∈ lw_all := lw_g (lw_at lw_m10 75 rfl) rfl
theorem q2387 : (Jvm.Cond.methodLink "CrossbarExchange" (431 : Nat) ({ cls := "java/lang/Math", name := "abs", desc := "(I)I" } : Jvm.MethodName)) ∈ lw_all := lw_g (lw_at lw_m10 76 rfl) rfl
theorem q2391 : (Jvm.Cond.instanceMethod ({ cls := "CrossbarExchange", name := "fullness", desc := "()F" } : Jvm.MethodName)) ∈ lw_all := lw_g (lw_at lw_m10 80 rfl) rfl
theorem q2392 : (Jvm.Cond.selects "CrossbarExchange" ({ cls := "CrossbarExchange", name := "fullness", desc := "()F" } : Jvm.MethodName) ({ cls := "CrossbarExchange", name := "fullness", desc := "()F" } : Jvm.MethodName)) ∈ lw_all := lw_g (lw_at lw_m10 81 rfl) rfl
theorem q2393 : (Jvm.Cond.code ({ cls := "CrossbarExchange", name := "fullness", desc := "()F" } : Jvm.MethodName) prog_1_method_71_code (2 : Nat) (Option.some Jvm.ClassFile.FieldType.float)) ∈ lw_all := lw_g (lw_at lw_m10 82 rfl) rfl
theorem q2395 : (Jvm.Cond.instanceMethod ({ cls := "CrossbarExchange", name := "meanChain", desc := "()D" } : Jvm.MethodName)) ∈ lw_all := lw_g (lw_at lw_m10 84 rfl) rfl
theorem q2396 : (Jvm.Cond.selects "CrossbarExchange" ({ cls := "CrossbarExchange", name := "meanChain", desc := "()D" } : Jvm.MethodName) ({ cls := "CrossbarExchange", name := "meanChain", desc := "()D" } : Jvm.MethodName)) ∈ lw_all := lw_g (lw_at lw_m10 85 rfl) rfl
theorem q2397 : (Jvm.Cond.code ({ cls := "CrossbarExchange", name := "meanChain", desc := "()D" } : Jvm.MethodName) prog_1_method_72_code (1 : Nat) (Option.some Jvm.ClassFile.FieldType.double)) ∈ lw_all := lw_g (lw_at lw_m10 86 rfl) rfl
theorem q2399 : (Jvm.Cond.instanceMethod ({ cls := "CrossbarExchange", name := "writeMiddles", desc := "()I" } : Jvm.MethodName)) ∈ lw_all := lw_g (lw_at lw_m10 88 rfl) rfl
theorem q2400 : (Jvm.Cond.selects "CrossbarExchange" ({ cls := "CrossbarExchange", name := "writeMiddles", desc := "()I" } : Jvm.MethodName) ({ cls := "CrossbarExchange", name := "writeMiddles", desc := "()I" } : Jvm.MethodName)) ∈ lw_all := lw_g (lw_at lw_m10 89 rfl) rfl
theorem q2401 : (Jvm.Cond.code ({ cls := "CrossbarExchange", name := "writeMiddles", desc := "()I" } : Jvm.MethodName) prog_1_method_75_code (4 : Nat) (Option.some Jvm.ClassFile.FieldType.int)) ∈ lw_all := lw_g (lw_at lw_m10 90 rfl) rfl
theorem q2402 : (Jvm.Cond.classLink "CrossbarExchange" (437 : Nat) "java/lang/StringBuilder") ∈ lw_all := lw_g (lw_at lw_m10 91 rfl) rfl
theorem q2403 : (Jvm.Cond.methodLink "CrossbarExchange" (450 : Nat) ({ cls := "java/lang/StringBuilder", name := "<init>", desc := "()V" } : Jvm.MethodName)) ∈ lw_all := lw_g (lw_at lw_m10 92 rfl) rfl
theorem q2404 : (Jvm.Cond.methodLink "CrossbarExchange" (447 : Nat) ({ cls := "java/lang/StringBuilder", name := "append", desc := "(C)Ljava/lang/StringBuilder;" } : Jvm.MethodName)) ∈ lw_all := lw_g (lw_at lw_m10 93 rfl) rfl
theorem q2405 : (Jvm.Cond.methodLink "CrossbarExchange" (451 : Nat) ({ cls := "CrossbarExchange", name := "writeCell", desc := "(Ljava/lang/StringBuilder;II)V" } : Jvm.MethodName)) ∈ lw_all := lw_g (lw_at lw_m10 94 rfl) rfl
theorem q2406 : (Jvm.Cond.privateMethod ({ cls := "CrossbarExchange", name := "writeCell", desc := "(Ljava/lang/StringBuilder;II)V" } : Jvm.MethodName)) ∈ lw_tbl := lw_at lw_m10 95 rfl
theorem q2407 : (Jvm.Cond.instanceMethod ({ cls := "CrossbarExchange", name := "writeCell", desc := "(Ljava/lang/StringBuilder;II)V" } : Jvm.MethodName)) ∈ lw_all := lw_g (lw_at lw_m10 96 rfl) rfl
theorem q2408 : (Jvm.Cond.code ({ cls := "CrossbarExchange", name := "writeCell", desc := "(Ljava/lang/StringBuilder;II)V" } : Jvm.MethodName) prog_1_method_74_code (7 : Nat) (Option.none : Option Jvm.ClassFile.FieldType)) ∈ lw_all := lw_g (lw_at lw_m10 97 rfl) rfl
theorem q2409 : (Jvm.Cond.methodLink "CrossbarExchange" (442 : Nat) ({ cls := "java/lang/StringBuilder", name := "length", desc := "()I" } : Jvm.MethodName)) ∈ lw_all := lw_g (lw_at lw_m10 98 rfl) rfl
theorem q2410 : (Jvm.Cond.methodLink "CrossbarExchange" (301 : Nat) ({ cls := "CrossbarExchange$Exchange", name := "carriedBy", desc := "(IIZ)LCrossbarExchange$Call;" } : Jvm.MethodName)) ∈ lw_all := lw_g (lw_at lw_m10 99 rfl) rfl
theorem q2411 : (Jvm.Cond.methodLink "CrossbarExchange" (443 : Nat) ({ cls := "java/lang/StringBuilder", name := "append", desc := "(I)Ljava/lang/StringBuilder;" } : Jvm.MethodName)) ∈ lw_all := lw_g (lw_at lw_m10 100 rfl) rfl
theorem q2412 : (Jvm.Cond.methodLink "CrossbarExchange" (455 : Nat) ({ cls := "CrossbarExchange", name := "write", desc := "(Ljava/lang/StringBuilder;)I" } : Jvm.MethodName)) ∈ lw_all := lw_g (lw_at lw_m10 101 rfl) rfl
theorem q2413 : (Jvm.Cond.privateMethod ({ cls := "CrossbarExchange", name := "write", desc := "(Ljava/lang/StringBuilder;)I" } : Jvm.MethodName)) ∈ lw_tbl := lw_at lw_m10 102 rfl
theorem q2414 : (Jvm.Cond.instanceMethod ({ cls := "CrossbarExchange", name := "write", desc := "(Ljava/lang/StringBuilder;)I" } : Jvm.MethodName)) ∈ lw_all := lw_g (lw_at lw_m10 103 rfl) rfl
theorem q2415 : (Jvm.Cond.code ({ cls := "CrossbarExchange", name := "write", desc := "(Ljava/lang/StringBuilder;)I" } : Jvm.MethodName) prog_1_method_73_code (2 : Nat) (Option.some Jvm.ClassFile.FieldType.int)) ∈ lw_all := lw_g (lw_at lw_m10 104 rfl) rfl
theorem q2416 : (Jvm.Cond.methodLink "CrossbarExchange" (436 : Nat) ({ cls := "java/lang/StringBuilder", name := "toString", desc := "()Ljava/lang/String;" } : Jvm.MethodName)) ∈ lw_all := lw_g (lw_at lw_m10 105 rfl) rfl
theorem q2417 : (Jvm.Cond.methodLink "CrossbarExchange" (355 : Nat) ({ cls := "java/lang/String", name := "length", desc := "()I" } : Jvm.MethodName)) ∈ lw_all := lw_g (lw_at lw_m10 106 rfl) rfl
theorem q2419 : (Jvm.Cond.instanceMethod ({ cls := "CrossbarExchange", name := "writeCalls", desc := "()I" } : Jvm.MethodName)) ∈ lw_all := lw_g (lw_at lw_m10 108 rfl) rfl
theorem q2420 : (Jvm.Cond.selects "CrossbarExchange" ({ cls := "CrossbarExchange", name := "writeCalls", desc := "()I" } : Jvm.MethodName) ({ cls := "CrossbarExchange", name := "writeCalls", desc := "()I" } : Jvm.MethodName)) ∈ lw_all := lw_g (lw_at lw_m10 109 rfl) rfl
theorem q2421 : (Jvm.Cond.code ({ cls := "CrossbarExchange", name := "writeCalls", desc := "()I" } : Jvm.MethodName) prog_1_method_76_code (4 : Nat) (Option.some Jvm.ClassFile.FieldType.int)) ∈ lw_all := lw_g (lw_at lw_m10 110 rfl) rfl
theorem q2423 : (Jvm.Cond.instanceMethod ({ cls := "CrossbarExchange", name := "outputByte", desc := "(I)I" } : Jvm.MethodName)) ∈ lw_all := lw_g (lw_at lw_m10 112 rfl) rfl
theorem q2424 : (Jvm.Cond.selects "CrossbarExchange" ({ cls := "CrossbarExchange", name := "outputByte", desc := "(I)I" } : Jvm.MethodName) ({ cls := "CrossbarExchange", name := "outputByte", desc := "(I)I" } : Jvm.MethodName)) ∈ lw_all := lw_g (lw_at lw_m10 113 rfl) rfl
theorem q2425 : (Jvm.Cond.code ({ cls := "CrossbarExchange", name := "outputByte", desc := "(I)I" } : Jvm.MethodName) prog_1_method_77_code (2 : Nat) (Option.some Jvm.ClassFile.FieldType.int)) ∈ lw_all := lw_g (lw_at lw_m10 114 rfl) rfl
theorem q2426 : (Jvm.Cond.methodLink "CrossbarExchange" (73 : Nat) ({ cls := "CrossbarExchange", name := "isIn", desc := "(III)Z" } : Jvm.MethodName)) ∈ lw_all := lw_g (lw_at lw_m10 115 rfl) rfl
theorem q2427 : (Jvm.Cond.methodLink "CrossbarExchange" (459 : Nat) ({ cls := "java/lang/String", name := "charAt", desc := "(I)C" } : Jvm.MethodName)) ∈ lw_all := lw_g (lw_at lw_m10 116 rfl) rfl
theorem q2443 : (Jvm.Cond.instanceMethod ({ cls := "CrossbarExchange", name := "truncate", desc := "(I)I" } : Jvm.MethodName)) ∈ lw_all := lw_g (lw_at lw_m10 132 rfl) rfl
theorem q2444 : (Jvm.Cond.selects "CrossbarExchange" ({ cls := "CrossbarExchange", name := "truncate", desc := "(I)I" } : Jvm.MethodName) ({ cls := "CrossbarExchange", name := "truncate", desc := "(I)I" } : Jvm.MethodName)) ∈ lw_all := lw_g (lw_at lw_m10 133 rfl) rfl
theorem q2445 : (Jvm.Cond.code ({ cls := "CrossbarExchange", name := "truncate", desc := "(I)I" } : Jvm.MethodName) prog_1_method_5_code (2 : Nat) (Option.some Jvm.ClassFile.FieldType.int)) ∈ lw_all := lw_g (lw_at lw_m10 134 rfl) rfl
theorem q2446 : (Jvm.Cond.methodLink "CrossbarExchange" (77 : Nat) ({ cls := "CrossbarExchange", name := "needArgument", desc := "(Z)V" } : Jvm.MethodName)) ∈ lw_all := lw_g (lw_at lw_m10 135 rfl) rfl
theorem q2447 : (Jvm.Cond.static ({ cls := "CrossbarExchange", name := "needArgument", desc := "(Z)V" } : Jvm.MethodName)) ∈ lw_all := lw_g (lw_at lw_m10 136 rfl) rfl
theorem q2448 : (Jvm.Cond.code ({ cls := "CrossbarExchange", name := "needArgument", desc := "(Z)V" } : Jvm.MethodName) prog_1_method_12_code (1 : Nat) (Option.none : Option Jvm.ClassFile.FieldType)) ∈ lw_all := lw_g (lw_at lw_m10 137 rfl) rfl
theorem q2449 : (Jvm.Cond.classLink "CrossbarExchange" (126 : Nat) "java/lang/IllegalArgumentException") ∈ lw_all := lw_g (lw_at lw_m10 138 rfl) rfl
theorem q2450 : (Jvm.Cond.methodLink "CrossbarExchange" (128 : Nat) ({ cls := "java/lang/IllegalArgumentException", name := "<init>", desc := "()V" } : Jvm.MethodName)) ∈ lw_all := lw_g (lw_at lw_m10 139 rfl) rfl
theorem q2459 : (Jvm.Cond.instanceMethod ({ cls := "CrossbarExchange", name := "call", desc := "(III)I" } : Jvm.MethodName)) ∈ lw_all := lw_g (lw_at lw_m10 148 rfl) rfl
theorem q2460 : (Jvm.Cond.selects "CrossbarExchange" ({ cls := "CrossbarExchange", name := "call", desc := "(III)I" } : Jvm.MethodName) ({ cls := "CrossbarExchange", name := "call", desc := "(III)I" } : Jvm.MethodName)) ∈ lw_all := lw_g (lw_at lw_m10 149 rfl) rfl
theorem q2461 : (Jvm.Cond.code ({ cls := "CrossbarExchange", name := "call", desc := "(III)I" } : Jvm.MethodName) prog_1_method_24_code (4 : Nat) (Option.some Jvm.ClassFile.FieldType.int)) ∈ lw_all := lw_g (lw_at lw_m10 150 rfl) rfl
theorem q2462 : (Jvm.Cond.methodLink "CrossbarExchange" (162 : Nat) ({ cls := "CrossbarExchange", name := "needTwo", desc := "(II)V" } : Jvm.MethodName)) ∈ lw_all := lw_g (lw_at lw_m10 151 rfl) rfl
theorem q2463 : (Jvm.Cond.privateMethod ({ cls := "CrossbarExchange", name := "needTwo", desc := "(II)V" } : Jvm.MethodName)) ∈ lw_tbl := lw_at lw_m10 152 rfl
theorem q2464 : (Jvm.Cond.instanceMethod ({ cls := "CrossbarExchange", name := "needTwo", desc := "(II)V" } : Jvm.MethodName)) ∈ lw_all := lw_g (lw_at lw_m10 153 rfl) rfl
theorem q2465 : (Jvm.Cond.code ({ cls := "CrossbarExchange", name := "needTwo", desc := "(II)V" } : Jvm.MethodName) prog_1_method_16_code (3 : Nat) (Option.none : Option Jvm.ClassFile.FieldType)) ∈ lw_all := lw_g (lw_at lw_m10 154 rfl) rfl
theorem q2466 : (Jvm.Cond.methodLink "CrossbarExchange" (141 : Nat) ({ cls := "CrossbarExchange", name := "needSubscriber", desc := "(I)V" } : Jvm.MethodName)) ∈ lw_all := lw_g (lw_at lw_m10 155 rfl) rfl
theorem q2467 : (Jvm.Cond.privateMethod ({ cls := "CrossbarExchange", name := "needSubscriber", desc := "(I)V" } : Jvm.MethodName)) ∈ lw_tbl := lw_at lw_m10 156 rfl
theorem q2468 : (Jvm.Cond.instanceMethod ({ cls := "CrossbarExchange", name := "needSubscriber", desc := "(I)V" } : Jvm.MethodName)) ∈ lw_all := lw_g (lw_at lw_m10 157 rfl) rfl
theorem q2469 : (Jvm.Cond.code ({ cls := "CrossbarExchange", name := "needSubscriber", desc := "(I)V" } : Jvm.MethodName) prog_1_method_15_code (2 : Nat) (Option.none : Option Jvm.ClassFile.FieldType)) ∈ lw_all := lw_g (lw_at lw_m10 158 rfl) rfl
theorem q2470 : (Jvm.Cond.methodLink "CrossbarExchange" (135 : Nat) ({ cls := "CrossbarExchange$Exchange", name := "subscribers", desc := "()I" } : Jvm.MethodName)) ∈ lw_all := lw_g (lw_at lw_m10 159 rfl) rfl
theorem q2471 : (Jvm.Cond.methodLink "CrossbarExchange" (138 : Nat) ({ cls := "CrossbarExchange", name := "needIndex", desc := "(Z)V" } : Jvm.MethodName)) ∈ lw_all := lw_g (lw_at lw_m10 160 rfl) rfl
theorem q2472 : (Jvm.Cond.static ({ cls := "CrossbarExchange", name := "needIndex", desc := "(Z)V" } : Jvm.MethodName)) ∈ lw_all := lw_g (lw_at lw_m10 161 rfl) rfl
theorem q2473 : (Jvm.Cond.code ({ cls := "CrossbarExchange", name := "needIndex", desc := "(Z)V" } : Jvm.MethodName) prog_1_method_13_code (1 : Nat) (Option.none : Option Jvm.ClassFile.FieldType)) ∈ lw_all := lw_g (lw_at lw_m10 162 rfl) rfl
theorem q2474 : (Jvm.Cond.classLink "CrossbarExchange" (129 : Nat) "java/lang/IndexOutOfBoundsException") ∈ lw_all := lw_g (lw_at lw_m10 163 rfl) rfl
theorem q2483 : (Jvm.Cond.methodLink "CrossbarExchange" (131 : Nat) ({ cls := "java/lang/IndexOutOfBoundsException", name := "<init>", desc := "()V" } : Jvm.MethodName)) ∈ lw_all := lw_g (lw_at lw_m10 172 rfl) rfl
theorem q2489 : (Jvm.Cond.methodLink "CrossbarExchange" (166 : Nat) ({ cls := "CrossbarExchange", name := "needLasts", desc := "(I)V" } : Jvm.MethodName)) ∈ lw_all := lw_g (lw_at lw_m10 178 rfl) rfl
theorem q2490 : (Jvm.Cond.static ({ cls := "CrossbarExchange", name := "needLasts", desc := "(I)V" } : Jvm.MethodName)) ∈ lw_all := lw_g (lw_at lw_m10 179 rfl) rfl
theorem q2491 : (Jvm.Cond.code ({ cls := "CrossbarExchange", name := "needLasts", desc := "(I)V" } : Jvm.MethodName) prog_1_method_21_code (1 : Nat) (Option.none : Option Jvm.ClassFile.FieldType)) ∈ lw_all := lw_g (lw_at lw_m10 180 rfl) rfl
theorem q2492 : (Jvm.Cond.methodLink "CrossbarExchange" (172 : Nat) ({ cls := "CrossbarExchange$Exchange", name := "call", desc := "(III)I" } : Jvm.MethodName)) ∈ lw_all := lw_g (lw_at lw_m10 181 rfl) rfl
theorem q2497 : (Jvm.Cond.instanceMethod ({ cls := "CrossbarExchange", name := "dial", desc := "(III)I" } : Jvm.MethodName)) ∈ lw_all := lw_g (lw_at lw_m10 186 rfl) rfl
theorem q2498 : (Jvm.Cond.selects "CrossbarExchange" ({ cls := "CrossbarExchange", name := "dial", desc := "(III)I" } : Jvm.MethodName) ({ cls := "CrossbarExchange", name := "dial", desc := "(III)I" } : Jvm.MethodName)) ∈ lw_all := lw_g (lw_at lw_m10 187 rfl) rfl
theorem q2499 : (Jvm.Cond.code ({ cls := "CrossbarExchange", name := "dial", desc := "(III)I" } : Jvm.MethodName) prog_1_method_25_code (4 : Nat) (Option.some Jvm.ClassFile.FieldType.int)) ∈ lw_all := lw_g (lw_at lw_m10 188 rfl) rfl
theorem q2500 : (Jvm.Cond.methodLink "CrossbarExchange" (176 : Nat) ({ cls := "CrossbarExchange", name := "needGroup", desc := "(I)V" } : Jvm.MethodName)) ∈ lw_all := lw_g (lw_at lw_m10 189 rfl) rfl
theorem q2501 : (Jvm.Cond.privateMethod ({ cls := "CrossbarExchange", name := "needGroup", desc := "(I)V" } : Jvm.MethodName)) ∈ lw_tbl := lw_at lw_m10 190 rfl
theorem q2502 : (Jvm.Cond.instanceMethod ({ cls := "CrossbarExchange", name := "needGroup", desc := "(I)V" } : Jvm.MethodName)) ∈ lw_all := lw_g (lw_at lw_m10 191 rfl) rfl
theorem q2503 : (Jvm.Cond.code ({ cls := "CrossbarExchange", name := "needGroup", desc := "(I)V" } : Jvm.MethodName) prog_1_method_19_code (2 : Nat) (Option.none : Option Jvm.ClassFile.FieldType)) ∈ lw_all := lw_g (lw_at lw_m10 192 rfl) rfl
theorem q2504 : (Jvm.Cond.interfaceEntry "CrossbarExchange" (153 : Nat)) ∈ lw_tbl := lw_at lw_m10 193 rfl
theorem q2505 : (Jvm.Cond.methodLink "CrossbarExchange" (153 : Nat) ({ cls := "java/util/List", name := "size", desc := "()I" } : Jvm.MethodName)) ∈ lw_all := lw_g (lw_at lw_m10 194 rfl) rfl
theorem q2506 : (Jvm.Cond.methodLink "CrossbarExchange" (179 : Nat) ({ cls := "CrossbarExchange$Exchange", name := "dial", desc := "(III)I" } : Jvm.MethodName)) ∈ lw_all := lw_g (lw_at lw_m10 195 rfl) rfl
theorem q2512 : (Jvm.Cond.instanceMethod ({ cls := "CrossbarExchange", name := "hangUp", desc := "(I)I" } : Jvm.MethodName)) ∈ lw_all := lw_g (lw_at lw_m10 201 rfl) rfl
theorem q2513 : (Jvm.Cond.selects "CrossbarExchange" ({ cls := "CrossbarExchange", name := "hangUp", desc := "(I)I" } : Jvm.MethodName) ({ cls := "CrossbarExchange", name := "hangUp", desc := "(I)I" } : Jvm.MethodName)) ∈ lw_all := lw_g (lw_at lw_m10 202 rfl) rfl
theorem q2514 : (Jvm.Cond.code ({ cls := "CrossbarExchange", name := "hangUp", desc := "(I)I" } : Jvm.MethodName) prog_1_method_26_code (2 : Nat) (Option.some Jvm.ClassFile.FieldType.int)) ∈ lw_all := lw_g (lw_at lw_m10 203 rfl) rfl
theorem q2515 : (Jvm.Cond.methodLink "CrossbarExchange" (182 : Nat) ({ cls := "CrossbarExchange$Exchange", name := "isIdle", desc := "(I)Z" } : Jvm.MethodName)) ∈ lw_all := lw_g (lw_at lw_m10 204 rfl) rfl
theorem q2516 : (Jvm.Cond.methodLink "CrossbarExchange" (186 : Nat) ({ cls := "CrossbarExchange", name := "needState", desc := "(Z)V" } : Jvm.MethodName)) ∈ lw_all := lw_g (lw_at lw_m10 205 rfl) rfl
theorem q2517 : (Jvm.Cond.static ({ cls := "CrossbarExchange", name := "needState", desc := "(Z)V" } : Jvm.MethodName)) ∈ lw_all := lw_g (lw_at lw_m10 206 rfl) rfl
theorem q2518 : (Jvm.Cond.code ({ cls := "CrossbarExchange", name := "needState", desc := "(Z)V" } : Jvm.MethodName) prog_1_method_14_code (1 : Nat) (Option.none : Option Jvm.ClassFile.FieldType)) ∈ lw_all := lw_g (lw_at lw_m10 207 rfl) rfl
theorem q2519 : (Jvm.Cond.classLink "CrossbarExchange" (132 : Nat) "java/lang/IllegalStateException") ∈ lw_all := lw_g (lw_at lw_m10 208 rfl) rfl
theorem q2528 : (Jvm.Cond.methodLink "CrossbarExchange" (134 : Nat) ({ cls := "java/lang/IllegalStateException", name := "<init>", desc := "()V" } : Jvm.MethodName)) ∈ lw_all := lw_g (lw_at lw_m10 217 rfl) rfl
theorem q2534 : (Jvm.Cond.methodLink "CrossbarExchange" (189 : Nat) ({ cls := "CrossbarExchange$Exchange", name := "hangUp", desc := "(I)I" } : Jvm.MethodName)) ∈ lw_all := lw_g (lw_at lw_m10 223 rfl) rfl
theorem q2539 : (Jvm.Cond.instanceMethod ({ cls := "CrossbarExchange", name := "tick", desc := "(I)I" } : Jvm.MethodName)) ∈ lw_all := lw_g (lw_at lw_m10 228 rfl) rfl
theorem q2540 : (Jvm.Cond.selects "CrossbarExchange" ({ cls := "CrossbarExchange", name := "tick", desc := "(I)I" } : Jvm.MethodName) ({ cls := "CrossbarExchange", name := "tick", desc := "(I)I" } : Jvm.MethodName)) ∈ lw_all := lw_g (lw_at lw_m10 229 rfl) rfl
theorem q2541 : (Jvm.Cond.code ({ cls := "CrossbarExchange", name := "tick", desc := "(I)I" } : Jvm.MethodName) prog_1_method_27_code (2 : Nat) (Option.some Jvm.ClassFile.FieldType.int)) ∈ lw_all := lw_g (lw_at lw_m10 230 rfl) rfl
theorem q2542 : (Jvm.Cond.methodLink "CrossbarExchange" (196 : Nat) ({ cls := "CrossbarExchange$Exchange", name := "ticks", desc := "(I)I" } : Jvm.MethodName)) ∈ lw_all := lw_g (lw_at lw_m10 231 rfl) rfl
theorem q2547 : (Jvm.Cond.instanceMethod ({ cls := "CrossbarExchange", name := "cut", desc := "(I)I" } : Jvm.MethodName)) ∈ lw_all := lw_g (lw_at lw_m10 236 rfl) rfl
theorem q2548 : (Jvm.Cond.selects "CrossbarExchange" ({ cls := "CrossbarExchange", name := "cut", desc := "(I)I" } : Jvm.MethodName) ({ cls := "CrossbarExchange", name := "cut", desc := "(I)I" } : Jvm.MethodName)) ∈ lw_all := lw_g (lw_at lw_m10 237 rfl) rfl
theorem q2549 : (Jvm.Cond.code ({ cls := "CrossbarExchange", name := "cut", desc := "(I)I" } : Jvm.MethodName) prog_1_method_28_code (2 : Nat) (Option.some Jvm.ClassFile.FieldType.int)) ∈ lw_all := lw_g (lw_at lw_m10 238 rfl) rfl
theorem q2550 : (Jvm.Cond.methodLink "CrossbarExchange" (199 : Nat) ({ cls := "CrossbarExchange", name := "needMiddle", desc := "(I)V" } : Jvm.MethodName)) ∈ lw_all := lw_g (lw_at lw_m10 239 rfl) rfl
theorem q2551 : (Jvm.Cond.privateMethod ({ cls := "CrossbarExchange", name := "needMiddle", desc := "(I)V" } : Jvm.MethodName)) ∈ lw_tbl := lw_at lw_m11 0 rfl
theorem q2552 : (Jvm.Cond.instanceMethod ({ cls := "CrossbarExchange", name := "needMiddle", desc := "(I)V" } : Jvm.MethodName)) ∈ lw_all := lw_g (lw_at lw_m11 1 rfl) rfl
theorem q2553 : (Jvm.Cond.code ({ cls := "CrossbarExchange", name := "needMiddle", desc := "(I)V" } : Jvm.MethodName) prog_1_method_18_code (2 : Nat) (Option.none : Option Jvm.ClassFile.FieldType)) ∈ lw_all := lw_g (lw_at lw_m11 2 rfl) rfl
theorem q2558 : (Jvm.Cond.instanceMethod ({ cls := "CrossbarExchange", name := "mend", desc := "(I)I" } : Jvm.MethodName)) ∈ lw_all := lw_g (lw_at lw_m11 7 rfl) rfl
theorem q2559 : (Jvm.Cond.selects "CrossbarExchange" ({ cls := "CrossbarExchange", name := "mend", desc := "(I)I" } : Jvm.MethodName) ({ cls := "CrossbarExchange", name := "mend", desc := "(I)I" } : Jvm.MethodName)) ∈ lw_all := lw_g (lw_at lw_m11 8 rfl) rfl
theorem q2560 : (Jvm.Cond.code ({ cls := "CrossbarExchange", name := "mend", desc := "(I)I" } : Jvm.MethodName) prog_1_method_29_code (2 : Nat) (Option.some Jvm.ClassFile.FieldType.int)) ∈ lw_all := lw_g (lw_at lw_m11 9 rfl) rfl
theorem q2561 : (Jvm.Cond.methodLink "CrossbarExchange" (208 : Nat) ({ cls := "CrossbarExchange$Exchange", name := "mend", desc := "(I)I" } : Jvm.MethodName)) ∈ lw_all := lw_g (lw_at lw_m11 10 rfl) rfl
theorem q2566 : (Jvm.Cond.instanceMethod ({ cls := "CrossbarExchange", name := "setMode", desc := "(I)I" } : Jvm.MethodName)) ∈ lw_all := lw_g (lw_at lw_m11 15 rfl) rfl
theorem q2567 : (Jvm.Cond.selects "CrossbarExchange" ({ cls := "CrossbarExchange", name := "setMode", desc := "(I)I" } : Jvm.MethodName) ({ cls := "CrossbarExchange", name := "setMode", desc := "(I)I" } : Jvm.MethodName)) ∈ lw_all := lw_g (lw_at lw_m11 16 rfl) rfl
theorem q2568 : (Jvm.Cond.code ({ cls := "CrossbarExchange", name := "setMode", desc := "(I)I" } : Jvm.MethodName) prog_1_method_30_code (3 : Nat) (Option.some Jvm.ClassFile.FieldType.int)) ∈ lw_all := lw_g (lw_at lw_m11 17 rfl) rfl
theorem q2573 : (Jvm.Cond.instanceMethod ({ cls := "CrossbarExchange", name := "setHunt", desc := "(I)I" } : Jvm.MethodName)) ∈ lw_all := lw_g (lw_at lw_m11 22 rfl) rfl
theorem q2574 : (Jvm.Cond.selects "CrossbarExchange" ({ cls := "CrossbarExchange", name := "setHunt", desc := "(I)I" } : Jvm.MethodName) ({ cls := "CrossbarExchange", name := "setHunt", desc := "(I)I" } : Jvm.MethodName)) ∈ lw_all := lw_g (lw_at lw_m11 23 rfl) rfl
theorem q2575 : (Jvm.Cond.code ({ cls := "CrossbarExchange", name := "setHunt", desc := "(I)I" } : Jvm.MethodName) prog_1_method_31_code (3 : Nat) (Option.some Jvm.ClassFile.FieldType.int)) ∈ lw_all := lw_g (lw_at lw_m11 24 rfl) rfl
theorem q2580 : (Jvm.Cond.instanceMethod ({ cls := "CrossbarExchange", name := "undo", desc := "()I" } : Jvm.MethodName)) ∈ lw_all := lw_g (lw_at lw_m11 29 rfl) rfl
theorem q2581 : (Jvm.Cond.selects "CrossbarExchange" ({ cls := "CrossbarExchange", name := "undo", desc := "()I" } : Jvm.MethodName) ({ cls := "CrossbarExchange", name := "undo", desc := "()I" } : Jvm.MethodName)) ∈ lw_all := lw_g (lw_at lw_m11 30 rfl) rfl
theorem q2582 : (Jvm.Cond.code ({ cls := "CrossbarExchange", name := "undo", desc := "()I" } : Jvm.MethodName) prog_1_method_33_code (1 : Nat) (Option.some Jvm.ClassFile.FieldType.int)) ∈ lw_all := lw_g (lw_at lw_m11 31 rfl) rfl
theorem q2587 : (Jvm.Cond.instanceMethod ({ cls := "CrossbarExchange", name := "save", desc := "(I)I" } : Jvm.MethodName)) ∈ lw_all := lw_g (lw_at lw_m11 36 rfl) rfl
theorem q2588 : (Jvm.Cond.selects "CrossbarExchange" ({ cls := "CrossbarExchange", name := "save", desc := "(I)I" } : Jvm.MethodName) ({ cls := "CrossbarExchange", name := "save", desc := "(I)I" } : Jvm.MethodName)) ∈ lw_all := lw_g (lw_at lw_m11 37 rfl) rfl
theorem q2589 : (Jvm.Cond.code ({ cls := "CrossbarExchange", name := "save", desc := "(I)I" } : Jvm.MethodName) prog_1_method_34_code (2 : Nat) (Option.some Jvm.ClassFile.FieldType.int)) ∈ lw_all := lw_g (lw_at lw_m11 38 rfl) rfl
theorem q2590 : (Jvm.Cond.methodLink "CrossbarExchange" (223 : Nat) ({ cls := "CrossbarExchange", name := "needSlot", desc := "(I)V" } : Jvm.MethodName)) ∈ lw_all := lw_g (lw_at lw_m11 39 rfl) rfl
theorem q2591 : (Jvm.Cond.static ({ cls := "CrossbarExchange", name := "needSlot", desc := "(I)V" } : Jvm.MethodName)) ∈ lw_all := lw_g (lw_at lw_m11 40 rfl) rfl
theorem q2592 : (Jvm.Cond.code ({ cls := "CrossbarExchange", name := "needSlot", desc := "(I)V" } : Jvm.MethodName) prog_1_method_20_code (1 : Nat) (Option.none : Option Jvm.ClassFile.FieldType)) ∈ lw_all := lw_g (lw_at lw_m11 41 rfl) rfl
theorem q2597 : (Jvm.Cond.instanceMethod ({ cls := "CrossbarExchange", name := "restore", desc := "(I)I" } : Jvm.MethodName)) ∈ lw_all := lw_g (lw_at lw_m11 46 rfl) rfl
theorem q2598 : (Jvm.Cond.selects "CrossbarExchange" ({ cls := "CrossbarExchange", name := "restore", desc := "(I)I" } : Jvm.MethodName) ({ cls := "CrossbarExchange", name := "restore", desc := "(I)I" } : Jvm.MethodName)) ∈ lw_all := lw_g (lw_at lw_m11 47 rfl) rfl
theorem q2599 : (Jvm.Cond.code ({ cls := "CrossbarExchange", name := "restore", desc := "(I)I" } : Jvm.MethodName) prog_1_method_35_code (2 : Nat) (Option.some Jvm.ClassFile.FieldType.int)) ∈ lw_all := lw_g (lw_at lw_m11 48 rfl) rfl
theorem q2604 : (Jvm.Cond.instanceMethod ({ cls := "CrossbarExchange", name := "count", desc := "(I)I" } : Jvm.MethodName)) ∈ lw_all := lw_g (lw_at lw_m11 53 rfl) rfl
theorem q2605 : (Jvm.Cond.selects "CrossbarExchange" ({ cls := "CrossbarExchange", name := "count", desc := "(I)I" } : Jvm.MethodName) ({ cls := "CrossbarExchange", name := "count", desc := "(I)I" } : Jvm.MethodName)) ∈ lw_all := lw_g (lw_at lw_m11 54 rfl) rfl
theorem q2606 : (Jvm.Cond.code ({ cls := "CrossbarExchange", name := "count", desc := "(I)I" } : Jvm.MethodName) prog_1_method_37_code (2 : Nat) (Option.some Jvm.ClassFile.FieldType.int)) ∈ lw_all := lw_g (lw_at lw_m11 55 rfl) rfl
theorem q2607 : (Jvm.Cond.methodLink "CrossbarExchange" (238 : Nat) ({ cls := "CrossbarExchange", name := "idle", desc := "()I" } : Jvm.MethodName)) ∈ lw_all := lw_g (lw_at lw_m11 56 rfl) rfl
theorem q2608 : (Jvm.Cond.privateMethod ({ cls := "CrossbarExchange", name := "idle", desc := "()I" } : Jvm.MethodName)) ∈ lw_tbl := lw_at lw_m11 57 rfl
theorem q2609 : (Jvm.Cond.instanceMethod ({ cls := "CrossbarExchange", name := "idle", desc := "()I" } : Jvm.MethodName)) ∈ lw_all := lw_g (lw_at lw_m11 58 rfl) rfl
theorem q2610 : (Jvm.Cond.code ({ cls := "CrossbarExchange", name := "idle", desc := "()I" } : Jvm.MethodName) prog_1_method_36_code (3 : Nat) (Option.some Jvm.ClassFile.FieldType.int)) ∈ lw_all := lw_g (lw_at lw_m11 59 rfl) rfl
theorem q2611 : (Jvm.Cond.methodLink "CrossbarExchange" (226 : Nat) ({ cls := "CrossbarExchange$Exchange", name := "idleAt", desc := "(I)I" } : Jvm.MethodName)) ∈ lw_all := lw_g (lw_at lw_m11 60 rfl) rfl
theorem q2616 : (Jvm.Cond.instanceMethod ({ cls := "CrossbarExchange", name := "account", desc := "(I)I" } : Jvm.MethodName)) ∈ lw_all := lw_g (lw_at lw_m11 65 rfl) rfl
theorem q2617 : (Jvm.Cond.selects "CrossbarExchange" ({ cls := "CrossbarExchange", name := "account", desc := "(I)I" } : Jvm.MethodName) ({ cls := "CrossbarExchange", name := "account", desc := "(I)I" } : Jvm.MethodName)) ∈ lw_all := lw_g (lw_at lw_m11 66 rfl) rfl
theorem q2618 : (Jvm.Cond.code ({ cls := "CrossbarExchange", name := "account", desc := "(I)I" } : Jvm.MethodName) prog_1_method_38_code (2 : Nat) (Option.some Jvm.ClassFile.FieldType.int)) ∈ lw_all := lw_g (lw_at lw_m11 67 rfl) rfl
theorem q2623 : (Jvm.Cond.instanceMethod ({ cls := "CrossbarExchange", name := "subscriber", desc := "(II)I" } : Jvm.MethodName)) ∈ lw_all := lw_g (lw_at lw_m11 72 rfl) rfl
theorem q2624 : (Jvm.Cond.selects "CrossbarExchange" ({ cls := "CrossbarExchange", name := "subscriber", desc := "(II)I" } : Jvm.MethodName) ({ cls := "CrossbarExchange", name := "subscriber", desc := "(II)I" } : Jvm.MethodName)) ∈ lw_all := lw_g (lw_at lw_m11 73 rfl) rfl
theorem q2625 : (Jvm.Cond.code ({ cls := "CrossbarExchange", name := "subscriber", desc := "(II)I" } : Jvm.MethodName) prog_1_method_40_code (5 : Nat) (Option.some Jvm.ClassFile.FieldType.int)) ∈ lw_all := lw_g (lw_at lw_m11 74 rfl) rfl
theorem q2626 : (Jvm.Cond.methodLink "CrossbarExchange" (262 : Nat) ({ cls := "CrossbarExchange$Exchange", name := "waiter", desc := "(I)LCrossbarExchange$Waiter;" } : Jvm.MethodName)) ∈ lw_all := lw_g (lw_at lw_m11 75 rfl) rfl
theorem q2627 : (Jvm.Cond.methodLink "CrossbarExchange" (266 : Nat) ({ cls := "CrossbarExchange$Exchange", name := "stateOf", desc := "(I)I" } : Jvm.MethodName)) ∈ lw_all := lw_g (lw_at lw_m11 76 rfl) rfl
theorem q2628 : (Jvm.Cond.methodLink "CrossbarExchange" (269 : Nat) ({ cls := "CrossbarExchange$Exchange", name := "stage", desc := "(I)I" } : Jvm.MethodName)) ∈ lw_all := lw_g (lw_at lw_m11 77 rfl) rfl
theorem q2629 : (Jvm.Cond.methodLink "CrossbarExchange" (277 : Nat) ({ cls := "CrossbarExchange$Call", name := "other", desc := "(I)I" } : Jvm.MethodName)) ∈ lw_all := lw_g (lw_at lw_m11 78 rfl) rfl
theorem q2633 : (Jvm.Cond.methodLink "CrossbarExchange" (288 : Nat) ({ cls := "CrossbarExchange", name := "groupsOf", desc := "(I)I" } : Jvm.MethodName)) ∈ lw_all := lw_g (lw_at lw_m11 82 rfl) rfl
theorem q2634 : (Jvm.Cond.privateMethod ({ cls := "CrossbarExchange", name := "groupsOf", desc := "(I)I" } : Jvm.MethodName)) ∈ lw_tbl := lw_at lw_m11 83 rfl
theorem q2635 : (Jvm.Cond.instanceMethod ({ cls := "CrossbarExchange", name := "groupsOf", desc := "(I)I" } : Jvm.MethodName)) ∈ lw_all := lw_g (lw_at lw_m11 84 rfl) rfl
theorem q2636 : (Jvm.Cond.code ({ cls := "CrossbarExchange", name := "groupsOf", desc := "(I)I" } : Jvm.MethodName) prog_1_method_39_code (4 : Nat) (Option.some Jvm.ClassFile.FieldType.int)) ∈ lw_all := lw_g (lw_at lw_m11 85 rfl) rfl
theorem q2637 : (Jvm.Cond.interfaceEntry "CrossbarExchange" (251 : Nat)) ∈ lw_tbl := lw_at lw_m11 86 rfl
theorem q2638 : (Jvm.Cond.methodLink "CrossbarExchange" (251 : Nat) ({ cls := "java/util/List", name := "get", desc := "(I)Ljava/lang/Object;" } : Jvm.MethodName)) ∈ lw_all := lw_g (lw_at lw_m11 87 rfl) rfl
theorem q2639 : (Jvm.Cond.methodLink "CrossbarExchange" (255 : Nat) ({ cls := "CrossbarExchange$Group", name := "has", desc := "(I)Z" } : Jvm.MethodName)) ∈ lw_all := lw_g (lw_at lw_m11 88 rfl) rfl
theorem q2644 : (Jvm.Cond.instanceMethod ({ cls := "CrossbarExchange", name := "stage", desc := "(II)I" } : Jvm.MethodName)) ∈ lw_all := lw_g (lw_at lw_m11 93 rfl) rfl
theorem q2645 : (Jvm.Cond.selects "CrossbarExchange" ({ cls := "CrossbarExchange", name := "stage", desc := "(II)I" } : Jvm.MethodName) ({ cls := "CrossbarExchange", name := "stage", desc := "(II)I" } : Jvm.MethodName)) ∈ lw_all := lw_g (lw_at lw_m11 94 rfl) rfl
theorem q2646 : (Jvm.Cond.code ({ cls := "CrossbarExchange", name := "stage", desc := "(II)I" } : Jvm.MethodName) prog_1_method_43_code (3 : Nat) (Option.some Jvm.ClassFile.FieldType.int)) ∈ lw_all := lw_g (lw_at lw_m11 95 rfl) rfl
theorem q2647 : (Jvm.Cond.methodLink "CrossbarExchange" (305 : Nat) ({ cls := "CrossbarExchange", name := "needStage", desc := "(I)V" } : Jvm.MethodName)) ∈ lw_all := lw_g (lw_at lw_m11 96 rfl) rfl
theorem q2648 : (Jvm.Cond.privateMethod ({ cls := "CrossbarExchange", name := "needStage", desc := "(I)V" } : Jvm.MethodName)) ∈ lw_tbl := lw_at lw_m11 97 rfl
theorem q2649 : (Jvm.Cond.instanceMethod ({ cls := "CrossbarExchange", name := "needStage", desc := "(I)V" } : Jvm.MethodName)) ∈ lw_all := lw_g (lw_at lw_m11 98 rfl) rfl
theorem q2650 : (Jvm.Cond.code ({ cls := "CrossbarExchange", name := "needStage", desc := "(I)V" } : Jvm.MethodName) prog_1_method_17_code (2 : Nat) (Option.none : Option Jvm.ClassFile.FieldType)) ∈ lw_all := lw_g (lw_at lw_m11 99 rfl) rfl
theorem q2651 : (Jvm.Cond.methodLink "CrossbarExchange" (308 : Nat) ({ cls := "CrossbarExchange$Exchange", name := "callsAt", desc := "(IZ)I" } : Jvm.MethodName)) ∈ lw_all := lw_g (lw_at lw_m11 100 rfl) rfl
theorem q2652 : (Jvm.Cond.methodLink "CrossbarExchange" (312 : Nat) ({ cls := "CrossbarExchange", name := "own", desc := "(I)I" } : Jvm.MethodName)) ∈ lw_all := lw_g (lw_at lw_m11 101 rfl) rfl
theorem q2653 : (Jvm.Cond.privateMethod ({ cls := "CrossbarExchange", name := "own", desc := "(I)I" } : Jvm.MethodName)) ∈ lw_tbl := lw_at lw_m11 102 rfl
theorem q2654 : (Jvm.Cond.instanceMethod ({ cls := "CrossbarExchange", name := "own", desc := "(I)I" } : Jvm.MethodName)) ∈ lw_all := lw_g (lw_at lw_m11 103 rfl) rfl
theorem q2655 : (Jvm.Cond.code ({ cls := "CrossbarExchange", name := "own", desc := "(I)I" } : Jvm.MethodName) prog_1_method_41_code (4 : Nat) (Option.some Jvm.ClassFile.FieldType.int)) ∈ lw_all := lw_g (lw_at lw_m11 104 rfl) rfl
theorem q2656 : (Jvm.Cond.methodLink "CrossbarExchange" (315 : Nat) ({ cls := "CrossbarExchange", name := "silent", desc := "(IZ)I" } : Jvm.MethodName)) ∈ lw_all := lw_g (lw_at lw_m11 105 rfl) rfl
theorem q2657 : (Jvm.Cond.privateMethod ({ cls := "CrossbarExchange", name := "silent", desc := "(IZ)I" } : Jvm.MethodName)) ∈ lw_tbl := lw_at lw_m11 106 rfl
theorem q2658 : (Jvm.Cond.instanceMethod ({ cls := "CrossbarExchange", name := "silent", desc := "(IZ)I" } : Jvm.MethodName)) ∈ lw_all := lw_g (lw_at lw_m11 107 rfl) rfl
theorem q2659 : (Jvm.Cond.code ({ cls := "CrossbarExchange", name := "silent", desc := "(IZ)I" } : Jvm.MethodName) prog_1_method_42_code (5 : Nat) (Option.some Jvm.ClassFile.FieldType.int)) ∈ lw_all := lw_g (lw_at lw_m11 108 rfl) rfl
theorem q2664 : (Jvm.Cond.instanceMethod ({ cls := "CrossbarExchange", name := "middle", desc := "(II)I" } : Jvm.MethodName)) ∈ lw_all := lw_g (lw_at lw_m11 113 rfl) rfl
theorem q2665 : (Jvm.Cond.selects "CrossbarExchange" ({ cls := "CrossbarExchange", name := "middle", desc := "(II)I" } : Jvm.MethodName) ({ cls := "CrossbarExchange", name := "middle", desc := "(II)I" } : Jvm.MethodName)) ∈ lw_all := lw_g (lw_at lw_m11 114 rfl) rfl
theorem q2666 : (Jvm.Cond.code ({ cls := "CrossbarExchange", name := "middle", desc := "(II)I" } : Jvm.MethodName) prog_1_method_45_code (3 : Nat) (Option.some Jvm.ClassFile.FieldType.int)) ∈ lw_all := lw_g (lw_at lw_m11 115 rfl) rfl
theorem q2667 : (Jvm.Cond.methodLink "CrossbarExchange" (321 : Nat) ({ cls := "CrossbarExchange$Exchange", name := "load", desc := "(I)I" } : Jvm.MethodName)) ∈ lw_all := lw_g (lw_at lw_m11 116 rfl) rfl
theorem q2668 : (Jvm.Cond.methodLink "CrossbarExchange" (324 : Nat) ({ cls := "CrossbarExchange", name := "lowestOn", desc := "(I)I" } : Jvm.MethodName)) ∈ lw_all := lw_g (lw_at lw_m11 117 rfl) rfl
theorem q2669 : (Jvm.Cond.privateMethod ({ cls := "CrossbarExchange", name := "lowestOn", desc := "(I)I" } : Jvm.MethodName)) ∈ lw_tbl := lw_at lw_m11 118 rfl
theorem q2670 : (Jvm.Cond.instanceMethod ({ cls := "CrossbarExchange", name := "lowestOn", desc := "(I)I" } : Jvm.MethodName)) ∈ lw_all := lw_g (lw_at lw_m11 119 rfl) rfl
theorem q2671 : (Jvm.Cond.code ({ cls := "CrossbarExchange", name := "lowestOn", desc := "(I)I" } : Jvm.MethodName) prog_1_method_44_code (3 : Nat) (Option.some Jvm.ClassFile.FieldType.int)) ∈ lw_all := lw_g (lw_at lw_m11 120 rfl) rfl
theorem q2676 : (Jvm.Cond.instanceMethod ({ cls := "CrossbarExchange", name := "carried", desc := "(IIZ)I" } : Jvm.MethodName)) ∈ lw_all := lw_g (lw_at lw_m11 125 rfl) rfl
theorem q2677 : (Jvm.Cond.selects "CrossbarExchange" ({ cls := "CrossbarExchange", name := "carried", desc := "(IIZ)I" } : Jvm.MethodName) ({ cls := "CrossbarExchange", name := "carried", desc := "(IIZ)I" } : Jvm.MethodName)) ∈ lw_all := lw_g (lw_at lw_m11 126 rfl) rfl
theorem q2678 : (Jvm.Cond.code ({ cls := "CrossbarExchange", name := "carried", desc := "(IIZ)I" } : Jvm.MethodName) prog_1_method_46_code (5 : Nat) (Option.some Jvm.ClassFile.FieldType.int)) ∈ lw_all := lw_g (lw_at lw_m11 127 rfl) rfl
theorem q2683 : (Jvm.Cond.instanceMethod ({ cls := "CrossbarExchange", name := "callOf", desc := "(II)I" } : Jvm.MethodName)) ∈ lw_all := lw_g (lw_at lw_m11 132 rfl) rfl
theorem q2684 : (Jvm.Cond.selects "CrossbarExchange" ({ cls := "CrossbarExchange", name := "callOf", desc := "(II)I" } : Jvm.MethodName) ({ cls := "CrossbarExchange", name := "callOf", desc := "(II)I" } : Jvm.MethodName)) ∈ lw_all := lw_g (lw_at lw_m11 133 rfl) rfl
theorem q2685 : (Jvm.Cond.code ({ cls := "CrossbarExchange", name := "callOf", desc := "(II)I" } : Jvm.MethodName) prog_1_method_47_code (4 : Nat) (Option.some Jvm.ClassFile.FieldType.int)) ∈ lw_all := lw_g (lw_at lw_m11 134 rfl) rfl
theorem q2686 : (Jvm.Cond.methodLink "CrossbarExchange" (339 : Nat) ({ cls := "CrossbarExchange$Call", name := "end", desc := "()I" } : Jvm.MethodName)) ∈ lw_all := lw_g (lw_at lw_m11 135 rfl) rfl
theorem q2691 : (Jvm.Cond.instanceMethod ({ cls := "CrossbarExchange", name := "group", desc := "(II)I" } : Jvm.MethodName)) ∈ lw_all := lw_g (lw_at lw_m11 140 rfl) rfl
theorem q2692 : (Jvm.Cond.selects "CrossbarExchange" ({ cls := "CrossbarExchange", name := "group", desc := "(II)I" } : Jvm.MethodName) ({ cls := "CrossbarExchange", name := "group", desc := "(II)I" } : Jvm.MethodName)) ∈ lw_all := lw_g (lw_at lw_m11 141 rfl) rfl
theorem q2693 : (Jvm.Cond.code ({ cls := "CrossbarExchange", name := "group", desc := "(II)I" } : Jvm.MethodName) prog_1_method_51_code (4 : Nat) (Option.some Jvm.ClassFile.FieldType.int)) ∈ lw_all := lw_g (lw_at lw_m11 142 rfl) rfl
theorem q2694 : (Jvm.Cond.methodLink "CrossbarExchange" (345 : Nat) ({ cls := "CrossbarExchange", name := "idleMembers", desc := "(LCrossbarExchange$Group;)I" } : Jvm.MethodName)) ∈ lw_all := lw_g (lw_at lw_m11 143 rfl) rfl
theorem q2695 : (Jvm.Cond.privateMethod ({ cls := "CrossbarExchange", name := "idleMembers", desc := "(LCrossbarExchange$Group;)I" } : Jvm.MethodName)) ∈ lw_tbl := lw_at lw_m11 144 rfl
theorem q2696 : (Jvm.Cond.instanceMethod ({ cls := "CrossbarExchange", name := "idleMembers", desc := "(LCrossbarExchange$Group;)I" } : Jvm.MethodName)) ∈ lw_all := lw_g (lw_at lw_m11 145 rfl) rfl
theorem q2697 : (Jvm.Cond.code ({ cls := "CrossbarExchange", name := "idleMembers", desc := "(LCrossbarExchange$Group;)I" } : Jvm.MethodName) prog_1_method_49_code (4 : Nat) (Option.some Jvm.ClassFile.FieldType.int)) ∈ lw_all := lw_g (lw_at lw_m11 146 rfl) rfl
theorem q2698 : (Jvm.Cond.classLink "CrossbarExchange" (51 : Nat) "java/lang/Integer") ∈ lw_all := lw_g (lw_at lw_m11 147 rfl) rfl
theorem q2699 : (Jvm.Cond.methodLink "CrossbarExchange" (342 : Nat) ({ cls := "java/lang/Integer", name := "intValue", desc := "()I" } : Jvm.MethodName)) ∈ lw_all := lw_g (lw_at lw_m11 148 rfl) rfl
theorem q2700 : (Jvm.Cond.methodLink "CrossbarExchange" (349 : Nat) ({ cls := "CrossbarExchange", name := "waitersFor", desc := "(I)I" } : Jvm.MethodName)) ∈ lw_all := lw_g (lw_at lw_m11 149 rfl) rfl
theorem q2701 : (Jvm.Cond.privateMethod ({ cls := "CrossbarExchange", name := "waitersFor", desc := "(I)I" } : Jvm.MethodName)) ∈ lw_tbl := lw_at lw_m11 150 rfl
theorem q2702 : (Jvm.Cond.instanceMethod ({ cls := "CrossbarExchange", name := "waitersFor", desc := "(I)I" } : Jvm.MethodName)) ∈ lw_all := lw_g (lw_at lw_m11 151 rfl) rfl
theorem q2703 : (Jvm.Cond.code ({ cls := "CrossbarExchange", name := "waitersFor", desc := "(I)I" } : Jvm.MethodName) prog_1_method_50_code (4 : Nat) (Option.some Jvm.ClassFile.FieldType.int)) ∈ lw_all := lw_g (lw_at lw_m11 152 rfl) rfl
theorem q2704 : (Jvm.Cond.classLink "CrossbarExchange" (284 : Nat) "CrossbarExchange$Waiter") ∈ lw_all := lw_g (lw_at lw_m11 153 rfl) rfl
theorem q2709 : (Jvm.Cond.instanceMethod ({ cls := "CrossbarExchange", name := "member", desc := "(II)I" } : Jvm.MethodName)) ∈ lw_all := lw_g (lw_at lw_m11 158 rfl) rfl
theorem q2710 : (Jvm.Cond.selects "CrossbarExchange" ({ cls := "CrossbarExchange", name := "member", desc := "(II)I" } : Jvm.MethodName) ({ cls := "CrossbarExchange", name := "member", desc := "(II)I" } : Jvm.MethodName)) ∈ lw_all := lw_g (lw_at lw_m11 159 rfl) rfl
theorem q2711 : (Jvm.Cond.code ({ cls := "CrossbarExchange", name := "member", desc := "(II)I" } : Jvm.MethodName) prog_1_method_52_code (4 : Nat) (Option.some Jvm.ClassFile.FieldType.int)) ∈ lw_all := lw_g (lw_at lw_m11 160 rfl) rfl
theorem q2716 : (Jvm.Cond.instanceMethod ({ cls := "CrossbarExchange", name := "waiting", desc := "(II)I" } : Jvm.MethodName)) ∈ lw_all := lw_g (lw_at lw_m11 165 rfl) rfl
theorem q2717 : (Jvm.Cond.selects "CrossbarExchange" ({ cls := "CrossbarExchange", name := "waiting", desc := "(II)I" } : Jvm.MethodName) ({ cls := "CrossbarExchange", name := "waiting", desc := "(II)I" } : Jvm.MethodName)) ∈ lw_all := lw_g (lw_at lw_m11 166 rfl) rfl
theorem q2718 : (Jvm.Cond.code ({ cls := "CrossbarExchange", name := "waiting", desc := "(II)I" } : Jvm.MethodName) prog_1_method_53_code (4 : Nat) (Option.some Jvm.ClassFile.FieldType.int)) ∈ lw_all := lw_g (lw_at lw_m11 167 rfl) rfl
theorem q2723 : (Jvm.Cond.instanceMethod ({ cls := "CrossbarExchange", name := "open", desc := "(II)I" } : Jvm.MethodName)) ∈ lw_all := lw_g (lw_at lw_m11 172 rfl) rfl
theorem q2724 : (Jvm.Cond.selects "CrossbarExchange" ({ cls := "CrossbarExchange", name := "open", desc := "(II)I" } : Jvm.MethodName) ({ cls := "CrossbarExchange", name := "open", desc := "(II)I" } : Jvm.MethodName)) ∈ lw_all := lw_g (lw_at lw_m11 173 rfl) rfl
theorem q2725 : (Jvm.Cond.code ({ cls := "CrossbarExchange", name := "open", desc := "(II)I" } : Jvm.MethodName) prog_1_method_54_code (5 : Nat) (Option.some Jvm.ClassFile.FieldType.int)) ∈ lw_all := lw_g (lw_at lw_m11 174 rfl) rfl
theorem q2726 : (Jvm.Cond.methodLink "CrossbarExchange" (365 : Nat) ({ cls := "CrossbarExchange$Exchange", name := "isOpen", desc := "(III)Z" } : Jvm.MethodName)) ∈ lw_all := lw_g (lw_at lw_m11 175 rfl) rfl
theorem q2731 : (Jvm.Cond.instanceMethod ({ cls := "CrossbarExchange", name := "chain", desc := "(III)I" } : Jvm.MethodName)) ∈ lw_all := lw_g (lw_at lw_m11 180 rfl) rfl
theorem q2732 : (Jvm.Cond.selects "CrossbarExchange" ({ cls := "CrossbarExchange", name := "chain", desc := "(III)I" } : Jvm.MethodName) ({ cls := "CrossbarExchange", name := "chain", desc := "(III)I" } : Jvm.MethodName)) ∈ lw_all := lw_g (lw_at lw_m11 181 rfl) rfl
theorem q2733 : (Jvm.Cond.code ({ cls := "CrossbarExchange", name := "chain", desc := "(III)I" } : Jvm.MethodName) prog_1_method_55_code (5 : Nat) (Option.some Jvm.ClassFile.FieldType.int)) ∈ lw_all := lw_g (lw_at lw_m11 182 rfl) rfl
theorem q2734 : (Jvm.Cond.methodLink "CrossbarExchange" (368 : Nat) ({ cls := "CrossbarExchange$Exchange", name := "chainFor", desc := "(II)LCrossbarExchange$Path;" } : Jvm.MethodName)) ∈ lw_all := lw_g (lw_at lw_m11 183 rfl) rfl
theorem q2738 : (Jvm.Cond.methodLink "CrossbarExchange" (372 : Nat) ({ cls := "CrossbarExchange$Path", name := "length", desc := "()I" } : Jvm.MethodName)) ∈ lw_all := lw_g (lw_at lw_m11 187 rfl) rfl
theorem q2739 : (Jvm.Cond.classLink "CrossbarExchange" (273 : Nat) "CrossbarExchange$Call") ∈ lw_all := lw_g (lw_at lw_m11 188 rfl) rfl
theorem q2744 : (Jvm.Cond.instanceMethod ({ cls := "CrossbarExchange", name := "why", desc := "(III)I" } : Jvm.MethodName)) ∈ lw_all := lw_g (lw_at lw_m11 193 rfl) rfl
theorem q2745 : (Jvm.Cond.selects "CrossbarExchange" ({ cls := "CrossbarExchange", name := "why", desc := "(III)I" } : Jvm.MethodName) ({ cls := "CrossbarExchange", name := "why", desc := "(III)I" } : Jvm.MethodName)) ∈ lw_all := lw_g (lw_at lw_m11 194 rfl) rfl
theorem q2746 : (Jvm.Cond.code ({ cls := "CrossbarExchange", name := "why", desc := "(III)I" } : Jvm.MethodName) prog_1_method_58_code (7 : Nat) (Option.some Jvm.ClassFile.FieldType.int)) ∈ lw_all := lw_g (lw_at lw_m11 195 rfl) rfl
theorem q2747 : (Jvm.Cond.methodLink "CrossbarExchange" (385 : Nat) ({ cls := "CrossbarExchange$Exchange", name := "whyNot", desc := "(II)I" } : Jvm.MethodName)) ∈ lw_all := lw_g (lw_at lw_m11 196 rfl) rfl
theorem q2748 : (Jvm.Cond.methodLink "CrossbarExchange" (389 : Nat) ({ cls := "CrossbarExchange$Exchange", name := "path", desc := "(II)LCrossbarExchange$Path;" } : Jvm.MethodName)) ∈ lw_all := lw_g (lw_at lw_m11 197 rfl) rfl
theorem q2749 : (Jvm.Cond.methodLink "CrossbarExchange" (392 : Nat) ({ cls := "CrossbarExchange$Path", name := "isOpen", desc := "()Z" } : Jvm.MethodName)) ∈ lw_all := lw_g (lw_at lw_m11 198 rfl) rfl
theorem q2750 : (Jvm.Cond.methodLink "CrossbarExchange" (395 : Nat) ({ cls := "CrossbarExchange", name := "callOfSubscriber", desc := "(I)I" } : Jvm.MethodName)) ∈ lw_all := lw_g (lw_at lw_m11 199 rfl) rfl
theorem q2751 : (Jvm.Cond.privateMethod ({ cls := "CrossbarExchange", name := "callOfSubscriber", desc := "(I)I" } : Jvm.MethodName)) ∈ lw_tbl := lw_at lw_m11 200 rfl
theorem q2752 : (Jvm.Cond.instanceMethod ({ cls := "CrossbarExchange", name := "callOfSubscriber", desc := "(I)I" } : Jvm.MethodName)) ∈ lw_all := lw_g (lw_at lw_m11 201 rfl) rfl
theorem q2753 : (Jvm.Cond.code ({ cls := "CrossbarExchange", name := "callOfSubscriber", desc := "(I)I" } : Jvm.MethodName) prog_1_method_56_code (2 : Nat) (Option.some Jvm.ClassFile.FieldType.int)) ∈ lw_all := lw_g (lw_at lw_m11 202 rfl) rfl
theorem q2754 : (Jvm.Cond.methodLink "CrossbarExchange" (398 : Nat) ({ cls := "CrossbarExchange", name := "fullEnd", desc := "(II)I" } : Jvm.MethodName)) ∈ lw_all := lw_g (lw_at lw_m11 203 rfl) rfl
theorem q2755 : (Jvm.Cond.privateMethod ({ cls := "CrossbarExchange", name := "fullEnd", desc := "(II)I" } : Jvm.MethodName)) ∈ lw_tbl := lw_at lw_m11 204 rfl
theorem q2756 : (Jvm.Cond.instanceMethod ({ cls := "CrossbarExchange", name := "fullEnd", desc := "(II)I" } : Jvm.MethodName)) ∈ lw_all := lw_g (lw_at lw_m11 205 rfl) rfl
theorem q2757 : (Jvm.Cond.code ({ cls := "CrossbarExchange", name := "fullEnd", desc := "(II)I" } : Jvm.MethodName) prog_1_method_57_code (3 : Nat) (Option.some Jvm.ClassFile.FieldType.int)) ∈ lw_all := lw_g (lw_at lw_m11 206 rfl) rfl
theorem q2762 : (Jvm.Cond.instanceMethod ({ cls := "CrossbarExchange", name := "ifCut", desc := "(II)I" } : Jvm.MethodName)) ∈ lw_all := lw_g (lw_at lw_m11 211 rfl) rfl
theorem q2763 : (Jvm.Cond.selects "CrossbarExchange" ({ cls := "CrossbarExchange", name := "ifCut", desc := "(II)I" } : Jvm.MethodName) ({ cls := "CrossbarExchange", name := "ifCut", desc := "(II)I" } : Jvm.MethodName)) ∈ lw_all := lw_g (lw_at lw_m11 212 rfl) rfl
theorem q2764 : (Jvm.Cond.codeWith ({ cls := "CrossbarExchange", name := "ifCut", desc := "(II)I" } : Jvm.MethodName) prog_1_method_63_code (7 : Nat) (Option.some Jvm.ClassFile.FieldType.int) [((61 : Nat), (101 : Nat), (109 : Nat), (415 : Nat)), ((111 : Nat), (116 : Nat), (119 : Nat), (415 : Nat))]) ∈ lw_all := lw_g (lw_at lw_m11 213 rfl) rfl
theorem q2769 : (Jvm.Cond.instanceMethod ({ cls := "CrossbarExchange", name := "ifPacked", desc := "(I)I" } : Jvm.MethodName)) ∈ lw_all := lw_g (lw_at lw_m11 218 rfl) rfl
theorem q2770 : (Jvm.Cond.selects "CrossbarExchange" ({ cls := "CrossbarExchange", name := "ifPacked", desc := "(I)I" } : Jvm.MethodName) ({ cls := "CrossbarExchange", name := "ifPacked", desc := "(I)I" } : Jvm.MethodName)) ∈ lw_all := lw_g (lw_at lw_m11 219 rfl) rfl
theorem q2771 : (Jvm.Cond.codeWith ({ cls := "CrossbarExchange", name := "ifPacked", desc := "(I)I" } : Jvm.MethodName) prog_1_method_65_code (5 : Nat) (Option.some Jvm.ClassFile.FieldType.int) [((18 : Nat), (43 : Nat), (50 : Nat), (415 : Nat)), ((51 : Nat), (55 : Nat), (58 : Nat), (415 : Nat))]) ∈ lw_all := lw_g (lw_at lw_m11 220 rfl) rfl
theorem q2772 : (Jvm.Cond.methodLink "CrossbarExchange" (424 : Nat) ({ cls := "CrossbarExchange$Exchange", name := "greatestUsed", desc := "()I" } : Jvm.MethodName)) ∈ lw_all := lw_g (lw_at lw_m11 221 rfl) rfl
theorem q2780 : (Jvm.Cond.instanceMethod ({ cls := "CrossbarExchange", name := "callsIn", desc := "(I)I" } : Jvm.MethodName)) ∈ lw_all := lw_g (lw_at lw_m11 229 rfl) rfl
theorem q2781 : (Jvm.Cond.selects "CrossbarExchange" ({ cls := "CrossbarExchange", name := "callsIn", desc := "(I)I" } : Jvm.MethodName) ({ cls := "CrossbarExchange", name := "callsIn", desc := "(I)I" } : Jvm.MethodName)) ∈ lw_all := lw_g (lw_at lw_m11 230 rfl) rfl
theorem q2782 : (Jvm.Cond.codeWith ({ cls := "CrossbarExchange", name := "callsIn", desc := "(I)I" } : Jvm.MethodName) prog_1_method_66_code (5 : Nat) (Option.some Jvm.ClassFile.FieldType.int) [((20 : Nat), (38 : Nat), (45 : Nat), (415 : Nat)), ((46 : Nat), (50 : Nat), (53 : Nat), (415 : Nat))]) ∈ lw_all := lw_g (lw_at lw_m11 231 rfl) rfl
theorem q2787 : (Jvm.Cond.instanceMethod ({ cls := "CrossbarExchange", name := "idleIn", desc := "(I)I" } : Jvm.MethodName)) ∈ lw_all := lw_g (lw_at lw_m11 236 rfl) rfl
theorem q2788 : (Jvm.Cond.selects "CrossbarExchange" ({ cls := "CrossbarExchange", name := "idleIn", desc := "(I)I" } : Jvm.MethodName) ({ cls := "CrossbarExchange", name := "idleIn", desc := "(I)I" } : Jvm.MethodName)) ∈ lw_all := lw_g (lw_at lw_m11 237 rfl) rfl
theorem q2789 : (Jvm.Cond.codeWith ({ cls := "CrossbarExchange", name := "idleIn", desc := "(I)I" } : Jvm.MethodName) prog_1_method_67_code (5 : Nat) (Option.some Jvm.ClassFile.FieldType.int) [((14 : Nat), (37 : Nat), (79 : Nat), (415 : Nat)), ((44 : Nat), (73 : Nat), (79 : Nat), (415 : Nat)), ((80 : Nat), (84 : Nat), (87 : Nat), (415 : Nat))]) ∈ lw_all := lw_g (lw_at lw_m11 238 rfl) rfl
theorem q2794 : (Jvm.Cond.instanceMethod ({ cls := "CrossbarExchange", name := "servedIn", desc := "(I)I" } : Jvm.MethodName)) ∈ lw_all := lw_g (lw_at lw_m12 3 rfl) rfl
theorem q2795 : (Jvm.Cond.selects "CrossbarExchange" ({ cls := "CrossbarExchange", name := "servedIn", desc := "(I)I" } : Jvm.MethodName) ({ cls := "CrossbarExchange", name := "servedIn", desc := "(I)I" } : Jvm.MethodName)) ∈ lw_all := lw_g (lw_at lw_m12 4 rfl) rfl
theorem q2796 : (Jvm.Cond.codeWith ({ cls := "CrossbarExchange", name := "servedIn", desc := "(I)I" } : Jvm.MethodName) prog_1_method_68_code (7 : Nat) (Option.some Jvm.ClassFile.FieldType.int) [((48 : Nat), (88 : Nat), (111 : Nat), (415 : Nat)), ((95 : Nat), (104 : Nat), (111 : Nat), (415 : Nat)), ((113 : Nat), (117 : Nat), (120 : Nat), (415 : Nat))]) ∈ lw_all := lw_g (lw_at lw_m12 5 rfl) rfl
theorem q3528 : (Jvm.Cond.castable "CrossbarExchange" "java/lang/Object") ∈ lw_tbl := lw_at lw_m15 17 rfl
theorem in_X1 : ∀ w ∈ wsX10, w ∈ lw_all := lw_in wsX10 [1438, 1440, 1442, 1444, 1446, 1448, 1450, 1452, 1454] (by decide +kernel) (by decide +kernel)
