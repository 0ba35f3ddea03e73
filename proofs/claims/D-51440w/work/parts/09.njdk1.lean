/-! java/util/AbstractMap -/
set_option maxRecDepth 100000
def RJ0 : String := "java/util/AbstractMap"
abbrev cJ0_init : ByteArray := prog_48_method_1_code
def yJ0_init : MethodName := ⟨RJ0, "<init>", "()V"⟩
theorem dJ0_init_0 : decode cJ0_init 0 = .ok (.aload_n 0, 1) := by decide +kernel
theorem dJ0_init_1 : decode cJ0_init 1 = .ok (.invokespecial 1, 3) := by decide +kernel
theorem dJ0_init_4 : decode cJ0_init 4 = .ok (.return_, 1) := by decide +kernel
theorem q154 : (Jvm.Cond.initialized "java/util/AbstractMap") ∈ lw_all := lw_g (lw_at lw_m1 3 rfl) rfl
theorem q226 : (Jvm.Cond.instanceMethod ({ cls := "java/util/AbstractMap", name := "<init>", desc := "()V" } : Jvm.MethodName)) ∈ lw_all := lw_g (lw_at lw_m1 75 rfl) rfl
theorem q227 : (Jvm.Cond.code ({ cls := "java/util/AbstractMap", name := "<init>", desc := "()V" } : Jvm.MethodName) prog_48_method_1_code (1 : Nat) (Option.none : Option Jvm.ClassFile.FieldType)) ∈ lw_all := lw_g (lw_at lw_m1 76 rfl) rfl
theorem q228 : (Jvm.Cond.methodLink "java/util/AbstractMap" (1 : Nat) ({ cls := "java/lang/Object", name := "<init>", desc := "()V" } : Jvm.MethodName)) ∈ lw_all := lw_g (lw_at lw_m1 77 rfl) rfl
theorem q250 : (Jvm.Cond.soleField "java/util/AbstractMap" "keySet") ∈ lw_all := lw_g (lw_at lw_m1 99 rfl) rfl
theorem q252 : (Jvm.Cond.soleField "java/util/AbstractMap" "values") ∈ lw_all := lw_g (lw_at lw_m1 101 rfl) rfl
/-! java/util/HashMap -/
set_option maxRecDepth 100000
def RJ1 : String := "java/util/HashMap"
def TJ1 : u_T := fun k => match k with
  | 0 => ("java/util/AbstractMap", "keySet", "Ljava/util/Set;", false)
  | 1 => ("java/util/AbstractMap", "values", "Ljava/util/Collection;", false)
  | 2 => ("java/util/HashMap", "table", "[Ljava/util/HashMap$Node;", false)
  | 3 => ("java/util/HashMap", "entrySet", "Ljava/util/Set;", false)
  | 4 => ("java/util/HashMap", "size", "I", false)
  | 5 => ("java/util/HashMap", "modCount", "I", false)
  | 6 => ("java/util/HashMap", "threshold", "I", false)
  | _ => ("java/util/HashMap", "loadFactor", "F", true)
def tyJ1 : Nat → FieldType := fun k => match k with
  | 0 => .object "java/util/Set"
  | 1 => .object "java/util/Collection"
  | 2 => .array (.object "java/util/HashMap$Node")
  | 3 => .object "java/util/Set"
  | 4 => .int
  | 5 => .int
  | 6 => .int
  | _ => .float
abbrev wsJ10 : List Cond := u_ws RJ1 TJ1 8
theorem nmJ1 : ∀ a, a < 8 → ∀ b, b < 8 → a ≠ b → (TJ1 a).2.1 ≠ (TJ1 b).2.1 := by decide +kernel
theorem tyJ1_ok : ∀ k, k < 8 → parseFieldDescriptor (TJ1 k).2.2.1 = some (tyJ1 k) := by decide +kernel
abbrev cJ1_init : ByteArray := prog_53_method_7_code
def yJ1_init : MethodName := ⟨RJ1, "<init>", "()V"⟩
def dkwJ1_init_0 : List UInt8 := [42, 183, 0, 43, 42, 18, 92, 181, 0, 81, 177]
abbrev dktJ1_init_0 : List UInt8 := dkwJ1_init_0 ++ []
theorem dksJ1_init_0 : cJ1_init.data.toList.drop 0 = dktJ1_init_0 := by decide +kernel
theorem dJ1_init_0 : decode cJ1_init 0 = .ok (.aload_n 0, 1) := dk_42 (dk_at dksJ1_init_0 0 rfl rfl)
theorem dJ1_init_1 : decode cJ1_init 1 = .ok (.invokespecial 43, 3) := dk_183 0 43 (dk_at dksJ1_init_0 1 rfl rfl)
theorem dJ1_init_4 : decode cJ1_init 4 = .ok (.aload_n 0, 1) := dk_42 (dk_at dksJ1_init_0 4 rfl rfl)
theorem dJ1_init_5 : decode cJ1_init 5 = .ok (.ldc 92, 2) := dk_18 92 (dk_at dksJ1_init_0 5 rfl rfl)
theorem dJ1_init_7 : decode cJ1_init 7 = .ok (.putfield 81, 3) := dk_181 0 81 (dk_at dksJ1_init_0 7 rfl rfl)
theorem dJ1_init_10 : decode cJ1_init 10 = .ok (.return_, 1) := dk_177 (dk_at dksJ1_init_0 10 rfl rfl)
abbrev cJ1_put : ByteArray := prog_53_method_15_code
def yJ1_put : MethodName := ⟨RJ1, "put", "(Ljava/lang/Object;Ljava/lang/Object;)Ljava/lang/Object;"⟩
def dkwJ1_put_0 : List UInt8 := [42, 43, 184, 0, 149, 43, 44, 3, 4, 182, 0, 152, 176]
abbrev dktJ1_put_0 : List UInt8 := dkwJ1_put_0 ++ []
theorem dksJ1_put_0 : cJ1_put.data.toList.drop 0 = dktJ1_put_0 := by decide +kernel
theorem dJ1_put_0 : decode cJ1_put 0 = .ok (.aload_n 0, 1) := dk_42 (dk_at dksJ1_put_0 0 rfl rfl)
theorem dJ1_put_1 : decode cJ1_put 1 = .ok (.aload_n 1, 1) := dk_43 (dk_at dksJ1_put_0 1 rfl rfl)
theorem dJ1_put_2 : decode cJ1_put 2 = .ok (.invokestatic 149, 3) := dk_184 0 149 (dk_at dksJ1_put_0 2 rfl rfl)
theorem dJ1_put_5 : decode cJ1_put 5 = .ok (.aload_n 1, 1) := dk_43 (dk_at dksJ1_put_0 5 rfl rfl)
theorem dJ1_put_6 : decode cJ1_put 6 = .ok (.aload_n 2, 1) := dk_44 (dk_at dksJ1_put_0 6 rfl rfl)
theorem dJ1_put_7 : decode cJ1_put 7 = .ok (.iconst 0, 1) := dk_3 (dk_at dksJ1_put_0 7 rfl rfl)
theorem dJ1_put_8 : decode cJ1_put 8 = .ok (.iconst 1, 1) := dk_4 (dk_at dksJ1_put_0 8 rfl rfl)
theorem dJ1_put_9 : decode cJ1_put 9 = .ok (.invokevirtual 152, 3) := dk_182 0 152 (dk_at dksJ1_put_0 9 rfl rfl)
theorem dJ1_put_12 : decode cJ1_put 12 = .ok (.areturn, 1) := dk_176 (dk_at dksJ1_put_0 12 rfl rfl)
abbrev cJ1_hash : ByteArray := prog_53_method_1_code
def yJ1_hash : MethodName := ⟨RJ1, "hash", "(Ljava/lang/Object;)I"⟩
def dkwJ1_hash_0 : List UInt8 := [42, 199, 0, 7, 3, 167, 0, 14, 42, 182, 0, 1, 89, 60, 27, 16, 16, 124, 130, 172]
abbrev dktJ1_hash_0 : List UInt8 := dkwJ1_hash_0 ++ []
theorem dksJ1_hash_0 : cJ1_hash.data.toList.drop 0 = dktJ1_hash_0 := by decide +kernel
theorem dJ1_hash_0 : decode cJ1_hash 0 = .ok (.aload_n 0, 1) := dk_42 (dk_at dksJ1_hash_0 0 rfl rfl)
theorem dJ1_hash_1 : decode cJ1_hash 1 = .ok (.ifnonnull 7, 3) := dk_199 0 7 (dk_at dksJ1_hash_0 1 rfl rfl)
theorem dJ1_hash_4 : decode cJ1_hash 4 = .ok (.iconst 0, 1) := dk_3 (dk_at dksJ1_hash_0 4 rfl rfl)
theorem dJ1_hash_5 : decode cJ1_hash 5 = .ok (.goto 14, 3) := dk_167 0 14 (dk_at dksJ1_hash_0 5 rfl rfl)
theorem dJ1_hash_8 : decode cJ1_hash 8 = .ok (.aload_n 0, 1) := dk_42 (dk_at dksJ1_hash_0 8 rfl rfl)
theorem dJ1_hash_9 : decode cJ1_hash 9 = .ok (.invokevirtual 1, 3) := dk_182 0 1 (dk_at dksJ1_hash_0 9 rfl rfl)
theorem dJ1_hash_12 : decode cJ1_hash 12 = .ok (.dup, 1) := dk_89 (dk_at dksJ1_hash_0 12 rfl rfl)
theorem dJ1_hash_13 : decode cJ1_hash 13 = .ok (.istore_n 1, 1) := dk_60 (dk_at dksJ1_hash_0 13 rfl rfl)
theorem dJ1_hash_14 : decode cJ1_hash 14 = .ok (.iload_n 1, 1) := dk_27 (dk_at dksJ1_hash_0 14 rfl rfl)
theorem dJ1_hash_15 : decode cJ1_hash 15 = .ok (.bipush 16, 2) := dk_16 16 (dk_at dksJ1_hash_0 15 rfl rfl)
theorem dJ1_hash_17 : decode cJ1_hash 17 = .ok (.iushr, 1) := dk_124 (dk_at dksJ1_hash_0 17 rfl rfl)
theorem dJ1_hash_18 : decode cJ1_hash 18 = .ok (.ixor, 1) := dk_130 (dk_at dksJ1_hash_0 18 rfl rfl)
theorem dJ1_hash_19 : decode cJ1_hash 19 = .ok (.ireturn, 1) := dk_172 (dk_at dksJ1_hash_0 19 rfl rfl)
abbrev cJ1_putVal : ByteArray := prog_53_method_16_code
def yJ1_putVal : MethodName := ⟨RJ1, "putVal", "(ILjava/lang/Object;Ljava/lang/Object;ZZ)Ljava/lang/Object;"⟩
def dkwJ1_putVal_12 : List UInt8 := [181, 0, 156, 42, 180, 0, 88, 164, 0, 8, 42, 182, 0, 117, 87, 42, 21, 5, 182, 0, 205, 1, 176]
abbrev dktJ1_putVal_12 : List UInt8 := dkwJ1_putVal_12 ++ []
def dkwJ1_putVal_11 : List UInt8 := [182, 0, 198, 25, 12, 176, 42, 89, 180, 0, 202, 4, 96, 181, 0, 202, 42, 89, 180, 0, 156, 4, 96, 90]
abbrev dktJ1_putVal_11 : List UInt8 := dkwJ1_putVal_11 ++ dktJ1_putVal_12
def dkwJ1_putVal_10 : List UInt8 := [180, 0, 162, 58, 12, 21, 4, 153, 0, 8, 25, 12, 199, 0, 9, 25, 10, 45, 181, 0, 162, 42, 25, 10]
abbrev dktJ1_putVal_10 : List UInt8 := dkwJ1_putVal_10 ++ dktJ1_putVal_11
def dkwJ1_putVal_9 : List UInt8 := [153, 0, 6, 167, 0, 13, 25, 10, 58, 7, 132, 12, 1, 167, 255, 171, 25, 10, 198, 0, 35, 25, 10]
abbrev dktJ1_putVal_9 : List UInt8 := dkwJ1_putVal_9 ++ dktJ1_putVal_10
def dkwJ1_putVal_8 : List UInt8 := [25, 10, 180, 0, 170, 89, 58, 11, 44, 165, 0, 29, 44, 198, 0, 15, 44, 25, 11, 182, 0, 173]
abbrev dktJ1_putVal_8 : List UInt8 := dkwJ1_putVal_8 ++ dktJ1_putVal_9
def dkwJ1_putVal_7 : List UInt8 := [16, 7, 161, 0, 60, 42, 25, 6, 27, 182, 0, 194, 167, 0, 50, 25, 10, 180, 0, 168, 27, 160, 0, 31]
abbrev dktJ1_putVal_7 : List UInt8 := dkwJ1_putVal_7 ++ dktJ1_putVal_8
def dkwJ1_putVal_6 : List UInt8 := [180, 0, 177, 89, 58, 10, 199, 0, 33, 25, 7, 42, 27, 44, 45, 1, 182, 0, 186, 181, 0, 177, 21, 12]
abbrev dktJ1_putVal_6 : List UInt8 := dkwJ1_putVal_6 ++ dktJ1_putVal_7
def dkwJ1_putVal_5 : List UInt8 := [192, 0, 180, 42, 25, 6, 27, 44, 45, 182, 0, 190, 58, 10, 167, 0, 94, 3, 54, 12, 25, 7]
abbrev dktJ1_putVal_5 : List UInt8 := dkwJ1_putVal_5 ++ dktJ1_putVal_6
def dkwJ1_putVal_4 : List UInt8 := [182, 0, 173, 153, 0, 10, 25, 7, 58, 10, 167, 0, 121, 25, 7, 193, 0, 180, 153, 0, 22, 25, 7]
abbrev dktJ1_putVal_4 : List UInt8 := dkwJ1_putVal_4 ++ dktJ1_putVal_5
def dkwJ1_putVal_3 : List UInt8 := [160, 0, 35, 25, 7, 180, 0, 170, 89, 58, 11, 44, 165, 0, 16, 44, 198, 0, 19, 44, 25, 11]
abbrev dktJ1_putVal_3 : List UInt8 := dkwJ1_putVal_3 ++ dktJ1_putVal_4
def dkwJ1_putVal_2 : List UInt8 := [25, 6, 21, 9, 42, 27, 44, 45, 1, 182, 0, 186, 83, 167, 0, 199, 25, 7, 180, 0, 168, 27]
abbrev dktJ1_putVal_2 : List UInt8 := dkwJ1_putVal_2 ++ dktJ1_putVal_3
def dkwJ1_putVal_1 : List UInt8 := [58, 6, 190, 54, 8, 25, 6, 21, 8, 4, 100, 27, 126, 89, 54, 9, 50, 89, 58, 7, 199, 0, 19]
abbrev dktJ1_putVal_1 : List UInt8 := dkwJ1_putVal_1 ++ dktJ1_putVal_2
def dkwJ1_putVal_0 : List UInt8 := [42, 180, 0, 105, 89, 58, 6, 198, 0, 12, 25, 6, 190, 89, 54, 8, 154, 0, 13, 42, 182, 0, 117, 89]
abbrev dktJ1_putVal_0 : List UInt8 := dkwJ1_putVal_0 ++ dktJ1_putVal_1
theorem dksJ1_putVal_0 : cJ1_putVal.data.toList.drop 0 = dktJ1_putVal_0 := by decide +kernel
theorem dksJ1_putVal_1 : cJ1_putVal.data.toList.drop 24 = dktJ1_putVal_1 := dk_seg dksJ1_putVal_0 24 rfl rfl
theorem dksJ1_putVal_2 : cJ1_putVal.data.toList.drop 47 = dktJ1_putVal_2 := dk_seg dksJ1_putVal_1 23 rfl rfl
theorem dksJ1_putVal_3 : cJ1_putVal.data.toList.drop 69 = dktJ1_putVal_3 := dk_seg dksJ1_putVal_2 22 rfl rfl
theorem dksJ1_putVal_4 : cJ1_putVal.data.toList.drop 91 = dktJ1_putVal_4 := dk_seg dksJ1_putVal_3 22 rfl rfl
theorem dksJ1_putVal_5 : cJ1_putVal.data.toList.drop 114 = dktJ1_putVal_5 := dk_seg dksJ1_putVal_4 23 rfl rfl
theorem dksJ1_putVal_6 : cJ1_putVal.data.toList.drop 136 = dktJ1_putVal_6 := dk_seg dksJ1_putVal_5 22 rfl rfl
theorem dksJ1_putVal_7 : cJ1_putVal.data.toList.drop 160 = dktJ1_putVal_7 := dk_seg dksJ1_putVal_6 24 rfl rfl
theorem dksJ1_putVal_8 : cJ1_putVal.data.toList.drop 184 = dktJ1_putVal_8 := dk_seg dksJ1_putVal_7 24 rfl rfl
theorem dksJ1_putVal_9 : cJ1_putVal.data.toList.drop 206 = dktJ1_putVal_9 := dk_seg dksJ1_putVal_8 22 rfl rfl
theorem dksJ1_putVal_10 : cJ1_putVal.data.toList.drop 229 = dktJ1_putVal_10 := dk_seg dksJ1_putVal_9 23 rfl rfl
theorem dksJ1_putVal_11 : cJ1_putVal.data.toList.drop 253 = dktJ1_putVal_11 := dk_seg dksJ1_putVal_10 24 rfl rfl
theorem dksJ1_putVal_12 : cJ1_putVal.data.toList.drop 277 = dktJ1_putVal_12 := dk_seg dksJ1_putVal_11 24 rfl rfl
theorem dJ1_putVal_0 : decode cJ1_putVal 0 = .ok (.aload_n 0, 1) := dk_42 (dk_at dksJ1_putVal_0 0 rfl rfl)
theorem dJ1_putVal_1 : decode cJ1_putVal 1 = .ok (.getfield 105, 3) := dk_180 0 105 (dk_at dksJ1_putVal_0 1 rfl rfl)
theorem dJ1_putVal_4 : decode cJ1_putVal 4 = .ok (.dup, 1) := dk_89 (dk_at dksJ1_putVal_0 4 rfl rfl)
theorem dJ1_putVal_5 : decode cJ1_putVal 5 = .ok (.astore 6, 2) := dk_58 6 (dk_at dksJ1_putVal_0 5 rfl rfl)
theorem dJ1_putVal_7 : decode cJ1_putVal 7 = .ok (.ifnull 12, 3) := dk_198 0 12 (dk_at dksJ1_putVal_0 7 rfl rfl)
theorem dJ1_putVal_10 : decode cJ1_putVal 10 = .ok (.aload 6, 2) := dk_25 6 (dk_at dksJ1_putVal_0 10 rfl rfl)
theorem dJ1_putVal_12 : decode cJ1_putVal 12 = .ok (.arraylength, 1) := dk_190 (dk_at dksJ1_putVal_0 12 rfl rfl)
theorem dJ1_putVal_13 : decode cJ1_putVal 13 = .ok (.dup, 1) := dk_89 (dk_at dksJ1_putVal_0 13 rfl rfl)
theorem dJ1_putVal_14 : decode cJ1_putVal 14 = .ok (.istore 8, 2) := dk_54 8 (dk_at dksJ1_putVal_0 14 rfl rfl)
theorem dJ1_putVal_16 : decode cJ1_putVal 16 = .ok (.ifCond .ne 13, 3) := dk_154 0 13 (dk_at dksJ1_putVal_0 16 rfl rfl)
theorem dJ1_putVal_19 : decode cJ1_putVal 19 = .ok (.aload_n 0, 1) := dk_42 (dk_at dksJ1_putVal_0 19 rfl rfl)
theorem dJ1_putVal_20 : decode cJ1_putVal 20 = .ok (.invokevirtual 117, 3) := dk_182 0 117 (dk_at dksJ1_putVal_0 20 rfl rfl)
theorem dJ1_putVal_23 : decode cJ1_putVal 23 = .ok (.dup, 1) := dk_89 (dk_at dksJ1_putVal_0 23 rfl rfl)
theorem dJ1_putVal_24 : decode cJ1_putVal 24 = .ok (.astore 6, 2) := dk_58 6 (dk_at dksJ1_putVal_1 0 rfl rfl)
theorem dJ1_putVal_26 : decode cJ1_putVal 26 = .ok (.arraylength, 1) := dk_190 (dk_at dksJ1_putVal_1 2 rfl rfl)
theorem dJ1_putVal_27 : decode cJ1_putVal 27 = .ok (.istore 8, 2) := dk_54 8 (dk_at dksJ1_putVal_1 3 rfl rfl)
theorem dJ1_putVal_29 : decode cJ1_putVal 29 = .ok (.aload 6, 2) := dk_25 6 (dk_at dksJ1_putVal_1 5 rfl rfl)
theorem dJ1_putVal_31 : decode cJ1_putVal 31 = .ok (.iload 8, 2) := dk_21 8 (dk_at dksJ1_putVal_1 7 rfl rfl)
theorem dJ1_putVal_33 : decode cJ1_putVal 33 = .ok (.iconst 1, 1) := dk_4 (dk_at dksJ1_putVal_1 9 rfl rfl)
theorem dJ1_putVal_34 : decode cJ1_putVal 34 = .ok (.isub, 1) := dk_100 (dk_at dksJ1_putVal_1 10 rfl rfl)
theorem dJ1_putVal_35 : decode cJ1_putVal 35 = .ok (.iload_n 1, 1) := dk_27 (dk_at dksJ1_putVal_1 11 rfl rfl)
theorem dJ1_putVal_36 : decode cJ1_putVal 36 = .ok (.iand, 1) := dk_126 (dk_at dksJ1_putVal_1 12 rfl rfl)
theorem dJ1_putVal_37 : decode cJ1_putVal 37 = .ok (.dup, 1) := dk_89 (dk_at dksJ1_putVal_1 13 rfl rfl)
theorem dJ1_putVal_38 : decode cJ1_putVal 38 = .ok (.istore 9, 2) := dk_54 9 (dk_at dksJ1_putVal_1 14 rfl rfl)
theorem dJ1_putVal_40 : decode cJ1_putVal 40 = .ok (.aaload, 1) := dk_50 (dk_at dksJ1_putVal_1 16 rfl rfl)
theorem dJ1_putVal_41 : decode cJ1_putVal 41 = .ok (.dup, 1) := dk_89 (dk_at dksJ1_putVal_1 17 rfl rfl)
theorem dJ1_putVal_42 : decode cJ1_putVal 42 = .ok (.astore 7, 2) := dk_58 7 (dk_at dksJ1_putVal_1 18 rfl rfl)
theorem dJ1_putVal_44 : decode cJ1_putVal 44 = .ok (.ifnonnull 19, 3) := dk_199 0 19 (dk_at dksJ1_putVal_1 20 rfl rfl)
theorem dJ1_putVal_47 : decode cJ1_putVal 47 = .ok (.aload 6, 2) := dk_25 6 (dk_at dksJ1_putVal_2 0 rfl rfl)
theorem dJ1_putVal_49 : decode cJ1_putVal 49 = .ok (.iload 9, 2) := dk_21 9 (dk_at dksJ1_putVal_2 2 rfl rfl)
theorem dJ1_putVal_51 : decode cJ1_putVal 51 = .ok (.aload_n 0, 1) := dk_42 (dk_at dksJ1_putVal_2 4 rfl rfl)
theorem dJ1_putVal_52 : decode cJ1_putVal 52 = .ok (.iload_n 1, 1) := dk_27 (dk_at dksJ1_putVal_2 5 rfl rfl)
theorem dJ1_putVal_53 : decode cJ1_putVal 53 = .ok (.aload_n 2, 1) := dk_44 (dk_at dksJ1_putVal_2 6 rfl rfl)
theorem dJ1_putVal_54 : decode cJ1_putVal 54 = .ok (.aload_n 3, 1) := dk_45 (dk_at dksJ1_putVal_2 7 rfl rfl)
theorem dJ1_putVal_55 : decode cJ1_putVal 55 = .ok (.aconst_null, 1) := dk_1 (dk_at dksJ1_putVal_2 8 rfl rfl)
theorem dJ1_putVal_56 : decode cJ1_putVal 56 = .ok (.invokevirtual 186, 3) := dk_182 0 186 (dk_at dksJ1_putVal_2 9 rfl rfl)
theorem dJ1_putVal_59 : decode cJ1_putVal 59 = .ok (.aastore, 1) := dk_83 (dk_at dksJ1_putVal_2 12 rfl rfl)
theorem dJ1_putVal_60 : decode cJ1_putVal 60 = .ok (.goto 199, 3) := dk_167 0 199 (dk_at dksJ1_putVal_2 13 rfl rfl)
theorem dJ1_putVal_63 : decode cJ1_putVal 63 = .ok (.aload 7, 2) := dk_25 7 (dk_at dksJ1_putVal_2 16 rfl rfl)
theorem dJ1_putVal_65 : decode cJ1_putVal 65 = .ok (.getfield 168, 3) := dk_180 0 168 (dk_at dksJ1_putVal_2 18 rfl rfl)
theorem dJ1_putVal_68 : decode cJ1_putVal 68 = .ok (.iload_n 1, 1) := dk_27 (dk_at dksJ1_putVal_2 21 rfl rfl)
theorem dJ1_putVal_69 : decode cJ1_putVal 69 = .ok (.if_icmp .ne 35, 3) := dk_160 0 35 (dk_at dksJ1_putVal_3 0 rfl rfl)
theorem dJ1_putVal_72 : decode cJ1_putVal 72 = .ok (.aload 7, 2) := dk_25 7 (dk_at dksJ1_putVal_3 3 rfl rfl)
theorem dJ1_putVal_74 : decode cJ1_putVal 74 = .ok (.getfield 170, 3) := dk_180 0 170 (dk_at dksJ1_putVal_3 5 rfl rfl)
theorem dJ1_putVal_77 : decode cJ1_putVal 77 = .ok (.dup, 1) := dk_89 (dk_at dksJ1_putVal_3 8 rfl rfl)
theorem dJ1_putVal_78 : decode cJ1_putVal 78 = .ok (.astore 11, 2) := dk_58 11 (dk_at dksJ1_putVal_3 9 rfl rfl)
theorem dJ1_putVal_80 : decode cJ1_putVal 80 = .ok (.aload_n 2, 1) := dk_44 (dk_at dksJ1_putVal_3 11 rfl rfl)
theorem dJ1_putVal_81 : decode cJ1_putVal 81 = .ok (.if_acmp .eq 16, 3) := dk_165 0 16 (dk_at dksJ1_putVal_3 12 rfl rfl)
theorem dJ1_putVal_84 : decode cJ1_putVal 84 = .ok (.aload_n 2, 1) := dk_44 (dk_at dksJ1_putVal_3 15 rfl rfl)
theorem dJ1_putVal_85 : decode cJ1_putVal 85 = .ok (.ifnull 19, 3) := dk_198 0 19 (dk_at dksJ1_putVal_3 16 rfl rfl)
theorem dJ1_putVal_88 : decode cJ1_putVal 88 = .ok (.aload_n 2, 1) := dk_44 (dk_at dksJ1_putVal_3 19 rfl rfl)
theorem dJ1_putVal_89 : decode cJ1_putVal 89 = .ok (.aload 11, 2) := dk_25 11 (dk_at dksJ1_putVal_3 20 rfl rfl)
theorem dJ1_putVal_91 : decode cJ1_putVal 91 = .ok (.invokevirtual 173, 3) := dk_182 0 173 (dk_at dksJ1_putVal_4 0 rfl rfl)
theorem dJ1_putVal_94 : decode cJ1_putVal 94 = .ok (.ifCond .eq 10, 3) := dk_153 0 10 (dk_at dksJ1_putVal_4 3 rfl rfl)
theorem dJ1_putVal_97 : decode cJ1_putVal 97 = .ok (.aload 7, 2) := dk_25 7 (dk_at dksJ1_putVal_4 6 rfl rfl)
theorem dJ1_putVal_99 : decode cJ1_putVal 99 = .ok (.astore 10, 2) := dk_58 10 (dk_at dksJ1_putVal_4 8 rfl rfl)
theorem dJ1_putVal_101 : decode cJ1_putVal 101 = .ok (.goto 121, 3) := dk_167 0 121 (dk_at dksJ1_putVal_4 10 rfl rfl)
theorem dJ1_putVal_104 : decode cJ1_putVal 104 = .ok (.aload 7, 2) := dk_25 7 (dk_at dksJ1_putVal_4 13 rfl rfl)
theorem dJ1_putVal_106 : decode cJ1_putVal 106 = .ok (.instanceof 180, 3) := dk_193 0 180 (dk_at dksJ1_putVal_4 15 rfl rfl)
theorem dJ1_putVal_109 : decode cJ1_putVal 109 = .ok (.ifCond .eq 22, 3) := dk_153 0 22 (dk_at dksJ1_putVal_4 18 rfl rfl)
theorem dJ1_putVal_112 : decode cJ1_putVal 112 = .ok (.aload 7, 2) := dk_25 7 (dk_at dksJ1_putVal_4 21 rfl rfl)
theorem dJ1_putVal_114 : decode cJ1_putVal 114 = .ok (.checkcast 180, 3) := dk_192 0 180 (dk_at dksJ1_putVal_5 0 rfl rfl)
theorem dJ1_putVal_117 : decode cJ1_putVal 117 = .ok (.aload_n 0, 1) := dk_42 (dk_at dksJ1_putVal_5 3 rfl rfl)
theorem dJ1_putVal_118 : decode cJ1_putVal 118 = .ok (.aload 6, 2) := dk_25 6 (dk_at dksJ1_putVal_5 4 rfl rfl)
theorem dJ1_putVal_120 : decode cJ1_putVal 120 = .ok (.iload_n 1, 1) := dk_27 (dk_at dksJ1_putVal_5 6 rfl rfl)
theorem dJ1_putVal_121 : decode cJ1_putVal 121 = .ok (.aload_n 2, 1) := dk_44 (dk_at dksJ1_putVal_5 7 rfl rfl)
theorem dJ1_putVal_122 : decode cJ1_putVal 122 = .ok (.aload_n 3, 1) := dk_45 (dk_at dksJ1_putVal_5 8 rfl rfl)
theorem dJ1_putVal_123 : decode cJ1_putVal 123 = .ok (.invokevirtual 190, 3) := dk_182 0 190 (dk_at dksJ1_putVal_5 9 rfl rfl)
theorem dJ1_putVal_126 : decode cJ1_putVal 126 = .ok (.astore 10, 2) := dk_58 10 (dk_at dksJ1_putVal_5 12 rfl rfl)
theorem dJ1_putVal_128 : decode cJ1_putVal 128 = .ok (.goto 94, 3) := dk_167 0 94 (dk_at dksJ1_putVal_5 14 rfl rfl)
theorem dJ1_putVal_131 : decode cJ1_putVal 131 = .ok (.iconst 0, 1) := dk_3 (dk_at dksJ1_putVal_5 17 rfl rfl)
theorem dJ1_putVal_132 : decode cJ1_putVal 132 = .ok (.istore 12, 2) := dk_54 12 (dk_at dksJ1_putVal_5 18 rfl rfl)
theorem dJ1_putVal_134 : decode cJ1_putVal 134 = .ok (.aload 7, 2) := dk_25 7 (dk_at dksJ1_putVal_5 20 rfl rfl)
theorem dJ1_putVal_136 : decode cJ1_putVal 136 = .ok (.getfield 177, 3) := dk_180 0 177 (dk_at dksJ1_putVal_6 0 rfl rfl)
theorem dJ1_putVal_139 : decode cJ1_putVal 139 = .ok (.dup, 1) := dk_89 (dk_at dksJ1_putVal_6 3 rfl rfl)
theorem dJ1_putVal_140 : decode cJ1_putVal 140 = .ok (.astore 10, 2) := dk_58 10 (dk_at dksJ1_putVal_6 4 rfl rfl)
theorem dJ1_putVal_142 : decode cJ1_putVal 142 = .ok (.ifnonnull 33, 3) := dk_199 0 33 (dk_at dksJ1_putVal_6 6 rfl rfl)
theorem dJ1_putVal_145 : decode cJ1_putVal 145 = .ok (.aload 7, 2) := dk_25 7 (dk_at dksJ1_putVal_6 9 rfl rfl)
theorem dJ1_putVal_147 : decode cJ1_putVal 147 = .ok (.aload_n 0, 1) := dk_42 (dk_at dksJ1_putVal_6 11 rfl rfl)
theorem dJ1_putVal_148 : decode cJ1_putVal 148 = .ok (.iload_n 1, 1) := dk_27 (dk_at dksJ1_putVal_6 12 rfl rfl)
theorem dJ1_putVal_149 : decode cJ1_putVal 149 = .ok (.aload_n 2, 1) := dk_44 (dk_at dksJ1_putVal_6 13 rfl rfl)
theorem dJ1_putVal_150 : decode cJ1_putVal 150 = .ok (.aload_n 3, 1) := dk_45 (dk_at dksJ1_putVal_6 14 rfl rfl)
theorem dJ1_putVal_151 : decode cJ1_putVal 151 = .ok (.aconst_null, 1) := dk_1 (dk_at dksJ1_putVal_6 15 rfl rfl)
theorem dJ1_putVal_152 : decode cJ1_putVal 152 = .ok (.invokevirtual 186, 3) := dk_182 0 186 (dk_at dksJ1_putVal_6 16 rfl rfl)
theorem dJ1_putVal_155 : decode cJ1_putVal 155 = .ok (.putfield 177, 3) := dk_181 0 177 (dk_at dksJ1_putVal_6 19 rfl rfl)
theorem dJ1_putVal_158 : decode cJ1_putVal 158 = .ok (.iload 12, 2) := dk_21 12 (dk_at dksJ1_putVal_6 22 rfl rfl)
theorem dJ1_putVal_160 : decode cJ1_putVal 160 = .ok (.bipush 7, 2) := dk_16 7 (dk_at dksJ1_putVal_7 0 rfl rfl)
theorem dJ1_putVal_162 : decode cJ1_putVal 162 = .ok (.if_icmp .lt 60, 3) := dk_161 0 60 (dk_at dksJ1_putVal_7 2 rfl rfl)
theorem dJ1_putVal_165 : decode cJ1_putVal 165 = .ok (.aload_n 0, 1) := dk_42 (dk_at dksJ1_putVal_7 5 rfl rfl)
theorem dJ1_putVal_166 : decode cJ1_putVal 166 = .ok (.aload 6, 2) := dk_25 6 (dk_at dksJ1_putVal_7 6 rfl rfl)
theorem dJ1_putVal_168 : decode cJ1_putVal 168 = .ok (.iload_n 1, 1) := dk_27 (dk_at dksJ1_putVal_7 8 rfl rfl)
theorem dJ1_putVal_169 : decode cJ1_putVal 169 = .ok (.invokevirtual 194, 3) := dk_182 0 194 (dk_at dksJ1_putVal_7 9 rfl rfl)
theorem dJ1_putVal_172 : decode cJ1_putVal 172 = .ok (.goto 50, 3) := dk_167 0 50 (dk_at dksJ1_putVal_7 12 rfl rfl)
theorem dJ1_putVal_175 : decode cJ1_putVal 175 = .ok (.aload 10, 2) := dk_25 10 (dk_at dksJ1_putVal_7 15 rfl rfl)
theorem dJ1_putVal_177 : decode cJ1_putVal 177 = .ok (.getfield 168, 3) := dk_180 0 168 (dk_at dksJ1_putVal_7 17 rfl rfl)
theorem dJ1_putVal_180 : decode cJ1_putVal 180 = .ok (.iload_n 1, 1) := dk_27 (dk_at dksJ1_putVal_7 20 rfl rfl)
theorem dJ1_putVal_181 : decode cJ1_putVal 181 = .ok (.if_icmp .ne 31, 3) := dk_160 0 31 (dk_at dksJ1_putVal_7 21 rfl rfl)
theorem dJ1_putVal_184 : decode cJ1_putVal 184 = .ok (.aload 10, 2) := dk_25 10 (dk_at dksJ1_putVal_8 0 rfl rfl)
theorem dJ1_putVal_186 : decode cJ1_putVal 186 = .ok (.getfield 170, 3) := dk_180 0 170 (dk_at dksJ1_putVal_8 2 rfl rfl)
theorem dJ1_putVal_189 : decode cJ1_putVal 189 = .ok (.dup, 1) := dk_89 (dk_at dksJ1_putVal_8 5 rfl rfl)
theorem dJ1_putVal_190 : decode cJ1_putVal 190 = .ok (.astore 11, 2) := dk_58 11 (dk_at dksJ1_putVal_8 6 rfl rfl)
theorem dJ1_putVal_192 : decode cJ1_putVal 192 = .ok (.aload_n 2, 1) := dk_44 (dk_at dksJ1_putVal_8 8 rfl rfl)
theorem dJ1_putVal_193 : decode cJ1_putVal 193 = .ok (.if_acmp .eq 29, 3) := dk_165 0 29 (dk_at dksJ1_putVal_8 9 rfl rfl)
theorem dJ1_putVal_196 : decode cJ1_putVal 196 = .ok (.aload_n 2, 1) := dk_44 (dk_at dksJ1_putVal_8 12 rfl rfl)
theorem dJ1_putVal_197 : decode cJ1_putVal 197 = .ok (.ifnull 15, 3) := dk_198 0 15 (dk_at dksJ1_putVal_8 13 rfl rfl)
theorem dJ1_putVal_200 : decode cJ1_putVal 200 = .ok (.aload_n 2, 1) := dk_44 (dk_at dksJ1_putVal_8 16 rfl rfl)
theorem dJ1_putVal_201 : decode cJ1_putVal 201 = .ok (.aload 11, 2) := dk_25 11 (dk_at dksJ1_putVal_8 17 rfl rfl)
theorem dJ1_putVal_203 : decode cJ1_putVal 203 = .ok (.invokevirtual 173, 3) := dk_182 0 173 (dk_at dksJ1_putVal_8 19 rfl rfl)
theorem dJ1_putVal_206 : decode cJ1_putVal 206 = .ok (.ifCond .eq 6, 3) := dk_153 0 6 (dk_at dksJ1_putVal_9 0 rfl rfl)
theorem dJ1_putVal_209 : decode cJ1_putVal 209 = .ok (.goto 13, 3) := dk_167 0 13 (dk_at dksJ1_putVal_9 3 rfl rfl)
theorem dJ1_putVal_212 : decode cJ1_putVal 212 = .ok (.aload 10, 2) := dk_25 10 (dk_at dksJ1_putVal_9 6 rfl rfl)
theorem dJ1_putVal_214 : decode cJ1_putVal 214 = .ok (.astore 7, 2) := dk_58 7 (dk_at dksJ1_putVal_9 8 rfl rfl)
theorem dJ1_putVal_216 : decode cJ1_putVal 216 = .ok (.iinc 12 1, 3) := dk_132 12 1 (dk_at dksJ1_putVal_9 10 rfl rfl)
theorem dJ1_putVal_219 : decode cJ1_putVal 219 = .ok (.goto (-85), 3) := dk_167 255 171 (dk_at dksJ1_putVal_9 13 rfl rfl)
theorem dJ1_putVal_222 : decode cJ1_putVal 222 = .ok (.aload 10, 2) := dk_25 10 (dk_at dksJ1_putVal_9 16 rfl rfl)
theorem dJ1_putVal_224 : decode cJ1_putVal 224 = .ok (.ifnull 35, 3) := dk_198 0 35 (dk_at dksJ1_putVal_9 18 rfl rfl)
theorem dJ1_putVal_227 : decode cJ1_putVal 227 = .ok (.aload 10, 2) := dk_25 10 (dk_at dksJ1_putVal_9 21 rfl rfl)
theorem dJ1_putVal_229 : decode cJ1_putVal 229 = .ok (.getfield 162, 3) := dk_180 0 162 (dk_at dksJ1_putVal_10 0 rfl rfl)
theorem dJ1_putVal_232 : decode cJ1_putVal 232 = .ok (.astore 12, 2) := dk_58 12 (dk_at dksJ1_putVal_10 3 rfl rfl)
theorem dJ1_putVal_234 : decode cJ1_putVal 234 = .ok (.iload 4, 2) := dk_21 4 (dk_at dksJ1_putVal_10 5 rfl rfl)
theorem dJ1_putVal_236 : decode cJ1_putVal 236 = .ok (.ifCond .eq 8, 3) := dk_153 0 8 (dk_at dksJ1_putVal_10 7 rfl rfl)
theorem dJ1_putVal_239 : decode cJ1_putVal 239 = .ok (.aload 12, 2) := dk_25 12 (dk_at dksJ1_putVal_10 10 rfl rfl)
theorem dJ1_putVal_241 : decode cJ1_putVal 241 = .ok (.ifnonnull 9, 3) := dk_199 0 9 (dk_at dksJ1_putVal_10 12 rfl rfl)
theorem dJ1_putVal_244 : decode cJ1_putVal 244 = .ok (.aload 10, 2) := dk_25 10 (dk_at dksJ1_putVal_10 15 rfl rfl)
theorem dJ1_putVal_246 : decode cJ1_putVal 246 = .ok (.aload_n 3, 1) := dk_45 (dk_at dksJ1_putVal_10 17 rfl rfl)
theorem dJ1_putVal_247 : decode cJ1_putVal 247 = .ok (.putfield 162, 3) := dk_181 0 162 (dk_at dksJ1_putVal_10 18 rfl rfl)
theorem dJ1_putVal_250 : decode cJ1_putVal 250 = .ok (.aload_n 0, 1) := dk_42 (dk_at dksJ1_putVal_10 21 rfl rfl)
theorem dJ1_putVal_251 : decode cJ1_putVal 251 = .ok (.aload 10, 2) := dk_25 10 (dk_at dksJ1_putVal_10 22 rfl rfl)
theorem dJ1_putVal_253 : decode cJ1_putVal 253 = .ok (.invokevirtual 198, 3) := dk_182 0 198 (dk_at dksJ1_putVal_11 0 rfl rfl)
theorem dJ1_putVal_256 : decode cJ1_putVal 256 = .ok (.aload 12, 2) := dk_25 12 (dk_at dksJ1_putVal_11 3 rfl rfl)
theorem dJ1_putVal_258 : decode cJ1_putVal 258 = .ok (.areturn, 1) := dk_176 (dk_at dksJ1_putVal_11 5 rfl rfl)
theorem dJ1_putVal_259 : decode cJ1_putVal 259 = .ok (.aload_n 0, 1) := dk_42 (dk_at dksJ1_putVal_11 6 rfl rfl)
theorem dJ1_putVal_260 : decode cJ1_putVal 260 = .ok (.dup, 1) := dk_89 (dk_at dksJ1_putVal_11 7 rfl rfl)
theorem dJ1_putVal_261 : decode cJ1_putVal 261 = .ok (.getfield 202, 3) := dk_180 0 202 (dk_at dksJ1_putVal_11 8 rfl rfl)
theorem dJ1_putVal_264 : decode cJ1_putVal 264 = .ok (.iconst 1, 1) := dk_4 (dk_at dksJ1_putVal_11 11 rfl rfl)
theorem dJ1_putVal_265 : decode cJ1_putVal 265 = .ok (.iadd, 1) := dk_96 (dk_at dksJ1_putVal_11 12 rfl rfl)
theorem dJ1_putVal_266 : decode cJ1_putVal 266 = .ok (.putfield 202, 3) := dk_181 0 202 (dk_at dksJ1_putVal_11 13 rfl rfl)
theorem dJ1_putVal_269 : decode cJ1_putVal 269 = .ok (.aload_n 0, 1) := dk_42 (dk_at dksJ1_putVal_11 16 rfl rfl)
theorem dJ1_putVal_270 : decode cJ1_putVal 270 = .ok (.dup, 1) := dk_89 (dk_at dksJ1_putVal_11 17 rfl rfl)
theorem dJ1_putVal_271 : decode cJ1_putVal 271 = .ok (.getfield 156, 3) := dk_180 0 156 (dk_at dksJ1_putVal_11 18 rfl rfl)
theorem dJ1_putVal_274 : decode cJ1_putVal 274 = .ok (.iconst 1, 1) := dk_4 (dk_at dksJ1_putVal_11 21 rfl rfl)
theorem dJ1_putVal_275 : decode cJ1_putVal 275 = .ok (.iadd, 1) := dk_96 (dk_at dksJ1_putVal_11 22 rfl rfl)
theorem dJ1_putVal_276 : decode cJ1_putVal 276 = .ok (.dup_x1, 1) := dk_90 (dk_at dksJ1_putVal_11 23 rfl rfl)
theorem dJ1_putVal_277 : decode cJ1_putVal 277 = .ok (.putfield 156, 3) := dk_181 0 156 (dk_at dksJ1_putVal_12 0 rfl rfl)
theorem dJ1_putVal_280 : decode cJ1_putVal 280 = .ok (.aload_n 0, 1) := dk_42 (dk_at dksJ1_putVal_12 3 rfl rfl)
theorem dJ1_putVal_281 : decode cJ1_putVal 281 = .ok (.getfield 88, 3) := dk_180 0 88 (dk_at dksJ1_putVal_12 4 rfl rfl)
theorem dJ1_putVal_284 : decode cJ1_putVal 284 = .ok (.if_icmp .le 8, 3) := dk_164 0 8 (dk_at dksJ1_putVal_12 7 rfl rfl)
theorem dJ1_putVal_287 : decode cJ1_putVal 287 = .ok (.aload_n 0, 1) := dk_42 (dk_at dksJ1_putVal_12 10 rfl rfl)
theorem dJ1_putVal_288 : decode cJ1_putVal 288 = .ok (.invokevirtual 117, 3) := dk_182 0 117 (dk_at dksJ1_putVal_12 11 rfl rfl)
theorem dJ1_putVal_291 : decode cJ1_putVal 291 = .ok (.pop, 1) := dk_87 (dk_at dksJ1_putVal_12 14 rfl rfl)
theorem dJ1_putVal_292 : decode cJ1_putVal 292 = .ok (.aload_n 0, 1) := dk_42 (dk_at dksJ1_putVal_12 15 rfl rfl)
theorem dJ1_putVal_293 : decode cJ1_putVal 293 = .ok (.iload 5, 2) := dk_21 5 (dk_at dksJ1_putVal_12 16 rfl rfl)
theorem dJ1_putVal_295 : decode cJ1_putVal 295 = .ok (.invokevirtual 205, 3) := dk_182 0 205 (dk_at dksJ1_putVal_12 18 rfl rfl)
theorem dJ1_putVal_298 : decode cJ1_putVal 298 = .ok (.aconst_null, 1) := dk_1 (dk_at dksJ1_putVal_12 21 rfl rfl)
theorem dJ1_putVal_299 : decode cJ1_putVal 299 = .ok (.areturn, 1) := dk_176 (dk_at dksJ1_putVal_12 22 rfl rfl)
abbrev cJ1_resize : ByteArray := prog_53_method_17_code
def yJ1_resize : MethodName := ⟨RJ1, "resize", "()[Ljava/util/HashMap$Node;"⟩
def dkwJ1_resize_15 : List UInt8 := [25, 6, 176]
abbrev dktJ1_resize_15 : List UInt8 := dkwJ1_resize_15 ++ []
def dkwJ1_resize_14 : List UInt8 := [198, 0, 18, 25, 12, 1, 181, 0, 177, 25, 6, 21, 7, 28, 96, 25, 11, 83, 132, 7, 1, 167, 255, 57]
abbrev dktJ1_resize_14 : List UInt8 := dkwJ1_resize_14 ++ dktJ1_resize_15
def dkwJ1_resize_13 : List UInt8 := [199, 255, 185, 25, 10, 198, 0, 16, 25, 10, 1, 181, 0, 177, 25, 6, 21, 7, 25, 9, 83, 25, 12]
abbrev dktJ1_resize_13 : List UInt8 := dkwJ1_resize_13 ++ dktJ1_resize_14
def dkwJ1_resize_12 : List UInt8 := [25, 8, 58, 11, 167, 0, 10, 25, 12, 25, 8, 181, 0, 177, 25, 8, 58, 12, 25, 13, 89, 58, 8]
abbrev dktJ1_resize_12 : List UInt8 := dkwJ1_resize_12 ++ dktJ1_resize_13
def dkwJ1_resize_11 : List UInt8 := [58, 9, 167, 0, 10, 25, 10, 25, 8, 181, 0, 177, 25, 8, 58, 10, 167, 0, 26, 25, 12, 199, 0, 10]
abbrev dktJ1_resize_11 : List UInt8 := dkwJ1_resize_11 ++ dktJ1_resize_12
def dkwJ1_resize_10 : List UInt8 := [25, 8, 180, 0, 177, 58, 13, 25, 8, 180, 0, 168, 28, 126, 154, 0, 29, 25, 10, 199, 0, 10, 25, 8]
abbrev dktJ1_resize_10 : List UInt8 := dkwJ1_resize_10 ++ dktJ1_resize_11
def dkwJ1_resize_9 : List UInt8 := [42, 25, 6, 21, 7, 28, 182, 0, 211, 167, 0, 127, 1, 58, 9, 1, 58, 10, 1, 58, 11, 1, 58, 12]
abbrev dktJ1_resize_9 : List UInt8 := dkwJ1_resize_9 ++ dktJ1_resize_10
def dkwJ1_resize_8 : List UInt8 := [21, 4, 4, 100, 126, 25, 8, 83, 167, 0, 152, 25, 8, 193, 0, 180, 153, 0, 20, 25, 8, 192, 0, 180]
abbrev dktJ1_resize_8 : List UInt8 := dkwJ1_resize_8 ++ dktJ1_resize_9
def dkwJ1_resize_7 : List UInt8 := [198, 0, 183, 43, 21, 7, 1, 83, 25, 8, 180, 0, 177, 199, 0, 21, 25, 6, 25, 8, 180, 0, 168]
abbrev dktJ1_resize_7 : List UInt8 := dkwJ1_resize_7 ++ dktJ1_resize_8
def dkwJ1_resize_6 : List UInt8 := [181, 0, 105, 43, 198, 0, 208, 3, 54, 7, 21, 7, 28, 162, 0, 199, 43, 21, 7, 50, 89, 58, 8]
abbrev dktJ1_resize_6 : List UInt8 := dkwJ1_resize_6 ++ dktJ1_resize_7
def dkwJ1_resize_5 : List UInt8 := [167, 0, 5, 18, 209, 54, 5, 42, 21, 5, 181, 0, 88, 21, 4, 189, 0, 163, 58, 6, 42, 25, 6]
abbrev dktJ1_resize_5 : List UInt8 := dkwJ1_resize_5 ++ dktJ1_resize_6
def dkwJ1_resize_4 : List UInt8 := [180, 0, 81, 106, 56, 6, 21, 4, 18, 42, 162, 0, 17, 23, 6, 18, 210, 150, 156, 0, 9, 23, 6, 139]
abbrev dktJ1_resize_4 : List UInt8 := dkwJ1_resize_4 ++ dktJ1_resize_5
def dkwJ1_resize_3 : List UInt8 := [54, 4, 167, 0, 11, 16, 16, 54, 4, 16, 12, 54, 5, 21, 5, 154, 0, 38, 21, 4, 134, 42]
abbrev dktJ1_resize_3 : List UInt8 := dkwJ1_resize_3 ++ dktJ1_resize_4
def dkwJ1_resize_2 : List UInt8 := [18, 42, 162, 0, 35, 28, 16, 16, 161, 0, 29, 29, 4, 120, 54, 5, 167, 0, 21, 29, 158, 0, 9, 29]
abbrev dktJ1_resize_2 : List UInt8 := dkwJ1_resize_2 ++ dktJ1_resize_3
def dkwJ1_resize_1 : List UInt8 := [28, 158, 0, 42, 28, 18, 42, 161, 0, 11, 42, 18, 209, 181, 0, 88, 43, 176, 28, 4, 120, 89, 54, 4]
abbrev dktJ1_resize_1 : List UInt8 := dkwJ1_resize_1 ++ dktJ1_resize_2
def dkwJ1_resize_0 : List UInt8 := [42, 180, 0, 105, 76, 43, 199, 0, 7, 3, 167, 0, 5, 43, 190, 61, 42, 180, 0, 88, 62, 3, 54, 5]
abbrev dktJ1_resize_0 : List UInt8 := dkwJ1_resize_0 ++ dktJ1_resize_1
theorem dksJ1_resize_0 : cJ1_resize.data.toList.drop 0 = dktJ1_resize_0 := by decide +kernel
theorem dksJ1_resize_1 : cJ1_resize.data.toList.drop 24 = dktJ1_resize_1 := dk_seg dksJ1_resize_0 24 rfl rfl
theorem dksJ1_resize_2 : cJ1_resize.data.toList.drop 48 = dktJ1_resize_2 := dk_seg dksJ1_resize_1 24 rfl rfl
theorem dksJ1_resize_3 : cJ1_resize.data.toList.drop 72 = dktJ1_resize_3 := dk_seg dksJ1_resize_2 24 rfl rfl
theorem dksJ1_resize_4 : cJ1_resize.data.toList.drop 94 = dktJ1_resize_4 := dk_seg dksJ1_resize_3 22 rfl rfl
theorem dksJ1_resize_5 : cJ1_resize.data.toList.drop 118 = dktJ1_resize_5 := dk_seg dksJ1_resize_4 24 rfl rfl
theorem dksJ1_resize_6 : cJ1_resize.data.toList.drop 141 = dktJ1_resize_6 := dk_seg dksJ1_resize_5 23 rfl rfl
theorem dksJ1_resize_7 : cJ1_resize.data.toList.drop 164 = dktJ1_resize_7 := dk_seg dksJ1_resize_6 23 rfl rfl
theorem dksJ1_resize_8 : cJ1_resize.data.toList.drop 187 = dktJ1_resize_8 := dk_seg dksJ1_resize_7 23 rfl rfl
theorem dksJ1_resize_9 : cJ1_resize.data.toList.drop 211 = dktJ1_resize_9 := dk_seg dksJ1_resize_8 24 rfl rfl
theorem dksJ1_resize_10 : cJ1_resize.data.toList.drop 235 = dktJ1_resize_10 := dk_seg dksJ1_resize_9 24 rfl rfl
theorem dksJ1_resize_11 : cJ1_resize.data.toList.drop 259 = dktJ1_resize_11 := dk_seg dksJ1_resize_10 24 rfl rfl
theorem dksJ1_resize_12 : cJ1_resize.data.toList.drop 283 = dktJ1_resize_12 := dk_seg dksJ1_resize_11 24 rfl rfl
theorem dksJ1_resize_13 : cJ1_resize.data.toList.drop 306 = dktJ1_resize_13 := dk_seg dksJ1_resize_12 23 rfl rfl
theorem dksJ1_resize_14 : cJ1_resize.data.toList.drop 329 = dktJ1_resize_14 := dk_seg dksJ1_resize_13 23 rfl rfl
theorem dksJ1_resize_15 : cJ1_resize.data.toList.drop 353 = dktJ1_resize_15 := dk_seg dksJ1_resize_14 24 rfl rfl
theorem dJ1_resize_0 : decode cJ1_resize 0 = .ok (.aload_n 0, 1) := dk_42 (dk_at dksJ1_resize_0 0 rfl rfl)
theorem dJ1_resize_1 : decode cJ1_resize 1 = .ok (.getfield 105, 3) := dk_180 0 105 (dk_at dksJ1_resize_0 1 rfl rfl)
theorem dJ1_resize_4 : decode cJ1_resize 4 = .ok (.astore_n 1, 1) := dk_76 (dk_at dksJ1_resize_0 4 rfl rfl)
theorem dJ1_resize_5 : decode cJ1_resize 5 = .ok (.aload_n 1, 1) := dk_43 (dk_at dksJ1_resize_0 5 rfl rfl)
theorem dJ1_resize_6 : decode cJ1_resize 6 = .ok (.ifnonnull 7, 3) := dk_199 0 7 (dk_at dksJ1_resize_0 6 rfl rfl)
theorem dJ1_resize_9 : decode cJ1_resize 9 = .ok (.iconst 0, 1) := dk_3 (dk_at dksJ1_resize_0 9 rfl rfl)
theorem dJ1_resize_10 : decode cJ1_resize 10 = .ok (.goto 5, 3) := dk_167 0 5 (dk_at dksJ1_resize_0 10 rfl rfl)
theorem dJ1_resize_13 : decode cJ1_resize 13 = .ok (.aload_n 1, 1) := dk_43 (dk_at dksJ1_resize_0 13 rfl rfl)
theorem dJ1_resize_14 : decode cJ1_resize 14 = .ok (.arraylength, 1) := dk_190 (dk_at dksJ1_resize_0 14 rfl rfl)
theorem dJ1_resize_15 : decode cJ1_resize 15 = .ok (.istore_n 2, 1) := dk_61 (dk_at dksJ1_resize_0 15 rfl rfl)
theorem dJ1_resize_16 : decode cJ1_resize 16 = .ok (.aload_n 0, 1) := dk_42 (dk_at dksJ1_resize_0 16 rfl rfl)
theorem dJ1_resize_17 : decode cJ1_resize 17 = .ok (.getfield 88, 3) := dk_180 0 88 (dk_at dksJ1_resize_0 17 rfl rfl)
theorem dJ1_resize_20 : decode cJ1_resize 20 = .ok (.istore_n 3, 1) := dk_62 (dk_at dksJ1_resize_0 20 rfl rfl)
theorem dJ1_resize_21 : decode cJ1_resize 21 = .ok (.iconst 0, 1) := dk_3 (dk_at dksJ1_resize_0 21 rfl rfl)
theorem dJ1_resize_22 : decode cJ1_resize 22 = .ok (.istore 5, 2) := dk_54 5 (dk_at dksJ1_resize_0 22 rfl rfl)
theorem dJ1_resize_24 : decode cJ1_resize 24 = .ok (.iload_n 2, 1) := dk_28 (dk_at dksJ1_resize_1 0 rfl rfl)
theorem dJ1_resize_25 : decode cJ1_resize 25 = .ok (.ifCond .le 42, 3) := dk_158 0 42 (dk_at dksJ1_resize_1 1 rfl rfl)
theorem dJ1_resize_28 : decode cJ1_resize 28 = .ok (.iload_n 2, 1) := dk_28 (dk_at dksJ1_resize_1 4 rfl rfl)
theorem dJ1_resize_29 : decode cJ1_resize 29 = .ok (.ldc 42, 2) := dk_18 42 (dk_at dksJ1_resize_1 5 rfl rfl)
theorem dJ1_resize_31 : decode cJ1_resize 31 = .ok (.if_icmp .lt 11, 3) := dk_161 0 11 (dk_at dksJ1_resize_1 7 rfl rfl)
theorem dJ1_resize_34 : decode cJ1_resize 34 = .ok (.aload_n 0, 1) := dk_42 (dk_at dksJ1_resize_1 10 rfl rfl)
theorem dJ1_resize_35 : decode cJ1_resize 35 = .ok (.ldc 209, 2) := dk_18 209 (dk_at dksJ1_resize_1 11 rfl rfl)
theorem dJ1_resize_37 : decode cJ1_resize 37 = .ok (.putfield 88, 3) := dk_181 0 88 (dk_at dksJ1_resize_1 13 rfl rfl)
theorem dJ1_resize_40 : decode cJ1_resize 40 = .ok (.aload_n 1, 1) := dk_43 (dk_at dksJ1_resize_1 16 rfl rfl)
theorem dJ1_resize_41 : decode cJ1_resize 41 = .ok (.areturn, 1) := dk_176 (dk_at dksJ1_resize_1 17 rfl rfl)
theorem dJ1_resize_42 : decode cJ1_resize 42 = .ok (.iload_n 2, 1) := dk_28 (dk_at dksJ1_resize_1 18 rfl rfl)
theorem dJ1_resize_43 : decode cJ1_resize 43 = .ok (.iconst 1, 1) := dk_4 (dk_at dksJ1_resize_1 19 rfl rfl)
theorem dJ1_resize_44 : decode cJ1_resize 44 = .ok (.ishl, 1) := dk_120 (dk_at dksJ1_resize_1 20 rfl rfl)
theorem dJ1_resize_45 : decode cJ1_resize 45 = .ok (.dup, 1) := dk_89 (dk_at dksJ1_resize_1 21 rfl rfl)
theorem dJ1_resize_46 : decode cJ1_resize 46 = .ok (.istore 4, 2) := dk_54 4 (dk_at dksJ1_resize_1 22 rfl rfl)
theorem dJ1_resize_48 : decode cJ1_resize 48 = .ok (.ldc 42, 2) := dk_18 42 (dk_at dksJ1_resize_2 0 rfl rfl)
theorem dJ1_resize_50 : decode cJ1_resize 50 = .ok (.if_icmp .ge 35, 3) := dk_162 0 35 (dk_at dksJ1_resize_2 2 rfl rfl)
theorem dJ1_resize_53 : decode cJ1_resize 53 = .ok (.iload_n 2, 1) := dk_28 (dk_at dksJ1_resize_2 5 rfl rfl)
theorem dJ1_resize_54 : decode cJ1_resize 54 = .ok (.bipush 16, 2) := dk_16 16 (dk_at dksJ1_resize_2 6 rfl rfl)
theorem dJ1_resize_56 : decode cJ1_resize 56 = .ok (.if_icmp .lt 29, 3) := dk_161 0 29 (dk_at dksJ1_resize_2 8 rfl rfl)
theorem dJ1_resize_59 : decode cJ1_resize 59 = .ok (.iload_n 3, 1) := dk_29 (dk_at dksJ1_resize_2 11 rfl rfl)
theorem dJ1_resize_60 : decode cJ1_resize 60 = .ok (.iconst 1, 1) := dk_4 (dk_at dksJ1_resize_2 12 rfl rfl)
theorem dJ1_resize_61 : decode cJ1_resize 61 = .ok (.ishl, 1) := dk_120 (dk_at dksJ1_resize_2 13 rfl rfl)
theorem dJ1_resize_62 : decode cJ1_resize 62 = .ok (.istore 5, 2) := dk_54 5 (dk_at dksJ1_resize_2 14 rfl rfl)
theorem dJ1_resize_64 : decode cJ1_resize 64 = .ok (.goto 21, 3) := dk_167 0 21 (dk_at dksJ1_resize_2 16 rfl rfl)
theorem dJ1_resize_67 : decode cJ1_resize 67 = .ok (.iload_n 3, 1) := dk_29 (dk_at dksJ1_resize_2 19 rfl rfl)
theorem dJ1_resize_68 : decode cJ1_resize 68 = .ok (.ifCond .le 9, 3) := dk_158 0 9 (dk_at dksJ1_resize_2 20 rfl rfl)
theorem dJ1_resize_71 : decode cJ1_resize 71 = .ok (.iload_n 3, 1) := dk_29 (dk_at dksJ1_resize_2 23 rfl rfl)
theorem dJ1_resize_72 : decode cJ1_resize 72 = .ok (.istore 4, 2) := dk_54 4 (dk_at dksJ1_resize_3 0 rfl rfl)
theorem dJ1_resize_74 : decode cJ1_resize 74 = .ok (.goto 11, 3) := dk_167 0 11 (dk_at dksJ1_resize_3 2 rfl rfl)
theorem dJ1_resize_77 : decode cJ1_resize 77 = .ok (.bipush 16, 2) := dk_16 16 (dk_at dksJ1_resize_3 5 rfl rfl)
theorem dJ1_resize_79 : decode cJ1_resize 79 = .ok (.istore 4, 2) := dk_54 4 (dk_at dksJ1_resize_3 7 rfl rfl)
theorem dJ1_resize_81 : decode cJ1_resize 81 = .ok (.bipush 12, 2) := dk_16 12 (dk_at dksJ1_resize_3 9 rfl rfl)
theorem dJ1_resize_83 : decode cJ1_resize 83 = .ok (.istore 5, 2) := dk_54 5 (dk_at dksJ1_resize_3 11 rfl rfl)
theorem dJ1_resize_85 : decode cJ1_resize 85 = .ok (.iload 5, 2) := dk_21 5 (dk_at dksJ1_resize_3 13 rfl rfl)
theorem dJ1_resize_87 : decode cJ1_resize 87 = .ok (.ifCond .ne 38, 3) := dk_154 0 38 (dk_at dksJ1_resize_3 15 rfl rfl)
theorem dJ1_resize_90 : decode cJ1_resize 90 = .ok (.iload 4, 2) := dk_21 4 (dk_at dksJ1_resize_3 18 rfl rfl)
theorem dJ1_resize_92 : decode cJ1_resize 92 = .ok (.i2f, 1) := dk_134 (dk_at dksJ1_resize_3 20 rfl rfl)
theorem dJ1_resize_93 : decode cJ1_resize 93 = .ok (.aload_n 0, 1) := dk_42 (dk_at dksJ1_resize_3 21 rfl rfl)
theorem dJ1_resize_94 : decode cJ1_resize 94 = .ok (.getfield 81, 3) := dk_180 0 81 (dk_at dksJ1_resize_4 0 rfl rfl)
theorem dJ1_resize_97 : decode cJ1_resize 97 = .ok (.fmul, 1) := dk_106 (dk_at dksJ1_resize_4 3 rfl rfl)
theorem dJ1_resize_98 : decode cJ1_resize 98 = .ok (.fstore 6, 2) := dk_56 6 (dk_at dksJ1_resize_4 4 rfl rfl)
theorem dJ1_resize_100 : decode cJ1_resize 100 = .ok (.iload 4, 2) := dk_21 4 (dk_at dksJ1_resize_4 6 rfl rfl)
theorem dJ1_resize_102 : decode cJ1_resize 102 = .ok (.ldc 42, 2) := dk_18 42 (dk_at dksJ1_resize_4 8 rfl rfl)
theorem dJ1_resize_104 : decode cJ1_resize 104 = .ok (.if_icmp .ge 17, 3) := dk_162 0 17 (dk_at dksJ1_resize_4 10 rfl rfl)
theorem dJ1_resize_107 : decode cJ1_resize 107 = .ok (.fload 6, 2) := dk_23 6 (dk_at dksJ1_resize_4 13 rfl rfl)
theorem dJ1_resize_109 : decode cJ1_resize 109 = .ok (.ldc 210, 2) := dk_18 210 (dk_at dksJ1_resize_4 15 rfl rfl)
theorem dJ1_resize_111 : decode cJ1_resize 111 = .ok (.fcmp .g, 1) := dk_150 (dk_at dksJ1_resize_4 17 rfl rfl)
theorem dJ1_resize_112 : decode cJ1_resize 112 = .ok (.ifCond .ge 9, 3) := dk_156 0 9 (dk_at dksJ1_resize_4 18 rfl rfl)
theorem dJ1_resize_115 : decode cJ1_resize 115 = .ok (.fload 6, 2) := dk_23 6 (dk_at dksJ1_resize_4 21 rfl rfl)
theorem dJ1_resize_117 : decode cJ1_resize 117 = .ok (.f2i, 1) := dk_139 (dk_at dksJ1_resize_4 23 rfl rfl)
theorem dJ1_resize_118 : decode cJ1_resize 118 = .ok (.goto 5, 3) := dk_167 0 5 (dk_at dksJ1_resize_5 0 rfl rfl)
theorem dJ1_resize_121 : decode cJ1_resize 121 = .ok (.ldc 209, 2) := dk_18 209 (dk_at dksJ1_resize_5 3 rfl rfl)
theorem dJ1_resize_123 : decode cJ1_resize 123 = .ok (.istore 5, 2) := dk_54 5 (dk_at dksJ1_resize_5 5 rfl rfl)
theorem dJ1_resize_125 : decode cJ1_resize 125 = .ok (.aload_n 0, 1) := dk_42 (dk_at dksJ1_resize_5 7 rfl rfl)
theorem dJ1_resize_126 : decode cJ1_resize 126 = .ok (.iload 5, 2) := dk_21 5 (dk_at dksJ1_resize_5 8 rfl rfl)
theorem dJ1_resize_128 : decode cJ1_resize 128 = .ok (.putfield 88, 3) := dk_181 0 88 (dk_at dksJ1_resize_5 10 rfl rfl)
theorem dJ1_resize_131 : decode cJ1_resize 131 = .ok (.iload 4, 2) := dk_21 4 (dk_at dksJ1_resize_5 13 rfl rfl)
theorem dJ1_resize_133 : decode cJ1_resize 133 = .ok (.anewarray 163, 3) := dk_189 0 163 (dk_at dksJ1_resize_5 15 rfl rfl)
theorem dJ1_resize_136 : decode cJ1_resize 136 = .ok (.astore 6, 2) := dk_58 6 (dk_at dksJ1_resize_5 18 rfl rfl)
theorem dJ1_resize_138 : decode cJ1_resize 138 = .ok (.aload_n 0, 1) := dk_42 (dk_at dksJ1_resize_5 20 rfl rfl)
theorem dJ1_resize_139 : decode cJ1_resize 139 = .ok (.aload 6, 2) := dk_25 6 (dk_at dksJ1_resize_5 21 rfl rfl)
theorem dJ1_resize_141 : decode cJ1_resize 141 = .ok (.putfield 105, 3) := dk_181 0 105 (dk_at dksJ1_resize_6 0 rfl rfl)
theorem dJ1_resize_144 : decode cJ1_resize 144 = .ok (.aload_n 1, 1) := dk_43 (dk_at dksJ1_resize_6 3 rfl rfl)
theorem dJ1_resize_145 : decode cJ1_resize 145 = .ok (.ifnull 208, 3) := dk_198 0 208 (dk_at dksJ1_resize_6 4 rfl rfl)
theorem dJ1_resize_148 : decode cJ1_resize 148 = .ok (.iconst 0, 1) := dk_3 (dk_at dksJ1_resize_6 7 rfl rfl)
theorem dJ1_resize_149 : decode cJ1_resize 149 = .ok (.istore 7, 2) := dk_54 7 (dk_at dksJ1_resize_6 8 rfl rfl)
theorem dJ1_resize_151 : decode cJ1_resize 151 = .ok (.iload 7, 2) := dk_21 7 (dk_at dksJ1_resize_6 10 rfl rfl)
theorem dJ1_resize_153 : decode cJ1_resize 153 = .ok (.iload_n 2, 1) := dk_28 (dk_at dksJ1_resize_6 12 rfl rfl)
theorem dJ1_resize_154 : decode cJ1_resize 154 = .ok (.if_icmp .ge 199, 3) := dk_162 0 199 (dk_at dksJ1_resize_6 13 rfl rfl)
theorem dJ1_resize_157 : decode cJ1_resize 157 = .ok (.aload_n 1, 1) := dk_43 (dk_at dksJ1_resize_6 16 rfl rfl)
theorem dJ1_resize_158 : decode cJ1_resize 158 = .ok (.iload 7, 2) := dk_21 7 (dk_at dksJ1_resize_6 17 rfl rfl)
theorem dJ1_resize_160 : decode cJ1_resize 160 = .ok (.aaload, 1) := dk_50 (dk_at dksJ1_resize_6 19 rfl rfl)
theorem dJ1_resize_161 : decode cJ1_resize 161 = .ok (.dup, 1) := dk_89 (dk_at dksJ1_resize_6 20 rfl rfl)
theorem dJ1_resize_162 : decode cJ1_resize 162 = .ok (.astore 8, 2) := dk_58 8 (dk_at dksJ1_resize_6 21 rfl rfl)
theorem dJ1_resize_164 : decode cJ1_resize 164 = .ok (.ifnull 183, 3) := dk_198 0 183 (dk_at dksJ1_resize_7 0 rfl rfl)
theorem dJ1_resize_167 : decode cJ1_resize 167 = .ok (.aload_n 1, 1) := dk_43 (dk_at dksJ1_resize_7 3 rfl rfl)
theorem dJ1_resize_168 : decode cJ1_resize 168 = .ok (.iload 7, 2) := dk_21 7 (dk_at dksJ1_resize_7 4 rfl rfl)
theorem dJ1_resize_170 : decode cJ1_resize 170 = .ok (.aconst_null, 1) := dk_1 (dk_at dksJ1_resize_7 6 rfl rfl)
theorem dJ1_resize_171 : decode cJ1_resize 171 = .ok (.aastore, 1) := dk_83 (dk_at dksJ1_resize_7 7 rfl rfl)
theorem dJ1_resize_172 : decode cJ1_resize 172 = .ok (.aload 8, 2) := dk_25 8 (dk_at dksJ1_resize_7 8 rfl rfl)
theorem dJ1_resize_174 : decode cJ1_resize 174 = .ok (.getfield 177, 3) := dk_180 0 177 (dk_at dksJ1_resize_7 10 rfl rfl)
theorem dJ1_resize_177 : decode cJ1_resize 177 = .ok (.ifnonnull 21, 3) := dk_199 0 21 (dk_at dksJ1_resize_7 13 rfl rfl)
theorem dJ1_resize_180 : decode cJ1_resize 180 = .ok (.aload 6, 2) := dk_25 6 (dk_at dksJ1_resize_7 16 rfl rfl)
theorem dJ1_resize_182 : decode cJ1_resize 182 = .ok (.aload 8, 2) := dk_25 8 (dk_at dksJ1_resize_7 18 rfl rfl)
theorem dJ1_resize_184 : decode cJ1_resize 184 = .ok (.getfield 168, 3) := dk_180 0 168 (dk_at dksJ1_resize_7 20 rfl rfl)
theorem dJ1_resize_187 : decode cJ1_resize 187 = .ok (.iload 4, 2) := dk_21 4 (dk_at dksJ1_resize_8 0 rfl rfl)
theorem dJ1_resize_189 : decode cJ1_resize 189 = .ok (.iconst 1, 1) := dk_4 (dk_at dksJ1_resize_8 2 rfl rfl)
theorem dJ1_resize_190 : decode cJ1_resize 190 = .ok (.isub, 1) := dk_100 (dk_at dksJ1_resize_8 3 rfl rfl)
theorem dJ1_resize_191 : decode cJ1_resize 191 = .ok (.iand, 1) := dk_126 (dk_at dksJ1_resize_8 4 rfl rfl)
theorem dJ1_resize_192 : decode cJ1_resize 192 = .ok (.aload 8, 2) := dk_25 8 (dk_at dksJ1_resize_8 5 rfl rfl)
theorem dJ1_resize_194 : decode cJ1_resize 194 = .ok (.aastore, 1) := dk_83 (dk_at dksJ1_resize_8 7 rfl rfl)
theorem dJ1_resize_195 : decode cJ1_resize 195 = .ok (.goto 152, 3) := dk_167 0 152 (dk_at dksJ1_resize_8 8 rfl rfl)
theorem dJ1_resize_198 : decode cJ1_resize 198 = .ok (.aload 8, 2) := dk_25 8 (dk_at dksJ1_resize_8 11 rfl rfl)
theorem dJ1_resize_200 : decode cJ1_resize 200 = .ok (.instanceof 180, 3) := dk_193 0 180 (dk_at dksJ1_resize_8 13 rfl rfl)
theorem dJ1_resize_203 : decode cJ1_resize 203 = .ok (.ifCond .eq 20, 3) := dk_153 0 20 (dk_at dksJ1_resize_8 16 rfl rfl)
theorem dJ1_resize_206 : decode cJ1_resize 206 = .ok (.aload 8, 2) := dk_25 8 (dk_at dksJ1_resize_8 19 rfl rfl)
theorem dJ1_resize_208 : decode cJ1_resize 208 = .ok (.checkcast 180, 3) := dk_192 0 180 (dk_at dksJ1_resize_8 21 rfl rfl)
theorem dJ1_resize_211 : decode cJ1_resize 211 = .ok (.aload_n 0, 1) := dk_42 (dk_at dksJ1_resize_9 0 rfl rfl)
theorem dJ1_resize_212 : decode cJ1_resize 212 = .ok (.aload 6, 2) := dk_25 6 (dk_at dksJ1_resize_9 1 rfl rfl)
theorem dJ1_resize_214 : decode cJ1_resize 214 = .ok (.iload 7, 2) := dk_21 7 (dk_at dksJ1_resize_9 3 rfl rfl)
theorem dJ1_resize_216 : decode cJ1_resize 216 = .ok (.iload_n 2, 1) := dk_28 (dk_at dksJ1_resize_9 5 rfl rfl)
theorem dJ1_resize_217 : decode cJ1_resize 217 = .ok (.invokevirtual 211, 3) := dk_182 0 211 (dk_at dksJ1_resize_9 6 rfl rfl)
theorem dJ1_resize_220 : decode cJ1_resize 220 = .ok (.goto 127, 3) := dk_167 0 127 (dk_at dksJ1_resize_9 9 rfl rfl)
theorem dJ1_resize_223 : decode cJ1_resize 223 = .ok (.aconst_null, 1) := dk_1 (dk_at dksJ1_resize_9 12 rfl rfl)
theorem dJ1_resize_224 : decode cJ1_resize 224 = .ok (.astore 9, 2) := dk_58 9 (dk_at dksJ1_resize_9 13 rfl rfl)
theorem dJ1_resize_226 : decode cJ1_resize 226 = .ok (.aconst_null, 1) := dk_1 (dk_at dksJ1_resize_9 15 rfl rfl)
theorem dJ1_resize_227 : decode cJ1_resize 227 = .ok (.astore 10, 2) := dk_58 10 (dk_at dksJ1_resize_9 16 rfl rfl)
theorem dJ1_resize_229 : decode cJ1_resize 229 = .ok (.aconst_null, 1) := dk_1 (dk_at dksJ1_resize_9 18 rfl rfl)
theorem dJ1_resize_230 : decode cJ1_resize 230 = .ok (.astore 11, 2) := dk_58 11 (dk_at dksJ1_resize_9 19 rfl rfl)
theorem dJ1_resize_232 : decode cJ1_resize 232 = .ok (.aconst_null, 1) := dk_1 (dk_at dksJ1_resize_9 21 rfl rfl)
theorem dJ1_resize_233 : decode cJ1_resize 233 = .ok (.astore 12, 2) := dk_58 12 (dk_at dksJ1_resize_9 22 rfl rfl)
theorem dJ1_resize_235 : decode cJ1_resize 235 = .ok (.aload 8, 2) := dk_25 8 (dk_at dksJ1_resize_10 0 rfl rfl)
theorem dJ1_resize_237 : decode cJ1_resize 237 = .ok (.getfield 177, 3) := dk_180 0 177 (dk_at dksJ1_resize_10 2 rfl rfl)
theorem dJ1_resize_240 : decode cJ1_resize 240 = .ok (.astore 13, 2) := dk_58 13 (dk_at dksJ1_resize_10 5 rfl rfl)
theorem dJ1_resize_242 : decode cJ1_resize 242 = .ok (.aload 8, 2) := dk_25 8 (dk_at dksJ1_resize_10 7 rfl rfl)
theorem dJ1_resize_244 : decode cJ1_resize 244 = .ok (.getfield 168, 3) := dk_180 0 168 (dk_at dksJ1_resize_10 9 rfl rfl)
theorem dJ1_resize_247 : decode cJ1_resize 247 = .ok (.iload_n 2, 1) := dk_28 (dk_at dksJ1_resize_10 12 rfl rfl)
theorem dJ1_resize_248 : decode cJ1_resize 248 = .ok (.iand, 1) := dk_126 (dk_at dksJ1_resize_10 13 rfl rfl)
theorem dJ1_resize_249 : decode cJ1_resize 249 = .ok (.ifCond .ne 29, 3) := dk_154 0 29 (dk_at dksJ1_resize_10 14 rfl rfl)
theorem dJ1_resize_252 : decode cJ1_resize 252 = .ok (.aload 10, 2) := dk_25 10 (dk_at dksJ1_resize_10 17 rfl rfl)
theorem dJ1_resize_254 : decode cJ1_resize 254 = .ok (.ifnonnull 10, 3) := dk_199 0 10 (dk_at dksJ1_resize_10 19 rfl rfl)
theorem dJ1_resize_257 : decode cJ1_resize 257 = .ok (.aload 8, 2) := dk_25 8 (dk_at dksJ1_resize_10 22 rfl rfl)
theorem dJ1_resize_259 : decode cJ1_resize 259 = .ok (.astore 9, 2) := dk_58 9 (dk_at dksJ1_resize_11 0 rfl rfl)
theorem dJ1_resize_261 : decode cJ1_resize 261 = .ok (.goto 10, 3) := dk_167 0 10 (dk_at dksJ1_resize_11 2 rfl rfl)
theorem dJ1_resize_264 : decode cJ1_resize 264 = .ok (.aload 10, 2) := dk_25 10 (dk_at dksJ1_resize_11 5 rfl rfl)
theorem dJ1_resize_266 : decode cJ1_resize 266 = .ok (.aload 8, 2) := dk_25 8 (dk_at dksJ1_resize_11 7 rfl rfl)
theorem dJ1_resize_268 : decode cJ1_resize 268 = .ok (.putfield 177, 3) := dk_181 0 177 (dk_at dksJ1_resize_11 9 rfl rfl)
theorem dJ1_resize_271 : decode cJ1_resize 271 = .ok (.aload 8, 2) := dk_25 8 (dk_at dksJ1_resize_11 12 rfl rfl)
theorem dJ1_resize_273 : decode cJ1_resize 273 = .ok (.astore 10, 2) := dk_58 10 (dk_at dksJ1_resize_11 14 rfl rfl)
theorem dJ1_resize_275 : decode cJ1_resize 275 = .ok (.goto 26, 3) := dk_167 0 26 (dk_at dksJ1_resize_11 16 rfl rfl)
theorem dJ1_resize_278 : decode cJ1_resize 278 = .ok (.aload 12, 2) := dk_25 12 (dk_at dksJ1_resize_11 19 rfl rfl)
theorem dJ1_resize_280 : decode cJ1_resize 280 = .ok (.ifnonnull 10, 3) := dk_199 0 10 (dk_at dksJ1_resize_11 21 rfl rfl)
theorem dJ1_resize_283 : decode cJ1_resize 283 = .ok (.aload 8, 2) := dk_25 8 (dk_at dksJ1_resize_12 0 rfl rfl)
theorem dJ1_resize_285 : decode cJ1_resize 285 = .ok (.astore 11, 2) := dk_58 11 (dk_at dksJ1_resize_12 2 rfl rfl)
theorem dJ1_resize_287 : decode cJ1_resize 287 = .ok (.goto 10, 3) := dk_167 0 10 (dk_at dksJ1_resize_12 4 rfl rfl)
theorem dJ1_resize_290 : decode cJ1_resize 290 = .ok (.aload 12, 2) := dk_25 12 (dk_at dksJ1_resize_12 7 rfl rfl)
theorem dJ1_resize_292 : decode cJ1_resize 292 = .ok (.aload 8, 2) := dk_25 8 (dk_at dksJ1_resize_12 9 rfl rfl)
theorem dJ1_resize_294 : decode cJ1_resize 294 = .ok (.putfield 177, 3) := dk_181 0 177 (dk_at dksJ1_resize_12 11 rfl rfl)
theorem dJ1_resize_297 : decode cJ1_resize 297 = .ok (.aload 8, 2) := dk_25 8 (dk_at dksJ1_resize_12 14 rfl rfl)
theorem dJ1_resize_299 : decode cJ1_resize 299 = .ok (.astore 12, 2) := dk_58 12 (dk_at dksJ1_resize_12 16 rfl rfl)
theorem dJ1_resize_301 : decode cJ1_resize 301 = .ok (.aload 13, 2) := dk_25 13 (dk_at dksJ1_resize_12 18 rfl rfl)
theorem dJ1_resize_303 : decode cJ1_resize 303 = .ok (.dup, 1) := dk_89 (dk_at dksJ1_resize_12 20 rfl rfl)
theorem dJ1_resize_304 : decode cJ1_resize 304 = .ok (.astore 8, 2) := dk_58 8 (dk_at dksJ1_resize_12 21 rfl rfl)
theorem dJ1_resize_306 : decode cJ1_resize 306 = .ok (.ifnonnull (-71), 3) := dk_199 255 185 (dk_at dksJ1_resize_13 0 rfl rfl)
theorem dJ1_resize_309 : decode cJ1_resize 309 = .ok (.aload 10, 2) := dk_25 10 (dk_at dksJ1_resize_13 3 rfl rfl)
theorem dJ1_resize_311 : decode cJ1_resize 311 = .ok (.ifnull 16, 3) := dk_198 0 16 (dk_at dksJ1_resize_13 5 rfl rfl)
theorem dJ1_resize_314 : decode cJ1_resize 314 = .ok (.aload 10, 2) := dk_25 10 (dk_at dksJ1_resize_13 8 rfl rfl)
theorem dJ1_resize_316 : decode cJ1_resize 316 = .ok (.aconst_null, 1) := dk_1 (dk_at dksJ1_resize_13 10 rfl rfl)
theorem dJ1_resize_317 : decode cJ1_resize 317 = .ok (.putfield 177, 3) := dk_181 0 177 (dk_at dksJ1_resize_13 11 rfl rfl)
theorem dJ1_resize_320 : decode cJ1_resize 320 = .ok (.aload 6, 2) := dk_25 6 (dk_at dksJ1_resize_13 14 rfl rfl)
theorem dJ1_resize_322 : decode cJ1_resize 322 = .ok (.iload 7, 2) := dk_21 7 (dk_at dksJ1_resize_13 16 rfl rfl)
theorem dJ1_resize_324 : decode cJ1_resize 324 = .ok (.aload 9, 2) := dk_25 9 (dk_at dksJ1_resize_13 18 rfl rfl)
theorem dJ1_resize_326 : decode cJ1_resize 326 = .ok (.aastore, 1) := dk_83 (dk_at dksJ1_resize_13 20 rfl rfl)
theorem dJ1_resize_327 : decode cJ1_resize 327 = .ok (.aload 12, 2) := dk_25 12 (dk_at dksJ1_resize_13 21 rfl rfl)
theorem dJ1_resize_329 : decode cJ1_resize 329 = .ok (.ifnull 18, 3) := dk_198 0 18 (dk_at dksJ1_resize_14 0 rfl rfl)
theorem dJ1_resize_332 : decode cJ1_resize 332 = .ok (.aload 12, 2) := dk_25 12 (dk_at dksJ1_resize_14 3 rfl rfl)
theorem dJ1_resize_334 : decode cJ1_resize 334 = .ok (.aconst_null, 1) := dk_1 (dk_at dksJ1_resize_14 5 rfl rfl)
theorem dJ1_resize_335 : decode cJ1_resize 335 = .ok (.putfield 177, 3) := dk_181 0 177 (dk_at dksJ1_resize_14 6 rfl rfl)
theorem dJ1_resize_338 : decode cJ1_resize 338 = .ok (.aload 6, 2) := dk_25 6 (dk_at dksJ1_resize_14 9 rfl rfl)
theorem dJ1_resize_340 : decode cJ1_resize 340 = .ok (.iload 7, 2) := dk_21 7 (dk_at dksJ1_resize_14 11 rfl rfl)
theorem dJ1_resize_342 : decode cJ1_resize 342 = .ok (.iload_n 2, 1) := dk_28 (dk_at dksJ1_resize_14 13 rfl rfl)
theorem dJ1_resize_343 : decode cJ1_resize 343 = .ok (.iadd, 1) := dk_96 (dk_at dksJ1_resize_14 14 rfl rfl)
theorem dJ1_resize_344 : decode cJ1_resize 344 = .ok (.aload 11, 2) := dk_25 11 (dk_at dksJ1_resize_14 15 rfl rfl)
theorem dJ1_resize_346 : decode cJ1_resize 346 = .ok (.aastore, 1) := dk_83 (dk_at dksJ1_resize_14 17 rfl rfl)
theorem dJ1_resize_347 : decode cJ1_resize 347 = .ok (.iinc 7 1, 3) := dk_132 7 1 (dk_at dksJ1_resize_14 18 rfl rfl)
theorem dJ1_resize_350 : decode cJ1_resize 350 = .ok (.goto (-199), 3) := dk_167 255 57 (dk_at dksJ1_resize_14 21 rfl rfl)
theorem dJ1_resize_353 : decode cJ1_resize 353 = .ok (.aload 6, 2) := dk_25 6 (dk_at dksJ1_resize_15 0 rfl rfl)
theorem dJ1_resize_355 : decode cJ1_resize 355 = .ok (.areturn, 1) := dk_176 (dk_at dksJ1_resize_15 2 rfl rfl)
abbrev cJ1_replacementNode : ByteArray := prog_53_method_47_code
def yJ1_replacementNode : MethodName := ⟨RJ1, "replacementNode", "(Ljava/util/HashMap$Node;Ljava/util/HashMap$Node;)Ljava/util/HashMap$Node;"⟩
def dkwJ1_replacementNode_0 : List UInt8 := [187, 0, 163, 89, 43, 180, 0, 168, 43, 180, 0, 170, 43, 180, 0, 162, 44, 183, 1, 119, 176]
abbrev dktJ1_replacementNode_0 : List UInt8 := dkwJ1_replacementNode_0 ++ []
theorem dksJ1_replacementNode_0 : cJ1_replacementNode.data.toList.drop 0 = dktJ1_replacementNode_0 := by decide +kernel
theorem dJ1_replacementNode_0 : decode cJ1_replacementNode 0 = .ok (.new 163, 3) := dk_187 0 163 (dk_at dksJ1_replacementNode_0 0 rfl rfl)
theorem dJ1_replacementNode_3 : decode cJ1_replacementNode 3 = .ok (.dup, 1) := dk_89 (dk_at dksJ1_replacementNode_0 3 rfl rfl)
theorem dJ1_replacementNode_4 : decode cJ1_replacementNode 4 = .ok (.aload_n 1, 1) := dk_43 (dk_at dksJ1_replacementNode_0 4 rfl rfl)
theorem dJ1_replacementNode_5 : decode cJ1_replacementNode 5 = .ok (.getfield 168, 3) := dk_180 0 168 (dk_at dksJ1_replacementNode_0 5 rfl rfl)
theorem dJ1_replacementNode_8 : decode cJ1_replacementNode 8 = .ok (.aload_n 1, 1) := dk_43 (dk_at dksJ1_replacementNode_0 8 rfl rfl)
theorem dJ1_replacementNode_9 : decode cJ1_replacementNode 9 = .ok (.getfield 170, 3) := dk_180 0 170 (dk_at dksJ1_replacementNode_0 9 rfl rfl)
theorem dJ1_replacementNode_12 : decode cJ1_replacementNode 12 = .ok (.aload_n 1, 1) := dk_43 (dk_at dksJ1_replacementNode_0 12 rfl rfl)
theorem dJ1_replacementNode_13 : decode cJ1_replacementNode 13 = .ok (.getfield 162, 3) := dk_180 0 162 (dk_at dksJ1_replacementNode_0 13 rfl rfl)
theorem dJ1_replacementNode_16 : decode cJ1_replacementNode 16 = .ok (.aload_n 2, 1) := dk_44 (dk_at dksJ1_replacementNode_0 16 rfl rfl)
theorem dJ1_replacementNode_17 : decode cJ1_replacementNode 17 = .ok (.invokespecial 375, 3) := dk_183 1 119 (dk_at dksJ1_replacementNode_0 17 rfl rfl)
theorem dJ1_replacementNode_20 : decode cJ1_replacementNode 20 = .ok (.areturn, 1) := dk_176 (dk_at dksJ1_replacementNode_0 20 rfl rfl)
abbrev cJ1_comparableClassFor : ByteArray := prog_53_method_2_code
def yJ1_comparableClassFor : MethodName := ⟨RJ1, "comparableClassFor", "(Ljava/lang/Object;)Ljava/lang/Class;"⟩
def dkwJ1_comparableClassFor_4 : List UInt8 := [4, 160, 0, 12, 45, 3, 50, 43, 166, 0, 5, 43, 176, 132, 7, 1, 167, 255, 186, 1, 176]
abbrev dktJ1_comparableClassFor_4 : List UInt8 := dkwJ1_comparableClassFor_4 ++ []
def dkwJ1_comparableClassFor_3 : List UInt8 := [185, 0, 23, 1, 0, 18, 7, 166, 0, 30, 25, 4, 185, 0, 27, 1, 0, 89, 78, 198, 0, 18, 45, 190]
abbrev dktJ1_comparableClassFor_3 : List UInt8 := dkwJ1_comparableClassFor_3 ++ dktJ1_comparableClassFor_4
def dkwJ1_comparableClassFor_2 : List UInt8 := [25, 5, 21, 7, 50, 58, 8, 25, 8, 193, 0, 21, 153, 0, 48, 25, 8, 192, 0, 21, 89, 58, 4]
abbrev dktJ1_comparableClassFor_2 : List UInt8 := dkwJ1_comparableClassFor_2 ++ dktJ1_comparableClassFor_3
def dkwJ1_comparableClassFor_1 : List UInt8 := [89, 77, 198, 0, 87, 44, 58, 5, 25, 5, 190, 54, 6, 3, 54, 7, 21, 7, 21, 6, 162, 0, 69]
abbrev dktJ1_comparableClassFor_1 : List UInt8 := dkwJ1_comparableClassFor_1 ++ dktJ1_comparableClassFor_2
def dkwJ1_comparableClassFor_0 : List UInt8 := [42, 193, 0, 7, 153, 0, 109, 42, 182, 0, 9, 89, 76, 18, 13, 166, 0, 5, 43, 176, 43, 182, 0, 15]
abbrev dktJ1_comparableClassFor_0 : List UInt8 := dkwJ1_comparableClassFor_0 ++ dktJ1_comparableClassFor_1
theorem dksJ1_comparableClassFor_0 : cJ1_comparableClassFor.data.toList.drop 0 = dktJ1_comparableClassFor_0 := by decide +kernel
theorem dksJ1_comparableClassFor_1 : cJ1_comparableClassFor.data.toList.drop 24 = dktJ1_comparableClassFor_1 := dk_seg dksJ1_comparableClassFor_0 24 rfl rfl
theorem dksJ1_comparableClassFor_2 : cJ1_comparableClassFor.data.toList.drop 47 = dktJ1_comparableClassFor_2 := dk_seg dksJ1_comparableClassFor_1 23 rfl rfl
theorem dksJ1_comparableClassFor_3 : cJ1_comparableClassFor.data.toList.drop 70 = dktJ1_comparableClassFor_3 := dk_seg dksJ1_comparableClassFor_2 23 rfl rfl
theorem dksJ1_comparableClassFor_4 : cJ1_comparableClassFor.data.toList.drop 94 = dktJ1_comparableClassFor_4 := dk_seg dksJ1_comparableClassFor_3 24 rfl rfl
theorem dJ1_comparableClassFor_0 : decode cJ1_comparableClassFor 0 = .ok (.aload_n 0, 1) := dk_42 (dk_at dksJ1_comparableClassFor_0 0 rfl rfl)
theorem dJ1_comparableClassFor_1 : decode cJ1_comparableClassFor 1 = .ok (.instanceof 7, 3) := dk_193 0 7 (dk_at dksJ1_comparableClassFor_0 1 rfl rfl)
theorem dJ1_comparableClassFor_4 : decode cJ1_comparableClassFor 4 = .ok (.ifCond .eq 109, 3) := dk_153 0 109 (dk_at dksJ1_comparableClassFor_0 4 rfl rfl)
theorem dJ1_comparableClassFor_7 : decode cJ1_comparableClassFor 7 = .ok (.aload_n 0, 1) := dk_42 (dk_at dksJ1_comparableClassFor_0 7 rfl rfl)
theorem dJ1_comparableClassFor_8 : decode cJ1_comparableClassFor 8 = .ok (.invokevirtual 9, 3) := dk_182 0 9 (dk_at dksJ1_comparableClassFor_0 8 rfl rfl)
theorem dJ1_comparableClassFor_11 : decode cJ1_comparableClassFor 11 = .ok (.dup, 1) := dk_89 (dk_at dksJ1_comparableClassFor_0 11 rfl rfl)
theorem dJ1_comparableClassFor_12 : decode cJ1_comparableClassFor 12 = .ok (.astore_n 1, 1) := dk_76 (dk_at dksJ1_comparableClassFor_0 12 rfl rfl)
theorem dJ1_comparableClassFor_13 : decode cJ1_comparableClassFor 13 = .ok (.ldc 13, 2) := dk_18 13 (dk_at dksJ1_comparableClassFor_0 13 rfl rfl)
theorem dJ1_comparableClassFor_15 : decode cJ1_comparableClassFor 15 = .ok (.if_acmp .ne 5, 3) := dk_166 0 5 (dk_at dksJ1_comparableClassFor_0 15 rfl rfl)
theorem dJ1_comparableClassFor_18 : decode cJ1_comparableClassFor 18 = .ok (.aload_n 1, 1) := dk_43 (dk_at dksJ1_comparableClassFor_0 18 rfl rfl)
theorem dJ1_comparableClassFor_19 : decode cJ1_comparableClassFor 19 = .ok (.areturn, 1) := dk_176 (dk_at dksJ1_comparableClassFor_0 19 rfl rfl)
theorem dJ1_comparableClassFor_20 : decode cJ1_comparableClassFor 20 = .ok (.aload_n 1, 1) := dk_43 (dk_at dksJ1_comparableClassFor_0 20 rfl rfl)
theorem dJ1_comparableClassFor_21 : decode cJ1_comparableClassFor 21 = .ok (.invokevirtual 15, 3) := dk_182 0 15 (dk_at dksJ1_comparableClassFor_0 21 rfl rfl)
theorem dJ1_comparableClassFor_24 : decode cJ1_comparableClassFor 24 = .ok (.dup, 1) := dk_89 (dk_at dksJ1_comparableClassFor_1 0 rfl rfl)
theorem dJ1_comparableClassFor_25 : decode cJ1_comparableClassFor 25 = .ok (.astore_n 2, 1) := dk_77 (dk_at dksJ1_comparableClassFor_1 1 rfl rfl)
theorem dJ1_comparableClassFor_26 : decode cJ1_comparableClassFor 26 = .ok (.ifnull 87, 3) := dk_198 0 87 (dk_at dksJ1_comparableClassFor_1 2 rfl rfl)
theorem dJ1_comparableClassFor_29 : decode cJ1_comparableClassFor 29 = .ok (.aload_n 2, 1) := dk_44 (dk_at dksJ1_comparableClassFor_1 5 rfl rfl)
theorem dJ1_comparableClassFor_30 : decode cJ1_comparableClassFor 30 = .ok (.astore 5, 2) := dk_58 5 (dk_at dksJ1_comparableClassFor_1 6 rfl rfl)
theorem dJ1_comparableClassFor_32 : decode cJ1_comparableClassFor 32 = .ok (.aload 5, 2) := dk_25 5 (dk_at dksJ1_comparableClassFor_1 8 rfl rfl)
theorem dJ1_comparableClassFor_34 : decode cJ1_comparableClassFor 34 = .ok (.arraylength, 1) := dk_190 (dk_at dksJ1_comparableClassFor_1 10 rfl rfl)
theorem dJ1_comparableClassFor_35 : decode cJ1_comparableClassFor 35 = .ok (.istore 6, 2) := dk_54 6 (dk_at dksJ1_comparableClassFor_1 11 rfl rfl)
theorem dJ1_comparableClassFor_37 : decode cJ1_comparableClassFor 37 = .ok (.iconst 0, 1) := dk_3 (dk_at dksJ1_comparableClassFor_1 13 rfl rfl)
theorem dJ1_comparableClassFor_38 : decode cJ1_comparableClassFor 38 = .ok (.istore 7, 2) := dk_54 7 (dk_at dksJ1_comparableClassFor_1 14 rfl rfl)
theorem dJ1_comparableClassFor_40 : decode cJ1_comparableClassFor 40 = .ok (.iload 7, 2) := dk_21 7 (dk_at dksJ1_comparableClassFor_1 16 rfl rfl)
theorem dJ1_comparableClassFor_42 : decode cJ1_comparableClassFor 42 = .ok (.iload 6, 2) := dk_21 6 (dk_at dksJ1_comparableClassFor_1 18 rfl rfl)
theorem dJ1_comparableClassFor_44 : decode cJ1_comparableClassFor 44 = .ok (.if_icmp .ge 69, 3) := dk_162 0 69 (dk_at dksJ1_comparableClassFor_1 20 rfl rfl)
theorem dJ1_comparableClassFor_47 : decode cJ1_comparableClassFor 47 = .ok (.aload 5, 2) := dk_25 5 (dk_at dksJ1_comparableClassFor_2 0 rfl rfl)
theorem dJ1_comparableClassFor_49 : decode cJ1_comparableClassFor 49 = .ok (.iload 7, 2) := dk_21 7 (dk_at dksJ1_comparableClassFor_2 2 rfl rfl)
theorem dJ1_comparableClassFor_51 : decode cJ1_comparableClassFor 51 = .ok (.aaload, 1) := dk_50 (dk_at dksJ1_comparableClassFor_2 4 rfl rfl)
theorem dJ1_comparableClassFor_52 : decode cJ1_comparableClassFor 52 = .ok (.astore 8, 2) := dk_58 8 (dk_at dksJ1_comparableClassFor_2 5 rfl rfl)
theorem dJ1_comparableClassFor_54 : decode cJ1_comparableClassFor 54 = .ok (.aload 8, 2) := dk_25 8 (dk_at dksJ1_comparableClassFor_2 7 rfl rfl)
theorem dJ1_comparableClassFor_56 : decode cJ1_comparableClassFor 56 = .ok (.instanceof 21, 3) := dk_193 0 21 (dk_at dksJ1_comparableClassFor_2 9 rfl rfl)
theorem dJ1_comparableClassFor_59 : decode cJ1_comparableClassFor 59 = .ok (.ifCond .eq 48, 3) := dk_153 0 48 (dk_at dksJ1_comparableClassFor_2 12 rfl rfl)
theorem dJ1_comparableClassFor_62 : decode cJ1_comparableClassFor 62 = .ok (.aload 8, 2) := dk_25 8 (dk_at dksJ1_comparableClassFor_2 15 rfl rfl)
theorem dJ1_comparableClassFor_64 : decode cJ1_comparableClassFor 64 = .ok (.checkcast 21, 3) := dk_192 0 21 (dk_at dksJ1_comparableClassFor_2 17 rfl rfl)
theorem dJ1_comparableClassFor_67 : decode cJ1_comparableClassFor 67 = .ok (.dup, 1) := dk_89 (dk_at dksJ1_comparableClassFor_2 20 rfl rfl)
theorem dJ1_comparableClassFor_68 : decode cJ1_comparableClassFor 68 = .ok (.astore 4, 2) := dk_58 4 (dk_at dksJ1_comparableClassFor_2 21 rfl rfl)
theorem dJ1_comparableClassFor_70 : decode cJ1_comparableClassFor 70 = .ok (.invokeinterface 23 1, 5) := by decide +kernel
theorem dJ1_comparableClassFor_75 : decode cJ1_comparableClassFor 75 = .ok (.ldc 7, 2) := dk_18 7 (dk_at dksJ1_comparableClassFor_3 5 rfl rfl)
theorem dJ1_comparableClassFor_77 : decode cJ1_comparableClassFor 77 = .ok (.if_acmp .ne 30, 3) := dk_166 0 30 (dk_at dksJ1_comparableClassFor_3 7 rfl rfl)
theorem dJ1_comparableClassFor_80 : decode cJ1_comparableClassFor 80 = .ok (.aload 4, 2) := dk_25 4 (dk_at dksJ1_comparableClassFor_3 10 rfl rfl)
theorem dJ1_comparableClassFor_82 : decode cJ1_comparableClassFor 82 = .ok (.invokeinterface 27 1, 5) := by decide +kernel
theorem dJ1_comparableClassFor_87 : decode cJ1_comparableClassFor 87 = .ok (.dup, 1) := dk_89 (dk_at dksJ1_comparableClassFor_3 17 rfl rfl)
theorem dJ1_comparableClassFor_88 : decode cJ1_comparableClassFor 88 = .ok (.astore_n 3, 1) := dk_78 (dk_at dksJ1_comparableClassFor_3 18 rfl rfl)
theorem dJ1_comparableClassFor_89 : decode cJ1_comparableClassFor 89 = .ok (.ifnull 18, 3) := dk_198 0 18 (dk_at dksJ1_comparableClassFor_3 19 rfl rfl)
theorem dJ1_comparableClassFor_92 : decode cJ1_comparableClassFor 92 = .ok (.aload_n 3, 1) := dk_45 (dk_at dksJ1_comparableClassFor_3 22 rfl rfl)
theorem dJ1_comparableClassFor_93 : decode cJ1_comparableClassFor 93 = .ok (.arraylength, 1) := dk_190 (dk_at dksJ1_comparableClassFor_3 23 rfl rfl)
theorem dJ1_comparableClassFor_94 : decode cJ1_comparableClassFor 94 = .ok (.iconst 1, 1) := dk_4 (dk_at dksJ1_comparableClassFor_4 0 rfl rfl)
theorem dJ1_comparableClassFor_95 : decode cJ1_comparableClassFor 95 = .ok (.if_icmp .ne 12, 3) := dk_160 0 12 (dk_at dksJ1_comparableClassFor_4 1 rfl rfl)
theorem dJ1_comparableClassFor_98 : decode cJ1_comparableClassFor 98 = .ok (.aload_n 3, 1) := dk_45 (dk_at dksJ1_comparableClassFor_4 4 rfl rfl)
theorem dJ1_comparableClassFor_99 : decode cJ1_comparableClassFor 99 = .ok (.iconst 0, 1) := dk_3 (dk_at dksJ1_comparableClassFor_4 5 rfl rfl)
theorem dJ1_comparableClassFor_100 : decode cJ1_comparableClassFor 100 = .ok (.aaload, 1) := dk_50 (dk_at dksJ1_comparableClassFor_4 6 rfl rfl)
theorem dJ1_comparableClassFor_101 : decode cJ1_comparableClassFor 101 = .ok (.aload_n 1, 1) := dk_43 (dk_at dksJ1_comparableClassFor_4 7 rfl rfl)
theorem dJ1_comparableClassFor_102 : decode cJ1_comparableClassFor 102 = .ok (.if_acmp .ne 5, 3) := dk_166 0 5 (dk_at dksJ1_comparableClassFor_4 8 rfl rfl)
theorem dJ1_comparableClassFor_105 : decode cJ1_comparableClassFor 105 = .ok (.aload_n 1, 1) := dk_43 (dk_at dksJ1_comparableClassFor_4 11 rfl rfl)
theorem dJ1_comparableClassFor_106 : decode cJ1_comparableClassFor 106 = .ok (.areturn, 1) := dk_176 (dk_at dksJ1_comparableClassFor_4 12 rfl rfl)
theorem dJ1_comparableClassFor_107 : decode cJ1_comparableClassFor 107 = .ok (.iinc 7 1, 3) := dk_132 7 1 (dk_at dksJ1_comparableClassFor_4 13 rfl rfl)
theorem dJ1_comparableClassFor_110 : decode cJ1_comparableClassFor 110 = .ok (.goto (-70), 3) := dk_167 255 186 (dk_at dksJ1_comparableClassFor_4 16 rfl rfl)
theorem dJ1_comparableClassFor_113 : decode cJ1_comparableClassFor 113 = .ok (.aconst_null, 1) := dk_1 (dk_at dksJ1_comparableClassFor_4 19 rfl rfl)
theorem dJ1_comparableClassFor_114 : decode cJ1_comparableClassFor 114 = .ok (.areturn, 1) := dk_176 (dk_at dksJ1_comparableClassFor_4 20 rfl rfl)
abbrev cJ1_compareComparables : ByteArray := prog_53_method_3_code
def yJ1_compareComparables : MethodName := ⟨RJ1, "compareComparables", "(Ljava/lang/Class;Ljava/lang/Object;Ljava/lang/Object;)I"⟩
def dkwJ1_compareComparables_1 : List UInt8 := [185, 0, 30, 2, 0, 172]
abbrev dktJ1_compareComparables_1 : List UInt8 := dkwJ1_compareComparables_1 ++ []
def dkwJ1_compareComparables_0 : List UInt8 := [44, 198, 0, 11, 44, 182, 0, 9, 42, 165, 0, 7, 3, 167, 0, 13, 43, 192, 0, 7, 44]
abbrev dktJ1_compareComparables_0 : List UInt8 := dkwJ1_compareComparables_0 ++ dktJ1_compareComparables_1
theorem dksJ1_compareComparables_0 : cJ1_compareComparables.data.toList.drop 0 = dktJ1_compareComparables_0 := by decide +kernel
theorem dksJ1_compareComparables_1 : cJ1_compareComparables.data.toList.drop 21 = dktJ1_compareComparables_1 := dk_seg dksJ1_compareComparables_0 21 rfl rfl
theorem dJ1_compareComparables_0 : decode cJ1_compareComparables 0 = .ok (.aload_n 2, 1) := dk_44 (dk_at dksJ1_compareComparables_0 0 rfl rfl)
theorem dJ1_compareComparables_1 : decode cJ1_compareComparables 1 = .ok (.ifnull 11, 3) := dk_198 0 11 (dk_at dksJ1_compareComparables_0 1 rfl rfl)
theorem dJ1_compareComparables_4 : decode cJ1_compareComparables 4 = .ok (.aload_n 2, 1) := dk_44 (dk_at dksJ1_compareComparables_0 4 rfl rfl)
theorem dJ1_compareComparables_5 : decode cJ1_compareComparables 5 = .ok (.invokevirtual 9, 3) := dk_182 0 9 (dk_at dksJ1_compareComparables_0 5 rfl rfl)
theorem dJ1_compareComparables_8 : decode cJ1_compareComparables 8 = .ok (.aload_n 0, 1) := dk_42 (dk_at dksJ1_compareComparables_0 8 rfl rfl)
theorem dJ1_compareComparables_9 : decode cJ1_compareComparables 9 = .ok (.if_acmp .eq 7, 3) := dk_165 0 7 (dk_at dksJ1_compareComparables_0 9 rfl rfl)
theorem dJ1_compareComparables_12 : decode cJ1_compareComparables 12 = .ok (.iconst 0, 1) := dk_3 (dk_at dksJ1_compareComparables_0 12 rfl rfl)
theorem dJ1_compareComparables_13 : decode cJ1_compareComparables 13 = .ok (.goto 13, 3) := dk_167 0 13 (dk_at dksJ1_compareComparables_0 13 rfl rfl)
theorem dJ1_compareComparables_16 : decode cJ1_compareComparables 16 = .ok (.aload_n 1, 1) := dk_43 (dk_at dksJ1_compareComparables_0 16 rfl rfl)
theorem dJ1_compareComparables_17 : decode cJ1_compareComparables 17 = .ok (.checkcast 7, 3) := dk_192 0 7 (dk_at dksJ1_compareComparables_0 17 rfl rfl)
theorem dJ1_compareComparables_20 : decode cJ1_compareComparables 20 = .ok (.aload_n 2, 1) := dk_44 (dk_at dksJ1_compareComparables_0 20 rfl rfl)
theorem dJ1_compareComparables_21 : decode cJ1_compareComparables 21 = .ok (.invokeinterface 30 2, 5) := by decide +kernel
theorem dJ1_compareComparables_26 : decode cJ1_compareComparables 26 = .ok (.ireturn, 1) := dk_172 (dk_at dksJ1_compareComparables_1 5 rfl rfl)
abbrev cJ1_newNode : ByteArray := prog_53_method_46_code
def yJ1_newNode : MethodName := ⟨RJ1, "newNode", "(ILjava/lang/Object;Ljava/lang/Object;Ljava/util/HashMap$Node;)Ljava/util/HashMap$Node;"⟩
def dkwJ1_newNode_0 : List UInt8 := [187, 0, 163, 89, 27, 44, 45, 25, 4, 183, 1, 119, 176]
abbrev dktJ1_newNode_0 : List UInt8 := dkwJ1_newNode_0 ++ []
theorem dksJ1_newNode_0 : cJ1_newNode.data.toList.drop 0 = dktJ1_newNode_0 := by decide +kernel
theorem dJ1_newNode_0 : decode cJ1_newNode 0 = .ok (.new 163, 3) := dk_187 0 163 (dk_at dksJ1_newNode_0 0 rfl rfl)
theorem dJ1_newNode_3 : decode cJ1_newNode 3 = .ok (.dup, 1) := dk_89 (dk_at dksJ1_newNode_0 3 rfl rfl)
theorem dJ1_newNode_4 : decode cJ1_newNode 4 = .ok (.iload_n 1, 1) := dk_27 (dk_at dksJ1_newNode_0 4 rfl rfl)
theorem dJ1_newNode_5 : decode cJ1_newNode 5 = .ok (.aload_n 2, 1) := dk_44 (dk_at dksJ1_newNode_0 5 rfl rfl)
theorem dJ1_newNode_6 : decode cJ1_newNode 6 = .ok (.aload_n 3, 1) := dk_45 (dk_at dksJ1_newNode_0 6 rfl rfl)
theorem dJ1_newNode_7 : decode cJ1_newNode 7 = .ok (.aload 4, 2) := dk_25 4 (dk_at dksJ1_newNode_0 7 rfl rfl)
theorem dJ1_newNode_9 : decode cJ1_newNode 9 = .ok (.invokespecial 375, 3) := dk_183 1 119 (dk_at dksJ1_newNode_0 9 rfl rfl)
theorem dJ1_newNode_12 : decode cJ1_newNode 12 = .ok (.areturn, 1) := dk_176 (dk_at dksJ1_newNode_0 12 rfl rfl)
abbrev cJ1_newTreeNode : ByteArray := prog_53_method_48_code
def yJ1_newTreeNode : MethodName := ⟨RJ1, "newTreeNode", "(ILjava/lang/Object;Ljava/lang/Object;Ljava/util/HashMap$Node;)Ljava/util/HashMap$TreeNode;"⟩
def dkwJ1_newTreeNode_0 : List UInt8 := [187, 0, 180, 89, 27, 44, 45, 25, 4, 183, 1, 122, 176]
abbrev dktJ1_newTreeNode_0 : List UInt8 := dkwJ1_newTreeNode_0 ++ []
theorem dksJ1_newTreeNode_0 : cJ1_newTreeNode.data.toList.drop 0 = dktJ1_newTreeNode_0 := by decide +kernel
theorem dJ1_newTreeNode_0 : decode cJ1_newTreeNode 0 = .ok (.new 180, 3) := dk_187 0 180 (dk_at dksJ1_newTreeNode_0 0 rfl rfl)
theorem dJ1_newTreeNode_3 : decode cJ1_newTreeNode 3 = .ok (.dup, 1) := dk_89 (dk_at dksJ1_newTreeNode_0 3 rfl rfl)
theorem dJ1_newTreeNode_4 : decode cJ1_newTreeNode 4 = .ok (.iload_n 1, 1) := dk_27 (dk_at dksJ1_newTreeNode_0 4 rfl rfl)
theorem dJ1_newTreeNode_5 : decode cJ1_newTreeNode 5 = .ok (.aload_n 2, 1) := dk_44 (dk_at dksJ1_newTreeNode_0 5 rfl rfl)
theorem dJ1_newTreeNode_6 : decode cJ1_newTreeNode 6 = .ok (.aload_n 3, 1) := dk_45 (dk_at dksJ1_newTreeNode_0 6 rfl rfl)
theorem dJ1_newTreeNode_7 : decode cJ1_newTreeNode 7 = .ok (.aload 4, 2) := dk_25 4 (dk_at dksJ1_newTreeNode_0 7 rfl rfl)
theorem dJ1_newTreeNode_9 : decode cJ1_newTreeNode 9 = .ok (.invokespecial 378, 3) := dk_183 1 122 (dk_at dksJ1_newTreeNode_0 9 rfl rfl)
theorem dJ1_newTreeNode_12 : decode cJ1_newTreeNode 12 = .ok (.areturn, 1) := dk_176 (dk_at dksJ1_newTreeNode_0 12 rfl rfl)
abbrev cJ1_treeifyBin : ByteArray := prog_53_method_18_code
def yJ1_treeifyBin : MethodName := ⟨RJ1, "treeifyBin", "([Ljava/util/HashMap$Node;I)V"⟩
def dkwJ1_treeifyBin_4 : List UInt8 := [21, 4, 25, 6, 91, 83, 198, 0, 9, 25, 6, 43, 182, 0, 224, 177]
abbrev dktJ1_treeifyBin_4 : List UInt8 := dkwJ1_treeifyBin_4 ++ []
def dkwJ1_treeifyBin_3 : List UInt8 := [25, 7, 25, 8, 181, 0, 223, 25, 8, 58, 7, 25, 5, 180, 0, 177, 89, 58, 5, 199, 255, 209, 43]
abbrev dktJ1_treeifyBin_3 : List UInt8 := dkwJ1_treeifyBin_3 ++ dktJ1_treeifyBin_4
def dkwJ1_treeifyBin_2 : List UInt8 := [182, 0, 215, 58, 8, 25, 7, 199, 0, 10, 25, 8, 58, 6, 167, 0, 17, 25, 8, 25, 7, 181, 0, 219]
abbrev dktJ1_treeifyBin_2 : List UInt8 := dkwJ1_treeifyBin_2 ++ dktJ1_treeifyBin_3
def dkwJ1_treeifyBin_1 : List UInt8 := [100, 28, 126, 89, 54, 4, 50, 89, 58, 5, 198, 0, 75, 1, 58, 6, 1, 58, 7, 42, 25, 5, 1]
abbrev dktJ1_treeifyBin_1 : List UInt8 := dkwJ1_treeifyBin_1 ++ dktJ1_treeifyBin_2
def dkwJ1_treeifyBin_0 : List UInt8 := [43, 198, 0, 12, 43, 190, 89, 62, 16, 64, 162, 0, 11, 42, 182, 0, 117, 87, 167, 0, 91, 43, 29, 4]
abbrev dktJ1_treeifyBin_0 : List UInt8 := dkwJ1_treeifyBin_0 ++ dktJ1_treeifyBin_1
theorem dksJ1_treeifyBin_0 : cJ1_treeifyBin.data.toList.drop 0 = dktJ1_treeifyBin_0 := by decide +kernel
theorem dksJ1_treeifyBin_1 : cJ1_treeifyBin.data.toList.drop 24 = dktJ1_treeifyBin_1 := dk_seg dksJ1_treeifyBin_0 24 rfl rfl
theorem dksJ1_treeifyBin_2 : cJ1_treeifyBin.data.toList.drop 47 = dktJ1_treeifyBin_2 := dk_seg dksJ1_treeifyBin_1 23 rfl rfl
theorem dksJ1_treeifyBin_3 : cJ1_treeifyBin.data.toList.drop 71 = dktJ1_treeifyBin_3 := dk_seg dksJ1_treeifyBin_2 24 rfl rfl
theorem dksJ1_treeifyBin_4 : cJ1_treeifyBin.data.toList.drop 94 = dktJ1_treeifyBin_4 := dk_seg dksJ1_treeifyBin_3 23 rfl rfl
theorem dJ1_treeifyBin_0 : decode cJ1_treeifyBin 0 = .ok (.aload_n 1, 1) := dk_43 (dk_at dksJ1_treeifyBin_0 0 rfl rfl)
theorem dJ1_treeifyBin_1 : decode cJ1_treeifyBin 1 = .ok (.ifnull 12, 3) := dk_198 0 12 (dk_at dksJ1_treeifyBin_0 1 rfl rfl)
theorem dJ1_treeifyBin_4 : decode cJ1_treeifyBin 4 = .ok (.aload_n 1, 1) := dk_43 (dk_at dksJ1_treeifyBin_0 4 rfl rfl)
theorem dJ1_treeifyBin_5 : decode cJ1_treeifyBin 5 = .ok (.arraylength, 1) := dk_190 (dk_at dksJ1_treeifyBin_0 5 rfl rfl)
theorem dJ1_treeifyBin_6 : decode cJ1_treeifyBin 6 = .ok (.dup, 1) := dk_89 (dk_at dksJ1_treeifyBin_0 6 rfl rfl)
theorem dJ1_treeifyBin_7 : decode cJ1_treeifyBin 7 = .ok (.istore_n 3, 1) := dk_62 (dk_at dksJ1_treeifyBin_0 7 rfl rfl)
theorem dJ1_treeifyBin_8 : decode cJ1_treeifyBin 8 = .ok (.bipush 64, 2) := dk_16 64 (dk_at dksJ1_treeifyBin_0 8 rfl rfl)
theorem dJ1_treeifyBin_10 : decode cJ1_treeifyBin 10 = .ok (.if_icmp .ge 11, 3) := dk_162 0 11 (dk_at dksJ1_treeifyBin_0 10 rfl rfl)
theorem dJ1_treeifyBin_13 : decode cJ1_treeifyBin 13 = .ok (.aload_n 0, 1) := dk_42 (dk_at dksJ1_treeifyBin_0 13 rfl rfl)
theorem dJ1_treeifyBin_14 : decode cJ1_treeifyBin 14 = .ok (.invokevirtual 117, 3) := dk_182 0 117 (dk_at dksJ1_treeifyBin_0 14 rfl rfl)
theorem dJ1_treeifyBin_17 : decode cJ1_treeifyBin 17 = .ok (.pop, 1) := dk_87 (dk_at dksJ1_treeifyBin_0 17 rfl rfl)
theorem dJ1_treeifyBin_18 : decode cJ1_treeifyBin 18 = .ok (.goto 91, 3) := dk_167 0 91 (dk_at dksJ1_treeifyBin_0 18 rfl rfl)
theorem dJ1_treeifyBin_21 : decode cJ1_treeifyBin 21 = .ok (.aload_n 1, 1) := dk_43 (dk_at dksJ1_treeifyBin_0 21 rfl rfl)
theorem dJ1_treeifyBin_22 : decode cJ1_treeifyBin 22 = .ok (.iload_n 3, 1) := dk_29 (dk_at dksJ1_treeifyBin_0 22 rfl rfl)
theorem dJ1_treeifyBin_23 : decode cJ1_treeifyBin 23 = .ok (.iconst 1, 1) := dk_4 (dk_at dksJ1_treeifyBin_0 23 rfl rfl)
theorem dJ1_treeifyBin_24 : decode cJ1_treeifyBin 24 = .ok (.isub, 1) := dk_100 (dk_at dksJ1_treeifyBin_1 0 rfl rfl)
theorem dJ1_treeifyBin_25 : decode cJ1_treeifyBin 25 = .ok (.iload_n 2, 1) := dk_28 (dk_at dksJ1_treeifyBin_1 1 rfl rfl)
theorem dJ1_treeifyBin_26 : decode cJ1_treeifyBin 26 = .ok (.iand, 1) := dk_126 (dk_at dksJ1_treeifyBin_1 2 rfl rfl)
theorem dJ1_treeifyBin_27 : decode cJ1_treeifyBin 27 = .ok (.dup, 1) := dk_89 (dk_at dksJ1_treeifyBin_1 3 rfl rfl)
theorem dJ1_treeifyBin_28 : decode cJ1_treeifyBin 28 = .ok (.istore 4, 2) := dk_54 4 (dk_at dksJ1_treeifyBin_1 4 rfl rfl)
theorem dJ1_treeifyBin_30 : decode cJ1_treeifyBin 30 = .ok (.aaload, 1) := dk_50 (dk_at dksJ1_treeifyBin_1 6 rfl rfl)
theorem dJ1_treeifyBin_31 : decode cJ1_treeifyBin 31 = .ok (.dup, 1) := dk_89 (dk_at dksJ1_treeifyBin_1 7 rfl rfl)
theorem dJ1_treeifyBin_32 : decode cJ1_treeifyBin 32 = .ok (.astore 5, 2) := dk_58 5 (dk_at dksJ1_treeifyBin_1 8 rfl rfl)
theorem dJ1_treeifyBin_34 : decode cJ1_treeifyBin 34 = .ok (.ifnull 75, 3) := dk_198 0 75 (dk_at dksJ1_treeifyBin_1 10 rfl rfl)
theorem dJ1_treeifyBin_37 : decode cJ1_treeifyBin 37 = .ok (.aconst_null, 1) := dk_1 (dk_at dksJ1_treeifyBin_1 13 rfl rfl)
theorem dJ1_treeifyBin_38 : decode cJ1_treeifyBin 38 = .ok (.astore 6, 2) := dk_58 6 (dk_at dksJ1_treeifyBin_1 14 rfl rfl)
theorem dJ1_treeifyBin_40 : decode cJ1_treeifyBin 40 = .ok (.aconst_null, 1) := dk_1 (dk_at dksJ1_treeifyBin_1 16 rfl rfl)
theorem dJ1_treeifyBin_41 : decode cJ1_treeifyBin 41 = .ok (.astore 7, 2) := dk_58 7 (dk_at dksJ1_treeifyBin_1 17 rfl rfl)
theorem dJ1_treeifyBin_43 : decode cJ1_treeifyBin 43 = .ok (.aload_n 0, 1) := dk_42 (dk_at dksJ1_treeifyBin_1 19 rfl rfl)
theorem dJ1_treeifyBin_44 : decode cJ1_treeifyBin 44 = .ok (.aload 5, 2) := dk_25 5 (dk_at dksJ1_treeifyBin_1 20 rfl rfl)
theorem dJ1_treeifyBin_46 : decode cJ1_treeifyBin 46 = .ok (.aconst_null, 1) := dk_1 (dk_at dksJ1_treeifyBin_1 22 rfl rfl)
theorem dJ1_treeifyBin_47 : decode cJ1_treeifyBin 47 = .ok (.invokevirtual 215, 3) := dk_182 0 215 (dk_at dksJ1_treeifyBin_2 0 rfl rfl)
theorem dJ1_treeifyBin_50 : decode cJ1_treeifyBin 50 = .ok (.astore 8, 2) := dk_58 8 (dk_at dksJ1_treeifyBin_2 3 rfl rfl)
theorem dJ1_treeifyBin_52 : decode cJ1_treeifyBin 52 = .ok (.aload 7, 2) := dk_25 7 (dk_at dksJ1_treeifyBin_2 5 rfl rfl)
theorem dJ1_treeifyBin_54 : decode cJ1_treeifyBin 54 = .ok (.ifnonnull 10, 3) := dk_199 0 10 (dk_at dksJ1_treeifyBin_2 7 rfl rfl)
theorem dJ1_treeifyBin_57 : decode cJ1_treeifyBin 57 = .ok (.aload 8, 2) := dk_25 8 (dk_at dksJ1_treeifyBin_2 10 rfl rfl)
theorem dJ1_treeifyBin_59 : decode cJ1_treeifyBin 59 = .ok (.astore 6, 2) := dk_58 6 (dk_at dksJ1_treeifyBin_2 12 rfl rfl)
theorem dJ1_treeifyBin_61 : decode cJ1_treeifyBin 61 = .ok (.goto 17, 3) := dk_167 0 17 (dk_at dksJ1_treeifyBin_2 14 rfl rfl)
theorem dJ1_treeifyBin_64 : decode cJ1_treeifyBin 64 = .ok (.aload 8, 2) := dk_25 8 (dk_at dksJ1_treeifyBin_2 17 rfl rfl)
theorem dJ1_treeifyBin_66 : decode cJ1_treeifyBin 66 = .ok (.aload 7, 2) := dk_25 7 (dk_at dksJ1_treeifyBin_2 19 rfl rfl)
theorem dJ1_treeifyBin_68 : decode cJ1_treeifyBin 68 = .ok (.putfield 219, 3) := dk_181 0 219 (dk_at dksJ1_treeifyBin_2 21 rfl rfl)
theorem dJ1_treeifyBin_71 : decode cJ1_treeifyBin 71 = .ok (.aload 7, 2) := dk_25 7 (dk_at dksJ1_treeifyBin_3 0 rfl rfl)
theorem dJ1_treeifyBin_73 : decode cJ1_treeifyBin 73 = .ok (.aload 8, 2) := dk_25 8 (dk_at dksJ1_treeifyBin_3 2 rfl rfl)
theorem dJ1_treeifyBin_75 : decode cJ1_treeifyBin 75 = .ok (.putfield 223, 3) := dk_181 0 223 (dk_at dksJ1_treeifyBin_3 4 rfl rfl)
theorem dJ1_treeifyBin_78 : decode cJ1_treeifyBin 78 = .ok (.aload 8, 2) := dk_25 8 (dk_at dksJ1_treeifyBin_3 7 rfl rfl)
theorem dJ1_treeifyBin_80 : decode cJ1_treeifyBin 80 = .ok (.astore 7, 2) := dk_58 7 (dk_at dksJ1_treeifyBin_3 9 rfl rfl)
theorem dJ1_treeifyBin_82 : decode cJ1_treeifyBin 82 = .ok (.aload 5, 2) := dk_25 5 (dk_at dksJ1_treeifyBin_3 11 rfl rfl)
theorem dJ1_treeifyBin_84 : decode cJ1_treeifyBin 84 = .ok (.getfield 177, 3) := dk_180 0 177 (dk_at dksJ1_treeifyBin_3 13 rfl rfl)
theorem dJ1_treeifyBin_87 : decode cJ1_treeifyBin 87 = .ok (.dup, 1) := dk_89 (dk_at dksJ1_treeifyBin_3 16 rfl rfl)
theorem dJ1_treeifyBin_88 : decode cJ1_treeifyBin 88 = .ok (.astore 5, 2) := dk_58 5 (dk_at dksJ1_treeifyBin_3 17 rfl rfl)
theorem dJ1_treeifyBin_90 : decode cJ1_treeifyBin 90 = .ok (.ifnonnull (-47), 3) := dk_199 255 209 (dk_at dksJ1_treeifyBin_3 19 rfl rfl)
theorem dJ1_treeifyBin_93 : decode cJ1_treeifyBin 93 = .ok (.aload_n 1, 1) := dk_43 (dk_at dksJ1_treeifyBin_3 22 rfl rfl)
theorem dJ1_treeifyBin_94 : decode cJ1_treeifyBin 94 = .ok (.iload 4, 2) := dk_21 4 (dk_at dksJ1_treeifyBin_4 0 rfl rfl)
theorem dJ1_treeifyBin_96 : decode cJ1_treeifyBin 96 = .ok (.aload 6, 2) := dk_25 6 (dk_at dksJ1_treeifyBin_4 2 rfl rfl)
theorem dJ1_treeifyBin_98 : decode cJ1_treeifyBin 98 = .ok (.dup_x2, 1) := dk_91 (dk_at dksJ1_treeifyBin_4 4 rfl rfl)
theorem dJ1_treeifyBin_99 : decode cJ1_treeifyBin 99 = .ok (.aastore, 1) := dk_83 (dk_at dksJ1_treeifyBin_4 5 rfl rfl)
theorem dJ1_treeifyBin_100 : decode cJ1_treeifyBin 100 = .ok (.ifnull 9, 3) := dk_198 0 9 (dk_at dksJ1_treeifyBin_4 6 rfl rfl)
theorem dJ1_treeifyBin_103 : decode cJ1_treeifyBin 103 = .ok (.aload 6, 2) := dk_25 6 (dk_at dksJ1_treeifyBin_4 9 rfl rfl)
theorem dJ1_treeifyBin_105 : decode cJ1_treeifyBin 105 = .ok (.aload_n 1, 1) := dk_43 (dk_at dksJ1_treeifyBin_4 11 rfl rfl)
theorem dJ1_treeifyBin_106 : decode cJ1_treeifyBin 106 = .ok (.invokevirtual 224, 3) := dk_182 0 224 (dk_at dksJ1_treeifyBin_4 12 rfl rfl)
theorem dJ1_treeifyBin_109 : decode cJ1_treeifyBin 109 = .ok (.return_, 1) := dk_177 (dk_at dksJ1_treeifyBin_4 15 rfl rfl)
abbrev cJ1_replacementTreeNode : ByteArray := prog_53_method_49_code
def yJ1_replacementTreeNode : MethodName := ⟨RJ1, "replacementTreeNode", "(Ljava/util/HashMap$Node;Ljava/util/HashMap$Node;)Ljava/util/HashMap$TreeNode;"⟩
def dkwJ1_replacementTreeNode_0 : List UInt8 := [187, 0, 180, 89, 43, 180, 0, 168, 43, 180, 0, 170, 43, 180, 0, 162, 44, 183, 1, 122, 176]
abbrev dktJ1_replacementTreeNode_0 : List UInt8 := dkwJ1_replacementTreeNode_0 ++ []
theorem dksJ1_replacementTreeNode_0 : cJ1_replacementTreeNode.data.toList.drop 0 = dktJ1_replacementTreeNode_0 := by decide +kernel
theorem dJ1_replacementTreeNode_0 : decode cJ1_replacementTreeNode 0 = .ok (.new 180, 3) := dk_187 0 180 (dk_at dksJ1_replacementTreeNode_0 0 rfl rfl)
theorem dJ1_replacementTreeNode_3 : decode cJ1_replacementTreeNode 3 = .ok (.dup, 1) := dk_89 (dk_at dksJ1_replacementTreeNode_0 3 rfl rfl)
theorem dJ1_replacementTreeNode_4 : decode cJ1_replacementTreeNode 4 = .ok (.aload_n 1, 1) := dk_43 (dk_at dksJ1_replacementTreeNode_0 4 rfl rfl)
theorem dJ1_replacementTreeNode_5 : decode cJ1_replacementTreeNode 5 = .ok (.getfield 168, 3) := dk_180 0 168 (dk_at dksJ1_replacementTreeNode_0 5 rfl rfl)
theorem dJ1_replacementTreeNode_8 : decode cJ1_replacementTreeNode 8 = .ok (.aload_n 1, 1) := dk_43 (dk_at dksJ1_replacementTreeNode_0 8 rfl rfl)
theorem dJ1_replacementTreeNode_9 : decode cJ1_replacementTreeNode 9 = .ok (.getfield 170, 3) := dk_180 0 170 (dk_at dksJ1_replacementTreeNode_0 9 rfl rfl)
theorem dJ1_replacementTreeNode_12 : decode cJ1_replacementTreeNode 12 = .ok (.aload_n 1, 1) := dk_43 (dk_at dksJ1_replacementTreeNode_0 12 rfl rfl)
theorem dJ1_replacementTreeNode_13 : decode cJ1_replacementTreeNode 13 = .ok (.getfield 162, 3) := dk_180 0 162 (dk_at dksJ1_replacementTreeNode_0 13 rfl rfl)
theorem dJ1_replacementTreeNode_16 : decode cJ1_replacementTreeNode 16 = .ok (.aload_n 2, 1) := dk_44 (dk_at dksJ1_replacementTreeNode_0 16 rfl rfl)
theorem dJ1_replacementTreeNode_17 : decode cJ1_replacementTreeNode 17 = .ok (.invokespecial 378, 3) := dk_183 1 122 (dk_at dksJ1_replacementTreeNode_0 17 rfl rfl)
theorem dJ1_replacementTreeNode_20 : decode cJ1_replacementTreeNode 20 = .ok (.areturn, 1) := dk_176 (dk_at dksJ1_replacementTreeNode_0 20 rfl rfl)
abbrev cJ1_afterNodeAccess : ByteArray := prog_53_method_51_code
def yJ1_afterNodeAccess : MethodName := ⟨RJ1, "afterNodeAccess", "(Ljava/util/HashMap$Node;)V"⟩
theorem dJ1_afterNodeAccess_0 : decode cJ1_afterNodeAccess 0 = .ok (.return_, 1) := by decide +kernel
abbrev cJ1_afterNodeInsertion : ByteArray := prog_53_method_52_code
def yJ1_afterNodeInsertion : MethodName := ⟨RJ1, "afterNodeInsertion", "(Z)V"⟩
theorem dJ1_afterNodeInsertion_0 : decode cJ1_afterNodeInsertion 0 = .ok (.return_, 1) := by decide +kernel
abbrev cJ1_containsKey : ByteArray := prog_53_method_14_code
def yJ1_containsKey : MethodName := ⟨RJ1, "containsKey", "(Ljava/lang/Object;)Z"⟩
def dkwJ1_containsKey_0 : List UInt8 := [42, 43, 182, 0, 158, 198, 0, 7, 4, 167, 0, 4, 3, 172]
abbrev dktJ1_containsKey_0 : List UInt8 := dkwJ1_containsKey_0 ++ []
theorem dksJ1_containsKey_0 : cJ1_containsKey.data.toList.drop 0 = dktJ1_containsKey_0 := by decide +kernel
theorem dJ1_containsKey_0 : decode cJ1_containsKey 0 = .ok (.aload_n 0, 1) := dk_42 (dk_at dksJ1_containsKey_0 0 rfl rfl)
theorem dJ1_containsKey_1 : decode cJ1_containsKey 1 = .ok (.aload_n 1, 1) := dk_43 (dk_at dksJ1_containsKey_0 1 rfl rfl)
theorem dJ1_containsKey_2 : decode cJ1_containsKey 2 = .ok (.invokevirtual 158, 3) := dk_182 0 158 (dk_at dksJ1_containsKey_0 2 rfl rfl)
theorem dJ1_containsKey_5 : decode cJ1_containsKey 5 = .ok (.ifnull 7, 3) := dk_198 0 7 (dk_at dksJ1_containsKey_0 5 rfl rfl)
theorem dJ1_containsKey_8 : decode cJ1_containsKey 8 = .ok (.iconst 1, 1) := dk_4 (dk_at dksJ1_containsKey_0 8 rfl rfl)
theorem dJ1_containsKey_9 : decode cJ1_containsKey 9 = .ok (.goto 4, 3) := dk_167 0 4 (dk_at dksJ1_containsKey_0 9 rfl rfl)
theorem dJ1_containsKey_12 : decode cJ1_containsKey 12 = .ok (.iconst 0, 1) := dk_3 (dk_at dksJ1_containsKey_0 12 rfl rfl)
theorem dJ1_containsKey_13 : decode cJ1_containsKey 13 = .ok (.ireturn, 1) := dk_172 (dk_at dksJ1_containsKey_0 13 rfl rfl)
abbrev cJ1_getNode : ByteArray := prog_53_method_13_code
def yJ1_getNode : MethodName := ⟨RJ1, "getNode", "(Ljava/lang/Object;)Ljava/util/HashMap$Node;"⟩
def dkwJ1_getNode_6 : List UInt8 := [89, 58, 4, 199, 255, 210, 1, 176]
abbrev dktJ1_getNode_6 : List UInt8 := dkwJ1_getNode_6 ++ []
def dkwJ1_getNode_5 : List UInt8 := [165, 0, 16, 43, 198, 0, 15, 43, 25, 7, 182, 0, 173, 153, 0, 6, 25, 4, 176, 25, 4, 180, 0, 177]
abbrev dktJ1_getNode_5 : List UInt8 := dkwJ1_getNode_5 ++ dktJ1_getNode_6
def dkwJ1_getNode_4 : List UInt8 := [43, 182, 0, 182, 176, 25, 4, 180, 0, 168, 21, 6, 160, 0, 31, 25, 4, 180, 0, 170, 89, 58, 7, 43]
abbrev dktJ1_getNode_4 : List UInt8 := dkwJ1_getNode_4 ++ dktJ1_getNode_5
def dkwJ1_getNode_3 : List UInt8 := [176, 45, 180, 0, 177, 89, 58, 4, 198, 0, 70, 45, 193, 0, 180, 153, 0, 14, 45, 192, 0, 180, 21, 6]
abbrev dktJ1_getNode_3 : List UInt8 := dkwJ1_getNode_3 ++ dktJ1_getNode_4
def dkwJ1_getNode_2 : List UInt8 := [180, 0, 170, 89, 58, 7, 43, 165, 0, 16, 43, 198, 0, 14, 43, 25, 7, 182, 0, 173, 153, 0, 5, 45]
abbrev dktJ1_getNode_2 : List UInt8 := dkwJ1_getNode_2 ++ dktJ1_getNode_3
def dkwJ1_getNode_1 : List UInt8 := [184, 0, 149, 89, 54, 6, 126, 50, 89, 78, 198, 0, 115, 45, 180, 0, 168, 21, 6, 160, 0, 29, 45]
abbrev dktJ1_getNode_1 : List UInt8 := dkwJ1_getNode_1 ++ dktJ1_getNode_2
def dkwJ1_getNode_0 : List UInt8 := [42, 180, 0, 105, 89, 77, 198, 0, 142, 44, 190, 89, 54, 5, 158, 0, 134, 44, 21, 5, 4, 100, 43]
abbrev dktJ1_getNode_0 : List UInt8 := dkwJ1_getNode_0 ++ dktJ1_getNode_1
theorem dksJ1_getNode_0 : cJ1_getNode.data.toList.drop 0 = dktJ1_getNode_0 := by decide +kernel
theorem dksJ1_getNode_1 : cJ1_getNode.data.toList.drop 23 = dktJ1_getNode_1 := dk_seg dksJ1_getNode_0 23 rfl rfl
theorem dksJ1_getNode_2 : cJ1_getNode.data.toList.drop 46 = dktJ1_getNode_2 := dk_seg dksJ1_getNode_1 23 rfl rfl
theorem dksJ1_getNode_3 : cJ1_getNode.data.toList.drop 70 = dktJ1_getNode_3 := dk_seg dksJ1_getNode_2 24 rfl rfl
theorem dksJ1_getNode_4 : cJ1_getNode.data.toList.drop 94 = dktJ1_getNode_4 := dk_seg dksJ1_getNode_3 24 rfl rfl
theorem dksJ1_getNode_5 : cJ1_getNode.data.toList.drop 118 = dktJ1_getNode_5 := dk_seg dksJ1_getNode_4 24 rfl rfl
theorem dksJ1_getNode_6 : cJ1_getNode.data.toList.drop 142 = dktJ1_getNode_6 := dk_seg dksJ1_getNode_5 24 rfl rfl
theorem dJ1_getNode_0 : decode cJ1_getNode 0 = .ok (.aload_n 0, 1) := dk_42 (dk_at dksJ1_getNode_0 0 rfl rfl)
theorem dJ1_getNode_1 : decode cJ1_getNode 1 = .ok (.getfield 105, 3) := dk_180 0 105 (dk_at dksJ1_getNode_0 1 rfl rfl)
theorem dJ1_getNode_4 : decode cJ1_getNode 4 = .ok (.dup, 1) := dk_89 (dk_at dksJ1_getNode_0 4 rfl rfl)
theorem dJ1_getNode_5 : decode cJ1_getNode 5 = .ok (.astore_n 2, 1) := dk_77 (dk_at dksJ1_getNode_0 5 rfl rfl)
theorem dJ1_getNode_6 : decode cJ1_getNode 6 = .ok (.ifnull 142, 3) := dk_198 0 142 (dk_at dksJ1_getNode_0 6 rfl rfl)
theorem dJ1_getNode_9 : decode cJ1_getNode 9 = .ok (.aload_n 2, 1) := dk_44 (dk_at dksJ1_getNode_0 9 rfl rfl)
theorem dJ1_getNode_10 : decode cJ1_getNode 10 = .ok (.arraylength, 1) := dk_190 (dk_at dksJ1_getNode_0 10 rfl rfl)
theorem dJ1_getNode_11 : decode cJ1_getNode 11 = .ok (.dup, 1) := dk_89 (dk_at dksJ1_getNode_0 11 rfl rfl)
theorem dJ1_getNode_12 : decode cJ1_getNode 12 = .ok (.istore 5, 2) := dk_54 5 (dk_at dksJ1_getNode_0 12 rfl rfl)
theorem dJ1_getNode_14 : decode cJ1_getNode 14 = .ok (.ifCond .le 134, 3) := dk_158 0 134 (dk_at dksJ1_getNode_0 14 rfl rfl)
theorem dJ1_getNode_17 : decode cJ1_getNode 17 = .ok (.aload_n 2, 1) := dk_44 (dk_at dksJ1_getNode_0 17 rfl rfl)
theorem dJ1_getNode_18 : decode cJ1_getNode 18 = .ok (.iload 5, 2) := dk_21 5 (dk_at dksJ1_getNode_0 18 rfl rfl)
theorem dJ1_getNode_20 : decode cJ1_getNode 20 = .ok (.iconst 1, 1) := dk_4 (dk_at dksJ1_getNode_0 20 rfl rfl)
theorem dJ1_getNode_21 : decode cJ1_getNode 21 = .ok (.isub, 1) := dk_100 (dk_at dksJ1_getNode_0 21 rfl rfl)
theorem dJ1_getNode_22 : decode cJ1_getNode 22 = .ok (.aload_n 1, 1) := dk_43 (dk_at dksJ1_getNode_0 22 rfl rfl)
theorem dJ1_getNode_23 : decode cJ1_getNode 23 = .ok (.invokestatic 149, 3) := dk_184 0 149 (dk_at dksJ1_getNode_1 0 rfl rfl)
theorem dJ1_getNode_26 : decode cJ1_getNode 26 = .ok (.dup, 1) := dk_89 (dk_at dksJ1_getNode_1 3 rfl rfl)
theorem dJ1_getNode_27 : decode cJ1_getNode 27 = .ok (.istore 6, 2) := dk_54 6 (dk_at dksJ1_getNode_1 4 rfl rfl)
theorem dJ1_getNode_29 : decode cJ1_getNode 29 = .ok (.iand, 1) := dk_126 (dk_at dksJ1_getNode_1 6 rfl rfl)
theorem dJ1_getNode_30 : decode cJ1_getNode 30 = .ok (.aaload, 1) := dk_50 (dk_at dksJ1_getNode_1 7 rfl rfl)
theorem dJ1_getNode_31 : decode cJ1_getNode 31 = .ok (.dup, 1) := dk_89 (dk_at dksJ1_getNode_1 8 rfl rfl)
theorem dJ1_getNode_32 : decode cJ1_getNode 32 = .ok (.astore_n 3, 1) := dk_78 (dk_at dksJ1_getNode_1 9 rfl rfl)
theorem dJ1_getNode_33 : decode cJ1_getNode 33 = .ok (.ifnull 115, 3) := dk_198 0 115 (dk_at dksJ1_getNode_1 10 rfl rfl)
theorem dJ1_getNode_36 : decode cJ1_getNode 36 = .ok (.aload_n 3, 1) := dk_45 (dk_at dksJ1_getNode_1 13 rfl rfl)
theorem dJ1_getNode_37 : decode cJ1_getNode 37 = .ok (.getfield 168, 3) := dk_180 0 168 (dk_at dksJ1_getNode_1 14 rfl rfl)
theorem dJ1_getNode_40 : decode cJ1_getNode 40 = .ok (.iload 6, 2) := dk_21 6 (dk_at dksJ1_getNode_1 17 rfl rfl)
theorem dJ1_getNode_42 : decode cJ1_getNode 42 = .ok (.if_icmp .ne 29, 3) := dk_160 0 29 (dk_at dksJ1_getNode_1 19 rfl rfl)
theorem dJ1_getNode_45 : decode cJ1_getNode 45 = .ok (.aload_n 3, 1) := dk_45 (dk_at dksJ1_getNode_1 22 rfl rfl)
theorem dJ1_getNode_46 : decode cJ1_getNode 46 = .ok (.getfield 170, 3) := dk_180 0 170 (dk_at dksJ1_getNode_2 0 rfl rfl)
theorem dJ1_getNode_49 : decode cJ1_getNode 49 = .ok (.dup, 1) := dk_89 (dk_at dksJ1_getNode_2 3 rfl rfl)
theorem dJ1_getNode_50 : decode cJ1_getNode 50 = .ok (.astore 7, 2) := dk_58 7 (dk_at dksJ1_getNode_2 4 rfl rfl)
theorem dJ1_getNode_52 : decode cJ1_getNode 52 = .ok (.aload_n 1, 1) := dk_43 (dk_at dksJ1_getNode_2 6 rfl rfl)
theorem dJ1_getNode_53 : decode cJ1_getNode 53 = .ok (.if_acmp .eq 16, 3) := dk_165 0 16 (dk_at dksJ1_getNode_2 7 rfl rfl)
theorem dJ1_getNode_56 : decode cJ1_getNode 56 = .ok (.aload_n 1, 1) := dk_43 (dk_at dksJ1_getNode_2 10 rfl rfl)
theorem dJ1_getNode_57 : decode cJ1_getNode 57 = .ok (.ifnull 14, 3) := dk_198 0 14 (dk_at dksJ1_getNode_2 11 rfl rfl)
theorem dJ1_getNode_60 : decode cJ1_getNode 60 = .ok (.aload_n 1, 1) := dk_43 (dk_at dksJ1_getNode_2 14 rfl rfl)
theorem dJ1_getNode_61 : decode cJ1_getNode 61 = .ok (.aload 7, 2) := dk_25 7 (dk_at dksJ1_getNode_2 15 rfl rfl)
theorem dJ1_getNode_63 : decode cJ1_getNode 63 = .ok (.invokevirtual 173, 3) := dk_182 0 173 (dk_at dksJ1_getNode_2 17 rfl rfl)
theorem dJ1_getNode_66 : decode cJ1_getNode 66 = .ok (.ifCond .eq 5, 3) := dk_153 0 5 (dk_at dksJ1_getNode_2 20 rfl rfl)
theorem dJ1_getNode_69 : decode cJ1_getNode 69 = .ok (.aload_n 3, 1) := dk_45 (dk_at dksJ1_getNode_2 23 rfl rfl)
theorem dJ1_getNode_70 : decode cJ1_getNode 70 = .ok (.areturn, 1) := dk_176 (dk_at dksJ1_getNode_3 0 rfl rfl)
theorem dJ1_getNode_71 : decode cJ1_getNode 71 = .ok (.aload_n 3, 1) := dk_45 (dk_at dksJ1_getNode_3 1 rfl rfl)
theorem dJ1_getNode_72 : decode cJ1_getNode 72 = .ok (.getfield 177, 3) := dk_180 0 177 (dk_at dksJ1_getNode_3 2 rfl rfl)
theorem dJ1_getNode_75 : decode cJ1_getNode 75 = .ok (.dup, 1) := dk_89 (dk_at dksJ1_getNode_3 5 rfl rfl)
theorem dJ1_getNode_76 : decode cJ1_getNode 76 = .ok (.astore 4, 2) := dk_58 4 (dk_at dksJ1_getNode_3 6 rfl rfl)
theorem dJ1_getNode_78 : decode cJ1_getNode 78 = .ok (.ifnull 70, 3) := dk_198 0 70 (dk_at dksJ1_getNode_3 8 rfl rfl)
theorem dJ1_getNode_81 : decode cJ1_getNode 81 = .ok (.aload_n 3, 1) := dk_45 (dk_at dksJ1_getNode_3 11 rfl rfl)
theorem dJ1_getNode_82 : decode cJ1_getNode 82 = .ok (.instanceof 180, 3) := dk_193 0 180 (dk_at dksJ1_getNode_3 12 rfl rfl)
theorem dJ1_getNode_85 : decode cJ1_getNode 85 = .ok (.ifCond .eq 14, 3) := dk_153 0 14 (dk_at dksJ1_getNode_3 15 rfl rfl)
theorem dJ1_getNode_88 : decode cJ1_getNode 88 = .ok (.aload_n 3, 1) := dk_45 (dk_at dksJ1_getNode_3 18 rfl rfl)
theorem dJ1_getNode_89 : decode cJ1_getNode 89 = .ok (.checkcast 180, 3) := dk_192 0 180 (dk_at dksJ1_getNode_3 19 rfl rfl)
theorem dJ1_getNode_92 : decode cJ1_getNode 92 = .ok (.iload 6, 2) := dk_21 6 (dk_at dksJ1_getNode_3 22 rfl rfl)
theorem dJ1_getNode_94 : decode cJ1_getNode 94 = .ok (.aload_n 1, 1) := dk_43 (dk_at dksJ1_getNode_4 0 rfl rfl)
theorem dJ1_getNode_95 : decode cJ1_getNode 95 = .ok (.invokevirtual 182, 3) := dk_182 0 182 (dk_at dksJ1_getNode_4 1 rfl rfl)
theorem dJ1_getNode_98 : decode cJ1_getNode 98 = .ok (.areturn, 1) := dk_176 (dk_at dksJ1_getNode_4 4 rfl rfl)
theorem dJ1_getNode_99 : decode cJ1_getNode 99 = .ok (.aload 4, 2) := dk_25 4 (dk_at dksJ1_getNode_4 5 rfl rfl)
theorem dJ1_getNode_101 : decode cJ1_getNode 101 = .ok (.getfield 168, 3) := dk_180 0 168 (dk_at dksJ1_getNode_4 7 rfl rfl)
theorem dJ1_getNode_104 : decode cJ1_getNode 104 = .ok (.iload 6, 2) := dk_21 6 (dk_at dksJ1_getNode_4 10 rfl rfl)
theorem dJ1_getNode_106 : decode cJ1_getNode 106 = .ok (.if_icmp .ne 31, 3) := dk_160 0 31 (dk_at dksJ1_getNode_4 12 rfl rfl)
theorem dJ1_getNode_109 : decode cJ1_getNode 109 = .ok (.aload 4, 2) := dk_25 4 (dk_at dksJ1_getNode_4 15 rfl rfl)
theorem dJ1_getNode_111 : decode cJ1_getNode 111 = .ok (.getfield 170, 3) := dk_180 0 170 (dk_at dksJ1_getNode_4 17 rfl rfl)
theorem dJ1_getNode_114 : decode cJ1_getNode 114 = .ok (.dup, 1) := dk_89 (dk_at dksJ1_getNode_4 20 rfl rfl)
theorem dJ1_getNode_115 : decode cJ1_getNode 115 = .ok (.astore 7, 2) := dk_58 7 (dk_at dksJ1_getNode_4 21 rfl rfl)
theorem dJ1_getNode_117 : decode cJ1_getNode 117 = .ok (.aload_n 1, 1) := dk_43 (dk_at dksJ1_getNode_4 23 rfl rfl)
theorem dJ1_getNode_118 : decode cJ1_getNode 118 = .ok (.if_acmp .eq 16, 3) := dk_165 0 16 (dk_at dksJ1_getNode_5 0 rfl rfl)
theorem dJ1_getNode_121 : decode cJ1_getNode 121 = .ok (.aload_n 1, 1) := dk_43 (dk_at dksJ1_getNode_5 3 rfl rfl)
theorem dJ1_getNode_122 : decode cJ1_getNode 122 = .ok (.ifnull 15, 3) := dk_198 0 15 (dk_at dksJ1_getNode_5 4 rfl rfl)
theorem dJ1_getNode_125 : decode cJ1_getNode 125 = .ok (.aload_n 1, 1) := dk_43 (dk_at dksJ1_getNode_5 7 rfl rfl)
theorem dJ1_getNode_126 : decode cJ1_getNode 126 = .ok (.aload 7, 2) := dk_25 7 (dk_at dksJ1_getNode_5 8 rfl rfl)
theorem dJ1_getNode_128 : decode cJ1_getNode 128 = .ok (.invokevirtual 173, 3) := dk_182 0 173 (dk_at dksJ1_getNode_5 10 rfl rfl)
theorem dJ1_getNode_131 : decode cJ1_getNode 131 = .ok (.ifCond .eq 6, 3) := dk_153 0 6 (dk_at dksJ1_getNode_5 13 rfl rfl)
theorem dJ1_getNode_134 : decode cJ1_getNode 134 = .ok (.aload 4, 2) := dk_25 4 (dk_at dksJ1_getNode_5 16 rfl rfl)
theorem dJ1_getNode_136 : decode cJ1_getNode 136 = .ok (.areturn, 1) := dk_176 (dk_at dksJ1_getNode_5 18 rfl rfl)
theorem dJ1_getNode_137 : decode cJ1_getNode 137 = .ok (.aload 4, 2) := dk_25 4 (dk_at dksJ1_getNode_5 19 rfl rfl)
theorem dJ1_getNode_139 : decode cJ1_getNode 139 = .ok (.getfield 177, 3) := dk_180 0 177 (dk_at dksJ1_getNode_5 21 rfl rfl)
theorem dJ1_getNode_142 : decode cJ1_getNode 142 = .ok (.dup, 1) := dk_89 (dk_at dksJ1_getNode_6 0 rfl rfl)
theorem dJ1_getNode_143 : decode cJ1_getNode 143 = .ok (.astore 4, 2) := dk_58 4 (dk_at dksJ1_getNode_6 1 rfl rfl)
theorem dJ1_getNode_145 : decode cJ1_getNode 145 = .ok (.ifnonnull (-46), 3) := dk_199 255 210 (dk_at dksJ1_getNode_6 3 rfl rfl)
theorem dJ1_getNode_148 : decode cJ1_getNode 148 = .ok (.aconst_null, 1) := dk_1 (dk_at dksJ1_getNode_6 6 rfl rfl)
theorem dJ1_getNode_149 : decode cJ1_getNode 149 = .ok (.areturn, 1) := dk_176 (dk_at dksJ1_getNode_6 7 rfl rfl)
abbrev cJ1_get : ByteArray := prog_53_method_12_code
def yJ1_get : MethodName := ⟨RJ1, "get", "(Ljava/lang/Object;)Ljava/lang/Object;"⟩
def dkwJ1_get_0 : List UInt8 := [42, 43, 182, 0, 158, 89, 77, 199, 0, 7, 1, 167, 0, 7, 44, 180, 0, 162, 176]
abbrev dktJ1_get_0 : List UInt8 := dkwJ1_get_0 ++ []
theorem dksJ1_get_0 : cJ1_get.data.toList.drop 0 = dktJ1_get_0 := by decide +kernel
theorem dJ1_get_0 : decode cJ1_get 0 = .ok (.aload_n 0, 1) := dk_42 (dk_at dksJ1_get_0 0 rfl rfl)
theorem dJ1_get_1 : decode cJ1_get 1 = .ok (.aload_n 1, 1) := dk_43 (dk_at dksJ1_get_0 1 rfl rfl)
theorem dJ1_get_2 : decode cJ1_get 2 = .ok (.invokevirtual 158, 3) := dk_182 0 158 (dk_at dksJ1_get_0 2 rfl rfl)
theorem dJ1_get_5 : decode cJ1_get 5 = .ok (.dup, 1) := dk_89 (dk_at dksJ1_get_0 5 rfl rfl)
theorem dJ1_get_6 : decode cJ1_get 6 = .ok (.astore_n 2, 1) := dk_77 (dk_at dksJ1_get_0 6 rfl rfl)
theorem dJ1_get_7 : decode cJ1_get 7 = .ok (.ifnonnull 7, 3) := dk_199 0 7 (dk_at dksJ1_get_0 7 rfl rfl)
theorem dJ1_get_10 : decode cJ1_get 10 = .ok (.aconst_null, 1) := dk_1 (dk_at dksJ1_get_0 10 rfl rfl)
theorem dJ1_get_11 : decode cJ1_get 11 = .ok (.goto 7, 3) := dk_167 0 7 (dk_at dksJ1_get_0 11 rfl rfl)
theorem dJ1_get_14 : decode cJ1_get 14 = .ok (.aload_n 2, 1) := dk_44 (dk_at dksJ1_get_0 14 rfl rfl)
theorem dJ1_get_15 : decode cJ1_get 15 = .ok (.getfield 162, 3) := dk_180 0 162 (dk_at dksJ1_get_0 15 rfl rfl)
theorem dJ1_get_18 : decode cJ1_get 18 = .ok (.areturn, 1) := dk_176 (dk_at dksJ1_get_0 18 rfl rfl)
abbrev cJ1_remove : ByteArray := prog_53_method_20_code
def yJ1_remove : MethodName := ⟨RJ1, "remove", "(Ljava/lang/Object;)Ljava/lang/Object;"⟩
def dkwJ1_remove_1 : List UInt8 := [180, 0, 162, 176]
abbrev dktJ1_remove_1 : List UInt8 := dkwJ1_remove_1 ++ []
def dkwJ1_remove_0 : List UInt8 := [42, 43, 184, 0, 149, 43, 1, 3, 4, 182, 0, 228, 89, 77, 199, 0, 7, 1, 167, 0, 7, 44]
abbrev dktJ1_remove_0 : List UInt8 := dkwJ1_remove_0 ++ dktJ1_remove_1
theorem dksJ1_remove_0 : cJ1_remove.data.toList.drop 0 = dktJ1_remove_0 := by decide +kernel
theorem dksJ1_remove_1 : cJ1_remove.data.toList.drop 22 = dktJ1_remove_1 := dk_seg dksJ1_remove_0 22 rfl rfl
theorem dJ1_remove_0 : decode cJ1_remove 0 = .ok (.aload_n 0, 1) := dk_42 (dk_at dksJ1_remove_0 0 rfl rfl)
theorem dJ1_remove_1 : decode cJ1_remove 1 = .ok (.aload_n 1, 1) := dk_43 (dk_at dksJ1_remove_0 1 rfl rfl)
theorem dJ1_remove_2 : decode cJ1_remove 2 = .ok (.invokestatic 149, 3) := dk_184 0 149 (dk_at dksJ1_remove_0 2 rfl rfl)
theorem dJ1_remove_5 : decode cJ1_remove 5 = .ok (.aload_n 1, 1) := dk_43 (dk_at dksJ1_remove_0 5 rfl rfl)
theorem dJ1_remove_6 : decode cJ1_remove 6 = .ok (.aconst_null, 1) := dk_1 (dk_at dksJ1_remove_0 6 rfl rfl)
theorem dJ1_remove_7 : decode cJ1_remove 7 = .ok (.iconst 0, 1) := dk_3 (dk_at dksJ1_remove_0 7 rfl rfl)
theorem dJ1_remove_8 : decode cJ1_remove 8 = .ok (.iconst 1, 1) := dk_4 (dk_at dksJ1_remove_0 8 rfl rfl)
theorem dJ1_remove_9 : decode cJ1_remove 9 = .ok (.invokevirtual 228, 3) := dk_182 0 228 (dk_at dksJ1_remove_0 9 rfl rfl)
theorem dJ1_remove_12 : decode cJ1_remove 12 = .ok (.dup, 1) := dk_89 (dk_at dksJ1_remove_0 12 rfl rfl)
theorem dJ1_remove_13 : decode cJ1_remove 13 = .ok (.astore_n 2, 1) := dk_77 (dk_at dksJ1_remove_0 13 rfl rfl)
theorem dJ1_remove_14 : decode cJ1_remove 14 = .ok (.ifnonnull 7, 3) := dk_199 0 7 (dk_at dksJ1_remove_0 14 rfl rfl)
theorem dJ1_remove_17 : decode cJ1_remove 17 = .ok (.aconst_null, 1) := dk_1 (dk_at dksJ1_remove_0 17 rfl rfl)
theorem dJ1_remove_18 : decode cJ1_remove 18 = .ok (.goto 7, 3) := dk_167 0 7 (dk_at dksJ1_remove_0 18 rfl rfl)
theorem dJ1_remove_21 : decode cJ1_remove 21 = .ok (.aload_n 2, 1) := dk_44 (dk_at dksJ1_remove_0 21 rfl rfl)
theorem dJ1_remove_22 : decode cJ1_remove 22 = .ok (.getfield 162, 3) := dk_180 0 162 (dk_at dksJ1_remove_1 0 rfl rfl)
theorem dJ1_remove_25 : decode cJ1_remove 25 = .ok (.areturn, 1) := dk_176 (dk_at dksJ1_remove_1 3 rfl rfl)
abbrev cJ1_removeNode : ByteArray := prog_53_method_21_code
def yJ1_removeNode : MethodName := ⟨RJ1, "removeNode", "(ILjava/lang/Object;Ljava/lang/Object;ZZ)Ljava/util/HashMap$Node;"⟩
def dkwJ1_removeNode_12 : List UInt8 := [181, 0, 156, 42, 25, 10, 182, 0, 236, 25, 10, 176, 1, 176]
abbrev dktJ1_removeNode_12 : List UInt8 := dkwJ1_removeNode_12 ++ []
def dkwJ1_removeNode_11 : List UInt8 := [180, 0, 177, 181, 0, 177, 42, 89, 180, 0, 202, 4, 96, 181, 0, 202, 42, 89, 180, 0, 156, 4, 100]
abbrev dktJ1_removeNode_11 : List UInt8 := dkwJ1_removeNode_11 ++ dktJ1_removeNode_12
def dkwJ1_removeNode_10 : List UInt8 := [25, 10, 25, 7, 166, 0, 16, 25, 6, 21, 9, 25, 10, 180, 0, 177, 83, 167, 0, 13, 25, 7, 25, 10]
abbrev dktJ1_removeNode_10 : List UInt8 := dkwJ1_removeNode_10 ++ dktJ1_removeNode_11
def dkwJ1_removeNode_9 : List UInt8 := [25, 10, 193, 0, 180, 153, 0, 19, 25, 10, 192, 0, 180, 42, 25, 6, 21, 5, 182, 0, 232, 167, 0, 33]
abbrev dktJ1_removeNode_9 : List UInt8 := dkwJ1_removeNode_9 ++ dktJ1_removeNode_10
def dkwJ1_removeNode_8 : List UInt8 := [180, 0, 162, 89, 58, 13, 45, 165, 0, 16, 45, 198, 0, 95, 45, 25, 13, 182, 0, 173, 153, 0, 86]
abbrev dktJ1_removeNode_8 : List UInt8 := dkwJ1_removeNode_8 ++ dktJ1_removeNode_9
def dkwJ1_removeNode_7 : List UInt8 := [25, 11, 180, 0, 177, 89, 58, 11, 199, 255, 203, 25, 10, 198, 0, 116, 21, 4, 153, 0, 28, 25, 10]
abbrev dktJ1_removeNode_7 : List UInt8 := dkwJ1_removeNode_7 ++ dktJ1_removeNode_8
def dkwJ1_removeNode_6 : List UInt8 := [198, 0, 19, 44, 25, 12, 182, 0, 173, 153, 0, 10, 25, 11, 58, 10, 167, 0, 18, 25, 11, 58, 7]
abbrev dktJ1_removeNode_6 : List UInt8 := dkwJ1_removeNode_6 ++ dktJ1_removeNode_7
def dkwJ1_removeNode_5 : List UInt8 := [25, 11, 180, 0, 168, 27, 160, 0, 35, 25, 11, 180, 0, 170, 89, 58, 12, 44, 165, 0, 16, 44]
abbrev dktJ1_removeNode_5 : List UInt8 := dkwJ1_removeNode_5 ++ dktJ1_removeNode_6
def dkwJ1_removeNode_4 : List UInt8 := [25, 7, 193, 0, 180, 153, 0, 18, 25, 7, 192, 0, 180, 27, 44, 182, 0, 182, 58, 10, 167, 0, 59]
abbrev dktJ1_removeNode_4 : List UInt8 := dkwJ1_removeNode_4 ++ dktJ1_removeNode_5
def dkwJ1_removeNode_3 : List UInt8 := [182, 0, 173, 153, 0, 10, 25, 7, 58, 10, 167, 0, 93, 25, 7, 180, 0, 177, 89, 58, 11, 198, 0, 82]
abbrev dktJ1_removeNode_3 : List UInt8 := dkwJ1_removeNode_3 ++ dktJ1_removeNode_4
def dkwJ1_removeNode_2 : List UInt8 := [160, 0, 35, 25, 7, 180, 0, 170, 89, 58, 12, 44, 165, 0, 16, 44, 198, 0, 19, 44, 25, 12]
abbrev dktJ1_removeNode_2 : List UInt8 := dkwJ1_removeNode_2 ++ dktJ1_removeNode_3
def dkwJ1_removeNode_1 : List UInt8 := [100, 27, 126, 89, 54, 9, 50, 89, 58, 7, 198, 0, 255, 1, 58, 10, 25, 7, 180, 0, 168, 27]
abbrev dktJ1_removeNode_1 : List UInt8 := dkwJ1_removeNode_1 ++ dktJ1_removeNode_2
def dkwJ1_removeNode_0 : List UInt8 := [42, 180, 0, 105, 89, 58, 6, 198, 1, 26, 25, 6, 190, 89, 54, 8, 158, 1, 17, 25, 6, 21, 8, 4]
abbrev dktJ1_removeNode_0 : List UInt8 := dkwJ1_removeNode_0 ++ dktJ1_removeNode_1
theorem dksJ1_removeNode_0 : cJ1_removeNode.data.toList.drop 0 = dktJ1_removeNode_0 := by decide +kernel
theorem dksJ1_removeNode_1 : cJ1_removeNode.data.toList.drop 24 = dktJ1_removeNode_1 := dk_seg dksJ1_removeNode_0 24 rfl rfl
theorem dksJ1_removeNode_2 : cJ1_removeNode.data.toList.drop 46 = dktJ1_removeNode_2 := dk_seg dksJ1_removeNode_1 22 rfl rfl
theorem dksJ1_removeNode_3 : cJ1_removeNode.data.toList.drop 68 = dktJ1_removeNode_3 := dk_seg dksJ1_removeNode_2 22 rfl rfl
theorem dksJ1_removeNode_4 : cJ1_removeNode.data.toList.drop 92 = dktJ1_removeNode_4 := dk_seg dksJ1_removeNode_3 24 rfl rfl
theorem dksJ1_removeNode_5 : cJ1_removeNode.data.toList.drop 115 = dktJ1_removeNode_5 := dk_seg dksJ1_removeNode_4 23 rfl rfl
theorem dksJ1_removeNode_6 : cJ1_removeNode.data.toList.drop 137 = dktJ1_removeNode_6 := dk_seg dksJ1_removeNode_5 22 rfl rfl
theorem dksJ1_removeNode_7 : cJ1_removeNode.data.toList.drop 160 = dktJ1_removeNode_7 := dk_seg dksJ1_removeNode_6 23 rfl rfl
theorem dksJ1_removeNode_8 : cJ1_removeNode.data.toList.drop 183 = dktJ1_removeNode_8 := dk_seg dksJ1_removeNode_7 23 rfl rfl
theorem dksJ1_removeNode_9 : cJ1_removeNode.data.toList.drop 206 = dktJ1_removeNode_9 := dk_seg dksJ1_removeNode_8 23 rfl rfl
theorem dksJ1_removeNode_10 : cJ1_removeNode.data.toList.drop 230 = dktJ1_removeNode_10 := dk_seg dksJ1_removeNode_9 24 rfl rfl
theorem dksJ1_removeNode_11 : cJ1_removeNode.data.toList.drop 254 = dktJ1_removeNode_11 := dk_seg dksJ1_removeNode_10 24 rfl rfl
theorem dksJ1_removeNode_12 : cJ1_removeNode.data.toList.drop 277 = dktJ1_removeNode_12 := dk_seg dksJ1_removeNode_11 23 rfl rfl
theorem dJ1_removeNode_0 : decode cJ1_removeNode 0 = .ok (.aload_n 0, 1) := dk_42 (dk_at dksJ1_removeNode_0 0 rfl rfl)
theorem dJ1_removeNode_1 : decode cJ1_removeNode 1 = .ok (.getfield 105, 3) := dk_180 0 105 (dk_at dksJ1_removeNode_0 1 rfl rfl)
theorem dJ1_removeNode_4 : decode cJ1_removeNode 4 = .ok (.dup, 1) := dk_89 (dk_at dksJ1_removeNode_0 4 rfl rfl)
theorem dJ1_removeNode_5 : decode cJ1_removeNode 5 = .ok (.astore 6, 2) := dk_58 6 (dk_at dksJ1_removeNode_0 5 rfl rfl)
theorem dJ1_removeNode_7 : decode cJ1_removeNode 7 = .ok (.ifnull 282, 3) := dk_198 1 26 (dk_at dksJ1_removeNode_0 7 rfl rfl)
theorem dJ1_removeNode_10 : decode cJ1_removeNode 10 = .ok (.aload 6, 2) := dk_25 6 (dk_at dksJ1_removeNode_0 10 rfl rfl)
theorem dJ1_removeNode_12 : decode cJ1_removeNode 12 = .ok (.arraylength, 1) := dk_190 (dk_at dksJ1_removeNode_0 12 rfl rfl)
theorem dJ1_removeNode_13 : decode cJ1_removeNode 13 = .ok (.dup, 1) := dk_89 (dk_at dksJ1_removeNode_0 13 rfl rfl)
theorem dJ1_removeNode_14 : decode cJ1_removeNode 14 = .ok (.istore 8, 2) := dk_54 8 (dk_at dksJ1_removeNode_0 14 rfl rfl)
theorem dJ1_removeNode_16 : decode cJ1_removeNode 16 = .ok (.ifCond .le 273, 3) := dk_158 1 17 (dk_at dksJ1_removeNode_0 16 rfl rfl)
theorem dJ1_removeNode_19 : decode cJ1_removeNode 19 = .ok (.aload 6, 2) := dk_25 6 (dk_at dksJ1_removeNode_0 19 rfl rfl)
theorem dJ1_removeNode_21 : decode cJ1_removeNode 21 = .ok (.iload 8, 2) := dk_21 8 (dk_at dksJ1_removeNode_0 21 rfl rfl)
theorem dJ1_removeNode_23 : decode cJ1_removeNode 23 = .ok (.iconst 1, 1) := dk_4 (dk_at dksJ1_removeNode_0 23 rfl rfl)
theorem dJ1_removeNode_24 : decode cJ1_removeNode 24 = .ok (.isub, 1) := dk_100 (dk_at dksJ1_removeNode_1 0 rfl rfl)
theorem dJ1_removeNode_25 : decode cJ1_removeNode 25 = .ok (.iload_n 1, 1) := dk_27 (dk_at dksJ1_removeNode_1 1 rfl rfl)
theorem dJ1_removeNode_26 : decode cJ1_removeNode 26 = .ok (.iand, 1) := dk_126 (dk_at dksJ1_removeNode_1 2 rfl rfl)
theorem dJ1_removeNode_27 : decode cJ1_removeNode 27 = .ok (.dup, 1) := dk_89 (dk_at dksJ1_removeNode_1 3 rfl rfl)
theorem dJ1_removeNode_28 : decode cJ1_removeNode 28 = .ok (.istore 9, 2) := dk_54 9 (dk_at dksJ1_removeNode_1 4 rfl rfl)
theorem dJ1_removeNode_30 : decode cJ1_removeNode 30 = .ok (.aaload, 1) := dk_50 (dk_at dksJ1_removeNode_1 6 rfl rfl)
theorem dJ1_removeNode_31 : decode cJ1_removeNode 31 = .ok (.dup, 1) := dk_89 (dk_at dksJ1_removeNode_1 7 rfl rfl)
theorem dJ1_removeNode_32 : decode cJ1_removeNode 32 = .ok (.astore 7, 2) := dk_58 7 (dk_at dksJ1_removeNode_1 8 rfl rfl)
theorem dJ1_removeNode_34 : decode cJ1_removeNode 34 = .ok (.ifnull 255, 3) := dk_198 0 255 (dk_at dksJ1_removeNode_1 10 rfl rfl)
theorem dJ1_removeNode_37 : decode cJ1_removeNode 37 = .ok (.aconst_null, 1) := dk_1 (dk_at dksJ1_removeNode_1 13 rfl rfl)
theorem dJ1_removeNode_38 : decode cJ1_removeNode 38 = .ok (.astore 10, 2) := dk_58 10 (dk_at dksJ1_removeNode_1 14 rfl rfl)
theorem dJ1_removeNode_40 : decode cJ1_removeNode 40 = .ok (.aload 7, 2) := dk_25 7 (dk_at dksJ1_removeNode_1 16 rfl rfl)
theorem dJ1_removeNode_42 : decode cJ1_removeNode 42 = .ok (.getfield 168, 3) := dk_180 0 168 (dk_at dksJ1_removeNode_1 18 rfl rfl)
theorem dJ1_removeNode_45 : decode cJ1_removeNode 45 = .ok (.iload_n 1, 1) := dk_27 (dk_at dksJ1_removeNode_1 21 rfl rfl)
theorem dJ1_removeNode_46 : decode cJ1_removeNode 46 = .ok (.if_icmp .ne 35, 3) := dk_160 0 35 (dk_at dksJ1_removeNode_2 0 rfl rfl)
theorem dJ1_removeNode_49 : decode cJ1_removeNode 49 = .ok (.aload 7, 2) := dk_25 7 (dk_at dksJ1_removeNode_2 3 rfl rfl)
theorem dJ1_removeNode_51 : decode cJ1_removeNode 51 = .ok (.getfield 170, 3) := dk_180 0 170 (dk_at dksJ1_removeNode_2 5 rfl rfl)
theorem dJ1_removeNode_54 : decode cJ1_removeNode 54 = .ok (.dup, 1) := dk_89 (dk_at dksJ1_removeNode_2 8 rfl rfl)
theorem dJ1_removeNode_55 : decode cJ1_removeNode 55 = .ok (.astore 12, 2) := dk_58 12 (dk_at dksJ1_removeNode_2 9 rfl rfl)
theorem dJ1_removeNode_57 : decode cJ1_removeNode 57 = .ok (.aload_n 2, 1) := dk_44 (dk_at dksJ1_removeNode_2 11 rfl rfl)
theorem dJ1_removeNode_58 : decode cJ1_removeNode 58 = .ok (.if_acmp .eq 16, 3) := dk_165 0 16 (dk_at dksJ1_removeNode_2 12 rfl rfl)
theorem dJ1_removeNode_61 : decode cJ1_removeNode 61 = .ok (.aload_n 2, 1) := dk_44 (dk_at dksJ1_removeNode_2 15 rfl rfl)
theorem dJ1_removeNode_62 : decode cJ1_removeNode 62 = .ok (.ifnull 19, 3) := dk_198 0 19 (dk_at dksJ1_removeNode_2 16 rfl rfl)
theorem dJ1_removeNode_65 : decode cJ1_removeNode 65 = .ok (.aload_n 2, 1) := dk_44 (dk_at dksJ1_removeNode_2 19 rfl rfl)
theorem dJ1_removeNode_66 : decode cJ1_removeNode 66 = .ok (.aload 12, 2) := dk_25 12 (dk_at dksJ1_removeNode_2 20 rfl rfl)
theorem dJ1_removeNode_68 : decode cJ1_removeNode 68 = .ok (.invokevirtual 173, 3) := dk_182 0 173 (dk_at dksJ1_removeNode_3 0 rfl rfl)
theorem dJ1_removeNode_71 : decode cJ1_removeNode 71 = .ok (.ifCond .eq 10, 3) := dk_153 0 10 (dk_at dksJ1_removeNode_3 3 rfl rfl)
theorem dJ1_removeNode_74 : decode cJ1_removeNode 74 = .ok (.aload 7, 2) := dk_25 7 (dk_at dksJ1_removeNode_3 6 rfl rfl)
theorem dJ1_removeNode_76 : decode cJ1_removeNode 76 = .ok (.astore 10, 2) := dk_58 10 (dk_at dksJ1_removeNode_3 8 rfl rfl)
theorem dJ1_removeNode_78 : decode cJ1_removeNode 78 = .ok (.goto 93, 3) := dk_167 0 93 (dk_at dksJ1_removeNode_3 10 rfl rfl)
theorem dJ1_removeNode_81 : decode cJ1_removeNode 81 = .ok (.aload 7, 2) := dk_25 7 (dk_at dksJ1_removeNode_3 13 rfl rfl)
theorem dJ1_removeNode_83 : decode cJ1_removeNode 83 = .ok (.getfield 177, 3) := dk_180 0 177 (dk_at dksJ1_removeNode_3 15 rfl rfl)
theorem dJ1_removeNode_86 : decode cJ1_removeNode 86 = .ok (.dup, 1) := dk_89 (dk_at dksJ1_removeNode_3 18 rfl rfl)
theorem dJ1_removeNode_87 : decode cJ1_removeNode 87 = .ok (.astore 11, 2) := dk_58 11 (dk_at dksJ1_removeNode_3 19 rfl rfl)
theorem dJ1_removeNode_89 : decode cJ1_removeNode 89 = .ok (.ifnull 82, 3) := dk_198 0 82 (dk_at dksJ1_removeNode_3 21 rfl rfl)
theorem dJ1_removeNode_92 : decode cJ1_removeNode 92 = .ok (.aload 7, 2) := dk_25 7 (dk_at dksJ1_removeNode_4 0 rfl rfl)
theorem dJ1_removeNode_94 : decode cJ1_removeNode 94 = .ok (.instanceof 180, 3) := dk_193 0 180 (dk_at dksJ1_removeNode_4 2 rfl rfl)
theorem dJ1_removeNode_97 : decode cJ1_removeNode 97 = .ok (.ifCond .eq 18, 3) := dk_153 0 18 (dk_at dksJ1_removeNode_4 5 rfl rfl)
theorem dJ1_removeNode_100 : decode cJ1_removeNode 100 = .ok (.aload 7, 2) := dk_25 7 (dk_at dksJ1_removeNode_4 8 rfl rfl)
theorem dJ1_removeNode_102 : decode cJ1_removeNode 102 = .ok (.checkcast 180, 3) := dk_192 0 180 (dk_at dksJ1_removeNode_4 10 rfl rfl)
theorem dJ1_removeNode_105 : decode cJ1_removeNode 105 = .ok (.iload_n 1, 1) := dk_27 (dk_at dksJ1_removeNode_4 13 rfl rfl)
theorem dJ1_removeNode_106 : decode cJ1_removeNode 106 = .ok (.aload_n 2, 1) := dk_44 (dk_at dksJ1_removeNode_4 14 rfl rfl)
theorem dJ1_removeNode_107 : decode cJ1_removeNode 107 = .ok (.invokevirtual 182, 3) := dk_182 0 182 (dk_at dksJ1_removeNode_4 15 rfl rfl)
theorem dJ1_removeNode_110 : decode cJ1_removeNode 110 = .ok (.astore 10, 2) := dk_58 10 (dk_at dksJ1_removeNode_4 18 rfl rfl)
theorem dJ1_removeNode_112 : decode cJ1_removeNode 112 = .ok (.goto 59, 3) := dk_167 0 59 (dk_at dksJ1_removeNode_4 20 rfl rfl)
theorem dJ1_removeNode_115 : decode cJ1_removeNode 115 = .ok (.aload 11, 2) := dk_25 11 (dk_at dksJ1_removeNode_5 0 rfl rfl)
theorem dJ1_removeNode_117 : decode cJ1_removeNode 117 = .ok (.getfield 168, 3) := dk_180 0 168 (dk_at dksJ1_removeNode_5 2 rfl rfl)
theorem dJ1_removeNode_120 : decode cJ1_removeNode 120 = .ok (.iload_n 1, 1) := dk_27 (dk_at dksJ1_removeNode_5 5 rfl rfl)
theorem dJ1_removeNode_121 : decode cJ1_removeNode 121 = .ok (.if_icmp .ne 35, 3) := dk_160 0 35 (dk_at dksJ1_removeNode_5 6 rfl rfl)
theorem dJ1_removeNode_124 : decode cJ1_removeNode 124 = .ok (.aload 11, 2) := dk_25 11 (dk_at dksJ1_removeNode_5 9 rfl rfl)
theorem dJ1_removeNode_126 : decode cJ1_removeNode 126 = .ok (.getfield 170, 3) := dk_180 0 170 (dk_at dksJ1_removeNode_5 11 rfl rfl)
theorem dJ1_removeNode_129 : decode cJ1_removeNode 129 = .ok (.dup, 1) := dk_89 (dk_at dksJ1_removeNode_5 14 rfl rfl)
theorem dJ1_removeNode_130 : decode cJ1_removeNode 130 = .ok (.astore 12, 2) := dk_58 12 (dk_at dksJ1_removeNode_5 15 rfl rfl)
theorem dJ1_removeNode_132 : decode cJ1_removeNode 132 = .ok (.aload_n 2, 1) := dk_44 (dk_at dksJ1_removeNode_5 17 rfl rfl)
theorem dJ1_removeNode_133 : decode cJ1_removeNode 133 = .ok (.if_acmp .eq 16, 3) := dk_165 0 16 (dk_at dksJ1_removeNode_5 18 rfl rfl)
theorem dJ1_removeNode_136 : decode cJ1_removeNode 136 = .ok (.aload_n 2, 1) := dk_44 (dk_at dksJ1_removeNode_5 21 rfl rfl)
theorem dJ1_removeNode_137 : decode cJ1_removeNode 137 = .ok (.ifnull 19, 3) := dk_198 0 19 (dk_at dksJ1_removeNode_6 0 rfl rfl)
theorem dJ1_removeNode_140 : decode cJ1_removeNode 140 = .ok (.aload_n 2, 1) := dk_44 (dk_at dksJ1_removeNode_6 3 rfl rfl)
theorem dJ1_removeNode_141 : decode cJ1_removeNode 141 = .ok (.aload 12, 2) := dk_25 12 (dk_at dksJ1_removeNode_6 4 rfl rfl)
theorem dJ1_removeNode_143 : decode cJ1_removeNode 143 = .ok (.invokevirtual 173, 3) := dk_182 0 173 (dk_at dksJ1_removeNode_6 6 rfl rfl)
theorem dJ1_removeNode_146 : decode cJ1_removeNode 146 = .ok (.ifCond .eq 10, 3) := dk_153 0 10 (dk_at dksJ1_removeNode_6 9 rfl rfl)
theorem dJ1_removeNode_149 : decode cJ1_removeNode 149 = .ok (.aload 11, 2) := dk_25 11 (dk_at dksJ1_removeNode_6 12 rfl rfl)
theorem dJ1_removeNode_151 : decode cJ1_removeNode 151 = .ok (.astore 10, 2) := dk_58 10 (dk_at dksJ1_removeNode_6 14 rfl rfl)
theorem dJ1_removeNode_153 : decode cJ1_removeNode 153 = .ok (.goto 18, 3) := dk_167 0 18 (dk_at dksJ1_removeNode_6 16 rfl rfl)
theorem dJ1_removeNode_156 : decode cJ1_removeNode 156 = .ok (.aload 11, 2) := dk_25 11 (dk_at dksJ1_removeNode_6 19 rfl rfl)
theorem dJ1_removeNode_158 : decode cJ1_removeNode 158 = .ok (.astore 7, 2) := dk_58 7 (dk_at dksJ1_removeNode_6 21 rfl rfl)
theorem dJ1_removeNode_160 : decode cJ1_removeNode 160 = .ok (.aload 11, 2) := dk_25 11 (dk_at dksJ1_removeNode_7 0 rfl rfl)
theorem dJ1_removeNode_162 : decode cJ1_removeNode 162 = .ok (.getfield 177, 3) := dk_180 0 177 (dk_at dksJ1_removeNode_7 2 rfl rfl)
theorem dJ1_removeNode_165 : decode cJ1_removeNode 165 = .ok (.dup, 1) := dk_89 (dk_at dksJ1_removeNode_7 5 rfl rfl)
theorem dJ1_removeNode_166 : decode cJ1_removeNode 166 = .ok (.astore 11, 2) := dk_58 11 (dk_at dksJ1_removeNode_7 6 rfl rfl)
theorem dJ1_removeNode_168 : decode cJ1_removeNode 168 = .ok (.ifnonnull (-53), 3) := dk_199 255 203 (dk_at dksJ1_removeNode_7 8 rfl rfl)
theorem dJ1_removeNode_171 : decode cJ1_removeNode 171 = .ok (.aload 10, 2) := dk_25 10 (dk_at dksJ1_removeNode_7 11 rfl rfl)
theorem dJ1_removeNode_173 : decode cJ1_removeNode 173 = .ok (.ifnull 116, 3) := dk_198 0 116 (dk_at dksJ1_removeNode_7 13 rfl rfl)
theorem dJ1_removeNode_176 : decode cJ1_removeNode 176 = .ok (.iload 4, 2) := dk_21 4 (dk_at dksJ1_removeNode_7 16 rfl rfl)
theorem dJ1_removeNode_178 : decode cJ1_removeNode 178 = .ok (.ifCond .eq 28, 3) := dk_153 0 28 (dk_at dksJ1_removeNode_7 18 rfl rfl)
theorem dJ1_removeNode_181 : decode cJ1_removeNode 181 = .ok (.aload 10, 2) := dk_25 10 (dk_at dksJ1_removeNode_7 21 rfl rfl)
theorem dJ1_removeNode_183 : decode cJ1_removeNode 183 = .ok (.getfield 162, 3) := dk_180 0 162 (dk_at dksJ1_removeNode_8 0 rfl rfl)
theorem dJ1_removeNode_186 : decode cJ1_removeNode 186 = .ok (.dup, 1) := dk_89 (dk_at dksJ1_removeNode_8 3 rfl rfl)
theorem dJ1_removeNode_187 : decode cJ1_removeNode 187 = .ok (.astore 13, 2) := dk_58 13 (dk_at dksJ1_removeNode_8 4 rfl rfl)
theorem dJ1_removeNode_189 : decode cJ1_removeNode 189 = .ok (.aload_n 3, 1) := dk_45 (dk_at dksJ1_removeNode_8 6 rfl rfl)
theorem dJ1_removeNode_190 : decode cJ1_removeNode 190 = .ok (.if_acmp .eq 16, 3) := dk_165 0 16 (dk_at dksJ1_removeNode_8 7 rfl rfl)
theorem dJ1_removeNode_193 : decode cJ1_removeNode 193 = .ok (.aload_n 3, 1) := dk_45 (dk_at dksJ1_removeNode_8 10 rfl rfl)
theorem dJ1_removeNode_194 : decode cJ1_removeNode 194 = .ok (.ifnull 95, 3) := dk_198 0 95 (dk_at dksJ1_removeNode_8 11 rfl rfl)
theorem dJ1_removeNode_197 : decode cJ1_removeNode 197 = .ok (.aload_n 3, 1) := dk_45 (dk_at dksJ1_removeNode_8 14 rfl rfl)
theorem dJ1_removeNode_198 : decode cJ1_removeNode 198 = .ok (.aload 13, 2) := dk_25 13 (dk_at dksJ1_removeNode_8 15 rfl rfl)
theorem dJ1_removeNode_200 : decode cJ1_removeNode 200 = .ok (.invokevirtual 173, 3) := dk_182 0 173 (dk_at dksJ1_removeNode_8 17 rfl rfl)
theorem dJ1_removeNode_203 : decode cJ1_removeNode 203 = .ok (.ifCond .eq 86, 3) := dk_153 0 86 (dk_at dksJ1_removeNode_8 20 rfl rfl)
theorem dJ1_removeNode_206 : decode cJ1_removeNode 206 = .ok (.aload 10, 2) := dk_25 10 (dk_at dksJ1_removeNode_9 0 rfl rfl)
theorem dJ1_removeNode_208 : decode cJ1_removeNode 208 = .ok (.instanceof 180, 3) := dk_193 0 180 (dk_at dksJ1_removeNode_9 2 rfl rfl)
theorem dJ1_removeNode_211 : decode cJ1_removeNode 211 = .ok (.ifCond .eq 19, 3) := dk_153 0 19 (dk_at dksJ1_removeNode_9 5 rfl rfl)
theorem dJ1_removeNode_214 : decode cJ1_removeNode 214 = .ok (.aload 10, 2) := dk_25 10 (dk_at dksJ1_removeNode_9 8 rfl rfl)
theorem dJ1_removeNode_216 : decode cJ1_removeNode 216 = .ok (.checkcast 180, 3) := dk_192 0 180 (dk_at dksJ1_removeNode_9 10 rfl rfl)
theorem dJ1_removeNode_219 : decode cJ1_removeNode 219 = .ok (.aload_n 0, 1) := dk_42 (dk_at dksJ1_removeNode_9 13 rfl rfl)
theorem dJ1_removeNode_220 : decode cJ1_removeNode 220 = .ok (.aload 6, 2) := dk_25 6 (dk_at dksJ1_removeNode_9 14 rfl rfl)
theorem dJ1_removeNode_222 : decode cJ1_removeNode 222 = .ok (.iload 5, 2) := dk_21 5 (dk_at dksJ1_removeNode_9 16 rfl rfl)
theorem dJ1_removeNode_224 : decode cJ1_removeNode 224 = .ok (.invokevirtual 232, 3) := dk_182 0 232 (dk_at dksJ1_removeNode_9 18 rfl rfl)
theorem dJ1_removeNode_227 : decode cJ1_removeNode 227 = .ok (.goto 33, 3) := dk_167 0 33 (dk_at dksJ1_removeNode_9 21 rfl rfl)
theorem dJ1_removeNode_230 : decode cJ1_removeNode 230 = .ok (.aload 10, 2) := dk_25 10 (dk_at dksJ1_removeNode_10 0 rfl rfl)
theorem dJ1_removeNode_232 : decode cJ1_removeNode 232 = .ok (.aload 7, 2) := dk_25 7 (dk_at dksJ1_removeNode_10 2 rfl rfl)
theorem dJ1_removeNode_234 : decode cJ1_removeNode 234 = .ok (.if_acmp .ne 16, 3) := dk_166 0 16 (dk_at dksJ1_removeNode_10 4 rfl rfl)
theorem dJ1_removeNode_237 : decode cJ1_removeNode 237 = .ok (.aload 6, 2) := dk_25 6 (dk_at dksJ1_removeNode_10 7 rfl rfl)
theorem dJ1_removeNode_239 : decode cJ1_removeNode 239 = .ok (.iload 9, 2) := dk_21 9 (dk_at dksJ1_removeNode_10 9 rfl rfl)
theorem dJ1_removeNode_241 : decode cJ1_removeNode 241 = .ok (.aload 10, 2) := dk_25 10 (dk_at dksJ1_removeNode_10 11 rfl rfl)
theorem dJ1_removeNode_243 : decode cJ1_removeNode 243 = .ok (.getfield 177, 3) := dk_180 0 177 (dk_at dksJ1_removeNode_10 13 rfl rfl)
theorem dJ1_removeNode_246 : decode cJ1_removeNode 246 = .ok (.aastore, 1) := dk_83 (dk_at dksJ1_removeNode_10 16 rfl rfl)
theorem dJ1_removeNode_247 : decode cJ1_removeNode 247 = .ok (.goto 13, 3) := dk_167 0 13 (dk_at dksJ1_removeNode_10 17 rfl rfl)
theorem dJ1_removeNode_250 : decode cJ1_removeNode 250 = .ok (.aload 7, 2) := dk_25 7 (dk_at dksJ1_removeNode_10 20 rfl rfl)
theorem dJ1_removeNode_252 : decode cJ1_removeNode 252 = .ok (.aload 10, 2) := dk_25 10 (dk_at dksJ1_removeNode_10 22 rfl rfl)
theorem dJ1_removeNode_254 : decode cJ1_removeNode 254 = .ok (.getfield 177, 3) := dk_180 0 177 (dk_at dksJ1_removeNode_11 0 rfl rfl)
theorem dJ1_removeNode_257 : decode cJ1_removeNode 257 = .ok (.putfield 177, 3) := dk_181 0 177 (dk_at dksJ1_removeNode_11 3 rfl rfl)
theorem dJ1_removeNode_260 : decode cJ1_removeNode 260 = .ok (.aload_n 0, 1) := dk_42 (dk_at dksJ1_removeNode_11 6 rfl rfl)
theorem dJ1_removeNode_261 : decode cJ1_removeNode 261 = .ok (.dup, 1) := dk_89 (dk_at dksJ1_removeNode_11 7 rfl rfl)
theorem dJ1_removeNode_262 : decode cJ1_removeNode 262 = .ok (.getfield 202, 3) := dk_180 0 202 (dk_at dksJ1_removeNode_11 8 rfl rfl)
theorem dJ1_removeNode_265 : decode cJ1_removeNode 265 = .ok (.iconst 1, 1) := dk_4 (dk_at dksJ1_removeNode_11 11 rfl rfl)
theorem dJ1_removeNode_266 : decode cJ1_removeNode 266 = .ok (.iadd, 1) := dk_96 (dk_at dksJ1_removeNode_11 12 rfl rfl)
theorem dJ1_removeNode_267 : decode cJ1_removeNode 267 = .ok (.putfield 202, 3) := dk_181 0 202 (dk_at dksJ1_removeNode_11 13 rfl rfl)
theorem dJ1_removeNode_270 : decode cJ1_removeNode 270 = .ok (.aload_n 0, 1) := dk_42 (dk_at dksJ1_removeNode_11 16 rfl rfl)
theorem dJ1_removeNode_271 : decode cJ1_removeNode 271 = .ok (.dup, 1) := dk_89 (dk_at dksJ1_removeNode_11 17 rfl rfl)
theorem dJ1_removeNode_272 : decode cJ1_removeNode 272 = .ok (.getfield 156, 3) := dk_180 0 156 (dk_at dksJ1_removeNode_11 18 rfl rfl)
theorem dJ1_removeNode_275 : decode cJ1_removeNode 275 = .ok (.iconst 1, 1) := dk_4 (dk_at dksJ1_removeNode_11 21 rfl rfl)
theorem dJ1_removeNode_276 : decode cJ1_removeNode 276 = .ok (.isub, 1) := dk_100 (dk_at dksJ1_removeNode_11 22 rfl rfl)
theorem dJ1_removeNode_277 : decode cJ1_removeNode 277 = .ok (.putfield 156, 3) := dk_181 0 156 (dk_at dksJ1_removeNode_12 0 rfl rfl)
theorem dJ1_removeNode_280 : decode cJ1_removeNode 280 = .ok (.aload_n 0, 1) := dk_42 (dk_at dksJ1_removeNode_12 3 rfl rfl)
theorem dJ1_removeNode_281 : decode cJ1_removeNode 281 = .ok (.aload 10, 2) := dk_25 10 (dk_at dksJ1_removeNode_12 4 rfl rfl)
theorem dJ1_removeNode_283 : decode cJ1_removeNode 283 = .ok (.invokevirtual 236, 3) := dk_182 0 236 (dk_at dksJ1_removeNode_12 6 rfl rfl)
theorem dJ1_removeNode_286 : decode cJ1_removeNode 286 = .ok (.aload 10, 2) := dk_25 10 (dk_at dksJ1_removeNode_12 9 rfl rfl)
theorem dJ1_removeNode_288 : decode cJ1_removeNode 288 = .ok (.areturn, 1) := dk_176 (dk_at dksJ1_removeNode_12 11 rfl rfl)
theorem dJ1_removeNode_289 : decode cJ1_removeNode 289 = .ok (.aconst_null, 1) := dk_1 (dk_at dksJ1_removeNode_12 12 rfl rfl)
theorem dJ1_removeNode_290 : decode cJ1_removeNode 290 = .ok (.areturn, 1) := dk_176 (dk_at dksJ1_removeNode_12 13 rfl rfl)
abbrev cJ1_afterNodeRemoval : ByteArray := prog_53_method_53_code
def yJ1_afterNodeRemoval : MethodName := ⟨RJ1, "afterNodeRemoval", "(Ljava/util/HashMap$Node;)V"⟩
theorem dJ1_afterNodeRemoval_0 : decode cJ1_afterNodeRemoval 0 = .ok (.return_, 1) := by decide +kernel
abbrev cJ1_size : ByteArray := prog_53_method_10_code
def yJ1_size : MethodName := ⟨RJ1, "size", "()I"⟩
theorem dJ1_size_0 : decode cJ1_size 0 = .ok (.aload_n 0, 1) := by decide +kernel
theorem dJ1_size_1 : decode cJ1_size 1 = .ok (.getfield 156, 3) := by decide +kernel
theorem dJ1_size_4 : decode cJ1_size 4 = .ok (.ireturn, 1) := by decide +kernel
theorem q155 : (Jvm.Cond.initialized "java/util/HashMap") ∈ lw_all := lw_g (lw_at lw_m1 4 rfl) rfl
theorem q221 : (Jvm.Cond.instantiable "java/util/HashMap" (8 : Nat)) ∈ lw_all := lw_g (lw_at lw_m1 70 rfl) rfl
theorem q223 : (Jvm.Cond.instanceMethod ({ cls := "java/util/HashMap", name := "<init>", desc := "()V" } : Jvm.MethodName)) ∈ lw_all := lw_g (lw_at lw_m1 72 rfl) rfl
theorem q224 : (Jvm.Cond.code ({ cls := "java/util/HashMap", name := "<init>", desc := "()V" } : Jvm.MethodName) prog_53_method_7_code (1 : Nat) (Option.none : Option Jvm.ClassFile.FieldType)) ∈ lw_all := lw_g (lw_at lw_m1 73 rfl) rfl
theorem q225 : (Jvm.Cond.methodLink "java/util/HashMap" (43 : Nat) ({ cls := "java/util/AbstractMap", name := "<init>", desc := "()V" } : Jvm.MethodName)) ∈ lw_all := lw_g (lw_at lw_m1 74 rfl) rfl
theorem q229 : (Jvm.Cond.constantFloat "java/util/HashMap" (92 : Nat) (1061158912 : UInt32)) ∈ lw_all := lw_g (lw_at lw_m1 78 rfl) rfl
theorem q230 : (Jvm.Cond.fieldLink "java/util/HashMap" (105 : Nat) "java/util/HashMap" "table" "[Ljava/util/HashMap$Node;") ∈ lw_all := lw_g (lw_at lw_m1 79 rfl) rfl
theorem q231 : (Jvm.Cond.fieldLink "java/util/HashMap" (156 : Nat) "java/util/HashMap" "size" "I") ∈ lw_all := lw_g (lw_at lw_m1 80 rfl) rfl
theorem q234 : (Jvm.Cond.fieldLink "java/util/HashMap" (202 : Nat) "java/util/HashMap" "modCount" "I") ∈ lw_all := lw_g (lw_at lw_m1 83 rfl) rfl
theorem q235 : (Jvm.Cond.fieldLink "java/util/HashMap" (88 : Nat) "java/util/HashMap" "threshold" "I") ∈ lw_all := lw_g (lw_at lw_m1 84 rfl) rfl
theorem q236 : (Jvm.Cond.fieldLink "java/util/HashMap" (81 : Nat) "java/util/HashMap" "loadFactor" "F") ∈ lw_all := lw_g (lw_at lw_m1 85 rfl) rfl
theorem q237 : (Jvm.Cond.lays "java/util/HashMap" "java/util/HashMap" "table" "[Ljava/util/HashMap$Node;") ∈ lw_all := lw_g (lw_at lw_m1 86 rfl) rfl
theorem q238 : (Jvm.Cond.soleField "java/util/HashMap" "table") ∈ lw_all := lw_g (lw_at lw_m1 87 rfl) rfl
theorem q239 : (Jvm.Cond.lays "java/util/HashMap" "java/util/HashMap" "entrySet" "Ljava/util/Set;") ∈ lw_all := lw_g (lw_at lw_m1 88 rfl) rfl
theorem q240 : (Jvm.Cond.soleField "java/util/HashMap" "entrySet") ∈ lw_all := lw_g (lw_at lw_m1 89 rfl) rfl
theorem q241 : (Jvm.Cond.lays "java/util/HashMap" "java/util/HashMap" "size" "I") ∈ lw_all := lw_g (lw_at lw_m1 90 rfl) rfl
theorem q242 : (Jvm.Cond.soleField "java/util/HashMap" "size") ∈ lw_all := lw_g (lw_at lw_m1 91 rfl) rfl
theorem q243 : (Jvm.Cond.lays "java/util/HashMap" "java/util/HashMap" "modCount" "I") ∈ lw_all := lw_g (lw_at lw_m1 92 rfl) rfl
theorem q244 : (Jvm.Cond.soleField "java/util/HashMap" "modCount") ∈ lw_all := lw_g (lw_at lw_m1 93 rfl) rfl
theorem q245 : (Jvm.Cond.lays "java/util/HashMap" "java/util/HashMap" "threshold" "I") ∈ lw_all := lw_g (lw_at lw_m1 94 rfl) rfl
theorem q246 : (Jvm.Cond.soleField "java/util/HashMap" "threshold") ∈ lw_all := lw_g (lw_at lw_m1 95 rfl) rfl
theorem q247 : (Jvm.Cond.laysFinal "java/util/HashMap" "java/util/HashMap" "loadFactor" "F") ∈ lw_all := lw_g (lw_at lw_m1 96 rfl) rfl
theorem q248 : (Jvm.Cond.soleField "java/util/HashMap" "loadFactor") ∈ lw_all := lw_g (lw_at lw_m1 97 rfl) rfl
theorem q249 : (Jvm.Cond.lays "java/util/HashMap" "java/util/AbstractMap" "keySet" "Ljava/util/Set;") ∈ lw_all := lw_g (lw_at lw_m1 98 rfl) rfl
theorem q251 : (Jvm.Cond.lays "java/util/HashMap" "java/util/AbstractMap" "values" "Ljava/util/Collection;") ∈ lw_all := lw_g (lw_at lw_m1 100 rfl) rfl
theorem q253 : (Jvm.Cond.superclass "java/util/HashMap" "java/util/AbstractMap") ∈ lw_all := lw_g (lw_at lw_m1 102 rfl) rfl
theorem q516 : (Jvm.Cond.selects "java/util/HashMap" ({ cls := "java/lang/Object", name := "getClass", desc := "()Ljava/lang/Class;" } : Jvm.MethodName) ({ cls := "java/lang/Object", name := "getClass", desc := "()Ljava/lang/Class;" } : Jvm.MethodName)) ∈ lw_all := lw_g (lw_at lw_m2 125 rfl) rfl
theorem q554 : (Jvm.Cond.declares ({ cls := "java/util/HashMap", name := "put", desc := "(Ljava/lang/Object;Ljava/lang/Object;)Ljava/lang/Object;" } : Jvm.MethodName)) ∈ lw_tbl := lw_at lw_m2 163 rfl
theorem q556 : (Jvm.Cond.instanceMethod ({ cls := "java/util/HashMap", name := "put", desc := "(Ljava/lang/Object;Ljava/lang/Object;)Ljava/lang/Object;" } : Jvm.MethodName)) ∈ lw_all := lw_g (lw_at lw_m2 165 rfl) rfl
theorem q557 : (Jvm.Cond.code ({ cls := "java/util/HashMap", name := "put", desc := "(Ljava/lang/Object;Ljava/lang/Object;)Ljava/lang/Object;" } : Jvm.MethodName) prog_53_method_15_code (3 : Nat) (Option.some (Jvm.ClassFile.FieldType.object "java/lang/Object"))) ∈ lw_all := lw_g (lw_at lw_m2 166 rfl) rfl
theorem q558 : (Jvm.Cond.methodLink "java/util/HashMap" (149 : Nat) ({ cls := "java/util/HashMap", name := "hash", desc := "(Ljava/lang/Object;)I" } : Jvm.MethodName)) ∈ lw_all := lw_g (lw_at lw_m2 167 rfl) rfl
theorem q559 : (Jvm.Cond.static ({ cls := "java/util/HashMap", name := "hash", desc := "(Ljava/lang/Object;)I" } : Jvm.MethodName)) ∈ lw_all := lw_g (lw_at lw_m2 168 rfl) rfl
theorem q560 : (Jvm.Cond.code ({ cls := "java/util/HashMap", name := "hash", desc := "(Ljava/lang/Object;)I" } : Jvm.MethodName) prog_53_method_1_code (2 : Nat) (Option.some Jvm.ClassFile.FieldType.int)) ∈ lw_all := lw_g (lw_at lw_m2 169 rfl) rfl
theorem q562 : (Jvm.Cond.methodLink "java/util/HashMap" (1 : Nat) ({ cls := "java/lang/Object", name := "hashCode", desc := "()I" } : Jvm.MethodName)) ∈ lw_all := lw_g (lw_at lw_m2 171 rfl) rfl
theorem q967 : (Jvm.Cond.methodLink "java/util/HashMap" (152 : Nat) ({ cls := "java/util/HashMap", name := "putVal", desc := "(ILjava/lang/Object;Ljava/lang/Object;ZZ)Ljava/lang/Object;" } : Jvm.MethodName)) ∈ lw_all := lw_g (lw_at lw_m4 96 rfl) rfl
theorem q968 : (Jvm.Cond.instanceMethod ({ cls := "java/util/HashMap", name := "putVal", desc := "(ILjava/lang/Object;Ljava/lang/Object;ZZ)Ljava/lang/Object;" } : Jvm.MethodName)) ∈ lw_all := lw_g (lw_at lw_m4 97 rfl) rfl
theorem q969 : (Jvm.Cond.selects "java/util/HashMap" ({ cls := "java/util/HashMap", name := "putVal", desc := "(ILjava/lang/Object;Ljava/lang/Object;ZZ)Ljava/lang/Object;" } : Jvm.MethodName) ({ cls := "java/util/HashMap", name := "putVal", desc := "(ILjava/lang/Object;Ljava/lang/Object;ZZ)Ljava/lang/Object;" } : Jvm.MethodName)) ∈ lw_all := lw_g (lw_at lw_m4 98 rfl) rfl
theorem q970 : (Jvm.Cond.sameMethod "java/util/HashMap" "java/util/HashMap" "putVal" "(ILjava/lang/Object;Ljava/lang/Object;ZZ)Ljava/lang/Object;") ∈ lw_all := lw_g (lw_at lw_m4 99 rfl) rfl
theorem q972 : (Jvm.Cond.code ({ cls := "java/util/HashMap", name := "putVal", desc := "(ILjava/lang/Object;Ljava/lang/Object;ZZ)Ljava/lang/Object;" } : Jvm.MethodName) prog_53_method_16_code (13 : Nat) (Option.some (Jvm.ClassFile.FieldType.object "java/lang/Object"))) ∈ lw_all := lw_g (lw_at lw_m4 101 rfl) rfl
theorem q973 : (Jvm.Cond.methodLink "java/util/HashMap" (117 : Nat) ({ cls := "java/util/HashMap", name := "resize", desc := "()[Ljava/util/HashMap$Node;" } : Jvm.MethodName)) ∈ lw_all := lw_g (lw_at lw_m4 102 rfl) rfl
theorem q974 : (Jvm.Cond.instanceMethod ({ cls := "java/util/HashMap", name := "resize", desc := "()[Ljava/util/HashMap$Node;" } : Jvm.MethodName)) ∈ lw_all := lw_g (lw_at lw_m4 103 rfl) rfl
theorem q975 : (Jvm.Cond.selects "java/util/HashMap" ({ cls := "java/util/HashMap", name := "resize", desc := "()[Ljava/util/HashMap$Node;" } : Jvm.MethodName) ({ cls := "java/util/HashMap", name := "resize", desc := "()[Ljava/util/HashMap$Node;" } : Jvm.MethodName)) ∈ lw_all := lw_g (lw_at lw_m4 104 rfl) rfl
theorem q976 : (Jvm.Cond.sameMethod "java/util/HashMap" "java/util/HashMap" "resize" "()[Ljava/util/HashMap$Node;") ∈ lw_all := lw_g (lw_at lw_m4 105 rfl) rfl
theorem q978 : (Jvm.Cond.code ({ cls := "java/util/HashMap", name := "resize", desc := "()[Ljava/util/HashMap$Node;" } : Jvm.MethodName) prog_53_method_17_code (14 : Nat) (Option.some (Jvm.ClassFile.FieldType.array (Jvm.ClassFile.FieldType.object "java/util/HashMap$Node")))) ∈ lw_all := lw_g (lw_at lw_m4 107 rfl) rfl
theorem q979 : (Jvm.Cond.constant "java/util/HashMap" (42 : Nat) (1073741824 : Int32)) ∈ lw_all := lw_g (lw_at lw_m4 108 rfl) rfl
theorem q980 : (Jvm.Cond.constant "java/util/HashMap" (209 : Nat) (2147483647 : Int32)) ∈ lw_all := lw_g (lw_at lw_m4 109 rfl) rfl
theorem q981 : (Jvm.Cond.constantFloat "java/util/HashMap" (210 : Nat) (1317011456 : UInt32)) ∈ lw_all := lw_g (lw_at lw_m4 110 rfl) rfl
theorem q982 : (Jvm.Cond.classLink "java/util/HashMap" (163 : Nat) "java/util/HashMap$Node") ∈ lw_all := lw_g (lw_at lw_m4 111 rfl) rfl
theorem q984 : (Jvm.Cond.classLink "java/util/HashMap" (180 : Nat) "java/util/HashMap$TreeNode") ∈ lw_all := lw_g (lw_at lw_m4 113 rfl) rfl
theorem q985 : (Jvm.Cond.methodLink "java/util/HashMap" (211 : Nat) ({ cls := "java/util/HashMap$TreeNode", name := "split", desc := "(Ljava/util/HashMap;[Ljava/util/HashMap$Node;II)V" } : Jvm.MethodName)) ∈ lw_all := lw_g (lw_at lw_m4 114 rfl) rfl
theorem q995 : (Jvm.Cond.instanceMethod ({ cls := "java/util/HashMap", name := "replacementNode", desc := "(Ljava/util/HashMap$Node;Ljava/util/HashMap$Node;)Ljava/util/HashMap$Node;" } : Jvm.MethodName)) ∈ lw_all := lw_g (lw_at lw_m4 124 rfl) rfl
theorem q996 : (Jvm.Cond.selects "java/util/HashMap" ({ cls := "java/util/HashMap", name := "replacementNode", desc := "(Ljava/util/HashMap$Node;Ljava/util/HashMap$Node;)Ljava/util/HashMap$Node;" } : Jvm.MethodName) ({ cls := "java/util/HashMap", name := "replacementNode", desc := "(Ljava/util/HashMap$Node;Ljava/util/HashMap$Node;)Ljava/util/HashMap$Node;" } : Jvm.MethodName)) ∈ lw_all := lw_g (lw_at lw_m4 125 rfl) rfl
theorem q997 : (Jvm.Cond.sameMethod "java/util/HashMap" "java/util/HashMap" "replacementNode" "(Ljava/util/HashMap$Node;Ljava/util/HashMap$Node;)Ljava/util/HashMap$Node;") ∈ lw_all := lw_g (lw_at lw_m4 126 rfl) rfl
theorem q1017 : (Jvm.Cond.fieldLink "java/util/HashMap" (168 : Nat) "java/util/HashMap$Node" "hash" "I") ∈ lw_all := lw_g (lw_at lw_m4 146 rfl) rfl
theorem q1023 : (Jvm.Cond.fieldLink "java/util/HashMap" (170 : Nat) "java/util/HashMap$Node" "key" "Ljava/lang/Object;") ∈ lw_all := lw_g (lw_at lw_m4 152 rfl) rfl
theorem q1027 : (Jvm.Cond.fieldLink "java/util/HashMap" (162 : Nat) "java/util/HashMap$Node" "value" "Ljava/lang/Object;") ∈ lw_all := lw_g (lw_at lw_m4 156 rfl) rfl
theorem q1033 : (Jvm.Cond.fieldLink "java/util/HashMap" (177 : Nat) "java/util/HashMap$Node" "next" "Ljava/util/HashMap$Node;") ∈ lw_all := lw_g (lw_at lw_m4 162 rfl) rfl
theorem q1034 : (Jvm.Cond.fieldLink "java/util/HashMap" (223 : Nat) "java/util/HashMap$TreeNode" "next" "Ljava/util/HashMap$Node;") ∈ lw_all := lw_g (lw_at lw_m4 163 rfl) rfl
theorem q1052 : (Jvm.Cond.code ({ cls := "java/util/HashMap", name := "replacementNode", desc := "(Ljava/util/HashMap$Node;Ljava/util/HashMap$Node;)Ljava/util/HashMap$Node;" } : Jvm.MethodName) prog_53_method_47_code (3 : Nat) (Option.some (Jvm.ClassFile.FieldType.object "java/util/HashMap$Node"))) ∈ lw_all := lw_g (lw_at lw_m4 181 rfl) rfl
theorem q1054 : (Jvm.Cond.methodLink "java/util/HashMap" (375 : Nat) ({ cls := "java/util/HashMap$Node", name := "<init>", desc := "(ILjava/lang/Object;Ljava/lang/Object;Ljava/util/HashMap$Node;)V" } : Jvm.MethodName)) ∈ lw_all := lw_g (lw_at lw_m4 183 rfl) rfl
theorem q1065 : (Jvm.Cond.static ({ cls := "java/util/HashMap", name := "comparableClassFor", desc := "(Ljava/lang/Object;)Ljava/lang/Class;" } : Jvm.MethodName)) ∈ lw_all := lw_g (lw_at lw_m4 194 rfl) rfl
theorem q1066 : (Jvm.Cond.code ({ cls := "java/util/HashMap", name := "comparableClassFor", desc := "(Ljava/lang/Object;)Ljava/lang/Class;" } : Jvm.MethodName) prog_53_method_2_code (9 : Nat) (Option.some (Jvm.ClassFile.FieldType.object "java/lang/Class"))) ∈ lw_all := lw_g (lw_at lw_m4 195 rfl) rfl
theorem q1067 : (Jvm.Cond.classLink "java/util/HashMap" (7 : Nat) "java/lang/Comparable") ∈ lw_all := lw_g (lw_at lw_m4 196 rfl) rfl
theorem q1068 : (Jvm.Cond.methodLink "java/util/HashMap" (9 : Nat) ({ cls := "java/lang/Object", name := "getClass", desc := "()Ljava/lang/Class;" } : Jvm.MethodName)) ∈ lw_all := lw_g (lw_at lw_m4 197 rfl) rfl
theorem q1069 : (Jvm.Cond.classLink "java/util/HashMap" (13 : Nat) "java/lang/String") ∈ lw_all := lw_g (lw_at lw_m4 198 rfl) rfl
theorem q1071 : (Jvm.Cond.static ({ cls := "java/util/HashMap", name := "compareComparables", desc := "(Ljava/lang/Class;Ljava/lang/Object;Ljava/lang/Object;)I" } : Jvm.MethodName)) ∈ lw_all := lw_g (lw_at lw_m4 200 rfl) rfl
theorem q1072 : (Jvm.Cond.code ({ cls := "java/util/HashMap", name := "compareComparables", desc := "(Ljava/lang/Class;Ljava/lang/Object;Ljava/lang/Object;)I" } : Jvm.MethodName) prog_53_method_3_code (3 : Nat) (Option.some Jvm.ClassFile.FieldType.int)) ∈ lw_all := lw_g (lw_at lw_m4 201 rfl) rfl
theorem q1073 : (Jvm.Cond.interfaceEntry "java/util/HashMap" (30 : Nat)) ∈ lw_tbl := lw_at lw_m4 202 rfl
theorem q1074 : (Jvm.Cond.methodLink "java/util/HashMap" (30 : Nat) ({ cls := "java/lang/Comparable", name := "compareTo", desc := "(Ljava/lang/Object;)I" } : Jvm.MethodName)) ∈ lw_all := lw_g (lw_at lw_m4 203 rfl) rfl
theorem q1283 : (Jvm.Cond.methodLink "java/util/HashMap" (186 : Nat) ({ cls := "java/util/HashMap", name := "newNode", desc := "(ILjava/lang/Object;Ljava/lang/Object;Ljava/util/HashMap$Node;)Ljava/util/HashMap$Node;" } : Jvm.MethodName)) ∈ lw_all := lw_g (lw_at lw_m5 172 rfl) rfl
theorem q1284 : (Jvm.Cond.instanceMethod ({ cls := "java/util/HashMap", name := "newNode", desc := "(ILjava/lang/Object;Ljava/lang/Object;Ljava/util/HashMap$Node;)Ljava/util/HashMap$Node;" } : Jvm.MethodName)) ∈ lw_all := lw_g (lw_at lw_m5 173 rfl) rfl
theorem q1285 : (Jvm.Cond.selects "java/util/HashMap" ({ cls := "java/util/HashMap", name := "newNode", desc := "(ILjava/lang/Object;Ljava/lang/Object;Ljava/util/HashMap$Node;)Ljava/util/HashMap$Node;" } : Jvm.MethodName) ({ cls := "java/util/HashMap", name := "newNode", desc := "(ILjava/lang/Object;Ljava/lang/Object;Ljava/util/HashMap$Node;)Ljava/util/HashMap$Node;" } : Jvm.MethodName)) ∈ lw_all := lw_g (lw_at lw_m5 174 rfl) rfl
theorem q1286 : (Jvm.Cond.sameMethod "java/util/HashMap" "java/util/HashMap" "newNode" "(ILjava/lang/Object;Ljava/lang/Object;Ljava/util/HashMap$Node;)Ljava/util/HashMap$Node;") ∈ lw_all := lw_g (lw_at lw_m5 175 rfl) rfl
theorem q1294 : (Jvm.Cond.code ({ cls := "java/util/HashMap", name := "newNode", desc := "(ILjava/lang/Object;Ljava/lang/Object;Ljava/util/HashMap$Node;)Ljava/util/HashMap$Node;" } : Jvm.MethodName) prog_53_method_46_code (5 : Nat) (Option.some (Jvm.ClassFile.FieldType.object "java/util/HashMap$Node"))) ∈ lw_all := lw_g (lw_at lw_m5 183 rfl) rfl
theorem q1296 : (Jvm.Cond.methodLink "java/util/HashMap" (173 : Nat) ({ cls := "java/lang/Object", name := "equals", desc := "(Ljava/lang/Object;)Z" } : Jvm.MethodName)) ∈ lw_all := lw_g (lw_at lw_m5 185 rfl) rfl
theorem q1339 : (Jvm.Cond.methodLink "java/util/HashMap" (190 : Nat) ({ cls := "java/util/HashMap$TreeNode", name := "putTreeVal", desc := "(Ljava/util/HashMap;[Ljava/util/HashMap$Node;ILjava/lang/Object;Ljava/lang/Object;)Ljava/util/HashMap$TreeNode;" } : Jvm.MethodName)) ∈ lw_all := lw_g (lw_at lw_m5 228 rfl) rfl
theorem q1353 : (Jvm.Cond.instanceMethod ({ cls := "java/util/HashMap", name := "newTreeNode", desc := "(ILjava/lang/Object;Ljava/lang/Object;Ljava/util/HashMap$Node;)Ljava/util/HashMap$TreeNode;" } : Jvm.MethodName)) ∈ lw_all := lw_g (lw_at lw_m6 2 rfl) rfl
theorem q1354 : (Jvm.Cond.selects "java/util/HashMap" ({ cls := "java/util/HashMap", name := "newTreeNode", desc := "(ILjava/lang/Object;Ljava/lang/Object;Ljava/util/HashMap$Node;)Ljava/util/HashMap$TreeNode;" } : Jvm.MethodName) ({ cls := "java/util/HashMap", name := "newTreeNode", desc := "(ILjava/lang/Object;Ljava/lang/Object;Ljava/util/HashMap$Node;)Ljava/util/HashMap$TreeNode;" } : Jvm.MethodName)) ∈ lw_all := lw_g (lw_at lw_m6 3 rfl) rfl
theorem q1355 : (Jvm.Cond.sameMethod "java/util/HashMap" "java/util/HashMap" "newTreeNode" "(ILjava/lang/Object;Ljava/lang/Object;Ljava/util/HashMap$Node;)Ljava/util/HashMap$TreeNode;") ∈ lw_all := lw_g (lw_at lw_m6 4 rfl) rfl
theorem q1369 : (Jvm.Cond.fieldLink "java/util/HashMap" (219 : Nat) "java/util/HashMap$TreeNode" "prev" "Ljava/util/HashMap$TreeNode;") ∈ lw_all := lw_g (lw_at lw_m6 18 rfl) rfl
theorem q1388 : (Jvm.Cond.code ({ cls := "java/util/HashMap", name := "newTreeNode", desc := "(ILjava/lang/Object;Ljava/lang/Object;Ljava/util/HashMap$Node;)Ljava/util/HashMap$TreeNode;" } : Jvm.MethodName) prog_53_method_48_code (5 : Nat) (Option.some (Jvm.ClassFile.FieldType.object "java/util/HashMap$TreeNode"))) ∈ lw_all := lw_g (lw_at lw_m6 37 rfl) rfl
theorem q1389 : (Jvm.Cond.methodLink "java/util/HashMap" (378 : Nat) ({ cls := "java/util/HashMap$TreeNode", name := "<init>", desc := "(ILjava/lang/Object;Ljava/lang/Object;Ljava/util/HashMap$Node;)V" } : Jvm.MethodName)) ∈ lw_all := lw_g (lw_at lw_m6 38 rfl) rfl
theorem q1390 : (Jvm.Cond.methodLink "java/util/HashMap" (194 : Nat) ({ cls := "java/util/HashMap", name := "treeifyBin", desc := "([Ljava/util/HashMap$Node;I)V" } : Jvm.MethodName)) ∈ lw_all := lw_g (lw_at lw_m6 39 rfl) rfl
theorem q1391 : (Jvm.Cond.instanceMethod ({ cls := "java/util/HashMap", name := "treeifyBin", desc := "([Ljava/util/HashMap$Node;I)V" } : Jvm.MethodName)) ∈ lw_all := lw_g (lw_at lw_m6 40 rfl) rfl
theorem q1392 : (Jvm.Cond.selects "java/util/HashMap" ({ cls := "java/util/HashMap", name := "treeifyBin", desc := "([Ljava/util/HashMap$Node;I)V" } : Jvm.MethodName) ({ cls := "java/util/HashMap", name := "treeifyBin", desc := "([Ljava/util/HashMap$Node;I)V" } : Jvm.MethodName)) ∈ lw_all := lw_g (lw_at lw_m6 41 rfl) rfl
theorem q1393 : (Jvm.Cond.sameMethod "java/util/HashMap" "java/util/HashMap" "treeifyBin" "([Ljava/util/HashMap$Node;I)V") ∈ lw_all := lw_g (lw_at lw_m6 42 rfl) rfl
theorem q1395 : (Jvm.Cond.code ({ cls := "java/util/HashMap", name := "treeifyBin", desc := "([Ljava/util/HashMap$Node;I)V" } : Jvm.MethodName) prog_53_method_18_code (9 : Nat) (Option.none : Option Jvm.ClassFile.FieldType)) ∈ lw_all := lw_g (lw_at lw_m6 44 rfl) rfl
theorem q1396 : (Jvm.Cond.methodLink "java/util/HashMap" (215 : Nat) ({ cls := "java/util/HashMap", name := "replacementTreeNode", desc := "(Ljava/util/HashMap$Node;Ljava/util/HashMap$Node;)Ljava/util/HashMap$TreeNode;" } : Jvm.MethodName)) ∈ lw_all := lw_g (lw_at lw_m6 45 rfl) rfl
theorem q1397 : (Jvm.Cond.instanceMethod ({ cls := "java/util/HashMap", name := "replacementTreeNode", desc := "(Ljava/util/HashMap$Node;Ljava/util/HashMap$Node;)Ljava/util/HashMap$TreeNode;" } : Jvm.MethodName)) ∈ lw_all := lw_g (lw_at lw_m6 46 rfl) rfl
theorem q1398 : (Jvm.Cond.selects "java/util/HashMap" ({ cls := "java/util/HashMap", name := "replacementTreeNode", desc := "(Ljava/util/HashMap$Node;Ljava/util/HashMap$Node;)Ljava/util/HashMap$TreeNode;" } : Jvm.MethodName) ({ cls := "java/util/HashMap", name := "replacementTreeNode", desc := "(Ljava/util/HashMap$Node;Ljava/util/HashMap$Node;)Ljava/util/HashMap$TreeNode;" } : Jvm.MethodName)) ∈ lw_all := lw_g (lw_at lw_m6 47 rfl) rfl
theorem q1399 : (Jvm.Cond.sameMethod "java/util/HashMap" "java/util/HashMap" "replacementTreeNode" "(Ljava/util/HashMap$Node;Ljava/util/HashMap$Node;)Ljava/util/HashMap$TreeNode;") ∈ lw_all := lw_g (lw_at lw_m6 48 rfl) rfl
theorem q1403 : (Jvm.Cond.code ({ cls := "java/util/HashMap", name := "replacementTreeNode", desc := "(Ljava/util/HashMap$Node;Ljava/util/HashMap$Node;)Ljava/util/HashMap$TreeNode;" } : Jvm.MethodName) prog_53_method_49_code (3 : Nat) (Option.some (Jvm.ClassFile.FieldType.object "java/util/HashMap$TreeNode"))) ∈ lw_all := lw_g (lw_at lw_m6 52 rfl) rfl
theorem q1404 : (Jvm.Cond.methodLink "java/util/HashMap" (224 : Nat) ({ cls := "java/util/HashMap$TreeNode", name := "treeify", desc := "([Ljava/util/HashMap$Node;)V" } : Jvm.MethodName)) ∈ lw_all := lw_g (lw_at lw_m6 53 rfl) rfl
theorem q1405 : (Jvm.Cond.methodLink "java/util/HashMap" (198 : Nat) ({ cls := "java/util/HashMap", name := "afterNodeAccess", desc := "(Ljava/util/HashMap$Node;)V" } : Jvm.MethodName)) ∈ lw_all := lw_g (lw_at lw_m6 54 rfl) rfl
theorem q1406 : (Jvm.Cond.instanceMethod ({ cls := "java/util/HashMap", name := "afterNodeAccess", desc := "(Ljava/util/HashMap$Node;)V" } : Jvm.MethodName)) ∈ lw_all := lw_g (lw_at lw_m6 55 rfl) rfl
theorem q1407 : (Jvm.Cond.selects "java/util/HashMap" ({ cls := "java/util/HashMap", name := "afterNodeAccess", desc := "(Ljava/util/HashMap$Node;)V" } : Jvm.MethodName) ({ cls := "java/util/HashMap", name := "afterNodeAccess", desc := "(Ljava/util/HashMap$Node;)V" } : Jvm.MethodName)) ∈ lw_all := lw_g (lw_at lw_m6 56 rfl) rfl
theorem q1408 : (Jvm.Cond.sameMethod "java/util/HashMap" "java/util/HashMap" "afterNodeAccess" "(Ljava/util/HashMap$Node;)V") ∈ lw_all := lw_g (lw_at lw_m6 57 rfl) rfl
theorem q1412 : (Jvm.Cond.code ({ cls := "java/util/HashMap", name := "afterNodeAccess", desc := "(Ljava/util/HashMap$Node;)V" } : Jvm.MethodName) prog_53_method_51_code (2 : Nat) (Option.none : Option Jvm.ClassFile.FieldType)) ∈ lw_all := lw_g (lw_at lw_m6 61 rfl) rfl
theorem q1413 : (Jvm.Cond.methodLink "java/util/HashMap" (205 : Nat) ({ cls := "java/util/HashMap", name := "afterNodeInsertion", desc := "(Z)V" } : Jvm.MethodName)) ∈ lw_all := lw_g (lw_at lw_m6 62 rfl) rfl
theorem q1414 : (Jvm.Cond.instanceMethod ({ cls := "java/util/HashMap", name := "afterNodeInsertion", desc := "(Z)V" } : Jvm.MethodName)) ∈ lw_all := lw_g (lw_at lw_m6 63 rfl) rfl
theorem q1415 : (Jvm.Cond.selects "java/util/HashMap" ({ cls := "java/util/HashMap", name := "afterNodeInsertion", desc := "(Z)V" } : Jvm.MethodName) ({ cls := "java/util/HashMap", name := "afterNodeInsertion", desc := "(Z)V" } : Jvm.MethodName)) ∈ lw_all := lw_g (lw_at lw_m6 64 rfl) rfl
theorem q1416 : (Jvm.Cond.sameMethod "java/util/HashMap" "java/util/HashMap" "afterNodeInsertion" "(Z)V") ∈ lw_all := lw_g (lw_at lw_m6 65 rfl) rfl
theorem q1424 : (Jvm.Cond.code ({ cls := "java/util/HashMap", name := "afterNodeInsertion", desc := "(Z)V" } : Jvm.MethodName) prog_53_method_52_code (2 : Nat) (Option.none : Option Jvm.ClassFile.FieldType)) ∈ lw_all := lw_g (lw_at lw_m6 73 rfl) rfl
theorem q1633 : (Jvm.Cond.declares ({ cls := "java/util/HashMap", name := "containsKey", desc := "(Ljava/lang/Object;)Z" } : Jvm.MethodName)) ∈ lw_tbl := lw_at lw_m7 42 rfl
theorem q1635 : (Jvm.Cond.instanceMethod ({ cls := "java/util/HashMap", name := "containsKey", desc := "(Ljava/lang/Object;)Z" } : Jvm.MethodName)) ∈ lw_all := lw_g (lw_at lw_m7 44 rfl) rfl
theorem q1636 : (Jvm.Cond.code ({ cls := "java/util/HashMap", name := "containsKey", desc := "(Ljava/lang/Object;)Z" } : Jvm.MethodName) prog_53_method_14_code (2 : Nat) (Option.some Jvm.ClassFile.FieldType.boolean)) ∈ lw_all := lw_g (lw_at lw_m7 45 rfl) rfl
theorem q1637 : (Jvm.Cond.methodLink "java/util/HashMap" (158 : Nat) ({ cls := "java/util/HashMap", name := "getNode", desc := "(Ljava/lang/Object;)Ljava/util/HashMap$Node;" } : Jvm.MethodName)) ∈ lw_all := lw_g (lw_at lw_m7 46 rfl) rfl
theorem q1638 : (Jvm.Cond.instanceMethod ({ cls := "java/util/HashMap", name := "getNode", desc := "(Ljava/lang/Object;)Ljava/util/HashMap$Node;" } : Jvm.MethodName)) ∈ lw_all := lw_g (lw_at lw_m7 47 rfl) rfl
theorem q1639 : (Jvm.Cond.selects "java/util/HashMap" ({ cls := "java/util/HashMap", name := "getNode", desc := "(Ljava/lang/Object;)Ljava/util/HashMap$Node;" } : Jvm.MethodName) ({ cls := "java/util/HashMap", name := "getNode", desc := "(Ljava/lang/Object;)Ljava/util/HashMap$Node;" } : Jvm.MethodName)) ∈ lw_all := lw_g (lw_at lw_m7 48 rfl) rfl
theorem q1640 : (Jvm.Cond.sameMethod "java/util/HashMap" "java/util/HashMap" "getNode" "(Ljava/lang/Object;)Ljava/util/HashMap$Node;") ∈ lw_all := lw_g (lw_at lw_m7 49 rfl) rfl
theorem q1642 : (Jvm.Cond.code ({ cls := "java/util/HashMap", name := "getNode", desc := "(Ljava/lang/Object;)Ljava/util/HashMap$Node;" } : Jvm.MethodName) prog_53_method_13_code (8 : Nat) (Option.some (Jvm.ClassFile.FieldType.object "java/util/HashMap$Node"))) ∈ lw_all := lw_g (lw_at lw_m7 51 rfl) rfl
theorem q1643 : (Jvm.Cond.methodLink "java/util/HashMap" (182 : Nat) ({ cls := "java/util/HashMap$TreeNode", name := "getTreeNode", desc := "(ILjava/lang/Object;)Ljava/util/HashMap$TreeNode;" } : Jvm.MethodName)) ∈ lw_all := lw_g (lw_at lw_m7 52 rfl) rfl
theorem q1786 : (Jvm.Cond.instanceMethod ({ cls := "java/util/HashMap", name := "get", desc := "(Ljava/lang/Object;)Ljava/lang/Object;" } : Jvm.MethodName)) ∈ lw_all := lw_g (lw_at lw_m7 195 rfl) rfl
theorem q1787 : (Jvm.Cond.selects "java/util/HashMap" ({ cls := "java/util/HashMap", name := "get", desc := "(Ljava/lang/Object;)Ljava/lang/Object;" } : Jvm.MethodName) ({ cls := "java/util/HashMap", name := "get", desc := "(Ljava/lang/Object;)Ljava/lang/Object;" } : Jvm.MethodName)) ∈ lw_all := lw_g (lw_at lw_m7 196 rfl) rfl
theorem q1788 : (Jvm.Cond.sameMethod "java/util/HashMap" "java/util/HashMap" "get" "(Ljava/lang/Object;)Ljava/lang/Object;") ∈ lw_all := lw_g (lw_at lw_m7 197 rfl) rfl
theorem q1794 : (Jvm.Cond.declares ({ cls := "java/util/HashMap", name := "getNode", desc := "(Ljava/lang/Object;)Ljava/util/HashMap$Node;" } : Jvm.MethodName)) ∈ lw_tbl := lw_at lw_m7 203 rfl
theorem q1797 : (Jvm.Cond.code ({ cls := "java/util/HashMap", name := "get", desc := "(Ljava/lang/Object;)Ljava/lang/Object;" } : Jvm.MethodName) prog_53_method_12_code (3 : Nat) (Option.some (Jvm.ClassFile.FieldType.object "java/lang/Object"))) ∈ lw_all := lw_g (lw_at lw_m7 206 rfl) rfl
theorem q1939 : (Jvm.Cond.instanceMethod ({ cls := "java/util/HashMap", name := "remove", desc := "(Ljava/lang/Object;)Ljava/lang/Object;" } : Jvm.MethodName)) ∈ lw_all := lw_g (lw_at lw_m8 108 rfl) rfl
theorem q1940 : (Jvm.Cond.selects "java/util/HashMap" ({ cls := "java/util/HashMap", name := "remove", desc := "(Ljava/lang/Object;)Ljava/lang/Object;" } : Jvm.MethodName) ({ cls := "java/util/HashMap", name := "remove", desc := "(Ljava/lang/Object;)Ljava/lang/Object;" } : Jvm.MethodName)) ∈ lw_all := lw_g (lw_at lw_m8 109 rfl) rfl
theorem q1941 : (Jvm.Cond.sameMethod "java/util/HashMap" "java/util/HashMap" "remove" "(Ljava/lang/Object;)Ljava/lang/Object;") ∈ lw_all := lw_g (lw_at lw_m8 110 rfl) rfl
theorem q1943 : (Jvm.Cond.code ({ cls := "java/util/HashMap", name := "remove", desc := "(Ljava/lang/Object;)Ljava/lang/Object;" } : Jvm.MethodName) prog_53_method_20_code (3 : Nat) (Option.some (Jvm.ClassFile.FieldType.object "java/lang/Object"))) ∈ lw_all := lw_g (lw_at lw_m8 112 rfl) rfl
theorem q1944 : (Jvm.Cond.methodLink "java/util/HashMap" (228 : Nat) ({ cls := "java/util/HashMap", name := "removeNode", desc := "(ILjava/lang/Object;Ljava/lang/Object;ZZ)Ljava/util/HashMap$Node;" } : Jvm.MethodName)) ∈ lw_all := lw_g (lw_at lw_m8 113 rfl) rfl
theorem q1945 : (Jvm.Cond.instanceMethod ({ cls := "java/util/HashMap", name := "removeNode", desc := "(ILjava/lang/Object;Ljava/lang/Object;ZZ)Ljava/util/HashMap$Node;" } : Jvm.MethodName)) ∈ lw_all := lw_g (lw_at lw_m8 114 rfl) rfl
theorem q1946 : (Jvm.Cond.selects "java/util/HashMap" ({ cls := "java/util/HashMap", name := "removeNode", desc := "(ILjava/lang/Object;Ljava/lang/Object;ZZ)Ljava/util/HashMap$Node;" } : Jvm.MethodName) ({ cls := "java/util/HashMap", name := "removeNode", desc := "(ILjava/lang/Object;Ljava/lang/Object;ZZ)Ljava/util/HashMap$Node;" } : Jvm.MethodName)) ∈ lw_all := lw_g (lw_at lw_m8 115 rfl) rfl
theorem q1947 : (Jvm.Cond.sameMethod "java/util/HashMap" "java/util/HashMap" "removeNode" "(ILjava/lang/Object;Ljava/lang/Object;ZZ)Ljava/util/HashMap$Node;") ∈ lw_all := lw_g (lw_at lw_m8 116 rfl) rfl
theorem q1949 : (Jvm.Cond.code ({ cls := "java/util/HashMap", name := "removeNode", desc := "(ILjava/lang/Object;Ljava/lang/Object;ZZ)Ljava/util/HashMap$Node;" } : Jvm.MethodName) prog_53_method_21_code (14 : Nat) (Option.some (Jvm.ClassFile.FieldType.object "java/util/HashMap$Node"))) ∈ lw_all := lw_g (lw_at lw_m8 118 rfl) rfl
theorem q1950 : (Jvm.Cond.methodLink "java/util/HashMap" (232 : Nat) ({ cls := "java/util/HashMap$TreeNode", name := "removeTreeNode", desc := "(Ljava/util/HashMap;[Ljava/util/HashMap$Node;Z)V" } : Jvm.MethodName)) ∈ lw_all := lw_g (lw_at lw_m8 119 rfl) rfl
theorem q1957 : (Jvm.Cond.methodLink "java/util/HashMap" (236 : Nat) ({ cls := "java/util/HashMap", name := "afterNodeRemoval", desc := "(Ljava/util/HashMap$Node;)V" } : Jvm.MethodName)) ∈ lw_all := lw_g (lw_at lw_m8 126 rfl) rfl
theorem q1958 : (Jvm.Cond.instanceMethod ({ cls := "java/util/HashMap", name := "afterNodeRemoval", desc := "(Ljava/util/HashMap$Node;)V" } : Jvm.MethodName)) ∈ lw_all := lw_g (lw_at lw_m8 127 rfl) rfl
theorem q1959 : (Jvm.Cond.selects "java/util/HashMap" ({ cls := "java/util/HashMap", name := "afterNodeRemoval", desc := "(Ljava/util/HashMap$Node;)V" } : Jvm.MethodName) ({ cls := "java/util/HashMap", name := "afterNodeRemoval", desc := "(Ljava/util/HashMap$Node;)V" } : Jvm.MethodName)) ∈ lw_all := lw_g (lw_at lw_m8 128 rfl) rfl
theorem q1960 : (Jvm.Cond.sameMethod "java/util/HashMap" "java/util/HashMap" "afterNodeRemoval" "(Ljava/util/HashMap$Node;)V") ∈ lw_all := lw_g (lw_at lw_m8 129 rfl) rfl
theorem q1964 : (Jvm.Cond.code ({ cls := "java/util/HashMap", name := "afterNodeRemoval", desc := "(Ljava/util/HashMap$Node;)V" } : Jvm.MethodName) prog_53_method_53_code (2 : Nat) (Option.none : Option Jvm.ClassFile.FieldType)) ∈ lw_all := lw_g (lw_at lw_m8 133 rfl) rfl
theorem q2106 : (Jvm.Cond.instanceMethod ({ cls := "java/util/HashMap", name := "size", desc := "()I" } : Jvm.MethodName)) ∈ lw_all := lw_g (lw_at lw_m9 35 rfl) rfl
theorem q2107 : (Jvm.Cond.selects "java/util/HashMap" ({ cls := "java/util/HashMap", name := "size", desc := "()I" } : Jvm.MethodName) ({ cls := "java/util/HashMap", name := "size", desc := "()I" } : Jvm.MethodName)) ∈ lw_all := lw_g (lw_at lw_m9 36 rfl) rfl
theorem q2108 : (Jvm.Cond.sameMethod "java/util/HashMap" "java/util/HashMap" "size" "()I") ∈ lw_all := lw_g (lw_at lw_m9 37 rfl) rfl
theorem q2110 : (Jvm.Cond.code ({ cls := "java/util/HashMap", name := "size", desc := "()I" } : Jvm.MethodName) prog_53_method_10_code (1 : Nat) (Option.some Jvm.ClassFile.FieldType.int)) ∈ lw_all := lw_g (lw_at lw_m9 39 rfl) rfl
theorem q3502 : (Jvm.Cond.sameMethod "java/util/HashMap" "java/util/HashMap" "containsKey" "(Ljava/lang/Object;)Z") ∈ lw_all := lw_g (lw_at lw_m14 231 rfl) rfl
theorem q3503 : (Jvm.Cond.selects "java/util/HashMap" ({ cls := "java/util/HashMap", name := "containsKey", desc := "(Ljava/lang/Object;)Z" } : Jvm.MethodName) ({ cls := "java/util/HashMap", name := "containsKey", desc := "(Ljava/lang/Object;)Z" } : Jvm.MethodName)) ∈ lw_all := lw_g (lw_at lw_m14 232 rfl) rfl
theorem q3506 : (Jvm.Cond.sameMethod "java/util/HashMap" "java/util/HashMap" "put" "(Ljava/lang/Object;Ljava/lang/Object;)Ljava/lang/Object;") ∈ lw_all := lw_g (lw_at lw_m14 235 rfl) rfl
theorem q3507 : (Jvm.Cond.selects "java/util/HashMap" ({ cls := "java/util/HashMap", name := "put", desc := "(Ljava/lang/Object;Ljava/lang/Object;)Ljava/lang/Object;" } : Jvm.MethodName) ({ cls := "java/util/HashMap", name := "put", desc := "(Ljava/lang/Object;Ljava/lang/Object;)Ljava/lang/Object;" } : Jvm.MethodName)) ∈ lw_all := lw_g (lw_at lw_m14 236 rfl) rfl
theorem q3529 : (Jvm.Cond.castable "java/util/HashMap" "java/lang/Object") ∈ lw_tbl := lw_at lw_m15 18 rfl
theorem in_J1 : ∀ w ∈ wsJ10, w ∈ lw_all := lw_in wsJ10 [249, 251, 237, 239, 241, 243, 245, 247] (by decide +kernel) (by decide +kernel)
/-! java/util/AbstractCollection -/
set_option maxRecDepth 100000
def RJ2 : String := "java/util/AbstractCollection"
abbrev cJ2_init : ByteArray := prog_46_method_1_code
def yJ2_init : MethodName := ⟨RJ2, "<init>", "()V"⟩
theorem dJ2_init_0 : decode cJ2_init 0 = .ok (.aload_n 0, 1) := by decide +kernel
theorem dJ2_init_1 : decode cJ2_init 1 = .ok (.invokespecial 1, 3) := by decide +kernel
theorem dJ2_init_4 : decode cJ2_init 4 = .ok (.return_, 1) := by decide +kernel
theorem q156 : (Jvm.Cond.initialized "java/util/AbstractCollection") ∈ lw_all := lw_g (lw_at lw_m1 5 rfl) rfl
theorem q264 : (Jvm.Cond.instanceMethod ({ cls := "java/util/AbstractCollection", name := "<init>", desc := "()V" } : Jvm.MethodName)) ∈ lw_all := lw_g (lw_at lw_m1 113 rfl) rfl
theorem q265 : (Jvm.Cond.code ({ cls := "java/util/AbstractCollection", name := "<init>", desc := "()V" } : Jvm.MethodName) prog_46_method_1_code (1 : Nat) (Option.none : Option Jvm.ClassFile.FieldType)) ∈ lw_all := lw_g (lw_at lw_m1 114 rfl) rfl
theorem q266 : (Jvm.Cond.methodLink "java/util/AbstractCollection" (1 : Nat) ({ cls := "java/lang/Object", name := "<init>", desc := "()V" } : Jvm.MethodName)) ∈ lw_all := lw_g (lw_at lw_m1 115 rfl) rfl
/-! java/util/AbstractSet -/
set_option maxRecDepth 100000
def RJ3 : String := "java/util/AbstractSet"
abbrev cJ3_init : ByteArray := prog_49_method_1_code
def yJ3_init : MethodName := ⟨RJ3, "<init>", "()V"⟩
theorem dJ3_init_0 : decode cJ3_init 0 = .ok (.aload_n 0, 1) := by decide +kernel
theorem dJ3_init_1 : decode cJ3_init 1 = .ok (.invokespecial 1, 3) := by decide +kernel
theorem dJ3_init_4 : decode cJ3_init 4 = .ok (.return_, 1) := by decide +kernel
theorem q157 : (Jvm.Cond.initialized "java/util/AbstractSet") ∈ lw_all := lw_g (lw_at lw_m1 6 rfl) rfl
theorem q261 : (Jvm.Cond.instanceMethod ({ cls := "java/util/AbstractSet", name := "<init>", desc := "()V" } : Jvm.MethodName)) ∈ lw_all := lw_g (lw_at lw_m1 110 rfl) rfl
theorem q262 : (Jvm.Cond.code ({ cls := "java/util/AbstractSet", name := "<init>", desc := "()V" } : Jvm.MethodName) prog_49_method_1_code (1 : Nat) (Option.none : Option Jvm.ClassFile.FieldType)) ∈ lw_all := lw_g (lw_at lw_m1 111 rfl) rfl
theorem q263 : (Jvm.Cond.methodLink "java/util/AbstractSet" (1 : Nat) ({ cls := "java/util/AbstractCollection", name := "<init>", desc := "()V" } : Jvm.MethodName)) ∈ lw_all := lw_g (lw_at lw_m1 112 rfl) rfl
/-! java/util/HashSet -/
set_option maxRecDepth 100000
def RJ4 : String := "java/util/HashSet"
def TJ4 : u_T := fun k => match k with
  | _ => ("java/util/HashSet", "map", "Ljava/util/HashMap;", false)
def tyJ4 : Nat → FieldType := fun k => match k with
  | _ => .object "java/util/HashMap"
abbrev wsJ40 : List Cond := u_ws RJ4 TJ4 1
theorem nmJ4 : ∀ a, a < 1 → ∀ b, b < 1 → a ≠ b → (TJ4 a).2.1 ≠ (TJ4 b).2.1 := by decide +kernel
theorem tyJ4_ok : ∀ k, k < 1 → parseFieldDescriptor (TJ4 k).2.2.1 = some (tyJ4 k) := by decide +kernel
abbrev cJ4_init : ByteArray := prog_56_method_1_code
def yJ4_init : MethodName := ⟨RJ4, "<init>", "()V"⟩
def dkwJ4_init_0 : List UInt8 := [42, 183, 0, 1, 42, 187, 0, 7, 89, 183, 0, 9, 181, 0, 10, 177]
abbrev dktJ4_init_0 : List UInt8 := dkwJ4_init_0 ++ []
theorem dksJ4_init_0 : cJ4_init.data.toList.drop 0 = dktJ4_init_0 := by decide +kernel
theorem dJ4_init_0 : decode cJ4_init 0 = .ok (.aload_n 0, 1) := dk_42 (dk_at dksJ4_init_0 0 rfl rfl)
theorem dJ4_init_1 : decode cJ4_init 1 = .ok (.invokespecial 1, 3) := dk_183 0 1 (dk_at dksJ4_init_0 1 rfl rfl)
theorem dJ4_init_4 : decode cJ4_init 4 = .ok (.aload_n 0, 1) := dk_42 (dk_at dksJ4_init_0 4 rfl rfl)
theorem dJ4_init_5 : decode cJ4_init 5 = .ok (.new 7, 3) := dk_187 0 7 (dk_at dksJ4_init_0 5 rfl rfl)
theorem dJ4_init_8 : decode cJ4_init 8 = .ok (.dup, 1) := dk_89 (dk_at dksJ4_init_0 8 rfl rfl)
theorem dJ4_init_9 : decode cJ4_init 9 = .ok (.invokespecial 9, 3) := dk_183 0 9 (dk_at dksJ4_init_0 9 rfl rfl)
theorem dJ4_init_12 : decode cJ4_init 12 = .ok (.putfield 10, 3) := dk_181 0 10 (dk_at dksJ4_init_0 12 rfl rfl)
theorem dJ4_init_15 : decode cJ4_init 15 = .ok (.return_, 1) := dk_177 (dk_at dksJ4_init_0 15 rfl rfl)
abbrev cJ4_contains : ByteArray := prog_56_method_9_code
def yJ4_contains : MethodName := ⟨RJ4, "contains", "(Ljava/lang/Object;)Z"⟩
def dkwJ4_contains_0 : List UInt8 := [42, 180, 0, 10, 43, 182, 0, 60, 172]
abbrev dktJ4_contains_0 : List UInt8 := dkwJ4_contains_0 ++ []
theorem dksJ4_contains_0 : cJ4_contains.data.toList.drop 0 = dktJ4_contains_0 := by decide +kernel
theorem dJ4_contains_0 : decode cJ4_contains 0 = .ok (.aload_n 0, 1) := dk_42 (dk_at dksJ4_contains_0 0 rfl rfl)
theorem dJ4_contains_1 : decode cJ4_contains 1 = .ok (.getfield 10, 3) := dk_180 0 10 (dk_at dksJ4_contains_0 1 rfl rfl)
theorem dJ4_contains_4 : decode cJ4_contains 4 = .ok (.aload_n 1, 1) := dk_43 (dk_at dksJ4_contains_0 4 rfl rfl)
theorem dJ4_contains_5 : decode cJ4_contains 5 = .ok (.invokevirtual 60, 3) := dk_182 0 60 (dk_at dksJ4_contains_0 5 rfl rfl)
theorem dJ4_contains_8 : decode cJ4_contains 8 = .ok (.ireturn, 1) := dk_172 (dk_at dksJ4_contains_0 8 rfl rfl)
abbrev cJ4_add : ByteArray := prog_56_method_10_code
def yJ4_add : MethodName := ⟨RJ4, "add", "(Ljava/lang/Object;)Z"⟩
def dkwJ4_add_0 : List UInt8 := [42, 180, 0, 10, 43, 178, 0, 64, 182, 0, 68, 199, 0, 7, 4, 167, 0, 4, 3, 172]
abbrev dktJ4_add_0 : List UInt8 := dkwJ4_add_0 ++ []
theorem dksJ4_add_0 : cJ4_add.data.toList.drop 0 = dktJ4_add_0 := by decide +kernel
theorem dJ4_add_0 : decode cJ4_add 0 = .ok (.aload_n 0, 1) := dk_42 (dk_at dksJ4_add_0 0 rfl rfl)
theorem dJ4_add_1 : decode cJ4_add 1 = .ok (.getfield 10, 3) := dk_180 0 10 (dk_at dksJ4_add_0 1 rfl rfl)
theorem dJ4_add_4 : decode cJ4_add 4 = .ok (.aload_n 1, 1) := dk_43 (dk_at dksJ4_add_0 4 rfl rfl)
theorem dJ4_add_5 : decode cJ4_add 5 = .ok (.getstatic 64, 3) := dk_178 0 64 (dk_at dksJ4_add_0 5 rfl rfl)
theorem dJ4_add_8 : decode cJ4_add 8 = .ok (.invokevirtual 68, 3) := dk_182 0 68 (dk_at dksJ4_add_0 8 rfl rfl)
theorem dJ4_add_11 : decode cJ4_add 11 = .ok (.ifnonnull 7, 3) := dk_199 0 7 (dk_at dksJ4_add_0 11 rfl rfl)
theorem dJ4_add_14 : decode cJ4_add 14 = .ok (.iconst 1, 1) := dk_4 (dk_at dksJ4_add_0 14 rfl rfl)
theorem dJ4_add_15 : decode cJ4_add 15 = .ok (.goto 4, 3) := dk_167 0 4 (dk_at dksJ4_add_0 15 rfl rfl)
theorem dJ4_add_18 : decode cJ4_add 18 = .ok (.iconst 0, 1) := dk_3 (dk_at dksJ4_add_0 18 rfl rfl)
theorem dJ4_add_19 : decode cJ4_add 19 = .ok (.ireturn, 1) := dk_172 (dk_at dksJ4_add_0 19 rfl rfl)
abbrev cJ4_remove : ByteArray := prog_56_method_11_code
def yJ4_remove : MethodName := ⟨RJ4, "remove", "(Ljava/lang/Object;)Z"⟩
def dkwJ4_remove_0 : List UInt8 := [42, 180, 0, 10, 43, 182, 0, 72, 178, 0, 64, 166, 0, 7, 4, 167, 0, 4, 3, 172]
abbrev dktJ4_remove_0 : List UInt8 := dkwJ4_remove_0 ++ []
theorem dksJ4_remove_0 : cJ4_remove.data.toList.drop 0 = dktJ4_remove_0 := by decide +kernel
theorem dJ4_remove_0 : decode cJ4_remove 0 = .ok (.aload_n 0, 1) := dk_42 (dk_at dksJ4_remove_0 0 rfl rfl)
theorem dJ4_remove_1 : decode cJ4_remove 1 = .ok (.getfield 10, 3) := dk_180 0 10 (dk_at dksJ4_remove_0 1 rfl rfl)
theorem dJ4_remove_4 : decode cJ4_remove 4 = .ok (.aload_n 1, 1) := dk_43 (dk_at dksJ4_remove_0 4 rfl rfl)
theorem dJ4_remove_5 : decode cJ4_remove 5 = .ok (.invokevirtual 72, 3) := dk_182 0 72 (dk_at dksJ4_remove_0 5 rfl rfl)
theorem dJ4_remove_8 : decode cJ4_remove 8 = .ok (.getstatic 64, 3) := dk_178 0 64 (dk_at dksJ4_remove_0 8 rfl rfl)
theorem dJ4_remove_11 : decode cJ4_remove 11 = .ok (.if_acmp .ne 7, 3) := dk_166 0 7 (dk_at dksJ4_remove_0 11 rfl rfl)
theorem dJ4_remove_14 : decode cJ4_remove 14 = .ok (.iconst 1, 1) := dk_4 (dk_at dksJ4_remove_0 14 rfl rfl)
theorem dJ4_remove_15 : decode cJ4_remove 15 = .ok (.goto 4, 3) := dk_167 0 4 (dk_at dksJ4_remove_0 15 rfl rfl)
theorem dJ4_remove_18 : decode cJ4_remove 18 = .ok (.iconst 0, 1) := dk_3 (dk_at dksJ4_remove_0 18 rfl rfl)
theorem dJ4_remove_19 : decode cJ4_remove 19 = .ok (.ireturn, 1) := dk_172 (dk_at dksJ4_remove_0 19 rfl rfl)
abbrev cJ4_size : ByteArray := prog_56_method_7_code
def yJ4_size : MethodName := ⟨RJ4, "size", "()I"⟩
def dkwJ4_size_0 : List UInt8 := [42, 180, 0, 10, 182, 0, 55, 172]
abbrev dktJ4_size_0 : List UInt8 := dkwJ4_size_0 ++ []
theorem dksJ4_size_0 : cJ4_size.data.toList.drop 0 = dktJ4_size_0 := by decide +kernel
theorem dJ4_size_0 : decode cJ4_size 0 = .ok (.aload_n 0, 1) := dk_42 (dk_at dksJ4_size_0 0 rfl rfl)
theorem dJ4_size_1 : decode cJ4_size 1 = .ok (.getfield 10, 3) := dk_180 0 10 (dk_at dksJ4_size_0 1 rfl rfl)
theorem dJ4_size_4 : decode cJ4_size 4 = .ok (.invokevirtual 55, 3) := dk_182 0 55 (dk_at dksJ4_size_0 4 rfl rfl)
theorem dJ4_size_7 : decode cJ4_size 7 = .ok (.ireturn, 1) := dk_172 (dk_at dksJ4_size_0 7 rfl rfl)
theorem q158 : (Jvm.Cond.initialized "java/util/HashSet") ∈ lw_all := lw_g (lw_at lw_m1 7 rfl) rfl
theorem q256 : (Jvm.Cond.instantiable "java/util/HashSet" (1 : Nat)) ∈ lw_all := lw_g (lw_at lw_m1 105 rfl) rfl
theorem q258 : (Jvm.Cond.instanceMethod ({ cls := "java/util/HashSet", name := "<init>", desc := "()V" } : Jvm.MethodName)) ∈ lw_all := lw_g (lw_at lw_m1 107 rfl) rfl
theorem q259 : (Jvm.Cond.code ({ cls := "java/util/HashSet", name := "<init>", desc := "()V" } : Jvm.MethodName) prog_56_method_1_code (1 : Nat) (Option.none : Option Jvm.ClassFile.FieldType)) ∈ lw_all := lw_g (lw_at lw_m1 108 rfl) rfl
theorem q260 : (Jvm.Cond.methodLink "java/util/HashSet" (1 : Nat) ({ cls := "java/util/AbstractSet", name := "<init>", desc := "()V" } : Jvm.MethodName)) ∈ lw_all := lw_g (lw_at lw_m1 109 rfl) rfl
theorem q267 : (Jvm.Cond.classLink "java/util/HashSet" (7 : Nat) "java/util/HashMap") ∈ lw_all := lw_g (lw_at lw_m1 116 rfl) rfl
theorem q268 : (Jvm.Cond.methodLink "java/util/HashSet" (9 : Nat) ({ cls := "java/util/HashMap", name := "<init>", desc := "()V" } : Jvm.MethodName)) ∈ lw_all := lw_g (lw_at lw_m1 117 rfl) rfl
theorem q269 : (Jvm.Cond.fieldLink "java/util/HashSet" (10 : Nat) "java/util/HashSet" "map" "Ljava/util/HashMap;") ∈ lw_all := lw_g (lw_at lw_m1 118 rfl) rfl
theorem q270 : (Jvm.Cond.lays "java/util/HashSet" "java/util/HashSet" "map" "Ljava/util/HashMap;") ∈ lw_all := lw_g (lw_at lw_m1 119 rfl) rfl
theorem q271 : (Jvm.Cond.soleField "java/util/HashSet" "map") ∈ lw_all := lw_g (lw_at lw_m1 120 rfl) rfl
theorem q272 : (Jvm.Cond.superclass "java/util/HashSet" "java/util/AbstractSet") ∈ lw_all := lw_g (lw_at lw_m1 121 rfl) rfl
theorem q519 : (Jvm.Cond.selects "java/util/HashSet" ({ cls := "java/lang/Object", name := "getClass", desc := "()Ljava/lang/Class;" } : Jvm.MethodName) ({ cls := "java/lang/Object", name := "getClass", desc := "()Ljava/lang/Class;" } : Jvm.MethodName)) ∈ lw_all := lw_g (lw_at lw_m2 128 rfl) rfl
theorem q1761 : (Jvm.Cond.instanceMethod ({ cls := "java/util/HashSet", name := "contains", desc := "(Ljava/lang/Object;)Z" } : Jvm.MethodName)) ∈ lw_all := lw_g (lw_at lw_m7 170 rfl) rfl
theorem q1762 : (Jvm.Cond.selects "java/util/HashSet" ({ cls := "java/util/HashSet", name := "contains", desc := "(Ljava/lang/Object;)Z" } : Jvm.MethodName) ({ cls := "java/util/HashSet", name := "contains", desc := "(Ljava/lang/Object;)Z" } : Jvm.MethodName)) ∈ lw_all := lw_g (lw_at lw_m7 171 rfl) rfl
theorem q1763 : (Jvm.Cond.code ({ cls := "java/util/HashSet", name := "contains", desc := "(Ljava/lang/Object;)Z" } : Jvm.MethodName) prog_56_method_9_code (2 : Nat) (Option.some Jvm.ClassFile.FieldType.boolean)) ∈ lw_all := lw_g (lw_at lw_m7 172 rfl) rfl
theorem q1764 : (Jvm.Cond.methodLink "java/util/HashSet" (60 : Nat) ({ cls := "java/util/HashMap", name := "containsKey", desc := "(Ljava/lang/Object;)Z" } : Jvm.MethodName)) ∈ lw_all := lw_g (lw_at lw_m7 173 rfl) rfl
theorem q2078 : (Jvm.Cond.instanceMethod ({ cls := "java/util/HashSet", name := "add", desc := "(Ljava/lang/Object;)Z" } : Jvm.MethodName)) ∈ lw_all := lw_g (lw_at lw_m9 7 rfl) rfl
theorem q2079 : (Jvm.Cond.selects "java/util/HashSet" ({ cls := "java/util/HashSet", name := "add", desc := "(Ljava/lang/Object;)Z" } : Jvm.MethodName) ({ cls := "java/util/HashSet", name := "add", desc := "(Ljava/lang/Object;)Z" } : Jvm.MethodName)) ∈ lw_all := lw_g (lw_at lw_m9 8 rfl) rfl
theorem q2080 : (Jvm.Cond.code ({ cls := "java/util/HashSet", name := "add", desc := "(Ljava/lang/Object;)Z" } : Jvm.MethodName) prog_56_method_10_code (2 : Nat) (Option.some Jvm.ClassFile.FieldType.boolean)) ∈ lw_all := lw_g (lw_at lw_m9 9 rfl) rfl
theorem q2081 : (Jvm.Cond.fieldLink "java/util/HashSet" (64 : Nat) "java/util/HashSet" "PRESENT" "Ljava/lang/Object;") ∈ lw_all := lw_g (lw_at lw_m9 10 rfl) rfl
theorem q2082 : (Jvm.Cond.laysStatic "java/util/HashSet" "PRESENT" "Ljava/lang/Object;") ∈ lw_tbl := lw_at lw_m9 11 rfl
theorem q2083 : (Jvm.Cond.methodLink "java/util/HashSet" (68 : Nat) ({ cls := "java/util/HashMap", name := "put", desc := "(Ljava/lang/Object;Ljava/lang/Object;)Ljava/lang/Object;" } : Jvm.MethodName)) ∈ lw_all := lw_g (lw_at lw_m9 12 rfl) rfl
theorem q2093 : (Jvm.Cond.instanceMethod ({ cls := "java/util/HashSet", name := "remove", desc := "(Ljava/lang/Object;)Z" } : Jvm.MethodName)) ∈ lw_all := lw_g (lw_at lw_m9 22 rfl) rfl
theorem q2094 : (Jvm.Cond.selects "java/util/HashSet" ({ cls := "java/util/HashSet", name := "remove", desc := "(Ljava/lang/Object;)Z" } : Jvm.MethodName) ({ cls := "java/util/HashSet", name := "remove", desc := "(Ljava/lang/Object;)Z" } : Jvm.MethodName)) ∈ lw_all := lw_g (lw_at lw_m9 23 rfl) rfl
theorem q2095 : (Jvm.Cond.code ({ cls := "java/util/HashSet", name := "remove", desc := "(Ljava/lang/Object;)Z" } : Jvm.MethodName) prog_56_method_11_code (2 : Nat) (Option.some Jvm.ClassFile.FieldType.boolean)) ∈ lw_all := lw_g (lw_at lw_m9 24 rfl) rfl
theorem q2096 : (Jvm.Cond.methodLink "java/util/HashSet" (72 : Nat) ({ cls := "java/util/HashMap", name := "remove", desc := "(Ljava/lang/Object;)Ljava/lang/Object;" } : Jvm.MethodName)) ∈ lw_all := lw_g (lw_at lw_m9 25 rfl) rfl
theorem q2102 : (Jvm.Cond.instanceMethod ({ cls := "java/util/HashSet", name := "size", desc := "()I" } : Jvm.MethodName)) ∈ lw_all := lw_g (lw_at lw_m9 31 rfl) rfl
theorem q2103 : (Jvm.Cond.selects "java/util/HashSet" ({ cls := "java/util/HashSet", name := "size", desc := "()I" } : Jvm.MethodName) ({ cls := "java/util/HashSet", name := "size", desc := "()I" } : Jvm.MethodName)) ∈ lw_all := lw_g (lw_at lw_m9 32 rfl) rfl
theorem q2104 : (Jvm.Cond.code ({ cls := "java/util/HashSet", name := "size", desc := "()I" } : Jvm.MethodName) prog_56_method_7_code (1 : Nat) (Option.some Jvm.ClassFile.FieldType.int)) ∈ lw_all := lw_g (lw_at lw_m9 33 rfl) rfl
theorem q2105 : (Jvm.Cond.methodLink "java/util/HashSet" (55 : Nat) ({ cls := "java/util/HashMap", name := "size", desc := "()I" } : Jvm.MethodName)) ∈ lw_all := lw_g (lw_at lw_m9 34 rfl) rfl
theorem q3530 : (Jvm.Cond.castable "java/util/HashSet" "java/lang/Object") ∈ lw_tbl := lw_at lw_m15 19 rfl
theorem in_J4 : ∀ w ∈ wsJ40, w ∈ lw_all := lw_in wsJ40 [270] (by decide +kernel) (by decide +kernel)
/-! java/util/LinkedHashMap -/
set_option maxRecDepth 100000
def RJ5 : String := "java/util/LinkedHashMap"
def TJ5 : u_T := fun k => match k with
  | 0 => ("java/util/AbstractMap", "keySet", "Ljava/util/Set;", false)
  | 1 => ("java/util/AbstractMap", "values", "Ljava/util/Collection;", false)
  | 2 => ("java/util/HashMap", "table", "[Ljava/util/HashMap$Node;", false)
  | 3 => ("java/util/HashMap", "entrySet", "Ljava/util/Set;", false)
  | 4 => ("java/util/HashMap", "size", "I", false)
  | 5 => ("java/util/HashMap", "modCount", "I", false)
  | 6 => ("java/util/HashMap", "threshold", "I", false)
  | 7 => ("java/util/HashMap", "loadFactor", "F", true)
  | 8 => ("java/util/LinkedHashMap", "head", "Ljava/util/LinkedHashMap$Entry;", false)
  | 9 => ("java/util/LinkedHashMap", "tail", "Ljava/util/LinkedHashMap$Entry;", false)
  | 10 => ("java/util/LinkedHashMap", "accessOrder", "Z", true)
  | _ => ("java/util/LinkedHashMap", "putMode", "I", false)
def tyJ5 : Nat → FieldType := fun k => match k with
  | 0 => .object "java/util/Set"
  | 1 => .object "java/util/Collection"
  | 2 => .array (.object "java/util/HashMap$Node")
  | 3 => .object "java/util/Set"
  | 4 => .int
  | 5 => .int
  | 6 => .int
  | 7 => .float
  | 8 => .object "java/util/LinkedHashMap$Entry"
  | 9 => .object "java/util/LinkedHashMap$Entry"
  | 10 => .boolean
  | _ => .int
abbrev wsJ50 : List Cond := u_ws RJ5 TJ5 12
theorem nmJ5 : ∀ a, a < 12 → ∀ b, b < 12 → a ≠ b → (TJ5 a).2.1 ≠ (TJ5 b).2.1 := by decide +kernel
theorem tyJ5_ok : ∀ k, k < 12 → parseFieldDescriptor (TJ5 k).2.2.1 = some (tyJ5 k) := by decide +kernel
abbrev cJ5_init : ByteArray := prog_57_method_16_code
def yJ5_init : MethodName := ⟨RJ5, "<init>", "()V"⟩
def dkwJ5_init_0 : List UInt8 := [42, 183, 0, 87, 42, 3, 181, 0, 1, 42, 3, 181, 0, 64, 177]
abbrev dktJ5_init_0 : List UInt8 := dkwJ5_init_0 ++ []
theorem dksJ5_init_0 : cJ5_init.data.toList.drop 0 = dktJ5_init_0 := by decide +kernel
theorem dJ5_init_0 : decode cJ5_init 0 = .ok (.aload_n 0, 1) := dk_42 (dk_at dksJ5_init_0 0 rfl rfl)
theorem dJ5_init_1 : decode cJ5_init 1 = .ok (.invokespecial 87, 3) := dk_183 0 87 (dk_at dksJ5_init_0 1 rfl rfl)
theorem dJ5_init_4 : decode cJ5_init 4 = .ok (.aload_n 0, 1) := dk_42 (dk_at dksJ5_init_0 4 rfl rfl)
theorem dJ5_init_5 : decode cJ5_init 5 = .ok (.iconst 0, 1) := dk_3 (dk_at dksJ5_init_0 5 rfl rfl)
theorem dJ5_init_6 : decode cJ5_init 6 = .ok (.putfield 1, 3) := dk_181 0 1 (dk_at dksJ5_init_0 6 rfl rfl)
theorem dJ5_init_9 : decode cJ5_init 9 = .ok (.aload_n 0, 1) := dk_42 (dk_at dksJ5_init_0 9 rfl rfl)
theorem dJ5_init_10 : decode cJ5_init 10 = .ok (.iconst 0, 1) := dk_3 (dk_at dksJ5_init_0 10 rfl rfl)
theorem dJ5_init_11 : decode cJ5_init 11 = .ok (.putfield 64, 3) := dk_181 0 64 (dk_at dksJ5_init_0 11 rfl rfl)
theorem dJ5_init_14 : decode cJ5_init 14 = .ok (.return_, 1) := dk_177 (dk_at dksJ5_init_0 14 rfl rfl)
abbrev cJ5_replacementNode : ByteArray := prog_57_method_5_code
def yJ5_replacementNode : MethodName := ⟨RJ5, "replacementNode", "(Ljava/util/HashMap$Node;Ljava/util/HashMap$Node;)Ljava/util/HashMap$Node;"⟩
def dkwJ5_replacementNode_1 : List UInt8 := [183, 0, 28, 58, 4, 42, 45, 25, 4, 182, 0, 46, 25, 4, 176]
abbrev dktJ5_replacementNode_1 : List UInt8 := dkwJ5_replacementNode_1 ++ []
def dkwJ5_replacementNode_0 : List UInt8 := [43, 192, 0, 15, 78, 187, 0, 15, 89, 45, 180, 0, 36, 45, 180, 0, 39, 45, 180, 0, 43, 44]
abbrev dktJ5_replacementNode_0 : List UInt8 := dkwJ5_replacementNode_0 ++ dktJ5_replacementNode_1
theorem dksJ5_replacementNode_0 : cJ5_replacementNode.data.toList.drop 0 = dktJ5_replacementNode_0 := by decide +kernel
theorem dksJ5_replacementNode_1 : cJ5_replacementNode.data.toList.drop 22 = dktJ5_replacementNode_1 := dk_seg dksJ5_replacementNode_0 22 rfl rfl
theorem dJ5_replacementNode_0 : decode cJ5_replacementNode 0 = .ok (.aload_n 1, 1) := dk_43 (dk_at dksJ5_replacementNode_0 0 rfl rfl)
theorem dJ5_replacementNode_1 : decode cJ5_replacementNode 1 = .ok (.checkcast 15, 3) := dk_192 0 15 (dk_at dksJ5_replacementNode_0 1 rfl rfl)
theorem dJ5_replacementNode_4 : decode cJ5_replacementNode 4 = .ok (.astore_n 3, 1) := dk_78 (dk_at dksJ5_replacementNode_0 4 rfl rfl)
theorem dJ5_replacementNode_5 : decode cJ5_replacementNode 5 = .ok (.new 15, 3) := dk_187 0 15 (dk_at dksJ5_replacementNode_0 5 rfl rfl)
theorem dJ5_replacementNode_8 : decode cJ5_replacementNode 8 = .ok (.dup, 1) := dk_89 (dk_at dksJ5_replacementNode_0 8 rfl rfl)
theorem dJ5_replacementNode_9 : decode cJ5_replacementNode 9 = .ok (.aload_n 3, 1) := dk_45 (dk_at dksJ5_replacementNode_0 9 rfl rfl)
theorem dJ5_replacementNode_10 : decode cJ5_replacementNode 10 = .ok (.getfield 36, 3) := dk_180 0 36 (dk_at dksJ5_replacementNode_0 10 rfl rfl)
theorem dJ5_replacementNode_13 : decode cJ5_replacementNode 13 = .ok (.aload_n 3, 1) := dk_45 (dk_at dksJ5_replacementNode_0 13 rfl rfl)
theorem dJ5_replacementNode_14 : decode cJ5_replacementNode 14 = .ok (.getfield 39, 3) := dk_180 0 39 (dk_at dksJ5_replacementNode_0 14 rfl rfl)
theorem dJ5_replacementNode_17 : decode cJ5_replacementNode 17 = .ok (.aload_n 3, 1) := dk_45 (dk_at dksJ5_replacementNode_0 17 rfl rfl)
theorem dJ5_replacementNode_18 : decode cJ5_replacementNode 18 = .ok (.getfield 43, 3) := dk_180 0 43 (dk_at dksJ5_replacementNode_0 18 rfl rfl)
theorem dJ5_replacementNode_21 : decode cJ5_replacementNode 21 = .ok (.aload_n 2, 1) := dk_44 (dk_at dksJ5_replacementNode_0 21 rfl rfl)
theorem dJ5_replacementNode_22 : decode cJ5_replacementNode 22 = .ok (.invokespecial 28, 3) := dk_183 0 28 (dk_at dksJ5_replacementNode_1 0 rfl rfl)
theorem dJ5_replacementNode_25 : decode cJ5_replacementNode 25 = .ok (.astore 4, 2) := dk_58 4 (dk_at dksJ5_replacementNode_1 3 rfl rfl)
theorem dJ5_replacementNode_27 : decode cJ5_replacementNode 27 = .ok (.aload_n 0, 1) := dk_42 (dk_at dksJ5_replacementNode_1 5 rfl rfl)
theorem dJ5_replacementNode_28 : decode cJ5_replacementNode 28 = .ok (.aload_n 3, 1) := dk_45 (dk_at dksJ5_replacementNode_1 6 rfl rfl)
theorem dJ5_replacementNode_29 : decode cJ5_replacementNode 29 = .ok (.aload 4, 2) := dk_25 4 (dk_at dksJ5_replacementNode_1 7 rfl rfl)
theorem dJ5_replacementNode_31 : decode cJ5_replacementNode 31 = .ok (.invokevirtual 46, 3) := dk_182 0 46 (dk_at dksJ5_replacementNode_1 9 rfl rfl)
theorem dJ5_replacementNode_34 : decode cJ5_replacementNode 34 = .ok (.aload 4, 2) := dk_25 4 (dk_at dksJ5_replacementNode_1 12 rfl rfl)
theorem dJ5_replacementNode_36 : decode cJ5_replacementNode 36 = .ok (.areturn, 1) := dk_176 (dk_at dksJ5_replacementNode_1 14 rfl rfl)
abbrev cJ5_transferLinks : ByteArray := prog_57_method_2_code
def yJ5_transferLinks : MethodName := ⟨RJ5, "transferLinks", "(Ljava/util/LinkedHashMap$Entry;Ljava/util/LinkedHashMap$Entry;)V"⟩
def dkwJ5_transferLinks_2 : List UInt8 := [181, 0, 11, 167, 0, 9, 25, 4, 44, 181, 0, 19, 177]
abbrev dktJ5_transferLinks_2 : List UInt8 := dkwJ5_transferLinks_2 ++ []
def dkwJ5_transferLinks_1 : List UInt8 := [199, 0, 11, 42, 44, 181, 0, 7, 167, 0, 8, 45, 44, 181, 0, 14, 25, 4, 199, 0, 11, 42, 44]
abbrev dktJ5_transferLinks_1 : List UInt8 := dkwJ5_transferLinks_1 ++ dktJ5_transferLinks_2
def dkwJ5_transferLinks_0 : List UInt8 := [44, 43, 180, 0, 19, 90, 181, 0, 19, 78, 44, 43, 180, 0, 14, 90, 181, 0, 14, 58, 4, 45]
abbrev dktJ5_transferLinks_0 : List UInt8 := dkwJ5_transferLinks_0 ++ dktJ5_transferLinks_1
theorem dksJ5_transferLinks_0 : cJ5_transferLinks.data.toList.drop 0 = dktJ5_transferLinks_0 := by decide +kernel
theorem dksJ5_transferLinks_1 : cJ5_transferLinks.data.toList.drop 22 = dktJ5_transferLinks_1 := dk_seg dksJ5_transferLinks_0 22 rfl rfl
theorem dksJ5_transferLinks_2 : cJ5_transferLinks.data.toList.drop 45 = dktJ5_transferLinks_2 := dk_seg dksJ5_transferLinks_1 23 rfl rfl
theorem dJ5_transferLinks_0 : decode cJ5_transferLinks 0 = .ok (.aload_n 2, 1) := dk_44 (dk_at dksJ5_transferLinks_0 0 rfl rfl)
theorem dJ5_transferLinks_1 : decode cJ5_transferLinks 1 = .ok (.aload_n 1, 1) := dk_43 (dk_at dksJ5_transferLinks_0 1 rfl rfl)
theorem dJ5_transferLinks_2 : decode cJ5_transferLinks 2 = .ok (.getfield 19, 3) := dk_180 0 19 (dk_at dksJ5_transferLinks_0 2 rfl rfl)
theorem dJ5_transferLinks_5 : decode cJ5_transferLinks 5 = .ok (.dup_x1, 1) := dk_90 (dk_at dksJ5_transferLinks_0 5 rfl rfl)
theorem dJ5_transferLinks_6 : decode cJ5_transferLinks 6 = .ok (.putfield 19, 3) := dk_181 0 19 (dk_at dksJ5_transferLinks_0 6 rfl rfl)
theorem dJ5_transferLinks_9 : decode cJ5_transferLinks 9 = .ok (.astore_n 3, 1) := dk_78 (dk_at dksJ5_transferLinks_0 9 rfl rfl)
theorem dJ5_transferLinks_10 : decode cJ5_transferLinks 10 = .ok (.aload_n 2, 1) := dk_44 (dk_at dksJ5_transferLinks_0 10 rfl rfl)
theorem dJ5_transferLinks_11 : decode cJ5_transferLinks 11 = .ok (.aload_n 1, 1) := dk_43 (dk_at dksJ5_transferLinks_0 11 rfl rfl)
theorem dJ5_transferLinks_12 : decode cJ5_transferLinks 12 = .ok (.getfield 14, 3) := dk_180 0 14 (dk_at dksJ5_transferLinks_0 12 rfl rfl)
theorem dJ5_transferLinks_15 : decode cJ5_transferLinks 15 = .ok (.dup_x1, 1) := dk_90 (dk_at dksJ5_transferLinks_0 15 rfl rfl)
theorem dJ5_transferLinks_16 : decode cJ5_transferLinks 16 = .ok (.putfield 14, 3) := dk_181 0 14 (dk_at dksJ5_transferLinks_0 16 rfl rfl)
theorem dJ5_transferLinks_19 : decode cJ5_transferLinks 19 = .ok (.astore 4, 2) := dk_58 4 (dk_at dksJ5_transferLinks_0 19 rfl rfl)
theorem dJ5_transferLinks_21 : decode cJ5_transferLinks 21 = .ok (.aload_n 3, 1) := dk_45 (dk_at dksJ5_transferLinks_0 21 rfl rfl)
theorem dJ5_transferLinks_22 : decode cJ5_transferLinks 22 = .ok (.ifnonnull 11, 3) := dk_199 0 11 (dk_at dksJ5_transferLinks_1 0 rfl rfl)
theorem dJ5_transferLinks_25 : decode cJ5_transferLinks 25 = .ok (.aload_n 0, 1) := dk_42 (dk_at dksJ5_transferLinks_1 3 rfl rfl)
theorem dJ5_transferLinks_26 : decode cJ5_transferLinks 26 = .ok (.aload_n 2, 1) := dk_44 (dk_at dksJ5_transferLinks_1 4 rfl rfl)
theorem dJ5_transferLinks_27 : decode cJ5_transferLinks 27 = .ok (.putfield 7, 3) := dk_181 0 7 (dk_at dksJ5_transferLinks_1 5 rfl rfl)
theorem dJ5_transferLinks_30 : decode cJ5_transferLinks 30 = .ok (.goto 8, 3) := dk_167 0 8 (dk_at dksJ5_transferLinks_1 8 rfl rfl)
theorem dJ5_transferLinks_33 : decode cJ5_transferLinks 33 = .ok (.aload_n 3, 1) := dk_45 (dk_at dksJ5_transferLinks_1 11 rfl rfl)
theorem dJ5_transferLinks_34 : decode cJ5_transferLinks 34 = .ok (.aload_n 2, 1) := dk_44 (dk_at dksJ5_transferLinks_1 12 rfl rfl)
theorem dJ5_transferLinks_35 : decode cJ5_transferLinks 35 = .ok (.putfield 14, 3) := dk_181 0 14 (dk_at dksJ5_transferLinks_1 13 rfl rfl)
theorem dJ5_transferLinks_38 : decode cJ5_transferLinks 38 = .ok (.aload 4, 2) := dk_25 4 (dk_at dksJ5_transferLinks_1 16 rfl rfl)
theorem dJ5_transferLinks_40 : decode cJ5_transferLinks 40 = .ok (.ifnonnull 11, 3) := dk_199 0 11 (dk_at dksJ5_transferLinks_1 18 rfl rfl)
theorem dJ5_transferLinks_43 : decode cJ5_transferLinks 43 = .ok (.aload_n 0, 1) := dk_42 (dk_at dksJ5_transferLinks_1 21 rfl rfl)
theorem dJ5_transferLinks_44 : decode cJ5_transferLinks 44 = .ok (.aload_n 2, 1) := dk_44 (dk_at dksJ5_transferLinks_1 22 rfl rfl)
theorem dJ5_transferLinks_45 : decode cJ5_transferLinks 45 = .ok (.putfield 11, 3) := dk_181 0 11 (dk_at dksJ5_transferLinks_2 0 rfl rfl)
theorem dJ5_transferLinks_48 : decode cJ5_transferLinks 48 = .ok (.goto 9, 3) := dk_167 0 9 (dk_at dksJ5_transferLinks_2 3 rfl rfl)
theorem dJ5_transferLinks_51 : decode cJ5_transferLinks 51 = .ok (.aload 4, 2) := dk_25 4 (dk_at dksJ5_transferLinks_2 6 rfl rfl)
theorem dJ5_transferLinks_53 : decode cJ5_transferLinks 53 = .ok (.aload_n 2, 1) := dk_44 (dk_at dksJ5_transferLinks_2 8 rfl rfl)
theorem dJ5_transferLinks_54 : decode cJ5_transferLinks 54 = .ok (.putfield 19, 3) := dk_181 0 19 (dk_at dksJ5_transferLinks_2 9 rfl rfl)
theorem dJ5_transferLinks_57 : decode cJ5_transferLinks 57 = .ok (.return_, 1) := dk_177 (dk_at dksJ5_transferLinks_2 12 rfl rfl)
abbrev cJ5_newNode : ByteArray := prog_57_method_4_code
def yJ5_newNode : MethodName := ⟨RJ5, "newNode", "(ILjava/lang/Object;Ljava/lang/Object;Ljava/util/HashMap$Node;)Ljava/util/HashMap$Node;"⟩
def dkwJ5_newNode_0 : List UInt8 := [187, 0, 15, 89, 27, 44, 45, 25, 4, 183, 0, 28, 58, 5, 42, 25, 5, 182, 0, 32, 25, 5, 176]
abbrev dktJ5_newNode_0 : List UInt8 := dkwJ5_newNode_0 ++ []
theorem dksJ5_newNode_0 : cJ5_newNode.data.toList.drop 0 = dktJ5_newNode_0 := by decide +kernel
theorem dJ5_newNode_0 : decode cJ5_newNode 0 = .ok (.new 15, 3) := dk_187 0 15 (dk_at dksJ5_newNode_0 0 rfl rfl)
theorem dJ5_newNode_3 : decode cJ5_newNode 3 = .ok (.dup, 1) := dk_89 (dk_at dksJ5_newNode_0 3 rfl rfl)
theorem dJ5_newNode_4 : decode cJ5_newNode 4 = .ok (.iload_n 1, 1) := dk_27 (dk_at dksJ5_newNode_0 4 rfl rfl)
theorem dJ5_newNode_5 : decode cJ5_newNode 5 = .ok (.aload_n 2, 1) := dk_44 (dk_at dksJ5_newNode_0 5 rfl rfl)
theorem dJ5_newNode_6 : decode cJ5_newNode 6 = .ok (.aload_n 3, 1) := dk_45 (dk_at dksJ5_newNode_0 6 rfl rfl)
theorem dJ5_newNode_7 : decode cJ5_newNode 7 = .ok (.aload 4, 2) := dk_25 4 (dk_at dksJ5_newNode_0 7 rfl rfl)
theorem dJ5_newNode_9 : decode cJ5_newNode 9 = .ok (.invokespecial 28, 3) := dk_183 0 28 (dk_at dksJ5_newNode_0 9 rfl rfl)
theorem dJ5_newNode_12 : decode cJ5_newNode 12 = .ok (.astore 5, 2) := dk_58 5 (dk_at dksJ5_newNode_0 12 rfl rfl)
theorem dJ5_newNode_14 : decode cJ5_newNode 14 = .ok (.aload_n 0, 1) := dk_42 (dk_at dksJ5_newNode_0 14 rfl rfl)
theorem dJ5_newNode_15 : decode cJ5_newNode 15 = .ok (.aload 5, 2) := dk_25 5 (dk_at dksJ5_newNode_0 15 rfl rfl)
theorem dJ5_newNode_17 : decode cJ5_newNode 17 = .ok (.invokevirtual 32, 3) := dk_182 0 32 (dk_at dksJ5_newNode_0 17 rfl rfl)
theorem dJ5_newNode_20 : decode cJ5_newNode 20 = .ok (.aload 5, 2) := dk_25 5 (dk_at dksJ5_newNode_0 20 rfl rfl)
theorem dJ5_newNode_22 : decode cJ5_newNode 22 = .ok (.areturn, 1) := dk_176 (dk_at dksJ5_newNode_0 22 rfl rfl)
abbrev cJ5_linkNodeAtEnd : ByteArray := prog_57_method_1_code
def yJ5_linkNodeAtEnd : MethodName := ⟨RJ5, "linkNodeAtEnd", "(Ljava/util/LinkedHashMap$Entry;)V"⟩
def dkwJ5_linkNodeAtEnd_3 : List UInt8 := [181, 0, 14, 177]
abbrev dktJ5_linkNodeAtEnd_3 : List UInt8 := dkwJ5_linkNodeAtEnd_3 ++ []
def dkwJ5_linkNodeAtEnd_2 : List UInt8 := [42, 43, 181, 0, 11, 44, 199, 0, 11, 42, 43, 181, 0, 7, 167, 0, 13, 43, 44, 181, 0, 19, 44, 43]
abbrev dktJ5_linkNodeAtEnd_2 : List UInt8 := dkwJ5_linkNodeAtEnd_2 ++ dktJ5_linkNodeAtEnd_3
def dkwJ5_linkNodeAtEnd_1 : List UInt8 := [181, 0, 11, 167, 0, 13, 43, 44, 181, 0, 14, 44, 43, 181, 0, 19, 167, 0, 35, 42, 180, 0, 11, 77]
abbrev dktJ5_linkNodeAtEnd_1 : List UInt8 := dkwJ5_linkNodeAtEnd_1 ++ dktJ5_linkNodeAtEnd_2
def dkwJ5_linkNodeAtEnd_0 : List UInt8 := [42, 180, 0, 1, 4, 160, 0, 38, 42, 180, 0, 7, 77, 42, 43, 181, 0, 7, 44, 199, 0, 11, 42, 43]
abbrev dktJ5_linkNodeAtEnd_0 : List UInt8 := dkwJ5_linkNodeAtEnd_0 ++ dktJ5_linkNodeAtEnd_1
theorem dksJ5_linkNodeAtEnd_0 : cJ5_linkNodeAtEnd.data.toList.drop 0 = dktJ5_linkNodeAtEnd_0 := by decide +kernel
theorem dksJ5_linkNodeAtEnd_1 : cJ5_linkNodeAtEnd.data.toList.drop 24 = dktJ5_linkNodeAtEnd_1 := dk_seg dksJ5_linkNodeAtEnd_0 24 rfl rfl
theorem dksJ5_linkNodeAtEnd_2 : cJ5_linkNodeAtEnd.data.toList.drop 48 = dktJ5_linkNodeAtEnd_2 := dk_seg dksJ5_linkNodeAtEnd_1 24 rfl rfl
theorem dksJ5_linkNodeAtEnd_3 : cJ5_linkNodeAtEnd.data.toList.drop 72 = dktJ5_linkNodeAtEnd_3 := dk_seg dksJ5_linkNodeAtEnd_2 24 rfl rfl
theorem dJ5_linkNodeAtEnd_0 : decode cJ5_linkNodeAtEnd 0 = .ok (.aload_n 0, 1) := dk_42 (dk_at dksJ5_linkNodeAtEnd_0 0 rfl rfl)
theorem dJ5_linkNodeAtEnd_1 : decode cJ5_linkNodeAtEnd 1 = .ok (.getfield 1, 3) := dk_180 0 1 (dk_at dksJ5_linkNodeAtEnd_0 1 rfl rfl)
theorem dJ5_linkNodeAtEnd_4 : decode cJ5_linkNodeAtEnd 4 = .ok (.iconst 1, 1) := dk_4 (dk_at dksJ5_linkNodeAtEnd_0 4 rfl rfl)
theorem dJ5_linkNodeAtEnd_5 : decode cJ5_linkNodeAtEnd 5 = .ok (.if_icmp .ne 38, 3) := dk_160 0 38 (dk_at dksJ5_linkNodeAtEnd_0 5 rfl rfl)
theorem dJ5_linkNodeAtEnd_8 : decode cJ5_linkNodeAtEnd 8 = .ok (.aload_n 0, 1) := dk_42 (dk_at dksJ5_linkNodeAtEnd_0 8 rfl rfl)
theorem dJ5_linkNodeAtEnd_9 : decode cJ5_linkNodeAtEnd 9 = .ok (.getfield 7, 3) := dk_180 0 7 (dk_at dksJ5_linkNodeAtEnd_0 9 rfl rfl)
theorem dJ5_linkNodeAtEnd_12 : decode cJ5_linkNodeAtEnd 12 = .ok (.astore_n 2, 1) := dk_77 (dk_at dksJ5_linkNodeAtEnd_0 12 rfl rfl)
theorem dJ5_linkNodeAtEnd_13 : decode cJ5_linkNodeAtEnd 13 = .ok (.aload_n 0, 1) := dk_42 (dk_at dksJ5_linkNodeAtEnd_0 13 rfl rfl)
theorem dJ5_linkNodeAtEnd_14 : decode cJ5_linkNodeAtEnd 14 = .ok (.aload_n 1, 1) := dk_43 (dk_at dksJ5_linkNodeAtEnd_0 14 rfl rfl)
theorem dJ5_linkNodeAtEnd_15 : decode cJ5_linkNodeAtEnd 15 = .ok (.putfield 7, 3) := dk_181 0 7 (dk_at dksJ5_linkNodeAtEnd_0 15 rfl rfl)
theorem dJ5_linkNodeAtEnd_18 : decode cJ5_linkNodeAtEnd 18 = .ok (.aload_n 2, 1) := dk_44 (dk_at dksJ5_linkNodeAtEnd_0 18 rfl rfl)
theorem dJ5_linkNodeAtEnd_19 : decode cJ5_linkNodeAtEnd 19 = .ok (.ifnonnull 11, 3) := dk_199 0 11 (dk_at dksJ5_linkNodeAtEnd_0 19 rfl rfl)
theorem dJ5_linkNodeAtEnd_22 : decode cJ5_linkNodeAtEnd 22 = .ok (.aload_n 0, 1) := dk_42 (dk_at dksJ5_linkNodeAtEnd_0 22 rfl rfl)
theorem dJ5_linkNodeAtEnd_23 : decode cJ5_linkNodeAtEnd 23 = .ok (.aload_n 1, 1) := dk_43 (dk_at dksJ5_linkNodeAtEnd_0 23 rfl rfl)
theorem dJ5_linkNodeAtEnd_24 : decode cJ5_linkNodeAtEnd 24 = .ok (.putfield 11, 3) := dk_181 0 11 (dk_at dksJ5_linkNodeAtEnd_1 0 rfl rfl)
theorem dJ5_linkNodeAtEnd_27 : decode cJ5_linkNodeAtEnd 27 = .ok (.goto 13, 3) := dk_167 0 13 (dk_at dksJ5_linkNodeAtEnd_1 3 rfl rfl)
theorem dJ5_linkNodeAtEnd_30 : decode cJ5_linkNodeAtEnd 30 = .ok (.aload_n 1, 1) := dk_43 (dk_at dksJ5_linkNodeAtEnd_1 6 rfl rfl)
theorem dJ5_linkNodeAtEnd_31 : decode cJ5_linkNodeAtEnd 31 = .ok (.aload_n 2, 1) := dk_44 (dk_at dksJ5_linkNodeAtEnd_1 7 rfl rfl)
theorem dJ5_linkNodeAtEnd_32 : decode cJ5_linkNodeAtEnd 32 = .ok (.putfield 14, 3) := dk_181 0 14 (dk_at dksJ5_linkNodeAtEnd_1 8 rfl rfl)
theorem dJ5_linkNodeAtEnd_35 : decode cJ5_linkNodeAtEnd 35 = .ok (.aload_n 2, 1) := dk_44 (dk_at dksJ5_linkNodeAtEnd_1 11 rfl rfl)
theorem dJ5_linkNodeAtEnd_36 : decode cJ5_linkNodeAtEnd 36 = .ok (.aload_n 1, 1) := dk_43 (dk_at dksJ5_linkNodeAtEnd_1 12 rfl rfl)
theorem dJ5_linkNodeAtEnd_37 : decode cJ5_linkNodeAtEnd 37 = .ok (.putfield 19, 3) := dk_181 0 19 (dk_at dksJ5_linkNodeAtEnd_1 13 rfl rfl)
theorem dJ5_linkNodeAtEnd_40 : decode cJ5_linkNodeAtEnd 40 = .ok (.goto 35, 3) := dk_167 0 35 (dk_at dksJ5_linkNodeAtEnd_1 16 rfl rfl)
theorem dJ5_linkNodeAtEnd_43 : decode cJ5_linkNodeAtEnd 43 = .ok (.aload_n 0, 1) := dk_42 (dk_at dksJ5_linkNodeAtEnd_1 19 rfl rfl)
theorem dJ5_linkNodeAtEnd_44 : decode cJ5_linkNodeAtEnd 44 = .ok (.getfield 11, 3) := dk_180 0 11 (dk_at dksJ5_linkNodeAtEnd_1 20 rfl rfl)
theorem dJ5_linkNodeAtEnd_47 : decode cJ5_linkNodeAtEnd 47 = .ok (.astore_n 2, 1) := dk_77 (dk_at dksJ5_linkNodeAtEnd_1 23 rfl rfl)
theorem dJ5_linkNodeAtEnd_48 : decode cJ5_linkNodeAtEnd 48 = .ok (.aload_n 0, 1) := dk_42 (dk_at dksJ5_linkNodeAtEnd_2 0 rfl rfl)
theorem dJ5_linkNodeAtEnd_49 : decode cJ5_linkNodeAtEnd 49 = .ok (.aload_n 1, 1) := dk_43 (dk_at dksJ5_linkNodeAtEnd_2 1 rfl rfl)
theorem dJ5_linkNodeAtEnd_50 : decode cJ5_linkNodeAtEnd 50 = .ok (.putfield 11, 3) := dk_181 0 11 (dk_at dksJ5_linkNodeAtEnd_2 2 rfl rfl)
theorem dJ5_linkNodeAtEnd_53 : decode cJ5_linkNodeAtEnd 53 = .ok (.aload_n 2, 1) := dk_44 (dk_at dksJ5_linkNodeAtEnd_2 5 rfl rfl)
theorem dJ5_linkNodeAtEnd_54 : decode cJ5_linkNodeAtEnd 54 = .ok (.ifnonnull 11, 3) := dk_199 0 11 (dk_at dksJ5_linkNodeAtEnd_2 6 rfl rfl)
theorem dJ5_linkNodeAtEnd_57 : decode cJ5_linkNodeAtEnd 57 = .ok (.aload_n 0, 1) := dk_42 (dk_at dksJ5_linkNodeAtEnd_2 9 rfl rfl)
theorem dJ5_linkNodeAtEnd_58 : decode cJ5_linkNodeAtEnd 58 = .ok (.aload_n 1, 1) := dk_43 (dk_at dksJ5_linkNodeAtEnd_2 10 rfl rfl)
theorem dJ5_linkNodeAtEnd_59 : decode cJ5_linkNodeAtEnd 59 = .ok (.putfield 7, 3) := dk_181 0 7 (dk_at dksJ5_linkNodeAtEnd_2 11 rfl rfl)
theorem dJ5_linkNodeAtEnd_62 : decode cJ5_linkNodeAtEnd 62 = .ok (.goto 13, 3) := dk_167 0 13 (dk_at dksJ5_linkNodeAtEnd_2 14 rfl rfl)
theorem dJ5_linkNodeAtEnd_65 : decode cJ5_linkNodeAtEnd 65 = .ok (.aload_n 1, 1) := dk_43 (dk_at dksJ5_linkNodeAtEnd_2 17 rfl rfl)
theorem dJ5_linkNodeAtEnd_66 : decode cJ5_linkNodeAtEnd 66 = .ok (.aload_n 2, 1) := dk_44 (dk_at dksJ5_linkNodeAtEnd_2 18 rfl rfl)
theorem dJ5_linkNodeAtEnd_67 : decode cJ5_linkNodeAtEnd 67 = .ok (.putfield 19, 3) := dk_181 0 19 (dk_at dksJ5_linkNodeAtEnd_2 19 rfl rfl)
theorem dJ5_linkNodeAtEnd_70 : decode cJ5_linkNodeAtEnd 70 = .ok (.aload_n 2, 1) := dk_44 (dk_at dksJ5_linkNodeAtEnd_2 22 rfl rfl)
theorem dJ5_linkNodeAtEnd_71 : decode cJ5_linkNodeAtEnd 71 = .ok (.aload_n 1, 1) := dk_43 (dk_at dksJ5_linkNodeAtEnd_2 23 rfl rfl)
theorem dJ5_linkNodeAtEnd_72 : decode cJ5_linkNodeAtEnd 72 = .ok (.putfield 14, 3) := dk_181 0 14 (dk_at dksJ5_linkNodeAtEnd_3 0 rfl rfl)
theorem dJ5_linkNodeAtEnd_75 : decode cJ5_linkNodeAtEnd 75 = .ok (.return_, 1) := dk_177 (dk_at dksJ5_linkNodeAtEnd_3 3 rfl rfl)
abbrev cJ5_newTreeNode : ByteArray := prog_57_method_6_code
def yJ5_newTreeNode : MethodName := ⟨RJ5, "newTreeNode", "(ILjava/lang/Object;Ljava/lang/Object;Ljava/util/HashMap$Node;)Ljava/util/HashMap$TreeNode;"⟩
def dkwJ5_newTreeNode_0 : List UInt8 := [187, 0, 50, 89, 27, 44, 45, 25, 4, 183, 0, 52, 58, 5, 42, 25, 5, 182, 0, 32, 25, 5, 176]
abbrev dktJ5_newTreeNode_0 : List UInt8 := dkwJ5_newTreeNode_0 ++ []
theorem dksJ5_newTreeNode_0 : cJ5_newTreeNode.data.toList.drop 0 = dktJ5_newTreeNode_0 := by decide +kernel
theorem dJ5_newTreeNode_0 : decode cJ5_newTreeNode 0 = .ok (.new 50, 3) := dk_187 0 50 (dk_at dksJ5_newTreeNode_0 0 rfl rfl)
theorem dJ5_newTreeNode_3 : decode cJ5_newTreeNode 3 = .ok (.dup, 1) := dk_89 (dk_at dksJ5_newTreeNode_0 3 rfl rfl)
theorem dJ5_newTreeNode_4 : decode cJ5_newTreeNode 4 = .ok (.iload_n 1, 1) := dk_27 (dk_at dksJ5_newTreeNode_0 4 rfl rfl)
theorem dJ5_newTreeNode_5 : decode cJ5_newTreeNode 5 = .ok (.aload_n 2, 1) := dk_44 (dk_at dksJ5_newTreeNode_0 5 rfl rfl)
theorem dJ5_newTreeNode_6 : decode cJ5_newTreeNode 6 = .ok (.aload_n 3, 1) := dk_45 (dk_at dksJ5_newTreeNode_0 6 rfl rfl)
theorem dJ5_newTreeNode_7 : decode cJ5_newTreeNode 7 = .ok (.aload 4, 2) := dk_25 4 (dk_at dksJ5_newTreeNode_0 7 rfl rfl)
theorem dJ5_newTreeNode_9 : decode cJ5_newTreeNode 9 = .ok (.invokespecial 52, 3) := dk_183 0 52 (dk_at dksJ5_newTreeNode_0 9 rfl rfl)
theorem dJ5_newTreeNode_12 : decode cJ5_newTreeNode 12 = .ok (.astore 5, 2) := dk_58 5 (dk_at dksJ5_newTreeNode_0 12 rfl rfl)
theorem dJ5_newTreeNode_14 : decode cJ5_newTreeNode 14 = .ok (.aload_n 0, 1) := dk_42 (dk_at dksJ5_newTreeNode_0 14 rfl rfl)
theorem dJ5_newTreeNode_15 : decode cJ5_newTreeNode 15 = .ok (.aload 5, 2) := dk_25 5 (dk_at dksJ5_newTreeNode_0 15 rfl rfl)
theorem dJ5_newTreeNode_17 : decode cJ5_newTreeNode 17 = .ok (.invokevirtual 32, 3) := dk_182 0 32 (dk_at dksJ5_newTreeNode_0 17 rfl rfl)
theorem dJ5_newTreeNode_20 : decode cJ5_newTreeNode 20 = .ok (.aload 5, 2) := dk_25 5 (dk_at dksJ5_newTreeNode_0 20 rfl rfl)
theorem dJ5_newTreeNode_22 : decode cJ5_newTreeNode 22 = .ok (.areturn, 1) := dk_176 (dk_at dksJ5_newTreeNode_0 22 rfl rfl)
abbrev cJ5_replacementTreeNode : ByteArray := prog_57_method_7_code
def yJ5_replacementTreeNode : MethodName := ⟨RJ5, "replacementTreeNode", "(Ljava/util/HashMap$Node;Ljava/util/HashMap$Node;)Ljava/util/HashMap$TreeNode;"⟩
def dkwJ5_replacementTreeNode_1 : List UInt8 := [183, 0, 52, 58, 4, 42, 45, 25, 4, 182, 0, 46, 25, 4, 176]
abbrev dktJ5_replacementTreeNode_1 : List UInt8 := dkwJ5_replacementTreeNode_1 ++ []
def dkwJ5_replacementTreeNode_0 : List UInt8 := [43, 192, 0, 15, 78, 187, 0, 50, 89, 45, 180, 0, 36, 45, 180, 0, 39, 45, 180, 0, 43, 44]
abbrev dktJ5_replacementTreeNode_0 : List UInt8 := dkwJ5_replacementTreeNode_0 ++ dktJ5_replacementTreeNode_1
theorem dksJ5_replacementTreeNode_0 : cJ5_replacementTreeNode.data.toList.drop 0 = dktJ5_replacementTreeNode_0 := by decide +kernel
theorem dksJ5_replacementTreeNode_1 : cJ5_replacementTreeNode.data.toList.drop 22 = dktJ5_replacementTreeNode_1 := dk_seg dksJ5_replacementTreeNode_0 22 rfl rfl
theorem dJ5_replacementTreeNode_0 : decode cJ5_replacementTreeNode 0 = .ok (.aload_n 1, 1) := dk_43 (dk_at dksJ5_replacementTreeNode_0 0 rfl rfl)
theorem dJ5_replacementTreeNode_1 : decode cJ5_replacementTreeNode 1 = .ok (.checkcast 15, 3) := dk_192 0 15 (dk_at dksJ5_replacementTreeNode_0 1 rfl rfl)
theorem dJ5_replacementTreeNode_4 : decode cJ5_replacementTreeNode 4 = .ok (.astore_n 3, 1) := dk_78 (dk_at dksJ5_replacementTreeNode_0 4 rfl rfl)
theorem dJ5_replacementTreeNode_5 : decode cJ5_replacementTreeNode 5 = .ok (.new 50, 3) := dk_187 0 50 (dk_at dksJ5_replacementTreeNode_0 5 rfl rfl)
theorem dJ5_replacementTreeNode_8 : decode cJ5_replacementTreeNode 8 = .ok (.dup, 1) := dk_89 (dk_at dksJ5_replacementTreeNode_0 8 rfl rfl)
theorem dJ5_replacementTreeNode_9 : decode cJ5_replacementTreeNode 9 = .ok (.aload_n 3, 1) := dk_45 (dk_at dksJ5_replacementTreeNode_0 9 rfl rfl)
theorem dJ5_replacementTreeNode_10 : decode cJ5_replacementTreeNode 10 = .ok (.getfield 36, 3) := dk_180 0 36 (dk_at dksJ5_replacementTreeNode_0 10 rfl rfl)
theorem dJ5_replacementTreeNode_13 : decode cJ5_replacementTreeNode 13 = .ok (.aload_n 3, 1) := dk_45 (dk_at dksJ5_replacementTreeNode_0 13 rfl rfl)
theorem dJ5_replacementTreeNode_14 : decode cJ5_replacementTreeNode 14 = .ok (.getfield 39, 3) := dk_180 0 39 (dk_at dksJ5_replacementTreeNode_0 14 rfl rfl)
theorem dJ5_replacementTreeNode_17 : decode cJ5_replacementTreeNode 17 = .ok (.aload_n 3, 1) := dk_45 (dk_at dksJ5_replacementTreeNode_0 17 rfl rfl)
theorem dJ5_replacementTreeNode_18 : decode cJ5_replacementTreeNode 18 = .ok (.getfield 43, 3) := dk_180 0 43 (dk_at dksJ5_replacementTreeNode_0 18 rfl rfl)
theorem dJ5_replacementTreeNode_21 : decode cJ5_replacementTreeNode 21 = .ok (.aload_n 2, 1) := dk_44 (dk_at dksJ5_replacementTreeNode_0 21 rfl rfl)
theorem dJ5_replacementTreeNode_22 : decode cJ5_replacementTreeNode 22 = .ok (.invokespecial 52, 3) := dk_183 0 52 (dk_at dksJ5_replacementTreeNode_1 0 rfl rfl)
theorem dJ5_replacementTreeNode_25 : decode cJ5_replacementTreeNode 25 = .ok (.astore 4, 2) := dk_58 4 (dk_at dksJ5_replacementTreeNode_1 3 rfl rfl)
theorem dJ5_replacementTreeNode_27 : decode cJ5_replacementTreeNode 27 = .ok (.aload_n 0, 1) := dk_42 (dk_at dksJ5_replacementTreeNode_1 5 rfl rfl)
theorem dJ5_replacementTreeNode_28 : decode cJ5_replacementTreeNode 28 = .ok (.aload_n 3, 1) := dk_45 (dk_at dksJ5_replacementTreeNode_1 6 rfl rfl)
theorem dJ5_replacementTreeNode_29 : decode cJ5_replacementTreeNode 29 = .ok (.aload 4, 2) := dk_25 4 (dk_at dksJ5_replacementTreeNode_1 7 rfl rfl)
theorem dJ5_replacementTreeNode_31 : decode cJ5_replacementTreeNode 31 = .ok (.invokevirtual 46, 3) := dk_182 0 46 (dk_at dksJ5_replacementTreeNode_1 9 rfl rfl)
theorem dJ5_replacementTreeNode_34 : decode cJ5_replacementTreeNode 34 = .ok (.aload 4, 2) := dk_25 4 (dk_at dksJ5_replacementTreeNode_1 12 rfl rfl)
theorem dJ5_replacementTreeNode_36 : decode cJ5_replacementTreeNode 36 = .ok (.areturn, 1) := dk_176 (dk_at dksJ5_replacementTreeNode_1 14 rfl rfl)
abbrev cJ5_afterNodeAccess : ByteArray := prog_57_method_10_code
def yJ5_afterNodeAccess : MethodName := ⟨RJ5, "afterNodeAccess", "(Ljava/util/HashMap$Node;)V"⟩
def dkwJ5_afterNodeAccess_11 : List UInt8 := [181, 0, 7, 42, 89, 180, 0, 68, 4, 96, 181, 0, 68, 177]
abbrev dktJ5_afterNodeAccess_11 : List UInt8 := dkwJ5_afterNodeAccess_11 ++ []
def dkwJ5_afterNodeAccess_10 : List UInt8 := [25, 4, 181, 0, 11, 167, 0, 15, 25, 4, 45, 181, 0, 14, 45, 25, 4, 181, 0, 19, 42, 25, 4]
abbrev dktJ5_afterNodeAccess_10 : List UInt8 := dkwJ5_afterNodeAccess_10 ++ dktJ5_afterNodeAccess_11
def dkwJ5_afterNodeAccess_9 : List UInt8 := [25, 5, 198, 0, 13, 25, 5, 25, 6, 181, 0, 14, 167, 0, 6, 25, 6, 78, 45, 199, 0, 12, 42]
abbrev dktJ5_afterNodeAccess_9 : List UInt8 := dkwJ5_afterNodeAccess_9 ++ dktJ5_afterNodeAccess_10
def dkwJ5_afterNodeAccess_8 : List UInt8 := [181, 0, 19, 25, 6, 199, 0, 12, 42, 25, 5, 181, 0, 11, 167, 0, 10, 25, 6, 25, 5, 181, 0, 19]
abbrev dktJ5_afterNodeAccess_8 : List UInt8 := dkwJ5_afterNodeAccess_8 ++ dktJ5_afterNodeAccess_9
def dkwJ5_afterNodeAccess_7 : List UInt8 := [43, 192, 0, 15, 58, 4, 25, 4, 180, 0, 19, 58, 5, 25, 4, 180, 0, 14, 58, 6, 25, 4, 1]
abbrev dktJ5_afterNodeAccess_7 : List UInt8 := dkwJ5_afterNodeAccess_7 ++ dktJ5_afterNodeAccess_8
def dkwJ5_afterNodeAccess_6 : List UInt8 := [181, 0, 68, 167, 0, 127, 42, 180, 0, 1, 4, 160, 0, 119, 42, 180, 0, 7, 89, 78, 43, 165, 0, 109]
abbrev dktJ5_afterNodeAccess_6 : List UInt8 := dkwJ5_afterNodeAccess_6 ++ dktJ5_afterNodeAccess_7
def dkwJ5_afterNodeAccess_5 : List UInt8 := [181, 0, 19, 44, 25, 4, 181, 0, 14, 42, 25, 4, 181, 0, 11, 42, 89, 180, 0, 68, 4, 96]
abbrev dktJ5_afterNodeAccess_5 : List UInt8 := dkwJ5_afterNodeAccess_5 ++ dktJ5_afterNodeAccess_6
def dkwJ5_afterNodeAccess_4 : List UInt8 := [167, 0, 6, 25, 5, 77, 44, 199, 0, 12, 42, 25, 4, 181, 0, 7, 167, 0, 15, 25, 4, 44]
abbrev dktJ5_afterNodeAccess_4 : List UInt8 := dkwJ5_afterNodeAccess_4 ++ dktJ5_afterNodeAccess_5
def dkwJ5_afterNodeAccess_3 : List UInt8 := [167, 0, 10, 25, 5, 25, 6, 181, 0, 14, 25, 6, 198, 0, 13, 25, 6, 25, 5, 181, 0, 19]
abbrev dktJ5_afterNodeAccess_3 : List UInt8 := dkwJ5_afterNodeAccess_3 ++ dktJ5_afterNodeAccess_4
def dkwJ5_afterNodeAccess_2 : List UInt8 := [180, 0, 14, 58, 6, 25, 4, 1, 181, 0, 14, 25, 5, 199, 0, 12, 42, 25, 6, 181, 0, 7]
abbrev dktJ5_afterNodeAccess_2 : List UInt8 := dkwJ5_afterNodeAccess_2 ++ dktJ5_afterNodeAccess_3
def dkwJ5_afterNodeAccess_1 : List UInt8 := [180, 0, 11, 89, 77, 43, 165, 0, 112, 43, 192, 0, 15, 58, 4, 25, 4, 180, 0, 19, 58, 5, 25, 4]
abbrev dktJ5_afterNodeAccess_1 : List UInt8 := dkwJ5_afterNodeAccess_1 ++ dktJ5_afterNodeAccess_2
def dkwJ5_afterNodeAccess_0 : List UInt8 := [42, 180, 0, 1, 5, 159, 0, 17, 42, 180, 0, 1, 154, 0, 129, 42, 180, 0, 64, 153, 0, 122, 42]
abbrev dktJ5_afterNodeAccess_0 : List UInt8 := dkwJ5_afterNodeAccess_0 ++ dktJ5_afterNodeAccess_1
theorem dksJ5_afterNodeAccess_0 : cJ5_afterNodeAccess.data.toList.drop 0 = dktJ5_afterNodeAccess_0 := by decide +kernel
theorem dksJ5_afterNodeAccess_1 : cJ5_afterNodeAccess.data.toList.drop 23 = dktJ5_afterNodeAccess_1 := dk_seg dksJ5_afterNodeAccess_0 23 rfl rfl
theorem dksJ5_afterNodeAccess_2 : cJ5_afterNodeAccess.data.toList.drop 47 = dktJ5_afterNodeAccess_2 := dk_seg dksJ5_afterNodeAccess_1 24 rfl rfl
theorem dksJ5_afterNodeAccess_3 : cJ5_afterNodeAccess.data.toList.drop 69 = dktJ5_afterNodeAccess_3 := dk_seg dksJ5_afterNodeAccess_2 22 rfl rfl
theorem dksJ5_afterNodeAccess_4 : cJ5_afterNodeAccess.data.toList.drop 91 = dktJ5_afterNodeAccess_4 := dk_seg dksJ5_afterNodeAccess_3 22 rfl rfl
theorem dksJ5_afterNodeAccess_5 : cJ5_afterNodeAccess.data.toList.drop 113 = dktJ5_afterNodeAccess_5 := dk_seg dksJ5_afterNodeAccess_4 22 rfl rfl
theorem dksJ5_afterNodeAccess_6 : cJ5_afterNodeAccess.data.toList.drop 135 = dktJ5_afterNodeAccess_6 := dk_seg dksJ5_afterNodeAccess_5 22 rfl rfl
theorem dksJ5_afterNodeAccess_7 : cJ5_afterNodeAccess.data.toList.drop 159 = dktJ5_afterNodeAccess_7 := dk_seg dksJ5_afterNodeAccess_6 24 rfl rfl
theorem dksJ5_afterNodeAccess_8 : cJ5_afterNodeAccess.data.toList.drop 182 = dktJ5_afterNodeAccess_8 := dk_seg dksJ5_afterNodeAccess_7 23 rfl rfl
theorem dksJ5_afterNodeAccess_9 : cJ5_afterNodeAccess.data.toList.drop 206 = dktJ5_afterNodeAccess_9 := dk_seg dksJ5_afterNodeAccess_8 24 rfl rfl
theorem dksJ5_afterNodeAccess_10 : cJ5_afterNodeAccess.data.toList.drop 229 = dktJ5_afterNodeAccess_10 := dk_seg dksJ5_afterNodeAccess_9 23 rfl rfl
theorem dksJ5_afterNodeAccess_11 : cJ5_afterNodeAccess.data.toList.drop 252 = dktJ5_afterNodeAccess_11 := dk_seg dksJ5_afterNodeAccess_10 23 rfl rfl
theorem dJ5_afterNodeAccess_0 : decode cJ5_afterNodeAccess 0 = .ok (.aload_n 0, 1) := dk_42 (dk_at dksJ5_afterNodeAccess_0 0 rfl rfl)
theorem dJ5_afterNodeAccess_1 : decode cJ5_afterNodeAccess 1 = .ok (.getfield 1, 3) := dk_180 0 1 (dk_at dksJ5_afterNodeAccess_0 1 rfl rfl)
theorem dJ5_afterNodeAccess_4 : decode cJ5_afterNodeAccess 4 = .ok (.iconst 2, 1) := dk_5 (dk_at dksJ5_afterNodeAccess_0 4 rfl rfl)
theorem dJ5_afterNodeAccess_5 : decode cJ5_afterNodeAccess 5 = .ok (.if_icmp .eq 17, 3) := dk_159 0 17 (dk_at dksJ5_afterNodeAccess_0 5 rfl rfl)
theorem dJ5_afterNodeAccess_8 : decode cJ5_afterNodeAccess 8 = .ok (.aload_n 0, 1) := dk_42 (dk_at dksJ5_afterNodeAccess_0 8 rfl rfl)
theorem dJ5_afterNodeAccess_9 : decode cJ5_afterNodeAccess 9 = .ok (.getfield 1, 3) := dk_180 0 1 (dk_at dksJ5_afterNodeAccess_0 9 rfl rfl)
theorem dJ5_afterNodeAccess_12 : decode cJ5_afterNodeAccess 12 = .ok (.ifCond .ne 129, 3) := dk_154 0 129 (dk_at dksJ5_afterNodeAccess_0 12 rfl rfl)
theorem dJ5_afterNodeAccess_15 : decode cJ5_afterNodeAccess 15 = .ok (.aload_n 0, 1) := dk_42 (dk_at dksJ5_afterNodeAccess_0 15 rfl rfl)
theorem dJ5_afterNodeAccess_16 : decode cJ5_afterNodeAccess 16 = .ok (.getfield 64, 3) := dk_180 0 64 (dk_at dksJ5_afterNodeAccess_0 16 rfl rfl)
theorem dJ5_afterNodeAccess_19 : decode cJ5_afterNodeAccess 19 = .ok (.ifCond .eq 122, 3) := dk_153 0 122 (dk_at dksJ5_afterNodeAccess_0 19 rfl rfl)
theorem dJ5_afterNodeAccess_22 : decode cJ5_afterNodeAccess 22 = .ok (.aload_n 0, 1) := dk_42 (dk_at dksJ5_afterNodeAccess_0 22 rfl rfl)
theorem dJ5_afterNodeAccess_23 : decode cJ5_afterNodeAccess 23 = .ok (.getfield 11, 3) := dk_180 0 11 (dk_at dksJ5_afterNodeAccess_1 0 rfl rfl)
theorem dJ5_afterNodeAccess_26 : decode cJ5_afterNodeAccess 26 = .ok (.dup, 1) := dk_89 (dk_at dksJ5_afterNodeAccess_1 3 rfl rfl)
theorem dJ5_afterNodeAccess_27 : decode cJ5_afterNodeAccess 27 = .ok (.astore_n 2, 1) := dk_77 (dk_at dksJ5_afterNodeAccess_1 4 rfl rfl)
theorem dJ5_afterNodeAccess_28 : decode cJ5_afterNodeAccess 28 = .ok (.aload_n 1, 1) := dk_43 (dk_at dksJ5_afterNodeAccess_1 5 rfl rfl)
theorem dJ5_afterNodeAccess_29 : decode cJ5_afterNodeAccess 29 = .ok (.if_acmp .eq 112, 3) := dk_165 0 112 (dk_at dksJ5_afterNodeAccess_1 6 rfl rfl)
theorem dJ5_afterNodeAccess_32 : decode cJ5_afterNodeAccess 32 = .ok (.aload_n 1, 1) := dk_43 (dk_at dksJ5_afterNodeAccess_1 9 rfl rfl)
theorem dJ5_afterNodeAccess_33 : decode cJ5_afterNodeAccess 33 = .ok (.checkcast 15, 3) := dk_192 0 15 (dk_at dksJ5_afterNodeAccess_1 10 rfl rfl)
theorem dJ5_afterNodeAccess_36 : decode cJ5_afterNodeAccess 36 = .ok (.astore 4, 2) := dk_58 4 (dk_at dksJ5_afterNodeAccess_1 13 rfl rfl)
theorem dJ5_afterNodeAccess_38 : decode cJ5_afterNodeAccess 38 = .ok (.aload 4, 2) := dk_25 4 (dk_at dksJ5_afterNodeAccess_1 15 rfl rfl)
theorem dJ5_afterNodeAccess_40 : decode cJ5_afterNodeAccess 40 = .ok (.getfield 19, 3) := dk_180 0 19 (dk_at dksJ5_afterNodeAccess_1 17 rfl rfl)
theorem dJ5_afterNodeAccess_43 : decode cJ5_afterNodeAccess 43 = .ok (.astore 5, 2) := dk_58 5 (dk_at dksJ5_afterNodeAccess_1 20 rfl rfl)
theorem dJ5_afterNodeAccess_45 : decode cJ5_afterNodeAccess 45 = .ok (.aload 4, 2) := dk_25 4 (dk_at dksJ5_afterNodeAccess_1 22 rfl rfl)
theorem dJ5_afterNodeAccess_47 : decode cJ5_afterNodeAccess 47 = .ok (.getfield 14, 3) := dk_180 0 14 (dk_at dksJ5_afterNodeAccess_2 0 rfl rfl)
theorem dJ5_afterNodeAccess_50 : decode cJ5_afterNodeAccess 50 = .ok (.astore 6, 2) := dk_58 6 (dk_at dksJ5_afterNodeAccess_2 3 rfl rfl)
theorem dJ5_afterNodeAccess_52 : decode cJ5_afterNodeAccess 52 = .ok (.aload 4, 2) := dk_25 4 (dk_at dksJ5_afterNodeAccess_2 5 rfl rfl)
theorem dJ5_afterNodeAccess_54 : decode cJ5_afterNodeAccess 54 = .ok (.aconst_null, 1) := dk_1 (dk_at dksJ5_afterNodeAccess_2 7 rfl rfl)
theorem dJ5_afterNodeAccess_55 : decode cJ5_afterNodeAccess 55 = .ok (.putfield 14, 3) := dk_181 0 14 (dk_at dksJ5_afterNodeAccess_2 8 rfl rfl)
theorem dJ5_afterNodeAccess_58 : decode cJ5_afterNodeAccess 58 = .ok (.aload 5, 2) := dk_25 5 (dk_at dksJ5_afterNodeAccess_2 11 rfl rfl)
theorem dJ5_afterNodeAccess_60 : decode cJ5_afterNodeAccess 60 = .ok (.ifnonnull 12, 3) := dk_199 0 12 (dk_at dksJ5_afterNodeAccess_2 13 rfl rfl)
theorem dJ5_afterNodeAccess_63 : decode cJ5_afterNodeAccess 63 = .ok (.aload_n 0, 1) := dk_42 (dk_at dksJ5_afterNodeAccess_2 16 rfl rfl)
theorem dJ5_afterNodeAccess_64 : decode cJ5_afterNodeAccess 64 = .ok (.aload 6, 2) := dk_25 6 (dk_at dksJ5_afterNodeAccess_2 17 rfl rfl)
theorem dJ5_afterNodeAccess_66 : decode cJ5_afterNodeAccess 66 = .ok (.putfield 7, 3) := dk_181 0 7 (dk_at dksJ5_afterNodeAccess_2 19 rfl rfl)
theorem dJ5_afterNodeAccess_69 : decode cJ5_afterNodeAccess 69 = .ok (.goto 10, 3) := dk_167 0 10 (dk_at dksJ5_afterNodeAccess_3 0 rfl rfl)
theorem dJ5_afterNodeAccess_72 : decode cJ5_afterNodeAccess 72 = .ok (.aload 5, 2) := dk_25 5 (dk_at dksJ5_afterNodeAccess_3 3 rfl rfl)
theorem dJ5_afterNodeAccess_74 : decode cJ5_afterNodeAccess 74 = .ok (.aload 6, 2) := dk_25 6 (dk_at dksJ5_afterNodeAccess_3 5 rfl rfl)
theorem dJ5_afterNodeAccess_76 : decode cJ5_afterNodeAccess 76 = .ok (.putfield 14, 3) := dk_181 0 14 (dk_at dksJ5_afterNodeAccess_3 7 rfl rfl)
theorem dJ5_afterNodeAccess_79 : decode cJ5_afterNodeAccess 79 = .ok (.aload 6, 2) := dk_25 6 (dk_at dksJ5_afterNodeAccess_3 10 rfl rfl)
theorem dJ5_afterNodeAccess_81 : decode cJ5_afterNodeAccess 81 = .ok (.ifnull 13, 3) := dk_198 0 13 (dk_at dksJ5_afterNodeAccess_3 12 rfl rfl)
theorem dJ5_afterNodeAccess_84 : decode cJ5_afterNodeAccess 84 = .ok (.aload 6, 2) := dk_25 6 (dk_at dksJ5_afterNodeAccess_3 15 rfl rfl)
theorem dJ5_afterNodeAccess_86 : decode cJ5_afterNodeAccess 86 = .ok (.aload 5, 2) := dk_25 5 (dk_at dksJ5_afterNodeAccess_3 17 rfl rfl)
theorem dJ5_afterNodeAccess_88 : decode cJ5_afterNodeAccess 88 = .ok (.putfield 19, 3) := dk_181 0 19 (dk_at dksJ5_afterNodeAccess_3 19 rfl rfl)
theorem dJ5_afterNodeAccess_91 : decode cJ5_afterNodeAccess 91 = .ok (.goto 6, 3) := dk_167 0 6 (dk_at dksJ5_afterNodeAccess_4 0 rfl rfl)
theorem dJ5_afterNodeAccess_94 : decode cJ5_afterNodeAccess 94 = .ok (.aload 5, 2) := dk_25 5 (dk_at dksJ5_afterNodeAccess_4 3 rfl rfl)
theorem dJ5_afterNodeAccess_96 : decode cJ5_afterNodeAccess 96 = .ok (.astore_n 2, 1) := dk_77 (dk_at dksJ5_afterNodeAccess_4 5 rfl rfl)
theorem dJ5_afterNodeAccess_97 : decode cJ5_afterNodeAccess 97 = .ok (.aload_n 2, 1) := dk_44 (dk_at dksJ5_afterNodeAccess_4 6 rfl rfl)
theorem dJ5_afterNodeAccess_98 : decode cJ5_afterNodeAccess 98 = .ok (.ifnonnull 12, 3) := dk_199 0 12 (dk_at dksJ5_afterNodeAccess_4 7 rfl rfl)
theorem dJ5_afterNodeAccess_101 : decode cJ5_afterNodeAccess 101 = .ok (.aload_n 0, 1) := dk_42 (dk_at dksJ5_afterNodeAccess_4 10 rfl rfl)
theorem dJ5_afterNodeAccess_102 : decode cJ5_afterNodeAccess 102 = .ok (.aload 4, 2) := dk_25 4 (dk_at dksJ5_afterNodeAccess_4 11 rfl rfl)
theorem dJ5_afterNodeAccess_104 : decode cJ5_afterNodeAccess 104 = .ok (.putfield 7, 3) := dk_181 0 7 (dk_at dksJ5_afterNodeAccess_4 13 rfl rfl)
theorem dJ5_afterNodeAccess_107 : decode cJ5_afterNodeAccess 107 = .ok (.goto 15, 3) := dk_167 0 15 (dk_at dksJ5_afterNodeAccess_4 16 rfl rfl)
theorem dJ5_afterNodeAccess_110 : decode cJ5_afterNodeAccess 110 = .ok (.aload 4, 2) := dk_25 4 (dk_at dksJ5_afterNodeAccess_4 19 rfl rfl)
theorem dJ5_afterNodeAccess_112 : decode cJ5_afterNodeAccess 112 = .ok (.aload_n 2, 1) := dk_44 (dk_at dksJ5_afterNodeAccess_4 21 rfl rfl)
theorem dJ5_afterNodeAccess_113 : decode cJ5_afterNodeAccess 113 = .ok (.putfield 19, 3) := dk_181 0 19 (dk_at dksJ5_afterNodeAccess_5 0 rfl rfl)
theorem dJ5_afterNodeAccess_116 : decode cJ5_afterNodeAccess 116 = .ok (.aload_n 2, 1) := dk_44 (dk_at dksJ5_afterNodeAccess_5 3 rfl rfl)
theorem dJ5_afterNodeAccess_117 : decode cJ5_afterNodeAccess 117 = .ok (.aload 4, 2) := dk_25 4 (dk_at dksJ5_afterNodeAccess_5 4 rfl rfl)
theorem dJ5_afterNodeAccess_119 : decode cJ5_afterNodeAccess 119 = .ok (.putfield 14, 3) := dk_181 0 14 (dk_at dksJ5_afterNodeAccess_5 6 rfl rfl)
theorem dJ5_afterNodeAccess_122 : decode cJ5_afterNodeAccess 122 = .ok (.aload_n 0, 1) := dk_42 (dk_at dksJ5_afterNodeAccess_5 9 rfl rfl)
theorem dJ5_afterNodeAccess_123 : decode cJ5_afterNodeAccess 123 = .ok (.aload 4, 2) := dk_25 4 (dk_at dksJ5_afterNodeAccess_5 10 rfl rfl)
theorem dJ5_afterNodeAccess_125 : decode cJ5_afterNodeAccess 125 = .ok (.putfield 11, 3) := dk_181 0 11 (dk_at dksJ5_afterNodeAccess_5 12 rfl rfl)
theorem dJ5_afterNodeAccess_128 : decode cJ5_afterNodeAccess 128 = .ok (.aload_n 0, 1) := dk_42 (dk_at dksJ5_afterNodeAccess_5 15 rfl rfl)
theorem dJ5_afterNodeAccess_129 : decode cJ5_afterNodeAccess 129 = .ok (.dup, 1) := dk_89 (dk_at dksJ5_afterNodeAccess_5 16 rfl rfl)
theorem dJ5_afterNodeAccess_130 : decode cJ5_afterNodeAccess 130 = .ok (.getfield 68, 3) := dk_180 0 68 (dk_at dksJ5_afterNodeAccess_5 17 rfl rfl)
theorem dJ5_afterNodeAccess_133 : decode cJ5_afterNodeAccess 133 = .ok (.iconst 1, 1) := dk_4 (dk_at dksJ5_afterNodeAccess_5 20 rfl rfl)
theorem dJ5_afterNodeAccess_134 : decode cJ5_afterNodeAccess 134 = .ok (.iadd, 1) := dk_96 (dk_at dksJ5_afterNodeAccess_5 21 rfl rfl)
theorem dJ5_afterNodeAccess_135 : decode cJ5_afterNodeAccess 135 = .ok (.putfield 68, 3) := dk_181 0 68 (dk_at dksJ5_afterNodeAccess_6 0 rfl rfl)
theorem dJ5_afterNodeAccess_138 : decode cJ5_afterNodeAccess 138 = .ok (.goto 127, 3) := dk_167 0 127 (dk_at dksJ5_afterNodeAccess_6 3 rfl rfl)
theorem dJ5_afterNodeAccess_141 : decode cJ5_afterNodeAccess 141 = .ok (.aload_n 0, 1) := dk_42 (dk_at dksJ5_afterNodeAccess_6 6 rfl rfl)
theorem dJ5_afterNodeAccess_142 : decode cJ5_afterNodeAccess 142 = .ok (.getfield 1, 3) := dk_180 0 1 (dk_at dksJ5_afterNodeAccess_6 7 rfl rfl)
theorem dJ5_afterNodeAccess_145 : decode cJ5_afterNodeAccess 145 = .ok (.iconst 1, 1) := dk_4 (dk_at dksJ5_afterNodeAccess_6 10 rfl rfl)
theorem dJ5_afterNodeAccess_146 : decode cJ5_afterNodeAccess 146 = .ok (.if_icmp .ne 119, 3) := dk_160 0 119 (dk_at dksJ5_afterNodeAccess_6 11 rfl rfl)
theorem dJ5_afterNodeAccess_149 : decode cJ5_afterNodeAccess 149 = .ok (.aload_n 0, 1) := dk_42 (dk_at dksJ5_afterNodeAccess_6 14 rfl rfl)
theorem dJ5_afterNodeAccess_150 : decode cJ5_afterNodeAccess 150 = .ok (.getfield 7, 3) := dk_180 0 7 (dk_at dksJ5_afterNodeAccess_6 15 rfl rfl)
theorem dJ5_afterNodeAccess_153 : decode cJ5_afterNodeAccess 153 = .ok (.dup, 1) := dk_89 (dk_at dksJ5_afterNodeAccess_6 18 rfl rfl)
theorem dJ5_afterNodeAccess_154 : decode cJ5_afterNodeAccess 154 = .ok (.astore_n 3, 1) := dk_78 (dk_at dksJ5_afterNodeAccess_6 19 rfl rfl)
theorem dJ5_afterNodeAccess_155 : decode cJ5_afterNodeAccess 155 = .ok (.aload_n 1, 1) := dk_43 (dk_at dksJ5_afterNodeAccess_6 20 rfl rfl)
theorem dJ5_afterNodeAccess_156 : decode cJ5_afterNodeAccess 156 = .ok (.if_acmp .eq 109, 3) := dk_165 0 109 (dk_at dksJ5_afterNodeAccess_6 21 rfl rfl)
theorem dJ5_afterNodeAccess_159 : decode cJ5_afterNodeAccess 159 = .ok (.aload_n 1, 1) := dk_43 (dk_at dksJ5_afterNodeAccess_7 0 rfl rfl)
theorem dJ5_afterNodeAccess_160 : decode cJ5_afterNodeAccess 160 = .ok (.checkcast 15, 3) := dk_192 0 15 (dk_at dksJ5_afterNodeAccess_7 1 rfl rfl)
theorem dJ5_afterNodeAccess_163 : decode cJ5_afterNodeAccess 163 = .ok (.astore 4, 2) := dk_58 4 (dk_at dksJ5_afterNodeAccess_7 4 rfl rfl)
theorem dJ5_afterNodeAccess_165 : decode cJ5_afterNodeAccess 165 = .ok (.aload 4, 2) := dk_25 4 (dk_at dksJ5_afterNodeAccess_7 6 rfl rfl)
theorem dJ5_afterNodeAccess_167 : decode cJ5_afterNodeAccess 167 = .ok (.getfield 19, 3) := dk_180 0 19 (dk_at dksJ5_afterNodeAccess_7 8 rfl rfl)
theorem dJ5_afterNodeAccess_170 : decode cJ5_afterNodeAccess 170 = .ok (.astore 5, 2) := dk_58 5 (dk_at dksJ5_afterNodeAccess_7 11 rfl rfl)
theorem dJ5_afterNodeAccess_172 : decode cJ5_afterNodeAccess 172 = .ok (.aload 4, 2) := dk_25 4 (dk_at dksJ5_afterNodeAccess_7 13 rfl rfl)
theorem dJ5_afterNodeAccess_174 : decode cJ5_afterNodeAccess 174 = .ok (.getfield 14, 3) := dk_180 0 14 (dk_at dksJ5_afterNodeAccess_7 15 rfl rfl)
theorem dJ5_afterNodeAccess_177 : decode cJ5_afterNodeAccess 177 = .ok (.astore 6, 2) := dk_58 6 (dk_at dksJ5_afterNodeAccess_7 18 rfl rfl)
theorem dJ5_afterNodeAccess_179 : decode cJ5_afterNodeAccess 179 = .ok (.aload 4, 2) := dk_25 4 (dk_at dksJ5_afterNodeAccess_7 20 rfl rfl)
theorem dJ5_afterNodeAccess_181 : decode cJ5_afterNodeAccess 181 = .ok (.aconst_null, 1) := dk_1 (dk_at dksJ5_afterNodeAccess_7 22 rfl rfl)
theorem dJ5_afterNodeAccess_182 : decode cJ5_afterNodeAccess 182 = .ok (.putfield 19, 3) := dk_181 0 19 (dk_at dksJ5_afterNodeAccess_8 0 rfl rfl)
theorem dJ5_afterNodeAccess_185 : decode cJ5_afterNodeAccess 185 = .ok (.aload 6, 2) := dk_25 6 (dk_at dksJ5_afterNodeAccess_8 3 rfl rfl)
theorem dJ5_afterNodeAccess_187 : decode cJ5_afterNodeAccess 187 = .ok (.ifnonnull 12, 3) := dk_199 0 12 (dk_at dksJ5_afterNodeAccess_8 5 rfl rfl)
theorem dJ5_afterNodeAccess_190 : decode cJ5_afterNodeAccess 190 = .ok (.aload_n 0, 1) := dk_42 (dk_at dksJ5_afterNodeAccess_8 8 rfl rfl)
theorem dJ5_afterNodeAccess_191 : decode cJ5_afterNodeAccess 191 = .ok (.aload 5, 2) := dk_25 5 (dk_at dksJ5_afterNodeAccess_8 9 rfl rfl)
theorem dJ5_afterNodeAccess_193 : decode cJ5_afterNodeAccess 193 = .ok (.putfield 11, 3) := dk_181 0 11 (dk_at dksJ5_afterNodeAccess_8 11 rfl rfl)
theorem dJ5_afterNodeAccess_196 : decode cJ5_afterNodeAccess 196 = .ok (.goto 10, 3) := dk_167 0 10 (dk_at dksJ5_afterNodeAccess_8 14 rfl rfl)
theorem dJ5_afterNodeAccess_199 : decode cJ5_afterNodeAccess 199 = .ok (.aload 6, 2) := dk_25 6 (dk_at dksJ5_afterNodeAccess_8 17 rfl rfl)
theorem dJ5_afterNodeAccess_201 : decode cJ5_afterNodeAccess 201 = .ok (.aload 5, 2) := dk_25 5 (dk_at dksJ5_afterNodeAccess_8 19 rfl rfl)
theorem dJ5_afterNodeAccess_203 : decode cJ5_afterNodeAccess 203 = .ok (.putfield 19, 3) := dk_181 0 19 (dk_at dksJ5_afterNodeAccess_8 21 rfl rfl)
theorem dJ5_afterNodeAccess_206 : decode cJ5_afterNodeAccess 206 = .ok (.aload 5, 2) := dk_25 5 (dk_at dksJ5_afterNodeAccess_9 0 rfl rfl)
theorem dJ5_afterNodeAccess_208 : decode cJ5_afterNodeAccess 208 = .ok (.ifnull 13, 3) := dk_198 0 13 (dk_at dksJ5_afterNodeAccess_9 2 rfl rfl)
theorem dJ5_afterNodeAccess_211 : decode cJ5_afterNodeAccess 211 = .ok (.aload 5, 2) := dk_25 5 (dk_at dksJ5_afterNodeAccess_9 5 rfl rfl)
theorem dJ5_afterNodeAccess_213 : decode cJ5_afterNodeAccess 213 = .ok (.aload 6, 2) := dk_25 6 (dk_at dksJ5_afterNodeAccess_9 7 rfl rfl)
theorem dJ5_afterNodeAccess_215 : decode cJ5_afterNodeAccess 215 = .ok (.putfield 14, 3) := dk_181 0 14 (dk_at dksJ5_afterNodeAccess_9 9 rfl rfl)
theorem dJ5_afterNodeAccess_218 : decode cJ5_afterNodeAccess 218 = .ok (.goto 6, 3) := dk_167 0 6 (dk_at dksJ5_afterNodeAccess_9 12 rfl rfl)
theorem dJ5_afterNodeAccess_221 : decode cJ5_afterNodeAccess 221 = .ok (.aload 6, 2) := dk_25 6 (dk_at dksJ5_afterNodeAccess_9 15 rfl rfl)
theorem dJ5_afterNodeAccess_223 : decode cJ5_afterNodeAccess 223 = .ok (.astore_n 3, 1) := dk_78 (dk_at dksJ5_afterNodeAccess_9 17 rfl rfl)
theorem dJ5_afterNodeAccess_224 : decode cJ5_afterNodeAccess 224 = .ok (.aload_n 3, 1) := dk_45 (dk_at dksJ5_afterNodeAccess_9 18 rfl rfl)
theorem dJ5_afterNodeAccess_225 : decode cJ5_afterNodeAccess 225 = .ok (.ifnonnull 12, 3) := dk_199 0 12 (dk_at dksJ5_afterNodeAccess_9 19 rfl rfl)
theorem dJ5_afterNodeAccess_228 : decode cJ5_afterNodeAccess 228 = .ok (.aload_n 0, 1) := dk_42 (dk_at dksJ5_afterNodeAccess_9 22 rfl rfl)
theorem dJ5_afterNodeAccess_229 : decode cJ5_afterNodeAccess 229 = .ok (.aload 4, 2) := dk_25 4 (dk_at dksJ5_afterNodeAccess_10 0 rfl rfl)
theorem dJ5_afterNodeAccess_231 : decode cJ5_afterNodeAccess 231 = .ok (.putfield 11, 3) := dk_181 0 11 (dk_at dksJ5_afterNodeAccess_10 2 rfl rfl)
theorem dJ5_afterNodeAccess_234 : decode cJ5_afterNodeAccess 234 = .ok (.goto 15, 3) := dk_167 0 15 (dk_at dksJ5_afterNodeAccess_10 5 rfl rfl)
theorem dJ5_afterNodeAccess_237 : decode cJ5_afterNodeAccess 237 = .ok (.aload 4, 2) := dk_25 4 (dk_at dksJ5_afterNodeAccess_10 8 rfl rfl)
theorem dJ5_afterNodeAccess_239 : decode cJ5_afterNodeAccess 239 = .ok (.aload_n 3, 1) := dk_45 (dk_at dksJ5_afterNodeAccess_10 10 rfl rfl)
theorem dJ5_afterNodeAccess_240 : decode cJ5_afterNodeAccess 240 = .ok (.putfield 14, 3) := dk_181 0 14 (dk_at dksJ5_afterNodeAccess_10 11 rfl rfl)
theorem dJ5_afterNodeAccess_243 : decode cJ5_afterNodeAccess 243 = .ok (.aload_n 3, 1) := dk_45 (dk_at dksJ5_afterNodeAccess_10 14 rfl rfl)
theorem dJ5_afterNodeAccess_244 : decode cJ5_afterNodeAccess 244 = .ok (.aload 4, 2) := dk_25 4 (dk_at dksJ5_afterNodeAccess_10 15 rfl rfl)
theorem dJ5_afterNodeAccess_246 : decode cJ5_afterNodeAccess 246 = .ok (.putfield 19, 3) := dk_181 0 19 (dk_at dksJ5_afterNodeAccess_10 17 rfl rfl)
theorem dJ5_afterNodeAccess_249 : decode cJ5_afterNodeAccess 249 = .ok (.aload_n 0, 1) := dk_42 (dk_at dksJ5_afterNodeAccess_10 20 rfl rfl)
theorem dJ5_afterNodeAccess_250 : decode cJ5_afterNodeAccess 250 = .ok (.aload 4, 2) := dk_25 4 (dk_at dksJ5_afterNodeAccess_10 21 rfl rfl)
theorem dJ5_afterNodeAccess_252 : decode cJ5_afterNodeAccess 252 = .ok (.putfield 7, 3) := dk_181 0 7 (dk_at dksJ5_afterNodeAccess_11 0 rfl rfl)
theorem dJ5_afterNodeAccess_255 : decode cJ5_afterNodeAccess 255 = .ok (.aload_n 0, 1) := dk_42 (dk_at dksJ5_afterNodeAccess_11 3 rfl rfl)
theorem dJ5_afterNodeAccess_256 : decode cJ5_afterNodeAccess 256 = .ok (.dup, 1) := dk_89 (dk_at dksJ5_afterNodeAccess_11 4 rfl rfl)
theorem dJ5_afterNodeAccess_257 : decode cJ5_afterNodeAccess 257 = .ok (.getfield 68, 3) := dk_180 0 68 (dk_at dksJ5_afterNodeAccess_11 5 rfl rfl)
theorem dJ5_afterNodeAccess_260 : decode cJ5_afterNodeAccess 260 = .ok (.iconst 1, 1) := dk_4 (dk_at dksJ5_afterNodeAccess_11 8 rfl rfl)
theorem dJ5_afterNodeAccess_261 : decode cJ5_afterNodeAccess 261 = .ok (.iadd, 1) := dk_96 (dk_at dksJ5_afterNodeAccess_11 9 rfl rfl)
theorem dJ5_afterNodeAccess_262 : decode cJ5_afterNodeAccess 262 = .ok (.putfield 68, 3) := dk_181 0 68 (dk_at dksJ5_afterNodeAccess_11 10 rfl rfl)
theorem dJ5_afterNodeAccess_265 : decode cJ5_afterNodeAccess 265 = .ok (.return_, 1) := dk_177 (dk_at dksJ5_afterNodeAccess_11 13 rfl rfl)
abbrev cJ5_afterNodeInsertion : ByteArray := prog_57_method_9_code
def yJ5_afterNodeInsertion : MethodName := ⟨RJ5, "afterNodeInsertion", "(Z)V"⟩
def dkwJ5_afterNodeInsertion_1 : List UInt8 := [180, 0, 39, 78, 42, 45, 184, 0, 57, 45, 1, 3, 4, 182, 0, 60, 87, 177]
abbrev dktJ5_afterNodeInsertion_1 : List UInt8 := dkwJ5_afterNodeInsertion_1 ++ []
def dkwJ5_afterNodeInsertion_0 : List UInt8 := [27, 153, 0, 38, 42, 180, 0, 7, 89, 77, 198, 0, 29, 42, 44, 182, 0, 53, 153, 0, 21, 44]
abbrev dktJ5_afterNodeInsertion_0 : List UInt8 := dkwJ5_afterNodeInsertion_0 ++ dktJ5_afterNodeInsertion_1
theorem dksJ5_afterNodeInsertion_0 : cJ5_afterNodeInsertion.data.toList.drop 0 = dktJ5_afterNodeInsertion_0 := by decide +kernel
theorem dksJ5_afterNodeInsertion_1 : cJ5_afterNodeInsertion.data.toList.drop 22 = dktJ5_afterNodeInsertion_1 := dk_seg dksJ5_afterNodeInsertion_0 22 rfl rfl
theorem dJ5_afterNodeInsertion_0 : decode cJ5_afterNodeInsertion 0 = .ok (.iload_n 1, 1) := dk_27 (dk_at dksJ5_afterNodeInsertion_0 0 rfl rfl)
theorem dJ5_afterNodeInsertion_1 : decode cJ5_afterNodeInsertion 1 = .ok (.ifCond .eq 38, 3) := dk_153 0 38 (dk_at dksJ5_afterNodeInsertion_0 1 rfl rfl)
theorem dJ5_afterNodeInsertion_4 : decode cJ5_afterNodeInsertion 4 = .ok (.aload_n 0, 1) := dk_42 (dk_at dksJ5_afterNodeInsertion_0 4 rfl rfl)
theorem dJ5_afterNodeInsertion_5 : decode cJ5_afterNodeInsertion 5 = .ok (.getfield 7, 3) := dk_180 0 7 (dk_at dksJ5_afterNodeInsertion_0 5 rfl rfl)
theorem dJ5_afterNodeInsertion_8 : decode cJ5_afterNodeInsertion 8 = .ok (.dup, 1) := dk_89 (dk_at dksJ5_afterNodeInsertion_0 8 rfl rfl)
theorem dJ5_afterNodeInsertion_9 : decode cJ5_afterNodeInsertion 9 = .ok (.astore_n 2, 1) := dk_77 (dk_at dksJ5_afterNodeInsertion_0 9 rfl rfl)
theorem dJ5_afterNodeInsertion_10 : decode cJ5_afterNodeInsertion 10 = .ok (.ifnull 29, 3) := dk_198 0 29 (dk_at dksJ5_afterNodeInsertion_0 10 rfl rfl)
theorem dJ5_afterNodeInsertion_13 : decode cJ5_afterNodeInsertion 13 = .ok (.aload_n 0, 1) := dk_42 (dk_at dksJ5_afterNodeInsertion_0 13 rfl rfl)
theorem dJ5_afterNodeInsertion_14 : decode cJ5_afterNodeInsertion 14 = .ok (.aload_n 2, 1) := dk_44 (dk_at dksJ5_afterNodeInsertion_0 14 rfl rfl)
theorem dJ5_afterNodeInsertion_15 : decode cJ5_afterNodeInsertion 15 = .ok (.invokevirtual 53, 3) := dk_182 0 53 (dk_at dksJ5_afterNodeInsertion_0 15 rfl rfl)
theorem dJ5_afterNodeInsertion_18 : decode cJ5_afterNodeInsertion 18 = .ok (.ifCond .eq 21, 3) := dk_153 0 21 (dk_at dksJ5_afterNodeInsertion_0 18 rfl rfl)
theorem dJ5_afterNodeInsertion_21 : decode cJ5_afterNodeInsertion 21 = .ok (.aload_n 2, 1) := dk_44 (dk_at dksJ5_afterNodeInsertion_0 21 rfl rfl)
theorem dJ5_afterNodeInsertion_22 : decode cJ5_afterNodeInsertion 22 = .ok (.getfield 39, 3) := dk_180 0 39 (dk_at dksJ5_afterNodeInsertion_1 0 rfl rfl)
theorem dJ5_afterNodeInsertion_25 : decode cJ5_afterNodeInsertion 25 = .ok (.astore_n 3, 1) := dk_78 (dk_at dksJ5_afterNodeInsertion_1 3 rfl rfl)
theorem dJ5_afterNodeInsertion_26 : decode cJ5_afterNodeInsertion 26 = .ok (.aload_n 0, 1) := dk_42 (dk_at dksJ5_afterNodeInsertion_1 4 rfl rfl)
theorem dJ5_afterNodeInsertion_27 : decode cJ5_afterNodeInsertion 27 = .ok (.aload_n 3, 1) := dk_45 (dk_at dksJ5_afterNodeInsertion_1 5 rfl rfl)
theorem dJ5_afterNodeInsertion_28 : decode cJ5_afterNodeInsertion 28 = .ok (.invokestatic 57, 3) := dk_184 0 57 (dk_at dksJ5_afterNodeInsertion_1 6 rfl rfl)
theorem dJ5_afterNodeInsertion_31 : decode cJ5_afterNodeInsertion 31 = .ok (.aload_n 3, 1) := dk_45 (dk_at dksJ5_afterNodeInsertion_1 9 rfl rfl)
theorem dJ5_afterNodeInsertion_32 : decode cJ5_afterNodeInsertion 32 = .ok (.aconst_null, 1) := dk_1 (dk_at dksJ5_afterNodeInsertion_1 10 rfl rfl)
theorem dJ5_afterNodeInsertion_33 : decode cJ5_afterNodeInsertion 33 = .ok (.iconst 0, 1) := dk_3 (dk_at dksJ5_afterNodeInsertion_1 11 rfl rfl)
theorem dJ5_afterNodeInsertion_34 : decode cJ5_afterNodeInsertion 34 = .ok (.iconst 1, 1) := dk_4 (dk_at dksJ5_afterNodeInsertion_1 12 rfl rfl)
theorem dJ5_afterNodeInsertion_35 : decode cJ5_afterNodeInsertion 35 = .ok (.invokevirtual 60, 3) := dk_182 0 60 (dk_at dksJ5_afterNodeInsertion_1 13 rfl rfl)
theorem dJ5_afterNodeInsertion_38 : decode cJ5_afterNodeInsertion 38 = .ok (.pop, 1) := dk_87 (dk_at dksJ5_afterNodeInsertion_1 16 rfl rfl)
theorem dJ5_afterNodeInsertion_39 : decode cJ5_afterNodeInsertion 39 = .ok (.return_, 1) := dk_177 (dk_at dksJ5_afterNodeInsertion_1 17 rfl rfl)
abbrev cJ5_removeEldestEntry : ByteArray := prog_57_method_23_code
def yJ5_removeEldestEntry : MethodName := ⟨RJ5, "removeEldestEntry", "(Ljava/util/Map$Entry;)Z"⟩
theorem dJ5_removeEldestEntry_0 : decode cJ5_removeEldestEntry 0 = .ok (.iconst 0, 1) := by decide +kernel
theorem dJ5_removeEldestEntry_1 : decode cJ5_removeEldestEntry 1 = .ok (.ireturn, 1) := by decide +kernel
abbrev cJ5_get : ByteArray := prog_57_method_20_code
def yJ5_get : MethodName := ⟨RJ5, "get", "(Ljava/lang/Object;)Ljava/lang/Object;"⟩
def dkwJ5_get_1 : List UInt8 := [44, 180, 0, 107, 176]
abbrev dktJ5_get_1 : List UInt8 := dkwJ5_get_1 ++ []
def dkwJ5_get_0 : List UInt8 := [42, 43, 182, 0, 99, 89, 77, 199, 0, 5, 1, 176, 42, 180, 0, 64, 153, 0, 8, 42, 44, 182, 0, 103]
abbrev dktJ5_get_0 : List UInt8 := dkwJ5_get_0 ++ dktJ5_get_1
theorem dksJ5_get_0 : cJ5_get.data.toList.drop 0 = dktJ5_get_0 := by decide +kernel
theorem dksJ5_get_1 : cJ5_get.data.toList.drop 24 = dktJ5_get_1 := dk_seg dksJ5_get_0 24 rfl rfl
theorem dJ5_get_0 : decode cJ5_get 0 = .ok (.aload_n 0, 1) := dk_42 (dk_at dksJ5_get_0 0 rfl rfl)
theorem dJ5_get_1 : decode cJ5_get 1 = .ok (.aload_n 1, 1) := dk_43 (dk_at dksJ5_get_0 1 rfl rfl)
theorem dJ5_get_2 : decode cJ5_get 2 = .ok (.invokevirtual 99, 3) := dk_182 0 99 (dk_at dksJ5_get_0 2 rfl rfl)
theorem dJ5_get_5 : decode cJ5_get 5 = .ok (.dup, 1) := dk_89 (dk_at dksJ5_get_0 5 rfl rfl)
theorem dJ5_get_6 : decode cJ5_get 6 = .ok (.astore_n 2, 1) := dk_77 (dk_at dksJ5_get_0 6 rfl rfl)
theorem dJ5_get_7 : decode cJ5_get 7 = .ok (.ifnonnull 5, 3) := dk_199 0 5 (dk_at dksJ5_get_0 7 rfl rfl)
theorem dJ5_get_10 : decode cJ5_get 10 = .ok (.aconst_null, 1) := dk_1 (dk_at dksJ5_get_0 10 rfl rfl)
theorem dJ5_get_11 : decode cJ5_get 11 = .ok (.areturn, 1) := dk_176 (dk_at dksJ5_get_0 11 rfl rfl)
theorem dJ5_get_12 : decode cJ5_get 12 = .ok (.aload_n 0, 1) := dk_42 (dk_at dksJ5_get_0 12 rfl rfl)
theorem dJ5_get_13 : decode cJ5_get 13 = .ok (.getfield 64, 3) := dk_180 0 64 (dk_at dksJ5_get_0 13 rfl rfl)
theorem dJ5_get_16 : decode cJ5_get 16 = .ok (.ifCond .eq 8, 3) := dk_153 0 8 (dk_at dksJ5_get_0 16 rfl rfl)
theorem dJ5_get_19 : decode cJ5_get 19 = .ok (.aload_n 0, 1) := dk_42 (dk_at dksJ5_get_0 19 rfl rfl)
theorem dJ5_get_20 : decode cJ5_get 20 = .ok (.aload_n 2, 1) := dk_44 (dk_at dksJ5_get_0 20 rfl rfl)
theorem dJ5_get_21 : decode cJ5_get 21 = .ok (.invokevirtual 103, 3) := dk_182 0 103 (dk_at dksJ5_get_0 21 rfl rfl)
theorem dJ5_get_24 : decode cJ5_get 24 = .ok (.aload_n 2, 1) := dk_44 (dk_at dksJ5_get_1 0 rfl rfl)
theorem dJ5_get_25 : decode cJ5_get 25 = .ok (.getfield 107, 3) := dk_180 0 107 (dk_at dksJ5_get_1 1 rfl rfl)
theorem dJ5_get_28 : decode cJ5_get 28 = .ok (.areturn, 1) := dk_176 (dk_at dksJ5_get_1 4 rfl rfl)
abbrev cJ5_afterNodeRemoval : ByteArray := prog_57_method_8_code
def yJ5_afterNodeRemoval : MethodName := ⟨RJ5, "afterNodeRemoval", "(Ljava/util/HashMap$Node;)V"⟩
def dkwJ5_afterNodeRemoval_2 : List UInt8 := [199, 0, 11, 42, 45, 181, 0, 11, 167, 0, 9, 25, 4, 45, 181, 0, 19, 177]
abbrev dktJ5_afterNodeRemoval_2 : List UInt8 := dkwJ5_afterNodeRemoval_2 ++ []
def dkwJ5_afterNodeRemoval_1 : List UInt8 := [181, 0, 19, 45, 199, 0, 12, 42, 25, 4, 181, 0, 7, 167, 0, 9, 45, 25, 4, 181, 0, 14, 25, 4]
abbrev dktJ5_afterNodeRemoval_1 : List UInt8 := dkwJ5_afterNodeRemoval_1 ++ dktJ5_afterNodeRemoval_2
def dkwJ5_afterNodeRemoval_0 : List UInt8 := [43, 192, 0, 15, 77, 44, 180, 0, 19, 78, 44, 180, 0, 14, 58, 4, 44, 44, 1, 90, 181, 0, 14]
abbrev dktJ5_afterNodeRemoval_0 : List UInt8 := dkwJ5_afterNodeRemoval_0 ++ dktJ5_afterNodeRemoval_1
theorem dksJ5_afterNodeRemoval_0 : cJ5_afterNodeRemoval.data.toList.drop 0 = dktJ5_afterNodeRemoval_0 := by decide +kernel
theorem dksJ5_afterNodeRemoval_1 : cJ5_afterNodeRemoval.data.toList.drop 23 = dktJ5_afterNodeRemoval_1 := dk_seg dksJ5_afterNodeRemoval_0 23 rfl rfl
theorem dksJ5_afterNodeRemoval_2 : cJ5_afterNodeRemoval.data.toList.drop 47 = dktJ5_afterNodeRemoval_2 := dk_seg dksJ5_afterNodeRemoval_1 24 rfl rfl
theorem dJ5_afterNodeRemoval_0 : decode cJ5_afterNodeRemoval 0 = .ok (.aload_n 1, 1) := dk_43 (dk_at dksJ5_afterNodeRemoval_0 0 rfl rfl)
theorem dJ5_afterNodeRemoval_1 : decode cJ5_afterNodeRemoval 1 = .ok (.checkcast 15, 3) := dk_192 0 15 (dk_at dksJ5_afterNodeRemoval_0 1 rfl rfl)
theorem dJ5_afterNodeRemoval_4 : decode cJ5_afterNodeRemoval 4 = .ok (.astore_n 2, 1) := dk_77 (dk_at dksJ5_afterNodeRemoval_0 4 rfl rfl)
theorem dJ5_afterNodeRemoval_5 : decode cJ5_afterNodeRemoval 5 = .ok (.aload_n 2, 1) := dk_44 (dk_at dksJ5_afterNodeRemoval_0 5 rfl rfl)
theorem dJ5_afterNodeRemoval_6 : decode cJ5_afterNodeRemoval 6 = .ok (.getfield 19, 3) := dk_180 0 19 (dk_at dksJ5_afterNodeRemoval_0 6 rfl rfl)
theorem dJ5_afterNodeRemoval_9 : decode cJ5_afterNodeRemoval 9 = .ok (.astore_n 3, 1) := dk_78 (dk_at dksJ5_afterNodeRemoval_0 9 rfl rfl)
theorem dJ5_afterNodeRemoval_10 : decode cJ5_afterNodeRemoval 10 = .ok (.aload_n 2, 1) := dk_44 (dk_at dksJ5_afterNodeRemoval_0 10 rfl rfl)
theorem dJ5_afterNodeRemoval_11 : decode cJ5_afterNodeRemoval 11 = .ok (.getfield 14, 3) := dk_180 0 14 (dk_at dksJ5_afterNodeRemoval_0 11 rfl rfl)
theorem dJ5_afterNodeRemoval_14 : decode cJ5_afterNodeRemoval 14 = .ok (.astore 4, 2) := dk_58 4 (dk_at dksJ5_afterNodeRemoval_0 14 rfl rfl)
theorem dJ5_afterNodeRemoval_16 : decode cJ5_afterNodeRemoval 16 = .ok (.aload_n 2, 1) := dk_44 (dk_at dksJ5_afterNodeRemoval_0 16 rfl rfl)
theorem dJ5_afterNodeRemoval_17 : decode cJ5_afterNodeRemoval 17 = .ok (.aload_n 2, 1) := dk_44 (dk_at dksJ5_afterNodeRemoval_0 17 rfl rfl)
theorem dJ5_afterNodeRemoval_18 : decode cJ5_afterNodeRemoval 18 = .ok (.aconst_null, 1) := dk_1 (dk_at dksJ5_afterNodeRemoval_0 18 rfl rfl)
theorem dJ5_afterNodeRemoval_19 : decode cJ5_afterNodeRemoval 19 = .ok (.dup_x1, 1) := dk_90 (dk_at dksJ5_afterNodeRemoval_0 19 rfl rfl)
theorem dJ5_afterNodeRemoval_20 : decode cJ5_afterNodeRemoval 20 = .ok (.putfield 14, 3) := dk_181 0 14 (dk_at dksJ5_afterNodeRemoval_0 20 rfl rfl)
theorem dJ5_afterNodeRemoval_23 : decode cJ5_afterNodeRemoval 23 = .ok (.putfield 19, 3) := dk_181 0 19 (dk_at dksJ5_afterNodeRemoval_1 0 rfl rfl)
theorem dJ5_afterNodeRemoval_26 : decode cJ5_afterNodeRemoval 26 = .ok (.aload_n 3, 1) := dk_45 (dk_at dksJ5_afterNodeRemoval_1 3 rfl rfl)
theorem dJ5_afterNodeRemoval_27 : decode cJ5_afterNodeRemoval 27 = .ok (.ifnonnull 12, 3) := dk_199 0 12 (dk_at dksJ5_afterNodeRemoval_1 4 rfl rfl)
theorem dJ5_afterNodeRemoval_30 : decode cJ5_afterNodeRemoval 30 = .ok (.aload_n 0, 1) := dk_42 (dk_at dksJ5_afterNodeRemoval_1 7 rfl rfl)
theorem dJ5_afterNodeRemoval_31 : decode cJ5_afterNodeRemoval 31 = .ok (.aload 4, 2) := dk_25 4 (dk_at dksJ5_afterNodeRemoval_1 8 rfl rfl)
theorem dJ5_afterNodeRemoval_33 : decode cJ5_afterNodeRemoval 33 = .ok (.putfield 7, 3) := dk_181 0 7 (dk_at dksJ5_afterNodeRemoval_1 10 rfl rfl)
theorem dJ5_afterNodeRemoval_36 : decode cJ5_afterNodeRemoval 36 = .ok (.goto 9, 3) := dk_167 0 9 (dk_at dksJ5_afterNodeRemoval_1 13 rfl rfl)
theorem dJ5_afterNodeRemoval_39 : decode cJ5_afterNodeRemoval 39 = .ok (.aload_n 3, 1) := dk_45 (dk_at dksJ5_afterNodeRemoval_1 16 rfl rfl)
theorem dJ5_afterNodeRemoval_40 : decode cJ5_afterNodeRemoval 40 = .ok (.aload 4, 2) := dk_25 4 (dk_at dksJ5_afterNodeRemoval_1 17 rfl rfl)
theorem dJ5_afterNodeRemoval_42 : decode cJ5_afterNodeRemoval 42 = .ok (.putfield 14, 3) := dk_181 0 14 (dk_at dksJ5_afterNodeRemoval_1 19 rfl rfl)
theorem dJ5_afterNodeRemoval_45 : decode cJ5_afterNodeRemoval 45 = .ok (.aload 4, 2) := dk_25 4 (dk_at dksJ5_afterNodeRemoval_1 22 rfl rfl)
theorem dJ5_afterNodeRemoval_47 : decode cJ5_afterNodeRemoval 47 = .ok (.ifnonnull 11, 3) := dk_199 0 11 (dk_at dksJ5_afterNodeRemoval_2 0 rfl rfl)
theorem dJ5_afterNodeRemoval_50 : decode cJ5_afterNodeRemoval 50 = .ok (.aload_n 0, 1) := dk_42 (dk_at dksJ5_afterNodeRemoval_2 3 rfl rfl)
theorem dJ5_afterNodeRemoval_51 : decode cJ5_afterNodeRemoval 51 = .ok (.aload_n 3, 1) := dk_45 (dk_at dksJ5_afterNodeRemoval_2 4 rfl rfl)
theorem dJ5_afterNodeRemoval_52 : decode cJ5_afterNodeRemoval 52 = .ok (.putfield 11, 3) := dk_181 0 11 (dk_at dksJ5_afterNodeRemoval_2 5 rfl rfl)
theorem dJ5_afterNodeRemoval_55 : decode cJ5_afterNodeRemoval 55 = .ok (.goto 9, 3) := dk_167 0 9 (dk_at dksJ5_afterNodeRemoval_2 8 rfl rfl)
theorem dJ5_afterNodeRemoval_58 : decode cJ5_afterNodeRemoval 58 = .ok (.aload 4, 2) := dk_25 4 (dk_at dksJ5_afterNodeRemoval_2 11 rfl rfl)
theorem dJ5_afterNodeRemoval_60 : decode cJ5_afterNodeRemoval 60 = .ok (.aload_n 3, 1) := dk_45 (dk_at dksJ5_afterNodeRemoval_2 13 rfl rfl)
theorem dJ5_afterNodeRemoval_61 : decode cJ5_afterNodeRemoval 61 = .ok (.putfield 19, 3) := dk_181 0 19 (dk_at dksJ5_afterNodeRemoval_2 14 rfl rfl)
theorem dJ5_afterNodeRemoval_64 : decode cJ5_afterNodeRemoval 64 = .ok (.return_, 1) := dk_177 (dk_at dksJ5_afterNodeRemoval_2 17 rfl rfl)
theorem q159 : (Jvm.Cond.initialized "java/util/LinkedHashMap") ∈ lw_all := lw_g (lw_at lw_m1 8 rfl) rfl
theorem q232 : (Jvm.Cond.fieldLink "java/util/LinkedHashMap" (68 : Nat) "java/util/LinkedHashMap" "modCount" "I") ∈ lw_all := lw_g (lw_at lw_m1 81 rfl) rfl
theorem q233 : (Jvm.Cond.sameField "java/util/LinkedHashMap" "java/util/HashMap" "modCount" "I") ∈ lw_all := lw_g (lw_at lw_m1 82 rfl) rfl
theorem q274 : (Jvm.Cond.instantiable "java/util/LinkedHashMap" (12 : Nat)) ∈ lw_all := lw_g (lw_at lw_m1 123 rfl) rfl
theorem q276 : (Jvm.Cond.instanceMethod ({ cls := "java/util/LinkedHashMap", name := "<init>", desc := "()V" } : Jvm.MethodName)) ∈ lw_all := lw_g (lw_at lw_m1 125 rfl) rfl
theorem q277 : (Jvm.Cond.code ({ cls := "java/util/LinkedHashMap", name := "<init>", desc := "()V" } : Jvm.MethodName) prog_57_method_16_code (1 : Nat) (Option.none : Option Jvm.ClassFile.FieldType)) ∈ lw_all := lw_g (lw_at lw_m1 126 rfl) rfl
theorem q278 : (Jvm.Cond.methodLink "java/util/LinkedHashMap" (87 : Nat) ({ cls := "java/util/HashMap", name := "<init>", desc := "()V" } : Jvm.MethodName)) ∈ lw_all := lw_g (lw_at lw_m1 127 rfl) rfl
theorem q279 : (Jvm.Cond.fieldLink "java/util/LinkedHashMap" (7 : Nat) "java/util/LinkedHashMap" "head" "Ljava/util/LinkedHashMap$Entry;") ∈ lw_all := lw_g (lw_at lw_m1 128 rfl) rfl
theorem q280 : (Jvm.Cond.fieldLink "java/util/LinkedHashMap" (11 : Nat) "java/util/LinkedHashMap" "tail" "Ljava/util/LinkedHashMap$Entry;") ∈ lw_all := lw_g (lw_at lw_m1 129 rfl) rfl
theorem q281 : (Jvm.Cond.fieldLink "java/util/LinkedHashMap" (64 : Nat) "java/util/LinkedHashMap" "accessOrder" "Z") ∈ lw_all := lw_g (lw_at lw_m1 130 rfl) rfl
theorem q282 : (Jvm.Cond.fieldLink "java/util/LinkedHashMap" (1 : Nat) "java/util/LinkedHashMap" "putMode" "I") ∈ lw_all := lw_g (lw_at lw_m1 131 rfl) rfl
theorem q283 : (Jvm.Cond.lays "java/util/LinkedHashMap" "java/util/LinkedHashMap" "head" "Ljava/util/LinkedHashMap$Entry;") ∈ lw_all := lw_g (lw_at lw_m1 132 rfl) rfl
theorem q284 : (Jvm.Cond.soleField "java/util/LinkedHashMap" "head") ∈ lw_all := lw_g (lw_at lw_m1 133 rfl) rfl
theorem q285 : (Jvm.Cond.lays "java/util/LinkedHashMap" "java/util/LinkedHashMap" "tail" "Ljava/util/LinkedHashMap$Entry;") ∈ lw_all := lw_g (lw_at lw_m1 134 rfl) rfl
theorem q286 : (Jvm.Cond.soleField "java/util/LinkedHashMap" "tail") ∈ lw_all := lw_g (lw_at lw_m1 135 rfl) rfl
theorem q287 : (Jvm.Cond.laysFinal "java/util/LinkedHashMap" "java/util/LinkedHashMap" "accessOrder" "Z") ∈ lw_all := lw_g (lw_at lw_m1 136 rfl) rfl
theorem q288 : (Jvm.Cond.soleField "java/util/LinkedHashMap" "accessOrder") ∈ lw_all := lw_g (lw_at lw_m1 137 rfl) rfl
theorem q289 : (Jvm.Cond.lays "java/util/LinkedHashMap" "java/util/LinkedHashMap" "putMode" "I") ∈ lw_all := lw_g (lw_at lw_m1 138 rfl) rfl
theorem q290 : (Jvm.Cond.soleField "java/util/LinkedHashMap" "putMode") ∈ lw_all := lw_g (lw_at lw_m1 139 rfl) rfl
theorem q291 : (Jvm.Cond.lays "java/util/LinkedHashMap" "java/util/HashMap" "table" "[Ljava/util/HashMap$Node;") ∈ lw_all := lw_g (lw_at lw_m1 140 rfl) rfl
theorem q292 : (Jvm.Cond.lays "java/util/LinkedHashMap" "java/util/HashMap" "entrySet" "Ljava/util/Set;") ∈ lw_all := lw_g (lw_at lw_m1 141 rfl) rfl
theorem q293 : (Jvm.Cond.lays "java/util/LinkedHashMap" "java/util/HashMap" "size" "I") ∈ lw_all := lw_g (lw_at lw_m1 142 rfl) rfl
theorem q294 : (Jvm.Cond.lays "java/util/LinkedHashMap" "java/util/HashMap" "modCount" "I") ∈ lw_all := lw_g (lw_at lw_m1 143 rfl) rfl
theorem q295 : (Jvm.Cond.lays "java/util/LinkedHashMap" "java/util/HashMap" "threshold" "I") ∈ lw_all := lw_g (lw_at lw_m1 144 rfl) rfl
theorem q296 : (Jvm.Cond.laysFinal "java/util/LinkedHashMap" "java/util/HashMap" "loadFactor" "F") ∈ lw_all := lw_g (lw_at lw_m1 145 rfl) rfl
theorem q297 : (Jvm.Cond.lays "java/util/LinkedHashMap" "java/util/AbstractMap" "keySet" "Ljava/util/Set;") ∈ lw_all := lw_g (lw_at lw_m1 146 rfl) rfl
theorem q298 : (Jvm.Cond.lays "java/util/LinkedHashMap" "java/util/AbstractMap" "values" "Ljava/util/Collection;") ∈ lw_all := lw_g (lw_at lw_m1 147 rfl) rfl
theorem q299 : (Jvm.Cond.superclass "java/util/LinkedHashMap" "java/util/HashMap") ∈ lw_all := lw_g (lw_at lw_m1 148 rfl) rfl
theorem q520 : (Jvm.Cond.selects "java/util/LinkedHashMap" ({ cls := "java/lang/Object", name := "getClass", desc := "()Ljava/lang/Class;" } : Jvm.MethodName) ({ cls := "java/lang/Object", name := "getClass", desc := "()Ljava/lang/Class;" } : Jvm.MethodName)) ∈ lw_all := lw_g (lw_at lw_m2 129 rfl) rfl
theorem q553 : (Jvm.Cond.sameMethod "java/util/LinkedHashMap" "java/util/HashMap" "put" "(Ljava/lang/Object;Ljava/lang/Object;)Ljava/lang/Object;") ∈ lw_all := lw_g (lw_at lw_m2 162 rfl) rfl
theorem q555 : (Jvm.Cond.selects "java/util/LinkedHashMap" ({ cls := "java/util/LinkedHashMap", name := "put", desc := "(Ljava/lang/Object;Ljava/lang/Object;)Ljava/lang/Object;" } : Jvm.MethodName) ({ cls := "java/util/HashMap", name := "put", desc := "(Ljava/lang/Object;Ljava/lang/Object;)Ljava/lang/Object;" } : Jvm.MethodName)) ∈ lw_all := lw_g (lw_at lw_m2 164 rfl) rfl
theorem q971 : (Jvm.Cond.selects "java/util/LinkedHashMap" ({ cls := "java/util/HashMap", name := "putVal", desc := "(ILjava/lang/Object;Ljava/lang/Object;ZZ)Ljava/lang/Object;" } : Jvm.MethodName) ({ cls := "java/util/HashMap", name := "putVal", desc := "(ILjava/lang/Object;Ljava/lang/Object;ZZ)Ljava/lang/Object;" } : Jvm.MethodName)) ∈ lw_all := lw_g (lw_at lw_m4 100 rfl) rfl
theorem q977 : (Jvm.Cond.selects "java/util/LinkedHashMap" ({ cls := "java/util/HashMap", name := "resize", desc := "()[Ljava/util/HashMap$Node;" } : Jvm.MethodName) ({ cls := "java/util/HashMap", name := "resize", desc := "()[Ljava/util/HashMap$Node;" } : Jvm.MethodName)) ∈ lw_all := lw_g (lw_at lw_m4 106 rfl) rfl
theorem q998 : (Jvm.Cond.selects "java/util/LinkedHashMap" ({ cls := "java/util/HashMap", name := "replacementNode", desc := "(Ljava/util/HashMap$Node;Ljava/util/HashMap$Node;)Ljava/util/HashMap$Node;" } : Jvm.MethodName) ({ cls := "java/util/LinkedHashMap", name := "replacementNode", desc := "(Ljava/util/HashMap$Node;Ljava/util/HashMap$Node;)Ljava/util/HashMap$Node;" } : Jvm.MethodName)) ∈ lw_all := lw_g (lw_at lw_m4 127 rfl) rfl
theorem q999 : (Jvm.Cond.instanceMethod ({ cls := "java/util/LinkedHashMap", name := "replacementNode", desc := "(Ljava/util/HashMap$Node;Ljava/util/HashMap$Node;)Ljava/util/HashMap$Node;" } : Jvm.MethodName)) ∈ lw_all := lw_g (lw_at lw_m4 128 rfl) rfl
theorem q1000 : (Jvm.Cond.code ({ cls := "java/util/LinkedHashMap", name := "replacementNode", desc := "(Ljava/util/HashMap$Node;Ljava/util/HashMap$Node;)Ljava/util/HashMap$Node;" } : Jvm.MethodName) prog_57_method_5_code (5 : Nat) (Option.some (Jvm.ClassFile.FieldType.object "java/util/HashMap$Node"))) ∈ lw_all := lw_g (lw_at lw_m4 129 rfl) rfl
theorem q1001 : (Jvm.Cond.classLink "java/util/LinkedHashMap" (15 : Nat) "java/util/LinkedHashMap$Entry") ∈ lw_all := lw_g (lw_at lw_m4 130 rfl) rfl
theorem q1003 : (Jvm.Cond.methodLink "java/util/LinkedHashMap" (28 : Nat) ({ cls := "java/util/LinkedHashMap$Entry", name := "<init>", desc := "(ILjava/lang/Object;Ljava/lang/Object;Ljava/util/HashMap$Node;)V" } : Jvm.MethodName)) ∈ lw_all := lw_g (lw_at lw_m4 132 rfl) rfl
theorem q1010 : (Jvm.Cond.fieldLink "java/util/LinkedHashMap" (19 : Nat) "java/util/LinkedHashMap$Entry" "before" "Ljava/util/LinkedHashMap$Entry;") ∈ lw_all := lw_g (lw_at lw_m4 139 rfl) rfl
theorem q1011 : (Jvm.Cond.fieldLink "java/util/LinkedHashMap" (14 : Nat) "java/util/LinkedHashMap$Entry" "after" "Ljava/util/LinkedHashMap$Entry;") ∈ lw_all := lw_g (lw_at lw_m4 140 rfl) rfl
theorem q1015 : (Jvm.Cond.fieldLink "java/util/LinkedHashMap" (36 : Nat) "java/util/LinkedHashMap$Entry" "hash" "I") ∈ lw_all := lw_g (lw_at lw_m4 144 rfl) rfl
theorem q1021 : (Jvm.Cond.fieldLink "java/util/LinkedHashMap" (39 : Nat) "java/util/LinkedHashMap$Entry" "key" "Ljava/lang/Object;") ∈ lw_all := lw_g (lw_at lw_m4 150 rfl) rfl
theorem q1025 : (Jvm.Cond.fieldLink "java/util/LinkedHashMap" (43 : Nat) "java/util/LinkedHashMap$Entry" "value" "Ljava/lang/Object;") ∈ lw_all := lw_g (lw_at lw_m4 154 rfl) rfl
theorem q1028 : (Jvm.Cond.fieldLink "java/util/LinkedHashMap" (107 : Nat) "java/util/HashMap$Node" "value" "Ljava/lang/Object;") ∈ lw_all := lw_g (lw_at lw_m4 157 rfl) rfl
theorem q1048 : (Jvm.Cond.methodLink "java/util/LinkedHashMap" (46 : Nat) ({ cls := "java/util/LinkedHashMap", name := "transferLinks", desc := "(Ljava/util/LinkedHashMap$Entry;Ljava/util/LinkedHashMap$Entry;)V" } : Jvm.MethodName)) ∈ lw_all := lw_g (lw_at lw_m4 177 rfl) rfl
theorem q1049 : (Jvm.Cond.privateMethod ({ cls := "java/util/LinkedHashMap", name := "transferLinks", desc := "(Ljava/util/LinkedHashMap$Entry;Ljava/util/LinkedHashMap$Entry;)V" } : Jvm.MethodName)) ∈ lw_tbl := lw_at lw_m4 178 rfl
theorem q1050 : (Jvm.Cond.instanceMethod ({ cls := "java/util/LinkedHashMap", name := "transferLinks", desc := "(Ljava/util/LinkedHashMap$Entry;Ljava/util/LinkedHashMap$Entry;)V" } : Jvm.MethodName)) ∈ lw_all := lw_g (lw_at lw_m4 179 rfl) rfl
theorem q1051 : (Jvm.Cond.code ({ cls := "java/util/LinkedHashMap", name := "transferLinks", desc := "(Ljava/util/LinkedHashMap$Entry;Ljava/util/LinkedHashMap$Entry;)V" } : Jvm.MethodName) prog_57_method_2_code (5 : Nat) (Option.none : Option Jvm.ClassFile.FieldType)) ∈ lw_all := lw_g (lw_at lw_m4 180 rfl) rfl
theorem q1287 : (Jvm.Cond.selects "java/util/LinkedHashMap" ({ cls := "java/util/HashMap", name := "newNode", desc := "(ILjava/lang/Object;Ljava/lang/Object;Ljava/util/HashMap$Node;)Ljava/util/HashMap$Node;" } : Jvm.MethodName) ({ cls := "java/util/LinkedHashMap", name := "newNode", desc := "(ILjava/lang/Object;Ljava/lang/Object;Ljava/util/HashMap$Node;)Ljava/util/HashMap$Node;" } : Jvm.MethodName)) ∈ lw_all := lw_g (lw_at lw_m5 176 rfl) rfl
theorem q1288 : (Jvm.Cond.instanceMethod ({ cls := "java/util/LinkedHashMap", name := "newNode", desc := "(ILjava/lang/Object;Ljava/lang/Object;Ljava/util/HashMap$Node;)Ljava/util/HashMap$Node;" } : Jvm.MethodName)) ∈ lw_all := lw_g (lw_at lw_m5 177 rfl) rfl
theorem q1289 : (Jvm.Cond.code ({ cls := "java/util/LinkedHashMap", name := "newNode", desc := "(ILjava/lang/Object;Ljava/lang/Object;Ljava/util/HashMap$Node;)Ljava/util/HashMap$Node;" } : Jvm.MethodName) prog_57_method_4_code (6 : Nat) (Option.some (Jvm.ClassFile.FieldType.object "java/util/HashMap$Node"))) ∈ lw_all := lw_g (lw_at lw_m5 178 rfl) rfl
theorem q1290 : (Jvm.Cond.methodLink "java/util/LinkedHashMap" (32 : Nat) ({ cls := "java/util/LinkedHashMap", name := "linkNodeAtEnd", desc := "(Ljava/util/LinkedHashMap$Entry;)V" } : Jvm.MethodName)) ∈ lw_all := lw_g (lw_at lw_m5 179 rfl) rfl
theorem q1291 : (Jvm.Cond.privateMethod ({ cls := "java/util/LinkedHashMap", name := "linkNodeAtEnd", desc := "(Ljava/util/LinkedHashMap$Entry;)V" } : Jvm.MethodName)) ∈ lw_tbl := lw_at lw_m5 180 rfl
theorem q1292 : (Jvm.Cond.instanceMethod ({ cls := "java/util/LinkedHashMap", name := "linkNodeAtEnd", desc := "(Ljava/util/LinkedHashMap$Entry;)V" } : Jvm.MethodName)) ∈ lw_all := lw_g (lw_at lw_m5 181 rfl) rfl
theorem q1293 : (Jvm.Cond.code ({ cls := "java/util/LinkedHashMap", name := "linkNodeAtEnd", desc := "(Ljava/util/LinkedHashMap$Entry;)V" } : Jvm.MethodName) prog_57_method_1_code (3 : Nat) (Option.none : Option Jvm.ClassFile.FieldType)) ∈ lw_all := lw_g (lw_at lw_m5 182 rfl) rfl
theorem q1356 : (Jvm.Cond.selects "java/util/LinkedHashMap" ({ cls := "java/util/HashMap", name := "newTreeNode", desc := "(ILjava/lang/Object;Ljava/lang/Object;Ljava/util/HashMap$Node;)Ljava/util/HashMap$TreeNode;" } : Jvm.MethodName) ({ cls := "java/util/LinkedHashMap", name := "newTreeNode", desc := "(ILjava/lang/Object;Ljava/lang/Object;Ljava/util/HashMap$Node;)Ljava/util/HashMap$TreeNode;" } : Jvm.MethodName)) ∈ lw_all := lw_g (lw_at lw_m6 5 rfl) rfl
theorem q1357 : (Jvm.Cond.instanceMethod ({ cls := "java/util/LinkedHashMap", name := "newTreeNode", desc := "(ILjava/lang/Object;Ljava/lang/Object;Ljava/util/HashMap$Node;)Ljava/util/HashMap$TreeNode;" } : Jvm.MethodName)) ∈ lw_all := lw_g (lw_at lw_m6 6 rfl) rfl
theorem q1358 : (Jvm.Cond.code ({ cls := "java/util/LinkedHashMap", name := "newTreeNode", desc := "(ILjava/lang/Object;Ljava/lang/Object;Ljava/util/HashMap$Node;)Ljava/util/HashMap$TreeNode;" } : Jvm.MethodName) prog_57_method_6_code (6 : Nat) (Option.some (Jvm.ClassFile.FieldType.object "java/util/HashMap$TreeNode"))) ∈ lw_all := lw_g (lw_at lw_m6 7 rfl) rfl
theorem q1359 : (Jvm.Cond.classLink "java/util/LinkedHashMap" (50 : Nat) "java/util/HashMap$TreeNode") ∈ lw_all := lw_g (lw_at lw_m6 8 rfl) rfl
theorem q1361 : (Jvm.Cond.methodLink "java/util/LinkedHashMap" (52 : Nat) ({ cls := "java/util/HashMap$TreeNode", name := "<init>", desc := "(ILjava/lang/Object;Ljava/lang/Object;Ljava/util/HashMap$Node;)V" } : Jvm.MethodName)) ∈ lw_all := lw_g (lw_at lw_m6 10 rfl) rfl
theorem q1394 : (Jvm.Cond.selects "java/util/LinkedHashMap" ({ cls := "java/util/HashMap", name := "treeifyBin", desc := "([Ljava/util/HashMap$Node;I)V" } : Jvm.MethodName) ({ cls := "java/util/HashMap", name := "treeifyBin", desc := "([Ljava/util/HashMap$Node;I)V" } : Jvm.MethodName)) ∈ lw_all := lw_g (lw_at lw_m6 43 rfl) rfl
theorem q1400 : (Jvm.Cond.selects "java/util/LinkedHashMap" ({ cls := "java/util/HashMap", name := "replacementTreeNode", desc := "(Ljava/util/HashMap$Node;Ljava/util/HashMap$Node;)Ljava/util/HashMap$TreeNode;" } : Jvm.MethodName) ({ cls := "java/util/LinkedHashMap", name := "replacementTreeNode", desc := "(Ljava/util/HashMap$Node;Ljava/util/HashMap$Node;)Ljava/util/HashMap$TreeNode;" } : Jvm.MethodName)) ∈ lw_all := lw_g (lw_at lw_m6 49 rfl) rfl
theorem q1401 : (Jvm.Cond.instanceMethod ({ cls := "java/util/LinkedHashMap", name := "replacementTreeNode", desc := "(Ljava/util/HashMap$Node;Ljava/util/HashMap$Node;)Ljava/util/HashMap$TreeNode;" } : Jvm.MethodName)) ∈ lw_all := lw_g (lw_at lw_m6 50 rfl) rfl
theorem q1402 : (Jvm.Cond.code ({ cls := "java/util/LinkedHashMap", name := "replacementTreeNode", desc := "(Ljava/util/HashMap$Node;Ljava/util/HashMap$Node;)Ljava/util/HashMap$TreeNode;" } : Jvm.MethodName) prog_57_method_7_code (5 : Nat) (Option.some (Jvm.ClassFile.FieldType.object "java/util/HashMap$TreeNode"))) ∈ lw_all := lw_g (lw_at lw_m6 51 rfl) rfl
theorem q1409 : (Jvm.Cond.selects "java/util/LinkedHashMap" ({ cls := "java/util/HashMap", name := "afterNodeAccess", desc := "(Ljava/util/HashMap$Node;)V" } : Jvm.MethodName) ({ cls := "java/util/LinkedHashMap", name := "afterNodeAccess", desc := "(Ljava/util/HashMap$Node;)V" } : Jvm.MethodName)) ∈ lw_all := lw_g (lw_at lw_m6 58 rfl) rfl
theorem q1410 : (Jvm.Cond.instanceMethod ({ cls := "java/util/LinkedHashMap", name := "afterNodeAccess", desc := "(Ljava/util/HashMap$Node;)V" } : Jvm.MethodName)) ∈ lw_all := lw_g (lw_at lw_m6 59 rfl) rfl
theorem q1411 : (Jvm.Cond.code ({ cls := "java/util/LinkedHashMap", name := "afterNodeAccess", desc := "(Ljava/util/HashMap$Node;)V" } : Jvm.MethodName) prog_57_method_10_code (7 : Nat) (Option.none : Option Jvm.ClassFile.FieldType)) ∈ lw_all := lw_g (lw_at lw_m6 60 rfl) rfl
theorem q1417 : (Jvm.Cond.selects "java/util/LinkedHashMap" ({ cls := "java/util/HashMap", name := "afterNodeInsertion", desc := "(Z)V" } : Jvm.MethodName) ({ cls := "java/util/LinkedHashMap", name := "afterNodeInsertion", desc := "(Z)V" } : Jvm.MethodName)) ∈ lw_all := lw_g (lw_at lw_m6 66 rfl) rfl
theorem q1418 : (Jvm.Cond.instanceMethod ({ cls := "java/util/LinkedHashMap", name := "afterNodeInsertion", desc := "(Z)V" } : Jvm.MethodName)) ∈ lw_all := lw_g (lw_at lw_m6 67 rfl) rfl
theorem q1419 : (Jvm.Cond.code ({ cls := "java/util/LinkedHashMap", name := "afterNodeInsertion", desc := "(Z)V" } : Jvm.MethodName) prog_57_method_9_code (4 : Nat) (Option.none : Option Jvm.ClassFile.FieldType)) ∈ lw_all := lw_g (lw_at lw_m6 68 rfl) rfl
theorem q1420 : (Jvm.Cond.methodLink "java/util/LinkedHashMap" (53 : Nat) ({ cls := "java/util/LinkedHashMap", name := "removeEldestEntry", desc := "(Ljava/util/Map$Entry;)Z" } : Jvm.MethodName)) ∈ lw_all := lw_g (lw_at lw_m6 69 rfl) rfl
theorem q1421 : (Jvm.Cond.instanceMethod ({ cls := "java/util/LinkedHashMap", name := "removeEldestEntry", desc := "(Ljava/util/Map$Entry;)Z" } : Jvm.MethodName)) ∈ lw_all := lw_g (lw_at lw_m6 70 rfl) rfl
theorem q1422 : (Jvm.Cond.selects "java/util/LinkedHashMap" ({ cls := "java/util/LinkedHashMap", name := "removeEldestEntry", desc := "(Ljava/util/Map$Entry;)Z" } : Jvm.MethodName) ({ cls := "java/util/LinkedHashMap", name := "removeEldestEntry", desc := "(Ljava/util/Map$Entry;)Z" } : Jvm.MethodName)) ∈ lw_all := lw_g (lw_at lw_m6 71 rfl) rfl
theorem q1423 : (Jvm.Cond.code ({ cls := "java/util/LinkedHashMap", name := "removeEldestEntry", desc := "(Ljava/util/Map$Entry;)Z" } : Jvm.MethodName) prog_57_method_23_code (2 : Nat) (Option.some Jvm.ClassFile.FieldType.boolean)) ∈ lw_all := lw_g (lw_at lw_m6 72 rfl) rfl
theorem q1632 : (Jvm.Cond.sameMethod "java/util/LinkedHashMap" "java/util/HashMap" "containsKey" "(Ljava/lang/Object;)Z") ∈ lw_all := lw_g (lw_at lw_m7 41 rfl) rfl
theorem q1634 : (Jvm.Cond.selects "java/util/LinkedHashMap" ({ cls := "java/util/LinkedHashMap", name := "containsKey", desc := "(Ljava/lang/Object;)Z" } : Jvm.MethodName) ({ cls := "java/util/HashMap", name := "containsKey", desc := "(Ljava/lang/Object;)Z" } : Jvm.MethodName)) ∈ lw_all := lw_g (lw_at lw_m7 43 rfl) rfl
theorem q1641 : (Jvm.Cond.selects "java/util/LinkedHashMap" ({ cls := "java/util/HashMap", name := "getNode", desc := "(Ljava/lang/Object;)Ljava/util/HashMap$Node;" } : Jvm.MethodName) ({ cls := "java/util/HashMap", name := "getNode", desc := "(Ljava/lang/Object;)Ljava/util/HashMap$Node;" } : Jvm.MethodName)) ∈ lw_all := lw_g (lw_at lw_m7 50 rfl) rfl
theorem q1789 : (Jvm.Cond.selects "java/util/LinkedHashMap" ({ cls := "java/util/HashMap", name := "get", desc := "(Ljava/lang/Object;)Ljava/lang/Object;" } : Jvm.MethodName) ({ cls := "java/util/LinkedHashMap", name := "get", desc := "(Ljava/lang/Object;)Ljava/lang/Object;" } : Jvm.MethodName)) ∈ lw_all := lw_g (lw_at lw_m7 198 rfl) rfl
theorem q1790 : (Jvm.Cond.instanceMethod ({ cls := "java/util/LinkedHashMap", name := "get", desc := "(Ljava/lang/Object;)Ljava/lang/Object;" } : Jvm.MethodName)) ∈ lw_all := lw_g (lw_at lw_m7 199 rfl) rfl
theorem q1791 : (Jvm.Cond.code ({ cls := "java/util/LinkedHashMap", name := "get", desc := "(Ljava/lang/Object;)Ljava/lang/Object;" } : Jvm.MethodName) prog_57_method_20_code (3 : Nat) (Option.some (Jvm.ClassFile.FieldType.object "java/lang/Object"))) ∈ lw_all := lw_g (lw_at lw_m7 200 rfl) rfl
theorem q1792 : (Jvm.Cond.methodLink "java/util/LinkedHashMap" (99 : Nat) ({ cls := "java/util/LinkedHashMap", name := "getNode", desc := "(Ljava/lang/Object;)Ljava/util/HashMap$Node;" } : Jvm.MethodName)) ∈ lw_all := lw_g (lw_at lw_m7 201 rfl) rfl
theorem q1793 : (Jvm.Cond.sameMethod "java/util/LinkedHashMap" "java/util/HashMap" "getNode" "(Ljava/lang/Object;)Ljava/util/HashMap$Node;") ∈ lw_all := lw_g (lw_at lw_m7 202 rfl) rfl
theorem q1795 : (Jvm.Cond.selects "java/util/LinkedHashMap" ({ cls := "java/util/LinkedHashMap", name := "getNode", desc := "(Ljava/lang/Object;)Ljava/util/HashMap$Node;" } : Jvm.MethodName) ({ cls := "java/util/HashMap", name := "getNode", desc := "(Ljava/lang/Object;)Ljava/util/HashMap$Node;" } : Jvm.MethodName)) ∈ lw_all := lw_g (lw_at lw_m7 204 rfl) rfl
theorem q1796 : (Jvm.Cond.methodLink "java/util/LinkedHashMap" (103 : Nat) ({ cls := "java/util/LinkedHashMap", name := "afterNodeAccess", desc := "(Ljava/util/HashMap$Node;)V" } : Jvm.MethodName)) ∈ lw_all := lw_g (lw_at lw_m7 205 rfl) rfl
theorem q1942 : (Jvm.Cond.selects "java/util/LinkedHashMap" ({ cls := "java/util/HashMap", name := "remove", desc := "(Ljava/lang/Object;)Ljava/lang/Object;" } : Jvm.MethodName) ({ cls := "java/util/HashMap", name := "remove", desc := "(Ljava/lang/Object;)Ljava/lang/Object;" } : Jvm.MethodName)) ∈ lw_all := lw_g (lw_at lw_m8 111 rfl) rfl
theorem q1948 : (Jvm.Cond.selects "java/util/LinkedHashMap" ({ cls := "java/util/HashMap", name := "removeNode", desc := "(ILjava/lang/Object;Ljava/lang/Object;ZZ)Ljava/util/HashMap$Node;" } : Jvm.MethodName) ({ cls := "java/util/HashMap", name := "removeNode", desc := "(ILjava/lang/Object;Ljava/lang/Object;ZZ)Ljava/util/HashMap$Node;" } : Jvm.MethodName)) ∈ lw_all := lw_g (lw_at lw_m8 117 rfl) rfl
theorem q1961 : (Jvm.Cond.selects "java/util/LinkedHashMap" ({ cls := "java/util/HashMap", name := "afterNodeRemoval", desc := "(Ljava/util/HashMap$Node;)V" } : Jvm.MethodName) ({ cls := "java/util/LinkedHashMap", name := "afterNodeRemoval", desc := "(Ljava/util/HashMap$Node;)V" } : Jvm.MethodName)) ∈ lw_all := lw_g (lw_at lw_m8 130 rfl) rfl
theorem q1962 : (Jvm.Cond.instanceMethod ({ cls := "java/util/LinkedHashMap", name := "afterNodeRemoval", desc := "(Ljava/util/HashMap$Node;)V" } : Jvm.MethodName)) ∈ lw_all := lw_g (lw_at lw_m8 131 rfl) rfl
theorem q1963 : (Jvm.Cond.code ({ cls := "java/util/LinkedHashMap", name := "afterNodeRemoval", desc := "(Ljava/util/HashMap$Node;)V" } : Jvm.MethodName) prog_57_method_8_code (5 : Nat) (Option.none : Option Jvm.ClassFile.FieldType)) ∈ lw_all := lw_g (lw_at lw_m8 132 rfl) rfl
theorem q2109 : (Jvm.Cond.selects "java/util/LinkedHashMap" ({ cls := "java/util/HashMap", name := "size", desc := "()I" } : Jvm.MethodName) ({ cls := "java/util/HashMap", name := "size", desc := "()I" } : Jvm.MethodName)) ∈ lw_all := lw_g (lw_at lw_m9 38 rfl) rfl
theorem q3504 : (Jvm.Cond.selects "java/util/LinkedHashMap" ({ cls := "java/util/HashMap", name := "containsKey", desc := "(Ljava/lang/Object;)Z" } : Jvm.MethodName) ({ cls := "java/util/HashMap", name := "containsKey", desc := "(Ljava/lang/Object;)Z" } : Jvm.MethodName)) ∈ lw_all := lw_g (lw_at lw_m14 233 rfl) rfl
theorem q3505 : (Jvm.Cond.selects "java/util/LinkedHashMap" ({ cls := "java/util/LinkedHashMap", name := "afterNodeAccess", desc := "(Ljava/util/HashMap$Node;)V" } : Jvm.MethodName) ({ cls := "java/util/LinkedHashMap", name := "afterNodeAccess", desc := "(Ljava/util/HashMap$Node;)V" } : Jvm.MethodName)) ∈ lw_all := lw_g (lw_at lw_m14 234 rfl) rfl
theorem q3508 : (Jvm.Cond.selects "java/util/LinkedHashMap" ({ cls := "java/util/HashMap", name := "put", desc := "(Ljava/lang/Object;Ljava/lang/Object;)Ljava/lang/Object;" } : Jvm.MethodName) ({ cls := "java/util/HashMap", name := "put", desc := "(Ljava/lang/Object;Ljava/lang/Object;)Ljava/lang/Object;" } : Jvm.MethodName)) ∈ lw_all := lw_g (lw_at lw_m14 237 rfl) rfl
theorem q3509 : (Jvm.Cond.selects "java/util/LinkedHashMap" ({ cls := "java/util/LinkedHashMap", name := "get", desc := "(Ljava/lang/Object;)Ljava/lang/Object;" } : Jvm.MethodName) ({ cls := "java/util/LinkedHashMap", name := "get", desc := "(Ljava/lang/Object;)Ljava/lang/Object;" } : Jvm.MethodName)) ∈ lw_all := lw_g (lw_at lw_m14 238 rfl) rfl
theorem q3531 : (Jvm.Cond.castable "java/util/LinkedHashMap" "java/lang/Object") ∈ lw_tbl := lw_at lw_m15 20 rfl
theorem in_J5 : ∀ w ∈ wsJ50, w ∈ lw_all := lw_in wsJ50 [297, 298, 291, 292, 293, 294, 295, 296, 283, 285, 287, 289] (by decide +kernel) (by decide +kernel)
/-! java/util/AbstractList -/
set_option maxRecDepth 100000
def RJ6 : String := "java/util/AbstractList"
abbrev cJ6_init : ByteArray := prog_47_method_1_code
def yJ6_init : MethodName := ⟨RJ6, "<init>", "()V"⟩
def dkwJ6_init_0 : List UInt8 := [42, 183, 0, 1, 42, 3, 181, 0, 7, 177]
abbrev dktJ6_init_0 : List UInt8 := dkwJ6_init_0 ++ []
theorem dksJ6_init_0 : cJ6_init.data.toList.drop 0 = dktJ6_init_0 := by decide +kernel
theorem dJ6_init_0 : decode cJ6_init 0 = .ok (.aload_n 0, 1) := dk_42 (dk_at dksJ6_init_0 0 rfl rfl)
theorem dJ6_init_1 : decode cJ6_init 1 = .ok (.invokespecial 1, 3) := dk_183 0 1 (dk_at dksJ6_init_0 1 rfl rfl)
theorem dJ6_init_4 : decode cJ6_init 4 = .ok (.aload_n 0, 1) := dk_42 (dk_at dksJ6_init_0 4 rfl rfl)
theorem dJ6_init_5 : decode cJ6_init 5 = .ok (.iconst 0, 1) := dk_3 (dk_at dksJ6_init_0 5 rfl rfl)
theorem dJ6_init_6 : decode cJ6_init 6 = .ok (.putfield 7, 3) := dk_181 0 7 (dk_at dksJ6_init_0 6 rfl rfl)
theorem dJ6_init_9 : decode cJ6_init 9 = .ok (.return_, 1) := dk_177 (dk_at dksJ6_init_0 9 rfl rfl)
theorem q160 : (Jvm.Cond.initialized "java/util/AbstractList") ∈ lw_all := lw_g (lw_at lw_m1 9 rfl) rfl
theorem q306 : (Jvm.Cond.instanceMethod ({ cls := "java/util/AbstractList", name := "<init>", desc := "()V" } : Jvm.MethodName)) ∈ lw_all := lw_g (lw_at lw_m1 155 rfl) rfl
theorem q307 : (Jvm.Cond.code ({ cls := "java/util/AbstractList", name := "<init>", desc := "()V" } : Jvm.MethodName) prog_47_method_1_code (1 : Nat) (Option.none : Option Jvm.ClassFile.FieldType)) ∈ lw_all := lw_g (lw_at lw_m1 156 rfl) rfl
theorem q308 : (Jvm.Cond.methodLink "java/util/AbstractList" (1 : Nat) ({ cls := "java/util/AbstractCollection", name := "<init>", desc := "()V" } : Jvm.MethodName)) ∈ lw_all := lw_g (lw_at lw_m1 157 rfl) rfl
theorem q313 : (Jvm.Cond.fieldLink "java/util/AbstractList" (7 : Nat) "java/util/AbstractList" "modCount" "I") ∈ lw_all := lw_g (lw_at lw_m1 162 rfl) rfl
theorem q321 : (Jvm.Cond.soleField "java/util/AbstractList" "modCount") ∈ lw_all := lw_g (lw_at lw_m1 170 rfl) rfl
/-! java/util/ArrayList -/
set_option maxRecDepth 100000
def RJ7 : String := "java/util/ArrayList"
def TJ7 : u_T := fun k => match k with
  | 0 => ("java/util/AbstractList", "modCount", "I", false)
  | 1 => ("java/util/ArrayList", "elementData", "[Ljava/lang/Object;", false)
  | _ => ("java/util/ArrayList", "size", "I", false)
def tyJ7 : Nat → FieldType := fun k => match k with
  | 0 => .int
  | 1 => .array (.object "java/lang/Object")
  | _ => .int
abbrev wsJ70 : List Cond := u_ws RJ7 TJ7 3
theorem nmJ7 : ∀ a, a < 3 → ∀ b, b < 3 → a ≠ b → (TJ7 a).2.1 ≠ (TJ7 b).2.1 := by decide +kernel
theorem tyJ7_ok : ∀ k, k < 3 → parseFieldDescriptor (TJ7 k).2.2.1 = some (tyJ7 k) := by decide +kernel
abbrev cJ7_init : ByteArray := prog_50_method_2_code
def yJ7_init : MethodName := ⟨RJ7, "<init>", "()V"⟩
def dkwJ7_init_0 : List UInt8 := [42, 183, 0, 1, 42, 178, 0, 39, 181, 0, 9, 177]
abbrev dktJ7_init_0 : List UInt8 := dkwJ7_init_0 ++ []
theorem dksJ7_init_0 : cJ7_init.data.toList.drop 0 = dktJ7_init_0 := by decide +kernel
theorem dJ7_init_0 : decode cJ7_init 0 = .ok (.aload_n 0, 1) := dk_42 (dk_at dksJ7_init_0 0 rfl rfl)
theorem dJ7_init_1 : decode cJ7_init 1 = .ok (.invokespecial 1, 3) := dk_183 0 1 (dk_at dksJ7_init_0 1 rfl rfl)
theorem dJ7_init_4 : decode cJ7_init 4 = .ok (.aload_n 0, 1) := dk_42 (dk_at dksJ7_init_0 4 rfl rfl)
theorem dJ7_init_5 : decode cJ7_init 5 = .ok (.getstatic 39, 3) := dk_178 0 39 (dk_at dksJ7_init_0 5 rfl rfl)
theorem dJ7_init_8 : decode cJ7_init 8 = .ok (.putfield 9, 3) := dk_181 0 9 (dk_at dksJ7_init_0 8 rfl rfl)
theorem dJ7_init_11 : decode cJ7_init 11 = .ok (.return_, 1) := dk_177 (dk_at dksJ7_init_0 11 rfl rfl)
abbrev cJ7_add : ByteArray := prog_50_method_25_code
def yJ7_add : MethodName := ⟨RJ7, "add", "(Ljava/lang/Object;)Z"⟩
def dkwJ7_add_1 : List UInt8 := [172]
abbrev dktJ7_add_1 : List UInt8 := dkwJ7_add_1 ++ []
def dkwJ7_add_0 : List UInt8 := [42, 89, 180, 0, 63, 4, 96, 181, 0, 63, 42, 43, 42, 180, 0, 9, 42, 180, 0, 48, 182, 0, 131, 4]
abbrev dktJ7_add_0 : List UInt8 := dkwJ7_add_0 ++ dktJ7_add_1
theorem dksJ7_add_0 : cJ7_add.data.toList.drop 0 = dktJ7_add_0 := by decide +kernel
theorem dksJ7_add_1 : cJ7_add.data.toList.drop 24 = dktJ7_add_1 := dk_seg dksJ7_add_0 24 rfl rfl
theorem dJ7_add_0 : decode cJ7_add 0 = .ok (.aload_n 0, 1) := dk_42 (dk_at dksJ7_add_0 0 rfl rfl)
theorem dJ7_add_1 : decode cJ7_add 1 = .ok (.dup, 1) := dk_89 (dk_at dksJ7_add_0 1 rfl rfl)
theorem dJ7_add_2 : decode cJ7_add 2 = .ok (.getfield 63, 3) := dk_180 0 63 (dk_at dksJ7_add_0 2 rfl rfl)
theorem dJ7_add_5 : decode cJ7_add 5 = .ok (.iconst 1, 1) := dk_4 (dk_at dksJ7_add_0 5 rfl rfl)
theorem dJ7_add_6 : decode cJ7_add 6 = .ok (.iadd, 1) := dk_96 (dk_at dksJ7_add_0 6 rfl rfl)
theorem dJ7_add_7 : decode cJ7_add 7 = .ok (.putfield 63, 3) := dk_181 0 63 (dk_at dksJ7_add_0 7 rfl rfl)
theorem dJ7_add_10 : decode cJ7_add 10 = .ok (.aload_n 0, 1) := dk_42 (dk_at dksJ7_add_0 10 rfl rfl)
theorem dJ7_add_11 : decode cJ7_add 11 = .ok (.aload_n 1, 1) := dk_43 (dk_at dksJ7_add_0 11 rfl rfl)
theorem dJ7_add_12 : decode cJ7_add 12 = .ok (.aload_n 0, 1) := dk_42 (dk_at dksJ7_add_0 12 rfl rfl)
theorem dJ7_add_13 : decode cJ7_add 13 = .ok (.getfield 9, 3) := dk_180 0 9 (dk_at dksJ7_add_0 13 rfl rfl)
theorem dJ7_add_16 : decode cJ7_add 16 = .ok (.aload_n 0, 1) := dk_42 (dk_at dksJ7_add_0 16 rfl rfl)
theorem dJ7_add_17 : decode cJ7_add 17 = .ok (.getfield 48, 3) := dk_180 0 48 (dk_at dksJ7_add_0 17 rfl rfl)
theorem dJ7_add_20 : decode cJ7_add 20 = .ok (.invokevirtual 131, 3) := dk_182 0 131 (dk_at dksJ7_add_0 20 rfl rfl)
theorem dJ7_add_23 : decode cJ7_add 23 = .ok (.iconst 1, 1) := dk_4 (dk_at dksJ7_add_0 23 rfl rfl)
theorem dJ7_add_24 : decode cJ7_add 24 = .ok (.ireturn, 1) := dk_172 (dk_at dksJ7_add_1 0 rfl rfl)
abbrev cJ7_add_2 : ByteArray := prog_50_method_24_code
def yJ7_add_2 : MethodName := ⟨RJ7, "add", "(Ljava/lang/Object;[Ljava/lang/Object;I)V"⟩
def dkwJ7_add_2_0 : List UInt8 := [29, 44, 190, 160, 0, 8, 42, 182, 0, 129, 77, 44, 29, 43, 83, 42, 29, 4, 96, 181, 0, 48, 177]
abbrev dktJ7_add_2_0 : List UInt8 := dkwJ7_add_2_0 ++ []
theorem dksJ7_add_2_0 : cJ7_add_2.data.toList.drop 0 = dktJ7_add_2_0 := by decide +kernel
theorem dJ7_add_2_0 : decode cJ7_add_2 0 = .ok (.iload_n 3, 1) := dk_29 (dk_at dksJ7_add_2_0 0 rfl rfl)
theorem dJ7_add_2_1 : decode cJ7_add_2 1 = .ok (.aload_n 2, 1) := dk_44 (dk_at dksJ7_add_2_0 1 rfl rfl)
theorem dJ7_add_2_2 : decode cJ7_add_2 2 = .ok (.arraylength, 1) := dk_190 (dk_at dksJ7_add_2_0 2 rfl rfl)
theorem dJ7_add_2_3 : decode cJ7_add_2 3 = .ok (.if_icmp .ne 8, 3) := dk_160 0 8 (dk_at dksJ7_add_2_0 3 rfl rfl)
theorem dJ7_add_2_6 : decode cJ7_add_2 6 = .ok (.aload_n 0, 1) := dk_42 (dk_at dksJ7_add_2_0 6 rfl rfl)
theorem dJ7_add_2_7 : decode cJ7_add_2 7 = .ok (.invokevirtual 129, 3) := dk_182 0 129 (dk_at dksJ7_add_2_0 7 rfl rfl)
theorem dJ7_add_2_10 : decode cJ7_add_2 10 = .ok (.astore_n 2, 1) := dk_77 (dk_at dksJ7_add_2_0 10 rfl rfl)
theorem dJ7_add_2_11 : decode cJ7_add_2 11 = .ok (.aload_n 2, 1) := dk_44 (dk_at dksJ7_add_2_0 11 rfl rfl)
theorem dJ7_add_2_12 : decode cJ7_add_2 12 = .ok (.iload_n 3, 1) := dk_29 (dk_at dksJ7_add_2_0 12 rfl rfl)
theorem dJ7_add_2_13 : decode cJ7_add_2 13 = .ok (.aload_n 1, 1) := dk_43 (dk_at dksJ7_add_2_0 13 rfl rfl)
theorem dJ7_add_2_14 : decode cJ7_add_2 14 = .ok (.aastore, 1) := dk_83 (dk_at dksJ7_add_2_0 14 rfl rfl)
theorem dJ7_add_2_15 : decode cJ7_add_2 15 = .ok (.aload_n 0, 1) := dk_42 (dk_at dksJ7_add_2_0 15 rfl rfl)
theorem dJ7_add_2_16 : decode cJ7_add_2 16 = .ok (.iload_n 3, 1) := dk_29 (dk_at dksJ7_add_2_0 16 rfl rfl)
theorem dJ7_add_2_17 : decode cJ7_add_2 17 = .ok (.iconst 1, 1) := dk_4 (dk_at dksJ7_add_2_0 17 rfl rfl)
theorem dJ7_add_2_18 : decode cJ7_add_2 18 = .ok (.iadd, 1) := dk_96 (dk_at dksJ7_add_2_0 18 rfl rfl)
theorem dJ7_add_2_19 : decode cJ7_add_2 19 = .ok (.putfield 48, 3) := dk_181 0 48 (dk_at dksJ7_add_2_0 19 rfl rfl)
theorem dJ7_add_2_22 : decode cJ7_add_2 22 = .ok (.return_, 1) := dk_177 (dk_at dksJ7_add_2_0 22 rfl rfl)
abbrev cJ7_grow : ByteArray := prog_50_method_7_code
def yJ7_grow : MethodName := ⟨RJ7, "grow", "()[Ljava/lang/Object;"⟩
def dkwJ7_grow_0 : List UInt8 := [42, 42, 180, 0, 48, 4, 96, 182, 0, 69, 176]
abbrev dktJ7_grow_0 : List UInt8 := dkwJ7_grow_0 ++ []
theorem dksJ7_grow_0 : cJ7_grow.data.toList.drop 0 = dktJ7_grow_0 := by decide +kernel
theorem dJ7_grow_0 : decode cJ7_grow 0 = .ok (.aload_n 0, 1) := dk_42 (dk_at dksJ7_grow_0 0 rfl rfl)
theorem dJ7_grow_1 : decode cJ7_grow 1 = .ok (.aload_n 0, 1) := dk_42 (dk_at dksJ7_grow_0 1 rfl rfl)
theorem dJ7_grow_2 : decode cJ7_grow 2 = .ok (.getfield 48, 3) := dk_180 0 48 (dk_at dksJ7_grow_0 2 rfl rfl)
theorem dJ7_grow_5 : decode cJ7_grow 5 = .ok (.iconst 1, 1) := dk_4 (dk_at dksJ7_grow_0 5 rfl rfl)
theorem dJ7_grow_6 : decode cJ7_grow 6 = .ok (.iadd, 1) := dk_96 (dk_at dksJ7_grow_0 6 rfl rfl)
theorem dJ7_grow_7 : decode cJ7_grow 7 = .ok (.invokevirtual 69, 3) := dk_182 0 69 (dk_at dksJ7_grow_0 7 rfl rfl)
theorem dJ7_grow_10 : decode cJ7_grow 10 = .ok (.areturn, 1) := dk_176 (dk_at dksJ7_grow_0 10 rfl rfl)
abbrev cJ7_grow_2 : ByteArray := prog_50_method_6_code
def yJ7_grow_2 : MethodName := ⟨RJ7, "grow", "(I)[Ljava/lang/Object;"⟩
def dkwJ7_grow_2_2 : List UInt8 := [27, 184, 0, 79, 189, 0, 7, 90, 181, 0, 9, 176]
abbrev dktJ7_grow_2_2 : List UInt8 := dkwJ7_grow_2_2 ++ []
def dkwJ7_grow_2_1 : List UInt8 := [28, 4, 122, 184, 0, 73, 62, 42, 42, 180, 0, 9, 29, 184, 0, 66, 90, 181, 0, 9, 176, 42, 16, 10]
abbrev dktJ7_grow_2_1 : List UInt8 := dkwJ7_grow_2_1 ++ dktJ7_grow_2_2
def dkwJ7_grow_2_0 : List UInt8 := [42, 180, 0, 9, 190, 61, 28, 157, 0, 13, 42, 180, 0, 9, 178, 0, 39, 165, 0, 28, 28, 27, 28, 100]
abbrev dktJ7_grow_2_0 : List UInt8 := dkwJ7_grow_2_0 ++ dktJ7_grow_2_1
theorem dksJ7_grow_2_0 : cJ7_grow_2.data.toList.drop 0 = dktJ7_grow_2_0 := by decide +kernel
theorem dksJ7_grow_2_1 : cJ7_grow_2.data.toList.drop 24 = dktJ7_grow_2_1 := dk_seg dksJ7_grow_2_0 24 rfl rfl
theorem dksJ7_grow_2_2 : cJ7_grow_2.data.toList.drop 48 = dktJ7_grow_2_2 := dk_seg dksJ7_grow_2_1 24 rfl rfl
theorem dJ7_grow_2_0 : decode cJ7_grow_2 0 = .ok (.aload_n 0, 1) := dk_42 (dk_at dksJ7_grow_2_0 0 rfl rfl)
theorem dJ7_grow_2_1 : decode cJ7_grow_2 1 = .ok (.getfield 9, 3) := dk_180 0 9 (dk_at dksJ7_grow_2_0 1 rfl rfl)
theorem dJ7_grow_2_4 : decode cJ7_grow_2 4 = .ok (.arraylength, 1) := dk_190 (dk_at dksJ7_grow_2_0 4 rfl rfl)
theorem dJ7_grow_2_5 : decode cJ7_grow_2 5 = .ok (.istore_n 2, 1) := dk_61 (dk_at dksJ7_grow_2_0 5 rfl rfl)
theorem dJ7_grow_2_6 : decode cJ7_grow_2 6 = .ok (.iload_n 2, 1) := dk_28 (dk_at dksJ7_grow_2_0 6 rfl rfl)
theorem dJ7_grow_2_7 : decode cJ7_grow_2 7 = .ok (.ifCond .gt 13, 3) := dk_157 0 13 (dk_at dksJ7_grow_2_0 7 rfl rfl)
theorem dJ7_grow_2_10 : decode cJ7_grow_2 10 = .ok (.aload_n 0, 1) := dk_42 (dk_at dksJ7_grow_2_0 10 rfl rfl)
theorem dJ7_grow_2_11 : decode cJ7_grow_2 11 = .ok (.getfield 9, 3) := dk_180 0 9 (dk_at dksJ7_grow_2_0 11 rfl rfl)
theorem dJ7_grow_2_14 : decode cJ7_grow_2 14 = .ok (.getstatic 39, 3) := dk_178 0 39 (dk_at dksJ7_grow_2_0 14 rfl rfl)
theorem dJ7_grow_2_17 : decode cJ7_grow_2 17 = .ok (.if_acmp .eq 28, 3) := dk_165 0 28 (dk_at dksJ7_grow_2_0 17 rfl rfl)
theorem dJ7_grow_2_20 : decode cJ7_grow_2 20 = .ok (.iload_n 2, 1) := dk_28 (dk_at dksJ7_grow_2_0 20 rfl rfl)
theorem dJ7_grow_2_21 : decode cJ7_grow_2 21 = .ok (.iload_n 1, 1) := dk_27 (dk_at dksJ7_grow_2_0 21 rfl rfl)
theorem dJ7_grow_2_22 : decode cJ7_grow_2 22 = .ok (.iload_n 2, 1) := dk_28 (dk_at dksJ7_grow_2_0 22 rfl rfl)
theorem dJ7_grow_2_23 : decode cJ7_grow_2 23 = .ok (.isub, 1) := dk_100 (dk_at dksJ7_grow_2_0 23 rfl rfl)
theorem dJ7_grow_2_24 : decode cJ7_grow_2 24 = .ok (.iload_n 2, 1) := dk_28 (dk_at dksJ7_grow_2_1 0 rfl rfl)
theorem dJ7_grow_2_25 : decode cJ7_grow_2 25 = .ok (.iconst 1, 1) := dk_4 (dk_at dksJ7_grow_2_1 1 rfl rfl)
theorem dJ7_grow_2_26 : decode cJ7_grow_2 26 = .ok (.ishr, 1) := dk_122 (dk_at dksJ7_grow_2_1 2 rfl rfl)
theorem dJ7_grow_2_27 : decode cJ7_grow_2 27 = .ok (.invokestatic 73, 3) := dk_184 0 73 (dk_at dksJ7_grow_2_1 3 rfl rfl)
theorem dJ7_grow_2_30 : decode cJ7_grow_2 30 = .ok (.istore_n 3, 1) := dk_62 (dk_at dksJ7_grow_2_1 6 rfl rfl)
theorem dJ7_grow_2_31 : decode cJ7_grow_2 31 = .ok (.aload_n 0, 1) := dk_42 (dk_at dksJ7_grow_2_1 7 rfl rfl)
theorem dJ7_grow_2_32 : decode cJ7_grow_2 32 = .ok (.aload_n 0, 1) := dk_42 (dk_at dksJ7_grow_2_1 8 rfl rfl)
theorem dJ7_grow_2_33 : decode cJ7_grow_2 33 = .ok (.getfield 9, 3) := dk_180 0 9 (dk_at dksJ7_grow_2_1 9 rfl rfl)
theorem dJ7_grow_2_36 : decode cJ7_grow_2 36 = .ok (.iload_n 3, 1) := dk_29 (dk_at dksJ7_grow_2_1 12 rfl rfl)
theorem dJ7_grow_2_37 : decode cJ7_grow_2 37 = .ok (.invokestatic 66, 3) := dk_184 0 66 (dk_at dksJ7_grow_2_1 13 rfl rfl)
theorem dJ7_grow_2_40 : decode cJ7_grow_2 40 = .ok (.dup_x1, 1) := dk_90 (dk_at dksJ7_grow_2_1 16 rfl rfl)
theorem dJ7_grow_2_41 : decode cJ7_grow_2 41 = .ok (.putfield 9, 3) := dk_181 0 9 (dk_at dksJ7_grow_2_1 17 rfl rfl)
theorem dJ7_grow_2_44 : decode cJ7_grow_2 44 = .ok (.areturn, 1) := dk_176 (dk_at dksJ7_grow_2_1 20 rfl rfl)
theorem dJ7_grow_2_45 : decode cJ7_grow_2 45 = .ok (.aload_n 0, 1) := dk_42 (dk_at dksJ7_grow_2_1 21 rfl rfl)
theorem dJ7_grow_2_46 : decode cJ7_grow_2 46 = .ok (.bipush 10, 2) := dk_16 10 (dk_at dksJ7_grow_2_1 22 rfl rfl)
theorem dJ7_grow_2_48 : decode cJ7_grow_2 48 = .ok (.iload_n 1, 1) := dk_27 (dk_at dksJ7_grow_2_2 0 rfl rfl)
theorem dJ7_grow_2_49 : decode cJ7_grow_2 49 = .ok (.invokestatic 79, 3) := dk_184 0 79 (dk_at dksJ7_grow_2_2 1 rfl rfl)
theorem dJ7_grow_2_52 : decode cJ7_grow_2 52 = .ok (.anewarray 7, 3) := dk_189 0 7 (dk_at dksJ7_grow_2_2 4 rfl rfl)
theorem dJ7_grow_2_55 : decode cJ7_grow_2 55 = .ok (.dup_x1, 1) := dk_90 (dk_at dksJ7_grow_2_2 7 rfl rfl)
theorem dJ7_grow_2_56 : decode cJ7_grow_2 56 = .ok (.putfield 9, 3) := dk_181 0 9 (dk_at dksJ7_grow_2_2 8 rfl rfl)
theorem dJ7_grow_2_59 : decode cJ7_grow_2 59 = .ok (.areturn, 1) := dk_176 (dk_at dksJ7_grow_2_2 11 rfl rfl)
abbrev cJ7_size : ByteArray := prog_50_method_8_code
def yJ7_size : MethodName := ⟨RJ7, "size", "()I"⟩
theorem dJ7_size_0 : decode cJ7_size 0 = .ok (.aload_n 0, 1) := by decide +kernel
theorem dJ7_size_1 : decode cJ7_size 1 = .ok (.getfield 48, 3) := by decide +kernel
theorem dJ7_size_4 : decode cJ7_size 4 = .ok (.ireturn, 1) := by decide +kernel
abbrev cJ7_get : ByteArray := prog_50_method_20_code
def yJ7_get : MethodName := ⟨RJ7, "get", "(I)Ljava/lang/Object;"⟩
def dkwJ7_get_0 : List UInt8 := [27, 42, 180, 0, 48, 184, 0, 118, 87, 42, 27, 182, 0, 123, 176]
abbrev dktJ7_get_0 : List UInt8 := dkwJ7_get_0 ++ []
theorem dksJ7_get_0 : cJ7_get.data.toList.drop 0 = dktJ7_get_0 := by decide +kernel
theorem dJ7_get_0 : decode cJ7_get 0 = .ok (.iload_n 1, 1) := dk_27 (dk_at dksJ7_get_0 0 rfl rfl)
theorem dJ7_get_1 : decode cJ7_get 1 = .ok (.aload_n 0, 1) := dk_42 (dk_at dksJ7_get_0 1 rfl rfl)
theorem dJ7_get_2 : decode cJ7_get 2 = .ok (.getfield 48, 3) := dk_180 0 48 (dk_at dksJ7_get_0 2 rfl rfl)
theorem dJ7_get_5 : decode cJ7_get 5 = .ok (.invokestatic 118, 3) := dk_184 0 118 (dk_at dksJ7_get_0 5 rfl rfl)
theorem dJ7_get_8 : decode cJ7_get 8 = .ok (.pop, 1) := dk_87 (dk_at dksJ7_get_0 8 rfl rfl)
theorem dJ7_get_9 : decode cJ7_get 9 = .ok (.aload_n 0, 1) := dk_42 (dk_at dksJ7_get_0 9 rfl rfl)
theorem dJ7_get_10 : decode cJ7_get 10 = .ok (.iload_n 1, 1) := dk_27 (dk_at dksJ7_get_0 10 rfl rfl)
theorem dJ7_get_11 : decode cJ7_get 11 = .ok (.invokevirtual 123, 3) := dk_182 0 123 (dk_at dksJ7_get_0 11 rfl rfl)
theorem dJ7_get_14 : decode cJ7_get 14 = .ok (.areturn, 1) := dk_176 (dk_at dksJ7_get_0 14 rfl rfl)
abbrev cJ7_elementData : ByteArray := prog_50_method_18_code
def yJ7_elementData : MethodName := ⟨RJ7, "elementData", "(I)Ljava/lang/Object;"⟩
def dkwJ7_elementData_0 : List UInt8 := [42, 180, 0, 9, 27, 50, 176]
abbrev dktJ7_elementData_0 : List UInt8 := dkwJ7_elementData_0 ++ []
theorem dksJ7_elementData_0 : cJ7_elementData.data.toList.drop 0 = dktJ7_elementData_0 := by decide +kernel
theorem dJ7_elementData_0 : decode cJ7_elementData 0 = .ok (.aload_n 0, 1) := dk_42 (dk_at dksJ7_elementData_0 0 rfl rfl)
theorem dJ7_elementData_1 : decode cJ7_elementData 1 = .ok (.getfield 9, 3) := dk_180 0 9 (dk_at dksJ7_elementData_0 1 rfl rfl)
theorem dJ7_elementData_4 : decode cJ7_elementData 4 = .ok (.iload_n 1, 1) := dk_27 (dk_at dksJ7_elementData_0 4 rfl rfl)
theorem dJ7_elementData_5 : decode cJ7_elementData 5 = .ok (.aaload, 1) := dk_50 (dk_at dksJ7_elementData_0 5 rfl rfl)
theorem dJ7_elementData_6 : decode cJ7_elementData 6 = .ok (.areturn, 1) := dk_176 (dk_at dksJ7_elementData_0 6 rfl rfl)
abbrev cJ7_init_2 : ByteArray := prog_50_method_1_code
def yJ7_init_2 : MethodName := ⟨RJ7, "<init>", "(I)V"⟩
def dkwJ7_init_2_2 : List UInt8 := [182, 0, 25, 27, 182, 0, 29, 182, 0, 32, 183, 0, 36, 191, 177]
abbrev dktJ7_init_2_2 : List UInt8 := dkwJ7_init_2_2 ++ []
def dkwJ7_init_2_1 : List UInt8 := [178, 0, 15, 181, 0, 9, 167, 0, 30, 187, 0, 18, 89, 187, 0, 20, 89, 183, 0, 22, 18, 23]
abbrev dktJ7_init_2_1 : List UInt8 := dkwJ7_init_2_1 ++ dktJ7_init_2_2
def dkwJ7_init_2_0 : List UInt8 := [42, 183, 0, 1, 27, 158, 0, 14, 42, 27, 189, 0, 7, 181, 0, 9, 167, 0, 44, 27, 154, 0, 13, 42]
abbrev dktJ7_init_2_0 : List UInt8 := dkwJ7_init_2_0 ++ dktJ7_init_2_1
theorem dksJ7_init_2_0 : cJ7_init_2.data.toList.drop 0 = dktJ7_init_2_0 := by decide +kernel
theorem dksJ7_init_2_1 : cJ7_init_2.data.toList.drop 24 = dktJ7_init_2_1 := dk_seg dksJ7_init_2_0 24 rfl rfl
theorem dksJ7_init_2_2 : cJ7_init_2.data.toList.drop 46 = dktJ7_init_2_2 := dk_seg dksJ7_init_2_1 22 rfl rfl
theorem dJ7_init_2_0 : decode cJ7_init_2 0 = .ok (.aload_n 0, 1) := dk_42 (dk_at dksJ7_init_2_0 0 rfl rfl)
theorem dJ7_init_2_1 : decode cJ7_init_2 1 = .ok (.invokespecial 1, 3) := dk_183 0 1 (dk_at dksJ7_init_2_0 1 rfl rfl)
theorem dJ7_init_2_4 : decode cJ7_init_2 4 = .ok (.iload_n 1, 1) := dk_27 (dk_at dksJ7_init_2_0 4 rfl rfl)
theorem dJ7_init_2_5 : decode cJ7_init_2 5 = .ok (.ifCond .le 14, 3) := dk_158 0 14 (dk_at dksJ7_init_2_0 5 rfl rfl)
theorem dJ7_init_2_8 : decode cJ7_init_2 8 = .ok (.aload_n 0, 1) := dk_42 (dk_at dksJ7_init_2_0 8 rfl rfl)
theorem dJ7_init_2_9 : decode cJ7_init_2 9 = .ok (.iload_n 1, 1) := dk_27 (dk_at dksJ7_init_2_0 9 rfl rfl)
theorem dJ7_init_2_10 : decode cJ7_init_2 10 = .ok (.anewarray 7, 3) := dk_189 0 7 (dk_at dksJ7_init_2_0 10 rfl rfl)
theorem dJ7_init_2_13 : decode cJ7_init_2 13 = .ok (.putfield 9, 3) := dk_181 0 9 (dk_at dksJ7_init_2_0 13 rfl rfl)
theorem dJ7_init_2_16 : decode cJ7_init_2 16 = .ok (.goto 44, 3) := dk_167 0 44 (dk_at dksJ7_init_2_0 16 rfl rfl)
theorem dJ7_init_2_19 : decode cJ7_init_2 19 = .ok (.iload_n 1, 1) := dk_27 (dk_at dksJ7_init_2_0 19 rfl rfl)
theorem dJ7_init_2_20 : decode cJ7_init_2 20 = .ok (.ifCond .ne 13, 3) := dk_154 0 13 (dk_at dksJ7_init_2_0 20 rfl rfl)
theorem dJ7_init_2_23 : decode cJ7_init_2 23 = .ok (.aload_n 0, 1) := dk_42 (dk_at dksJ7_init_2_0 23 rfl rfl)
theorem dJ7_init_2_24 : decode cJ7_init_2 24 = .ok (.getstatic 15, 3) := dk_178 0 15 (dk_at dksJ7_init_2_1 0 rfl rfl)
theorem dJ7_init_2_27 : decode cJ7_init_2 27 = .ok (.putfield 9, 3) := dk_181 0 9 (dk_at dksJ7_init_2_1 3 rfl rfl)
theorem dJ7_init_2_30 : decode cJ7_init_2 30 = .ok (.goto 30, 3) := dk_167 0 30 (dk_at dksJ7_init_2_1 6 rfl rfl)
theorem dJ7_init_2_33 : decode cJ7_init_2 33 = .ok (.new 18, 3) := dk_187 0 18 (dk_at dksJ7_init_2_1 9 rfl rfl)
theorem dJ7_init_2_36 : decode cJ7_init_2 36 = .ok (.dup, 1) := dk_89 (dk_at dksJ7_init_2_1 12 rfl rfl)
theorem dJ7_init_2_37 : decode cJ7_init_2 37 = .ok (.new 20, 3) := dk_187 0 20 (dk_at dksJ7_init_2_1 13 rfl rfl)
theorem dJ7_init_2_40 : decode cJ7_init_2 40 = .ok (.dup, 1) := dk_89 (dk_at dksJ7_init_2_1 16 rfl rfl)
theorem dJ7_init_2_41 : decode cJ7_init_2 41 = .ok (.invokespecial 22, 3) := dk_183 0 22 (dk_at dksJ7_init_2_1 17 rfl rfl)
theorem dJ7_init_2_44 : decode cJ7_init_2 44 = .ok (.ldc 23, 2) := dk_18 23 (dk_at dksJ7_init_2_1 20 rfl rfl)
theorem dJ7_init_2_46 : decode cJ7_init_2 46 = .ok (.invokevirtual 25, 3) := dk_182 0 25 (dk_at dksJ7_init_2_2 0 rfl rfl)
theorem dJ7_init_2_49 : decode cJ7_init_2 49 = .ok (.iload_n 1, 1) := dk_27 (dk_at dksJ7_init_2_2 3 rfl rfl)
theorem dJ7_init_2_50 : decode cJ7_init_2 50 = .ok (.invokevirtual 29, 3) := dk_182 0 29 (dk_at dksJ7_init_2_2 4 rfl rfl)
theorem dJ7_init_2_53 : decode cJ7_init_2 53 = .ok (.invokevirtual 32, 3) := dk_182 0 32 (dk_at dksJ7_init_2_2 7 rfl rfl)
theorem dJ7_init_2_56 : decode cJ7_init_2 56 = .ok (.invokespecial 36, 3) := dk_183 0 36 (dk_at dksJ7_init_2_2 10 rfl rfl)
theorem dJ7_init_2_59 : decode cJ7_init_2 59 = .ok (.athrow, 1) := dk_191 (dk_at dksJ7_init_2_2 13 rfl rfl)
theorem dJ7_init_2_60 : decode cJ7_init_2 60 = .ok (.return_, 1) := dk_177 (dk_at dksJ7_init_2_2 14 rfl rfl)
abbrev cJ7_isEmpty : ByteArray := prog_50_method_9_code
def yJ7_isEmpty : MethodName := ⟨RJ7, "isEmpty", "()Z"⟩
def dkwJ7_isEmpty_0 : List UInt8 := [42, 180, 0, 48, 154, 0, 7, 4, 167, 0, 4, 3, 172]
abbrev dktJ7_isEmpty_0 : List UInt8 := dkwJ7_isEmpty_0 ++ []
theorem dksJ7_isEmpty_0 : cJ7_isEmpty.data.toList.drop 0 = dktJ7_isEmpty_0 := by decide +kernel
theorem dJ7_isEmpty_0 : decode cJ7_isEmpty 0 = .ok (.aload_n 0, 1) := dk_42 (dk_at dksJ7_isEmpty_0 0 rfl rfl)
theorem dJ7_isEmpty_1 : decode cJ7_isEmpty 1 = .ok (.getfield 48, 3) := dk_180 0 48 (dk_at dksJ7_isEmpty_0 1 rfl rfl)
theorem dJ7_isEmpty_4 : decode cJ7_isEmpty 4 = .ok (.ifCond .ne 7, 3) := dk_154 0 7 (dk_at dksJ7_isEmpty_0 4 rfl rfl)
theorem dJ7_isEmpty_7 : decode cJ7_isEmpty 7 = .ok (.iconst 1, 1) := dk_4 (dk_at dksJ7_isEmpty_0 7 rfl rfl)
theorem dJ7_isEmpty_8 : decode cJ7_isEmpty 8 = .ok (.goto 4, 3) := dk_167 0 4 (dk_at dksJ7_isEmpty_0 8 rfl rfl)
theorem dJ7_isEmpty_11 : decode cJ7_isEmpty 11 = .ok (.iconst 0, 1) := dk_3 (dk_at dksJ7_isEmpty_0 11 rfl rfl)
theorem dJ7_isEmpty_12 : decode cJ7_isEmpty 12 = .ok (.ireturn, 1) := dk_172 (dk_at dksJ7_isEmpty_0 12 rfl rfl)
abbrev cJ7_remove : ByteArray := prog_50_method_29_code
def yJ7_remove : MethodName := ⟨RJ7, "remove", "(I)Ljava/lang/Object;"⟩
def dkwJ7_remove_1 : List UInt8 := [45, 176]
abbrev dktJ7_remove_1 : List UInt8 := dkwJ7_remove_1 ++ []
def dkwJ7_remove_0 : List UInt8 := [27, 42, 180, 0, 48, 184, 0, 118, 87, 42, 180, 0, 9, 77, 44, 27, 50, 78, 42, 44, 27, 182, 0, 144]
abbrev dktJ7_remove_0 : List UInt8 := dkwJ7_remove_0 ++ dktJ7_remove_1
theorem dksJ7_remove_0 : cJ7_remove.data.toList.drop 0 = dktJ7_remove_0 := by decide +kernel
theorem dksJ7_remove_1 : cJ7_remove.data.toList.drop 24 = dktJ7_remove_1 := dk_seg dksJ7_remove_0 24 rfl rfl
theorem dJ7_remove_0 : decode cJ7_remove 0 = .ok (.iload_n 1, 1) := dk_27 (dk_at dksJ7_remove_0 0 rfl rfl)
theorem dJ7_remove_1 : decode cJ7_remove 1 = .ok (.aload_n 0, 1) := dk_42 (dk_at dksJ7_remove_0 1 rfl rfl)
theorem dJ7_remove_2 : decode cJ7_remove 2 = .ok (.getfield 48, 3) := dk_180 0 48 (dk_at dksJ7_remove_0 2 rfl rfl)
theorem dJ7_remove_5 : decode cJ7_remove 5 = .ok (.invokestatic 118, 3) := dk_184 0 118 (dk_at dksJ7_remove_0 5 rfl rfl)
theorem dJ7_remove_8 : decode cJ7_remove 8 = .ok (.pop, 1) := dk_87 (dk_at dksJ7_remove_0 8 rfl rfl)
theorem dJ7_remove_9 : decode cJ7_remove 9 = .ok (.aload_n 0, 1) := dk_42 (dk_at dksJ7_remove_0 9 rfl rfl)
theorem dJ7_remove_10 : decode cJ7_remove 10 = .ok (.getfield 9, 3) := dk_180 0 9 (dk_at dksJ7_remove_0 10 rfl rfl)
theorem dJ7_remove_13 : decode cJ7_remove 13 = .ok (.astore_n 2, 1) := dk_77 (dk_at dksJ7_remove_0 13 rfl rfl)
theorem dJ7_remove_14 : decode cJ7_remove 14 = .ok (.aload_n 2, 1) := dk_44 (dk_at dksJ7_remove_0 14 rfl rfl)
theorem dJ7_remove_15 : decode cJ7_remove 15 = .ok (.iload_n 1, 1) := dk_27 (dk_at dksJ7_remove_0 15 rfl rfl)
theorem dJ7_remove_16 : decode cJ7_remove 16 = .ok (.aaload, 1) := dk_50 (dk_at dksJ7_remove_0 16 rfl rfl)
theorem dJ7_remove_17 : decode cJ7_remove 17 = .ok (.astore_n 3, 1) := dk_78 (dk_at dksJ7_remove_0 17 rfl rfl)
theorem dJ7_remove_18 : decode cJ7_remove 18 = .ok (.aload_n 0, 1) := dk_42 (dk_at dksJ7_remove_0 18 rfl rfl)
theorem dJ7_remove_19 : decode cJ7_remove 19 = .ok (.aload_n 2, 1) := dk_44 (dk_at dksJ7_remove_0 19 rfl rfl)
theorem dJ7_remove_20 : decode cJ7_remove 20 = .ok (.iload_n 1, 1) := dk_27 (dk_at dksJ7_remove_0 20 rfl rfl)
theorem dJ7_remove_21 : decode cJ7_remove 21 = .ok (.invokevirtual 144, 3) := dk_182 0 144 (dk_at dksJ7_remove_0 21 rfl rfl)
theorem dJ7_remove_24 : decode cJ7_remove 24 = .ok (.aload_n 3, 1) := dk_45 (dk_at dksJ7_remove_1 0 rfl rfl)
theorem dJ7_remove_25 : decode cJ7_remove 25 = .ok (.areturn, 1) := dk_176 (dk_at dksJ7_remove_1 1 rfl rfl)
abbrev cJ7_fastRemove : ByteArray := prog_50_method_39_code
def yJ7_fastRemove : MethodName := ⟨RJ7, "fastRemove", "([Ljava/lang/Object;I)V"⟩
def dkwJ7_fastRemove_1 : List UInt8 := [4, 96, 43, 28, 29, 28, 100, 184, 0, 112, 43, 42, 29, 90, 181, 0, 48, 1, 83, 177]
abbrev dktJ7_fastRemove_1 : List UInt8 := dkwJ7_fastRemove_1 ++ []
def dkwJ7_fastRemove_0 : List UInt8 := [42, 89, 180, 0, 63, 4, 96, 181, 0, 63, 42, 180, 0, 48, 4, 100, 89, 62, 28, 164, 0, 15, 43, 28]
abbrev dktJ7_fastRemove_0 : List UInt8 := dkwJ7_fastRemove_0 ++ dktJ7_fastRemove_1
theorem dksJ7_fastRemove_0 : cJ7_fastRemove.data.toList.drop 0 = dktJ7_fastRemove_0 := by decide +kernel
theorem dksJ7_fastRemove_1 : cJ7_fastRemove.data.toList.drop 24 = dktJ7_fastRemove_1 := dk_seg dksJ7_fastRemove_0 24 rfl rfl
theorem dJ7_fastRemove_0 : decode cJ7_fastRemove 0 = .ok (.aload_n 0, 1) := dk_42 (dk_at dksJ7_fastRemove_0 0 rfl rfl)
theorem dJ7_fastRemove_1 : decode cJ7_fastRemove 1 = .ok (.dup, 1) := dk_89 (dk_at dksJ7_fastRemove_0 1 rfl rfl)
theorem dJ7_fastRemove_2 : decode cJ7_fastRemove 2 = .ok (.getfield 63, 3) := dk_180 0 63 (dk_at dksJ7_fastRemove_0 2 rfl rfl)
theorem dJ7_fastRemove_5 : decode cJ7_fastRemove 5 = .ok (.iconst 1, 1) := dk_4 (dk_at dksJ7_fastRemove_0 5 rfl rfl)
theorem dJ7_fastRemove_6 : decode cJ7_fastRemove 6 = .ok (.iadd, 1) := dk_96 (dk_at dksJ7_fastRemove_0 6 rfl rfl)
theorem dJ7_fastRemove_7 : decode cJ7_fastRemove 7 = .ok (.putfield 63, 3) := dk_181 0 63 (dk_at dksJ7_fastRemove_0 7 rfl rfl)
theorem dJ7_fastRemove_10 : decode cJ7_fastRemove 10 = .ok (.aload_n 0, 1) := dk_42 (dk_at dksJ7_fastRemove_0 10 rfl rfl)
theorem dJ7_fastRemove_11 : decode cJ7_fastRemove 11 = .ok (.getfield 48, 3) := dk_180 0 48 (dk_at dksJ7_fastRemove_0 11 rfl rfl)
theorem dJ7_fastRemove_14 : decode cJ7_fastRemove 14 = .ok (.iconst 1, 1) := dk_4 (dk_at dksJ7_fastRemove_0 14 rfl rfl)
theorem dJ7_fastRemove_15 : decode cJ7_fastRemove 15 = .ok (.isub, 1) := dk_100 (dk_at dksJ7_fastRemove_0 15 rfl rfl)
theorem dJ7_fastRemove_16 : decode cJ7_fastRemove 16 = .ok (.dup, 1) := dk_89 (dk_at dksJ7_fastRemove_0 16 rfl rfl)
theorem dJ7_fastRemove_17 : decode cJ7_fastRemove 17 = .ok (.istore_n 3, 1) := dk_62 (dk_at dksJ7_fastRemove_0 17 rfl rfl)
theorem dJ7_fastRemove_18 : decode cJ7_fastRemove 18 = .ok (.iload_n 2, 1) := dk_28 (dk_at dksJ7_fastRemove_0 18 rfl rfl)
theorem dJ7_fastRemove_19 : decode cJ7_fastRemove 19 = .ok (.if_icmp .le 15, 3) := dk_164 0 15 (dk_at dksJ7_fastRemove_0 19 rfl rfl)
theorem dJ7_fastRemove_22 : decode cJ7_fastRemove 22 = .ok (.aload_n 1, 1) := dk_43 (dk_at dksJ7_fastRemove_0 22 rfl rfl)
theorem dJ7_fastRemove_23 : decode cJ7_fastRemove 23 = .ok (.iload_n 2, 1) := dk_28 (dk_at dksJ7_fastRemove_0 23 rfl rfl)
theorem dJ7_fastRemove_24 : decode cJ7_fastRemove 24 = .ok (.iconst 1, 1) := dk_4 (dk_at dksJ7_fastRemove_1 0 rfl rfl)
theorem dJ7_fastRemove_25 : decode cJ7_fastRemove 25 = .ok (.iadd, 1) := dk_96 (dk_at dksJ7_fastRemove_1 1 rfl rfl)
theorem dJ7_fastRemove_26 : decode cJ7_fastRemove 26 = .ok (.aload_n 1, 1) := dk_43 (dk_at dksJ7_fastRemove_1 2 rfl rfl)
theorem dJ7_fastRemove_27 : decode cJ7_fastRemove 27 = .ok (.iload_n 2, 1) := dk_28 (dk_at dksJ7_fastRemove_1 3 rfl rfl)
theorem dJ7_fastRemove_28 : decode cJ7_fastRemove 28 = .ok (.iload_n 3, 1) := dk_29 (dk_at dksJ7_fastRemove_1 4 rfl rfl)
theorem dJ7_fastRemove_29 : decode cJ7_fastRemove 29 = .ok (.iload_n 2, 1) := dk_28 (dk_at dksJ7_fastRemove_1 5 rfl rfl)
theorem dJ7_fastRemove_30 : decode cJ7_fastRemove 30 = .ok (.isub, 1) := dk_100 (dk_at dksJ7_fastRemove_1 6 rfl rfl)
theorem dJ7_fastRemove_31 : decode cJ7_fastRemove 31 = .ok (.invokestatic 112, 3) := dk_184 0 112 (dk_at dksJ7_fastRemove_1 7 rfl rfl)
theorem dJ7_fastRemove_34 : decode cJ7_fastRemove 34 = .ok (.aload_n 1, 1) := dk_43 (dk_at dksJ7_fastRemove_1 10 rfl rfl)
theorem dJ7_fastRemove_35 : decode cJ7_fastRemove 35 = .ok (.aload_n 0, 1) := dk_42 (dk_at dksJ7_fastRemove_1 11 rfl rfl)
theorem dJ7_fastRemove_36 : decode cJ7_fastRemove 36 = .ok (.iload_n 3, 1) := dk_29 (dk_at dksJ7_fastRemove_1 12 rfl rfl)
theorem dJ7_fastRemove_37 : decode cJ7_fastRemove 37 = .ok (.dup_x1, 1) := dk_90 (dk_at dksJ7_fastRemove_1 13 rfl rfl)
theorem dJ7_fastRemove_38 : decode cJ7_fastRemove 38 = .ok (.putfield 48, 3) := dk_181 0 48 (dk_at dksJ7_fastRemove_1 14 rfl rfl)
theorem dJ7_fastRemove_41 : decode cJ7_fastRemove 41 = .ok (.aconst_null, 1) := dk_1 (dk_at dksJ7_fastRemove_1 17 rfl rfl)
theorem dJ7_fastRemove_42 : decode cJ7_fastRemove 42 = .ok (.aastore, 1) := dk_83 (dk_at dksJ7_fastRemove_1 18 rfl rfl)
theorem dJ7_fastRemove_43 : decode cJ7_fastRemove 43 = .ok (.return_, 1) := dk_177 (dk_at dksJ7_fastRemove_1 19 rfl rfl)
theorem q161 : (Jvm.Cond.initialized "java/util/ArrayList") ∈ lw_all := lw_g (lw_at lw_m1 10 rfl) rfl
theorem q301 : (Jvm.Cond.instantiable "java/util/ArrayList" (3 : Nat)) ∈ lw_all := lw_g (lw_at lw_m1 150 rfl) rfl
theorem q303 : (Jvm.Cond.instanceMethod ({ cls := "java/util/ArrayList", name := "<init>", desc := "()V" } : Jvm.MethodName)) ∈ lw_all := lw_g (lw_at lw_m1 152 rfl) rfl
theorem q304 : (Jvm.Cond.code ({ cls := "java/util/ArrayList", name := "<init>", desc := "()V" } : Jvm.MethodName) prog_50_method_2_code (1 : Nat) (Option.none : Option Jvm.ClassFile.FieldType)) ∈ lw_all := lw_g (lw_at lw_m1 153 rfl) rfl
theorem q305 : (Jvm.Cond.methodLink "java/util/ArrayList" (1 : Nat) ({ cls := "java/util/AbstractList", name := "<init>", desc := "()V" } : Jvm.MethodName)) ∈ lw_all := lw_g (lw_at lw_m1 154 rfl) rfl
theorem q309 : (Jvm.Cond.fieldLink "java/util/ArrayList" (39 : Nat) "java/util/ArrayList" "DEFAULTCAPACITY_EMPTY_ELEMENTDATA" "[Ljava/lang/Object;") ∈ lw_all := lw_g (lw_at lw_m1 158 rfl) rfl
theorem q310 : (Jvm.Cond.laysStatic "java/util/ArrayList" "DEFAULTCAPACITY_EMPTY_ELEMENTDATA" "[Ljava/lang/Object;") ∈ lw_tbl := lw_at lw_m1 159 rfl
theorem q311 : (Jvm.Cond.fieldLink "java/util/ArrayList" (9 : Nat) "java/util/ArrayList" "elementData" "[Ljava/lang/Object;") ∈ lw_all := lw_g (lw_at lw_m1 160 rfl) rfl
theorem q312 : (Jvm.Cond.fieldLink "java/util/ArrayList" (48 : Nat) "java/util/ArrayList" "size" "I") ∈ lw_all := lw_g (lw_at lw_m1 161 rfl) rfl
theorem q314 : (Jvm.Cond.fieldLink "java/util/ArrayList" (63 : Nat) "java/util/ArrayList" "modCount" "I") ∈ lw_all := lw_g (lw_at lw_m1 163 rfl) rfl
theorem q315 : (Jvm.Cond.sameField "java/util/ArrayList" "java/util/AbstractList" "modCount" "I") ∈ lw_all := lw_g (lw_at lw_m1 164 rfl) rfl
theorem q316 : (Jvm.Cond.lays "java/util/ArrayList" "java/util/ArrayList" "elementData" "[Ljava/lang/Object;") ∈ lw_all := lw_g (lw_at lw_m1 165 rfl) rfl
theorem q317 : (Jvm.Cond.soleField "java/util/ArrayList" "elementData") ∈ lw_all := lw_g (lw_at lw_m1 166 rfl) rfl
theorem q318 : (Jvm.Cond.lays "java/util/ArrayList" "java/util/ArrayList" "size" "I") ∈ lw_all := lw_g (lw_at lw_m1 167 rfl) rfl
theorem q319 : (Jvm.Cond.soleField "java/util/ArrayList" "size") ∈ lw_all := lw_g (lw_at lw_m1 168 rfl) rfl
theorem q320 : (Jvm.Cond.lays "java/util/ArrayList" "java/util/AbstractList" "modCount" "I") ∈ lw_all := lw_g (lw_at lw_m1 169 rfl) rfl
theorem q322 : (Jvm.Cond.superclass "java/util/ArrayList" "java/util/AbstractList") ∈ lw_all := lw_g (lw_at lw_m1 171 rfl) rfl
theorem q457 : (Jvm.Cond.castable "java/util/ArrayList" "java/util/List") ∈ lw_tbl := lw_at lw_m2 66 rfl
theorem q458 : (Jvm.Cond.selects "java/util/ArrayList" ({ cls := "java/util/List", name := "add", desc := "(Ljava/lang/Object;)Z" } : Jvm.MethodName) ({ cls := "java/util/ArrayList", name := "add", desc := "(Ljava/lang/Object;)Z" } : Jvm.MethodName)) ∈ lw_all := lw_g (lw_at lw_m2 67 rfl) rfl
theorem q459 : (Jvm.Cond.unhidden "java/util/ArrayList" "add" "(Ljava/lang/Object;)Z") ∈ lw_tbl := lw_at lw_m2 68 rfl
theorem q460 : (Jvm.Cond.instanceMethod ({ cls := "java/util/ArrayList", name := "add", desc := "(Ljava/lang/Object;)Z" } : Jvm.MethodName)) ∈ lw_all := lw_g (lw_at lw_m2 69 rfl) rfl
theorem q461 : (Jvm.Cond.publicMethod ({ cls := "java/util/ArrayList", name := "add", desc := "(Ljava/lang/Object;)Z" } : Jvm.MethodName)) ∈ lw_tbl := lw_at lw_m2 70 rfl
theorem q462 : (Jvm.Cond.code ({ cls := "java/util/ArrayList", name := "add", desc := "(Ljava/lang/Object;)Z" } : Jvm.MethodName) prog_50_method_25_code (2 : Nat) (Option.some Jvm.ClassFile.FieldType.boolean)) ∈ lw_all := lw_g (lw_at lw_m2 71 rfl) rfl
theorem q463 : (Jvm.Cond.methodLink "java/util/ArrayList" (131 : Nat) ({ cls := "java/util/ArrayList", name := "add", desc := "(Ljava/lang/Object;[Ljava/lang/Object;I)V" } : Jvm.MethodName)) ∈ lw_all := lw_g (lw_at lw_m2 72 rfl) rfl
theorem q464 : (Jvm.Cond.privateMethod ({ cls := "java/util/ArrayList", name := "add", desc := "(Ljava/lang/Object;[Ljava/lang/Object;I)V" } : Jvm.MethodName)) ∈ lw_tbl := lw_at lw_m2 73 rfl
theorem q465 : (Jvm.Cond.instanceMethod ({ cls := "java/util/ArrayList", name := "add", desc := "(Ljava/lang/Object;[Ljava/lang/Object;I)V" } : Jvm.MethodName)) ∈ lw_all := lw_g (lw_at lw_m2 74 rfl) rfl
theorem q466 : (Jvm.Cond.code ({ cls := "java/util/ArrayList", name := "add", desc := "(Ljava/lang/Object;[Ljava/lang/Object;I)V" } : Jvm.MethodName) prog_50_method_24_code (4 : Nat) (Option.none : Option Jvm.ClassFile.FieldType)) ∈ lw_all := lw_g (lw_at lw_m2 75 rfl) rfl
theorem q467 : (Jvm.Cond.methodLink "java/util/ArrayList" (129 : Nat) ({ cls := "java/util/ArrayList", name := "grow", desc := "()[Ljava/lang/Object;" } : Jvm.MethodName)) ∈ lw_all := lw_g (lw_at lw_m2 76 rfl) rfl
theorem q468 : (Jvm.Cond.privateMethod ({ cls := "java/util/ArrayList", name := "grow", desc := "()[Ljava/lang/Object;" } : Jvm.MethodName)) ∈ lw_tbl := lw_at lw_m2 77 rfl
theorem q469 : (Jvm.Cond.instanceMethod ({ cls := "java/util/ArrayList", name := "grow", desc := "()[Ljava/lang/Object;" } : Jvm.MethodName)) ∈ lw_all := lw_g (lw_at lw_m2 78 rfl) rfl
theorem q470 : (Jvm.Cond.code ({ cls := "java/util/ArrayList", name := "grow", desc := "()[Ljava/lang/Object;" } : Jvm.MethodName) prog_50_method_7_code (1 : Nat) (Option.some (Jvm.ClassFile.FieldType.array (Jvm.ClassFile.FieldType.object "java/lang/Object")))) ∈ lw_all := lw_g (lw_at lw_m2 79 rfl) rfl
theorem q471 : (Jvm.Cond.methodLink "java/util/ArrayList" (69 : Nat) ({ cls := "java/util/ArrayList", name := "grow", desc := "(I)[Ljava/lang/Object;" } : Jvm.MethodName)) ∈ lw_all := lw_g (lw_at lw_m2 80 rfl) rfl
theorem q472 : (Jvm.Cond.privateMethod ({ cls := "java/util/ArrayList", name := "grow", desc := "(I)[Ljava/lang/Object;" } : Jvm.MethodName)) ∈ lw_tbl := lw_at lw_m2 81 rfl
theorem q473 : (Jvm.Cond.instanceMethod ({ cls := "java/util/ArrayList", name := "grow", desc := "(I)[Ljava/lang/Object;" } : Jvm.MethodName)) ∈ lw_all := lw_g (lw_at lw_m2 82 rfl) rfl
theorem q474 : (Jvm.Cond.code ({ cls := "java/util/ArrayList", name := "grow", desc := "(I)[Ljava/lang/Object;" } : Jvm.MethodName) prog_50_method_6_code (4 : Nat) (Option.some (Jvm.ClassFile.FieldType.array (Jvm.ClassFile.FieldType.object "java/lang/Object")))) ∈ lw_all := lw_g (lw_at lw_m2 83 rfl) rfl
theorem q475 : (Jvm.Cond.methodLink "java/util/ArrayList" (73 : Nat) ({ cls := "jdk/internal/util/ArraysSupport", name := "newLength", desc := "(III)I" } : Jvm.MethodName)) ∈ lw_all := lw_g (lw_at lw_m2 84 rfl) rfl
theorem q485 : (Jvm.Cond.methodLink "java/util/ArrayList" (66 : Nat) ({ cls := "java/util/Arrays", name := "copyOf", desc := "([Ljava/lang/Object;I)[Ljava/lang/Object;" } : Jvm.MethodName)) ∈ lw_all := lw_g (lw_at lw_m2 94 rfl) rfl
theorem q515 : (Jvm.Cond.selects "java/util/ArrayList" ({ cls := "java/lang/Object", name := "getClass", desc := "()Ljava/lang/Class;" } : Jvm.MethodName) ({ cls := "java/lang/Object", name := "getClass", desc := "()Ljava/lang/Class;" } : Jvm.MethodName)) ∈ lw_all := lw_g (lw_at lw_m2 124 rfl) rfl
theorem q536 : (Jvm.Cond.methodLink "java/util/ArrayList" (79 : Nat) ({ cls := "java/lang/Math", name := "max", desc := "(II)I" } : Jvm.MethodName)) ∈ lw_all := lw_g (lw_at lw_m2 145 rfl) rfl
theorem q537 : (Jvm.Cond.classLink "java/util/ArrayList" (7 : Nat) "java/lang/Object") ∈ lw_all := lw_g (lw_at lw_m2 146 rfl) rfl
theorem q546 : (Jvm.Cond.selects "java/util/ArrayList" ({ cls := "java/util/List", name := "size", desc := "()I" } : Jvm.MethodName) ({ cls := "java/util/ArrayList", name := "size", desc := "()I" } : Jvm.MethodName)) ∈ lw_all := lw_g (lw_at lw_m2 155 rfl) rfl
theorem q547 : (Jvm.Cond.unhidden "java/util/ArrayList" "size" "()I") ∈ lw_tbl := lw_at lw_m2 156 rfl
theorem q548 : (Jvm.Cond.instanceMethod ({ cls := "java/util/ArrayList", name := "size", desc := "()I" } : Jvm.MethodName)) ∈ lw_all := lw_g (lw_at lw_m2 157 rfl) rfl
theorem q549 : (Jvm.Cond.publicMethod ({ cls := "java/util/ArrayList", name := "size", desc := "()I" } : Jvm.MethodName)) ∈ lw_tbl := lw_at lw_m2 158 rfl
theorem q550 : (Jvm.Cond.code ({ cls := "java/util/ArrayList", name := "size", desc := "()I" } : Jvm.MethodName) prog_50_method_8_code (1 : Nat) (Option.some Jvm.ClassFile.FieldType.int)) ∈ lw_all := lw_g (lw_at lw_m2 159 rfl) rfl
theorem q1671 : (Jvm.Cond.selects "java/util/ArrayList" ({ cls := "java/util/List", name := "get", desc := "(I)Ljava/lang/Object;" } : Jvm.MethodName) ({ cls := "java/util/ArrayList", name := "get", desc := "(I)Ljava/lang/Object;" } : Jvm.MethodName)) ∈ lw_all := lw_g (lw_at lw_m7 80 rfl) rfl
theorem q1672 : (Jvm.Cond.unhidden "java/util/ArrayList" "get" "(I)Ljava/lang/Object;") ∈ lw_tbl := lw_at lw_m7 81 rfl
theorem q1673 : (Jvm.Cond.instanceMethod ({ cls := "java/util/ArrayList", name := "get", desc := "(I)Ljava/lang/Object;" } : Jvm.MethodName)) ∈ lw_all := lw_g (lw_at lw_m7 82 rfl) rfl
theorem q1674 : (Jvm.Cond.publicMethod ({ cls := "java/util/ArrayList", name := "get", desc := "(I)Ljava/lang/Object;" } : Jvm.MethodName)) ∈ lw_tbl := lw_at lw_m7 83 rfl
theorem q1675 : (Jvm.Cond.code ({ cls := "java/util/ArrayList", name := "get", desc := "(I)Ljava/lang/Object;" } : Jvm.MethodName) prog_50_method_20_code (2 : Nat) (Option.some (Jvm.ClassFile.FieldType.object "java/lang/Object"))) ∈ lw_all := lw_g (lw_at lw_m7 84 rfl) rfl
theorem q1676 : (Jvm.Cond.methodLink "java/util/ArrayList" (118 : Nat) ({ cls := "java/util/Objects", name := "checkIndex", desc := "(II)I" } : Jvm.MethodName)) ∈ lw_all := lw_g (lw_at lw_m7 85 rfl) rfl
theorem q1680 : (Jvm.Cond.methodLink "java/util/ArrayList" (123 : Nat) ({ cls := "java/util/ArrayList", name := "elementData", desc := "(I)Ljava/lang/Object;" } : Jvm.MethodName)) ∈ lw_all := lw_g (lw_at lw_m7 89 rfl) rfl
theorem q1681 : (Jvm.Cond.instanceMethod ({ cls := "java/util/ArrayList", name := "elementData", desc := "(I)Ljava/lang/Object;" } : Jvm.MethodName)) ∈ lw_all := lw_g (lw_at lw_m7 90 rfl) rfl
theorem q1682 : (Jvm.Cond.selects "java/util/ArrayList" ({ cls := "java/util/ArrayList", name := "elementData", desc := "(I)Ljava/lang/Object;" } : Jvm.MethodName) ({ cls := "java/util/ArrayList", name := "elementData", desc := "(I)Ljava/lang/Object;" } : Jvm.MethodName)) ∈ lw_all := lw_g (lw_at lw_m7 91 rfl) rfl
theorem q1683 : (Jvm.Cond.code ({ cls := "java/util/ArrayList", name := "elementData", desc := "(I)Ljava/lang/Object;" } : Jvm.MethodName) prog_50_method_18_code (2 : Nat) (Option.some (Jvm.ClassFile.FieldType.object "java/lang/Object"))) ∈ lw_all := lw_g (lw_at lw_m7 92 rfl) rfl
theorem q1809 : (Jvm.Cond.instanceMethod ({ cls := "java/util/ArrayList", name := "<init>", desc := "(I)V" } : Jvm.MethodName)) ∈ lw_all := lw_g (lw_at lw_m7 218 rfl) rfl
theorem q1810 : (Jvm.Cond.code ({ cls := "java/util/ArrayList", name := "<init>", desc := "(I)V" } : Jvm.MethodName) prog_50_method_1_code (2 : Nat) (Option.none : Option Jvm.ClassFile.FieldType)) ∈ lw_all := lw_g (lw_at lw_m7 219 rfl) rfl
theorem q1811 : (Jvm.Cond.fieldLink "java/util/ArrayList" (15 : Nat) "java/util/ArrayList" "EMPTY_ELEMENTDATA" "[Ljava/lang/Object;") ∈ lw_all := lw_g (lw_at lw_m7 220 rfl) rfl
theorem q1812 : (Jvm.Cond.laysStatic "java/util/ArrayList" "EMPTY_ELEMENTDATA" "[Ljava/lang/Object;") ∈ lw_tbl := lw_at lw_m7 221 rfl
theorem q1813 : (Jvm.Cond.classLink "java/util/ArrayList" (18 : Nat) "java/lang/IllegalArgumentException") ∈ lw_all := lw_g (lw_at lw_m7 222 rfl) rfl
theorem q1814 : (Jvm.Cond.classLink "java/util/ArrayList" (20 : Nat) "java/lang/StringBuilder") ∈ lw_all := lw_g (lw_at lw_m7 223 rfl) rfl
theorem q1815 : (Jvm.Cond.methodLink "java/util/ArrayList" (22 : Nat) ({ cls := "java/lang/StringBuilder", name := "<init>", desc := "()V" } : Jvm.MethodName)) ∈ lw_all := lw_g (lw_at lw_m7 224 rfl) rfl
theorem q1816 : (Jvm.Cond.stringRef "java/util/ArrayList" (23 : Nat) "Illegal Capacity: ") ∈ lw_tbl := lw_at lw_m7 225 rfl
theorem q1817 : (Jvm.Cond.methodLink "java/util/ArrayList" (25 : Nat) ({ cls := "java/lang/StringBuilder", name := "append", desc := "(Ljava/lang/String;)Ljava/lang/StringBuilder;" } : Jvm.MethodName)) ∈ lw_all := lw_g (lw_at lw_m7 226 rfl) rfl
theorem q1818 : (Jvm.Cond.methodLink "java/util/ArrayList" (29 : Nat) ({ cls := "java/lang/StringBuilder", name := "append", desc := "(I)Ljava/lang/StringBuilder;" } : Jvm.MethodName)) ∈ lw_all := lw_g (lw_at lw_m7 227 rfl) rfl
theorem q1819 : (Jvm.Cond.methodLink "java/util/ArrayList" (32 : Nat) ({ cls := "java/lang/StringBuilder", name := "toString", desc := "()Ljava/lang/String;" } : Jvm.MethodName)) ∈ lw_all := lw_g (lw_at lw_m7 228 rfl) rfl
theorem q1820 : (Jvm.Cond.methodLink "java/util/ArrayList" (36 : Nat) ({ cls := "java/lang/IllegalArgumentException", name := "<init>", desc := "(Ljava/lang/String;)V" } : Jvm.MethodName)) ∈ lw_all := lw_g (lw_at lw_m7 229 rfl) rfl
theorem q1925 : (Jvm.Cond.selects "java/util/ArrayList" ({ cls := "java/util/List", name := "isEmpty", desc := "()Z" } : Jvm.MethodName) ({ cls := "java/util/ArrayList", name := "isEmpty", desc := "()Z" } : Jvm.MethodName)) ∈ lw_all := lw_g (lw_at lw_m8 94 rfl) rfl
theorem q1926 : (Jvm.Cond.unhidden "java/util/ArrayList" "isEmpty" "()Z") ∈ lw_tbl := lw_at lw_m8 95 rfl
theorem q1927 : (Jvm.Cond.instanceMethod ({ cls := "java/util/ArrayList", name := "isEmpty", desc := "()Z" } : Jvm.MethodName)) ∈ lw_all := lw_g (lw_at lw_m8 96 rfl) rfl
theorem q1928 : (Jvm.Cond.publicMethod ({ cls := "java/util/ArrayList", name := "isEmpty", desc := "()Z" } : Jvm.MethodName)) ∈ lw_tbl := lw_at lw_m8 97 rfl
theorem q1929 : (Jvm.Cond.code ({ cls := "java/util/ArrayList", name := "isEmpty", desc := "()Z" } : Jvm.MethodName) prog_50_method_9_code (1 : Nat) (Option.some Jvm.ClassFile.FieldType.boolean)) ∈ lw_all := lw_g (lw_at lw_m8 98 rfl) rfl
theorem q2038 : (Jvm.Cond.selects "java/util/ArrayList" ({ cls := "java/util/List", name := "remove", desc := "(I)Ljava/lang/Object;" } : Jvm.MethodName) ({ cls := "java/util/ArrayList", name := "remove", desc := "(I)Ljava/lang/Object;" } : Jvm.MethodName)) ∈ lw_all := lw_g (lw_at lw_m8 207 rfl) rfl
theorem q2039 : (Jvm.Cond.unhidden "java/util/ArrayList" "remove" "(I)Ljava/lang/Object;") ∈ lw_tbl := lw_at lw_m8 208 rfl
theorem q2040 : (Jvm.Cond.instanceMethod ({ cls := "java/util/ArrayList", name := "remove", desc := "(I)Ljava/lang/Object;" } : Jvm.MethodName)) ∈ lw_all := lw_g (lw_at lw_m8 209 rfl) rfl
theorem q2041 : (Jvm.Cond.publicMethod ({ cls := "java/util/ArrayList", name := "remove", desc := "(I)Ljava/lang/Object;" } : Jvm.MethodName)) ∈ lw_tbl := lw_at lw_m8 210 rfl
theorem q2042 : (Jvm.Cond.code ({ cls := "java/util/ArrayList", name := "remove", desc := "(I)Ljava/lang/Object;" } : Jvm.MethodName) prog_50_method_29_code (4 : Nat) (Option.some (Jvm.ClassFile.FieldType.object "java/lang/Object"))) ∈ lw_all := lw_g (lw_at lw_m8 211 rfl) rfl
theorem q2043 : (Jvm.Cond.methodLink "java/util/ArrayList" (144 : Nat) ({ cls := "java/util/ArrayList", name := "fastRemove", desc := "([Ljava/lang/Object;I)V" } : Jvm.MethodName)) ∈ lw_all := lw_g (lw_at lw_m8 212 rfl) rfl
theorem q2044 : (Jvm.Cond.privateMethod ({ cls := "java/util/ArrayList", name := "fastRemove", desc := "([Ljava/lang/Object;I)V" } : Jvm.MethodName)) ∈ lw_tbl := lw_at lw_m8 213 rfl
theorem q2045 : (Jvm.Cond.instanceMethod ({ cls := "java/util/ArrayList", name := "fastRemove", desc := "([Ljava/lang/Object;I)V" } : Jvm.MethodName)) ∈ lw_all := lw_g (lw_at lw_m8 214 rfl) rfl
theorem q2046 : (Jvm.Cond.code ({ cls := "java/util/ArrayList", name := "fastRemove", desc := "([Ljava/lang/Object;I)V" } : Jvm.MethodName) prog_50_method_39_code (4 : Nat) (Option.none : Option Jvm.ClassFile.FieldType)) ∈ lw_all := lw_g (lw_at lw_m8 215 rfl) rfl
theorem q2047 : (Jvm.Cond.methodLink "java/util/ArrayList" (112 : Nat) ({ cls := "java/lang/System", name := "arraycopy", desc := "(Ljava/lang/Object;ILjava/lang/Object;II)V" } : Jvm.MethodName)) ∈ lw_all := lw_g (lw_at lw_m8 216 rfl) rfl
theorem q3532 : (Jvm.Cond.castable "java/util/ArrayList" "java/lang/Object") ∈ lw_tbl := lw_at lw_m15 21 rfl
theorem in_J7 : ∀ w ∈ wsJ70, w ∈ lw_all := lw_in wsJ70 [320, 316, 318] (by decide +kernel) (by decide +kernel)
/-! java/lang/Number -/
set_option maxRecDepth 100000
def RJ8 : String := "java/lang/Number"
abbrev cJ8_init : ByteArray := prog_35_method_1_code
def yJ8_init : MethodName := ⟨RJ8, "<init>", "()V"⟩
theorem dJ8_init_0 : decode cJ8_init 0 = .ok (.aload_n 0, 1) := by decide +kernel
theorem dJ8_init_1 : decode cJ8_init 1 = .ok (.invokespecial 1, 3) := by decide +kernel
theorem dJ8_init_4 : decode cJ8_init 4 = .ok (.return_, 1) := by decide +kernel
theorem q164 : (Jvm.Cond.initialized "java/lang/Number") ∈ lw_all := lw_g (lw_at lw_m1 13 rfl) rfl
theorem q446 : (Jvm.Cond.instanceMethod ({ cls := "java/lang/Number", name := "<init>", desc := "()V" } : Jvm.MethodName)) ∈ lw_all := lw_g (lw_at lw_m2 55 rfl) rfl
theorem q447 : (Jvm.Cond.code ({ cls := "java/lang/Number", name := "<init>", desc := "()V" } : Jvm.MethodName) prog_35_method_1_code (1 : Nat) (Option.none : Option Jvm.ClassFile.FieldType)) ∈ lw_all := lw_g (lw_at lw_m2 56 rfl) rfl
theorem q448 : (Jvm.Cond.methodLink "java/lang/Number" (1 : Nat) ({ cls := "java/lang/Object", name := "<init>", desc := "()V" } : Jvm.MethodName)) ∈ lw_all := lw_g (lw_at lw_m2 57 rfl) rfl
/-! java/lang/Integer -/
set_option maxRecDepth 100000
def RJ9 : String := "java/lang/Integer"
def TJ9 : u_T := fun k => match k with
  | _ => ("java/lang/Integer", "value", "I", true)
def tyJ9 : Nat → FieldType := fun k => match k with
  | _ => .int
abbrev wsJ90 : List Cond := u_ws RJ9 TJ9 1
theorem nmJ9 : ∀ a, a < 1 → ∀ b, b < 1 → a ≠ b → (TJ9 a).2.1 ≠ (TJ9 b).2.1 := by decide +kernel
theorem tyJ9_ok : ∀ k, k < 1 → parseFieldDescriptor (TJ9 k).2.2.1 = some (tyJ9 k) := by decide +kernel
abbrev cJ9_valueOf : ByteArray := prog_28_method_22_code
def yJ9_valueOf : MethodName := ⟨RJ9, "valueOf", "(I)Ljava/lang/Integer;"⟩
def dkwJ9_valueOf_1 : List UInt8 := [187, 0, 1, 89, 26, 183, 0, 199, 176]
abbrev dktJ9_valueOf_1 : List UInt8 := dkwJ9_valueOf_1 ++ []
def dkwJ9_valueOf_0 : List UInt8 := [26, 16, 128, 161, 0, 20, 26, 178, 0, 191, 163, 0, 13, 178, 0, 195, 26, 17, 0, 128, 96, 50, 176]
abbrev dktJ9_valueOf_0 : List UInt8 := dkwJ9_valueOf_0 ++ dktJ9_valueOf_1
theorem dksJ9_valueOf_0 : cJ9_valueOf.data.toList.drop 0 = dktJ9_valueOf_0 := by decide +kernel
theorem dksJ9_valueOf_1 : cJ9_valueOf.data.toList.drop 23 = dktJ9_valueOf_1 := dk_seg dksJ9_valueOf_0 23 rfl rfl
theorem dJ9_valueOf_0 : decode cJ9_valueOf 0 = .ok (.iload_n 0, 1) := dk_26 (dk_at dksJ9_valueOf_0 0 rfl rfl)
theorem dJ9_valueOf_1 : decode cJ9_valueOf 1 = .ok (.bipush (-128), 2) := dk_16 128 (dk_at dksJ9_valueOf_0 1 rfl rfl)
theorem dJ9_valueOf_3 : decode cJ9_valueOf 3 = .ok (.if_icmp .lt 20, 3) := dk_161 0 20 (dk_at dksJ9_valueOf_0 3 rfl rfl)
theorem dJ9_valueOf_6 : decode cJ9_valueOf 6 = .ok (.iload_n 0, 1) := dk_26 (dk_at dksJ9_valueOf_0 6 rfl rfl)
theorem dJ9_valueOf_7 : decode cJ9_valueOf 7 = .ok (.getstatic 191, 3) := dk_178 0 191 (dk_at dksJ9_valueOf_0 7 rfl rfl)
theorem dJ9_valueOf_10 : decode cJ9_valueOf 10 = .ok (.if_icmp .gt 13, 3) := dk_163 0 13 (dk_at dksJ9_valueOf_0 10 rfl rfl)
theorem dJ9_valueOf_13 : decode cJ9_valueOf 13 = .ok (.getstatic 195, 3) := dk_178 0 195 (dk_at dksJ9_valueOf_0 13 rfl rfl)
theorem dJ9_valueOf_16 : decode cJ9_valueOf 16 = .ok (.iload_n 0, 1) := dk_26 (dk_at dksJ9_valueOf_0 16 rfl rfl)
theorem dJ9_valueOf_17 : decode cJ9_valueOf 17 = .ok (.sipush 128, 3) := dk_17 0 128 (dk_at dksJ9_valueOf_0 17 rfl rfl)
theorem dJ9_valueOf_20 : decode cJ9_valueOf 20 = .ok (.iadd, 1) := dk_96 (dk_at dksJ9_valueOf_0 20 rfl rfl)
theorem dJ9_valueOf_21 : decode cJ9_valueOf 21 = .ok (.aaload, 1) := dk_50 (dk_at dksJ9_valueOf_0 21 rfl rfl)
theorem dJ9_valueOf_22 : decode cJ9_valueOf 22 = .ok (.areturn, 1) := dk_176 (dk_at dksJ9_valueOf_0 22 rfl rfl)
theorem dJ9_valueOf_23 : decode cJ9_valueOf 23 = .ok (.new 1, 3) := dk_187 0 1 (dk_at dksJ9_valueOf_1 0 rfl rfl)
theorem dJ9_valueOf_26 : decode cJ9_valueOf 26 = .ok (.dup, 1) := dk_89 (dk_at dksJ9_valueOf_1 3 rfl rfl)
theorem dJ9_valueOf_27 : decode cJ9_valueOf 27 = .ok (.iload_n 0, 1) := dk_26 (dk_at dksJ9_valueOf_1 4 rfl rfl)
theorem dJ9_valueOf_28 : decode cJ9_valueOf 28 = .ok (.invokespecial 199, 3) := dk_183 0 199 (dk_at dksJ9_valueOf_1 5 rfl rfl)
theorem dJ9_valueOf_31 : decode cJ9_valueOf 31 = .ok (.areturn, 1) := dk_176 (dk_at dksJ9_valueOf_1 8 rfl rfl)
abbrev cJ9_init : ByteArray := prog_28_method_23_code
def yJ9_init : MethodName := ⟨RJ9, "<init>", "(I)V"⟩
def dkwJ9_init_0 : List UInt8 := [42, 183, 0, 202, 42, 27, 181, 0, 205, 177]
abbrev dktJ9_init_0 : List UInt8 := dkwJ9_init_0 ++ []
theorem dksJ9_init_0 : cJ9_init.data.toList.drop 0 = dktJ9_init_0 := by decide +kernel
theorem dJ9_init_0 : decode cJ9_init 0 = .ok (.aload_n 0, 1) := dk_42 (dk_at dksJ9_init_0 0 rfl rfl)
theorem dJ9_init_1 : decode cJ9_init 1 = .ok (.invokespecial 202, 3) := dk_183 0 202 (dk_at dksJ9_init_0 1 rfl rfl)
theorem dJ9_init_4 : decode cJ9_init 4 = .ok (.aload_n 0, 1) := dk_42 (dk_at dksJ9_init_0 4 rfl rfl)
theorem dJ9_init_5 : decode cJ9_init 5 = .ok (.iload_n 1, 1) := dk_27 (dk_at dksJ9_init_0 5 rfl rfl)
theorem dJ9_init_6 : decode cJ9_init 6 = .ok (.putfield 205, 3) := dk_181 0 205 (dk_at dksJ9_init_0 6 rfl rfl)
theorem dJ9_init_9 : decode cJ9_init 9 = .ok (.return_, 1) := dk_177 (dk_at dksJ9_init_0 9 rfl rfl)
abbrev cJ9_hashCode : ByteArray := prog_28_method_32_code
def yJ9_hashCode : MethodName := ⟨RJ9, "hashCode", "()I"⟩
def dkwJ9_hashCode_0 : List UInt8 := [42, 180, 0, 205, 184, 0, 208, 172]
abbrev dktJ9_hashCode_0 : List UInt8 := dkwJ9_hashCode_0 ++ []
theorem dksJ9_hashCode_0 : cJ9_hashCode.data.toList.drop 0 = dktJ9_hashCode_0 := by decide +kernel
theorem dJ9_hashCode_0 : decode cJ9_hashCode 0 = .ok (.aload_n 0, 1) := dk_42 (dk_at dksJ9_hashCode_0 0 rfl rfl)
theorem dJ9_hashCode_1 : decode cJ9_hashCode 1 = .ok (.getfield 205, 3) := dk_180 0 205 (dk_at dksJ9_hashCode_0 1 rfl rfl)
theorem dJ9_hashCode_4 : decode cJ9_hashCode 4 = .ok (.invokestatic 208, 3) := dk_184 0 208 (dk_at dksJ9_hashCode_0 4 rfl rfl)
theorem dJ9_hashCode_7 : decode cJ9_hashCode 7 = .ok (.ireturn, 1) := dk_172 (dk_at dksJ9_hashCode_0 7 rfl rfl)
abbrev cJ9_hashCode_2 : ByteArray := prog_28_method_33_code
def yJ9_hashCode_2 : MethodName := ⟨RJ9, "hashCode", "(I)I"⟩
theorem dJ9_hashCode_2_0 : decode cJ9_hashCode_2 0 = .ok (.iload_n 0, 1) := by decide +kernel
theorem dJ9_hashCode_2_1 : decode cJ9_hashCode_2 1 = .ok (.ireturn, 1) := by decide +kernel
abbrev cJ9_stringSize : ByteArray := prog_28_method_13_code
def yJ9_stringSize : MethodName := ⟨RJ9, "stringSize", "(I)I"⟩
def dkwJ9_stringSize_1 : List UInt8 := [164, 0, 7, 29, 27, 96, 172, 16, 10, 28, 104, 61, 132, 3, 1, 167, 255, 233, 16, 10, 27, 96, 172]
abbrev dktJ9_stringSize_1 : List UInt8 := dkwJ9_stringSize_1 ++ []
def dkwJ9_stringSize_0 : List UInt8 := [4, 60, 26, 155, 0, 8, 3, 60, 26, 116, 59, 16, 246, 61, 4, 62, 29, 16, 10, 162, 0, 23, 26, 28]
abbrev dktJ9_stringSize_0 : List UInt8 := dkwJ9_stringSize_0 ++ dktJ9_stringSize_1
theorem dksJ9_stringSize_0 : cJ9_stringSize.data.toList.drop 0 = dktJ9_stringSize_0 := by decide +kernel
theorem dksJ9_stringSize_1 : cJ9_stringSize.data.toList.drop 24 = dktJ9_stringSize_1 := dk_seg dksJ9_stringSize_0 24 rfl rfl
theorem dJ9_stringSize_0 : decode cJ9_stringSize 0 = .ok (.iconst 1, 1) := dk_4 (dk_at dksJ9_stringSize_0 0 rfl rfl)
theorem dJ9_stringSize_1 : decode cJ9_stringSize 1 = .ok (.istore_n 1, 1) := dk_60 (dk_at dksJ9_stringSize_0 1 rfl rfl)
theorem dJ9_stringSize_2 : decode cJ9_stringSize 2 = .ok (.iload_n 0, 1) := dk_26 (dk_at dksJ9_stringSize_0 2 rfl rfl)
theorem dJ9_stringSize_3 : decode cJ9_stringSize 3 = .ok (.ifCond .lt 8, 3) := dk_155 0 8 (dk_at dksJ9_stringSize_0 3 rfl rfl)
theorem dJ9_stringSize_6 : decode cJ9_stringSize 6 = .ok (.iconst 0, 1) := dk_3 (dk_at dksJ9_stringSize_0 6 rfl rfl)
theorem dJ9_stringSize_7 : decode cJ9_stringSize 7 = .ok (.istore_n 1, 1) := dk_60 (dk_at dksJ9_stringSize_0 7 rfl rfl)
theorem dJ9_stringSize_8 : decode cJ9_stringSize 8 = .ok (.iload_n 0, 1) := dk_26 (dk_at dksJ9_stringSize_0 8 rfl rfl)
theorem dJ9_stringSize_9 : decode cJ9_stringSize 9 = .ok (.ineg, 1) := dk_116 (dk_at dksJ9_stringSize_0 9 rfl rfl)
theorem dJ9_stringSize_10 : decode cJ9_stringSize 10 = .ok (.istore_n 0, 1) := dk_59 (dk_at dksJ9_stringSize_0 10 rfl rfl)
theorem dJ9_stringSize_11 : decode cJ9_stringSize 11 = .ok (.bipush (-10), 2) := dk_16 246 (dk_at dksJ9_stringSize_0 11 rfl rfl)
theorem dJ9_stringSize_13 : decode cJ9_stringSize 13 = .ok (.istore_n 2, 1) := dk_61 (dk_at dksJ9_stringSize_0 13 rfl rfl)
theorem dJ9_stringSize_14 : decode cJ9_stringSize 14 = .ok (.iconst 1, 1) := dk_4 (dk_at dksJ9_stringSize_0 14 rfl rfl)
theorem dJ9_stringSize_15 : decode cJ9_stringSize 15 = .ok (.istore_n 3, 1) := dk_62 (dk_at dksJ9_stringSize_0 15 rfl rfl)
theorem dJ9_stringSize_16 : decode cJ9_stringSize 16 = .ok (.iload_n 3, 1) := dk_29 (dk_at dksJ9_stringSize_0 16 rfl rfl)
theorem dJ9_stringSize_17 : decode cJ9_stringSize 17 = .ok (.bipush 10, 2) := dk_16 10 (dk_at dksJ9_stringSize_0 17 rfl rfl)
theorem dJ9_stringSize_19 : decode cJ9_stringSize 19 = .ok (.if_icmp .ge 23, 3) := dk_162 0 23 (dk_at dksJ9_stringSize_0 19 rfl rfl)
theorem dJ9_stringSize_22 : decode cJ9_stringSize 22 = .ok (.iload_n 0, 1) := dk_26 (dk_at dksJ9_stringSize_0 22 rfl rfl)
theorem dJ9_stringSize_23 : decode cJ9_stringSize 23 = .ok (.iload_n 2, 1) := dk_28 (dk_at dksJ9_stringSize_0 23 rfl rfl)
theorem dJ9_stringSize_24 : decode cJ9_stringSize 24 = .ok (.if_icmp .le 7, 3) := dk_164 0 7 (dk_at dksJ9_stringSize_1 0 rfl rfl)
theorem dJ9_stringSize_27 : decode cJ9_stringSize 27 = .ok (.iload_n 3, 1) := dk_29 (dk_at dksJ9_stringSize_1 3 rfl rfl)
theorem dJ9_stringSize_28 : decode cJ9_stringSize 28 = .ok (.iload_n 1, 1) := dk_27 (dk_at dksJ9_stringSize_1 4 rfl rfl)
theorem dJ9_stringSize_29 : decode cJ9_stringSize 29 = .ok (.iadd, 1) := dk_96 (dk_at dksJ9_stringSize_1 5 rfl rfl)
theorem dJ9_stringSize_30 : decode cJ9_stringSize 30 = .ok (.ireturn, 1) := dk_172 (dk_at dksJ9_stringSize_1 6 rfl rfl)
theorem dJ9_stringSize_31 : decode cJ9_stringSize 31 = .ok (.bipush 10, 2) := dk_16 10 (dk_at dksJ9_stringSize_1 7 rfl rfl)
theorem dJ9_stringSize_33 : decode cJ9_stringSize 33 = .ok (.iload_n 2, 1) := dk_28 (dk_at dksJ9_stringSize_1 9 rfl rfl)
theorem dJ9_stringSize_34 : decode cJ9_stringSize 34 = .ok (.imul, 1) := dk_104 (dk_at dksJ9_stringSize_1 10 rfl rfl)
theorem dJ9_stringSize_35 : decode cJ9_stringSize 35 = .ok (.istore_n 2, 1) := dk_61 (dk_at dksJ9_stringSize_1 11 rfl rfl)
theorem dJ9_stringSize_36 : decode cJ9_stringSize 36 = .ok (.iinc 3 1, 3) := dk_132 3 1 (dk_at dksJ9_stringSize_1 12 rfl rfl)
theorem dJ9_stringSize_39 : decode cJ9_stringSize 39 = .ok (.goto (-23), 3) := dk_167 255 233 (dk_at dksJ9_stringSize_1 15 rfl rfl)
theorem dJ9_stringSize_42 : decode cJ9_stringSize 42 = .ok (.bipush 10, 2) := dk_16 10 (dk_at dksJ9_stringSize_1 18 rfl rfl)
theorem dJ9_stringSize_44 : decode cJ9_stringSize 44 = .ok (.iload_n 1, 1) := dk_27 (dk_at dksJ9_stringSize_1 20 rfl rfl)
theorem dJ9_stringSize_45 : decode cJ9_stringSize 45 = .ok (.iadd, 1) := dk_96 (dk_at dksJ9_stringSize_1 21 rfl rfl)
theorem dJ9_stringSize_46 : decode cJ9_stringSize 46 = .ok (.ireturn, 1) := dk_172 (dk_at dksJ9_stringSize_1 22 rfl rfl)
abbrev cJ9_getChars : ByteArray := prog_28_method_12_code
def yJ9_getChars : MethodName := ⟨RJ9, "getChars", "(II[B)I"⟩
def dkwJ9_getChars_5 : List UInt8 := [16, 45, 84, 21, 5, 172]
abbrev dktJ9_getChars_5 : List UInt8 := dkwJ9_getChars_5 ++ []
def dkwJ9_getChars_4 : List UInt8 := [132, 5, 255, 21, 5, 178, 0, 87, 26, 116, 51, 84, 21, 6, 153, 0, 12, 44, 132, 5, 255, 21, 5]
abbrev dktJ9_getChars_4 : List UInt8 := dkwJ9_getChars_4 ++ dktJ9_getChars_5
def dkwJ9_getChars_3 : List UInt8 := [167, 255, 209, 44, 132, 5, 255, 21, 5, 178, 0, 83, 26, 116, 51, 84, 26, 16, 247, 162, 0, 16, 44]
abbrev dktJ9_getChars_3 : List UInt8 := dkwJ9_getChars_3 ++ dktJ9_getChars_4
def dkwJ9_getChars_2 : List UInt8 := [21, 5, 178, 0, 83, 21, 4, 51, 84, 44, 132, 5, 255, 21, 5, 178, 0, 87, 21, 4, 51, 84]
abbrev dktJ9_getChars_2 : List UInt8 := dkwJ9_getChars_2 ++ dktJ9_getChars_3
def dkwJ9_getChars_1 : List UInt8 := [16, 156, 163, 0, 47, 26, 16, 100, 108, 62, 29, 16, 100, 104, 26, 100, 54, 4, 29, 59, 44, 132, 5, 255]
abbrev dktJ9_getChars_1 : List UInt8 := dkwJ9_getChars_1 ++ dktJ9_getChars_2
def dkwJ9_getChars_0 : List UInt8 := [27, 54, 5, 26, 156, 0, 7, 4, 167, 0, 4, 3, 54, 6, 21, 6, 154, 0, 6, 26, 116, 59, 26]
abbrev dktJ9_getChars_0 : List UInt8 := dkwJ9_getChars_0 ++ dktJ9_getChars_1
theorem dksJ9_getChars_0 : cJ9_getChars.data.toList.drop 0 = dktJ9_getChars_0 := by decide +kernel
theorem dksJ9_getChars_1 : cJ9_getChars.data.toList.drop 23 = dktJ9_getChars_1 := dk_seg dksJ9_getChars_0 23 rfl rfl
theorem dksJ9_getChars_2 : cJ9_getChars.data.toList.drop 47 = dktJ9_getChars_2 := dk_seg dksJ9_getChars_1 24 rfl rfl
theorem dksJ9_getChars_3 : cJ9_getChars.data.toList.drop 69 = dktJ9_getChars_3 := dk_seg dksJ9_getChars_2 22 rfl rfl
theorem dksJ9_getChars_4 : cJ9_getChars.data.toList.drop 92 = dktJ9_getChars_4 := dk_seg dksJ9_getChars_3 23 rfl rfl
theorem dksJ9_getChars_5 : cJ9_getChars.data.toList.drop 115 = dktJ9_getChars_5 := dk_seg dksJ9_getChars_4 23 rfl rfl
theorem dJ9_getChars_0 : decode cJ9_getChars 0 = .ok (.iload_n 1, 1) := dk_27 (dk_at dksJ9_getChars_0 0 rfl rfl)
theorem dJ9_getChars_1 : decode cJ9_getChars 1 = .ok (.istore 5, 2) := dk_54 5 (dk_at dksJ9_getChars_0 1 rfl rfl)
theorem dJ9_getChars_3 : decode cJ9_getChars 3 = .ok (.iload_n 0, 1) := dk_26 (dk_at dksJ9_getChars_0 3 rfl rfl)
theorem dJ9_getChars_4 : decode cJ9_getChars 4 = .ok (.ifCond .ge 7, 3) := dk_156 0 7 (dk_at dksJ9_getChars_0 4 rfl rfl)
theorem dJ9_getChars_7 : decode cJ9_getChars 7 = .ok (.iconst 1, 1) := dk_4 (dk_at dksJ9_getChars_0 7 rfl rfl)
theorem dJ9_getChars_8 : decode cJ9_getChars 8 = .ok (.goto 4, 3) := dk_167 0 4 (dk_at dksJ9_getChars_0 8 rfl rfl)
theorem dJ9_getChars_11 : decode cJ9_getChars 11 = .ok (.iconst 0, 1) := dk_3 (dk_at dksJ9_getChars_0 11 rfl rfl)
theorem dJ9_getChars_12 : decode cJ9_getChars 12 = .ok (.istore 6, 2) := dk_54 6 (dk_at dksJ9_getChars_0 12 rfl rfl)
theorem dJ9_getChars_14 : decode cJ9_getChars 14 = .ok (.iload 6, 2) := dk_21 6 (dk_at dksJ9_getChars_0 14 rfl rfl)
theorem dJ9_getChars_16 : decode cJ9_getChars 16 = .ok (.ifCond .ne 6, 3) := dk_154 0 6 (dk_at dksJ9_getChars_0 16 rfl rfl)
theorem dJ9_getChars_19 : decode cJ9_getChars 19 = .ok (.iload_n 0, 1) := dk_26 (dk_at dksJ9_getChars_0 19 rfl rfl)
theorem dJ9_getChars_20 : decode cJ9_getChars 20 = .ok (.ineg, 1) := dk_116 (dk_at dksJ9_getChars_0 20 rfl rfl)
theorem dJ9_getChars_21 : decode cJ9_getChars 21 = .ok (.istore_n 0, 1) := dk_59 (dk_at dksJ9_getChars_0 21 rfl rfl)
theorem dJ9_getChars_22 : decode cJ9_getChars 22 = .ok (.iload_n 0, 1) := dk_26 (dk_at dksJ9_getChars_0 22 rfl rfl)
theorem dJ9_getChars_23 : decode cJ9_getChars 23 = .ok (.bipush (-100), 2) := dk_16 156 (dk_at dksJ9_getChars_1 0 rfl rfl)
theorem dJ9_getChars_25 : decode cJ9_getChars 25 = .ok (.if_icmp .gt 47, 3) := dk_163 0 47 (dk_at dksJ9_getChars_1 2 rfl rfl)
theorem dJ9_getChars_28 : decode cJ9_getChars 28 = .ok (.iload_n 0, 1) := dk_26 (dk_at dksJ9_getChars_1 5 rfl rfl)
theorem dJ9_getChars_29 : decode cJ9_getChars 29 = .ok (.bipush 100, 2) := dk_16 100 (dk_at dksJ9_getChars_1 6 rfl rfl)
theorem dJ9_getChars_31 : decode cJ9_getChars 31 = .ok (.idiv, 1) := dk_108 (dk_at dksJ9_getChars_1 8 rfl rfl)
theorem dJ9_getChars_32 : decode cJ9_getChars 32 = .ok (.istore_n 3, 1) := dk_62 (dk_at dksJ9_getChars_1 9 rfl rfl)
theorem dJ9_getChars_33 : decode cJ9_getChars 33 = .ok (.iload_n 3, 1) := dk_29 (dk_at dksJ9_getChars_1 10 rfl rfl)
theorem dJ9_getChars_34 : decode cJ9_getChars 34 = .ok (.bipush 100, 2) := dk_16 100 (dk_at dksJ9_getChars_1 11 rfl rfl)
theorem dJ9_getChars_36 : decode cJ9_getChars 36 = .ok (.imul, 1) := dk_104 (dk_at dksJ9_getChars_1 13 rfl rfl)
theorem dJ9_getChars_37 : decode cJ9_getChars 37 = .ok (.iload_n 0, 1) := dk_26 (dk_at dksJ9_getChars_1 14 rfl rfl)
theorem dJ9_getChars_38 : decode cJ9_getChars 38 = .ok (.isub, 1) := dk_100 (dk_at dksJ9_getChars_1 15 rfl rfl)
theorem dJ9_getChars_39 : decode cJ9_getChars 39 = .ok (.istore 4, 2) := dk_54 4 (dk_at dksJ9_getChars_1 16 rfl rfl)
theorem dJ9_getChars_41 : decode cJ9_getChars 41 = .ok (.iload_n 3, 1) := dk_29 (dk_at dksJ9_getChars_1 18 rfl rfl)
theorem dJ9_getChars_42 : decode cJ9_getChars 42 = .ok (.istore_n 0, 1) := dk_59 (dk_at dksJ9_getChars_1 19 rfl rfl)
theorem dJ9_getChars_43 : decode cJ9_getChars 43 = .ok (.aload_n 2, 1) := dk_44 (dk_at dksJ9_getChars_1 20 rfl rfl)
theorem dJ9_getChars_44 : decode cJ9_getChars 44 = .ok (.iinc 5 (-1), 3) := dk_132 5 255 (dk_at dksJ9_getChars_1 21 rfl rfl)
theorem dJ9_getChars_47 : decode cJ9_getChars 47 = .ok (.iload 5, 2) := dk_21 5 (dk_at dksJ9_getChars_2 0 rfl rfl)
theorem dJ9_getChars_49 : decode cJ9_getChars 49 = .ok (.getstatic 83, 3) := dk_178 0 83 (dk_at dksJ9_getChars_2 2 rfl rfl)
theorem dJ9_getChars_52 : decode cJ9_getChars 52 = .ok (.iload 4, 2) := dk_21 4 (dk_at dksJ9_getChars_2 5 rfl rfl)
theorem dJ9_getChars_54 : decode cJ9_getChars 54 = .ok (.baload, 1) := dk_51 (dk_at dksJ9_getChars_2 7 rfl rfl)
theorem dJ9_getChars_55 : decode cJ9_getChars 55 = .ok (.bastore, 1) := dk_84 (dk_at dksJ9_getChars_2 8 rfl rfl)
theorem dJ9_getChars_56 : decode cJ9_getChars 56 = .ok (.aload_n 2, 1) := dk_44 (dk_at dksJ9_getChars_2 9 rfl rfl)
theorem dJ9_getChars_57 : decode cJ9_getChars 57 = .ok (.iinc 5 (-1), 3) := dk_132 5 255 (dk_at dksJ9_getChars_2 10 rfl rfl)
theorem dJ9_getChars_60 : decode cJ9_getChars 60 = .ok (.iload 5, 2) := dk_21 5 (dk_at dksJ9_getChars_2 13 rfl rfl)
theorem dJ9_getChars_62 : decode cJ9_getChars 62 = .ok (.getstatic 87, 3) := dk_178 0 87 (dk_at dksJ9_getChars_2 15 rfl rfl)
theorem dJ9_getChars_65 : decode cJ9_getChars 65 = .ok (.iload 4, 2) := dk_21 4 (dk_at dksJ9_getChars_2 18 rfl rfl)
theorem dJ9_getChars_67 : decode cJ9_getChars 67 = .ok (.baload, 1) := dk_51 (dk_at dksJ9_getChars_2 20 rfl rfl)
theorem dJ9_getChars_68 : decode cJ9_getChars 68 = .ok (.bastore, 1) := dk_84 (dk_at dksJ9_getChars_2 21 rfl rfl)
theorem dJ9_getChars_69 : decode cJ9_getChars 69 = .ok (.goto (-47), 3) := dk_167 255 209 (dk_at dksJ9_getChars_3 0 rfl rfl)
theorem dJ9_getChars_72 : decode cJ9_getChars 72 = .ok (.aload_n 2, 1) := dk_44 (dk_at dksJ9_getChars_3 3 rfl rfl)
theorem dJ9_getChars_73 : decode cJ9_getChars 73 = .ok (.iinc 5 (-1), 3) := dk_132 5 255 (dk_at dksJ9_getChars_3 4 rfl rfl)
theorem dJ9_getChars_76 : decode cJ9_getChars 76 = .ok (.iload 5, 2) := dk_21 5 (dk_at dksJ9_getChars_3 7 rfl rfl)
theorem dJ9_getChars_78 : decode cJ9_getChars 78 = .ok (.getstatic 83, 3) := dk_178 0 83 (dk_at dksJ9_getChars_3 9 rfl rfl)
theorem dJ9_getChars_81 : decode cJ9_getChars 81 = .ok (.iload_n 0, 1) := dk_26 (dk_at dksJ9_getChars_3 12 rfl rfl)
theorem dJ9_getChars_82 : decode cJ9_getChars 82 = .ok (.ineg, 1) := dk_116 (dk_at dksJ9_getChars_3 13 rfl rfl)
theorem dJ9_getChars_83 : decode cJ9_getChars 83 = .ok (.baload, 1) := dk_51 (dk_at dksJ9_getChars_3 14 rfl rfl)
theorem dJ9_getChars_84 : decode cJ9_getChars 84 = .ok (.bastore, 1) := dk_84 (dk_at dksJ9_getChars_3 15 rfl rfl)
theorem dJ9_getChars_85 : decode cJ9_getChars 85 = .ok (.iload_n 0, 1) := dk_26 (dk_at dksJ9_getChars_3 16 rfl rfl)
theorem dJ9_getChars_86 : decode cJ9_getChars 86 = .ok (.bipush (-9), 2) := dk_16 247 (dk_at dksJ9_getChars_3 17 rfl rfl)
theorem dJ9_getChars_88 : decode cJ9_getChars 88 = .ok (.if_icmp .ge 16, 3) := dk_162 0 16 (dk_at dksJ9_getChars_3 19 rfl rfl)
theorem dJ9_getChars_91 : decode cJ9_getChars 91 = .ok (.aload_n 2, 1) := dk_44 (dk_at dksJ9_getChars_3 22 rfl rfl)
theorem dJ9_getChars_92 : decode cJ9_getChars 92 = .ok (.iinc 5 (-1), 3) := dk_132 5 255 (dk_at dksJ9_getChars_4 0 rfl rfl)
theorem dJ9_getChars_95 : decode cJ9_getChars 95 = .ok (.iload 5, 2) := dk_21 5 (dk_at dksJ9_getChars_4 3 rfl rfl)
theorem dJ9_getChars_97 : decode cJ9_getChars 97 = .ok (.getstatic 87, 3) := dk_178 0 87 (dk_at dksJ9_getChars_4 5 rfl rfl)
theorem dJ9_getChars_100 : decode cJ9_getChars 100 = .ok (.iload_n 0, 1) := dk_26 (dk_at dksJ9_getChars_4 8 rfl rfl)
theorem dJ9_getChars_101 : decode cJ9_getChars 101 = .ok (.ineg, 1) := dk_116 (dk_at dksJ9_getChars_4 9 rfl rfl)
theorem dJ9_getChars_102 : decode cJ9_getChars 102 = .ok (.baload, 1) := dk_51 (dk_at dksJ9_getChars_4 10 rfl rfl)
theorem dJ9_getChars_103 : decode cJ9_getChars 103 = .ok (.bastore, 1) := dk_84 (dk_at dksJ9_getChars_4 11 rfl rfl)
theorem dJ9_getChars_104 : decode cJ9_getChars 104 = .ok (.iload 6, 2) := dk_21 6 (dk_at dksJ9_getChars_4 12 rfl rfl)
theorem dJ9_getChars_106 : decode cJ9_getChars 106 = .ok (.ifCond .eq 12, 3) := dk_153 0 12 (dk_at dksJ9_getChars_4 14 rfl rfl)
theorem dJ9_getChars_109 : decode cJ9_getChars 109 = .ok (.aload_n 2, 1) := dk_44 (dk_at dksJ9_getChars_4 17 rfl rfl)
theorem dJ9_getChars_110 : decode cJ9_getChars 110 = .ok (.iinc 5 (-1), 3) := dk_132 5 255 (dk_at dksJ9_getChars_4 18 rfl rfl)
theorem dJ9_getChars_113 : decode cJ9_getChars 113 = .ok (.iload 5, 2) := dk_21 5 (dk_at dksJ9_getChars_4 21 rfl rfl)
theorem dJ9_getChars_115 : decode cJ9_getChars 115 = .ok (.bipush 45, 2) := dk_16 45 (dk_at dksJ9_getChars_5 0 rfl rfl)
theorem dJ9_getChars_117 : decode cJ9_getChars 117 = .ok (.bastore, 1) := dk_84 (dk_at dksJ9_getChars_5 2 rfl rfl)
theorem dJ9_getChars_118 : decode cJ9_getChars 118 = .ok (.iload 5, 2) := dk_21 5 (dk_at dksJ9_getChars_5 3 rfl rfl)
theorem dJ9_getChars_120 : decode cJ9_getChars 120 = .ok (.ireturn, 1) := dk_172 (dk_at dksJ9_getChars_5 5 rfl rfl)
abbrev cJ9_compareTo : ByteArray := prog_28_method_63_code
def yJ9_compareTo : MethodName := ⟨RJ9, "compareTo", "(Ljava/lang/Object;)I"⟩
def dkwJ9_compareTo_0 : List UInt8 := [42, 43, 192, 0, 1, 182, 1, 28, 172]
abbrev dktJ9_compareTo_0 : List UInt8 := dkwJ9_compareTo_0 ++ []
theorem dksJ9_compareTo_0 : cJ9_compareTo.data.toList.drop 0 = dktJ9_compareTo_0 := by decide +kernel
theorem dJ9_compareTo_0 : decode cJ9_compareTo 0 = .ok (.aload_n 0, 1) := dk_42 (dk_at dksJ9_compareTo_0 0 rfl rfl)
theorem dJ9_compareTo_1 : decode cJ9_compareTo 1 = .ok (.aload_n 1, 1) := dk_43 (dk_at dksJ9_compareTo_0 1 rfl rfl)
theorem dJ9_compareTo_2 : decode cJ9_compareTo 2 = .ok (.checkcast 1, 3) := dk_192 0 1 (dk_at dksJ9_compareTo_0 2 rfl rfl)
theorem dJ9_compareTo_5 : decode cJ9_compareTo 5 = .ok (.invokevirtual 284, 3) := dk_182 1 28 (dk_at dksJ9_compareTo_0 5 rfl rfl)
theorem dJ9_compareTo_8 : decode cJ9_compareTo 8 = .ok (.ireturn, 1) := dk_172 (dk_at dksJ9_compareTo_0 8 rfl rfl)
abbrev cJ9_compareTo_2 : ByteArray := prog_28_method_39_code
def yJ9_compareTo_2 : MethodName := ⟨RJ9, "compareTo", "(Ljava/lang/Integer;)I"⟩
def dkwJ9_compareTo_2_0 : List UInt8 := [42, 180, 0, 205, 43, 180, 0, 205, 184, 1, 3, 172]
abbrev dktJ9_compareTo_2_0 : List UInt8 := dkwJ9_compareTo_2_0 ++ []
theorem dksJ9_compareTo_2_0 : cJ9_compareTo_2.data.toList.drop 0 = dktJ9_compareTo_2_0 := by decide +kernel
theorem dJ9_compareTo_2_0 : decode cJ9_compareTo_2 0 = .ok (.aload_n 0, 1) := dk_42 (dk_at dksJ9_compareTo_2_0 0 rfl rfl)
theorem dJ9_compareTo_2_1 : decode cJ9_compareTo_2 1 = .ok (.getfield 205, 3) := dk_180 0 205 (dk_at dksJ9_compareTo_2_0 1 rfl rfl)
theorem dJ9_compareTo_2_4 : decode cJ9_compareTo_2 4 = .ok (.aload_n 1, 1) := dk_43 (dk_at dksJ9_compareTo_2_0 4 rfl rfl)
theorem dJ9_compareTo_2_5 : decode cJ9_compareTo_2 5 = .ok (.getfield 205, 3) := dk_180 0 205 (dk_at dksJ9_compareTo_2_0 5 rfl rfl)
theorem dJ9_compareTo_2_8 : decode cJ9_compareTo_2 8 = .ok (.invokestatic 259, 3) := dk_184 1 3 (dk_at dksJ9_compareTo_2_0 8 rfl rfl)
theorem dJ9_compareTo_2_11 : decode cJ9_compareTo_2 11 = .ok (.ireturn, 1) := dk_172 (dk_at dksJ9_compareTo_2_0 11 rfl rfl)
abbrev cJ9_compare : ByteArray := prog_28_method_40_code
def yJ9_compare : MethodName := ⟨RJ9, "compare", "(II)I"⟩
def dkwJ9_compare_0 : List UInt8 := [26, 27, 162, 0, 7, 2, 167, 0, 13, 26, 27, 160, 0, 7, 3, 167, 0, 4, 4, 172]
abbrev dktJ9_compare_0 : List UInt8 := dkwJ9_compare_0 ++ []
theorem dksJ9_compare_0 : cJ9_compare.data.toList.drop 0 = dktJ9_compare_0 := by decide +kernel
theorem dJ9_compare_0 : decode cJ9_compare 0 = .ok (.iload_n 0, 1) := dk_26 (dk_at dksJ9_compare_0 0 rfl rfl)
theorem dJ9_compare_1 : decode cJ9_compare 1 = .ok (.iload_n 1, 1) := dk_27 (dk_at dksJ9_compare_0 1 rfl rfl)
theorem dJ9_compare_2 : decode cJ9_compare 2 = .ok (.if_icmp .ge 7, 3) := dk_162 0 7 (dk_at dksJ9_compare_0 2 rfl rfl)
theorem dJ9_compare_5 : decode cJ9_compare 5 = .ok (.iconst (-1), 1) := dk_2 (dk_at dksJ9_compare_0 5 rfl rfl)
theorem dJ9_compare_6 : decode cJ9_compare 6 = .ok (.goto 13, 3) := dk_167 0 13 (dk_at dksJ9_compare_0 6 rfl rfl)
theorem dJ9_compare_9 : decode cJ9_compare 9 = .ok (.iload_n 0, 1) := dk_26 (dk_at dksJ9_compare_0 9 rfl rfl)
theorem dJ9_compare_10 : decode cJ9_compare 10 = .ok (.iload_n 1, 1) := dk_27 (dk_at dksJ9_compare_0 10 rfl rfl)
theorem dJ9_compare_11 : decode cJ9_compare 11 = .ok (.if_icmp .ne 7, 3) := dk_160 0 7 (dk_at dksJ9_compare_0 11 rfl rfl)
theorem dJ9_compare_14 : decode cJ9_compare 14 = .ok (.iconst 0, 1) := dk_3 (dk_at dksJ9_compare_0 14 rfl rfl)
theorem dJ9_compare_15 : decode cJ9_compare 15 = .ok (.goto 4, 3) := dk_167 0 4 (dk_at dksJ9_compare_0 15 rfl rfl)
theorem dJ9_compare_18 : decode cJ9_compare 18 = .ok (.iconst 1, 1) := dk_4 (dk_at dksJ9_compare_0 18 rfl rfl)
theorem dJ9_compare_19 : decode cJ9_compare 19 = .ok (.ireturn, 1) := dk_172 (dk_at dksJ9_compare_0 19 rfl rfl)
abbrev cJ9_numberOfLeadingZeros : ByteArray := prog_28_method_47_code
def yJ9_numberOfLeadingZeros : MethodName := ⟨RJ9, "numberOfLeadingZeros", "(I)I"⟩
def dkwJ9_numberOfLeadingZeros_3 : List UInt8 := [5, 124, 59, 27, 26, 4, 124, 100, 172]
abbrev dktJ9_numberOfLeadingZeros_3 : List UInt8 := dkwJ9_numberOfLeadingZeros_3 ++ []
def dkwJ9_numberOfLeadingZeros_2 : List UInt8 := [124, 59, 26, 16, 16, 161, 0, 10, 132, 1, 252, 26, 7, 124, 59, 26, 7, 161, 0, 10, 132, 1, 254, 26]
abbrev dktJ9_numberOfLeadingZeros_2 : List UInt8 := dkwJ9_numberOfLeadingZeros_2 ++ dktJ9_numberOfLeadingZeros_3
def dkwJ9_numberOfLeadingZeros_1 : List UInt8 := [161, 0, 11, 132, 1, 240, 26, 16, 16, 124, 59, 26, 17, 1, 0, 161, 0, 11, 132, 1, 248, 26, 16, 8]
abbrev dktJ9_numberOfLeadingZeros_1 : List UInt8 := dkwJ9_numberOfLeadingZeros_1 ++ dktJ9_numberOfLeadingZeros_2
def dkwJ9_numberOfLeadingZeros_0 : List UInt8 := [26, 157, 0, 14, 26, 154, 0, 8, 16, 32, 167, 0, 4, 3, 172, 16, 31, 60, 26, 19, 1, 8]
abbrev dktJ9_numberOfLeadingZeros_0 : List UInt8 := dkwJ9_numberOfLeadingZeros_0 ++ dktJ9_numberOfLeadingZeros_1
theorem dksJ9_numberOfLeadingZeros_0 : cJ9_numberOfLeadingZeros.data.toList.drop 0 = dktJ9_numberOfLeadingZeros_0 := by decide +kernel
theorem dksJ9_numberOfLeadingZeros_1 : cJ9_numberOfLeadingZeros.data.toList.drop 22 = dktJ9_numberOfLeadingZeros_1 := dk_seg dksJ9_numberOfLeadingZeros_0 22 rfl rfl
theorem dksJ9_numberOfLeadingZeros_2 : cJ9_numberOfLeadingZeros.data.toList.drop 46 = dktJ9_numberOfLeadingZeros_2 := dk_seg dksJ9_numberOfLeadingZeros_1 24 rfl rfl
theorem dksJ9_numberOfLeadingZeros_3 : cJ9_numberOfLeadingZeros.data.toList.drop 70 = dktJ9_numberOfLeadingZeros_3 := dk_seg dksJ9_numberOfLeadingZeros_2 24 rfl rfl
theorem dJ9_numberOfLeadingZeros_0 : decode cJ9_numberOfLeadingZeros 0 = .ok (.iload_n 0, 1) := dk_26 (dk_at dksJ9_numberOfLeadingZeros_0 0 rfl rfl)
theorem dJ9_numberOfLeadingZeros_1 : decode cJ9_numberOfLeadingZeros 1 = .ok (.ifCond .gt 14, 3) := dk_157 0 14 (dk_at dksJ9_numberOfLeadingZeros_0 1 rfl rfl)
theorem dJ9_numberOfLeadingZeros_4 : decode cJ9_numberOfLeadingZeros 4 = .ok (.iload_n 0, 1) := dk_26 (dk_at dksJ9_numberOfLeadingZeros_0 4 rfl rfl)
theorem dJ9_numberOfLeadingZeros_5 : decode cJ9_numberOfLeadingZeros 5 = .ok (.ifCond .ne 8, 3) := dk_154 0 8 (dk_at dksJ9_numberOfLeadingZeros_0 5 rfl rfl)
theorem dJ9_numberOfLeadingZeros_8 : decode cJ9_numberOfLeadingZeros 8 = .ok (.bipush 32, 2) := dk_16 32 (dk_at dksJ9_numberOfLeadingZeros_0 8 rfl rfl)
theorem dJ9_numberOfLeadingZeros_10 : decode cJ9_numberOfLeadingZeros 10 = .ok (.goto 4, 3) := dk_167 0 4 (dk_at dksJ9_numberOfLeadingZeros_0 10 rfl rfl)
theorem dJ9_numberOfLeadingZeros_13 : decode cJ9_numberOfLeadingZeros 13 = .ok (.iconst 0, 1) := dk_3 (dk_at dksJ9_numberOfLeadingZeros_0 13 rfl rfl)
theorem dJ9_numberOfLeadingZeros_14 : decode cJ9_numberOfLeadingZeros 14 = .ok (.ireturn, 1) := dk_172 (dk_at dksJ9_numberOfLeadingZeros_0 14 rfl rfl)
theorem dJ9_numberOfLeadingZeros_15 : decode cJ9_numberOfLeadingZeros 15 = .ok (.bipush 31, 2) := dk_16 31 (dk_at dksJ9_numberOfLeadingZeros_0 15 rfl rfl)
theorem dJ9_numberOfLeadingZeros_17 : decode cJ9_numberOfLeadingZeros 17 = .ok (.istore_n 1, 1) := dk_60 (dk_at dksJ9_numberOfLeadingZeros_0 17 rfl rfl)
theorem dJ9_numberOfLeadingZeros_18 : decode cJ9_numberOfLeadingZeros 18 = .ok (.iload_n 0, 1) := dk_26 (dk_at dksJ9_numberOfLeadingZeros_0 18 rfl rfl)
theorem dJ9_numberOfLeadingZeros_19 : decode cJ9_numberOfLeadingZeros 19 = .ok (.ldc_w 264, 3) := dk_19 1 8 (dk_at dksJ9_numberOfLeadingZeros_0 19 rfl rfl)
theorem dJ9_numberOfLeadingZeros_22 : decode cJ9_numberOfLeadingZeros 22 = .ok (.if_icmp .lt 11, 3) := dk_161 0 11 (dk_at dksJ9_numberOfLeadingZeros_1 0 rfl rfl)
theorem dJ9_numberOfLeadingZeros_25 : decode cJ9_numberOfLeadingZeros 25 = .ok (.iinc 1 (-16), 3) := dk_132 1 240 (dk_at dksJ9_numberOfLeadingZeros_1 3 rfl rfl)
theorem dJ9_numberOfLeadingZeros_28 : decode cJ9_numberOfLeadingZeros 28 = .ok (.iload_n 0, 1) := dk_26 (dk_at dksJ9_numberOfLeadingZeros_1 6 rfl rfl)
theorem dJ9_numberOfLeadingZeros_29 : decode cJ9_numberOfLeadingZeros 29 = .ok (.bipush 16, 2) := dk_16 16 (dk_at dksJ9_numberOfLeadingZeros_1 7 rfl rfl)
theorem dJ9_numberOfLeadingZeros_31 : decode cJ9_numberOfLeadingZeros 31 = .ok (.iushr, 1) := dk_124 (dk_at dksJ9_numberOfLeadingZeros_1 9 rfl rfl)
theorem dJ9_numberOfLeadingZeros_32 : decode cJ9_numberOfLeadingZeros 32 = .ok (.istore_n 0, 1) := dk_59 (dk_at dksJ9_numberOfLeadingZeros_1 10 rfl rfl)
theorem dJ9_numberOfLeadingZeros_33 : decode cJ9_numberOfLeadingZeros 33 = .ok (.iload_n 0, 1) := dk_26 (dk_at dksJ9_numberOfLeadingZeros_1 11 rfl rfl)
theorem dJ9_numberOfLeadingZeros_34 : decode cJ9_numberOfLeadingZeros 34 = .ok (.sipush 256, 3) := dk_17 1 0 (dk_at dksJ9_numberOfLeadingZeros_1 12 rfl rfl)
theorem dJ9_numberOfLeadingZeros_37 : decode cJ9_numberOfLeadingZeros 37 = .ok (.if_icmp .lt 11, 3) := dk_161 0 11 (dk_at dksJ9_numberOfLeadingZeros_1 15 rfl rfl)
theorem dJ9_numberOfLeadingZeros_40 : decode cJ9_numberOfLeadingZeros 40 = .ok (.iinc 1 (-8), 3) := dk_132 1 248 (dk_at dksJ9_numberOfLeadingZeros_1 18 rfl rfl)
theorem dJ9_numberOfLeadingZeros_43 : decode cJ9_numberOfLeadingZeros 43 = .ok (.iload_n 0, 1) := dk_26 (dk_at dksJ9_numberOfLeadingZeros_1 21 rfl rfl)
theorem dJ9_numberOfLeadingZeros_44 : decode cJ9_numberOfLeadingZeros 44 = .ok (.bipush 8, 2) := dk_16 8 (dk_at dksJ9_numberOfLeadingZeros_1 22 rfl rfl)
theorem dJ9_numberOfLeadingZeros_46 : decode cJ9_numberOfLeadingZeros 46 = .ok (.iushr, 1) := dk_124 (dk_at dksJ9_numberOfLeadingZeros_2 0 rfl rfl)
theorem dJ9_numberOfLeadingZeros_47 : decode cJ9_numberOfLeadingZeros 47 = .ok (.istore_n 0, 1) := dk_59 (dk_at dksJ9_numberOfLeadingZeros_2 1 rfl rfl)
theorem dJ9_numberOfLeadingZeros_48 : decode cJ9_numberOfLeadingZeros 48 = .ok (.iload_n 0, 1) := dk_26 (dk_at dksJ9_numberOfLeadingZeros_2 2 rfl rfl)
theorem dJ9_numberOfLeadingZeros_49 : decode cJ9_numberOfLeadingZeros 49 = .ok (.bipush 16, 2) := dk_16 16 (dk_at dksJ9_numberOfLeadingZeros_2 3 rfl rfl)
theorem dJ9_numberOfLeadingZeros_51 : decode cJ9_numberOfLeadingZeros 51 = .ok (.if_icmp .lt 10, 3) := dk_161 0 10 (dk_at dksJ9_numberOfLeadingZeros_2 5 rfl rfl)
theorem dJ9_numberOfLeadingZeros_54 : decode cJ9_numberOfLeadingZeros 54 = .ok (.iinc 1 (-4), 3) := dk_132 1 252 (dk_at dksJ9_numberOfLeadingZeros_2 8 rfl rfl)
theorem dJ9_numberOfLeadingZeros_57 : decode cJ9_numberOfLeadingZeros 57 = .ok (.iload_n 0, 1) := dk_26 (dk_at dksJ9_numberOfLeadingZeros_2 11 rfl rfl)
theorem dJ9_numberOfLeadingZeros_58 : decode cJ9_numberOfLeadingZeros 58 = .ok (.iconst 4, 1) := dk_7 (dk_at dksJ9_numberOfLeadingZeros_2 12 rfl rfl)
theorem dJ9_numberOfLeadingZeros_59 : decode cJ9_numberOfLeadingZeros 59 = .ok (.iushr, 1) := dk_124 (dk_at dksJ9_numberOfLeadingZeros_2 13 rfl rfl)
theorem dJ9_numberOfLeadingZeros_60 : decode cJ9_numberOfLeadingZeros 60 = .ok (.istore_n 0, 1) := dk_59 (dk_at dksJ9_numberOfLeadingZeros_2 14 rfl rfl)
theorem dJ9_numberOfLeadingZeros_61 : decode cJ9_numberOfLeadingZeros 61 = .ok (.iload_n 0, 1) := dk_26 (dk_at dksJ9_numberOfLeadingZeros_2 15 rfl rfl)
theorem dJ9_numberOfLeadingZeros_62 : decode cJ9_numberOfLeadingZeros 62 = .ok (.iconst 4, 1) := dk_7 (dk_at dksJ9_numberOfLeadingZeros_2 16 rfl rfl)
theorem dJ9_numberOfLeadingZeros_63 : decode cJ9_numberOfLeadingZeros 63 = .ok (.if_icmp .lt 10, 3) := dk_161 0 10 (dk_at dksJ9_numberOfLeadingZeros_2 17 rfl rfl)
theorem dJ9_numberOfLeadingZeros_66 : decode cJ9_numberOfLeadingZeros 66 = .ok (.iinc 1 (-2), 3) := dk_132 1 254 (dk_at dksJ9_numberOfLeadingZeros_2 20 rfl rfl)
theorem dJ9_numberOfLeadingZeros_69 : decode cJ9_numberOfLeadingZeros 69 = .ok (.iload_n 0, 1) := dk_26 (dk_at dksJ9_numberOfLeadingZeros_2 23 rfl rfl)
theorem dJ9_numberOfLeadingZeros_70 : decode cJ9_numberOfLeadingZeros 70 = .ok (.iconst 2, 1) := dk_5 (dk_at dksJ9_numberOfLeadingZeros_3 0 rfl rfl)
theorem dJ9_numberOfLeadingZeros_71 : decode cJ9_numberOfLeadingZeros 71 = .ok (.iushr, 1) := dk_124 (dk_at dksJ9_numberOfLeadingZeros_3 1 rfl rfl)
theorem dJ9_numberOfLeadingZeros_72 : decode cJ9_numberOfLeadingZeros 72 = .ok (.istore_n 0, 1) := dk_59 (dk_at dksJ9_numberOfLeadingZeros_3 2 rfl rfl)
theorem dJ9_numberOfLeadingZeros_73 : decode cJ9_numberOfLeadingZeros 73 = .ok (.iload_n 1, 1) := dk_27 (dk_at dksJ9_numberOfLeadingZeros_3 3 rfl rfl)
theorem dJ9_numberOfLeadingZeros_74 : decode cJ9_numberOfLeadingZeros 74 = .ok (.iload_n 0, 1) := dk_26 (dk_at dksJ9_numberOfLeadingZeros_3 4 rfl rfl)
theorem dJ9_numberOfLeadingZeros_75 : decode cJ9_numberOfLeadingZeros 75 = .ok (.iconst 1, 1) := dk_4 (dk_at dksJ9_numberOfLeadingZeros_3 5 rfl rfl)
theorem dJ9_numberOfLeadingZeros_76 : decode cJ9_numberOfLeadingZeros 76 = .ok (.iushr, 1) := dk_124 (dk_at dksJ9_numberOfLeadingZeros_3 6 rfl rfl)
theorem dJ9_numberOfLeadingZeros_77 : decode cJ9_numberOfLeadingZeros 77 = .ok (.isub, 1) := dk_100 (dk_at dksJ9_numberOfLeadingZeros_3 7 rfl rfl)
theorem dJ9_numberOfLeadingZeros_78 : decode cJ9_numberOfLeadingZeros 78 = .ok (.ireturn, 1) := dk_172 (dk_at dksJ9_numberOfLeadingZeros_3 8 rfl rfl)
abbrev cJ9_numberOfTrailingZeros : ByteArray := prog_28_method_48_code
def yJ9_numberOfTrailingZeros : MethodName := ⟨RJ9, "numberOfTrailingZeros", "(I)I"⟩
def dkwJ9_numberOfTrailingZeros_3 : List UInt8 := [5, 124, 59, 27, 26, 4, 124, 96, 172]
abbrev dktJ9_numberOfTrailingZeros_3 : List UInt8 := dkwJ9_numberOfTrailingZeros_3 ++ []
def dkwJ9_numberOfTrailingZeros_2 : List UInt8 := [124, 59, 26, 16, 16, 164, 0, 10, 132, 1, 4, 26, 7, 124, 59, 26, 7, 164, 0, 10, 132, 1, 2, 26]
abbrev dktJ9_numberOfTrailingZeros_2 : List UInt8 := dkwJ9_numberOfTrailingZeros_2 ++ dktJ9_numberOfTrailingZeros_3
def dkwJ9_numberOfTrailingZeros_1 : List UInt8 := [164, 0, 11, 132, 1, 16, 26, 16, 16, 124, 59, 26, 17, 1, 0, 164, 0, 11, 132, 1, 8, 26, 16, 8]
abbrev dktJ9_numberOfTrailingZeros_1 : List UInt8 := dkwJ9_numberOfTrailingZeros_1 ++ dktJ9_numberOfTrailingZeros_2
def dkwJ9_numberOfTrailingZeros_0 : List UInt8 := [26, 2, 130, 26, 4, 100, 126, 59, 26, 157, 0, 8, 26, 16, 32, 126, 172, 4, 60, 26, 19, 1, 8]
abbrev dktJ9_numberOfTrailingZeros_0 : List UInt8 := dkwJ9_numberOfTrailingZeros_0 ++ dktJ9_numberOfTrailingZeros_1
theorem dksJ9_numberOfTrailingZeros_0 : cJ9_numberOfTrailingZeros.data.toList.drop 0 = dktJ9_numberOfTrailingZeros_0 := by decide +kernel
theorem dksJ9_numberOfTrailingZeros_1 : cJ9_numberOfTrailingZeros.data.toList.drop 23 = dktJ9_numberOfTrailingZeros_1 := dk_seg dksJ9_numberOfTrailingZeros_0 23 rfl rfl
theorem dksJ9_numberOfTrailingZeros_2 : cJ9_numberOfTrailingZeros.data.toList.drop 47 = dktJ9_numberOfTrailingZeros_2 := dk_seg dksJ9_numberOfTrailingZeros_1 24 rfl rfl
theorem dksJ9_numberOfTrailingZeros_3 : cJ9_numberOfTrailingZeros.data.toList.drop 71 = dktJ9_numberOfTrailingZeros_3 := dk_seg dksJ9_numberOfTrailingZeros_2 24 rfl rfl
theorem dJ9_numberOfTrailingZeros_0 : decode cJ9_numberOfTrailingZeros 0 = .ok (.iload_n 0, 1) := dk_26 (dk_at dksJ9_numberOfTrailingZeros_0 0 rfl rfl)
theorem dJ9_numberOfTrailingZeros_1 : decode cJ9_numberOfTrailingZeros 1 = .ok (.iconst (-1), 1) := dk_2 (dk_at dksJ9_numberOfTrailingZeros_0 1 rfl rfl)
theorem dJ9_numberOfTrailingZeros_2 : decode cJ9_numberOfTrailingZeros 2 = .ok (.ixor, 1) := dk_130 (dk_at dksJ9_numberOfTrailingZeros_0 2 rfl rfl)
theorem dJ9_numberOfTrailingZeros_3 : decode cJ9_numberOfTrailingZeros 3 = .ok (.iload_n 0, 1) := dk_26 (dk_at dksJ9_numberOfTrailingZeros_0 3 rfl rfl)
theorem dJ9_numberOfTrailingZeros_4 : decode cJ9_numberOfTrailingZeros 4 = .ok (.iconst 1, 1) := dk_4 (dk_at dksJ9_numberOfTrailingZeros_0 4 rfl rfl)
theorem dJ9_numberOfTrailingZeros_5 : decode cJ9_numberOfTrailingZeros 5 = .ok (.isub, 1) := dk_100 (dk_at dksJ9_numberOfTrailingZeros_0 5 rfl rfl)
theorem dJ9_numberOfTrailingZeros_6 : decode cJ9_numberOfTrailingZeros 6 = .ok (.iand, 1) := dk_126 (dk_at dksJ9_numberOfTrailingZeros_0 6 rfl rfl)
theorem dJ9_numberOfTrailingZeros_7 : decode cJ9_numberOfTrailingZeros 7 = .ok (.istore_n 0, 1) := dk_59 (dk_at dksJ9_numberOfTrailingZeros_0 7 rfl rfl)
theorem dJ9_numberOfTrailingZeros_8 : decode cJ9_numberOfTrailingZeros 8 = .ok (.iload_n 0, 1) := dk_26 (dk_at dksJ9_numberOfTrailingZeros_0 8 rfl rfl)
theorem dJ9_numberOfTrailingZeros_9 : decode cJ9_numberOfTrailingZeros 9 = .ok (.ifCond .gt 8, 3) := dk_157 0 8 (dk_at dksJ9_numberOfTrailingZeros_0 9 rfl rfl)
theorem dJ9_numberOfTrailingZeros_12 : decode cJ9_numberOfTrailingZeros 12 = .ok (.iload_n 0, 1) := dk_26 (dk_at dksJ9_numberOfTrailingZeros_0 12 rfl rfl)
theorem dJ9_numberOfTrailingZeros_13 : decode cJ9_numberOfTrailingZeros 13 = .ok (.bipush 32, 2) := dk_16 32 (dk_at dksJ9_numberOfTrailingZeros_0 13 rfl rfl)
theorem dJ9_numberOfTrailingZeros_15 : decode cJ9_numberOfTrailingZeros 15 = .ok (.iand, 1) := dk_126 (dk_at dksJ9_numberOfTrailingZeros_0 15 rfl rfl)
theorem dJ9_numberOfTrailingZeros_16 : decode cJ9_numberOfTrailingZeros 16 = .ok (.ireturn, 1) := dk_172 (dk_at dksJ9_numberOfTrailingZeros_0 16 rfl rfl)
theorem dJ9_numberOfTrailingZeros_17 : decode cJ9_numberOfTrailingZeros 17 = .ok (.iconst 1, 1) := dk_4 (dk_at dksJ9_numberOfTrailingZeros_0 17 rfl rfl)
theorem dJ9_numberOfTrailingZeros_18 : decode cJ9_numberOfTrailingZeros 18 = .ok (.istore_n 1, 1) := dk_60 (dk_at dksJ9_numberOfTrailingZeros_0 18 rfl rfl)
theorem dJ9_numberOfTrailingZeros_19 : decode cJ9_numberOfTrailingZeros 19 = .ok (.iload_n 0, 1) := dk_26 (dk_at dksJ9_numberOfTrailingZeros_0 19 rfl rfl)
theorem dJ9_numberOfTrailingZeros_20 : decode cJ9_numberOfTrailingZeros 20 = .ok (.ldc_w 264, 3) := dk_19 1 8 (dk_at dksJ9_numberOfTrailingZeros_0 20 rfl rfl)
theorem dJ9_numberOfTrailingZeros_23 : decode cJ9_numberOfTrailingZeros 23 = .ok (.if_icmp .le 11, 3) := dk_164 0 11 (dk_at dksJ9_numberOfTrailingZeros_1 0 rfl rfl)
theorem dJ9_numberOfTrailingZeros_26 : decode cJ9_numberOfTrailingZeros 26 = .ok (.iinc 1 16, 3) := dk_132 1 16 (dk_at dksJ9_numberOfTrailingZeros_1 3 rfl rfl)
theorem dJ9_numberOfTrailingZeros_29 : decode cJ9_numberOfTrailingZeros 29 = .ok (.iload_n 0, 1) := dk_26 (dk_at dksJ9_numberOfTrailingZeros_1 6 rfl rfl)
theorem dJ9_numberOfTrailingZeros_30 : decode cJ9_numberOfTrailingZeros 30 = .ok (.bipush 16, 2) := dk_16 16 (dk_at dksJ9_numberOfTrailingZeros_1 7 rfl rfl)
theorem dJ9_numberOfTrailingZeros_32 : decode cJ9_numberOfTrailingZeros 32 = .ok (.iushr, 1) := dk_124 (dk_at dksJ9_numberOfTrailingZeros_1 9 rfl rfl)
theorem dJ9_numberOfTrailingZeros_33 : decode cJ9_numberOfTrailingZeros 33 = .ok (.istore_n 0, 1) := dk_59 (dk_at dksJ9_numberOfTrailingZeros_1 10 rfl rfl)
theorem dJ9_numberOfTrailingZeros_34 : decode cJ9_numberOfTrailingZeros 34 = .ok (.iload_n 0, 1) := dk_26 (dk_at dksJ9_numberOfTrailingZeros_1 11 rfl rfl)
theorem dJ9_numberOfTrailingZeros_35 : decode cJ9_numberOfTrailingZeros 35 = .ok (.sipush 256, 3) := dk_17 1 0 (dk_at dksJ9_numberOfTrailingZeros_1 12 rfl rfl)
theorem dJ9_numberOfTrailingZeros_38 : decode cJ9_numberOfTrailingZeros 38 = .ok (.if_icmp .le 11, 3) := dk_164 0 11 (dk_at dksJ9_numberOfTrailingZeros_1 15 rfl rfl)
theorem dJ9_numberOfTrailingZeros_41 : decode cJ9_numberOfTrailingZeros 41 = .ok (.iinc 1 8, 3) := dk_132 1 8 (dk_at dksJ9_numberOfTrailingZeros_1 18 rfl rfl)
theorem dJ9_numberOfTrailingZeros_44 : decode cJ9_numberOfTrailingZeros 44 = .ok (.iload_n 0, 1) := dk_26 (dk_at dksJ9_numberOfTrailingZeros_1 21 rfl rfl)
theorem dJ9_numberOfTrailingZeros_45 : decode cJ9_numberOfTrailingZeros 45 = .ok (.bipush 8, 2) := dk_16 8 (dk_at dksJ9_numberOfTrailingZeros_1 22 rfl rfl)
theorem dJ9_numberOfTrailingZeros_47 : decode cJ9_numberOfTrailingZeros 47 = .ok (.iushr, 1) := dk_124 (dk_at dksJ9_numberOfTrailingZeros_2 0 rfl rfl)
theorem dJ9_numberOfTrailingZeros_48 : decode cJ9_numberOfTrailingZeros 48 = .ok (.istore_n 0, 1) := dk_59 (dk_at dksJ9_numberOfTrailingZeros_2 1 rfl rfl)
theorem dJ9_numberOfTrailingZeros_49 : decode cJ9_numberOfTrailingZeros 49 = .ok (.iload_n 0, 1) := dk_26 (dk_at dksJ9_numberOfTrailingZeros_2 2 rfl rfl)
theorem dJ9_numberOfTrailingZeros_50 : decode cJ9_numberOfTrailingZeros 50 = .ok (.bipush 16, 2) := dk_16 16 (dk_at dksJ9_numberOfTrailingZeros_2 3 rfl rfl)
theorem dJ9_numberOfTrailingZeros_52 : decode cJ9_numberOfTrailingZeros 52 = .ok (.if_icmp .le 10, 3) := dk_164 0 10 (dk_at dksJ9_numberOfTrailingZeros_2 5 rfl rfl)
theorem dJ9_numberOfTrailingZeros_55 : decode cJ9_numberOfTrailingZeros 55 = .ok (.iinc 1 4, 3) := dk_132 1 4 (dk_at dksJ9_numberOfTrailingZeros_2 8 rfl rfl)
theorem dJ9_numberOfTrailingZeros_58 : decode cJ9_numberOfTrailingZeros 58 = .ok (.iload_n 0, 1) := dk_26 (dk_at dksJ9_numberOfTrailingZeros_2 11 rfl rfl)
theorem dJ9_numberOfTrailingZeros_59 : decode cJ9_numberOfTrailingZeros 59 = .ok (.iconst 4, 1) := dk_7 (dk_at dksJ9_numberOfTrailingZeros_2 12 rfl rfl)
theorem dJ9_numberOfTrailingZeros_60 : decode cJ9_numberOfTrailingZeros 60 = .ok (.iushr, 1) := dk_124 (dk_at dksJ9_numberOfTrailingZeros_2 13 rfl rfl)
theorem dJ9_numberOfTrailingZeros_61 : decode cJ9_numberOfTrailingZeros 61 = .ok (.istore_n 0, 1) := dk_59 (dk_at dksJ9_numberOfTrailingZeros_2 14 rfl rfl)
theorem dJ9_numberOfTrailingZeros_62 : decode cJ9_numberOfTrailingZeros 62 = .ok (.iload_n 0, 1) := dk_26 (dk_at dksJ9_numberOfTrailingZeros_2 15 rfl rfl)
theorem dJ9_numberOfTrailingZeros_63 : decode cJ9_numberOfTrailingZeros 63 = .ok (.iconst 4, 1) := dk_7 (dk_at dksJ9_numberOfTrailingZeros_2 16 rfl rfl)
theorem dJ9_numberOfTrailingZeros_64 : decode cJ9_numberOfTrailingZeros 64 = .ok (.if_icmp .le 10, 3) := dk_164 0 10 (dk_at dksJ9_numberOfTrailingZeros_2 17 rfl rfl)
theorem dJ9_numberOfTrailingZeros_67 : decode cJ9_numberOfTrailingZeros 67 = .ok (.iinc 1 2, 3) := dk_132 1 2 (dk_at dksJ9_numberOfTrailingZeros_2 20 rfl rfl)
theorem dJ9_numberOfTrailingZeros_70 : decode cJ9_numberOfTrailingZeros 70 = .ok (.iload_n 0, 1) := dk_26 (dk_at dksJ9_numberOfTrailingZeros_2 23 rfl rfl)
theorem dJ9_numberOfTrailingZeros_71 : decode cJ9_numberOfTrailingZeros 71 = .ok (.iconst 2, 1) := dk_5 (dk_at dksJ9_numberOfTrailingZeros_3 0 rfl rfl)
theorem dJ9_numberOfTrailingZeros_72 : decode cJ9_numberOfTrailingZeros 72 = .ok (.iushr, 1) := dk_124 (dk_at dksJ9_numberOfTrailingZeros_3 1 rfl rfl)
theorem dJ9_numberOfTrailingZeros_73 : decode cJ9_numberOfTrailingZeros 73 = .ok (.istore_n 0, 1) := dk_59 (dk_at dksJ9_numberOfTrailingZeros_3 2 rfl rfl)
theorem dJ9_numberOfTrailingZeros_74 : decode cJ9_numberOfTrailingZeros 74 = .ok (.iload_n 1, 1) := dk_27 (dk_at dksJ9_numberOfTrailingZeros_3 3 rfl rfl)
theorem dJ9_numberOfTrailingZeros_75 : decode cJ9_numberOfTrailingZeros 75 = .ok (.iload_n 0, 1) := dk_26 (dk_at dksJ9_numberOfTrailingZeros_3 4 rfl rfl)
theorem dJ9_numberOfTrailingZeros_76 : decode cJ9_numberOfTrailingZeros 76 = .ok (.iconst 1, 1) := dk_4 (dk_at dksJ9_numberOfTrailingZeros_3 5 rfl rfl)
theorem dJ9_numberOfTrailingZeros_77 : decode cJ9_numberOfTrailingZeros 77 = .ok (.iushr, 1) := dk_124 (dk_at dksJ9_numberOfTrailingZeros_3 6 rfl rfl)
theorem dJ9_numberOfTrailingZeros_78 : decode cJ9_numberOfTrailingZeros 78 = .ok (.iadd, 1) := dk_96 (dk_at dksJ9_numberOfTrailingZeros_3 7 rfl rfl)
theorem dJ9_numberOfTrailingZeros_79 : decode cJ9_numberOfTrailingZeros 79 = .ok (.ireturn, 1) := dk_172 (dk_at dksJ9_numberOfTrailingZeros_3 8 rfl rfl)
abbrev cJ9_equals : ByteArray := prog_28_method_34_code
def yJ9_equals : MethodName := ⟨RJ9, "equals", "(Ljava/lang/Object;)Z"⟩
def dkwJ9_equals_1 : List UInt8 := [167, 0, 4, 3, 172, 3, 172]
abbrev dktJ9_equals_1 : List UInt8 := dkwJ9_equals_1 ++ []
def dkwJ9_equals_0 : List UInt8 := [43, 193, 0, 1, 153, 0, 23, 42, 180, 0, 205, 43, 192, 0, 1, 182, 0, 211, 160, 0, 7, 4]
abbrev dktJ9_equals_0 : List UInt8 := dkwJ9_equals_0 ++ dktJ9_equals_1
theorem dksJ9_equals_0 : cJ9_equals.data.toList.drop 0 = dktJ9_equals_0 := by decide +kernel
theorem dksJ9_equals_1 : cJ9_equals.data.toList.drop 22 = dktJ9_equals_1 := dk_seg dksJ9_equals_0 22 rfl rfl
theorem dJ9_equals_0 : decode cJ9_equals 0 = .ok (.aload_n 1, 1) := dk_43 (dk_at dksJ9_equals_0 0 rfl rfl)
theorem dJ9_equals_1 : decode cJ9_equals 1 = .ok (.instanceof 1, 3) := dk_193 0 1 (dk_at dksJ9_equals_0 1 rfl rfl)
theorem dJ9_equals_4 : decode cJ9_equals 4 = .ok (.ifCond .eq 23, 3) := dk_153 0 23 (dk_at dksJ9_equals_0 4 rfl rfl)
theorem dJ9_equals_7 : decode cJ9_equals 7 = .ok (.aload_n 0, 1) := dk_42 (dk_at dksJ9_equals_0 7 rfl rfl)
theorem dJ9_equals_8 : decode cJ9_equals 8 = .ok (.getfield 205, 3) := dk_180 0 205 (dk_at dksJ9_equals_0 8 rfl rfl)
theorem dJ9_equals_11 : decode cJ9_equals 11 = .ok (.aload_n 1, 1) := dk_43 (dk_at dksJ9_equals_0 11 rfl rfl)
theorem dJ9_equals_12 : decode cJ9_equals 12 = .ok (.checkcast 1, 3) := dk_192 0 1 (dk_at dksJ9_equals_0 12 rfl rfl)
theorem dJ9_equals_15 : decode cJ9_equals 15 = .ok (.invokevirtual 211, 3) := dk_182 0 211 (dk_at dksJ9_equals_0 15 rfl rfl)
theorem dJ9_equals_18 : decode cJ9_equals 18 = .ok (.if_icmp .ne 7, 3) := dk_160 0 7 (dk_at dksJ9_equals_0 18 rfl rfl)
theorem dJ9_equals_21 : decode cJ9_equals 21 = .ok (.iconst 1, 1) := dk_4 (dk_at dksJ9_equals_0 21 rfl rfl)
theorem dJ9_equals_22 : decode cJ9_equals 22 = .ok (.goto 4, 3) := dk_167 0 4 (dk_at dksJ9_equals_1 0 rfl rfl)
theorem dJ9_equals_25 : decode cJ9_equals 25 = .ok (.iconst 0, 1) := dk_3 (dk_at dksJ9_equals_1 3 rfl rfl)
theorem dJ9_equals_26 : decode cJ9_equals 26 = .ok (.ireturn, 1) := dk_172 (dk_at dksJ9_equals_1 4 rfl rfl)
theorem dJ9_equals_27 : decode cJ9_equals 27 = .ok (.iconst 0, 1) := dk_3 (dk_at dksJ9_equals_1 5 rfl rfl)
theorem dJ9_equals_28 : decode cJ9_equals 28 = .ok (.ireturn, 1) := dk_172 (dk_at dksJ9_equals_1 6 rfl rfl)
abbrev cJ9_intValue : ByteArray := prog_28_method_27_code
def yJ9_intValue : MethodName := ⟨RJ9, "intValue", "()I"⟩
theorem dJ9_intValue_0 : decode cJ9_intValue 0 = .ok (.aload_n 0, 1) := by decide +kernel
theorem dJ9_intValue_1 : decode cJ9_intValue 1 = .ok (.getfield 205, 3) := by decide +kernel
theorem dJ9_intValue_4 : decode cJ9_intValue 4 = .ok (.ireturn, 1) := by decide +kernel
theorem q165 : (Jvm.Cond.initialized "java/lang/Integer") ∈ lw_all := lw_g (lw_at lw_m1 14 rfl) rfl
theorem q434 : (Jvm.Cond.static ({ cls := "java/lang/Integer", name := "valueOf", desc := "(I)Ljava/lang/Integer;" } : Jvm.MethodName)) ∈ lw_all := lw_g (lw_at lw_m2 43 rfl) rfl
theorem q435 : (Jvm.Cond.code ({ cls := "java/lang/Integer", name := "valueOf", desc := "(I)Ljava/lang/Integer;" } : Jvm.MethodName) prog_28_method_22_code (1 : Nat) (Option.some (Jvm.ClassFile.FieldType.object "java/lang/Integer"))) ∈ lw_all := lw_g (lw_at lw_m2 44 rfl) rfl
theorem q436 : (Jvm.Cond.fieldLink "java/lang/Integer" (191 : Nat) "java/lang/Integer$IntegerCache" "high" "I") ∈ lw_all := lw_g (lw_at lw_m2 45 rfl) rfl
theorem q438 : (Jvm.Cond.fieldLink "java/lang/Integer" (195 : Nat) "java/lang/Integer$IntegerCache" "cache" "[Ljava/lang/Integer;") ∈ lw_all := lw_g (lw_at lw_m2 47 rfl) rfl
theorem q440 : (Jvm.Cond.classLink "java/lang/Integer" (1 : Nat) "java/lang/Integer") ∈ lw_all := lw_g (lw_at lw_m2 49 rfl) rfl
theorem q441 : (Jvm.Cond.instantiable "java/lang/Integer" (1 : Nat)) ∈ lw_all := lw_g (lw_at lw_m2 50 rfl) rfl
theorem q442 : (Jvm.Cond.methodLink "java/lang/Integer" (199 : Nat) ({ cls := "java/lang/Integer", name := "<init>", desc := "(I)V" } : Jvm.MethodName)) ∈ lw_all := lw_g (lw_at lw_m2 51 rfl) rfl
theorem q443 : (Jvm.Cond.instanceMethod ({ cls := "java/lang/Integer", name := "<init>", desc := "(I)V" } : Jvm.MethodName)) ∈ lw_all := lw_g (lw_at lw_m2 52 rfl) rfl
theorem q444 : (Jvm.Cond.code ({ cls := "java/lang/Integer", name := "<init>", desc := "(I)V" } : Jvm.MethodName) prog_28_method_23_code (2 : Nat) (Option.none : Option Jvm.ClassFile.FieldType)) ∈ lw_all := lw_g (lw_at lw_m2 53 rfl) rfl
theorem q445 : (Jvm.Cond.methodLink "java/lang/Integer" (202 : Nat) ({ cls := "java/lang/Number", name := "<init>", desc := "()V" } : Jvm.MethodName)) ∈ lw_all := lw_g (lw_at lw_m2 54 rfl) rfl
theorem q449 : (Jvm.Cond.fieldLink "java/lang/Integer" (205 : Nat) "java/lang/Integer" "value" "I") ∈ lw_all := lw_g (lw_at lw_m2 58 rfl) rfl
theorem q450 : (Jvm.Cond.laysFinal "java/lang/Integer" "java/lang/Integer" "value" "I") ∈ lw_all := lw_g (lw_at lw_m2 59 rfl) rfl
theorem q451 : (Jvm.Cond.soleField "java/lang/Integer" "value") ∈ lw_all := lw_g (lw_at lw_m2 60 rfl) rfl
theorem q452 : (Jvm.Cond.superclass "java/lang/Integer" "java/lang/Number") ∈ lw_all := lw_g (lw_at lw_m2 61 rfl) rfl
theorem q509 : (Jvm.Cond.selects "java/lang/Integer" ({ cls := "java/lang/Object", name := "getClass", desc := "()Ljava/lang/Class;" } : Jvm.MethodName) ({ cls := "java/lang/Object", name := "getClass", desc := "()Ljava/lang/Class;" } : Jvm.MethodName)) ∈ lw_all := lw_g (lw_at lw_m2 118 rfl) rfl
theorem q585 : (Jvm.Cond.selects "java/lang/Integer" ({ cls := "java/lang/Object", name := "hashCode", desc := "()I" } : Jvm.MethodName) ({ cls := "java/lang/Integer", name := "hashCode", desc := "()I" } : Jvm.MethodName)) ∈ lw_all := lw_g (lw_at lw_m2 194 rfl) rfl
theorem q586 : (Jvm.Cond.instanceMethod ({ cls := "java/lang/Integer", name := "hashCode", desc := "()I" } : Jvm.MethodName)) ∈ lw_all := lw_g (lw_at lw_m2 195 rfl) rfl
theorem q587 : (Jvm.Cond.code ({ cls := "java/lang/Integer", name := "hashCode", desc := "()I" } : Jvm.MethodName) prog_28_method_32_code (1 : Nat) (Option.some Jvm.ClassFile.FieldType.int)) ∈ lw_all := lw_g (lw_at lw_m2 196 rfl) rfl
theorem q588 : (Jvm.Cond.methodLink "java/lang/Integer" (208 : Nat) ({ cls := "java/lang/Integer", name := "hashCode", desc := "(I)I" } : Jvm.MethodName)) ∈ lw_all := lw_g (lw_at lw_m2 197 rfl) rfl
theorem q589 : (Jvm.Cond.static ({ cls := "java/lang/Integer", name := "hashCode", desc := "(I)I" } : Jvm.MethodName)) ∈ lw_all := lw_g (lw_at lw_m2 198 rfl) rfl
theorem q590 : (Jvm.Cond.code ({ cls := "java/lang/Integer", name := "hashCode", desc := "(I)I" } : Jvm.MethodName) prog_28_method_33_code (1 : Nat) (Option.some Jvm.ClassFile.FieldType.int)) ∈ lw_all := lw_g (lw_at lw_m2 199 rfl) rfl
theorem q849 : (Jvm.Cond.static ({ cls := "java/lang/Integer", name := "stringSize", desc := "(I)I" } : Jvm.MethodName)) ∈ lw_all := lw_g (lw_at lw_m3 218 rfl) rfl
theorem q850 : (Jvm.Cond.code ({ cls := "java/lang/Integer", name := "stringSize", desc := "(I)I" } : Jvm.MethodName) prog_28_method_13_code (4 : Nat) (Option.some Jvm.ClassFile.FieldType.int)) ∈ lw_all := lw_g (lw_at lw_m3 219 rfl) rfl
theorem q852 : (Jvm.Cond.static ({ cls := "java/lang/Integer", name := "getChars", desc := "(II[B)I" } : Jvm.MethodName)) ∈ lw_all := lw_g (lw_at lw_m3 221 rfl) rfl
theorem q853 : (Jvm.Cond.code ({ cls := "java/lang/Integer", name := "getChars", desc := "(II[B)I" } : Jvm.MethodName) prog_28_method_12_code (7 : Nat) (Option.some Jvm.ClassFile.FieldType.int)) ∈ lw_all := lw_g (lw_at lw_m3 222 rfl) rfl
theorem q854 : (Jvm.Cond.fieldLink "java/lang/Integer" (83 : Nat) "java/lang/Integer" "DigitOnes" "[B") ∈ lw_all := lw_g (lw_at lw_m3 223 rfl) rfl
theorem q855 : (Jvm.Cond.laysStatic "java/lang/Integer" "DigitOnes" "[B") ∈ lw_tbl := lw_at lw_m3 224 rfl
theorem q856 : (Jvm.Cond.fieldLink "java/lang/Integer" (87 : Nat) "java/lang/Integer" "DigitTens" "[B") ∈ lw_all := lw_g (lw_at lw_m3 225 rfl) rfl
theorem q857 : (Jvm.Cond.laysStatic "java/lang/Integer" "DigitTens" "[B") ∈ lw_tbl := lw_at lw_m3 226 rfl
theorem q1077 : (Jvm.Cond.castable "java/lang/Integer" "java/lang/Comparable") ∈ lw_tbl := lw_at lw_m4 206 rfl
theorem q1078 : (Jvm.Cond.selects "java/lang/Integer" ({ cls := "java/lang/Comparable", name := "compareTo", desc := "(Ljava/lang/Object;)I" } : Jvm.MethodName) ({ cls := "java/lang/Integer", name := "compareTo", desc := "(Ljava/lang/Object;)I" } : Jvm.MethodName)) ∈ lw_all := lw_g (lw_at lw_m4 207 rfl) rfl
theorem q1079 : (Jvm.Cond.unhidden "java/lang/Integer" "compareTo" "(Ljava/lang/Object;)I") ∈ lw_tbl := lw_at lw_m4 208 rfl
theorem q1080 : (Jvm.Cond.instanceMethod ({ cls := "java/lang/Integer", name := "compareTo", desc := "(Ljava/lang/Object;)I" } : Jvm.MethodName)) ∈ lw_all := lw_g (lw_at lw_m4 209 rfl) rfl
theorem q1081 : (Jvm.Cond.publicMethod ({ cls := "java/lang/Integer", name := "compareTo", desc := "(Ljava/lang/Object;)I" } : Jvm.MethodName)) ∈ lw_tbl := lw_at lw_m4 210 rfl
theorem q1082 : (Jvm.Cond.code ({ cls := "java/lang/Integer", name := "compareTo", desc := "(Ljava/lang/Object;)I" } : Jvm.MethodName) prog_28_method_63_code (2 : Nat) (Option.some Jvm.ClassFile.FieldType.int)) ∈ lw_all := lw_g (lw_at lw_m4 211 rfl) rfl
theorem q1083 : (Jvm.Cond.methodLink "java/lang/Integer" (284 : Nat) ({ cls := "java/lang/Integer", name := "compareTo", desc := "(Ljava/lang/Integer;)I" } : Jvm.MethodName)) ∈ lw_all := lw_g (lw_at lw_m4 212 rfl) rfl
theorem q1084 : (Jvm.Cond.instanceMethod ({ cls := "java/lang/Integer", name := "compareTo", desc := "(Ljava/lang/Integer;)I" } : Jvm.MethodName)) ∈ lw_all := lw_g (lw_at lw_m4 213 rfl) rfl
theorem q1085 : (Jvm.Cond.selects "java/lang/Integer" ({ cls := "java/lang/Integer", name := "compareTo", desc := "(Ljava/lang/Integer;)I" } : Jvm.MethodName) ({ cls := "java/lang/Integer", name := "compareTo", desc := "(Ljava/lang/Integer;)I" } : Jvm.MethodName)) ∈ lw_all := lw_g (lw_at lw_m4 214 rfl) rfl
theorem q1086 : (Jvm.Cond.code ({ cls := "java/lang/Integer", name := "compareTo", desc := "(Ljava/lang/Integer;)I" } : Jvm.MethodName) prog_28_method_39_code (2 : Nat) (Option.some Jvm.ClassFile.FieldType.int)) ∈ lw_all := lw_g (lw_at lw_m4 215 rfl) rfl
theorem q1087 : (Jvm.Cond.methodLink "java/lang/Integer" (259 : Nat) ({ cls := "java/lang/Integer", name := "compare", desc := "(II)I" } : Jvm.MethodName)) ∈ lw_all := lw_g (lw_at lw_m4 216 rfl) rfl
theorem q1088 : (Jvm.Cond.static ({ cls := "java/lang/Integer", name := "compare", desc := "(II)I" } : Jvm.MethodName)) ∈ lw_all := lw_g (lw_at lw_m4 217 rfl) rfl
theorem q1089 : (Jvm.Cond.code ({ cls := "java/lang/Integer", name := "compare", desc := "(II)I" } : Jvm.MethodName) prog_28_method_40_code (2 : Nat) (Option.some Jvm.ClassFile.FieldType.int)) ∈ lw_all := lw_g (lw_at lw_m4 218 rfl) rfl
theorem q1180 : (Jvm.Cond.static ({ cls := "java/lang/Integer", name := "numberOfLeadingZeros", desc := "(I)I" } : Jvm.MethodName)) ∈ lw_all := lw_g (lw_at lw_m5 69 rfl) rfl
theorem q1181 : (Jvm.Cond.code ({ cls := "java/lang/Integer", name := "numberOfLeadingZeros", desc := "(I)I" } : Jvm.MethodName) prog_28_method_47_code (2 : Nat) (Option.some Jvm.ClassFile.FieldType.int)) ∈ lw_all := lw_g (lw_at lw_m5 70 rfl) rfl
theorem q1182 : (Jvm.Cond.constant "java/lang/Integer" (264 : Nat) (65536 : Int32)) ∈ lw_all := lw_g (lw_at lw_m5 71 rfl) rfl
theorem q1189 : (Jvm.Cond.static ({ cls := "java/lang/Integer", name := "numberOfTrailingZeros", desc := "(I)I" } : Jvm.MethodName)) ∈ lw_all := lw_g (lw_at lw_m5 78 rfl) rfl
theorem q1190 : (Jvm.Cond.code ({ cls := "java/lang/Integer", name := "numberOfTrailingZeros", desc := "(I)I" } : Jvm.MethodName) prog_28_method_48_code (2 : Nat) (Option.some Jvm.ClassFile.FieldType.int)) ∈ lw_all := lw_g (lw_at lw_m5 79 rfl) rfl
theorem q1320 : (Jvm.Cond.selects "java/lang/Integer" ({ cls := "java/lang/Object", name := "equals", desc := "(Ljava/lang/Object;)Z" } : Jvm.MethodName) ({ cls := "java/lang/Integer", name := "equals", desc := "(Ljava/lang/Object;)Z" } : Jvm.MethodName)) ∈ lw_all := lw_g (lw_at lw_m5 209 rfl) rfl
theorem q1321 : (Jvm.Cond.instanceMethod ({ cls := "java/lang/Integer", name := "equals", desc := "(Ljava/lang/Object;)Z" } : Jvm.MethodName)) ∈ lw_all := lw_g (lw_at lw_m5 210 rfl) rfl
theorem q1322 : (Jvm.Cond.code ({ cls := "java/lang/Integer", name := "equals", desc := "(Ljava/lang/Object;)Z" } : Jvm.MethodName) prog_28_method_34_code (2 : Nat) (Option.some Jvm.ClassFile.FieldType.boolean)) ∈ lw_all := lw_g (lw_at lw_m5 211 rfl) rfl
theorem q1323 : (Jvm.Cond.methodLink "java/lang/Integer" (211 : Nat) ({ cls := "java/lang/Integer", name := "intValue", desc := "()I" } : Jvm.MethodName)) ∈ lw_all := lw_g (lw_at lw_m5 212 rfl) rfl
theorem q1324 : (Jvm.Cond.instanceMethod ({ cls := "java/lang/Integer", name := "intValue", desc := "()I" } : Jvm.MethodName)) ∈ lw_all := lw_g (lw_at lw_m5 213 rfl) rfl
theorem q1325 : (Jvm.Cond.selects "java/lang/Integer" ({ cls := "java/lang/Integer", name := "intValue", desc := "()I" } : Jvm.MethodName) ({ cls := "java/lang/Integer", name := "intValue", desc := "()I" } : Jvm.MethodName)) ∈ lw_all := lw_g (lw_at lw_m5 214 rfl) rfl
theorem q1326 : (Jvm.Cond.code ({ cls := "java/lang/Integer", name := "intValue", desc := "()I" } : Jvm.MethodName) prog_28_method_27_code (1 : Nat) (Option.some Jvm.ClassFile.FieldType.int)) ∈ lw_all := lw_g (lw_at lw_m5 215 rfl) rfl
theorem q3535 : (Jvm.Cond.castable "java/lang/Integer" "java/lang/Object") ∈ lw_tbl := lw_at lw_m15 24 rfl
theorem in_J9 : ∀ w ∈ wsJ90, w ∈ lw_all := lw_in wsJ90 [450] (by decide +kernel) (by decide +kernel)
/-! jdk/internal/util/ArraysSupport -/
set_option maxRecDepth 100000
def RJ10 : String := "jdk/internal/util/ArraysSupport"
abbrev cJ10_newLength : ByteArray := prog_70_method_27_code
def yJ10_newLength : MethodName := ⟨RJ10, "newLength", "(III)I"⟩
def dkwJ10_newLength_1 : List UInt8 := [184, 0, 201, 172]
abbrev dktJ10_newLength_1 : List UInt8 := dkwJ10_newLength_1 ++ []
def dkwJ10_newLength_0 : List UInt8 := [26, 27, 28, 184, 0, 194, 96, 62, 3, 29, 162, 0, 11, 29, 18, 200, 163, 0, 5, 29, 172, 26, 27]
abbrev dktJ10_newLength_0 : List UInt8 := dkwJ10_newLength_0 ++ dktJ10_newLength_1
theorem dksJ10_newLength_0 : cJ10_newLength.data.toList.drop 0 = dktJ10_newLength_0 := by decide +kernel
theorem dksJ10_newLength_1 : cJ10_newLength.data.toList.drop 23 = dktJ10_newLength_1 := dk_seg dksJ10_newLength_0 23 rfl rfl
theorem dJ10_newLength_0 : decode cJ10_newLength 0 = .ok (.iload_n 0, 1) := dk_26 (dk_at dksJ10_newLength_0 0 rfl rfl)
theorem dJ10_newLength_1 : decode cJ10_newLength 1 = .ok (.iload_n 1, 1) := dk_27 (dk_at dksJ10_newLength_0 1 rfl rfl)
theorem dJ10_newLength_2 : decode cJ10_newLength 2 = .ok (.iload_n 2, 1) := dk_28 (dk_at dksJ10_newLength_0 2 rfl rfl)
theorem dJ10_newLength_3 : decode cJ10_newLength 3 = .ok (.invokestatic 194, 3) := dk_184 0 194 (dk_at dksJ10_newLength_0 3 rfl rfl)
theorem dJ10_newLength_6 : decode cJ10_newLength 6 = .ok (.iadd, 1) := dk_96 (dk_at dksJ10_newLength_0 6 rfl rfl)
theorem dJ10_newLength_7 : decode cJ10_newLength 7 = .ok (.istore_n 3, 1) := dk_62 (dk_at dksJ10_newLength_0 7 rfl rfl)
theorem dJ10_newLength_8 : decode cJ10_newLength 8 = .ok (.iconst 0, 1) := dk_3 (dk_at dksJ10_newLength_0 8 rfl rfl)
theorem dJ10_newLength_9 : decode cJ10_newLength 9 = .ok (.iload_n 3, 1) := dk_29 (dk_at dksJ10_newLength_0 9 rfl rfl)
theorem dJ10_newLength_10 : decode cJ10_newLength 10 = .ok (.if_icmp .ge 11, 3) := dk_162 0 11 (dk_at dksJ10_newLength_0 10 rfl rfl)
theorem dJ10_newLength_13 : decode cJ10_newLength 13 = .ok (.iload_n 3, 1) := dk_29 (dk_at dksJ10_newLength_0 13 rfl rfl)
theorem dJ10_newLength_14 : decode cJ10_newLength 14 = .ok (.ldc 200, 2) := dk_18 200 (dk_at dksJ10_newLength_0 14 rfl rfl)
theorem dJ10_newLength_16 : decode cJ10_newLength 16 = .ok (.if_icmp .gt 5, 3) := dk_163 0 5 (dk_at dksJ10_newLength_0 16 rfl rfl)
theorem dJ10_newLength_19 : decode cJ10_newLength 19 = .ok (.iload_n 3, 1) := dk_29 (dk_at dksJ10_newLength_0 19 rfl rfl)
theorem dJ10_newLength_20 : decode cJ10_newLength 20 = .ok (.ireturn, 1) := dk_172 (dk_at dksJ10_newLength_0 20 rfl rfl)
theorem dJ10_newLength_21 : decode cJ10_newLength 21 = .ok (.iload_n 0, 1) := dk_26 (dk_at dksJ10_newLength_0 21 rfl rfl)
theorem dJ10_newLength_22 : decode cJ10_newLength 22 = .ok (.iload_n 1, 1) := dk_27 (dk_at dksJ10_newLength_0 22 rfl rfl)
theorem dJ10_newLength_23 : decode cJ10_newLength 23 = .ok (.invokestatic 201, 3) := dk_184 0 201 (dk_at dksJ10_newLength_1 0 rfl rfl)
theorem dJ10_newLength_26 : decode cJ10_newLength 26 = .ok (.ireturn, 1) := dk_172 (dk_at dksJ10_newLength_1 3 rfl rfl)
abbrev cJ10_hugeLength : ByteArray := prog_70_method_28_code
def yJ10_hugeLength : MethodName := ⟨RJ10, "hugeLength", "(II)I"⟩
def dkwJ10_hugeLength_2 : List UInt8 := [191, 28, 18, 200, 163, 0, 6, 18, 200, 172, 28, 172]
abbrev dktJ10_hugeLength_2 : List UInt8 := dkwJ10_hugeLength_2 ++ []
def dkwJ10_hugeLength_1 : List UInt8 := [26, 182, 0, 98, 18, 208, 182, 0, 94, 27, 182, 0, 98, 18, 210, 182, 0, 94, 182, 0, 101, 183, 0, 212]
abbrev dktJ10_hugeLength_1 : List UInt8 := dkwJ10_hugeLength_1 ++ dktJ10_hugeLength_2
def dkwJ10_hugeLength_0 : List UInt8 := [26, 27, 96, 61, 28, 156, 0, 44, 187, 0, 204, 89, 187, 0, 89, 89, 183, 0, 91, 18, 206, 182, 0, 94]
abbrev dktJ10_hugeLength_0 : List UInt8 := dkwJ10_hugeLength_0 ++ dktJ10_hugeLength_1
theorem dksJ10_hugeLength_0 : cJ10_hugeLength.data.toList.drop 0 = dktJ10_hugeLength_0 := by decide +kernel
theorem dksJ10_hugeLength_1 : cJ10_hugeLength.data.toList.drop 24 = dktJ10_hugeLength_1 := dk_seg dksJ10_hugeLength_0 24 rfl rfl
theorem dksJ10_hugeLength_2 : cJ10_hugeLength.data.toList.drop 48 = dktJ10_hugeLength_2 := dk_seg dksJ10_hugeLength_1 24 rfl rfl
theorem dJ10_hugeLength_0 : decode cJ10_hugeLength 0 = .ok (.iload_n 0, 1) := dk_26 (dk_at dksJ10_hugeLength_0 0 rfl rfl)
theorem dJ10_hugeLength_1 : decode cJ10_hugeLength 1 = .ok (.iload_n 1, 1) := dk_27 (dk_at dksJ10_hugeLength_0 1 rfl rfl)
theorem dJ10_hugeLength_2 : decode cJ10_hugeLength 2 = .ok (.iadd, 1) := dk_96 (dk_at dksJ10_hugeLength_0 2 rfl rfl)
theorem dJ10_hugeLength_3 : decode cJ10_hugeLength 3 = .ok (.istore_n 2, 1) := dk_61 (dk_at dksJ10_hugeLength_0 3 rfl rfl)
theorem dJ10_hugeLength_4 : decode cJ10_hugeLength 4 = .ok (.iload_n 2, 1) := dk_28 (dk_at dksJ10_hugeLength_0 4 rfl rfl)
theorem dJ10_hugeLength_5 : decode cJ10_hugeLength 5 = .ok (.ifCond .ge 44, 3) := dk_156 0 44 (dk_at dksJ10_hugeLength_0 5 rfl rfl)
theorem dJ10_hugeLength_8 : decode cJ10_hugeLength 8 = .ok (.new 204, 3) := dk_187 0 204 (dk_at dksJ10_hugeLength_0 8 rfl rfl)
theorem dJ10_hugeLength_11 : decode cJ10_hugeLength 11 = .ok (.dup, 1) := dk_89 (dk_at dksJ10_hugeLength_0 11 rfl rfl)
theorem dJ10_hugeLength_12 : decode cJ10_hugeLength 12 = .ok (.new 89, 3) := dk_187 0 89 (dk_at dksJ10_hugeLength_0 12 rfl rfl)
theorem dJ10_hugeLength_15 : decode cJ10_hugeLength 15 = .ok (.dup, 1) := dk_89 (dk_at dksJ10_hugeLength_0 15 rfl rfl)
theorem dJ10_hugeLength_16 : decode cJ10_hugeLength 16 = .ok (.invokespecial 91, 3) := dk_183 0 91 (dk_at dksJ10_hugeLength_0 16 rfl rfl)
theorem dJ10_hugeLength_19 : decode cJ10_hugeLength 19 = .ok (.ldc 206, 2) := dk_18 206 (dk_at dksJ10_hugeLength_0 19 rfl rfl)
theorem dJ10_hugeLength_21 : decode cJ10_hugeLength 21 = .ok (.invokevirtual 94, 3) := dk_182 0 94 (dk_at dksJ10_hugeLength_0 21 rfl rfl)
theorem dJ10_hugeLength_24 : decode cJ10_hugeLength 24 = .ok (.iload_n 0, 1) := dk_26 (dk_at dksJ10_hugeLength_1 0 rfl rfl)
theorem dJ10_hugeLength_25 : decode cJ10_hugeLength 25 = .ok (.invokevirtual 98, 3) := dk_182 0 98 (dk_at dksJ10_hugeLength_1 1 rfl rfl)
theorem dJ10_hugeLength_28 : decode cJ10_hugeLength 28 = .ok (.ldc 208, 2) := dk_18 208 (dk_at dksJ10_hugeLength_1 4 rfl rfl)
theorem dJ10_hugeLength_30 : decode cJ10_hugeLength 30 = .ok (.invokevirtual 94, 3) := dk_182 0 94 (dk_at dksJ10_hugeLength_1 6 rfl rfl)
theorem dJ10_hugeLength_33 : decode cJ10_hugeLength 33 = .ok (.iload_n 1, 1) := dk_27 (dk_at dksJ10_hugeLength_1 9 rfl rfl)
theorem dJ10_hugeLength_34 : decode cJ10_hugeLength 34 = .ok (.invokevirtual 98, 3) := dk_182 0 98 (dk_at dksJ10_hugeLength_1 10 rfl rfl)
theorem dJ10_hugeLength_37 : decode cJ10_hugeLength 37 = .ok (.ldc 210, 2) := dk_18 210 (dk_at dksJ10_hugeLength_1 13 rfl rfl)
theorem dJ10_hugeLength_39 : decode cJ10_hugeLength 39 = .ok (.invokevirtual 94, 3) := dk_182 0 94 (dk_at dksJ10_hugeLength_1 15 rfl rfl)
theorem dJ10_hugeLength_42 : decode cJ10_hugeLength 42 = .ok (.invokevirtual 101, 3) := dk_182 0 101 (dk_at dksJ10_hugeLength_1 18 rfl rfl)
theorem dJ10_hugeLength_45 : decode cJ10_hugeLength 45 = .ok (.invokespecial 212, 3) := dk_183 0 212 (dk_at dksJ10_hugeLength_1 21 rfl rfl)
theorem dJ10_hugeLength_48 : decode cJ10_hugeLength 48 = .ok (.athrow, 1) := dk_191 (dk_at dksJ10_hugeLength_2 0 rfl rfl)
theorem dJ10_hugeLength_49 : decode cJ10_hugeLength 49 = .ok (.iload_n 2, 1) := dk_28 (dk_at dksJ10_hugeLength_2 1 rfl rfl)
theorem dJ10_hugeLength_50 : decode cJ10_hugeLength 50 = .ok (.ldc 200, 2) := dk_18 200 (dk_at dksJ10_hugeLength_2 2 rfl rfl)
theorem dJ10_hugeLength_52 : decode cJ10_hugeLength 52 = .ok (.if_icmp .gt 6, 3) := dk_163 0 6 (dk_at dksJ10_hugeLength_2 4 rfl rfl)
theorem dJ10_hugeLength_55 : decode cJ10_hugeLength 55 = .ok (.ldc 200, 2) := dk_18 200 (dk_at dksJ10_hugeLength_2 7 rfl rfl)
theorem dJ10_hugeLength_57 : decode cJ10_hugeLength 57 = .ok (.ireturn, 1) := dk_172 (dk_at dksJ10_hugeLength_2 9 rfl rfl)
theorem dJ10_hugeLength_58 : decode cJ10_hugeLength 58 = .ok (.iload_n 2, 1) := dk_28 (dk_at dksJ10_hugeLength_2 10 rfl rfl)
theorem dJ10_hugeLength_59 : decode cJ10_hugeLength 59 = .ok (.ireturn, 1) := dk_172 (dk_at dksJ10_hugeLength_2 11 rfl rfl)
abbrev cJ10_vectorizedHashCode : ByteArray := prog_70_method_4_code
def yJ10_vectorizedHashCode : MethodName := ⟨RJ10, "vectorizedHashCode", "(Ljava/lang/Object;IIII)I"⟩
def dkwJ10_vectorizedHashCode_6 : List UInt8 := [183, 0, 91, 18, 92, 182, 0, 94, 21, 4, 182, 0, 98, 182, 0, 101, 183, 0, 105, 191, 172]
abbrev dktJ10_vectorizedHashCode_6 : List UInt8 := dkwJ10_vectorizedHashCode_6 ++ []
def dkwJ10_vectorizedHashCode_5 : List UInt8 := [167, 0, 44, 29, 42, 192, 0, 82, 27, 28, 184, 0, 84, 167, 0, 31, 187, 0, 87, 89, 187, 0, 89, 89]
abbrev dktJ10_vectorizedHashCode_5 : List UInt8 := dkwJ10_vectorizedHashCode_5 ++ dktJ10_vectorizedHashCode_6
def dkwJ10_vectorizedHashCode_4 : List UInt8 := [29, 42, 192, 0, 60, 27, 28, 184, 0, 75, 167, 0, 57, 29, 42, 192, 0, 77, 27, 28, 184, 0, 79]
abbrev dktJ10_vectorizedHashCode_4 : List UInt8 := dkwJ10_vectorizedHashCode_4 ++ dktJ10_vectorizedHashCode_5
def dkwJ10_vectorizedHashCode_3 : List UInt8 := [192, 0, 60, 27, 28, 184, 0, 66, 167, 0, 83, 29, 42, 192, 0, 69, 27, 28, 184, 0, 71, 167, 0, 70]
abbrev dktJ10_vectorizedHashCode_3 : List UInt8 := dkwJ10_vectorizedHashCode_3 ++ dktJ10_vectorizedHashCode_4
def dkwJ10_vectorizedHashCode_2 : List UInt8 := [29, 42, 192, 0, 60, 27, 28, 184, 0, 62, 167, 0, 103, 42, 193, 0, 60, 153, 0, 16, 29, 42]
abbrev dktJ10_vectorizedHashCode_2 : List UInt8 := dkwJ10_vectorizedHashCode_2 ++ dktJ10_vectorizedHashCode_3
def dkwJ10_vectorizedHashCode_1 : List UInt8 := [170, 0, 0, 0, 0, 127, 0, 0, 0, 4, 0, 0, 0, 10, 0, 0, 0, 42, 0, 0, 0, 55, 0, 0, 0, 127, 0, 0, 0, 127, 0, 0, 0, 88, 0, 0, 0, 101, 0, 0, 0, 114]
abbrev dktJ10_vectorizedHashCode_1 : List UInt8 := dkwJ10_vectorizedHashCode_1 ++ dktJ10_vectorizedHashCode_2
def dkwJ10_vectorizedHashCode_0 : List UInt8 := [21, 4]
abbrev dktJ10_vectorizedHashCode_0 : List UInt8 := dkwJ10_vectorizedHashCode_0 ++ dktJ10_vectorizedHashCode_1
theorem dksJ10_vectorizedHashCode_0 : cJ10_vectorizedHashCode.data.toList.drop 0 = dktJ10_vectorizedHashCode_0 := by decide +kernel
theorem dksJ10_vectorizedHashCode_1 : cJ10_vectorizedHashCode.data.toList.drop 2 = dktJ10_vectorizedHashCode_1 := dk_seg dksJ10_vectorizedHashCode_0 2 rfl rfl
theorem dksJ10_vectorizedHashCode_2 : cJ10_vectorizedHashCode.data.toList.drop 44 = dktJ10_vectorizedHashCode_2 := dk_seg dksJ10_vectorizedHashCode_1 42 rfl rfl
theorem dksJ10_vectorizedHashCode_3 : cJ10_vectorizedHashCode.data.toList.drop 66 = dktJ10_vectorizedHashCode_3 := dk_seg dksJ10_vectorizedHashCode_2 22 rfl rfl
theorem dksJ10_vectorizedHashCode_4 : cJ10_vectorizedHashCode.data.toList.drop 90 = dktJ10_vectorizedHashCode_4 := dk_seg dksJ10_vectorizedHashCode_3 24 rfl rfl
theorem dksJ10_vectorizedHashCode_5 : cJ10_vectorizedHashCode.data.toList.drop 113 = dktJ10_vectorizedHashCode_5 := dk_seg dksJ10_vectorizedHashCode_4 23 rfl rfl
theorem dksJ10_vectorizedHashCode_6 : cJ10_vectorizedHashCode.data.toList.drop 137 = dktJ10_vectorizedHashCode_6 := dk_seg dksJ10_vectorizedHashCode_5 24 rfl rfl
theorem dJ10_vectorizedHashCode_0 : decode cJ10_vectorizedHashCode 0 = .ok (.iload 4, 2) := dk_21 4 (dk_at dksJ10_vectorizedHashCode_0 0 rfl rfl)
theorem dJ10_vectorizedHashCode_2 : decode cJ10_vectorizedHashCode 2 = .ok (.tableswitch 127 4 10 #[42, 55, 127, 127, 88, 101, 114], 42) := by decide +kernel
theorem dJ10_vectorizedHashCode_44 : decode cJ10_vectorizedHashCode 44 = .ok (.iload_n 3, 1) := dk_29 (dk_at dksJ10_vectorizedHashCode_2 0 rfl rfl)
theorem dJ10_vectorizedHashCode_45 : decode cJ10_vectorizedHashCode 45 = .ok (.aload_n 0, 1) := dk_42 (dk_at dksJ10_vectorizedHashCode_2 1 rfl rfl)
theorem dJ10_vectorizedHashCode_46 : decode cJ10_vectorizedHashCode 46 = .ok (.checkcast 60, 3) := dk_192 0 60 (dk_at dksJ10_vectorizedHashCode_2 2 rfl rfl)
theorem dJ10_vectorizedHashCode_49 : decode cJ10_vectorizedHashCode 49 = .ok (.iload_n 1, 1) := dk_27 (dk_at dksJ10_vectorizedHashCode_2 5 rfl rfl)
theorem dJ10_vectorizedHashCode_50 : decode cJ10_vectorizedHashCode 50 = .ok (.iload_n 2, 1) := dk_28 (dk_at dksJ10_vectorizedHashCode_2 6 rfl rfl)
theorem dJ10_vectorizedHashCode_51 : decode cJ10_vectorizedHashCode 51 = .ok (.invokestatic 62, 3) := dk_184 0 62 (dk_at dksJ10_vectorizedHashCode_2 7 rfl rfl)
theorem dJ10_vectorizedHashCode_54 : decode cJ10_vectorizedHashCode 54 = .ok (.goto 103, 3) := dk_167 0 103 (dk_at dksJ10_vectorizedHashCode_2 10 rfl rfl)
theorem dJ10_vectorizedHashCode_57 : decode cJ10_vectorizedHashCode 57 = .ok (.aload_n 0, 1) := dk_42 (dk_at dksJ10_vectorizedHashCode_2 13 rfl rfl)
theorem dJ10_vectorizedHashCode_58 : decode cJ10_vectorizedHashCode 58 = .ok (.instanceof 60, 3) := dk_193 0 60 (dk_at dksJ10_vectorizedHashCode_2 14 rfl rfl)
theorem dJ10_vectorizedHashCode_61 : decode cJ10_vectorizedHashCode 61 = .ok (.ifCond .eq 16, 3) := dk_153 0 16 (dk_at dksJ10_vectorizedHashCode_2 17 rfl rfl)
theorem dJ10_vectorizedHashCode_64 : decode cJ10_vectorizedHashCode 64 = .ok (.iload_n 3, 1) := dk_29 (dk_at dksJ10_vectorizedHashCode_2 20 rfl rfl)
theorem dJ10_vectorizedHashCode_65 : decode cJ10_vectorizedHashCode 65 = .ok (.aload_n 0, 1) := dk_42 (dk_at dksJ10_vectorizedHashCode_2 21 rfl rfl)
theorem dJ10_vectorizedHashCode_66 : decode cJ10_vectorizedHashCode 66 = .ok (.checkcast 60, 3) := dk_192 0 60 (dk_at dksJ10_vectorizedHashCode_3 0 rfl rfl)
theorem dJ10_vectorizedHashCode_69 : decode cJ10_vectorizedHashCode 69 = .ok (.iload_n 1, 1) := dk_27 (dk_at dksJ10_vectorizedHashCode_3 3 rfl rfl)
theorem dJ10_vectorizedHashCode_70 : decode cJ10_vectorizedHashCode 70 = .ok (.iload_n 2, 1) := dk_28 (dk_at dksJ10_vectorizedHashCode_3 4 rfl rfl)
theorem dJ10_vectorizedHashCode_71 : decode cJ10_vectorizedHashCode 71 = .ok (.invokestatic 66, 3) := dk_184 0 66 (dk_at dksJ10_vectorizedHashCode_3 5 rfl rfl)
theorem dJ10_vectorizedHashCode_74 : decode cJ10_vectorizedHashCode 74 = .ok (.goto 83, 3) := dk_167 0 83 (dk_at dksJ10_vectorizedHashCode_3 8 rfl rfl)
theorem dJ10_vectorizedHashCode_77 : decode cJ10_vectorizedHashCode 77 = .ok (.iload_n 3, 1) := dk_29 (dk_at dksJ10_vectorizedHashCode_3 11 rfl rfl)
theorem dJ10_vectorizedHashCode_78 : decode cJ10_vectorizedHashCode 78 = .ok (.aload_n 0, 1) := dk_42 (dk_at dksJ10_vectorizedHashCode_3 12 rfl rfl)
theorem dJ10_vectorizedHashCode_79 : decode cJ10_vectorizedHashCode 79 = .ok (.checkcast 69, 3) := dk_192 0 69 (dk_at dksJ10_vectorizedHashCode_3 13 rfl rfl)
theorem dJ10_vectorizedHashCode_82 : decode cJ10_vectorizedHashCode 82 = .ok (.iload_n 1, 1) := dk_27 (dk_at dksJ10_vectorizedHashCode_3 16 rfl rfl)
theorem dJ10_vectorizedHashCode_83 : decode cJ10_vectorizedHashCode 83 = .ok (.iload_n 2, 1) := dk_28 (dk_at dksJ10_vectorizedHashCode_3 17 rfl rfl)
theorem dJ10_vectorizedHashCode_84 : decode cJ10_vectorizedHashCode 84 = .ok (.invokestatic 71, 3) := dk_184 0 71 (dk_at dksJ10_vectorizedHashCode_3 18 rfl rfl)
theorem dJ10_vectorizedHashCode_87 : decode cJ10_vectorizedHashCode 87 = .ok (.goto 70, 3) := dk_167 0 70 (dk_at dksJ10_vectorizedHashCode_3 21 rfl rfl)
theorem dJ10_vectorizedHashCode_90 : decode cJ10_vectorizedHashCode 90 = .ok (.iload_n 3, 1) := dk_29 (dk_at dksJ10_vectorizedHashCode_4 0 rfl rfl)
theorem dJ10_vectorizedHashCode_91 : decode cJ10_vectorizedHashCode 91 = .ok (.aload_n 0, 1) := dk_42 (dk_at dksJ10_vectorizedHashCode_4 1 rfl rfl)
theorem dJ10_vectorizedHashCode_92 : decode cJ10_vectorizedHashCode 92 = .ok (.checkcast 60, 3) := dk_192 0 60 (dk_at dksJ10_vectorizedHashCode_4 2 rfl rfl)
theorem dJ10_vectorizedHashCode_95 : decode cJ10_vectorizedHashCode 95 = .ok (.iload_n 1, 1) := dk_27 (dk_at dksJ10_vectorizedHashCode_4 5 rfl rfl)
theorem dJ10_vectorizedHashCode_96 : decode cJ10_vectorizedHashCode 96 = .ok (.iload_n 2, 1) := dk_28 (dk_at dksJ10_vectorizedHashCode_4 6 rfl rfl)
theorem dJ10_vectorizedHashCode_97 : decode cJ10_vectorizedHashCode 97 = .ok (.invokestatic 75, 3) := dk_184 0 75 (dk_at dksJ10_vectorizedHashCode_4 7 rfl rfl)
theorem dJ10_vectorizedHashCode_100 : decode cJ10_vectorizedHashCode 100 = .ok (.goto 57, 3) := dk_167 0 57 (dk_at dksJ10_vectorizedHashCode_4 10 rfl rfl)
theorem dJ10_vectorizedHashCode_103 : decode cJ10_vectorizedHashCode 103 = .ok (.iload_n 3, 1) := dk_29 (dk_at dksJ10_vectorizedHashCode_4 13 rfl rfl)
theorem dJ10_vectorizedHashCode_104 : decode cJ10_vectorizedHashCode 104 = .ok (.aload_n 0, 1) := dk_42 (dk_at dksJ10_vectorizedHashCode_4 14 rfl rfl)
theorem dJ10_vectorizedHashCode_105 : decode cJ10_vectorizedHashCode 105 = .ok (.checkcast 77, 3) := dk_192 0 77 (dk_at dksJ10_vectorizedHashCode_4 15 rfl rfl)
theorem dJ10_vectorizedHashCode_108 : decode cJ10_vectorizedHashCode 108 = .ok (.iload_n 1, 1) := dk_27 (dk_at dksJ10_vectorizedHashCode_4 18 rfl rfl)
theorem dJ10_vectorizedHashCode_109 : decode cJ10_vectorizedHashCode 109 = .ok (.iload_n 2, 1) := dk_28 (dk_at dksJ10_vectorizedHashCode_4 19 rfl rfl)
theorem dJ10_vectorizedHashCode_110 : decode cJ10_vectorizedHashCode 110 = .ok (.invokestatic 79, 3) := dk_184 0 79 (dk_at dksJ10_vectorizedHashCode_4 20 rfl rfl)
theorem dJ10_vectorizedHashCode_113 : decode cJ10_vectorizedHashCode 113 = .ok (.goto 44, 3) := dk_167 0 44 (dk_at dksJ10_vectorizedHashCode_5 0 rfl rfl)
theorem dJ10_vectorizedHashCode_116 : decode cJ10_vectorizedHashCode 116 = .ok (.iload_n 3, 1) := dk_29 (dk_at dksJ10_vectorizedHashCode_5 3 rfl rfl)
theorem dJ10_vectorizedHashCode_117 : decode cJ10_vectorizedHashCode 117 = .ok (.aload_n 0, 1) := dk_42 (dk_at dksJ10_vectorizedHashCode_5 4 rfl rfl)
theorem dJ10_vectorizedHashCode_118 : decode cJ10_vectorizedHashCode 118 = .ok (.checkcast 82, 3) := dk_192 0 82 (dk_at dksJ10_vectorizedHashCode_5 5 rfl rfl)
theorem dJ10_vectorizedHashCode_121 : decode cJ10_vectorizedHashCode 121 = .ok (.iload_n 1, 1) := dk_27 (dk_at dksJ10_vectorizedHashCode_5 8 rfl rfl)
theorem dJ10_vectorizedHashCode_122 : decode cJ10_vectorizedHashCode 122 = .ok (.iload_n 2, 1) := dk_28 (dk_at dksJ10_vectorizedHashCode_5 9 rfl rfl)
theorem dJ10_vectorizedHashCode_123 : decode cJ10_vectorizedHashCode 123 = .ok (.invokestatic 84, 3) := dk_184 0 84 (dk_at dksJ10_vectorizedHashCode_5 10 rfl rfl)
theorem dJ10_vectorizedHashCode_126 : decode cJ10_vectorizedHashCode 126 = .ok (.goto 31, 3) := dk_167 0 31 (dk_at dksJ10_vectorizedHashCode_5 13 rfl rfl)
theorem dJ10_vectorizedHashCode_129 : decode cJ10_vectorizedHashCode 129 = .ok (.new 87, 3) := dk_187 0 87 (dk_at dksJ10_vectorizedHashCode_5 16 rfl rfl)
theorem dJ10_vectorizedHashCode_132 : decode cJ10_vectorizedHashCode 132 = .ok (.dup, 1) := dk_89 (dk_at dksJ10_vectorizedHashCode_5 19 rfl rfl)
theorem dJ10_vectorizedHashCode_133 : decode cJ10_vectorizedHashCode 133 = .ok (.new 89, 3) := dk_187 0 89 (dk_at dksJ10_vectorizedHashCode_5 20 rfl rfl)
theorem dJ10_vectorizedHashCode_136 : decode cJ10_vectorizedHashCode 136 = .ok (.dup, 1) := dk_89 (dk_at dksJ10_vectorizedHashCode_5 23 rfl rfl)
theorem dJ10_vectorizedHashCode_137 : decode cJ10_vectorizedHashCode 137 = .ok (.invokespecial 91, 3) := dk_183 0 91 (dk_at dksJ10_vectorizedHashCode_6 0 rfl rfl)
theorem dJ10_vectorizedHashCode_140 : decode cJ10_vectorizedHashCode 140 = .ok (.ldc 92, 2) := dk_18 92 (dk_at dksJ10_vectorizedHashCode_6 3 rfl rfl)
theorem dJ10_vectorizedHashCode_142 : decode cJ10_vectorizedHashCode 142 = .ok (.invokevirtual 94, 3) := dk_182 0 94 (dk_at dksJ10_vectorizedHashCode_6 5 rfl rfl)
theorem dJ10_vectorizedHashCode_145 : decode cJ10_vectorizedHashCode 145 = .ok (.iload 4, 2) := dk_21 4 (dk_at dksJ10_vectorizedHashCode_6 8 rfl rfl)
theorem dJ10_vectorizedHashCode_147 : decode cJ10_vectorizedHashCode 147 = .ok (.invokevirtual 98, 3) := dk_182 0 98 (dk_at dksJ10_vectorizedHashCode_6 10 rfl rfl)
theorem dJ10_vectorizedHashCode_150 : decode cJ10_vectorizedHashCode 150 = .ok (.invokevirtual 101, 3) := dk_182 0 101 (dk_at dksJ10_vectorizedHashCode_6 13 rfl rfl)
theorem dJ10_vectorizedHashCode_153 : decode cJ10_vectorizedHashCode 153 = .ok (.invokespecial 105, 3) := dk_183 0 105 (dk_at dksJ10_vectorizedHashCode_6 16 rfl rfl)
theorem dJ10_vectorizedHashCode_156 : decode cJ10_vectorizedHashCode 156 = .ok (.athrow, 1) := dk_191 (dk_at dksJ10_vectorizedHashCode_6 19 rfl rfl)
theorem dJ10_vectorizedHashCode_157 : decode cJ10_vectorizedHashCode 157 = .ok (.ireturn, 1) := dk_172 (dk_at dksJ10_vectorizedHashCode_6 20 rfl rfl)
abbrev cJ10_signedHashCode : ByteArray := prog_70_method_5_code
def yJ10_signedHashCode : MethodName := ⟨RJ10, "signedHashCode", "(I[BII)I"⟩
def dkwJ10_signedHashCode_1 : List UInt8 := [17, 0, 255, 126, 96, 59, 132, 5, 1, 167, 255, 232, 26, 172]
abbrev dktJ10_signedHashCode_1 : List UInt8 := dkwJ10_signedHashCode_1 ++ []
def dkwJ10_signedHashCode_0 : List UInt8 := [28, 29, 96, 54, 4, 28, 54, 5, 21, 5, 21, 4, 162, 0, 23, 16, 31, 26, 104, 43, 21, 5, 51]
abbrev dktJ10_signedHashCode_0 : List UInt8 := dkwJ10_signedHashCode_0 ++ dktJ10_signedHashCode_1
theorem dksJ10_signedHashCode_0 : cJ10_signedHashCode.data.toList.drop 0 = dktJ10_signedHashCode_0 := by decide +kernel
theorem dksJ10_signedHashCode_1 : cJ10_signedHashCode.data.toList.drop 23 = dktJ10_signedHashCode_1 := dk_seg dksJ10_signedHashCode_0 23 rfl rfl
theorem dJ10_signedHashCode_0 : decode cJ10_signedHashCode 0 = .ok (.iload_n 2, 1) := dk_28 (dk_at dksJ10_signedHashCode_0 0 rfl rfl)
theorem dJ10_signedHashCode_1 : decode cJ10_signedHashCode 1 = .ok (.iload_n 3, 1) := dk_29 (dk_at dksJ10_signedHashCode_0 1 rfl rfl)
theorem dJ10_signedHashCode_2 : decode cJ10_signedHashCode 2 = .ok (.iadd, 1) := dk_96 (dk_at dksJ10_signedHashCode_0 2 rfl rfl)
theorem dJ10_signedHashCode_3 : decode cJ10_signedHashCode 3 = .ok (.istore 4, 2) := dk_54 4 (dk_at dksJ10_signedHashCode_0 3 rfl rfl)
theorem dJ10_signedHashCode_5 : decode cJ10_signedHashCode 5 = .ok (.iload_n 2, 1) := dk_28 (dk_at dksJ10_signedHashCode_0 5 rfl rfl)
theorem dJ10_signedHashCode_6 : decode cJ10_signedHashCode 6 = .ok (.istore 5, 2) := dk_54 5 (dk_at dksJ10_signedHashCode_0 6 rfl rfl)
theorem dJ10_signedHashCode_8 : decode cJ10_signedHashCode 8 = .ok (.iload 5, 2) := dk_21 5 (dk_at dksJ10_signedHashCode_0 8 rfl rfl)
theorem dJ10_signedHashCode_10 : decode cJ10_signedHashCode 10 = .ok (.iload 4, 2) := dk_21 4 (dk_at dksJ10_signedHashCode_0 10 rfl rfl)
theorem dJ10_signedHashCode_12 : decode cJ10_signedHashCode 12 = .ok (.if_icmp .ge 23, 3) := dk_162 0 23 (dk_at dksJ10_signedHashCode_0 12 rfl rfl)
theorem dJ10_signedHashCode_15 : decode cJ10_signedHashCode 15 = .ok (.bipush 31, 2) := dk_16 31 (dk_at dksJ10_signedHashCode_0 15 rfl rfl)
theorem dJ10_signedHashCode_17 : decode cJ10_signedHashCode 17 = .ok (.iload_n 0, 1) := dk_26 (dk_at dksJ10_signedHashCode_0 17 rfl rfl)
theorem dJ10_signedHashCode_18 : decode cJ10_signedHashCode 18 = .ok (.imul, 1) := dk_104 (dk_at dksJ10_signedHashCode_0 18 rfl rfl)
theorem dJ10_signedHashCode_19 : decode cJ10_signedHashCode 19 = .ok (.aload_n 1, 1) := dk_43 (dk_at dksJ10_signedHashCode_0 19 rfl rfl)
theorem dJ10_signedHashCode_20 : decode cJ10_signedHashCode 20 = .ok (.iload 5, 2) := dk_21 5 (dk_at dksJ10_signedHashCode_0 20 rfl rfl)
theorem dJ10_signedHashCode_22 : decode cJ10_signedHashCode 22 = .ok (.baload, 1) := dk_51 (dk_at dksJ10_signedHashCode_0 22 rfl rfl)
theorem dJ10_signedHashCode_23 : decode cJ10_signedHashCode 23 = .ok (.sipush 255, 3) := dk_17 0 255 (dk_at dksJ10_signedHashCode_1 0 rfl rfl)
theorem dJ10_signedHashCode_26 : decode cJ10_signedHashCode 26 = .ok (.iand, 1) := dk_126 (dk_at dksJ10_signedHashCode_1 3 rfl rfl)
theorem dJ10_signedHashCode_27 : decode cJ10_signedHashCode 27 = .ok (.iadd, 1) := dk_96 (dk_at dksJ10_signedHashCode_1 4 rfl rfl)
theorem dJ10_signedHashCode_28 : decode cJ10_signedHashCode 28 = .ok (.istore_n 0, 1) := dk_59 (dk_at dksJ10_signedHashCode_1 5 rfl rfl)
theorem dJ10_signedHashCode_29 : decode cJ10_signedHashCode 29 = .ok (.iinc 5 1, 3) := dk_132 5 1 (dk_at dksJ10_signedHashCode_1 6 rfl rfl)
theorem dJ10_signedHashCode_32 : decode cJ10_signedHashCode 32 = .ok (.goto (-24), 3) := dk_167 255 232 (dk_at dksJ10_signedHashCode_1 9 rfl rfl)
theorem dJ10_signedHashCode_35 : decode cJ10_signedHashCode 35 = .ok (.iload_n 0, 1) := dk_26 (dk_at dksJ10_signedHashCode_1 12 rfl rfl)
theorem dJ10_signedHashCode_36 : decode cJ10_signedHashCode 36 = .ok (.ireturn, 1) := dk_172 (dk_at dksJ10_signedHashCode_1 13 rfl rfl)
abbrev cJ10_utf16hashCode : ByteArray := prog_70_method_10_code
def yJ10_utf16hashCode : MethodName := ⟨RJ10, "utf16hashCode", "(I[BII)I"⟩
def dkwJ10_utf16hashCode_1 : List UInt8 := [21, 5, 185, 0, 110, 3, 0, 96, 59, 132, 5, 1, 167, 255, 229, 26, 172]
abbrev dktJ10_utf16hashCode_1 : List UInt8 := dkwJ10_utf16hashCode_1 ++ []
def dkwJ10_utf16hashCode_0 : List UInt8 := [28, 29, 96, 54, 4, 28, 54, 5, 21, 5, 21, 4, 162, 0, 26, 16, 31, 26, 104, 178, 0, 106, 43]
abbrev dktJ10_utf16hashCode_0 : List UInt8 := dkwJ10_utf16hashCode_0 ++ dktJ10_utf16hashCode_1
theorem dksJ10_utf16hashCode_0 : cJ10_utf16hashCode.data.toList.drop 0 = dktJ10_utf16hashCode_0 := by decide +kernel
theorem dksJ10_utf16hashCode_1 : cJ10_utf16hashCode.data.toList.drop 23 = dktJ10_utf16hashCode_1 := dk_seg dksJ10_utf16hashCode_0 23 rfl rfl
theorem dJ10_utf16hashCode_0 : decode cJ10_utf16hashCode 0 = .ok (.iload_n 2, 1) := dk_28 (dk_at dksJ10_utf16hashCode_0 0 rfl rfl)
theorem dJ10_utf16hashCode_1 : decode cJ10_utf16hashCode 1 = .ok (.iload_n 3, 1) := dk_29 (dk_at dksJ10_utf16hashCode_0 1 rfl rfl)
theorem dJ10_utf16hashCode_2 : decode cJ10_utf16hashCode 2 = .ok (.iadd, 1) := dk_96 (dk_at dksJ10_utf16hashCode_0 2 rfl rfl)
theorem dJ10_utf16hashCode_3 : decode cJ10_utf16hashCode 3 = .ok (.istore 4, 2) := dk_54 4 (dk_at dksJ10_utf16hashCode_0 3 rfl rfl)
theorem dJ10_utf16hashCode_5 : decode cJ10_utf16hashCode 5 = .ok (.iload_n 2, 1) := dk_28 (dk_at dksJ10_utf16hashCode_0 5 rfl rfl)
theorem dJ10_utf16hashCode_6 : decode cJ10_utf16hashCode 6 = .ok (.istore 5, 2) := dk_54 5 (dk_at dksJ10_utf16hashCode_0 6 rfl rfl)
theorem dJ10_utf16hashCode_8 : decode cJ10_utf16hashCode 8 = .ok (.iload 5, 2) := dk_21 5 (dk_at dksJ10_utf16hashCode_0 8 rfl rfl)
theorem dJ10_utf16hashCode_10 : decode cJ10_utf16hashCode 10 = .ok (.iload 4, 2) := dk_21 4 (dk_at dksJ10_utf16hashCode_0 10 rfl rfl)
theorem dJ10_utf16hashCode_12 : decode cJ10_utf16hashCode 12 = .ok (.if_icmp .ge 26, 3) := dk_162 0 26 (dk_at dksJ10_utf16hashCode_0 12 rfl rfl)
theorem dJ10_utf16hashCode_15 : decode cJ10_utf16hashCode 15 = .ok (.bipush 31, 2) := dk_16 31 (dk_at dksJ10_utf16hashCode_0 15 rfl rfl)
theorem dJ10_utf16hashCode_17 : decode cJ10_utf16hashCode 17 = .ok (.iload_n 0, 1) := dk_26 (dk_at dksJ10_utf16hashCode_0 17 rfl rfl)
theorem dJ10_utf16hashCode_18 : decode cJ10_utf16hashCode 18 = .ok (.imul, 1) := dk_104 (dk_at dksJ10_utf16hashCode_0 18 rfl rfl)
theorem dJ10_utf16hashCode_19 : decode cJ10_utf16hashCode 19 = .ok (.getstatic 106, 3) := dk_178 0 106 (dk_at dksJ10_utf16hashCode_0 19 rfl rfl)
theorem dJ10_utf16hashCode_22 : decode cJ10_utf16hashCode 22 = .ok (.aload_n 1, 1) := dk_43 (dk_at dksJ10_utf16hashCode_0 22 rfl rfl)
theorem dJ10_utf16hashCode_23 : decode cJ10_utf16hashCode 23 = .ok (.iload 5, 2) := dk_21 5 (dk_at dksJ10_utf16hashCode_1 0 rfl rfl)
theorem dJ10_utf16hashCode_25 : decode cJ10_utf16hashCode 25 = .ok (.invokeinterface 110 3, 5) := by decide +kernel
theorem dJ10_utf16hashCode_30 : decode cJ10_utf16hashCode 30 = .ok (.iadd, 1) := dk_96 (dk_at dksJ10_utf16hashCode_1 7 rfl rfl)
theorem dJ10_utf16hashCode_31 : decode cJ10_utf16hashCode 31 = .ok (.istore_n 0, 1) := dk_59 (dk_at dksJ10_utf16hashCode_1 8 rfl rfl)
theorem dJ10_utf16hashCode_32 : decode cJ10_utf16hashCode 32 = .ok (.iinc 5 1, 3) := dk_132 5 1 (dk_at dksJ10_utf16hashCode_1 9 rfl rfl)
theorem dJ10_utf16hashCode_35 : decode cJ10_utf16hashCode 35 = .ok (.goto (-27), 3) := dk_167 255 229 (dk_at dksJ10_utf16hashCode_1 12 rfl rfl)
theorem dJ10_utf16hashCode_38 : decode cJ10_utf16hashCode 38 = .ok (.iload_n 0, 1) := dk_26 (dk_at dksJ10_utf16hashCode_1 15 rfl rfl)
theorem dJ10_utf16hashCode_39 : decode cJ10_utf16hashCode 39 = .ok (.ireturn, 1) := dk_172 (dk_at dksJ10_utf16hashCode_1 16 rfl rfl)
abbrev cJ10_hashCode : ByteArray := prog_70_method_7_code
def yJ10_hashCode : MethodName := ⟨RJ10, "hashCode", "(I[CII)I"⟩
def dkwJ10_hashCode_1 : List UInt8 := [59, 132, 5, 1, 167, 255, 236, 26, 172]
abbrev dktJ10_hashCode_1 : List UInt8 := dkwJ10_hashCode_1 ++ []
def dkwJ10_hashCode_0 : List UInt8 := [28, 29, 96, 54, 4, 28, 54, 5, 21, 5, 21, 4, 162, 0, 19, 16, 31, 26, 104, 43, 21, 5, 52, 96]
abbrev dktJ10_hashCode_0 : List UInt8 := dkwJ10_hashCode_0 ++ dktJ10_hashCode_1
theorem dksJ10_hashCode_0 : cJ10_hashCode.data.toList.drop 0 = dktJ10_hashCode_0 := by decide +kernel
theorem dksJ10_hashCode_1 : cJ10_hashCode.data.toList.drop 24 = dktJ10_hashCode_1 := dk_seg dksJ10_hashCode_0 24 rfl rfl
theorem dJ10_hashCode_0 : decode cJ10_hashCode 0 = .ok (.iload_n 2, 1) := dk_28 (dk_at dksJ10_hashCode_0 0 rfl rfl)
theorem dJ10_hashCode_1 : decode cJ10_hashCode 1 = .ok (.iload_n 3, 1) := dk_29 (dk_at dksJ10_hashCode_0 1 rfl rfl)
theorem dJ10_hashCode_2 : decode cJ10_hashCode 2 = .ok (.iadd, 1) := dk_96 (dk_at dksJ10_hashCode_0 2 rfl rfl)
theorem dJ10_hashCode_3 : decode cJ10_hashCode 3 = .ok (.istore 4, 2) := dk_54 4 (dk_at dksJ10_hashCode_0 3 rfl rfl)
theorem dJ10_hashCode_5 : decode cJ10_hashCode 5 = .ok (.iload_n 2, 1) := dk_28 (dk_at dksJ10_hashCode_0 5 rfl rfl)
theorem dJ10_hashCode_6 : decode cJ10_hashCode 6 = .ok (.istore 5, 2) := dk_54 5 (dk_at dksJ10_hashCode_0 6 rfl rfl)
theorem dJ10_hashCode_8 : decode cJ10_hashCode 8 = .ok (.iload 5, 2) := dk_21 5 (dk_at dksJ10_hashCode_0 8 rfl rfl)
theorem dJ10_hashCode_10 : decode cJ10_hashCode 10 = .ok (.iload 4, 2) := dk_21 4 (dk_at dksJ10_hashCode_0 10 rfl rfl)
theorem dJ10_hashCode_12 : decode cJ10_hashCode 12 = .ok (.if_icmp .ge 19, 3) := dk_162 0 19 (dk_at dksJ10_hashCode_0 12 rfl rfl)
theorem dJ10_hashCode_15 : decode cJ10_hashCode 15 = .ok (.bipush 31, 2) := dk_16 31 (dk_at dksJ10_hashCode_0 15 rfl rfl)
theorem dJ10_hashCode_17 : decode cJ10_hashCode 17 = .ok (.iload_n 0, 1) := dk_26 (dk_at dksJ10_hashCode_0 17 rfl rfl)
theorem dJ10_hashCode_18 : decode cJ10_hashCode 18 = .ok (.imul, 1) := dk_104 (dk_at dksJ10_hashCode_0 18 rfl rfl)
theorem dJ10_hashCode_19 : decode cJ10_hashCode 19 = .ok (.aload_n 1, 1) := dk_43 (dk_at dksJ10_hashCode_0 19 rfl rfl)
theorem dJ10_hashCode_20 : decode cJ10_hashCode 20 = .ok (.iload 5, 2) := dk_21 5 (dk_at dksJ10_hashCode_0 20 rfl rfl)
theorem dJ10_hashCode_22 : decode cJ10_hashCode 22 = .ok (.caload, 1) := dk_52 (dk_at dksJ10_hashCode_0 22 rfl rfl)
theorem dJ10_hashCode_23 : decode cJ10_hashCode 23 = .ok (.iadd, 1) := dk_96 (dk_at dksJ10_hashCode_0 23 rfl rfl)
theorem dJ10_hashCode_24 : decode cJ10_hashCode 24 = .ok (.istore_n 0, 1) := dk_59 (dk_at dksJ10_hashCode_1 0 rfl rfl)
theorem dJ10_hashCode_25 : decode cJ10_hashCode 25 = .ok (.iinc 5 1, 3) := dk_132 5 1 (dk_at dksJ10_hashCode_1 1 rfl rfl)
theorem dJ10_hashCode_28 : decode cJ10_hashCode 28 = .ok (.goto (-20), 3) := dk_167 255 236 (dk_at dksJ10_hashCode_1 4 rfl rfl)
theorem dJ10_hashCode_31 : decode cJ10_hashCode 31 = .ok (.iload_n 0, 1) := dk_26 (dk_at dksJ10_hashCode_1 7 rfl rfl)
theorem dJ10_hashCode_32 : decode cJ10_hashCode 32 = .ok (.ireturn, 1) := dk_172 (dk_at dksJ10_hashCode_1 8 rfl rfl)
abbrev cJ10_hashCode_2 : ByteArray := prog_70_method_6_code
def yJ10_hashCode_2 : MethodName := ⟨RJ10, "hashCode", "(I[BII)I"⟩
def dkwJ10_hashCode_2_1 : List UInt8 := [59, 132, 5, 1, 167, 255, 236, 26, 172]
abbrev dktJ10_hashCode_2_1 : List UInt8 := dkwJ10_hashCode_2_1 ++ []
def dkwJ10_hashCode_2_0 : List UInt8 := [28, 29, 96, 54, 4, 28, 54, 5, 21, 5, 21, 4, 162, 0, 19, 16, 31, 26, 104, 43, 21, 5, 51, 96]
abbrev dktJ10_hashCode_2_0 : List UInt8 := dkwJ10_hashCode_2_0 ++ dktJ10_hashCode_2_1
theorem dksJ10_hashCode_2_0 : cJ10_hashCode_2.data.toList.drop 0 = dktJ10_hashCode_2_0 := by decide +kernel
theorem dksJ10_hashCode_2_1 : cJ10_hashCode_2.data.toList.drop 24 = dktJ10_hashCode_2_1 := dk_seg dksJ10_hashCode_2_0 24 rfl rfl
theorem dJ10_hashCode_2_0 : decode cJ10_hashCode_2 0 = .ok (.iload_n 2, 1) := dk_28 (dk_at dksJ10_hashCode_2_0 0 rfl rfl)
theorem dJ10_hashCode_2_1 : decode cJ10_hashCode_2 1 = .ok (.iload_n 3, 1) := dk_29 (dk_at dksJ10_hashCode_2_0 1 rfl rfl)
theorem dJ10_hashCode_2_2 : decode cJ10_hashCode_2 2 = .ok (.iadd, 1) := dk_96 (dk_at dksJ10_hashCode_2_0 2 rfl rfl)
theorem dJ10_hashCode_2_3 : decode cJ10_hashCode_2 3 = .ok (.istore 4, 2) := dk_54 4 (dk_at dksJ10_hashCode_2_0 3 rfl rfl)
theorem dJ10_hashCode_2_5 : decode cJ10_hashCode_2 5 = .ok (.iload_n 2, 1) := dk_28 (dk_at dksJ10_hashCode_2_0 5 rfl rfl)
theorem dJ10_hashCode_2_6 : decode cJ10_hashCode_2 6 = .ok (.istore 5, 2) := dk_54 5 (dk_at dksJ10_hashCode_2_0 6 rfl rfl)
theorem dJ10_hashCode_2_8 : decode cJ10_hashCode_2 8 = .ok (.iload 5, 2) := dk_21 5 (dk_at dksJ10_hashCode_2_0 8 rfl rfl)
theorem dJ10_hashCode_2_10 : decode cJ10_hashCode_2 10 = .ok (.iload 4, 2) := dk_21 4 (dk_at dksJ10_hashCode_2_0 10 rfl rfl)
theorem dJ10_hashCode_2_12 : decode cJ10_hashCode_2 12 = .ok (.if_icmp .ge 19, 3) := dk_162 0 19 (dk_at dksJ10_hashCode_2_0 12 rfl rfl)
theorem dJ10_hashCode_2_15 : decode cJ10_hashCode_2 15 = .ok (.bipush 31, 2) := dk_16 31 (dk_at dksJ10_hashCode_2_0 15 rfl rfl)
theorem dJ10_hashCode_2_17 : decode cJ10_hashCode_2 17 = .ok (.iload_n 0, 1) := dk_26 (dk_at dksJ10_hashCode_2_0 17 rfl rfl)
theorem dJ10_hashCode_2_18 : decode cJ10_hashCode_2 18 = .ok (.imul, 1) := dk_104 (dk_at dksJ10_hashCode_2_0 18 rfl rfl)
theorem dJ10_hashCode_2_19 : decode cJ10_hashCode_2 19 = .ok (.aload_n 1, 1) := dk_43 (dk_at dksJ10_hashCode_2_0 19 rfl rfl)
theorem dJ10_hashCode_2_20 : decode cJ10_hashCode_2 20 = .ok (.iload 5, 2) := dk_21 5 (dk_at dksJ10_hashCode_2_0 20 rfl rfl)
theorem dJ10_hashCode_2_22 : decode cJ10_hashCode_2 22 = .ok (.baload, 1) := dk_51 (dk_at dksJ10_hashCode_2_0 22 rfl rfl)
theorem dJ10_hashCode_2_23 : decode cJ10_hashCode_2 23 = .ok (.iadd, 1) := dk_96 (dk_at dksJ10_hashCode_2_0 23 rfl rfl)
theorem dJ10_hashCode_2_24 : decode cJ10_hashCode_2 24 = .ok (.istore_n 0, 1) := dk_59 (dk_at dksJ10_hashCode_2_1 0 rfl rfl)
theorem dJ10_hashCode_2_25 : decode cJ10_hashCode_2 25 = .ok (.iinc 5 1, 3) := dk_132 5 1 (dk_at dksJ10_hashCode_2_1 1 rfl rfl)
theorem dJ10_hashCode_2_28 : decode cJ10_hashCode_2 28 = .ok (.goto (-20), 3) := dk_167 255 236 (dk_at dksJ10_hashCode_2_1 4 rfl rfl)
theorem dJ10_hashCode_2_31 : decode cJ10_hashCode_2 31 = .ok (.iload_n 0, 1) := dk_26 (dk_at dksJ10_hashCode_2_1 7 rfl rfl)
theorem dJ10_hashCode_2_32 : decode cJ10_hashCode_2 32 = .ok (.ireturn, 1) := dk_172 (dk_at dksJ10_hashCode_2_1 8 rfl rfl)
abbrev cJ10_hashCode_3 : ByteArray := prog_70_method_8_code
def yJ10_hashCode_3 : MethodName := ⟨RJ10, "hashCode", "(I[SII)I"⟩
def dkwJ10_hashCode_3_1 : List UInt8 := [59, 132, 5, 1, 167, 255, 236, 26, 172]
abbrev dktJ10_hashCode_3_1 : List UInt8 := dkwJ10_hashCode_3_1 ++ []
def dkwJ10_hashCode_3_0 : List UInt8 := [28, 29, 96, 54, 4, 28, 54, 5, 21, 5, 21, 4, 162, 0, 19, 16, 31, 26, 104, 43, 21, 5, 53, 96]
abbrev dktJ10_hashCode_3_0 : List UInt8 := dkwJ10_hashCode_3_0 ++ dktJ10_hashCode_3_1
theorem dksJ10_hashCode_3_0 : cJ10_hashCode_3.data.toList.drop 0 = dktJ10_hashCode_3_0 := by decide +kernel
theorem dksJ10_hashCode_3_1 : cJ10_hashCode_3.data.toList.drop 24 = dktJ10_hashCode_3_1 := dk_seg dksJ10_hashCode_3_0 24 rfl rfl
theorem dJ10_hashCode_3_0 : decode cJ10_hashCode_3 0 = .ok (.iload_n 2, 1) := dk_28 (dk_at dksJ10_hashCode_3_0 0 rfl rfl)
theorem dJ10_hashCode_3_1 : decode cJ10_hashCode_3 1 = .ok (.iload_n 3, 1) := dk_29 (dk_at dksJ10_hashCode_3_0 1 rfl rfl)
theorem dJ10_hashCode_3_2 : decode cJ10_hashCode_3 2 = .ok (.iadd, 1) := dk_96 (dk_at dksJ10_hashCode_3_0 2 rfl rfl)
theorem dJ10_hashCode_3_3 : decode cJ10_hashCode_3 3 = .ok (.istore 4, 2) := dk_54 4 (dk_at dksJ10_hashCode_3_0 3 rfl rfl)
theorem dJ10_hashCode_3_5 : decode cJ10_hashCode_3 5 = .ok (.iload_n 2, 1) := dk_28 (dk_at dksJ10_hashCode_3_0 5 rfl rfl)
theorem dJ10_hashCode_3_6 : decode cJ10_hashCode_3 6 = .ok (.istore 5, 2) := dk_54 5 (dk_at dksJ10_hashCode_3_0 6 rfl rfl)
theorem dJ10_hashCode_3_8 : decode cJ10_hashCode_3 8 = .ok (.iload 5, 2) := dk_21 5 (dk_at dksJ10_hashCode_3_0 8 rfl rfl)
theorem dJ10_hashCode_3_10 : decode cJ10_hashCode_3 10 = .ok (.iload 4, 2) := dk_21 4 (dk_at dksJ10_hashCode_3_0 10 rfl rfl)
theorem dJ10_hashCode_3_12 : decode cJ10_hashCode_3 12 = .ok (.if_icmp .ge 19, 3) := dk_162 0 19 (dk_at dksJ10_hashCode_3_0 12 rfl rfl)
theorem dJ10_hashCode_3_15 : decode cJ10_hashCode_3 15 = .ok (.bipush 31, 2) := dk_16 31 (dk_at dksJ10_hashCode_3_0 15 rfl rfl)
theorem dJ10_hashCode_3_17 : decode cJ10_hashCode_3 17 = .ok (.iload_n 0, 1) := dk_26 (dk_at dksJ10_hashCode_3_0 17 rfl rfl)
theorem dJ10_hashCode_3_18 : decode cJ10_hashCode_3 18 = .ok (.imul, 1) := dk_104 (dk_at dksJ10_hashCode_3_0 18 rfl rfl)
theorem dJ10_hashCode_3_19 : decode cJ10_hashCode_3 19 = .ok (.aload_n 1, 1) := dk_43 (dk_at dksJ10_hashCode_3_0 19 rfl rfl)
theorem dJ10_hashCode_3_20 : decode cJ10_hashCode_3 20 = .ok (.iload 5, 2) := dk_21 5 (dk_at dksJ10_hashCode_3_0 20 rfl rfl)
theorem dJ10_hashCode_3_22 : decode cJ10_hashCode_3 22 = .ok (.saload, 1) := dk_53 (dk_at dksJ10_hashCode_3_0 22 rfl rfl)
theorem dJ10_hashCode_3_23 : decode cJ10_hashCode_3 23 = .ok (.iadd, 1) := dk_96 (dk_at dksJ10_hashCode_3_0 23 rfl rfl)
theorem dJ10_hashCode_3_24 : decode cJ10_hashCode_3 24 = .ok (.istore_n 0, 1) := dk_59 (dk_at dksJ10_hashCode_3_1 0 rfl rfl)
theorem dJ10_hashCode_3_25 : decode cJ10_hashCode_3 25 = .ok (.iinc 5 1, 3) := dk_132 5 1 (dk_at dksJ10_hashCode_3_1 1 rfl rfl)
theorem dJ10_hashCode_3_28 : decode cJ10_hashCode_3 28 = .ok (.goto (-20), 3) := dk_167 255 236 (dk_at dksJ10_hashCode_3_1 4 rfl rfl)
theorem dJ10_hashCode_3_31 : decode cJ10_hashCode_3 31 = .ok (.iload_n 0, 1) := dk_26 (dk_at dksJ10_hashCode_3_1 7 rfl rfl)
theorem dJ10_hashCode_3_32 : decode cJ10_hashCode_3 32 = .ok (.ireturn, 1) := dk_172 (dk_at dksJ10_hashCode_3_1 8 rfl rfl)
abbrev cJ10_hashCode_4 : ByteArray := prog_70_method_9_code
def yJ10_hashCode_4 : MethodName := ⟨RJ10, "hashCode", "(I[III)I"⟩
def dkwJ10_hashCode_4_1 : List UInt8 := [59, 132, 5, 1, 167, 255, 236, 26, 172]
abbrev dktJ10_hashCode_4_1 : List UInt8 := dkwJ10_hashCode_4_1 ++ []
def dkwJ10_hashCode_4_0 : List UInt8 := [28, 29, 96, 54, 4, 28, 54, 5, 21, 5, 21, 4, 162, 0, 19, 16, 31, 26, 104, 43, 21, 5, 46, 96]
abbrev dktJ10_hashCode_4_0 : List UInt8 := dkwJ10_hashCode_4_0 ++ dktJ10_hashCode_4_1
theorem dksJ10_hashCode_4_0 : cJ10_hashCode_4.data.toList.drop 0 = dktJ10_hashCode_4_0 := by decide +kernel
theorem dksJ10_hashCode_4_1 : cJ10_hashCode_4.data.toList.drop 24 = dktJ10_hashCode_4_1 := dk_seg dksJ10_hashCode_4_0 24 rfl rfl
theorem dJ10_hashCode_4_0 : decode cJ10_hashCode_4 0 = .ok (.iload_n 2, 1) := dk_28 (dk_at dksJ10_hashCode_4_0 0 rfl rfl)
theorem dJ10_hashCode_4_1 : decode cJ10_hashCode_4 1 = .ok (.iload_n 3, 1) := dk_29 (dk_at dksJ10_hashCode_4_0 1 rfl rfl)
theorem dJ10_hashCode_4_2 : decode cJ10_hashCode_4 2 = .ok (.iadd, 1) := dk_96 (dk_at dksJ10_hashCode_4_0 2 rfl rfl)
theorem dJ10_hashCode_4_3 : decode cJ10_hashCode_4 3 = .ok (.istore 4, 2) := dk_54 4 (dk_at dksJ10_hashCode_4_0 3 rfl rfl)
theorem dJ10_hashCode_4_5 : decode cJ10_hashCode_4 5 = .ok (.iload_n 2, 1) := dk_28 (dk_at dksJ10_hashCode_4_0 5 rfl rfl)
theorem dJ10_hashCode_4_6 : decode cJ10_hashCode_4 6 = .ok (.istore 5, 2) := dk_54 5 (dk_at dksJ10_hashCode_4_0 6 rfl rfl)
theorem dJ10_hashCode_4_8 : decode cJ10_hashCode_4 8 = .ok (.iload 5, 2) := dk_21 5 (dk_at dksJ10_hashCode_4_0 8 rfl rfl)
theorem dJ10_hashCode_4_10 : decode cJ10_hashCode_4 10 = .ok (.iload 4, 2) := dk_21 4 (dk_at dksJ10_hashCode_4_0 10 rfl rfl)
theorem dJ10_hashCode_4_12 : decode cJ10_hashCode_4 12 = .ok (.if_icmp .ge 19, 3) := dk_162 0 19 (dk_at dksJ10_hashCode_4_0 12 rfl rfl)
theorem dJ10_hashCode_4_15 : decode cJ10_hashCode_4 15 = .ok (.bipush 31, 2) := dk_16 31 (dk_at dksJ10_hashCode_4_0 15 rfl rfl)
theorem dJ10_hashCode_4_17 : decode cJ10_hashCode_4 17 = .ok (.iload_n 0, 1) := dk_26 (dk_at dksJ10_hashCode_4_0 17 rfl rfl)
theorem dJ10_hashCode_4_18 : decode cJ10_hashCode_4 18 = .ok (.imul, 1) := dk_104 (dk_at dksJ10_hashCode_4_0 18 rfl rfl)
theorem dJ10_hashCode_4_19 : decode cJ10_hashCode_4 19 = .ok (.aload_n 1, 1) := dk_43 (dk_at dksJ10_hashCode_4_0 19 rfl rfl)
theorem dJ10_hashCode_4_20 : decode cJ10_hashCode_4 20 = .ok (.iload 5, 2) := dk_21 5 (dk_at dksJ10_hashCode_4_0 20 rfl rfl)
theorem dJ10_hashCode_4_22 : decode cJ10_hashCode_4 22 = .ok (.iaload, 1) := dk_46 (dk_at dksJ10_hashCode_4_0 22 rfl rfl)
theorem dJ10_hashCode_4_23 : decode cJ10_hashCode_4 23 = .ok (.iadd, 1) := dk_96 (dk_at dksJ10_hashCode_4_0 23 rfl rfl)
theorem dJ10_hashCode_4_24 : decode cJ10_hashCode_4 24 = .ok (.istore_n 0, 1) := dk_59 (dk_at dksJ10_hashCode_4_1 0 rfl rfl)
theorem dJ10_hashCode_4_25 : decode cJ10_hashCode_4 25 = .ok (.iinc 5 1, 3) := dk_132 5 1 (dk_at dksJ10_hashCode_4_1 1 rfl rfl)
theorem dJ10_hashCode_4_28 : decode cJ10_hashCode_4 28 = .ok (.goto (-20), 3) := dk_167 255 236 (dk_at dksJ10_hashCode_4_1 4 rfl rfl)
theorem dJ10_hashCode_4_31 : decode cJ10_hashCode_4 31 = .ok (.iload_n 0, 1) := dk_26 (dk_at dksJ10_hashCode_4_1 7 rfl rfl)
theorem dJ10_hashCode_4_32 : decode cJ10_hashCode_4 32 = .ok (.ireturn, 1) := dk_172 (dk_at dksJ10_hashCode_4_1 8 rfl rfl)
abbrev cJ10_mismatch : ByteArray := prog_70_method_13_code
def yJ10_mismatch : MethodName := ⟨RJ10, "mismatch", "([B[BI)I"⟩
def dkwJ10_mismatch_3 : List UInt8 := [172]
abbrev dktJ10_mismatch_3 : List UInt8 := dkwJ10_mismatch_3 ++ []
def dkwJ10_mismatch_2 : List UInt8 := [62, 29, 28, 162, 0, 20, 42, 29, 51, 43, 29, 51, 159, 0, 5, 29, 172, 132, 3, 1, 167, 255, 237, 2]
abbrev dktJ10_mismatch_2 : List UInt8 := dkwJ10_mismatch_2 ++ dktJ10_mismatch_3
def dkwJ10_mismatch_1 : List UInt8 := [43, 178, 0, 126, 133, 28, 178, 0, 129, 184, 0, 122, 62, 29, 155, 0, 5, 29, 172, 28, 29, 2, 130, 100]
abbrev dktJ10_mismatch_1 : List UInt8 := dkwJ10_mismatch_1 ++ dktJ10_mismatch_2
def dkwJ10_mismatch_0 : List UInt8 := [3, 62, 28, 16, 7, 164, 0, 44, 42, 3, 51, 43, 3, 51, 159, 0, 5, 3, 172, 42, 178, 0, 126, 133]
abbrev dktJ10_mismatch_0 : List UInt8 := dkwJ10_mismatch_0 ++ dktJ10_mismatch_1
theorem dksJ10_mismatch_0 : cJ10_mismatch.data.toList.drop 0 = dktJ10_mismatch_0 := by decide +kernel
theorem dksJ10_mismatch_1 : cJ10_mismatch.data.toList.drop 24 = dktJ10_mismatch_1 := dk_seg dksJ10_mismatch_0 24 rfl rfl
theorem dksJ10_mismatch_2 : cJ10_mismatch.data.toList.drop 48 = dktJ10_mismatch_2 := dk_seg dksJ10_mismatch_1 24 rfl rfl
theorem dksJ10_mismatch_3 : cJ10_mismatch.data.toList.drop 72 = dktJ10_mismatch_3 := dk_seg dksJ10_mismatch_2 24 rfl rfl
theorem dJ10_mismatch_0 : decode cJ10_mismatch 0 = .ok (.iconst 0, 1) := dk_3 (dk_at dksJ10_mismatch_0 0 rfl rfl)
theorem dJ10_mismatch_1 : decode cJ10_mismatch 1 = .ok (.istore_n 3, 1) := dk_62 (dk_at dksJ10_mismatch_0 1 rfl rfl)
theorem dJ10_mismatch_2 : decode cJ10_mismatch 2 = .ok (.iload_n 2, 1) := dk_28 (dk_at dksJ10_mismatch_0 2 rfl rfl)
theorem dJ10_mismatch_3 : decode cJ10_mismatch 3 = .ok (.bipush 7, 2) := dk_16 7 (dk_at dksJ10_mismatch_0 3 rfl rfl)
theorem dJ10_mismatch_5 : decode cJ10_mismatch 5 = .ok (.if_icmp .le 44, 3) := dk_164 0 44 (dk_at dksJ10_mismatch_0 5 rfl rfl)
theorem dJ10_mismatch_8 : decode cJ10_mismatch 8 = .ok (.aload_n 0, 1) := dk_42 (dk_at dksJ10_mismatch_0 8 rfl rfl)
theorem dJ10_mismatch_9 : decode cJ10_mismatch 9 = .ok (.iconst 0, 1) := dk_3 (dk_at dksJ10_mismatch_0 9 rfl rfl)
theorem dJ10_mismatch_10 : decode cJ10_mismatch 10 = .ok (.baload, 1) := dk_51 (dk_at dksJ10_mismatch_0 10 rfl rfl)
theorem dJ10_mismatch_11 : decode cJ10_mismatch 11 = .ok (.aload_n 1, 1) := dk_43 (dk_at dksJ10_mismatch_0 11 rfl rfl)
theorem dJ10_mismatch_12 : decode cJ10_mismatch 12 = .ok (.iconst 0, 1) := dk_3 (dk_at dksJ10_mismatch_0 12 rfl rfl)
theorem dJ10_mismatch_13 : decode cJ10_mismatch 13 = .ok (.baload, 1) := dk_51 (dk_at dksJ10_mismatch_0 13 rfl rfl)
theorem dJ10_mismatch_14 : decode cJ10_mismatch 14 = .ok (.if_icmp .eq 5, 3) := dk_159 0 5 (dk_at dksJ10_mismatch_0 14 rfl rfl)
theorem dJ10_mismatch_17 : decode cJ10_mismatch 17 = .ok (.iconst 0, 1) := dk_3 (dk_at dksJ10_mismatch_0 17 rfl rfl)
theorem dJ10_mismatch_18 : decode cJ10_mismatch 18 = .ok (.ireturn, 1) := dk_172 (dk_at dksJ10_mismatch_0 18 rfl rfl)
theorem dJ10_mismatch_19 : decode cJ10_mismatch 19 = .ok (.aload_n 0, 1) := dk_42 (dk_at dksJ10_mismatch_0 19 rfl rfl)
theorem dJ10_mismatch_20 : decode cJ10_mismatch 20 = .ok (.getstatic 126, 3) := dk_178 0 126 (dk_at dksJ10_mismatch_0 20 rfl rfl)
theorem dJ10_mismatch_23 : decode cJ10_mismatch 23 = .ok (.i2l, 1) := dk_133 (dk_at dksJ10_mismatch_0 23 rfl rfl)
theorem dJ10_mismatch_24 : decode cJ10_mismatch 24 = .ok (.aload_n 1, 1) := dk_43 (dk_at dksJ10_mismatch_1 0 rfl rfl)
theorem dJ10_mismatch_25 : decode cJ10_mismatch 25 = .ok (.getstatic 126, 3) := dk_178 0 126 (dk_at dksJ10_mismatch_1 1 rfl rfl)
theorem dJ10_mismatch_28 : decode cJ10_mismatch 28 = .ok (.i2l, 1) := dk_133 (dk_at dksJ10_mismatch_1 4 rfl rfl)
theorem dJ10_mismatch_29 : decode cJ10_mismatch 29 = .ok (.iload_n 2, 1) := dk_28 (dk_at dksJ10_mismatch_1 5 rfl rfl)
theorem dJ10_mismatch_30 : decode cJ10_mismatch 30 = .ok (.getstatic 129, 3) := dk_178 0 129 (dk_at dksJ10_mismatch_1 6 rfl rfl)
theorem dJ10_mismatch_33 : decode cJ10_mismatch 33 = .ok (.invokestatic 122, 3) := dk_184 0 122 (dk_at dksJ10_mismatch_1 9 rfl rfl)
theorem dJ10_mismatch_36 : decode cJ10_mismatch 36 = .ok (.istore_n 3, 1) := dk_62 (dk_at dksJ10_mismatch_1 12 rfl rfl)
theorem dJ10_mismatch_37 : decode cJ10_mismatch 37 = .ok (.iload_n 3, 1) := dk_29 (dk_at dksJ10_mismatch_1 13 rfl rfl)
theorem dJ10_mismatch_38 : decode cJ10_mismatch 38 = .ok (.ifCond .lt 5, 3) := dk_155 0 5 (dk_at dksJ10_mismatch_1 14 rfl rfl)
theorem dJ10_mismatch_41 : decode cJ10_mismatch 41 = .ok (.iload_n 3, 1) := dk_29 (dk_at dksJ10_mismatch_1 17 rfl rfl)
theorem dJ10_mismatch_42 : decode cJ10_mismatch 42 = .ok (.ireturn, 1) := dk_172 (dk_at dksJ10_mismatch_1 18 rfl rfl)
theorem dJ10_mismatch_43 : decode cJ10_mismatch 43 = .ok (.iload_n 2, 1) := dk_28 (dk_at dksJ10_mismatch_1 19 rfl rfl)
theorem dJ10_mismatch_44 : decode cJ10_mismatch 44 = .ok (.iload_n 3, 1) := dk_29 (dk_at dksJ10_mismatch_1 20 rfl rfl)
theorem dJ10_mismatch_45 : decode cJ10_mismatch 45 = .ok (.iconst (-1), 1) := dk_2 (dk_at dksJ10_mismatch_1 21 rfl rfl)
theorem dJ10_mismatch_46 : decode cJ10_mismatch 46 = .ok (.ixor, 1) := dk_130 (dk_at dksJ10_mismatch_1 22 rfl rfl)
theorem dJ10_mismatch_47 : decode cJ10_mismatch 47 = .ok (.isub, 1) := dk_100 (dk_at dksJ10_mismatch_1 23 rfl rfl)
theorem dJ10_mismatch_48 : decode cJ10_mismatch 48 = .ok (.istore_n 3, 1) := dk_62 (dk_at dksJ10_mismatch_2 0 rfl rfl)
theorem dJ10_mismatch_49 : decode cJ10_mismatch 49 = .ok (.iload_n 3, 1) := dk_29 (dk_at dksJ10_mismatch_2 1 rfl rfl)
theorem dJ10_mismatch_50 : decode cJ10_mismatch 50 = .ok (.iload_n 2, 1) := dk_28 (dk_at dksJ10_mismatch_2 2 rfl rfl)
theorem dJ10_mismatch_51 : decode cJ10_mismatch 51 = .ok (.if_icmp .ge 20, 3) := dk_162 0 20 (dk_at dksJ10_mismatch_2 3 rfl rfl)
theorem dJ10_mismatch_54 : decode cJ10_mismatch 54 = .ok (.aload_n 0, 1) := dk_42 (dk_at dksJ10_mismatch_2 6 rfl rfl)
theorem dJ10_mismatch_55 : decode cJ10_mismatch 55 = .ok (.iload_n 3, 1) := dk_29 (dk_at dksJ10_mismatch_2 7 rfl rfl)
theorem dJ10_mismatch_56 : decode cJ10_mismatch 56 = .ok (.baload, 1) := dk_51 (dk_at dksJ10_mismatch_2 8 rfl rfl)
theorem dJ10_mismatch_57 : decode cJ10_mismatch 57 = .ok (.aload_n 1, 1) := dk_43 (dk_at dksJ10_mismatch_2 9 rfl rfl)
theorem dJ10_mismatch_58 : decode cJ10_mismatch 58 = .ok (.iload_n 3, 1) := dk_29 (dk_at dksJ10_mismatch_2 10 rfl rfl)
theorem dJ10_mismatch_59 : decode cJ10_mismatch 59 = .ok (.baload, 1) := dk_51 (dk_at dksJ10_mismatch_2 11 rfl rfl)
theorem dJ10_mismatch_60 : decode cJ10_mismatch 60 = .ok (.if_icmp .eq 5, 3) := dk_159 0 5 (dk_at dksJ10_mismatch_2 12 rfl rfl)
theorem dJ10_mismatch_63 : decode cJ10_mismatch 63 = .ok (.iload_n 3, 1) := dk_29 (dk_at dksJ10_mismatch_2 15 rfl rfl)
theorem dJ10_mismatch_64 : decode cJ10_mismatch 64 = .ok (.ireturn, 1) := dk_172 (dk_at dksJ10_mismatch_2 16 rfl rfl)
theorem dJ10_mismatch_65 : decode cJ10_mismatch 65 = .ok (.iinc 3 1, 3) := dk_132 3 1 (dk_at dksJ10_mismatch_2 17 rfl rfl)
theorem dJ10_mismatch_68 : decode cJ10_mismatch 68 = .ok (.goto (-19), 3) := dk_167 255 237 (dk_at dksJ10_mismatch_2 20 rfl rfl)
theorem dJ10_mismatch_71 : decode cJ10_mismatch 71 = .ok (.iconst (-1), 1) := dk_2 (dk_at dksJ10_mismatch_2 23 rfl rfl)
theorem dJ10_mismatch_72 : decode cJ10_mismatch 72 = .ok (.ireturn, 1) := dk_172 (dk_at dksJ10_mismatch_3 0 rfl rfl)
abbrev cJ10_vectorizedMismatch : ByteArray := prog_70_method_3_code
def yJ10_vectorizedMismatch : MethodName := ⟨RJ10, "vectorizedMismatch", "(Ljava/lang/Object;JLjava/lang/Object;JII)I"⟩
def dkwJ10_vectorizedMismatch_11 : List UInt8 := [54, 10, 21, 10, 2, 130, 172, 21, 10, 2, 130, 172]
abbrev dktJ10_vectorizedMismatch_11 : List UInt8 := dkwJ10_vectorizedMismatch_11 ++ []
def dkwJ10_vectorizedMismatch_10 : List UInt8 := [178, 0, 46, 21, 7, 96, 122, 54, 17, 21, 9, 21, 8, 120, 21, 17, 96, 172, 21, 10, 21, 11, 100]
abbrev dktJ10_vectorizedMismatch_10 : List UInt8 := dkwJ10_vectorizedMismatch_10 ++ dktJ10_vectorizedMismatch_11
def dkwJ10_vectorizedMismatch_9 : List UInt8 := [153, 0, 18, 21, 16, 184, 0, 58, 178, 0, 46, 21, 7, 96, 122, 167, 0, 15, 21, 16, 184, 0, 11]
abbrev dktJ10_vectorizedMismatch_9 : List UInt8 := dkwJ10_vectorizedMismatch_9 ++ dktJ10_vectorizedMismatch_10
def dkwJ10_vectorizedMismatch_8 : List UInt8 := [182, 0, 54, 54, 15, 21, 14, 21, 15, 159, 0, 54, 21, 14, 21, 15, 130, 54, 16, 178, 0, 36]
abbrev dktJ10_vectorizedMismatch_8 : List UInt8 := dkwJ10_vectorizedMismatch_8 ++ dktJ10_vectorizedMismatch_9
def dkwJ10_vectorizedMismatch_7 : List UInt8 := [55, 12, 178, 0, 26, 42, 31, 22, 12, 97, 182, 0, 54, 54, 14, 178, 0, 26, 45, 22, 4, 22, 12, 97]
abbrev dktJ10_vectorizedMismatch_7 : List UInt8 := dkwJ10_vectorizedMismatch_7 ++ dktJ10_vectorizedMismatch_8
def dkwJ10_vectorizedMismatch_6 : List UInt8 := [4, 178, 0, 51, 21, 7, 100, 120, 54, 11, 21, 10, 21, 11, 161, 0, 104, 21, 9, 133, 178, 0, 20, 121]
abbrev dktJ10_vectorizedMismatch_6 : List UInt8 := dkwJ10_vectorizedMismatch_6 ++ dktJ10_vectorizedMismatch_7
def dkwJ10_vectorizedMismatch_5 : List UInt8 := [132, 9, 1, 167, 255, 148, 21, 6, 21, 9, 21, 8, 120, 100, 54, 10, 21, 7, 178, 0, 51, 162, 0, 126]
abbrev dktJ10_vectorizedMismatch_5 : List UInt8 := dkwJ10_vectorizedMismatch_5 ++ dktJ10_vectorizedMismatch_6
def dkwJ10_vectorizedMismatch_4 : List UInt8 := [22, 16, 184, 0, 49, 178, 0, 46, 21, 7, 96, 122, 54, 18, 21, 9, 21, 8, 120, 21, 18, 96, 172]
abbrev dktJ10_vectorizedMismatch_4 : List UInt8 := dkwJ10_vectorizedMismatch_4 ++ dktJ10_vectorizedMismatch_5
def dkwJ10_vectorizedMismatch_3 : List UInt8 := [55, 16, 178, 0, 36, 153, 0, 18, 22, 16, 184, 0, 40, 178, 0, 46, 21, 7, 96, 122, 167, 0, 15]
abbrev dktJ10_vectorizedMismatch_3 : List UInt8 := dkwJ10_vectorizedMismatch_3 ++ dktJ10_vectorizedMismatch_4
def dkwJ10_vectorizedMismatch_2 : List UInt8 := [22, 4, 22, 10, 97, 182, 0, 30, 55, 14, 22, 12, 22, 14, 148, 153, 0, 54, 22, 12, 22, 14, 131]
abbrev dktJ10_vectorizedMismatch_2 : List UInt8 := dkwJ10_vectorizedMismatch_2 ++ dktJ10_vectorizedMismatch_3
def dkwJ10_vectorizedMismatch_1 : List UInt8 := [178, 0, 20, 121, 55, 10, 178, 0, 26, 42, 31, 22, 10, 97, 182, 0, 30, 55, 12, 178, 0, 26, 45]
abbrev dktJ10_vectorizedMismatch_1 : List UInt8 := dkwJ10_vectorizedMismatch_1 ++ dktJ10_vectorizedMismatch_2
def dkwJ10_vectorizedMismatch_0 : List UInt8 := [178, 0, 20, 21, 7, 100, 54, 8, 3, 54, 9, 21, 9, 21, 6, 21, 8, 122, 162, 0, 104, 21, 9, 133]
abbrev dktJ10_vectorizedMismatch_0 : List UInt8 := dkwJ10_vectorizedMismatch_0 ++ dktJ10_vectorizedMismatch_1
theorem dksJ10_vectorizedMismatch_0 : cJ10_vectorizedMismatch.data.toList.drop 0 = dktJ10_vectorizedMismatch_0 := by decide +kernel
theorem dksJ10_vectorizedMismatch_1 : cJ10_vectorizedMismatch.data.toList.drop 24 = dktJ10_vectorizedMismatch_1 := dk_seg dksJ10_vectorizedMismatch_0 24 rfl rfl
theorem dksJ10_vectorizedMismatch_2 : cJ10_vectorizedMismatch.data.toList.drop 47 = dktJ10_vectorizedMismatch_2 := dk_seg dksJ10_vectorizedMismatch_1 23 rfl rfl
theorem dksJ10_vectorizedMismatch_3 : cJ10_vectorizedMismatch.data.toList.drop 70 = dktJ10_vectorizedMismatch_3 := dk_seg dksJ10_vectorizedMismatch_2 23 rfl rfl
theorem dksJ10_vectorizedMismatch_4 : cJ10_vectorizedMismatch.data.toList.drop 93 = dktJ10_vectorizedMismatch_4 := dk_seg dksJ10_vectorizedMismatch_3 23 rfl rfl
theorem dksJ10_vectorizedMismatch_5 : cJ10_vectorizedMismatch.data.toList.drop 116 = dktJ10_vectorizedMismatch_5 := dk_seg dksJ10_vectorizedMismatch_4 23 rfl rfl
theorem dksJ10_vectorizedMismatch_6 : cJ10_vectorizedMismatch.data.toList.drop 140 = dktJ10_vectorizedMismatch_6 := dk_seg dksJ10_vectorizedMismatch_5 24 rfl rfl
theorem dksJ10_vectorizedMismatch_7 : cJ10_vectorizedMismatch.data.toList.drop 164 = dktJ10_vectorizedMismatch_7 := dk_seg dksJ10_vectorizedMismatch_6 24 rfl rfl
theorem dksJ10_vectorizedMismatch_8 : cJ10_vectorizedMismatch.data.toList.drop 188 = dktJ10_vectorizedMismatch_8 := dk_seg dksJ10_vectorizedMismatch_7 24 rfl rfl
theorem dksJ10_vectorizedMismatch_9 : cJ10_vectorizedMismatch.data.toList.drop 210 = dktJ10_vectorizedMismatch_9 := dk_seg dksJ10_vectorizedMismatch_8 22 rfl rfl
theorem dksJ10_vectorizedMismatch_10 : cJ10_vectorizedMismatch.data.toList.drop 233 = dktJ10_vectorizedMismatch_10 := dk_seg dksJ10_vectorizedMismatch_9 23 rfl rfl
theorem dksJ10_vectorizedMismatch_11 : cJ10_vectorizedMismatch.data.toList.drop 256 = dktJ10_vectorizedMismatch_11 := dk_seg dksJ10_vectorizedMismatch_10 23 rfl rfl
theorem dJ10_vectorizedMismatch_0 : decode cJ10_vectorizedMismatch 0 = .ok (.getstatic 20, 3) := dk_178 0 20 (dk_at dksJ10_vectorizedMismatch_0 0 rfl rfl)
theorem dJ10_vectorizedMismatch_3 : decode cJ10_vectorizedMismatch 3 = .ok (.iload 7, 2) := dk_21 7 (dk_at dksJ10_vectorizedMismatch_0 3 rfl rfl)
theorem dJ10_vectorizedMismatch_5 : decode cJ10_vectorizedMismatch 5 = .ok (.isub, 1) := dk_100 (dk_at dksJ10_vectorizedMismatch_0 5 rfl rfl)
theorem dJ10_vectorizedMismatch_6 : decode cJ10_vectorizedMismatch 6 = .ok (.istore 8, 2) := dk_54 8 (dk_at dksJ10_vectorizedMismatch_0 6 rfl rfl)
theorem dJ10_vectorizedMismatch_8 : decode cJ10_vectorizedMismatch 8 = .ok (.iconst 0, 1) := dk_3 (dk_at dksJ10_vectorizedMismatch_0 8 rfl rfl)
theorem dJ10_vectorizedMismatch_9 : decode cJ10_vectorizedMismatch 9 = .ok (.istore 9, 2) := dk_54 9 (dk_at dksJ10_vectorizedMismatch_0 9 rfl rfl)
theorem dJ10_vectorizedMismatch_11 : decode cJ10_vectorizedMismatch 11 = .ok (.iload 9, 2) := dk_21 9 (dk_at dksJ10_vectorizedMismatch_0 11 rfl rfl)
theorem dJ10_vectorizedMismatch_13 : decode cJ10_vectorizedMismatch 13 = .ok (.iload 6, 2) := dk_21 6 (dk_at dksJ10_vectorizedMismatch_0 13 rfl rfl)
theorem dJ10_vectorizedMismatch_15 : decode cJ10_vectorizedMismatch 15 = .ok (.iload 8, 2) := dk_21 8 (dk_at dksJ10_vectorizedMismatch_0 15 rfl rfl)
theorem dJ10_vectorizedMismatch_17 : decode cJ10_vectorizedMismatch 17 = .ok (.ishr, 1) := dk_122 (dk_at dksJ10_vectorizedMismatch_0 17 rfl rfl)
theorem dJ10_vectorizedMismatch_18 : decode cJ10_vectorizedMismatch 18 = .ok (.if_icmp .ge 104, 3) := dk_162 0 104 (dk_at dksJ10_vectorizedMismatch_0 18 rfl rfl)
theorem dJ10_vectorizedMismatch_21 : decode cJ10_vectorizedMismatch 21 = .ok (.iload 9, 2) := dk_21 9 (dk_at dksJ10_vectorizedMismatch_0 21 rfl rfl)
theorem dJ10_vectorizedMismatch_23 : decode cJ10_vectorizedMismatch 23 = .ok (.i2l, 1) := dk_133 (dk_at dksJ10_vectorizedMismatch_0 23 rfl rfl)
theorem dJ10_vectorizedMismatch_24 : decode cJ10_vectorizedMismatch 24 = .ok (.getstatic 20, 3) := dk_178 0 20 (dk_at dksJ10_vectorizedMismatch_1 0 rfl rfl)
theorem dJ10_vectorizedMismatch_27 : decode cJ10_vectorizedMismatch 27 = .ok (.lshl, 1) := dk_121 (dk_at dksJ10_vectorizedMismatch_1 3 rfl rfl)
theorem dJ10_vectorizedMismatch_28 : decode cJ10_vectorizedMismatch 28 = .ok (.lstore 10, 2) := dk_55 10 (dk_at dksJ10_vectorizedMismatch_1 4 rfl rfl)
theorem dJ10_vectorizedMismatch_30 : decode cJ10_vectorizedMismatch 30 = .ok (.getstatic 26, 3) := dk_178 0 26 (dk_at dksJ10_vectorizedMismatch_1 6 rfl rfl)
theorem dJ10_vectorizedMismatch_33 : decode cJ10_vectorizedMismatch 33 = .ok (.aload_n 0, 1) := dk_42 (dk_at dksJ10_vectorizedMismatch_1 9 rfl rfl)
theorem dJ10_vectorizedMismatch_34 : decode cJ10_vectorizedMismatch 34 = .ok (.lload_n 1, 1) := dk_31 (dk_at dksJ10_vectorizedMismatch_1 10 rfl rfl)
theorem dJ10_vectorizedMismatch_35 : decode cJ10_vectorizedMismatch 35 = .ok (.lload 10, 2) := dk_22 10 (dk_at dksJ10_vectorizedMismatch_1 11 rfl rfl)
theorem dJ10_vectorizedMismatch_37 : decode cJ10_vectorizedMismatch 37 = .ok (.ladd, 1) := dk_97 (dk_at dksJ10_vectorizedMismatch_1 13 rfl rfl)
theorem dJ10_vectorizedMismatch_38 : decode cJ10_vectorizedMismatch 38 = .ok (.invokevirtual 30, 3) := dk_182 0 30 (dk_at dksJ10_vectorizedMismatch_1 14 rfl rfl)
theorem dJ10_vectorizedMismatch_41 : decode cJ10_vectorizedMismatch 41 = .ok (.lstore 12, 2) := dk_55 12 (dk_at dksJ10_vectorizedMismatch_1 17 rfl rfl)
theorem dJ10_vectorizedMismatch_43 : decode cJ10_vectorizedMismatch 43 = .ok (.getstatic 26, 3) := dk_178 0 26 (dk_at dksJ10_vectorizedMismatch_1 19 rfl rfl)
theorem dJ10_vectorizedMismatch_46 : decode cJ10_vectorizedMismatch 46 = .ok (.aload_n 3, 1) := dk_45 (dk_at dksJ10_vectorizedMismatch_1 22 rfl rfl)
theorem dJ10_vectorizedMismatch_47 : decode cJ10_vectorizedMismatch 47 = .ok (.lload 4, 2) := dk_22 4 (dk_at dksJ10_vectorizedMismatch_2 0 rfl rfl)
theorem dJ10_vectorizedMismatch_49 : decode cJ10_vectorizedMismatch 49 = .ok (.lload 10, 2) := dk_22 10 (dk_at dksJ10_vectorizedMismatch_2 2 rfl rfl)
theorem dJ10_vectorizedMismatch_51 : decode cJ10_vectorizedMismatch 51 = .ok (.ladd, 1) := dk_97 (dk_at dksJ10_vectorizedMismatch_2 4 rfl rfl)
theorem dJ10_vectorizedMismatch_52 : decode cJ10_vectorizedMismatch 52 = .ok (.invokevirtual 30, 3) := dk_182 0 30 (dk_at dksJ10_vectorizedMismatch_2 5 rfl rfl)
theorem dJ10_vectorizedMismatch_55 : decode cJ10_vectorizedMismatch 55 = .ok (.lstore 14, 2) := dk_55 14 (dk_at dksJ10_vectorizedMismatch_2 8 rfl rfl)
theorem dJ10_vectorizedMismatch_57 : decode cJ10_vectorizedMismatch 57 = .ok (.lload 12, 2) := dk_22 12 (dk_at dksJ10_vectorizedMismatch_2 10 rfl rfl)
theorem dJ10_vectorizedMismatch_59 : decode cJ10_vectorizedMismatch 59 = .ok (.lload 14, 2) := dk_22 14 (dk_at dksJ10_vectorizedMismatch_2 12 rfl rfl)
theorem dJ10_vectorizedMismatch_61 : decode cJ10_vectorizedMismatch 61 = .ok (.lcmp, 1) := dk_148 (dk_at dksJ10_vectorizedMismatch_2 14 rfl rfl)
theorem dJ10_vectorizedMismatch_62 : decode cJ10_vectorizedMismatch 62 = .ok (.ifCond .eq 54, 3) := dk_153 0 54 (dk_at dksJ10_vectorizedMismatch_2 15 rfl rfl)
theorem dJ10_vectorizedMismatch_65 : decode cJ10_vectorizedMismatch 65 = .ok (.lload 12, 2) := dk_22 12 (dk_at dksJ10_vectorizedMismatch_2 18 rfl rfl)
theorem dJ10_vectorizedMismatch_67 : decode cJ10_vectorizedMismatch 67 = .ok (.lload 14, 2) := dk_22 14 (dk_at dksJ10_vectorizedMismatch_2 20 rfl rfl)
theorem dJ10_vectorizedMismatch_69 : decode cJ10_vectorizedMismatch 69 = .ok (.lxor, 1) := dk_131 (dk_at dksJ10_vectorizedMismatch_2 22 rfl rfl)
theorem dJ10_vectorizedMismatch_70 : decode cJ10_vectorizedMismatch 70 = .ok (.lstore 16, 2) := dk_55 16 (dk_at dksJ10_vectorizedMismatch_3 0 rfl rfl)
theorem dJ10_vectorizedMismatch_72 : decode cJ10_vectorizedMismatch 72 = .ok (.getstatic 36, 3) := dk_178 0 36 (dk_at dksJ10_vectorizedMismatch_3 2 rfl rfl)
theorem dJ10_vectorizedMismatch_75 : decode cJ10_vectorizedMismatch 75 = .ok (.ifCond .eq 18, 3) := dk_153 0 18 (dk_at dksJ10_vectorizedMismatch_3 5 rfl rfl)
theorem dJ10_vectorizedMismatch_78 : decode cJ10_vectorizedMismatch 78 = .ok (.lload 16, 2) := dk_22 16 (dk_at dksJ10_vectorizedMismatch_3 8 rfl rfl)
theorem dJ10_vectorizedMismatch_80 : decode cJ10_vectorizedMismatch 80 = .ok (.invokestatic 40, 3) := dk_184 0 40 (dk_at dksJ10_vectorizedMismatch_3 10 rfl rfl)
theorem dJ10_vectorizedMismatch_83 : decode cJ10_vectorizedMismatch 83 = .ok (.getstatic 46, 3) := dk_178 0 46 (dk_at dksJ10_vectorizedMismatch_3 13 rfl rfl)
theorem dJ10_vectorizedMismatch_86 : decode cJ10_vectorizedMismatch 86 = .ok (.iload 7, 2) := dk_21 7 (dk_at dksJ10_vectorizedMismatch_3 16 rfl rfl)
theorem dJ10_vectorizedMismatch_88 : decode cJ10_vectorizedMismatch 88 = .ok (.iadd, 1) := dk_96 (dk_at dksJ10_vectorizedMismatch_3 18 rfl rfl)
theorem dJ10_vectorizedMismatch_89 : decode cJ10_vectorizedMismatch 89 = .ok (.ishr, 1) := dk_122 (dk_at dksJ10_vectorizedMismatch_3 19 rfl rfl)
theorem dJ10_vectorizedMismatch_90 : decode cJ10_vectorizedMismatch 90 = .ok (.goto 15, 3) := dk_167 0 15 (dk_at dksJ10_vectorizedMismatch_3 20 rfl rfl)
theorem dJ10_vectorizedMismatch_93 : decode cJ10_vectorizedMismatch 93 = .ok (.lload 16, 2) := dk_22 16 (dk_at dksJ10_vectorizedMismatch_4 0 rfl rfl)
theorem dJ10_vectorizedMismatch_95 : decode cJ10_vectorizedMismatch 95 = .ok (.invokestatic 49, 3) := dk_184 0 49 (dk_at dksJ10_vectorizedMismatch_4 2 rfl rfl)
theorem dJ10_vectorizedMismatch_98 : decode cJ10_vectorizedMismatch 98 = .ok (.getstatic 46, 3) := dk_178 0 46 (dk_at dksJ10_vectorizedMismatch_4 5 rfl rfl)
theorem dJ10_vectorizedMismatch_101 : decode cJ10_vectorizedMismatch 101 = .ok (.iload 7, 2) := dk_21 7 (dk_at dksJ10_vectorizedMismatch_4 8 rfl rfl)
theorem dJ10_vectorizedMismatch_103 : decode cJ10_vectorizedMismatch 103 = .ok (.iadd, 1) := dk_96 (dk_at dksJ10_vectorizedMismatch_4 10 rfl rfl)
theorem dJ10_vectorizedMismatch_104 : decode cJ10_vectorizedMismatch 104 = .ok (.ishr, 1) := dk_122 (dk_at dksJ10_vectorizedMismatch_4 11 rfl rfl)
theorem dJ10_vectorizedMismatch_105 : decode cJ10_vectorizedMismatch 105 = .ok (.istore 18, 2) := dk_54 18 (dk_at dksJ10_vectorizedMismatch_4 12 rfl rfl)
theorem dJ10_vectorizedMismatch_107 : decode cJ10_vectorizedMismatch 107 = .ok (.iload 9, 2) := dk_21 9 (dk_at dksJ10_vectorizedMismatch_4 14 rfl rfl)
theorem dJ10_vectorizedMismatch_109 : decode cJ10_vectorizedMismatch 109 = .ok (.iload 8, 2) := dk_21 8 (dk_at dksJ10_vectorizedMismatch_4 16 rfl rfl)
theorem dJ10_vectorizedMismatch_111 : decode cJ10_vectorizedMismatch 111 = .ok (.ishl, 1) := dk_120 (dk_at dksJ10_vectorizedMismatch_4 18 rfl rfl)
theorem dJ10_vectorizedMismatch_112 : decode cJ10_vectorizedMismatch 112 = .ok (.iload 18, 2) := dk_21 18 (dk_at dksJ10_vectorizedMismatch_4 19 rfl rfl)
theorem dJ10_vectorizedMismatch_114 : decode cJ10_vectorizedMismatch 114 = .ok (.iadd, 1) := dk_96 (dk_at dksJ10_vectorizedMismatch_4 21 rfl rfl)
theorem dJ10_vectorizedMismatch_115 : decode cJ10_vectorizedMismatch 115 = .ok (.ireturn, 1) := dk_172 (dk_at dksJ10_vectorizedMismatch_4 22 rfl rfl)
theorem dJ10_vectorizedMismatch_116 : decode cJ10_vectorizedMismatch 116 = .ok (.iinc 9 1, 3) := dk_132 9 1 (dk_at dksJ10_vectorizedMismatch_5 0 rfl rfl)
theorem dJ10_vectorizedMismatch_119 : decode cJ10_vectorizedMismatch 119 = .ok (.goto (-108), 3) := dk_167 255 148 (dk_at dksJ10_vectorizedMismatch_5 3 rfl rfl)
theorem dJ10_vectorizedMismatch_122 : decode cJ10_vectorizedMismatch 122 = .ok (.iload 6, 2) := dk_21 6 (dk_at dksJ10_vectorizedMismatch_5 6 rfl rfl)
theorem dJ10_vectorizedMismatch_124 : decode cJ10_vectorizedMismatch 124 = .ok (.iload 9, 2) := dk_21 9 (dk_at dksJ10_vectorizedMismatch_5 8 rfl rfl)
theorem dJ10_vectorizedMismatch_126 : decode cJ10_vectorizedMismatch 126 = .ok (.iload 8, 2) := dk_21 8 (dk_at dksJ10_vectorizedMismatch_5 10 rfl rfl)
theorem dJ10_vectorizedMismatch_128 : decode cJ10_vectorizedMismatch 128 = .ok (.ishl, 1) := dk_120 (dk_at dksJ10_vectorizedMismatch_5 12 rfl rfl)
theorem dJ10_vectorizedMismatch_129 : decode cJ10_vectorizedMismatch 129 = .ok (.isub, 1) := dk_100 (dk_at dksJ10_vectorizedMismatch_5 13 rfl rfl)
theorem dJ10_vectorizedMismatch_130 : decode cJ10_vectorizedMismatch 130 = .ok (.istore 10, 2) := dk_54 10 (dk_at dksJ10_vectorizedMismatch_5 14 rfl rfl)
theorem dJ10_vectorizedMismatch_132 : decode cJ10_vectorizedMismatch 132 = .ok (.iload 7, 2) := dk_21 7 (dk_at dksJ10_vectorizedMismatch_5 16 rfl rfl)
theorem dJ10_vectorizedMismatch_134 : decode cJ10_vectorizedMismatch 134 = .ok (.getstatic 51, 3) := dk_178 0 51 (dk_at dksJ10_vectorizedMismatch_5 18 rfl rfl)
theorem dJ10_vectorizedMismatch_137 : decode cJ10_vectorizedMismatch 137 = .ok (.if_icmp .ge 126, 3) := dk_162 0 126 (dk_at dksJ10_vectorizedMismatch_5 21 rfl rfl)
theorem dJ10_vectorizedMismatch_140 : decode cJ10_vectorizedMismatch 140 = .ok (.iconst 1, 1) := dk_4 (dk_at dksJ10_vectorizedMismatch_6 0 rfl rfl)
theorem dJ10_vectorizedMismatch_141 : decode cJ10_vectorizedMismatch 141 = .ok (.getstatic 51, 3) := dk_178 0 51 (dk_at dksJ10_vectorizedMismatch_6 1 rfl rfl)
theorem dJ10_vectorizedMismatch_144 : decode cJ10_vectorizedMismatch 144 = .ok (.iload 7, 2) := dk_21 7 (dk_at dksJ10_vectorizedMismatch_6 4 rfl rfl)
theorem dJ10_vectorizedMismatch_146 : decode cJ10_vectorizedMismatch 146 = .ok (.isub, 1) := dk_100 (dk_at dksJ10_vectorizedMismatch_6 6 rfl rfl)
theorem dJ10_vectorizedMismatch_147 : decode cJ10_vectorizedMismatch 147 = .ok (.ishl, 1) := dk_120 (dk_at dksJ10_vectorizedMismatch_6 7 rfl rfl)
theorem dJ10_vectorizedMismatch_148 : decode cJ10_vectorizedMismatch 148 = .ok (.istore 11, 2) := dk_54 11 (dk_at dksJ10_vectorizedMismatch_6 8 rfl rfl)
theorem dJ10_vectorizedMismatch_150 : decode cJ10_vectorizedMismatch 150 = .ok (.iload 10, 2) := dk_21 10 (dk_at dksJ10_vectorizedMismatch_6 10 rfl rfl)
theorem dJ10_vectorizedMismatch_152 : decode cJ10_vectorizedMismatch 152 = .ok (.iload 11, 2) := dk_21 11 (dk_at dksJ10_vectorizedMismatch_6 12 rfl rfl)
theorem dJ10_vectorizedMismatch_154 : decode cJ10_vectorizedMismatch 154 = .ok (.if_icmp .lt 104, 3) := dk_161 0 104 (dk_at dksJ10_vectorizedMismatch_6 14 rfl rfl)
theorem dJ10_vectorizedMismatch_157 : decode cJ10_vectorizedMismatch 157 = .ok (.iload 9, 2) := dk_21 9 (dk_at dksJ10_vectorizedMismatch_6 17 rfl rfl)
theorem dJ10_vectorizedMismatch_159 : decode cJ10_vectorizedMismatch 159 = .ok (.i2l, 1) := dk_133 (dk_at dksJ10_vectorizedMismatch_6 19 rfl rfl)
theorem dJ10_vectorizedMismatch_160 : decode cJ10_vectorizedMismatch 160 = .ok (.getstatic 20, 3) := dk_178 0 20 (dk_at dksJ10_vectorizedMismatch_6 20 rfl rfl)
theorem dJ10_vectorizedMismatch_163 : decode cJ10_vectorizedMismatch 163 = .ok (.lshl, 1) := dk_121 (dk_at dksJ10_vectorizedMismatch_6 23 rfl rfl)
theorem dJ10_vectorizedMismatch_164 : decode cJ10_vectorizedMismatch 164 = .ok (.lstore 12, 2) := dk_55 12 (dk_at dksJ10_vectorizedMismatch_7 0 rfl rfl)
theorem dJ10_vectorizedMismatch_166 : decode cJ10_vectorizedMismatch 166 = .ok (.getstatic 26, 3) := dk_178 0 26 (dk_at dksJ10_vectorizedMismatch_7 2 rfl rfl)
theorem dJ10_vectorizedMismatch_169 : decode cJ10_vectorizedMismatch 169 = .ok (.aload_n 0, 1) := dk_42 (dk_at dksJ10_vectorizedMismatch_7 5 rfl rfl)
theorem dJ10_vectorizedMismatch_170 : decode cJ10_vectorizedMismatch 170 = .ok (.lload_n 1, 1) := dk_31 (dk_at dksJ10_vectorizedMismatch_7 6 rfl rfl)
theorem dJ10_vectorizedMismatch_171 : decode cJ10_vectorizedMismatch 171 = .ok (.lload 12, 2) := dk_22 12 (dk_at dksJ10_vectorizedMismatch_7 7 rfl rfl)
theorem dJ10_vectorizedMismatch_173 : decode cJ10_vectorizedMismatch 173 = .ok (.ladd, 1) := dk_97 (dk_at dksJ10_vectorizedMismatch_7 9 rfl rfl)
theorem dJ10_vectorizedMismatch_174 : decode cJ10_vectorizedMismatch 174 = .ok (.invokevirtual 54, 3) := dk_182 0 54 (dk_at dksJ10_vectorizedMismatch_7 10 rfl rfl)
theorem dJ10_vectorizedMismatch_177 : decode cJ10_vectorizedMismatch 177 = .ok (.istore 14, 2) := dk_54 14 (dk_at dksJ10_vectorizedMismatch_7 13 rfl rfl)
theorem dJ10_vectorizedMismatch_179 : decode cJ10_vectorizedMismatch 179 = .ok (.getstatic 26, 3) := dk_178 0 26 (dk_at dksJ10_vectorizedMismatch_7 15 rfl rfl)
theorem dJ10_vectorizedMismatch_182 : decode cJ10_vectorizedMismatch 182 = .ok (.aload_n 3, 1) := dk_45 (dk_at dksJ10_vectorizedMismatch_7 18 rfl rfl)
theorem dJ10_vectorizedMismatch_183 : decode cJ10_vectorizedMismatch 183 = .ok (.lload 4, 2) := dk_22 4 (dk_at dksJ10_vectorizedMismatch_7 19 rfl rfl)
theorem dJ10_vectorizedMismatch_185 : decode cJ10_vectorizedMismatch 185 = .ok (.lload 12, 2) := dk_22 12 (dk_at dksJ10_vectorizedMismatch_7 21 rfl rfl)
theorem dJ10_vectorizedMismatch_187 : decode cJ10_vectorizedMismatch 187 = .ok (.ladd, 1) := dk_97 (dk_at dksJ10_vectorizedMismatch_7 23 rfl rfl)
theorem dJ10_vectorizedMismatch_188 : decode cJ10_vectorizedMismatch 188 = .ok (.invokevirtual 54, 3) := dk_182 0 54 (dk_at dksJ10_vectorizedMismatch_8 0 rfl rfl)
theorem dJ10_vectorizedMismatch_191 : decode cJ10_vectorizedMismatch 191 = .ok (.istore 15, 2) := dk_54 15 (dk_at dksJ10_vectorizedMismatch_8 3 rfl rfl)
theorem dJ10_vectorizedMismatch_193 : decode cJ10_vectorizedMismatch 193 = .ok (.iload 14, 2) := dk_21 14 (dk_at dksJ10_vectorizedMismatch_8 5 rfl rfl)
theorem dJ10_vectorizedMismatch_195 : decode cJ10_vectorizedMismatch 195 = .ok (.iload 15, 2) := dk_21 15 (dk_at dksJ10_vectorizedMismatch_8 7 rfl rfl)
theorem dJ10_vectorizedMismatch_197 : decode cJ10_vectorizedMismatch 197 = .ok (.if_icmp .eq 54, 3) := dk_159 0 54 (dk_at dksJ10_vectorizedMismatch_8 9 rfl rfl)
theorem dJ10_vectorizedMismatch_200 : decode cJ10_vectorizedMismatch 200 = .ok (.iload 14, 2) := dk_21 14 (dk_at dksJ10_vectorizedMismatch_8 12 rfl rfl)
theorem dJ10_vectorizedMismatch_202 : decode cJ10_vectorizedMismatch 202 = .ok (.iload 15, 2) := dk_21 15 (dk_at dksJ10_vectorizedMismatch_8 14 rfl rfl)
theorem dJ10_vectorizedMismatch_204 : decode cJ10_vectorizedMismatch 204 = .ok (.ixor, 1) := dk_130 (dk_at dksJ10_vectorizedMismatch_8 16 rfl rfl)
theorem dJ10_vectorizedMismatch_205 : decode cJ10_vectorizedMismatch 205 = .ok (.istore 16, 2) := dk_54 16 (dk_at dksJ10_vectorizedMismatch_8 17 rfl rfl)
theorem dJ10_vectorizedMismatch_207 : decode cJ10_vectorizedMismatch 207 = .ok (.getstatic 36, 3) := dk_178 0 36 (dk_at dksJ10_vectorizedMismatch_8 19 rfl rfl)
theorem dJ10_vectorizedMismatch_210 : decode cJ10_vectorizedMismatch 210 = .ok (.ifCond .eq 18, 3) := dk_153 0 18 (dk_at dksJ10_vectorizedMismatch_9 0 rfl rfl)
theorem dJ10_vectorizedMismatch_213 : decode cJ10_vectorizedMismatch 213 = .ok (.iload 16, 2) := dk_21 16 (dk_at dksJ10_vectorizedMismatch_9 3 rfl rfl)
theorem dJ10_vectorizedMismatch_215 : decode cJ10_vectorizedMismatch 215 = .ok (.invokestatic 58, 3) := dk_184 0 58 (dk_at dksJ10_vectorizedMismatch_9 5 rfl rfl)
theorem dJ10_vectorizedMismatch_218 : decode cJ10_vectorizedMismatch 218 = .ok (.getstatic 46, 3) := dk_178 0 46 (dk_at dksJ10_vectorizedMismatch_9 8 rfl rfl)
theorem dJ10_vectorizedMismatch_221 : decode cJ10_vectorizedMismatch 221 = .ok (.iload 7, 2) := dk_21 7 (dk_at dksJ10_vectorizedMismatch_9 11 rfl rfl)
theorem dJ10_vectorizedMismatch_223 : decode cJ10_vectorizedMismatch 223 = .ok (.iadd, 1) := dk_96 (dk_at dksJ10_vectorizedMismatch_9 13 rfl rfl)
theorem dJ10_vectorizedMismatch_224 : decode cJ10_vectorizedMismatch 224 = .ok (.ishr, 1) := dk_122 (dk_at dksJ10_vectorizedMismatch_9 14 rfl rfl)
theorem dJ10_vectorizedMismatch_225 : decode cJ10_vectorizedMismatch 225 = .ok (.goto 15, 3) := dk_167 0 15 (dk_at dksJ10_vectorizedMismatch_9 15 rfl rfl)
theorem dJ10_vectorizedMismatch_228 : decode cJ10_vectorizedMismatch 228 = .ok (.iload 16, 2) := dk_21 16 (dk_at dksJ10_vectorizedMismatch_9 18 rfl rfl)
theorem dJ10_vectorizedMismatch_230 : decode cJ10_vectorizedMismatch 230 = .ok (.invokestatic 11, 3) := dk_184 0 11 (dk_at dksJ10_vectorizedMismatch_9 20 rfl rfl)
theorem dJ10_vectorizedMismatch_233 : decode cJ10_vectorizedMismatch 233 = .ok (.getstatic 46, 3) := dk_178 0 46 (dk_at dksJ10_vectorizedMismatch_10 0 rfl rfl)
theorem dJ10_vectorizedMismatch_236 : decode cJ10_vectorizedMismatch 236 = .ok (.iload 7, 2) := dk_21 7 (dk_at dksJ10_vectorizedMismatch_10 3 rfl rfl)
theorem dJ10_vectorizedMismatch_238 : decode cJ10_vectorizedMismatch 238 = .ok (.iadd, 1) := dk_96 (dk_at dksJ10_vectorizedMismatch_10 5 rfl rfl)
theorem dJ10_vectorizedMismatch_239 : decode cJ10_vectorizedMismatch 239 = .ok (.ishr, 1) := dk_122 (dk_at dksJ10_vectorizedMismatch_10 6 rfl rfl)
theorem dJ10_vectorizedMismatch_240 : decode cJ10_vectorizedMismatch 240 = .ok (.istore 17, 2) := dk_54 17 (dk_at dksJ10_vectorizedMismatch_10 7 rfl rfl)
theorem dJ10_vectorizedMismatch_242 : decode cJ10_vectorizedMismatch 242 = .ok (.iload 9, 2) := dk_21 9 (dk_at dksJ10_vectorizedMismatch_10 9 rfl rfl)
theorem dJ10_vectorizedMismatch_244 : decode cJ10_vectorizedMismatch 244 = .ok (.iload 8, 2) := dk_21 8 (dk_at dksJ10_vectorizedMismatch_10 11 rfl rfl)
theorem dJ10_vectorizedMismatch_246 : decode cJ10_vectorizedMismatch 246 = .ok (.ishl, 1) := dk_120 (dk_at dksJ10_vectorizedMismatch_10 13 rfl rfl)
theorem dJ10_vectorizedMismatch_247 : decode cJ10_vectorizedMismatch 247 = .ok (.iload 17, 2) := dk_21 17 (dk_at dksJ10_vectorizedMismatch_10 14 rfl rfl)
theorem dJ10_vectorizedMismatch_249 : decode cJ10_vectorizedMismatch 249 = .ok (.iadd, 1) := dk_96 (dk_at dksJ10_vectorizedMismatch_10 16 rfl rfl)
theorem dJ10_vectorizedMismatch_250 : decode cJ10_vectorizedMismatch 250 = .ok (.ireturn, 1) := dk_172 (dk_at dksJ10_vectorizedMismatch_10 17 rfl rfl)
theorem dJ10_vectorizedMismatch_251 : decode cJ10_vectorizedMismatch 251 = .ok (.iload 10, 2) := dk_21 10 (dk_at dksJ10_vectorizedMismatch_10 18 rfl rfl)
theorem dJ10_vectorizedMismatch_253 : decode cJ10_vectorizedMismatch 253 = .ok (.iload 11, 2) := dk_21 11 (dk_at dksJ10_vectorizedMismatch_10 20 rfl rfl)
theorem dJ10_vectorizedMismatch_255 : decode cJ10_vectorizedMismatch 255 = .ok (.isub, 1) := dk_100 (dk_at dksJ10_vectorizedMismatch_10 22 rfl rfl)
theorem dJ10_vectorizedMismatch_256 : decode cJ10_vectorizedMismatch 256 = .ok (.istore 10, 2) := dk_54 10 (dk_at dksJ10_vectorizedMismatch_11 0 rfl rfl)
theorem dJ10_vectorizedMismatch_258 : decode cJ10_vectorizedMismatch 258 = .ok (.iload 10, 2) := dk_21 10 (dk_at dksJ10_vectorizedMismatch_11 2 rfl rfl)
theorem dJ10_vectorizedMismatch_260 : decode cJ10_vectorizedMismatch 260 = .ok (.iconst (-1), 1) := dk_2 (dk_at dksJ10_vectorizedMismatch_11 4 rfl rfl)
theorem dJ10_vectorizedMismatch_261 : decode cJ10_vectorizedMismatch 261 = .ok (.ixor, 1) := dk_130 (dk_at dksJ10_vectorizedMismatch_11 5 rfl rfl)
theorem dJ10_vectorizedMismatch_262 : decode cJ10_vectorizedMismatch 262 = .ok (.ireturn, 1) := dk_172 (dk_at dksJ10_vectorizedMismatch_11 6 rfl rfl)
theorem dJ10_vectorizedMismatch_263 : decode cJ10_vectorizedMismatch 263 = .ok (.iload 10, 2) := dk_21 10 (dk_at dksJ10_vectorizedMismatch_11 7 rfl rfl)
theorem dJ10_vectorizedMismatch_265 : decode cJ10_vectorizedMismatch 265 = .ok (.iconst (-1), 1) := dk_2 (dk_at dksJ10_vectorizedMismatch_11 9 rfl rfl)
theorem dJ10_vectorizedMismatch_266 : decode cJ10_vectorizedMismatch 266 = .ok (.ixor, 1) := dk_130 (dk_at dksJ10_vectorizedMismatch_11 10 rfl rfl)
theorem dJ10_vectorizedMismatch_267 : decode cJ10_vectorizedMismatch 267 = .ok (.ireturn, 1) := dk_172 (dk_at dksJ10_vectorizedMismatch_11 11 rfl rfl)
theorem q167 : (Jvm.Cond.initialized "jdk/internal/util/ArraysSupport") ∈ lw_all := lw_g (lw_at lw_m1 16 rfl) rfl
theorem q476 : (Jvm.Cond.static ({ cls := "jdk/internal/util/ArraysSupport", name := "newLength", desc := "(III)I" } : Jvm.MethodName)) ∈ lw_all := lw_g (lw_at lw_m2 85 rfl) rfl
theorem q477 : (Jvm.Cond.code ({ cls := "jdk/internal/util/ArraysSupport", name := "newLength", desc := "(III)I" } : Jvm.MethodName) prog_70_method_27_code (4 : Nat) (Option.some Jvm.ClassFile.FieldType.int)) ∈ lw_all := lw_g (lw_at lw_m2 86 rfl) rfl
theorem q478 : (Jvm.Cond.methodLink "jdk/internal/util/ArraysSupport" (194 : Nat) ({ cls := "java/lang/Math", name := "max", desc := "(II)I" } : Jvm.MethodName)) ∈ lw_all := lw_g (lw_at lw_m2 87 rfl) rfl
theorem q481 : (Jvm.Cond.constant "jdk/internal/util/ArraysSupport" (200 : Nat) (2147483639 : Int32)) ∈ lw_all := lw_g (lw_at lw_m2 90 rfl) rfl
theorem q482 : (Jvm.Cond.methodLink "jdk/internal/util/ArraysSupport" (201 : Nat) ({ cls := "jdk/internal/util/ArraysSupport", name := "hugeLength", desc := "(II)I" } : Jvm.MethodName)) ∈ lw_all := lw_g (lw_at lw_m2 91 rfl) rfl
theorem q483 : (Jvm.Cond.static ({ cls := "jdk/internal/util/ArraysSupport", name := "hugeLength", desc := "(II)I" } : Jvm.MethodName)) ∈ lw_all := lw_g (lw_at lw_m2 92 rfl) rfl
theorem q484 : (Jvm.Cond.code ({ cls := "jdk/internal/util/ArraysSupport", name := "hugeLength", desc := "(II)I" } : Jvm.MethodName) prog_70_method_28_code (3 : Nat) (Option.some Jvm.ClassFile.FieldType.int)) ∈ lw_all := lw_g (lw_at lw_m2 93 rfl) rfl
theorem q606 : (Jvm.Cond.static ({ cls := "jdk/internal/util/ArraysSupport", name := "vectorizedHashCode", desc := "(Ljava/lang/Object;IIII)I" } : Jvm.MethodName)) ∈ lw_all := lw_g (lw_at lw_m2 215 rfl) rfl
theorem q607 : (Jvm.Cond.code ({ cls := "jdk/internal/util/ArraysSupport", name := "vectorizedHashCode", desc := "(Ljava/lang/Object;IIII)I" } : Jvm.MethodName) prog_70_method_4_code (5 : Nat) (Option.some Jvm.ClassFile.FieldType.int)) ∈ lw_all := lw_g (lw_at lw_m2 216 rfl) rfl
theorem q608 : (Jvm.Cond.classLink "jdk/internal/util/ArraysSupport" (60 : Nat) "[B") ∈ lw_all := lw_g (lw_at lw_m2 217 rfl) rfl
theorem q609 : (Jvm.Cond.methodLink "jdk/internal/util/ArraysSupport" (62 : Nat) ({ cls := "jdk/internal/util/ArraysSupport", name := "signedHashCode", desc := "(I[BII)I" } : Jvm.MethodName)) ∈ lw_all := lw_g (lw_at lw_m2 218 rfl) rfl
theorem q610 : (Jvm.Cond.static ({ cls := "jdk/internal/util/ArraysSupport", name := "signedHashCode", desc := "(I[BII)I" } : Jvm.MethodName)) ∈ lw_all := lw_g (lw_at lw_m2 219 rfl) rfl
theorem q611 : (Jvm.Cond.code ({ cls := "jdk/internal/util/ArraysSupport", name := "signedHashCode", desc := "(I[BII)I" } : Jvm.MethodName) prog_70_method_5_code (6 : Nat) (Option.some Jvm.ClassFile.FieldType.int)) ∈ lw_all := lw_g (lw_at lw_m2 220 rfl) rfl
theorem q612 : (Jvm.Cond.methodLink "jdk/internal/util/ArraysSupport" (66 : Nat) ({ cls := "jdk/internal/util/ArraysSupport", name := "utf16hashCode", desc := "(I[BII)I" } : Jvm.MethodName)) ∈ lw_all := lw_g (lw_at lw_m2 221 rfl) rfl
theorem q613 : (Jvm.Cond.static ({ cls := "jdk/internal/util/ArraysSupport", name := "utf16hashCode", desc := "(I[BII)I" } : Jvm.MethodName)) ∈ lw_all := lw_g (lw_at lw_m2 222 rfl) rfl
theorem q614 : (Jvm.Cond.code ({ cls := "jdk/internal/util/ArraysSupport", name := "utf16hashCode", desc := "(I[BII)I" } : Jvm.MethodName) prog_70_method_10_code (6 : Nat) (Option.some Jvm.ClassFile.FieldType.int)) ∈ lw_all := lw_g (lw_at lw_m2 223 rfl) rfl
theorem q615 : (Jvm.Cond.fieldLink "jdk/internal/util/ArraysSupport" (106 : Nat) "jdk/internal/util/ArraysSupport" "JLA" "Ljdk/internal/access/JavaLangAccess;") ∈ lw_all := lw_g (lw_at lw_m2 224 rfl) rfl
theorem q616 : (Jvm.Cond.laysStatic "jdk/internal/util/ArraysSupport" "JLA" "Ljdk/internal/access/JavaLangAccess;") ∈ lw_tbl := lw_at lw_m2 225 rfl
theorem q617 : (Jvm.Cond.interfaceEntry "jdk/internal/util/ArraysSupport" (110 : Nat)) ∈ lw_tbl := lw_at lw_m2 226 rfl
theorem q618 : (Jvm.Cond.methodLink "jdk/internal/util/ArraysSupport" (110 : Nat) ({ cls := "jdk/internal/access/JavaLangAccess", name := "getUTF16Char", desc := "([BI)C" } : Jvm.MethodName)) ∈ lw_all := lw_g (lw_at lw_m2 227 rfl) rfl
theorem q639 : (Jvm.Cond.classLink "jdk/internal/util/ArraysSupport" (69 : Nat) "[C") ∈ lw_all := lw_g (lw_at lw_m3 8 rfl) rfl
theorem q640 : (Jvm.Cond.methodLink "jdk/internal/util/ArraysSupport" (71 : Nat) ({ cls := "jdk/internal/util/ArraysSupport", name := "hashCode", desc := "(I[CII)I" } : Jvm.MethodName)) ∈ lw_all := lw_g (lw_at lw_m3 9 rfl) rfl
theorem q641 : (Jvm.Cond.static ({ cls := "jdk/internal/util/ArraysSupport", name := "hashCode", desc := "(I[CII)I" } : Jvm.MethodName)) ∈ lw_all := lw_g (lw_at lw_m3 10 rfl) rfl
theorem q642 : (Jvm.Cond.code ({ cls := "jdk/internal/util/ArraysSupport", name := "hashCode", desc := "(I[CII)I" } : Jvm.MethodName) prog_70_method_7_code (6 : Nat) (Option.some Jvm.ClassFile.FieldType.int)) ∈ lw_all := lw_g (lw_at lw_m3 11 rfl) rfl
theorem q643 : (Jvm.Cond.methodLink "jdk/internal/util/ArraysSupport" (75 : Nat) ({ cls := "jdk/internal/util/ArraysSupport", name := "hashCode", desc := "(I[BII)I" } : Jvm.MethodName)) ∈ lw_all := lw_g (lw_at lw_m3 12 rfl) rfl
theorem q644 : (Jvm.Cond.static ({ cls := "jdk/internal/util/ArraysSupport", name := "hashCode", desc := "(I[BII)I" } : Jvm.MethodName)) ∈ lw_all := lw_g (lw_at lw_m3 13 rfl) rfl
theorem q645 : (Jvm.Cond.code ({ cls := "jdk/internal/util/ArraysSupport", name := "hashCode", desc := "(I[BII)I" } : Jvm.MethodName) prog_70_method_6_code (6 : Nat) (Option.some Jvm.ClassFile.FieldType.int)) ∈ lw_all := lw_g (lw_at lw_m3 14 rfl) rfl
theorem q646 : (Jvm.Cond.classLink "jdk/internal/util/ArraysSupport" (77 : Nat) "[S") ∈ lw_all := lw_g (lw_at lw_m3 15 rfl) rfl
theorem q647 : (Jvm.Cond.methodLink "jdk/internal/util/ArraysSupport" (79 : Nat) ({ cls := "jdk/internal/util/ArraysSupport", name := "hashCode", desc := "(I[SII)I" } : Jvm.MethodName)) ∈ lw_all := lw_g (lw_at lw_m3 16 rfl) rfl
theorem q648 : (Jvm.Cond.static ({ cls := "jdk/internal/util/ArraysSupport", name := "hashCode", desc := "(I[SII)I" } : Jvm.MethodName)) ∈ lw_all := lw_g (lw_at lw_m3 17 rfl) rfl
theorem q649 : (Jvm.Cond.code ({ cls := "jdk/internal/util/ArraysSupport", name := "hashCode", desc := "(I[SII)I" } : Jvm.MethodName) prog_70_method_8_code (6 : Nat) (Option.some Jvm.ClassFile.FieldType.int)) ∈ lw_all := lw_g (lw_at lw_m3 18 rfl) rfl
theorem q650 : (Jvm.Cond.classLink "jdk/internal/util/ArraysSupport" (82 : Nat) "[I") ∈ lw_all := lw_g (lw_at lw_m3 19 rfl) rfl
theorem q651 : (Jvm.Cond.methodLink "jdk/internal/util/ArraysSupport" (84 : Nat) ({ cls := "jdk/internal/util/ArraysSupport", name := "hashCode", desc := "(I[III)I" } : Jvm.MethodName)) ∈ lw_all := lw_g (lw_at lw_m3 20 rfl) rfl
theorem q652 : (Jvm.Cond.static ({ cls := "jdk/internal/util/ArraysSupport", name := "hashCode", desc := "(I[III)I" } : Jvm.MethodName)) ∈ lw_all := lw_g (lw_at lw_m3 21 rfl) rfl
theorem q653 : (Jvm.Cond.code ({ cls := "jdk/internal/util/ArraysSupport", name := "hashCode", desc := "(I[III)I" } : Jvm.MethodName) prog_70_method_9_code (6 : Nat) (Option.some Jvm.ClassFile.FieldType.int)) ∈ lw_all := lw_g (lw_at lw_m3 22 rfl) rfl
theorem q654 : (Jvm.Cond.classLink "jdk/internal/util/ArraysSupport" (87 : Nat) "java/lang/IllegalArgumentException") ∈ lw_all := lw_g (lw_at lw_m3 23 rfl) rfl
theorem q715 : (Jvm.Cond.classLink "jdk/internal/util/ArraysSupport" (89 : Nat) "java/lang/StringBuilder") ∈ lw_all := lw_g (lw_at lw_m3 84 rfl) rfl
theorem q717 : (Jvm.Cond.methodLink "jdk/internal/util/ArraysSupport" (91 : Nat) ({ cls := "java/lang/StringBuilder", name := "<init>", desc := "()V" } : Jvm.MethodName)) ∈ lw_all := lw_g (lw_at lw_m3 86 rfl) rfl
theorem q745 : (Jvm.Cond.stringRef "jdk/internal/util/ArraysSupport" (92 : Nat) "unrecognized basic type: ") ∈ lw_tbl := lw_at lw_m3 114 rfl
theorem q746 : (Jvm.Cond.methodLink "jdk/internal/util/ArraysSupport" (94 : Nat) ({ cls := "java/lang/StringBuilder", name := "append", desc := "(Ljava/lang/String;)Ljava/lang/StringBuilder;" } : Jvm.MethodName)) ∈ lw_all := lw_g (lw_at lw_m3 115 rfl) rfl
theorem q841 : (Jvm.Cond.methodLink "jdk/internal/util/ArraysSupport" (98 : Nat) ({ cls := "java/lang/StringBuilder", name := "append", desc := "(I)Ljava/lang/StringBuilder;" } : Jvm.MethodName)) ∈ lw_all := lw_g (lw_at lw_m3 210 rfl) rfl
theorem q866 : (Jvm.Cond.methodLink "jdk/internal/util/ArraysSupport" (101 : Nat) ({ cls := "java/lang/StringBuilder", name := "toString", desc := "()Ljava/lang/String;" } : Jvm.MethodName)) ∈ lw_all := lw_g (lw_at lw_m3 235 rfl) rfl
theorem q958 : (Jvm.Cond.methodLink "jdk/internal/util/ArraysSupport" (105 : Nat) ({ cls := "java/lang/IllegalArgumentException", name := "<init>", desc := "(Ljava/lang/String;)V" } : Jvm.MethodName)) ∈ lw_all := lw_g (lw_at lw_m4 87 rfl) rfl
theorem q1109 : (Jvm.Cond.static ({ cls := "jdk/internal/util/ArraysSupport", name := "mismatch", desc := "([B[BI)I" } : Jvm.MethodName)) ∈ lw_all := lw_g (lw_at lw_m4 238 rfl) rfl
theorem q1110 : (Jvm.Cond.code ({ cls := "jdk/internal/util/ArraysSupport", name := "mismatch", desc := "([B[BI)I" } : Jvm.MethodName) prog_70_method_13_code (4 : Nat) (Option.some Jvm.ClassFile.FieldType.int)) ∈ lw_all := lw_g (lw_at lw_m4 239 rfl) rfl
theorem q1111 : (Jvm.Cond.fieldLink "jdk/internal/util/ArraysSupport" (126 : Nat) "jdk/internal/misc/Unsafe" "ARRAY_BYTE_BASE_OFFSET" "I") ∈ lw_all := lw_g (lw_at lw_m5 0 rfl) rfl
theorem q1113 : (Jvm.Cond.fieldLink "jdk/internal/util/ArraysSupport" (129 : Nat) "jdk/internal/util/ArraysSupport" "LOG2_ARRAY_BYTE_INDEX_SCALE" "I") ∈ lw_all := lw_g (lw_at lw_m5 2 rfl) rfl
theorem q1114 : (Jvm.Cond.laysStatic "jdk/internal/util/ArraysSupport" "LOG2_ARRAY_BYTE_INDEX_SCALE" "I") ∈ lw_tbl := lw_at lw_m5 3 rfl
theorem q1115 : (Jvm.Cond.methodLink "jdk/internal/util/ArraysSupport" (122 : Nat) ({ cls := "jdk/internal/util/ArraysSupport", name := "vectorizedMismatch", desc := "(Ljava/lang/Object;JLjava/lang/Object;JII)I" } : Jvm.MethodName)) ∈ lw_all := lw_g (lw_at lw_m5 4 rfl) rfl
theorem q1116 : (Jvm.Cond.static ({ cls := "jdk/internal/util/ArraysSupport", name := "vectorizedMismatch", desc := "(Ljava/lang/Object;JLjava/lang/Object;JII)I" } : Jvm.MethodName)) ∈ lw_all := lw_g (lw_at lw_m5 5 rfl) rfl
theorem q1117 : (Jvm.Cond.code ({ cls := "jdk/internal/util/ArraysSupport", name := "vectorizedMismatch", desc := "(Ljava/lang/Object;JLjava/lang/Object;JII)I" } : Jvm.MethodName) prog_70_method_3_code (19 : Nat) (Option.some Jvm.ClassFile.FieldType.int)) ∈ lw_all := lw_g (lw_at lw_m5 6 rfl) rfl
theorem q1118 : (Jvm.Cond.fieldLink "jdk/internal/util/ArraysSupport" (20 : Nat) "jdk/internal/util/ArraysSupport" "LOG2_ARRAY_LONG_INDEX_SCALE" "I") ∈ lw_all := lw_g (lw_at lw_m5 7 rfl) rfl
theorem q1119 : (Jvm.Cond.laysStatic "jdk/internal/util/ArraysSupport" "LOG2_ARRAY_LONG_INDEX_SCALE" "I") ∈ lw_tbl := lw_at lw_m5 8 rfl
theorem q1120 : (Jvm.Cond.fieldLink "jdk/internal/util/ArraysSupport" (26 : Nat) "jdk/internal/util/ArraysSupport" "U" "Ljdk/internal/misc/Unsafe;") ∈ lw_all := lw_g (lw_at lw_m5 9 rfl) rfl
theorem q1121 : (Jvm.Cond.laysStatic "jdk/internal/util/ArraysSupport" "U" "Ljdk/internal/misc/Unsafe;") ∈ lw_tbl := lw_at lw_m5 10 rfl
theorem q1122 : (Jvm.Cond.methodLink "jdk/internal/util/ArraysSupport" (30 : Nat) ({ cls := "jdk/internal/misc/Unsafe", name := "getLongUnaligned", desc := "(Ljava/lang/Object;J)J" } : Jvm.MethodName)) ∈ lw_all := lw_g (lw_at lw_m5 11 rfl) rfl
theorem q1174 : (Jvm.Cond.fieldLink "jdk/internal/util/ArraysSupport" (36 : Nat) "jdk/internal/util/ArraysSupport" "BIG_ENDIAN" "Z") ∈ lw_all := lw_g (lw_at lw_m5 63 rfl) rfl
theorem q1175 : (Jvm.Cond.laysStatic "jdk/internal/util/ArraysSupport" "BIG_ENDIAN" "Z") ∈ lw_tbl := lw_at lw_m5 64 rfl
theorem q1176 : (Jvm.Cond.methodLink "jdk/internal/util/ArraysSupport" (40 : Nat) ({ cls := "java/lang/Long", name := "numberOfLeadingZeros", desc := "(J)I" } : Jvm.MethodName)) ∈ lw_all := lw_g (lw_at lw_m5 65 rfl) rfl
theorem q1183 : (Jvm.Cond.fieldLink "jdk/internal/util/ArraysSupport" (46 : Nat) "jdk/internal/util/ArraysSupport" "LOG2_BYTE_BIT_SIZE" "I") ∈ lw_all := lw_g (lw_at lw_m5 72 rfl) rfl
theorem q1184 : (Jvm.Cond.laysStatic "jdk/internal/util/ArraysSupport" "LOG2_BYTE_BIT_SIZE" "I") ∈ lw_tbl := lw_at lw_m5 73 rfl
theorem q1185 : (Jvm.Cond.methodLink "jdk/internal/util/ArraysSupport" (49 : Nat) ({ cls := "java/lang/Long", name := "numberOfTrailingZeros", desc := "(J)I" } : Jvm.MethodName)) ∈ lw_all := lw_g (lw_at lw_m5 74 rfl) rfl
theorem q1191 : (Jvm.Cond.fieldLink "jdk/internal/util/ArraysSupport" (51 : Nat) "jdk/internal/util/ArraysSupport" "LOG2_ARRAY_INT_INDEX_SCALE" "I") ∈ lw_all := lw_g (lw_at lw_m5 80 rfl) rfl
theorem q1192 : (Jvm.Cond.laysStatic "jdk/internal/util/ArraysSupport" "LOG2_ARRAY_INT_INDEX_SCALE" "I") ∈ lw_tbl := lw_at lw_m5 81 rfl
theorem q1193 : (Jvm.Cond.methodLink "jdk/internal/util/ArraysSupport" (54 : Nat) ({ cls := "jdk/internal/misc/Unsafe", name := "getIntUnaligned", desc := "(Ljava/lang/Object;J)I" } : Jvm.MethodName)) ∈ lw_all := lw_g (lw_at lw_m5 82 rfl) rfl
theorem q1210 : (Jvm.Cond.methodLink "jdk/internal/util/ArraysSupport" (58 : Nat) ({ cls := "java/lang/Integer", name := "numberOfLeadingZeros", desc := "(I)I" } : Jvm.MethodName)) ∈ lw_all := lw_g (lw_at lw_m5 99 rfl) rfl
theorem q1211 : (Jvm.Cond.methodLink "jdk/internal/util/ArraysSupport" (11 : Nat) ({ cls := "java/lang/Integer", name := "numberOfTrailingZeros", desc := "(I)I" } : Jvm.MethodName)) ∈ lw_all := lw_g (lw_at lw_m5 100 rfl) rfl
/-! java/lang/Math -/
set_option maxRecDepth 100000
def RJ11 : String := "java/lang/Math"
abbrev cJ11_max : ByteArray := prog_32_method_65_code
def yJ11_max : MethodName := ⟨RJ11, "max", "(II)I"⟩
def dkwJ11_max_0 : List UInt8 := [26, 27, 161, 0, 7, 26, 167, 0, 4, 27, 172]
abbrev dktJ11_max_0 : List UInt8 := dkwJ11_max_0 ++ []
theorem dksJ11_max_0 : cJ11_max.data.toList.drop 0 = dktJ11_max_0 := by decide +kernel
theorem dJ11_max_0 : decode cJ11_max 0 = .ok (.iload_n 0, 1) := dk_26 (dk_at dksJ11_max_0 0 rfl rfl)
theorem dJ11_max_1 : decode cJ11_max 1 = .ok (.iload_n 1, 1) := dk_27 (dk_at dksJ11_max_0 1 rfl rfl)
theorem dJ11_max_2 : decode cJ11_max 2 = .ok (.if_icmp .lt 7, 3) := dk_161 0 7 (dk_at dksJ11_max_0 2 rfl rfl)
theorem dJ11_max_5 : decode cJ11_max 5 = .ok (.iload_n 0, 1) := dk_26 (dk_at dksJ11_max_0 5 rfl rfl)
theorem dJ11_max_6 : decode cJ11_max 6 = .ok (.goto 4, 3) := dk_167 0 4 (dk_at dksJ11_max_0 6 rfl rfl)
theorem dJ11_max_9 : decode cJ11_max 9 = .ok (.iload_n 1, 1) := dk_27 (dk_at dksJ11_max_0 9 rfl rfl)
theorem dJ11_max_10 : decode cJ11_max 10 = .ok (.ireturn, 1) := dk_172 (dk_at dksJ11_max_0 10 rfl rfl)
abbrev cJ11_min : ByteArray := prog_32_method_69_code
def yJ11_min : MethodName := ⟨RJ11, "min", "(II)I"⟩
def dkwJ11_min_0 : List UInt8 := [26, 27, 163, 0, 7, 26, 167, 0, 4, 27, 172]
abbrev dktJ11_min_0 : List UInt8 := dkwJ11_min_0 ++ []
theorem dksJ11_min_0 : cJ11_min.data.toList.drop 0 = dktJ11_min_0 := by decide +kernel
theorem dJ11_min_0 : decode cJ11_min 0 = .ok (.iload_n 0, 1) := dk_26 (dk_at dksJ11_min_0 0 rfl rfl)
theorem dJ11_min_1 : decode cJ11_min 1 = .ok (.iload_n 1, 1) := dk_27 (dk_at dksJ11_min_0 1 rfl rfl)
theorem dJ11_min_2 : decode cJ11_min 2 = .ok (.if_icmp .gt 7, 3) := dk_163 0 7 (dk_at dksJ11_min_0 2 rfl rfl)
theorem dJ11_min_5 : decode cJ11_min 5 = .ok (.iload_n 0, 1) := dk_26 (dk_at dksJ11_min_0 5 rfl rfl)
theorem dJ11_min_6 : decode cJ11_min 6 = .ok (.goto 4, 3) := dk_167 0 4 (dk_at dksJ11_min_0 6 rfl rfl)
theorem dJ11_min_9 : decode cJ11_min 9 = .ok (.iload_n 1, 1) := dk_27 (dk_at dksJ11_min_0 9 rfl rfl)
theorem dJ11_min_10 : decode cJ11_min 10 = .ok (.ireturn, 1) := dk_172 (dk_at dksJ11_min_0 10 rfl rfl)
abbrev cJ11_abs : ByteArray := prog_32_method_59_code
def yJ11_abs : MethodName := ⟨RJ11, "abs", "(I)I"⟩
def dkwJ11_abs_0 : List UInt8 := [26, 156, 0, 8, 26, 116, 167, 0, 4, 26, 172]
abbrev dktJ11_abs_0 : List UInt8 := dkwJ11_abs_0 ++ []
theorem dksJ11_abs_0 : cJ11_abs.data.toList.drop 0 = dktJ11_abs_0 := by decide +kernel
theorem dJ11_abs_0 : decode cJ11_abs 0 = .ok (.iload_n 0, 1) := dk_26 (dk_at dksJ11_abs_0 0 rfl rfl)
theorem dJ11_abs_1 : decode cJ11_abs 1 = .ok (.ifCond .ge 8, 3) := dk_156 0 8 (dk_at dksJ11_abs_0 1 rfl rfl)
theorem dJ11_abs_4 : decode cJ11_abs 4 = .ok (.iload_n 0, 1) := dk_26 (dk_at dksJ11_abs_0 4 rfl rfl)
theorem dJ11_abs_5 : decode cJ11_abs 5 = .ok (.ineg, 1) := dk_116 (dk_at dksJ11_abs_0 5 rfl rfl)
theorem dJ11_abs_6 : decode cJ11_abs 6 = .ok (.goto 4, 3) := dk_167 0 4 (dk_at dksJ11_abs_0 6 rfl rfl)
theorem dJ11_abs_9 : decode cJ11_abs 9 = .ok (.iload_n 0, 1) := dk_26 (dk_at dksJ11_abs_0 9 rfl rfl)
theorem dJ11_abs_10 : decode cJ11_abs 10 = .ok (.ireturn, 1) := dk_172 (dk_at dksJ11_abs_0 10 rfl rfl)
theorem q168 : (Jvm.Cond.initialized "java/lang/Math") ∈ lw_all := lw_g (lw_at lw_m1 17 rfl) rfl
theorem q479 : (Jvm.Cond.static ({ cls := "java/lang/Math", name := "max", desc := "(II)I" } : Jvm.MethodName)) ∈ lw_all := lw_g (lw_at lw_m2 88 rfl) rfl
theorem q480 : (Jvm.Cond.code ({ cls := "java/lang/Math", name := "max", desc := "(II)I" } : Jvm.MethodName) prog_32_method_65_code (2 : Nat) (Option.some Jvm.ClassFile.FieldType.int)) ∈ lw_all := lw_g (lw_at lw_m2 89 rfl) rfl
theorem q531 : (Jvm.Cond.static ({ cls := "java/lang/Math", name := "min", desc := "(II)I" } : Jvm.MethodName)) ∈ lw_all := lw_g (lw_at lw_m2 140 rfl) rfl
theorem q532 : (Jvm.Cond.code ({ cls := "java/lang/Math", name := "min", desc := "(II)I" } : Jvm.MethodName) prog_32_method_69_code (2 : Nat) (Option.some Jvm.ClassFile.FieldType.int)) ∈ lw_all := lw_g (lw_at lw_m2 141 rfl) rfl
theorem q2388 : (Jvm.Cond.static ({ cls := "java/lang/Math", name := "abs", desc := "(I)I" } : Jvm.MethodName)) ∈ lw_all := lw_g (lw_at lw_m10 77 rfl) rfl
theorem q2389 : (Jvm.Cond.code ({ cls := "java/lang/Math", name := "abs", desc := "(I)I" } : Jvm.MethodName) prog_32_method_59_code (1 : Nat) (Option.some Jvm.ClassFile.FieldType.int)) ∈ lw_all := lw_g (lw_at lw_m10 78 rfl) rfl
/-! java/util/Arrays -/
set_option maxRecDepth 100000
def RJ12 : String := "java/util/Arrays"
abbrev cJ12_copyOf : ByteArray := prog_51_method_119_code
def yJ12_copyOf : MethodName := ⟨RJ12, "copyOf", "([Ljava/lang/Object;I)[Ljava/lang/Object;"⟩
def dkwJ12_copyOf_0 : List UInt8 := [42, 27, 42, 182, 0, 86, 184, 1, 44, 176]
abbrev dktJ12_copyOf_0 : List UInt8 := dkwJ12_copyOf_0 ++ []
theorem dksJ12_copyOf_0 : cJ12_copyOf.data.toList.drop 0 = dktJ12_copyOf_0 := by decide +kernel
theorem dJ12_copyOf_0 : decode cJ12_copyOf 0 = .ok (.aload_n 0, 1) := dk_42 (dk_at dksJ12_copyOf_0 0 rfl rfl)
theorem dJ12_copyOf_1 : decode cJ12_copyOf 1 = .ok (.iload_n 1, 1) := dk_27 (dk_at dksJ12_copyOf_0 1 rfl rfl)
theorem dJ12_copyOf_2 : decode cJ12_copyOf 2 = .ok (.aload_n 0, 1) := dk_42 (dk_at dksJ12_copyOf_0 2 rfl rfl)
theorem dJ12_copyOf_3 : decode cJ12_copyOf 3 = .ok (.invokevirtual 86, 3) := dk_182 0 86 (dk_at dksJ12_copyOf_0 3 rfl rfl)
theorem dJ12_copyOf_6 : decode cJ12_copyOf 6 = .ok (.invokestatic 300, 3) := dk_184 1 44 (dk_at dksJ12_copyOf_0 6 rfl rfl)
theorem dJ12_copyOf_9 : decode cJ12_copyOf 9 = .ok (.areturn, 1) := dk_176 (dk_at dksJ12_copyOf_0 9 rfl rfl)
abbrev cJ12_copyOf_2 : ByteArray := prog_51_method_120_code
def yJ12_copyOf_2 : MethodName := ⟨RJ12, "copyOf", "([Ljava/lang/Object;ILjava/lang/Class;)[Ljava/lang/Object;"⟩
def dkwJ12_copyOf_2_1 : List UInt8 := [78, 42, 3, 45, 3, 42, 190, 27, 184, 1, 48, 184, 0, 150, 45, 176]
abbrev dktJ12_copyOf_2_1 : List UInt8 := dkwJ12_copyOf_2_1 ++ []
def dkwJ12_copyOf_2_0 : List UInt8 := [44, 18, 110, 166, 0, 10, 27, 189, 0, 2, 167, 0, 14, 44, 182, 0, 90, 27, 184, 0, 95, 192, 0, 110]
abbrev dktJ12_copyOf_2_0 : List UInt8 := dkwJ12_copyOf_2_0 ++ dktJ12_copyOf_2_1
theorem dksJ12_copyOf_2_0 : cJ12_copyOf_2.data.toList.drop 0 = dktJ12_copyOf_2_0 := by decide +kernel
theorem dksJ12_copyOf_2_1 : cJ12_copyOf_2.data.toList.drop 24 = dktJ12_copyOf_2_1 := dk_seg dksJ12_copyOf_2_0 24 rfl rfl
theorem dJ12_copyOf_2_0 : decode cJ12_copyOf_2 0 = .ok (.aload_n 2, 1) := dk_44 (dk_at dksJ12_copyOf_2_0 0 rfl rfl)
theorem dJ12_copyOf_2_1 : decode cJ12_copyOf_2 1 = .ok (.ldc 110, 2) := dk_18 110 (dk_at dksJ12_copyOf_2_0 1 rfl rfl)
theorem dJ12_copyOf_2_3 : decode cJ12_copyOf_2 3 = .ok (.if_acmp .ne 10, 3) := dk_166 0 10 (dk_at dksJ12_copyOf_2_0 3 rfl rfl)
theorem dJ12_copyOf_2_6 : decode cJ12_copyOf_2 6 = .ok (.iload_n 1, 1) := dk_27 (dk_at dksJ12_copyOf_2_0 6 rfl rfl)
theorem dJ12_copyOf_2_7 : decode cJ12_copyOf_2 7 = .ok (.anewarray 2, 3) := dk_189 0 2 (dk_at dksJ12_copyOf_2_0 7 rfl rfl)
theorem dJ12_copyOf_2_10 : decode cJ12_copyOf_2 10 = .ok (.goto 14, 3) := dk_167 0 14 (dk_at dksJ12_copyOf_2_0 10 rfl rfl)
theorem dJ12_copyOf_2_13 : decode cJ12_copyOf_2 13 = .ok (.aload_n 2, 1) := dk_44 (dk_at dksJ12_copyOf_2_0 13 rfl rfl)
theorem dJ12_copyOf_2_14 : decode cJ12_copyOf_2 14 = .ok (.invokevirtual 90, 3) := dk_182 0 90 (dk_at dksJ12_copyOf_2_0 14 rfl rfl)
theorem dJ12_copyOf_2_17 : decode cJ12_copyOf_2 17 = .ok (.iload_n 1, 1) := dk_27 (dk_at dksJ12_copyOf_2_0 17 rfl rfl)
theorem dJ12_copyOf_2_18 : decode cJ12_copyOf_2 18 = .ok (.invokestatic 95, 3) := dk_184 0 95 (dk_at dksJ12_copyOf_2_0 18 rfl rfl)
theorem dJ12_copyOf_2_21 : decode cJ12_copyOf_2 21 = .ok (.checkcast 110, 3) := dk_192 0 110 (dk_at dksJ12_copyOf_2_0 21 rfl rfl)
theorem dJ12_copyOf_2_24 : decode cJ12_copyOf_2 24 = .ok (.astore_n 3, 1) := dk_78 (dk_at dksJ12_copyOf_2_1 0 rfl rfl)
theorem dJ12_copyOf_2_25 : decode cJ12_copyOf_2 25 = .ok (.aload_n 0, 1) := dk_42 (dk_at dksJ12_copyOf_2_1 1 rfl rfl)
theorem dJ12_copyOf_2_26 : decode cJ12_copyOf_2 26 = .ok (.iconst 0, 1) := dk_3 (dk_at dksJ12_copyOf_2_1 2 rfl rfl)
theorem dJ12_copyOf_2_27 : decode cJ12_copyOf_2 27 = .ok (.aload_n 3, 1) := dk_45 (dk_at dksJ12_copyOf_2_1 3 rfl rfl)
theorem dJ12_copyOf_2_28 : decode cJ12_copyOf_2 28 = .ok (.iconst 0, 1) := dk_3 (dk_at dksJ12_copyOf_2_1 4 rfl rfl)
theorem dJ12_copyOf_2_29 : decode cJ12_copyOf_2 29 = .ok (.aload_n 0, 1) := dk_42 (dk_at dksJ12_copyOf_2_1 5 rfl rfl)
theorem dJ12_copyOf_2_30 : decode cJ12_copyOf_2 30 = .ok (.arraylength, 1) := dk_190 (dk_at dksJ12_copyOf_2_1 6 rfl rfl)
theorem dJ12_copyOf_2_31 : decode cJ12_copyOf_2 31 = .ok (.iload_n 1, 1) := dk_27 (dk_at dksJ12_copyOf_2_1 7 rfl rfl)
theorem dJ12_copyOf_2_32 : decode cJ12_copyOf_2 32 = .ok (.invokestatic 304, 3) := dk_184 1 48 (dk_at dksJ12_copyOf_2_1 8 rfl rfl)
theorem dJ12_copyOf_2_35 : decode cJ12_copyOf_2 35 = .ok (.invokestatic 150, 3) := dk_184 0 150 (dk_at dksJ12_copyOf_2_1 11 rfl rfl)
theorem dJ12_copyOf_2_38 : decode cJ12_copyOf_2 38 = .ok (.aload_n 3, 1) := dk_45 (dk_at dksJ12_copyOf_2_1 14 rfl rfl)
theorem dJ12_copyOf_2_39 : decode cJ12_copyOf_2 39 = .ok (.areturn, 1) := dk_176 (dk_at dksJ12_copyOf_2_1 15 rfl rfl)
abbrev cJ12_copyOf_3 : ByteArray := prog_51_method_121_code
def yJ12_copyOf_3 : MethodName := ⟨RJ12, "copyOf", "([BI)[B"⟩
def dkwJ12_copyOf_3_1 : List UInt8 := [27, 184, 1, 48, 184, 0, 150, 44, 176]
abbrev dktJ12_copyOf_3_1 : List UInt8 := dkwJ12_copyOf_3_1 ++ []
def dkwJ12_copyOf_3_0 : List UInt8 := [27, 42, 190, 160, 0, 11, 42, 182, 1, 54, 192, 1, 55, 176, 27, 188, 8, 77, 42, 3, 44, 3, 42, 190]
abbrev dktJ12_copyOf_3_0 : List UInt8 := dkwJ12_copyOf_3_0 ++ dktJ12_copyOf_3_1
theorem dksJ12_copyOf_3_0 : cJ12_copyOf_3.data.toList.drop 0 = dktJ12_copyOf_3_0 := by decide +kernel
theorem dksJ12_copyOf_3_1 : cJ12_copyOf_3.data.toList.drop 24 = dktJ12_copyOf_3_1 := dk_seg dksJ12_copyOf_3_0 24 rfl rfl
theorem dJ12_copyOf_3_0 : decode cJ12_copyOf_3 0 = .ok (.iload_n 1, 1) := dk_27 (dk_at dksJ12_copyOf_3_0 0 rfl rfl)
theorem dJ12_copyOf_3_1 : decode cJ12_copyOf_3 1 = .ok (.aload_n 0, 1) := dk_42 (dk_at dksJ12_copyOf_3_0 1 rfl rfl)
theorem dJ12_copyOf_3_2 : decode cJ12_copyOf_3 2 = .ok (.arraylength, 1) := dk_190 (dk_at dksJ12_copyOf_3_0 2 rfl rfl)
theorem dJ12_copyOf_3_3 : decode cJ12_copyOf_3 3 = .ok (.if_icmp .ne 11, 3) := dk_160 0 11 (dk_at dksJ12_copyOf_3_0 3 rfl rfl)
theorem dJ12_copyOf_3_6 : decode cJ12_copyOf_3 6 = .ok (.aload_n 0, 1) := dk_42 (dk_at dksJ12_copyOf_3_0 6 rfl rfl)
theorem dJ12_copyOf_3_7 : decode cJ12_copyOf_3 7 = .ok (.invokevirtual 310, 3) := dk_182 1 54 (dk_at dksJ12_copyOf_3_0 7 rfl rfl)
theorem dJ12_copyOf_3_10 : decode cJ12_copyOf_3 10 = .ok (.checkcast 311, 3) := dk_192 1 55 (dk_at dksJ12_copyOf_3_0 10 rfl rfl)
theorem dJ12_copyOf_3_13 : decode cJ12_copyOf_3 13 = .ok (.areturn, 1) := dk_176 (dk_at dksJ12_copyOf_3_0 13 rfl rfl)
theorem dJ12_copyOf_3_14 : decode cJ12_copyOf_3 14 = .ok (.iload_n 1, 1) := dk_27 (dk_at dksJ12_copyOf_3_0 14 rfl rfl)
theorem dJ12_copyOf_3_15 : decode cJ12_copyOf_3 15 = .ok (.newarray .byte, 2) := dk_188_8 (dk_at dksJ12_copyOf_3_0 15 rfl rfl)
theorem dJ12_copyOf_3_17 : decode cJ12_copyOf_3 17 = .ok (.astore_n 2, 1) := dk_77 (dk_at dksJ12_copyOf_3_0 17 rfl rfl)
theorem dJ12_copyOf_3_18 : decode cJ12_copyOf_3 18 = .ok (.aload_n 0, 1) := dk_42 (dk_at dksJ12_copyOf_3_0 18 rfl rfl)
theorem dJ12_copyOf_3_19 : decode cJ12_copyOf_3 19 = .ok (.iconst 0, 1) := dk_3 (dk_at dksJ12_copyOf_3_0 19 rfl rfl)
theorem dJ12_copyOf_3_20 : decode cJ12_copyOf_3 20 = .ok (.aload_n 2, 1) := dk_44 (dk_at dksJ12_copyOf_3_0 20 rfl rfl)
theorem dJ12_copyOf_3_21 : decode cJ12_copyOf_3 21 = .ok (.iconst 0, 1) := dk_3 (dk_at dksJ12_copyOf_3_0 21 rfl rfl)
theorem dJ12_copyOf_3_22 : decode cJ12_copyOf_3 22 = .ok (.aload_n 0, 1) := dk_42 (dk_at dksJ12_copyOf_3_0 22 rfl rfl)
theorem dJ12_copyOf_3_23 : decode cJ12_copyOf_3 23 = .ok (.arraylength, 1) := dk_190 (dk_at dksJ12_copyOf_3_0 23 rfl rfl)
theorem dJ12_copyOf_3_24 : decode cJ12_copyOf_3 24 = .ok (.iload_n 1, 1) := dk_27 (dk_at dksJ12_copyOf_3_1 0 rfl rfl)
theorem dJ12_copyOf_3_25 : decode cJ12_copyOf_3 25 = .ok (.invokestatic 304, 3) := dk_184 1 48 (dk_at dksJ12_copyOf_3_1 1 rfl rfl)
theorem dJ12_copyOf_3_28 : decode cJ12_copyOf_3 28 = .ok (.invokestatic 150, 3) := dk_184 0 150 (dk_at dksJ12_copyOf_3_1 4 rfl rfl)
theorem dJ12_copyOf_3_31 : decode cJ12_copyOf_3 31 = .ok (.aload_n 2, 1) := dk_44 (dk_at dksJ12_copyOf_3_1 7 rfl rfl)
theorem dJ12_copyOf_3_32 : decode cJ12_copyOf_3 32 = .ok (.areturn, 1) := dk_176 (dk_at dksJ12_copyOf_3_1 8 rfl rfl)
abbrev cJ12_copyOfRange : ByteArray := prog_51_method_132_code
def yJ12_copyOfRange : MethodName := ⟨RJ12, "copyOfRange", "([BII)[B"⟩
def dkwJ12_copyOfRange_1 : List UInt8 := [176]
abbrev dktJ12_copyOfRange_1 : List UInt8 := dkwJ12_copyOfRange_1 ++ []
def dkwJ12_copyOfRange_0 : List UInt8 := [27, 154, 0, 9, 28, 42, 190, 159, 0, 10, 42, 27, 28, 184, 1, 83, 176, 42, 182, 1, 54, 192, 1, 55]
abbrev dktJ12_copyOfRange_0 : List UInt8 := dkwJ12_copyOfRange_0 ++ dktJ12_copyOfRange_1
theorem dksJ12_copyOfRange_0 : cJ12_copyOfRange.data.toList.drop 0 = dktJ12_copyOfRange_0 := by decide +kernel
theorem dksJ12_copyOfRange_1 : cJ12_copyOfRange.data.toList.drop 24 = dktJ12_copyOfRange_1 := dk_seg dksJ12_copyOfRange_0 24 rfl rfl
theorem dJ12_copyOfRange_0 : decode cJ12_copyOfRange 0 = .ok (.iload_n 1, 1) := dk_27 (dk_at dksJ12_copyOfRange_0 0 rfl rfl)
theorem dJ12_copyOfRange_1 : decode cJ12_copyOfRange 1 = .ok (.ifCond .ne 9, 3) := dk_154 0 9 (dk_at dksJ12_copyOfRange_0 1 rfl rfl)
theorem dJ12_copyOfRange_4 : decode cJ12_copyOfRange 4 = .ok (.iload_n 2, 1) := dk_28 (dk_at dksJ12_copyOfRange_0 4 rfl rfl)
theorem dJ12_copyOfRange_5 : decode cJ12_copyOfRange 5 = .ok (.aload_n 0, 1) := dk_42 (dk_at dksJ12_copyOfRange_0 5 rfl rfl)
theorem dJ12_copyOfRange_6 : decode cJ12_copyOfRange 6 = .ok (.arraylength, 1) := dk_190 (dk_at dksJ12_copyOfRange_0 6 rfl rfl)
theorem dJ12_copyOfRange_7 : decode cJ12_copyOfRange 7 = .ok (.if_icmp .eq 10, 3) := dk_159 0 10 (dk_at dksJ12_copyOfRange_0 7 rfl rfl)
theorem dJ12_copyOfRange_10 : decode cJ12_copyOfRange 10 = .ok (.aload_n 0, 1) := dk_42 (dk_at dksJ12_copyOfRange_0 10 rfl rfl)
theorem dJ12_copyOfRange_11 : decode cJ12_copyOfRange 11 = .ok (.iload_n 1, 1) := dk_27 (dk_at dksJ12_copyOfRange_0 11 rfl rfl)
theorem dJ12_copyOfRange_12 : decode cJ12_copyOfRange 12 = .ok (.iload_n 2, 1) := dk_28 (dk_at dksJ12_copyOfRange_0 12 rfl rfl)
theorem dJ12_copyOfRange_13 : decode cJ12_copyOfRange 13 = .ok (.invokestatic 339, 3) := dk_184 1 83 (dk_at dksJ12_copyOfRange_0 13 rfl rfl)
theorem dJ12_copyOfRange_16 : decode cJ12_copyOfRange 16 = .ok (.areturn, 1) := dk_176 (dk_at dksJ12_copyOfRange_0 16 rfl rfl)
theorem dJ12_copyOfRange_17 : decode cJ12_copyOfRange 17 = .ok (.aload_n 0, 1) := dk_42 (dk_at dksJ12_copyOfRange_0 17 rfl rfl)
theorem dJ12_copyOfRange_18 : decode cJ12_copyOfRange 18 = .ok (.invokevirtual 310, 3) := dk_182 1 54 (dk_at dksJ12_copyOfRange_0 18 rfl rfl)
theorem dJ12_copyOfRange_21 : decode cJ12_copyOfRange 21 = .ok (.checkcast 311, 3) := dk_192 1 55 (dk_at dksJ12_copyOfRange_0 21 rfl rfl)
theorem dJ12_copyOfRange_24 : decode cJ12_copyOfRange 24 = .ok (.areturn, 1) := dk_176 (dk_at dksJ12_copyOfRange_1 0 rfl rfl)
abbrev cJ12_copyOfRangeByte : ByteArray := prog_51_method_133_code
def yJ12_copyOfRangeByte : MethodName := ⟨RJ12, "copyOfRangeByte", "([BII)[B"⟩
def dkwJ12_copyOfRangeByte_1 : List UInt8 := [184, 1, 48, 184, 0, 150, 25, 4, 176]
abbrev dktJ12_copyOfRangeByte_1 : List UInt8 := dkwJ12_copyOfRangeByte_1 ++ []
def dkwJ12_copyOfRangeByte_0 : List UInt8 := [27, 28, 184, 1, 87, 28, 27, 100, 62, 29, 188, 8, 58, 4, 42, 27, 25, 4, 3, 42, 190, 27, 100, 29]
abbrev dktJ12_copyOfRangeByte_0 : List UInt8 := dkwJ12_copyOfRangeByte_0 ++ dktJ12_copyOfRangeByte_1
theorem dksJ12_copyOfRangeByte_0 : cJ12_copyOfRangeByte.data.toList.drop 0 = dktJ12_copyOfRangeByte_0 := by decide +kernel
theorem dksJ12_copyOfRangeByte_1 : cJ12_copyOfRangeByte.data.toList.drop 24 = dktJ12_copyOfRangeByte_1 := dk_seg dksJ12_copyOfRangeByte_0 24 rfl rfl
theorem dJ12_copyOfRangeByte_0 : decode cJ12_copyOfRangeByte 0 = .ok (.iload_n 1, 1) := dk_27 (dk_at dksJ12_copyOfRangeByte_0 0 rfl rfl)
theorem dJ12_copyOfRangeByte_1 : decode cJ12_copyOfRangeByte 1 = .ok (.iload_n 2, 1) := dk_28 (dk_at dksJ12_copyOfRangeByte_0 1 rfl rfl)
theorem dJ12_copyOfRangeByte_2 : decode cJ12_copyOfRangeByte 2 = .ok (.invokestatic 343, 3) := dk_184 1 87 (dk_at dksJ12_copyOfRangeByte_0 2 rfl rfl)
theorem dJ12_copyOfRangeByte_5 : decode cJ12_copyOfRangeByte 5 = .ok (.iload_n 2, 1) := dk_28 (dk_at dksJ12_copyOfRangeByte_0 5 rfl rfl)
theorem dJ12_copyOfRangeByte_6 : decode cJ12_copyOfRangeByte 6 = .ok (.iload_n 1, 1) := dk_27 (dk_at dksJ12_copyOfRangeByte_0 6 rfl rfl)
theorem dJ12_copyOfRangeByte_7 : decode cJ12_copyOfRangeByte 7 = .ok (.isub, 1) := dk_100 (dk_at dksJ12_copyOfRangeByte_0 7 rfl rfl)
theorem dJ12_copyOfRangeByte_8 : decode cJ12_copyOfRangeByte 8 = .ok (.istore_n 3, 1) := dk_62 (dk_at dksJ12_copyOfRangeByte_0 8 rfl rfl)
theorem dJ12_copyOfRangeByte_9 : decode cJ12_copyOfRangeByte 9 = .ok (.iload_n 3, 1) := dk_29 (dk_at dksJ12_copyOfRangeByte_0 9 rfl rfl)
theorem dJ12_copyOfRangeByte_10 : decode cJ12_copyOfRangeByte 10 = .ok (.newarray .byte, 2) := dk_188_8 (dk_at dksJ12_copyOfRangeByte_0 10 rfl rfl)
theorem dJ12_copyOfRangeByte_12 : decode cJ12_copyOfRangeByte 12 = .ok (.astore 4, 2) := dk_58 4 (dk_at dksJ12_copyOfRangeByte_0 12 rfl rfl)
theorem dJ12_copyOfRangeByte_14 : decode cJ12_copyOfRangeByte 14 = .ok (.aload_n 0, 1) := dk_42 (dk_at dksJ12_copyOfRangeByte_0 14 rfl rfl)
theorem dJ12_copyOfRangeByte_15 : decode cJ12_copyOfRangeByte 15 = .ok (.iload_n 1, 1) := dk_27 (dk_at dksJ12_copyOfRangeByte_0 15 rfl rfl)
theorem dJ12_copyOfRangeByte_16 : decode cJ12_copyOfRangeByte 16 = .ok (.aload 4, 2) := dk_25 4 (dk_at dksJ12_copyOfRangeByte_0 16 rfl rfl)
theorem dJ12_copyOfRangeByte_18 : decode cJ12_copyOfRangeByte 18 = .ok (.iconst 0, 1) := dk_3 (dk_at dksJ12_copyOfRangeByte_0 18 rfl rfl)
theorem dJ12_copyOfRangeByte_19 : decode cJ12_copyOfRangeByte 19 = .ok (.aload_n 0, 1) := dk_42 (dk_at dksJ12_copyOfRangeByte_0 19 rfl rfl)
theorem dJ12_copyOfRangeByte_20 : decode cJ12_copyOfRangeByte 20 = .ok (.arraylength, 1) := dk_190 (dk_at dksJ12_copyOfRangeByte_0 20 rfl rfl)
theorem dJ12_copyOfRangeByte_21 : decode cJ12_copyOfRangeByte 21 = .ok (.iload_n 1, 1) := dk_27 (dk_at dksJ12_copyOfRangeByte_0 21 rfl rfl)
theorem dJ12_copyOfRangeByte_22 : decode cJ12_copyOfRangeByte 22 = .ok (.isub, 1) := dk_100 (dk_at dksJ12_copyOfRangeByte_0 22 rfl rfl)
theorem dJ12_copyOfRangeByte_23 : decode cJ12_copyOfRangeByte 23 = .ok (.iload_n 3, 1) := dk_29 (dk_at dksJ12_copyOfRangeByte_0 23 rfl rfl)
theorem dJ12_copyOfRangeByte_24 : decode cJ12_copyOfRangeByte 24 = .ok (.invokestatic 304, 3) := dk_184 1 48 (dk_at dksJ12_copyOfRangeByte_1 0 rfl rfl)
theorem dJ12_copyOfRangeByte_27 : decode cJ12_copyOfRangeByte 27 = .ok (.invokestatic 150, 3) := dk_184 0 150 (dk_at dksJ12_copyOfRangeByte_1 3 rfl rfl)
theorem dJ12_copyOfRangeByte_30 : decode cJ12_copyOfRangeByte 30 = .ok (.aload 4, 2) := dk_25 4 (dk_at dksJ12_copyOfRangeByte_1 6 rfl rfl)
theorem dJ12_copyOfRangeByte_32 : decode cJ12_copyOfRangeByte 32 = .ok (.areturn, 1) := dk_176 (dk_at dksJ12_copyOfRangeByte_1 8 rfl rfl)
abbrev cJ12_checkLength : ByteArray := prog_51_method_131_code
def yJ12_checkLength : MethodName := ⟨RJ12, "checkLength", "(II)V"⟩
def dkwJ12_checkLength_1 : List UInt8 := [182, 0, 50, 27, 182, 0, 54, 182, 0, 61, 183, 0, 65, 191, 177]
abbrev dktJ12_checkLength_1 : List UInt8 := dkwJ12_checkLength_1 ++ []
def dkwJ12_checkLength_0 : List UInt8 := [27, 26, 162, 0, 35, 187, 0, 43, 89, 187, 0, 45, 89, 183, 0, 47, 26, 182, 0, 54, 19, 1, 81]
abbrev dktJ12_checkLength_0 : List UInt8 := dkwJ12_checkLength_0 ++ dktJ12_checkLength_1
theorem dksJ12_checkLength_0 : cJ12_checkLength.data.toList.drop 0 = dktJ12_checkLength_0 := by decide +kernel
theorem dksJ12_checkLength_1 : cJ12_checkLength.data.toList.drop 23 = dktJ12_checkLength_1 := dk_seg dksJ12_checkLength_0 23 rfl rfl
theorem dJ12_checkLength_0 : decode cJ12_checkLength 0 = .ok (.iload_n 1, 1) := dk_27 (dk_at dksJ12_checkLength_0 0 rfl rfl)
theorem dJ12_checkLength_1 : decode cJ12_checkLength 1 = .ok (.iload_n 0, 1) := dk_26 (dk_at dksJ12_checkLength_0 1 rfl rfl)
theorem dJ12_checkLength_2 : decode cJ12_checkLength 2 = .ok (.if_icmp .ge 35, 3) := dk_162 0 35 (dk_at dksJ12_checkLength_0 2 rfl rfl)
theorem dJ12_checkLength_5 : decode cJ12_checkLength 5 = .ok (.new 43, 3) := dk_187 0 43 (dk_at dksJ12_checkLength_0 5 rfl rfl)
theorem dJ12_checkLength_8 : decode cJ12_checkLength 8 = .ok (.dup, 1) := dk_89 (dk_at dksJ12_checkLength_0 8 rfl rfl)
theorem dJ12_checkLength_9 : decode cJ12_checkLength 9 = .ok (.new 45, 3) := dk_187 0 45 (dk_at dksJ12_checkLength_0 9 rfl rfl)
theorem dJ12_checkLength_12 : decode cJ12_checkLength 12 = .ok (.dup, 1) := dk_89 (dk_at dksJ12_checkLength_0 12 rfl rfl)
theorem dJ12_checkLength_13 : decode cJ12_checkLength 13 = .ok (.invokespecial 47, 3) := dk_183 0 47 (dk_at dksJ12_checkLength_0 13 rfl rfl)
theorem dJ12_checkLength_16 : decode cJ12_checkLength 16 = .ok (.iload_n 0, 1) := dk_26 (dk_at dksJ12_checkLength_0 16 rfl rfl)
theorem dJ12_checkLength_17 : decode cJ12_checkLength 17 = .ok (.invokevirtual 54, 3) := dk_182 0 54 (dk_at dksJ12_checkLength_0 17 rfl rfl)
theorem dJ12_checkLength_20 : decode cJ12_checkLength 20 = .ok (.ldc_w 337, 3) := dk_19 1 81 (dk_at dksJ12_checkLength_0 20 rfl rfl)
theorem dJ12_checkLength_23 : decode cJ12_checkLength 23 = .ok (.invokevirtual 50, 3) := dk_182 0 50 (dk_at dksJ12_checkLength_1 0 rfl rfl)
theorem dJ12_checkLength_26 : decode cJ12_checkLength 26 = .ok (.iload_n 1, 1) := dk_27 (dk_at dksJ12_checkLength_1 3 rfl rfl)
theorem dJ12_checkLength_27 : decode cJ12_checkLength 27 = .ok (.invokevirtual 54, 3) := dk_182 0 54 (dk_at dksJ12_checkLength_1 4 rfl rfl)
theorem dJ12_checkLength_30 : decode cJ12_checkLength 30 = .ok (.invokevirtual 61, 3) := dk_182 0 61 (dk_at dksJ12_checkLength_1 7 rfl rfl)
theorem dJ12_checkLength_33 : decode cJ12_checkLength 33 = .ok (.invokespecial 65, 3) := dk_183 0 65 (dk_at dksJ12_checkLength_1 10 rfl rfl)
theorem dJ12_checkLength_36 : decode cJ12_checkLength 36 = .ok (.athrow, 1) := dk_191 (dk_at dksJ12_checkLength_1 13 rfl rfl)
theorem dJ12_checkLength_37 : decode cJ12_checkLength 37 = .ok (.return_, 1) := dk_177 (dk_at dksJ12_checkLength_1 14 rfl rfl)
theorem q169 : (Jvm.Cond.initialized "java/util/Arrays") ∈ lw_all := lw_g (lw_at lw_m1 18 rfl) rfl
theorem q486 : (Jvm.Cond.static ({ cls := "java/util/Arrays", name := "copyOf", desc := "([Ljava/lang/Object;I)[Ljava/lang/Object;" } : Jvm.MethodName)) ∈ lw_all := lw_g (lw_at lw_m2 95 rfl) rfl
theorem q487 : (Jvm.Cond.code ({ cls := "java/util/Arrays", name := "copyOf", desc := "([Ljava/lang/Object;I)[Ljava/lang/Object;" } : Jvm.MethodName) prog_51_method_119_code (2 : Nat) (Option.some (Jvm.ClassFile.FieldType.array (Jvm.ClassFile.FieldType.object "java/lang/Object")))) ∈ lw_all := lw_g (lw_at lw_m2 96 rfl) rfl
theorem q488 : (Jvm.Cond.methodLink "java/util/Arrays" (86 : Nat) ({ cls := "java/lang/Object", name := "getClass", desc := "()Ljava/lang/Class;" } : Jvm.MethodName)) ∈ lw_all := lw_g (lw_at lw_m2 97 rfl) rfl
theorem q524 : (Jvm.Cond.methodLink "java/util/Arrays" (300 : Nat) ({ cls := "java/util/Arrays", name := "copyOf", desc := "([Ljava/lang/Object;ILjava/lang/Class;)[Ljava/lang/Object;" } : Jvm.MethodName)) ∈ lw_all := lw_g (lw_at lw_m2 133 rfl) rfl
theorem q525 : (Jvm.Cond.static ({ cls := "java/util/Arrays", name := "copyOf", desc := "([Ljava/lang/Object;ILjava/lang/Class;)[Ljava/lang/Object;" } : Jvm.MethodName)) ∈ lw_all := lw_g (lw_at lw_m2 134 rfl) rfl
theorem q526 : (Jvm.Cond.code ({ cls := "java/util/Arrays", name := "copyOf", desc := "([Ljava/lang/Object;ILjava/lang/Class;)[Ljava/lang/Object;" } : Jvm.MethodName) prog_51_method_120_code (4 : Nat) (Option.some (Jvm.ClassFile.FieldType.array (Jvm.ClassFile.FieldType.object "java/lang/Object")))) ∈ lw_all := lw_g (lw_at lw_m2 135 rfl) rfl
theorem q527 : (Jvm.Cond.classLink "java/util/Arrays" (110 : Nat) "[Ljava/lang/Object;") ∈ lw_all := lw_g (lw_at lw_m2 136 rfl) rfl
theorem q529 : (Jvm.Cond.classLink "java/util/Arrays" (2 : Nat) "java/lang/Object") ∈ lw_all := lw_g (lw_at lw_m2 138 rfl) rfl
theorem q530 : (Jvm.Cond.methodLink "java/util/Arrays" (304 : Nat) ({ cls := "java/lang/Math", name := "min", desc := "(II)I" } : Jvm.MethodName)) ∈ lw_all := lw_g (lw_at lw_m2 139 rfl) rfl
theorem q533 : (Jvm.Cond.methodLink "java/util/Arrays" (150 : Nat) ({ cls := "java/lang/System", name := "arraycopy", desc := "(Ljava/lang/Object;ILjava/lang/Object;II)V" } : Jvm.MethodName)) ∈ lw_all := lw_g (lw_at lw_m2 142 rfl) rfl
theorem q768 : (Jvm.Cond.static ({ cls := "java/util/Arrays", name := "copyOf", desc := "([BI)[B" } : Jvm.MethodName)) ∈ lw_all := lw_g (lw_at lw_m3 137 rfl) rfl
theorem q769 : (Jvm.Cond.code ({ cls := "java/util/Arrays", name := "copyOf", desc := "([BI)[B" } : Jvm.MethodName) prog_51_method_121_code (3 : Nat) (Option.some (Jvm.ClassFile.FieldType.array Jvm.ClassFile.FieldType.byte))) ∈ lw_all := lw_g (lw_at lw_m3 138 rfl) rfl
theorem q770 : (Jvm.Cond.methodLink "java/util/Arrays" (310 : Nat) ({ cls := "[B", name := "clone", desc := "()Ljava/lang/Object;" } : Jvm.MethodName)) ∈ lw_all := lw_g (lw_at lw_m3 139 rfl) rfl
theorem q776 : (Jvm.Cond.classLink "java/util/Arrays" (311 : Nat) "[B") ∈ lw_all := lw_g (lw_at lw_m3 145 rfl) rfl
theorem q894 : (Jvm.Cond.static ({ cls := "java/util/Arrays", name := "copyOfRange", desc := "([BII)[B" } : Jvm.MethodName)) ∈ lw_all := lw_g (lw_at lw_m4 23 rfl) rfl
theorem q895 : (Jvm.Cond.code ({ cls := "java/util/Arrays", name := "copyOfRange", desc := "([BII)[B" } : Jvm.MethodName) prog_51_method_132_code (3 : Nat) (Option.some (Jvm.ClassFile.FieldType.array Jvm.ClassFile.FieldType.byte))) ∈ lw_all := lw_g (lw_at lw_m4 24 rfl) rfl
theorem q896 : (Jvm.Cond.methodLink "java/util/Arrays" (339 : Nat) ({ cls := "java/util/Arrays", name := "copyOfRangeByte", desc := "([BII)[B" } : Jvm.MethodName)) ∈ lw_all := lw_g (lw_at lw_m4 25 rfl) rfl
theorem q897 : (Jvm.Cond.static ({ cls := "java/util/Arrays", name := "copyOfRangeByte", desc := "([BII)[B" } : Jvm.MethodName)) ∈ lw_all := lw_g (lw_at lw_m4 26 rfl) rfl
theorem q898 : (Jvm.Cond.code ({ cls := "java/util/Arrays", name := "copyOfRangeByte", desc := "([BII)[B" } : Jvm.MethodName) prog_51_method_133_code (5 : Nat) (Option.some (Jvm.ClassFile.FieldType.array Jvm.ClassFile.FieldType.byte))) ∈ lw_all := lw_g (lw_at lw_m4 27 rfl) rfl
theorem q899 : (Jvm.Cond.methodLink "java/util/Arrays" (343 : Nat) ({ cls := "java/util/Arrays", name := "checkLength", desc := "(II)V" } : Jvm.MethodName)) ∈ lw_all := lw_g (lw_at lw_m4 28 rfl) rfl
theorem q900 : (Jvm.Cond.static ({ cls := "java/util/Arrays", name := "checkLength", desc := "(II)V" } : Jvm.MethodName)) ∈ lw_all := lw_g (lw_at lw_m4 29 rfl) rfl
theorem q901 : (Jvm.Cond.code ({ cls := "java/util/Arrays", name := "checkLength", desc := "(II)V" } : Jvm.MethodName) prog_51_method_131_code (2 : Nat) (Option.none : Option Jvm.ClassFile.FieldType)) ∈ lw_all := lw_g (lw_at lw_m4 30 rfl) rfl
theorem q902 : (Jvm.Cond.classLink "java/util/Arrays" (43 : Nat) "java/lang/IllegalArgumentException") ∈ lw_all := lw_g (lw_at lw_m4 31 rfl) rfl
theorem q903 : (Jvm.Cond.classLink "java/util/Arrays" (45 : Nat) "java/lang/StringBuilder") ∈ lw_all := lw_g (lw_at lw_m4 32 rfl) rfl
theorem q904 : (Jvm.Cond.methodLink "java/util/Arrays" (47 : Nat) ({ cls := "java/lang/StringBuilder", name := "<init>", desc := "()V" } : Jvm.MethodName)) ∈ lw_all := lw_g (lw_at lw_m4 33 rfl) rfl
theorem q905 : (Jvm.Cond.methodLink "java/util/Arrays" (54 : Nat) ({ cls := "java/lang/StringBuilder", name := "append", desc := "(I)Ljava/lang/StringBuilder;" } : Jvm.MethodName)) ∈ lw_all := lw_g (lw_at lw_m4 34 rfl) rfl
theorem q906 : (Jvm.Cond.stringRef "java/util/Arrays" (337 : Nat) " > ") ∈ lw_tbl := lw_at lw_m4 35 rfl
theorem q907 : (Jvm.Cond.methodLink "java/util/Arrays" (50 : Nat) ({ cls := "java/lang/StringBuilder", name := "append", desc := "(Ljava/lang/String;)Ljava/lang/StringBuilder;" } : Jvm.MethodName)) ∈ lw_all := lw_g (lw_at lw_m4 36 rfl) rfl
theorem q908 : (Jvm.Cond.methodLink "java/util/Arrays" (61 : Nat) ({ cls := "java/lang/StringBuilder", name := "toString", desc := "()Ljava/lang/String;" } : Jvm.MethodName)) ∈ lw_all := lw_g (lw_at lw_m4 37 rfl) rfl
theorem q909 : (Jvm.Cond.methodLink "java/util/Arrays" (65 : Nat) ({ cls := "java/lang/IllegalArgumentException", name := "<init>", desc := "(Ljava/lang/String;)V" } : Jvm.MethodName)) ∈ lw_all := lw_g (lw_at lw_m4 38 rfl) rfl
