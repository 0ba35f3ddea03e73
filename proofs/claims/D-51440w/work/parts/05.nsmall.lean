/-! CrossbarExchange$Spot -/
set_option maxRecDepth 100000
def RX3 : String := "CrossbarExchange$Spot"
def TX3 : u_T := fun k => match k with
  | 0 => ("CrossbarExchange$Spot", "middle", "I", false)
  | 1 => ("CrossbarExchange$Spot", "number", "I", false)
  | _ => ("CrossbarExchange$Spot", "isTo", "Z", false)
def tyX3 : Nat → FieldType := fun k => match k with
  | 0 => .int
  | 1 => .int
  | _ => .boolean
abbrev wsX30 : List Cond := u_ws RX3 TX3 3
theorem nmX3 : ∀ a, a < 3 → ∀ b, b < 3 → a ≠ b → (TX3 a).2.1 ≠ (TX3 b).2.1 := by decide +kernel
theorem tyX3_ok : ∀ k, k < 3 → parseFieldDescriptor (TX3 k).2.2.1 = some (tyX3 k) := by decide +kernel
abbrev cX3_init : ByteArray := prog_8_method_1_code
def yX3_init : MethodName := ⟨RX3, "<init>", "()V"⟩
theorem dX3_init_0 : decode cX3_init 0 = .ok (.aload_n 0, 1) := by decide +kernel
theorem dX3_init_1 : decode cX3_init 1 = .ok (.invokespecial 1, 3) := by decide +kernel
theorem dX3_init_4 : decode cX3_init 4 = .ok (.return_, 1) := by decide +kernel
abbrev cX3_hashCode : ByteArray := prog_8_method_4_code
def yX3_hashCode : MethodName := ⟨RX3, "hashCode", "()I"⟩
def dkwX3_hashCode_1 : List UInt8 := [167, 0, 4, 3, 96, 172]
abbrev dktX3_hashCode_1 : List UInt8 := dkwX3_hashCode_1 ++ []
def dkwX3_hashCode_0 : List UInt8 := [16, 16, 42, 180, 0, 7, 104, 5, 42, 180, 0, 13, 104, 96, 42, 180, 0, 16, 153, 0, 7, 4]
abbrev dktX3_hashCode_0 : List UInt8 := dkwX3_hashCode_0 ++ dktX3_hashCode_1
theorem dksX3_hashCode_0 : cX3_hashCode.data.toList.drop 0 = dktX3_hashCode_0 := by decide +kernel
theorem dksX3_hashCode_1 : cX3_hashCode.data.toList.drop 22 = dktX3_hashCode_1 := dk_seg dksX3_hashCode_0 22 rfl rfl
theorem dX3_hashCode_0 : decode cX3_hashCode 0 = .ok (.bipush 16, 2) := dk_16 16 (dk_at dksX3_hashCode_0 0 rfl rfl)
theorem dX3_hashCode_2 : decode cX3_hashCode 2 = .ok (.aload_n 0, 1) := dk_42 (dk_at dksX3_hashCode_0 2 rfl rfl)
theorem dX3_hashCode_3 : decode cX3_hashCode 3 = .ok (.getfield 7, 3) := dk_180 0 7 (dk_at dksX3_hashCode_0 3 rfl rfl)
theorem dX3_hashCode_6 : decode cX3_hashCode 6 = .ok (.imul, 1) := dk_104 (dk_at dksX3_hashCode_0 6 rfl rfl)
theorem dX3_hashCode_7 : decode cX3_hashCode 7 = .ok (.iconst 2, 1) := dk_5 (dk_at dksX3_hashCode_0 7 rfl rfl)
theorem dX3_hashCode_8 : decode cX3_hashCode 8 = .ok (.aload_n 0, 1) := dk_42 (dk_at dksX3_hashCode_0 8 rfl rfl)
theorem dX3_hashCode_9 : decode cX3_hashCode 9 = .ok (.getfield 13, 3) := dk_180 0 13 (dk_at dksX3_hashCode_0 9 rfl rfl)
theorem dX3_hashCode_12 : decode cX3_hashCode 12 = .ok (.imul, 1) := dk_104 (dk_at dksX3_hashCode_0 12 rfl rfl)
theorem dX3_hashCode_13 : decode cX3_hashCode 13 = .ok (.iadd, 1) := dk_96 (dk_at dksX3_hashCode_0 13 rfl rfl)
theorem dX3_hashCode_14 : decode cX3_hashCode 14 = .ok (.aload_n 0, 1) := dk_42 (dk_at dksX3_hashCode_0 14 rfl rfl)
theorem dX3_hashCode_15 : decode cX3_hashCode 15 = .ok (.getfield 16, 3) := dk_180 0 16 (dk_at dksX3_hashCode_0 15 rfl rfl)
theorem dX3_hashCode_18 : decode cX3_hashCode 18 = .ok (.ifCond .eq 7, 3) := dk_153 0 7 (dk_at dksX3_hashCode_0 18 rfl rfl)
theorem dX3_hashCode_21 : decode cX3_hashCode 21 = .ok (.iconst 1, 1) := dk_4 (dk_at dksX3_hashCode_0 21 rfl rfl)
theorem dX3_hashCode_22 : decode cX3_hashCode 22 = .ok (.goto 4, 3) := dk_167 0 4 (dk_at dksX3_hashCode_1 0 rfl rfl)
theorem dX3_hashCode_25 : decode cX3_hashCode 25 = .ok (.iconst 0, 1) := dk_3 (dk_at dksX3_hashCode_1 3 rfl rfl)
theorem dX3_hashCode_26 : decode cX3_hashCode 26 = .ok (.iadd, 1) := dk_96 (dk_at dksX3_hashCode_1 4 rfl rfl)
theorem dX3_hashCode_27 : decode cX3_hashCode 27 = .ok (.ireturn, 1) := dk_172 (dk_at dksX3_hashCode_1 5 rfl rfl)
abbrev cX3_equals : ByteArray := prog_8_method_3_code
def yX3_equals : MethodName := ⟨RX3, "equals", "(Ljava/lang/Object;)Z"⟩
def dkwX3_equals_2 : List UInt8 := [167, 0, 4, 3, 172]
abbrev dktX3_equals_2 : List UInt8 := dkwX3_equals_2 ++ []
def dkwX3_equals_1 : List UInt8 := [180, 0, 13, 42, 180, 0, 13, 160, 0, 18, 44, 180, 0, 16, 42, 180, 0, 16, 160, 0, 7, 4]
abbrev dktX3_equals_1 : List UInt8 := dkwX3_equals_1 ++ dktX3_equals_2
def dkwX3_equals_0 : List UInt8 := [43, 193, 0, 8, 153, 0, 45, 43, 192, 0, 8, 77, 44, 180, 0, 7, 42, 180, 0, 7, 160, 0, 29, 44]
abbrev dktX3_equals_0 : List UInt8 := dkwX3_equals_0 ++ dktX3_equals_1
theorem dksX3_equals_0 : cX3_equals.data.toList.drop 0 = dktX3_equals_0 := by decide +kernel
theorem dksX3_equals_1 : cX3_equals.data.toList.drop 24 = dktX3_equals_1 := dk_seg dksX3_equals_0 24 rfl rfl
theorem dksX3_equals_2 : cX3_equals.data.toList.drop 46 = dktX3_equals_2 := dk_seg dksX3_equals_1 22 rfl rfl
theorem dX3_equals_0 : decode cX3_equals 0 = .ok (.aload_n 1, 1) := dk_43 (dk_at dksX3_equals_0 0 rfl rfl)
theorem dX3_equals_1 : decode cX3_equals 1 = .ok (.instanceof 8, 3) := dk_193 0 8 (dk_at dksX3_equals_0 1 rfl rfl)
theorem dX3_equals_4 : decode cX3_equals 4 = .ok (.ifCond .eq 45, 3) := dk_153 0 45 (dk_at dksX3_equals_0 4 rfl rfl)
theorem dX3_equals_7 : decode cX3_equals 7 = .ok (.aload_n 1, 1) := dk_43 (dk_at dksX3_equals_0 7 rfl rfl)
theorem dX3_equals_8 : decode cX3_equals 8 = .ok (.checkcast 8, 3) := dk_192 0 8 (dk_at dksX3_equals_0 8 rfl rfl)
theorem dX3_equals_11 : decode cX3_equals 11 = .ok (.astore_n 2, 1) := dk_77 (dk_at dksX3_equals_0 11 rfl rfl)
theorem dX3_equals_12 : decode cX3_equals 12 = .ok (.aload_n 2, 1) := dk_44 (dk_at dksX3_equals_0 12 rfl rfl)
theorem dX3_equals_13 : decode cX3_equals 13 = .ok (.getfield 7, 3) := dk_180 0 7 (dk_at dksX3_equals_0 13 rfl rfl)
theorem dX3_equals_16 : decode cX3_equals 16 = .ok (.aload_n 0, 1) := dk_42 (dk_at dksX3_equals_0 16 rfl rfl)
theorem dX3_equals_17 : decode cX3_equals 17 = .ok (.getfield 7, 3) := dk_180 0 7 (dk_at dksX3_equals_0 17 rfl rfl)
theorem dX3_equals_20 : decode cX3_equals 20 = .ok (.if_icmp .ne 29, 3) := dk_160 0 29 (dk_at dksX3_equals_0 20 rfl rfl)
theorem dX3_equals_23 : decode cX3_equals 23 = .ok (.aload_n 2, 1) := dk_44 (dk_at dksX3_equals_0 23 rfl rfl)
theorem dX3_equals_24 : decode cX3_equals 24 = .ok (.getfield 13, 3) := dk_180 0 13 (dk_at dksX3_equals_1 0 rfl rfl)
theorem dX3_equals_27 : decode cX3_equals 27 = .ok (.aload_n 0, 1) := dk_42 (dk_at dksX3_equals_1 3 rfl rfl)
theorem dX3_equals_28 : decode cX3_equals 28 = .ok (.getfield 13, 3) := dk_180 0 13 (dk_at dksX3_equals_1 4 rfl rfl)
theorem dX3_equals_31 : decode cX3_equals 31 = .ok (.if_icmp .ne 18, 3) := dk_160 0 18 (dk_at dksX3_equals_1 7 rfl rfl)
theorem dX3_equals_34 : decode cX3_equals 34 = .ok (.aload_n 2, 1) := dk_44 (dk_at dksX3_equals_1 10 rfl rfl)
theorem dX3_equals_35 : decode cX3_equals 35 = .ok (.getfield 16, 3) := dk_180 0 16 (dk_at dksX3_equals_1 11 rfl rfl)
theorem dX3_equals_38 : decode cX3_equals 38 = .ok (.aload_n 0, 1) := dk_42 (dk_at dksX3_equals_1 14 rfl rfl)
theorem dX3_equals_39 : decode cX3_equals 39 = .ok (.getfield 16, 3) := dk_180 0 16 (dk_at dksX3_equals_1 15 rfl rfl)
theorem dX3_equals_42 : decode cX3_equals 42 = .ok (.if_icmp .ne 7, 3) := dk_160 0 7 (dk_at dksX3_equals_1 18 rfl rfl)
theorem dX3_equals_45 : decode cX3_equals 45 = .ok (.iconst 1, 1) := dk_4 (dk_at dksX3_equals_1 21 rfl rfl)
theorem dX3_equals_46 : decode cX3_equals 46 = .ok (.goto 4, 3) := dk_167 0 4 (dk_at dksX3_equals_2 0 rfl rfl)
theorem dX3_equals_49 : decode cX3_equals 49 = .ok (.iconst 0, 1) := dk_3 (dk_at dksX3_equals_2 3 rfl rfl)
theorem dX3_equals_50 : decode cX3_equals 50 = .ok (.ireturn, 1) := dk_172 (dk_at dksX3_equals_2 4 rfl rfl)
abbrev cX3_at : ByteArray := prog_8_method_2_code
def yX3_at : MethodName := ⟨RX3, "at", "(IIZ)LCrossbarExchange$Spot;"⟩
def dkwX3_at_0 : List UInt8 := [42, 27, 181, 0, 7, 42, 28, 181, 0, 13, 42, 29, 181, 0, 16, 42, 176]
abbrev dktX3_at_0 : List UInt8 := dkwX3_at_0 ++ []
theorem dksX3_at_0 : cX3_at.data.toList.drop 0 = dktX3_at_0 := by decide +kernel
theorem dX3_at_0 : decode cX3_at 0 = .ok (.aload_n 0, 1) := dk_42 (dk_at dksX3_at_0 0 rfl rfl)
theorem dX3_at_1 : decode cX3_at 1 = .ok (.iload_n 1, 1) := dk_27 (dk_at dksX3_at_0 1 rfl rfl)
theorem dX3_at_2 : decode cX3_at 2 = .ok (.putfield 7, 3) := dk_181 0 7 (dk_at dksX3_at_0 2 rfl rfl)
theorem dX3_at_5 : decode cX3_at 5 = .ok (.aload_n 0, 1) := dk_42 (dk_at dksX3_at_0 5 rfl rfl)
theorem dX3_at_6 : decode cX3_at 6 = .ok (.iload_n 2, 1) := dk_28 (dk_at dksX3_at_0 6 rfl rfl)
theorem dX3_at_7 : decode cX3_at 7 = .ok (.putfield 13, 3) := dk_181 0 13 (dk_at dksX3_at_0 7 rfl rfl)
theorem dX3_at_10 : decode cX3_at 10 = .ok (.aload_n 0, 1) := dk_42 (dk_at dksX3_at_0 10 rfl rfl)
theorem dX3_at_11 : decode cX3_at 11 = .ok (.iload_n 3, 1) := dk_29 (dk_at dksX3_at_0 11 rfl rfl)
theorem dX3_at_12 : decode cX3_at 12 = .ok (.putfield 16, 3) := dk_181 0 16 (dk_at dksX3_at_0 12 rfl rfl)
theorem dX3_at_15 : decode cX3_at 15 = .ok (.aload_n 0, 1) := dk_42 (dk_at dksX3_at_0 15 rfl rfl)
theorem dX3_at_16 : decode cX3_at 16 = .ok (.areturn, 1) := dk_176 (dk_at dksX3_at_0 16 rfl rfl)
theorem q162 : (Jvm.Cond.initialized "CrossbarExchange$Spot") ∈ lw_all := lw_g (lw_at lw_m1 11 rfl) rfl
theorem q324 : (Jvm.Cond.instantiable "CrossbarExchange$Spot" (3 : Nat)) ∈ lw_all := lw_g (lw_at lw_m1 173 rfl) rfl
theorem q326 : (Jvm.Cond.instanceMethod ({ cls := "CrossbarExchange$Spot", name := "<init>", desc := "()V" } : Jvm.MethodName)) ∈ lw_all := lw_g (lw_at lw_m1 175 rfl) rfl
theorem q327 : (Jvm.Cond.code ({ cls := "CrossbarExchange$Spot", name := "<init>", desc := "()V" } : Jvm.MethodName) prog_8_method_1_code (1 : Nat) (Option.none : Option Jvm.ClassFile.FieldType)) ∈ lw_all := lw_g (lw_at lw_m1 176 rfl) rfl
theorem q328 : (Jvm.Cond.methodLink "CrossbarExchange$Spot" (1 : Nat) ({ cls := "java/lang/Object", name := "<init>", desc := "()V" } : Jvm.MethodName)) ∈ lw_all := lw_g (lw_at lw_m1 177 rfl) rfl
theorem q329 : (Jvm.Cond.fieldLink "CrossbarExchange$Spot" (7 : Nat) "CrossbarExchange$Spot" "middle" "I") ∈ lw_all := lw_g (lw_at lw_m1 178 rfl) rfl
theorem q330 : (Jvm.Cond.fieldLink "CrossbarExchange$Spot" (13 : Nat) "CrossbarExchange$Spot" "number" "I") ∈ lw_all := lw_g (lw_at lw_m1 179 rfl) rfl
theorem q331 : (Jvm.Cond.fieldLink "CrossbarExchange$Spot" (16 : Nat) "CrossbarExchange$Spot" "isTo" "Z") ∈ lw_all := lw_g (lw_at lw_m1 180 rfl) rfl
theorem q332 : (Jvm.Cond.lays "CrossbarExchange$Spot" "CrossbarExchange$Spot" "middle" "I") ∈ lw_all := lw_g (lw_at lw_m1 181 rfl) rfl
theorem q333 : (Jvm.Cond.soleField "CrossbarExchange$Spot" "middle") ∈ lw_all := lw_g (lw_at lw_m1 182 rfl) rfl
theorem q334 : (Jvm.Cond.lays "CrossbarExchange$Spot" "CrossbarExchange$Spot" "number" "I") ∈ lw_all := lw_g (lw_at lw_m1 183 rfl) rfl
theorem q335 : (Jvm.Cond.soleField "CrossbarExchange$Spot" "number") ∈ lw_all := lw_g (lw_at lw_m1 184 rfl) rfl
theorem q336 : (Jvm.Cond.lays "CrossbarExchange$Spot" "CrossbarExchange$Spot" "isTo" "Z") ∈ lw_all := lw_g (lw_at lw_m1 185 rfl) rfl
theorem q337 : (Jvm.Cond.soleField "CrossbarExchange$Spot" "isTo") ∈ lw_all := lw_g (lw_at lw_m1 186 rfl) rfl
theorem q338 : (Jvm.Cond.superclass "CrossbarExchange$Spot" "java/lang/Object") ∈ lw_all := lw_g (lw_at lw_m1 187 rfl) rfl
theorem q498 : (Jvm.Cond.selects "CrossbarExchange$Spot" ({ cls := "java/lang/Object", name := "getClass", desc := "()Ljava/lang/Class;" } : Jvm.MethodName) ({ cls := "java/lang/Object", name := "getClass", desc := "()Ljava/lang/Class;" } : Jvm.MethodName)) ∈ lw_all := lw_g (lw_at lw_m2 107 rfl) rfl
theorem q572 : (Jvm.Cond.selects "CrossbarExchange$Spot" ({ cls := "java/lang/Object", name := "hashCode", desc := "()I" } : Jvm.MethodName) ({ cls := "CrossbarExchange$Spot", name := "hashCode", desc := "()I" } : Jvm.MethodName)) ∈ lw_all := lw_g (lw_at lw_m2 181 rfl) rfl
theorem q573 : (Jvm.Cond.instanceMethod ({ cls := "CrossbarExchange$Spot", name := "hashCode", desc := "()I" } : Jvm.MethodName)) ∈ lw_all := lw_g (lw_at lw_m2 182 rfl) rfl
theorem q574 : (Jvm.Cond.code ({ cls := "CrossbarExchange$Spot", name := "hashCode", desc := "()I" } : Jvm.MethodName) prog_8_method_4_code (1 : Nat) (Option.some Jvm.ClassFile.FieldType.int)) ∈ lw_all := lw_g (lw_at lw_m2 183 rfl) rfl
theorem q1306 : (Jvm.Cond.selects "CrossbarExchange$Spot" ({ cls := "java/lang/Object", name := "equals", desc := "(Ljava/lang/Object;)Z" } : Jvm.MethodName) ({ cls := "CrossbarExchange$Spot", name := "equals", desc := "(Ljava/lang/Object;)Z" } : Jvm.MethodName)) ∈ lw_all := lw_g (lw_at lw_m5 195 rfl) rfl
theorem q1307 : (Jvm.Cond.instanceMethod ({ cls := "CrossbarExchange$Spot", name := "equals", desc := "(Ljava/lang/Object;)Z" } : Jvm.MethodName)) ∈ lw_all := lw_g (lw_at lw_m5 196 rfl) rfl
theorem q1308 : (Jvm.Cond.code ({ cls := "CrossbarExchange$Spot", name := "equals", desc := "(Ljava/lang/Object;)Z" } : Jvm.MethodName) prog_8_method_3_code (3 : Nat) (Option.some Jvm.ClassFile.FieldType.boolean)) ∈ lw_all := lw_g (lw_at lw_m5 197 rfl) rfl
theorem q1309 : (Jvm.Cond.classLink "CrossbarExchange$Spot" (8 : Nat) "CrossbarExchange$Spot") ∈ lw_all := lw_g (lw_at lw_m5 198 rfl) rfl
theorem q1782 : (Jvm.Cond.instanceMethod ({ cls := "CrossbarExchange$Spot", name := "at", desc := "(IIZ)LCrossbarExchange$Spot;" } : Jvm.MethodName)) ∈ lw_all := lw_g (lw_at lw_m7 191 rfl) rfl
theorem q1783 : (Jvm.Cond.selects "CrossbarExchange$Spot" ({ cls := "CrossbarExchange$Spot", name := "at", desc := "(IIZ)LCrossbarExchange$Spot;" } : Jvm.MethodName) ({ cls := "CrossbarExchange$Spot", name := "at", desc := "(IIZ)LCrossbarExchange$Spot;" } : Jvm.MethodName)) ∈ lw_all := lw_g (lw_at lw_m7 192 rfl) rfl
theorem q1784 : (Jvm.Cond.code ({ cls := "CrossbarExchange$Spot", name := "at", desc := "(IIZ)LCrossbarExchange$Spot;" } : Jvm.MethodName) prog_8_method_2_code (4 : Nat) (Option.some (Jvm.ClassFile.FieldType.object "CrossbarExchange$Spot"))) ∈ lw_all := lw_g (lw_at lw_m7 193 rfl) rfl
theorem q3533 : (Jvm.Cond.castable "CrossbarExchange$Spot" "java/lang/Object") ∈ lw_tbl := lw_at lw_m15 22 rfl
theorem in_X3 : ∀ w ∈ wsX30, w ∈ lw_all := lw_in wsX30 [332, 334, 336] (by decide +kernel) (by decide +kernel)
/-! CrossbarExchange$Group -/
set_option maxRecDepth 100000
def RX4 : String := "CrossbarExchange$Group"
def TX4 : u_T := fun k => match k with
  | 0 => ("CrossbarExchange$Group", "name", "Ljava/lang/String;", true)
  | _ => ("CrossbarExchange$Group", "members", "Ljava/util/List;", true)
def tyX4 : Nat → FieldType := fun k => match k with
  | 0 => .object "java/lang/String"
  | _ => .object "java/util/List"
abbrev wsX40 : List Cond := u_ws RX4 TX4 2
theorem nmX4 : ∀ a, a < 2 → ∀ b, b < 2 → a ≠ b → (TX4 a).2.1 ≠ (TX4 b).2.1 := by decide +kernel
theorem tyX4_ok : ∀ k, k < 2 → parseFieldDescriptor (TX4 k).2.2.1 = some (tyX4 k) := by decide +kernel
abbrev cX4_init : ByteArray := prog_5_method_1_code
def yX4_init : MethodName := ⟨RX4, "<init>", "(Ljava/lang/String;)V"⟩
def dkwX4_init_0 : List UInt8 := [42, 183, 0, 1, 42, 187, 0, 7, 89, 183, 0, 9, 181, 0, 10, 42, 43, 181, 0, 16, 177]
abbrev dktX4_init_0 : List UInt8 := dkwX4_init_0 ++ []
theorem dksX4_init_0 : cX4_init.data.toList.drop 0 = dktX4_init_0 := by decide +kernel
theorem dX4_init_0 : decode cX4_init 0 = .ok (.aload_n 0, 1) := dk_42 (dk_at dksX4_init_0 0 rfl rfl)
theorem dX4_init_1 : decode cX4_init 1 = .ok (.invokespecial 1, 3) := dk_183 0 1 (dk_at dksX4_init_0 1 rfl rfl)
theorem dX4_init_4 : decode cX4_init 4 = .ok (.aload_n 0, 1) := dk_42 (dk_at dksX4_init_0 4 rfl rfl)
theorem dX4_init_5 : decode cX4_init 5 = .ok (.new 7, 3) := dk_187 0 7 (dk_at dksX4_init_0 5 rfl rfl)
theorem dX4_init_8 : decode cX4_init 8 = .ok (.dup, 1) := dk_89 (dk_at dksX4_init_0 8 rfl rfl)
theorem dX4_init_9 : decode cX4_init 9 = .ok (.invokespecial 9, 3) := dk_183 0 9 (dk_at dksX4_init_0 9 rfl rfl)
theorem dX4_init_12 : decode cX4_init 12 = .ok (.putfield 10, 3) := dk_181 0 10 (dk_at dksX4_init_0 12 rfl rfl)
theorem dX4_init_15 : decode cX4_init 15 = .ok (.aload_n 0, 1) := dk_42 (dk_at dksX4_init_0 15 rfl rfl)
theorem dX4_init_16 : decode cX4_init 16 = .ok (.aload_n 1, 1) := dk_43 (dk_at dksX4_init_0 16 rfl rfl)
theorem dX4_init_17 : decode cX4_init 17 = .ok (.putfield 16, 3) := dk_181 0 16 (dk_at dksX4_init_0 17 rfl rfl)
theorem dX4_init_20 : decode cX4_init 20 = .ok (.return_, 1) := dk_177 (dk_at dksX4_init_0 20 rfl rfl)
abbrev cX4_has : ByteArray := prog_5_method_2_code
def yX4_has : MethodName := ⟨RX4, "has", "(I)Z"⟩
def dkwX4_has_2 : List UInt8 := [172]
abbrev dktX4_has_2 : List UInt8 := dkwX4_has_2 ++ []
def dkwX4_has_1 : List UInt8 := [185, 0, 26, 2, 0, 192, 0, 30, 182, 0, 32, 27, 160, 0, 5, 4, 172, 132, 2, 1, 167, 255, 218, 3]
abbrev dktX4_has_1 : List UInt8 := dkwX4_has_1 ++ dktX4_has_2
def dkwX4_has_0 : List UInt8 := [3, 61, 28, 42, 180, 0, 10, 185, 0, 20, 1, 0, 162, 0, 31, 42, 180, 0, 10, 28]
abbrev dktX4_has_0 : List UInt8 := dkwX4_has_0 ++ dktX4_has_1
theorem dksX4_has_0 : cX4_has.data.toList.drop 0 = dktX4_has_0 := by decide +kernel
theorem dksX4_has_1 : cX4_has.data.toList.drop 20 = dktX4_has_1 := dk_seg dksX4_has_0 20 rfl rfl
theorem dksX4_has_2 : cX4_has.data.toList.drop 44 = dktX4_has_2 := dk_seg dksX4_has_1 24 rfl rfl
theorem dX4_has_0 : decode cX4_has 0 = .ok (.iconst 0, 1) := dk_3 (dk_at dksX4_has_0 0 rfl rfl)
theorem dX4_has_1 : decode cX4_has 1 = .ok (.istore_n 2, 1) := dk_61 (dk_at dksX4_has_0 1 rfl rfl)
theorem dX4_has_2 : decode cX4_has 2 = .ok (.iload_n 2, 1) := dk_28 (dk_at dksX4_has_0 2 rfl rfl)
theorem dX4_has_3 : decode cX4_has 3 = .ok (.aload_n 0, 1) := dk_42 (dk_at dksX4_has_0 3 rfl rfl)
theorem dX4_has_4 : decode cX4_has 4 = .ok (.getfield 10, 3) := dk_180 0 10 (dk_at dksX4_has_0 4 rfl rfl)
theorem dX4_has_7 : decode cX4_has 7 = .ok (.invokeinterface 20 1, 5) := by decide +kernel
theorem dX4_has_12 : decode cX4_has 12 = .ok (.if_icmp .ge 31, 3) := dk_162 0 31 (dk_at dksX4_has_0 12 rfl rfl)
theorem dX4_has_15 : decode cX4_has 15 = .ok (.aload_n 0, 1) := dk_42 (dk_at dksX4_has_0 15 rfl rfl)
theorem dX4_has_16 : decode cX4_has 16 = .ok (.getfield 10, 3) := dk_180 0 10 (dk_at dksX4_has_0 16 rfl rfl)
theorem dX4_has_19 : decode cX4_has 19 = .ok (.iload_n 2, 1) := dk_28 (dk_at dksX4_has_0 19 rfl rfl)
theorem dX4_has_20 : decode cX4_has 20 = .ok (.invokeinterface 26 2, 5) := by decide +kernel
theorem dX4_has_25 : decode cX4_has 25 = .ok (.checkcast 30, 3) := dk_192 0 30 (dk_at dksX4_has_1 5 rfl rfl)
theorem dX4_has_28 : decode cX4_has 28 = .ok (.invokevirtual 32, 3) := dk_182 0 32 (dk_at dksX4_has_1 8 rfl rfl)
theorem dX4_has_31 : decode cX4_has 31 = .ok (.iload_n 1, 1) := dk_27 (dk_at dksX4_has_1 11 rfl rfl)
theorem dX4_has_32 : decode cX4_has 32 = .ok (.if_icmp .ne 5, 3) := dk_160 0 5 (dk_at dksX4_has_1 12 rfl rfl)
theorem dX4_has_35 : decode cX4_has 35 = .ok (.iconst 1, 1) := dk_4 (dk_at dksX4_has_1 15 rfl rfl)
theorem dX4_has_36 : decode cX4_has 36 = .ok (.ireturn, 1) := dk_172 (dk_at dksX4_has_1 16 rfl rfl)
theorem dX4_has_37 : decode cX4_has 37 = .ok (.iinc 2 1, 3) := dk_132 2 1 (dk_at dksX4_has_1 17 rfl rfl)
theorem dX4_has_40 : decode cX4_has 40 = .ok (.goto (-38), 3) := dk_167 255 218 (dk_at dksX4_has_1 20 rfl rfl)
theorem dX4_has_43 : decode cX4_has 43 = .ok (.iconst 0, 1) := dk_3 (dk_at dksX4_has_1 23 rfl rfl)
theorem dX4_has_44 : decode cX4_has 44 = .ok (.ireturn, 1) := dk_172 (dk_at dksX4_has_2 0 rfl rfl)
theorem q163 : (Jvm.Cond.initialized "CrossbarExchange$Group") ∈ lw_all := lw_g (lw_at lw_m1 12 rfl) rfl
theorem q413 : (Jvm.Cond.instantiable "CrossbarExchange$Group" (2 : Nat)) ∈ lw_all := lw_g (lw_at lw_m2 22 rfl) rfl
theorem q416 : (Jvm.Cond.instanceMethod ({ cls := "CrossbarExchange$Group", name := "<init>", desc := "(Ljava/lang/String;)V" } : Jvm.MethodName)) ∈ lw_all := lw_g (lw_at lw_m2 25 rfl) rfl
theorem q417 : (Jvm.Cond.code ({ cls := "CrossbarExchange$Group", name := "<init>", desc := "(Ljava/lang/String;)V" } : Jvm.MethodName) prog_5_method_1_code (2 : Nat) (Option.none : Option Jvm.ClassFile.FieldType)) ∈ lw_all := lw_g (lw_at lw_m2 26 rfl) rfl
theorem q418 : (Jvm.Cond.methodLink "CrossbarExchange$Group" (1 : Nat) ({ cls := "java/lang/Object", name := "<init>", desc := "()V" } : Jvm.MethodName)) ∈ lw_all := lw_g (lw_at lw_m2 27 rfl) rfl
theorem q419 : (Jvm.Cond.classLink "CrossbarExchange$Group" (7 : Nat) "java/util/ArrayList") ∈ lw_all := lw_g (lw_at lw_m2 28 rfl) rfl
theorem q420 : (Jvm.Cond.methodLink "CrossbarExchange$Group" (9 : Nat) ({ cls := "java/util/ArrayList", name := "<init>", desc := "()V" } : Jvm.MethodName)) ∈ lw_all := lw_g (lw_at lw_m2 29 rfl) rfl
theorem q421 : (Jvm.Cond.fieldLink "CrossbarExchange$Group" (16 : Nat) "CrossbarExchange$Group" "name" "Ljava/lang/String;") ∈ lw_all := lw_g (lw_at lw_m2 30 rfl) rfl
theorem q424 : (Jvm.Cond.fieldLink "CrossbarExchange$Group" (10 : Nat) "CrossbarExchange$Group" "members" "Ljava/util/List;") ∈ lw_all := lw_g (lw_at lw_m2 33 rfl) rfl
theorem q428 : (Jvm.Cond.laysFinal "CrossbarExchange$Group" "CrossbarExchange$Group" "name" "Ljava/lang/String;") ∈ lw_all := lw_g (lw_at lw_m2 37 rfl) rfl
theorem q429 : (Jvm.Cond.soleField "CrossbarExchange$Group" "name") ∈ lw_all := lw_g (lw_at lw_m2 38 rfl) rfl
theorem q430 : (Jvm.Cond.laysFinal "CrossbarExchange$Group" "CrossbarExchange$Group" "members" "Ljava/util/List;") ∈ lw_all := lw_g (lw_at lw_m2 39 rfl) rfl
theorem q431 : (Jvm.Cond.soleField "CrossbarExchange$Group" "members") ∈ lw_all := lw_g (lw_at lw_m2 40 rfl) rfl
theorem q432 : (Jvm.Cond.superclass "CrossbarExchange$Group" "java/lang/Object") ∈ lw_all := lw_g (lw_at lw_m2 41 rfl) rfl
theorem q495 : (Jvm.Cond.selects "CrossbarExchange$Group" ({ cls := "java/lang/Object", name := "getClass", desc := "()Ljava/lang/Class;" } : Jvm.MethodName) ({ cls := "java/lang/Object", name := "getClass", desc := "()Ljava/lang/Class;" } : Jvm.MethodName)) ∈ lw_all := lw_g (lw_at lw_m2 104 rfl) rfl
theorem q569 : (Jvm.Cond.selects "CrossbarExchange$Group" ({ cls := "java/lang/Object", name := "hashCode", desc := "()I" } : Jvm.MethodName) ({ cls := "java/lang/Object", name := "hashCode", desc := "()I" } : Jvm.MethodName)) ∈ lw_all := lw_g (lw_at lw_m2 178 rfl) rfl
theorem q1303 : (Jvm.Cond.selects "CrossbarExchange$Group" ({ cls := "java/lang/Object", name := "equals", desc := "(Ljava/lang/Object;)Z" } : Jvm.MethodName) ({ cls := "java/lang/Object", name := "equals", desc := "(Ljava/lang/Object;)Z" } : Jvm.MethodName)) ∈ lw_all := lw_g (lw_at lw_m5 192 rfl) rfl
theorem q1662 : (Jvm.Cond.instanceMethod ({ cls := "CrossbarExchange$Group", name := "has", desc := "(I)Z" } : Jvm.MethodName)) ∈ lw_all := lw_g (lw_at lw_m7 71 rfl) rfl
theorem q1663 : (Jvm.Cond.selects "CrossbarExchange$Group" ({ cls := "CrossbarExchange$Group", name := "has", desc := "(I)Z" } : Jvm.MethodName) ({ cls := "CrossbarExchange$Group", name := "has", desc := "(I)Z" } : Jvm.MethodName)) ∈ lw_all := lw_g (lw_at lw_m7 72 rfl) rfl
theorem q1664 : (Jvm.Cond.code ({ cls := "CrossbarExchange$Group", name := "has", desc := "(I)Z" } : Jvm.MethodName) prog_5_method_2_code (3 : Nat) (Option.some Jvm.ClassFile.FieldType.boolean)) ∈ lw_all := lw_g (lw_at lw_m7 73 rfl) rfl
theorem q1665 : (Jvm.Cond.interfaceEntry "CrossbarExchange$Group" (20 : Nat)) ∈ lw_tbl := lw_at lw_m7 74 rfl
theorem q1666 : (Jvm.Cond.methodLink "CrossbarExchange$Group" (20 : Nat) ({ cls := "java/util/List", name := "size", desc := "()I" } : Jvm.MethodName)) ∈ lw_all := lw_g (lw_at lw_m7 75 rfl) rfl
theorem q1667 : (Jvm.Cond.interfaceEntry "CrossbarExchange$Group" (26 : Nat)) ∈ lw_tbl := lw_at lw_m7 76 rfl
theorem q1668 : (Jvm.Cond.methodLink "CrossbarExchange$Group" (26 : Nat) ({ cls := "java/util/List", name := "get", desc := "(I)Ljava/lang/Object;" } : Jvm.MethodName)) ∈ lw_all := lw_g (lw_at lw_m7 77 rfl) rfl
theorem q1684 : (Jvm.Cond.classLink "CrossbarExchange$Group" (30 : Nat) "java/lang/Integer") ∈ lw_all := lw_g (lw_at lw_m7 93 rfl) rfl
theorem q1685 : (Jvm.Cond.methodLink "CrossbarExchange$Group" (32 : Nat) ({ cls := "java/lang/Integer", name := "intValue", desc := "()I" } : Jvm.MethodName)) ∈ lw_all := lw_g (lw_at lw_m7 94 rfl) rfl
theorem q3534 : (Jvm.Cond.castable "CrossbarExchange$Group" "java/lang/Object") ∈ lw_tbl := lw_at lw_m15 23 rfl
theorem in_X4 : ∀ w ∈ wsX40, w ∈ lw_all := lw_in wsX40 [428, 430] (by decide +kernel) (by decide +kernel)
/-! CrossbarExchange$Fault -/
set_option maxRecDepth 100000
def RX7 : String := "CrossbarExchange$Fault"
def TX7 : u_T := fun k => match k with
  | 0 => ("java/lang/Throwable", "cause", "Ljava/lang/Throwable;", false)
  | 1 => ("java/lang/Throwable", "stackTrace", "[Ljava/lang/StackTraceElement;", false)
  | 2 => ("java/lang/Throwable", "suppressedExceptions", "Ljava/util/List;", false)
  | 3 => ("java/lang/Throwable", "detailMessage", "Ljava/lang/String;", false)
  | 4 => ("java/lang/Throwable", "backtrace", "Ljava/lang/Object;", false)
  | 5 => ("java/lang/Throwable", "depth", "I", false)
  | 6 => ("CrossbarExchange$Fault", "code", "I", true)
  | _ => ("CrossbarExchange$Fault", "position", "I", true)
def tyX7 : Nat → FieldType := fun k => match k with
  | 0 => .object "java/lang/Throwable"
  | 1 => .array (.object "java/lang/StackTraceElement")
  | 2 => .object "java/util/List"
  | 3 => .object "java/lang/String"
  | 4 => .object "java/lang/Object"
  | 5 => .int
  | 6 => .int
  | _ => .int
abbrev wsX70 : List Cond := u_ws RX7 TX7 8
theorem nmX7 : ∀ a, a < 8 → ∀ b, b < 8 → a ≠ b → (TX7 a).2.1 ≠ (TX7 b).2.1 := by decide +kernel
theorem tyX7_ok : ∀ k, k < 8 → parseFieldDescriptor (TX7 k).2.2.1 = some (tyX7 k) := by decide +kernel
abbrev cX7_init : ByteArray := prog_4_method_1_code
def yX7_init : MethodName := ⟨RX7, "<init>", "(II)V"⟩
def dkwX7_init_0 : List UInt8 := [42, 1, 1, 183, 0, 1, 42, 27, 181, 0, 7, 42, 28, 181, 0, 13, 177]
abbrev dktX7_init_0 : List UInt8 := dkwX7_init_0 ++ []
theorem dksX7_init_0 : cX7_init.data.toList.drop 0 = dktX7_init_0 := by decide +kernel
theorem dX7_init_0 : decode cX7_init 0 = .ok (.aload_n 0, 1) := dk_42 (dk_at dksX7_init_0 0 rfl rfl)
theorem dX7_init_1 : decode cX7_init 1 = .ok (.aconst_null, 1) := dk_1 (dk_at dksX7_init_0 1 rfl rfl)
theorem dX7_init_2 : decode cX7_init 2 = .ok (.aconst_null, 1) := dk_1 (dk_at dksX7_init_0 2 rfl rfl)
theorem dX7_init_3 : decode cX7_init 3 = .ok (.invokespecial 1, 3) := dk_183 0 1 (dk_at dksX7_init_0 3 rfl rfl)
theorem dX7_init_6 : decode cX7_init 6 = .ok (.aload_n 0, 1) := dk_42 (dk_at dksX7_init_0 6 rfl rfl)
theorem dX7_init_7 : decode cX7_init 7 = .ok (.iload_n 1, 1) := dk_27 (dk_at dksX7_init_0 7 rfl rfl)
theorem dX7_init_8 : decode cX7_init 8 = .ok (.putfield 7, 3) := dk_181 0 7 (dk_at dksX7_init_0 8 rfl rfl)
theorem dX7_init_11 : decode cX7_init 11 = .ok (.aload_n 0, 1) := dk_42 (dk_at dksX7_init_0 11 rfl rfl)
theorem dX7_init_12 : decode cX7_init 12 = .ok (.iload_n 2, 1) := dk_28 (dk_at dksX7_init_0 12 rfl rfl)
theorem dX7_init_13 : decode cX7_init 13 = .ok (.putfield 13, 3) := dk_181 0 13 (dk_at dksX7_init_0 13 rfl rfl)
theorem dX7_init_16 : decode cX7_init 16 = .ok (.return_, 1) := dk_177 (dk_at dksX7_init_0 16 rfl rfl)
theorem q189 : (Jvm.Cond.initialized "CrossbarExchange$Fault") ∈ lw_all := lw_g (lw_at lw_m1 38 rfl) rfl
theorem q494 : (Jvm.Cond.selects "CrossbarExchange$Fault" ({ cls := "java/lang/Object", name := "getClass", desc := "()Ljava/lang/Class;" } : Jvm.MethodName) ({ cls := "java/lang/Object", name := "getClass", desc := "()Ljava/lang/Class;" } : Jvm.MethodName)) ∈ lw_all := lw_g (lw_at lw_m2 103 rfl) rfl
theorem q568 : (Jvm.Cond.selects "CrossbarExchange$Fault" ({ cls := "java/lang/Object", name := "hashCode", desc := "()I" } : Jvm.MethodName) ({ cls := "java/lang/Object", name := "hashCode", desc := "()I" } : Jvm.MethodName)) ∈ lw_all := lw_g (lw_at lw_m2 177 rfl) rfl
theorem q687 : (Jvm.Cond.selects "CrossbarExchange$Fault" ({ cls := "java/lang/Throwable", name := "fillInStackTrace", desc := "()Ljava/lang/Throwable;" } : Jvm.MethodName) ({ cls := "java/lang/Throwable", name := "fillInStackTrace", desc := "()Ljava/lang/Throwable;" } : Jvm.MethodName)) ∈ lw_all := lw_g (lw_at lw_m3 56 rfl) rfl
theorem q1302 : (Jvm.Cond.selects "CrossbarExchange$Fault" ({ cls := "java/lang/Object", name := "equals", desc := "(Ljava/lang/Object;)Z" } : Jvm.MethodName) ({ cls := "java/lang/Object", name := "equals", desc := "(Ljava/lang/Object;)Z" } : Jvm.MethodName)) ∈ lw_all := lw_g (lw_at lw_m5 191 rfl) rfl
theorem q1578 : (Jvm.Cond.instantiable "CrossbarExchange$Fault" (8 : Nat)) ∈ lw_all := lw_g (lw_at lw_m6 227 rfl) rfl
theorem q1579 : (Jvm.Cond.castable "CrossbarExchange$Fault" "CrossbarExchange$Fault") ∈ lw_tbl := lw_at lw_m6 228 rfl
theorem q1580 : (Jvm.Cond.selects "CrossbarExchange$Fault" ({ cls := "java/lang/Throwable", name := "fillInStackTrace", desc := "(I)Ljava/lang/Throwable;" } : Jvm.MethodName) ({ cls := "java/lang/Throwable", name := "fillInStackTrace", desc := "(I)Ljava/lang/Throwable;" } : Jvm.MethodName)) ∈ lw_all := lw_g (lw_at lw_m6 229 rfl) rfl
theorem q1581 : (Jvm.Cond.lays "CrossbarExchange$Fault" "java/lang/Throwable" "cause" "Ljava/lang/Throwable;") ∈ lw_all := lw_g (lw_at lw_m6 230 rfl) rfl
theorem q1582 : (Jvm.Cond.lays "CrossbarExchange$Fault" "java/lang/Throwable" "stackTrace" "[Ljava/lang/StackTraceElement;") ∈ lw_all := lw_g (lw_at lw_m6 231 rfl) rfl
theorem q1583 : (Jvm.Cond.lays "CrossbarExchange$Fault" "java/lang/Throwable" "suppressedExceptions" "Ljava/util/List;") ∈ lw_all := lw_g (lw_at lw_m6 232 rfl) rfl
theorem q1584 : (Jvm.Cond.lays "CrossbarExchange$Fault" "java/lang/Throwable" "detailMessage" "Ljava/lang/String;") ∈ lw_all := lw_g (lw_at lw_m6 233 rfl) rfl
theorem q1585 : (Jvm.Cond.lays "CrossbarExchange$Fault" "java/lang/Throwable" "backtrace" "Ljava/lang/Object;") ∈ lw_all := lw_g (lw_at lw_m6 234 rfl) rfl
theorem q1587 : (Jvm.Cond.instanceMethod ({ cls := "CrossbarExchange$Fault", name := "<init>", desc := "(II)V" } : Jvm.MethodName)) ∈ lw_all := lw_g (lw_at lw_m6 236 rfl) rfl
theorem q1588 : (Jvm.Cond.code ({ cls := "CrossbarExchange$Fault", name := "<init>", desc := "(II)V" } : Jvm.MethodName) prog_4_method_1_code (3 : Nat) (Option.none : Option Jvm.ClassFile.FieldType)) ∈ lw_all := lw_g (lw_at lw_m6 237 rfl) rfl
theorem q1589 : (Jvm.Cond.methodLink "CrossbarExchange$Fault" (1 : Nat) ({ cls := "java/lang/Exception", name := "<init>", desc := "(Ljava/lang/String;Ljava/lang/Throwable;)V" } : Jvm.MethodName)) ∈ lw_all := lw_g (lw_at lw_m6 238 rfl) rfl
theorem q1595 : (Jvm.Cond.fieldLink "CrossbarExchange$Fault" (7 : Nat) "CrossbarExchange$Fault" "code" "I") ∈ lw_all := lw_g (lw_at lw_m7 4 rfl) rfl
theorem q1597 : (Jvm.Cond.fieldLink "CrossbarExchange$Fault" (13 : Nat) "CrossbarExchange$Fault" "position" "I") ∈ lw_all := lw_g (lw_at lw_m7 6 rfl) rfl
theorem q1599 : (Jvm.Cond.laysFinal "CrossbarExchange$Fault" "CrossbarExchange$Fault" "code" "I") ∈ lw_all := lw_g (lw_at lw_m7 8 rfl) rfl
theorem q1600 : (Jvm.Cond.soleField "CrossbarExchange$Fault" "code") ∈ lw_all := lw_g (lw_at lw_m7 9 rfl) rfl
theorem q1601 : (Jvm.Cond.laysFinal "CrossbarExchange$Fault" "CrossbarExchange$Fault" "position" "I") ∈ lw_all := lw_g (lw_at lw_m7 10 rfl) rfl
theorem q1602 : (Jvm.Cond.soleField "CrossbarExchange$Fault" "position") ∈ lw_all := lw_g (lw_at lw_m7 11 rfl) rfl
theorem q1603 : (Jvm.Cond.lays "CrossbarExchange$Fault" "java/lang/Throwable" "depth" "I") ∈ lw_all := lw_g (lw_at lw_m7 12 rfl) rfl
theorem q1604 : (Jvm.Cond.superclass "CrossbarExchange$Fault" "java/lang/Exception") ∈ lw_all := lw_g (lw_at lw_m7 13 rfl) rfl
theorem q2349 : (Jvm.Cond.selects "CrossbarExchange$Fault" ({ cls := "java/lang/Throwable", name := "addSuppressed", desc := "(Ljava/lang/Throwable;)V" } : Jvm.MethodName) ({ cls := "java/lang/Throwable", name := "addSuppressed", desc := "(Ljava/lang/Throwable;)V" } : Jvm.MethodName)) ∈ lw_all := lw_g (lw_at lw_m10 38 rfl) rfl
theorem q3512 : (Jvm.Cond.castable "CrossbarExchange$Fault" "java/lang/Throwable") ∈ lw_tbl := lw_at lw_m15 1 rfl
theorem q3544 : (Jvm.Cond.castable "CrossbarExchange$Fault" "java/lang/Object") ∈ lw_tbl := lw_at lw_m15 33 rfl
theorem in_X7 : ∀ w ∈ wsX70, w ∈ lw_all := lw_in wsX70 [1581, 1582, 1583, 1584, 1585, 1603, 1599, 1601] (by decide +kernel) (by decide +kernel)
/-! CrossbarExchange$Path -/
set_option maxRecDepth 100000
def RX8 : String := "CrossbarExchange$Path"
def TX8 : u_T := fun k => match k with
  | 0 => ("CrossbarExchange$Path", "middle", "I", true)
  | 1 => ("CrossbarExchange$Path", "p", "I", true)
  | 2 => ("CrossbarExchange$Path", "q", "I", true)
  | _ => ("CrossbarExchange$Path", "chain", "Ljava/util/List;", true)
def tyX8 : Nat → FieldType := fun k => match k with
  | 0 => .int
  | 1 => .int
  | 2 => .int
  | _ => .object "java/util/List"
abbrev wsX80 : List Cond := u_ws RX8 TX8 4
theorem nmX8 : ∀ a, a < 4 → ∀ b, b < 4 → a ≠ b → (TX8 a).2.1 ≠ (TX8 b).2.1 := by decide +kernel
theorem tyX8_ok : ∀ k, k < 4 → parseFieldDescriptor (TX8 k).2.2.1 = some (tyX8 k) := by decide +kernel
abbrev cX8_init : ByteArray := prog_6_method_1_code
def yX8_init : MethodName := ⟨RX8, "<init>", "(I)V"⟩
def dkwX8_init_0 : List UInt8 := [42, 27, 2, 2, 187, 0, 3, 89, 4, 183, 0, 5, 183, 0, 9, 177]
abbrev dktX8_init_0 : List UInt8 := dkwX8_init_0 ++ []
theorem dksX8_init_0 : cX8_init.data.toList.drop 0 = dktX8_init_0 := by decide +kernel
theorem dX8_init_0 : decode cX8_init 0 = .ok (.aload_n 0, 1) := dk_42 (dk_at dksX8_init_0 0 rfl rfl)
theorem dX8_init_1 : decode cX8_init 1 = .ok (.iload_n 1, 1) := dk_27 (dk_at dksX8_init_0 1 rfl rfl)
theorem dX8_init_2 : decode cX8_init 2 = .ok (.iconst (-1), 1) := dk_2 (dk_at dksX8_init_0 2 rfl rfl)
theorem dX8_init_3 : decode cX8_init 3 = .ok (.iconst (-1), 1) := dk_2 (dk_at dksX8_init_0 3 rfl rfl)
theorem dX8_init_4 : decode cX8_init 4 = .ok (.new 3, 3) := dk_187 0 3 (dk_at dksX8_init_0 4 rfl rfl)
theorem dX8_init_7 : decode cX8_init 7 = .ok (.dup, 1) := dk_89 (dk_at dksX8_init_0 7 rfl rfl)
theorem dX8_init_8 : decode cX8_init 8 = .ok (.iconst 1, 1) := dk_4 (dk_at dksX8_init_0 8 rfl rfl)
theorem dX8_init_9 : decode cX8_init 9 = .ok (.invokespecial 5, 3) := dk_183 0 5 (dk_at dksX8_init_0 9 rfl rfl)
theorem dX8_init_12 : decode cX8_init 12 = .ok (.invokespecial 9, 3) := dk_183 0 9 (dk_at dksX8_init_0 12 rfl rfl)
theorem dX8_init_15 : decode cX8_init 15 = .ok (.return_, 1) := dk_177 (dk_at dksX8_init_0 15 rfl rfl)
abbrev cX8_init_2 : ByteArray := prog_6_method_2_code
def yX8_init_2 : MethodName := ⟨RX8, "<init>", "(IIILjava/util/List;)V"⟩
def dkwX8_init_2_1 : List UInt8 := [181, 0, 29, 177]
abbrev dktX8_init_2_1 : List UInt8 := dkwX8_init_2_1 ++ []
def dkwX8_init_2_0 : List UInt8 := [42, 183, 0, 14, 42, 27, 181, 0, 19, 42, 28, 181, 0, 23, 42, 29, 181, 0, 26, 42, 25, 4]
abbrev dktX8_init_2_0 : List UInt8 := dkwX8_init_2_0 ++ dktX8_init_2_1
theorem dksX8_init_2_0 : cX8_init_2.data.toList.drop 0 = dktX8_init_2_0 := by decide +kernel
theorem dksX8_init_2_1 : cX8_init_2.data.toList.drop 22 = dktX8_init_2_1 := dk_seg dksX8_init_2_0 22 rfl rfl
theorem dX8_init_2_0 : decode cX8_init_2 0 = .ok (.aload_n 0, 1) := dk_42 (dk_at dksX8_init_2_0 0 rfl rfl)
theorem dX8_init_2_1 : decode cX8_init_2 1 = .ok (.invokespecial 14, 3) := dk_183 0 14 (dk_at dksX8_init_2_0 1 rfl rfl)
theorem dX8_init_2_4 : decode cX8_init_2 4 = .ok (.aload_n 0, 1) := dk_42 (dk_at dksX8_init_2_0 4 rfl rfl)
theorem dX8_init_2_5 : decode cX8_init_2 5 = .ok (.iload_n 1, 1) := dk_27 (dk_at dksX8_init_2_0 5 rfl rfl)
theorem dX8_init_2_6 : decode cX8_init_2 6 = .ok (.putfield 19, 3) := dk_181 0 19 (dk_at dksX8_init_2_0 6 rfl rfl)
theorem dX8_init_2_9 : decode cX8_init_2 9 = .ok (.aload_n 0, 1) := dk_42 (dk_at dksX8_init_2_0 9 rfl rfl)
theorem dX8_init_2_10 : decode cX8_init_2 10 = .ok (.iload_n 2, 1) := dk_28 (dk_at dksX8_init_2_0 10 rfl rfl)
theorem dX8_init_2_11 : decode cX8_init_2 11 = .ok (.putfield 23, 3) := dk_181 0 23 (dk_at dksX8_init_2_0 11 rfl rfl)
theorem dX8_init_2_14 : decode cX8_init_2 14 = .ok (.aload_n 0, 1) := dk_42 (dk_at dksX8_init_2_0 14 rfl rfl)
theorem dX8_init_2_15 : decode cX8_init_2 15 = .ok (.iload_n 3, 1) := dk_29 (dk_at dksX8_init_2_0 15 rfl rfl)
theorem dX8_init_2_16 : decode cX8_init_2 16 = .ok (.putfield 26, 3) := dk_181 0 26 (dk_at dksX8_init_2_0 16 rfl rfl)
theorem dX8_init_2_19 : decode cX8_init_2 19 = .ok (.aload_n 0, 1) := dk_42 (dk_at dksX8_init_2_0 19 rfl rfl)
theorem dX8_init_2_20 : decode cX8_init_2 20 = .ok (.aload 4, 2) := dk_25 4 (dk_at dksX8_init_2_0 20 rfl rfl)
theorem dX8_init_2_22 : decode cX8_init_2 22 = .ok (.putfield 29, 3) := dk_181 0 29 (dk_at dksX8_init_2_1 0 rfl rfl)
theorem dX8_init_2_25 : decode cX8_init_2 25 = .ok (.return_, 1) := dk_177 (dk_at dksX8_init_2_1 3 rfl rfl)
abbrev cX8_length : ByteArray := prog_6_method_4_code
def yX8_length : MethodName := ⟨RX8, "length", "()I"⟩
def dkwX8_length_0 : List UInt8 := [42, 180, 0, 29, 185, 0, 39, 1, 0, 172]
abbrev dktX8_length_0 : List UInt8 := dkwX8_length_0 ++ []
theorem dksX8_length_0 : cX8_length.data.toList.drop 0 = dktX8_length_0 := by decide +kernel
theorem dX8_length_0 : decode cX8_length 0 = .ok (.aload_n 0, 1) := dk_42 (dk_at dksX8_length_0 0 rfl rfl)
theorem dX8_length_1 : decode cX8_length 1 = .ok (.getfield 29, 3) := dk_180 0 29 (dk_at dksX8_length_0 1 rfl rfl)
theorem dX8_length_4 : decode cX8_length 4 = .ok (.invokeinterface 39 1, 5) := by decide +kernel
theorem dX8_length_9 : decode cX8_length 9 = .ok (.ireturn, 1) := dk_172 (dk_at dksX8_length_0 9 rfl rfl)
abbrev cX8_isOpen : ByteArray := prog_6_method_3_code
def yX8_isOpen : MethodName := ⟨RX8, "isOpen", "()Z"⟩
def dkwX8_isOpen_0 : List UInt8 := [42, 180, 0, 29, 185, 0, 33, 1, 0, 172]
abbrev dktX8_isOpen_0 : List UInt8 := dkwX8_isOpen_0 ++ []
theorem dksX8_isOpen_0 : cX8_isOpen.data.toList.drop 0 = dktX8_isOpen_0 := by decide +kernel
theorem dX8_isOpen_0 : decode cX8_isOpen 0 = .ok (.aload_n 0, 1) := dk_42 (dk_at dksX8_isOpen_0 0 rfl rfl)
theorem dX8_isOpen_1 : decode cX8_isOpen 1 = .ok (.getfield 29, 3) := dk_180 0 29 (dk_at dksX8_isOpen_0 1 rfl rfl)
theorem dX8_isOpen_4 : decode cX8_isOpen 4 = .ok (.invokeinterface 33 1, 5) := by decide +kernel
theorem dX8_isOpen_9 : decode cX8_isOpen 9 = .ok (.ireturn, 1) := dk_172 (dk_at dksX8_isOpen_0 9 rfl rfl)
theorem q191 : (Jvm.Cond.initialized "CrossbarExchange$Path") ∈ lw_all := lw_g (lw_at lw_m1 40 rfl) rfl
theorem q496 : (Jvm.Cond.selects "CrossbarExchange$Path" ({ cls := "java/lang/Object", name := "getClass", desc := "()Ljava/lang/Class;" } : Jvm.MethodName) ({ cls := "java/lang/Object", name := "getClass", desc := "()Ljava/lang/Class;" } : Jvm.MethodName)) ∈ lw_all := lw_g (lw_at lw_m2 105 rfl) rfl
theorem q570 : (Jvm.Cond.selects "CrossbarExchange$Path" ({ cls := "java/lang/Object", name := "hashCode", desc := "()I" } : Jvm.MethodName) ({ cls := "java/lang/Object", name := "hashCode", desc := "()I" } : Jvm.MethodName)) ∈ lw_all := lw_g (lw_at lw_m2 179 rfl) rfl
theorem q1304 : (Jvm.Cond.selects "CrossbarExchange$Path" ({ cls := "java/lang/Object", name := "equals", desc := "(Ljava/lang/Object;)Z" } : Jvm.MethodName) ({ cls := "java/lang/Object", name := "equals", desc := "(Ljava/lang/Object;)Z" } : Jvm.MethodName)) ∈ lw_all := lw_g (lw_at lw_m5 193 rfl) rfl
theorem q1803 : (Jvm.Cond.instantiable "CrossbarExchange$Path" (4 : Nat)) ∈ lw_all := lw_g (lw_at lw_m7 212 rfl) rfl
theorem q1805 : (Jvm.Cond.instanceMethod ({ cls := "CrossbarExchange$Path", name := "<init>", desc := "(I)V" } : Jvm.MethodName)) ∈ lw_all := lw_g (lw_at lw_m7 214 rfl) rfl
theorem q1806 : (Jvm.Cond.code ({ cls := "CrossbarExchange$Path", name := "<init>", desc := "(I)V" } : Jvm.MethodName) prog_6_method_1_code (2 : Nat) (Option.none : Option Jvm.ClassFile.FieldType)) ∈ lw_all := lw_g (lw_at lw_m7 215 rfl) rfl
theorem q1807 : (Jvm.Cond.classLink "CrossbarExchange$Path" (3 : Nat) "java/util/ArrayList") ∈ lw_all := lw_g (lw_at lw_m7 216 rfl) rfl
theorem q1808 : (Jvm.Cond.methodLink "CrossbarExchange$Path" (5 : Nat) ({ cls := "java/util/ArrayList", name := "<init>", desc := "(I)V" } : Jvm.MethodName)) ∈ lw_all := lw_g (lw_at lw_m7 217 rfl) rfl
theorem q1821 : (Jvm.Cond.methodLink "CrossbarExchange$Path" (9 : Nat) ({ cls := "CrossbarExchange$Path", name := "<init>", desc := "(IIILjava/util/List;)V" } : Jvm.MethodName)) ∈ lw_all := lw_g (lw_at lw_m7 230 rfl) rfl
theorem q1822 : (Jvm.Cond.instanceMethod ({ cls := "CrossbarExchange$Path", name := "<init>", desc := "(IIILjava/util/List;)V" } : Jvm.MethodName)) ∈ lw_all := lw_g (lw_at lw_m7 231 rfl) rfl
theorem q1823 : (Jvm.Cond.code ({ cls := "CrossbarExchange$Path", name := "<init>", desc := "(IIILjava/util/List;)V" } : Jvm.MethodName) prog_6_method_2_code (5 : Nat) (Option.none : Option Jvm.ClassFile.FieldType)) ∈ lw_all := lw_g (lw_at lw_m7 232 rfl) rfl
theorem q1824 : (Jvm.Cond.methodLink "CrossbarExchange$Path" (14 : Nat) ({ cls := "java/lang/Object", name := "<init>", desc := "()V" } : Jvm.MethodName)) ∈ lw_all := lw_g (lw_at lw_m7 233 rfl) rfl
theorem q1825 : (Jvm.Cond.fieldLink "CrossbarExchange$Path" (19 : Nat) "CrossbarExchange$Path" "middle" "I") ∈ lw_all := lw_g (lw_at lw_m7 234 rfl) rfl
theorem q1828 : (Jvm.Cond.fieldLink "CrossbarExchange$Path" (23 : Nat) "CrossbarExchange$Path" "p" "I") ∈ lw_all := lw_g (lw_at lw_m7 237 rfl) rfl
theorem q1831 : (Jvm.Cond.fieldLink "CrossbarExchange$Path" (26 : Nat) "CrossbarExchange$Path" "q" "I") ∈ lw_all := lw_g (lw_at lw_m8 0 rfl) rfl
theorem q1834 : (Jvm.Cond.fieldLink "CrossbarExchange$Path" (29 : Nat) "CrossbarExchange$Path" "chain" "Ljava/util/List;") ∈ lw_all := lw_g (lw_at lw_m8 3 rfl) rfl
theorem q1837 : (Jvm.Cond.laysFinal "CrossbarExchange$Path" "CrossbarExchange$Path" "middle" "I") ∈ lw_all := lw_g (lw_at lw_m8 6 rfl) rfl
theorem q1838 : (Jvm.Cond.soleField "CrossbarExchange$Path" "middle") ∈ lw_all := lw_g (lw_at lw_m8 7 rfl) rfl
theorem q1839 : (Jvm.Cond.laysFinal "CrossbarExchange$Path" "CrossbarExchange$Path" "p" "I") ∈ lw_all := lw_g (lw_at lw_m8 8 rfl) rfl
theorem q1840 : (Jvm.Cond.soleField "CrossbarExchange$Path" "p") ∈ lw_all := lw_g (lw_at lw_m8 9 rfl) rfl
theorem q1841 : (Jvm.Cond.laysFinal "CrossbarExchange$Path" "CrossbarExchange$Path" "q" "I") ∈ lw_all := lw_g (lw_at lw_m8 10 rfl) rfl
theorem q1842 : (Jvm.Cond.soleField "CrossbarExchange$Path" "q") ∈ lw_all := lw_g (lw_at lw_m8 11 rfl) rfl
theorem q1843 : (Jvm.Cond.laysFinal "CrossbarExchange$Path" "CrossbarExchange$Path" "chain" "Ljava/util/List;") ∈ lw_all := lw_g (lw_at lw_m8 12 rfl) rfl
theorem q1844 : (Jvm.Cond.soleField "CrossbarExchange$Path" "chain") ∈ lw_all := lw_g (lw_at lw_m8 13 rfl) rfl
theorem q1845 : (Jvm.Cond.superclass "CrossbarExchange$Path" "java/lang/Object") ∈ lw_all := lw_g (lw_at lw_m8 14 rfl) rfl
theorem q1863 : (Jvm.Cond.instanceMethod ({ cls := "CrossbarExchange$Path", name := "length", desc := "()I" } : Jvm.MethodName)) ∈ lw_all := lw_g (lw_at lw_m8 32 rfl) rfl
theorem q1864 : (Jvm.Cond.selects "CrossbarExchange$Path" ({ cls := "CrossbarExchange$Path", name := "length", desc := "()I" } : Jvm.MethodName) ({ cls := "CrossbarExchange$Path", name := "length", desc := "()I" } : Jvm.MethodName)) ∈ lw_all := lw_g (lw_at lw_m8 33 rfl) rfl
theorem q1865 : (Jvm.Cond.code ({ cls := "CrossbarExchange$Path", name := "length", desc := "()I" } : Jvm.MethodName) prog_6_method_4_code (1 : Nat) (Option.some Jvm.ClassFile.FieldType.int)) ∈ lw_all := lw_g (lw_at lw_m8 34 rfl) rfl
theorem q1866 : (Jvm.Cond.interfaceEntry "CrossbarExchange$Path" (39 : Nat)) ∈ lw_tbl := lw_at lw_m8 35 rfl
theorem q1867 : (Jvm.Cond.methodLink "CrossbarExchange$Path" (39 : Nat) ({ cls := "java/util/List", name := "size", desc := "()I" } : Jvm.MethodName)) ∈ lw_all := lw_g (lw_at lw_m8 36 rfl) rfl
theorem q1918 : (Jvm.Cond.instanceMethod ({ cls := "CrossbarExchange$Path", name := "isOpen", desc := "()Z" } : Jvm.MethodName)) ∈ lw_all := lw_g (lw_at lw_m8 87 rfl) rfl
theorem q1919 : (Jvm.Cond.selects "CrossbarExchange$Path" ({ cls := "CrossbarExchange$Path", name := "isOpen", desc := "()Z" } : Jvm.MethodName) ({ cls := "CrossbarExchange$Path", name := "isOpen", desc := "()Z" } : Jvm.MethodName)) ∈ lw_all := lw_g (lw_at lw_m8 88 rfl) rfl
theorem q1920 : (Jvm.Cond.code ({ cls := "CrossbarExchange$Path", name := "isOpen", desc := "()Z" } : Jvm.MethodName) prog_6_method_3_code (1 : Nat) (Option.some Jvm.ClassFile.FieldType.boolean)) ∈ lw_all := lw_g (lw_at lw_m8 89 rfl) rfl
theorem q1921 : (Jvm.Cond.interfaceEntry "CrossbarExchange$Path" (33 : Nat)) ∈ lw_tbl := lw_at lw_m8 90 rfl
theorem q1922 : (Jvm.Cond.methodLink "CrossbarExchange$Path" (33 : Nat) ({ cls := "java/util/List", name := "isEmpty", desc := "()Z" } : Jvm.MethodName)) ∈ lw_all := lw_g (lw_at lw_m8 91 rfl) rfl
theorem q3545 : (Jvm.Cond.castable "CrossbarExchange$Path" "java/lang/Object") ∈ lw_tbl := lw_at lw_m15 34 rfl
theorem in_X8 : ∀ w ∈ wsX80, w ∈ lw_all := lw_in wsX80 [1837, 1839, 1841, 1843] (by decide +kernel) (by decide +kernel)
/-! CrossbarExchange$Call -/
set_option maxRecDepth 100000
def RX9 : String := "CrossbarExchange$Call"
def TX9 : u_T := fun k => match k with
  | 0 => ("CrossbarExchange$Call", "number", "I", true)
  | 1 => ("CrossbarExchange$Call", "caller", "I", true)
  | 2 => ("CrossbarExchange$Call", "callee", "I", true)
  | 3 => ("CrossbarExchange$Call", "began", "I", true)
  | 4 => ("CrossbarExchange$Call", "lasts", "I", true)
  | 5 => ("CrossbarExchange$Call", "middle", "I", false)
  | _ => ("CrossbarExchange$Call", "moved", "I", false)
def tyX9 : Nat → FieldType := fun k => match k with
  | 0 => .int
  | 1 => .int
  | 2 => .int
  | 3 => .int
  | 4 => .int
  | 5 => .int
  | _ => .int
abbrev wsX90 : List Cond := u_ws RX9 TX9 7
theorem nmX9 : ∀ a, a < 7 → ∀ b, b < 7 → a ≠ b → (TX9 a).2.1 ≠ (TX9 b).2.1 := by decide +kernel
theorem tyX9_ok : ∀ k, k < 7 → parseFieldDescriptor (TX9 k).2.2.1 = some (tyX9 k) := by decide +kernel
abbrev cX9_init : ByteArray := prog_2_method_1_code
def yX9_init : MethodName := ⟨RX9, "<init>", "(IIIII)V"⟩
def dkwX9_init_1 : List UInt8 := [42, 21, 4, 181, 0, 24, 42, 21, 5, 181, 0, 27, 177]
abbrev dktX9_init_1 : List UInt8 := dkwX9_init_1 ++ []
def dkwX9_init_0 : List UInt8 := [42, 183, 0, 3, 42, 2, 181, 0, 9, 42, 27, 181, 0, 15, 42, 28, 181, 0, 18, 42, 29, 181, 0, 21]
abbrev dktX9_init_0 : List UInt8 := dkwX9_init_0 ++ dktX9_init_1
theorem dksX9_init_0 : cX9_init.data.toList.drop 0 = dktX9_init_0 := by decide +kernel
theorem dksX9_init_1 : cX9_init.data.toList.drop 24 = dktX9_init_1 := dk_seg dksX9_init_0 24 rfl rfl
theorem dX9_init_0 : decode cX9_init 0 = .ok (.aload_n 0, 1) := dk_42 (dk_at dksX9_init_0 0 rfl rfl)
theorem dX9_init_1 : decode cX9_init 1 = .ok (.invokespecial 3, 3) := dk_183 0 3 (dk_at dksX9_init_0 1 rfl rfl)
theorem dX9_init_4 : decode cX9_init 4 = .ok (.aload_n 0, 1) := dk_42 (dk_at dksX9_init_0 4 rfl rfl)
theorem dX9_init_5 : decode cX9_init 5 = .ok (.iconst (-1), 1) := dk_2 (dk_at dksX9_init_0 5 rfl rfl)
theorem dX9_init_6 : decode cX9_init 6 = .ok (.putfield 9, 3) := dk_181 0 9 (dk_at dksX9_init_0 6 rfl rfl)
theorem dX9_init_9 : decode cX9_init 9 = .ok (.aload_n 0, 1) := dk_42 (dk_at dksX9_init_0 9 rfl rfl)
theorem dX9_init_10 : decode cX9_init 10 = .ok (.iload_n 1, 1) := dk_27 (dk_at dksX9_init_0 10 rfl rfl)
theorem dX9_init_11 : decode cX9_init 11 = .ok (.putfield 15, 3) := dk_181 0 15 (dk_at dksX9_init_0 11 rfl rfl)
theorem dX9_init_14 : decode cX9_init 14 = .ok (.aload_n 0, 1) := dk_42 (dk_at dksX9_init_0 14 rfl rfl)
theorem dX9_init_15 : decode cX9_init 15 = .ok (.iload_n 2, 1) := dk_28 (dk_at dksX9_init_0 15 rfl rfl)
theorem dX9_init_16 : decode cX9_init 16 = .ok (.putfield 18, 3) := dk_181 0 18 (dk_at dksX9_init_0 16 rfl rfl)
theorem dX9_init_19 : decode cX9_init 19 = .ok (.aload_n 0, 1) := dk_42 (dk_at dksX9_init_0 19 rfl rfl)
theorem dX9_init_20 : decode cX9_init 20 = .ok (.iload_n 3, 1) := dk_29 (dk_at dksX9_init_0 20 rfl rfl)
theorem dX9_init_21 : decode cX9_init 21 = .ok (.putfield 21, 3) := dk_181 0 21 (dk_at dksX9_init_0 21 rfl rfl)
theorem dX9_init_24 : decode cX9_init 24 = .ok (.aload_n 0, 1) := dk_42 (dk_at dksX9_init_1 0 rfl rfl)
theorem dX9_init_25 : decode cX9_init 25 = .ok (.iload 4, 2) := dk_21 4 (dk_at dksX9_init_1 1 rfl rfl)
theorem dX9_init_27 : decode cX9_init 27 = .ok (.putfield 24, 3) := dk_181 0 24 (dk_at dksX9_init_1 3 rfl rfl)
theorem dX9_init_30 : decode cX9_init 30 = .ok (.aload_n 0, 1) := dk_42 (dk_at dksX9_init_1 6 rfl rfl)
theorem dX9_init_31 : decode cX9_init 31 = .ok (.iload 5, 2) := dk_21 5 (dk_at dksX9_init_1 7 rfl rfl)
theorem dX9_init_33 : decode cX9_init 33 = .ok (.putfield 27, 3) := dk_181 0 27 (dk_at dksX9_init_1 9 rfl rfl)
theorem dX9_init_36 : decode cX9_init 36 = .ok (.return_, 1) := dk_177 (dk_at dksX9_init_1 12 rfl rfl)
abbrev cX9_end : ByteArray := prog_2_method_3_code
def yX9_end : MethodName := ⟨RX9, "end", "()I"⟩
def dkwX9_end_0 : List UInt8 := [42, 180, 0, 24, 42, 180, 0, 27, 96, 172]
abbrev dktX9_end_0 : List UInt8 := dkwX9_end_0 ++ []
theorem dksX9_end_0 : cX9_end.data.toList.drop 0 = dktX9_end_0 := by decide +kernel
theorem dX9_end_0 : decode cX9_end 0 = .ok (.aload_n 0, 1) := dk_42 (dk_at dksX9_end_0 0 rfl rfl)
theorem dX9_end_1 : decode cX9_end 1 = .ok (.getfield 24, 3) := dk_180 0 24 (dk_at dksX9_end_0 1 rfl rfl)
theorem dX9_end_4 : decode cX9_end 4 = .ok (.aload_n 0, 1) := dk_42 (dk_at dksX9_end_0 4 rfl rfl)
theorem dX9_end_5 : decode cX9_end 5 = .ok (.getfield 27, 3) := dk_180 0 27 (dk_at dksX9_end_0 5 rfl rfl)
theorem dX9_end_8 : decode cX9_end 8 = .ok (.iadd, 1) := dk_96 (dk_at dksX9_end_0 8 rfl rfl)
theorem dX9_end_9 : decode cX9_end 9 = .ok (.ireturn, 1) := dk_172 (dk_at dksX9_end_0 9 rfl rfl)
abbrev cX9_copy : ByteArray := prog_2_method_2_code
def yX9_copy : MethodName := ⟨RX9, "copy", "()LCrossbarExchange$Call;"⟩
def dkwX9_copy_1 : List UInt8 := [183, 0, 30, 76, 43, 42, 180, 0, 9, 181, 0, 9, 43, 42, 180, 0, 33, 181, 0, 33, 43, 176]
abbrev dktX9_copy_1 : List UInt8 := dkwX9_copy_1 ++ []
def dkwX9_copy_0 : List UInt8 := [187, 0, 10, 89, 42, 180, 0, 15, 42, 180, 0, 18, 42, 180, 0, 21, 42, 180, 0, 24, 42, 180, 0, 27]
abbrev dktX9_copy_0 : List UInt8 := dkwX9_copy_0 ++ dktX9_copy_1
theorem dksX9_copy_0 : cX9_copy.data.toList.drop 0 = dktX9_copy_0 := by decide +kernel
theorem dksX9_copy_1 : cX9_copy.data.toList.drop 24 = dktX9_copy_1 := dk_seg dksX9_copy_0 24 rfl rfl
theorem dX9_copy_0 : decode cX9_copy 0 = .ok (.new 10, 3) := dk_187 0 10 (dk_at dksX9_copy_0 0 rfl rfl)
theorem dX9_copy_3 : decode cX9_copy 3 = .ok (.dup, 1) := dk_89 (dk_at dksX9_copy_0 3 rfl rfl)
theorem dX9_copy_4 : decode cX9_copy 4 = .ok (.aload_n 0, 1) := dk_42 (dk_at dksX9_copy_0 4 rfl rfl)
theorem dX9_copy_5 : decode cX9_copy 5 = .ok (.getfield 15, 3) := dk_180 0 15 (dk_at dksX9_copy_0 5 rfl rfl)
theorem dX9_copy_8 : decode cX9_copy 8 = .ok (.aload_n 0, 1) := dk_42 (dk_at dksX9_copy_0 8 rfl rfl)
theorem dX9_copy_9 : decode cX9_copy 9 = .ok (.getfield 18, 3) := dk_180 0 18 (dk_at dksX9_copy_0 9 rfl rfl)
theorem dX9_copy_12 : decode cX9_copy 12 = .ok (.aload_n 0, 1) := dk_42 (dk_at dksX9_copy_0 12 rfl rfl)
theorem dX9_copy_13 : decode cX9_copy 13 = .ok (.getfield 21, 3) := dk_180 0 21 (dk_at dksX9_copy_0 13 rfl rfl)
theorem dX9_copy_16 : decode cX9_copy 16 = .ok (.aload_n 0, 1) := dk_42 (dk_at dksX9_copy_0 16 rfl rfl)
theorem dX9_copy_17 : decode cX9_copy 17 = .ok (.getfield 24, 3) := dk_180 0 24 (dk_at dksX9_copy_0 17 rfl rfl)
theorem dX9_copy_20 : decode cX9_copy 20 = .ok (.aload_n 0, 1) := dk_42 (dk_at dksX9_copy_0 20 rfl rfl)
theorem dX9_copy_21 : decode cX9_copy 21 = .ok (.getfield 27, 3) := dk_180 0 27 (dk_at dksX9_copy_0 21 rfl rfl)
theorem dX9_copy_24 : decode cX9_copy 24 = .ok (.invokespecial 30, 3) := dk_183 0 30 (dk_at dksX9_copy_1 0 rfl rfl)
theorem dX9_copy_27 : decode cX9_copy 27 = .ok (.astore_n 1, 1) := dk_76 (dk_at dksX9_copy_1 3 rfl rfl)
theorem dX9_copy_28 : decode cX9_copy 28 = .ok (.aload_n 1, 1) := dk_43 (dk_at dksX9_copy_1 4 rfl rfl)
theorem dX9_copy_29 : decode cX9_copy 29 = .ok (.aload_n 0, 1) := dk_42 (dk_at dksX9_copy_1 5 rfl rfl)
theorem dX9_copy_30 : decode cX9_copy 30 = .ok (.getfield 9, 3) := dk_180 0 9 (dk_at dksX9_copy_1 6 rfl rfl)
theorem dX9_copy_33 : decode cX9_copy 33 = .ok (.putfield 9, 3) := dk_181 0 9 (dk_at dksX9_copy_1 9 rfl rfl)
theorem dX9_copy_36 : decode cX9_copy 36 = .ok (.aload_n 1, 1) := dk_43 (dk_at dksX9_copy_1 12 rfl rfl)
theorem dX9_copy_37 : decode cX9_copy 37 = .ok (.aload_n 0, 1) := dk_42 (dk_at dksX9_copy_1 13 rfl rfl)
theorem dX9_copy_38 : decode cX9_copy 38 = .ok (.getfield 33, 3) := dk_180 0 33 (dk_at dksX9_copy_1 14 rfl rfl)
theorem dX9_copy_41 : decode cX9_copy 41 = .ok (.putfield 33, 3) := dk_181 0 33 (dk_at dksX9_copy_1 17 rfl rfl)
theorem dX9_copy_44 : decode cX9_copy 44 = .ok (.aload_n 1, 1) := dk_43 (dk_at dksX9_copy_1 20 rfl rfl)
theorem dX9_copy_45 : decode cX9_copy 45 = .ok (.areturn, 1) := dk_176 (dk_at dksX9_copy_1 21 rfl rfl)
abbrev cX9_other : ByteArray := prog_2_method_5_code
def yX9_other : MethodName := ⟨RX9, "other", "(I)I"⟩
def dkwX9_other_0 : List UInt8 := [42, 180, 0, 18, 27, 160, 0, 10, 42, 180, 0, 21, 167, 0, 7, 42, 180, 0, 18, 172]
abbrev dktX9_other_0 : List UInt8 := dkwX9_other_0 ++ []
theorem dksX9_other_0 : cX9_other.data.toList.drop 0 = dktX9_other_0 := by decide +kernel
theorem dX9_other_0 : decode cX9_other 0 = .ok (.aload_n 0, 1) := dk_42 (dk_at dksX9_other_0 0 rfl rfl)
theorem dX9_other_1 : decode cX9_other 1 = .ok (.getfield 18, 3) := dk_180 0 18 (dk_at dksX9_other_0 1 rfl rfl)
theorem dX9_other_4 : decode cX9_other 4 = .ok (.iload_n 1, 1) := dk_27 (dk_at dksX9_other_0 4 rfl rfl)
theorem dX9_other_5 : decode cX9_other 5 = .ok (.if_icmp .ne 10, 3) := dk_160 0 10 (dk_at dksX9_other_0 5 rfl rfl)
theorem dX9_other_8 : decode cX9_other 8 = .ok (.aload_n 0, 1) := dk_42 (dk_at dksX9_other_0 8 rfl rfl)
theorem dX9_other_9 : decode cX9_other 9 = .ok (.getfield 21, 3) := dk_180 0 21 (dk_at dksX9_other_0 9 rfl rfl)
theorem dX9_other_12 : decode cX9_other 12 = .ok (.goto 7, 3) := dk_167 0 7 (dk_at dksX9_other_0 12 rfl rfl)
theorem dX9_other_15 : decode cX9_other 15 = .ok (.aload_n 0, 1) := dk_42 (dk_at dksX9_other_0 15 rfl rfl)
theorem dX9_other_16 : decode cX9_other 16 = .ok (.getfield 18, 3) := dk_180 0 18 (dk_at dksX9_other_0 16 rfl rfl)
theorem dX9_other_19 : decode cX9_other 19 = .ok (.ireturn, 1) := dk_172 (dk_at dksX9_other_0 19 rfl rfl)
theorem q192 : (Jvm.Cond.initialized "CrossbarExchange$Call") ∈ lw_all := lw_g (lw_at lw_m1 41 rfl) rfl
theorem q492 : (Jvm.Cond.selects "CrossbarExchange$Call" ({ cls := "java/lang/Object", name := "getClass", desc := "()Ljava/lang/Class;" } : Jvm.MethodName) ({ cls := "java/lang/Object", name := "getClass", desc := "()Ljava/lang/Class;" } : Jvm.MethodName)) ∈ lw_all := lw_g (lw_at lw_m2 101 rfl) rfl
theorem q566 : (Jvm.Cond.selects "CrossbarExchange$Call" ({ cls := "java/lang/Object", name := "hashCode", desc := "()I" } : Jvm.MethodName) ({ cls := "java/lang/Object", name := "hashCode", desc := "()I" } : Jvm.MethodName)) ∈ lw_all := lw_g (lw_at lw_m2 175 rfl) rfl
theorem q1300 : (Jvm.Cond.selects "CrossbarExchange$Call" ({ cls := "java/lang/Object", name := "equals", desc := "(Ljava/lang/Object;)Z" } : Jvm.MethodName) ({ cls := "java/lang/Object", name := "equals", desc := "(Ljava/lang/Object;)Z" } : Jvm.MethodName)) ∈ lw_all := lw_g (lw_at lw_m5 189 rfl) rfl
theorem q1873 : (Jvm.Cond.instantiable "CrossbarExchange$Call" (7 : Nat)) ∈ lw_all := lw_g (lw_at lw_m8 42 rfl) rfl
theorem q1875 : (Jvm.Cond.instanceMethod ({ cls := "CrossbarExchange$Call", name := "<init>", desc := "(IIIII)V" } : Jvm.MethodName)) ∈ lw_all := lw_g (lw_at lw_m8 44 rfl) rfl
theorem q1876 : (Jvm.Cond.code ({ cls := "CrossbarExchange$Call", name := "<init>", desc := "(IIIII)V" } : Jvm.MethodName) prog_2_method_1_code (6 : Nat) (Option.none : Option Jvm.ClassFile.FieldType)) ∈ lw_all := lw_g (lw_at lw_m8 45 rfl) rfl
theorem q1877 : (Jvm.Cond.methodLink "CrossbarExchange$Call" (3 : Nat) ({ cls := "java/lang/Object", name := "<init>", desc := "()V" } : Jvm.MethodName)) ∈ lw_all := lw_g (lw_at lw_m8 46 rfl) rfl
theorem q1878 : (Jvm.Cond.fieldLink "CrossbarExchange$Call" (15 : Nat) "CrossbarExchange$Call" "number" "I") ∈ lw_all := lw_g (lw_at lw_m8 47 rfl) rfl
theorem q1881 : (Jvm.Cond.fieldLink "CrossbarExchange$Call" (18 : Nat) "CrossbarExchange$Call" "caller" "I") ∈ lw_all := lw_g (lw_at lw_m8 50 rfl) rfl
theorem q1884 : (Jvm.Cond.fieldLink "CrossbarExchange$Call" (21 : Nat) "CrossbarExchange$Call" "callee" "I") ∈ lw_all := lw_g (lw_at lw_m8 53 rfl) rfl
theorem q1887 : (Jvm.Cond.fieldLink "CrossbarExchange$Call" (24 : Nat) "CrossbarExchange$Call" "began" "I") ∈ lw_all := lw_g (lw_at lw_m8 56 rfl) rfl
theorem q1889 : (Jvm.Cond.fieldLink "CrossbarExchange$Call" (27 : Nat) "CrossbarExchange$Call" "lasts" "I") ∈ lw_all := lw_g (lw_at lw_m8 58 rfl) rfl
theorem q1892 : (Jvm.Cond.fieldLink "CrossbarExchange$Call" (9 : Nat) "CrossbarExchange$Call" "middle" "I") ∈ lw_all := lw_g (lw_at lw_m8 61 rfl) rfl
theorem q1895 : (Jvm.Cond.fieldLink "CrossbarExchange$Call" (33 : Nat) "CrossbarExchange$Call" "moved" "I") ∈ lw_all := lw_g (lw_at lw_m8 64 rfl) rfl
theorem q1898 : (Jvm.Cond.laysFinal "CrossbarExchange$Call" "CrossbarExchange$Call" "number" "I") ∈ lw_all := lw_g (lw_at lw_m8 67 rfl) rfl
theorem q1899 : (Jvm.Cond.soleField "CrossbarExchange$Call" "number") ∈ lw_all := lw_g (lw_at lw_m8 68 rfl) rfl
theorem q1900 : (Jvm.Cond.laysFinal "CrossbarExchange$Call" "CrossbarExchange$Call" "caller" "I") ∈ lw_all := lw_g (lw_at lw_m8 69 rfl) rfl
theorem q1901 : (Jvm.Cond.soleField "CrossbarExchange$Call" "caller") ∈ lw_all := lw_g (lw_at lw_m8 70 rfl) rfl
theorem q1902 : (Jvm.Cond.laysFinal "CrossbarExchange$Call" "CrossbarExchange$Call" "callee" "I") ∈ lw_all := lw_g (lw_at lw_m8 71 rfl) rfl
theorem q1903 : (Jvm.Cond.soleField "CrossbarExchange$Call" "callee") ∈ lw_all := lw_g (lw_at lw_m8 72 rfl) rfl
theorem q1904 : (Jvm.Cond.laysFinal "CrossbarExchange$Call" "CrossbarExchange$Call" "began" "I") ∈ lw_all := lw_g (lw_at lw_m8 73 rfl) rfl
theorem q1905 : (Jvm.Cond.soleField "CrossbarExchange$Call" "began") ∈ lw_all := lw_g (lw_at lw_m8 74 rfl) rfl
theorem q1906 : (Jvm.Cond.laysFinal "CrossbarExchange$Call" "CrossbarExchange$Call" "lasts" "I") ∈ lw_all := lw_g (lw_at lw_m8 75 rfl) rfl
theorem q1907 : (Jvm.Cond.soleField "CrossbarExchange$Call" "lasts") ∈ lw_all := lw_g (lw_at lw_m8 76 rfl) rfl
theorem q1908 : (Jvm.Cond.lays "CrossbarExchange$Call" "CrossbarExchange$Call" "middle" "I") ∈ lw_all := lw_g (lw_at lw_m8 77 rfl) rfl
theorem q1909 : (Jvm.Cond.soleField "CrossbarExchange$Call" "middle") ∈ lw_all := lw_g (lw_at lw_m8 78 rfl) rfl
theorem q1910 : (Jvm.Cond.lays "CrossbarExchange$Call" "CrossbarExchange$Call" "moved" "I") ∈ lw_all := lw_g (lw_at lw_m8 79 rfl) rfl
theorem q1911 : (Jvm.Cond.soleField "CrossbarExchange$Call" "moved") ∈ lw_all := lw_g (lw_at lw_m8 80 rfl) rfl
theorem q1912 : (Jvm.Cond.superclass "CrossbarExchange$Call" "java/lang/Object") ∈ lw_all := lw_g (lw_at lw_m8 81 rfl) rfl
theorem q2061 : (Jvm.Cond.instanceMethod ({ cls := "CrossbarExchange$Call", name := "end", desc := "()I" } : Jvm.MethodName)) ∈ lw_all := lw_g (lw_at lw_m8 230 rfl) rfl
theorem q2062 : (Jvm.Cond.selects "CrossbarExchange$Call" ({ cls := "CrossbarExchange$Call", name := "end", desc := "()I" } : Jvm.MethodName) ({ cls := "CrossbarExchange$Call", name := "end", desc := "()I" } : Jvm.MethodName)) ∈ lw_all := lw_g (lw_at lw_m8 231 rfl) rfl
theorem q2063 : (Jvm.Cond.code ({ cls := "CrossbarExchange$Call", name := "end", desc := "()I" } : Jvm.MethodName) prog_2_method_3_code (1 : Nat) (Option.some Jvm.ClassFile.FieldType.int)) ∈ lw_all := lw_g (lw_at lw_m8 232 rfl) rfl
theorem q2163 : (Jvm.Cond.instanceMethod ({ cls := "CrossbarExchange$Call", name := "copy", desc := "()LCrossbarExchange$Call;" } : Jvm.MethodName)) ∈ lw_all := lw_g (lw_at lw_m9 92 rfl) rfl
theorem q2164 : (Jvm.Cond.selects "CrossbarExchange$Call" ({ cls := "CrossbarExchange$Call", name := "copy", desc := "()LCrossbarExchange$Call;" } : Jvm.MethodName) ({ cls := "CrossbarExchange$Call", name := "copy", desc := "()LCrossbarExchange$Call;" } : Jvm.MethodName)) ∈ lw_all := lw_g (lw_at lw_m9 93 rfl) rfl
theorem q2165 : (Jvm.Cond.code ({ cls := "CrossbarExchange$Call", name := "copy", desc := "()LCrossbarExchange$Call;" } : Jvm.MethodName) prog_2_method_2_code (2 : Nat) (Option.some (Jvm.ClassFile.FieldType.object "CrossbarExchange$Call"))) ∈ lw_all := lw_g (lw_at lw_m9 94 rfl) rfl
theorem q2166 : (Jvm.Cond.classLink "CrossbarExchange$Call" (10 : Nat) "CrossbarExchange$Call") ∈ lw_all := lw_g (lw_at lw_m9 95 rfl) rfl
theorem q2167 : (Jvm.Cond.methodLink "CrossbarExchange$Call" (30 : Nat) ({ cls := "CrossbarExchange$Call", name := "<init>", desc := "(IIIII)V" } : Jvm.MethodName)) ∈ lw_all := lw_g (lw_at lw_m9 96 rfl) rfl
theorem q2630 : (Jvm.Cond.instanceMethod ({ cls := "CrossbarExchange$Call", name := "other", desc := "(I)I" } : Jvm.MethodName)) ∈ lw_all := lw_g (lw_at lw_m11 79 rfl) rfl
theorem q2631 : (Jvm.Cond.selects "CrossbarExchange$Call" ({ cls := "CrossbarExchange$Call", name := "other", desc := "(I)I" } : Jvm.MethodName) ({ cls := "CrossbarExchange$Call", name := "other", desc := "(I)I" } : Jvm.MethodName)) ∈ lw_all := lw_g (lw_at lw_m11 80 rfl) rfl
theorem q2632 : (Jvm.Cond.code ({ cls := "CrossbarExchange$Call", name := "other", desc := "(I)I" } : Jvm.MethodName) prog_2_method_5_code (2 : Nat) (Option.some Jvm.ClassFile.FieldType.int)) ∈ lw_all := lw_g (lw_at lw_m11 81 rfl) rfl
theorem q3524 : (Jvm.Cond.castable "CrossbarExchange$Call" "java/lang/Object") ∈ lw_tbl := lw_at lw_m15 13 rfl
theorem in_X9 : ∀ w ∈ wsX90, w ∈ lw_all := lw_in wsX90 [1898, 1900, 1902, 1904, 1906, 1908, 1910] (by decide +kernel) (by decide +kernel)
/-! CrossbarExchange$Waiter -/
set_option maxRecDepth 100000
def RX10 : String := "CrossbarExchange$Waiter"
def TX10 : u_T := fun k => match k with
  | 0 => ("CrossbarExchange$Waiter", "caller", "I", true)
  | 1 => ("CrossbarExchange$Waiter", "group", "I", true)
  | 2 => ("CrossbarExchange$Waiter", "lasts", "I", true)
  | _ => ("CrossbarExchange$Waiter", "since", "I", true)
def tyX10 : Nat → FieldType := fun k => match k with
  | 0 => .int
  | 1 => .int
  | 2 => .int
  | _ => .int
abbrev wsX100 : List Cond := u_ws RX10 TX10 4
theorem nmX10 : ∀ a, a < 4 → ∀ b, b < 4 → a ≠ b → (TX10 a).2.1 ≠ (TX10 b).2.1 := by decide +kernel
theorem tyX10_ok : ∀ k, k < 4 → parseFieldDescriptor (TX10 k).2.2.1 = some (tyX10 k) := by decide +kernel
abbrev cX10_init : ByteArray := prog_10_method_1_code
def yX10_init : MethodName := ⟨RX10, "<init>", "(IIII)V"⟩
def dkwX10_init_1 : List UInt8 := [181, 0, 19, 177]
abbrev dktX10_init_1 : List UInt8 := dkwX10_init_1 ++ []
def dkwX10_init_0 : List UInt8 := [42, 183, 0, 1, 42, 27, 181, 0, 7, 42, 28, 181, 0, 13, 42, 29, 181, 0, 16, 42, 21, 4]
abbrev dktX10_init_0 : List UInt8 := dkwX10_init_0 ++ dktX10_init_1
theorem dksX10_init_0 : cX10_init.data.toList.drop 0 = dktX10_init_0 := by decide +kernel
theorem dksX10_init_1 : cX10_init.data.toList.drop 22 = dktX10_init_1 := dk_seg dksX10_init_0 22 rfl rfl
theorem dX10_init_0 : decode cX10_init 0 = .ok (.aload_n 0, 1) := dk_42 (dk_at dksX10_init_0 0 rfl rfl)
theorem dX10_init_1 : decode cX10_init 1 = .ok (.invokespecial 1, 3) := dk_183 0 1 (dk_at dksX10_init_0 1 rfl rfl)
theorem dX10_init_4 : decode cX10_init 4 = .ok (.aload_n 0, 1) := dk_42 (dk_at dksX10_init_0 4 rfl rfl)
theorem dX10_init_5 : decode cX10_init 5 = .ok (.iload_n 1, 1) := dk_27 (dk_at dksX10_init_0 5 rfl rfl)
theorem dX10_init_6 : decode cX10_init 6 = .ok (.putfield 7, 3) := dk_181 0 7 (dk_at dksX10_init_0 6 rfl rfl)
theorem dX10_init_9 : decode cX10_init 9 = .ok (.aload_n 0, 1) := dk_42 (dk_at dksX10_init_0 9 rfl rfl)
theorem dX10_init_10 : decode cX10_init 10 = .ok (.iload_n 2, 1) := dk_28 (dk_at dksX10_init_0 10 rfl rfl)
theorem dX10_init_11 : decode cX10_init 11 = .ok (.putfield 13, 3) := dk_181 0 13 (dk_at dksX10_init_0 11 rfl rfl)
theorem dX10_init_14 : decode cX10_init 14 = .ok (.aload_n 0, 1) := dk_42 (dk_at dksX10_init_0 14 rfl rfl)
theorem dX10_init_15 : decode cX10_init 15 = .ok (.iload_n 3, 1) := dk_29 (dk_at dksX10_init_0 15 rfl rfl)
theorem dX10_init_16 : decode cX10_init 16 = .ok (.putfield 16, 3) := dk_181 0 16 (dk_at dksX10_init_0 16 rfl rfl)
theorem dX10_init_19 : decode cX10_init 19 = .ok (.aload_n 0, 1) := dk_42 (dk_at dksX10_init_0 19 rfl rfl)
theorem dX10_init_20 : decode cX10_init 20 = .ok (.iload 4, 2) := dk_21 4 (dk_at dksX10_init_0 20 rfl rfl)
theorem dX10_init_22 : decode cX10_init 22 = .ok (.putfield 19, 3) := dk_181 0 19 (dk_at dksX10_init_1 0 rfl rfl)
theorem dX10_init_25 : decode cX10_init 25 = .ok (.return_, 1) := dk_177 (dk_at dksX10_init_1 3 rfl rfl)
theorem q193 : (Jvm.Cond.initialized "CrossbarExchange$Waiter") ∈ lw_all := lw_g (lw_at lw_m1 42 rfl) rfl
theorem q500 : (Jvm.Cond.selects "CrossbarExchange$Waiter" ({ cls := "java/lang/Object", name := "getClass", desc := "()Ljava/lang/Class;" } : Jvm.MethodName) ({ cls := "java/lang/Object", name := "getClass", desc := "()Ljava/lang/Class;" } : Jvm.MethodName)) ∈ lw_all := lw_g (lw_at lw_m2 109 rfl) rfl
theorem q576 : (Jvm.Cond.selects "CrossbarExchange$Waiter" ({ cls := "java/lang/Object", name := "hashCode", desc := "()I" } : Jvm.MethodName) ({ cls := "java/lang/Object", name := "hashCode", desc := "()I" } : Jvm.MethodName)) ∈ lw_all := lw_g (lw_at lw_m2 185 rfl) rfl
theorem q1311 : (Jvm.Cond.selects "CrossbarExchange$Waiter" ({ cls := "java/lang/Object", name := "equals", desc := "(Ljava/lang/Object;)Z" } : Jvm.MethodName) ({ cls := "java/lang/Object", name := "equals", desc := "(Ljava/lang/Object;)Z" } : Jvm.MethodName)) ∈ lw_all := lw_g (lw_at lw_m5 200 rfl) rfl
theorem q1995 : (Jvm.Cond.instantiable "CrossbarExchange$Waiter" (4 : Nat)) ∈ lw_all := lw_g (lw_at lw_m8 164 rfl) rfl
theorem q1997 : (Jvm.Cond.instanceMethod ({ cls := "CrossbarExchange$Waiter", name := "<init>", desc := "(IIII)V" } : Jvm.MethodName)) ∈ lw_all := lw_g (lw_at lw_m8 166 rfl) rfl
theorem q1998 : (Jvm.Cond.code ({ cls := "CrossbarExchange$Waiter", name := "<init>", desc := "(IIII)V" } : Jvm.MethodName) prog_10_method_1_code (5 : Nat) (Option.none : Option Jvm.ClassFile.FieldType)) ∈ lw_all := lw_g (lw_at lw_m8 167 rfl) rfl
theorem q1999 : (Jvm.Cond.methodLink "CrossbarExchange$Waiter" (1 : Nat) ({ cls := "java/lang/Object", name := "<init>", desc := "()V" } : Jvm.MethodName)) ∈ lw_all := lw_g (lw_at lw_m8 168 rfl) rfl
theorem q2000 : (Jvm.Cond.fieldLink "CrossbarExchange$Waiter" (7 : Nat) "CrossbarExchange$Waiter" "caller" "I") ∈ lw_all := lw_g (lw_at lw_m8 169 rfl) rfl
theorem q2003 : (Jvm.Cond.fieldLink "CrossbarExchange$Waiter" (13 : Nat) "CrossbarExchange$Waiter" "group" "I") ∈ lw_all := lw_g (lw_at lw_m8 172 rfl) rfl
theorem q2006 : (Jvm.Cond.fieldLink "CrossbarExchange$Waiter" (16 : Nat) "CrossbarExchange$Waiter" "lasts" "I") ∈ lw_all := lw_g (lw_at lw_m8 175 rfl) rfl
theorem q2009 : (Jvm.Cond.fieldLink "CrossbarExchange$Waiter" (19 : Nat) "CrossbarExchange$Waiter" "since" "I") ∈ lw_all := lw_g (lw_at lw_m8 178 rfl) rfl
theorem q2012 : (Jvm.Cond.laysFinal "CrossbarExchange$Waiter" "CrossbarExchange$Waiter" "caller" "I") ∈ lw_all := lw_g (lw_at lw_m8 181 rfl) rfl
theorem q2013 : (Jvm.Cond.soleField "CrossbarExchange$Waiter" "caller") ∈ lw_all := lw_g (lw_at lw_m8 182 rfl) rfl
theorem q2014 : (Jvm.Cond.laysFinal "CrossbarExchange$Waiter" "CrossbarExchange$Waiter" "group" "I") ∈ lw_all := lw_g (lw_at lw_m8 183 rfl) rfl
theorem q2015 : (Jvm.Cond.soleField "CrossbarExchange$Waiter" "group") ∈ lw_all := lw_g (lw_at lw_m8 184 rfl) rfl
theorem q2016 : (Jvm.Cond.laysFinal "CrossbarExchange$Waiter" "CrossbarExchange$Waiter" "lasts" "I") ∈ lw_all := lw_g (lw_at lw_m8 185 rfl) rfl
theorem q2017 : (Jvm.Cond.soleField "CrossbarExchange$Waiter" "lasts") ∈ lw_all := lw_g (lw_at lw_m8 186 rfl) rfl
theorem q2018 : (Jvm.Cond.laysFinal "CrossbarExchange$Waiter" "CrossbarExchange$Waiter" "since" "I") ∈ lw_all := lw_g (lw_at lw_m8 187 rfl) rfl
theorem q2019 : (Jvm.Cond.soleField "CrossbarExchange$Waiter" "since") ∈ lw_all := lw_g (lw_at lw_m8 188 rfl) rfl
theorem q2020 : (Jvm.Cond.superclass "CrossbarExchange$Waiter" "java/lang/Object") ∈ lw_all := lw_g (lw_at lw_m8 189 rfl) rfl
theorem q3546 : (Jvm.Cond.castable "CrossbarExchange$Waiter" "java/lang/Object") ∈ lw_tbl := lw_at lw_m15 35 rfl
theorem in_X10 : ∀ w ∈ wsX100, w ∈ lw_all := lw_in wsX100 [2012, 2014, 2016, 2018] (by decide +kernel) (by decide +kernel)
/-! CrossbarExchange$Trial -/
set_option maxRecDepth 100000
def RX11 : String := "CrossbarExchange$Trial"
def TX11 : u_T := fun k => match k with
  | 0 => ("CrossbarExchange$Trial", "was", "LCrossbarExchange$Exchange;", true)
  | _ => ("CrossbarExchange$Trial", "this$0", "LCrossbarExchange;", true)
def tyX11 : Nat → FieldType := fun k => match k with
  | 0 => .object "CrossbarExchange$Exchange"
  | _ => .object "CrossbarExchange"
abbrev wsX110 : List Cond := u_ws RX11 TX11 2
theorem nmX11 : ∀ a, a < 2 → ∀ b, b < 2 → a ≠ b → (TX11 a).2.1 ≠ (TX11 b).2.1 := by decide +kernel
theorem tyX11_ok : ∀ k, k < 2 → parseFieldDescriptor (TX11 k).2.2.1 = some (tyX11 k) := by decide +kernel
abbrev cX11_init : ByteArray := prog_9_method_1_code
def yX11_init : MethodName := ⟨RX11, "<init>", "(LCrossbarExchange;)V"⟩
def dkwX11_init_1 : List UInt8 := [180, 0, 13, 182, 0, 22, 181, 0, 13, 177]
abbrev dktX11_init_1 : List UInt8 := dkwX11_init_1 ++ []
def dkwX11_init_0 : List UInt8 := [42, 43, 181, 0, 1, 42, 183, 0, 7, 42, 42, 180, 0, 1, 180, 0, 13, 181, 0, 19, 43, 43]
abbrev dktX11_init_0 : List UInt8 := dkwX11_init_0 ++ dktX11_init_1
theorem dksX11_init_0 : cX11_init.data.toList.drop 0 = dktX11_init_0 := by decide +kernel
theorem dksX11_init_1 : cX11_init.data.toList.drop 22 = dktX11_init_1 := dk_seg dksX11_init_0 22 rfl rfl
theorem dX11_init_0 : decode cX11_init 0 = .ok (.aload_n 0, 1) := dk_42 (dk_at dksX11_init_0 0 rfl rfl)
theorem dX11_init_1 : decode cX11_init 1 = .ok (.aload_n 1, 1) := dk_43 (dk_at dksX11_init_0 1 rfl rfl)
theorem dX11_init_2 : decode cX11_init 2 = .ok (.putfield 1, 3) := dk_181 0 1 (dk_at dksX11_init_0 2 rfl rfl)
theorem dX11_init_5 : decode cX11_init 5 = .ok (.aload_n 0, 1) := dk_42 (dk_at dksX11_init_0 5 rfl rfl)
theorem dX11_init_6 : decode cX11_init 6 = .ok (.invokespecial 7, 3) := dk_183 0 7 (dk_at dksX11_init_0 6 rfl rfl)
theorem dX11_init_9 : decode cX11_init 9 = .ok (.aload_n 0, 1) := dk_42 (dk_at dksX11_init_0 9 rfl rfl)
theorem dX11_init_10 : decode cX11_init 10 = .ok (.aload_n 0, 1) := dk_42 (dk_at dksX11_init_0 10 rfl rfl)
theorem dX11_init_11 : decode cX11_init 11 = .ok (.getfield 1, 3) := dk_180 0 1 (dk_at dksX11_init_0 11 rfl rfl)
theorem dX11_init_14 : decode cX11_init 14 = .ok (.getfield 13, 3) := dk_180 0 13 (dk_at dksX11_init_0 14 rfl rfl)
theorem dX11_init_17 : decode cX11_init 17 = .ok (.putfield 19, 3) := dk_181 0 19 (dk_at dksX11_init_0 17 rfl rfl)
theorem dX11_init_20 : decode cX11_init 20 = .ok (.aload_n 1, 1) := dk_43 (dk_at dksX11_init_0 20 rfl rfl)
theorem dX11_init_21 : decode cX11_init 21 = .ok (.aload_n 1, 1) := dk_43 (dk_at dksX11_init_0 21 rfl rfl)
theorem dX11_init_22 : decode cX11_init 22 = .ok (.getfield 13, 3) := dk_180 0 13 (dk_at dksX11_init_1 0 rfl rfl)
theorem dX11_init_25 : decode cX11_init 25 = .ok (.invokevirtual 22, 3) := dk_182 0 22 (dk_at dksX11_init_1 3 rfl rfl)
theorem dX11_init_28 : decode cX11_init 28 = .ok (.putfield 13, 3) := dk_181 0 13 (dk_at dksX11_init_1 6 rfl rfl)
theorem dX11_init_31 : decode cX11_init 31 = .ok (.return_, 1) := dk_177 (dk_at dksX11_init_1 9 rfl rfl)
abbrev cX11_close : ByteArray := prog_9_method_2_code
def yX11_close : MethodName := ⟨RX11, "close", "()V"⟩
def dkwX11_close_0 : List UInt8 := [42, 180, 0, 1, 42, 180, 0, 19, 181, 0, 13, 177]
abbrev dktX11_close_0 : List UInt8 := dkwX11_close_0 ++ []
theorem dksX11_close_0 : cX11_close.data.toList.drop 0 = dktX11_close_0 := by decide +kernel
theorem dX11_close_0 : decode cX11_close 0 = .ok (.aload_n 0, 1) := dk_42 (dk_at dksX11_close_0 0 rfl rfl)
theorem dX11_close_1 : decode cX11_close 1 = .ok (.getfield 1, 3) := dk_180 0 1 (dk_at dksX11_close_0 1 rfl rfl)
theorem dX11_close_4 : decode cX11_close 4 = .ok (.aload_n 0, 1) := dk_42 (dk_at dksX11_close_0 4 rfl rfl)
theorem dX11_close_5 : decode cX11_close 5 = .ok (.getfield 19, 3) := dk_180 0 19 (dk_at dksX11_close_0 5 rfl rfl)
theorem dX11_close_8 : decode cX11_close 8 = .ok (.putfield 13, 3) := dk_181 0 13 (dk_at dksX11_close_0 8 rfl rfl)
theorem dX11_close_11 : decode cX11_close 11 = .ok (.return_, 1) := dk_177 (dk_at dksX11_close_0 11 rfl rfl)
theorem q202 : (Jvm.Cond.initialized "CrossbarExchange$Trial") ∈ lw_all := lw_g (lw_at lw_m1 51 rfl) rfl
theorem q499 : (Jvm.Cond.selects "CrossbarExchange$Trial" ({ cls := "java/lang/Object", name := "getClass", desc := "()Ljava/lang/Class;" } : Jvm.MethodName) ({ cls := "java/lang/Object", name := "getClass", desc := "()Ljava/lang/Class;" } : Jvm.MethodName)) ∈ lw_all := lw_g (lw_at lw_m2 108 rfl) rfl
theorem q575 : (Jvm.Cond.selects "CrossbarExchange$Trial" ({ cls := "java/lang/Object", name := "hashCode", desc := "()I" } : Jvm.MethodName) ({ cls := "java/lang/Object", name := "hashCode", desc := "()I" } : Jvm.MethodName)) ∈ lw_all := lw_g (lw_at lw_m2 184 rfl) rfl
theorem q1310 : (Jvm.Cond.selects "CrossbarExchange$Trial" ({ cls := "java/lang/Object", name := "equals", desc := "(Ljava/lang/Object;)Z" } : Jvm.MethodName) ({ cls := "java/lang/Object", name := "equals", desc := "(Ljava/lang/Object;)Z" } : Jvm.MethodName)) ∈ lw_all := lw_g (lw_at lw_m5 199 rfl) rfl
theorem q1433 : (Jvm.Cond.fieldLinkNest "CrossbarExchange$Trial" (13 : Nat) "CrossbarExchange" "now" "LCrossbarExchange$Exchange;" "CrossbarExchange") ∈ lw_tbl := lw_at lw_m6 82 rfl
theorem q2328 : (Jvm.Cond.instantiable "CrossbarExchange$Trial" (2 : Nat)) ∈ lw_all := lw_g (lw_at lw_m10 17 rfl) rfl
theorem q2330 : (Jvm.Cond.instanceMethod ({ cls := "CrossbarExchange$Trial", name := "<init>", desc := "(LCrossbarExchange;)V" } : Jvm.MethodName)) ∈ lw_all := lw_g (lw_at lw_m10 19 rfl) rfl
theorem q2331 : (Jvm.Cond.code ({ cls := "CrossbarExchange$Trial", name := "<init>", desc := "(LCrossbarExchange;)V" } : Jvm.MethodName) prog_9_method_1_code (2 : Nat) (Option.none : Option Jvm.ClassFile.FieldType)) ∈ lw_all := lw_g (lw_at lw_m10 20 rfl) rfl
theorem q2332 : (Jvm.Cond.methodLink "CrossbarExchange$Trial" (7 : Nat) ({ cls := "java/lang/Object", name := "<init>", desc := "()V" } : Jvm.MethodName)) ∈ lw_all := lw_g (lw_at lw_m10 21 rfl) rfl
theorem q2333 : (Jvm.Cond.methodLink "CrossbarExchange$Trial" (22 : Nat) ({ cls := "CrossbarExchange$Exchange", name := "copy", desc := "()LCrossbarExchange$Exchange;" } : Jvm.MethodName)) ∈ lw_all := lw_g (lw_at lw_m10 22 rfl) rfl
theorem q2334 : (Jvm.Cond.fieldLink "CrossbarExchange$Trial" (19 : Nat) "CrossbarExchange$Trial" "was" "LCrossbarExchange$Exchange;") ∈ lw_all := lw_g (lw_at lw_m10 23 rfl) rfl
theorem q2335 : (Jvm.Cond.fieldLink "CrossbarExchange$Trial" (1 : Nat) "CrossbarExchange$Trial" "this$0" "LCrossbarExchange;") ∈ lw_all := lw_g (lw_at lw_m10 24 rfl) rfl
theorem q2336 : (Jvm.Cond.laysFinal "CrossbarExchange$Trial" "CrossbarExchange$Trial" "was" "LCrossbarExchange$Exchange;") ∈ lw_all := lw_g (lw_at lw_m10 25 rfl) rfl
theorem q2337 : (Jvm.Cond.soleField "CrossbarExchange$Trial" "was") ∈ lw_all := lw_g (lw_at lw_m10 26 rfl) rfl
theorem q2338 : (Jvm.Cond.laysFinal "CrossbarExchange$Trial" "CrossbarExchange$Trial" "this$0" "LCrossbarExchange;") ∈ lw_all := lw_g (lw_at lw_m10 27 rfl) rfl
theorem q2339 : (Jvm.Cond.soleField "CrossbarExchange$Trial" "this$0") ∈ lw_all := lw_g (lw_at lw_m10 28 rfl) rfl
theorem q2340 : (Jvm.Cond.superclass "CrossbarExchange$Trial" "java/lang/Object") ∈ lw_all := lw_g (lw_at lw_m10 29 rfl) rfl
theorem q2343 : (Jvm.Cond.instanceMethod ({ cls := "CrossbarExchange$Trial", name := "close", desc := "()V" } : Jvm.MethodName)) ∈ lw_all := lw_g (lw_at lw_m10 32 rfl) rfl
theorem q2344 : (Jvm.Cond.selects "CrossbarExchange$Trial" ({ cls := "CrossbarExchange$Trial", name := "close", desc := "()V" } : Jvm.MethodName) ({ cls := "CrossbarExchange$Trial", name := "close", desc := "()V" } : Jvm.MethodName)) ∈ lw_all := lw_g (lw_at lw_m10 33 rfl) rfl
theorem q2345 : (Jvm.Cond.code ({ cls := "CrossbarExchange$Trial", name := "close", desc := "()V" } : Jvm.MethodName) prog_9_method_2_code (1 : Nat) (Option.none : Option Jvm.ClassFile.FieldType)) ∈ lw_all := lw_g (lw_at lw_m10 34 rfl) rfl
theorem q3555 : (Jvm.Cond.castable "CrossbarExchange$Trial" "java/lang/Object") ∈ lw_tbl := lw_at lw_m15 44 rfl
theorem in_X11 : ∀ w ∈ wsX110, w ∈ lw_all := lw_in wsX110 [2336, 2338] (by decide +kernel) (by decide +kernel)
/-! CrossbarExchange$Reader -/
set_option maxRecDepth 100000
def RX6 : String := "CrossbarExchange$Reader"
def TX6 : u_T := fun k => match k with
  | 0 => ("CrossbarExchange$Reader", "bytes", "[B", true)
  | 1 => ("CrossbarExchange$Reader", "length", "I", true)
  | 2 => ("CrossbarExchange$Reader", "exchange", "LCrossbarExchange$Exchange;", false)
  | 3 => ("CrossbarExchange$Reader", "to", "I", false)
  | 4 => ("CrossbarExchange$Reader", "from", "I", false)
  | 5 => ("CrossbarExchange$Reader", "kind", "I", false)
  | 6 => ("CrossbarExchange$Reader", "number", "I", false)
  | 7 => ("CrossbarExchange$Reader", "word", "Ljava/lang/String;", false)
  | _ => ("CrossbarExchange$Reader", "told", "I", false)
def tyX6 : Nat → FieldType := fun k => match k with
  | 0 => .array .byte
  | 1 => .int
  | 2 => .object "CrossbarExchange$Exchange"
  | 3 => .int
  | 4 => .int
  | 5 => .int
  | 6 => .int
  | 7 => .object "java/lang/String"
  | _ => .int
abbrev wsX60 : List Cond := u_ws RX6 TX6 9
theorem nmX6 : ∀ a, a < 9 → ∀ b, b < 9 → a ≠ b → (TX6 a).2.1 ≠ (TX6 b).2.1 := by decide +kernel
theorem tyX6_ok : ∀ k, k < 9 → parseFieldDescriptor (TX6 k).2.2.1 = some (tyX6 k) := by decide +kernel
abbrev cX6_init : ByteArray := prog_7_method_1_code
def yX6_init : MethodName := ⟨RX6, "<init>", "([BILCrossbarExchange$Exchange;)V"⟩
def dkwX6_init_1 : List UInt8 := [181, 0, 25, 177]
abbrev dktX6_init_1 : List UInt8 := dkwX6_init_1 ++ []
def dkwX6_init_0 : List UInt8 := [42, 183, 0, 3, 42, 18, 9, 181, 0, 11, 42, 43, 181, 0, 17, 42, 28, 181, 0, 21, 42, 45]
abbrev dktX6_init_0 : List UInt8 := dkwX6_init_0 ++ dktX6_init_1
theorem dksX6_init_0 : cX6_init.data.toList.drop 0 = dktX6_init_0 := by decide +kernel
theorem dksX6_init_1 : cX6_init.data.toList.drop 22 = dktX6_init_1 := dk_seg dksX6_init_0 22 rfl rfl
theorem dX6_init_0 : decode cX6_init 0 = .ok (.aload_n 0, 1) := dk_42 (dk_at dksX6_init_0 0 rfl rfl)
theorem dX6_init_1 : decode cX6_init 1 = .ok (.invokespecial 3, 3) := dk_183 0 3 (dk_at dksX6_init_0 1 rfl rfl)
theorem dX6_init_4 : decode cX6_init 4 = .ok (.aload_n 0, 1) := dk_42 (dk_at dksX6_init_0 4 rfl rfl)
theorem dX6_init_5 : decode cX6_init 5 = .ok (.ldc 9, 2) := dk_18 9 (dk_at dksX6_init_0 5 rfl rfl)
theorem dX6_init_7 : decode cX6_init 7 = .ok (.putfield 11, 3) := dk_181 0 11 (dk_at dksX6_init_0 7 rfl rfl)
theorem dX6_init_10 : decode cX6_init 10 = .ok (.aload_n 0, 1) := dk_42 (dk_at dksX6_init_0 10 rfl rfl)
theorem dX6_init_11 : decode cX6_init 11 = .ok (.aload_n 1, 1) := dk_43 (dk_at dksX6_init_0 11 rfl rfl)
theorem dX6_init_12 : decode cX6_init 12 = .ok (.putfield 17, 3) := dk_181 0 17 (dk_at dksX6_init_0 12 rfl rfl)
theorem dX6_init_15 : decode cX6_init 15 = .ok (.aload_n 0, 1) := dk_42 (dk_at dksX6_init_0 15 rfl rfl)
theorem dX6_init_16 : decode cX6_init 16 = .ok (.iload_n 2, 1) := dk_28 (dk_at dksX6_init_0 16 rfl rfl)
theorem dX6_init_17 : decode cX6_init 17 = .ok (.putfield 21, 3) := dk_181 0 21 (dk_at dksX6_init_0 17 rfl rfl)
theorem dX6_init_20 : decode cX6_init 20 = .ok (.aload_n 0, 1) := dk_42 (dk_at dksX6_init_0 20 rfl rfl)
theorem dX6_init_21 : decode cX6_init 21 = .ok (.aload_n 3, 1) := dk_45 (dk_at dksX6_init_0 21 rfl rfl)
theorem dX6_init_22 : decode cX6_init 22 = .ok (.putfield 25, 3) := dk_181 0 25 (dk_at dksX6_init_1 0 rfl rfl)
theorem dX6_init_25 : decode cX6_init 25 = .ok (.return_, 1) := dk_177 (dk_at dksX6_init_1 3 rfl rfl)
abbrev cX6_readWhole : ByteArray := prog_7_method_16_code
def yX6_readWhole : MethodName := ⟨RX6, "readWhole", "()LCrossbarExchange$Exchange;"⟩
def dkwX6_readWhole_3 : List UInt8 := [182, 0, 127, 167, 255, 243, 42, 182, 0, 130, 62, 29, 156, 0, 7, 1, 167, 0, 7, 42, 180, 0, 25, 176]
abbrev dktX6_readWhole_3 : List UInt8 := dkwX6_readWhole_3 ++ []
def dkwX6_readWhole_2 : List UInt8 := [182, 0, 117, 183, 0, 119, 181, 0, 25, 42, 182, 0, 122, 42, 18, 125, 182, 0, 113, 153, 0, 10, 42]
abbrev dktX6_readWhole_2 : List UInt8 := dkwX6_readWhole_2 ++ dktX6_readWhole_3
def dkwX6_readWhole_1 : List UInt8 := [182, 0, 117, 60, 42, 4, 16, 6, 182, 0, 117, 61, 42, 187, 0, 96, 89, 27, 28, 42, 4, 16, 9]
abbrev dktX6_readWhole_1 : List UInt8 := dkwX6_readWhole_1 ++ dktX6_readWhole_2
def dkwX6_readWhole_0 : List UInt8 := [42, 182, 0, 92, 42, 42, 18, 112, 182, 0, 113, 4, 182, 0, 85, 42, 182, 0, 92, 42, 4, 16, 6]
abbrev dktX6_readWhole_0 : List UInt8 := dkwX6_readWhole_0 ++ dktX6_readWhole_1
theorem dksX6_readWhole_0 : cX6_readWhole.data.toList.drop 0 = dktX6_readWhole_0 := by decide +kernel
theorem dksX6_readWhole_1 : cX6_readWhole.data.toList.drop 23 = dktX6_readWhole_1 := dk_seg dksX6_readWhole_0 23 rfl rfl
theorem dksX6_readWhole_2 : cX6_readWhole.data.toList.drop 46 = dktX6_readWhole_2 := dk_seg dksX6_readWhole_1 23 rfl rfl
theorem dksX6_readWhole_3 : cX6_readWhole.data.toList.drop 69 = dktX6_readWhole_3 := dk_seg dksX6_readWhole_2 23 rfl rfl
theorem dX6_readWhole_0 : decode cX6_readWhole 0 = .ok (.aload_n 0, 1) := dk_42 (dk_at dksX6_readWhole_0 0 rfl rfl)
theorem dX6_readWhole_1 : decode cX6_readWhole 1 = .ok (.invokevirtual 92, 3) := dk_182 0 92 (dk_at dksX6_readWhole_0 1 rfl rfl)
theorem dX6_readWhole_4 : decode cX6_readWhole 4 = .ok (.aload_n 0, 1) := dk_42 (dk_at dksX6_readWhole_0 4 rfl rfl)
theorem dX6_readWhole_5 : decode cX6_readWhole 5 = .ok (.aload_n 0, 1) := dk_42 (dk_at dksX6_readWhole_0 5 rfl rfl)
theorem dX6_readWhole_6 : decode cX6_readWhole 6 = .ok (.ldc 112, 2) := dk_18 112 (dk_at dksX6_readWhole_0 6 rfl rfl)
theorem dX6_readWhole_8 : decode cX6_readWhole 8 = .ok (.invokevirtual 113, 3) := dk_182 0 113 (dk_at dksX6_readWhole_0 8 rfl rfl)
theorem dX6_readWhole_11 : decode cX6_readWhole 11 = .ok (.iconst 1, 1) := dk_4 (dk_at dksX6_readWhole_0 11 rfl rfl)
theorem dX6_readWhole_12 : decode cX6_readWhole 12 = .ok (.invokevirtual 85, 3) := dk_182 0 85 (dk_at dksX6_readWhole_0 12 rfl rfl)
theorem dX6_readWhole_15 : decode cX6_readWhole 15 = .ok (.aload_n 0, 1) := dk_42 (dk_at dksX6_readWhole_0 15 rfl rfl)
theorem dX6_readWhole_16 : decode cX6_readWhole 16 = .ok (.invokevirtual 92, 3) := dk_182 0 92 (dk_at dksX6_readWhole_0 16 rfl rfl)
theorem dX6_readWhole_19 : decode cX6_readWhole 19 = .ok (.aload_n 0, 1) := dk_42 (dk_at dksX6_readWhole_0 19 rfl rfl)
theorem dX6_readWhole_20 : decode cX6_readWhole 20 = .ok (.iconst 1, 1) := dk_4 (dk_at dksX6_readWhole_0 20 rfl rfl)
theorem dX6_readWhole_21 : decode cX6_readWhole 21 = .ok (.bipush 6, 2) := dk_16 6 (dk_at dksX6_readWhole_0 21 rfl rfl)
theorem dX6_readWhole_23 : decode cX6_readWhole 23 = .ok (.invokevirtual 117, 3) := dk_182 0 117 (dk_at dksX6_readWhole_1 0 rfl rfl)
theorem dX6_readWhole_26 : decode cX6_readWhole 26 = .ok (.istore_n 1, 1) := dk_60 (dk_at dksX6_readWhole_1 3 rfl rfl)
theorem dX6_readWhole_27 : decode cX6_readWhole 27 = .ok (.aload_n 0, 1) := dk_42 (dk_at dksX6_readWhole_1 4 rfl rfl)
theorem dX6_readWhole_28 : decode cX6_readWhole 28 = .ok (.iconst 1, 1) := dk_4 (dk_at dksX6_readWhole_1 5 rfl rfl)
theorem dX6_readWhole_29 : decode cX6_readWhole 29 = .ok (.bipush 6, 2) := dk_16 6 (dk_at dksX6_readWhole_1 6 rfl rfl)
theorem dX6_readWhole_31 : decode cX6_readWhole 31 = .ok (.invokevirtual 117, 3) := dk_182 0 117 (dk_at dksX6_readWhole_1 8 rfl rfl)
theorem dX6_readWhole_34 : decode cX6_readWhole 34 = .ok (.istore_n 2, 1) := dk_61 (dk_at dksX6_readWhole_1 11 rfl rfl)
theorem dX6_readWhole_35 : decode cX6_readWhole 35 = .ok (.aload_n 0, 1) := dk_42 (dk_at dksX6_readWhole_1 12 rfl rfl)
theorem dX6_readWhole_36 : decode cX6_readWhole 36 = .ok (.new 96, 3) := dk_187 0 96 (dk_at dksX6_readWhole_1 13 rfl rfl)
theorem dX6_readWhole_39 : decode cX6_readWhole 39 = .ok (.dup, 1) := dk_89 (dk_at dksX6_readWhole_1 16 rfl rfl)
theorem dX6_readWhole_40 : decode cX6_readWhole 40 = .ok (.iload_n 1, 1) := dk_27 (dk_at dksX6_readWhole_1 17 rfl rfl)
theorem dX6_readWhole_41 : decode cX6_readWhole 41 = .ok (.iload_n 2, 1) := dk_28 (dk_at dksX6_readWhole_1 18 rfl rfl)
theorem dX6_readWhole_42 : decode cX6_readWhole 42 = .ok (.aload_n 0, 1) := dk_42 (dk_at dksX6_readWhole_1 19 rfl rfl)
theorem dX6_readWhole_43 : decode cX6_readWhole 43 = .ok (.iconst 1, 1) := dk_4 (dk_at dksX6_readWhole_1 20 rfl rfl)
theorem dX6_readWhole_44 : decode cX6_readWhole 44 = .ok (.bipush 9, 2) := dk_16 9 (dk_at dksX6_readWhole_1 21 rfl rfl)
theorem dX6_readWhole_46 : decode cX6_readWhole 46 = .ok (.invokevirtual 117, 3) := dk_182 0 117 (dk_at dksX6_readWhole_2 0 rfl rfl)
theorem dX6_readWhole_49 : decode cX6_readWhole 49 = .ok (.invokespecial 119, 3) := dk_183 0 119 (dk_at dksX6_readWhole_2 3 rfl rfl)
theorem dX6_readWhole_52 : decode cX6_readWhole 52 = .ok (.putfield 25, 3) := dk_181 0 25 (dk_at dksX6_readWhole_2 6 rfl rfl)
theorem dX6_readWhole_55 : decode cX6_readWhole 55 = .ok (.aload_n 0, 1) := dk_42 (dk_at dksX6_readWhole_2 9 rfl rfl)
theorem dX6_readWhole_56 : decode cX6_readWhole 56 = .ok (.invokevirtual 122, 3) := dk_182 0 122 (dk_at dksX6_readWhole_2 10 rfl rfl)
theorem dX6_readWhole_59 : decode cX6_readWhole 59 = .ok (.aload_n 0, 1) := dk_42 (dk_at dksX6_readWhole_2 13 rfl rfl)
theorem dX6_readWhole_60 : decode cX6_readWhole 60 = .ok (.ldc 125, 2) := dk_18 125 (dk_at dksX6_readWhole_2 14 rfl rfl)
theorem dX6_readWhole_62 : decode cX6_readWhole 62 = .ok (.invokevirtual 113, 3) := dk_182 0 113 (dk_at dksX6_readWhole_2 16 rfl rfl)
theorem dX6_readWhole_65 : decode cX6_readWhole 65 = .ok (.ifCond .eq 10, 3) := dk_153 0 10 (dk_at dksX6_readWhole_2 19 rfl rfl)
theorem dX6_readWhole_68 : decode cX6_readWhole 68 = .ok (.aload_n 0, 1) := dk_42 (dk_at dksX6_readWhole_2 22 rfl rfl)
theorem dX6_readWhole_69 : decode cX6_readWhole 69 = .ok (.invokevirtual 127, 3) := dk_182 0 127 (dk_at dksX6_readWhole_3 0 rfl rfl)
theorem dX6_readWhole_72 : decode cX6_readWhole 72 = .ok (.goto (-13), 3) := dk_167 255 243 (dk_at dksX6_readWhole_3 3 rfl rfl)
theorem dX6_readWhole_75 : decode cX6_readWhole 75 = .ok (.aload_n 0, 1) := dk_42 (dk_at dksX6_readWhole_3 6 rfl rfl)
theorem dX6_readWhole_76 : decode cX6_readWhole 76 = .ok (.invokevirtual 130, 3) := dk_182 0 130 (dk_at dksX6_readWhole_3 7 rfl rfl)
theorem dX6_readWhole_79 : decode cX6_readWhole 79 = .ok (.istore_n 3, 1) := dk_62 (dk_at dksX6_readWhole_3 10 rfl rfl)
theorem dX6_readWhole_80 : decode cX6_readWhole 80 = .ok (.iload_n 3, 1) := dk_29 (dk_at dksX6_readWhole_3 11 rfl rfl)
theorem dX6_readWhole_81 : decode cX6_readWhole 81 = .ok (.ifCond .ge 7, 3) := dk_156 0 7 (dk_at dksX6_readWhole_3 12 rfl rfl)
theorem dX6_readWhole_84 : decode cX6_readWhole 84 = .ok (.aconst_null, 1) := dk_1 (dk_at dksX6_readWhole_3 15 rfl rfl)
theorem dX6_readWhole_85 : decode cX6_readWhole 85 = .ok (.goto 7, 3) := dk_167 0 7 (dk_at dksX6_readWhole_3 16 rfl rfl)
theorem dX6_readWhole_88 : decode cX6_readWhole 88 = .ok (.aload_n 0, 1) := dk_42 (dk_at dksX6_readWhole_3 19 rfl rfl)
theorem dX6_readWhole_89 : decode cX6_readWhole 89 = .ok (.getfield 25, 3) := dk_180 0 25 (dk_at dksX6_readWhole_3 20 rfl rfl)
theorem dX6_readWhole_92 : decode cX6_readWhole 92 = .ok (.areturn, 1) := dk_176 (dk_at dksX6_readWhole_3 23 rfl rfl)
abbrev cX6_next : ByteArray := prog_7_method_5_code
def yX6_next : MethodName := ⟨RX6, "next", "()V"⟩
def dkwX6_next_6 : List UInt8 := [181, 0, 37, 177]
abbrev dktX6_next_6 : List UInt8 := dkwX6_next_6 ++ []
def dkwX6_next_5 : List UInt8 := [182, 0, 29, 16, 59, 160, 0, 7, 6, 167, 0, 4, 7, 181, 0, 43, 42, 89, 180, 0, 37, 4, 96]
abbrev dktX6_next_5 : List UInt8 := dkwX6_next_5 ++ dktX6_next_6
def dkwX6_next_4 : List UInt8 := [42, 42, 180, 0, 37, 182, 0, 53, 153, 0, 10, 42, 182, 0, 56, 167, 0, 35, 42, 42, 42, 180, 0, 37]
abbrev dktX6_next_4 : List UInt8 := dkwX6_next_4 ++ dktX6_next_5
def dkwX6_next_3 : List UInt8 := [181, 0, 43, 167, 0, 71, 42, 42, 180, 0, 37, 182, 0, 46, 153, 0, 10, 42, 182, 0, 50, 167, 0, 53]
abbrev dktX6_next_3 : List UInt8 := dkwX6_next_3 ++ dktX6_next_4
def dkwX6_next_2 : List UInt8 := [167, 255, 209, 42, 42, 180, 0, 37, 181, 0, 40, 42, 180, 0, 37, 42, 180, 0, 21, 160, 0, 11, 42, 3]
abbrev dktX6_next_2 : List UInt8 := dkwX6_next_2 ++ dktX6_next_3
def dkwX6_next_1 : List UInt8 := [42, 42, 180, 0, 37, 182, 0, 29, 16, 10, 160, 0, 16, 42, 89, 180, 0, 37, 4, 96, 181, 0, 37]
abbrev dktX6_next_1 : List UInt8 := dkwX6_next_1 ++ dktX6_next_2
def dkwX6_next_0 : List UInt8 := [42, 180, 0, 37, 42, 180, 0, 21, 162, 0, 42, 42, 42, 180, 0, 37, 182, 0, 29, 16, 32, 159, 0, 16]
abbrev dktX6_next_0 : List UInt8 := dkwX6_next_0 ++ dktX6_next_1
theorem dksX6_next_0 : cX6_next.data.toList.drop 0 = dktX6_next_0 := by decide +kernel
theorem dksX6_next_1 : cX6_next.data.toList.drop 24 = dktX6_next_1 := dk_seg dksX6_next_0 24 rfl rfl
theorem dksX6_next_2 : cX6_next.data.toList.drop 47 = dktX6_next_2 := dk_seg dksX6_next_1 23 rfl rfl
theorem dksX6_next_3 : cX6_next.data.toList.drop 71 = dktX6_next_3 := dk_seg dksX6_next_2 24 rfl rfl
theorem dksX6_next_4 : cX6_next.data.toList.drop 95 = dktX6_next_4 := dk_seg dksX6_next_3 24 rfl rfl
theorem dksX6_next_5 : cX6_next.data.toList.drop 119 = dktX6_next_5 := dk_seg dksX6_next_4 24 rfl rfl
theorem dksX6_next_6 : cX6_next.data.toList.drop 142 = dktX6_next_6 := dk_seg dksX6_next_5 23 rfl rfl
theorem dX6_next_0 : decode cX6_next 0 = .ok (.aload_n 0, 1) := dk_42 (dk_at dksX6_next_0 0 rfl rfl)
theorem dX6_next_1 : decode cX6_next 1 = .ok (.getfield 37, 3) := dk_180 0 37 (dk_at dksX6_next_0 1 rfl rfl)
theorem dX6_next_4 : decode cX6_next 4 = .ok (.aload_n 0, 1) := dk_42 (dk_at dksX6_next_0 4 rfl rfl)
theorem dX6_next_5 : decode cX6_next 5 = .ok (.getfield 21, 3) := dk_180 0 21 (dk_at dksX6_next_0 5 rfl rfl)
theorem dX6_next_8 : decode cX6_next 8 = .ok (.if_icmp .ge 42, 3) := dk_162 0 42 (dk_at dksX6_next_0 8 rfl rfl)
theorem dX6_next_11 : decode cX6_next 11 = .ok (.aload_n 0, 1) := dk_42 (dk_at dksX6_next_0 11 rfl rfl)
theorem dX6_next_12 : decode cX6_next 12 = .ok (.aload_n 0, 1) := dk_42 (dk_at dksX6_next_0 12 rfl rfl)
theorem dX6_next_13 : decode cX6_next 13 = .ok (.getfield 37, 3) := dk_180 0 37 (dk_at dksX6_next_0 13 rfl rfl)
theorem dX6_next_16 : decode cX6_next 16 = .ok (.invokevirtual 29, 3) := dk_182 0 29 (dk_at dksX6_next_0 16 rfl rfl)
theorem dX6_next_19 : decode cX6_next 19 = .ok (.bipush 32, 2) := dk_16 32 (dk_at dksX6_next_0 19 rfl rfl)
theorem dX6_next_21 : decode cX6_next 21 = .ok (.if_icmp .eq 16, 3) := dk_159 0 16 (dk_at dksX6_next_0 21 rfl rfl)
theorem dX6_next_24 : decode cX6_next 24 = .ok (.aload_n 0, 1) := dk_42 (dk_at dksX6_next_1 0 rfl rfl)
theorem dX6_next_25 : decode cX6_next 25 = .ok (.aload_n 0, 1) := dk_42 (dk_at dksX6_next_1 1 rfl rfl)
theorem dX6_next_26 : decode cX6_next 26 = .ok (.getfield 37, 3) := dk_180 0 37 (dk_at dksX6_next_1 2 rfl rfl)
theorem dX6_next_29 : decode cX6_next 29 = .ok (.invokevirtual 29, 3) := dk_182 0 29 (dk_at dksX6_next_1 5 rfl rfl)
theorem dX6_next_32 : decode cX6_next 32 = .ok (.bipush 10, 2) := dk_16 10 (dk_at dksX6_next_1 8 rfl rfl)
theorem dX6_next_34 : decode cX6_next 34 = .ok (.if_icmp .ne 16, 3) := dk_160 0 16 (dk_at dksX6_next_1 10 rfl rfl)
theorem dX6_next_37 : decode cX6_next 37 = .ok (.aload_n 0, 1) := dk_42 (dk_at dksX6_next_1 13 rfl rfl)
theorem dX6_next_38 : decode cX6_next 38 = .ok (.dup, 1) := dk_89 (dk_at dksX6_next_1 14 rfl rfl)
theorem dX6_next_39 : decode cX6_next 39 = .ok (.getfield 37, 3) := dk_180 0 37 (dk_at dksX6_next_1 15 rfl rfl)
theorem dX6_next_42 : decode cX6_next 42 = .ok (.iconst 1, 1) := dk_4 (dk_at dksX6_next_1 18 rfl rfl)
theorem dX6_next_43 : decode cX6_next 43 = .ok (.iadd, 1) := dk_96 (dk_at dksX6_next_1 19 rfl rfl)
theorem dX6_next_44 : decode cX6_next 44 = .ok (.putfield 37, 3) := dk_181 0 37 (dk_at dksX6_next_1 20 rfl rfl)
theorem dX6_next_47 : decode cX6_next 47 = .ok (.goto (-47), 3) := dk_167 255 209 (dk_at dksX6_next_2 0 rfl rfl)
theorem dX6_next_50 : decode cX6_next 50 = .ok (.aload_n 0, 1) := dk_42 (dk_at dksX6_next_2 3 rfl rfl)
theorem dX6_next_51 : decode cX6_next 51 = .ok (.aload_n 0, 1) := dk_42 (dk_at dksX6_next_2 4 rfl rfl)
theorem dX6_next_52 : decode cX6_next 52 = .ok (.getfield 37, 3) := dk_180 0 37 (dk_at dksX6_next_2 5 rfl rfl)
theorem dX6_next_55 : decode cX6_next 55 = .ok (.putfield 40, 3) := dk_181 0 40 (dk_at dksX6_next_2 8 rfl rfl)
theorem dX6_next_58 : decode cX6_next 58 = .ok (.aload_n 0, 1) := dk_42 (dk_at dksX6_next_2 11 rfl rfl)
theorem dX6_next_59 : decode cX6_next 59 = .ok (.getfield 37, 3) := dk_180 0 37 (dk_at dksX6_next_2 12 rfl rfl)
theorem dX6_next_62 : decode cX6_next 62 = .ok (.aload_n 0, 1) := dk_42 (dk_at dksX6_next_2 15 rfl rfl)
theorem dX6_next_63 : decode cX6_next 63 = .ok (.getfield 21, 3) := dk_180 0 21 (dk_at dksX6_next_2 16 rfl rfl)
theorem dX6_next_66 : decode cX6_next 66 = .ok (.if_icmp .ne 11, 3) := dk_160 0 11 (dk_at dksX6_next_2 19 rfl rfl)
theorem dX6_next_69 : decode cX6_next 69 = .ok (.aload_n 0, 1) := dk_42 (dk_at dksX6_next_2 22 rfl rfl)
theorem dX6_next_70 : decode cX6_next 70 = .ok (.iconst 0, 1) := dk_3 (dk_at dksX6_next_2 23 rfl rfl)
theorem dX6_next_71 : decode cX6_next 71 = .ok (.putfield 43, 3) := dk_181 0 43 (dk_at dksX6_next_3 0 rfl rfl)
theorem dX6_next_74 : decode cX6_next 74 = .ok (.goto 71, 3) := dk_167 0 71 (dk_at dksX6_next_3 3 rfl rfl)
theorem dX6_next_77 : decode cX6_next 77 = .ok (.aload_n 0, 1) := dk_42 (dk_at dksX6_next_3 6 rfl rfl)
theorem dX6_next_78 : decode cX6_next 78 = .ok (.aload_n 0, 1) := dk_42 (dk_at dksX6_next_3 7 rfl rfl)
theorem dX6_next_79 : decode cX6_next 79 = .ok (.getfield 37, 3) := dk_180 0 37 (dk_at dksX6_next_3 8 rfl rfl)
theorem dX6_next_82 : decode cX6_next 82 = .ok (.invokevirtual 46, 3) := dk_182 0 46 (dk_at dksX6_next_3 11 rfl rfl)
theorem dX6_next_85 : decode cX6_next 85 = .ok (.ifCond .eq 10, 3) := dk_153 0 10 (dk_at dksX6_next_3 14 rfl rfl)
theorem dX6_next_88 : decode cX6_next 88 = .ok (.aload_n 0, 1) := dk_42 (dk_at dksX6_next_3 17 rfl rfl)
theorem dX6_next_89 : decode cX6_next 89 = .ok (.invokevirtual 50, 3) := dk_182 0 50 (dk_at dksX6_next_3 18 rfl rfl)
theorem dX6_next_92 : decode cX6_next 92 = .ok (.goto 53, 3) := dk_167 0 53 (dk_at dksX6_next_3 21 rfl rfl)
theorem dX6_next_95 : decode cX6_next 95 = .ok (.aload_n 0, 1) := dk_42 (dk_at dksX6_next_4 0 rfl rfl)
theorem dX6_next_96 : decode cX6_next 96 = .ok (.aload_n 0, 1) := dk_42 (dk_at dksX6_next_4 1 rfl rfl)
theorem dX6_next_97 : decode cX6_next 97 = .ok (.getfield 37, 3) := dk_180 0 37 (dk_at dksX6_next_4 2 rfl rfl)
theorem dX6_next_100 : decode cX6_next 100 = .ok (.invokevirtual 53, 3) := dk_182 0 53 (dk_at dksX6_next_4 5 rfl rfl)
theorem dX6_next_103 : decode cX6_next 103 = .ok (.ifCond .eq 10, 3) := dk_153 0 10 (dk_at dksX6_next_4 8 rfl rfl)
theorem dX6_next_106 : decode cX6_next 106 = .ok (.aload_n 0, 1) := dk_42 (dk_at dksX6_next_4 11 rfl rfl)
theorem dX6_next_107 : decode cX6_next 107 = .ok (.invokevirtual 56, 3) := dk_182 0 56 (dk_at dksX6_next_4 12 rfl rfl)
theorem dX6_next_110 : decode cX6_next 110 = .ok (.goto 35, 3) := dk_167 0 35 (dk_at dksX6_next_4 15 rfl rfl)
theorem dX6_next_113 : decode cX6_next 113 = .ok (.aload_n 0, 1) := dk_42 (dk_at dksX6_next_4 18 rfl rfl)
theorem dX6_next_114 : decode cX6_next 114 = .ok (.aload_n 0, 1) := dk_42 (dk_at dksX6_next_4 19 rfl rfl)
theorem dX6_next_115 : decode cX6_next 115 = .ok (.aload_n 0, 1) := dk_42 (dk_at dksX6_next_4 20 rfl rfl)
theorem dX6_next_116 : decode cX6_next 116 = .ok (.getfield 37, 3) := dk_180 0 37 (dk_at dksX6_next_4 21 rfl rfl)
theorem dX6_next_119 : decode cX6_next 119 = .ok (.invokevirtual 29, 3) := dk_182 0 29 (dk_at dksX6_next_5 0 rfl rfl)
theorem dX6_next_122 : decode cX6_next 122 = .ok (.bipush 59, 2) := dk_16 59 (dk_at dksX6_next_5 3 rfl rfl)
theorem dX6_next_124 : decode cX6_next 124 = .ok (.if_icmp .ne 7, 3) := dk_160 0 7 (dk_at dksX6_next_5 5 rfl rfl)
theorem dX6_next_127 : decode cX6_next 127 = .ok (.iconst 3, 1) := dk_6 (dk_at dksX6_next_5 8 rfl rfl)
theorem dX6_next_128 : decode cX6_next 128 = .ok (.goto 4, 3) := dk_167 0 4 (dk_at dksX6_next_5 9 rfl rfl)
theorem dX6_next_131 : decode cX6_next 131 = .ok (.iconst 4, 1) := dk_7 (dk_at dksX6_next_5 12 rfl rfl)
theorem dX6_next_132 : decode cX6_next 132 = .ok (.putfield 43, 3) := dk_181 0 43 (dk_at dksX6_next_5 13 rfl rfl)
theorem dX6_next_135 : decode cX6_next 135 = .ok (.aload_n 0, 1) := dk_42 (dk_at dksX6_next_5 16 rfl rfl)
theorem dX6_next_136 : decode cX6_next 136 = .ok (.dup, 1) := dk_89 (dk_at dksX6_next_5 17 rfl rfl)
theorem dX6_next_137 : decode cX6_next 137 = .ok (.getfield 37, 3) := dk_180 0 37 (dk_at dksX6_next_5 18 rfl rfl)
theorem dX6_next_140 : decode cX6_next 140 = .ok (.iconst 1, 1) := dk_4 (dk_at dksX6_next_5 21 rfl rfl)
theorem dX6_next_141 : decode cX6_next 141 = .ok (.iadd, 1) := dk_96 (dk_at dksX6_next_5 22 rfl rfl)
theorem dX6_next_142 : decode cX6_next 142 = .ok (.putfield 37, 3) := dk_181 0 37 (dk_at dksX6_next_6 0 rfl rfl)
theorem dX6_next_145 : decode cX6_next 145 = .ok (.return_, 1) := dk_177 (dk_at dksX6_next_6 3 rfl rfl)
abbrev cX6_at : ByteArray := prog_7_method_2_code
def yX6_at : MethodName := ⟨RX6, "at", "(I)I"⟩
def dkwX6_at_0 : List UInt8 := [27, 42, 180, 0, 21, 162, 0, 16, 42, 180, 0, 17, 27, 51, 17, 0, 255, 126, 167, 0, 4, 3, 172]
abbrev dktX6_at_0 : List UInt8 := dkwX6_at_0 ++ []
theorem dksX6_at_0 : cX6_at.data.toList.drop 0 = dktX6_at_0 := by decide +kernel
theorem dX6_at_0 : decode cX6_at 0 = .ok (.iload_n 1, 1) := dk_27 (dk_at dksX6_at_0 0 rfl rfl)
theorem dX6_at_1 : decode cX6_at 1 = .ok (.aload_n 0, 1) := dk_42 (dk_at dksX6_at_0 1 rfl rfl)
theorem dX6_at_2 : decode cX6_at 2 = .ok (.getfield 21, 3) := dk_180 0 21 (dk_at dksX6_at_0 2 rfl rfl)
theorem dX6_at_5 : decode cX6_at 5 = .ok (.if_icmp .ge 16, 3) := dk_162 0 16 (dk_at dksX6_at_0 5 rfl rfl)
theorem dX6_at_8 : decode cX6_at 8 = .ok (.aload_n 0, 1) := dk_42 (dk_at dksX6_at_0 8 rfl rfl)
theorem dX6_at_9 : decode cX6_at 9 = .ok (.getfield 17, 3) := dk_180 0 17 (dk_at dksX6_at_0 9 rfl rfl)
theorem dX6_at_12 : decode cX6_at 12 = .ok (.iload_n 1, 1) := dk_27 (dk_at dksX6_at_0 12 rfl rfl)
theorem dX6_at_13 : decode cX6_at 13 = .ok (.baload, 1) := dk_51 (dk_at dksX6_at_0 13 rfl rfl)
theorem dX6_at_14 : decode cX6_at 14 = .ok (.sipush 255, 3) := dk_17 0 255 (dk_at dksX6_at_0 14 rfl rfl)
theorem dX6_at_17 : decode cX6_at 17 = .ok (.iand, 1) := dk_126 (dk_at dksX6_at_0 17 rfl rfl)
theorem dX6_at_18 : decode cX6_at 18 = .ok (.goto 4, 3) := dk_167 0 4 (dk_at dksX6_at_0 18 rfl rfl)
theorem dX6_at_21 : decode cX6_at 21 = .ok (.iconst 0, 1) := dk_3 (dk_at dksX6_at_0 21 rfl rfl)
theorem dX6_at_22 : decode cX6_at 22 = .ok (.ireturn, 1) := dk_172 (dk_at dksX6_at_0 22 rfl rfl)
abbrev cX6_isLetter : ByteArray := prog_7_method_3_code
def yX6_isLetter : MethodName := ⟨RX6, "isLetter", "(I)Z"⟩
def dkwX6_isLetter_0 : List UInt8 := [42, 27, 182, 0, 29, 16, 97, 16, 122, 184, 0, 33, 172]
abbrev dktX6_isLetter_0 : List UInt8 := dkwX6_isLetter_0 ++ []
theorem dksX6_isLetter_0 : cX6_isLetter.data.toList.drop 0 = dktX6_isLetter_0 := by decide +kernel
theorem dX6_isLetter_0 : decode cX6_isLetter 0 = .ok (.aload_n 0, 1) := dk_42 (dk_at dksX6_isLetter_0 0 rfl rfl)
theorem dX6_isLetter_1 : decode cX6_isLetter 1 = .ok (.iload_n 1, 1) := dk_27 (dk_at dksX6_isLetter_0 1 rfl rfl)
theorem dX6_isLetter_2 : decode cX6_isLetter 2 = .ok (.invokevirtual 29, 3) := dk_182 0 29 (dk_at dksX6_isLetter_0 2 rfl rfl)
theorem dX6_isLetter_5 : decode cX6_isLetter 5 = .ok (.bipush 97, 2) := dk_16 97 (dk_at dksX6_isLetter_0 5 rfl rfl)
theorem dX6_isLetter_7 : decode cX6_isLetter 7 = .ok (.bipush 122, 2) := dk_16 122 (dk_at dksX6_isLetter_0 7 rfl rfl)
theorem dX6_isLetter_9 : decode cX6_isLetter 9 = .ok (.invokestatic 33, 3) := dk_184 0 33 (dk_at dksX6_isLetter_0 9 rfl rfl)
theorem dX6_isLetter_12 : decode cX6_isLetter 12 = .ok (.ireturn, 1) := dk_172 (dk_at dksX6_isLetter_0 12 rfl rfl)
abbrev cX6_takeWord : ByteArray := prog_7_method_6_code
def yX6_takeWord : MethodName := ⟨RX6, "takeWord", "()V"⟩
def dkwX6_takeWord_2 : List UInt8 := [42, 43, 182, 0, 66, 181, 0, 11, 42, 4, 181, 0, 43, 177]
abbrev dktX6_takeWord_2 : List UInt8 := dkwX6_takeWord_2 ++ []
def dkwX6_takeWord_1 : List UInt8 := [180, 0, 37, 182, 0, 29, 146, 182, 0, 62, 87, 42, 89, 180, 0, 37, 4, 96, 181, 0, 37, 167, 255, 221]
abbrev dktX6_takeWord_1 : List UInt8 := dkwX6_takeWord_1 ++ dktX6_takeWord_2
def dkwX6_takeWord_0 : List UInt8 := [187, 0, 59, 89, 183, 0, 61, 76, 42, 42, 180, 0, 37, 182, 0, 46, 153, 0, 30, 43, 42, 42]
abbrev dktX6_takeWord_0 : List UInt8 := dkwX6_takeWord_0 ++ dktX6_takeWord_1
theorem dksX6_takeWord_0 : cX6_takeWord.data.toList.drop 0 = dktX6_takeWord_0 := by decide +kernel
theorem dksX6_takeWord_1 : cX6_takeWord.data.toList.drop 22 = dktX6_takeWord_1 := dk_seg dksX6_takeWord_0 22 rfl rfl
theorem dksX6_takeWord_2 : cX6_takeWord.data.toList.drop 46 = dktX6_takeWord_2 := dk_seg dksX6_takeWord_1 24 rfl rfl
theorem dX6_takeWord_0 : decode cX6_takeWord 0 = .ok (.new 59, 3) := dk_187 0 59 (dk_at dksX6_takeWord_0 0 rfl rfl)
theorem dX6_takeWord_3 : decode cX6_takeWord 3 = .ok (.dup, 1) := dk_89 (dk_at dksX6_takeWord_0 3 rfl rfl)
theorem dX6_takeWord_4 : decode cX6_takeWord 4 = .ok (.invokespecial 61, 3) := dk_183 0 61 (dk_at dksX6_takeWord_0 4 rfl rfl)
theorem dX6_takeWord_7 : decode cX6_takeWord 7 = .ok (.astore_n 1, 1) := dk_76 (dk_at dksX6_takeWord_0 7 rfl rfl)
theorem dX6_takeWord_8 : decode cX6_takeWord 8 = .ok (.aload_n 0, 1) := dk_42 (dk_at dksX6_takeWord_0 8 rfl rfl)
theorem dX6_takeWord_9 : decode cX6_takeWord 9 = .ok (.aload_n 0, 1) := dk_42 (dk_at dksX6_takeWord_0 9 rfl rfl)
theorem dX6_takeWord_10 : decode cX6_takeWord 10 = .ok (.getfield 37, 3) := dk_180 0 37 (dk_at dksX6_takeWord_0 10 rfl rfl)
theorem dX6_takeWord_13 : decode cX6_takeWord 13 = .ok (.invokevirtual 46, 3) := dk_182 0 46 (dk_at dksX6_takeWord_0 13 rfl rfl)
theorem dX6_takeWord_16 : decode cX6_takeWord 16 = .ok (.ifCond .eq 30, 3) := dk_153 0 30 (dk_at dksX6_takeWord_0 16 rfl rfl)
theorem dX6_takeWord_19 : decode cX6_takeWord 19 = .ok (.aload_n 1, 1) := dk_43 (dk_at dksX6_takeWord_0 19 rfl rfl)
theorem dX6_takeWord_20 : decode cX6_takeWord 20 = .ok (.aload_n 0, 1) := dk_42 (dk_at dksX6_takeWord_0 20 rfl rfl)
theorem dX6_takeWord_21 : decode cX6_takeWord 21 = .ok (.aload_n 0, 1) := dk_42 (dk_at dksX6_takeWord_0 21 rfl rfl)
theorem dX6_takeWord_22 : decode cX6_takeWord 22 = .ok (.getfield 37, 3) := dk_180 0 37 (dk_at dksX6_takeWord_1 0 rfl rfl)
theorem dX6_takeWord_25 : decode cX6_takeWord 25 = .ok (.invokevirtual 29, 3) := dk_182 0 29 (dk_at dksX6_takeWord_1 3 rfl rfl)
theorem dX6_takeWord_28 : decode cX6_takeWord 28 = .ok (.i2c, 1) := dk_146 (dk_at dksX6_takeWord_1 6 rfl rfl)
theorem dX6_takeWord_29 : decode cX6_takeWord 29 = .ok (.invokevirtual 62, 3) := dk_182 0 62 (dk_at dksX6_takeWord_1 7 rfl rfl)
theorem dX6_takeWord_32 : decode cX6_takeWord 32 = .ok (.pop, 1) := dk_87 (dk_at dksX6_takeWord_1 10 rfl rfl)
theorem dX6_takeWord_33 : decode cX6_takeWord 33 = .ok (.aload_n 0, 1) := dk_42 (dk_at dksX6_takeWord_1 11 rfl rfl)
theorem dX6_takeWord_34 : decode cX6_takeWord 34 = .ok (.dup, 1) := dk_89 (dk_at dksX6_takeWord_1 12 rfl rfl)
theorem dX6_takeWord_35 : decode cX6_takeWord 35 = .ok (.getfield 37, 3) := dk_180 0 37 (dk_at dksX6_takeWord_1 13 rfl rfl)
theorem dX6_takeWord_38 : decode cX6_takeWord 38 = .ok (.iconst 1, 1) := dk_4 (dk_at dksX6_takeWord_1 16 rfl rfl)
theorem dX6_takeWord_39 : decode cX6_takeWord 39 = .ok (.iadd, 1) := dk_96 (dk_at dksX6_takeWord_1 17 rfl rfl)
theorem dX6_takeWord_40 : decode cX6_takeWord 40 = .ok (.putfield 37, 3) := dk_181 0 37 (dk_at dksX6_takeWord_1 18 rfl rfl)
theorem dX6_takeWord_43 : decode cX6_takeWord 43 = .ok (.goto (-35), 3) := dk_167 255 221 (dk_at dksX6_takeWord_1 21 rfl rfl)
theorem dX6_takeWord_46 : decode cX6_takeWord 46 = .ok (.aload_n 0, 1) := dk_42 (dk_at dksX6_takeWord_2 0 rfl rfl)
theorem dX6_takeWord_47 : decode cX6_takeWord 47 = .ok (.aload_n 1, 1) := dk_43 (dk_at dksX6_takeWord_2 1 rfl rfl)
theorem dX6_takeWord_48 : decode cX6_takeWord 48 = .ok (.invokevirtual 66, 3) := dk_182 0 66 (dk_at dksX6_takeWord_2 2 rfl rfl)
theorem dX6_takeWord_51 : decode cX6_takeWord 51 = .ok (.putfield 11, 3) := dk_181 0 11 (dk_at dksX6_takeWord_2 5 rfl rfl)
theorem dX6_takeWord_54 : decode cX6_takeWord 54 = .ok (.aload_n 0, 1) := dk_42 (dk_at dksX6_takeWord_2 8 rfl rfl)
theorem dX6_takeWord_55 : decode cX6_takeWord 55 = .ok (.iconst 1, 1) := dk_4 (dk_at dksX6_takeWord_2 9 rfl rfl)
theorem dX6_takeWord_56 : decode cX6_takeWord 56 = .ok (.putfield 43, 3) := dk_181 0 43 (dk_at dksX6_takeWord_2 10 rfl rfl)
theorem dX6_takeWord_59 : decode cX6_takeWord 59 = .ok (.return_, 1) := dk_177 (dk_at dksX6_takeWord_2 13 rfl rfl)
abbrev cX6_isDigit : ByteArray := prog_7_method_4_code
def yX6_isDigit : MethodName := ⟨RX6, "isDigit", "(I)Z"⟩
def dkwX6_isDigit_0 : List UInt8 := [42, 27, 182, 0, 29, 16, 48, 16, 57, 184, 0, 33, 172]
abbrev dktX6_isDigit_0 : List UInt8 := dkwX6_isDigit_0 ++ []
theorem dksX6_isDigit_0 : cX6_isDigit.data.toList.drop 0 = dktX6_isDigit_0 := by decide +kernel
theorem dX6_isDigit_0 : decode cX6_isDigit 0 = .ok (.aload_n 0, 1) := dk_42 (dk_at dksX6_isDigit_0 0 rfl rfl)
theorem dX6_isDigit_1 : decode cX6_isDigit 1 = .ok (.iload_n 1, 1) := dk_27 (dk_at dksX6_isDigit_0 1 rfl rfl)
theorem dX6_isDigit_2 : decode cX6_isDigit 2 = .ok (.invokevirtual 29, 3) := dk_182 0 29 (dk_at dksX6_isDigit_0 2 rfl rfl)
theorem dX6_isDigit_5 : decode cX6_isDigit 5 = .ok (.bipush 48, 2) := dk_16 48 (dk_at dksX6_isDigit_0 5 rfl rfl)
theorem dX6_isDigit_7 : decode cX6_isDigit 7 = .ok (.bipush 57, 2) := dk_16 57 (dk_at dksX6_isDigit_0 7 rfl rfl)
theorem dX6_isDigit_9 : decode cX6_isDigit 9 = .ok (.invokestatic 33, 3) := dk_184 0 33 (dk_at dksX6_isDigit_0 9 rfl rfl)
theorem dX6_isDigit_12 : decode cX6_isDigit 12 = .ok (.ireturn, 1) := dk_172 (dk_at dksX6_isDigit_0 12 rfl rfl)
abbrev cX6_takeNumber : ByteArray := prog_7_method_7_code
def yX6_takeNumber : MethodName := ⟨RX6, "takeNumber", "()V"⟩
def dkwX6_takeNumber_2 : List UInt8 := [180, 0, 37, 4, 96, 181, 0, 37, 167, 255, 207, 42, 5, 181, 0, 43, 177]
abbrev dktX6_takeNumber_2 : List UInt8 := dkwX6_takeNumber_2 ++ []
def dkwX6_takeNumber_1 : List UInt8 := [180, 0, 70, 104, 42, 42, 180, 0, 37, 182, 0, 29, 96, 16, 48, 100, 184, 0, 74, 181, 0, 70, 42, 89]
abbrev dktX6_takeNumber_1 : List UInt8 := dkwX6_takeNumber_1 ++ dktX6_takeNumber_2
def dkwX6_takeNumber_0 : List UInt8 := [42, 3, 181, 0, 70, 42, 42, 180, 0, 37, 182, 0, 53, 153, 0, 44, 42, 18, 73, 16, 10, 42]
abbrev dktX6_takeNumber_0 : List UInt8 := dkwX6_takeNumber_0 ++ dktX6_takeNumber_1
theorem dksX6_takeNumber_0 : cX6_takeNumber.data.toList.drop 0 = dktX6_takeNumber_0 := by decide +kernel
theorem dksX6_takeNumber_1 : cX6_takeNumber.data.toList.drop 22 = dktX6_takeNumber_1 := dk_seg dksX6_takeNumber_0 22 rfl rfl
theorem dksX6_takeNumber_2 : cX6_takeNumber.data.toList.drop 46 = dktX6_takeNumber_2 := dk_seg dksX6_takeNumber_1 24 rfl rfl
theorem dX6_takeNumber_0 : decode cX6_takeNumber 0 = .ok (.aload_n 0, 1) := dk_42 (dk_at dksX6_takeNumber_0 0 rfl rfl)
theorem dX6_takeNumber_1 : decode cX6_takeNumber 1 = .ok (.iconst 0, 1) := dk_3 (dk_at dksX6_takeNumber_0 1 rfl rfl)
theorem dX6_takeNumber_2 : decode cX6_takeNumber 2 = .ok (.putfield 70, 3) := dk_181 0 70 (dk_at dksX6_takeNumber_0 2 rfl rfl)
theorem dX6_takeNumber_5 : decode cX6_takeNumber 5 = .ok (.aload_n 0, 1) := dk_42 (dk_at dksX6_takeNumber_0 5 rfl rfl)
theorem dX6_takeNumber_6 : decode cX6_takeNumber 6 = .ok (.aload_n 0, 1) := dk_42 (dk_at dksX6_takeNumber_0 6 rfl rfl)
theorem dX6_takeNumber_7 : decode cX6_takeNumber 7 = .ok (.getfield 37, 3) := dk_180 0 37 (dk_at dksX6_takeNumber_0 7 rfl rfl)
theorem dX6_takeNumber_10 : decode cX6_takeNumber 10 = .ok (.invokevirtual 53, 3) := dk_182 0 53 (dk_at dksX6_takeNumber_0 10 rfl rfl)
theorem dX6_takeNumber_13 : decode cX6_takeNumber 13 = .ok (.ifCond .eq 44, 3) := dk_153 0 44 (dk_at dksX6_takeNumber_0 13 rfl rfl)
theorem dX6_takeNumber_16 : decode cX6_takeNumber 16 = .ok (.aload_n 0, 1) := dk_42 (dk_at dksX6_takeNumber_0 16 rfl rfl)
theorem dX6_takeNumber_17 : decode cX6_takeNumber 17 = .ok (.ldc 73, 2) := dk_18 73 (dk_at dksX6_takeNumber_0 17 rfl rfl)
theorem dX6_takeNumber_19 : decode cX6_takeNumber 19 = .ok (.bipush 10, 2) := dk_16 10 (dk_at dksX6_takeNumber_0 19 rfl rfl)
theorem dX6_takeNumber_21 : decode cX6_takeNumber 21 = .ok (.aload_n 0, 1) := dk_42 (dk_at dksX6_takeNumber_0 21 rfl rfl)
theorem dX6_takeNumber_22 : decode cX6_takeNumber 22 = .ok (.getfield 70, 3) := dk_180 0 70 (dk_at dksX6_takeNumber_1 0 rfl rfl)
theorem dX6_takeNumber_25 : decode cX6_takeNumber 25 = .ok (.imul, 1) := dk_104 (dk_at dksX6_takeNumber_1 3 rfl rfl)
theorem dX6_takeNumber_26 : decode cX6_takeNumber 26 = .ok (.aload_n 0, 1) := dk_42 (dk_at dksX6_takeNumber_1 4 rfl rfl)
theorem dX6_takeNumber_27 : decode cX6_takeNumber 27 = .ok (.aload_n 0, 1) := dk_42 (dk_at dksX6_takeNumber_1 5 rfl rfl)
theorem dX6_takeNumber_28 : decode cX6_takeNumber 28 = .ok (.getfield 37, 3) := dk_180 0 37 (dk_at dksX6_takeNumber_1 6 rfl rfl)
theorem dX6_takeNumber_31 : decode cX6_takeNumber 31 = .ok (.invokevirtual 29, 3) := dk_182 0 29 (dk_at dksX6_takeNumber_1 9 rfl rfl)
theorem dX6_takeNumber_34 : decode cX6_takeNumber 34 = .ok (.iadd, 1) := dk_96 (dk_at dksX6_takeNumber_1 12 rfl rfl)
theorem dX6_takeNumber_35 : decode cX6_takeNumber 35 = .ok (.bipush 48, 2) := dk_16 48 (dk_at dksX6_takeNumber_1 13 rfl rfl)
theorem dX6_takeNumber_37 : decode cX6_takeNumber 37 = .ok (.isub, 1) := dk_100 (dk_at dksX6_takeNumber_1 15 rfl rfl)
theorem dX6_takeNumber_38 : decode cX6_takeNumber 38 = .ok (.invokestatic 74, 3) := dk_184 0 74 (dk_at dksX6_takeNumber_1 16 rfl rfl)
theorem dX6_takeNumber_41 : decode cX6_takeNumber 41 = .ok (.putfield 70, 3) := dk_181 0 70 (dk_at dksX6_takeNumber_1 19 rfl rfl)
theorem dX6_takeNumber_44 : decode cX6_takeNumber 44 = .ok (.aload_n 0, 1) := dk_42 (dk_at dksX6_takeNumber_1 22 rfl rfl)
theorem dX6_takeNumber_45 : decode cX6_takeNumber 45 = .ok (.dup, 1) := dk_89 (dk_at dksX6_takeNumber_1 23 rfl rfl)
theorem dX6_takeNumber_46 : decode cX6_takeNumber 46 = .ok (.getfield 37, 3) := dk_180 0 37 (dk_at dksX6_takeNumber_2 0 rfl rfl)
theorem dX6_takeNumber_49 : decode cX6_takeNumber 49 = .ok (.iconst 1, 1) := dk_4 (dk_at dksX6_takeNumber_2 3 rfl rfl)
theorem dX6_takeNumber_50 : decode cX6_takeNumber 50 = .ok (.iadd, 1) := dk_96 (dk_at dksX6_takeNumber_2 4 rfl rfl)
theorem dX6_takeNumber_51 : decode cX6_takeNumber 51 = .ok (.putfield 37, 3) := dk_181 0 37 (dk_at dksX6_takeNumber_2 5 rfl rfl)
theorem dX6_takeNumber_54 : decode cX6_takeNumber 54 = .ok (.goto (-49), 3) := dk_167 255 207 (dk_at dksX6_takeNumber_2 8 rfl rfl)
theorem dX6_takeNumber_57 : decode cX6_takeNumber 57 = .ok (.aload_n 0, 1) := dk_42 (dk_at dksX6_takeNumber_2 11 rfl rfl)
theorem dX6_takeNumber_58 : decode cX6_takeNumber 58 = .ok (.iconst 2, 1) := dk_5 (dk_at dksX6_takeNumber_2 12 rfl rfl)
theorem dX6_takeNumber_59 : decode cX6_takeNumber 59 = .ok (.putfield 43, 3) := dk_181 0 43 (dk_at dksX6_takeNumber_2 13 rfl rfl)
theorem dX6_takeNumber_62 : decode cX6_takeNumber 62 = .ok (.return_, 1) := dk_177 (dk_at dksX6_takeNumber_2 16 rfl rfl)
abbrev cX6_is : ByteArray := prog_7_method_13_code
def yX6_is : MethodName := ⟨RX6, "is", "(Ljava/lang/String;)Z"⟩
def dkwX6_is_1 : List UInt8 := [172]
abbrev dktX6_is_1 : List UInt8 := dkwX6_is_1 ++ []
def dkwX6_is_0 : List UInt8 := [42, 180, 0, 43, 4, 160, 0, 18, 42, 180, 0, 11, 43, 182, 0, 104, 153, 0, 7, 4, 167, 0, 4, 3]
abbrev dktX6_is_0 : List UInt8 := dkwX6_is_0 ++ dktX6_is_1
theorem dksX6_is_0 : cX6_is.data.toList.drop 0 = dktX6_is_0 := by decide +kernel
theorem dksX6_is_1 : cX6_is.data.toList.drop 24 = dktX6_is_1 := dk_seg dksX6_is_0 24 rfl rfl
theorem dX6_is_0 : decode cX6_is 0 = .ok (.aload_n 0, 1) := dk_42 (dk_at dksX6_is_0 0 rfl rfl)
theorem dX6_is_1 : decode cX6_is 1 = .ok (.getfield 43, 3) := dk_180 0 43 (dk_at dksX6_is_0 1 rfl rfl)
theorem dX6_is_4 : decode cX6_is 4 = .ok (.iconst 1, 1) := dk_4 (dk_at dksX6_is_0 4 rfl rfl)
theorem dX6_is_5 : decode cX6_is 5 = .ok (.if_icmp .ne 18, 3) := dk_160 0 18 (dk_at dksX6_is_0 5 rfl rfl)
theorem dX6_is_8 : decode cX6_is 8 = .ok (.aload_n 0, 1) := dk_42 (dk_at dksX6_is_0 8 rfl rfl)
theorem dX6_is_9 : decode cX6_is 9 = .ok (.getfield 11, 3) := dk_180 0 11 (dk_at dksX6_is_0 9 rfl rfl)
theorem dX6_is_12 : decode cX6_is 12 = .ok (.aload_n 1, 1) := dk_43 (dk_at dksX6_is_0 12 rfl rfl)
theorem dX6_is_13 : decode cX6_is 13 = .ok (.invokevirtual 104, 3) := dk_182 0 104 (dk_at dksX6_is_0 13 rfl rfl)
theorem dX6_is_16 : decode cX6_is 16 = .ok (.ifCond .eq 7, 3) := dk_153 0 7 (dk_at dksX6_is_0 16 rfl rfl)
theorem dX6_is_19 : decode cX6_is 19 = .ok (.iconst 1, 1) := dk_4 (dk_at dksX6_is_0 19 rfl rfl)
theorem dX6_is_20 : decode cX6_is 20 = .ok (.goto 4, 3) := dk_167 0 4 (dk_at dksX6_is_0 20 rfl rfl)
theorem dX6_is_23 : decode cX6_is 23 = .ok (.iconst 0, 1) := dk_3 (dk_at dksX6_is_0 23 rfl rfl)
theorem dX6_is_24 : decode cX6_is 24 = .ok (.ireturn, 1) := dk_172 (dk_at dksX6_is_1 0 rfl rfl)
abbrev cX6_need : ByteArray := prog_7_method_8_code
def yX6_need : MethodName := ⟨RX6, "need", "(ZI)V"⟩
def dkwX6_need_0 : List UInt8 := [27, 154, 0, 16, 187, 0, 80, 89, 28, 42, 180, 0, 40, 183, 0, 82, 191, 177]
abbrev dktX6_need_0 : List UInt8 := dkwX6_need_0 ++ []
theorem dksX6_need_0 : cX6_need.data.toList.drop 0 = dktX6_need_0 := by decide +kernel
theorem dX6_need_0 : decode cX6_need 0 = .ok (.iload_n 1, 1) := dk_27 (dk_at dksX6_need_0 0 rfl rfl)
theorem dX6_need_1 : decode cX6_need 1 = .ok (.ifCond .ne 16, 3) := dk_154 0 16 (dk_at dksX6_need_0 1 rfl rfl)
theorem dX6_need_4 : decode cX6_need 4 = .ok (.new 80, 3) := dk_187 0 80 (dk_at dksX6_need_0 4 rfl rfl)
theorem dX6_need_7 : decode cX6_need 7 = .ok (.dup, 1) := dk_89 (dk_at dksX6_need_0 7 rfl rfl)
theorem dX6_need_8 : decode cX6_need 8 = .ok (.iload_n 2, 1) := dk_28 (dk_at dksX6_need_0 8 rfl rfl)
theorem dX6_need_9 : decode cX6_need 9 = .ok (.aload_n 0, 1) := dk_42 (dk_at dksX6_need_0 9 rfl rfl)
theorem dX6_need_10 : decode cX6_need 10 = .ok (.getfield 40, 3) := dk_180 0 40 (dk_at dksX6_need_0 10 rfl rfl)
theorem dX6_need_13 : decode cX6_need 13 = .ok (.invokespecial 82, 3) := dk_183 0 82 (dk_at dksX6_need_0 13 rfl rfl)
theorem dX6_need_16 : decode cX6_need 16 = .ok (.athrow, 1) := dk_191 (dk_at dksX6_need_0 16 rfl rfl)
theorem dX6_need_17 : decode cX6_need 17 = .ok (.return_, 1) := dk_177 (dk_at dksX6_need_0 17 rfl rfl)
abbrev cX6_number : ByteArray := prog_7_method_10_code
def yX6_number : MethodName := ⟨RX6, "number", "(II)I"⟩
def dkwX6_number_0 : List UInt8 := [42, 27, 28, 182, 0, 89, 62, 42, 182, 0, 92, 29, 172]
abbrev dktX6_number_0 : List UInt8 := dkwX6_number_0 ++ []
theorem dksX6_number_0 : cX6_number.data.toList.drop 0 = dktX6_number_0 := by decide +kernel
theorem dX6_number_0 : decode cX6_number 0 = .ok (.aload_n 0, 1) := dk_42 (dk_at dksX6_number_0 0 rfl rfl)
theorem dX6_number_1 : decode cX6_number 1 = .ok (.iload_n 1, 1) := dk_27 (dk_at dksX6_number_0 1 rfl rfl)
theorem dX6_number_2 : decode cX6_number 2 = .ok (.iload_n 2, 1) := dk_28 (dk_at dksX6_number_0 2 rfl rfl)
theorem dX6_number_3 : decode cX6_number 3 = .ok (.invokevirtual 89, 3) := dk_182 0 89 (dk_at dksX6_number_0 3 rfl rfl)
theorem dX6_number_6 : decode cX6_number 6 = .ok (.istore_n 3, 1) := dk_62 (dk_at dksX6_number_0 6 rfl rfl)
theorem dX6_number_7 : decode cX6_number 7 = .ok (.aload_n 0, 1) := dk_42 (dk_at dksX6_number_0 7 rfl rfl)
theorem dX6_number_8 : decode cX6_number 8 = .ok (.invokevirtual 92, 3) := dk_182 0 92 (dk_at dksX6_number_0 8 rfl rfl)
theorem dX6_number_11 : decode cX6_number 11 = .ok (.iload_n 3, 1) := dk_29 (dk_at dksX6_number_0 11 rfl rfl)
theorem dX6_number_12 : decode cX6_number 12 = .ok (.ireturn, 1) := dk_172 (dk_at dksX6_number_0 12 rfl rfl)
abbrev cX6_here : ByteArray := prog_7_method_9_code
def yX6_here : MethodName := ⟨RX6, "here", "(II)I"⟩
def dkwX6_here_1 : List UInt8 := [28, 184, 0, 33, 5, 182, 0, 85, 42, 180, 0, 70, 172]
abbrev dktX6_here_1 : List UInt8 := dkwX6_here_1 ++ []
def dkwX6_here_0 : List UInt8 := [42, 42, 180, 0, 43, 5, 160, 0, 7, 4, 167, 0, 4, 3, 4, 182, 0, 85, 42, 42, 180, 0, 70, 27]
abbrev dktX6_here_0 : List UInt8 := dkwX6_here_0 ++ dktX6_here_1
theorem dksX6_here_0 : cX6_here.data.toList.drop 0 = dktX6_here_0 := by decide +kernel
theorem dksX6_here_1 : cX6_here.data.toList.drop 24 = dktX6_here_1 := dk_seg dksX6_here_0 24 rfl rfl
theorem dX6_here_0 : decode cX6_here 0 = .ok (.aload_n 0, 1) := dk_42 (dk_at dksX6_here_0 0 rfl rfl)
theorem dX6_here_1 : decode cX6_here 1 = .ok (.aload_n 0, 1) := dk_42 (dk_at dksX6_here_0 1 rfl rfl)
theorem dX6_here_2 : decode cX6_here 2 = .ok (.getfield 43, 3) := dk_180 0 43 (dk_at dksX6_here_0 2 rfl rfl)
theorem dX6_here_5 : decode cX6_here 5 = .ok (.iconst 2, 1) := dk_5 (dk_at dksX6_here_0 5 rfl rfl)
theorem dX6_here_6 : decode cX6_here 6 = .ok (.if_icmp .ne 7, 3) := dk_160 0 7 (dk_at dksX6_here_0 6 rfl rfl)
theorem dX6_here_9 : decode cX6_here 9 = .ok (.iconst 1, 1) := dk_4 (dk_at dksX6_here_0 9 rfl rfl)
theorem dX6_here_10 : decode cX6_here 10 = .ok (.goto 4, 3) := dk_167 0 4 (dk_at dksX6_here_0 10 rfl rfl)
theorem dX6_here_13 : decode cX6_here 13 = .ok (.iconst 0, 1) := dk_3 (dk_at dksX6_here_0 13 rfl rfl)
theorem dX6_here_14 : decode cX6_here 14 = .ok (.iconst 1, 1) := dk_4 (dk_at dksX6_here_0 14 rfl rfl)
theorem dX6_here_15 : decode cX6_here 15 = .ok (.invokevirtual 85, 3) := dk_182 0 85 (dk_at dksX6_here_0 15 rfl rfl)
theorem dX6_here_18 : decode cX6_here 18 = .ok (.aload_n 0, 1) := dk_42 (dk_at dksX6_here_0 18 rfl rfl)
theorem dX6_here_19 : decode cX6_here 19 = .ok (.aload_n 0, 1) := dk_42 (dk_at dksX6_here_0 19 rfl rfl)
theorem dX6_here_20 : decode cX6_here 20 = .ok (.getfield 70, 3) := dk_180 0 70 (dk_at dksX6_here_0 20 rfl rfl)
theorem dX6_here_23 : decode cX6_here 23 = .ok (.iload_n 1, 1) := dk_27 (dk_at dksX6_here_0 23 rfl rfl)
theorem dX6_here_24 : decode cX6_here 24 = .ok (.iload_n 2, 1) := dk_28 (dk_at dksX6_here_1 0 rfl rfl)
theorem dX6_here_25 : decode cX6_here 25 = .ok (.invokestatic 33, 3) := dk_184 0 33 (dk_at dksX6_here_1 1 rfl rfl)
theorem dX6_here_28 : decode cX6_here 28 = .ok (.iconst 2, 1) := dk_5 (dk_at dksX6_here_1 4 rfl rfl)
theorem dX6_here_29 : decode cX6_here 29 = .ok (.invokevirtual 85, 3) := dk_182 0 85 (dk_at dksX6_here_1 5 rfl rfl)
theorem dX6_here_32 : decode cX6_here 32 = .ok (.aload_n 0, 1) := dk_42 (dk_at dksX6_here_1 8 rfl rfl)
theorem dX6_here_33 : decode cX6_here 33 = .ok (.getfield 70, 3) := dk_180 0 70 (dk_at dksX6_here_1 9 rfl rfl)
theorem dX6_here_36 : decode cX6_here 36 = .ok (.ireturn, 1) := dk_172 (dk_at dksX6_here_1 12 rfl rfl)
abbrev cX6_end : ByteArray := prog_7_method_15_code
def yX6_end : MethodName := ⟨RX6, "end", "()V"⟩
def dkwX6_end_0 : List UInt8 := [42, 42, 180, 0, 43, 6, 160, 0, 7, 4, 167, 0, 4, 3, 4, 182, 0, 85, 42, 182, 0, 92, 177]
abbrev dktX6_end_0 : List UInt8 := dkwX6_end_0 ++ []
theorem dksX6_end_0 : cX6_end.data.toList.drop 0 = dktX6_end_0 := by decide +kernel
theorem dX6_end_0 : decode cX6_end 0 = .ok (.aload_n 0, 1) := dk_42 (dk_at dksX6_end_0 0 rfl rfl)
theorem dX6_end_1 : decode cX6_end 1 = .ok (.aload_n 0, 1) := dk_42 (dk_at dksX6_end_0 1 rfl rfl)
theorem dX6_end_2 : decode cX6_end 2 = .ok (.getfield 43, 3) := dk_180 0 43 (dk_at dksX6_end_0 2 rfl rfl)
theorem dX6_end_5 : decode cX6_end 5 = .ok (.iconst 3, 1) := dk_6 (dk_at dksX6_end_0 5 rfl rfl)
theorem dX6_end_6 : decode cX6_end 6 = .ok (.if_icmp .ne 7, 3) := dk_160 0 7 (dk_at dksX6_end_0 6 rfl rfl)
theorem dX6_end_9 : decode cX6_end 9 = .ok (.iconst 1, 1) := dk_4 (dk_at dksX6_end_0 9 rfl rfl)
theorem dX6_end_10 : decode cX6_end 10 = .ok (.goto 4, 3) := dk_167 0 4 (dk_at dksX6_end_0 10 rfl rfl)
theorem dX6_end_13 : decode cX6_end 13 = .ok (.iconst 0, 1) := dk_3 (dk_at dksX6_end_0 13 rfl rfl)
theorem dX6_end_14 : decode cX6_end 14 = .ok (.iconst 1, 1) := dk_4 (dk_at dksX6_end_0 14 rfl rfl)
theorem dX6_end_15 : decode cX6_end 15 = .ok (.invokevirtual 85, 3) := dk_182 0 85 (dk_at dksX6_end_0 15 rfl rfl)
theorem dX6_end_18 : decode cX6_end 18 = .ok (.aload_n 0, 1) := dk_42 (dk_at dksX6_end_0 18 rfl rfl)
theorem dX6_end_19 : decode cX6_end 19 = .ok (.invokevirtual 92, 3) := dk_182 0 92 (dk_at dksX6_end_0 19 rfl rfl)
theorem dX6_end_22 : decode cX6_end 22 = .ok (.return_, 1) := dk_177 (dk_at dksX6_end_0 22 rfl rfl)
abbrev cX6_readGroup : ByteArray := prog_7_method_17_code
def yX6_readGroup : MethodName := ⟨RX6, "readGroup", "()V"⟩
def dkwX6_readGroup_4 : List UInt8 := [182, 0, 159, 167, 255, 243, 42, 182, 0, 122, 42, 180, 0, 25, 43, 182, 0, 163, 177]
abbrev dktX6_readGroup_4 : List UInt8 := dkwX6_readGroup_4 ++ []
def dkwX6_readGroup_3 : List UInt8 := [183, 0, 156, 76, 42, 182, 0, 92, 42, 43, 182, 0, 159, 42, 180, 0, 43, 5, 160, 0, 11, 42, 43]
abbrev dktX6_readGroup_3 : List UInt8 := dkwX6_readGroup_3 ++ dktX6_readGroup_4
def dkwX6_readGroup_2 : List UInt8 := [182, 0, 149, 154, 0, 7, 4, 167, 0, 4, 3, 7, 182, 0, 85, 187, 0, 154, 89, 42, 180, 0, 11]
abbrev dktX6_readGroup_2 : List UInt8 := dkwX6_readGroup_2 ++ dktX6_readGroup_3
def dkwX6_readGroup_1 : List UInt8 := [182, 0, 85, 42, 182, 0, 92, 42, 182, 0, 142, 42, 42, 180, 0, 25, 180, 0, 145, 42, 180, 0, 11]
abbrev dktX6_readGroup_1 : List UInt8 := dkwX6_readGroup_1 ++ dktX6_readGroup_2
def dkwX6_readGroup_0 : List UInt8 := [42, 42, 180, 0, 25, 180, 0, 133, 185, 0, 137, 1, 0, 7, 162, 0, 7, 4, 167, 0, 4, 3, 8]
abbrev dktX6_readGroup_0 : List UInt8 := dkwX6_readGroup_0 ++ dktX6_readGroup_1
theorem dksX6_readGroup_0 : cX6_readGroup.data.toList.drop 0 = dktX6_readGroup_0 := by decide +kernel
theorem dksX6_readGroup_1 : cX6_readGroup.data.toList.drop 23 = dktX6_readGroup_1 := dk_seg dksX6_readGroup_0 23 rfl rfl
theorem dksX6_readGroup_2 : cX6_readGroup.data.toList.drop 46 = dktX6_readGroup_2 := dk_seg dksX6_readGroup_1 23 rfl rfl
theorem dksX6_readGroup_3 : cX6_readGroup.data.toList.drop 69 = dktX6_readGroup_3 := dk_seg dksX6_readGroup_2 23 rfl rfl
theorem dksX6_readGroup_4 : cX6_readGroup.data.toList.drop 92 = dktX6_readGroup_4 := dk_seg dksX6_readGroup_3 23 rfl rfl
theorem dX6_readGroup_0 : decode cX6_readGroup 0 = .ok (.aload_n 0, 1) := dk_42 (dk_at dksX6_readGroup_0 0 rfl rfl)
theorem dX6_readGroup_1 : decode cX6_readGroup 1 = .ok (.aload_n 0, 1) := dk_42 (dk_at dksX6_readGroup_0 1 rfl rfl)
theorem dX6_readGroup_2 : decode cX6_readGroup 2 = .ok (.getfield 25, 3) := dk_180 0 25 (dk_at dksX6_readGroup_0 2 rfl rfl)
theorem dX6_readGroup_5 : decode cX6_readGroup 5 = .ok (.getfield 133, 3) := dk_180 0 133 (dk_at dksX6_readGroup_0 5 rfl rfl)
theorem dX6_readGroup_8 : decode cX6_readGroup 8 = .ok (.invokeinterface 137 1, 5) := by decide +kernel
theorem dX6_readGroup_13 : decode cX6_readGroup 13 = .ok (.iconst 4, 1) := dk_7 (dk_at dksX6_readGroup_0 13 rfl rfl)
theorem dX6_readGroup_14 : decode cX6_readGroup 14 = .ok (.if_icmp .ge 7, 3) := dk_162 0 7 (dk_at dksX6_readGroup_0 14 rfl rfl)
theorem dX6_readGroup_17 : decode cX6_readGroup 17 = .ok (.iconst 1, 1) := dk_4 (dk_at dksX6_readGroup_0 17 rfl rfl)
theorem dX6_readGroup_18 : decode cX6_readGroup 18 = .ok (.goto 4, 3) := dk_167 0 4 (dk_at dksX6_readGroup_0 18 rfl rfl)
theorem dX6_readGroup_21 : decode cX6_readGroup 21 = .ok (.iconst 0, 1) := dk_3 (dk_at dksX6_readGroup_0 21 rfl rfl)
theorem dX6_readGroup_22 : decode cX6_readGroup 22 = .ok (.iconst 5, 1) := dk_8 (dk_at dksX6_readGroup_0 22 rfl rfl)
theorem dX6_readGroup_23 : decode cX6_readGroup 23 = .ok (.invokevirtual 85, 3) := dk_182 0 85 (dk_at dksX6_readGroup_1 0 rfl rfl)
theorem dX6_readGroup_26 : decode cX6_readGroup 26 = .ok (.aload_n 0, 1) := dk_42 (dk_at dksX6_readGroup_1 3 rfl rfl)
theorem dX6_readGroup_27 : decode cX6_readGroup 27 = .ok (.invokevirtual 92, 3) := dk_182 0 92 (dk_at dksX6_readGroup_1 4 rfl rfl)
theorem dX6_readGroup_30 : decode cX6_readGroup 30 = .ok (.aload_n 0, 1) := dk_42 (dk_at dksX6_readGroup_1 7 rfl rfl)
theorem dX6_readGroup_31 : decode cX6_readGroup 31 = .ok (.invokevirtual 142, 3) := dk_182 0 142 (dk_at dksX6_readGroup_1 8 rfl rfl)
theorem dX6_readGroup_34 : decode cX6_readGroup 34 = .ok (.aload_n 0, 1) := dk_42 (dk_at dksX6_readGroup_1 11 rfl rfl)
theorem dX6_readGroup_35 : decode cX6_readGroup 35 = .ok (.aload_n 0, 1) := dk_42 (dk_at dksX6_readGroup_1 12 rfl rfl)
theorem dX6_readGroup_36 : decode cX6_readGroup 36 = .ok (.getfield 25, 3) := dk_180 0 25 (dk_at dksX6_readGroup_1 13 rfl rfl)
theorem dX6_readGroup_39 : decode cX6_readGroup 39 = .ok (.getfield 145, 3) := dk_180 0 145 (dk_at dksX6_readGroup_1 16 rfl rfl)
theorem dX6_readGroup_42 : decode cX6_readGroup 42 = .ok (.aload_n 0, 1) := dk_42 (dk_at dksX6_readGroup_1 19 rfl rfl)
theorem dX6_readGroup_43 : decode cX6_readGroup 43 = .ok (.getfield 11, 3) := dk_180 0 11 (dk_at dksX6_readGroup_1 20 rfl rfl)
theorem dX6_readGroup_46 : decode cX6_readGroup 46 = .ok (.invokevirtual 149, 3) := dk_182 0 149 (dk_at dksX6_readGroup_2 0 rfl rfl)
theorem dX6_readGroup_49 : decode cX6_readGroup 49 = .ok (.ifCond .ne 7, 3) := dk_154 0 7 (dk_at dksX6_readGroup_2 3 rfl rfl)
theorem dX6_readGroup_52 : decode cX6_readGroup 52 = .ok (.iconst 1, 1) := dk_4 (dk_at dksX6_readGroup_2 6 rfl rfl)
theorem dX6_readGroup_53 : decode cX6_readGroup 53 = .ok (.goto 4, 3) := dk_167 0 4 (dk_at dksX6_readGroup_2 7 rfl rfl)
theorem dX6_readGroup_56 : decode cX6_readGroup 56 = .ok (.iconst 0, 1) := dk_3 (dk_at dksX6_readGroup_2 10 rfl rfl)
theorem dX6_readGroup_57 : decode cX6_readGroup 57 = .ok (.iconst 4, 1) := dk_7 (dk_at dksX6_readGroup_2 11 rfl rfl)
theorem dX6_readGroup_58 : decode cX6_readGroup 58 = .ok (.invokevirtual 85, 3) := dk_182 0 85 (dk_at dksX6_readGroup_2 12 rfl rfl)
theorem dX6_readGroup_61 : decode cX6_readGroup 61 = .ok (.new 154, 3) := dk_187 0 154 (dk_at dksX6_readGroup_2 15 rfl rfl)
theorem dX6_readGroup_64 : decode cX6_readGroup 64 = .ok (.dup, 1) := dk_89 (dk_at dksX6_readGroup_2 18 rfl rfl)
theorem dX6_readGroup_65 : decode cX6_readGroup 65 = .ok (.aload_n 0, 1) := dk_42 (dk_at dksX6_readGroup_2 19 rfl rfl)
theorem dX6_readGroup_66 : decode cX6_readGroup 66 = .ok (.getfield 11, 3) := dk_180 0 11 (dk_at dksX6_readGroup_2 20 rfl rfl)
theorem dX6_readGroup_69 : decode cX6_readGroup 69 = .ok (.invokespecial 156, 3) := dk_183 0 156 (dk_at dksX6_readGroup_3 0 rfl rfl)
theorem dX6_readGroup_72 : decode cX6_readGroup 72 = .ok (.astore_n 1, 1) := dk_76 (dk_at dksX6_readGroup_3 3 rfl rfl)
theorem dX6_readGroup_73 : decode cX6_readGroup 73 = .ok (.aload_n 0, 1) := dk_42 (dk_at dksX6_readGroup_3 4 rfl rfl)
theorem dX6_readGroup_74 : decode cX6_readGroup 74 = .ok (.invokevirtual 92, 3) := dk_182 0 92 (dk_at dksX6_readGroup_3 5 rfl rfl)
theorem dX6_readGroup_77 : decode cX6_readGroup 77 = .ok (.aload_n 0, 1) := dk_42 (dk_at dksX6_readGroup_3 8 rfl rfl)
theorem dX6_readGroup_78 : decode cX6_readGroup 78 = .ok (.aload_n 1, 1) := dk_43 (dk_at dksX6_readGroup_3 9 rfl rfl)
theorem dX6_readGroup_79 : decode cX6_readGroup 79 = .ok (.invokevirtual 159, 3) := dk_182 0 159 (dk_at dksX6_readGroup_3 10 rfl rfl)
theorem dX6_readGroup_82 : decode cX6_readGroup 82 = .ok (.aload_n 0, 1) := dk_42 (dk_at dksX6_readGroup_3 13 rfl rfl)
theorem dX6_readGroup_83 : decode cX6_readGroup 83 = .ok (.getfield 43, 3) := dk_180 0 43 (dk_at dksX6_readGroup_3 14 rfl rfl)
theorem dX6_readGroup_86 : decode cX6_readGroup 86 = .ok (.iconst 2, 1) := dk_5 (dk_at dksX6_readGroup_3 17 rfl rfl)
theorem dX6_readGroup_87 : decode cX6_readGroup 87 = .ok (.if_icmp .ne 11, 3) := dk_160 0 11 (dk_at dksX6_readGroup_3 18 rfl rfl)
theorem dX6_readGroup_90 : decode cX6_readGroup 90 = .ok (.aload_n 0, 1) := dk_42 (dk_at dksX6_readGroup_3 21 rfl rfl)
theorem dX6_readGroup_91 : decode cX6_readGroup 91 = .ok (.aload_n 1, 1) := dk_43 (dk_at dksX6_readGroup_3 22 rfl rfl)
theorem dX6_readGroup_92 : decode cX6_readGroup 92 = .ok (.invokevirtual 159, 3) := dk_182 0 159 (dk_at dksX6_readGroup_4 0 rfl rfl)
theorem dX6_readGroup_95 : decode cX6_readGroup 95 = .ok (.goto (-13), 3) := dk_167 255 243 (dk_at dksX6_readGroup_4 3 rfl rfl)
theorem dX6_readGroup_98 : decode cX6_readGroup 98 = .ok (.aload_n 0, 1) := dk_42 (dk_at dksX6_readGroup_4 6 rfl rfl)
theorem dX6_readGroup_99 : decode cX6_readGroup 99 = .ok (.invokevirtual 122, 3) := dk_182 0 122 (dk_at dksX6_readGroup_4 7 rfl rfl)
theorem dX6_readGroup_102 : decode cX6_readGroup 102 = .ok (.aload_n 0, 1) := dk_42 (dk_at dksX6_readGroup_4 10 rfl rfl)
theorem dX6_readGroup_103 : decode cX6_readGroup 103 = .ok (.getfield 25, 3) := dk_180 0 25 (dk_at dksX6_readGroup_4 11 rfl rfl)
theorem dX6_readGroup_106 : decode cX6_readGroup 106 = .ok (.aload_n 1, 1) := dk_43 (dk_at dksX6_readGroup_4 14 rfl rfl)
theorem dX6_readGroup_107 : decode cX6_readGroup 107 = .ok (.invokevirtual 163, 3) := dk_182 0 163 (dk_at dksX6_readGroup_4 15 rfl rfl)
theorem dX6_readGroup_110 : decode cX6_readGroup 110 = .ok (.return_, 1) := dk_177 (dk_at dksX6_readGroup_4 18 rfl rfl)
abbrev cX6_needName : ByteArray := prog_7_method_14_code
def yX6_needName : MethodName := ⟨RX6, "needName", "()V"⟩
def dkwX6_needName_1 : List UInt8 := [167, 0, 4, 3, 4, 182, 0, 85, 177]
abbrev dktX6_needName_1 : List UInt8 := dkwX6_needName_1 ++ []
def dkwX6_needName_0 : List UInt8 := [42, 42, 180, 0, 43, 4, 160, 0, 19, 42, 180, 0, 11, 182, 0, 110, 16, 6, 163, 0, 7, 4]
abbrev dktX6_needName_0 : List UInt8 := dkwX6_needName_0 ++ dktX6_needName_1
theorem dksX6_needName_0 : cX6_needName.data.toList.drop 0 = dktX6_needName_0 := by decide +kernel
theorem dksX6_needName_1 : cX6_needName.data.toList.drop 22 = dktX6_needName_1 := dk_seg dksX6_needName_0 22 rfl rfl
theorem dX6_needName_0 : decode cX6_needName 0 = .ok (.aload_n 0, 1) := dk_42 (dk_at dksX6_needName_0 0 rfl rfl)
theorem dX6_needName_1 : decode cX6_needName 1 = .ok (.aload_n 0, 1) := dk_42 (dk_at dksX6_needName_0 1 rfl rfl)
theorem dX6_needName_2 : decode cX6_needName 2 = .ok (.getfield 43, 3) := dk_180 0 43 (dk_at dksX6_needName_0 2 rfl rfl)
theorem dX6_needName_5 : decode cX6_needName 5 = .ok (.iconst 1, 1) := dk_4 (dk_at dksX6_needName_0 5 rfl rfl)
theorem dX6_needName_6 : decode cX6_needName 6 = .ok (.if_icmp .ne 19, 3) := dk_160 0 19 (dk_at dksX6_needName_0 6 rfl rfl)
theorem dX6_needName_9 : decode cX6_needName 9 = .ok (.aload_n 0, 1) := dk_42 (dk_at dksX6_needName_0 9 rfl rfl)
theorem dX6_needName_10 : decode cX6_needName 10 = .ok (.getfield 11, 3) := dk_180 0 11 (dk_at dksX6_needName_0 10 rfl rfl)
theorem dX6_needName_13 : decode cX6_needName 13 = .ok (.invokevirtual 110, 3) := dk_182 0 110 (dk_at dksX6_needName_0 13 rfl rfl)
theorem dX6_needName_16 : decode cX6_needName 16 = .ok (.bipush 6, 2) := dk_16 6 (dk_at dksX6_needName_0 16 rfl rfl)
theorem dX6_needName_18 : decode cX6_needName 18 = .ok (.if_icmp .gt 7, 3) := dk_163 0 7 (dk_at dksX6_needName_0 18 rfl rfl)
theorem dX6_needName_21 : decode cX6_needName 21 = .ok (.iconst 1, 1) := dk_4 (dk_at dksX6_needName_0 21 rfl rfl)
theorem dX6_needName_22 : decode cX6_needName 22 = .ok (.goto 4, 3) := dk_167 0 4 (dk_at dksX6_needName_1 0 rfl rfl)
theorem dX6_needName_25 : decode cX6_needName 25 = .ok (.iconst 0, 1) := dk_3 (dk_at dksX6_needName_1 3 rfl rfl)
theorem dX6_needName_26 : decode cX6_needName 26 = .ok (.iconst 1, 1) := dk_4 (dk_at dksX6_needName_1 4 rfl rfl)
theorem dX6_needName_27 : decode cX6_needName 27 = .ok (.invokevirtual 85, 3) := dk_182 0 85 (dk_at dksX6_needName_1 5 rfl rfl)
theorem dX6_needName_30 : decode cX6_needName 30 = .ok (.return_, 1) := dk_177 (dk_at dksX6_needName_1 8 rfl rfl)
abbrev cX6_addMember : ByteArray := prog_7_method_18_code
def yX6_addMember : MethodName := ⟨RX6, "addMember", "(LCrossbarExchange$Group;)V"⟩
def dkwX6_addMember_2 : List UInt8 := [180, 0, 169, 28, 184, 0, 172, 185, 0, 178, 2, 0, 62, 42, 182, 0, 92, 177]
abbrev dktX6_addMember_2 : List UInt8 := dkwX6_addMember_2 ++ []
def dkwX6_addMember_1 : List UInt8 := [43, 180, 0, 169, 185, 0, 137, 1, 0, 16, 8, 162, 0, 7, 4, 167, 0, 4, 3, 8, 182, 0, 85, 43]
abbrev dktX6_addMember_1 : List UInt8 := dkwX6_addMember_1 ++ dktX6_addMember_2
def dkwX6_addMember_0 : List UInt8 := [42, 182, 0, 101, 61, 42, 43, 28, 182, 0, 166, 154, 0, 7, 4, 167, 0, 4, 3, 7, 182, 0, 85, 42]
abbrev dktX6_addMember_0 : List UInt8 := dkwX6_addMember_0 ++ dktX6_addMember_1
theorem dksX6_addMember_0 : cX6_addMember.data.toList.drop 0 = dktX6_addMember_0 := by decide +kernel
theorem dksX6_addMember_1 : cX6_addMember.data.toList.drop 24 = dktX6_addMember_1 := dk_seg dksX6_addMember_0 24 rfl rfl
theorem dksX6_addMember_2 : cX6_addMember.data.toList.drop 48 = dktX6_addMember_2 := dk_seg dksX6_addMember_1 24 rfl rfl
theorem dX6_addMember_0 : decode cX6_addMember 0 = .ok (.aload_n 0, 1) := dk_42 (dk_at dksX6_addMember_0 0 rfl rfl)
theorem dX6_addMember_1 : decode cX6_addMember 1 = .ok (.invokevirtual 101, 3) := dk_182 0 101 (dk_at dksX6_addMember_0 1 rfl rfl)
theorem dX6_addMember_4 : decode cX6_addMember 4 = .ok (.istore_n 2, 1) := dk_61 (dk_at dksX6_addMember_0 4 rfl rfl)
theorem dX6_addMember_5 : decode cX6_addMember 5 = .ok (.aload_n 0, 1) := dk_42 (dk_at dksX6_addMember_0 5 rfl rfl)
theorem dX6_addMember_6 : decode cX6_addMember 6 = .ok (.aload_n 1, 1) := dk_43 (dk_at dksX6_addMember_0 6 rfl rfl)
theorem dX6_addMember_7 : decode cX6_addMember 7 = .ok (.iload_n 2, 1) := dk_28 (dk_at dksX6_addMember_0 7 rfl rfl)
theorem dX6_addMember_8 : decode cX6_addMember 8 = .ok (.invokevirtual 166, 3) := dk_182 0 166 (dk_at dksX6_addMember_0 8 rfl rfl)
theorem dX6_addMember_11 : decode cX6_addMember 11 = .ok (.ifCond .ne 7, 3) := dk_154 0 7 (dk_at dksX6_addMember_0 11 rfl rfl)
theorem dX6_addMember_14 : decode cX6_addMember 14 = .ok (.iconst 1, 1) := dk_4 (dk_at dksX6_addMember_0 14 rfl rfl)
theorem dX6_addMember_15 : decode cX6_addMember 15 = .ok (.goto 4, 3) := dk_167 0 4 (dk_at dksX6_addMember_0 15 rfl rfl)
theorem dX6_addMember_18 : decode cX6_addMember 18 = .ok (.iconst 0, 1) := dk_3 (dk_at dksX6_addMember_0 18 rfl rfl)
theorem dX6_addMember_19 : decode cX6_addMember 19 = .ok (.iconst 4, 1) := dk_7 (dk_at dksX6_addMember_0 19 rfl rfl)
theorem dX6_addMember_20 : decode cX6_addMember 20 = .ok (.invokevirtual 85, 3) := dk_182 0 85 (dk_at dksX6_addMember_0 20 rfl rfl)
theorem dX6_addMember_23 : decode cX6_addMember 23 = .ok (.aload_n 0, 1) := dk_42 (dk_at dksX6_addMember_0 23 rfl rfl)
theorem dX6_addMember_24 : decode cX6_addMember 24 = .ok (.aload_n 1, 1) := dk_43 (dk_at dksX6_addMember_1 0 rfl rfl)
theorem dX6_addMember_25 : decode cX6_addMember 25 = .ok (.getfield 169, 3) := dk_180 0 169 (dk_at dksX6_addMember_1 1 rfl rfl)
theorem dX6_addMember_28 : decode cX6_addMember 28 = .ok (.invokeinterface 137 1, 5) := by decide +kernel
theorem dX6_addMember_33 : decode cX6_addMember 33 = .ok (.bipush 8, 2) := dk_16 8 (dk_at dksX6_addMember_1 9 rfl rfl)
theorem dX6_addMember_35 : decode cX6_addMember 35 = .ok (.if_icmp .ge 7, 3) := dk_162 0 7 (dk_at dksX6_addMember_1 11 rfl rfl)
theorem dX6_addMember_38 : decode cX6_addMember 38 = .ok (.iconst 1, 1) := dk_4 (dk_at dksX6_addMember_1 14 rfl rfl)
theorem dX6_addMember_39 : decode cX6_addMember 39 = .ok (.goto 4, 3) := dk_167 0 4 (dk_at dksX6_addMember_1 15 rfl rfl)
theorem dX6_addMember_42 : decode cX6_addMember 42 = .ok (.iconst 0, 1) := dk_3 (dk_at dksX6_addMember_1 18 rfl rfl)
theorem dX6_addMember_43 : decode cX6_addMember 43 = .ok (.iconst 5, 1) := dk_8 (dk_at dksX6_addMember_1 19 rfl rfl)
theorem dX6_addMember_44 : decode cX6_addMember 44 = .ok (.invokevirtual 85, 3) := dk_182 0 85 (dk_at dksX6_addMember_1 20 rfl rfl)
theorem dX6_addMember_47 : decode cX6_addMember 47 = .ok (.aload_n 1, 1) := dk_43 (dk_at dksX6_addMember_1 23 rfl rfl)
theorem dX6_addMember_48 : decode cX6_addMember 48 = .ok (.getfield 169, 3) := dk_180 0 169 (dk_at dksX6_addMember_2 0 rfl rfl)
theorem dX6_addMember_51 : decode cX6_addMember 51 = .ok (.iload_n 2, 1) := dk_28 (dk_at dksX6_addMember_2 3 rfl rfl)
theorem dX6_addMember_52 : decode cX6_addMember 52 = .ok (.invokestatic 172, 3) := dk_184 0 172 (dk_at dksX6_addMember_2 4 rfl rfl)
theorem dX6_addMember_55 : decode cX6_addMember 55 = .ok (.invokeinterface 178 2, 5) := by decide +kernel
theorem dX6_addMember_60 : decode cX6_addMember 60 = .ok (.istore_n 3, 1) := dk_62 (dk_at dksX6_addMember_2 12 rfl rfl)
theorem dX6_addMember_61 : decode cX6_addMember 61 = .ok (.aload_n 0, 1) := dk_42 (dk_at dksX6_addMember_2 13 rfl rfl)
theorem dX6_addMember_62 : decode cX6_addMember 62 = .ok (.invokevirtual 92, 3) := dk_182 0 92 (dk_at dksX6_addMember_2 14 rfl rfl)
theorem dX6_addMember_65 : decode cX6_addMember 65 = .ok (.return_, 1) := dk_177 (dk_at dksX6_addMember_2 17 rfl rfl)
abbrev cX6_subscriberHere : ByteArray := prog_7_method_11_code
def yX6_subscriberHere : MethodName := ⟨RX6, "subscriberHere", "()I"⟩
def dkwX6_subscriberHere_0 : List UInt8 := [42, 3, 42, 180, 0, 25, 182, 0, 95, 4, 100, 182, 0, 89, 172]
abbrev dktX6_subscriberHere_0 : List UInt8 := dkwX6_subscriberHere_0 ++ []
theorem dksX6_subscriberHere_0 : cX6_subscriberHere.data.toList.drop 0 = dktX6_subscriberHere_0 := by decide +kernel
theorem dX6_subscriberHere_0 : decode cX6_subscriberHere 0 = .ok (.aload_n 0, 1) := dk_42 (dk_at dksX6_subscriberHere_0 0 rfl rfl)
theorem dX6_subscriberHere_1 : decode cX6_subscriberHere 1 = .ok (.iconst 0, 1) := dk_3 (dk_at dksX6_subscriberHere_0 1 rfl rfl)
theorem dX6_subscriberHere_2 : decode cX6_subscriberHere 2 = .ok (.aload_n 0, 1) := dk_42 (dk_at dksX6_subscriberHere_0 2 rfl rfl)
theorem dX6_subscriberHere_3 : decode cX6_subscriberHere 3 = .ok (.getfield 25, 3) := dk_180 0 25 (dk_at dksX6_subscriberHere_0 3 rfl rfl)
theorem dX6_subscriberHere_6 : decode cX6_subscriberHere 6 = .ok (.invokevirtual 95, 3) := dk_182 0 95 (dk_at dksX6_subscriberHere_0 6 rfl rfl)
theorem dX6_subscriberHere_9 : decode cX6_subscriberHere 9 = .ok (.iconst 1, 1) := dk_4 (dk_at dksX6_subscriberHere_0 9 rfl rfl)
theorem dX6_subscriberHere_10 : decode cX6_subscriberHere 10 = .ok (.isub, 1) := dk_100 (dk_at dksX6_subscriberHere_0 10 rfl rfl)
theorem dX6_subscriberHere_11 : decode cX6_subscriberHere 11 = .ok (.invokevirtual 89, 3) := dk_182 0 89 (dk_at dksX6_subscriberHere_0 11 rfl rfl)
theorem dX6_subscriberHere_14 : decode cX6_subscriberHere 14 = .ok (.ireturn, 1) := dk_172 (dk_at dksX6_subscriberHere_0 14 rfl rfl)
abbrev cX6_commands : ByteArray := prog_7_method_20_code
def yX6_commands : MethodName := ⟨RX6, "commands", "()I"⟩
def dkwX6_commands_1 : List UInt8 := [182, 0, 85, 42, 182, 0, 181, 132, 1, 1, 167, 255, 224, 27, 172]
abbrev dktX6_commands_1 : List UInt8 := dkwX6_commands_1 ++ []
def dkwX6_commands_0 : List UInt8 := [3, 60, 42, 180, 0, 43, 153, 0, 31, 42, 42, 180, 0, 43, 4, 160, 0, 7, 4, 167, 0, 4, 3, 4]
abbrev dktX6_commands_0 : List UInt8 := dkwX6_commands_0 ++ dktX6_commands_1
theorem dksX6_commands_0 : cX6_commands.data.toList.drop 0 = dktX6_commands_0 := by decide +kernel
theorem dksX6_commands_1 : cX6_commands.data.toList.drop 24 = dktX6_commands_1 := dk_seg dksX6_commands_0 24 rfl rfl
theorem dX6_commands_0 : decode cX6_commands 0 = .ok (.iconst 0, 1) := dk_3 (dk_at dksX6_commands_0 0 rfl rfl)
theorem dX6_commands_1 : decode cX6_commands 1 = .ok (.istore_n 1, 1) := dk_60 (dk_at dksX6_commands_0 1 rfl rfl)
theorem dX6_commands_2 : decode cX6_commands 2 = .ok (.aload_n 0, 1) := dk_42 (dk_at dksX6_commands_0 2 rfl rfl)
theorem dX6_commands_3 : decode cX6_commands 3 = .ok (.getfield 43, 3) := dk_180 0 43 (dk_at dksX6_commands_0 3 rfl rfl)
theorem dX6_commands_6 : decode cX6_commands 6 = .ok (.ifCond .eq 31, 3) := dk_153 0 31 (dk_at dksX6_commands_0 6 rfl rfl)
theorem dX6_commands_9 : decode cX6_commands 9 = .ok (.aload_n 0, 1) := dk_42 (dk_at dksX6_commands_0 9 rfl rfl)
theorem dX6_commands_10 : decode cX6_commands 10 = .ok (.aload_n 0, 1) := dk_42 (dk_at dksX6_commands_0 10 rfl rfl)
theorem dX6_commands_11 : decode cX6_commands 11 = .ok (.getfield 43, 3) := dk_180 0 43 (dk_at dksX6_commands_0 11 rfl rfl)
theorem dX6_commands_14 : decode cX6_commands 14 = .ok (.iconst 1, 1) := dk_4 (dk_at dksX6_commands_0 14 rfl rfl)
theorem dX6_commands_15 : decode cX6_commands 15 = .ok (.if_icmp .ne 7, 3) := dk_160 0 7 (dk_at dksX6_commands_0 15 rfl rfl)
theorem dX6_commands_18 : decode cX6_commands 18 = .ok (.iconst 1, 1) := dk_4 (dk_at dksX6_commands_0 18 rfl rfl)
theorem dX6_commands_19 : decode cX6_commands 19 = .ok (.goto 4, 3) := dk_167 0 4 (dk_at dksX6_commands_0 19 rfl rfl)
theorem dX6_commands_22 : decode cX6_commands 22 = .ok (.iconst 0, 1) := dk_3 (dk_at dksX6_commands_0 22 rfl rfl)
theorem dX6_commands_23 : decode cX6_commands 23 = .ok (.iconst 1, 1) := dk_4 (dk_at dksX6_commands_0 23 rfl rfl)
theorem dX6_commands_24 : decode cX6_commands 24 = .ok (.invokevirtual 85, 3) := dk_182 0 85 (dk_at dksX6_commands_1 0 rfl rfl)
theorem dX6_commands_27 : decode cX6_commands 27 = .ok (.aload_n 0, 1) := dk_42 (dk_at dksX6_commands_1 3 rfl rfl)
theorem dX6_commands_28 : decode cX6_commands 28 = .ok (.invokevirtual 181, 3) := dk_182 0 181 (dk_at dksX6_commands_1 4 rfl rfl)
theorem dX6_commands_31 : decode cX6_commands 31 = .ok (.iinc 1 1, 3) := dk_132 1 1 (dk_at dksX6_commands_1 7 rfl rfl)
theorem dX6_commands_34 : decode cX6_commands 34 = .ok (.goto (-32), 3) := dk_167 255 224 (dk_at dksX6_commands_1 10 rfl rfl)
theorem dX6_commands_37 : decode cX6_commands 37 = .ok (.iload_n 1, 1) := dk_27 (dk_at dksX6_commands_1 13 rfl rfl)
theorem dX6_commands_38 : decode cX6_commands 38 = .ok (.ireturn, 1) := dk_172 (dk_at dksX6_commands_1 14 rfl rfl)
abbrev cX6_command : ByteArray := prog_7_method_23_code
def yX6_command : MethodName := ⟨RX6, "command", "()V"⟩
def dkwX6_command_22 : List UInt8 := [183, 0, 82, 191, 177]
abbrev dktX6_command_22 : List UInt8 := dkwX6_command_22 ++ []
def dkwX6_command_21 : List UInt8 := [181, 0, 216, 42, 180, 0, 25, 182, 0, 246, 167, 0, 16, 187, 0, 80, 89, 4, 42, 180, 0, 40]
abbrev dktX6_command_21 : List UInt8 := dkwX6_command_21 ++ dktX6_command_22
def dkwX6_command_20 : List UInt8 := [181, 0, 255, 167, 0, 45, 42, 182, 0, 92, 42, 182, 0, 122, 42, 42, 180, 0, 25, 182, 1, 1]
abbrev dktX6_command_20 : List UInt8 := dkwX6_command_20 ++ dktX6_command_21
def dkwX6_command_19 : List UInt8 := [4, 18, 251, 83, 89, 5, 18, 253, 83, 182, 0, 240, 62, 42, 182, 0, 122, 42, 180, 0, 25, 29]
abbrev dktX6_command_19 : List UInt8 := dkwX6_command_19 ++ dktX6_command_20
def dkwX6_command_18 : List UInt8 := [181, 0, 244, 42, 180, 0, 25, 182, 0, 246, 167, 0, 84, 42, 6, 189, 0, 105, 89, 3, 18, 249, 83, 89]
abbrev dktX6_command_18 : List UInt8 := dkwX6_command_18 ++ dktX6_command_19
def dkwX6_command_17 : List UInt8 := [89, 3, 18, 236, 83, 89, 4, 18, 238, 83, 182, 0, 240, 62, 42, 182, 0, 122, 42, 180, 0, 25, 29]
abbrev dktX6_command_17 : List UInt8 := dkwX6_command_17 ++ dktX6_command_18
def dkwX6_command_16 : List UInt8 := [181, 0, 216, 167, 0, 138, 42, 42, 18, 197, 182, 0, 113, 182, 0, 232, 167, 0, 125, 42, 5, 189, 0, 105]
abbrev dktX6_command_16 : List UInt8 := dkwX6_command_16 ++ dktX6_command_17
def dkwX6_command_15 : List UInt8 := [180, 0, 227, 100, 184, 0, 74, 182, 0, 117, 62, 42, 182, 0, 122, 42, 42, 180, 0, 25, 29, 182, 0, 229]
abbrev dktX6_command_15 : List UInt8 := dkwX6_command_15 ++ dktX6_command_16
def dkwX6_command_14 : List UInt8 := [182, 0, 224, 181, 0, 216, 167, 0, 183, 42, 182, 0, 92, 42, 4, 16, 100, 17, 39, 15, 42, 180, 0, 25]
abbrev dktX6_command_14 : List UInt8 := dkwX6_command_14 ++ dktX6_command_15
def dkwX6_command_13 : List UInt8 := [167, 0, 4, 3, 16, 6, 182, 0, 85, 42, 182, 0, 92, 42, 182, 0, 122, 42, 42, 180, 0, 25, 29]
abbrev dktX6_command_13 : List UInt8 := dkwX6_command_13 ++ dktX6_command_14
def dkwX6_command_12 : List UInt8 := [42, 182, 0, 92, 42, 182, 0, 101, 62, 42, 42, 180, 0, 25, 29, 182, 0, 221, 154, 0, 7, 4]
abbrev dktX6_command_12 : List UInt8 := dkwX6_command_12 ++ dktX6_command_13
def dkwX6_command_11 : List UInt8 := [180, 0, 25, 29, 21, 4, 21, 5, 182, 0, 213, 181, 0, 216, 167, 0, 244, 42, 182, 0, 219, 167, 0, 237]
abbrev dktX6_command_11 : List UInt8 := dkwX6_command_11 ++ dktX6_command_12
def dkwX6_command_10 : List UInt8 := [167, 0, 4, 3, 7, 182, 0, 85, 42, 182, 0, 92, 42, 182, 0, 210, 54, 5, 42, 182, 0, 122, 42, 42]
abbrev dktX6_command_10 : List UInt8 := dkwX6_command_10 ++ dktX6_command_11
def dkwX6_command_9 : List UInt8 := [42, 182, 0, 92, 42, 182, 0, 207, 62, 42, 182, 0, 101, 54, 4, 42, 21, 4, 29, 159, 0, 7, 4]
abbrev dktX6_command_9 : List UInt8 := dkwX6_command_9 ++ dktX6_command_10
def dkwX6_command_8 : List UInt8 := [170, 0, 0, 1, 85, 0, 0, 0, 0, 0, 0, 0, 8, 0, 0, 0, 49, 0, 0, 0, 113, 0, 0, 0, 120, 0, 0, 0, 174, 0, 0, 0, 219, 0, 0, 0, 219, 0, 0, 0, 232, 0, 0, 1, 17, 0, 0, 1, 56]
abbrev dktX6_command_8 : List UInt8 := dkwX6_command_8 ++ dktX6_command_9
def dkwX6_command_7 : List UInt8 := [182, 0, 104, 153, 0, 6, 16, 8, 61, 28]
abbrev dktX6_command_7 : List UInt8 := dkwX6_command_7 ++ dktX6_command_8
def dkwX6_command_6 : List UInt8 := [61, 167, 0, 30, 43, 18, 203, 182, 0, 104, 153, 0, 21, 16, 7, 61, 167, 0, 15, 43, 18, 205]
abbrev dktX6_command_6 : List UInt8 := dkwX6_command_6 ++ dktX6_command_7
def dkwX6_command_5 : List UInt8 := [18, 199, 182, 0, 104, 153, 0, 50, 8, 61, 167, 0, 45, 43, 18, 201, 182, 0, 104, 153, 0, 36, 16, 6]
abbrev dktX6_command_5 : List UInt8 := dkwX6_command_5 ++ dktX6_command_6
def dkwX6_command_4 : List UInt8 := [153, 0, 78, 6, 61, 167, 0, 73, 43, 18, 197, 182, 0, 104, 153, 0, 64, 7, 61, 167, 0, 59, 43]
abbrev dktX6_command_4 : List UInt8 := dkwX6_command_4 ++ dktX6_command_5
def dkwX6_command_3 : List UInt8 := [61, 167, 0, 101, 43, 18, 193, 182, 0, 104, 153, 0, 92, 5, 61, 167, 0, 87, 43, 18, 195, 182, 0, 104]
abbrev dktX6_command_3 : List UInt8 := dkwX6_command_3 ++ dktX6_command_4
def dkwX6_command_2 : List UInt8 := [43, 18, 189, 182, 0, 104, 153, 0, 120, 3, 61, 167, 0, 115, 43, 18, 191, 182, 0, 104, 153, 0, 106, 4]
abbrev dktX6_command_2 : List UInt8 := dkwX6_command_2 ++ dktX6_command_3
def dkwX6_command_1 : List UInt8 := [171, 0, 0, 0, 207, 0, 0, 0, 9, 0, 1, 130, 66, 0, 0, 0, 137, 0, 46, 122, 94, 0, 0, 0, 81, 0, 47, 11, 112, 0, 0, 0, 95, 0, 48, 192, 114, 0, 0, 0, 109, 0, 49, 11, 147, 0, 0, 0, 180, 0, 51, 21, 78, 0, 0, 0, 151, 0, 51, 57, 163, 0, 0, 0, 165, 0, 52, 98, 25, 0, 0, 0, 195, 0, 54, 81, 157, 0, 0, 0, 123]
abbrev dktX6_command_1 : List UInt8 := dkwX6_command_1 ++ dktX6_command_2
def dkwX6_command_0 : List UInt8 := [42, 180, 0, 11, 76, 2, 61, 43, 182, 0, 186]
abbrev dktX6_command_0 : List UInt8 := dkwX6_command_0 ++ dktX6_command_1
theorem dksX6_command_0 : cX6_command.data.toList.drop 0 = dktX6_command_0 := by decide +kernel
theorem dksX6_command_1 : cX6_command.data.toList.drop 11 = dktX6_command_1 := dk_seg dksX6_command_0 11 rfl rfl
theorem dksX6_command_2 : cX6_command.data.toList.drop 92 = dktX6_command_2 := dk_seg dksX6_command_1 81 rfl rfl
theorem dksX6_command_3 : cX6_command.data.toList.drop 116 = dktX6_command_3 := dk_seg dksX6_command_2 24 rfl rfl
theorem dksX6_command_4 : cX6_command.data.toList.drop 140 = dktX6_command_4 := dk_seg dksX6_command_3 24 rfl rfl
theorem dksX6_command_5 : cX6_command.data.toList.drop 163 = dktX6_command_5 := dk_seg dksX6_command_4 23 rfl rfl
theorem dksX6_command_6 : cX6_command.data.toList.drop 187 = dktX6_command_6 := dk_seg dksX6_command_5 24 rfl rfl
theorem dksX6_command_7 : cX6_command.data.toList.drop 209 = dktX6_command_7 := dk_seg dksX6_command_6 22 rfl rfl
theorem dksX6_command_8 : cX6_command.data.toList.drop 219 = dktX6_command_8 := dk_seg dksX6_command_7 10 rfl rfl
theorem dksX6_command_9 : cX6_command.data.toList.drop 268 = dktX6_command_9 := dk_seg dksX6_command_8 49 rfl rfl
theorem dksX6_command_10 : cX6_command.data.toList.drop 291 = dktX6_command_10 := dk_seg dksX6_command_9 23 rfl rfl
theorem dksX6_command_11 : cX6_command.data.toList.drop 315 = dktX6_command_11 := dk_seg dksX6_command_10 24 rfl rfl
theorem dksX6_command_12 : cX6_command.data.toList.drop 339 = dktX6_command_12 := dk_seg dksX6_command_11 24 rfl rfl
theorem dksX6_command_13 : cX6_command.data.toList.drop 361 = dktX6_command_13 := dk_seg dksX6_command_12 22 rfl rfl
theorem dksX6_command_14 : cX6_command.data.toList.drop 384 = dktX6_command_14 := dk_seg dksX6_command_13 23 rfl rfl
theorem dksX6_command_15 : cX6_command.data.toList.drop 408 = dktX6_command_15 := dk_seg dksX6_command_14 24 rfl rfl
theorem dksX6_command_16 : cX6_command.data.toList.drop 432 = dktX6_command_16 := dk_seg dksX6_command_15 24 rfl rfl
theorem dksX6_command_17 : cX6_command.data.toList.drop 456 = dktX6_command_17 := dk_seg dksX6_command_16 24 rfl rfl
theorem dksX6_command_18 : cX6_command.data.toList.drop 479 = dktX6_command_18 := dk_seg dksX6_command_17 23 rfl rfl
theorem dksX6_command_19 : cX6_command.data.toList.drop 503 = dktX6_command_19 := dk_seg dksX6_command_18 24 rfl rfl
theorem dksX6_command_20 : cX6_command.data.toList.drop 525 = dktX6_command_20 := dk_seg dksX6_command_19 22 rfl rfl
theorem dksX6_command_21 : cX6_command.data.toList.drop 547 = dktX6_command_21 := dk_seg dksX6_command_20 22 rfl rfl
theorem dksX6_command_22 : cX6_command.data.toList.drop 569 = dktX6_command_22 := dk_seg dksX6_command_21 22 rfl rfl
theorem dX6_command_0 : decode cX6_command 0 = .ok (.aload_n 0, 1) := dk_42 (dk_at dksX6_command_0 0 rfl rfl)
theorem dX6_command_1 : decode cX6_command 1 = .ok (.getfield 11, 3) := dk_180 0 11 (dk_at dksX6_command_0 1 rfl rfl)
theorem dX6_command_4 : decode cX6_command 4 = .ok (.astore_n 1, 1) := dk_76 (dk_at dksX6_command_0 4 rfl rfl)
theorem dX6_command_5 : decode cX6_command 5 = .ok (.iconst (-1), 1) := dk_2 (dk_at dksX6_command_0 5 rfl rfl)
theorem dX6_command_6 : decode cX6_command 6 = .ok (.istore_n 2, 1) := dk_61 (dk_at dksX6_command_0 6 rfl rfl)
theorem dX6_command_7 : decode cX6_command 7 = .ok (.aload_n 1, 1) := dk_43 (dk_at dksX6_command_0 7 rfl rfl)
theorem dX6_command_8 : decode cX6_command 8 = .ok (.invokevirtual 186, 3) := dk_182 0 186 (dk_at dksX6_command_0 8 rfl rfl)
theorem dX6_command_11 : decode cX6_command 11 = .ok (.lookupswitch 207 #[(98882, 137), (3045982, 81), (3083120, 95), (3194994, 109), (3214227, 180), (3347790, 151), (3357091, 165), (3432985, 195), (3559837, 123)], 81) := by decide +kernel
theorem dX6_command_92 : decode cX6_command 92 = .ok (.aload_n 1, 1) := dk_43 (dk_at dksX6_command_2 0 rfl rfl)
theorem dX6_command_93 : decode cX6_command 93 = .ok (.ldc 189, 2) := dk_18 189 (dk_at dksX6_command_2 1 rfl rfl)
theorem dX6_command_95 : decode cX6_command 95 = .ok (.invokevirtual 104, 3) := dk_182 0 104 (dk_at dksX6_command_2 3 rfl rfl)
theorem dX6_command_98 : decode cX6_command 98 = .ok (.ifCond .eq 120, 3) := dk_153 0 120 (dk_at dksX6_command_2 6 rfl rfl)
theorem dX6_command_101 : decode cX6_command 101 = .ok (.iconst 0, 1) := dk_3 (dk_at dksX6_command_2 9 rfl rfl)
theorem dX6_command_102 : decode cX6_command 102 = .ok (.istore_n 2, 1) := dk_61 (dk_at dksX6_command_2 10 rfl rfl)
theorem dX6_command_103 : decode cX6_command 103 = .ok (.goto 115, 3) := dk_167 0 115 (dk_at dksX6_command_2 11 rfl rfl)
theorem dX6_command_106 : decode cX6_command 106 = .ok (.aload_n 1, 1) := dk_43 (dk_at dksX6_command_2 14 rfl rfl)
theorem dX6_command_107 : decode cX6_command 107 = .ok (.ldc 191, 2) := dk_18 191 (dk_at dksX6_command_2 15 rfl rfl)
theorem dX6_command_109 : decode cX6_command 109 = .ok (.invokevirtual 104, 3) := dk_182 0 104 (dk_at dksX6_command_2 17 rfl rfl)
theorem dX6_command_112 : decode cX6_command 112 = .ok (.ifCond .eq 106, 3) := dk_153 0 106 (dk_at dksX6_command_2 20 rfl rfl)
theorem dX6_command_115 : decode cX6_command 115 = .ok (.iconst 1, 1) := dk_4 (dk_at dksX6_command_2 23 rfl rfl)
theorem dX6_command_116 : decode cX6_command 116 = .ok (.istore_n 2, 1) := dk_61 (dk_at dksX6_command_3 0 rfl rfl)
theorem dX6_command_117 : decode cX6_command 117 = .ok (.goto 101, 3) := dk_167 0 101 (dk_at dksX6_command_3 1 rfl rfl)
theorem dX6_command_120 : decode cX6_command 120 = .ok (.aload_n 1, 1) := dk_43 (dk_at dksX6_command_3 4 rfl rfl)
theorem dX6_command_121 : decode cX6_command 121 = .ok (.ldc 193, 2) := dk_18 193 (dk_at dksX6_command_3 5 rfl rfl)
theorem dX6_command_123 : decode cX6_command 123 = .ok (.invokevirtual 104, 3) := dk_182 0 104 (dk_at dksX6_command_3 7 rfl rfl)
theorem dX6_command_126 : decode cX6_command 126 = .ok (.ifCond .eq 92, 3) := dk_153 0 92 (dk_at dksX6_command_3 10 rfl rfl)
theorem dX6_command_129 : decode cX6_command 129 = .ok (.iconst 2, 1) := dk_5 (dk_at dksX6_command_3 13 rfl rfl)
theorem dX6_command_130 : decode cX6_command 130 = .ok (.istore_n 2, 1) := dk_61 (dk_at dksX6_command_3 14 rfl rfl)
theorem dX6_command_131 : decode cX6_command 131 = .ok (.goto 87, 3) := dk_167 0 87 (dk_at dksX6_command_3 15 rfl rfl)
theorem dX6_command_134 : decode cX6_command 134 = .ok (.aload_n 1, 1) := dk_43 (dk_at dksX6_command_3 18 rfl rfl)
theorem dX6_command_135 : decode cX6_command 135 = .ok (.ldc 195, 2) := dk_18 195 (dk_at dksX6_command_3 19 rfl rfl)
theorem dX6_command_137 : decode cX6_command 137 = .ok (.invokevirtual 104, 3) := dk_182 0 104 (dk_at dksX6_command_3 21 rfl rfl)
theorem dX6_command_140 : decode cX6_command 140 = .ok (.ifCond .eq 78, 3) := dk_153 0 78 (dk_at dksX6_command_4 0 rfl rfl)
theorem dX6_command_143 : decode cX6_command 143 = .ok (.iconst 3, 1) := dk_6 (dk_at dksX6_command_4 3 rfl rfl)
theorem dX6_command_144 : decode cX6_command 144 = .ok (.istore_n 2, 1) := dk_61 (dk_at dksX6_command_4 4 rfl rfl)
theorem dX6_command_145 : decode cX6_command 145 = .ok (.goto 73, 3) := dk_167 0 73 (dk_at dksX6_command_4 5 rfl rfl)
theorem dX6_command_148 : decode cX6_command 148 = .ok (.aload_n 1, 1) := dk_43 (dk_at dksX6_command_4 8 rfl rfl)
theorem dX6_command_149 : decode cX6_command 149 = .ok (.ldc 197, 2) := dk_18 197 (dk_at dksX6_command_4 9 rfl rfl)
theorem dX6_command_151 : decode cX6_command 151 = .ok (.invokevirtual 104, 3) := dk_182 0 104 (dk_at dksX6_command_4 11 rfl rfl)
theorem dX6_command_154 : decode cX6_command 154 = .ok (.ifCond .eq 64, 3) := dk_153 0 64 (dk_at dksX6_command_4 14 rfl rfl)
theorem dX6_command_157 : decode cX6_command 157 = .ok (.iconst 4, 1) := dk_7 (dk_at dksX6_command_4 17 rfl rfl)
theorem dX6_command_158 : decode cX6_command 158 = .ok (.istore_n 2, 1) := dk_61 (dk_at dksX6_command_4 18 rfl rfl)
theorem dX6_command_159 : decode cX6_command 159 = .ok (.goto 59, 3) := dk_167 0 59 (dk_at dksX6_command_4 19 rfl rfl)
theorem dX6_command_162 : decode cX6_command 162 = .ok (.aload_n 1, 1) := dk_43 (dk_at dksX6_command_4 22 rfl rfl)
theorem dX6_command_163 : decode cX6_command 163 = .ok (.ldc 199, 2) := dk_18 199 (dk_at dksX6_command_5 0 rfl rfl)
theorem dX6_command_165 : decode cX6_command 165 = .ok (.invokevirtual 104, 3) := dk_182 0 104 (dk_at dksX6_command_5 2 rfl rfl)
theorem dX6_command_168 : decode cX6_command 168 = .ok (.ifCond .eq 50, 3) := dk_153 0 50 (dk_at dksX6_command_5 5 rfl rfl)
theorem dX6_command_171 : decode cX6_command 171 = .ok (.iconst 5, 1) := dk_8 (dk_at dksX6_command_5 8 rfl rfl)
theorem dX6_command_172 : decode cX6_command 172 = .ok (.istore_n 2, 1) := dk_61 (dk_at dksX6_command_5 9 rfl rfl)
theorem dX6_command_173 : decode cX6_command 173 = .ok (.goto 45, 3) := dk_167 0 45 (dk_at dksX6_command_5 10 rfl rfl)
theorem dX6_command_176 : decode cX6_command 176 = .ok (.aload_n 1, 1) := dk_43 (dk_at dksX6_command_5 13 rfl rfl)
theorem dX6_command_177 : decode cX6_command 177 = .ok (.ldc 201, 2) := dk_18 201 (dk_at dksX6_command_5 14 rfl rfl)
theorem dX6_command_179 : decode cX6_command 179 = .ok (.invokevirtual 104, 3) := dk_182 0 104 (dk_at dksX6_command_5 16 rfl rfl)
theorem dX6_command_182 : decode cX6_command 182 = .ok (.ifCond .eq 36, 3) := dk_153 0 36 (dk_at dksX6_command_5 19 rfl rfl)
theorem dX6_command_185 : decode cX6_command 185 = .ok (.bipush 6, 2) := dk_16 6 (dk_at dksX6_command_5 22 rfl rfl)
theorem dX6_command_187 : decode cX6_command 187 = .ok (.istore_n 2, 1) := dk_61 (dk_at dksX6_command_6 0 rfl rfl)
theorem dX6_command_188 : decode cX6_command 188 = .ok (.goto 30, 3) := dk_167 0 30 (dk_at dksX6_command_6 1 rfl rfl)
theorem dX6_command_191 : decode cX6_command 191 = .ok (.aload_n 1, 1) := dk_43 (dk_at dksX6_command_6 4 rfl rfl)
theorem dX6_command_192 : decode cX6_command 192 = .ok (.ldc 203, 2) := dk_18 203 (dk_at dksX6_command_6 5 rfl rfl)
theorem dX6_command_194 : decode cX6_command 194 = .ok (.invokevirtual 104, 3) := dk_182 0 104 (dk_at dksX6_command_6 7 rfl rfl)
theorem dX6_command_197 : decode cX6_command 197 = .ok (.ifCond .eq 21, 3) := dk_153 0 21 (dk_at dksX6_command_6 10 rfl rfl)
theorem dX6_command_200 : decode cX6_command 200 = .ok (.bipush 7, 2) := dk_16 7 (dk_at dksX6_command_6 13 rfl rfl)
theorem dX6_command_202 : decode cX6_command 202 = .ok (.istore_n 2, 1) := dk_61 (dk_at dksX6_command_6 15 rfl rfl)
theorem dX6_command_203 : decode cX6_command 203 = .ok (.goto 15, 3) := dk_167 0 15 (dk_at dksX6_command_6 16 rfl rfl)
theorem dX6_command_206 : decode cX6_command 206 = .ok (.aload_n 1, 1) := dk_43 (dk_at dksX6_command_6 19 rfl rfl)
theorem dX6_command_207 : decode cX6_command 207 = .ok (.ldc 205, 2) := dk_18 205 (dk_at dksX6_command_6 20 rfl rfl)
theorem dX6_command_209 : decode cX6_command 209 = .ok (.invokevirtual 104, 3) := dk_182 0 104 (dk_at dksX6_command_7 0 rfl rfl)
theorem dX6_command_212 : decode cX6_command 212 = .ok (.ifCond .eq 6, 3) := dk_153 0 6 (dk_at dksX6_command_7 3 rfl rfl)
theorem dX6_command_215 : decode cX6_command 215 = .ok (.bipush 8, 2) := dk_16 8 (dk_at dksX6_command_7 6 rfl rfl)
theorem dX6_command_217 : decode cX6_command 217 = .ok (.istore_n 2, 1) := dk_61 (dk_at dksX6_command_7 8 rfl rfl)
theorem dX6_command_218 : decode cX6_command 218 = .ok (.iload_n 2, 1) := dk_28 (dk_at dksX6_command_7 9 rfl rfl)
theorem dX6_command_219 : decode cX6_command 219 = .ok (.tableswitch 341 0 8 #[49, 113, 120, 174, 219, 219, 232, 273, 312], 49) := by decide +kernel
theorem dX6_command_268 : decode cX6_command 268 = .ok (.aload_n 0, 1) := dk_42 (dk_at dksX6_command_9 0 rfl rfl)
theorem dX6_command_269 : decode cX6_command 269 = .ok (.invokevirtual 92, 3) := dk_182 0 92 (dk_at dksX6_command_9 1 rfl rfl)
theorem dX6_command_272 : decode cX6_command 272 = .ok (.aload_n 0, 1) := dk_42 (dk_at dksX6_command_9 4 rfl rfl)
theorem dX6_command_273 : decode cX6_command 273 = .ok (.invokevirtual 207, 3) := dk_182 0 207 (dk_at dksX6_command_9 5 rfl rfl)
theorem dX6_command_276 : decode cX6_command 276 = .ok (.istore_n 3, 1) := dk_62 (dk_at dksX6_command_9 8 rfl rfl)
theorem dX6_command_277 : decode cX6_command 277 = .ok (.aload_n 0, 1) := dk_42 (dk_at dksX6_command_9 9 rfl rfl)
theorem dX6_command_278 : decode cX6_command 278 = .ok (.invokevirtual 101, 3) := dk_182 0 101 (dk_at dksX6_command_9 10 rfl rfl)
theorem dX6_command_281 : decode cX6_command 281 = .ok (.istore 4, 2) := dk_54 4 (dk_at dksX6_command_9 13 rfl rfl)
theorem dX6_command_283 : decode cX6_command 283 = .ok (.aload_n 0, 1) := dk_42 (dk_at dksX6_command_9 15 rfl rfl)
theorem dX6_command_284 : decode cX6_command 284 = .ok (.iload 4, 2) := dk_21 4 (dk_at dksX6_command_9 16 rfl rfl)
theorem dX6_command_286 : decode cX6_command 286 = .ok (.iload_n 3, 1) := dk_29 (dk_at dksX6_command_9 18 rfl rfl)
theorem dX6_command_287 : decode cX6_command 287 = .ok (.if_icmp .eq 7, 3) := dk_159 0 7 (dk_at dksX6_command_9 19 rfl rfl)
theorem dX6_command_290 : decode cX6_command 290 = .ok (.iconst 1, 1) := dk_4 (dk_at dksX6_command_9 22 rfl rfl)
theorem dX6_command_291 : decode cX6_command 291 = .ok (.goto 4, 3) := dk_167 0 4 (dk_at dksX6_command_10 0 rfl rfl)
theorem dX6_command_294 : decode cX6_command 294 = .ok (.iconst 0, 1) := dk_3 (dk_at dksX6_command_10 3 rfl rfl)
theorem dX6_command_295 : decode cX6_command 295 = .ok (.iconst 4, 1) := dk_7 (dk_at dksX6_command_10 4 rfl rfl)
theorem dX6_command_296 : decode cX6_command 296 = .ok (.invokevirtual 85, 3) := dk_182 0 85 (dk_at dksX6_command_10 5 rfl rfl)
theorem dX6_command_299 : decode cX6_command 299 = .ok (.aload_n 0, 1) := dk_42 (dk_at dksX6_command_10 8 rfl rfl)
theorem dX6_command_300 : decode cX6_command 300 = .ok (.invokevirtual 92, 3) := dk_182 0 92 (dk_at dksX6_command_10 9 rfl rfl)
theorem dX6_command_303 : decode cX6_command 303 = .ok (.aload_n 0, 1) := dk_42 (dk_at dksX6_command_10 12 rfl rfl)
theorem dX6_command_304 : decode cX6_command 304 = .ok (.invokevirtual 210, 3) := dk_182 0 210 (dk_at dksX6_command_10 13 rfl rfl)
theorem dX6_command_307 : decode cX6_command 307 = .ok (.istore 5, 2) := dk_54 5 (dk_at dksX6_command_10 16 rfl rfl)
theorem dX6_command_309 : decode cX6_command 309 = .ok (.aload_n 0, 1) := dk_42 (dk_at dksX6_command_10 18 rfl rfl)
theorem dX6_command_310 : decode cX6_command 310 = .ok (.invokevirtual 122, 3) := dk_182 0 122 (dk_at dksX6_command_10 19 rfl rfl)
theorem dX6_command_313 : decode cX6_command 313 = .ok (.aload_n 0, 1) := dk_42 (dk_at dksX6_command_10 22 rfl rfl)
theorem dX6_command_314 : decode cX6_command 314 = .ok (.aload_n 0, 1) := dk_42 (dk_at dksX6_command_10 23 rfl rfl)
theorem dX6_command_315 : decode cX6_command 315 = .ok (.getfield 25, 3) := dk_180 0 25 (dk_at dksX6_command_11 0 rfl rfl)
theorem dX6_command_318 : decode cX6_command 318 = .ok (.iload_n 3, 1) := dk_29 (dk_at dksX6_command_11 3 rfl rfl)
theorem dX6_command_319 : decode cX6_command 319 = .ok (.iload 4, 2) := dk_21 4 (dk_at dksX6_command_11 4 rfl rfl)
theorem dX6_command_321 : decode cX6_command 321 = .ok (.iload 5, 2) := dk_21 5 (dk_at dksX6_command_11 6 rfl rfl)
theorem dX6_command_323 : decode cX6_command 323 = .ok (.invokevirtual 213, 3) := dk_182 0 213 (dk_at dksX6_command_11 8 rfl rfl)
theorem dX6_command_326 : decode cX6_command 326 = .ok (.putfield 216, 3) := dk_181 0 216 (dk_at dksX6_command_11 11 rfl rfl)
theorem dX6_command_329 : decode cX6_command 329 = .ok (.goto 244, 3) := dk_167 0 244 (dk_at dksX6_command_11 14 rfl rfl)
theorem dX6_command_332 : decode cX6_command 332 = .ok (.aload_n 0, 1) := dk_42 (dk_at dksX6_command_11 17 rfl rfl)
theorem dX6_command_333 : decode cX6_command 333 = .ok (.invokevirtual 219, 3) := dk_182 0 219 (dk_at dksX6_command_11 18 rfl rfl)
theorem dX6_command_336 : decode cX6_command 336 = .ok (.goto 237, 3) := dk_167 0 237 (dk_at dksX6_command_11 21 rfl rfl)
theorem dX6_command_339 : decode cX6_command 339 = .ok (.aload_n 0, 1) := dk_42 (dk_at dksX6_command_12 0 rfl rfl)
theorem dX6_command_340 : decode cX6_command 340 = .ok (.invokevirtual 92, 3) := dk_182 0 92 (dk_at dksX6_command_12 1 rfl rfl)
theorem dX6_command_343 : decode cX6_command 343 = .ok (.aload_n 0, 1) := dk_42 (dk_at dksX6_command_12 4 rfl rfl)
theorem dX6_command_344 : decode cX6_command 344 = .ok (.invokevirtual 101, 3) := dk_182 0 101 (dk_at dksX6_command_12 5 rfl rfl)
theorem dX6_command_347 : decode cX6_command 347 = .ok (.istore_n 3, 1) := dk_62 (dk_at dksX6_command_12 8 rfl rfl)
theorem dX6_command_348 : decode cX6_command 348 = .ok (.aload_n 0, 1) := dk_42 (dk_at dksX6_command_12 9 rfl rfl)
theorem dX6_command_349 : decode cX6_command 349 = .ok (.aload_n 0, 1) := dk_42 (dk_at dksX6_command_12 10 rfl rfl)
theorem dX6_command_350 : decode cX6_command 350 = .ok (.getfield 25, 3) := dk_180 0 25 (dk_at dksX6_command_12 11 rfl rfl)
theorem dX6_command_353 : decode cX6_command 353 = .ok (.iload_n 3, 1) := dk_29 (dk_at dksX6_command_12 14 rfl rfl)
theorem dX6_command_354 : decode cX6_command 354 = .ok (.invokevirtual 221, 3) := dk_182 0 221 (dk_at dksX6_command_12 15 rfl rfl)
theorem dX6_command_357 : decode cX6_command 357 = .ok (.ifCond .ne 7, 3) := dk_154 0 7 (dk_at dksX6_command_12 18 rfl rfl)
theorem dX6_command_360 : decode cX6_command 360 = .ok (.iconst 1, 1) := dk_4 (dk_at dksX6_command_12 21 rfl rfl)
theorem dX6_command_361 : decode cX6_command 361 = .ok (.goto 4, 3) := dk_167 0 4 (dk_at dksX6_command_13 0 rfl rfl)
theorem dX6_command_364 : decode cX6_command 364 = .ok (.iconst 0, 1) := dk_3 (dk_at dksX6_command_13 3 rfl rfl)
theorem dX6_command_365 : decode cX6_command 365 = .ok (.bipush 6, 2) := dk_16 6 (dk_at dksX6_command_13 4 rfl rfl)
theorem dX6_command_367 : decode cX6_command 367 = .ok (.invokevirtual 85, 3) := dk_182 0 85 (dk_at dksX6_command_13 6 rfl rfl)
theorem dX6_command_370 : decode cX6_command 370 = .ok (.aload_n 0, 1) := dk_42 (dk_at dksX6_command_13 9 rfl rfl)
theorem dX6_command_371 : decode cX6_command 371 = .ok (.invokevirtual 92, 3) := dk_182 0 92 (dk_at dksX6_command_13 10 rfl rfl)
theorem dX6_command_374 : decode cX6_command 374 = .ok (.aload_n 0, 1) := dk_42 (dk_at dksX6_command_13 13 rfl rfl)
theorem dX6_command_375 : decode cX6_command 375 = .ok (.invokevirtual 122, 3) := dk_182 0 122 (dk_at dksX6_command_13 14 rfl rfl)
theorem dX6_command_378 : decode cX6_command 378 = .ok (.aload_n 0, 1) := dk_42 (dk_at dksX6_command_13 17 rfl rfl)
theorem dX6_command_379 : decode cX6_command 379 = .ok (.aload_n 0, 1) := dk_42 (dk_at dksX6_command_13 18 rfl rfl)
theorem dX6_command_380 : decode cX6_command 380 = .ok (.getfield 25, 3) := dk_180 0 25 (dk_at dksX6_command_13 19 rfl rfl)
theorem dX6_command_383 : decode cX6_command 383 = .ok (.iload_n 3, 1) := dk_29 (dk_at dksX6_command_13 22 rfl rfl)
theorem dX6_command_384 : decode cX6_command 384 = .ok (.invokevirtual 224, 3) := dk_182 0 224 (dk_at dksX6_command_14 0 rfl rfl)
theorem dX6_command_387 : decode cX6_command 387 = .ok (.putfield 216, 3) := dk_181 0 216 (dk_at dksX6_command_14 3 rfl rfl)
theorem dX6_command_390 : decode cX6_command 390 = .ok (.goto 183, 3) := dk_167 0 183 (dk_at dksX6_command_14 6 rfl rfl)
theorem dX6_command_393 : decode cX6_command 393 = .ok (.aload_n 0, 1) := dk_42 (dk_at dksX6_command_14 9 rfl rfl)
theorem dX6_command_394 : decode cX6_command 394 = .ok (.invokevirtual 92, 3) := dk_182 0 92 (dk_at dksX6_command_14 10 rfl rfl)
theorem dX6_command_397 : decode cX6_command 397 = .ok (.aload_n 0, 1) := dk_42 (dk_at dksX6_command_14 13 rfl rfl)
theorem dX6_command_398 : decode cX6_command 398 = .ok (.iconst 1, 1) := dk_4 (dk_at dksX6_command_14 14 rfl rfl)
theorem dX6_command_399 : decode cX6_command 399 = .ok (.bipush 100, 2) := dk_16 100 (dk_at dksX6_command_14 15 rfl rfl)
theorem dX6_command_401 : decode cX6_command 401 = .ok (.sipush 9999, 3) := dk_17 39 15 (dk_at dksX6_command_14 17 rfl rfl)
theorem dX6_command_404 : decode cX6_command 404 = .ok (.aload_n 0, 1) := dk_42 (dk_at dksX6_command_14 20 rfl rfl)
theorem dX6_command_405 : decode cX6_command 405 = .ok (.getfield 25, 3) := dk_180 0 25 (dk_at dksX6_command_14 21 rfl rfl)
theorem dX6_command_408 : decode cX6_command 408 = .ok (.getfield 227, 3) := dk_180 0 227 (dk_at dksX6_command_15 0 rfl rfl)
theorem dX6_command_411 : decode cX6_command 411 = .ok (.isub, 1) := dk_100 (dk_at dksX6_command_15 3 rfl rfl)
theorem dX6_command_412 : decode cX6_command 412 = .ok (.invokestatic 74, 3) := dk_184 0 74 (dk_at dksX6_command_15 4 rfl rfl)
theorem dX6_command_415 : decode cX6_command 415 = .ok (.invokevirtual 117, 3) := dk_182 0 117 (dk_at dksX6_command_15 7 rfl rfl)
theorem dX6_command_418 : decode cX6_command 418 = .ok (.istore_n 3, 1) := dk_62 (dk_at dksX6_command_15 10 rfl rfl)
theorem dX6_command_419 : decode cX6_command 419 = .ok (.aload_n 0, 1) := dk_42 (dk_at dksX6_command_15 11 rfl rfl)
theorem dX6_command_420 : decode cX6_command 420 = .ok (.invokevirtual 122, 3) := dk_182 0 122 (dk_at dksX6_command_15 12 rfl rfl)
theorem dX6_command_423 : decode cX6_command 423 = .ok (.aload_n 0, 1) := dk_42 (dk_at dksX6_command_15 15 rfl rfl)
theorem dX6_command_424 : decode cX6_command 424 = .ok (.aload_n 0, 1) := dk_42 (dk_at dksX6_command_15 16 rfl rfl)
theorem dX6_command_425 : decode cX6_command 425 = .ok (.getfield 25, 3) := dk_180 0 25 (dk_at dksX6_command_15 17 rfl rfl)
theorem dX6_command_428 : decode cX6_command 428 = .ok (.iload_n 3, 1) := dk_29 (dk_at dksX6_command_15 20 rfl rfl)
theorem dX6_command_429 : decode cX6_command 429 = .ok (.invokevirtual 229, 3) := dk_182 0 229 (dk_at dksX6_command_15 21 rfl rfl)
theorem dX6_command_432 : decode cX6_command 432 = .ok (.putfield 216, 3) := dk_181 0 216 (dk_at dksX6_command_16 0 rfl rfl)
theorem dX6_command_435 : decode cX6_command 435 = .ok (.goto 138, 3) := dk_167 0 138 (dk_at dksX6_command_16 3 rfl rfl)
theorem dX6_command_438 : decode cX6_command 438 = .ok (.aload_n 0, 1) := dk_42 (dk_at dksX6_command_16 6 rfl rfl)
theorem dX6_command_439 : decode cX6_command 439 = .ok (.aload_n 0, 1) := dk_42 (dk_at dksX6_command_16 7 rfl rfl)
theorem dX6_command_440 : decode cX6_command 440 = .ok (.ldc 197, 2) := dk_18 197 (dk_at dksX6_command_16 8 rfl rfl)
theorem dX6_command_442 : decode cX6_command 442 = .ok (.invokevirtual 113, 3) := dk_182 0 113 (dk_at dksX6_command_16 10 rfl rfl)
theorem dX6_command_445 : decode cX6_command 445 = .ok (.invokevirtual 232, 3) := dk_182 0 232 (dk_at dksX6_command_16 13 rfl rfl)
theorem dX6_command_448 : decode cX6_command 448 = .ok (.goto 125, 3) := dk_167 0 125 (dk_at dksX6_command_16 16 rfl rfl)
theorem dX6_command_451 : decode cX6_command 451 = .ok (.aload_n 0, 1) := dk_42 (dk_at dksX6_command_16 19 rfl rfl)
theorem dX6_command_452 : decode cX6_command 452 = .ok (.iconst 2, 1) := dk_5 (dk_at dksX6_command_16 20 rfl rfl)
theorem dX6_command_453 : decode cX6_command 453 = .ok (.anewarray 105, 3) := dk_189 0 105 (dk_at dksX6_command_16 21 rfl rfl)
theorem dX6_command_456 : decode cX6_command 456 = .ok (.dup, 1) := dk_89 (dk_at dksX6_command_17 0 rfl rfl)
theorem dX6_command_457 : decode cX6_command 457 = .ok (.iconst 0, 1) := dk_3 (dk_at dksX6_command_17 1 rfl rfl)
theorem dX6_command_458 : decode cX6_command 458 = .ok (.ldc 236, 2) := dk_18 236 (dk_at dksX6_command_17 2 rfl rfl)
theorem dX6_command_460 : decode cX6_command 460 = .ok (.aastore, 1) := dk_83 (dk_at dksX6_command_17 4 rfl rfl)
theorem dX6_command_461 : decode cX6_command 461 = .ok (.dup, 1) := dk_89 (dk_at dksX6_command_17 5 rfl rfl)
theorem dX6_command_462 : decode cX6_command 462 = .ok (.iconst 1, 1) := dk_4 (dk_at dksX6_command_17 6 rfl rfl)
theorem dX6_command_463 : decode cX6_command 463 = .ok (.ldc 238, 2) := dk_18 238 (dk_at dksX6_command_17 7 rfl rfl)
theorem dX6_command_465 : decode cX6_command 465 = .ok (.aastore, 1) := dk_83 (dk_at dksX6_command_17 9 rfl rfl)
theorem dX6_command_466 : decode cX6_command 466 = .ok (.invokevirtual 240, 3) := dk_182 0 240 (dk_at dksX6_command_17 10 rfl rfl)
theorem dX6_command_469 : decode cX6_command 469 = .ok (.istore_n 3, 1) := dk_62 (dk_at dksX6_command_17 13 rfl rfl)
theorem dX6_command_470 : decode cX6_command 470 = .ok (.aload_n 0, 1) := dk_42 (dk_at dksX6_command_17 14 rfl rfl)
theorem dX6_command_471 : decode cX6_command 471 = .ok (.invokevirtual 122, 3) := dk_182 0 122 (dk_at dksX6_command_17 15 rfl rfl)
theorem dX6_command_474 : decode cX6_command 474 = .ok (.aload_n 0, 1) := dk_42 (dk_at dksX6_command_17 18 rfl rfl)
theorem dX6_command_475 : decode cX6_command 475 = .ok (.getfield 25, 3) := dk_180 0 25 (dk_at dksX6_command_17 19 rfl rfl)
theorem dX6_command_478 : decode cX6_command 478 = .ok (.iload_n 3, 1) := dk_29 (dk_at dksX6_command_17 22 rfl rfl)
theorem dX6_command_479 : decode cX6_command 479 = .ok (.putfield 244, 3) := dk_181 0 244 (dk_at dksX6_command_18 0 rfl rfl)
theorem dX6_command_482 : decode cX6_command 482 = .ok (.aload_n 0, 1) := dk_42 (dk_at dksX6_command_18 3 rfl rfl)
theorem dX6_command_483 : decode cX6_command 483 = .ok (.getfield 25, 3) := dk_180 0 25 (dk_at dksX6_command_18 4 rfl rfl)
theorem dX6_command_486 : decode cX6_command 486 = .ok (.invokevirtual 246, 3) := dk_182 0 246 (dk_at dksX6_command_18 7 rfl rfl)
theorem dX6_command_489 : decode cX6_command 489 = .ok (.goto 84, 3) := dk_167 0 84 (dk_at dksX6_command_18 10 rfl rfl)
theorem dX6_command_492 : decode cX6_command 492 = .ok (.aload_n 0, 1) := dk_42 (dk_at dksX6_command_18 13 rfl rfl)
theorem dX6_command_493 : decode cX6_command 493 = .ok (.iconst 3, 1) := dk_6 (dk_at dksX6_command_18 14 rfl rfl)
theorem dX6_command_494 : decode cX6_command 494 = .ok (.anewarray 105, 3) := dk_189 0 105 (dk_at dksX6_command_18 15 rfl rfl)
theorem dX6_command_497 : decode cX6_command 497 = .ok (.dup, 1) := dk_89 (dk_at dksX6_command_18 18 rfl rfl)
theorem dX6_command_498 : decode cX6_command 498 = .ok (.iconst 0, 1) := dk_3 (dk_at dksX6_command_18 19 rfl rfl)
theorem dX6_command_499 : decode cX6_command 499 = .ok (.ldc 249, 2) := dk_18 249 (dk_at dksX6_command_18 20 rfl rfl)
theorem dX6_command_501 : decode cX6_command 501 = .ok (.aastore, 1) := dk_83 (dk_at dksX6_command_18 22 rfl rfl)
theorem dX6_command_502 : decode cX6_command 502 = .ok (.dup, 1) := dk_89 (dk_at dksX6_command_18 23 rfl rfl)
theorem dX6_command_503 : decode cX6_command 503 = .ok (.iconst 1, 1) := dk_4 (dk_at dksX6_command_19 0 rfl rfl)
theorem dX6_command_504 : decode cX6_command 504 = .ok (.ldc 251, 2) := dk_18 251 (dk_at dksX6_command_19 1 rfl rfl)
theorem dX6_command_506 : decode cX6_command 506 = .ok (.aastore, 1) := dk_83 (dk_at dksX6_command_19 3 rfl rfl)
theorem dX6_command_507 : decode cX6_command 507 = .ok (.dup, 1) := dk_89 (dk_at dksX6_command_19 4 rfl rfl)
theorem dX6_command_508 : decode cX6_command 508 = .ok (.iconst 2, 1) := dk_5 (dk_at dksX6_command_19 5 rfl rfl)
theorem dX6_command_509 : decode cX6_command 509 = .ok (.ldc 253, 2) := dk_18 253 (dk_at dksX6_command_19 6 rfl rfl)
theorem dX6_command_511 : decode cX6_command 511 = .ok (.aastore, 1) := dk_83 (dk_at dksX6_command_19 8 rfl rfl)
theorem dX6_command_512 : decode cX6_command 512 = .ok (.invokevirtual 240, 3) := dk_182 0 240 (dk_at dksX6_command_19 9 rfl rfl)
theorem dX6_command_515 : decode cX6_command 515 = .ok (.istore_n 3, 1) := dk_62 (dk_at dksX6_command_19 12 rfl rfl)
theorem dX6_command_516 : decode cX6_command 516 = .ok (.aload_n 0, 1) := dk_42 (dk_at dksX6_command_19 13 rfl rfl)
theorem dX6_command_517 : decode cX6_command 517 = .ok (.invokevirtual 122, 3) := dk_182 0 122 (dk_at dksX6_command_19 14 rfl rfl)
theorem dX6_command_520 : decode cX6_command 520 = .ok (.aload_n 0, 1) := dk_42 (dk_at dksX6_command_19 17 rfl rfl)
theorem dX6_command_521 : decode cX6_command 521 = .ok (.getfield 25, 3) := dk_180 0 25 (dk_at dksX6_command_19 18 rfl rfl)
theorem dX6_command_524 : decode cX6_command 524 = .ok (.iload_n 3, 1) := dk_29 (dk_at dksX6_command_19 21 rfl rfl)
theorem dX6_command_525 : decode cX6_command 525 = .ok (.putfield 255, 3) := dk_181 0 255 (dk_at dksX6_command_20 0 rfl rfl)
theorem dX6_command_528 : decode cX6_command 528 = .ok (.goto 45, 3) := dk_167 0 45 (dk_at dksX6_command_20 3 rfl rfl)
theorem dX6_command_531 : decode cX6_command 531 = .ok (.aload_n 0, 1) := dk_42 (dk_at dksX6_command_20 6 rfl rfl)
theorem dX6_command_532 : decode cX6_command 532 = .ok (.invokevirtual 92, 3) := dk_182 0 92 (dk_at dksX6_command_20 7 rfl rfl)
theorem dX6_command_535 : decode cX6_command 535 = .ok (.aload_n 0, 1) := dk_42 (dk_at dksX6_command_20 10 rfl rfl)
theorem dX6_command_536 : decode cX6_command 536 = .ok (.invokevirtual 122, 3) := dk_182 0 122 (dk_at dksX6_command_20 11 rfl rfl)
theorem dX6_command_539 : decode cX6_command 539 = .ok (.aload_n 0, 1) := dk_42 (dk_at dksX6_command_20 14 rfl rfl)
theorem dX6_command_540 : decode cX6_command 540 = .ok (.aload_n 0, 1) := dk_42 (dk_at dksX6_command_20 15 rfl rfl)
theorem dX6_command_541 : decode cX6_command 541 = .ok (.getfield 25, 3) := dk_180 0 25 (dk_at dksX6_command_20 16 rfl rfl)
theorem dX6_command_544 : decode cX6_command 544 = .ok (.invokevirtual 257, 3) := dk_182 1 1 (dk_at dksX6_command_20 19 rfl rfl)
theorem dX6_command_547 : decode cX6_command 547 = .ok (.putfield 216, 3) := dk_181 0 216 (dk_at dksX6_command_21 0 rfl rfl)
theorem dX6_command_550 : decode cX6_command 550 = .ok (.aload_n 0, 1) := dk_42 (dk_at dksX6_command_21 3 rfl rfl)
theorem dX6_command_551 : decode cX6_command 551 = .ok (.getfield 25, 3) := dk_180 0 25 (dk_at dksX6_command_21 4 rfl rfl)
theorem dX6_command_554 : decode cX6_command 554 = .ok (.invokevirtual 246, 3) := dk_182 0 246 (dk_at dksX6_command_21 7 rfl rfl)
theorem dX6_command_557 : decode cX6_command 557 = .ok (.goto 16, 3) := dk_167 0 16 (dk_at dksX6_command_21 10 rfl rfl)
theorem dX6_command_560 : decode cX6_command 560 = .ok (.new 80, 3) := dk_187 0 80 (dk_at dksX6_command_21 13 rfl rfl)
theorem dX6_command_563 : decode cX6_command 563 = .ok (.dup, 1) := dk_89 (dk_at dksX6_command_21 16 rfl rfl)
theorem dX6_command_564 : decode cX6_command 564 = .ok (.iconst 1, 1) := dk_4 (dk_at dksX6_command_21 17 rfl rfl)
theorem dX6_command_565 : decode cX6_command 565 = .ok (.aload_n 0, 1) := dk_42 (dk_at dksX6_command_21 18 rfl rfl)
theorem dX6_command_566 : decode cX6_command 566 = .ok (.getfield 40, 3) := dk_180 0 40 (dk_at dksX6_command_21 19 rfl rfl)
theorem dX6_command_569 : decode cX6_command 569 = .ok (.invokespecial 82, 3) := dk_183 0 82 (dk_at dksX6_command_22 0 rfl rfl)
theorem dX6_command_572 : decode cX6_command 572 = .ok (.athrow, 1) := dk_191 (dk_at dksX6_command_22 3 rfl rfl)
theorem dX6_command_573 : decode cX6_command 573 = .ok (.return_, 1) := dk_177 (dk_at dksX6_command_22 4 rfl rfl)
abbrev cX6_subscriber : ByteArray := prog_7_method_12_code
def yX6_subscriber : MethodName := ⟨RX6, "subscriber", "()I"⟩
def dkwX6_subscriber_0 : List UInt8 := [42, 182, 0, 101, 60, 42, 182, 0, 92, 27, 172]
abbrev dktX6_subscriber_0 : List UInt8 := dkwX6_subscriber_0 ++ []
theorem dksX6_subscriber_0 : cX6_subscriber.data.toList.drop 0 = dktX6_subscriber_0 := by decide +kernel
theorem dX6_subscriber_0 : decode cX6_subscriber 0 = .ok (.aload_n 0, 1) := dk_42 (dk_at dksX6_subscriber_0 0 rfl rfl)
theorem dX6_subscriber_1 : decode cX6_subscriber 1 = .ok (.invokevirtual 101, 3) := dk_182 0 101 (dk_at dksX6_subscriber_0 1 rfl rfl)
theorem dX6_subscriber_4 : decode cX6_subscriber 4 = .ok (.istore_n 1, 1) := dk_60 (dk_at dksX6_subscriber_0 4 rfl rfl)
theorem dX6_subscriber_5 : decode cX6_subscriber 5 = .ok (.aload_n 0, 1) := dk_42 (dk_at dksX6_subscriber_0 5 rfl rfl)
theorem dX6_subscriber_6 : decode cX6_subscriber 6 = .ok (.invokevirtual 92, 3) := dk_182 0 92 (dk_at dksX6_subscriber_0 6 rfl rfl)
theorem dX6_subscriber_9 : decode cX6_subscriber 9 = .ok (.iload_n 1, 1) := dk_27 (dk_at dksX6_subscriber_0 9 rfl rfl)
theorem dX6_subscriber_10 : decode cX6_subscriber 10 = .ok (.ireturn, 1) := dk_172 (dk_at dksX6_subscriber_0 10 rfl rfl)
abbrev cX6_lasts : ByteArray := prog_7_method_21_code
def yX6_lasts : MethodName := ⟨RX6, "lasts", "()I"⟩
def dkwX6_lasts_0 : List UInt8 := [42, 18, 184, 182, 0, 113, 154, 0, 5, 3, 172, 42, 182, 0, 92, 42, 4, 16, 99, 182, 0, 117, 172]
abbrev dktX6_lasts_0 : List UInt8 := dkwX6_lasts_0 ++ []
theorem dksX6_lasts_0 : cX6_lasts.data.toList.drop 0 = dktX6_lasts_0 := by decide +kernel
theorem dX6_lasts_0 : decode cX6_lasts 0 = .ok (.aload_n 0, 1) := dk_42 (dk_at dksX6_lasts_0 0 rfl rfl)
theorem dX6_lasts_1 : decode cX6_lasts 1 = .ok (.ldc 184, 2) := dk_18 184 (dk_at dksX6_lasts_0 1 rfl rfl)
theorem dX6_lasts_3 : decode cX6_lasts 3 = .ok (.invokevirtual 113, 3) := dk_182 0 113 (dk_at dksX6_lasts_0 3 rfl rfl)
theorem dX6_lasts_6 : decode cX6_lasts 6 = .ok (.ifCond .ne 5, 3) := dk_154 0 5 (dk_at dksX6_lasts_0 6 rfl rfl)
theorem dX6_lasts_9 : decode cX6_lasts 9 = .ok (.iconst 0, 1) := dk_3 (dk_at dksX6_lasts_0 9 rfl rfl)
theorem dX6_lasts_10 : decode cX6_lasts 10 = .ok (.ireturn, 1) := dk_172 (dk_at dksX6_lasts_0 10 rfl rfl)
theorem dX6_lasts_11 : decode cX6_lasts 11 = .ok (.aload_n 0, 1) := dk_42 (dk_at dksX6_lasts_0 11 rfl rfl)
theorem dX6_lasts_12 : decode cX6_lasts 12 = .ok (.invokevirtual 92, 3) := dk_182 0 92 (dk_at dksX6_lasts_0 12 rfl rfl)
theorem dX6_lasts_15 : decode cX6_lasts 15 = .ok (.aload_n 0, 1) := dk_42 (dk_at dksX6_lasts_0 15 rfl rfl)
theorem dX6_lasts_16 : decode cX6_lasts 16 = .ok (.iconst 1, 1) := dk_4 (dk_at dksX6_lasts_0 16 rfl rfl)
theorem dX6_lasts_17 : decode cX6_lasts 17 = .ok (.bipush 99, 2) := dk_16 99 (dk_at dksX6_lasts_0 17 rfl rfl)
theorem dX6_lasts_19 : decode cX6_lasts 19 = .ok (.invokevirtual 117, 3) := dk_182 0 117 (dk_at dksX6_lasts_0 19 rfl rfl)
theorem dX6_lasts_22 : decode cX6_lasts 22 = .ok (.ireturn, 1) := dk_172 (dk_at dksX6_lasts_0 22 rfl rfl)
abbrev cX6_dial : ByteArray := prog_7_method_24_code
def yX6_dial : MethodName := ⟨RX6, "dial", "()V"⟩
def dkwX6_dial_3 : List UInt8 := [182, 1, 10, 181, 0, 216, 177]
abbrev dktX6_dial_3 : List UInt8 := dkwX6_dial_3 ++ []
def dkwX6_dial_2 : List UInt8 := [182, 0, 92, 42, 182, 0, 210, 62, 42, 182, 0, 122, 42, 42, 180, 0, 25, 27, 44, 182, 1, 7, 29]
abbrev dktX6_dial_2 : List UInt8 := dkwX6_dial_2 ++ dktX6_dial_3
def dkwX6_dial_1 : List UInt8 := [182, 1, 3, 192, 0, 173, 77, 42, 44, 198, 0, 7, 4, 167, 0, 4, 3, 6, 182, 0, 85, 42]
abbrev dktX6_dial_1 : List UInt8 := dkwX6_dial_1 ++ dktX6_dial_2
def dkwX6_dial_0 : List UInt8 := [42, 182, 0, 92, 42, 182, 0, 207, 60, 42, 182, 0, 142, 42, 180, 0, 25, 180, 0, 145, 42, 180, 0, 11]
abbrev dktX6_dial_0 : List UInt8 := dkwX6_dial_0 ++ dktX6_dial_1
theorem dksX6_dial_0 : cX6_dial.data.toList.drop 0 = dktX6_dial_0 := by decide +kernel
theorem dksX6_dial_1 : cX6_dial.data.toList.drop 24 = dktX6_dial_1 := dk_seg dksX6_dial_0 24 rfl rfl
theorem dksX6_dial_2 : cX6_dial.data.toList.drop 46 = dktX6_dial_2 := dk_seg dksX6_dial_1 22 rfl rfl
theorem dksX6_dial_3 : cX6_dial.data.toList.drop 69 = dktX6_dial_3 := dk_seg dksX6_dial_2 23 rfl rfl
theorem dX6_dial_0 : decode cX6_dial 0 = .ok (.aload_n 0, 1) := dk_42 (dk_at dksX6_dial_0 0 rfl rfl)
theorem dX6_dial_1 : decode cX6_dial 1 = .ok (.invokevirtual 92, 3) := dk_182 0 92 (dk_at dksX6_dial_0 1 rfl rfl)
theorem dX6_dial_4 : decode cX6_dial 4 = .ok (.aload_n 0, 1) := dk_42 (dk_at dksX6_dial_0 4 rfl rfl)
theorem dX6_dial_5 : decode cX6_dial 5 = .ok (.invokevirtual 207, 3) := dk_182 0 207 (dk_at dksX6_dial_0 5 rfl rfl)
theorem dX6_dial_8 : decode cX6_dial 8 = .ok (.istore_n 1, 1) := dk_60 (dk_at dksX6_dial_0 8 rfl rfl)
theorem dX6_dial_9 : decode cX6_dial 9 = .ok (.aload_n 0, 1) := dk_42 (dk_at dksX6_dial_0 9 rfl rfl)
theorem dX6_dial_10 : decode cX6_dial 10 = .ok (.invokevirtual 142, 3) := dk_182 0 142 (dk_at dksX6_dial_0 10 rfl rfl)
theorem dX6_dial_13 : decode cX6_dial 13 = .ok (.aload_n 0, 1) := dk_42 (dk_at dksX6_dial_0 13 rfl rfl)
theorem dX6_dial_14 : decode cX6_dial 14 = .ok (.getfield 25, 3) := dk_180 0 25 (dk_at dksX6_dial_0 14 rfl rfl)
theorem dX6_dial_17 : decode cX6_dial 17 = .ok (.getfield 145, 3) := dk_180 0 145 (dk_at dksX6_dial_0 17 rfl rfl)
theorem dX6_dial_20 : decode cX6_dial 20 = .ok (.aload_n 0, 1) := dk_42 (dk_at dksX6_dial_0 20 rfl rfl)
theorem dX6_dial_21 : decode cX6_dial 21 = .ok (.getfield 11, 3) := dk_180 0 11 (dk_at dksX6_dial_0 21 rfl rfl)
theorem dX6_dial_24 : decode cX6_dial 24 = .ok (.invokevirtual 259, 3) := dk_182 1 3 (dk_at dksX6_dial_1 0 rfl rfl)
theorem dX6_dial_27 : decode cX6_dial 27 = .ok (.checkcast 173, 3) := dk_192 0 173 (dk_at dksX6_dial_1 3 rfl rfl)
theorem dX6_dial_30 : decode cX6_dial 30 = .ok (.astore_n 2, 1) := dk_77 (dk_at dksX6_dial_1 6 rfl rfl)
theorem dX6_dial_31 : decode cX6_dial 31 = .ok (.aload_n 0, 1) := dk_42 (dk_at dksX6_dial_1 7 rfl rfl)
theorem dX6_dial_32 : decode cX6_dial 32 = .ok (.aload_n 2, 1) := dk_44 (dk_at dksX6_dial_1 8 rfl rfl)
theorem dX6_dial_33 : decode cX6_dial 33 = .ok (.ifnull 7, 3) := dk_198 0 7 (dk_at dksX6_dial_1 9 rfl rfl)
theorem dX6_dial_36 : decode cX6_dial 36 = .ok (.iconst 1, 1) := dk_4 (dk_at dksX6_dial_1 12 rfl rfl)
theorem dX6_dial_37 : decode cX6_dial 37 = .ok (.goto 4, 3) := dk_167 0 4 (dk_at dksX6_dial_1 13 rfl rfl)
theorem dX6_dial_40 : decode cX6_dial 40 = .ok (.iconst 0, 1) := dk_3 (dk_at dksX6_dial_1 16 rfl rfl)
theorem dX6_dial_41 : decode cX6_dial 41 = .ok (.iconst 3, 1) := dk_6 (dk_at dksX6_dial_1 17 rfl rfl)
theorem dX6_dial_42 : decode cX6_dial 42 = .ok (.invokevirtual 85, 3) := dk_182 0 85 (dk_at dksX6_dial_1 18 rfl rfl)
theorem dX6_dial_45 : decode cX6_dial 45 = .ok (.aload_n 0, 1) := dk_42 (dk_at dksX6_dial_1 21 rfl rfl)
theorem dX6_dial_46 : decode cX6_dial 46 = .ok (.invokevirtual 92, 3) := dk_182 0 92 (dk_at dksX6_dial_2 0 rfl rfl)
theorem dX6_dial_49 : decode cX6_dial 49 = .ok (.aload_n 0, 1) := dk_42 (dk_at dksX6_dial_2 3 rfl rfl)
theorem dX6_dial_50 : decode cX6_dial 50 = .ok (.invokevirtual 210, 3) := dk_182 0 210 (dk_at dksX6_dial_2 4 rfl rfl)
theorem dX6_dial_53 : decode cX6_dial 53 = .ok (.istore_n 3, 1) := dk_62 (dk_at dksX6_dial_2 7 rfl rfl)
theorem dX6_dial_54 : decode cX6_dial 54 = .ok (.aload_n 0, 1) := dk_42 (dk_at dksX6_dial_2 8 rfl rfl)
theorem dX6_dial_55 : decode cX6_dial 55 = .ok (.invokevirtual 122, 3) := dk_182 0 122 (dk_at dksX6_dial_2 9 rfl rfl)
theorem dX6_dial_58 : decode cX6_dial 58 = .ok (.aload_n 0, 1) := dk_42 (dk_at dksX6_dial_2 12 rfl rfl)
theorem dX6_dial_59 : decode cX6_dial 59 = .ok (.aload_n 0, 1) := dk_42 (dk_at dksX6_dial_2 13 rfl rfl)
theorem dX6_dial_60 : decode cX6_dial 60 = .ok (.getfield 25, 3) := dk_180 0 25 (dk_at dksX6_dial_2 14 rfl rfl)
theorem dX6_dial_63 : decode cX6_dial 63 = .ok (.iload_n 1, 1) := dk_27 (dk_at dksX6_dial_2 17 rfl rfl)
theorem dX6_dial_64 : decode cX6_dial 64 = .ok (.aload_n 2, 1) := dk_44 (dk_at dksX6_dial_2 18 rfl rfl)
theorem dX6_dial_65 : decode cX6_dial 65 = .ok (.invokevirtual 263, 3) := dk_182 1 7 (dk_at dksX6_dial_2 19 rfl rfl)
theorem dX6_dial_68 : decode cX6_dial 68 = .ok (.iload_n 3, 1) := dk_29 (dk_at dksX6_dial_2 22 rfl rfl)
theorem dX6_dial_69 : decode cX6_dial 69 = .ok (.invokevirtual 266, 3) := dk_182 1 10 (dk_at dksX6_dial_3 0 rfl rfl)
theorem dX6_dial_72 : decode cX6_dial 72 = .ok (.putfield 216, 3) := dk_181 0 216 (dk_at dksX6_dial_3 3 rfl rfl)
theorem dX6_dial_75 : decode cX6_dial 75 = .ok (.return_, 1) := dk_177 (dk_at dksX6_dial_3 6 rfl rfl)
abbrev cX6_cutOrMend : ByteArray := prog_7_method_25_code
def yX6_cutOrMend : MethodName := ⟨RX6, "cutOrMend", "(Z)V"⟩
def dkwX6_cutOrMend_3 : List UInt8 := [182, 1, 20, 181, 0, 216, 177]
abbrev dktX6_cutOrMend_3 : List UInt8 := dkwX6_cutOrMend_3 ++ []
def dkwX6_cutOrMend_2 : List UInt8 := [182, 0, 122, 42, 27, 153, 0, 14, 42, 180, 0, 25, 28, 182, 1, 18, 167, 0, 11, 42, 180, 0, 25, 28]
abbrev dktX6_cutOrMend_2 : List UInt8 := dkwX6_cutOrMend_2 ++ dktX6_cutOrMend_3
def dkwX6_cutOrMend_1 : List UInt8 := [28, 182, 1, 15, 27, 160, 0, 7, 4, 167, 0, 4, 3, 16, 6, 182, 0, 85, 42, 182, 0, 92, 42]
abbrev dktX6_cutOrMend_1 : List UInt8 := dkwX6_cutOrMend_1 ++ dktX6_cutOrMend_2
def dkwX6_cutOrMend_0 : List UInt8 := [42, 182, 0, 92, 42, 3, 42, 180, 0, 25, 180, 1, 12, 4, 100, 182, 0, 89, 61, 42, 42, 180, 0, 25]
abbrev dktX6_cutOrMend_0 : List UInt8 := dkwX6_cutOrMend_0 ++ dktX6_cutOrMend_1
theorem dksX6_cutOrMend_0 : cX6_cutOrMend.data.toList.drop 0 = dktX6_cutOrMend_0 := by decide +kernel
theorem dksX6_cutOrMend_1 : cX6_cutOrMend.data.toList.drop 24 = dktX6_cutOrMend_1 := dk_seg dksX6_cutOrMend_0 24 rfl rfl
theorem dksX6_cutOrMend_2 : cX6_cutOrMend.data.toList.drop 47 = dktX6_cutOrMend_2 := dk_seg dksX6_cutOrMend_1 23 rfl rfl
theorem dksX6_cutOrMend_3 : cX6_cutOrMend.data.toList.drop 71 = dktX6_cutOrMend_3 := dk_seg dksX6_cutOrMend_2 24 rfl rfl
theorem dX6_cutOrMend_0 : decode cX6_cutOrMend 0 = .ok (.aload_n 0, 1) := dk_42 (dk_at dksX6_cutOrMend_0 0 rfl rfl)
theorem dX6_cutOrMend_1 : decode cX6_cutOrMend 1 = .ok (.invokevirtual 92, 3) := dk_182 0 92 (dk_at dksX6_cutOrMend_0 1 rfl rfl)
theorem dX6_cutOrMend_4 : decode cX6_cutOrMend 4 = .ok (.aload_n 0, 1) := dk_42 (dk_at dksX6_cutOrMend_0 4 rfl rfl)
theorem dX6_cutOrMend_5 : decode cX6_cutOrMend 5 = .ok (.iconst 0, 1) := dk_3 (dk_at dksX6_cutOrMend_0 5 rfl rfl)
theorem dX6_cutOrMend_6 : decode cX6_cutOrMend 6 = .ok (.aload_n 0, 1) := dk_42 (dk_at dksX6_cutOrMend_0 6 rfl rfl)
theorem dX6_cutOrMend_7 : decode cX6_cutOrMend 7 = .ok (.getfield 25, 3) := dk_180 0 25 (dk_at dksX6_cutOrMend_0 7 rfl rfl)
theorem dX6_cutOrMend_10 : decode cX6_cutOrMend 10 = .ok (.getfield 268, 3) := dk_180 1 12 (dk_at dksX6_cutOrMend_0 10 rfl rfl)
theorem dX6_cutOrMend_13 : decode cX6_cutOrMend 13 = .ok (.iconst 1, 1) := dk_4 (dk_at dksX6_cutOrMend_0 13 rfl rfl)
theorem dX6_cutOrMend_14 : decode cX6_cutOrMend 14 = .ok (.isub, 1) := dk_100 (dk_at dksX6_cutOrMend_0 14 rfl rfl)
theorem dX6_cutOrMend_15 : decode cX6_cutOrMend 15 = .ok (.invokevirtual 89, 3) := dk_182 0 89 (dk_at dksX6_cutOrMend_0 15 rfl rfl)
theorem dX6_cutOrMend_18 : decode cX6_cutOrMend 18 = .ok (.istore_n 2, 1) := dk_61 (dk_at dksX6_cutOrMend_0 18 rfl rfl)
theorem dX6_cutOrMend_19 : decode cX6_cutOrMend 19 = .ok (.aload_n 0, 1) := dk_42 (dk_at dksX6_cutOrMend_0 19 rfl rfl)
theorem dX6_cutOrMend_20 : decode cX6_cutOrMend 20 = .ok (.aload_n 0, 1) := dk_42 (dk_at dksX6_cutOrMend_0 20 rfl rfl)
theorem dX6_cutOrMend_21 : decode cX6_cutOrMend 21 = .ok (.getfield 25, 3) := dk_180 0 25 (dk_at dksX6_cutOrMend_0 21 rfl rfl)
theorem dX6_cutOrMend_24 : decode cX6_cutOrMend 24 = .ok (.iload_n 2, 1) := dk_28 (dk_at dksX6_cutOrMend_1 0 rfl rfl)
theorem dX6_cutOrMend_25 : decode cX6_cutOrMend 25 = .ok (.invokevirtual 271, 3) := dk_182 1 15 (dk_at dksX6_cutOrMend_1 1 rfl rfl)
theorem dX6_cutOrMend_28 : decode cX6_cutOrMend 28 = .ok (.iload_n 1, 1) := dk_27 (dk_at dksX6_cutOrMend_1 4 rfl rfl)
theorem dX6_cutOrMend_29 : decode cX6_cutOrMend 29 = .ok (.if_icmp .ne 7, 3) := dk_160 0 7 (dk_at dksX6_cutOrMend_1 5 rfl rfl)
theorem dX6_cutOrMend_32 : decode cX6_cutOrMend 32 = .ok (.iconst 1, 1) := dk_4 (dk_at dksX6_cutOrMend_1 8 rfl rfl)
theorem dX6_cutOrMend_33 : decode cX6_cutOrMend 33 = .ok (.goto 4, 3) := dk_167 0 4 (dk_at dksX6_cutOrMend_1 9 rfl rfl)
theorem dX6_cutOrMend_36 : decode cX6_cutOrMend 36 = .ok (.iconst 0, 1) := dk_3 (dk_at dksX6_cutOrMend_1 12 rfl rfl)
theorem dX6_cutOrMend_37 : decode cX6_cutOrMend 37 = .ok (.bipush 6, 2) := dk_16 6 (dk_at dksX6_cutOrMend_1 13 rfl rfl)
theorem dX6_cutOrMend_39 : decode cX6_cutOrMend 39 = .ok (.invokevirtual 85, 3) := dk_182 0 85 (dk_at dksX6_cutOrMend_1 15 rfl rfl)
theorem dX6_cutOrMend_42 : decode cX6_cutOrMend 42 = .ok (.aload_n 0, 1) := dk_42 (dk_at dksX6_cutOrMend_1 18 rfl rfl)
theorem dX6_cutOrMend_43 : decode cX6_cutOrMend 43 = .ok (.invokevirtual 92, 3) := dk_182 0 92 (dk_at dksX6_cutOrMend_1 19 rfl rfl)
theorem dX6_cutOrMend_46 : decode cX6_cutOrMend 46 = .ok (.aload_n 0, 1) := dk_42 (dk_at dksX6_cutOrMend_1 22 rfl rfl)
theorem dX6_cutOrMend_47 : decode cX6_cutOrMend 47 = .ok (.invokevirtual 122, 3) := dk_182 0 122 (dk_at dksX6_cutOrMend_2 0 rfl rfl)
theorem dX6_cutOrMend_50 : decode cX6_cutOrMend 50 = .ok (.aload_n 0, 1) := dk_42 (dk_at dksX6_cutOrMend_2 3 rfl rfl)
theorem dX6_cutOrMend_51 : decode cX6_cutOrMend 51 = .ok (.iload_n 1, 1) := dk_27 (dk_at dksX6_cutOrMend_2 4 rfl rfl)
theorem dX6_cutOrMend_52 : decode cX6_cutOrMend 52 = .ok (.ifCond .eq 14, 3) := dk_153 0 14 (dk_at dksX6_cutOrMend_2 5 rfl rfl)
theorem dX6_cutOrMend_55 : decode cX6_cutOrMend 55 = .ok (.aload_n 0, 1) := dk_42 (dk_at dksX6_cutOrMend_2 8 rfl rfl)
theorem dX6_cutOrMend_56 : decode cX6_cutOrMend 56 = .ok (.getfield 25, 3) := dk_180 0 25 (dk_at dksX6_cutOrMend_2 9 rfl rfl)
theorem dX6_cutOrMend_59 : decode cX6_cutOrMend 59 = .ok (.iload_n 2, 1) := dk_28 (dk_at dksX6_cutOrMend_2 12 rfl rfl)
theorem dX6_cutOrMend_60 : decode cX6_cutOrMend 60 = .ok (.invokevirtual 274, 3) := dk_182 1 18 (dk_at dksX6_cutOrMend_2 13 rfl rfl)
theorem dX6_cutOrMend_63 : decode cX6_cutOrMend 63 = .ok (.goto 11, 3) := dk_167 0 11 (dk_at dksX6_cutOrMend_2 16 rfl rfl)
theorem dX6_cutOrMend_66 : decode cX6_cutOrMend 66 = .ok (.aload_n 0, 1) := dk_42 (dk_at dksX6_cutOrMend_2 19 rfl rfl)
theorem dX6_cutOrMend_67 : decode cX6_cutOrMend 67 = .ok (.getfield 25, 3) := dk_180 0 25 (dk_at dksX6_cutOrMend_2 20 rfl rfl)
theorem dX6_cutOrMend_70 : decode cX6_cutOrMend 70 = .ok (.iload_n 2, 1) := dk_28 (dk_at dksX6_cutOrMend_2 23 rfl rfl)
theorem dX6_cutOrMend_71 : decode cX6_cutOrMend 71 = .ok (.invokevirtual 276, 3) := dk_182 1 20 (dk_at dksX6_cutOrMend_3 0 rfl rfl)
theorem dX6_cutOrMend_74 : decode cX6_cutOrMend 74 = .ok (.putfield 216, 3) := dk_181 0 216 (dk_at dksX6_cutOrMend_3 3 rfl rfl)
theorem dX6_cutOrMend_77 : decode cX6_cutOrMend 77 = .ok (.return_, 1) := dk_177 (dk_at dksX6_cutOrMend_3 6 rfl rfl)
abbrev cX6_choice : ByteArray := prog_7_method_22_code
def yX6_choice : MethodName := ⟨RX6, "choice", "([Ljava/lang/String;)I"⟩
def dkwX6_choice_2 : List UInt8 := [182, 0, 92, 28, 172]
abbrev dktX6_choice_2 : List UInt8 := dkwX6_choice_2 ++ []
def dkwX6_choice_1 : List UInt8 := [29, 61, 132, 3, 1, 167, 255, 235, 42, 28, 2, 159, 0, 7, 4, 167, 0, 4, 3, 4, 182, 0, 85, 42]
abbrev dktX6_choice_1 : List UInt8 := dkwX6_choice_1 ++ dktX6_choice_2
def dkwX6_choice_0 : List UInt8 := [42, 182, 0, 92, 2, 61, 3, 62, 29, 43, 190, 162, 0, 21, 42, 43, 29, 50, 182, 0, 113, 153, 0, 5]
abbrev dktX6_choice_0 : List UInt8 := dkwX6_choice_0 ++ dktX6_choice_1
theorem dksX6_choice_0 : cX6_choice.data.toList.drop 0 = dktX6_choice_0 := by decide +kernel
theorem dksX6_choice_1 : cX6_choice.data.toList.drop 24 = dktX6_choice_1 := dk_seg dksX6_choice_0 24 rfl rfl
theorem dksX6_choice_2 : cX6_choice.data.toList.drop 48 = dktX6_choice_2 := dk_seg dksX6_choice_1 24 rfl rfl
theorem dX6_choice_0 : decode cX6_choice 0 = .ok (.aload_n 0, 1) := dk_42 (dk_at dksX6_choice_0 0 rfl rfl)
theorem dX6_choice_1 : decode cX6_choice 1 = .ok (.invokevirtual 92, 3) := dk_182 0 92 (dk_at dksX6_choice_0 1 rfl rfl)
theorem dX6_choice_4 : decode cX6_choice 4 = .ok (.iconst (-1), 1) := dk_2 (dk_at dksX6_choice_0 4 rfl rfl)
theorem dX6_choice_5 : decode cX6_choice 5 = .ok (.istore_n 2, 1) := dk_61 (dk_at dksX6_choice_0 5 rfl rfl)
theorem dX6_choice_6 : decode cX6_choice 6 = .ok (.iconst 0, 1) := dk_3 (dk_at dksX6_choice_0 6 rfl rfl)
theorem dX6_choice_7 : decode cX6_choice 7 = .ok (.istore_n 3, 1) := dk_62 (dk_at dksX6_choice_0 7 rfl rfl)
theorem dX6_choice_8 : decode cX6_choice 8 = .ok (.iload_n 3, 1) := dk_29 (dk_at dksX6_choice_0 8 rfl rfl)
theorem dX6_choice_9 : decode cX6_choice 9 = .ok (.aload_n 1, 1) := dk_43 (dk_at dksX6_choice_0 9 rfl rfl)
theorem dX6_choice_10 : decode cX6_choice 10 = .ok (.arraylength, 1) := dk_190 (dk_at dksX6_choice_0 10 rfl rfl)
theorem dX6_choice_11 : decode cX6_choice 11 = .ok (.if_icmp .ge 21, 3) := dk_162 0 21 (dk_at dksX6_choice_0 11 rfl rfl)
theorem dX6_choice_14 : decode cX6_choice 14 = .ok (.aload_n 0, 1) := dk_42 (dk_at dksX6_choice_0 14 rfl rfl)
theorem dX6_choice_15 : decode cX6_choice 15 = .ok (.aload_n 1, 1) := dk_43 (dk_at dksX6_choice_0 15 rfl rfl)
theorem dX6_choice_16 : decode cX6_choice 16 = .ok (.iload_n 3, 1) := dk_29 (dk_at dksX6_choice_0 16 rfl rfl)
theorem dX6_choice_17 : decode cX6_choice 17 = .ok (.aaload, 1) := dk_50 (dk_at dksX6_choice_0 17 rfl rfl)
theorem dX6_choice_18 : decode cX6_choice 18 = .ok (.invokevirtual 113, 3) := dk_182 0 113 (dk_at dksX6_choice_0 18 rfl rfl)
theorem dX6_choice_21 : decode cX6_choice 21 = .ok (.ifCond .eq 5, 3) := dk_153 0 5 (dk_at dksX6_choice_0 21 rfl rfl)
theorem dX6_choice_24 : decode cX6_choice 24 = .ok (.iload_n 3, 1) := dk_29 (dk_at dksX6_choice_1 0 rfl rfl)
theorem dX6_choice_25 : decode cX6_choice 25 = .ok (.istore_n 2, 1) := dk_61 (dk_at dksX6_choice_1 1 rfl rfl)
theorem dX6_choice_26 : decode cX6_choice 26 = .ok (.iinc 3 1, 3) := dk_132 3 1 (dk_at dksX6_choice_1 2 rfl rfl)
theorem dX6_choice_29 : decode cX6_choice 29 = .ok (.goto (-21), 3) := dk_167 255 235 (dk_at dksX6_choice_1 5 rfl rfl)
theorem dX6_choice_32 : decode cX6_choice 32 = .ok (.aload_n 0, 1) := dk_42 (dk_at dksX6_choice_1 8 rfl rfl)
theorem dX6_choice_33 : decode cX6_choice 33 = .ok (.iload_n 2, 1) := dk_28 (dk_at dksX6_choice_1 9 rfl rfl)
theorem dX6_choice_34 : decode cX6_choice 34 = .ok (.iconst (-1), 1) := dk_2 (dk_at dksX6_choice_1 10 rfl rfl)
theorem dX6_choice_35 : decode cX6_choice 35 = .ok (.if_icmp .eq 7, 3) := dk_159 0 7 (dk_at dksX6_choice_1 11 rfl rfl)
theorem dX6_choice_38 : decode cX6_choice 38 = .ok (.iconst 1, 1) := dk_4 (dk_at dksX6_choice_1 14 rfl rfl)
theorem dX6_choice_39 : decode cX6_choice 39 = .ok (.goto 4, 3) := dk_167 0 4 (dk_at dksX6_choice_1 15 rfl rfl)
theorem dX6_choice_42 : decode cX6_choice 42 = .ok (.iconst 0, 1) := dk_3 (dk_at dksX6_choice_1 18 rfl rfl)
theorem dX6_choice_43 : decode cX6_choice 43 = .ok (.iconst 1, 1) := dk_4 (dk_at dksX6_choice_1 19 rfl rfl)
theorem dX6_choice_44 : decode cX6_choice 44 = .ok (.invokevirtual 85, 3) := dk_182 0 85 (dk_at dksX6_choice_1 20 rfl rfl)
theorem dX6_choice_47 : decode cX6_choice 47 = .ok (.aload_n 0, 1) := dk_42 (dk_at dksX6_choice_1 23 rfl rfl)
theorem dX6_choice_48 : decode cX6_choice 48 = .ok (.invokevirtual 92, 3) := dk_182 0 92 (dk_at dksX6_choice_2 0 rfl rfl)
theorem dX6_choice_51 : decode cX6_choice 51 = .ok (.iload_n 2, 1) := dk_28 (dk_at dksX6_choice_2 3 rfl rfl)
theorem dX6_choice_52 : decode cX6_choice 52 = .ok (.ireturn, 1) := dk_172 (dk_at dksX6_choice_2 4 rfl rfl)
abbrev cX6_readOn : ByteArray := prog_7_method_19_code
def yX6_readOn : MethodName := ⟨RX6, "readOn", "()I"⟩
def dkwX6_readOn_0 : List UInt8 := [42, 182, 0, 92, 42, 182, 0, 130, 172]
abbrev dktX6_readOn_0 : List UInt8 := dkwX6_readOn_0 ++ []
theorem dksX6_readOn_0 : cX6_readOn.data.toList.drop 0 = dktX6_readOn_0 := by decide +kernel
theorem dX6_readOn_0 : decode cX6_readOn 0 = .ok (.aload_n 0, 1) := dk_42 (dk_at dksX6_readOn_0 0 rfl rfl)
theorem dX6_readOn_1 : decode cX6_readOn 1 = .ok (.invokevirtual 92, 3) := dk_182 0 92 (dk_at dksX6_readOn_0 1 rfl rfl)
theorem dX6_readOn_4 : decode cX6_readOn 4 = .ok (.aload_n 0, 1) := dk_42 (dk_at dksX6_readOn_0 4 rfl rfl)
theorem dX6_readOn_5 : decode cX6_readOn 5 = .ok (.invokevirtual 130, 3) := dk_182 0 130 (dk_at dksX6_readOn_0 5 rfl rfl)
theorem dX6_readOn_8 : decode cX6_readOn 8 = .ok (.ireturn, 1) := dk_172 (dk_at dksX6_readOn_0 8 rfl rfl)
theorem q188 : (Jvm.Cond.initialized "CrossbarExchange$Reader") ∈ lw_all := lw_g (lw_at lw_m1 37 rfl) rfl
theorem q346 : (Jvm.Cond.fieldLinkNest "CrossbarExchange$Reader" (268 : Nat) "CrossbarExchange$Exchange" "middles" "I" "CrossbarExchange") ∈ lw_tbl := lw_at lw_m1 195 rfl
theorem q354 : (Jvm.Cond.fieldLinkNest "CrossbarExchange$Reader" (145 : Nat) "CrossbarExchange$Exchange" "names" "Ljava/util/LinkedHashMap;" "CrossbarExchange") ∈ lw_tbl := lw_at lw_m1 203 rfl
theorem q356 : (Jvm.Cond.fieldLinkNest "CrossbarExchange$Reader" (133 : Nat) "CrossbarExchange$Exchange" "groups" "Ljava/util/List;" "CrossbarExchange") ∈ lw_tbl := lw_at lw_m1 205 rfl
theorem q366 : (Jvm.Cond.fieldLinkNest "CrossbarExchange$Reader" (227 : Nat) "CrossbarExchange$Exchange" "tick" "I" "CrossbarExchange") ∈ lw_tbl := lw_at lw_m1 215 rfl
theorem q369 : (Jvm.Cond.fieldLinkNest "CrossbarExchange$Reader" (244 : Nat) "CrossbarExchange$Exchange" "mode" "I" "CrossbarExchange") ∈ lw_tbl := lw_at lw_m1 218 rfl
theorem q372 : (Jvm.Cond.fieldLinkNest "CrossbarExchange$Reader" (255 : Nat) "CrossbarExchange$Exchange" "hunt" "I" "CrossbarExchange") ∈ lw_tbl := lw_at lw_m1 221 rfl
theorem q426 : (Jvm.Cond.fieldLinkNest "CrossbarExchange$Reader" (169 : Nat) "CrossbarExchange$Group" "members" "Ljava/util/List;" "CrossbarExchange") ∈ lw_tbl := lw_at lw_m2 35 rfl
theorem q497 : (Jvm.Cond.selects "CrossbarExchange$Reader" ({ cls := "java/lang/Object", name := "getClass", desc := "()Ljava/lang/Class;" } : Jvm.MethodName) ({ cls := "java/lang/Object", name := "getClass", desc := "()Ljava/lang/Class;" } : Jvm.MethodName)) ∈ lw_all := lw_g (lw_at lw_m2 106 rfl) rfl
theorem q571 : (Jvm.Cond.selects "CrossbarExchange$Reader" ({ cls := "java/lang/Object", name := "hashCode", desc := "()I" } : Jvm.MethodName) ({ cls := "java/lang/Object", name := "hashCode", desc := "()I" } : Jvm.MethodName)) ∈ lw_all := lw_g (lw_at lw_m2 180 rfl) rfl
theorem q1305 : (Jvm.Cond.selects "CrossbarExchange$Reader" ({ cls := "java/lang/Object", name := "equals", desc := "(Ljava/lang/Object;)Z" } : Jvm.MethodName) ({ cls := "java/lang/Object", name := "equals", desc := "(Ljava/lang/Object;)Z" } : Jvm.MethodName)) ∈ lw_all := lw_g (lw_at lw_m5 194 rfl) rfl
theorem q1475 : (Jvm.Cond.instantiable "CrossbarExchange$Reader" (9 : Nat)) ∈ lw_all := lw_g (lw_at lw_m6 124 rfl) rfl
theorem q1477 : (Jvm.Cond.instanceMethod ({ cls := "CrossbarExchange$Reader", name := "<init>", desc := "([BILCrossbarExchange$Exchange;)V" } : Jvm.MethodName)) ∈ lw_all := lw_g (lw_at lw_m6 126 rfl) rfl
theorem q1478 : (Jvm.Cond.code ({ cls := "CrossbarExchange$Reader", name := "<init>", desc := "([BILCrossbarExchange$Exchange;)V" } : Jvm.MethodName) prog_7_method_1_code (4 : Nat) (Option.none : Option Jvm.ClassFile.FieldType)) ∈ lw_all := lw_g (lw_at lw_m6 127 rfl) rfl
theorem q1479 : (Jvm.Cond.methodLink "CrossbarExchange$Reader" (3 : Nat) ({ cls := "java/lang/Object", name := "<init>", desc := "()V" } : Jvm.MethodName)) ∈ lw_all := lw_g (lw_at lw_m6 128 rfl) rfl
theorem q1480 : (Jvm.Cond.stringRef "CrossbarExchange$Reader" (9 : Nat) "") ∈ lw_tbl := lw_at lw_m6 129 rfl
theorem q1481 : (Jvm.Cond.fieldLink "CrossbarExchange$Reader" (17 : Nat) "CrossbarExchange$Reader" "bytes" "[B") ∈ lw_all := lw_g (lw_at lw_m6 130 rfl) rfl
theorem q1482 : (Jvm.Cond.fieldLink "CrossbarExchange$Reader" (21 : Nat) "CrossbarExchange$Reader" "length" "I") ∈ lw_all := lw_g (lw_at lw_m6 131 rfl) rfl
theorem q1483 : (Jvm.Cond.fieldLink "CrossbarExchange$Reader" (25 : Nat) "CrossbarExchange$Reader" "exchange" "LCrossbarExchange$Exchange;") ∈ lw_all := lw_g (lw_at lw_m6 132 rfl) rfl
theorem q1484 : (Jvm.Cond.fieldLink "CrossbarExchange$Reader" (37 : Nat) "CrossbarExchange$Reader" "to" "I") ∈ lw_all := lw_g (lw_at lw_m6 133 rfl) rfl
theorem q1485 : (Jvm.Cond.fieldLink "CrossbarExchange$Reader" (40 : Nat) "CrossbarExchange$Reader" "from" "I") ∈ lw_all := lw_g (lw_at lw_m6 134 rfl) rfl
theorem q1486 : (Jvm.Cond.fieldLink "CrossbarExchange$Reader" (43 : Nat) "CrossbarExchange$Reader" "kind" "I") ∈ lw_all := lw_g (lw_at lw_m6 135 rfl) rfl
theorem q1487 : (Jvm.Cond.fieldLink "CrossbarExchange$Reader" (70 : Nat) "CrossbarExchange$Reader" "number" "I") ∈ lw_all := lw_g (lw_at lw_m6 136 rfl) rfl
theorem q1488 : (Jvm.Cond.fieldLink "CrossbarExchange$Reader" (11 : Nat) "CrossbarExchange$Reader" "word" "Ljava/lang/String;") ∈ lw_all := lw_g (lw_at lw_m6 137 rfl) rfl
theorem q1489 : (Jvm.Cond.fieldLink "CrossbarExchange$Reader" (216 : Nat) "CrossbarExchange$Reader" "told" "I") ∈ lw_all := lw_g (lw_at lw_m6 138 rfl) rfl
theorem q1490 : (Jvm.Cond.laysFinal "CrossbarExchange$Reader" "CrossbarExchange$Reader" "bytes" "[B") ∈ lw_all := lw_g (lw_at lw_m6 139 rfl) rfl
theorem q1491 : (Jvm.Cond.soleField "CrossbarExchange$Reader" "bytes") ∈ lw_all := lw_g (lw_at lw_m6 140 rfl) rfl
theorem q1492 : (Jvm.Cond.laysFinal "CrossbarExchange$Reader" "CrossbarExchange$Reader" "length" "I") ∈ lw_all := lw_g (lw_at lw_m6 141 rfl) rfl
theorem q1493 : (Jvm.Cond.soleField "CrossbarExchange$Reader" "length") ∈ lw_all := lw_g (lw_at lw_m6 142 rfl) rfl
theorem q1494 : (Jvm.Cond.lays "CrossbarExchange$Reader" "CrossbarExchange$Reader" "exchange" "LCrossbarExchange$Exchange;") ∈ lw_all := lw_g (lw_at lw_m6 143 rfl) rfl
theorem q1495 : (Jvm.Cond.soleField "CrossbarExchange$Reader" "exchange") ∈ lw_all := lw_g (lw_at lw_m6 144 rfl) rfl
theorem q1496 : (Jvm.Cond.lays "CrossbarExchange$Reader" "CrossbarExchange$Reader" "to" "I") ∈ lw_all := lw_g (lw_at lw_m6 145 rfl) rfl
theorem q1497 : (Jvm.Cond.soleField "CrossbarExchange$Reader" "to") ∈ lw_all := lw_g (lw_at lw_m6 146 rfl) rfl
theorem q1498 : (Jvm.Cond.lays "CrossbarExchange$Reader" "CrossbarExchange$Reader" "from" "I") ∈ lw_all := lw_g (lw_at lw_m6 147 rfl) rfl
theorem q1499 : (Jvm.Cond.soleField "CrossbarExchange$Reader" "from") ∈ lw_all := lw_g (lw_at lw_m6 148 rfl) rfl
theorem q1500 : (Jvm.Cond.lays "CrossbarExchange$Reader" "CrossbarExchange$Reader" "kind" "I") ∈ lw_all := lw_g (lw_at lw_m6 149 rfl) rfl
theorem q1501 : (Jvm.Cond.soleField "CrossbarExchange$Reader" "kind") ∈ lw_all := lw_g (lw_at lw_m6 150 rfl) rfl
theorem q1502 : (Jvm.Cond.lays "CrossbarExchange$Reader" "CrossbarExchange$Reader" "number" "I") ∈ lw_all := lw_g (lw_at lw_m6 151 rfl) rfl
theorem q1503 : (Jvm.Cond.soleField "CrossbarExchange$Reader" "number") ∈ lw_all := lw_g (lw_at lw_m6 152 rfl) rfl
theorem q1504 : (Jvm.Cond.lays "CrossbarExchange$Reader" "CrossbarExchange$Reader" "word" "Ljava/lang/String;") ∈ lw_all := lw_g (lw_at lw_m6 153 rfl) rfl
theorem q1505 : (Jvm.Cond.soleField "CrossbarExchange$Reader" "word") ∈ lw_all := lw_g (lw_at lw_m6 154 rfl) rfl
theorem q1506 : (Jvm.Cond.lays "CrossbarExchange$Reader" "CrossbarExchange$Reader" "told" "I") ∈ lw_all := lw_g (lw_at lw_m6 155 rfl) rfl
theorem q1507 : (Jvm.Cond.soleField "CrossbarExchange$Reader" "told") ∈ lw_all := lw_g (lw_at lw_m6 156 rfl) rfl
theorem q1508 : (Jvm.Cond.superclass "CrossbarExchange$Reader" "java/lang/Object") ∈ lw_all := lw_g (lw_at lw_m6 157 rfl) rfl
theorem q1510 : (Jvm.Cond.instanceMethod ({ cls := "CrossbarExchange$Reader", name := "readWhole", desc := "()LCrossbarExchange$Exchange;" } : Jvm.MethodName)) ∈ lw_all := lw_g (lw_at lw_m6 159 rfl) rfl
theorem q1511 : (Jvm.Cond.selects "CrossbarExchange$Reader" ({ cls := "CrossbarExchange$Reader", name := "readWhole", desc := "()LCrossbarExchange$Exchange;" } : Jvm.MethodName) ({ cls := "CrossbarExchange$Reader", name := "readWhole", desc := "()LCrossbarExchange$Exchange;" } : Jvm.MethodName)) ∈ lw_all := lw_g (lw_at lw_m6 160 rfl) rfl
theorem q1512 : (Jvm.Cond.code ({ cls := "CrossbarExchange$Reader", name := "readWhole", desc := "()LCrossbarExchange$Exchange;" } : Jvm.MethodName) prog_7_method_16_code (4 : Nat) (Option.some (Jvm.ClassFile.FieldType.object "CrossbarExchange$Exchange"))) ∈ lw_all := lw_g (lw_at lw_m6 161 rfl) rfl
theorem q1513 : (Jvm.Cond.methodLink "CrossbarExchange$Reader" (92 : Nat) ({ cls := "CrossbarExchange$Reader", name := "next", desc := "()V" } : Jvm.MethodName)) ∈ lw_all := lw_g (lw_at lw_m6 162 rfl) rfl
theorem q1514 : (Jvm.Cond.privateMethod ({ cls := "CrossbarExchange$Reader", name := "next", desc := "()V" } : Jvm.MethodName)) ∈ lw_tbl := lw_at lw_m6 163 rfl
theorem q1515 : (Jvm.Cond.instanceMethod ({ cls := "CrossbarExchange$Reader", name := "next", desc := "()V" } : Jvm.MethodName)) ∈ lw_all := lw_g (lw_at lw_m6 164 rfl) rfl
theorem q1516 : (Jvm.Cond.code ({ cls := "CrossbarExchange$Reader", name := "next", desc := "()V" } : Jvm.MethodName) prog_7_method_5_code (1 : Nat) (Option.none : Option Jvm.ClassFile.FieldType)) ∈ lw_all := lw_g (lw_at lw_m6 165 rfl) rfl
theorem q1517 : (Jvm.Cond.methodLink "CrossbarExchange$Reader" (29 : Nat) ({ cls := "CrossbarExchange$Reader", name := "at", desc := "(I)I" } : Jvm.MethodName)) ∈ lw_all := lw_g (lw_at lw_m6 166 rfl) rfl
theorem q1518 : (Jvm.Cond.privateMethod ({ cls := "CrossbarExchange$Reader", name := "at", desc := "(I)I" } : Jvm.MethodName)) ∈ lw_tbl := lw_at lw_m6 167 rfl
theorem q1519 : (Jvm.Cond.instanceMethod ({ cls := "CrossbarExchange$Reader", name := "at", desc := "(I)I" } : Jvm.MethodName)) ∈ lw_all := lw_g (lw_at lw_m6 168 rfl) rfl
theorem q1520 : (Jvm.Cond.code ({ cls := "CrossbarExchange$Reader", name := "at", desc := "(I)I" } : Jvm.MethodName) prog_7_method_2_code (2 : Nat) (Option.some Jvm.ClassFile.FieldType.int)) ∈ lw_all := lw_g (lw_at lw_m6 169 rfl) rfl
theorem q1521 : (Jvm.Cond.methodLink "CrossbarExchange$Reader" (46 : Nat) ({ cls := "CrossbarExchange$Reader", name := "isLetter", desc := "(I)Z" } : Jvm.MethodName)) ∈ lw_all := lw_g (lw_at lw_m6 170 rfl) rfl
theorem q1522 : (Jvm.Cond.privateMethod ({ cls := "CrossbarExchange$Reader", name := "isLetter", desc := "(I)Z" } : Jvm.MethodName)) ∈ lw_tbl := lw_at lw_m6 171 rfl
theorem q1523 : (Jvm.Cond.instanceMethod ({ cls := "CrossbarExchange$Reader", name := "isLetter", desc := "(I)Z" } : Jvm.MethodName)) ∈ lw_all := lw_g (lw_at lw_m6 172 rfl) rfl
theorem q1524 : (Jvm.Cond.code ({ cls := "CrossbarExchange$Reader", name := "isLetter", desc := "(I)Z" } : Jvm.MethodName) prog_7_method_3_code (2 : Nat) (Option.some Jvm.ClassFile.FieldType.boolean)) ∈ lw_all := lw_g (lw_at lw_m6 173 rfl) rfl
theorem q1525 : (Jvm.Cond.methodLinkNest "CrossbarExchange$Reader" (33 : Nat) ({ cls := "CrossbarExchange", name := "isIn", desc := "(III)Z" } : Jvm.MethodName) "CrossbarExchange") ∈ lw_tbl := lw_at lw_m6 174 rfl
theorem q1528 : (Jvm.Cond.methodLink "CrossbarExchange$Reader" (50 : Nat) ({ cls := "CrossbarExchange$Reader", name := "takeWord", desc := "()V" } : Jvm.MethodName)) ∈ lw_all := lw_g (lw_at lw_m6 177 rfl) rfl
theorem q1529 : (Jvm.Cond.privateMethod ({ cls := "CrossbarExchange$Reader", name := "takeWord", desc := "()V" } : Jvm.MethodName)) ∈ lw_tbl := lw_at lw_m6 178 rfl
theorem q1530 : (Jvm.Cond.instanceMethod ({ cls := "CrossbarExchange$Reader", name := "takeWord", desc := "()V" } : Jvm.MethodName)) ∈ lw_all := lw_g (lw_at lw_m6 179 rfl) rfl
theorem q1531 : (Jvm.Cond.code ({ cls := "CrossbarExchange$Reader", name := "takeWord", desc := "()V" } : Jvm.MethodName) prog_7_method_6_code (2 : Nat) (Option.none : Option Jvm.ClassFile.FieldType)) ∈ lw_all := lw_g (lw_at lw_m6 180 rfl) rfl
theorem q1532 : (Jvm.Cond.classLink "CrossbarExchange$Reader" (59 : Nat) "java/lang/StringBuilder") ∈ lw_all := lw_g (lw_at lw_m6 181 rfl) rfl
theorem q1533 : (Jvm.Cond.methodLink "CrossbarExchange$Reader" (61 : Nat) ({ cls := "java/lang/StringBuilder", name := "<init>", desc := "()V" } : Jvm.MethodName)) ∈ lw_all := lw_g (lw_at lw_m6 182 rfl) rfl
theorem q1534 : (Jvm.Cond.methodLink "CrossbarExchange$Reader" (62 : Nat) ({ cls := "java/lang/StringBuilder", name := "append", desc := "(C)Ljava/lang/StringBuilder;" } : Jvm.MethodName)) ∈ lw_all := lw_g (lw_at lw_m6 183 rfl) rfl
theorem q1556 : (Jvm.Cond.methodLink "CrossbarExchange$Reader" (66 : Nat) ({ cls := "java/lang/StringBuilder", name := "toString", desc := "()Ljava/lang/String;" } : Jvm.MethodName)) ∈ lw_all := lw_g (lw_at lw_m6 205 rfl) rfl
theorem q1557 : (Jvm.Cond.methodLink "CrossbarExchange$Reader" (53 : Nat) ({ cls := "CrossbarExchange$Reader", name := "isDigit", desc := "(I)Z" } : Jvm.MethodName)) ∈ lw_all := lw_g (lw_at lw_m6 206 rfl) rfl
theorem q1558 : (Jvm.Cond.privateMethod ({ cls := "CrossbarExchange$Reader", name := "isDigit", desc := "(I)Z" } : Jvm.MethodName)) ∈ lw_tbl := lw_at lw_m6 207 rfl
theorem q1559 : (Jvm.Cond.instanceMethod ({ cls := "CrossbarExchange$Reader", name := "isDigit", desc := "(I)Z" } : Jvm.MethodName)) ∈ lw_all := lw_g (lw_at lw_m6 208 rfl) rfl
theorem q1560 : (Jvm.Cond.code ({ cls := "CrossbarExchange$Reader", name := "isDigit", desc := "(I)Z" } : Jvm.MethodName) prog_7_method_4_code (2 : Nat) (Option.some Jvm.ClassFile.FieldType.boolean)) ∈ lw_all := lw_g (lw_at lw_m6 209 rfl) rfl
theorem q1561 : (Jvm.Cond.methodLink "CrossbarExchange$Reader" (56 : Nat) ({ cls := "CrossbarExchange$Reader", name := "takeNumber", desc := "()V" } : Jvm.MethodName)) ∈ lw_all := lw_g (lw_at lw_m6 210 rfl) rfl
theorem q1562 : (Jvm.Cond.privateMethod ({ cls := "CrossbarExchange$Reader", name := "takeNumber", desc := "()V" } : Jvm.MethodName)) ∈ lw_tbl := lw_at lw_m6 211 rfl
theorem q1563 : (Jvm.Cond.instanceMethod ({ cls := "CrossbarExchange$Reader", name := "takeNumber", desc := "()V" } : Jvm.MethodName)) ∈ lw_all := lw_g (lw_at lw_m6 212 rfl) rfl
theorem q1564 : (Jvm.Cond.code ({ cls := "CrossbarExchange$Reader", name := "takeNumber", desc := "()V" } : Jvm.MethodName) prog_7_method_7_code (1 : Nat) (Option.none : Option Jvm.ClassFile.FieldType)) ∈ lw_all := lw_g (lw_at lw_m6 213 rfl) rfl
theorem q1565 : (Jvm.Cond.constant "CrossbarExchange$Reader" (73 : Nat) (100000 : Int32)) ∈ lw_all := lw_g (lw_at lw_m6 214 rfl) rfl
theorem q1566 : (Jvm.Cond.methodLink "CrossbarExchange$Reader" (74 : Nat) ({ cls := "java/lang/Math", name := "min", desc := "(II)I" } : Jvm.MethodName)) ∈ lw_all := lw_g (lw_at lw_m6 215 rfl) rfl
theorem q1567 : (Jvm.Cond.stringRef "CrossbarExchange$Reader" (112 : Nat) "exchange") ∈ lw_tbl := lw_at lw_m6 216 rfl
theorem q1568 : (Jvm.Cond.methodLink "CrossbarExchange$Reader" (113 : Nat) ({ cls := "CrossbarExchange$Reader", name := "is", desc := "(Ljava/lang/String;)Z" } : Jvm.MethodName)) ∈ lw_all := lw_g (lw_at lw_m6 217 rfl) rfl
theorem q1569 : (Jvm.Cond.privateMethod ({ cls := "CrossbarExchange$Reader", name := "is", desc := "(Ljava/lang/String;)Z" } : Jvm.MethodName)) ∈ lw_tbl := lw_at lw_m6 218 rfl
theorem q1570 : (Jvm.Cond.instanceMethod ({ cls := "CrossbarExchange$Reader", name := "is", desc := "(Ljava/lang/String;)Z" } : Jvm.MethodName)) ∈ lw_all := lw_g (lw_at lw_m6 219 rfl) rfl
theorem q1571 : (Jvm.Cond.code ({ cls := "CrossbarExchange$Reader", name := "is", desc := "(Ljava/lang/String;)Z" } : Jvm.MethodName) prog_7_method_13_code (2 : Nat) (Option.some Jvm.ClassFile.FieldType.boolean)) ∈ lw_all := lw_g (lw_at lw_m6 220 rfl) rfl
theorem q1572 : (Jvm.Cond.methodLink "CrossbarExchange$Reader" (104 : Nat) ({ cls := "java/lang/String", name := "equals", desc := "(Ljava/lang/Object;)Z" } : Jvm.MethodName)) ∈ lw_all := lw_g (lw_at lw_m6 221 rfl) rfl
theorem q1573 : (Jvm.Cond.methodLink "CrossbarExchange$Reader" (85 : Nat) ({ cls := "CrossbarExchange$Reader", name := "need", desc := "(ZI)V" } : Jvm.MethodName)) ∈ lw_all := lw_g (lw_at lw_m6 222 rfl) rfl
theorem q1574 : (Jvm.Cond.privateMethod ({ cls := "CrossbarExchange$Reader", name := "need", desc := "(ZI)V" } : Jvm.MethodName)) ∈ lw_tbl := lw_at lw_m6 223 rfl
theorem q1575 : (Jvm.Cond.instanceMethod ({ cls := "CrossbarExchange$Reader", name := "need", desc := "(ZI)V" } : Jvm.MethodName)) ∈ lw_all := lw_g (lw_at lw_m6 224 rfl) rfl
theorem q1576 : (Jvm.Cond.code ({ cls := "CrossbarExchange$Reader", name := "need", desc := "(ZI)V" } : Jvm.MethodName) prog_7_method_8_code (3 : Nat) (Option.none : Option Jvm.ClassFile.FieldType)) ∈ lw_all := lw_g (lw_at lw_m6 225 rfl) rfl
theorem q1577 : (Jvm.Cond.classLink "CrossbarExchange$Reader" (80 : Nat) "CrossbarExchange$Fault") ∈ lw_all := lw_g (lw_at lw_m6 226 rfl) rfl
theorem q1586 : (Jvm.Cond.methodLink "CrossbarExchange$Reader" (82 : Nat) ({ cls := "CrossbarExchange$Fault", name := "<init>", desc := "(II)V" } : Jvm.MethodName)) ∈ lw_all := lw_g (lw_at lw_m6 235 rfl) rfl
theorem q1605 : (Jvm.Cond.methodLink "CrossbarExchange$Reader" (117 : Nat) ({ cls := "CrossbarExchange$Reader", name := "number", desc := "(II)I" } : Jvm.MethodName)) ∈ lw_all := lw_g (lw_at lw_m7 14 rfl) rfl
theorem q1606 : (Jvm.Cond.privateMethod ({ cls := "CrossbarExchange$Reader", name := "number", desc := "(II)I" } : Jvm.MethodName)) ∈ lw_tbl := lw_at lw_m7 15 rfl
theorem q1607 : (Jvm.Cond.instanceMethod ({ cls := "CrossbarExchange$Reader", name := "number", desc := "(II)I" } : Jvm.MethodName)) ∈ lw_all := lw_g (lw_at lw_m7 16 rfl) rfl
theorem q1608 : (Jvm.Cond.code ({ cls := "CrossbarExchange$Reader", name := "number", desc := "(II)I" } : Jvm.MethodName) prog_7_method_10_code (4 : Nat) (Option.some Jvm.ClassFile.FieldType.int)) ∈ lw_all := lw_g (lw_at lw_m7 17 rfl) rfl
theorem q1609 : (Jvm.Cond.methodLink "CrossbarExchange$Reader" (89 : Nat) ({ cls := "CrossbarExchange$Reader", name := "here", desc := "(II)I" } : Jvm.MethodName)) ∈ lw_all := lw_g (lw_at lw_m7 18 rfl) rfl
theorem q1610 : (Jvm.Cond.privateMethod ({ cls := "CrossbarExchange$Reader", name := "here", desc := "(II)I" } : Jvm.MethodName)) ∈ lw_tbl := lw_at lw_m7 19 rfl
theorem q1611 : (Jvm.Cond.instanceMethod ({ cls := "CrossbarExchange$Reader", name := "here", desc := "(II)I" } : Jvm.MethodName)) ∈ lw_all := lw_g (lw_at lw_m7 20 rfl) rfl
theorem q1612 : (Jvm.Cond.code ({ cls := "CrossbarExchange$Reader", name := "here", desc := "(II)I" } : Jvm.MethodName) prog_7_method_9_code (3 : Nat) (Option.some Jvm.ClassFile.FieldType.int)) ∈ lw_all := lw_g (lw_at lw_m7 21 rfl) rfl
theorem q1613 : (Jvm.Cond.classLink "CrossbarExchange$Reader" (96 : Nat) "CrossbarExchange$Exchange") ∈ lw_all := lw_g (lw_at lw_m7 22 rfl) rfl
theorem q1614 : (Jvm.Cond.methodLink "CrossbarExchange$Reader" (119 : Nat) ({ cls := "CrossbarExchange$Exchange", name := "<init>", desc := "(III)V" } : Jvm.MethodName)) ∈ lw_all := lw_g (lw_at lw_m7 23 rfl) rfl
theorem q1615 : (Jvm.Cond.methodLink "CrossbarExchange$Reader" (122 : Nat) ({ cls := "CrossbarExchange$Reader", name := "end", desc := "()V" } : Jvm.MethodName)) ∈ lw_all := lw_g (lw_at lw_m7 24 rfl) rfl
theorem q1616 : (Jvm.Cond.privateMethod ({ cls := "CrossbarExchange$Reader", name := "end", desc := "()V" } : Jvm.MethodName)) ∈ lw_tbl := lw_at lw_m7 25 rfl
theorem q1617 : (Jvm.Cond.instanceMethod ({ cls := "CrossbarExchange$Reader", name := "end", desc := "()V" } : Jvm.MethodName)) ∈ lw_all := lw_g (lw_at lw_m7 26 rfl) rfl
theorem q1618 : (Jvm.Cond.code ({ cls := "CrossbarExchange$Reader", name := "end", desc := "()V" } : Jvm.MethodName) prog_7_method_15_code (1 : Nat) (Option.none : Option Jvm.ClassFile.FieldType)) ∈ lw_all := lw_g (lw_at lw_m7 27 rfl) rfl
theorem q1619 : (Jvm.Cond.stringRef "CrossbarExchange$Reader" (125 : Nat) "group") ∈ lw_tbl := lw_at lw_m7 28 rfl
theorem q1620 : (Jvm.Cond.methodLink "CrossbarExchange$Reader" (127 : Nat) ({ cls := "CrossbarExchange$Reader", name := "readGroup", desc := "()V" } : Jvm.MethodName)) ∈ lw_all := lw_g (lw_at lw_m7 29 rfl) rfl
theorem q1621 : (Jvm.Cond.privateMethod ({ cls := "CrossbarExchange$Reader", name := "readGroup", desc := "()V" } : Jvm.MethodName)) ∈ lw_tbl := lw_at lw_m7 30 rfl
theorem q1622 : (Jvm.Cond.instanceMethod ({ cls := "CrossbarExchange$Reader", name := "readGroup", desc := "()V" } : Jvm.MethodName)) ∈ lw_all := lw_g (lw_at lw_m7 31 rfl) rfl
theorem q1623 : (Jvm.Cond.code ({ cls := "CrossbarExchange$Reader", name := "readGroup", desc := "()V" } : Jvm.MethodName) prog_7_method_17_code (2 : Nat) (Option.none : Option Jvm.ClassFile.FieldType)) ∈ lw_all := lw_g (lw_at lw_m7 32 rfl) rfl
theorem q1624 : (Jvm.Cond.interfaceEntry "CrossbarExchange$Reader" (137 : Nat)) ∈ lw_tbl := lw_at lw_m7 33 rfl
theorem q1625 : (Jvm.Cond.methodLink "CrossbarExchange$Reader" (137 : Nat) ({ cls := "java/util/List", name := "size", desc := "()I" } : Jvm.MethodName)) ∈ lw_all := lw_g (lw_at lw_m7 34 rfl) rfl
theorem q1626 : (Jvm.Cond.methodLink "CrossbarExchange$Reader" (142 : Nat) ({ cls := "CrossbarExchange$Reader", name := "needName", desc := "()V" } : Jvm.MethodName)) ∈ lw_all := lw_g (lw_at lw_m7 35 rfl) rfl
theorem q1627 : (Jvm.Cond.privateMethod ({ cls := "CrossbarExchange$Reader", name := "needName", desc := "()V" } : Jvm.MethodName)) ∈ lw_tbl := lw_at lw_m7 36 rfl
theorem q1628 : (Jvm.Cond.instanceMethod ({ cls := "CrossbarExchange$Reader", name := "needName", desc := "()V" } : Jvm.MethodName)) ∈ lw_all := lw_g (lw_at lw_m7 37 rfl) rfl
theorem q1629 : (Jvm.Cond.code ({ cls := "CrossbarExchange$Reader", name := "needName", desc := "()V" } : Jvm.MethodName) prog_7_method_14_code (1 : Nat) (Option.none : Option Jvm.ClassFile.FieldType)) ∈ lw_all := lw_g (lw_at lw_m7 38 rfl) rfl
theorem q1630 : (Jvm.Cond.methodLink "CrossbarExchange$Reader" (110 : Nat) ({ cls := "java/lang/String", name := "length", desc := "()I" } : Jvm.MethodName)) ∈ lw_all := lw_g (lw_at lw_m7 39 rfl) rfl
theorem q1631 : (Jvm.Cond.methodLink "CrossbarExchange$Reader" (149 : Nat) ({ cls := "java/util/LinkedHashMap", name := "containsKey", desc := "(Ljava/lang/Object;)Z" } : Jvm.MethodName)) ∈ lw_all := lw_g (lw_at lw_m7 40 rfl) rfl
theorem q1647 : (Jvm.Cond.classLink "CrossbarExchange$Reader" (154 : Nat) "CrossbarExchange$Group") ∈ lw_all := lw_g (lw_at lw_m7 56 rfl) rfl
theorem q1648 : (Jvm.Cond.methodLink "CrossbarExchange$Reader" (156 : Nat) ({ cls := "CrossbarExchange$Group", name := "<init>", desc := "(Ljava/lang/String;)V" } : Jvm.MethodName)) ∈ lw_all := lw_g (lw_at lw_m7 57 rfl) rfl
theorem q1649 : (Jvm.Cond.methodLink "CrossbarExchange$Reader" (159 : Nat) ({ cls := "CrossbarExchange$Reader", name := "addMember", desc := "(LCrossbarExchange$Group;)V" } : Jvm.MethodName)) ∈ lw_all := lw_g (lw_at lw_m7 58 rfl) rfl
theorem q1650 : (Jvm.Cond.privateMethod ({ cls := "CrossbarExchange$Reader", name := "addMember", desc := "(LCrossbarExchange$Group;)V" } : Jvm.MethodName)) ∈ lw_tbl := lw_at lw_m7 59 rfl
theorem q1651 : (Jvm.Cond.instanceMethod ({ cls := "CrossbarExchange$Reader", name := "addMember", desc := "(LCrossbarExchange$Group;)V" } : Jvm.MethodName)) ∈ lw_all := lw_g (lw_at lw_m7 60 rfl) rfl
theorem q1652 : (Jvm.Cond.code ({ cls := "CrossbarExchange$Reader", name := "addMember", desc := "(LCrossbarExchange$Group;)V" } : Jvm.MethodName) prog_7_method_18_code (4 : Nat) (Option.none : Option Jvm.ClassFile.FieldType)) ∈ lw_all := lw_g (lw_at lw_m7 61 rfl) rfl
theorem q1653 : (Jvm.Cond.methodLink "CrossbarExchange$Reader" (101 : Nat) ({ cls := "CrossbarExchange$Reader", name := "subscriberHere", desc := "()I" } : Jvm.MethodName)) ∈ lw_all := lw_g (lw_at lw_m7 62 rfl) rfl
theorem q1654 : (Jvm.Cond.privateMethod ({ cls := "CrossbarExchange$Reader", name := "subscriberHere", desc := "()I" } : Jvm.MethodName)) ∈ lw_tbl := lw_at lw_m7 63 rfl
theorem q1655 : (Jvm.Cond.instanceMethod ({ cls := "CrossbarExchange$Reader", name := "subscriberHere", desc := "()I" } : Jvm.MethodName)) ∈ lw_all := lw_g (lw_at lw_m7 64 rfl) rfl
theorem q1656 : (Jvm.Cond.code ({ cls := "CrossbarExchange$Reader", name := "subscriberHere", desc := "()I" } : Jvm.MethodName) prog_7_method_11_code (1 : Nat) (Option.some Jvm.ClassFile.FieldType.int)) ∈ lw_all := lw_g (lw_at lw_m7 65 rfl) rfl
theorem q1657 : (Jvm.Cond.methodLink "CrossbarExchange$Reader" (95 : Nat) ({ cls := "CrossbarExchange$Exchange", name := "subscribers", desc := "()I" } : Jvm.MethodName)) ∈ lw_all := lw_g (lw_at lw_m7 66 rfl) rfl
theorem q1661 : (Jvm.Cond.methodLink "CrossbarExchange$Reader" (166 : Nat) ({ cls := "CrossbarExchange$Group", name := "has", desc := "(I)Z" } : Jvm.MethodName)) ∈ lw_all := lw_g (lw_at lw_m7 70 rfl) rfl
theorem q1686 : (Jvm.Cond.methodLink "CrossbarExchange$Reader" (172 : Nat) ({ cls := "java/lang/Integer", name := "valueOf", desc := "(I)Ljava/lang/Integer;" } : Jvm.MethodName)) ∈ lw_all := lw_g (lw_at lw_m7 95 rfl) rfl
theorem q1687 : (Jvm.Cond.interfaceEntry "CrossbarExchange$Reader" (178 : Nat)) ∈ lw_tbl := lw_at lw_m7 96 rfl
theorem q1688 : (Jvm.Cond.methodLink "CrossbarExchange$Reader" (178 : Nat) ({ cls := "java/util/List", name := "add", desc := "(Ljava/lang/Object;)Z" } : Jvm.MethodName)) ∈ lw_all := lw_g (lw_at lw_m7 97 rfl) rfl
theorem q1689 : (Jvm.Cond.methodLink "CrossbarExchange$Reader" (163 : Nat) ({ cls := "CrossbarExchange$Exchange", name := "join", desc := "(LCrossbarExchange$Group;)V" } : Jvm.MethodName)) ∈ lw_all := lw_g (lw_at lw_m7 98 rfl) rfl
theorem q1690 : (Jvm.Cond.methodLink "CrossbarExchange$Reader" (130 : Nat) ({ cls := "CrossbarExchange$Reader", name := "commands", desc := "()I" } : Jvm.MethodName)) ∈ lw_all := lw_g (lw_at lw_m7 99 rfl) rfl
theorem q1691 : (Jvm.Cond.privateMethod ({ cls := "CrossbarExchange$Reader", name := "commands", desc := "()I" } : Jvm.MethodName)) ∈ lw_tbl := lw_at lw_m7 100 rfl
theorem q1692 : (Jvm.Cond.instanceMethod ({ cls := "CrossbarExchange$Reader", name := "commands", desc := "()I" } : Jvm.MethodName)) ∈ lw_all := lw_g (lw_at lw_m7 101 rfl) rfl
theorem q1693 : (Jvm.Cond.code ({ cls := "CrossbarExchange$Reader", name := "commands", desc := "()I" } : Jvm.MethodName) prog_7_method_20_code (2 : Nat) (Option.some Jvm.ClassFile.FieldType.int)) ∈ lw_all := lw_g (lw_at lw_m7 102 rfl) rfl
theorem q1694 : (Jvm.Cond.methodLink "CrossbarExchange$Reader" (181 : Nat) ({ cls := "CrossbarExchange$Reader", name := "command", desc := "()V" } : Jvm.MethodName)) ∈ lw_all := lw_g (lw_at lw_m7 103 rfl) rfl
theorem q1695 : (Jvm.Cond.privateMethod ({ cls := "CrossbarExchange$Reader", name := "command", desc := "()V" } : Jvm.MethodName)) ∈ lw_tbl := lw_at lw_m7 104 rfl
theorem q1696 : (Jvm.Cond.instanceMethod ({ cls := "CrossbarExchange$Reader", name := "command", desc := "()V" } : Jvm.MethodName)) ∈ lw_all := lw_g (lw_at lw_m7 105 rfl) rfl
theorem q1697 : (Jvm.Cond.code ({ cls := "CrossbarExchange$Reader", name := "command", desc := "()V" } : Jvm.MethodName) prog_7_method_23_code (6 : Nat) (Option.none : Option Jvm.ClassFile.FieldType)) ∈ lw_all := lw_g (lw_at lw_m7 106 rfl) rfl
theorem q1698 : (Jvm.Cond.methodLink "CrossbarExchange$Reader" (186 : Nat) ({ cls := "java/lang/String", name := "hashCode", desc := "()I" } : Jvm.MethodName)) ∈ lw_all := lw_g (lw_at lw_m7 107 rfl) rfl
theorem q1699 : (Jvm.Cond.stringRef "CrossbarExchange$Reader" (189 : Nat) "call") ∈ lw_tbl := lw_at lw_m7 108 rfl
theorem q1700 : (Jvm.Cond.stringRef "CrossbarExchange$Reader" (191 : Nat) "dial") ∈ lw_tbl := lw_at lw_m7 109 rfl
theorem q1701 : (Jvm.Cond.stringRef "CrossbarExchange$Reader" (193 : Nat) "hang") ∈ lw_tbl := lw_at lw_m7 110 rfl
theorem q1702 : (Jvm.Cond.stringRef "CrossbarExchange$Reader" (195 : Nat) "tick") ∈ lw_tbl := lw_at lw_m7 111 rfl
theorem q1703 : (Jvm.Cond.stringRef "CrossbarExchange$Reader" (197 : Nat) "cut") ∈ lw_tbl := lw_at lw_m7 112 rfl
theorem q1704 : (Jvm.Cond.stringRef "CrossbarExchange$Reader" (199 : Nat) "mend") ∈ lw_tbl := lw_at lw_m7 113 rfl
theorem q1705 : (Jvm.Cond.stringRef "CrossbarExchange$Reader" (201 : Nat) "mode") ∈ lw_tbl := lw_at lw_m7 114 rfl
theorem q1706 : (Jvm.Cond.stringRef "CrossbarExchange$Reader" (203 : Nat) "hunt") ∈ lw_tbl := lw_at lw_m7 115 rfl
theorem q1707 : (Jvm.Cond.stringRef "CrossbarExchange$Reader" (205 : Nat) "pack") ∈ lw_tbl := lw_at lw_m7 116 rfl
theorem q1708 : (Jvm.Cond.methodLink "CrossbarExchange$Reader" (207 : Nat) ({ cls := "CrossbarExchange$Reader", name := "subscriber", desc := "()I" } : Jvm.MethodName)) ∈ lw_all := lw_g (lw_at lw_m7 117 rfl) rfl
theorem q1709 : (Jvm.Cond.privateMethod ({ cls := "CrossbarExchange$Reader", name := "subscriber", desc := "()I" } : Jvm.MethodName)) ∈ lw_tbl := lw_at lw_m7 118 rfl
theorem q1710 : (Jvm.Cond.instanceMethod ({ cls := "CrossbarExchange$Reader", name := "subscriber", desc := "()I" } : Jvm.MethodName)) ∈ lw_all := lw_g (lw_at lw_m7 119 rfl) rfl
theorem q1711 : (Jvm.Cond.code ({ cls := "CrossbarExchange$Reader", name := "subscriber", desc := "()I" } : Jvm.MethodName) prog_7_method_12_code (2 : Nat) (Option.some Jvm.ClassFile.FieldType.int)) ∈ lw_all := lw_g (lw_at lw_m7 120 rfl) rfl
theorem q1712 : (Jvm.Cond.methodLink "CrossbarExchange$Reader" (210 : Nat) ({ cls := "CrossbarExchange$Reader", name := "lasts", desc := "()I" } : Jvm.MethodName)) ∈ lw_all := lw_g (lw_at lw_m7 121 rfl) rfl
theorem q1713 : (Jvm.Cond.privateMethod ({ cls := "CrossbarExchange$Reader", name := "lasts", desc := "()I" } : Jvm.MethodName)) ∈ lw_tbl := lw_at lw_m7 122 rfl
theorem q1714 : (Jvm.Cond.instanceMethod ({ cls := "CrossbarExchange$Reader", name := "lasts", desc := "()I" } : Jvm.MethodName)) ∈ lw_all := lw_g (lw_at lw_m7 123 rfl) rfl
theorem q1715 : (Jvm.Cond.code ({ cls := "CrossbarExchange$Reader", name := "lasts", desc := "()I" } : Jvm.MethodName) prog_7_method_21_code (1 : Nat) (Option.some Jvm.ClassFile.FieldType.int)) ∈ lw_all := lw_g (lw_at lw_m7 124 rfl) rfl
theorem q1716 : (Jvm.Cond.stringRef "CrossbarExchange$Reader" (184 : Nat) "for") ∈ lw_tbl := lw_at lw_m7 125 rfl
theorem q1717 : (Jvm.Cond.methodLink "CrossbarExchange$Reader" (213 : Nat) ({ cls := "CrossbarExchange$Exchange", name := "call", desc := "(III)I" } : Jvm.MethodName)) ∈ lw_all := lw_g (lw_at lw_m7 126 rfl) rfl
theorem q1978 : (Jvm.Cond.methodLink "CrossbarExchange$Reader" (219 : Nat) ({ cls := "CrossbarExchange$Reader", name := "dial", desc := "()V" } : Jvm.MethodName)) ∈ lw_all := lw_g (lw_at lw_m8 147 rfl) rfl
theorem q1979 : (Jvm.Cond.privateMethod ({ cls := "CrossbarExchange$Reader", name := "dial", desc := "()V" } : Jvm.MethodName)) ∈ lw_tbl := lw_at lw_m8 148 rfl
theorem q1980 : (Jvm.Cond.instanceMethod ({ cls := "CrossbarExchange$Reader", name := "dial", desc := "()V" } : Jvm.MethodName)) ∈ lw_all := lw_g (lw_at lw_m8 149 rfl) rfl
theorem q1981 : (Jvm.Cond.code ({ cls := "CrossbarExchange$Reader", name := "dial", desc := "()V" } : Jvm.MethodName) prog_7_method_24_code (4 : Nat) (Option.none : Option Jvm.ClassFile.FieldType)) ∈ lw_all := lw_g (lw_at lw_m8 150 rfl) rfl
theorem q1982 : (Jvm.Cond.methodLink "CrossbarExchange$Reader" (259 : Nat) ({ cls := "java/util/LinkedHashMap", name := "get", desc := "(Ljava/lang/Object;)Ljava/lang/Object;" } : Jvm.MethodName)) ∈ lw_all := lw_g (lw_at lw_m8 151 rfl) rfl
theorem q1983 : (Jvm.Cond.classLink "CrossbarExchange$Reader" (173 : Nat) "java/lang/Integer") ∈ lw_all := lw_g (lw_at lw_m8 152 rfl) rfl
theorem q1984 : (Jvm.Cond.methodLink "CrossbarExchange$Reader" (263 : Nat) ({ cls := "java/lang/Integer", name := "intValue", desc := "()I" } : Jvm.MethodName)) ∈ lw_all := lw_g (lw_at lw_m8 153 rfl) rfl
theorem q1985 : (Jvm.Cond.methodLink "CrossbarExchange$Reader" (266 : Nat) ({ cls := "CrossbarExchange$Exchange", name := "dial", desc := "(III)I" } : Jvm.MethodName)) ∈ lw_all := lw_g (lw_at lw_m8 154 rfl) rfl
theorem q2025 : (Jvm.Cond.methodLink "CrossbarExchange$Reader" (221 : Nat) ({ cls := "CrossbarExchange$Exchange", name := "isIdle", desc := "(I)Z" } : Jvm.MethodName)) ∈ lw_all := lw_g (lw_at lw_m8 194 rfl) rfl
theorem q2026 : (Jvm.Cond.methodLink "CrossbarExchange$Reader" (224 : Nat) ({ cls := "CrossbarExchange$Exchange", name := "hangUp", desc := "(I)I" } : Jvm.MethodName)) ∈ lw_all := lw_g (lw_at lw_m8 195 rfl) rfl
theorem q2052 : (Jvm.Cond.methodLink "CrossbarExchange$Reader" (229 : Nat) ({ cls := "CrossbarExchange$Exchange", name := "ticks", desc := "(I)I" } : Jvm.MethodName)) ∈ lw_all := lw_g (lw_at lw_m8 221 rfl) rfl
theorem q2064 : (Jvm.Cond.methodLink "CrossbarExchange$Reader" (232 : Nat) ({ cls := "CrossbarExchange$Reader", name := "cutOrMend", desc := "(Z)V" } : Jvm.MethodName)) ∈ lw_all := lw_g (lw_at lw_m8 233 rfl) rfl
theorem q2065 : (Jvm.Cond.privateMethod ({ cls := "CrossbarExchange$Reader", name := "cutOrMend", desc := "(Z)V" } : Jvm.MethodName)) ∈ lw_tbl := lw_at lw_m8 234 rfl
theorem q2066 : (Jvm.Cond.instanceMethod ({ cls := "CrossbarExchange$Reader", name := "cutOrMend", desc := "(Z)V" } : Jvm.MethodName)) ∈ lw_all := lw_g (lw_at lw_m8 235 rfl) rfl
theorem q2067 : (Jvm.Cond.code ({ cls := "CrossbarExchange$Reader", name := "cutOrMend", desc := "(Z)V" } : Jvm.MethodName) prog_7_method_25_code (3 : Nat) (Option.none : Option Jvm.ClassFile.FieldType)) ∈ lw_all := lw_g (lw_at lw_m8 236 rfl) rfl
theorem q2068 : (Jvm.Cond.methodLink "CrossbarExchange$Reader" (271 : Nat) ({ cls := "CrossbarExchange$Exchange", name := "isInOrder", desc := "(I)Z" } : Jvm.MethodName)) ∈ lw_all := lw_g (lw_at lw_m8 237 rfl) rfl
theorem q2069 : (Jvm.Cond.methodLink "CrossbarExchange$Reader" (274 : Nat) ({ cls := "CrossbarExchange$Exchange", name := "cut", desc := "(I)I" } : Jvm.MethodName)) ∈ lw_all := lw_g (lw_at lw_m8 238 rfl) rfl
theorem q2088 : (Jvm.Cond.methodLink "CrossbarExchange$Reader" (276 : Nat) ({ cls := "CrossbarExchange$Exchange", name := "mend", desc := "(I)I" } : Jvm.MethodName)) ∈ lw_all := lw_g (lw_at lw_m9 17 rfl) rfl
theorem q2111 : (Jvm.Cond.classLink "CrossbarExchange$Reader" (105 : Nat) "java/lang/String") ∈ lw_all := lw_g (lw_at lw_m9 40 rfl) rfl
theorem q2113 : (Jvm.Cond.stringRef "CrossbarExchange$Reader" (236 : Nat) "plain") ∈ lw_tbl := lw_at lw_m9 42 rfl
theorem q2114 : (Jvm.Cond.stringRef "CrossbarExchange$Reader" (238 : Nat) "chains") ∈ lw_tbl := lw_at lw_m9 43 rfl
theorem q2115 : (Jvm.Cond.methodLink "CrossbarExchange$Reader" (240 : Nat) ({ cls := "CrossbarExchange$Reader", name := "choice", desc := "([Ljava/lang/String;)I" } : Jvm.MethodName)) ∈ lw_all := lw_g (lw_at lw_m9 44 rfl) rfl
theorem q2116 : (Jvm.Cond.privateMethod ({ cls := "CrossbarExchange$Reader", name := "choice", desc := "([Ljava/lang/String;)I" } : Jvm.MethodName)) ∈ lw_tbl := lw_at lw_m9 45 rfl
theorem q2117 : (Jvm.Cond.instanceMethod ({ cls := "CrossbarExchange$Reader", name := "choice", desc := "([Ljava/lang/String;)I" } : Jvm.MethodName)) ∈ lw_all := lw_g (lw_at lw_m9 46 rfl) rfl
theorem q2118 : (Jvm.Cond.code ({ cls := "CrossbarExchange$Reader", name := "choice", desc := "([Ljava/lang/String;)I" } : Jvm.MethodName) prog_7_method_22_code (4 : Nat) (Option.some Jvm.ClassFile.FieldType.int)) ∈ lw_all := lw_g (lw_at lw_m9 47 rfl) rfl
theorem q2119 : (Jvm.Cond.methodLink "CrossbarExchange$Reader" (246 : Nat) ({ cls := "CrossbarExchange$Exchange", name := "serve", desc := "()V" } : Jvm.MethodName)) ∈ lw_all := lw_g (lw_at lw_m9 48 rfl) rfl
theorem q2120 : (Jvm.Cond.stringRef "CrossbarExchange$Reader" (249 : Nat) "low") ∈ lw_tbl := lw_at lw_m9 49 rfl
theorem q2121 : (Jvm.Cond.stringRef "CrossbarExchange$Reader" (251 : Nat) "packed") ∈ lw_tbl := lw_at lw_m9 50 rfl
theorem q2122 : (Jvm.Cond.stringRef "CrossbarExchange$Reader" (253 : Nat) "round") ∈ lw_tbl := lw_at lw_m9 51 rfl
theorem q2123 : (Jvm.Cond.methodLink "CrossbarExchange$Reader" (257 : Nat) ({ cls := "CrossbarExchange$Exchange", name := "pack", desc := "()I" } : Jvm.MethodName)) ∈ lw_all := lw_g (lw_at lw_m9 52 rfl) rfl
theorem q2171 : (Jvm.Cond.instanceMethod ({ cls := "CrossbarExchange$Reader", name := "readOn", desc := "()I" } : Jvm.MethodName)) ∈ lw_all := lw_g (lw_at lw_m9 100 rfl) rfl
theorem q2172 : (Jvm.Cond.selects "CrossbarExchange$Reader" ({ cls := "CrossbarExchange$Reader", name := "readOn", desc := "()I" } : Jvm.MethodName) ({ cls := "CrossbarExchange$Reader", name := "readOn", desc := "()I" } : Jvm.MethodName)) ∈ lw_all := lw_g (lw_at lw_m9 101 rfl) rfl
theorem q2173 : (Jvm.Cond.code ({ cls := "CrossbarExchange$Reader", name := "readOn", desc := "()I" } : Jvm.MethodName) prog_7_method_19_code (1 : Nat) (Option.some Jvm.ClassFile.FieldType.int)) ∈ lw_all := lw_g (lw_at lw_m9 102 rfl) rfl
theorem q3543 : (Jvm.Cond.castable "CrossbarExchange$Reader" "java/lang/Object") ∈ lw_tbl := lw_at lw_m15 32 rfl
theorem in_X6 : ∀ w ∈ wsX60, w ∈ lw_all := lw_in wsX60 [1490, 1492, 1494, 1496, 1498, 1500, 1502, 1504, 1506] (by decide +kernel) (by decide +kernel)
