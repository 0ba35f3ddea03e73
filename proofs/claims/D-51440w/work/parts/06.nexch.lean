/-! CrossbarExchange$Exchange -/
set_option maxRecDepth 100000
def RX2 : String := "CrossbarExchange$Exchange"
def TX2 : u_T := fun k => match k with
  | 0 => ("CrossbarExchange$Exchange", "switches", "I", true)
  | 1 => ("CrossbarExchange$Exchange", "lines", "I", true)
  | 2 => ("CrossbarExchange$Exchange", "middles", "I", true)
  | 3 => ("CrossbarExchange$Exchange", "calls", "[LCrossbarExchange$Call;", true)
  | 4 => ("CrossbarExchange$Exchange", "talks", "[LCrossbarExchange$Call;", true)
  | 5 => ("CrossbarExchange$Exchange", "carried", "Ljava/util/HashMap;", true)
  | 6 => ("CrossbarExchange$Exchange", "cut", "Ljava/util/HashSet;", true)
  | 7 => ("CrossbarExchange$Exchange", "names", "Ljava/util/LinkedHashMap;", true)
  | 8 => ("CrossbarExchange$Exchange", "groups", "Ljava/util/List;", true)
  | 9 => ("CrossbarExchange$Exchange", "waiting", "Ljava/util/List;", true)
  | 10 => ("CrossbarExchange$Exchange", "accounts", "[I", true)
  | 11 => ("CrossbarExchange$Exchange", "probe", "LCrossbarExchange$Spot;", true)
  | 12 => ("CrossbarExchange$Exchange", "begun", "I", false)
  | 13 => ("CrossbarExchange$Exchange", "tick", "I", false)
  | 14 => ("CrossbarExchange$Exchange", "mode", "I", false)
  | 15 => ("CrossbarExchange$Exchange", "hunt", "I", false)
  | _ => ("CrossbarExchange$Exchange", "latest", "I", false)
def tyX2 : Nat → FieldType := fun k => match k with
  | 0 => .int
  | 1 => .int
  | 2 => .int
  | 3 => .array (.object "CrossbarExchange$Call")
  | 4 => .array (.object "CrossbarExchange$Call")
  | 5 => .object "java/util/HashMap"
  | 6 => .object "java/util/HashSet"
  | 7 => .object "java/util/LinkedHashMap"
  | 8 => .object "java/util/List"
  | 9 => .object "java/util/List"
  | 10 => .array .int
  | 11 => .object "CrossbarExchange$Spot"
  | 12 => .int
  | 13 => .int
  | 14 => .int
  | 15 => .int
  | _ => .int
abbrev wsX20 : List Cond := u_ws RX2 TX2 17
set_option maxRecDepth 100000 in
theorem nmX2 : ∀ a, a < 17 → ∀ b, b < 17 → a ≠ b → (TX2 a).2.1 ≠ (TX2 b).2.1 := by decide +kernel
set_option maxRecDepth 100000 in
theorem tyX2_ok : ∀ k, k < 17 → parseFieldDescriptor (TX2 k).2.2.1 = some (tyX2 k) := by decide +kernel
abbrev cX2_init : ByteArray := prog_3_method_1_code
def yX2_init : MethodName := ⟨RX2, "<init>", "(III)V"⟩
def dkwX2_init_5 : List UInt8 := [189, 0, 9, 181, 0, 72, 42, 29, 4, 100, 181, 0, 75, 177]
abbrev dktX2_init_5 : List UInt8 := dkwX2_init_5 ++ []
def dkwX2_init_4 : List UInt8 := [181, 0, 59, 42, 27, 181, 0, 63, 42, 28, 181, 0, 66, 42, 29, 181, 0, 69, 42, 27, 28, 104]
abbrev dktX2_init_4 : List UInt8 := dkwX2_init_4 ++ dktX2_init_5
def dkwX2_init_3 : List UInt8 := [181, 0, 45, 42, 16, 13, 188, 10, 181, 0, 48, 42, 187, 0, 52, 89, 183, 0, 54, 181, 0, 55, 42, 4]
abbrev dktX2_init_3 : List UInt8 := dkwX2_init_3 ++ dktX2_init_4
def dkwX2_init_2 : List UInt8 := [181, 0, 34, 42, 187, 0, 38, 89, 183, 0, 40, 181, 0, 41, 42, 187, 0, 38, 89, 183, 0, 40]
abbrev dktX2_init_2 : List UInt8 := dkwX2_init_2 ++ dktX2_init_3
def dkwX2_init_1 : List UInt8 := [181, 0, 20, 42, 187, 0, 24, 89, 183, 0, 26, 181, 0, 27, 42, 187, 0, 31, 89, 183, 0, 33]
abbrev dktX2_init_1 : List UInt8 := dkwX2_init_1 ++ dktX2_init_2
def dkwX2_init_0 : List UInt8 := [42, 183, 0, 3, 42, 17, 0, 200, 189, 0, 9, 181, 0, 11, 42, 187, 0, 17, 89, 183, 0, 19]
abbrev dktX2_init_0 : List UInt8 := dkwX2_init_0 ++ dktX2_init_1
theorem dksX2_init_0 : cX2_init.data.toList.drop 0 = dktX2_init_0 := by decide +kernel
theorem dksX2_init_1 : cX2_init.data.toList.drop 22 = dktX2_init_1 := dk_seg dksX2_init_0 22 rfl rfl
theorem dksX2_init_2 : cX2_init.data.toList.drop 44 = dktX2_init_2 := dk_seg dksX2_init_1 22 rfl rfl
theorem dksX2_init_3 : cX2_init.data.toList.drop 66 = dktX2_init_3 := dk_seg dksX2_init_2 22 rfl rfl
theorem dksX2_init_4 : cX2_init.data.toList.drop 90 = dktX2_init_4 := dk_seg dksX2_init_3 24 rfl rfl
theorem dksX2_init_5 : cX2_init.data.toList.drop 112 = dktX2_init_5 := dk_seg dksX2_init_4 22 rfl rfl
theorem dX2_init_0 : decode cX2_init 0 = .ok (.aload_n 0, 1) := dk_42 (dk_at dksX2_init_0 0 rfl rfl)
theorem dX2_init_1 : decode cX2_init 1 = .ok (.invokespecial 3, 3) := dk_183 0 3 (dk_at dksX2_init_0 1 rfl rfl)
theorem dX2_init_4 : decode cX2_init 4 = .ok (.aload_n 0, 1) := dk_42 (dk_at dksX2_init_0 4 rfl rfl)
theorem dX2_init_5 : decode cX2_init 5 = .ok (.sipush 200, 3) := dk_17 0 200 (dk_at dksX2_init_0 5 rfl rfl)
theorem dX2_init_8 : decode cX2_init 8 = .ok (.anewarray 9, 3) := dk_189 0 9 (dk_at dksX2_init_0 8 rfl rfl)
theorem dX2_init_11 : decode cX2_init 11 = .ok (.putfield 11, 3) := dk_181 0 11 (dk_at dksX2_init_0 11 rfl rfl)
theorem dX2_init_14 : decode cX2_init 14 = .ok (.aload_n 0, 1) := dk_42 (dk_at dksX2_init_0 14 rfl rfl)
theorem dX2_init_15 : decode cX2_init 15 = .ok (.new 17, 3) := dk_187 0 17 (dk_at dksX2_init_0 15 rfl rfl)
theorem dX2_init_18 : decode cX2_init 18 = .ok (.dup, 1) := dk_89 (dk_at dksX2_init_0 18 rfl rfl)
theorem dX2_init_19 : decode cX2_init 19 = .ok (.invokespecial 19, 3) := dk_183 0 19 (dk_at dksX2_init_0 19 rfl rfl)
theorem dX2_init_22 : decode cX2_init 22 = .ok (.putfield 20, 3) := dk_181 0 20 (dk_at dksX2_init_1 0 rfl rfl)
theorem dX2_init_25 : decode cX2_init 25 = .ok (.aload_n 0, 1) := dk_42 (dk_at dksX2_init_1 3 rfl rfl)
theorem dX2_init_26 : decode cX2_init 26 = .ok (.new 24, 3) := dk_187 0 24 (dk_at dksX2_init_1 4 rfl rfl)
theorem dX2_init_29 : decode cX2_init 29 = .ok (.dup, 1) := dk_89 (dk_at dksX2_init_1 7 rfl rfl)
theorem dX2_init_30 : decode cX2_init 30 = .ok (.invokespecial 26, 3) := dk_183 0 26 (dk_at dksX2_init_1 8 rfl rfl)
theorem dX2_init_33 : decode cX2_init 33 = .ok (.putfield 27, 3) := dk_181 0 27 (dk_at dksX2_init_1 11 rfl rfl)
theorem dX2_init_36 : decode cX2_init 36 = .ok (.aload_n 0, 1) := dk_42 (dk_at dksX2_init_1 14 rfl rfl)
theorem dX2_init_37 : decode cX2_init 37 = .ok (.new 31, 3) := dk_187 0 31 (dk_at dksX2_init_1 15 rfl rfl)
theorem dX2_init_40 : decode cX2_init 40 = .ok (.dup, 1) := dk_89 (dk_at dksX2_init_1 18 rfl rfl)
theorem dX2_init_41 : decode cX2_init 41 = .ok (.invokespecial 33, 3) := dk_183 0 33 (dk_at dksX2_init_1 19 rfl rfl)
theorem dX2_init_44 : decode cX2_init 44 = .ok (.putfield 34, 3) := dk_181 0 34 (dk_at dksX2_init_2 0 rfl rfl)
theorem dX2_init_47 : decode cX2_init 47 = .ok (.aload_n 0, 1) := dk_42 (dk_at dksX2_init_2 3 rfl rfl)
theorem dX2_init_48 : decode cX2_init 48 = .ok (.new 38, 3) := dk_187 0 38 (dk_at dksX2_init_2 4 rfl rfl)
theorem dX2_init_51 : decode cX2_init 51 = .ok (.dup, 1) := dk_89 (dk_at dksX2_init_2 7 rfl rfl)
theorem dX2_init_52 : decode cX2_init 52 = .ok (.invokespecial 40, 3) := dk_183 0 40 (dk_at dksX2_init_2 8 rfl rfl)
theorem dX2_init_55 : decode cX2_init 55 = .ok (.putfield 41, 3) := dk_181 0 41 (dk_at dksX2_init_2 11 rfl rfl)
theorem dX2_init_58 : decode cX2_init 58 = .ok (.aload_n 0, 1) := dk_42 (dk_at dksX2_init_2 14 rfl rfl)
theorem dX2_init_59 : decode cX2_init 59 = .ok (.new 38, 3) := dk_187 0 38 (dk_at dksX2_init_2 15 rfl rfl)
theorem dX2_init_62 : decode cX2_init 62 = .ok (.dup, 1) := dk_89 (dk_at dksX2_init_2 18 rfl rfl)
theorem dX2_init_63 : decode cX2_init 63 = .ok (.invokespecial 40, 3) := dk_183 0 40 (dk_at dksX2_init_2 19 rfl rfl)
theorem dX2_init_66 : decode cX2_init 66 = .ok (.putfield 45, 3) := dk_181 0 45 (dk_at dksX2_init_3 0 rfl rfl)
theorem dX2_init_69 : decode cX2_init 69 = .ok (.aload_n 0, 1) := dk_42 (dk_at dksX2_init_3 3 rfl rfl)
theorem dX2_init_70 : decode cX2_init 70 = .ok (.bipush 13, 2) := dk_16 13 (dk_at dksX2_init_3 4 rfl rfl)
theorem dX2_init_72 : decode cX2_init 72 = .ok (.newarray .int, 2) := dk_188_10 (dk_at dksX2_init_3 6 rfl rfl)
theorem dX2_init_74 : decode cX2_init 74 = .ok (.putfield 48, 3) := dk_181 0 48 (dk_at dksX2_init_3 8 rfl rfl)
theorem dX2_init_77 : decode cX2_init 77 = .ok (.aload_n 0, 1) := dk_42 (dk_at dksX2_init_3 11 rfl rfl)
theorem dX2_init_78 : decode cX2_init 78 = .ok (.new 52, 3) := dk_187 0 52 (dk_at dksX2_init_3 12 rfl rfl)
theorem dX2_init_81 : decode cX2_init 81 = .ok (.dup, 1) := dk_89 (dk_at dksX2_init_3 15 rfl rfl)
theorem dX2_init_82 : decode cX2_init 82 = .ok (.invokespecial 54, 3) := dk_183 0 54 (dk_at dksX2_init_3 16 rfl rfl)
theorem dX2_init_85 : decode cX2_init 85 = .ok (.putfield 55, 3) := dk_181 0 55 (dk_at dksX2_init_3 19 rfl rfl)
theorem dX2_init_88 : decode cX2_init 88 = .ok (.aload_n 0, 1) := dk_42 (dk_at dksX2_init_3 22 rfl rfl)
theorem dX2_init_89 : decode cX2_init 89 = .ok (.iconst 1, 1) := dk_4 (dk_at dksX2_init_3 23 rfl rfl)
theorem dX2_init_90 : decode cX2_init 90 = .ok (.putfield 59, 3) := dk_181 0 59 (dk_at dksX2_init_4 0 rfl rfl)
theorem dX2_init_93 : decode cX2_init 93 = .ok (.aload_n 0, 1) := dk_42 (dk_at dksX2_init_4 3 rfl rfl)
theorem dX2_init_94 : decode cX2_init 94 = .ok (.iload_n 1, 1) := dk_27 (dk_at dksX2_init_4 4 rfl rfl)
theorem dX2_init_95 : decode cX2_init 95 = .ok (.putfield 63, 3) := dk_181 0 63 (dk_at dksX2_init_4 5 rfl rfl)
theorem dX2_init_98 : decode cX2_init 98 = .ok (.aload_n 0, 1) := dk_42 (dk_at dksX2_init_4 8 rfl rfl)
theorem dX2_init_99 : decode cX2_init 99 = .ok (.iload_n 2, 1) := dk_28 (dk_at dksX2_init_4 9 rfl rfl)
theorem dX2_init_100 : decode cX2_init 100 = .ok (.putfield 66, 3) := dk_181 0 66 (dk_at dksX2_init_4 10 rfl rfl)
theorem dX2_init_103 : decode cX2_init 103 = .ok (.aload_n 0, 1) := dk_42 (dk_at dksX2_init_4 13 rfl rfl)
theorem dX2_init_104 : decode cX2_init 104 = .ok (.iload_n 3, 1) := dk_29 (dk_at dksX2_init_4 14 rfl rfl)
theorem dX2_init_105 : decode cX2_init 105 = .ok (.putfield 69, 3) := dk_181 0 69 (dk_at dksX2_init_4 15 rfl rfl)
theorem dX2_init_108 : decode cX2_init 108 = .ok (.aload_n 0, 1) := dk_42 (dk_at dksX2_init_4 18 rfl rfl)
theorem dX2_init_109 : decode cX2_init 109 = .ok (.iload_n 1, 1) := dk_27 (dk_at dksX2_init_4 19 rfl rfl)
theorem dX2_init_110 : decode cX2_init 110 = .ok (.iload_n 2, 1) := dk_28 (dk_at dksX2_init_4 20 rfl rfl)
theorem dX2_init_111 : decode cX2_init 111 = .ok (.imul, 1) := dk_104 (dk_at dksX2_init_4 21 rfl rfl)
theorem dX2_init_112 : decode cX2_init 112 = .ok (.anewarray 9, 3) := dk_189 0 9 (dk_at dksX2_init_5 0 rfl rfl)
theorem dX2_init_115 : decode cX2_init 115 = .ok (.putfield 72, 3) := dk_181 0 72 (dk_at dksX2_init_5 3 rfl rfl)
theorem dX2_init_118 : decode cX2_init 118 = .ok (.aload_n 0, 1) := dk_42 (dk_at dksX2_init_5 6 rfl rfl)
theorem dX2_init_119 : decode cX2_init 119 = .ok (.iload_n 3, 1) := dk_29 (dk_at dksX2_init_5 7 rfl rfl)
theorem dX2_init_120 : decode cX2_init 120 = .ok (.iconst 1, 1) := dk_4 (dk_at dksX2_init_5 8 rfl rfl)
theorem dX2_init_121 : decode cX2_init 121 = .ok (.isub, 1) := dk_100 (dk_at dksX2_init_5 9 rfl rfl)
theorem dX2_init_122 : decode cX2_init 122 = .ok (.putfield 75, 3) := dk_181 0 75 (dk_at dksX2_init_5 10 rfl rfl)
theorem dX2_init_125 : decode cX2_init 125 = .ok (.return_, 1) := dk_177 (dk_at dksX2_init_5 13 rfl rfl)
abbrev cX2_join : ByteArray := prog_3_method_5_code
def yX2_join : MethodName := ⟨RX2, "join", "(LCrossbarExchange$Group;)V"⟩
def dkwX2_join_1 : List UInt8 := [192, 0, 100, 77, 42, 180, 0, 41, 43, 185, 0, 167, 2, 0, 62, 177]
abbrev dktX2_join_1 : List UInt8 := dkwX2_join_1 ++ []
def dkwX2_join_0 : List UInt8 := [42, 180, 0, 34, 43, 180, 0, 159, 42, 180, 0, 41, 185, 0, 113, 1, 0, 184, 0, 99, 182, 0, 163]
abbrev dktX2_join_0 : List UInt8 := dkwX2_join_0 ++ dktX2_join_1
theorem dksX2_join_0 : cX2_join.data.toList.drop 0 = dktX2_join_0 := by decide +kernel
theorem dksX2_join_1 : cX2_join.data.toList.drop 23 = dktX2_join_1 := dk_seg dksX2_join_0 23 rfl rfl
theorem dX2_join_0 : decode cX2_join 0 = .ok (.aload_n 0, 1) := dk_42 (dk_at dksX2_join_0 0 rfl rfl)
theorem dX2_join_1 : decode cX2_join 1 = .ok (.getfield 34, 3) := dk_180 0 34 (dk_at dksX2_join_0 1 rfl rfl)
theorem dX2_join_4 : decode cX2_join 4 = .ok (.aload_n 1, 1) := dk_43 (dk_at dksX2_join_0 4 rfl rfl)
theorem dX2_join_5 : decode cX2_join 5 = .ok (.getfield 159, 3) := dk_180 0 159 (dk_at dksX2_join_0 5 rfl rfl)
theorem dX2_join_8 : decode cX2_join 8 = .ok (.aload_n 0, 1) := dk_42 (dk_at dksX2_join_0 8 rfl rfl)
theorem dX2_join_9 : decode cX2_join 9 = .ok (.getfield 41, 3) := dk_180 0 41 (dk_at dksX2_join_0 9 rfl rfl)
theorem dX2_join_12 : decode cX2_join 12 = .ok (.invokeinterface 113 1, 5) := by decide +kernel
theorem dX2_join_17 : decode cX2_join 17 = .ok (.invokestatic 99, 3) := dk_184 0 99 (dk_at dksX2_join_0 17 rfl rfl)
theorem dX2_join_20 : decode cX2_join 20 = .ok (.invokevirtual 163, 3) := dk_182 0 163 (dk_at dksX2_join_0 20 rfl rfl)
theorem dX2_join_23 : decode cX2_join 23 = .ok (.checkcast 100, 3) := dk_192 0 100 (dk_at dksX2_join_1 0 rfl rfl)
theorem dX2_join_26 : decode cX2_join 26 = .ok (.astore_n 2, 1) := dk_77 (dk_at dksX2_join_1 3 rfl rfl)
theorem dX2_join_27 : decode cX2_join 27 = .ok (.aload_n 0, 1) := dk_42 (dk_at dksX2_join_1 4 rfl rfl)
theorem dX2_join_28 : decode cX2_join 28 = .ok (.getfield 41, 3) := dk_180 0 41 (dk_at dksX2_join_1 5 rfl rfl)
theorem dX2_join_31 : decode cX2_join 31 = .ok (.aload_n 1, 1) := dk_43 (dk_at dksX2_join_1 8 rfl rfl)
theorem dX2_join_32 : decode cX2_join 32 = .ok (.invokeinterface 167 2, 5) := by decide +kernel
theorem dX2_join_37 : decode cX2_join 37 = .ok (.istore_n 3, 1) := dk_62 (dk_at dksX2_join_1 14 rfl rfl)
theorem dX2_join_38 : decode cX2_join 38 = .ok (.return_, 1) := dk_177 (dk_at dksX2_join_1 15 rfl rfl)
abbrev cX2_subscribers : ByteArray := prog_3_method_7_code
def yX2_subscribers : MethodName := ⟨RX2, "subscribers", "()I"⟩
def dkwX2_subscribers_0 : List UInt8 := [42, 180, 0, 63, 42, 180, 0, 66, 104, 172]
abbrev dktX2_subscribers_0 : List UInt8 := dkwX2_subscribers_0 ++ []
theorem dksX2_subscribers_0 : cX2_subscribers.data.toList.drop 0 = dktX2_subscribers_0 := by decide +kernel
theorem dX2_subscribers_0 : decode cX2_subscribers 0 = .ok (.aload_n 0, 1) := dk_42 (dk_at dksX2_subscribers_0 0 rfl rfl)
theorem dX2_subscribers_1 : decode cX2_subscribers 1 = .ok (.getfield 63, 3) := dk_180 0 63 (dk_at dksX2_subscribers_0 1 rfl rfl)
theorem dX2_subscribers_4 : decode cX2_subscribers 4 = .ok (.aload_n 0, 1) := dk_42 (dk_at dksX2_subscribers_0 4 rfl rfl)
theorem dX2_subscribers_5 : decode cX2_subscribers 5 = .ok (.getfield 66, 3) := dk_180 0 66 (dk_at dksX2_subscribers_0 5 rfl rfl)
theorem dX2_subscribers_8 : decode cX2_subscribers 8 = .ok (.imul, 1) := dk_104 (dk_at dksX2_subscribers_0 8 rfl rfl)
theorem dX2_subscribers_9 : decode cX2_subscribers 9 = .ok (.ireturn, 1) := dk_172 (dk_at dksX2_subscribers_0 9 rfl rfl)
abbrev cX2_call : ByteArray := prog_3_method_36_code
def yX2_call : MethodName := ⟨RX2, "call", "(III)I"⟩
def dkwX2_call_1 : List UInt8 := [21, 4, 182, 1, 35, 172]
abbrev dktX2_call_1 : List UInt8 := dkwX2_call_1 ++ []
def dkwX2_call_0 : List UInt8 := [42, 27, 28, 182, 1, 27, 54, 4, 21, 4, 154, 0, 13, 42, 27, 28, 29, 182, 1, 31, 167, 0, 9, 42]
abbrev dktX2_call_0 : List UInt8 := dkwX2_call_0 ++ dktX2_call_1
theorem dksX2_call_0 : cX2_call.data.toList.drop 0 = dktX2_call_0 := by decide +kernel
theorem dksX2_call_1 : cX2_call.data.toList.drop 24 = dktX2_call_1 := dk_seg dksX2_call_0 24 rfl rfl
theorem dX2_call_0 : decode cX2_call 0 = .ok (.aload_n 0, 1) := dk_42 (dk_at dksX2_call_0 0 rfl rfl)
theorem dX2_call_1 : decode cX2_call 1 = .ok (.iload_n 1, 1) := dk_27 (dk_at dksX2_call_0 1 rfl rfl)
theorem dX2_call_2 : decode cX2_call 2 = .ok (.iload_n 2, 1) := dk_28 (dk_at dksX2_call_0 2 rfl rfl)
theorem dX2_call_3 : decode cX2_call 3 = .ok (.invokevirtual 283, 3) := dk_182 1 27 (dk_at dksX2_call_0 3 rfl rfl)
theorem dX2_call_6 : decode cX2_call 6 = .ok (.istore 4, 2) := dk_54 4 (dk_at dksX2_call_0 6 rfl rfl)
theorem dX2_call_8 : decode cX2_call 8 = .ok (.iload 4, 2) := dk_21 4 (dk_at dksX2_call_0 8 rfl rfl)
theorem dX2_call_10 : decode cX2_call 10 = .ok (.ifCond .ne 13, 3) := dk_154 0 13 (dk_at dksX2_call_0 10 rfl rfl)
theorem dX2_call_13 : decode cX2_call 13 = .ok (.aload_n 0, 1) := dk_42 (dk_at dksX2_call_0 13 rfl rfl)
theorem dX2_call_14 : decode cX2_call 14 = .ok (.iload_n 1, 1) := dk_27 (dk_at dksX2_call_0 14 rfl rfl)
theorem dX2_call_15 : decode cX2_call 15 = .ok (.iload_n 2, 1) := dk_28 (dk_at dksX2_call_0 15 rfl rfl)
theorem dX2_call_16 : decode cX2_call 16 = .ok (.iload_n 3, 1) := dk_29 (dk_at dksX2_call_0 16 rfl rfl)
theorem dX2_call_17 : decode cX2_call 17 = .ok (.invokevirtual 287, 3) := dk_182 1 31 (dk_at dksX2_call_0 17 rfl rfl)
theorem dX2_call_20 : decode cX2_call 20 = .ok (.goto 9, 3) := dk_167 0 9 (dk_at dksX2_call_0 20 rfl rfl)
theorem dX2_call_23 : decode cX2_call 23 = .ok (.aload_n 0, 1) := dk_42 (dk_at dksX2_call_0 23 rfl rfl)
theorem dX2_call_24 : decode cX2_call 24 = .ok (.iload 4, 2) := dk_21 4 (dk_at dksX2_call_1 0 rfl rfl)
theorem dX2_call_26 : decode cX2_call 26 = .ok (.invokevirtual 291, 3) := dk_182 1 35 (dk_at dksX2_call_1 2 rfl rfl)
theorem dX2_call_29 : decode cX2_call 29 = .ok (.ireturn, 1) := dk_172 (dk_at dksX2_call_1 5 rfl rfl)
abbrev cX2_whyNot : ByteArray := prog_3_method_33_code
def yX2_whyNot : MethodName := ⟨RX2, "whyNot", "(II)I"⟩
def dkwX2_whyNot_2 : List UInt8 := [153, 0, 7, 7, 167, 0, 4, 3, 172]
abbrev dktX2_whyNot_2 : List UInt8 := dkwX2_whyNot_2 ++ []
def dkwX2_whyNot_1 : List UInt8 := [17, 0, 200, 160, 0, 5, 6, 172, 42, 42, 27, 182, 0, 168, 42, 28, 182, 0, 168, 182, 1, 16]
abbrev dktX2_whyNot_1 : List UInt8 := dkwX2_whyNot_1 ++ dktX2_whyNot_2
def dkwX2_whyNot_0 : List UInt8 := [42, 27, 182, 1, 13, 154, 0, 5, 4, 172, 42, 28, 182, 1, 13, 154, 0, 5, 5, 172, 42, 180, 0, 81]
abbrev dktX2_whyNot_0 : List UInt8 := dkwX2_whyNot_0 ++ dktX2_whyNot_1
theorem dksX2_whyNot_0 : cX2_whyNot.data.toList.drop 0 = dktX2_whyNot_0 := by decide +kernel
theorem dksX2_whyNot_1 : cX2_whyNot.data.toList.drop 24 = dktX2_whyNot_1 := dk_seg dksX2_whyNot_0 24 rfl rfl
theorem dksX2_whyNot_2 : cX2_whyNot.data.toList.drop 46 = dktX2_whyNot_2 := dk_seg dksX2_whyNot_1 22 rfl rfl
theorem dX2_whyNot_0 : decode cX2_whyNot 0 = .ok (.aload_n 0, 1) := dk_42 (dk_at dksX2_whyNot_0 0 rfl rfl)
theorem dX2_whyNot_1 : decode cX2_whyNot 1 = .ok (.iload_n 1, 1) := dk_27 (dk_at dksX2_whyNot_0 1 rfl rfl)
theorem dX2_whyNot_2 : decode cX2_whyNot 2 = .ok (.invokevirtual 269, 3) := dk_182 1 13 (dk_at dksX2_whyNot_0 2 rfl rfl)
theorem dX2_whyNot_5 : decode cX2_whyNot 5 = .ok (.ifCond .ne 5, 3) := dk_154 0 5 (dk_at dksX2_whyNot_0 5 rfl rfl)
theorem dX2_whyNot_8 : decode cX2_whyNot 8 = .ok (.iconst 1, 1) := dk_4 (dk_at dksX2_whyNot_0 8 rfl rfl)
theorem dX2_whyNot_9 : decode cX2_whyNot 9 = .ok (.ireturn, 1) := dk_172 (dk_at dksX2_whyNot_0 9 rfl rfl)
theorem dX2_whyNot_10 : decode cX2_whyNot 10 = .ok (.aload_n 0, 1) := dk_42 (dk_at dksX2_whyNot_0 10 rfl rfl)
theorem dX2_whyNot_11 : decode cX2_whyNot 11 = .ok (.iload_n 2, 1) := dk_28 (dk_at dksX2_whyNot_0 11 rfl rfl)
theorem dX2_whyNot_12 : decode cX2_whyNot 12 = .ok (.invokevirtual 269, 3) := dk_182 1 13 (dk_at dksX2_whyNot_0 12 rfl rfl)
theorem dX2_whyNot_15 : decode cX2_whyNot 15 = .ok (.ifCond .ne 5, 3) := dk_154 0 5 (dk_at dksX2_whyNot_0 15 rfl rfl)
theorem dX2_whyNot_18 : decode cX2_whyNot 18 = .ok (.iconst 2, 1) := dk_5 (dk_at dksX2_whyNot_0 18 rfl rfl)
theorem dX2_whyNot_19 : decode cX2_whyNot 19 = .ok (.ireturn, 1) := dk_172 (dk_at dksX2_whyNot_0 19 rfl rfl)
theorem dX2_whyNot_20 : decode cX2_whyNot 20 = .ok (.aload_n 0, 1) := dk_42 (dk_at dksX2_whyNot_0 20 rfl rfl)
theorem dX2_whyNot_21 : decode cX2_whyNot 21 = .ok (.getfield 81, 3) := dk_180 0 81 (dk_at dksX2_whyNot_0 21 rfl rfl)
theorem dX2_whyNot_24 : decode cX2_whyNot 24 = .ok (.sipush 200, 3) := dk_17 0 200 (dk_at dksX2_whyNot_1 0 rfl rfl)
theorem dX2_whyNot_27 : decode cX2_whyNot 27 = .ok (.if_icmp .ne 5, 3) := dk_160 0 5 (dk_at dksX2_whyNot_1 3 rfl rfl)
theorem dX2_whyNot_30 : decode cX2_whyNot 30 = .ok (.iconst 3, 1) := dk_6 (dk_at dksX2_whyNot_1 6 rfl rfl)
theorem dX2_whyNot_31 : decode cX2_whyNot 31 = .ok (.ireturn, 1) := dk_172 (dk_at dksX2_whyNot_1 7 rfl rfl)
theorem dX2_whyNot_32 : decode cX2_whyNot 32 = .ok (.aload_n 0, 1) := dk_42 (dk_at dksX2_whyNot_1 8 rfl rfl)
theorem dX2_whyNot_33 : decode cX2_whyNot 33 = .ok (.aload_n 0, 1) := dk_42 (dk_at dksX2_whyNot_1 9 rfl rfl)
theorem dX2_whyNot_34 : decode cX2_whyNot 34 = .ok (.iload_n 1, 1) := dk_27 (dk_at dksX2_whyNot_1 10 rfl rfl)
theorem dX2_whyNot_35 : decode cX2_whyNot 35 = .ok (.invokevirtual 168, 3) := dk_182 0 168 (dk_at dksX2_whyNot_1 11 rfl rfl)
theorem dX2_whyNot_38 : decode cX2_whyNot 38 = .ok (.aload_n 0, 1) := dk_42 (dk_at dksX2_whyNot_1 14 rfl rfl)
theorem dX2_whyNot_39 : decode cX2_whyNot 39 = .ok (.iload_n 2, 1) := dk_28 (dk_at dksX2_whyNot_1 15 rfl rfl)
theorem dX2_whyNot_40 : decode cX2_whyNot 40 = .ok (.invokevirtual 168, 3) := dk_182 0 168 (dk_at dksX2_whyNot_1 16 rfl rfl)
theorem dX2_whyNot_43 : decode cX2_whyNot 43 = .ok (.invokevirtual 272, 3) := dk_182 1 16 (dk_at dksX2_whyNot_1 19 rfl rfl)
theorem dX2_whyNot_46 : decode cX2_whyNot 46 = .ok (.ifCond .eq 7, 3) := dk_153 0 7 (dk_at dksX2_whyNot_2 0 rfl rfl)
theorem dX2_whyNot_49 : decode cX2_whyNot 49 = .ok (.iconst 4, 1) := dk_7 (dk_at dksX2_whyNot_2 3 rfl rfl)
theorem dX2_whyNot_50 : decode cX2_whyNot 50 = .ok (.goto 4, 3) := dk_167 0 4 (dk_at dksX2_whyNot_2 4 rfl rfl)
theorem dX2_whyNot_53 : decode cX2_whyNot 53 = .ok (.iconst 0, 1) := dk_3 (dk_at dksX2_whyNot_2 7 rfl rfl)
theorem dX2_whyNot_54 : decode cX2_whyNot 54 = .ok (.ireturn, 1) := dk_172 (dk_at dksX2_whyNot_2 8 rfl rfl)
abbrev cX2_isIdle : ByteArray := prog_3_method_14_code
def yX2_isIdle : MethodName := ⟨RX2, "isIdle", "(I)Z"⟩
def dkwX2_isIdle_0 : List UInt8 := [42, 27, 182, 0, 177, 154, 0, 7, 4, 167, 0, 4, 3, 172]
abbrev dktX2_isIdle_0 : List UInt8 := dkwX2_isIdle_0 ++ []
theorem dksX2_isIdle_0 : cX2_isIdle.data.toList.drop 0 = dktX2_isIdle_0 := by decide +kernel
theorem dX2_isIdle_0 : decode cX2_isIdle 0 = .ok (.aload_n 0, 1) := dk_42 (dk_at dksX2_isIdle_0 0 rfl rfl)
theorem dX2_isIdle_1 : decode cX2_isIdle 1 = .ok (.iload_n 1, 1) := dk_27 (dk_at dksX2_isIdle_0 1 rfl rfl)
theorem dX2_isIdle_2 : decode cX2_isIdle 2 = .ok (.invokevirtual 177, 3) := dk_182 0 177 (dk_at dksX2_isIdle_0 2 rfl rfl)
theorem dX2_isIdle_5 : decode cX2_isIdle 5 = .ok (.ifCond .ne 7, 3) := dk_154 0 7 (dk_at dksX2_isIdle_0 5 rfl rfl)
theorem dX2_isIdle_8 : decode cX2_isIdle 8 = .ok (.iconst 1, 1) := dk_4 (dk_at dksX2_isIdle_0 8 rfl rfl)
theorem dX2_isIdle_9 : decode cX2_isIdle 9 = .ok (.goto 4, 3) := dk_167 0 4 (dk_at dksX2_isIdle_0 9 rfl rfl)
theorem dX2_isIdle_12 : decode cX2_isIdle 12 = .ok (.iconst 0, 1) := dk_3 (dk_at dksX2_isIdle_0 12 rfl rfl)
theorem dX2_isIdle_13 : decode cX2_isIdle 13 = .ok (.ireturn, 1) := dk_172 (dk_at dksX2_isIdle_0 13 rfl rfl)
abbrev cX2_stateOf : ByteArray := prog_3_method_13_code
def yX2_stateOf : MethodName := ⟨RX2, "stateOf", "(I)I"⟩
def dkwX2_stateOf_1 : List UInt8 := [167, 0, 4, 3, 172]
abbrev dktX2_stateOf_1 : List UInt8 := dkwX2_stateOf_1 ++ []
def dkwX2_stateOf_0 : List UInt8 := [42, 180, 0, 72, 27, 50, 198, 0, 7, 4, 167, 0, 16, 42, 27, 182, 0, 173, 198, 0, 7, 5]
abbrev dktX2_stateOf_0 : List UInt8 := dkwX2_stateOf_0 ++ dktX2_stateOf_1
theorem dksX2_stateOf_0 : cX2_stateOf.data.toList.drop 0 = dktX2_stateOf_0 := by decide +kernel
theorem dksX2_stateOf_1 : cX2_stateOf.data.toList.drop 22 = dktX2_stateOf_1 := dk_seg dksX2_stateOf_0 22 rfl rfl
theorem dX2_stateOf_0 : decode cX2_stateOf 0 = .ok (.aload_n 0, 1) := dk_42 (dk_at dksX2_stateOf_0 0 rfl rfl)
theorem dX2_stateOf_1 : decode cX2_stateOf 1 = .ok (.getfield 72, 3) := dk_180 0 72 (dk_at dksX2_stateOf_0 1 rfl rfl)
theorem dX2_stateOf_4 : decode cX2_stateOf 4 = .ok (.iload_n 1, 1) := dk_27 (dk_at dksX2_stateOf_0 4 rfl rfl)
theorem dX2_stateOf_5 : decode cX2_stateOf 5 = .ok (.aaload, 1) := dk_50 (dk_at dksX2_stateOf_0 5 rfl rfl)
theorem dX2_stateOf_6 : decode cX2_stateOf 6 = .ok (.ifnull 7, 3) := dk_198 0 7 (dk_at dksX2_stateOf_0 6 rfl rfl)
theorem dX2_stateOf_9 : decode cX2_stateOf 9 = .ok (.iconst 1, 1) := dk_4 (dk_at dksX2_stateOf_0 9 rfl rfl)
theorem dX2_stateOf_10 : decode cX2_stateOf 10 = .ok (.goto 16, 3) := dk_167 0 16 (dk_at dksX2_stateOf_0 10 rfl rfl)
theorem dX2_stateOf_13 : decode cX2_stateOf 13 = .ok (.aload_n 0, 1) := dk_42 (dk_at dksX2_stateOf_0 13 rfl rfl)
theorem dX2_stateOf_14 : decode cX2_stateOf 14 = .ok (.iload_n 1, 1) := dk_27 (dk_at dksX2_stateOf_0 14 rfl rfl)
theorem dX2_stateOf_15 : decode cX2_stateOf 15 = .ok (.invokevirtual 173, 3) := dk_182 0 173 (dk_at dksX2_stateOf_0 15 rfl rfl)
theorem dX2_stateOf_18 : decode cX2_stateOf 18 = .ok (.ifnull 7, 3) := dk_198 0 7 (dk_at dksX2_stateOf_0 18 rfl rfl)
theorem dX2_stateOf_21 : decode cX2_stateOf 21 = .ok (.iconst 2, 1) := dk_5 (dk_at dksX2_stateOf_0 21 rfl rfl)
theorem dX2_stateOf_22 : decode cX2_stateOf 22 = .ok (.goto 4, 3) := dk_167 0 4 (dk_at dksX2_stateOf_1 0 rfl rfl)
theorem dX2_stateOf_25 : decode cX2_stateOf 25 = .ok (.iconst 0, 1) := dk_3 (dk_at dksX2_stateOf_1 3 rfl rfl)
theorem dX2_stateOf_26 : decode cX2_stateOf 26 = .ok (.ireturn, 1) := dk_172 (dk_at dksX2_stateOf_1 4 rfl rfl)
abbrev cX2_waiter : ByteArray := prog_3_method_12_code
def yX2_waiter : MethodName := ⟨RX2, "waiter", "(I)LCrossbarExchange$Waiter;"⟩
def dkwX2_waiter_2 : List UInt8 := [185, 0, 119, 2, 0, 192, 0, 129, 176, 132, 2, 1, 167, 255, 206, 1, 176]
abbrev dktX2_waiter_2 : List UInt8 := dkwX2_waiter_2 ++ []
def dkwX2_waiter_1 : List UInt8 := [185, 0, 119, 2, 0, 192, 0, 129, 180, 0, 172, 27, 160, 0, 17, 42, 180, 0, 45, 28]
abbrev dktX2_waiter_1 : List UInt8 := dkwX2_waiter_1 ++ dktX2_waiter_2
def dkwX2_waiter_0 : List UInt8 := [3, 61, 28, 42, 180, 0, 45, 185, 0, 113, 1, 0, 162, 0, 43, 42, 180, 0, 45, 28]
abbrev dktX2_waiter_0 : List UInt8 := dkwX2_waiter_0 ++ dktX2_waiter_1
theorem dksX2_waiter_0 : cX2_waiter.data.toList.drop 0 = dktX2_waiter_0 := by decide +kernel
theorem dksX2_waiter_1 : cX2_waiter.data.toList.drop 20 = dktX2_waiter_1 := dk_seg dksX2_waiter_0 20 rfl rfl
theorem dksX2_waiter_2 : cX2_waiter.data.toList.drop 40 = dktX2_waiter_2 := dk_seg dksX2_waiter_1 20 rfl rfl
theorem dX2_waiter_0 : decode cX2_waiter 0 = .ok (.iconst 0, 1) := dk_3 (dk_at dksX2_waiter_0 0 rfl rfl)
theorem dX2_waiter_1 : decode cX2_waiter 1 = .ok (.istore_n 2, 1) := dk_61 (dk_at dksX2_waiter_0 1 rfl rfl)
theorem dX2_waiter_2 : decode cX2_waiter 2 = .ok (.iload_n 2, 1) := dk_28 (dk_at dksX2_waiter_0 2 rfl rfl)
theorem dX2_waiter_3 : decode cX2_waiter 3 = .ok (.aload_n 0, 1) := dk_42 (dk_at dksX2_waiter_0 3 rfl rfl)
theorem dX2_waiter_4 : decode cX2_waiter 4 = .ok (.getfield 45, 3) := dk_180 0 45 (dk_at dksX2_waiter_0 4 rfl rfl)
theorem dX2_waiter_7 : decode cX2_waiter 7 = .ok (.invokeinterface 113 1, 5) := by decide +kernel
theorem dX2_waiter_12 : decode cX2_waiter 12 = .ok (.if_icmp .ge 43, 3) := dk_162 0 43 (dk_at dksX2_waiter_0 12 rfl rfl)
theorem dX2_waiter_15 : decode cX2_waiter 15 = .ok (.aload_n 0, 1) := dk_42 (dk_at dksX2_waiter_0 15 rfl rfl)
theorem dX2_waiter_16 : decode cX2_waiter 16 = .ok (.getfield 45, 3) := dk_180 0 45 (dk_at dksX2_waiter_0 16 rfl rfl)
theorem dX2_waiter_19 : decode cX2_waiter 19 = .ok (.iload_n 2, 1) := dk_28 (dk_at dksX2_waiter_0 19 rfl rfl)
theorem dX2_waiter_20 : decode cX2_waiter 20 = .ok (.invokeinterface 119 2, 5) := by decide +kernel
theorem dX2_waiter_25 : decode cX2_waiter 25 = .ok (.checkcast 129, 3) := dk_192 0 129 (dk_at dksX2_waiter_1 5 rfl rfl)
theorem dX2_waiter_28 : decode cX2_waiter 28 = .ok (.getfield 172, 3) := dk_180 0 172 (dk_at dksX2_waiter_1 8 rfl rfl)
theorem dX2_waiter_31 : decode cX2_waiter 31 = .ok (.iload_n 1, 1) := dk_27 (dk_at dksX2_waiter_1 11 rfl rfl)
theorem dX2_waiter_32 : decode cX2_waiter 32 = .ok (.if_icmp .ne 17, 3) := dk_160 0 17 (dk_at dksX2_waiter_1 12 rfl rfl)
theorem dX2_waiter_35 : decode cX2_waiter 35 = .ok (.aload_n 0, 1) := dk_42 (dk_at dksX2_waiter_1 15 rfl rfl)
theorem dX2_waiter_36 : decode cX2_waiter 36 = .ok (.getfield 45, 3) := dk_180 0 45 (dk_at dksX2_waiter_1 16 rfl rfl)
theorem dX2_waiter_39 : decode cX2_waiter 39 = .ok (.iload_n 2, 1) := dk_28 (dk_at dksX2_waiter_1 19 rfl rfl)
theorem dX2_waiter_40 : decode cX2_waiter 40 = .ok (.invokeinterface 119 2, 5) := by decide +kernel
theorem dX2_waiter_45 : decode cX2_waiter 45 = .ok (.checkcast 129, 3) := dk_192 0 129 (dk_at dksX2_waiter_2 5 rfl rfl)
theorem dX2_waiter_48 : decode cX2_waiter 48 = .ok (.areturn, 1) := dk_176 (dk_at dksX2_waiter_2 8 rfl rfl)
theorem dX2_waiter_49 : decode cX2_waiter 49 = .ok (.iinc 2 1, 3) := dk_132 2 1 (dk_at dksX2_waiter_2 9 rfl rfl)
theorem dX2_waiter_52 : decode cX2_waiter 52 = .ok (.goto (-50), 3) := dk_167 255 206 (dk_at dksX2_waiter_2 12 rfl rfl)
theorem dX2_waiter_55 : decode cX2_waiter 55 = .ok (.aconst_null, 1) := dk_1 (dk_at dksX2_waiter_2 15 rfl rfl)
theorem dX2_waiter_56 : decode cX2_waiter 56 = .ok (.areturn, 1) := dk_176 (dk_at dksX2_waiter_2 16 rfl rfl)
abbrev cX2_stage : ByteArray := prog_3_method_8_code
def yX2_stage : MethodName := ⟨RX2, "stage", "(I)I"⟩
def dkwX2_stage_0 : List UInt8 := [27, 42, 180, 0, 66, 108, 172]
abbrev dktX2_stage_0 : List UInt8 := dkwX2_stage_0 ++ []
theorem dksX2_stage_0 : cX2_stage.data.toList.drop 0 = dktX2_stage_0 := by decide +kernel
theorem dX2_stage_0 : decode cX2_stage 0 = .ok (.iload_n 1, 1) := dk_27 (dk_at dksX2_stage_0 0 rfl rfl)
theorem dX2_stage_1 : decode cX2_stage 1 = .ok (.aload_n 0, 1) := dk_42 (dk_at dksX2_stage_0 1 rfl rfl)
theorem dX2_stage_2 : decode cX2_stage 2 = .ok (.getfield 66, 3) := dk_180 0 66 (dk_at dksX2_stage_0 2 rfl rfl)
theorem dX2_stage_5 : decode cX2_stage 5 = .ok (.idiv, 1) := dk_108 (dk_at dksX2_stage_0 5 rfl rfl)
theorem dX2_stage_6 : decode cX2_stage 6 = .ok (.ireturn, 1) := dk_172 (dk_at dksX2_stage_0 6 rfl rfl)
abbrev cX2_isBlocked : ByteArray := prog_3_method_30_code
def yX2_isBlocked : MethodName := ⟨RX2, "isBlocked", "(II)Z"⟩
def dkwX2_isBlocked_0 : List UInt8 := [42, 27, 28, 182, 0, 243, 199, 0, 7, 4, 167, 0, 4, 3, 172]
abbrev dktX2_isBlocked_0 : List UInt8 := dkwX2_isBlocked_0 ++ []
theorem dksX2_isBlocked_0 : cX2_isBlocked.data.toList.drop 0 = dktX2_isBlocked_0 := by decide +kernel
theorem dX2_isBlocked_0 : decode cX2_isBlocked 0 = .ok (.aload_n 0, 1) := dk_42 (dk_at dksX2_isBlocked_0 0 rfl rfl)
theorem dX2_isBlocked_1 : decode cX2_isBlocked 1 = .ok (.iload_n 1, 1) := dk_27 (dk_at dksX2_isBlocked_0 1 rfl rfl)
theorem dX2_isBlocked_2 : decode cX2_isBlocked 2 = .ok (.iload_n 2, 1) := dk_28 (dk_at dksX2_isBlocked_0 2 rfl rfl)
theorem dX2_isBlocked_3 : decode cX2_isBlocked 3 = .ok (.invokevirtual 243, 3) := dk_182 0 243 (dk_at dksX2_isBlocked_0 3 rfl rfl)
theorem dX2_isBlocked_6 : decode cX2_isBlocked 6 = .ok (.ifnonnull 7, 3) := dk_199 0 7 (dk_at dksX2_isBlocked_0 6 rfl rfl)
theorem dX2_isBlocked_9 : decode cX2_isBlocked 9 = .ok (.iconst 1, 1) := dk_4 (dk_at dksX2_isBlocked_0 9 rfl rfl)
theorem dX2_isBlocked_10 : decode cX2_isBlocked 10 = .ok (.goto 4, 3) := dk_167 0 4 (dk_at dksX2_isBlocked_0 10 rfl rfl)
theorem dX2_isBlocked_13 : decode cX2_isBlocked 13 = .ok (.iconst 0, 1) := dk_3 (dk_at dksX2_isBlocked_0 13 rfl rfl)
theorem dX2_isBlocked_14 : decode cX2_isBlocked 14 = .ok (.ireturn, 1) := dk_172 (dk_at dksX2_isBlocked_0 14 rfl rfl)
abbrev cX2_path : ByteArray := prog_3_method_28_code
def yX2_path : MethodName := ⟨RX2, "path", "(II)LCrossbarExchange$Path;"⟩
def dkwX2_path_1 : List UInt8 := [182, 0, 239, 176]
abbrev dktX2_path_1 : List UInt8 := dkwX2_path_1 ++ []
def dkwX2_path_0 : List UInt8 := [42, 27, 28, 42, 182, 0, 236, 42, 180, 0, 144, 42, 180, 0, 59, 4, 160, 0, 7, 4, 167, 0, 4, 3]
abbrev dktX2_path_0 : List UInt8 := dkwX2_path_0 ++ dktX2_path_1
theorem dksX2_path_0 : cX2_path.data.toList.drop 0 = dktX2_path_0 := by decide +kernel
theorem dksX2_path_1 : cX2_path.data.toList.drop 24 = dktX2_path_1 := dk_seg dksX2_path_0 24 rfl rfl
theorem dX2_path_0 : decode cX2_path 0 = .ok (.aload_n 0, 1) := dk_42 (dk_at dksX2_path_0 0 rfl rfl)
theorem dX2_path_1 : decode cX2_path 1 = .ok (.iload_n 1, 1) := dk_27 (dk_at dksX2_path_0 1 rfl rfl)
theorem dX2_path_2 : decode cX2_path 2 = .ok (.iload_n 2, 1) := dk_28 (dk_at dksX2_path_0 2 rfl rfl)
theorem dX2_path_3 : decode cX2_path 3 = .ok (.aload_n 0, 1) := dk_42 (dk_at dksX2_path_0 3 rfl rfl)
theorem dX2_path_4 : decode cX2_path 4 = .ok (.invokevirtual 236, 3) := dk_182 0 236 (dk_at dksX2_path_0 4 rfl rfl)
theorem dX2_path_7 : decode cX2_path 7 = .ok (.aload_n 0, 1) := dk_42 (dk_at dksX2_path_0 7 rfl rfl)
theorem dX2_path_8 : decode cX2_path 8 = .ok (.getfield 144, 3) := dk_180 0 144 (dk_at dksX2_path_0 8 rfl rfl)
theorem dX2_path_11 : decode cX2_path 11 = .ok (.aload_n 0, 1) := dk_42 (dk_at dksX2_path_0 11 rfl rfl)
theorem dX2_path_12 : decode cX2_path 12 = .ok (.getfield 59, 3) := dk_180 0 59 (dk_at dksX2_path_0 12 rfl rfl)
theorem dX2_path_15 : decode cX2_path 15 = .ok (.iconst 1, 1) := dk_4 (dk_at dksX2_path_0 15 rfl rfl)
theorem dX2_path_16 : decode cX2_path 16 = .ok (.if_icmp .ne 7, 3) := dk_160 0 7 (dk_at dksX2_path_0 16 rfl rfl)
theorem dX2_path_19 : decode cX2_path 19 = .ok (.iconst 1, 1) := dk_4 (dk_at dksX2_path_0 19 rfl rfl)
theorem dX2_path_20 : decode cX2_path 20 = .ok (.goto 4, 3) := dk_167 0 4 (dk_at dksX2_path_0 20 rfl rfl)
theorem dX2_path_23 : decode cX2_path 23 = .ok (.iconst 0, 1) := dk_3 (dk_at dksX2_path_0 23 rfl rfl)
theorem dX2_path_24 : decode cX2_path 24 = .ok (.invokevirtual 239, 3) := dk_182 0 239 (dk_at dksX2_path_1 0 rfl rfl)
theorem dX2_path_27 : decode cX2_path 27 = .ok (.areturn, 1) := dk_176 (dk_at dksX2_path_1 3 rfl rfl)
abbrev cX2_usable : ByteArray := prog_3_method_17_code
def yX2_usable : MethodName := ⟨RX2, "usable", "()I"⟩
def dkwX2_usable_1 : List UInt8 := [128, 60, 132, 2, 1, 167, 255, 231, 27, 172]
abbrev dktX2_usable_1 : List UInt8 := dkwX2_usable_1 ++ []
def dkwX2_usable_0 : List UInt8 := [3, 60, 3, 61, 28, 42, 180, 0, 69, 162, 0, 23, 42, 28, 182, 0, 181, 153, 0, 9, 27, 4, 28, 120]
abbrev dktX2_usable_0 : List UInt8 := dkwX2_usable_0 ++ dktX2_usable_1
theorem dksX2_usable_0 : cX2_usable.data.toList.drop 0 = dktX2_usable_0 := by decide +kernel
theorem dksX2_usable_1 : cX2_usable.data.toList.drop 24 = dktX2_usable_1 := dk_seg dksX2_usable_0 24 rfl rfl
theorem dX2_usable_0 : decode cX2_usable 0 = .ok (.iconst 0, 1) := dk_3 (dk_at dksX2_usable_0 0 rfl rfl)
theorem dX2_usable_1 : decode cX2_usable 1 = .ok (.istore_n 1, 1) := dk_60 (dk_at dksX2_usable_0 1 rfl rfl)
theorem dX2_usable_2 : decode cX2_usable 2 = .ok (.iconst 0, 1) := dk_3 (dk_at dksX2_usable_0 2 rfl rfl)
theorem dX2_usable_3 : decode cX2_usable 3 = .ok (.istore_n 2, 1) := dk_61 (dk_at dksX2_usable_0 3 rfl rfl)
theorem dX2_usable_4 : decode cX2_usable 4 = .ok (.iload_n 2, 1) := dk_28 (dk_at dksX2_usable_0 4 rfl rfl)
theorem dX2_usable_5 : decode cX2_usable 5 = .ok (.aload_n 0, 1) := dk_42 (dk_at dksX2_usable_0 5 rfl rfl)
theorem dX2_usable_6 : decode cX2_usable 6 = .ok (.getfield 69, 3) := dk_180 0 69 (dk_at dksX2_usable_0 6 rfl rfl)
theorem dX2_usable_9 : decode cX2_usable 9 = .ok (.if_icmp .ge 23, 3) := dk_162 0 23 (dk_at dksX2_usable_0 9 rfl rfl)
theorem dX2_usable_12 : decode cX2_usable 12 = .ok (.aload_n 0, 1) := dk_42 (dk_at dksX2_usable_0 12 rfl rfl)
theorem dX2_usable_13 : decode cX2_usable 13 = .ok (.iload_n 2, 1) := dk_28 (dk_at dksX2_usable_0 13 rfl rfl)
theorem dX2_usable_14 : decode cX2_usable 14 = .ok (.invokevirtual 181, 3) := dk_182 0 181 (dk_at dksX2_usable_0 14 rfl rfl)
theorem dX2_usable_17 : decode cX2_usable 17 = .ok (.ifCond .eq 9, 3) := dk_153 0 9 (dk_at dksX2_usable_0 17 rfl rfl)
theorem dX2_usable_20 : decode cX2_usable 20 = .ok (.iload_n 1, 1) := dk_27 (dk_at dksX2_usable_0 20 rfl rfl)
theorem dX2_usable_21 : decode cX2_usable 21 = .ok (.iconst 1, 1) := dk_4 (dk_at dksX2_usable_0 21 rfl rfl)
theorem dX2_usable_22 : decode cX2_usable 22 = .ok (.iload_n 2, 1) := dk_28 (dk_at dksX2_usable_0 22 rfl rfl)
theorem dX2_usable_23 : decode cX2_usable 23 = .ok (.ishl, 1) := dk_120 (dk_at dksX2_usable_0 23 rfl rfl)
theorem dX2_usable_24 : decode cX2_usable 24 = .ok (.ior, 1) := dk_128 (dk_at dksX2_usable_1 0 rfl rfl)
theorem dX2_usable_25 : decode cX2_usable 25 = .ok (.istore_n 1, 1) := dk_60 (dk_at dksX2_usable_1 1 rfl rfl)
theorem dX2_usable_26 : decode cX2_usable 26 = .ok (.iinc 2 1, 3) := dk_132 2 1 (dk_at dksX2_usable_1 2 rfl rfl)
theorem dX2_usable_29 : decode cX2_usable 29 = .ok (.goto (-25), 3) := dk_167 255 231 (dk_at dksX2_usable_1 5 rfl rfl)
theorem dX2_usable_32 : decode cX2_usable 32 = .ok (.iload_n 1, 1) := dk_27 (dk_at dksX2_usable_1 8 rfl rfl)
theorem dX2_usable_33 : decode cX2_usable 33 = .ok (.ireturn, 1) := dk_172 (dk_at dksX2_usable_1 9 rfl rfl)
abbrev cX2_isInOrder : ByteArray := prog_3_method_15_code
def yX2_isInOrder : MethodName := ⟨RX2, "isInOrder", "(I)Z"⟩
def dkwX2_isInOrder_0 : List UInt8 := [42, 180, 0, 27, 27, 184, 0, 99, 182, 0, 105, 154, 0, 7, 4, 167, 0, 4, 3, 172]
abbrev dktX2_isInOrder_0 : List UInt8 := dkwX2_isInOrder_0 ++ []
theorem dksX2_isInOrder_0 : cX2_isInOrder.data.toList.drop 0 = dktX2_isInOrder_0 := by decide +kernel
theorem dX2_isInOrder_0 : decode cX2_isInOrder 0 = .ok (.aload_n 0, 1) := dk_42 (dk_at dksX2_isInOrder_0 0 rfl rfl)
theorem dX2_isInOrder_1 : decode cX2_isInOrder 1 = .ok (.getfield 27, 3) := dk_180 0 27 (dk_at dksX2_isInOrder_0 1 rfl rfl)
theorem dX2_isInOrder_4 : decode cX2_isInOrder 4 = .ok (.iload_n 1, 1) := dk_27 (dk_at dksX2_isInOrder_0 4 rfl rfl)
theorem dX2_isInOrder_5 : decode cX2_isInOrder 5 = .ok (.invokestatic 99, 3) := dk_184 0 99 (dk_at dksX2_isInOrder_0 5 rfl rfl)
theorem dX2_isInOrder_8 : decode cX2_isInOrder 8 = .ok (.invokevirtual 105, 3) := dk_182 0 105 (dk_at dksX2_isInOrder_0 8 rfl rfl)
theorem dX2_isInOrder_11 : decode cX2_isInOrder 11 = .ok (.ifCond .ne 7, 3) := dk_154 0 7 (dk_at dksX2_isInOrder_0 11 rfl rfl)
theorem dX2_isInOrder_14 : decode cX2_isInOrder 14 = .ok (.iconst 1, 1) := dk_4 (dk_at dksX2_isInOrder_0 14 rfl rfl)
theorem dX2_isInOrder_15 : decode cX2_isInOrder 15 = .ok (.goto 4, 3) := dk_167 0 4 (dk_at dksX2_isInOrder_0 15 rfl rfl)
theorem dX2_isInOrder_18 : decode cX2_isInOrder 18 = .ok (.iconst 0, 1) := dk_3 (dk_at dksX2_isInOrder_0 18 rfl rfl)
theorem dX2_isInOrder_19 : decode cX2_isInOrder 19 = .ok (.ireturn, 1) := dk_172 (dk_at dksX2_isInOrder_0 19 rfl rfl)
abbrev cX2_path_2 : ByteArray := prog_3_method_27_code
def yX2_path_2 : MethodName := ⟨RX2, "path", "(IIIIZ)LCrossbarExchange$Path;"⟩
def dkwX2_path_2_1 : List UInt8 := [183, 0, 230, 176, 21, 5, 153, 0, 13, 42, 27, 28, 29, 182, 0, 232, 167, 0, 4, 1, 176]
abbrev dktX2_path_2_1 : List UInt8 := dkwX2_path_2_1 ++ []
def dkwX2_path_2_0 : List UInt8 := [42, 27, 28, 29, 21, 4, 182, 0, 226, 54, 6, 21, 6, 2, 159, 0, 13, 187, 0, 219, 89, 21, 6]
abbrev dktX2_path_2_0 : List UInt8 := dkwX2_path_2_0 ++ dktX2_path_2_1
theorem dksX2_path_2_0 : cX2_path_2.data.toList.drop 0 = dktX2_path_2_0 := by decide +kernel
theorem dksX2_path_2_1 : cX2_path_2.data.toList.drop 23 = dktX2_path_2_1 := dk_seg dksX2_path_2_0 23 rfl rfl
theorem dX2_path_2_0 : decode cX2_path_2 0 = .ok (.aload_n 0, 1) := dk_42 (dk_at dksX2_path_2_0 0 rfl rfl)
theorem dX2_path_2_1 : decode cX2_path_2 1 = .ok (.iload_n 1, 1) := dk_27 (dk_at dksX2_path_2_0 1 rfl rfl)
theorem dX2_path_2_2 : decode cX2_path_2 2 = .ok (.iload_n 2, 1) := dk_28 (dk_at dksX2_path_2_0 2 rfl rfl)
theorem dX2_path_2_3 : decode cX2_path_2 3 = .ok (.iload_n 3, 1) := dk_29 (dk_at dksX2_path_2_0 3 rfl rfl)
theorem dX2_path_2_4 : decode cX2_path_2 4 = .ok (.iload 4, 2) := dk_21 4 (dk_at dksX2_path_2_0 4 rfl rfl)
theorem dX2_path_2_6 : decode cX2_path_2 6 = .ok (.invokevirtual 226, 3) := dk_182 0 226 (dk_at dksX2_path_2_0 6 rfl rfl)
theorem dX2_path_2_9 : decode cX2_path_2 9 = .ok (.istore 6, 2) := dk_54 6 (dk_at dksX2_path_2_0 9 rfl rfl)
theorem dX2_path_2_11 : decode cX2_path_2 11 = .ok (.iload 6, 2) := dk_21 6 (dk_at dksX2_path_2_0 11 rfl rfl)
theorem dX2_path_2_13 : decode cX2_path_2 13 = .ok (.iconst (-1), 1) := dk_2 (dk_at dksX2_path_2_0 13 rfl rfl)
theorem dX2_path_2_14 : decode cX2_path_2 14 = .ok (.if_icmp .eq 13, 3) := dk_159 0 13 (dk_at dksX2_path_2_0 14 rfl rfl)
theorem dX2_path_2_17 : decode cX2_path_2 17 = .ok (.new 219, 3) := dk_187 0 219 (dk_at dksX2_path_2_0 17 rfl rfl)
theorem dX2_path_2_20 : decode cX2_path_2 20 = .ok (.dup, 1) := dk_89 (dk_at dksX2_path_2_0 20 rfl rfl)
theorem dX2_path_2_21 : decode cX2_path_2 21 = .ok (.iload 6, 2) := dk_21 6 (dk_at dksX2_path_2_0 21 rfl rfl)
theorem dX2_path_2_23 : decode cX2_path_2 23 = .ok (.invokespecial 230, 3) := dk_183 0 230 (dk_at dksX2_path_2_1 0 rfl rfl)
theorem dX2_path_2_26 : decode cX2_path_2 26 = .ok (.areturn, 1) := dk_176 (dk_at dksX2_path_2_1 3 rfl rfl)
theorem dX2_path_2_27 : decode cX2_path_2 27 = .ok (.iload 5, 2) := dk_21 5 (dk_at dksX2_path_2_1 4 rfl rfl)
theorem dX2_path_2_29 : decode cX2_path_2 29 = .ok (.ifCond .eq 13, 3) := dk_153 0 13 (dk_at dksX2_path_2_1 6 rfl rfl)
theorem dX2_path_2_32 : decode cX2_path_2 32 = .ok (.aload_n 0, 1) := dk_42 (dk_at dksX2_path_2_1 9 rfl rfl)
theorem dX2_path_2_33 : decode cX2_path_2 33 = .ok (.iload_n 1, 1) := dk_27 (dk_at dksX2_path_2_1 10 rfl rfl)
theorem dX2_path_2_34 : decode cX2_path_2 34 = .ok (.iload_n 2, 1) := dk_28 (dk_at dksX2_path_2_1 11 rfl rfl)
theorem dX2_path_2_35 : decode cX2_path_2 35 = .ok (.iload_n 3, 1) := dk_29 (dk_at dksX2_path_2_1 12 rfl rfl)
theorem dX2_path_2_36 : decode cX2_path_2 36 = .ok (.invokevirtual 232, 3) := dk_182 0 232 (dk_at dksX2_path_2_1 13 rfl rfl)
theorem dX2_path_2_39 : decode cX2_path_2 39 = .ok (.goto 4, 3) := dk_167 0 4 (dk_at dksX2_path_2_1 16 rfl rfl)
theorem dX2_path_2_42 : decode cX2_path_2 42 = .ok (.aconst_null, 1) := dk_1 (dk_at dksX2_path_2_1 19 rfl rfl)
theorem dX2_path_2_43 : decode cX2_path_2 43 = .ok (.areturn, 1) := dk_176 (dk_at dksX2_path_2_1 20 rfl rfl)
abbrev cX2_hunted : ByteArray := prog_3_method_24_code
def yX2_hunted : MethodName := ⟨RX2, "hunted", "(IIII)I"⟩
def dkwX2_hunted_4 : List UInt8 := [164, 0, 7, 21, 7, 54, 5, 132, 6, 1, 167, 255, 160, 21, 5, 172]
abbrev dktX2_hunted_4 : List UInt8 := dkwX2_hunted_4 ++ []
def dkwX2_hunted_3 : List UInt8 := [159, 0, 6, 21, 7, 172, 21, 5, 2, 159, 0, 18, 42, 21, 7, 182, 0, 211, 42, 21, 5, 182, 0, 211]
abbrev dktX2_hunted_3 : List UInt8 := dkwX2_hunted_3 ++ dktX2_hunted_4
def dkwX2_hunted_2 : List UInt8 := [4, 126, 153, 0, 51, 42, 21, 7, 27, 28, 182, 0, 207, 154, 0, 6, 167, 0, 37, 21, 4, 4]
abbrev dktX2_hunted_2 : List UInt8 := dkwX2_hunted_2 ++ dktX2_hunted_3
def dkwX2_hunted_1 : List UInt8 := [180, 0, 75, 4, 96, 21, 6, 96, 42, 180, 0, 69, 112, 167, 0, 5, 21, 6, 54, 7, 29, 21, 7, 122]
abbrev dktX2_hunted_1 : List UInt8 := dkwX2_hunted_1 ++ dktX2_hunted_2
def dkwX2_hunted_0 : List UInt8 := [2, 54, 5, 3, 54, 6, 21, 6, 42, 180, 0, 69, 162, 0, 93, 21, 4, 5, 160, 0, 20, 42]
abbrev dktX2_hunted_0 : List UInt8 := dkwX2_hunted_0 ++ dktX2_hunted_1
theorem dksX2_hunted_0 : cX2_hunted.data.toList.drop 0 = dktX2_hunted_0 := by decide +kernel
theorem dksX2_hunted_1 : cX2_hunted.data.toList.drop 22 = dktX2_hunted_1 := dk_seg dksX2_hunted_0 22 rfl rfl
theorem dksX2_hunted_2 : cX2_hunted.data.toList.drop 46 = dktX2_hunted_2 := dk_seg dksX2_hunted_1 24 rfl rfl
theorem dksX2_hunted_3 : cX2_hunted.data.toList.drop 68 = dktX2_hunted_3 := dk_seg dksX2_hunted_2 22 rfl rfl
theorem dksX2_hunted_4 : cX2_hunted.data.toList.drop 92 = dktX2_hunted_4 := dk_seg dksX2_hunted_3 24 rfl rfl
theorem dX2_hunted_0 : decode cX2_hunted 0 = .ok (.iconst (-1), 1) := dk_2 (dk_at dksX2_hunted_0 0 rfl rfl)
theorem dX2_hunted_1 : decode cX2_hunted 1 = .ok (.istore 5, 2) := dk_54 5 (dk_at dksX2_hunted_0 1 rfl rfl)
theorem dX2_hunted_3 : decode cX2_hunted 3 = .ok (.iconst 0, 1) := dk_3 (dk_at dksX2_hunted_0 3 rfl rfl)
theorem dX2_hunted_4 : decode cX2_hunted 4 = .ok (.istore 6, 2) := dk_54 6 (dk_at dksX2_hunted_0 4 rfl rfl)
theorem dX2_hunted_6 : decode cX2_hunted 6 = .ok (.iload 6, 2) := dk_21 6 (dk_at dksX2_hunted_0 6 rfl rfl)
theorem dX2_hunted_8 : decode cX2_hunted 8 = .ok (.aload_n 0, 1) := dk_42 (dk_at dksX2_hunted_0 8 rfl rfl)
theorem dX2_hunted_9 : decode cX2_hunted 9 = .ok (.getfield 69, 3) := dk_180 0 69 (dk_at dksX2_hunted_0 9 rfl rfl)
theorem dX2_hunted_12 : decode cX2_hunted 12 = .ok (.if_icmp .ge 93, 3) := dk_162 0 93 (dk_at dksX2_hunted_0 12 rfl rfl)
theorem dX2_hunted_15 : decode cX2_hunted 15 = .ok (.iload 4, 2) := dk_21 4 (dk_at dksX2_hunted_0 15 rfl rfl)
theorem dX2_hunted_17 : decode cX2_hunted 17 = .ok (.iconst 2, 1) := dk_5 (dk_at dksX2_hunted_0 17 rfl rfl)
theorem dX2_hunted_18 : decode cX2_hunted 18 = .ok (.if_icmp .ne 20, 3) := dk_160 0 20 (dk_at dksX2_hunted_0 18 rfl rfl)
theorem dX2_hunted_21 : decode cX2_hunted 21 = .ok (.aload_n 0, 1) := dk_42 (dk_at dksX2_hunted_0 21 rfl rfl)
theorem dX2_hunted_22 : decode cX2_hunted 22 = .ok (.getfield 75, 3) := dk_180 0 75 (dk_at dksX2_hunted_1 0 rfl rfl)
theorem dX2_hunted_25 : decode cX2_hunted 25 = .ok (.iconst 1, 1) := dk_4 (dk_at dksX2_hunted_1 3 rfl rfl)
theorem dX2_hunted_26 : decode cX2_hunted 26 = .ok (.iadd, 1) := dk_96 (dk_at dksX2_hunted_1 4 rfl rfl)
theorem dX2_hunted_27 : decode cX2_hunted 27 = .ok (.iload 6, 2) := dk_21 6 (dk_at dksX2_hunted_1 5 rfl rfl)
theorem dX2_hunted_29 : decode cX2_hunted 29 = .ok (.iadd, 1) := dk_96 (dk_at dksX2_hunted_1 7 rfl rfl)
theorem dX2_hunted_30 : decode cX2_hunted 30 = .ok (.aload_n 0, 1) := dk_42 (dk_at dksX2_hunted_1 8 rfl rfl)
theorem dX2_hunted_31 : decode cX2_hunted 31 = .ok (.getfield 69, 3) := dk_180 0 69 (dk_at dksX2_hunted_1 9 rfl rfl)
theorem dX2_hunted_34 : decode cX2_hunted 34 = .ok (.irem, 1) := dk_112 (dk_at dksX2_hunted_1 12 rfl rfl)
theorem dX2_hunted_35 : decode cX2_hunted 35 = .ok (.goto 5, 3) := dk_167 0 5 (dk_at dksX2_hunted_1 13 rfl rfl)
theorem dX2_hunted_38 : decode cX2_hunted 38 = .ok (.iload 6, 2) := dk_21 6 (dk_at dksX2_hunted_1 16 rfl rfl)
theorem dX2_hunted_40 : decode cX2_hunted 40 = .ok (.istore 7, 2) := dk_54 7 (dk_at dksX2_hunted_1 18 rfl rfl)
theorem dX2_hunted_42 : decode cX2_hunted 42 = .ok (.iload_n 3, 1) := dk_29 (dk_at dksX2_hunted_1 20 rfl rfl)
theorem dX2_hunted_43 : decode cX2_hunted 43 = .ok (.iload 7, 2) := dk_21 7 (dk_at dksX2_hunted_1 21 rfl rfl)
theorem dX2_hunted_45 : decode cX2_hunted 45 = .ok (.ishr, 1) := dk_122 (dk_at dksX2_hunted_1 23 rfl rfl)
theorem dX2_hunted_46 : decode cX2_hunted 46 = .ok (.iconst 1, 1) := dk_4 (dk_at dksX2_hunted_2 0 rfl rfl)
theorem dX2_hunted_47 : decode cX2_hunted 47 = .ok (.iand, 1) := dk_126 (dk_at dksX2_hunted_2 1 rfl rfl)
theorem dX2_hunted_48 : decode cX2_hunted 48 = .ok (.ifCond .eq 51, 3) := dk_153 0 51 (dk_at dksX2_hunted_2 2 rfl rfl)
theorem dX2_hunted_51 : decode cX2_hunted 51 = .ok (.aload_n 0, 1) := dk_42 (dk_at dksX2_hunted_2 5 rfl rfl)
theorem dX2_hunted_52 : decode cX2_hunted 52 = .ok (.iload 7, 2) := dk_21 7 (dk_at dksX2_hunted_2 6 rfl rfl)
theorem dX2_hunted_54 : decode cX2_hunted 54 = .ok (.iload_n 1, 1) := dk_27 (dk_at dksX2_hunted_2 8 rfl rfl)
theorem dX2_hunted_55 : decode cX2_hunted 55 = .ok (.iload_n 2, 1) := dk_28 (dk_at dksX2_hunted_2 9 rfl rfl)
theorem dX2_hunted_56 : decode cX2_hunted 56 = .ok (.invokevirtual 207, 3) := dk_182 0 207 (dk_at dksX2_hunted_2 10 rfl rfl)
theorem dX2_hunted_59 : decode cX2_hunted 59 = .ok (.ifCond .ne 6, 3) := dk_154 0 6 (dk_at dksX2_hunted_2 13 rfl rfl)
theorem dX2_hunted_62 : decode cX2_hunted 62 = .ok (.goto 37, 3) := dk_167 0 37 (dk_at dksX2_hunted_2 16 rfl rfl)
theorem dX2_hunted_65 : decode cX2_hunted 65 = .ok (.iload 4, 2) := dk_21 4 (dk_at dksX2_hunted_2 19 rfl rfl)
theorem dX2_hunted_67 : decode cX2_hunted 67 = .ok (.iconst 1, 1) := dk_4 (dk_at dksX2_hunted_2 21 rfl rfl)
theorem dX2_hunted_68 : decode cX2_hunted 68 = .ok (.if_icmp .eq 6, 3) := dk_159 0 6 (dk_at dksX2_hunted_3 0 rfl rfl)
theorem dX2_hunted_71 : decode cX2_hunted 71 = .ok (.iload 7, 2) := dk_21 7 (dk_at dksX2_hunted_3 3 rfl rfl)
theorem dX2_hunted_73 : decode cX2_hunted 73 = .ok (.ireturn, 1) := dk_172 (dk_at dksX2_hunted_3 5 rfl rfl)
theorem dX2_hunted_74 : decode cX2_hunted 74 = .ok (.iload 5, 2) := dk_21 5 (dk_at dksX2_hunted_3 6 rfl rfl)
theorem dX2_hunted_76 : decode cX2_hunted 76 = .ok (.iconst (-1), 1) := dk_2 (dk_at dksX2_hunted_3 8 rfl rfl)
theorem dX2_hunted_77 : decode cX2_hunted 77 = .ok (.if_icmp .eq 18, 3) := dk_159 0 18 (dk_at dksX2_hunted_3 9 rfl rfl)
theorem dX2_hunted_80 : decode cX2_hunted 80 = .ok (.aload_n 0, 1) := dk_42 (dk_at dksX2_hunted_3 12 rfl rfl)
theorem dX2_hunted_81 : decode cX2_hunted 81 = .ok (.iload 7, 2) := dk_21 7 (dk_at dksX2_hunted_3 13 rfl rfl)
theorem dX2_hunted_83 : decode cX2_hunted 83 = .ok (.invokevirtual 211, 3) := dk_182 0 211 (dk_at dksX2_hunted_3 15 rfl rfl)
theorem dX2_hunted_86 : decode cX2_hunted 86 = .ok (.aload_n 0, 1) := dk_42 (dk_at dksX2_hunted_3 18 rfl rfl)
theorem dX2_hunted_87 : decode cX2_hunted 87 = .ok (.iload 5, 2) := dk_21 5 (dk_at dksX2_hunted_3 19 rfl rfl)
theorem dX2_hunted_89 : decode cX2_hunted 89 = .ok (.invokevirtual 211, 3) := dk_182 0 211 (dk_at dksX2_hunted_3 21 rfl rfl)
theorem dX2_hunted_92 : decode cX2_hunted 92 = .ok (.if_icmp .le 7, 3) := dk_164 0 7 (dk_at dksX2_hunted_4 0 rfl rfl)
theorem dX2_hunted_95 : decode cX2_hunted 95 = .ok (.iload 7, 2) := dk_21 7 (dk_at dksX2_hunted_4 3 rfl rfl)
theorem dX2_hunted_97 : decode cX2_hunted 97 = .ok (.istore 5, 2) := dk_54 5 (dk_at dksX2_hunted_4 5 rfl rfl)
theorem dX2_hunted_99 : decode cX2_hunted 99 = .ok (.iinc 6 1, 3) := dk_132 6 1 (dk_at dksX2_hunted_4 7 rfl rfl)
theorem dX2_hunted_102 : decode cX2_hunted 102 = .ok (.goto (-96), 3) := dk_167 255 160 (dk_at dksX2_hunted_4 10 rfl rfl)
theorem dX2_hunted_105 : decode cX2_hunted 105 = .ok (.iload 5, 2) := dk_21 5 (dk_at dksX2_hunted_4 13 rfl rfl)
theorem dX2_hunted_107 : decode cX2_hunted 107 = .ok (.ireturn, 1) := dk_172 (dk_at dksX2_hunted_4 15 rfl rfl)
abbrev cX2_isOpen : ByteArray := prog_3_method_23_code
def yX2_isOpen : MethodName := ⟨RX2, "isOpen", "(III)Z"⟩
def dkwX2_isOpen_1 : List UInt8 := [3, 172]
abbrev dktX2_isOpen_1 : List UInt8 := dkwX2_isOpen_1 ++ []
def dkwX2_isOpen_0 : List UInt8 := [42, 27, 28, 3, 182, 0, 192, 199, 0, 17, 42, 27, 29, 4, 182, 0, 192, 199, 0, 7, 4, 167, 0, 4]
abbrev dktX2_isOpen_0 : List UInt8 := dkwX2_isOpen_0 ++ dktX2_isOpen_1
theorem dksX2_isOpen_0 : cX2_isOpen.data.toList.drop 0 = dktX2_isOpen_0 := by decide +kernel
theorem dksX2_isOpen_1 : cX2_isOpen.data.toList.drop 24 = dktX2_isOpen_1 := dk_seg dksX2_isOpen_0 24 rfl rfl
theorem dX2_isOpen_0 : decode cX2_isOpen 0 = .ok (.aload_n 0, 1) := dk_42 (dk_at dksX2_isOpen_0 0 rfl rfl)
theorem dX2_isOpen_1 : decode cX2_isOpen 1 = .ok (.iload_n 1, 1) := dk_27 (dk_at dksX2_isOpen_0 1 rfl rfl)
theorem dX2_isOpen_2 : decode cX2_isOpen 2 = .ok (.iload_n 2, 1) := dk_28 (dk_at dksX2_isOpen_0 2 rfl rfl)
theorem dX2_isOpen_3 : decode cX2_isOpen 3 = .ok (.iconst 0, 1) := dk_3 (dk_at dksX2_isOpen_0 3 rfl rfl)
theorem dX2_isOpen_4 : decode cX2_isOpen 4 = .ok (.invokevirtual 192, 3) := dk_182 0 192 (dk_at dksX2_isOpen_0 4 rfl rfl)
theorem dX2_isOpen_7 : decode cX2_isOpen 7 = .ok (.ifnonnull 17, 3) := dk_199 0 17 (dk_at dksX2_isOpen_0 7 rfl rfl)
theorem dX2_isOpen_10 : decode cX2_isOpen 10 = .ok (.aload_n 0, 1) := dk_42 (dk_at dksX2_isOpen_0 10 rfl rfl)
theorem dX2_isOpen_11 : decode cX2_isOpen 11 = .ok (.iload_n 1, 1) := dk_27 (dk_at dksX2_isOpen_0 11 rfl rfl)
theorem dX2_isOpen_12 : decode cX2_isOpen 12 = .ok (.iload_n 3, 1) := dk_29 (dk_at dksX2_isOpen_0 12 rfl rfl)
theorem dX2_isOpen_13 : decode cX2_isOpen 13 = .ok (.iconst 1, 1) := dk_4 (dk_at dksX2_isOpen_0 13 rfl rfl)
theorem dX2_isOpen_14 : decode cX2_isOpen 14 = .ok (.invokevirtual 192, 3) := dk_182 0 192 (dk_at dksX2_isOpen_0 14 rfl rfl)
theorem dX2_isOpen_17 : decode cX2_isOpen 17 = .ok (.ifnonnull 7, 3) := dk_199 0 7 (dk_at dksX2_isOpen_0 17 rfl rfl)
theorem dX2_isOpen_20 : decode cX2_isOpen 20 = .ok (.iconst 1, 1) := dk_4 (dk_at dksX2_isOpen_0 20 rfl rfl)
theorem dX2_isOpen_21 : decode cX2_isOpen 21 = .ok (.goto 4, 3) := dk_167 0 4 (dk_at dksX2_isOpen_0 21 rfl rfl)
theorem dX2_isOpen_24 : decode cX2_isOpen 24 = .ok (.iconst 0, 1) := dk_3 (dk_at dksX2_isOpen_1 0 rfl rfl)
theorem dX2_isOpen_25 : decode cX2_isOpen 25 = .ok (.ireturn, 1) := dk_172 (dk_at dksX2_isOpen_1 1 rfl rfl)
abbrev cX2_carriedBy : ByteArray := prog_3_method_19_code
def yX2_carriedBy : MethodName := ⟨RX2, "carriedBy", "(IIZ)LCrossbarExchange$Call;"⟩
def dkwX2_carriedBy_0 : List UInt8 := [42, 180, 0, 20, 42, 180, 0, 55, 27, 28, 29, 182, 0, 185, 182, 0, 189, 192, 0, 9, 176]
abbrev dktX2_carriedBy_0 : List UInt8 := dkwX2_carriedBy_0 ++ []
theorem dksX2_carriedBy_0 : cX2_carriedBy.data.toList.drop 0 = dktX2_carriedBy_0 := by decide +kernel
theorem dX2_carriedBy_0 : decode cX2_carriedBy 0 = .ok (.aload_n 0, 1) := dk_42 (dk_at dksX2_carriedBy_0 0 rfl rfl)
theorem dX2_carriedBy_1 : decode cX2_carriedBy 1 = .ok (.getfield 20, 3) := dk_180 0 20 (dk_at dksX2_carriedBy_0 1 rfl rfl)
theorem dX2_carriedBy_4 : decode cX2_carriedBy 4 = .ok (.aload_n 0, 1) := dk_42 (dk_at dksX2_carriedBy_0 4 rfl rfl)
theorem dX2_carriedBy_5 : decode cX2_carriedBy 5 = .ok (.getfield 55, 3) := dk_180 0 55 (dk_at dksX2_carriedBy_0 5 rfl rfl)
theorem dX2_carriedBy_8 : decode cX2_carriedBy 8 = .ok (.iload_n 1, 1) := dk_27 (dk_at dksX2_carriedBy_0 8 rfl rfl)
theorem dX2_carriedBy_9 : decode cX2_carriedBy 9 = .ok (.iload_n 2, 1) := dk_28 (dk_at dksX2_carriedBy_0 9 rfl rfl)
theorem dX2_carriedBy_10 : decode cX2_carriedBy 10 = .ok (.iload_n 3, 1) := dk_29 (dk_at dksX2_carriedBy_0 10 rfl rfl)
theorem dX2_carriedBy_11 : decode cX2_carriedBy 11 = .ok (.invokevirtual 185, 3) := dk_182 0 185 (dk_at dksX2_carriedBy_0 11 rfl rfl)
theorem dX2_carriedBy_14 : decode cX2_carriedBy 14 = .ok (.invokevirtual 189, 3) := dk_182 0 189 (dk_at dksX2_carriedBy_0 14 rfl rfl)
theorem dX2_carriedBy_17 : decode cX2_carriedBy 17 = .ok (.checkcast 9, 3) := dk_192 0 9 (dk_at dksX2_carriedBy_0 17 rfl rfl)
theorem dX2_carriedBy_20 : decode cX2_carriedBy 20 = .ok (.areturn, 1) := dk_176 (dk_at dksX2_carriedBy_0 20 rfl rfl)
abbrev cX2_load : ByteArray := prog_3_method_20_code
def yX2_load : MethodName := ⟨RX2, "load", "(I)I"⟩
def dkwX2_load_1 : List UInt8 := [132, 2, 1, 132, 3, 1, 167, 255, 232, 28, 172]
abbrev dktX2_load_1 : List UInt8 := dkwX2_load_1 ++ []
def dkwX2_load_0 : List UInt8 := [3, 61, 3, 62, 29, 42, 180, 0, 63, 162, 0, 22, 42, 27, 29, 3, 182, 0, 192, 198, 0, 6]
abbrev dktX2_load_0 : List UInt8 := dkwX2_load_0 ++ dktX2_load_1
theorem dksX2_load_0 : cX2_load.data.toList.drop 0 = dktX2_load_0 := by decide +kernel
theorem dksX2_load_1 : cX2_load.data.toList.drop 22 = dktX2_load_1 := dk_seg dksX2_load_0 22 rfl rfl
theorem dX2_load_0 : decode cX2_load 0 = .ok (.iconst 0, 1) := dk_3 (dk_at dksX2_load_0 0 rfl rfl)
theorem dX2_load_1 : decode cX2_load 1 = .ok (.istore_n 2, 1) := dk_61 (dk_at dksX2_load_0 1 rfl rfl)
theorem dX2_load_2 : decode cX2_load 2 = .ok (.iconst 0, 1) := dk_3 (dk_at dksX2_load_0 2 rfl rfl)
theorem dX2_load_3 : decode cX2_load 3 = .ok (.istore_n 3, 1) := dk_62 (dk_at dksX2_load_0 3 rfl rfl)
theorem dX2_load_4 : decode cX2_load 4 = .ok (.iload_n 3, 1) := dk_29 (dk_at dksX2_load_0 4 rfl rfl)
theorem dX2_load_5 : decode cX2_load 5 = .ok (.aload_n 0, 1) := dk_42 (dk_at dksX2_load_0 5 rfl rfl)
theorem dX2_load_6 : decode cX2_load 6 = .ok (.getfield 63, 3) := dk_180 0 63 (dk_at dksX2_load_0 6 rfl rfl)
theorem dX2_load_9 : decode cX2_load 9 = .ok (.if_icmp .ge 22, 3) := dk_162 0 22 (dk_at dksX2_load_0 9 rfl rfl)
theorem dX2_load_12 : decode cX2_load 12 = .ok (.aload_n 0, 1) := dk_42 (dk_at dksX2_load_0 12 rfl rfl)
theorem dX2_load_13 : decode cX2_load 13 = .ok (.iload_n 1, 1) := dk_27 (dk_at dksX2_load_0 13 rfl rfl)
theorem dX2_load_14 : decode cX2_load 14 = .ok (.iload_n 3, 1) := dk_29 (dk_at dksX2_load_0 14 rfl rfl)
theorem dX2_load_15 : decode cX2_load 15 = .ok (.iconst 0, 1) := dk_3 (dk_at dksX2_load_0 15 rfl rfl)
theorem dX2_load_16 : decode cX2_load 16 = .ok (.invokevirtual 192, 3) := dk_182 0 192 (dk_at dksX2_load_0 16 rfl rfl)
theorem dX2_load_19 : decode cX2_load 19 = .ok (.ifnull 6, 3) := dk_198 0 6 (dk_at dksX2_load_0 19 rfl rfl)
theorem dX2_load_22 : decode cX2_load 22 = .ok (.iinc 2 1, 3) := dk_132 2 1 (dk_at dksX2_load_1 0 rfl rfl)
theorem dX2_load_25 : decode cX2_load 25 = .ok (.iinc 3 1, 3) := dk_132 3 1 (dk_at dksX2_load_1 3 rfl rfl)
theorem dX2_load_28 : decode cX2_load 28 = .ok (.goto (-24), 3) := dk_167 255 232 (dk_at dksX2_load_1 6 rfl rfl)
theorem dX2_load_31 : decode cX2_load 31 = .ok (.iload_n 2, 1) := dk_28 (dk_at dksX2_load_1 9 rfl rfl)
theorem dX2_load_32 : decode cX2_load 32 = .ok (.ireturn, 1) := dk_172 (dk_at dksX2_load_1 10 rfl rfl)
abbrev cX2_chained : ByteArray := prog_3_method_26_code
def yX2_chained : MethodName := ⟨RX2, "chained", "(III)LCrossbarExchange$Path;"⟩
def dkwX2_chained_7 : List UInt8 := [132, 5, 1, 167, 255, 96, 25, 4, 176]
abbrev dktX2_chained_7 : List UInt8 := dkwX2_chained_7 ++ []
def dkwX2_chained_6 : List UInt8 := [21, 5, 21, 6, 25, 8, 183, 0, 223, 58, 4, 132, 7, 1, 167, 255, 178, 132, 6, 1, 167, 255, 137]
abbrev dktX2_chained_6 : List UInt8 := dkwX2_chained_6 ++ dktX2_chained_7
def dkwX2_chained_5 : List UInt8 := [25, 4, 182, 0, 218, 162, 0, 30, 187, 0, 219, 89, 21, 7, 154, 0, 8, 21, 5, 167, 0, 5, 21, 6]
abbrev dktX2_chained_5 : List UInt8 := dkwX2_chained_5 ++ dktX2_chained_6
def dkwX2_chained_4 : List UInt8 := [167, 0, 4, 3, 27, 28, 182, 0, 214, 58, 8, 25, 4, 198, 0, 18, 25, 8, 185, 0, 113, 1, 0]
abbrev dktX2_chained_4 : List UInt8 := dkwX2_chained_4 ++ dktX2_chained_5
def dkwX2_chained_3 : List UInt8 := [167, 0, 87, 3, 54, 7, 21, 7, 5, 162, 0, 78, 42, 21, 5, 21, 6, 21, 7, 154, 0, 7, 4]
abbrev dktX2_chained_3 : List UInt8 := dkwX2_chained_3 ++ dktX2_chained_4
def dkwX2_chained_2 : List UInt8 := [162, 0, 116, 29, 21, 6, 122, 4, 126, 153, 0, 101, 42, 21, 6, 28, 4, 182, 0, 192, 198, 0, 6]
abbrev dktX2_chained_2 : List UInt8 := dkwX2_chained_2 ++ dktX2_chained_3
def dkwX2_chained_1 : List UInt8 := [42, 21, 5, 27, 3, 182, 0, 192, 198, 0, 6, 167, 0, 128, 3, 54, 6, 21, 6, 42, 180, 0, 69]
abbrev dktX2_chained_1 : List UInt8 := dkwX2_chained_1 ++ dktX2_chained_2
def dkwX2_chained_0 : List UInt8 := [1, 58, 4, 3, 54, 5, 21, 5, 42, 180, 0, 69, 162, 0, 157, 29, 21, 5, 122, 4, 126, 153, 0, 142]
abbrev dktX2_chained_0 : List UInt8 := dkwX2_chained_0 ++ dktX2_chained_1
theorem dksX2_chained_0 : cX2_chained.data.toList.drop 0 = dktX2_chained_0 := by decide +kernel
theorem dksX2_chained_1 : cX2_chained.data.toList.drop 24 = dktX2_chained_1 := dk_seg dksX2_chained_0 24 rfl rfl
theorem dksX2_chained_2 : cX2_chained.data.toList.drop 47 = dktX2_chained_2 := dk_seg dksX2_chained_1 23 rfl rfl
theorem dksX2_chained_3 : cX2_chained.data.toList.drop 70 = dktX2_chained_3 := dk_seg dksX2_chained_2 23 rfl rfl
theorem dksX2_chained_4 : cX2_chained.data.toList.drop 93 = dktX2_chained_4 := dk_seg dksX2_chained_3 23 rfl rfl
theorem dksX2_chained_5 : cX2_chained.data.toList.drop 116 = dktX2_chained_5 := dk_seg dksX2_chained_4 23 rfl rfl
theorem dksX2_chained_6 : cX2_chained.data.toList.drop 140 = dktX2_chained_6 := dk_seg dksX2_chained_5 24 rfl rfl
theorem dksX2_chained_7 : cX2_chained.data.toList.drop 163 = dktX2_chained_7 := dk_seg dksX2_chained_6 23 rfl rfl
theorem dX2_chained_0 : decode cX2_chained 0 = .ok (.aconst_null, 1) := dk_1 (dk_at dksX2_chained_0 0 rfl rfl)
theorem dX2_chained_1 : decode cX2_chained 1 = .ok (.astore 4, 2) := dk_58 4 (dk_at dksX2_chained_0 1 rfl rfl)
theorem dX2_chained_3 : decode cX2_chained 3 = .ok (.iconst 0, 1) := dk_3 (dk_at dksX2_chained_0 3 rfl rfl)
theorem dX2_chained_4 : decode cX2_chained 4 = .ok (.istore 5, 2) := dk_54 5 (dk_at dksX2_chained_0 4 rfl rfl)
theorem dX2_chained_6 : decode cX2_chained 6 = .ok (.iload 5, 2) := dk_21 5 (dk_at dksX2_chained_0 6 rfl rfl)
theorem dX2_chained_8 : decode cX2_chained 8 = .ok (.aload_n 0, 1) := dk_42 (dk_at dksX2_chained_0 8 rfl rfl)
theorem dX2_chained_9 : decode cX2_chained 9 = .ok (.getfield 69, 3) := dk_180 0 69 (dk_at dksX2_chained_0 9 rfl rfl)
theorem dX2_chained_12 : decode cX2_chained 12 = .ok (.if_icmp .ge 157, 3) := dk_162 0 157 (dk_at dksX2_chained_0 12 rfl rfl)
theorem dX2_chained_15 : decode cX2_chained 15 = .ok (.iload_n 3, 1) := dk_29 (dk_at dksX2_chained_0 15 rfl rfl)
theorem dX2_chained_16 : decode cX2_chained 16 = .ok (.iload 5, 2) := dk_21 5 (dk_at dksX2_chained_0 16 rfl rfl)
theorem dX2_chained_18 : decode cX2_chained 18 = .ok (.ishr, 1) := dk_122 (dk_at dksX2_chained_0 18 rfl rfl)
theorem dX2_chained_19 : decode cX2_chained 19 = .ok (.iconst 1, 1) := dk_4 (dk_at dksX2_chained_0 19 rfl rfl)
theorem dX2_chained_20 : decode cX2_chained 20 = .ok (.iand, 1) := dk_126 (dk_at dksX2_chained_0 20 rfl rfl)
theorem dX2_chained_21 : decode cX2_chained 21 = .ok (.ifCond .eq 142, 3) := dk_153 0 142 (dk_at dksX2_chained_0 21 rfl rfl)
theorem dX2_chained_24 : decode cX2_chained 24 = .ok (.aload_n 0, 1) := dk_42 (dk_at dksX2_chained_1 0 rfl rfl)
theorem dX2_chained_25 : decode cX2_chained 25 = .ok (.iload 5, 2) := dk_21 5 (dk_at dksX2_chained_1 1 rfl rfl)
theorem dX2_chained_27 : decode cX2_chained 27 = .ok (.iload_n 1, 1) := dk_27 (dk_at dksX2_chained_1 3 rfl rfl)
theorem dX2_chained_28 : decode cX2_chained 28 = .ok (.iconst 0, 1) := dk_3 (dk_at dksX2_chained_1 4 rfl rfl)
theorem dX2_chained_29 : decode cX2_chained 29 = .ok (.invokevirtual 192, 3) := dk_182 0 192 (dk_at dksX2_chained_1 5 rfl rfl)
theorem dX2_chained_32 : decode cX2_chained 32 = .ok (.ifnull 6, 3) := dk_198 0 6 (dk_at dksX2_chained_1 8 rfl rfl)
theorem dX2_chained_35 : decode cX2_chained 35 = .ok (.goto 128, 3) := dk_167 0 128 (dk_at dksX2_chained_1 11 rfl rfl)
theorem dX2_chained_38 : decode cX2_chained 38 = .ok (.iconst 0, 1) := dk_3 (dk_at dksX2_chained_1 14 rfl rfl)
theorem dX2_chained_39 : decode cX2_chained 39 = .ok (.istore 6, 2) := dk_54 6 (dk_at dksX2_chained_1 15 rfl rfl)
theorem dX2_chained_41 : decode cX2_chained 41 = .ok (.iload 6, 2) := dk_21 6 (dk_at dksX2_chained_1 17 rfl rfl)
theorem dX2_chained_43 : decode cX2_chained 43 = .ok (.aload_n 0, 1) := dk_42 (dk_at dksX2_chained_1 19 rfl rfl)
theorem dX2_chained_44 : decode cX2_chained 44 = .ok (.getfield 69, 3) := dk_180 0 69 (dk_at dksX2_chained_1 20 rfl rfl)
theorem dX2_chained_47 : decode cX2_chained 47 = .ok (.if_icmp .ge 116, 3) := dk_162 0 116 (dk_at dksX2_chained_2 0 rfl rfl)
theorem dX2_chained_50 : decode cX2_chained 50 = .ok (.iload_n 3, 1) := dk_29 (dk_at dksX2_chained_2 3 rfl rfl)
theorem dX2_chained_51 : decode cX2_chained 51 = .ok (.iload 6, 2) := dk_21 6 (dk_at dksX2_chained_2 4 rfl rfl)
theorem dX2_chained_53 : decode cX2_chained 53 = .ok (.ishr, 1) := dk_122 (dk_at dksX2_chained_2 6 rfl rfl)
theorem dX2_chained_54 : decode cX2_chained 54 = .ok (.iconst 1, 1) := dk_4 (dk_at dksX2_chained_2 7 rfl rfl)
theorem dX2_chained_55 : decode cX2_chained 55 = .ok (.iand, 1) := dk_126 (dk_at dksX2_chained_2 8 rfl rfl)
theorem dX2_chained_56 : decode cX2_chained 56 = .ok (.ifCond .eq 101, 3) := dk_153 0 101 (dk_at dksX2_chained_2 9 rfl rfl)
theorem dX2_chained_59 : decode cX2_chained 59 = .ok (.aload_n 0, 1) := dk_42 (dk_at dksX2_chained_2 12 rfl rfl)
theorem dX2_chained_60 : decode cX2_chained 60 = .ok (.iload 6, 2) := dk_21 6 (dk_at dksX2_chained_2 13 rfl rfl)
theorem dX2_chained_62 : decode cX2_chained 62 = .ok (.iload_n 2, 1) := dk_28 (dk_at dksX2_chained_2 15 rfl rfl)
theorem dX2_chained_63 : decode cX2_chained 63 = .ok (.iconst 1, 1) := dk_4 (dk_at dksX2_chained_2 16 rfl rfl)
theorem dX2_chained_64 : decode cX2_chained 64 = .ok (.invokevirtual 192, 3) := dk_182 0 192 (dk_at dksX2_chained_2 17 rfl rfl)
theorem dX2_chained_67 : decode cX2_chained 67 = .ok (.ifnull 6, 3) := dk_198 0 6 (dk_at dksX2_chained_2 20 rfl rfl)
theorem dX2_chained_70 : decode cX2_chained 70 = .ok (.goto 87, 3) := dk_167 0 87 (dk_at dksX2_chained_3 0 rfl rfl)
theorem dX2_chained_73 : decode cX2_chained 73 = .ok (.iconst 0, 1) := dk_3 (dk_at dksX2_chained_3 3 rfl rfl)
theorem dX2_chained_74 : decode cX2_chained 74 = .ok (.istore 7, 2) := dk_54 7 (dk_at dksX2_chained_3 4 rfl rfl)
theorem dX2_chained_76 : decode cX2_chained 76 = .ok (.iload 7, 2) := dk_21 7 (dk_at dksX2_chained_3 6 rfl rfl)
theorem dX2_chained_78 : decode cX2_chained 78 = .ok (.iconst 2, 1) := dk_5 (dk_at dksX2_chained_3 8 rfl rfl)
theorem dX2_chained_79 : decode cX2_chained 79 = .ok (.if_icmp .ge 78, 3) := dk_162 0 78 (dk_at dksX2_chained_3 9 rfl rfl)
theorem dX2_chained_82 : decode cX2_chained 82 = .ok (.aload_n 0, 1) := dk_42 (dk_at dksX2_chained_3 12 rfl rfl)
theorem dX2_chained_83 : decode cX2_chained 83 = .ok (.iload 5, 2) := dk_21 5 (dk_at dksX2_chained_3 13 rfl rfl)
theorem dX2_chained_85 : decode cX2_chained 85 = .ok (.iload 6, 2) := dk_21 6 (dk_at dksX2_chained_3 15 rfl rfl)
theorem dX2_chained_87 : decode cX2_chained 87 = .ok (.iload 7, 2) := dk_21 7 (dk_at dksX2_chained_3 17 rfl rfl)
theorem dX2_chained_89 : decode cX2_chained 89 = .ok (.ifCond .ne 7, 3) := dk_154 0 7 (dk_at dksX2_chained_3 19 rfl rfl)
theorem dX2_chained_92 : decode cX2_chained 92 = .ok (.iconst 1, 1) := dk_4 (dk_at dksX2_chained_3 22 rfl rfl)
theorem dX2_chained_93 : decode cX2_chained 93 = .ok (.goto 4, 3) := dk_167 0 4 (dk_at dksX2_chained_4 0 rfl rfl)
theorem dX2_chained_96 : decode cX2_chained 96 = .ok (.iconst 0, 1) := dk_3 (dk_at dksX2_chained_4 3 rfl rfl)
theorem dX2_chained_97 : decode cX2_chained 97 = .ok (.iload_n 1, 1) := dk_27 (dk_at dksX2_chained_4 4 rfl rfl)
theorem dX2_chained_98 : decode cX2_chained 98 = .ok (.iload_n 2, 1) := dk_28 (dk_at dksX2_chained_4 5 rfl rfl)
theorem dX2_chained_99 : decode cX2_chained 99 = .ok (.invokevirtual 214, 3) := dk_182 0 214 (dk_at dksX2_chained_4 6 rfl rfl)
theorem dX2_chained_102 : decode cX2_chained 102 = .ok (.astore 8, 2) := dk_58 8 (dk_at dksX2_chained_4 9 rfl rfl)
theorem dX2_chained_104 : decode cX2_chained 104 = .ok (.aload 4, 2) := dk_25 4 (dk_at dksX2_chained_4 11 rfl rfl)
theorem dX2_chained_106 : decode cX2_chained 106 = .ok (.ifnull 18, 3) := dk_198 0 18 (dk_at dksX2_chained_4 13 rfl rfl)
theorem dX2_chained_109 : decode cX2_chained 109 = .ok (.aload 8, 2) := dk_25 8 (dk_at dksX2_chained_4 16 rfl rfl)
theorem dX2_chained_111 : decode cX2_chained 111 = .ok (.invokeinterface 113 1, 5) := by decide +kernel
theorem dX2_chained_116 : decode cX2_chained 116 = .ok (.aload 4, 2) := dk_25 4 (dk_at dksX2_chained_5 0 rfl rfl)
theorem dX2_chained_118 : decode cX2_chained 118 = .ok (.invokevirtual 218, 3) := dk_182 0 218 (dk_at dksX2_chained_5 2 rfl rfl)
theorem dX2_chained_121 : decode cX2_chained 121 = .ok (.if_icmp .ge 30, 3) := dk_162 0 30 (dk_at dksX2_chained_5 5 rfl rfl)
theorem dX2_chained_124 : decode cX2_chained 124 = .ok (.new 219, 3) := dk_187 0 219 (dk_at dksX2_chained_5 8 rfl rfl)
theorem dX2_chained_127 : decode cX2_chained 127 = .ok (.dup, 1) := dk_89 (dk_at dksX2_chained_5 11 rfl rfl)
theorem dX2_chained_128 : decode cX2_chained 128 = .ok (.iload 7, 2) := dk_21 7 (dk_at dksX2_chained_5 12 rfl rfl)
theorem dX2_chained_130 : decode cX2_chained 130 = .ok (.ifCond .ne 8, 3) := dk_154 0 8 (dk_at dksX2_chained_5 14 rfl rfl)
theorem dX2_chained_133 : decode cX2_chained 133 = .ok (.iload 5, 2) := dk_21 5 (dk_at dksX2_chained_5 17 rfl rfl)
theorem dX2_chained_135 : decode cX2_chained 135 = .ok (.goto 5, 3) := dk_167 0 5 (dk_at dksX2_chained_5 19 rfl rfl)
theorem dX2_chained_138 : decode cX2_chained 138 = .ok (.iload 6, 2) := dk_21 6 (dk_at dksX2_chained_5 22 rfl rfl)
theorem dX2_chained_140 : decode cX2_chained 140 = .ok (.iload 5, 2) := dk_21 5 (dk_at dksX2_chained_6 0 rfl rfl)
theorem dX2_chained_142 : decode cX2_chained 142 = .ok (.iload 6, 2) := dk_21 6 (dk_at dksX2_chained_6 2 rfl rfl)
theorem dX2_chained_144 : decode cX2_chained 144 = .ok (.aload 8, 2) := dk_25 8 (dk_at dksX2_chained_6 4 rfl rfl)
theorem dX2_chained_146 : decode cX2_chained 146 = .ok (.invokespecial 223, 3) := dk_183 0 223 (dk_at dksX2_chained_6 6 rfl rfl)
theorem dX2_chained_149 : decode cX2_chained 149 = .ok (.astore 4, 2) := dk_58 4 (dk_at dksX2_chained_6 9 rfl rfl)
theorem dX2_chained_151 : decode cX2_chained 151 = .ok (.iinc 7 1, 3) := dk_132 7 1 (dk_at dksX2_chained_6 11 rfl rfl)
theorem dX2_chained_154 : decode cX2_chained 154 = .ok (.goto (-78), 3) := dk_167 255 178 (dk_at dksX2_chained_6 14 rfl rfl)
theorem dX2_chained_157 : decode cX2_chained 157 = .ok (.iinc 6 1, 3) := dk_132 6 1 (dk_at dksX2_chained_6 17 rfl rfl)
theorem dX2_chained_160 : decode cX2_chained 160 = .ok (.goto (-119), 3) := dk_167 255 137 (dk_at dksX2_chained_6 20 rfl rfl)
theorem dX2_chained_163 : decode cX2_chained 163 = .ok (.iinc 5 1, 3) := dk_132 5 1 (dk_at dksX2_chained_7 0 rfl rfl)
theorem dX2_chained_166 : decode cX2_chained 166 = .ok (.goto (-160), 3) := dk_167 255 96 (dk_at dksX2_chained_7 3 rfl rfl)
theorem dX2_chained_169 : decode cX2_chained 169 = .ok (.aload 4, 2) := dk_25 4 (dk_at dksX2_chained_7 6 rfl rfl)
theorem dX2_chained_171 : decode cX2_chained 171 = .ok (.areturn, 1) := dk_176 (dk_at dksX2_chained_7 8 rfl rfl)
abbrev cX2_walk : ByteArray := prog_3_method_25_code
def yX2_walk : MethodName := ⟨RX2, "walk", "(IIZII)Ljava/util/List;"⟩
def dkwX2_walk_5 : List UInt8 := [167, 255, 182, 25, 6, 176]
abbrev dktX2_walk_5 : List UInt8 := dkwX2_walk_5 ++ []
def dkwX2_walk_4 : List UInt8 := [25, 7, 182, 0, 196, 21, 8, 182, 0, 192, 58, 7, 21, 8, 154, 0, 7, 4, 167, 0, 4, 3, 54, 8]
abbrev dktX2_walk_4 : List UInt8 := dkwX2_walk_4 ++ dktX2_walk_5
def dkwX2_walk_3 : List UInt8 := [167, 0, 4, 27, 54, 10, 42, 21, 10, 21, 8, 153, 0, 12, 42, 25, 7, 182, 0, 201, 167, 0, 9, 42]
abbrev dktX2_walk_3 : List UInt8 := dkwX2_walk_3 ++ dktX2_walk_4
def dkwX2_walk_2 : List UInt8 := [198, 0, 75, 25, 6, 25, 7, 185, 0, 167, 2, 0, 54, 9, 25, 7, 180, 0, 92, 27, 160, 0, 7, 28]
abbrev dktX2_walk_2 : List UInt8 := dkwX2_walk_2 ++ dktX2_walk_3
def dkwX2_walk_1 : List UInt8 := [42, 28, 21, 4, 3, 182, 0, 192, 58, 7, 29, 154, 0, 7, 4, 167, 0, 4, 3, 54, 8, 25, 7]
abbrev dktX2_walk_1 : List UInt8 := dkwX2_walk_1 ++ dktX2_walk_2
def dkwX2_walk_0 : List UInt8 := [187, 0, 38, 89, 183, 0, 40, 58, 6, 29, 153, 0, 14, 42, 27, 21, 5, 4, 182, 0, 192, 167, 0, 11]
abbrev dktX2_walk_0 : List UInt8 := dkwX2_walk_0 ++ dktX2_walk_1
theorem dksX2_walk_0 : cX2_walk.data.toList.drop 0 = dktX2_walk_0 := by decide +kernel
theorem dksX2_walk_1 : cX2_walk.data.toList.drop 24 = dktX2_walk_1 := dk_seg dksX2_walk_0 24 rfl rfl
theorem dksX2_walk_2 : cX2_walk.data.toList.drop 47 = dktX2_walk_2 := dk_seg dksX2_walk_1 23 rfl rfl
theorem dksX2_walk_3 : cX2_walk.data.toList.drop 71 = dktX2_walk_3 := dk_seg dksX2_walk_2 24 rfl rfl
theorem dksX2_walk_4 : cX2_walk.data.toList.drop 95 = dktX2_walk_4 := dk_seg dksX2_walk_3 24 rfl rfl
theorem dksX2_walk_5 : cX2_walk.data.toList.drop 119 = dktX2_walk_5 := dk_seg dksX2_walk_4 24 rfl rfl
theorem dX2_walk_0 : decode cX2_walk 0 = .ok (.new 38, 3) := dk_187 0 38 (dk_at dksX2_walk_0 0 rfl rfl)
theorem dX2_walk_3 : decode cX2_walk 3 = .ok (.dup, 1) := dk_89 (dk_at dksX2_walk_0 3 rfl rfl)
theorem dX2_walk_4 : decode cX2_walk 4 = .ok (.invokespecial 40, 3) := dk_183 0 40 (dk_at dksX2_walk_0 4 rfl rfl)
theorem dX2_walk_7 : decode cX2_walk 7 = .ok (.astore 6, 2) := dk_58 6 (dk_at dksX2_walk_0 7 rfl rfl)
theorem dX2_walk_9 : decode cX2_walk 9 = .ok (.iload_n 3, 1) := dk_29 (dk_at dksX2_walk_0 9 rfl rfl)
theorem dX2_walk_10 : decode cX2_walk 10 = .ok (.ifCond .eq 14, 3) := dk_153 0 14 (dk_at dksX2_walk_0 10 rfl rfl)
theorem dX2_walk_13 : decode cX2_walk 13 = .ok (.aload_n 0, 1) := dk_42 (dk_at dksX2_walk_0 13 rfl rfl)
theorem dX2_walk_14 : decode cX2_walk 14 = .ok (.iload_n 1, 1) := dk_27 (dk_at dksX2_walk_0 14 rfl rfl)
theorem dX2_walk_15 : decode cX2_walk 15 = .ok (.iload 5, 2) := dk_21 5 (dk_at dksX2_walk_0 15 rfl rfl)
theorem dX2_walk_17 : decode cX2_walk 17 = .ok (.iconst 1, 1) := dk_4 (dk_at dksX2_walk_0 17 rfl rfl)
theorem dX2_walk_18 : decode cX2_walk 18 = .ok (.invokevirtual 192, 3) := dk_182 0 192 (dk_at dksX2_walk_0 18 rfl rfl)
theorem dX2_walk_21 : decode cX2_walk 21 = .ok (.goto 11, 3) := dk_167 0 11 (dk_at dksX2_walk_0 21 rfl rfl)
theorem dX2_walk_24 : decode cX2_walk 24 = .ok (.aload_n 0, 1) := dk_42 (dk_at dksX2_walk_1 0 rfl rfl)
theorem dX2_walk_25 : decode cX2_walk 25 = .ok (.iload_n 2, 1) := dk_28 (dk_at dksX2_walk_1 1 rfl rfl)
theorem dX2_walk_26 : decode cX2_walk 26 = .ok (.iload 4, 2) := dk_21 4 (dk_at dksX2_walk_1 2 rfl rfl)
theorem dX2_walk_28 : decode cX2_walk 28 = .ok (.iconst 0, 1) := dk_3 (dk_at dksX2_walk_1 4 rfl rfl)
theorem dX2_walk_29 : decode cX2_walk 29 = .ok (.invokevirtual 192, 3) := dk_182 0 192 (dk_at dksX2_walk_1 5 rfl rfl)
theorem dX2_walk_32 : decode cX2_walk 32 = .ok (.astore 7, 2) := dk_58 7 (dk_at dksX2_walk_1 8 rfl rfl)
theorem dX2_walk_34 : decode cX2_walk 34 = .ok (.iload_n 3, 1) := dk_29 (dk_at dksX2_walk_1 10 rfl rfl)
theorem dX2_walk_35 : decode cX2_walk 35 = .ok (.ifCond .ne 7, 3) := dk_154 0 7 (dk_at dksX2_walk_1 11 rfl rfl)
theorem dX2_walk_38 : decode cX2_walk 38 = .ok (.iconst 1, 1) := dk_4 (dk_at dksX2_walk_1 14 rfl rfl)
theorem dX2_walk_39 : decode cX2_walk 39 = .ok (.goto 4, 3) := dk_167 0 4 (dk_at dksX2_walk_1 15 rfl rfl)
theorem dX2_walk_42 : decode cX2_walk 42 = .ok (.iconst 0, 1) := dk_3 (dk_at dksX2_walk_1 18 rfl rfl)
theorem dX2_walk_43 : decode cX2_walk 43 = .ok (.istore 8, 2) := dk_54 8 (dk_at dksX2_walk_1 19 rfl rfl)
theorem dX2_walk_45 : decode cX2_walk 45 = .ok (.aload 7, 2) := dk_25 7 (dk_at dksX2_walk_1 21 rfl rfl)
theorem dX2_walk_47 : decode cX2_walk 47 = .ok (.ifnull 75, 3) := dk_198 0 75 (dk_at dksX2_walk_2 0 rfl rfl)
theorem dX2_walk_50 : decode cX2_walk 50 = .ok (.aload 6, 2) := dk_25 6 (dk_at dksX2_walk_2 3 rfl rfl)
theorem dX2_walk_52 : decode cX2_walk 52 = .ok (.aload 7, 2) := dk_25 7 (dk_at dksX2_walk_2 5 rfl rfl)
theorem dX2_walk_54 : decode cX2_walk 54 = .ok (.invokeinterface 167 2, 5) := by decide +kernel
theorem dX2_walk_59 : decode cX2_walk 59 = .ok (.istore 9, 2) := dk_54 9 (dk_at dksX2_walk_2 12 rfl rfl)
theorem dX2_walk_61 : decode cX2_walk 61 = .ok (.aload 7, 2) := dk_25 7 (dk_at dksX2_walk_2 14 rfl rfl)
theorem dX2_walk_63 : decode cX2_walk 63 = .ok (.getfield 92, 3) := dk_180 0 92 (dk_at dksX2_walk_2 16 rfl rfl)
theorem dX2_walk_66 : decode cX2_walk 66 = .ok (.iload_n 1, 1) := dk_27 (dk_at dksX2_walk_2 19 rfl rfl)
theorem dX2_walk_67 : decode cX2_walk 67 = .ok (.if_icmp .ne 7, 3) := dk_160 0 7 (dk_at dksX2_walk_2 20 rfl rfl)
theorem dX2_walk_70 : decode cX2_walk 70 = .ok (.iload_n 2, 1) := dk_28 (dk_at dksX2_walk_2 23 rfl rfl)
theorem dX2_walk_71 : decode cX2_walk 71 = .ok (.goto 4, 3) := dk_167 0 4 (dk_at dksX2_walk_3 0 rfl rfl)
theorem dX2_walk_74 : decode cX2_walk 74 = .ok (.iload_n 1, 1) := dk_27 (dk_at dksX2_walk_3 3 rfl rfl)
theorem dX2_walk_75 : decode cX2_walk 75 = .ok (.istore 10, 2) := dk_54 10 (dk_at dksX2_walk_3 4 rfl rfl)
theorem dX2_walk_77 : decode cX2_walk 77 = .ok (.aload_n 0, 1) := dk_42 (dk_at dksX2_walk_3 6 rfl rfl)
theorem dX2_walk_78 : decode cX2_walk 78 = .ok (.iload 10, 2) := dk_21 10 (dk_at dksX2_walk_3 7 rfl rfl)
theorem dX2_walk_80 : decode cX2_walk 80 = .ok (.iload 8, 2) := dk_21 8 (dk_at dksX2_walk_3 9 rfl rfl)
theorem dX2_walk_82 : decode cX2_walk 82 = .ok (.ifCond .eq 12, 3) := dk_153 0 12 (dk_at dksX2_walk_3 11 rfl rfl)
theorem dX2_walk_85 : decode cX2_walk 85 = .ok (.aload_n 0, 1) := dk_42 (dk_at dksX2_walk_3 14 rfl rfl)
theorem dX2_walk_86 : decode cX2_walk 86 = .ok (.aload 7, 2) := dk_25 7 (dk_at dksX2_walk_3 15 rfl rfl)
theorem dX2_walk_88 : decode cX2_walk 88 = .ok (.invokevirtual 201, 3) := dk_182 0 201 (dk_at dksX2_walk_3 17 rfl rfl)
theorem dX2_walk_91 : decode cX2_walk 91 = .ok (.goto 9, 3) := dk_167 0 9 (dk_at dksX2_walk_3 20 rfl rfl)
theorem dX2_walk_94 : decode cX2_walk 94 = .ok (.aload_n 0, 1) := dk_42 (dk_at dksX2_walk_3 23 rfl rfl)
theorem dX2_walk_95 : decode cX2_walk 95 = .ok (.aload 7, 2) := dk_25 7 (dk_at dksX2_walk_4 0 rfl rfl)
theorem dX2_walk_97 : decode cX2_walk 97 = .ok (.invokevirtual 196, 3) := dk_182 0 196 (dk_at dksX2_walk_4 2 rfl rfl)
theorem dX2_walk_100 : decode cX2_walk 100 = .ok (.iload 8, 2) := dk_21 8 (dk_at dksX2_walk_4 5 rfl rfl)
theorem dX2_walk_102 : decode cX2_walk 102 = .ok (.invokevirtual 192, 3) := dk_182 0 192 (dk_at dksX2_walk_4 7 rfl rfl)
theorem dX2_walk_105 : decode cX2_walk 105 = .ok (.astore 7, 2) := dk_58 7 (dk_at dksX2_walk_4 10 rfl rfl)
theorem dX2_walk_107 : decode cX2_walk 107 = .ok (.iload 8, 2) := dk_21 8 (dk_at dksX2_walk_4 12 rfl rfl)
theorem dX2_walk_109 : decode cX2_walk 109 = .ok (.ifCond .ne 7, 3) := dk_154 0 7 (dk_at dksX2_walk_4 14 rfl rfl)
theorem dX2_walk_112 : decode cX2_walk 112 = .ok (.iconst 1, 1) := dk_4 (dk_at dksX2_walk_4 17 rfl rfl)
theorem dX2_walk_113 : decode cX2_walk 113 = .ok (.goto 4, 3) := dk_167 0 4 (dk_at dksX2_walk_4 18 rfl rfl)
theorem dX2_walk_116 : decode cX2_walk 116 = .ok (.iconst 0, 1) := dk_3 (dk_at dksX2_walk_4 21 rfl rfl)
theorem dX2_walk_117 : decode cX2_walk 117 = .ok (.istore 8, 2) := dk_54 8 (dk_at dksX2_walk_4 22 rfl rfl)
theorem dX2_walk_119 : decode cX2_walk 119 = .ok (.goto (-74), 3) := dk_167 255 182 (dk_at dksX2_walk_5 0 rfl rfl)
theorem dX2_walk_122 : decode cX2_walk 122 = .ok (.aload 6, 2) := dk_25 6 (dk_at dksX2_walk_5 3 rfl rfl)
theorem dX2_walk_124 : decode cX2_walk 124 = .ok (.areturn, 1) := dk_176 (dk_at dksX2_walk_5 5 rfl rfl)
abbrev cX2_to : ByteArray := prog_3_method_10_code
def yX2_to : MethodName := ⟨RX2, "to", "(LCrossbarExchange$Call;)I"⟩
def dkwX2_to_0 : List UInt8 := [42, 43, 180, 0, 153, 182, 0, 168, 172]
abbrev dktX2_to_0 : List UInt8 := dkwX2_to_0 ++ []
theorem dksX2_to_0 : cX2_to.data.toList.drop 0 = dktX2_to_0 := by decide +kernel
theorem dX2_to_0 : decode cX2_to 0 = .ok (.aload_n 0, 1) := dk_42 (dk_at dksX2_to_0 0 rfl rfl)
theorem dX2_to_1 : decode cX2_to 1 = .ok (.aload_n 1, 1) := dk_43 (dk_at dksX2_to_0 1 rfl rfl)
theorem dX2_to_2 : decode cX2_to 2 = .ok (.getfield 153, 3) := dk_180 0 153 (dk_at dksX2_to_0 2 rfl rfl)
theorem dX2_to_5 : decode cX2_to 5 = .ok (.invokevirtual 168, 3) := dk_182 0 168 (dk_at dksX2_to_0 5 rfl rfl)
theorem dX2_to_8 : decode cX2_to 8 = .ok (.ireturn, 1) := dk_172 (dk_at dksX2_to_0 8 rfl rfl)
abbrev cX2_from : ByteArray := prog_3_method_9_code
def yX2_from : MethodName := ⟨RX2, "from", "(LCrossbarExchange$Call;)I"⟩
def dkwX2_from_0 : List UInt8 := [42, 43, 180, 0, 150, 182, 0, 168, 172]
abbrev dktX2_from_0 : List UInt8 := dkwX2_from_0 ++ []
theorem dksX2_from_0 : cX2_from.data.toList.drop 0 = dktX2_from_0 := by decide +kernel
theorem dX2_from_0 : decode cX2_from 0 = .ok (.aload_n 0, 1) := dk_42 (dk_at dksX2_from_0 0 rfl rfl)
theorem dX2_from_1 : decode cX2_from 1 = .ok (.aload_n 1, 1) := dk_43 (dk_at dksX2_from_0 1 rfl rfl)
theorem dX2_from_2 : decode cX2_from 2 = .ok (.getfield 150, 3) := dk_180 0 150 (dk_at dksX2_from_0 2 rfl rfl)
theorem dX2_from_5 : decode cX2_from 5 = .ok (.invokevirtual 168, 3) := dk_182 0 168 (dk_at dksX2_from_0 5 rfl rfl)
theorem dX2_from_8 : decode cX2_from 8 = .ok (.ireturn, 1) := dk_172 (dk_at dksX2_from_0 8 rfl rfl)
abbrev cX2_begin : ByteArray := prog_3_method_35_code
def yX2_begin : MethodName := ⟨RX2, "begin", "(III)I"⟩
def dkwX2_begin_2 : List UInt8 := [180, 0, 81, 4, 96, 181, 0, 81, 25, 4, 180, 0, 147, 172]
abbrev dktX2_begin_2 : List UInt8 := dkwX2_begin_2 ++ []
def dkwX2_begin_1 : List UInt8 := [42, 27, 182, 0, 168, 42, 28, 182, 0, 168, 182, 0, 243, 182, 1, 23, 42, 25, 4, 182, 0, 88, 42, 89]
abbrev dktX2_begin_1 : List UInt8 := dkwX2_begin_1 ++ dktX2_begin_2
def dkwX2_begin_0 : List UInt8 := [187, 0, 9, 89, 42, 180, 0, 81, 27, 28, 42, 180, 0, 141, 29, 183, 1, 20, 58, 4, 42, 25, 4, 42]
abbrev dktX2_begin_0 : List UInt8 := dkwX2_begin_0 ++ dktX2_begin_1
theorem dksX2_begin_0 : cX2_begin.data.toList.drop 0 = dktX2_begin_0 := by decide +kernel
theorem dksX2_begin_1 : cX2_begin.data.toList.drop 24 = dktX2_begin_1 := dk_seg dksX2_begin_0 24 rfl rfl
theorem dksX2_begin_2 : cX2_begin.data.toList.drop 48 = dktX2_begin_2 := dk_seg dksX2_begin_1 24 rfl rfl
theorem dX2_begin_0 : decode cX2_begin 0 = .ok (.new 9, 3) := dk_187 0 9 (dk_at dksX2_begin_0 0 rfl rfl)
theorem dX2_begin_3 : decode cX2_begin 3 = .ok (.dup, 1) := dk_89 (dk_at dksX2_begin_0 3 rfl rfl)
theorem dX2_begin_4 : decode cX2_begin 4 = .ok (.aload_n 0, 1) := dk_42 (dk_at dksX2_begin_0 4 rfl rfl)
theorem dX2_begin_5 : decode cX2_begin 5 = .ok (.getfield 81, 3) := dk_180 0 81 (dk_at dksX2_begin_0 5 rfl rfl)
theorem dX2_begin_8 : decode cX2_begin 8 = .ok (.iload_n 1, 1) := dk_27 (dk_at dksX2_begin_0 8 rfl rfl)
theorem dX2_begin_9 : decode cX2_begin 9 = .ok (.iload_n 2, 1) := dk_28 (dk_at dksX2_begin_0 9 rfl rfl)
theorem dX2_begin_10 : decode cX2_begin 10 = .ok (.aload_n 0, 1) := dk_42 (dk_at dksX2_begin_0 10 rfl rfl)
theorem dX2_begin_11 : decode cX2_begin 11 = .ok (.getfield 141, 3) := dk_180 0 141 (dk_at dksX2_begin_0 11 rfl rfl)
theorem dX2_begin_14 : decode cX2_begin 14 = .ok (.iload_n 3, 1) := dk_29 (dk_at dksX2_begin_0 14 rfl rfl)
theorem dX2_begin_15 : decode cX2_begin 15 = .ok (.invokespecial 276, 3) := dk_183 1 20 (dk_at dksX2_begin_0 15 rfl rfl)
theorem dX2_begin_18 : decode cX2_begin 18 = .ok (.astore 4, 2) := dk_58 4 (dk_at dksX2_begin_0 18 rfl rfl)
theorem dX2_begin_20 : decode cX2_begin 20 = .ok (.aload_n 0, 1) := dk_42 (dk_at dksX2_begin_0 20 rfl rfl)
theorem dX2_begin_21 : decode cX2_begin 21 = .ok (.aload 4, 2) := dk_25 4 (dk_at dksX2_begin_0 21 rfl rfl)
theorem dX2_begin_23 : decode cX2_begin 23 = .ok (.aload_n 0, 1) := dk_42 (dk_at dksX2_begin_0 23 rfl rfl)
theorem dX2_begin_24 : decode cX2_begin 24 = .ok (.aload_n 0, 1) := dk_42 (dk_at dksX2_begin_1 0 rfl rfl)
theorem dX2_begin_25 : decode cX2_begin 25 = .ok (.iload_n 1, 1) := dk_27 (dk_at dksX2_begin_1 1 rfl rfl)
theorem dX2_begin_26 : decode cX2_begin 26 = .ok (.invokevirtual 168, 3) := dk_182 0 168 (dk_at dksX2_begin_1 2 rfl rfl)
theorem dX2_begin_29 : decode cX2_begin 29 = .ok (.aload_n 0, 1) := dk_42 (dk_at dksX2_begin_1 5 rfl rfl)
theorem dX2_begin_30 : decode cX2_begin 30 = .ok (.iload_n 2, 1) := dk_28 (dk_at dksX2_begin_1 6 rfl rfl)
theorem dX2_begin_31 : decode cX2_begin 31 = .ok (.invokevirtual 168, 3) := dk_182 0 168 (dk_at dksX2_begin_1 7 rfl rfl)
theorem dX2_begin_34 : decode cX2_begin 34 = .ok (.invokevirtual 243, 3) := dk_182 0 243 (dk_at dksX2_begin_1 10 rfl rfl)
theorem dX2_begin_37 : decode cX2_begin 37 = .ok (.invokevirtual 279, 3) := dk_182 1 23 (dk_at dksX2_begin_1 13 rfl rfl)
theorem dX2_begin_40 : decode cX2_begin 40 = .ok (.aload_n 0, 1) := dk_42 (dk_at dksX2_begin_1 16 rfl rfl)
theorem dX2_begin_41 : decode cX2_begin 41 = .ok (.aload 4, 2) := dk_25 4 (dk_at dksX2_begin_1 17 rfl rfl)
theorem dX2_begin_43 : decode cX2_begin 43 = .ok (.invokevirtual 88, 3) := dk_182 0 88 (dk_at dksX2_begin_1 19 rfl rfl)
theorem dX2_begin_46 : decode cX2_begin 46 = .ok (.aload_n 0, 1) := dk_42 (dk_at dksX2_begin_1 22 rfl rfl)
theorem dX2_begin_47 : decode cX2_begin 47 = .ok (.dup, 1) := dk_89 (dk_at dksX2_begin_1 23 rfl rfl)
theorem dX2_begin_48 : decode cX2_begin 48 = .ok (.getfield 81, 3) := dk_180 0 81 (dk_at dksX2_begin_2 0 rfl rfl)
theorem dX2_begin_51 : decode cX2_begin 51 = .ok (.iconst 1, 1) := dk_4 (dk_at dksX2_begin_2 3 rfl rfl)
theorem dX2_begin_52 : decode cX2_begin 52 = .ok (.iadd, 1) := dk_96 (dk_at dksX2_begin_2 4 rfl rfl)
theorem dX2_begin_53 : decode cX2_begin 53 = .ok (.putfield 81, 3) := dk_181 0 81 (dk_at dksX2_begin_2 5 rfl rfl)
theorem dX2_begin_56 : decode cX2_begin 56 = .ok (.aload 4, 2) := dk_25 4 (dk_at dksX2_begin_2 8 rfl rfl)
theorem dX2_begin_58 : decode cX2_begin 58 = .ok (.getfield 147, 3) := dk_180 0 147 (dk_at dksX2_begin_2 10 rfl rfl)
theorem dX2_begin_61 : decode cX2_begin 61 = .ok (.ireturn, 1) := dk_172 (dk_at dksX2_begin_2 13 rfl rfl)
abbrev cX2_take : ByteArray := prog_3_method_32_code
def yX2_take : MethodName := ⟨RX2, "take", "(LCrossbarExchange$Call;LCrossbarExchange$Path;)V"⟩
def dkwX2_take_3 : List UInt8 := [182, 0, 218, 96, 79, 42, 43, 44, 180, 1, 12, 182, 0, 95, 42, 44, 180, 1, 12, 181, 0, 75, 177]
abbrev dktX2_take_3 : List UInt8 := dkwX2_take_3 ++ []
def dkwX2_take_2 : List UInt8 := [167, 255, 223, 42, 180, 0, 48, 16, 8, 92, 46, 4, 96, 79, 42, 180, 0, 48, 16, 9, 92, 46, 44]
abbrev dktX2_take_2 : List UInt8 := dkwX2_take_2 ++ dktX2_take_3
def dkwX2_take_1 : List UInt8 := [180, 0, 246, 29, 185, 0, 119, 2, 0, 192, 0, 9, 89, 180, 1, 9, 4, 96, 181, 1, 9, 132, 3, 1]
abbrev dktX2_take_1 : List UInt8 := dkwX2_take_1 ++ dktX2_take_2
def dkwX2_take_0 : List UInt8 := [44, 182, 1, 2, 154, 0, 71, 42, 44, 182, 1, 5, 3, 62, 29, 44, 182, 0, 218, 162, 0, 31, 44]
abbrev dktX2_take_0 : List UInt8 := dkwX2_take_0 ++ dktX2_take_1
theorem dksX2_take_0 : cX2_take.data.toList.drop 0 = dktX2_take_0 := by decide +kernel
theorem dksX2_take_1 : cX2_take.data.toList.drop 23 = dktX2_take_1 := dk_seg dksX2_take_0 23 rfl rfl
theorem dksX2_take_2 : cX2_take.data.toList.drop 47 = dktX2_take_2 := dk_seg dksX2_take_1 24 rfl rfl
theorem dksX2_take_3 : cX2_take.data.toList.drop 70 = dktX2_take_3 := dk_seg dksX2_take_2 23 rfl rfl
theorem dX2_take_0 : decode cX2_take 0 = .ok (.aload_n 2, 1) := dk_44 (dk_at dksX2_take_0 0 rfl rfl)
theorem dX2_take_1 : decode cX2_take 1 = .ok (.invokevirtual 258, 3) := dk_182 1 2 (dk_at dksX2_take_0 1 rfl rfl)
theorem dX2_take_4 : decode cX2_take 4 = .ok (.ifCond .ne 71, 3) := dk_154 0 71 (dk_at dksX2_take_0 4 rfl rfl)
theorem dX2_take_7 : decode cX2_take 7 = .ok (.aload_n 0, 1) := dk_42 (dk_at dksX2_take_0 7 rfl rfl)
theorem dX2_take_8 : decode cX2_take 8 = .ok (.aload_n 2, 1) := dk_44 (dk_at dksX2_take_0 8 rfl rfl)
theorem dX2_take_9 : decode cX2_take 9 = .ok (.invokevirtual 261, 3) := dk_182 1 5 (dk_at dksX2_take_0 9 rfl rfl)
theorem dX2_take_12 : decode cX2_take 12 = .ok (.iconst 0, 1) := dk_3 (dk_at dksX2_take_0 12 rfl rfl)
theorem dX2_take_13 : decode cX2_take 13 = .ok (.istore_n 3, 1) := dk_62 (dk_at dksX2_take_0 13 rfl rfl)
theorem dX2_take_14 : decode cX2_take 14 = .ok (.iload_n 3, 1) := dk_29 (dk_at dksX2_take_0 14 rfl rfl)
theorem dX2_take_15 : decode cX2_take 15 = .ok (.aload_n 2, 1) := dk_44 (dk_at dksX2_take_0 15 rfl rfl)
theorem dX2_take_16 : decode cX2_take 16 = .ok (.invokevirtual 218, 3) := dk_182 0 218 (dk_at dksX2_take_0 16 rfl rfl)
theorem dX2_take_19 : decode cX2_take 19 = .ok (.if_icmp .ge 31, 3) := dk_162 0 31 (dk_at dksX2_take_0 19 rfl rfl)
theorem dX2_take_22 : decode cX2_take 22 = .ok (.aload_n 2, 1) := dk_44 (dk_at dksX2_take_0 22 rfl rfl)
theorem dX2_take_23 : decode cX2_take 23 = .ok (.getfield 246, 3) := dk_180 0 246 (dk_at dksX2_take_1 0 rfl rfl)
theorem dX2_take_26 : decode cX2_take 26 = .ok (.iload_n 3, 1) := dk_29 (dk_at dksX2_take_1 3 rfl rfl)
theorem dX2_take_27 : decode cX2_take 27 = .ok (.invokeinterface 119 2, 5) := by decide +kernel
theorem dX2_take_32 : decode cX2_take 32 = .ok (.checkcast 9, 3) := dk_192 0 9 (dk_at dksX2_take_1 9 rfl rfl)
theorem dX2_take_35 : decode cX2_take 35 = .ok (.dup, 1) := dk_89 (dk_at dksX2_take_1 12 rfl rfl)
theorem dX2_take_36 : decode cX2_take 36 = .ok (.getfield 265, 3) := dk_180 1 9 (dk_at dksX2_take_1 13 rfl rfl)
theorem dX2_take_39 : decode cX2_take 39 = .ok (.iconst 1, 1) := dk_4 (dk_at dksX2_take_1 16 rfl rfl)
theorem dX2_take_40 : decode cX2_take 40 = .ok (.iadd, 1) := dk_96 (dk_at dksX2_take_1 17 rfl rfl)
theorem dX2_take_41 : decode cX2_take 41 = .ok (.putfield 265, 3) := dk_181 1 9 (dk_at dksX2_take_1 18 rfl rfl)
theorem dX2_take_44 : decode cX2_take 44 = .ok (.iinc 3 1, 3) := dk_132 3 1 (dk_at dksX2_take_1 21 rfl rfl)
theorem dX2_take_47 : decode cX2_take 47 = .ok (.goto (-33), 3) := dk_167 255 223 (dk_at dksX2_take_2 0 rfl rfl)
theorem dX2_take_50 : decode cX2_take 50 = .ok (.aload_n 0, 1) := dk_42 (dk_at dksX2_take_2 3 rfl rfl)
theorem dX2_take_51 : decode cX2_take 51 = .ok (.getfield 48, 3) := dk_180 0 48 (dk_at dksX2_take_2 4 rfl rfl)
theorem dX2_take_54 : decode cX2_take 54 = .ok (.bipush 8, 2) := dk_16 8 (dk_at dksX2_take_2 7 rfl rfl)
theorem dX2_take_56 : decode cX2_take 56 = .ok (.dup2, 1) := dk_92 (dk_at dksX2_take_2 9 rfl rfl)
theorem dX2_take_57 : decode cX2_take 57 = .ok (.iaload, 1) := dk_46 (dk_at dksX2_take_2 10 rfl rfl)
theorem dX2_take_58 : decode cX2_take 58 = .ok (.iconst 1, 1) := dk_4 (dk_at dksX2_take_2 11 rfl rfl)
theorem dX2_take_59 : decode cX2_take 59 = .ok (.iadd, 1) := dk_96 (dk_at dksX2_take_2 12 rfl rfl)
theorem dX2_take_60 : decode cX2_take 60 = .ok (.iastore, 1) := dk_79 (dk_at dksX2_take_2 13 rfl rfl)
theorem dX2_take_61 : decode cX2_take 61 = .ok (.aload_n 0, 1) := dk_42 (dk_at dksX2_take_2 14 rfl rfl)
theorem dX2_take_62 : decode cX2_take 62 = .ok (.getfield 48, 3) := dk_180 0 48 (dk_at dksX2_take_2 15 rfl rfl)
theorem dX2_take_65 : decode cX2_take 65 = .ok (.bipush 9, 2) := dk_16 9 (dk_at dksX2_take_2 18 rfl rfl)
theorem dX2_take_67 : decode cX2_take 67 = .ok (.dup2, 1) := dk_92 (dk_at dksX2_take_2 20 rfl rfl)
theorem dX2_take_68 : decode cX2_take 68 = .ok (.iaload, 1) := dk_46 (dk_at dksX2_take_2 21 rfl rfl)
theorem dX2_take_69 : decode cX2_take 69 = .ok (.aload_n 2, 1) := dk_44 (dk_at dksX2_take_2 22 rfl rfl)
theorem dX2_take_70 : decode cX2_take 70 = .ok (.invokevirtual 218, 3) := dk_182 0 218 (dk_at dksX2_take_3 0 rfl rfl)
theorem dX2_take_73 : decode cX2_take 73 = .ok (.iadd, 1) := dk_96 (dk_at dksX2_take_3 3 rfl rfl)
theorem dX2_take_74 : decode cX2_take 74 = .ok (.iastore, 1) := dk_79 (dk_at dksX2_take_3 4 rfl rfl)
theorem dX2_take_75 : decode cX2_take 75 = .ok (.aload_n 0, 1) := dk_42 (dk_at dksX2_take_3 5 rfl rfl)
theorem dX2_take_76 : decode cX2_take 76 = .ok (.aload_n 1, 1) := dk_43 (dk_at dksX2_take_3 6 rfl rfl)
theorem dX2_take_77 : decode cX2_take 77 = .ok (.aload_n 2, 1) := dk_44 (dk_at dksX2_take_3 7 rfl rfl)
theorem dX2_take_78 : decode cX2_take 78 = .ok (.getfield 268, 3) := dk_180 1 12 (dk_at dksX2_take_3 8 rfl rfl)
theorem dX2_take_81 : decode cX2_take 81 = .ok (.invokevirtual 95, 3) := dk_182 0 95 (dk_at dksX2_take_3 11 rfl rfl)
theorem dX2_take_84 : decode cX2_take 84 = .ok (.aload_n 0, 1) := dk_42 (dk_at dksX2_take_3 14 rfl rfl)
theorem dX2_take_85 : decode cX2_take 85 = .ok (.aload_n 2, 1) := dk_44 (dk_at dksX2_take_3 15 rfl rfl)
theorem dX2_take_86 : decode cX2_take 86 = .ok (.getfield 268, 3) := dk_180 1 12 (dk_at dksX2_take_3 16 rfl rfl)
theorem dX2_take_89 : decode cX2_take 89 = .ok (.putfield 75, 3) := dk_181 0 75 (dk_at dksX2_take_3 19 rfl rfl)
theorem dX2_take_92 : decode cX2_take 92 = .ok (.return_, 1) := dk_177 (dk_at dksX2_take_3 22 rfl rfl)
abbrev cX2_swap : ByteArray := prog_3_method_31_code
def yX2_swap : MethodName := ⟨RX2, "swap", "(LCrossbarExchange$Path;)V"⟩
def dkwX2_swap_4 : List UInt8 := [185, 0, 119, 2, 0, 192, 0, 9, 180, 0, 92, 182, 0, 95, 132, 2, 1, 167, 255, 212, 177]
abbrev dktX2_swap_4 : List UInt8 := dkwX2_swap_4 ++ []
def dkwX2_swap_3 : List UInt8 := [162, 0, 42, 42, 43, 180, 0, 246, 28, 185, 0, 119, 2, 0, 192, 0, 9, 43, 180, 0, 246, 28]
abbrev dktX2_swap_3 : List UInt8 := dkwX2_swap_3 ++ dktX2_swap_4
def dkwX2_swap_2 : List UInt8 := [42, 45, 182, 0, 255, 45, 21, 4, 181, 0, 92, 132, 2, 1, 167, 255, 196, 3, 61, 28, 43, 182, 0, 218]
abbrev dktX2_swap_2 : List UInt8 := dkwX2_swap_2 ++ dktX2_swap_3
def dkwX2_swap_1 : List UInt8 := [45, 180, 0, 92, 43, 180, 0, 249, 160, 0, 10, 43, 180, 0, 252, 167, 0, 7, 43, 180, 0, 249, 54, 4]
abbrev dktX2_swap_1 : List UInt8 := dkwX2_swap_1 ++ dktX2_swap_2
def dkwX2_swap_0 : List UInt8 := [3, 61, 28, 43, 182, 0, 218, 162, 0, 58, 43, 180, 0, 246, 28, 185, 0, 119, 2, 0, 192, 0, 9, 78]
abbrev dktX2_swap_0 : List UInt8 := dkwX2_swap_0 ++ dktX2_swap_1
theorem dksX2_swap_0 : cX2_swap.data.toList.drop 0 = dktX2_swap_0 := by decide +kernel
theorem dksX2_swap_1 : cX2_swap.data.toList.drop 24 = dktX2_swap_1 := dk_seg dksX2_swap_0 24 rfl rfl
theorem dksX2_swap_2 : cX2_swap.data.toList.drop 48 = dktX2_swap_2 := dk_seg dksX2_swap_1 24 rfl rfl
theorem dksX2_swap_3 : cX2_swap.data.toList.drop 72 = dktX2_swap_3 := dk_seg dksX2_swap_2 24 rfl rfl
theorem dksX2_swap_4 : cX2_swap.data.toList.drop 94 = dktX2_swap_4 := dk_seg dksX2_swap_3 22 rfl rfl
theorem dX2_swap_0 : decode cX2_swap 0 = .ok (.iconst 0, 1) := dk_3 (dk_at dksX2_swap_0 0 rfl rfl)
theorem dX2_swap_1 : decode cX2_swap 1 = .ok (.istore_n 2, 1) := dk_61 (dk_at dksX2_swap_0 1 rfl rfl)
theorem dX2_swap_2 : decode cX2_swap 2 = .ok (.iload_n 2, 1) := dk_28 (dk_at dksX2_swap_0 2 rfl rfl)
theorem dX2_swap_3 : decode cX2_swap 3 = .ok (.aload_n 1, 1) := dk_43 (dk_at dksX2_swap_0 3 rfl rfl)
theorem dX2_swap_4 : decode cX2_swap 4 = .ok (.invokevirtual 218, 3) := dk_182 0 218 (dk_at dksX2_swap_0 4 rfl rfl)
theorem dX2_swap_7 : decode cX2_swap 7 = .ok (.if_icmp .ge 58, 3) := dk_162 0 58 (dk_at dksX2_swap_0 7 rfl rfl)
theorem dX2_swap_10 : decode cX2_swap 10 = .ok (.aload_n 1, 1) := dk_43 (dk_at dksX2_swap_0 10 rfl rfl)
theorem dX2_swap_11 : decode cX2_swap 11 = .ok (.getfield 246, 3) := dk_180 0 246 (dk_at dksX2_swap_0 11 rfl rfl)
theorem dX2_swap_14 : decode cX2_swap 14 = .ok (.iload_n 2, 1) := dk_28 (dk_at dksX2_swap_0 14 rfl rfl)
theorem dX2_swap_15 : decode cX2_swap 15 = .ok (.invokeinterface 119 2, 5) := by decide +kernel
theorem dX2_swap_20 : decode cX2_swap 20 = .ok (.checkcast 9, 3) := dk_192 0 9 (dk_at dksX2_swap_0 20 rfl rfl)
theorem dX2_swap_23 : decode cX2_swap 23 = .ok (.astore_n 3, 1) := dk_78 (dk_at dksX2_swap_0 23 rfl rfl)
theorem dX2_swap_24 : decode cX2_swap 24 = .ok (.aload_n 3, 1) := dk_45 (dk_at dksX2_swap_1 0 rfl rfl)
theorem dX2_swap_25 : decode cX2_swap 25 = .ok (.getfield 92, 3) := dk_180 0 92 (dk_at dksX2_swap_1 1 rfl rfl)
theorem dX2_swap_28 : decode cX2_swap 28 = .ok (.aload_n 1, 1) := dk_43 (dk_at dksX2_swap_1 4 rfl rfl)
theorem dX2_swap_29 : decode cX2_swap 29 = .ok (.getfield 249, 3) := dk_180 0 249 (dk_at dksX2_swap_1 5 rfl rfl)
theorem dX2_swap_32 : decode cX2_swap 32 = .ok (.if_icmp .ne 10, 3) := dk_160 0 10 (dk_at dksX2_swap_1 8 rfl rfl)
theorem dX2_swap_35 : decode cX2_swap 35 = .ok (.aload_n 1, 1) := dk_43 (dk_at dksX2_swap_1 11 rfl rfl)
theorem dX2_swap_36 : decode cX2_swap 36 = .ok (.getfield 252, 3) := dk_180 0 252 (dk_at dksX2_swap_1 12 rfl rfl)
theorem dX2_swap_39 : decode cX2_swap 39 = .ok (.goto 7, 3) := dk_167 0 7 (dk_at dksX2_swap_1 15 rfl rfl)
theorem dX2_swap_42 : decode cX2_swap 42 = .ok (.aload_n 1, 1) := dk_43 (dk_at dksX2_swap_1 18 rfl rfl)
theorem dX2_swap_43 : decode cX2_swap 43 = .ok (.getfield 249, 3) := dk_180 0 249 (dk_at dksX2_swap_1 19 rfl rfl)
theorem dX2_swap_46 : decode cX2_swap 46 = .ok (.istore 4, 2) := dk_54 4 (dk_at dksX2_swap_1 22 rfl rfl)
theorem dX2_swap_48 : decode cX2_swap 48 = .ok (.aload_n 0, 1) := dk_42 (dk_at dksX2_swap_2 0 rfl rfl)
theorem dX2_swap_49 : decode cX2_swap 49 = .ok (.aload_n 3, 1) := dk_45 (dk_at dksX2_swap_2 1 rfl rfl)
theorem dX2_swap_50 : decode cX2_swap 50 = .ok (.invokevirtual 255, 3) := dk_182 0 255 (dk_at dksX2_swap_2 2 rfl rfl)
theorem dX2_swap_53 : decode cX2_swap 53 = .ok (.aload_n 3, 1) := dk_45 (dk_at dksX2_swap_2 5 rfl rfl)
theorem dX2_swap_54 : decode cX2_swap 54 = .ok (.iload 4, 2) := dk_21 4 (dk_at dksX2_swap_2 6 rfl rfl)
theorem dX2_swap_56 : decode cX2_swap 56 = .ok (.putfield 92, 3) := dk_181 0 92 (dk_at dksX2_swap_2 8 rfl rfl)
theorem dX2_swap_59 : decode cX2_swap 59 = .ok (.iinc 2 1, 3) := dk_132 2 1 (dk_at dksX2_swap_2 11 rfl rfl)
theorem dX2_swap_62 : decode cX2_swap 62 = .ok (.goto (-60), 3) := dk_167 255 196 (dk_at dksX2_swap_2 14 rfl rfl)
theorem dX2_swap_65 : decode cX2_swap 65 = .ok (.iconst 0, 1) := dk_3 (dk_at dksX2_swap_2 17 rfl rfl)
theorem dX2_swap_66 : decode cX2_swap 66 = .ok (.istore_n 2, 1) := dk_61 (dk_at dksX2_swap_2 18 rfl rfl)
theorem dX2_swap_67 : decode cX2_swap 67 = .ok (.iload_n 2, 1) := dk_28 (dk_at dksX2_swap_2 19 rfl rfl)
theorem dX2_swap_68 : decode cX2_swap 68 = .ok (.aload_n 1, 1) := dk_43 (dk_at dksX2_swap_2 20 rfl rfl)
theorem dX2_swap_69 : decode cX2_swap 69 = .ok (.invokevirtual 218, 3) := dk_182 0 218 (dk_at dksX2_swap_2 21 rfl rfl)
theorem dX2_swap_72 : decode cX2_swap 72 = .ok (.if_icmp .ge 42, 3) := dk_162 0 42 (dk_at dksX2_swap_3 0 rfl rfl)
theorem dX2_swap_75 : decode cX2_swap 75 = .ok (.aload_n 0, 1) := dk_42 (dk_at dksX2_swap_3 3 rfl rfl)
theorem dX2_swap_76 : decode cX2_swap 76 = .ok (.aload_n 1, 1) := dk_43 (dk_at dksX2_swap_3 4 rfl rfl)
theorem dX2_swap_77 : decode cX2_swap 77 = .ok (.getfield 246, 3) := dk_180 0 246 (dk_at dksX2_swap_3 5 rfl rfl)
theorem dX2_swap_80 : decode cX2_swap 80 = .ok (.iload_n 2, 1) := dk_28 (dk_at dksX2_swap_3 8 rfl rfl)
theorem dX2_swap_81 : decode cX2_swap 81 = .ok (.invokeinterface 119 2, 5) := by decide +kernel
theorem dX2_swap_86 : decode cX2_swap 86 = .ok (.checkcast 9, 3) := dk_192 0 9 (dk_at dksX2_swap_3 14 rfl rfl)
theorem dX2_swap_89 : decode cX2_swap 89 = .ok (.aload_n 1, 1) := dk_43 (dk_at dksX2_swap_3 17 rfl rfl)
theorem dX2_swap_90 : decode cX2_swap 90 = .ok (.getfield 246, 3) := dk_180 0 246 (dk_at dksX2_swap_3 18 rfl rfl)
theorem dX2_swap_93 : decode cX2_swap 93 = .ok (.iload_n 2, 1) := dk_28 (dk_at dksX2_swap_3 21 rfl rfl)
theorem dX2_swap_94 : decode cX2_swap 94 = .ok (.invokeinterface 119 2, 5) := by decide +kernel
theorem dX2_swap_99 : decode cX2_swap 99 = .ok (.checkcast 9, 3) := dk_192 0 9 (dk_at dksX2_swap_4 5 rfl rfl)
theorem dX2_swap_102 : decode cX2_swap 102 = .ok (.getfield 92, 3) := dk_180 0 92 (dk_at dksX2_swap_4 8 rfl rfl)
theorem dX2_swap_105 : decode cX2_swap 105 = .ok (.invokevirtual 95, 3) := dk_182 0 95 (dk_at dksX2_swap_4 11 rfl rfl)
theorem dX2_swap_108 : decode cX2_swap 108 = .ok (.iinc 2 1, 3) := dk_132 2 1 (dk_at dksX2_swap_4 14 rfl rfl)
theorem dX2_swap_111 : decode cX2_swap 111 = .ok (.goto (-44), 3) := dk_167 255 212 (dk_at dksX2_swap_4 17 rfl rfl)
theorem dX2_swap_114 : decode cX2_swap 114 = .ok (.return_, 1) := dk_177 (dk_at dksX2_swap_4 20 rfl rfl)
abbrev cX2_lift : ByteArray := prog_3_method_22_code
def yX2_lift : MethodName := ⟨RX2, "lift", "(LCrossbarExchange$Call;)V"⟩
def dkwX2_lift_2 : List UInt8 := [182, 0, 185, 182, 0, 204, 192, 0, 9, 78, 43, 2, 181, 0, 92, 177]
abbrev dktX2_lift_2 : List UInt8 := dkwX2_lift_2 ++ []
def dkwX2_lift_1 : List UInt8 := [192, 0, 9, 77, 42, 180, 0, 20, 42, 180, 0, 55, 43, 180, 0, 92, 42, 43, 182, 0, 201, 4]
abbrev dktX2_lift_1 : List UInt8 := dkwX2_lift_1 ++ dktX2_lift_2
def dkwX2_lift_0 : List UInt8 := [42, 180, 0, 20, 42, 180, 0, 55, 43, 180, 0, 92, 42, 43, 182, 0, 196, 3, 182, 0, 185, 182, 0, 204]
abbrev dktX2_lift_0 : List UInt8 := dkwX2_lift_0 ++ dktX2_lift_1
theorem dksX2_lift_0 : cX2_lift.data.toList.drop 0 = dktX2_lift_0 := by decide +kernel
theorem dksX2_lift_1 : cX2_lift.data.toList.drop 24 = dktX2_lift_1 := dk_seg dksX2_lift_0 24 rfl rfl
theorem dksX2_lift_2 : cX2_lift.data.toList.drop 46 = dktX2_lift_2 := dk_seg dksX2_lift_1 22 rfl rfl
theorem dX2_lift_0 : decode cX2_lift 0 = .ok (.aload_n 0, 1) := dk_42 (dk_at dksX2_lift_0 0 rfl rfl)
theorem dX2_lift_1 : decode cX2_lift 1 = .ok (.getfield 20, 3) := dk_180 0 20 (dk_at dksX2_lift_0 1 rfl rfl)
theorem dX2_lift_4 : decode cX2_lift 4 = .ok (.aload_n 0, 1) := dk_42 (dk_at dksX2_lift_0 4 rfl rfl)
theorem dX2_lift_5 : decode cX2_lift 5 = .ok (.getfield 55, 3) := dk_180 0 55 (dk_at dksX2_lift_0 5 rfl rfl)
theorem dX2_lift_8 : decode cX2_lift 8 = .ok (.aload_n 1, 1) := dk_43 (dk_at dksX2_lift_0 8 rfl rfl)
theorem dX2_lift_9 : decode cX2_lift 9 = .ok (.getfield 92, 3) := dk_180 0 92 (dk_at dksX2_lift_0 9 rfl rfl)
theorem dX2_lift_12 : decode cX2_lift 12 = .ok (.aload_n 0, 1) := dk_42 (dk_at dksX2_lift_0 12 rfl rfl)
theorem dX2_lift_13 : decode cX2_lift 13 = .ok (.aload_n 1, 1) := dk_43 (dk_at dksX2_lift_0 13 rfl rfl)
theorem dX2_lift_14 : decode cX2_lift 14 = .ok (.invokevirtual 196, 3) := dk_182 0 196 (dk_at dksX2_lift_0 14 rfl rfl)
theorem dX2_lift_17 : decode cX2_lift 17 = .ok (.iconst 0, 1) := dk_3 (dk_at dksX2_lift_0 17 rfl rfl)
theorem dX2_lift_18 : decode cX2_lift 18 = .ok (.invokevirtual 185, 3) := dk_182 0 185 (dk_at dksX2_lift_0 18 rfl rfl)
theorem dX2_lift_21 : decode cX2_lift 21 = .ok (.invokevirtual 204, 3) := dk_182 0 204 (dk_at dksX2_lift_0 21 rfl rfl)
theorem dX2_lift_24 : decode cX2_lift 24 = .ok (.checkcast 9, 3) := dk_192 0 9 (dk_at dksX2_lift_1 0 rfl rfl)
theorem dX2_lift_27 : decode cX2_lift 27 = .ok (.astore_n 2, 1) := dk_77 (dk_at dksX2_lift_1 3 rfl rfl)
theorem dX2_lift_28 : decode cX2_lift 28 = .ok (.aload_n 0, 1) := dk_42 (dk_at dksX2_lift_1 4 rfl rfl)
theorem dX2_lift_29 : decode cX2_lift 29 = .ok (.getfield 20, 3) := dk_180 0 20 (dk_at dksX2_lift_1 5 rfl rfl)
theorem dX2_lift_32 : decode cX2_lift 32 = .ok (.aload_n 0, 1) := dk_42 (dk_at dksX2_lift_1 8 rfl rfl)
theorem dX2_lift_33 : decode cX2_lift 33 = .ok (.getfield 55, 3) := dk_180 0 55 (dk_at dksX2_lift_1 9 rfl rfl)
theorem dX2_lift_36 : decode cX2_lift 36 = .ok (.aload_n 1, 1) := dk_43 (dk_at dksX2_lift_1 12 rfl rfl)
theorem dX2_lift_37 : decode cX2_lift 37 = .ok (.getfield 92, 3) := dk_180 0 92 (dk_at dksX2_lift_1 13 rfl rfl)
theorem dX2_lift_40 : decode cX2_lift 40 = .ok (.aload_n 0, 1) := dk_42 (dk_at dksX2_lift_1 16 rfl rfl)
theorem dX2_lift_41 : decode cX2_lift 41 = .ok (.aload_n 1, 1) := dk_43 (dk_at dksX2_lift_1 17 rfl rfl)
theorem dX2_lift_42 : decode cX2_lift 42 = .ok (.invokevirtual 201, 3) := dk_182 0 201 (dk_at dksX2_lift_1 18 rfl rfl)
theorem dX2_lift_45 : decode cX2_lift 45 = .ok (.iconst 1, 1) := dk_4 (dk_at dksX2_lift_1 21 rfl rfl)
theorem dX2_lift_46 : decode cX2_lift 46 = .ok (.invokevirtual 185, 3) := dk_182 0 185 (dk_at dksX2_lift_2 0 rfl rfl)
theorem dX2_lift_49 : decode cX2_lift 49 = .ok (.invokevirtual 204, 3) := dk_182 0 204 (dk_at dksX2_lift_2 3 rfl rfl)
theorem dX2_lift_52 : decode cX2_lift 52 = .ok (.checkcast 9, 3) := dk_192 0 9 (dk_at dksX2_lift_2 6 rfl rfl)
theorem dX2_lift_55 : decode cX2_lift 55 = .ok (.astore_n 3, 1) := dk_78 (dk_at dksX2_lift_2 9 rfl rfl)
theorem dX2_lift_56 : decode cX2_lift 56 = .ok (.aload_n 1, 1) := dk_43 (dk_at dksX2_lift_2 10 rfl rfl)
theorem dX2_lift_57 : decode cX2_lift 57 = .ok (.iconst (-1), 1) := dk_2 (dk_at dksX2_lift_2 11 rfl rfl)
theorem dX2_lift_58 : decode cX2_lift 58 = .ok (.putfield 92, 3) := dk_181 0 92 (dk_at dksX2_lift_2 12 rfl rfl)
theorem dX2_lift_61 : decode cX2_lift 61 = .ok (.return_, 1) := dk_177 (dk_at dksX2_lift_2 15 rfl rfl)
abbrev cX2_lay : ByteArray := prog_3_method_21_code
def yX2_lay : MethodName := ⟨RX2, "lay", "(LCrossbarExchange$Call;I)V"⟩
def dkwX2_lay_2 : List UInt8 := [43, 182, 0, 201, 4, 182, 0, 185, 43, 182, 0, 200, 192, 0, 9, 58, 4, 177]
abbrev dktX2_lay_2 : List UInt8 := dkwX2_lay_2 ++ []
def dkwX2_lay_1 : List UInt8 := [182, 0, 185, 43, 182, 0, 200, 192, 0, 9, 78, 42, 180, 0, 20, 187, 0, 52, 89, 183, 0, 54, 28, 42]
abbrev dktX2_lay_1 : List UInt8 := dkwX2_lay_1 ++ dktX2_lay_2
def dkwX2_lay_0 : List UInt8 := [43, 28, 181, 0, 92, 42, 180, 0, 20, 187, 0, 52, 89, 183, 0, 54, 28, 42, 43, 182, 0, 196, 3]
abbrev dktX2_lay_0 : List UInt8 := dkwX2_lay_0 ++ dktX2_lay_1
theorem dksX2_lay_0 : cX2_lay.data.toList.drop 0 = dktX2_lay_0 := by decide +kernel
theorem dksX2_lay_1 : cX2_lay.data.toList.drop 23 = dktX2_lay_1 := dk_seg dksX2_lay_0 23 rfl rfl
theorem dksX2_lay_2 : cX2_lay.data.toList.drop 47 = dktX2_lay_2 := dk_seg dksX2_lay_1 24 rfl rfl
theorem dX2_lay_0 : decode cX2_lay 0 = .ok (.aload_n 1, 1) := dk_43 (dk_at dksX2_lay_0 0 rfl rfl)
theorem dX2_lay_1 : decode cX2_lay 1 = .ok (.iload_n 2, 1) := dk_28 (dk_at dksX2_lay_0 1 rfl rfl)
theorem dX2_lay_2 : decode cX2_lay 2 = .ok (.putfield 92, 3) := dk_181 0 92 (dk_at dksX2_lay_0 2 rfl rfl)
theorem dX2_lay_5 : decode cX2_lay 5 = .ok (.aload_n 0, 1) := dk_42 (dk_at dksX2_lay_0 5 rfl rfl)
theorem dX2_lay_6 : decode cX2_lay 6 = .ok (.getfield 20, 3) := dk_180 0 20 (dk_at dksX2_lay_0 6 rfl rfl)
theorem dX2_lay_9 : decode cX2_lay 9 = .ok (.new 52, 3) := dk_187 0 52 (dk_at dksX2_lay_0 9 rfl rfl)
theorem dX2_lay_12 : decode cX2_lay 12 = .ok (.dup, 1) := dk_89 (dk_at dksX2_lay_0 12 rfl rfl)
theorem dX2_lay_13 : decode cX2_lay 13 = .ok (.invokespecial 54, 3) := dk_183 0 54 (dk_at dksX2_lay_0 13 rfl rfl)
theorem dX2_lay_16 : decode cX2_lay 16 = .ok (.iload_n 2, 1) := dk_28 (dk_at dksX2_lay_0 16 rfl rfl)
theorem dX2_lay_17 : decode cX2_lay 17 = .ok (.aload_n 0, 1) := dk_42 (dk_at dksX2_lay_0 17 rfl rfl)
theorem dX2_lay_18 : decode cX2_lay 18 = .ok (.aload_n 1, 1) := dk_43 (dk_at dksX2_lay_0 18 rfl rfl)
theorem dX2_lay_19 : decode cX2_lay 19 = .ok (.invokevirtual 196, 3) := dk_182 0 196 (dk_at dksX2_lay_0 19 rfl rfl)
theorem dX2_lay_22 : decode cX2_lay 22 = .ok (.iconst 0, 1) := dk_3 (dk_at dksX2_lay_0 22 rfl rfl)
theorem dX2_lay_23 : decode cX2_lay 23 = .ok (.invokevirtual 185, 3) := dk_182 0 185 (dk_at dksX2_lay_1 0 rfl rfl)
theorem dX2_lay_26 : decode cX2_lay 26 = .ok (.aload_n 1, 1) := dk_43 (dk_at dksX2_lay_1 3 rfl rfl)
theorem dX2_lay_27 : decode cX2_lay 27 = .ok (.invokevirtual 200, 3) := dk_182 0 200 (dk_at dksX2_lay_1 4 rfl rfl)
theorem dX2_lay_30 : decode cX2_lay 30 = .ok (.checkcast 9, 3) := dk_192 0 9 (dk_at dksX2_lay_1 7 rfl rfl)
theorem dX2_lay_33 : decode cX2_lay 33 = .ok (.astore_n 3, 1) := dk_78 (dk_at dksX2_lay_1 10 rfl rfl)
theorem dX2_lay_34 : decode cX2_lay 34 = .ok (.aload_n 0, 1) := dk_42 (dk_at dksX2_lay_1 11 rfl rfl)
theorem dX2_lay_35 : decode cX2_lay 35 = .ok (.getfield 20, 3) := dk_180 0 20 (dk_at dksX2_lay_1 12 rfl rfl)
theorem dX2_lay_38 : decode cX2_lay 38 = .ok (.new 52, 3) := dk_187 0 52 (dk_at dksX2_lay_1 15 rfl rfl)
theorem dX2_lay_41 : decode cX2_lay 41 = .ok (.dup, 1) := dk_89 (dk_at dksX2_lay_1 18 rfl rfl)
theorem dX2_lay_42 : decode cX2_lay 42 = .ok (.invokespecial 54, 3) := dk_183 0 54 (dk_at dksX2_lay_1 19 rfl rfl)
theorem dX2_lay_45 : decode cX2_lay 45 = .ok (.iload_n 2, 1) := dk_28 (dk_at dksX2_lay_1 22 rfl rfl)
theorem dX2_lay_46 : decode cX2_lay 46 = .ok (.aload_n 0, 1) := dk_42 (dk_at dksX2_lay_1 23 rfl rfl)
theorem dX2_lay_47 : decode cX2_lay 47 = .ok (.aload_n 1, 1) := dk_43 (dk_at dksX2_lay_2 0 rfl rfl)
theorem dX2_lay_48 : decode cX2_lay 48 = .ok (.invokevirtual 201, 3) := dk_182 0 201 (dk_at dksX2_lay_2 1 rfl rfl)
theorem dX2_lay_51 : decode cX2_lay 51 = .ok (.iconst 1, 1) := dk_4 (dk_at dksX2_lay_2 4 rfl rfl)
theorem dX2_lay_52 : decode cX2_lay 52 = .ok (.invokevirtual 185, 3) := dk_182 0 185 (dk_at dksX2_lay_2 5 rfl rfl)
theorem dX2_lay_55 : decode cX2_lay 55 = .ok (.aload_n 1, 1) := dk_43 (dk_at dksX2_lay_2 8 rfl rfl)
theorem dX2_lay_56 : decode cX2_lay 56 = .ok (.invokevirtual 200, 3) := dk_182 0 200 (dk_at dksX2_lay_2 9 rfl rfl)
theorem dX2_lay_59 : decode cX2_lay 59 = .ok (.checkcast 9, 3) := dk_192 0 9 (dk_at dksX2_lay_2 12 rfl rfl)
theorem dX2_lay_62 : decode cX2_lay 62 = .ok (.astore 4, 2) := dk_58 4 (dk_at dksX2_lay_2 15 rfl rfl)
theorem dX2_lay_64 : decode cX2_lay 64 = .ok (.return_, 1) := dk_177 (dk_at dksX2_lay_2 17 rfl rfl)
abbrev cX2_keep : ByteArray := prog_3_method_3_code
def yX2_keep : MethodName := ⟨RX2, "keep", "(LCrossbarExchange$Call;)V"⟩
def dkwX2_keep_1 : List UInt8 := [43, 180, 0, 153, 43, 83, 177]
abbrev dktX2_keep_1 : List UInt8 := dkwX2_keep_1 ++ []
def dkwX2_keep_0 : List UInt8 := [42, 180, 0, 11, 43, 180, 0, 147, 43, 83, 42, 180, 0, 72, 43, 180, 0, 150, 43, 83, 42, 180, 0, 72]
abbrev dktX2_keep_0 : List UInt8 := dkwX2_keep_0 ++ dktX2_keep_1
theorem dksX2_keep_0 : cX2_keep.data.toList.drop 0 = dktX2_keep_0 := by decide +kernel
theorem dksX2_keep_1 : cX2_keep.data.toList.drop 24 = dktX2_keep_1 := dk_seg dksX2_keep_0 24 rfl rfl
theorem dX2_keep_0 : decode cX2_keep 0 = .ok (.aload_n 0, 1) := dk_42 (dk_at dksX2_keep_0 0 rfl rfl)
theorem dX2_keep_1 : decode cX2_keep 1 = .ok (.getfield 11, 3) := dk_180 0 11 (dk_at dksX2_keep_0 1 rfl rfl)
theorem dX2_keep_4 : decode cX2_keep 4 = .ok (.aload_n 1, 1) := dk_43 (dk_at dksX2_keep_0 4 rfl rfl)
theorem dX2_keep_5 : decode cX2_keep 5 = .ok (.getfield 147, 3) := dk_180 0 147 (dk_at dksX2_keep_0 5 rfl rfl)
theorem dX2_keep_8 : decode cX2_keep 8 = .ok (.aload_n 1, 1) := dk_43 (dk_at dksX2_keep_0 8 rfl rfl)
theorem dX2_keep_9 : decode cX2_keep 9 = .ok (.aastore, 1) := dk_83 (dk_at dksX2_keep_0 9 rfl rfl)
theorem dX2_keep_10 : decode cX2_keep 10 = .ok (.aload_n 0, 1) := dk_42 (dk_at dksX2_keep_0 10 rfl rfl)
theorem dX2_keep_11 : decode cX2_keep 11 = .ok (.getfield 72, 3) := dk_180 0 72 (dk_at dksX2_keep_0 11 rfl rfl)
theorem dX2_keep_14 : decode cX2_keep 14 = .ok (.aload_n 1, 1) := dk_43 (dk_at dksX2_keep_0 14 rfl rfl)
theorem dX2_keep_15 : decode cX2_keep 15 = .ok (.getfield 150, 3) := dk_180 0 150 (dk_at dksX2_keep_0 15 rfl rfl)
theorem dX2_keep_18 : decode cX2_keep 18 = .ok (.aload_n 1, 1) := dk_43 (dk_at dksX2_keep_0 18 rfl rfl)
theorem dX2_keep_19 : decode cX2_keep 19 = .ok (.aastore, 1) := dk_83 (dk_at dksX2_keep_0 19 rfl rfl)
theorem dX2_keep_20 : decode cX2_keep 20 = .ok (.aload_n 0, 1) := dk_42 (dk_at dksX2_keep_0 20 rfl rfl)
theorem dX2_keep_21 : decode cX2_keep 21 = .ok (.getfield 72, 3) := dk_180 0 72 (dk_at dksX2_keep_0 21 rfl rfl)
theorem dX2_keep_24 : decode cX2_keep 24 = .ok (.aload_n 1, 1) := dk_43 (dk_at dksX2_keep_1 0 rfl rfl)
theorem dX2_keep_25 : decode cX2_keep 25 = .ok (.getfield 153, 3) := dk_180 0 153 (dk_at dksX2_keep_1 1 rfl rfl)
theorem dX2_keep_28 : decode cX2_keep 28 = .ok (.aload_n 1, 1) := dk_43 (dk_at dksX2_keep_1 4 rfl rfl)
theorem dX2_keep_29 : decode cX2_keep 29 = .ok (.aastore, 1) := dk_83 (dk_at dksX2_keep_1 5 rfl rfl)
theorem dX2_keep_30 : decode cX2_keep 30 = .ok (.return_, 1) := dk_177 (dk_at dksX2_keep_1 6 rfl rfl)
abbrev cX2_refuse : ByteArray := prog_3_method_34_code
def yX2_refuse : MethodName := ⟨RX2, "refuse", "(I)I"⟩
def dkwX2_refuse_0 : List UInt8 := [42, 180, 0, 48, 27, 92, 46, 4, 96, 79, 16, 246, 27, 100, 172]
abbrev dktX2_refuse_0 : List UInt8 := dkwX2_refuse_0 ++ []
theorem dksX2_refuse_0 : cX2_refuse.data.toList.drop 0 = dktX2_refuse_0 := by decide +kernel
theorem dX2_refuse_0 : decode cX2_refuse 0 = .ok (.aload_n 0, 1) := dk_42 (dk_at dksX2_refuse_0 0 rfl rfl)
theorem dX2_refuse_1 : decode cX2_refuse 1 = .ok (.getfield 48, 3) := dk_180 0 48 (dk_at dksX2_refuse_0 1 rfl rfl)
theorem dX2_refuse_4 : decode cX2_refuse 4 = .ok (.iload_n 1, 1) := dk_27 (dk_at dksX2_refuse_0 4 rfl rfl)
theorem dX2_refuse_5 : decode cX2_refuse 5 = .ok (.dup2, 1) := dk_92 (dk_at dksX2_refuse_0 5 rfl rfl)
theorem dX2_refuse_6 : decode cX2_refuse 6 = .ok (.iaload, 1) := dk_46 (dk_at dksX2_refuse_0 6 rfl rfl)
theorem dX2_refuse_7 : decode cX2_refuse 7 = .ok (.iconst 1, 1) := dk_4 (dk_at dksX2_refuse_0 7 rfl rfl)
theorem dX2_refuse_8 : decode cX2_refuse 8 = .ok (.iadd, 1) := dk_96 (dk_at dksX2_refuse_0 8 rfl rfl)
theorem dX2_refuse_9 : decode cX2_refuse 9 = .ok (.iastore, 1) := dk_79 (dk_at dksX2_refuse_0 9 rfl rfl)
theorem dX2_refuse_10 : decode cX2_refuse 10 = .ok (.bipush (-10), 2) := dk_16 246 (dk_at dksX2_refuse_0 10 rfl rfl)
theorem dX2_refuse_12 : decode cX2_refuse 12 = .ok (.iload_n 1, 1) := dk_27 (dk_at dksX2_refuse_0 12 rfl rfl)
theorem dX2_refuse_13 : decode cX2_refuse 13 = .ok (.isub, 1) := dk_100 (dk_at dksX2_refuse_0 13 rfl rfl)
theorem dX2_refuse_14 : decode cX2_refuse 14 = .ok (.ireturn, 1) := dk_172 (dk_at dksX2_refuse_0 14 rfl rfl)
abbrev cX2_dial : ByteArray := prog_3_method_38_code
def yX2_dial : MethodName := ⟨RX2, "dial", "(III)I"⟩
def dkwX2_dial_5 : List UInt8 := [42, 180, 0, 141, 183, 1, 48, 182, 0, 131, 16, 254, 172]
abbrev dktX2_dial_5 : List UInt8 := dkwX2_dial_5 ++ []
def dkwX2_dial_4 : List UInt8 := [185, 0, 113, 1, 0, 16, 8, 160, 0, 9, 42, 8, 182, 1, 35, 172, 42, 187, 0, 129, 89, 27, 28, 29]
abbrev dktX2_dial_4 : List UInt8 := dkwX2_dial_4 ++ dktX2_dial_5
def dkwX2_dial_3 : List UInt8 := [25, 4, 27, 3, 182, 1, 44, 2, 159, 0, 9, 42, 7, 182, 1, 35, 172, 42, 180, 0, 45]
abbrev dktX2_dial_3 : List UInt8 := dkwX2_dial_3 ++ dktX2_dial_4
def dkwX2_dial_2 : List UInt8 := [27, 4, 182, 1, 44, 54, 5, 21, 5, 2, 159, 0, 12, 42, 27, 21, 5, 29, 182, 1, 31, 172, 42]
abbrev dktX2_dial_2 : List UInt8 := dkwX2_dial_2 ++ dktX2_dial_3
def dkwX2_dial_1 : List UInt8 := [42, 6, 182, 1, 35, 172, 42, 180, 0, 41, 28, 185, 0, 119, 2, 0, 192, 0, 123, 58, 4, 42, 25, 4]
abbrev dktX2_dial_1 : List UInt8 := dkwX2_dial_1 ++ dktX2_dial_2
def dkwX2_dial_0 : List UInt8 := [42, 27, 182, 1, 13, 154, 0, 9, 42, 4, 182, 1, 35, 172, 42, 180, 0, 81, 17, 0, 200, 160, 0, 9]
abbrev dktX2_dial_0 : List UInt8 := dkwX2_dial_0 ++ dktX2_dial_1
theorem dksX2_dial_0 : cX2_dial.data.toList.drop 0 = dktX2_dial_0 := by decide +kernel
theorem dksX2_dial_1 : cX2_dial.data.toList.drop 24 = dktX2_dial_1 := dk_seg dksX2_dial_0 24 rfl rfl
theorem dksX2_dial_2 : cX2_dial.data.toList.drop 48 = dktX2_dial_2 := dk_seg dksX2_dial_1 24 rfl rfl
theorem dksX2_dial_3 : cX2_dial.data.toList.drop 71 = dktX2_dial_3 := dk_seg dksX2_dial_2 23 rfl rfl
theorem dksX2_dial_4 : cX2_dial.data.toList.drop 92 = dktX2_dial_4 := dk_seg dksX2_dial_3 21 rfl rfl
theorem dksX2_dial_5 : cX2_dial.data.toList.drop 116 = dktX2_dial_5 := dk_seg dksX2_dial_4 24 rfl rfl
theorem dX2_dial_0 : decode cX2_dial 0 = .ok (.aload_n 0, 1) := dk_42 (dk_at dksX2_dial_0 0 rfl rfl)
theorem dX2_dial_1 : decode cX2_dial 1 = .ok (.iload_n 1, 1) := dk_27 (dk_at dksX2_dial_0 1 rfl rfl)
theorem dX2_dial_2 : decode cX2_dial 2 = .ok (.invokevirtual 269, 3) := dk_182 1 13 (dk_at dksX2_dial_0 2 rfl rfl)
theorem dX2_dial_5 : decode cX2_dial 5 = .ok (.ifCond .ne 9, 3) := dk_154 0 9 (dk_at dksX2_dial_0 5 rfl rfl)
theorem dX2_dial_8 : decode cX2_dial 8 = .ok (.aload_n 0, 1) := dk_42 (dk_at dksX2_dial_0 8 rfl rfl)
theorem dX2_dial_9 : decode cX2_dial 9 = .ok (.iconst 1, 1) := dk_4 (dk_at dksX2_dial_0 9 rfl rfl)
theorem dX2_dial_10 : decode cX2_dial 10 = .ok (.invokevirtual 291, 3) := dk_182 1 35 (dk_at dksX2_dial_0 10 rfl rfl)
theorem dX2_dial_13 : decode cX2_dial 13 = .ok (.ireturn, 1) := dk_172 (dk_at dksX2_dial_0 13 rfl rfl)
theorem dX2_dial_14 : decode cX2_dial 14 = .ok (.aload_n 0, 1) := dk_42 (dk_at dksX2_dial_0 14 rfl rfl)
theorem dX2_dial_15 : decode cX2_dial 15 = .ok (.getfield 81, 3) := dk_180 0 81 (dk_at dksX2_dial_0 15 rfl rfl)
theorem dX2_dial_18 : decode cX2_dial 18 = .ok (.sipush 200, 3) := dk_17 0 200 (dk_at dksX2_dial_0 18 rfl rfl)
theorem dX2_dial_21 : decode cX2_dial 21 = .ok (.if_icmp .ne 9, 3) := dk_160 0 9 (dk_at dksX2_dial_0 21 rfl rfl)
theorem dX2_dial_24 : decode cX2_dial 24 = .ok (.aload_n 0, 1) := dk_42 (dk_at dksX2_dial_1 0 rfl rfl)
theorem dX2_dial_25 : decode cX2_dial 25 = .ok (.iconst 3, 1) := dk_6 (dk_at dksX2_dial_1 1 rfl rfl)
theorem dX2_dial_26 : decode cX2_dial 26 = .ok (.invokevirtual 291, 3) := dk_182 1 35 (dk_at dksX2_dial_1 2 rfl rfl)
theorem dX2_dial_29 : decode cX2_dial 29 = .ok (.ireturn, 1) := dk_172 (dk_at dksX2_dial_1 5 rfl rfl)
theorem dX2_dial_30 : decode cX2_dial 30 = .ok (.aload_n 0, 1) := dk_42 (dk_at dksX2_dial_1 6 rfl rfl)
theorem dX2_dial_31 : decode cX2_dial 31 = .ok (.getfield 41, 3) := dk_180 0 41 (dk_at dksX2_dial_1 7 rfl rfl)
theorem dX2_dial_34 : decode cX2_dial 34 = .ok (.iload_n 2, 1) := dk_28 (dk_at dksX2_dial_1 10 rfl rfl)
theorem dX2_dial_35 : decode cX2_dial 35 = .ok (.invokeinterface 119 2, 5) := by decide +kernel
theorem dX2_dial_40 : decode cX2_dial 40 = .ok (.checkcast 123, 3) := dk_192 0 123 (dk_at dksX2_dial_1 16 rfl rfl)
theorem dX2_dial_43 : decode cX2_dial 43 = .ok (.astore 4, 2) := dk_58 4 (dk_at dksX2_dial_1 19 rfl rfl)
theorem dX2_dial_45 : decode cX2_dial 45 = .ok (.aload_n 0, 1) := dk_42 (dk_at dksX2_dial_1 21 rfl rfl)
theorem dX2_dial_46 : decode cX2_dial 46 = .ok (.aload 4, 2) := dk_25 4 (dk_at dksX2_dial_1 22 rfl rfl)
theorem dX2_dial_48 : decode cX2_dial 48 = .ok (.iload_n 1, 1) := dk_27 (dk_at dksX2_dial_2 0 rfl rfl)
theorem dX2_dial_49 : decode cX2_dial 49 = .ok (.iconst 1, 1) := dk_4 (dk_at dksX2_dial_2 1 rfl rfl)
theorem dX2_dial_50 : decode cX2_dial 50 = .ok (.invokevirtual 300, 3) := dk_182 1 44 (dk_at dksX2_dial_2 2 rfl rfl)
theorem dX2_dial_53 : decode cX2_dial 53 = .ok (.istore 5, 2) := dk_54 5 (dk_at dksX2_dial_2 5 rfl rfl)
theorem dX2_dial_55 : decode cX2_dial 55 = .ok (.iload 5, 2) := dk_21 5 (dk_at dksX2_dial_2 7 rfl rfl)
theorem dX2_dial_57 : decode cX2_dial 57 = .ok (.iconst (-1), 1) := dk_2 (dk_at dksX2_dial_2 9 rfl rfl)
theorem dX2_dial_58 : decode cX2_dial 58 = .ok (.if_icmp .eq 12, 3) := dk_159 0 12 (dk_at dksX2_dial_2 10 rfl rfl)
theorem dX2_dial_61 : decode cX2_dial 61 = .ok (.aload_n 0, 1) := dk_42 (dk_at dksX2_dial_2 13 rfl rfl)
theorem dX2_dial_62 : decode cX2_dial 62 = .ok (.iload_n 1, 1) := dk_27 (dk_at dksX2_dial_2 14 rfl rfl)
theorem dX2_dial_63 : decode cX2_dial 63 = .ok (.iload 5, 2) := dk_21 5 (dk_at dksX2_dial_2 15 rfl rfl)
theorem dX2_dial_65 : decode cX2_dial 65 = .ok (.iload_n 3, 1) := dk_29 (dk_at dksX2_dial_2 17 rfl rfl)
theorem dX2_dial_66 : decode cX2_dial 66 = .ok (.invokevirtual 287, 3) := dk_182 1 31 (dk_at dksX2_dial_2 18 rfl rfl)
theorem dX2_dial_69 : decode cX2_dial 69 = .ok (.ireturn, 1) := dk_172 (dk_at dksX2_dial_2 21 rfl rfl)
theorem dX2_dial_70 : decode cX2_dial 70 = .ok (.aload_n 0, 1) := dk_42 (dk_at dksX2_dial_2 22 rfl rfl)
theorem dX2_dial_71 : decode cX2_dial 71 = .ok (.aload 4, 2) := dk_25 4 (dk_at dksX2_dial_3 0 rfl rfl)
theorem dX2_dial_73 : decode cX2_dial 73 = .ok (.iload_n 1, 1) := dk_27 (dk_at dksX2_dial_3 2 rfl rfl)
theorem dX2_dial_74 : decode cX2_dial 74 = .ok (.iconst 0, 1) := dk_3 (dk_at dksX2_dial_3 3 rfl rfl)
theorem dX2_dial_75 : decode cX2_dial 75 = .ok (.invokevirtual 300, 3) := dk_182 1 44 (dk_at dksX2_dial_3 4 rfl rfl)
theorem dX2_dial_78 : decode cX2_dial 78 = .ok (.iconst (-1), 1) := dk_2 (dk_at dksX2_dial_3 7 rfl rfl)
theorem dX2_dial_79 : decode cX2_dial 79 = .ok (.if_icmp .eq 9, 3) := dk_159 0 9 (dk_at dksX2_dial_3 8 rfl rfl)
theorem dX2_dial_82 : decode cX2_dial 82 = .ok (.aload_n 0, 1) := dk_42 (dk_at dksX2_dial_3 11 rfl rfl)
theorem dX2_dial_83 : decode cX2_dial 83 = .ok (.iconst 4, 1) := dk_7 (dk_at dksX2_dial_3 12 rfl rfl)
theorem dX2_dial_84 : decode cX2_dial 84 = .ok (.invokevirtual 291, 3) := dk_182 1 35 (dk_at dksX2_dial_3 13 rfl rfl)
theorem dX2_dial_87 : decode cX2_dial 87 = .ok (.ireturn, 1) := dk_172 (dk_at dksX2_dial_3 16 rfl rfl)
theorem dX2_dial_88 : decode cX2_dial 88 = .ok (.aload_n 0, 1) := dk_42 (dk_at dksX2_dial_3 17 rfl rfl)
theorem dX2_dial_89 : decode cX2_dial 89 = .ok (.getfield 45, 3) := dk_180 0 45 (dk_at dksX2_dial_3 18 rfl rfl)
theorem dX2_dial_92 : decode cX2_dial 92 = .ok (.invokeinterface 113 1, 5) := by decide +kernel
theorem dX2_dial_97 : decode cX2_dial 97 = .ok (.bipush 8, 2) := dk_16 8 (dk_at dksX2_dial_4 5 rfl rfl)
theorem dX2_dial_99 : decode cX2_dial 99 = .ok (.if_icmp .ne 9, 3) := dk_160 0 9 (dk_at dksX2_dial_4 7 rfl rfl)
theorem dX2_dial_102 : decode cX2_dial 102 = .ok (.aload_n 0, 1) := dk_42 (dk_at dksX2_dial_4 10 rfl rfl)
theorem dX2_dial_103 : decode cX2_dial 103 = .ok (.iconst 5, 1) := dk_8 (dk_at dksX2_dial_4 11 rfl rfl)
theorem dX2_dial_104 : decode cX2_dial 104 = .ok (.invokevirtual 291, 3) := dk_182 1 35 (dk_at dksX2_dial_4 12 rfl rfl)
theorem dX2_dial_107 : decode cX2_dial 107 = .ok (.ireturn, 1) := dk_172 (dk_at dksX2_dial_4 15 rfl rfl)
theorem dX2_dial_108 : decode cX2_dial 108 = .ok (.aload_n 0, 1) := dk_42 (dk_at dksX2_dial_4 16 rfl rfl)
theorem dX2_dial_109 : decode cX2_dial 109 = .ok (.new 129, 3) := dk_187 0 129 (dk_at dksX2_dial_4 17 rfl rfl)
theorem dX2_dial_112 : decode cX2_dial 112 = .ok (.dup, 1) := dk_89 (dk_at dksX2_dial_4 20 rfl rfl)
theorem dX2_dial_113 : decode cX2_dial 113 = .ok (.iload_n 1, 1) := dk_27 (dk_at dksX2_dial_4 21 rfl rfl)
theorem dX2_dial_114 : decode cX2_dial 114 = .ok (.iload_n 2, 1) := dk_28 (dk_at dksX2_dial_4 22 rfl rfl)
theorem dX2_dial_115 : decode cX2_dial 115 = .ok (.iload_n 3, 1) := dk_29 (dk_at dksX2_dial_4 23 rfl rfl)
theorem dX2_dial_116 : decode cX2_dial 116 = .ok (.aload_n 0, 1) := dk_42 (dk_at dksX2_dial_5 0 rfl rfl)
theorem dX2_dial_117 : decode cX2_dial 117 = .ok (.getfield 141, 3) := dk_180 0 141 (dk_at dksX2_dial_5 1 rfl rfl)
theorem dX2_dial_120 : decode cX2_dial 120 = .ok (.invokespecial 304, 3) := dk_183 1 48 (dk_at dksX2_dial_5 4 rfl rfl)
theorem dX2_dial_123 : decode cX2_dial 123 = .ok (.invokevirtual 131, 3) := dk_182 0 131 (dk_at dksX2_dial_5 7 rfl rfl)
theorem dX2_dial_126 : decode cX2_dial 126 = .ok (.bipush (-2), 2) := dk_16 254 (dk_at dksX2_dial_5 10 rfl rfl)
theorem dX2_dial_128 : decode cX2_dial 128 = .ok (.ireturn, 1) := dk_172 (dk_at dksX2_dial_5 12 rfl rfl)
abbrev cX2_member : ByteArray := prog_3_method_37_code
def yX2_member : MethodName := ⟨RX2, "member", "(LCrossbarExchange$Group;IZ)I"⟩
def dkwX2_member_3 : List UInt8 := [182, 1, 16, 154, 0, 6, 21, 5, 172, 132, 4, 1, 167, 255, 180, 2, 172]
abbrev dktX2_member_3 : List UInt8 := dkwX2_member_3 ++ []
def dkwX2_member_2 : List UInt8 := [182, 1, 13, 153, 0, 28, 29, 153, 0, 21, 42, 42, 28, 182, 0, 168, 42, 21, 5, 182, 0, 168]
abbrev dktX2_member_2 : List UInt8 := dkwX2_member_2 ++ dktX2_member_3
def dkwX2_member_1 : List UInt8 := [185, 0, 119, 2, 0, 192, 0, 100, 182, 1, 41, 54, 5, 21, 5, 28, 159, 0, 37, 42, 21, 5]
abbrev dktX2_member_1 : List UInt8 := dkwX2_member_1 ++ dktX2_member_2
def dkwX2_member_0 : List UInt8 := [3, 54, 4, 21, 4, 43, 180, 1, 38, 185, 0, 113, 1, 0, 162, 0, 68, 43, 180, 1, 38, 21, 4]
abbrev dktX2_member_0 : List UInt8 := dkwX2_member_0 ++ dktX2_member_1
theorem dksX2_member_0 : cX2_member.data.toList.drop 0 = dktX2_member_0 := by decide +kernel
theorem dksX2_member_1 : cX2_member.data.toList.drop 23 = dktX2_member_1 := dk_seg dksX2_member_0 23 rfl rfl
theorem dksX2_member_2 : cX2_member.data.toList.drop 45 = dktX2_member_2 := dk_seg dksX2_member_1 22 rfl rfl
theorem dksX2_member_3 : cX2_member.data.toList.drop 67 = dktX2_member_3 := dk_seg dksX2_member_2 22 rfl rfl
theorem dX2_member_0 : decode cX2_member 0 = .ok (.iconst 0, 1) := dk_3 (dk_at dksX2_member_0 0 rfl rfl)
theorem dX2_member_1 : decode cX2_member 1 = .ok (.istore 4, 2) := dk_54 4 (dk_at dksX2_member_0 1 rfl rfl)
theorem dX2_member_3 : decode cX2_member 3 = .ok (.iload 4, 2) := dk_21 4 (dk_at dksX2_member_0 3 rfl rfl)
theorem dX2_member_5 : decode cX2_member 5 = .ok (.aload_n 1, 1) := dk_43 (dk_at dksX2_member_0 5 rfl rfl)
theorem dX2_member_6 : decode cX2_member 6 = .ok (.getfield 294, 3) := dk_180 1 38 (dk_at dksX2_member_0 6 rfl rfl)
theorem dX2_member_9 : decode cX2_member 9 = .ok (.invokeinterface 113 1, 5) := by decide +kernel
theorem dX2_member_14 : decode cX2_member 14 = .ok (.if_icmp .ge 68, 3) := dk_162 0 68 (dk_at dksX2_member_0 14 rfl rfl)
theorem dX2_member_17 : decode cX2_member 17 = .ok (.aload_n 1, 1) := dk_43 (dk_at dksX2_member_0 17 rfl rfl)
theorem dX2_member_18 : decode cX2_member 18 = .ok (.getfield 294, 3) := dk_180 1 38 (dk_at dksX2_member_0 18 rfl rfl)
theorem dX2_member_21 : decode cX2_member 21 = .ok (.iload 4, 2) := dk_21 4 (dk_at dksX2_member_0 21 rfl rfl)
theorem dX2_member_23 : decode cX2_member 23 = .ok (.invokeinterface 119 2, 5) := by decide +kernel
theorem dX2_member_28 : decode cX2_member 28 = .ok (.checkcast 100, 3) := dk_192 0 100 (dk_at dksX2_member_1 5 rfl rfl)
theorem dX2_member_31 : decode cX2_member 31 = .ok (.invokevirtual 297, 3) := dk_182 1 41 (dk_at dksX2_member_1 8 rfl rfl)
theorem dX2_member_34 : decode cX2_member 34 = .ok (.istore 5, 2) := dk_54 5 (dk_at dksX2_member_1 11 rfl rfl)
theorem dX2_member_36 : decode cX2_member 36 = .ok (.iload 5, 2) := dk_21 5 (dk_at dksX2_member_1 13 rfl rfl)
theorem dX2_member_38 : decode cX2_member 38 = .ok (.iload_n 2, 1) := dk_28 (dk_at dksX2_member_1 15 rfl rfl)
theorem dX2_member_39 : decode cX2_member 39 = .ok (.if_icmp .eq 37, 3) := dk_159 0 37 (dk_at dksX2_member_1 16 rfl rfl)
theorem dX2_member_42 : decode cX2_member 42 = .ok (.aload_n 0, 1) := dk_42 (dk_at dksX2_member_1 19 rfl rfl)
theorem dX2_member_43 : decode cX2_member 43 = .ok (.iload 5, 2) := dk_21 5 (dk_at dksX2_member_1 20 rfl rfl)
theorem dX2_member_45 : decode cX2_member 45 = .ok (.invokevirtual 269, 3) := dk_182 1 13 (dk_at dksX2_member_2 0 rfl rfl)
theorem dX2_member_48 : decode cX2_member 48 = .ok (.ifCond .eq 28, 3) := dk_153 0 28 (dk_at dksX2_member_2 3 rfl rfl)
theorem dX2_member_51 : decode cX2_member 51 = .ok (.iload_n 3, 1) := dk_29 (dk_at dksX2_member_2 6 rfl rfl)
theorem dX2_member_52 : decode cX2_member 52 = .ok (.ifCond .eq 21, 3) := dk_153 0 21 (dk_at dksX2_member_2 7 rfl rfl)
theorem dX2_member_55 : decode cX2_member 55 = .ok (.aload_n 0, 1) := dk_42 (dk_at dksX2_member_2 10 rfl rfl)
theorem dX2_member_56 : decode cX2_member 56 = .ok (.aload_n 0, 1) := dk_42 (dk_at dksX2_member_2 11 rfl rfl)
theorem dX2_member_57 : decode cX2_member 57 = .ok (.iload_n 2, 1) := dk_28 (dk_at dksX2_member_2 12 rfl rfl)
theorem dX2_member_58 : decode cX2_member 58 = .ok (.invokevirtual 168, 3) := dk_182 0 168 (dk_at dksX2_member_2 13 rfl rfl)
theorem dX2_member_61 : decode cX2_member 61 = .ok (.aload_n 0, 1) := dk_42 (dk_at dksX2_member_2 16 rfl rfl)
theorem dX2_member_62 : decode cX2_member 62 = .ok (.iload 5, 2) := dk_21 5 (dk_at dksX2_member_2 17 rfl rfl)
theorem dX2_member_64 : decode cX2_member 64 = .ok (.invokevirtual 168, 3) := dk_182 0 168 (dk_at dksX2_member_2 19 rfl rfl)
theorem dX2_member_67 : decode cX2_member 67 = .ok (.invokevirtual 272, 3) := dk_182 1 16 (dk_at dksX2_member_3 0 rfl rfl)
theorem dX2_member_70 : decode cX2_member 70 = .ok (.ifCond .ne 6, 3) := dk_154 0 6 (dk_at dksX2_member_3 3 rfl rfl)
theorem dX2_member_73 : decode cX2_member 73 = .ok (.iload 5, 2) := dk_21 5 (dk_at dksX2_member_3 6 rfl rfl)
theorem dX2_member_75 : decode cX2_member 75 = .ok (.ireturn, 1) := dk_172 (dk_at dksX2_member_3 8 rfl rfl)
theorem dX2_member_76 : decode cX2_member 76 = .ok (.iinc 4 1, 3) := dk_132 4 1 (dk_at dksX2_member_3 9 rfl rfl)
theorem dX2_member_79 : decode cX2_member 79 = .ok (.goto (-76), 3) := dk_167 255 180 (dk_at dksX2_member_3 12 rfl rfl)
theorem dX2_member_82 : decode cX2_member 82 = .ok (.iconst (-1), 1) := dk_2 (dk_at dksX2_member_3 15 rfl rfl)
theorem dX2_member_83 : decode cX2_member 83 = .ok (.ireturn, 1) := dk_172 (dk_at dksX2_member_3 16 rfl rfl)
abbrev cX2_queue : ByteArray := prog_3_method_6_code
def yX2_queue : MethodName := ⟨RX2, "queue", "(LCrossbarExchange$Waiter;)V"⟩
def dkwX2_queue_0 : List UInt8 := [42, 180, 0, 45, 43, 185, 0, 167, 2, 0, 61, 177]
abbrev dktX2_queue_0 : List UInt8 := dkwX2_queue_0 ++ []
theorem dksX2_queue_0 : cX2_queue.data.toList.drop 0 = dktX2_queue_0 := by decide +kernel
theorem dX2_queue_0 : decode cX2_queue 0 = .ok (.aload_n 0, 1) := dk_42 (dk_at dksX2_queue_0 0 rfl rfl)
theorem dX2_queue_1 : decode cX2_queue 1 = .ok (.getfield 45, 3) := dk_180 0 45 (dk_at dksX2_queue_0 1 rfl rfl)
theorem dX2_queue_4 : decode cX2_queue 4 = .ok (.aload_n 1, 1) := dk_43 (dk_at dksX2_queue_0 4 rfl rfl)
theorem dX2_queue_5 : decode cX2_queue 5 = .ok (.invokeinterface 167 2, 5) := by decide +kernel
theorem dX2_queue_10 : decode cX2_queue 10 = .ok (.istore_n 2, 1) := dk_61 (dk_at dksX2_queue_0 10 rfl rfl)
theorem dX2_queue_11 : decode cX2_queue 11 = .ok (.return_, 1) := dk_177 (dk_at dksX2_queue_0 11 rfl rfl)
abbrev cX2_hangUp : ByteArray := prog_3_method_41_code
def yX2_hangUp : MethodName := ⟨RX2, "hangUp", "(I)I"⟩
def dkwX2_hangUp_4 : List UInt8 := [2, 167, 0, 7, 44, 180, 0, 147, 172]
abbrev dktX2_hangUp_4 : List UInt8 := dkwX2_hangUp_4 ++ []
def dkwX2_hangUp_3 : List UInt8 := [185, 1, 54, 2, 0, 192, 0, 129, 58, 4, 132, 3, 255, 167, 255, 214, 42, 182, 1, 65, 44, 199, 0, 7]
abbrev dktX2_hangUp_3 : List UInt8 := dkwX2_hangUp_3 ++ dktX2_hangUp_4
def dkwX2_hangUp_2 : List UInt8 := [185, 0, 119, 2, 0, 192, 0, 129, 180, 0, 172, 27, 160, 0, 18, 42, 180, 0, 45, 29]
abbrev dktX2_hangUp_2 : List UInt8 := dkwX2_hangUp_2 ++ dktX2_hangUp_3
def dkwX2_hangUp_1 : List UInt8 := [180, 0, 45, 185, 0, 113, 1, 0, 4, 100, 62, 29, 155, 0, 44, 42, 180, 0, 45, 29]
abbrev dktX2_hangUp_1 : List UInt8 := dkwX2_hangUp_1 ++ dktX2_hangUp_2
def dkwX2_hangUp_0 : List UInt8 := [42, 180, 0, 72, 27, 50, 77, 44, 198, 0, 13, 42, 44, 16, 6, 182, 1, 62, 167, 0, 60, 42]
abbrev dktX2_hangUp_0 : List UInt8 := dkwX2_hangUp_0 ++ dktX2_hangUp_1
theorem dksX2_hangUp_0 : cX2_hangUp.data.toList.drop 0 = dktX2_hangUp_0 := by decide +kernel
theorem dksX2_hangUp_1 : cX2_hangUp.data.toList.drop 22 = dktX2_hangUp_1 := dk_seg dksX2_hangUp_0 22 rfl rfl
theorem dksX2_hangUp_2 : cX2_hangUp.data.toList.drop 42 = dktX2_hangUp_2 := dk_seg dksX2_hangUp_1 20 rfl rfl
theorem dksX2_hangUp_3 : cX2_hangUp.data.toList.drop 62 = dktX2_hangUp_3 := dk_seg dksX2_hangUp_2 20 rfl rfl
theorem dksX2_hangUp_4 : cX2_hangUp.data.toList.drop 86 = dktX2_hangUp_4 := dk_seg dksX2_hangUp_3 24 rfl rfl
theorem dX2_hangUp_0 : decode cX2_hangUp 0 = .ok (.aload_n 0, 1) := dk_42 (dk_at dksX2_hangUp_0 0 rfl rfl)
theorem dX2_hangUp_1 : decode cX2_hangUp 1 = .ok (.getfield 72, 3) := dk_180 0 72 (dk_at dksX2_hangUp_0 1 rfl rfl)
theorem dX2_hangUp_4 : decode cX2_hangUp 4 = .ok (.iload_n 1, 1) := dk_27 (dk_at dksX2_hangUp_0 4 rfl rfl)
theorem dX2_hangUp_5 : decode cX2_hangUp 5 = .ok (.aaload, 1) := dk_50 (dk_at dksX2_hangUp_0 5 rfl rfl)
theorem dX2_hangUp_6 : decode cX2_hangUp 6 = .ok (.astore_n 2, 1) := dk_77 (dk_at dksX2_hangUp_0 6 rfl rfl)
theorem dX2_hangUp_7 : decode cX2_hangUp 7 = .ok (.aload_n 2, 1) := dk_44 (dk_at dksX2_hangUp_0 7 rfl rfl)
theorem dX2_hangUp_8 : decode cX2_hangUp 8 = .ok (.ifnull 13, 3) := dk_198 0 13 (dk_at dksX2_hangUp_0 8 rfl rfl)
theorem dX2_hangUp_11 : decode cX2_hangUp 11 = .ok (.aload_n 0, 1) := dk_42 (dk_at dksX2_hangUp_0 11 rfl rfl)
theorem dX2_hangUp_12 : decode cX2_hangUp 12 = .ok (.aload_n 2, 1) := dk_44 (dk_at dksX2_hangUp_0 12 rfl rfl)
theorem dX2_hangUp_13 : decode cX2_hangUp 13 = .ok (.bipush 6, 2) := dk_16 6 (dk_at dksX2_hangUp_0 13 rfl rfl)
theorem dX2_hangUp_15 : decode cX2_hangUp 15 = .ok (.invokevirtual 318, 3) := dk_182 1 62 (dk_at dksX2_hangUp_0 15 rfl rfl)
theorem dX2_hangUp_18 : decode cX2_hangUp 18 = .ok (.goto 60, 3) := dk_167 0 60 (dk_at dksX2_hangUp_0 18 rfl rfl)
theorem dX2_hangUp_21 : decode cX2_hangUp 21 = .ok (.aload_n 0, 1) := dk_42 (dk_at dksX2_hangUp_0 21 rfl rfl)
theorem dX2_hangUp_22 : decode cX2_hangUp 22 = .ok (.getfield 45, 3) := dk_180 0 45 (dk_at dksX2_hangUp_1 0 rfl rfl)
theorem dX2_hangUp_25 : decode cX2_hangUp 25 = .ok (.invokeinterface 113 1, 5) := by decide +kernel
theorem dX2_hangUp_30 : decode cX2_hangUp 30 = .ok (.iconst 1, 1) := dk_4 (dk_at dksX2_hangUp_1 8 rfl rfl)
theorem dX2_hangUp_31 : decode cX2_hangUp 31 = .ok (.isub, 1) := dk_100 (dk_at dksX2_hangUp_1 9 rfl rfl)
theorem dX2_hangUp_32 : decode cX2_hangUp 32 = .ok (.istore_n 3, 1) := dk_62 (dk_at dksX2_hangUp_1 10 rfl rfl)
theorem dX2_hangUp_33 : decode cX2_hangUp 33 = .ok (.iload_n 3, 1) := dk_29 (dk_at dksX2_hangUp_1 11 rfl rfl)
theorem dX2_hangUp_34 : decode cX2_hangUp 34 = .ok (.ifCond .lt 44, 3) := dk_155 0 44 (dk_at dksX2_hangUp_1 12 rfl rfl)
theorem dX2_hangUp_37 : decode cX2_hangUp 37 = .ok (.aload_n 0, 1) := dk_42 (dk_at dksX2_hangUp_1 15 rfl rfl)
theorem dX2_hangUp_38 : decode cX2_hangUp 38 = .ok (.getfield 45, 3) := dk_180 0 45 (dk_at dksX2_hangUp_1 16 rfl rfl)
theorem dX2_hangUp_41 : decode cX2_hangUp 41 = .ok (.iload_n 3, 1) := dk_29 (dk_at dksX2_hangUp_1 19 rfl rfl)
theorem dX2_hangUp_42 : decode cX2_hangUp 42 = .ok (.invokeinterface 119 2, 5) := by decide +kernel
theorem dX2_hangUp_47 : decode cX2_hangUp 47 = .ok (.checkcast 129, 3) := dk_192 0 129 (dk_at dksX2_hangUp_2 5 rfl rfl)
theorem dX2_hangUp_50 : decode cX2_hangUp 50 = .ok (.getfield 172, 3) := dk_180 0 172 (dk_at dksX2_hangUp_2 8 rfl rfl)
theorem dX2_hangUp_53 : decode cX2_hangUp 53 = .ok (.iload_n 1, 1) := dk_27 (dk_at dksX2_hangUp_2 11 rfl rfl)
theorem dX2_hangUp_54 : decode cX2_hangUp 54 = .ok (.if_icmp .ne 18, 3) := dk_160 0 18 (dk_at dksX2_hangUp_2 12 rfl rfl)
theorem dX2_hangUp_57 : decode cX2_hangUp 57 = .ok (.aload_n 0, 1) := dk_42 (dk_at dksX2_hangUp_2 15 rfl rfl)
theorem dX2_hangUp_58 : decode cX2_hangUp 58 = .ok (.getfield 45, 3) := dk_180 0 45 (dk_at dksX2_hangUp_2 16 rfl rfl)
theorem dX2_hangUp_61 : decode cX2_hangUp 61 = .ok (.iload_n 3, 1) := dk_29 (dk_at dksX2_hangUp_2 19 rfl rfl)
theorem dX2_hangUp_62 : decode cX2_hangUp 62 = .ok (.invokeinterface 310 2, 5) := by decide +kernel
theorem dX2_hangUp_67 : decode cX2_hangUp 67 = .ok (.checkcast 129, 3) := dk_192 0 129 (dk_at dksX2_hangUp_3 5 rfl rfl)
theorem dX2_hangUp_70 : decode cX2_hangUp 70 = .ok (.astore 4, 2) := dk_58 4 (dk_at dksX2_hangUp_3 8 rfl rfl)
theorem dX2_hangUp_72 : decode cX2_hangUp 72 = .ok (.iinc 3 (-1), 3) := dk_132 3 255 (dk_at dksX2_hangUp_3 10 rfl rfl)
theorem dX2_hangUp_75 : decode cX2_hangUp 75 = .ok (.goto (-42), 3) := dk_167 255 214 (dk_at dksX2_hangUp_3 13 rfl rfl)
theorem dX2_hangUp_78 : decode cX2_hangUp 78 = .ok (.aload_n 0, 1) := dk_42 (dk_at dksX2_hangUp_3 16 rfl rfl)
theorem dX2_hangUp_79 : decode cX2_hangUp 79 = .ok (.invokevirtual 321, 3) := dk_182 1 65 (dk_at dksX2_hangUp_3 17 rfl rfl)
theorem dX2_hangUp_82 : decode cX2_hangUp 82 = .ok (.aload_n 2, 1) := dk_44 (dk_at dksX2_hangUp_3 20 rfl rfl)
theorem dX2_hangUp_83 : decode cX2_hangUp 83 = .ok (.ifnonnull 7, 3) := dk_199 0 7 (dk_at dksX2_hangUp_3 21 rfl rfl)
theorem dX2_hangUp_86 : decode cX2_hangUp 86 = .ok (.iconst (-1), 1) := dk_2 (dk_at dksX2_hangUp_4 0 rfl rfl)
theorem dX2_hangUp_87 : decode cX2_hangUp 87 = .ok (.goto 7, 3) := dk_167 0 7 (dk_at dksX2_hangUp_4 1 rfl rfl)
theorem dX2_hangUp_90 : decode cX2_hangUp 90 = .ok (.aload_n 2, 1) := dk_44 (dk_at dksX2_hangUp_4 4 rfl rfl)
theorem dX2_hangUp_91 : decode cX2_hangUp 91 = .ok (.getfield 147, 3) := dk_180 0 147 (dk_at dksX2_hangUp_4 5 rfl rfl)
theorem dX2_hangUp_94 : decode cX2_hangUp 94 = .ok (.ireturn, 1) := dk_172 (dk_at dksX2_hangUp_4 8 rfl rfl)
abbrev cX2_end : ByteArray := prog_3_method_40_code
def yX2_end : MethodName := ⟨RX2, "end", "(LCrossbarExchange$Call;I)V"⟩
def dkwX2_end_2 : List UInt8 := [92, 46, 4, 96, 79, 177]
abbrev dktX2_end_2 : List UInt8 := dkwX2_end_2 ++ []
def dkwX2_end_1 : List UInt8 := [180, 0, 72, 43, 180, 0, 150, 1, 83, 42, 180, 0, 72, 43, 180, 0, 153, 1, 83, 42, 180, 0, 48, 28]
abbrev dktX2_end_1 : List UInt8 := dkwX2_end_1 ++ dktX2_end_2
def dkwX2_end_0 : List UInt8 := [43, 180, 0, 92, 2, 159, 0, 8, 42, 43, 182, 0, 255, 42, 180, 0, 11, 43, 180, 0, 147, 1, 83, 42]
abbrev dktX2_end_0 : List UInt8 := dkwX2_end_0 ++ dktX2_end_1
theorem dksX2_end_0 : cX2_end.data.toList.drop 0 = dktX2_end_0 := by decide +kernel
theorem dksX2_end_1 : cX2_end.data.toList.drop 24 = dktX2_end_1 := dk_seg dksX2_end_0 24 rfl rfl
theorem dksX2_end_2 : cX2_end.data.toList.drop 48 = dktX2_end_2 := dk_seg dksX2_end_1 24 rfl rfl
theorem dX2_end_0 : decode cX2_end 0 = .ok (.aload_n 1, 1) := dk_43 (dk_at dksX2_end_0 0 rfl rfl)
theorem dX2_end_1 : decode cX2_end 1 = .ok (.getfield 92, 3) := dk_180 0 92 (dk_at dksX2_end_0 1 rfl rfl)
theorem dX2_end_4 : decode cX2_end 4 = .ok (.iconst (-1), 1) := dk_2 (dk_at dksX2_end_0 4 rfl rfl)
theorem dX2_end_5 : decode cX2_end 5 = .ok (.if_icmp .eq 8, 3) := dk_159 0 8 (dk_at dksX2_end_0 5 rfl rfl)
theorem dX2_end_8 : decode cX2_end 8 = .ok (.aload_n 0, 1) := dk_42 (dk_at dksX2_end_0 8 rfl rfl)
theorem dX2_end_9 : decode cX2_end 9 = .ok (.aload_n 1, 1) := dk_43 (dk_at dksX2_end_0 9 rfl rfl)
theorem dX2_end_10 : decode cX2_end 10 = .ok (.invokevirtual 255, 3) := dk_182 0 255 (dk_at dksX2_end_0 10 rfl rfl)
theorem dX2_end_13 : decode cX2_end 13 = .ok (.aload_n 0, 1) := dk_42 (dk_at dksX2_end_0 13 rfl rfl)
theorem dX2_end_14 : decode cX2_end 14 = .ok (.getfield 11, 3) := dk_180 0 11 (dk_at dksX2_end_0 14 rfl rfl)
theorem dX2_end_17 : decode cX2_end 17 = .ok (.aload_n 1, 1) := dk_43 (dk_at dksX2_end_0 17 rfl rfl)
theorem dX2_end_18 : decode cX2_end 18 = .ok (.getfield 147, 3) := dk_180 0 147 (dk_at dksX2_end_0 18 rfl rfl)
theorem dX2_end_21 : decode cX2_end 21 = .ok (.aconst_null, 1) := dk_1 (dk_at dksX2_end_0 21 rfl rfl)
theorem dX2_end_22 : decode cX2_end 22 = .ok (.aastore, 1) := dk_83 (dk_at dksX2_end_0 22 rfl rfl)
theorem dX2_end_23 : decode cX2_end 23 = .ok (.aload_n 0, 1) := dk_42 (dk_at dksX2_end_0 23 rfl rfl)
theorem dX2_end_24 : decode cX2_end 24 = .ok (.getfield 72, 3) := dk_180 0 72 (dk_at dksX2_end_1 0 rfl rfl)
theorem dX2_end_27 : decode cX2_end 27 = .ok (.aload_n 1, 1) := dk_43 (dk_at dksX2_end_1 3 rfl rfl)
theorem dX2_end_28 : decode cX2_end 28 = .ok (.getfield 150, 3) := dk_180 0 150 (dk_at dksX2_end_1 4 rfl rfl)
theorem dX2_end_31 : decode cX2_end 31 = .ok (.aconst_null, 1) := dk_1 (dk_at dksX2_end_1 7 rfl rfl)
theorem dX2_end_32 : decode cX2_end 32 = .ok (.aastore, 1) := dk_83 (dk_at dksX2_end_1 8 rfl rfl)
theorem dX2_end_33 : decode cX2_end 33 = .ok (.aload_n 0, 1) := dk_42 (dk_at dksX2_end_1 9 rfl rfl)
theorem dX2_end_34 : decode cX2_end 34 = .ok (.getfield 72, 3) := dk_180 0 72 (dk_at dksX2_end_1 10 rfl rfl)
theorem dX2_end_37 : decode cX2_end 37 = .ok (.aload_n 1, 1) := dk_43 (dk_at dksX2_end_1 13 rfl rfl)
theorem dX2_end_38 : decode cX2_end 38 = .ok (.getfield 153, 3) := dk_180 0 153 (dk_at dksX2_end_1 14 rfl rfl)
theorem dX2_end_41 : decode cX2_end 41 = .ok (.aconst_null, 1) := dk_1 (dk_at dksX2_end_1 17 rfl rfl)
theorem dX2_end_42 : decode cX2_end 42 = .ok (.aastore, 1) := dk_83 (dk_at dksX2_end_1 18 rfl rfl)
theorem dX2_end_43 : decode cX2_end 43 = .ok (.aload_n 0, 1) := dk_42 (dk_at dksX2_end_1 19 rfl rfl)
theorem dX2_end_44 : decode cX2_end 44 = .ok (.getfield 48, 3) := dk_180 0 48 (dk_at dksX2_end_1 20 rfl rfl)
theorem dX2_end_47 : decode cX2_end 47 = .ok (.iload_n 2, 1) := dk_28 (dk_at dksX2_end_1 23 rfl rfl)
theorem dX2_end_48 : decode cX2_end 48 = .ok (.dup2, 1) := dk_92 (dk_at dksX2_end_2 0 rfl rfl)
theorem dX2_end_49 : decode cX2_end 49 = .ok (.iaload, 1) := dk_46 (dk_at dksX2_end_2 1 rfl rfl)
theorem dX2_end_50 : decode cX2_end 50 = .ok (.iconst 1, 1) := dk_4 (dk_at dksX2_end_2 2 rfl rfl)
theorem dX2_end_51 : decode cX2_end 51 = .ok (.iadd, 1) := dk_96 (dk_at dksX2_end_2 3 rfl rfl)
theorem dX2_end_52 : decode cX2_end 52 = .ok (.iastore, 1) := dk_79 (dk_at dksX2_end_2 4 rfl rfl)
theorem dX2_end_53 : decode cX2_end 53 = .ok (.return_, 1) := dk_177 (dk_at dksX2_end_2 5 rfl rfl)
abbrev cX2_serve : ByteArray := prog_3_method_39_code
def yX2_serve : MethodName := ⟨RX2, "serve", "()V"⟩
def dkwX2_serve_6 : List UInt8 := [96, 79, 167, 255, 118, 177]
abbrev dktX2_serve_6 : List UInt8 := dkwX2_serve_6 ++ []
def dkwX2_serve_5 : List UInt8 := [16, 11, 92, 46, 4, 96, 79, 42, 180, 0, 48, 16, 12, 92, 46, 42, 180, 0, 141, 44, 180, 1, 59, 100]
abbrev dktX2_serve_5 : List UInt8 := dkwX2_serve_5 ++ dktX2_serve_6
def dkwX2_serve_4 : List UInt8 := [192, 0, 129, 58, 4, 42, 44, 180, 0, 172, 29, 44, 180, 1, 56, 182, 1, 31, 54, 5, 42, 180, 0, 48]
abbrev dktX2_serve_4 : List UInt8 := dkwX2_serve_4 ++ dktX2_serve_5
def dkwX2_serve_3 : List UInt8 := [62, 29, 2, 160, 0, 9, 132, 1, 1, 167, 255, 181, 42, 180, 0, 45, 27, 185, 1, 54, 2, 0]
abbrev dktX2_serve_3 : List UInt8 := dkwX2_serve_3 ++ dktX2_serve_4
def dkwX2_serve_2 : List UInt8 := [42, 180, 0, 41, 44, 180, 1, 51, 185, 0, 119, 2, 0, 192, 0, 123, 44, 180, 0, 172, 4, 182, 1, 44]
abbrev dktX2_serve_2 : List UInt8 := dkwX2_serve_2 ++ dktX2_serve_3
def dkwX2_serve_1 : List UInt8 := [185, 0, 119, 2, 0, 192, 0, 129, 77, 42, 180, 0, 81, 17, 0, 200, 160, 0, 7, 2, 167, 0, 28, 42]
abbrev dktX2_serve_1 : List UInt8 := dkwX2_serve_1 ++ dktX2_serve_2
def dkwX2_serve_0 : List UInt8 := [3, 60, 27, 42, 180, 0, 45, 185, 0, 113, 1, 0, 162, 0, 131, 42, 180, 0, 45, 27]
abbrev dktX2_serve_0 : List UInt8 := dkwX2_serve_0 ++ dktX2_serve_1
theorem dksX2_serve_0 : cX2_serve.data.toList.drop 0 = dktX2_serve_0 := by decide +kernel
theorem dksX2_serve_1 : cX2_serve.data.toList.drop 20 = dktX2_serve_1 := dk_seg dksX2_serve_0 20 rfl rfl
theorem dksX2_serve_2 : cX2_serve.data.toList.drop 44 = dktX2_serve_2 := dk_seg dksX2_serve_1 24 rfl rfl
theorem dksX2_serve_3 : cX2_serve.data.toList.drop 68 = dktX2_serve_3 := dk_seg dksX2_serve_2 24 rfl rfl
theorem dksX2_serve_4 : cX2_serve.data.toList.drop 90 = dktX2_serve_4 := dk_seg dksX2_serve_3 22 rfl rfl
theorem dksX2_serve_5 : cX2_serve.data.toList.drop 114 = dktX2_serve_5 := dk_seg dksX2_serve_4 24 rfl rfl
theorem dksX2_serve_6 : cX2_serve.data.toList.drop 138 = dktX2_serve_6 := dk_seg dksX2_serve_5 24 rfl rfl
theorem dX2_serve_0 : decode cX2_serve 0 = .ok (.iconst 0, 1) := dk_3 (dk_at dksX2_serve_0 0 rfl rfl)
theorem dX2_serve_1 : decode cX2_serve 1 = .ok (.istore_n 1, 1) := dk_60 (dk_at dksX2_serve_0 1 rfl rfl)
theorem dX2_serve_2 : decode cX2_serve 2 = .ok (.iload_n 1, 1) := dk_27 (dk_at dksX2_serve_0 2 rfl rfl)
theorem dX2_serve_3 : decode cX2_serve 3 = .ok (.aload_n 0, 1) := dk_42 (dk_at dksX2_serve_0 3 rfl rfl)
theorem dX2_serve_4 : decode cX2_serve 4 = .ok (.getfield 45, 3) := dk_180 0 45 (dk_at dksX2_serve_0 4 rfl rfl)
theorem dX2_serve_7 : decode cX2_serve 7 = .ok (.invokeinterface 113 1, 5) := by decide +kernel
theorem dX2_serve_12 : decode cX2_serve 12 = .ok (.if_icmp .ge 131, 3) := dk_162 0 131 (dk_at dksX2_serve_0 12 rfl rfl)
theorem dX2_serve_15 : decode cX2_serve 15 = .ok (.aload_n 0, 1) := dk_42 (dk_at dksX2_serve_0 15 rfl rfl)
theorem dX2_serve_16 : decode cX2_serve 16 = .ok (.getfield 45, 3) := dk_180 0 45 (dk_at dksX2_serve_0 16 rfl rfl)
theorem dX2_serve_19 : decode cX2_serve 19 = .ok (.iload_n 1, 1) := dk_27 (dk_at dksX2_serve_0 19 rfl rfl)
theorem dX2_serve_20 : decode cX2_serve 20 = .ok (.invokeinterface 119 2, 5) := by decide +kernel
theorem dX2_serve_25 : decode cX2_serve 25 = .ok (.checkcast 129, 3) := dk_192 0 129 (dk_at dksX2_serve_1 5 rfl rfl)
theorem dX2_serve_28 : decode cX2_serve 28 = .ok (.astore_n 2, 1) := dk_77 (dk_at dksX2_serve_1 8 rfl rfl)
theorem dX2_serve_29 : decode cX2_serve 29 = .ok (.aload_n 0, 1) := dk_42 (dk_at dksX2_serve_1 9 rfl rfl)
theorem dX2_serve_30 : decode cX2_serve 30 = .ok (.getfield 81, 3) := dk_180 0 81 (dk_at dksX2_serve_1 10 rfl rfl)
theorem dX2_serve_33 : decode cX2_serve 33 = .ok (.sipush 200, 3) := dk_17 0 200 (dk_at dksX2_serve_1 13 rfl rfl)
theorem dX2_serve_36 : decode cX2_serve 36 = .ok (.if_icmp .ne 7, 3) := dk_160 0 7 (dk_at dksX2_serve_1 16 rfl rfl)
theorem dX2_serve_39 : decode cX2_serve 39 = .ok (.iconst (-1), 1) := dk_2 (dk_at dksX2_serve_1 19 rfl rfl)
theorem dX2_serve_40 : decode cX2_serve 40 = .ok (.goto 28, 3) := dk_167 0 28 (dk_at dksX2_serve_1 20 rfl rfl)
theorem dX2_serve_43 : decode cX2_serve 43 = .ok (.aload_n 0, 1) := dk_42 (dk_at dksX2_serve_1 23 rfl rfl)
theorem dX2_serve_44 : decode cX2_serve 44 = .ok (.aload_n 0, 1) := dk_42 (dk_at dksX2_serve_2 0 rfl rfl)
theorem dX2_serve_45 : decode cX2_serve 45 = .ok (.getfield 41, 3) := dk_180 0 41 (dk_at dksX2_serve_2 1 rfl rfl)
theorem dX2_serve_48 : decode cX2_serve 48 = .ok (.aload_n 2, 1) := dk_44 (dk_at dksX2_serve_2 4 rfl rfl)
theorem dX2_serve_49 : decode cX2_serve 49 = .ok (.getfield 307, 3) := dk_180 1 51 (dk_at dksX2_serve_2 5 rfl rfl)
theorem dX2_serve_52 : decode cX2_serve 52 = .ok (.invokeinterface 119 2, 5) := by decide +kernel
theorem dX2_serve_57 : decode cX2_serve 57 = .ok (.checkcast 123, 3) := dk_192 0 123 (dk_at dksX2_serve_2 13 rfl rfl)
theorem dX2_serve_60 : decode cX2_serve 60 = .ok (.aload_n 2, 1) := dk_44 (dk_at dksX2_serve_2 16 rfl rfl)
theorem dX2_serve_61 : decode cX2_serve 61 = .ok (.getfield 172, 3) := dk_180 0 172 (dk_at dksX2_serve_2 17 rfl rfl)
theorem dX2_serve_64 : decode cX2_serve 64 = .ok (.iconst 1, 1) := dk_4 (dk_at dksX2_serve_2 20 rfl rfl)
theorem dX2_serve_65 : decode cX2_serve 65 = .ok (.invokevirtual 300, 3) := dk_182 1 44 (dk_at dksX2_serve_2 21 rfl rfl)
theorem dX2_serve_68 : decode cX2_serve 68 = .ok (.istore_n 3, 1) := dk_62 (dk_at dksX2_serve_3 0 rfl rfl)
theorem dX2_serve_69 : decode cX2_serve 69 = .ok (.iload_n 3, 1) := dk_29 (dk_at dksX2_serve_3 1 rfl rfl)
theorem dX2_serve_70 : decode cX2_serve 70 = .ok (.iconst (-1), 1) := dk_2 (dk_at dksX2_serve_3 2 rfl rfl)
theorem dX2_serve_71 : decode cX2_serve 71 = .ok (.if_icmp .ne 9, 3) := dk_160 0 9 (dk_at dksX2_serve_3 3 rfl rfl)
theorem dX2_serve_74 : decode cX2_serve 74 = .ok (.iinc 1 1, 3) := dk_132 1 1 (dk_at dksX2_serve_3 6 rfl rfl)
theorem dX2_serve_77 : decode cX2_serve 77 = .ok (.goto (-75), 3) := dk_167 255 181 (dk_at dksX2_serve_3 9 rfl rfl)
theorem dX2_serve_80 : decode cX2_serve 80 = .ok (.aload_n 0, 1) := dk_42 (dk_at dksX2_serve_3 12 rfl rfl)
theorem dX2_serve_81 : decode cX2_serve 81 = .ok (.getfield 45, 3) := dk_180 0 45 (dk_at dksX2_serve_3 13 rfl rfl)
theorem dX2_serve_84 : decode cX2_serve 84 = .ok (.iload_n 1, 1) := dk_27 (dk_at dksX2_serve_3 16 rfl rfl)
theorem dX2_serve_85 : decode cX2_serve 85 = .ok (.invokeinterface 310 2, 5) := by decide +kernel
theorem dX2_serve_90 : decode cX2_serve 90 = .ok (.checkcast 129, 3) := dk_192 0 129 (dk_at dksX2_serve_4 0 rfl rfl)
theorem dX2_serve_93 : decode cX2_serve 93 = .ok (.astore 4, 2) := dk_58 4 (dk_at dksX2_serve_4 3 rfl rfl)
theorem dX2_serve_95 : decode cX2_serve 95 = .ok (.aload_n 0, 1) := dk_42 (dk_at dksX2_serve_4 5 rfl rfl)
theorem dX2_serve_96 : decode cX2_serve 96 = .ok (.aload_n 2, 1) := dk_44 (dk_at dksX2_serve_4 6 rfl rfl)
theorem dX2_serve_97 : decode cX2_serve 97 = .ok (.getfield 172, 3) := dk_180 0 172 (dk_at dksX2_serve_4 7 rfl rfl)
theorem dX2_serve_100 : decode cX2_serve 100 = .ok (.iload_n 3, 1) := dk_29 (dk_at dksX2_serve_4 10 rfl rfl)
theorem dX2_serve_101 : decode cX2_serve 101 = .ok (.aload_n 2, 1) := dk_44 (dk_at dksX2_serve_4 11 rfl rfl)
theorem dX2_serve_102 : decode cX2_serve 102 = .ok (.getfield 312, 3) := dk_180 1 56 (dk_at dksX2_serve_4 12 rfl rfl)
theorem dX2_serve_105 : decode cX2_serve 105 = .ok (.invokevirtual 287, 3) := dk_182 1 31 (dk_at dksX2_serve_4 15 rfl rfl)
theorem dX2_serve_108 : decode cX2_serve 108 = .ok (.istore 5, 2) := dk_54 5 (dk_at dksX2_serve_4 18 rfl rfl)
theorem dX2_serve_110 : decode cX2_serve 110 = .ok (.aload_n 0, 1) := dk_42 (dk_at dksX2_serve_4 20 rfl rfl)
theorem dX2_serve_111 : decode cX2_serve 111 = .ok (.getfield 48, 3) := dk_180 0 48 (dk_at dksX2_serve_4 21 rfl rfl)
theorem dX2_serve_114 : decode cX2_serve 114 = .ok (.bipush 11, 2) := dk_16 11 (dk_at dksX2_serve_5 0 rfl rfl)
theorem dX2_serve_116 : decode cX2_serve 116 = .ok (.dup2, 1) := dk_92 (dk_at dksX2_serve_5 2 rfl rfl)
theorem dX2_serve_117 : decode cX2_serve 117 = .ok (.iaload, 1) := dk_46 (dk_at dksX2_serve_5 3 rfl rfl)
theorem dX2_serve_118 : decode cX2_serve 118 = .ok (.iconst 1, 1) := dk_4 (dk_at dksX2_serve_5 4 rfl rfl)
theorem dX2_serve_119 : decode cX2_serve 119 = .ok (.iadd, 1) := dk_96 (dk_at dksX2_serve_5 5 rfl rfl)
theorem dX2_serve_120 : decode cX2_serve 120 = .ok (.iastore, 1) := dk_79 (dk_at dksX2_serve_5 6 rfl rfl)
theorem dX2_serve_121 : decode cX2_serve 121 = .ok (.aload_n 0, 1) := dk_42 (dk_at dksX2_serve_5 7 rfl rfl)
theorem dX2_serve_122 : decode cX2_serve 122 = .ok (.getfield 48, 3) := dk_180 0 48 (dk_at dksX2_serve_5 8 rfl rfl)
theorem dX2_serve_125 : decode cX2_serve 125 = .ok (.bipush 12, 2) := dk_16 12 (dk_at dksX2_serve_5 11 rfl rfl)
theorem dX2_serve_127 : decode cX2_serve 127 = .ok (.dup2, 1) := dk_92 (dk_at dksX2_serve_5 13 rfl rfl)
theorem dX2_serve_128 : decode cX2_serve 128 = .ok (.iaload, 1) := dk_46 (dk_at dksX2_serve_5 14 rfl rfl)
theorem dX2_serve_129 : decode cX2_serve 129 = .ok (.aload_n 0, 1) := dk_42 (dk_at dksX2_serve_5 15 rfl rfl)
theorem dX2_serve_130 : decode cX2_serve 130 = .ok (.getfield 141, 3) := dk_180 0 141 (dk_at dksX2_serve_5 16 rfl rfl)
theorem dX2_serve_133 : decode cX2_serve 133 = .ok (.aload_n 2, 1) := dk_44 (dk_at dksX2_serve_5 19 rfl rfl)
theorem dX2_serve_134 : decode cX2_serve 134 = .ok (.getfield 315, 3) := dk_180 1 59 (dk_at dksX2_serve_5 20 rfl rfl)
theorem dX2_serve_137 : decode cX2_serve 137 = .ok (.isub, 1) := dk_100 (dk_at dksX2_serve_5 23 rfl rfl)
theorem dX2_serve_138 : decode cX2_serve 138 = .ok (.iadd, 1) := dk_96 (dk_at dksX2_serve_6 0 rfl rfl)
theorem dX2_serve_139 : decode cX2_serve 139 = .ok (.iastore, 1) := dk_79 (dk_at dksX2_serve_6 1 rfl rfl)
theorem dX2_serve_140 : decode cX2_serve 140 = .ok (.goto (-138), 3) := dk_167 255 118 (dk_at dksX2_serve_6 2 rfl rfl)
theorem dX2_serve_143 : decode cX2_serve 143 = .ok (.return_, 1) := dk_177 (dk_at dksX2_serve_6 5 rfl rfl)
abbrev cX2_ticks : ByteArray := prog_3_method_43_code
def yX2_ticks : MethodName := ⟨RX2, "ticks", "(I)I"⟩
def dkwX2_ticks_1 : List UInt8 := [96, 61, 42, 182, 1, 65, 132, 3, 1, 167, 255, 227, 28, 172]
abbrev dktX2_ticks_1 : List UInt8 := dkwX2_ticks_1 ++ []
def dkwX2_ticks_0 : List UInt8 := [3, 61, 3, 62, 29, 27, 162, 0, 30, 42, 89, 180, 0, 141, 4, 96, 181, 0, 141, 28, 42, 182, 1, 71]
abbrev dktX2_ticks_0 : List UInt8 := dkwX2_ticks_0 ++ dktX2_ticks_1
theorem dksX2_ticks_0 : cX2_ticks.data.toList.drop 0 = dktX2_ticks_0 := by decide +kernel
theorem dksX2_ticks_1 : cX2_ticks.data.toList.drop 24 = dktX2_ticks_1 := dk_seg dksX2_ticks_0 24 rfl rfl
theorem dX2_ticks_0 : decode cX2_ticks 0 = .ok (.iconst 0, 1) := dk_3 (dk_at dksX2_ticks_0 0 rfl rfl)
theorem dX2_ticks_1 : decode cX2_ticks 1 = .ok (.istore_n 2, 1) := dk_61 (dk_at dksX2_ticks_0 1 rfl rfl)
theorem dX2_ticks_2 : decode cX2_ticks 2 = .ok (.iconst 0, 1) := dk_3 (dk_at dksX2_ticks_0 2 rfl rfl)
theorem dX2_ticks_3 : decode cX2_ticks 3 = .ok (.istore_n 3, 1) := dk_62 (dk_at dksX2_ticks_0 3 rfl rfl)
theorem dX2_ticks_4 : decode cX2_ticks 4 = .ok (.iload_n 3, 1) := dk_29 (dk_at dksX2_ticks_0 4 rfl rfl)
theorem dX2_ticks_5 : decode cX2_ticks 5 = .ok (.iload_n 1, 1) := dk_27 (dk_at dksX2_ticks_0 5 rfl rfl)
theorem dX2_ticks_6 : decode cX2_ticks 6 = .ok (.if_icmp .ge 30, 3) := dk_162 0 30 (dk_at dksX2_ticks_0 6 rfl rfl)
theorem dX2_ticks_9 : decode cX2_ticks 9 = .ok (.aload_n 0, 1) := dk_42 (dk_at dksX2_ticks_0 9 rfl rfl)
theorem dX2_ticks_10 : decode cX2_ticks 10 = .ok (.dup, 1) := dk_89 (dk_at dksX2_ticks_0 10 rfl rfl)
theorem dX2_ticks_11 : decode cX2_ticks 11 = .ok (.getfield 141, 3) := dk_180 0 141 (dk_at dksX2_ticks_0 11 rfl rfl)
theorem dX2_ticks_14 : decode cX2_ticks 14 = .ok (.iconst 1, 1) := dk_4 (dk_at dksX2_ticks_0 14 rfl rfl)
theorem dX2_ticks_15 : decode cX2_ticks 15 = .ok (.iadd, 1) := dk_96 (dk_at dksX2_ticks_0 15 rfl rfl)
theorem dX2_ticks_16 : decode cX2_ticks 16 = .ok (.putfield 141, 3) := dk_181 0 141 (dk_at dksX2_ticks_0 16 rfl rfl)
theorem dX2_ticks_19 : decode cX2_ticks 19 = .ok (.iload_n 2, 1) := dk_28 (dk_at dksX2_ticks_0 19 rfl rfl)
theorem dX2_ticks_20 : decode cX2_ticks 20 = .ok (.aload_n 0, 1) := dk_42 (dk_at dksX2_ticks_0 20 rfl rfl)
theorem dX2_ticks_21 : decode cX2_ticks 21 = .ok (.invokevirtual 327, 3) := dk_182 1 71 (dk_at dksX2_ticks_0 21 rfl rfl)
theorem dX2_ticks_24 : decode cX2_ticks 24 = .ok (.iadd, 1) := dk_96 (dk_at dksX2_ticks_1 0 rfl rfl)
theorem dX2_ticks_25 : decode cX2_ticks 25 = .ok (.istore_n 2, 1) := dk_61 (dk_at dksX2_ticks_1 1 rfl rfl)
theorem dX2_ticks_26 : decode cX2_ticks 26 = .ok (.aload_n 0, 1) := dk_42 (dk_at dksX2_ticks_1 2 rfl rfl)
theorem dX2_ticks_27 : decode cX2_ticks 27 = .ok (.invokevirtual 321, 3) := dk_182 1 65 (dk_at dksX2_ticks_1 3 rfl rfl)
theorem dX2_ticks_30 : decode cX2_ticks 30 = .ok (.iinc 3 1, 3) := dk_132 3 1 (dk_at dksX2_ticks_1 6 rfl rfl)
theorem dX2_ticks_33 : decode cX2_ticks 33 = .ok (.goto (-29), 3) := dk_167 255 227 (dk_at dksX2_ticks_1 9 rfl rfl)
theorem dX2_ticks_36 : decode cX2_ticks 36 = .ok (.iload_n 2, 1) := dk_28 (dk_at dksX2_ticks_1 12 rfl rfl)
theorem dX2_ticks_37 : decode cX2_ticks 37 = .ok (.ireturn, 1) := dk_172 (dk_at dksX2_ticks_1 13 rfl rfl)
abbrev cX2_ends : ByteArray := prog_3_method_42_code
def yX2_ends : MethodName := ⟨RX2, "ends", "()I"⟩
def dkwX2_ends_2 : List UInt8 := [182, 1, 62, 132, 1, 1, 132, 2, 1, 167, 255, 204, 27, 172]
abbrev dktX2_ends_2 : List UInt8 := dkwX2_ends_2 ++ []
def dkwX2_ends_1 : List UInt8 := [180, 1, 68, 153, 0, 26, 45, 182, 1, 69, 42, 180, 0, 141, 159, 0, 6, 167, 0, 12, 42, 45, 3]
abbrev dktX2_ends_1 : List UInt8 := dkwX2_ends_1 ++ dktX2_ends_2
def dkwX2_ends_0 : List UInt8 := [3, 60, 3, 61, 28, 42, 180, 0, 81, 162, 0, 50, 42, 180, 0, 11, 28, 50, 78, 45, 198, 0, 33, 45]
abbrev dktX2_ends_0 : List UInt8 := dkwX2_ends_0 ++ dktX2_ends_1
theorem dksX2_ends_0 : cX2_ends.data.toList.drop 0 = dktX2_ends_0 := by decide +kernel
theorem dksX2_ends_1 : cX2_ends.data.toList.drop 24 = dktX2_ends_1 := dk_seg dksX2_ends_0 24 rfl rfl
theorem dksX2_ends_2 : cX2_ends.data.toList.drop 47 = dktX2_ends_2 := dk_seg dksX2_ends_1 23 rfl rfl
theorem dX2_ends_0 : decode cX2_ends 0 = .ok (.iconst 0, 1) := dk_3 (dk_at dksX2_ends_0 0 rfl rfl)
theorem dX2_ends_1 : decode cX2_ends 1 = .ok (.istore_n 1, 1) := dk_60 (dk_at dksX2_ends_0 1 rfl rfl)
theorem dX2_ends_2 : decode cX2_ends 2 = .ok (.iconst 0, 1) := dk_3 (dk_at dksX2_ends_0 2 rfl rfl)
theorem dX2_ends_3 : decode cX2_ends 3 = .ok (.istore_n 2, 1) := dk_61 (dk_at dksX2_ends_0 3 rfl rfl)
theorem dX2_ends_4 : decode cX2_ends 4 = .ok (.iload_n 2, 1) := dk_28 (dk_at dksX2_ends_0 4 rfl rfl)
theorem dX2_ends_5 : decode cX2_ends 5 = .ok (.aload_n 0, 1) := dk_42 (dk_at dksX2_ends_0 5 rfl rfl)
theorem dX2_ends_6 : decode cX2_ends 6 = .ok (.getfield 81, 3) := dk_180 0 81 (dk_at dksX2_ends_0 6 rfl rfl)
theorem dX2_ends_9 : decode cX2_ends 9 = .ok (.if_icmp .ge 50, 3) := dk_162 0 50 (dk_at dksX2_ends_0 9 rfl rfl)
theorem dX2_ends_12 : decode cX2_ends 12 = .ok (.aload_n 0, 1) := dk_42 (dk_at dksX2_ends_0 12 rfl rfl)
theorem dX2_ends_13 : decode cX2_ends 13 = .ok (.getfield 11, 3) := dk_180 0 11 (dk_at dksX2_ends_0 13 rfl rfl)
theorem dX2_ends_16 : decode cX2_ends 16 = .ok (.iload_n 2, 1) := dk_28 (dk_at dksX2_ends_0 16 rfl rfl)
theorem dX2_ends_17 : decode cX2_ends 17 = .ok (.aaload, 1) := dk_50 (dk_at dksX2_ends_0 17 rfl rfl)
theorem dX2_ends_18 : decode cX2_ends 18 = .ok (.astore_n 3, 1) := dk_78 (dk_at dksX2_ends_0 18 rfl rfl)
theorem dX2_ends_19 : decode cX2_ends 19 = .ok (.aload_n 3, 1) := dk_45 (dk_at dksX2_ends_0 19 rfl rfl)
theorem dX2_ends_20 : decode cX2_ends 20 = .ok (.ifnull 33, 3) := dk_198 0 33 (dk_at dksX2_ends_0 20 rfl rfl)
theorem dX2_ends_23 : decode cX2_ends 23 = .ok (.aload_n 3, 1) := dk_45 (dk_at dksX2_ends_0 23 rfl rfl)
theorem dX2_ends_24 : decode cX2_ends 24 = .ok (.getfield 324, 3) := dk_180 1 68 (dk_at dksX2_ends_1 0 rfl rfl)
theorem dX2_ends_27 : decode cX2_ends 27 = .ok (.ifCond .eq 26, 3) := dk_153 0 26 (dk_at dksX2_ends_1 3 rfl rfl)
theorem dX2_ends_30 : decode cX2_ends 30 = .ok (.aload_n 3, 1) := dk_45 (dk_at dksX2_ends_1 6 rfl rfl)
theorem dX2_ends_31 : decode cX2_ends 31 = .ok (.invokevirtual 325, 3) := dk_182 1 69 (dk_at dksX2_ends_1 7 rfl rfl)
theorem dX2_ends_34 : decode cX2_ends 34 = .ok (.aload_n 0, 1) := dk_42 (dk_at dksX2_ends_1 10 rfl rfl)
theorem dX2_ends_35 : decode cX2_ends 35 = .ok (.getfield 141, 3) := dk_180 0 141 (dk_at dksX2_ends_1 11 rfl rfl)
theorem dX2_ends_38 : decode cX2_ends 38 = .ok (.if_icmp .eq 6, 3) := dk_159 0 6 (dk_at dksX2_ends_1 14 rfl rfl)
theorem dX2_ends_41 : decode cX2_ends 41 = .ok (.goto 12, 3) := dk_167 0 12 (dk_at dksX2_ends_1 17 rfl rfl)
theorem dX2_ends_44 : decode cX2_ends 44 = .ok (.aload_n 0, 1) := dk_42 (dk_at dksX2_ends_1 20 rfl rfl)
theorem dX2_ends_45 : decode cX2_ends 45 = .ok (.aload_n 3, 1) := dk_45 (dk_at dksX2_ends_1 21 rfl rfl)
theorem dX2_ends_46 : decode cX2_ends 46 = .ok (.iconst 0, 1) := dk_3 (dk_at dksX2_ends_1 22 rfl rfl)
theorem dX2_ends_47 : decode cX2_ends 47 = .ok (.invokevirtual 318, 3) := dk_182 1 62 (dk_at dksX2_ends_2 0 rfl rfl)
theorem dX2_ends_50 : decode cX2_ends 50 = .ok (.iinc 1 1, 3) := dk_132 1 1 (dk_at dksX2_ends_2 3 rfl rfl)
theorem dX2_ends_53 : decode cX2_ends 53 = .ok (.iinc 2 1, 3) := dk_132 2 1 (dk_at dksX2_ends_2 6 rfl rfl)
theorem dX2_ends_56 : decode cX2_ends 56 = .ok (.goto (-52), 3) := dk_167 255 204 (dk_at dksX2_ends_2 9 rfl rfl)
theorem dX2_ends_59 : decode cX2_ends 59 = .ok (.iload_n 1, 1) := dk_27 (dk_at dksX2_ends_2 12 rfl rfl)
theorem dX2_ends_60 : decode cX2_ends 60 = .ok (.ireturn, 1) := dk_172 (dk_at dksX2_ends_2 13 rfl rfl)
abbrev cX2_cut : ByteArray := prog_3_method_44_code
def yX2_cut : MethodName := ⟨RX2, "cut", "(I)I"⟩
def dkwX2_cut_6 : List UInt8 := [172]
abbrev dktX2_cut_6 : List UInt8 := dkwX2_cut_6 ++ []
def dkwX2_cut_5 : List UInt8 := [185, 0, 119, 2, 0, 192, 0, 9, 182, 1, 74, 154, 0, 6, 132, 3, 1, 132, 4, 1, 167, 255, 221, 29]
abbrev dktX2_cut_5 : List UInt8 := dkwX2_cut_5 ++ dktX2_cut_6
def dkwX2_cut_4 : List UInt8 := [27, 182, 0, 109, 3, 62, 3, 54, 4, 21, 4, 44, 185, 0, 113, 1, 0, 162, 0, 30, 42, 44, 21, 4]
abbrev dktX2_cut_4 : List UInt8 := dkwX2_cut_4 ++ dktX2_cut_5
def dkwX2_cut_3 : List UInt8 := [162, 0, 23, 42, 44, 29, 185, 0, 119, 2, 0, 192, 0, 9, 182, 0, 255, 132, 3, 1, 167, 255, 229, 42]
abbrev dktX2_cut_3 : List UInt8 := dkwX2_cut_3 ++ dktX2_cut_4
def dkwX2_cut_2 : List UInt8 := [29, 50, 185, 0, 167, 2, 0, 54, 4, 132, 3, 1, 167, 255, 206, 3, 62, 29, 44, 185, 0, 113, 1, 0]
abbrev dktX2_cut_2 : List UInt8 := dkwX2_cut_2 ++ dktX2_cut_3
def dkwX2_cut_1 : List UInt8 := [198, 0, 33, 42, 180, 0, 11, 29, 50, 180, 0, 92, 27, 159, 0, 6, 167, 0, 17, 44, 42, 180, 0, 11]
abbrev dktX2_cut_1 : List UInt8 := dkwX2_cut_1 ++ dktX2_cut_2
def dkwX2_cut_0 : List UInt8 := [187, 0, 38, 89, 183, 0, 40, 77, 3, 62, 29, 42, 180, 0, 81, 162, 0, 48, 42, 180, 0, 11, 29, 50]
abbrev dktX2_cut_0 : List UInt8 := dkwX2_cut_0 ++ dktX2_cut_1
theorem dksX2_cut_0 : cX2_cut.data.toList.drop 0 = dktX2_cut_0 := by decide +kernel
theorem dksX2_cut_1 : cX2_cut.data.toList.drop 24 = dktX2_cut_1 := dk_seg dksX2_cut_0 24 rfl rfl
theorem dksX2_cut_2 : cX2_cut.data.toList.drop 48 = dktX2_cut_2 := dk_seg dksX2_cut_1 24 rfl rfl
theorem dksX2_cut_3 : cX2_cut.data.toList.drop 72 = dktX2_cut_3 := dk_seg dksX2_cut_2 24 rfl rfl
theorem dksX2_cut_4 : cX2_cut.data.toList.drop 96 = dktX2_cut_4 := dk_seg dksX2_cut_3 24 rfl rfl
theorem dksX2_cut_5 : cX2_cut.data.toList.drop 120 = dktX2_cut_5 := dk_seg dksX2_cut_4 24 rfl rfl
theorem dksX2_cut_6 : cX2_cut.data.toList.drop 144 = dktX2_cut_6 := dk_seg dksX2_cut_5 24 rfl rfl
theorem dX2_cut_0 : decode cX2_cut 0 = .ok (.new 38, 3) := dk_187 0 38 (dk_at dksX2_cut_0 0 rfl rfl)
theorem dX2_cut_3 : decode cX2_cut 3 = .ok (.dup, 1) := dk_89 (dk_at dksX2_cut_0 3 rfl rfl)
theorem dX2_cut_4 : decode cX2_cut 4 = .ok (.invokespecial 40, 3) := dk_183 0 40 (dk_at dksX2_cut_0 4 rfl rfl)
theorem dX2_cut_7 : decode cX2_cut 7 = .ok (.astore_n 2, 1) := dk_77 (dk_at dksX2_cut_0 7 rfl rfl)
theorem dX2_cut_8 : decode cX2_cut 8 = .ok (.iconst 0, 1) := dk_3 (dk_at dksX2_cut_0 8 rfl rfl)
theorem dX2_cut_9 : decode cX2_cut 9 = .ok (.istore_n 3, 1) := dk_62 (dk_at dksX2_cut_0 9 rfl rfl)
theorem dX2_cut_10 : decode cX2_cut 10 = .ok (.iload_n 3, 1) := dk_29 (dk_at dksX2_cut_0 10 rfl rfl)
theorem dX2_cut_11 : decode cX2_cut 11 = .ok (.aload_n 0, 1) := dk_42 (dk_at dksX2_cut_0 11 rfl rfl)
theorem dX2_cut_12 : decode cX2_cut 12 = .ok (.getfield 81, 3) := dk_180 0 81 (dk_at dksX2_cut_0 12 rfl rfl)
theorem dX2_cut_15 : decode cX2_cut 15 = .ok (.if_icmp .ge 48, 3) := dk_162 0 48 (dk_at dksX2_cut_0 15 rfl rfl)
theorem dX2_cut_18 : decode cX2_cut 18 = .ok (.aload_n 0, 1) := dk_42 (dk_at dksX2_cut_0 18 rfl rfl)
theorem dX2_cut_19 : decode cX2_cut 19 = .ok (.getfield 11, 3) := dk_180 0 11 (dk_at dksX2_cut_0 19 rfl rfl)
theorem dX2_cut_22 : decode cX2_cut 22 = .ok (.iload_n 3, 1) := dk_29 (dk_at dksX2_cut_0 22 rfl rfl)
theorem dX2_cut_23 : decode cX2_cut 23 = .ok (.aaload, 1) := dk_50 (dk_at dksX2_cut_0 23 rfl rfl)
theorem dX2_cut_24 : decode cX2_cut 24 = .ok (.ifnull 33, 3) := dk_198 0 33 (dk_at dksX2_cut_1 0 rfl rfl)
theorem dX2_cut_27 : decode cX2_cut 27 = .ok (.aload_n 0, 1) := dk_42 (dk_at dksX2_cut_1 3 rfl rfl)
theorem dX2_cut_28 : decode cX2_cut 28 = .ok (.getfield 11, 3) := dk_180 0 11 (dk_at dksX2_cut_1 4 rfl rfl)
theorem dX2_cut_31 : decode cX2_cut 31 = .ok (.iload_n 3, 1) := dk_29 (dk_at dksX2_cut_1 7 rfl rfl)
theorem dX2_cut_32 : decode cX2_cut 32 = .ok (.aaload, 1) := dk_50 (dk_at dksX2_cut_1 8 rfl rfl)
theorem dX2_cut_33 : decode cX2_cut 33 = .ok (.getfield 92, 3) := dk_180 0 92 (dk_at dksX2_cut_1 9 rfl rfl)
theorem dX2_cut_36 : decode cX2_cut 36 = .ok (.iload_n 1, 1) := dk_27 (dk_at dksX2_cut_1 12 rfl rfl)
theorem dX2_cut_37 : decode cX2_cut 37 = .ok (.if_icmp .eq 6, 3) := dk_159 0 6 (dk_at dksX2_cut_1 13 rfl rfl)
theorem dX2_cut_40 : decode cX2_cut 40 = .ok (.goto 17, 3) := dk_167 0 17 (dk_at dksX2_cut_1 16 rfl rfl)
theorem dX2_cut_43 : decode cX2_cut 43 = .ok (.aload_n 2, 1) := dk_44 (dk_at dksX2_cut_1 19 rfl rfl)
theorem dX2_cut_44 : decode cX2_cut 44 = .ok (.aload_n 0, 1) := dk_42 (dk_at dksX2_cut_1 20 rfl rfl)
theorem dX2_cut_45 : decode cX2_cut 45 = .ok (.getfield 11, 3) := dk_180 0 11 (dk_at dksX2_cut_1 21 rfl rfl)
theorem dX2_cut_48 : decode cX2_cut 48 = .ok (.iload_n 3, 1) := dk_29 (dk_at dksX2_cut_2 0 rfl rfl)
theorem dX2_cut_49 : decode cX2_cut 49 = .ok (.aaload, 1) := dk_50 (dk_at dksX2_cut_2 1 rfl rfl)
theorem dX2_cut_50 : decode cX2_cut 50 = .ok (.invokeinterface 167 2, 5) := by decide +kernel
theorem dX2_cut_55 : decode cX2_cut 55 = .ok (.istore 4, 2) := dk_54 4 (dk_at dksX2_cut_2 7 rfl rfl)
theorem dX2_cut_57 : decode cX2_cut 57 = .ok (.iinc 3 1, 3) := dk_132 3 1 (dk_at dksX2_cut_2 9 rfl rfl)
theorem dX2_cut_60 : decode cX2_cut 60 = .ok (.goto (-50), 3) := dk_167 255 206 (dk_at dksX2_cut_2 12 rfl rfl)
theorem dX2_cut_63 : decode cX2_cut 63 = .ok (.iconst 0, 1) := dk_3 (dk_at dksX2_cut_2 15 rfl rfl)
theorem dX2_cut_64 : decode cX2_cut 64 = .ok (.istore_n 3, 1) := dk_62 (dk_at dksX2_cut_2 16 rfl rfl)
theorem dX2_cut_65 : decode cX2_cut 65 = .ok (.iload_n 3, 1) := dk_29 (dk_at dksX2_cut_2 17 rfl rfl)
theorem dX2_cut_66 : decode cX2_cut 66 = .ok (.aload_n 2, 1) := dk_44 (dk_at dksX2_cut_2 18 rfl rfl)
theorem dX2_cut_67 : decode cX2_cut 67 = .ok (.invokeinterface 113 1, 5) := by decide +kernel
theorem dX2_cut_72 : decode cX2_cut 72 = .ok (.if_icmp .ge 23, 3) := dk_162 0 23 (dk_at dksX2_cut_3 0 rfl rfl)
theorem dX2_cut_75 : decode cX2_cut 75 = .ok (.aload_n 0, 1) := dk_42 (dk_at dksX2_cut_3 3 rfl rfl)
theorem dX2_cut_76 : decode cX2_cut 76 = .ok (.aload_n 2, 1) := dk_44 (dk_at dksX2_cut_3 4 rfl rfl)
theorem dX2_cut_77 : decode cX2_cut 77 = .ok (.iload_n 3, 1) := dk_29 (dk_at dksX2_cut_3 5 rfl rfl)
theorem dX2_cut_78 : decode cX2_cut 78 = .ok (.invokeinterface 119 2, 5) := by decide +kernel
theorem dX2_cut_83 : decode cX2_cut 83 = .ok (.checkcast 9, 3) := dk_192 0 9 (dk_at dksX2_cut_3 11 rfl rfl)
theorem dX2_cut_86 : decode cX2_cut 86 = .ok (.invokevirtual 255, 3) := dk_182 0 255 (dk_at dksX2_cut_3 14 rfl rfl)
theorem dX2_cut_89 : decode cX2_cut 89 = .ok (.iinc 3 1, 3) := dk_132 3 1 (dk_at dksX2_cut_3 17 rfl rfl)
theorem dX2_cut_92 : decode cX2_cut 92 = .ok (.goto (-27), 3) := dk_167 255 229 (dk_at dksX2_cut_3 20 rfl rfl)
theorem dX2_cut_95 : decode cX2_cut 95 = .ok (.aload_n 0, 1) := dk_42 (dk_at dksX2_cut_3 23 rfl rfl)
theorem dX2_cut_96 : decode cX2_cut 96 = .ok (.iload_n 1, 1) := dk_27 (dk_at dksX2_cut_4 0 rfl rfl)
theorem dX2_cut_97 : decode cX2_cut 97 = .ok (.invokevirtual 109, 3) := dk_182 0 109 (dk_at dksX2_cut_4 1 rfl rfl)
theorem dX2_cut_100 : decode cX2_cut 100 = .ok (.iconst 0, 1) := dk_3 (dk_at dksX2_cut_4 4 rfl rfl)
theorem dX2_cut_101 : decode cX2_cut 101 = .ok (.istore_n 3, 1) := dk_62 (dk_at dksX2_cut_4 5 rfl rfl)
theorem dX2_cut_102 : decode cX2_cut 102 = .ok (.iconst 0, 1) := dk_3 (dk_at dksX2_cut_4 6 rfl rfl)
theorem dX2_cut_103 : decode cX2_cut 103 = .ok (.istore 4, 2) := dk_54 4 (dk_at dksX2_cut_4 7 rfl rfl)
theorem dX2_cut_105 : decode cX2_cut 105 = .ok (.iload 4, 2) := dk_21 4 (dk_at dksX2_cut_4 9 rfl rfl)
theorem dX2_cut_107 : decode cX2_cut 107 = .ok (.aload_n 2, 1) := dk_44 (dk_at dksX2_cut_4 11 rfl rfl)
theorem dX2_cut_108 : decode cX2_cut 108 = .ok (.invokeinterface 113 1, 5) := by decide +kernel
theorem dX2_cut_113 : decode cX2_cut 113 = .ok (.if_icmp .ge 30, 3) := dk_162 0 30 (dk_at dksX2_cut_4 17 rfl rfl)
theorem dX2_cut_116 : decode cX2_cut 116 = .ok (.aload_n 0, 1) := dk_42 (dk_at dksX2_cut_4 20 rfl rfl)
theorem dX2_cut_117 : decode cX2_cut 117 = .ok (.aload_n 2, 1) := dk_44 (dk_at dksX2_cut_4 21 rfl rfl)
theorem dX2_cut_118 : decode cX2_cut 118 = .ok (.iload 4, 2) := dk_21 4 (dk_at dksX2_cut_4 22 rfl rfl)
theorem dX2_cut_120 : decode cX2_cut 120 = .ok (.invokeinterface 119 2, 5) := by decide +kernel
theorem dX2_cut_125 : decode cX2_cut 125 = .ok (.checkcast 9, 3) := dk_192 0 9 (dk_at dksX2_cut_5 5 rfl rfl)
theorem dX2_cut_128 : decode cX2_cut 128 = .ok (.invokevirtual 330, 3) := dk_182 1 74 (dk_at dksX2_cut_5 8 rfl rfl)
theorem dX2_cut_131 : decode cX2_cut 131 = .ok (.ifCond .ne 6, 3) := dk_154 0 6 (dk_at dksX2_cut_5 11 rfl rfl)
theorem dX2_cut_134 : decode cX2_cut 134 = .ok (.iinc 3 1, 3) := dk_132 3 1 (dk_at dksX2_cut_5 14 rfl rfl)
theorem dX2_cut_137 : decode cX2_cut 137 = .ok (.iinc 4 1, 3) := dk_132 4 1 (dk_at dksX2_cut_5 17 rfl rfl)
theorem dX2_cut_140 : decode cX2_cut 140 = .ok (.goto (-35), 3) := dk_167 255 221 (dk_at dksX2_cut_5 20 rfl rfl)
theorem dX2_cut_143 : decode cX2_cut 143 = .ok (.iload_n 3, 1) := dk_29 (dk_at dksX2_cut_5 23 rfl rfl)
theorem dX2_cut_144 : decode cX2_cut 144 = .ok (.ireturn, 1) := dk_172 (dk_at dksX2_cut_6 0 rfl rfl)
abbrev cX2_cuts : ByteArray := prog_3_method_4_code
def yX2_cuts : MethodName := ⟨RX2, "cuts", "(I)V"⟩
def dkwX2_cuts_0 : List UInt8 := [42, 180, 0, 27, 27, 184, 0, 99, 182, 0, 156, 61, 177]
abbrev dktX2_cuts_0 : List UInt8 := dkwX2_cuts_0 ++ []
theorem dksX2_cuts_0 : cX2_cuts.data.toList.drop 0 = dktX2_cuts_0 := by decide +kernel
theorem dX2_cuts_0 : decode cX2_cuts 0 = .ok (.aload_n 0, 1) := dk_42 (dk_at dksX2_cuts_0 0 rfl rfl)
theorem dX2_cuts_1 : decode cX2_cuts 1 = .ok (.getfield 27, 3) := dk_180 0 27 (dk_at dksX2_cuts_0 1 rfl rfl)
theorem dX2_cuts_4 : decode cX2_cuts 4 = .ok (.iload_n 1, 1) := dk_27 (dk_at dksX2_cuts_0 4 rfl rfl)
theorem dX2_cuts_5 : decode cX2_cuts 5 = .ok (.invokestatic 99, 3) := dk_184 0 99 (dk_at dksX2_cuts_0 5 rfl rfl)
theorem dX2_cuts_8 : decode cX2_cuts 8 = .ok (.invokevirtual 156, 3) := dk_182 0 156 (dk_at dksX2_cuts_0 8 rfl rfl)
theorem dX2_cuts_11 : decode cX2_cuts 11 = .ok (.istore_n 2, 1) := dk_61 (dk_at dksX2_cuts_0 11 rfl rfl)
theorem dX2_cuts_12 : decode cX2_cuts 12 = .ok (.return_, 1) := dk_177 (dk_at dksX2_cuts_0 12 rfl rfl)
abbrev cX2_isRouted : ByteArray := prog_3_method_45_code
def yX2_isRouted : MethodName := ⟨RX2, "isRouted", "(LCrossbarExchange$Call;)Z"⟩
def dkwX2_isRouted_2 : List UInt8 := [180, 0, 48, 16, 10, 92, 46, 4, 96, 79, 4, 172]
abbrev dktX2_isRouted_2 : List UInt8 := dkwX2_isRouted_2 ++ []
def dkwX2_isRouted_1 : List UInt8 := [182, 1, 62, 3, 172, 42, 43, 44, 182, 1, 23, 43, 89, 180, 1, 9, 4, 96, 181, 1, 9, 42]
abbrev dktX2_isRouted_1 : List UInt8 := dkwX2_isRouted_1 ++ dktX2_isRouted_2
def dkwX2_isRouted_0 : List UInt8 := [42, 42, 43, 182, 0, 196, 42, 43, 182, 0, 201, 182, 0, 243, 77, 44, 199, 0, 12, 42, 43, 16, 7]
abbrev dktX2_isRouted_0 : List UInt8 := dkwX2_isRouted_0 ++ dktX2_isRouted_1
theorem dksX2_isRouted_0 : cX2_isRouted.data.toList.drop 0 = dktX2_isRouted_0 := by decide +kernel
theorem dksX2_isRouted_1 : cX2_isRouted.data.toList.drop 23 = dktX2_isRouted_1 := dk_seg dksX2_isRouted_0 23 rfl rfl
theorem dksX2_isRouted_2 : cX2_isRouted.data.toList.drop 45 = dktX2_isRouted_2 := dk_seg dksX2_isRouted_1 22 rfl rfl
theorem dX2_isRouted_0 : decode cX2_isRouted 0 = .ok (.aload_n 0, 1) := dk_42 (dk_at dksX2_isRouted_0 0 rfl rfl)
theorem dX2_isRouted_1 : decode cX2_isRouted 1 = .ok (.aload_n 0, 1) := dk_42 (dk_at dksX2_isRouted_0 1 rfl rfl)
theorem dX2_isRouted_2 : decode cX2_isRouted 2 = .ok (.aload_n 1, 1) := dk_43 (dk_at dksX2_isRouted_0 2 rfl rfl)
theorem dX2_isRouted_3 : decode cX2_isRouted 3 = .ok (.invokevirtual 196, 3) := dk_182 0 196 (dk_at dksX2_isRouted_0 3 rfl rfl)
theorem dX2_isRouted_6 : decode cX2_isRouted 6 = .ok (.aload_n 0, 1) := dk_42 (dk_at dksX2_isRouted_0 6 rfl rfl)
theorem dX2_isRouted_7 : decode cX2_isRouted 7 = .ok (.aload_n 1, 1) := dk_43 (dk_at dksX2_isRouted_0 7 rfl rfl)
theorem dX2_isRouted_8 : decode cX2_isRouted 8 = .ok (.invokevirtual 201, 3) := dk_182 0 201 (dk_at dksX2_isRouted_0 8 rfl rfl)
theorem dX2_isRouted_11 : decode cX2_isRouted 11 = .ok (.invokevirtual 243, 3) := dk_182 0 243 (dk_at dksX2_isRouted_0 11 rfl rfl)
theorem dX2_isRouted_14 : decode cX2_isRouted 14 = .ok (.astore_n 2, 1) := dk_77 (dk_at dksX2_isRouted_0 14 rfl rfl)
theorem dX2_isRouted_15 : decode cX2_isRouted 15 = .ok (.aload_n 2, 1) := dk_44 (dk_at dksX2_isRouted_0 15 rfl rfl)
theorem dX2_isRouted_16 : decode cX2_isRouted 16 = .ok (.ifnonnull 12, 3) := dk_199 0 12 (dk_at dksX2_isRouted_0 16 rfl rfl)
theorem dX2_isRouted_19 : decode cX2_isRouted 19 = .ok (.aload_n 0, 1) := dk_42 (dk_at dksX2_isRouted_0 19 rfl rfl)
theorem dX2_isRouted_20 : decode cX2_isRouted 20 = .ok (.aload_n 1, 1) := dk_43 (dk_at dksX2_isRouted_0 20 rfl rfl)
theorem dX2_isRouted_21 : decode cX2_isRouted 21 = .ok (.bipush 7, 2) := dk_16 7 (dk_at dksX2_isRouted_0 21 rfl rfl)
theorem dX2_isRouted_23 : decode cX2_isRouted 23 = .ok (.invokevirtual 318, 3) := dk_182 1 62 (dk_at dksX2_isRouted_1 0 rfl rfl)
theorem dX2_isRouted_26 : decode cX2_isRouted 26 = .ok (.iconst 0, 1) := dk_3 (dk_at dksX2_isRouted_1 3 rfl rfl)
theorem dX2_isRouted_27 : decode cX2_isRouted 27 = .ok (.ireturn, 1) := dk_172 (dk_at dksX2_isRouted_1 4 rfl rfl)
theorem dX2_isRouted_28 : decode cX2_isRouted 28 = .ok (.aload_n 0, 1) := dk_42 (dk_at dksX2_isRouted_1 5 rfl rfl)
theorem dX2_isRouted_29 : decode cX2_isRouted 29 = .ok (.aload_n 1, 1) := dk_43 (dk_at dksX2_isRouted_1 6 rfl rfl)
theorem dX2_isRouted_30 : decode cX2_isRouted 30 = .ok (.aload_n 2, 1) := dk_44 (dk_at dksX2_isRouted_1 7 rfl rfl)
theorem dX2_isRouted_31 : decode cX2_isRouted 31 = .ok (.invokevirtual 279, 3) := dk_182 1 23 (dk_at dksX2_isRouted_1 8 rfl rfl)
theorem dX2_isRouted_34 : decode cX2_isRouted 34 = .ok (.aload_n 1, 1) := dk_43 (dk_at dksX2_isRouted_1 11 rfl rfl)
theorem dX2_isRouted_35 : decode cX2_isRouted 35 = .ok (.dup, 1) := dk_89 (dk_at dksX2_isRouted_1 12 rfl rfl)
theorem dX2_isRouted_36 : decode cX2_isRouted 36 = .ok (.getfield 265, 3) := dk_180 1 9 (dk_at dksX2_isRouted_1 13 rfl rfl)
theorem dX2_isRouted_39 : decode cX2_isRouted 39 = .ok (.iconst 1, 1) := dk_4 (dk_at dksX2_isRouted_1 16 rfl rfl)
theorem dX2_isRouted_40 : decode cX2_isRouted 40 = .ok (.iadd, 1) := dk_96 (dk_at dksX2_isRouted_1 17 rfl rfl)
theorem dX2_isRouted_41 : decode cX2_isRouted 41 = .ok (.putfield 265, 3) := dk_181 1 9 (dk_at dksX2_isRouted_1 18 rfl rfl)
theorem dX2_isRouted_44 : decode cX2_isRouted 44 = .ok (.aload_n 0, 1) := dk_42 (dk_at dksX2_isRouted_1 21 rfl rfl)
theorem dX2_isRouted_45 : decode cX2_isRouted 45 = .ok (.getfield 48, 3) := dk_180 0 48 (dk_at dksX2_isRouted_2 0 rfl rfl)
theorem dX2_isRouted_48 : decode cX2_isRouted 48 = .ok (.bipush 10, 2) := dk_16 10 (dk_at dksX2_isRouted_2 3 rfl rfl)
theorem dX2_isRouted_50 : decode cX2_isRouted 50 = .ok (.dup2, 1) := dk_92 (dk_at dksX2_isRouted_2 5 rfl rfl)
theorem dX2_isRouted_51 : decode cX2_isRouted 51 = .ok (.iaload, 1) := dk_46 (dk_at dksX2_isRouted_2 6 rfl rfl)
theorem dX2_isRouted_52 : decode cX2_isRouted 52 = .ok (.iconst 1, 1) := dk_4 (dk_at dksX2_isRouted_2 7 rfl rfl)
theorem dX2_isRouted_53 : decode cX2_isRouted 53 = .ok (.iadd, 1) := dk_96 (dk_at dksX2_isRouted_2 8 rfl rfl)
theorem dX2_isRouted_54 : decode cX2_isRouted 54 = .ok (.iastore, 1) := dk_79 (dk_at dksX2_isRouted_2 9 rfl rfl)
theorem dX2_isRouted_55 : decode cX2_isRouted 55 = .ok (.iconst 1, 1) := dk_4 (dk_at dksX2_isRouted_2 10 rfl rfl)
theorem dX2_isRouted_56 : decode cX2_isRouted 56 = .ok (.ireturn, 1) := dk_172 (dk_at dksX2_isRouted_2 11 rfl rfl)
abbrev cX2_mend : ByteArray := prog_3_method_46_code
def yX2_mend : MethodName := ⟨RX2, "mend", "(I)I"⟩
def dkwX2_mend_0 : List UInt8 := [42, 180, 0, 27, 27, 184, 0, 99, 182, 1, 78, 61, 42, 182, 1, 65, 42, 182, 1, 80, 172]
abbrev dktX2_mend_0 : List UInt8 := dkwX2_mend_0 ++ []
theorem dksX2_mend_0 : cX2_mend.data.toList.drop 0 = dktX2_mend_0 := by decide +kernel
theorem dX2_mend_0 : decode cX2_mend 0 = .ok (.aload_n 0, 1) := dk_42 (dk_at dksX2_mend_0 0 rfl rfl)
theorem dX2_mend_1 : decode cX2_mend 1 = .ok (.getfield 27, 3) := dk_180 0 27 (dk_at dksX2_mend_0 1 rfl rfl)
theorem dX2_mend_4 : decode cX2_mend 4 = .ok (.iload_n 1, 1) := dk_27 (dk_at dksX2_mend_0 4 rfl rfl)
theorem dX2_mend_5 : decode cX2_mend 5 = .ok (.invokestatic 99, 3) := dk_184 0 99 (dk_at dksX2_mend_0 5 rfl rfl)
theorem dX2_mend_8 : decode cX2_mend 8 = .ok (.invokevirtual 334, 3) := dk_182 1 78 (dk_at dksX2_mend_0 8 rfl rfl)
theorem dX2_mend_11 : decode cX2_mend 11 = .ok (.istore_n 2, 1) := dk_61 (dk_at dksX2_mend_0 11 rfl rfl)
theorem dX2_mend_12 : decode cX2_mend 12 = .ok (.aload_n 0, 1) := dk_42 (dk_at dksX2_mend_0 12 rfl rfl)
theorem dX2_mend_13 : decode cX2_mend 13 = .ok (.invokevirtual 321, 3) := dk_182 1 65 (dk_at dksX2_mend_0 13 rfl rfl)
theorem dX2_mend_16 : decode cX2_mend 16 = .ok (.aload_n 0, 1) := dk_42 (dk_at dksX2_mend_0 16 rfl rfl)
theorem dX2_mend_17 : decode cX2_mend 17 = .ok (.invokevirtual 336, 3) := dk_182 1 80 (dk_at dksX2_mend_0 17 rfl rfl)
theorem dX2_mend_20 : decode cX2_mend 20 = .ok (.ireturn, 1) := dk_172 (dk_at dksX2_mend_0 20 rfl rfl)
abbrev cX2_inOrder : ByteArray := prog_3_method_16_code
def yX2_inOrder : MethodName := ⟨RX2, "inOrder", "()I"⟩
def dkwX2_inOrder_0 : List UInt8 := [42, 180, 0, 69, 42, 180, 0, 27, 182, 0, 180, 100, 172]
abbrev dktX2_inOrder_0 : List UInt8 := dkwX2_inOrder_0 ++ []
theorem dksX2_inOrder_0 : cX2_inOrder.data.toList.drop 0 = dktX2_inOrder_0 := by decide +kernel
theorem dX2_inOrder_0 : decode cX2_inOrder 0 = .ok (.aload_n 0, 1) := dk_42 (dk_at dksX2_inOrder_0 0 rfl rfl)
theorem dX2_inOrder_1 : decode cX2_inOrder 1 = .ok (.getfield 69, 3) := dk_180 0 69 (dk_at dksX2_inOrder_0 1 rfl rfl)
theorem dX2_inOrder_4 : decode cX2_inOrder 4 = .ok (.aload_n 0, 1) := dk_42 (dk_at dksX2_inOrder_0 4 rfl rfl)
theorem dX2_inOrder_5 : decode cX2_inOrder 5 = .ok (.getfield 27, 3) := dk_180 0 27 (dk_at dksX2_inOrder_0 5 rfl rfl)
theorem dX2_inOrder_8 : decode cX2_inOrder 8 = .ok (.invokevirtual 180, 3) := dk_182 0 180 (dk_at dksX2_inOrder_0 8 rfl rfl)
theorem dX2_inOrder_11 : decode cX2_inOrder 11 = .ok (.isub, 1) := dk_100 (dk_at dksX2_inOrder_0 11 rfl rfl)
theorem dX2_inOrder_12 : decode cX2_inOrder 12 = .ok (.ireturn, 1) := dk_172 (dk_at dksX2_inOrder_0 12 rfl rfl)
abbrev cX2_pack : ByteArray := prog_3_method_49_code
def yX2_pack : MethodName := ⟨RX2, "pack", "()I"⟩
def dkwX2_pack_7 : List UInt8 := [132, 3, 1, 132, 4, 1, 167, 255, 195, 29, 172]
abbrev dktX2_pack_7 : List UInt8 := dkwX2_pack_7 ++ []
def dkwX2_pack_6 : List UInt8 := [160, 0, 6, 167, 0, 22, 42, 180, 0, 11, 21, 4, 50, 89, 180, 1, 9, 4, 96, 181, 1, 9]
abbrev dktX2_pack_6 : List UInt8 := dkwX2_pack_6 ++ dktX2_pack_7
def dkwX2_pack_5 : List UInt8 := [180, 0, 11, 21, 4, 50, 198, 0, 42, 42, 180, 0, 11, 21, 4, 50, 180, 0, 92, 44, 21, 4, 46]
abbrev dktX2_pack_5 : List UInt8 := dkwX2_pack_5 ++ dktX2_pack_6
def dkwX2_pack_4 : List UInt8 := [182, 1, 98, 132, 3, 1, 167, 255, 225, 3, 62, 3, 54, 4, 21, 4, 42, 180, 0, 81, 162, 0, 58, 42]
abbrev dktX2_pack_4 : List UInt8 := dkwX2_pack_4 ++ dktX2_pack_5
def dkwX2_pack_3 : List UInt8 := [180, 0, 81, 162, 0, 29, 42, 180, 0, 11, 29, 50, 198, 0, 14, 42, 42, 180, 0, 11, 29, 50, 27]
abbrev dktX2_pack_3 : List UInt8 := dkwX2_pack_3 ++ dktX2_pack_4
def dkwX2_pack_2 : List UInt8 := [180, 0, 92, 79, 42, 42, 180, 0, 11, 29, 50, 182, 0, 255, 132, 3, 1, 167, 255, 211, 3, 62, 29, 42]
abbrev dktX2_pack_2 : List UInt8 := dkwX2_pack_2 ++ dktX2_pack_3
def dkwX2_pack_1 : List UInt8 := [162, 0, 43, 42, 180, 0, 11, 29, 50, 199, 0, 6, 167, 0, 25, 44, 29, 42, 180, 0, 11, 29, 50]
abbrev dktX2_pack_1 : List UInt8 := dkwX2_pack_1 ++ dktX2_pack_2
def dkwX2_pack_0 : List UInt8 := [42, 42, 182, 1, 92, 182, 1, 95, 60, 42, 180, 0, 81, 188, 10, 77, 3, 62, 29, 42, 180, 0, 81]
abbrev dktX2_pack_0 : List UInt8 := dkwX2_pack_0 ++ dktX2_pack_1
theorem dksX2_pack_0 : cX2_pack.data.toList.drop 0 = dktX2_pack_0 := by decide +kernel
theorem dksX2_pack_1 : cX2_pack.data.toList.drop 23 = dktX2_pack_1 := dk_seg dksX2_pack_0 23 rfl rfl
theorem dksX2_pack_2 : cX2_pack.data.toList.drop 46 = dktX2_pack_2 := dk_seg dksX2_pack_1 23 rfl rfl
theorem dksX2_pack_3 : cX2_pack.data.toList.drop 70 = dktX2_pack_3 := dk_seg dksX2_pack_2 24 rfl rfl
theorem dksX2_pack_4 : cX2_pack.data.toList.drop 93 = dktX2_pack_4 := dk_seg dksX2_pack_3 23 rfl rfl
theorem dksX2_pack_5 : cX2_pack.data.toList.drop 117 = dktX2_pack_5 := dk_seg dksX2_pack_4 24 rfl rfl
theorem dksX2_pack_6 : cX2_pack.data.toList.drop 140 = dktX2_pack_6 := dk_seg dksX2_pack_5 23 rfl rfl
theorem dksX2_pack_7 : cX2_pack.data.toList.drop 162 = dktX2_pack_7 := dk_seg dksX2_pack_6 22 rfl rfl
theorem dX2_pack_0 : decode cX2_pack 0 = .ok (.aload_n 0, 1) := dk_42 (dk_at dksX2_pack_0 0 rfl rfl)
theorem dX2_pack_1 : decode cX2_pack 1 = .ok (.aload_n 0, 1) := dk_42 (dk_at dksX2_pack_0 1 rfl rfl)
theorem dX2_pack_2 : decode cX2_pack 2 = .ok (.invokevirtual 348, 3) := dk_182 1 92 (dk_at dksX2_pack_0 2 rfl rfl)
theorem dX2_pack_5 : decode cX2_pack 5 = .ok (.invokevirtual 351, 3) := dk_182 1 95 (dk_at dksX2_pack_0 5 rfl rfl)
theorem dX2_pack_8 : decode cX2_pack 8 = .ok (.istore_n 1, 1) := dk_60 (dk_at dksX2_pack_0 8 rfl rfl)
theorem dX2_pack_9 : decode cX2_pack 9 = .ok (.aload_n 0, 1) := dk_42 (dk_at dksX2_pack_0 9 rfl rfl)
theorem dX2_pack_10 : decode cX2_pack 10 = .ok (.getfield 81, 3) := dk_180 0 81 (dk_at dksX2_pack_0 10 rfl rfl)
theorem dX2_pack_13 : decode cX2_pack 13 = .ok (.newarray .int, 2) := dk_188_10 (dk_at dksX2_pack_0 13 rfl rfl)
theorem dX2_pack_15 : decode cX2_pack 15 = .ok (.astore_n 2, 1) := dk_77 (dk_at dksX2_pack_0 15 rfl rfl)
theorem dX2_pack_16 : decode cX2_pack 16 = .ok (.iconst 0, 1) := dk_3 (dk_at dksX2_pack_0 16 rfl rfl)
theorem dX2_pack_17 : decode cX2_pack 17 = .ok (.istore_n 3, 1) := dk_62 (dk_at dksX2_pack_0 17 rfl rfl)
theorem dX2_pack_18 : decode cX2_pack 18 = .ok (.iload_n 3, 1) := dk_29 (dk_at dksX2_pack_0 18 rfl rfl)
theorem dX2_pack_19 : decode cX2_pack 19 = .ok (.aload_n 0, 1) := dk_42 (dk_at dksX2_pack_0 19 rfl rfl)
theorem dX2_pack_20 : decode cX2_pack 20 = .ok (.getfield 81, 3) := dk_180 0 81 (dk_at dksX2_pack_0 20 rfl rfl)
theorem dX2_pack_23 : decode cX2_pack 23 = .ok (.if_icmp .ge 43, 3) := dk_162 0 43 (dk_at dksX2_pack_1 0 rfl rfl)
theorem dX2_pack_26 : decode cX2_pack 26 = .ok (.aload_n 0, 1) := dk_42 (dk_at dksX2_pack_1 3 rfl rfl)
theorem dX2_pack_27 : decode cX2_pack 27 = .ok (.getfield 11, 3) := dk_180 0 11 (dk_at dksX2_pack_1 4 rfl rfl)
theorem dX2_pack_30 : decode cX2_pack 30 = .ok (.iload_n 3, 1) := dk_29 (dk_at dksX2_pack_1 7 rfl rfl)
theorem dX2_pack_31 : decode cX2_pack 31 = .ok (.aaload, 1) := dk_50 (dk_at dksX2_pack_1 8 rfl rfl)
theorem dX2_pack_32 : decode cX2_pack 32 = .ok (.ifnonnull 6, 3) := dk_199 0 6 (dk_at dksX2_pack_1 9 rfl rfl)
theorem dX2_pack_35 : decode cX2_pack 35 = .ok (.goto 25, 3) := dk_167 0 25 (dk_at dksX2_pack_1 12 rfl rfl)
theorem dX2_pack_38 : decode cX2_pack 38 = .ok (.aload_n 2, 1) := dk_44 (dk_at dksX2_pack_1 15 rfl rfl)
theorem dX2_pack_39 : decode cX2_pack 39 = .ok (.iload_n 3, 1) := dk_29 (dk_at dksX2_pack_1 16 rfl rfl)
theorem dX2_pack_40 : decode cX2_pack 40 = .ok (.aload_n 0, 1) := dk_42 (dk_at dksX2_pack_1 17 rfl rfl)
theorem dX2_pack_41 : decode cX2_pack 41 = .ok (.getfield 11, 3) := dk_180 0 11 (dk_at dksX2_pack_1 18 rfl rfl)
theorem dX2_pack_44 : decode cX2_pack 44 = .ok (.iload_n 3, 1) := dk_29 (dk_at dksX2_pack_1 21 rfl rfl)
theorem dX2_pack_45 : decode cX2_pack 45 = .ok (.aaload, 1) := dk_50 (dk_at dksX2_pack_1 22 rfl rfl)
theorem dX2_pack_46 : decode cX2_pack 46 = .ok (.getfield 92, 3) := dk_180 0 92 (dk_at dksX2_pack_2 0 rfl rfl)
theorem dX2_pack_49 : decode cX2_pack 49 = .ok (.iastore, 1) := dk_79 (dk_at dksX2_pack_2 3 rfl rfl)
theorem dX2_pack_50 : decode cX2_pack 50 = .ok (.aload_n 0, 1) := dk_42 (dk_at dksX2_pack_2 4 rfl rfl)
theorem dX2_pack_51 : decode cX2_pack 51 = .ok (.aload_n 0, 1) := dk_42 (dk_at dksX2_pack_2 5 rfl rfl)
theorem dX2_pack_52 : decode cX2_pack 52 = .ok (.getfield 11, 3) := dk_180 0 11 (dk_at dksX2_pack_2 6 rfl rfl)
theorem dX2_pack_55 : decode cX2_pack 55 = .ok (.iload_n 3, 1) := dk_29 (dk_at dksX2_pack_2 9 rfl rfl)
theorem dX2_pack_56 : decode cX2_pack 56 = .ok (.aaload, 1) := dk_50 (dk_at dksX2_pack_2 10 rfl rfl)
theorem dX2_pack_57 : decode cX2_pack 57 = .ok (.invokevirtual 255, 3) := dk_182 0 255 (dk_at dksX2_pack_2 11 rfl rfl)
theorem dX2_pack_60 : decode cX2_pack 60 = .ok (.iinc 3 1, 3) := dk_132 3 1 (dk_at dksX2_pack_2 14 rfl rfl)
theorem dX2_pack_63 : decode cX2_pack 63 = .ok (.goto (-45), 3) := dk_167 255 211 (dk_at dksX2_pack_2 17 rfl rfl)
theorem dX2_pack_66 : decode cX2_pack 66 = .ok (.iconst 0, 1) := dk_3 (dk_at dksX2_pack_2 20 rfl rfl)
theorem dX2_pack_67 : decode cX2_pack 67 = .ok (.istore_n 3, 1) := dk_62 (dk_at dksX2_pack_2 21 rfl rfl)
theorem dX2_pack_68 : decode cX2_pack 68 = .ok (.iload_n 3, 1) := dk_29 (dk_at dksX2_pack_2 22 rfl rfl)
theorem dX2_pack_69 : decode cX2_pack 69 = .ok (.aload_n 0, 1) := dk_42 (dk_at dksX2_pack_2 23 rfl rfl)
theorem dX2_pack_70 : decode cX2_pack 70 = .ok (.getfield 81, 3) := dk_180 0 81 (dk_at dksX2_pack_3 0 rfl rfl)
theorem dX2_pack_73 : decode cX2_pack 73 = .ok (.if_icmp .ge 29, 3) := dk_162 0 29 (dk_at dksX2_pack_3 3 rfl rfl)
theorem dX2_pack_76 : decode cX2_pack 76 = .ok (.aload_n 0, 1) := dk_42 (dk_at dksX2_pack_3 6 rfl rfl)
theorem dX2_pack_77 : decode cX2_pack 77 = .ok (.getfield 11, 3) := dk_180 0 11 (dk_at dksX2_pack_3 7 rfl rfl)
theorem dX2_pack_80 : decode cX2_pack 80 = .ok (.iload_n 3, 1) := dk_29 (dk_at dksX2_pack_3 10 rfl rfl)
theorem dX2_pack_81 : decode cX2_pack 81 = .ok (.aaload, 1) := dk_50 (dk_at dksX2_pack_3 11 rfl rfl)
theorem dX2_pack_82 : decode cX2_pack 82 = .ok (.ifnull 14, 3) := dk_198 0 14 (dk_at dksX2_pack_3 12 rfl rfl)
theorem dX2_pack_85 : decode cX2_pack 85 = .ok (.aload_n 0, 1) := dk_42 (dk_at dksX2_pack_3 15 rfl rfl)
theorem dX2_pack_86 : decode cX2_pack 86 = .ok (.aload_n 0, 1) := dk_42 (dk_at dksX2_pack_3 16 rfl rfl)
theorem dX2_pack_87 : decode cX2_pack 87 = .ok (.getfield 11, 3) := dk_180 0 11 (dk_at dksX2_pack_3 17 rfl rfl)
theorem dX2_pack_90 : decode cX2_pack 90 = .ok (.iload_n 3, 1) := dk_29 (dk_at dksX2_pack_3 20 rfl rfl)
theorem dX2_pack_91 : decode cX2_pack 91 = .ok (.aaload, 1) := dk_50 (dk_at dksX2_pack_3 21 rfl rfl)
theorem dX2_pack_92 : decode cX2_pack 92 = .ok (.iload_n 1, 1) := dk_27 (dk_at dksX2_pack_3 22 rfl rfl)
theorem dX2_pack_93 : decode cX2_pack 93 = .ok (.invokevirtual 354, 3) := dk_182 1 98 (dk_at dksX2_pack_4 0 rfl rfl)
theorem dX2_pack_96 : decode cX2_pack 96 = .ok (.iinc 3 1, 3) := dk_132 3 1 (dk_at dksX2_pack_4 3 rfl rfl)
theorem dX2_pack_99 : decode cX2_pack 99 = .ok (.goto (-31), 3) := dk_167 255 225 (dk_at dksX2_pack_4 6 rfl rfl)
theorem dX2_pack_102 : decode cX2_pack 102 = .ok (.iconst 0, 1) := dk_3 (dk_at dksX2_pack_4 9 rfl rfl)
theorem dX2_pack_103 : decode cX2_pack 103 = .ok (.istore_n 3, 1) := dk_62 (dk_at dksX2_pack_4 10 rfl rfl)
theorem dX2_pack_104 : decode cX2_pack 104 = .ok (.iconst 0, 1) := dk_3 (dk_at dksX2_pack_4 11 rfl rfl)
theorem dX2_pack_105 : decode cX2_pack 105 = .ok (.istore 4, 2) := dk_54 4 (dk_at dksX2_pack_4 12 rfl rfl)
theorem dX2_pack_107 : decode cX2_pack 107 = .ok (.iload 4, 2) := dk_21 4 (dk_at dksX2_pack_4 14 rfl rfl)
theorem dX2_pack_109 : decode cX2_pack 109 = .ok (.aload_n 0, 1) := dk_42 (dk_at dksX2_pack_4 16 rfl rfl)
theorem dX2_pack_110 : decode cX2_pack 110 = .ok (.getfield 81, 3) := dk_180 0 81 (dk_at dksX2_pack_4 17 rfl rfl)
theorem dX2_pack_113 : decode cX2_pack 113 = .ok (.if_icmp .ge 58, 3) := dk_162 0 58 (dk_at dksX2_pack_4 20 rfl rfl)
theorem dX2_pack_116 : decode cX2_pack 116 = .ok (.aload_n 0, 1) := dk_42 (dk_at dksX2_pack_4 23 rfl rfl)
theorem dX2_pack_117 : decode cX2_pack 117 = .ok (.getfield 11, 3) := dk_180 0 11 (dk_at dksX2_pack_5 0 rfl rfl)
theorem dX2_pack_120 : decode cX2_pack 120 = .ok (.iload 4, 2) := dk_21 4 (dk_at dksX2_pack_5 3 rfl rfl)
theorem dX2_pack_122 : decode cX2_pack 122 = .ok (.aaload, 1) := dk_50 (dk_at dksX2_pack_5 5 rfl rfl)
theorem dX2_pack_123 : decode cX2_pack 123 = .ok (.ifnull 42, 3) := dk_198 0 42 (dk_at dksX2_pack_5 6 rfl rfl)
theorem dX2_pack_126 : decode cX2_pack 126 = .ok (.aload_n 0, 1) := dk_42 (dk_at dksX2_pack_5 9 rfl rfl)
theorem dX2_pack_127 : decode cX2_pack 127 = .ok (.getfield 11, 3) := dk_180 0 11 (dk_at dksX2_pack_5 10 rfl rfl)
theorem dX2_pack_130 : decode cX2_pack 130 = .ok (.iload 4, 2) := dk_21 4 (dk_at dksX2_pack_5 13 rfl rfl)
theorem dX2_pack_132 : decode cX2_pack 132 = .ok (.aaload, 1) := dk_50 (dk_at dksX2_pack_5 15 rfl rfl)
theorem dX2_pack_133 : decode cX2_pack 133 = .ok (.getfield 92, 3) := dk_180 0 92 (dk_at dksX2_pack_5 16 rfl rfl)
theorem dX2_pack_136 : decode cX2_pack 136 = .ok (.aload_n 2, 1) := dk_44 (dk_at dksX2_pack_5 19 rfl rfl)
theorem dX2_pack_137 : decode cX2_pack 137 = .ok (.iload 4, 2) := dk_21 4 (dk_at dksX2_pack_5 20 rfl rfl)
theorem dX2_pack_139 : decode cX2_pack 139 = .ok (.iaload, 1) := dk_46 (dk_at dksX2_pack_5 22 rfl rfl)
theorem dX2_pack_140 : decode cX2_pack 140 = .ok (.if_icmp .ne 6, 3) := dk_160 0 6 (dk_at dksX2_pack_6 0 rfl rfl)
theorem dX2_pack_143 : decode cX2_pack 143 = .ok (.goto 22, 3) := dk_167 0 22 (dk_at dksX2_pack_6 3 rfl rfl)
theorem dX2_pack_146 : decode cX2_pack 146 = .ok (.aload_n 0, 1) := dk_42 (dk_at dksX2_pack_6 6 rfl rfl)
theorem dX2_pack_147 : decode cX2_pack 147 = .ok (.getfield 11, 3) := dk_180 0 11 (dk_at dksX2_pack_6 7 rfl rfl)
theorem dX2_pack_150 : decode cX2_pack 150 = .ok (.iload 4, 2) := dk_21 4 (dk_at dksX2_pack_6 10 rfl rfl)
theorem dX2_pack_152 : decode cX2_pack 152 = .ok (.aaload, 1) := dk_50 (dk_at dksX2_pack_6 12 rfl rfl)
theorem dX2_pack_153 : decode cX2_pack 153 = .ok (.dup, 1) := dk_89 (dk_at dksX2_pack_6 13 rfl rfl)
theorem dX2_pack_154 : decode cX2_pack 154 = .ok (.getfield 265, 3) := dk_180 1 9 (dk_at dksX2_pack_6 14 rfl rfl)
theorem dX2_pack_157 : decode cX2_pack 157 = .ok (.iconst 1, 1) := dk_4 (dk_at dksX2_pack_6 17 rfl rfl)
theorem dX2_pack_158 : decode cX2_pack 158 = .ok (.iadd, 1) := dk_96 (dk_at dksX2_pack_6 18 rfl rfl)
theorem dX2_pack_159 : decode cX2_pack 159 = .ok (.putfield 265, 3) := dk_181 1 9 (dk_at dksX2_pack_6 19 rfl rfl)
theorem dX2_pack_162 : decode cX2_pack 162 = .ok (.iinc 3 1, 3) := dk_132 3 1 (dk_at dksX2_pack_7 0 rfl rfl)
theorem dX2_pack_165 : decode cX2_pack 165 = .ok (.iinc 4 1, 3) := dk_132 4 1 (dk_at dksX2_pack_7 3 rfl rfl)
theorem dX2_pack_168 : decode cX2_pack 168 = .ok (.goto (-61), 3) := dk_167 255 195 (dk_at dksX2_pack_7 6 rfl rfl)
theorem dX2_pack_171 : decode cX2_pack 171 = .ok (.iload_n 3, 1) := dk_29 (dk_at dksX2_pack_7 9 rfl rfl)
theorem dX2_pack_172 : decode cX2_pack 172 = .ok (.ireturn, 1) := dk_172 (dk_at dksX2_pack_7 10 rfl rfl)
abbrev cX2_needed : ByteArray := prog_3_method_48_code
def yX2_needed : MethodName := ⟨RX2, "needed", "()I"⟩
def dkwX2_needed_1 : List UInt8 := [182, 1, 83, 184, 1, 87, 184, 1, 87, 60, 132, 2, 1, 167, 255, 225, 27, 172]
abbrev dktX2_needed_1 : List UInt8 := dkwX2_needed_1 ++ []
def dkwX2_needed_0 : List UInt8 := [3, 60, 3, 61, 28, 42, 180, 0, 63, 162, 0, 29, 27, 42, 28, 3, 182, 1, 83, 42, 28, 4]
abbrev dktX2_needed_0 : List UInt8 := dkwX2_needed_0 ++ dktX2_needed_1
theorem dksX2_needed_0 : cX2_needed.data.toList.drop 0 = dktX2_needed_0 := by decide +kernel
theorem dksX2_needed_1 : cX2_needed.data.toList.drop 22 = dktX2_needed_1 := dk_seg dksX2_needed_0 22 rfl rfl
theorem dX2_needed_0 : decode cX2_needed 0 = .ok (.iconst 0, 1) := dk_3 (dk_at dksX2_needed_0 0 rfl rfl)
theorem dX2_needed_1 : decode cX2_needed 1 = .ok (.istore_n 1, 1) := dk_60 (dk_at dksX2_needed_0 1 rfl rfl)
theorem dX2_needed_2 : decode cX2_needed 2 = .ok (.iconst 0, 1) := dk_3 (dk_at dksX2_needed_0 2 rfl rfl)
theorem dX2_needed_3 : decode cX2_needed 3 = .ok (.istore_n 2, 1) := dk_61 (dk_at dksX2_needed_0 3 rfl rfl)
theorem dX2_needed_4 : decode cX2_needed 4 = .ok (.iload_n 2, 1) := dk_28 (dk_at dksX2_needed_0 4 rfl rfl)
theorem dX2_needed_5 : decode cX2_needed 5 = .ok (.aload_n 0, 1) := dk_42 (dk_at dksX2_needed_0 5 rfl rfl)
theorem dX2_needed_6 : decode cX2_needed 6 = .ok (.getfield 63, 3) := dk_180 0 63 (dk_at dksX2_needed_0 6 rfl rfl)
theorem dX2_needed_9 : decode cX2_needed 9 = .ok (.if_icmp .ge 29, 3) := dk_162 0 29 (dk_at dksX2_needed_0 9 rfl rfl)
theorem dX2_needed_12 : decode cX2_needed 12 = .ok (.iload_n 1, 1) := dk_27 (dk_at dksX2_needed_0 12 rfl rfl)
theorem dX2_needed_13 : decode cX2_needed 13 = .ok (.aload_n 0, 1) := dk_42 (dk_at dksX2_needed_0 13 rfl rfl)
theorem dX2_needed_14 : decode cX2_needed 14 = .ok (.iload_n 2, 1) := dk_28 (dk_at dksX2_needed_0 14 rfl rfl)
theorem dX2_needed_15 : decode cX2_needed 15 = .ok (.iconst 0, 1) := dk_3 (dk_at dksX2_needed_0 15 rfl rfl)
theorem dX2_needed_16 : decode cX2_needed 16 = .ok (.invokevirtual 339, 3) := dk_182 1 83 (dk_at dksX2_needed_0 16 rfl rfl)
theorem dX2_needed_19 : decode cX2_needed 19 = .ok (.aload_n 0, 1) := dk_42 (dk_at dksX2_needed_0 19 rfl rfl)
theorem dX2_needed_20 : decode cX2_needed 20 = .ok (.iload_n 2, 1) := dk_28 (dk_at dksX2_needed_0 20 rfl rfl)
theorem dX2_needed_21 : decode cX2_needed 21 = .ok (.iconst 1, 1) := dk_4 (dk_at dksX2_needed_0 21 rfl rfl)
theorem dX2_needed_22 : decode cX2_needed 22 = .ok (.invokevirtual 339, 3) := dk_182 1 83 (dk_at dksX2_needed_1 0 rfl rfl)
theorem dX2_needed_25 : decode cX2_needed 25 = .ok (.invokestatic 343, 3) := dk_184 1 87 (dk_at dksX2_needed_1 3 rfl rfl)
theorem dX2_needed_28 : decode cX2_needed 28 = .ok (.invokestatic 343, 3) := dk_184 1 87 (dk_at dksX2_needed_1 6 rfl rfl)
theorem dX2_needed_31 : decode cX2_needed 31 = .ok (.istore_n 1, 1) := dk_60 (dk_at dksX2_needed_1 9 rfl rfl)
theorem dX2_needed_32 : decode cX2_needed 32 = .ok (.iinc 2 1, 3) := dk_132 2 1 (dk_at dksX2_needed_1 10 rfl rfl)
theorem dX2_needed_35 : decode cX2_needed 35 = .ok (.goto (-31), 3) := dk_167 255 225 (dk_at dksX2_needed_1 13 rfl rfl)
theorem dX2_needed_38 : decode cX2_needed 38 = .ok (.iload_n 1, 1) := dk_27 (dk_at dksX2_needed_1 16 rfl rfl)
theorem dX2_needed_39 : decode cX2_needed 39 = .ok (.ireturn, 1) := dk_172 (dk_at dksX2_needed_1 17 rfl rfl)
abbrev cX2_callsAt : ByteArray := prog_3_method_47_code
def yX2_callsAt : MethodName := ⟨RX2, "callsAt", "(IZ)I"⟩
def dkwX2_callsAt_2 : List UInt8 := [21, 4, 50, 182, 0, 196, 27, 160, 0, 6, 132, 3, 1, 132, 4, 1, 167, 255, 198, 29, 172]
abbrev dktX2_callsAt_2 : List UInt8 := dkwX2_callsAt_2 ++ []
def dkwX2_callsAt_1 : List UInt8 := [28, 153, 0, 17, 42, 42, 180, 0, 11, 21, 4, 50, 182, 0, 201, 167, 0, 14, 42, 42, 180, 0, 11]
abbrev dktX2_callsAt_1 : List UInt8 := dkwX2_callsAt_1 ++ dktX2_callsAt_2
def dkwX2_callsAt_0 : List UInt8 := [3, 62, 3, 54, 4, 21, 4, 42, 180, 0, 81, 162, 0, 55, 42, 180, 0, 11, 21, 4, 50, 198, 0, 39]
abbrev dktX2_callsAt_0 : List UInt8 := dkwX2_callsAt_0 ++ dktX2_callsAt_1
theorem dksX2_callsAt_0 : cX2_callsAt.data.toList.drop 0 = dktX2_callsAt_0 := by decide +kernel
theorem dksX2_callsAt_1 : cX2_callsAt.data.toList.drop 24 = dktX2_callsAt_1 := dk_seg dksX2_callsAt_0 24 rfl rfl
theorem dksX2_callsAt_2 : cX2_callsAt.data.toList.drop 47 = dktX2_callsAt_2 := dk_seg dksX2_callsAt_1 23 rfl rfl
theorem dX2_callsAt_0 : decode cX2_callsAt 0 = .ok (.iconst 0, 1) := dk_3 (dk_at dksX2_callsAt_0 0 rfl rfl)
theorem dX2_callsAt_1 : decode cX2_callsAt 1 = .ok (.istore_n 3, 1) := dk_62 (dk_at dksX2_callsAt_0 1 rfl rfl)
theorem dX2_callsAt_2 : decode cX2_callsAt 2 = .ok (.iconst 0, 1) := dk_3 (dk_at dksX2_callsAt_0 2 rfl rfl)
theorem dX2_callsAt_3 : decode cX2_callsAt 3 = .ok (.istore 4, 2) := dk_54 4 (dk_at dksX2_callsAt_0 3 rfl rfl)
theorem dX2_callsAt_5 : decode cX2_callsAt 5 = .ok (.iload 4, 2) := dk_21 4 (dk_at dksX2_callsAt_0 5 rfl rfl)
theorem dX2_callsAt_7 : decode cX2_callsAt 7 = .ok (.aload_n 0, 1) := dk_42 (dk_at dksX2_callsAt_0 7 rfl rfl)
theorem dX2_callsAt_8 : decode cX2_callsAt 8 = .ok (.getfield 81, 3) := dk_180 0 81 (dk_at dksX2_callsAt_0 8 rfl rfl)
theorem dX2_callsAt_11 : decode cX2_callsAt 11 = .ok (.if_icmp .ge 55, 3) := dk_162 0 55 (dk_at dksX2_callsAt_0 11 rfl rfl)
theorem dX2_callsAt_14 : decode cX2_callsAt 14 = .ok (.aload_n 0, 1) := dk_42 (dk_at dksX2_callsAt_0 14 rfl rfl)
theorem dX2_callsAt_15 : decode cX2_callsAt 15 = .ok (.getfield 11, 3) := dk_180 0 11 (dk_at dksX2_callsAt_0 15 rfl rfl)
theorem dX2_callsAt_18 : decode cX2_callsAt 18 = .ok (.iload 4, 2) := dk_21 4 (dk_at dksX2_callsAt_0 18 rfl rfl)
theorem dX2_callsAt_20 : decode cX2_callsAt 20 = .ok (.aaload, 1) := dk_50 (dk_at dksX2_callsAt_0 20 rfl rfl)
theorem dX2_callsAt_21 : decode cX2_callsAt 21 = .ok (.ifnull 39, 3) := dk_198 0 39 (dk_at dksX2_callsAt_0 21 rfl rfl)
theorem dX2_callsAt_24 : decode cX2_callsAt 24 = .ok (.iload_n 2, 1) := dk_28 (dk_at dksX2_callsAt_1 0 rfl rfl)
theorem dX2_callsAt_25 : decode cX2_callsAt 25 = .ok (.ifCond .eq 17, 3) := dk_153 0 17 (dk_at dksX2_callsAt_1 1 rfl rfl)
theorem dX2_callsAt_28 : decode cX2_callsAt 28 = .ok (.aload_n 0, 1) := dk_42 (dk_at dksX2_callsAt_1 4 rfl rfl)
theorem dX2_callsAt_29 : decode cX2_callsAt 29 = .ok (.aload_n 0, 1) := dk_42 (dk_at dksX2_callsAt_1 5 rfl rfl)
theorem dX2_callsAt_30 : decode cX2_callsAt 30 = .ok (.getfield 11, 3) := dk_180 0 11 (dk_at dksX2_callsAt_1 6 rfl rfl)
theorem dX2_callsAt_33 : decode cX2_callsAt 33 = .ok (.iload 4, 2) := dk_21 4 (dk_at dksX2_callsAt_1 9 rfl rfl)
theorem dX2_callsAt_35 : decode cX2_callsAt 35 = .ok (.aaload, 1) := dk_50 (dk_at dksX2_callsAt_1 11 rfl rfl)
theorem dX2_callsAt_36 : decode cX2_callsAt 36 = .ok (.invokevirtual 201, 3) := dk_182 0 201 (dk_at dksX2_callsAt_1 12 rfl rfl)
theorem dX2_callsAt_39 : decode cX2_callsAt 39 = .ok (.goto 14, 3) := dk_167 0 14 (dk_at dksX2_callsAt_1 15 rfl rfl)
theorem dX2_callsAt_42 : decode cX2_callsAt 42 = .ok (.aload_n 0, 1) := dk_42 (dk_at dksX2_callsAt_1 18 rfl rfl)
theorem dX2_callsAt_43 : decode cX2_callsAt 43 = .ok (.aload_n 0, 1) := dk_42 (dk_at dksX2_callsAt_1 19 rfl rfl)
theorem dX2_callsAt_44 : decode cX2_callsAt 44 = .ok (.getfield 11, 3) := dk_180 0 11 (dk_at dksX2_callsAt_1 20 rfl rfl)
theorem dX2_callsAt_47 : decode cX2_callsAt 47 = .ok (.iload 4, 2) := dk_21 4 (dk_at dksX2_callsAt_2 0 rfl rfl)
theorem dX2_callsAt_49 : decode cX2_callsAt 49 = .ok (.aaload, 1) := dk_50 (dk_at dksX2_callsAt_2 2 rfl rfl)
theorem dX2_callsAt_50 : decode cX2_callsAt 50 = .ok (.invokevirtual 196, 3) := dk_182 0 196 (dk_at dksX2_callsAt_2 3 rfl rfl)
theorem dX2_callsAt_53 : decode cX2_callsAt 53 = .ok (.iload_n 1, 1) := dk_27 (dk_at dksX2_callsAt_2 6 rfl rfl)
theorem dX2_callsAt_54 : decode cX2_callsAt 54 = .ok (.if_icmp .ne 6, 3) := dk_160 0 6 (dk_at dksX2_callsAt_2 7 rfl rfl)
theorem dX2_callsAt_57 : decode cX2_callsAt 57 = .ok (.iinc 3 1, 3) := dk_132 3 1 (dk_at dksX2_callsAt_2 10 rfl rfl)
theorem dX2_callsAt_60 : decode cX2_callsAt 60 = .ok (.iinc 4 1, 3) := dk_132 4 1 (dk_at dksX2_callsAt_2 13 rfl rfl)
theorem dX2_callsAt_63 : decode cX2_callsAt 63 = .ok (.goto (-58), 3) := dk_167 255 198 (dk_at dksX2_callsAt_2 16 rfl rfl)
theorem dX2_callsAt_66 : decode cX2_callsAt 66 = .ok (.iload_n 3, 1) := dk_29 (dk_at dksX2_callsAt_2 19 rfl rfl)
theorem dX2_callsAt_67 : decode cX2_callsAt 67 = .ok (.ireturn, 1) := dk_172 (dk_at dksX2_callsAt_2 20 rfl rfl)
abbrev cX2_lowest : ByteArray := prog_3_method_18_code
def yX2_lowest : MethodName := ⟨RX2, "lowest", "(I)I"⟩
def dkwX2_lowest_2 : List UInt8 := [167, 255, 218, 28, 172]
abbrev dktX2_lowest_2 : List UInt8 := dkwX2_lowest_2 ++ []
def dkwX2_lowest_1 : List UInt8 := [182, 0, 181, 154, 0, 6, 167, 0, 13, 28, 4, 21, 4, 120, 128, 61, 132, 3, 255, 132, 4, 1]
abbrev dktX2_lowest_1 : List UInt8 := dkwX2_lowest_1 ++ dktX2_lowest_2
def dkwX2_lowest_0 : List UInt8 := [3, 61, 27, 62, 3, 54, 4, 21, 4, 42, 180, 0, 69, 162, 0, 35, 29, 158, 0, 31, 42, 21, 4]
abbrev dktX2_lowest_0 : List UInt8 := dkwX2_lowest_0 ++ dktX2_lowest_1
theorem dksX2_lowest_0 : cX2_lowest.data.toList.drop 0 = dktX2_lowest_0 := by decide +kernel
theorem dksX2_lowest_1 : cX2_lowest.data.toList.drop 23 = dktX2_lowest_1 := dk_seg dksX2_lowest_0 23 rfl rfl
theorem dksX2_lowest_2 : cX2_lowest.data.toList.drop 45 = dktX2_lowest_2 := dk_seg dksX2_lowest_1 22 rfl rfl
theorem dX2_lowest_0 : decode cX2_lowest 0 = .ok (.iconst 0, 1) := dk_3 (dk_at dksX2_lowest_0 0 rfl rfl)
theorem dX2_lowest_1 : decode cX2_lowest 1 = .ok (.istore_n 2, 1) := dk_61 (dk_at dksX2_lowest_0 1 rfl rfl)
theorem dX2_lowest_2 : decode cX2_lowest 2 = .ok (.iload_n 1, 1) := dk_27 (dk_at dksX2_lowest_0 2 rfl rfl)
theorem dX2_lowest_3 : decode cX2_lowest 3 = .ok (.istore_n 3, 1) := dk_62 (dk_at dksX2_lowest_0 3 rfl rfl)
theorem dX2_lowest_4 : decode cX2_lowest 4 = .ok (.iconst 0, 1) := dk_3 (dk_at dksX2_lowest_0 4 rfl rfl)
theorem dX2_lowest_5 : decode cX2_lowest 5 = .ok (.istore 4, 2) := dk_54 4 (dk_at dksX2_lowest_0 5 rfl rfl)
theorem dX2_lowest_7 : decode cX2_lowest 7 = .ok (.iload 4, 2) := dk_21 4 (dk_at dksX2_lowest_0 7 rfl rfl)
theorem dX2_lowest_9 : decode cX2_lowest 9 = .ok (.aload_n 0, 1) := dk_42 (dk_at dksX2_lowest_0 9 rfl rfl)
theorem dX2_lowest_10 : decode cX2_lowest 10 = .ok (.getfield 69, 3) := dk_180 0 69 (dk_at dksX2_lowest_0 10 rfl rfl)
theorem dX2_lowest_13 : decode cX2_lowest 13 = .ok (.if_icmp .ge 35, 3) := dk_162 0 35 (dk_at dksX2_lowest_0 13 rfl rfl)
theorem dX2_lowest_16 : decode cX2_lowest 16 = .ok (.iload_n 3, 1) := dk_29 (dk_at dksX2_lowest_0 16 rfl rfl)
theorem dX2_lowest_17 : decode cX2_lowest 17 = .ok (.ifCond .le 31, 3) := dk_158 0 31 (dk_at dksX2_lowest_0 17 rfl rfl)
theorem dX2_lowest_20 : decode cX2_lowest 20 = .ok (.aload_n 0, 1) := dk_42 (dk_at dksX2_lowest_0 20 rfl rfl)
theorem dX2_lowest_21 : decode cX2_lowest 21 = .ok (.iload 4, 2) := dk_21 4 (dk_at dksX2_lowest_0 21 rfl rfl)
theorem dX2_lowest_23 : decode cX2_lowest 23 = .ok (.invokevirtual 181, 3) := dk_182 0 181 (dk_at dksX2_lowest_1 0 rfl rfl)
theorem dX2_lowest_26 : decode cX2_lowest 26 = .ok (.ifCond .ne 6, 3) := dk_154 0 6 (dk_at dksX2_lowest_1 3 rfl rfl)
theorem dX2_lowest_29 : decode cX2_lowest 29 = .ok (.goto 13, 3) := dk_167 0 13 (dk_at dksX2_lowest_1 6 rfl rfl)
theorem dX2_lowest_32 : decode cX2_lowest 32 = .ok (.iload_n 2, 1) := dk_28 (dk_at dksX2_lowest_1 9 rfl rfl)
theorem dX2_lowest_33 : decode cX2_lowest 33 = .ok (.iconst 1, 1) := dk_4 (dk_at dksX2_lowest_1 10 rfl rfl)
theorem dX2_lowest_34 : decode cX2_lowest 34 = .ok (.iload 4, 2) := dk_21 4 (dk_at dksX2_lowest_1 11 rfl rfl)
theorem dX2_lowest_36 : decode cX2_lowest 36 = .ok (.ishl, 1) := dk_120 (dk_at dksX2_lowest_1 13 rfl rfl)
theorem dX2_lowest_37 : decode cX2_lowest 37 = .ok (.ior, 1) := dk_128 (dk_at dksX2_lowest_1 14 rfl rfl)
theorem dX2_lowest_38 : decode cX2_lowest 38 = .ok (.istore_n 2, 1) := dk_61 (dk_at dksX2_lowest_1 15 rfl rfl)
theorem dX2_lowest_39 : decode cX2_lowest 39 = .ok (.iinc 3 (-1), 3) := dk_132 3 255 (dk_at dksX2_lowest_1 16 rfl rfl)
theorem dX2_lowest_42 : decode cX2_lowest 42 = .ok (.iinc 4 1, 3) := dk_132 4 1 (dk_at dksX2_lowest_1 19 rfl rfl)
theorem dX2_lowest_45 : decode cX2_lowest 45 = .ok (.goto (-38), 3) := dk_167 255 218 (dk_at dksX2_lowest_2 0 rfl rfl)
theorem dX2_lowest_48 : decode cX2_lowest 48 = .ok (.iload_n 2, 1) := dk_28 (dk_at dksX2_lowest_2 3 rfl rfl)
theorem dX2_lowest_49 : decode cX2_lowest 49 = .ok (.ireturn, 1) := dk_172 (dk_at dksX2_lowest_2 4 rfl rfl)
abbrev cX2_packOne : ByteArray := prog_3_method_50_code
def yX2_packOne : MethodName := ⟨RX2, "packOne", "(LCrossbarExchange$Call;I)V"⟩
def dkwX2_packOne_1 : List UInt8 := [43, 45, 180, 1, 12, 182, 0, 95, 177]
abbrev dktX2_packOne_1 : List UInt8 := dkwX2_packOne_1 ++ []
def dkwX2_packOne_0 : List UInt8 := [42, 42, 43, 182, 0, 196, 42, 43, 182, 0, 201, 28, 3, 4, 182, 0, 239, 78, 42, 45, 182, 1, 5, 42]
abbrev dktX2_packOne_0 : List UInt8 := dkwX2_packOne_0 ++ dktX2_packOne_1
theorem dksX2_packOne_0 : cX2_packOne.data.toList.drop 0 = dktX2_packOne_0 := by decide +kernel
theorem dksX2_packOne_1 : cX2_packOne.data.toList.drop 24 = dktX2_packOne_1 := dk_seg dksX2_packOne_0 24 rfl rfl
theorem dX2_packOne_0 : decode cX2_packOne 0 = .ok (.aload_n 0, 1) := dk_42 (dk_at dksX2_packOne_0 0 rfl rfl)
theorem dX2_packOne_1 : decode cX2_packOne 1 = .ok (.aload_n 0, 1) := dk_42 (dk_at dksX2_packOne_0 1 rfl rfl)
theorem dX2_packOne_2 : decode cX2_packOne 2 = .ok (.aload_n 1, 1) := dk_43 (dk_at dksX2_packOne_0 2 rfl rfl)
theorem dX2_packOne_3 : decode cX2_packOne 3 = .ok (.invokevirtual 196, 3) := dk_182 0 196 (dk_at dksX2_packOne_0 3 rfl rfl)
theorem dX2_packOne_6 : decode cX2_packOne 6 = .ok (.aload_n 0, 1) := dk_42 (dk_at dksX2_packOne_0 6 rfl rfl)
theorem dX2_packOne_7 : decode cX2_packOne 7 = .ok (.aload_n 1, 1) := dk_43 (dk_at dksX2_packOne_0 7 rfl rfl)
theorem dX2_packOne_8 : decode cX2_packOne 8 = .ok (.invokevirtual 201, 3) := dk_182 0 201 (dk_at dksX2_packOne_0 8 rfl rfl)
theorem dX2_packOne_11 : decode cX2_packOne 11 = .ok (.iload_n 2, 1) := dk_28 (dk_at dksX2_packOne_0 11 rfl rfl)
theorem dX2_packOne_12 : decode cX2_packOne 12 = .ok (.iconst 0, 1) := dk_3 (dk_at dksX2_packOne_0 12 rfl rfl)
theorem dX2_packOne_13 : decode cX2_packOne 13 = .ok (.iconst 1, 1) := dk_4 (dk_at dksX2_packOne_0 13 rfl rfl)
theorem dX2_packOne_14 : decode cX2_packOne 14 = .ok (.invokevirtual 239, 3) := dk_182 0 239 (dk_at dksX2_packOne_0 14 rfl rfl)
theorem dX2_packOne_17 : decode cX2_packOne 17 = .ok (.astore_n 3, 1) := dk_78 (dk_at dksX2_packOne_0 17 rfl rfl)
theorem dX2_packOne_18 : decode cX2_packOne 18 = .ok (.aload_n 0, 1) := dk_42 (dk_at dksX2_packOne_0 18 rfl rfl)
theorem dX2_packOne_19 : decode cX2_packOne 19 = .ok (.aload_n 3, 1) := dk_45 (dk_at dksX2_packOne_0 19 rfl rfl)
theorem dX2_packOne_20 : decode cX2_packOne 20 = .ok (.invokevirtual 261, 3) := dk_182 1 5 (dk_at dksX2_packOne_0 20 rfl rfl)
theorem dX2_packOne_23 : decode cX2_packOne 23 = .ok (.aload_n 0, 1) := dk_42 (dk_at dksX2_packOne_0 23 rfl rfl)
theorem dX2_packOne_24 : decode cX2_packOne 24 = .ok (.aload_n 1, 1) := dk_43 (dk_at dksX2_packOne_1 0 rfl rfl)
theorem dX2_packOne_25 : decode cX2_packOne 25 = .ok (.aload_n 3, 1) := dk_45 (dk_at dksX2_packOne_1 1 rfl rfl)
theorem dX2_packOne_26 : decode cX2_packOne 26 = .ok (.getfield 268, 3) := dk_180 1 12 (dk_at dksX2_packOne_1 2 rfl rfl)
theorem dX2_packOne_29 : decode cX2_packOne 29 = .ok (.invokevirtual 95, 3) := dk_182 0 95 (dk_at dksX2_packOne_1 5 rfl rfl)
theorem dX2_packOne_32 : decode cX2_packOne 32 = .ok (.return_, 1) := dk_177 (dk_at dksX2_packOne_1 8 rfl rfl)
abbrev cX2_live : ByteArray := prog_3_method_11_code
def yX2_live : MethodName := ⟨RX2, "live", "()I"⟩
def dkwX2_live_1 : List UInt8 := [132, 2, 1, 167, 255, 233, 27, 172]
abbrev dktX2_live_1 : List UInt8 := dkwX2_live_1 ++ []
def dkwX2_live_0 : List UInt8 := [3, 60, 3, 61, 28, 42, 180, 0, 81, 162, 0, 21, 42, 180, 0, 11, 28, 50, 198, 0, 6, 132, 1, 1]
abbrev dktX2_live_0 : List UInt8 := dkwX2_live_0 ++ dktX2_live_1
theorem dksX2_live_0 : cX2_live.data.toList.drop 0 = dktX2_live_0 := by decide +kernel
theorem dksX2_live_1 : cX2_live.data.toList.drop 24 = dktX2_live_1 := dk_seg dksX2_live_0 24 rfl rfl
theorem dX2_live_0 : decode cX2_live 0 = .ok (.iconst 0, 1) := dk_3 (dk_at dksX2_live_0 0 rfl rfl)
theorem dX2_live_1 : decode cX2_live 1 = .ok (.istore_n 1, 1) := dk_60 (dk_at dksX2_live_0 1 rfl rfl)
theorem dX2_live_2 : decode cX2_live 2 = .ok (.iconst 0, 1) := dk_3 (dk_at dksX2_live_0 2 rfl rfl)
theorem dX2_live_3 : decode cX2_live 3 = .ok (.istore_n 2, 1) := dk_61 (dk_at dksX2_live_0 3 rfl rfl)
theorem dX2_live_4 : decode cX2_live 4 = .ok (.iload_n 2, 1) := dk_28 (dk_at dksX2_live_0 4 rfl rfl)
theorem dX2_live_5 : decode cX2_live 5 = .ok (.aload_n 0, 1) := dk_42 (dk_at dksX2_live_0 5 rfl rfl)
theorem dX2_live_6 : decode cX2_live 6 = .ok (.getfield 81, 3) := dk_180 0 81 (dk_at dksX2_live_0 6 rfl rfl)
theorem dX2_live_9 : decode cX2_live 9 = .ok (.if_icmp .ge 21, 3) := dk_162 0 21 (dk_at dksX2_live_0 9 rfl rfl)
theorem dX2_live_12 : decode cX2_live 12 = .ok (.aload_n 0, 1) := dk_42 (dk_at dksX2_live_0 12 rfl rfl)
theorem dX2_live_13 : decode cX2_live 13 = .ok (.getfield 11, 3) := dk_180 0 11 (dk_at dksX2_live_0 13 rfl rfl)
theorem dX2_live_16 : decode cX2_live 16 = .ok (.iload_n 2, 1) := dk_28 (dk_at dksX2_live_0 16 rfl rfl)
theorem dX2_live_17 : decode cX2_live 17 = .ok (.aaload, 1) := dk_50 (dk_at dksX2_live_0 17 rfl rfl)
theorem dX2_live_18 : decode cX2_live 18 = .ok (.ifnull 6, 3) := dk_198 0 6 (dk_at dksX2_live_0 18 rfl rfl)
theorem dX2_live_21 : decode cX2_live 21 = .ok (.iinc 1 1, 3) := dk_132 1 1 (dk_at dksX2_live_0 21 rfl rfl)
theorem dX2_live_24 : decode cX2_live 24 = .ok (.iinc 2 1, 3) := dk_132 2 1 (dk_at dksX2_live_1 0 rfl rfl)
theorem dX2_live_27 : decode cX2_live 27 = .ok (.goto (-23), 3) := dk_167 255 233 (dk_at dksX2_live_1 3 rfl rfl)
theorem dX2_live_30 : decode cX2_live 30 = .ok (.iload_n 1, 1) := dk_27 (dk_at dksX2_live_1 6 rfl rfl)
theorem dX2_live_31 : decode cX2_live 31 = .ok (.ireturn, 1) := dk_172 (dk_at dksX2_live_1 7 rfl rfl)
abbrev cX2_copy : ByteArray := prog_3_method_2_code
def yX2_copy : MethodName := ⟨RX2, "copy", "()LCrossbarExchange$Exchange;"⟩
def dkwX2_copy_10 : List UInt8 := [181, 0, 75, 43, 176]
abbrev dktX2_copy_10 : List UInt8 := dkwX2_copy_10 ++ []
def dkwX2_copy_9 : List UInt8 := [181, 0, 141, 43, 42, 180, 0, 59, 181, 0, 59, 43, 42, 180, 0, 144, 181, 0, 144, 43, 42, 180, 0, 75]
abbrev dktX2_copy_9 : List UInt8 := dkwX2_copy_9 ++ dktX2_copy_10
def dkwX2_copy_8 : List UInt8 := [180, 0, 48, 3, 16, 13, 184, 0, 135, 43, 42, 180, 0, 81, 181, 0, 81, 43, 42, 180, 0, 141]
abbrev dktX2_copy_8 : List UInt8 := dkwX2_copy_8 ++ dktX2_copy_9
def dkwX2_copy_7 : List UInt8 := [185, 0, 119, 2, 0, 192, 0, 129, 182, 0, 131, 132, 2, 1, 167, 255, 223, 42, 180, 0, 48, 3, 43]
abbrev dktX2_copy_7 : List UInt8 := dkwX2_copy_7 ++ dktX2_copy_8
def dkwX2_copy_6 : List UInt8 := [167, 255, 223, 3, 61, 28, 42, 180, 0, 45, 185, 0, 113, 1, 0, 162, 0, 26, 43, 42, 180, 0, 45, 28]
abbrev dktX2_copy_6 : List UInt8 := dkwX2_copy_6 ++ dktX2_copy_7
def dkwX2_copy_5 : List UInt8 := [162, 0, 26, 43, 42, 180, 0, 41, 28, 185, 0, 119, 2, 0, 192, 0, 123, 182, 0, 125, 132, 2, 1]
abbrev dktX2_copy_5 : List UInt8 := dkwX2_copy_5 ++ dktX2_copy_6
def dkwX2_copy_4 : List UInt8 := [43, 28, 182, 0, 109, 132, 2, 1, 167, 255, 226, 3, 61, 28, 42, 180, 0, 41, 185, 0, 113, 1, 0]
abbrev dktX2_copy_4 : List UInt8 := dkwX2_copy_4 ++ dktX2_copy_5
def dkwX2_copy_3 : List UInt8 := [3, 61, 28, 42, 180, 0, 69, 162, 0, 28, 42, 180, 0, 27, 28, 184, 0, 99, 182, 0, 105, 153, 0, 8]
abbrev dktX2_copy_3 : List UInt8 := dkwX2_copy_3 ++ dktX2_copy_4
def dkwX2_copy_2 : List UInt8 := [182, 0, 84, 78, 43, 45, 182, 0, 88, 43, 45, 45, 180, 0, 92, 182, 0, 95, 132, 2, 1, 167, 255, 209]
abbrev dktX2_copy_2 : List UInt8 := dkwX2_copy_2 ++ dktX2_copy_3
def dkwX2_copy_1 : List UInt8 := [180, 0, 81, 162, 0, 45, 42, 180, 0, 11, 28, 50, 199, 0, 6, 167, 0, 27, 42, 180, 0, 11, 28, 50]
abbrev dktX2_copy_1 : List UInt8 := dkwX2_copy_1 ++ dktX2_copy_2
def dkwX2_copy_0 : List UInt8 := [187, 0, 12, 89, 42, 180, 0, 63, 42, 180, 0, 66, 42, 180, 0, 69, 183, 0, 78, 76, 3, 61, 28, 42]
abbrev dktX2_copy_0 : List UInt8 := dkwX2_copy_0 ++ dktX2_copy_1
theorem dksX2_copy_0 : cX2_copy.data.toList.drop 0 = dktX2_copy_0 := by decide +kernel
theorem dksX2_copy_1 : cX2_copy.data.toList.drop 24 = dktX2_copy_1 := dk_seg dksX2_copy_0 24 rfl rfl
theorem dksX2_copy_2 : cX2_copy.data.toList.drop 48 = dktX2_copy_2 := dk_seg dksX2_copy_1 24 rfl rfl
theorem dksX2_copy_3 : cX2_copy.data.toList.drop 72 = dktX2_copy_3 := dk_seg dksX2_copy_2 24 rfl rfl
theorem dksX2_copy_4 : cX2_copy.data.toList.drop 96 = dktX2_copy_4 := dk_seg dksX2_copy_3 24 rfl rfl
theorem dksX2_copy_5 : cX2_copy.data.toList.drop 119 = dktX2_copy_5 := dk_seg dksX2_copy_4 23 rfl rfl
theorem dksX2_copy_6 : cX2_copy.data.toList.drop 142 = dktX2_copy_6 := dk_seg dksX2_copy_5 23 rfl rfl
theorem dksX2_copy_7 : cX2_copy.data.toList.drop 166 = dktX2_copy_7 := dk_seg dksX2_copy_6 24 rfl rfl
theorem dksX2_copy_8 : cX2_copy.data.toList.drop 189 = dktX2_copy_8 := dk_seg dksX2_copy_7 23 rfl rfl
theorem dksX2_copy_9 : cX2_copy.data.toList.drop 211 = dktX2_copy_9 := dk_seg dksX2_copy_8 22 rfl rfl
theorem dksX2_copy_10 : cX2_copy.data.toList.drop 235 = dktX2_copy_10 := dk_seg dksX2_copy_9 24 rfl rfl
theorem dX2_copy_0 : decode cX2_copy 0 = .ok (.new 12, 3) := dk_187 0 12 (dk_at dksX2_copy_0 0 rfl rfl)
theorem dX2_copy_3 : decode cX2_copy 3 = .ok (.dup, 1) := dk_89 (dk_at dksX2_copy_0 3 rfl rfl)
theorem dX2_copy_4 : decode cX2_copy 4 = .ok (.aload_n 0, 1) := dk_42 (dk_at dksX2_copy_0 4 rfl rfl)
theorem dX2_copy_5 : decode cX2_copy 5 = .ok (.getfield 63, 3) := dk_180 0 63 (dk_at dksX2_copy_0 5 rfl rfl)
theorem dX2_copy_8 : decode cX2_copy 8 = .ok (.aload_n 0, 1) := dk_42 (dk_at dksX2_copy_0 8 rfl rfl)
theorem dX2_copy_9 : decode cX2_copy 9 = .ok (.getfield 66, 3) := dk_180 0 66 (dk_at dksX2_copy_0 9 rfl rfl)
theorem dX2_copy_12 : decode cX2_copy 12 = .ok (.aload_n 0, 1) := dk_42 (dk_at dksX2_copy_0 12 rfl rfl)
theorem dX2_copy_13 : decode cX2_copy 13 = .ok (.getfield 69, 3) := dk_180 0 69 (dk_at dksX2_copy_0 13 rfl rfl)
theorem dX2_copy_16 : decode cX2_copy 16 = .ok (.invokespecial 78, 3) := dk_183 0 78 (dk_at dksX2_copy_0 16 rfl rfl)
theorem dX2_copy_19 : decode cX2_copy 19 = .ok (.astore_n 1, 1) := dk_76 (dk_at dksX2_copy_0 19 rfl rfl)
theorem dX2_copy_20 : decode cX2_copy 20 = .ok (.iconst 0, 1) := dk_3 (dk_at dksX2_copy_0 20 rfl rfl)
theorem dX2_copy_21 : decode cX2_copy 21 = .ok (.istore_n 2, 1) := dk_61 (dk_at dksX2_copy_0 21 rfl rfl)
theorem dX2_copy_22 : decode cX2_copy 22 = .ok (.iload_n 2, 1) := dk_28 (dk_at dksX2_copy_0 22 rfl rfl)
theorem dX2_copy_23 : decode cX2_copy 23 = .ok (.aload_n 0, 1) := dk_42 (dk_at dksX2_copy_0 23 rfl rfl)
theorem dX2_copy_24 : decode cX2_copy 24 = .ok (.getfield 81, 3) := dk_180 0 81 (dk_at dksX2_copy_1 0 rfl rfl)
theorem dX2_copy_27 : decode cX2_copy 27 = .ok (.if_icmp .ge 45, 3) := dk_162 0 45 (dk_at dksX2_copy_1 3 rfl rfl)
theorem dX2_copy_30 : decode cX2_copy 30 = .ok (.aload_n 0, 1) := dk_42 (dk_at dksX2_copy_1 6 rfl rfl)
theorem dX2_copy_31 : decode cX2_copy 31 = .ok (.getfield 11, 3) := dk_180 0 11 (dk_at dksX2_copy_1 7 rfl rfl)
theorem dX2_copy_34 : decode cX2_copy 34 = .ok (.iload_n 2, 1) := dk_28 (dk_at dksX2_copy_1 10 rfl rfl)
theorem dX2_copy_35 : decode cX2_copy 35 = .ok (.aaload, 1) := dk_50 (dk_at dksX2_copy_1 11 rfl rfl)
theorem dX2_copy_36 : decode cX2_copy 36 = .ok (.ifnonnull 6, 3) := dk_199 0 6 (dk_at dksX2_copy_1 12 rfl rfl)
theorem dX2_copy_39 : decode cX2_copy 39 = .ok (.goto 27, 3) := dk_167 0 27 (dk_at dksX2_copy_1 15 rfl rfl)
theorem dX2_copy_42 : decode cX2_copy 42 = .ok (.aload_n 0, 1) := dk_42 (dk_at dksX2_copy_1 18 rfl rfl)
theorem dX2_copy_43 : decode cX2_copy 43 = .ok (.getfield 11, 3) := dk_180 0 11 (dk_at dksX2_copy_1 19 rfl rfl)
theorem dX2_copy_46 : decode cX2_copy 46 = .ok (.iload_n 2, 1) := dk_28 (dk_at dksX2_copy_1 22 rfl rfl)
theorem dX2_copy_47 : decode cX2_copy 47 = .ok (.aaload, 1) := dk_50 (dk_at dksX2_copy_1 23 rfl rfl)
theorem dX2_copy_48 : decode cX2_copy 48 = .ok (.invokevirtual 84, 3) := dk_182 0 84 (dk_at dksX2_copy_2 0 rfl rfl)
theorem dX2_copy_51 : decode cX2_copy 51 = .ok (.astore_n 3, 1) := dk_78 (dk_at dksX2_copy_2 3 rfl rfl)
theorem dX2_copy_52 : decode cX2_copy 52 = .ok (.aload_n 1, 1) := dk_43 (dk_at dksX2_copy_2 4 rfl rfl)
theorem dX2_copy_53 : decode cX2_copy 53 = .ok (.aload_n 3, 1) := dk_45 (dk_at dksX2_copy_2 5 rfl rfl)
theorem dX2_copy_54 : decode cX2_copy 54 = .ok (.invokevirtual 88, 3) := dk_182 0 88 (dk_at dksX2_copy_2 6 rfl rfl)
theorem dX2_copy_57 : decode cX2_copy 57 = .ok (.aload_n 1, 1) := dk_43 (dk_at dksX2_copy_2 9 rfl rfl)
theorem dX2_copy_58 : decode cX2_copy 58 = .ok (.aload_n 3, 1) := dk_45 (dk_at dksX2_copy_2 10 rfl rfl)
theorem dX2_copy_59 : decode cX2_copy 59 = .ok (.aload_n 3, 1) := dk_45 (dk_at dksX2_copy_2 11 rfl rfl)
theorem dX2_copy_60 : decode cX2_copy 60 = .ok (.getfield 92, 3) := dk_180 0 92 (dk_at dksX2_copy_2 12 rfl rfl)
theorem dX2_copy_63 : decode cX2_copy 63 = .ok (.invokevirtual 95, 3) := dk_182 0 95 (dk_at dksX2_copy_2 15 rfl rfl)
theorem dX2_copy_66 : decode cX2_copy 66 = .ok (.iinc 2 1, 3) := dk_132 2 1 (dk_at dksX2_copy_2 18 rfl rfl)
theorem dX2_copy_69 : decode cX2_copy 69 = .ok (.goto (-47), 3) := dk_167 255 209 (dk_at dksX2_copy_2 21 rfl rfl)
theorem dX2_copy_72 : decode cX2_copy 72 = .ok (.iconst 0, 1) := dk_3 (dk_at dksX2_copy_3 0 rfl rfl)
theorem dX2_copy_73 : decode cX2_copy 73 = .ok (.istore_n 2, 1) := dk_61 (dk_at dksX2_copy_3 1 rfl rfl)
theorem dX2_copy_74 : decode cX2_copy 74 = .ok (.iload_n 2, 1) := dk_28 (dk_at dksX2_copy_3 2 rfl rfl)
theorem dX2_copy_75 : decode cX2_copy 75 = .ok (.aload_n 0, 1) := dk_42 (dk_at dksX2_copy_3 3 rfl rfl)
theorem dX2_copy_76 : decode cX2_copy 76 = .ok (.getfield 69, 3) := dk_180 0 69 (dk_at dksX2_copy_3 4 rfl rfl)
theorem dX2_copy_79 : decode cX2_copy 79 = .ok (.if_icmp .ge 28, 3) := dk_162 0 28 (dk_at dksX2_copy_3 7 rfl rfl)
theorem dX2_copy_82 : decode cX2_copy 82 = .ok (.aload_n 0, 1) := dk_42 (dk_at dksX2_copy_3 10 rfl rfl)
theorem dX2_copy_83 : decode cX2_copy 83 = .ok (.getfield 27, 3) := dk_180 0 27 (dk_at dksX2_copy_3 11 rfl rfl)
theorem dX2_copy_86 : decode cX2_copy 86 = .ok (.iload_n 2, 1) := dk_28 (dk_at dksX2_copy_3 14 rfl rfl)
theorem dX2_copy_87 : decode cX2_copy 87 = .ok (.invokestatic 99, 3) := dk_184 0 99 (dk_at dksX2_copy_3 15 rfl rfl)
theorem dX2_copy_90 : decode cX2_copy 90 = .ok (.invokevirtual 105, 3) := dk_182 0 105 (dk_at dksX2_copy_3 18 rfl rfl)
theorem dX2_copy_93 : decode cX2_copy 93 = .ok (.ifCond .eq 8, 3) := dk_153 0 8 (dk_at dksX2_copy_3 21 rfl rfl)
theorem dX2_copy_96 : decode cX2_copy 96 = .ok (.aload_n 1, 1) := dk_43 (dk_at dksX2_copy_4 0 rfl rfl)
theorem dX2_copy_97 : decode cX2_copy 97 = .ok (.iload_n 2, 1) := dk_28 (dk_at dksX2_copy_4 1 rfl rfl)
theorem dX2_copy_98 : decode cX2_copy 98 = .ok (.invokevirtual 109, 3) := dk_182 0 109 (dk_at dksX2_copy_4 2 rfl rfl)
theorem dX2_copy_101 : decode cX2_copy 101 = .ok (.iinc 2 1, 3) := dk_132 2 1 (dk_at dksX2_copy_4 5 rfl rfl)
theorem dX2_copy_104 : decode cX2_copy 104 = .ok (.goto (-30), 3) := dk_167 255 226 (dk_at dksX2_copy_4 8 rfl rfl)
theorem dX2_copy_107 : decode cX2_copy 107 = .ok (.iconst 0, 1) := dk_3 (dk_at dksX2_copy_4 11 rfl rfl)
theorem dX2_copy_108 : decode cX2_copy 108 = .ok (.istore_n 2, 1) := dk_61 (dk_at dksX2_copy_4 12 rfl rfl)
theorem dX2_copy_109 : decode cX2_copy 109 = .ok (.iload_n 2, 1) := dk_28 (dk_at dksX2_copy_4 13 rfl rfl)
theorem dX2_copy_110 : decode cX2_copy 110 = .ok (.aload_n 0, 1) := dk_42 (dk_at dksX2_copy_4 14 rfl rfl)
theorem dX2_copy_111 : decode cX2_copy 111 = .ok (.getfield 41, 3) := dk_180 0 41 (dk_at dksX2_copy_4 15 rfl rfl)
theorem dX2_copy_114 : decode cX2_copy 114 = .ok (.invokeinterface 113 1, 5) := by decide +kernel
theorem dX2_copy_119 : decode cX2_copy 119 = .ok (.if_icmp .ge 26, 3) := dk_162 0 26 (dk_at dksX2_copy_5 0 rfl rfl)
theorem dX2_copy_122 : decode cX2_copy 122 = .ok (.aload_n 1, 1) := dk_43 (dk_at dksX2_copy_5 3 rfl rfl)
theorem dX2_copy_123 : decode cX2_copy 123 = .ok (.aload_n 0, 1) := dk_42 (dk_at dksX2_copy_5 4 rfl rfl)
theorem dX2_copy_124 : decode cX2_copy 124 = .ok (.getfield 41, 3) := dk_180 0 41 (dk_at dksX2_copy_5 5 rfl rfl)
theorem dX2_copy_127 : decode cX2_copy 127 = .ok (.iload_n 2, 1) := dk_28 (dk_at dksX2_copy_5 8 rfl rfl)
theorem dX2_copy_128 : decode cX2_copy 128 = .ok (.invokeinterface 119 2, 5) := by decide +kernel
theorem dX2_copy_133 : decode cX2_copy 133 = .ok (.checkcast 123, 3) := dk_192 0 123 (dk_at dksX2_copy_5 14 rfl rfl)
theorem dX2_copy_136 : decode cX2_copy 136 = .ok (.invokevirtual 125, 3) := dk_182 0 125 (dk_at dksX2_copy_5 17 rfl rfl)
theorem dX2_copy_139 : decode cX2_copy 139 = .ok (.iinc 2 1, 3) := dk_132 2 1 (dk_at dksX2_copy_5 20 rfl rfl)
theorem dX2_copy_142 : decode cX2_copy 142 = .ok (.goto (-33), 3) := dk_167 255 223 (dk_at dksX2_copy_6 0 rfl rfl)
theorem dX2_copy_145 : decode cX2_copy 145 = .ok (.iconst 0, 1) := dk_3 (dk_at dksX2_copy_6 3 rfl rfl)
theorem dX2_copy_146 : decode cX2_copy 146 = .ok (.istore_n 2, 1) := dk_61 (dk_at dksX2_copy_6 4 rfl rfl)
theorem dX2_copy_147 : decode cX2_copy 147 = .ok (.iload_n 2, 1) := dk_28 (dk_at dksX2_copy_6 5 rfl rfl)
theorem dX2_copy_148 : decode cX2_copy 148 = .ok (.aload_n 0, 1) := dk_42 (dk_at dksX2_copy_6 6 rfl rfl)
theorem dX2_copy_149 : decode cX2_copy 149 = .ok (.getfield 45, 3) := dk_180 0 45 (dk_at dksX2_copy_6 7 rfl rfl)
theorem dX2_copy_152 : decode cX2_copy 152 = .ok (.invokeinterface 113 1, 5) := by decide +kernel
theorem dX2_copy_157 : decode cX2_copy 157 = .ok (.if_icmp .ge 26, 3) := dk_162 0 26 (dk_at dksX2_copy_6 15 rfl rfl)
theorem dX2_copy_160 : decode cX2_copy 160 = .ok (.aload_n 1, 1) := dk_43 (dk_at dksX2_copy_6 18 rfl rfl)
theorem dX2_copy_161 : decode cX2_copy 161 = .ok (.aload_n 0, 1) := dk_42 (dk_at dksX2_copy_6 19 rfl rfl)
theorem dX2_copy_162 : decode cX2_copy 162 = .ok (.getfield 45, 3) := dk_180 0 45 (dk_at dksX2_copy_6 20 rfl rfl)
theorem dX2_copy_165 : decode cX2_copy 165 = .ok (.iload_n 2, 1) := dk_28 (dk_at dksX2_copy_6 23 rfl rfl)
theorem dX2_copy_166 : decode cX2_copy 166 = .ok (.invokeinterface 119 2, 5) := by decide +kernel
theorem dX2_copy_171 : decode cX2_copy 171 = .ok (.checkcast 129, 3) := dk_192 0 129 (dk_at dksX2_copy_7 5 rfl rfl)
theorem dX2_copy_174 : decode cX2_copy 174 = .ok (.invokevirtual 131, 3) := dk_182 0 131 (dk_at dksX2_copy_7 8 rfl rfl)
theorem dX2_copy_177 : decode cX2_copy 177 = .ok (.iinc 2 1, 3) := dk_132 2 1 (dk_at dksX2_copy_7 11 rfl rfl)
theorem dX2_copy_180 : decode cX2_copy 180 = .ok (.goto (-33), 3) := dk_167 255 223 (dk_at dksX2_copy_7 14 rfl rfl)
theorem dX2_copy_183 : decode cX2_copy 183 = .ok (.aload_n 0, 1) := dk_42 (dk_at dksX2_copy_7 17 rfl rfl)
theorem dX2_copy_184 : decode cX2_copy 184 = .ok (.getfield 48, 3) := dk_180 0 48 (dk_at dksX2_copy_7 18 rfl rfl)
theorem dX2_copy_187 : decode cX2_copy 187 = .ok (.iconst 0, 1) := dk_3 (dk_at dksX2_copy_7 21 rfl rfl)
theorem dX2_copy_188 : decode cX2_copy 188 = .ok (.aload_n 1, 1) := dk_43 (dk_at dksX2_copy_7 22 rfl rfl)
theorem dX2_copy_189 : decode cX2_copy 189 = .ok (.getfield 48, 3) := dk_180 0 48 (dk_at dksX2_copy_8 0 rfl rfl)
theorem dX2_copy_192 : decode cX2_copy 192 = .ok (.iconst 0, 1) := dk_3 (dk_at dksX2_copy_8 3 rfl rfl)
theorem dX2_copy_193 : decode cX2_copy 193 = .ok (.bipush 13, 2) := dk_16 13 (dk_at dksX2_copy_8 4 rfl rfl)
theorem dX2_copy_195 : decode cX2_copy 195 = .ok (.invokestatic 135, 3) := dk_184 0 135 (dk_at dksX2_copy_8 6 rfl rfl)
theorem dX2_copy_198 : decode cX2_copy 198 = .ok (.aload_n 1, 1) := dk_43 (dk_at dksX2_copy_8 9 rfl rfl)
theorem dX2_copy_199 : decode cX2_copy 199 = .ok (.aload_n 0, 1) := dk_42 (dk_at dksX2_copy_8 10 rfl rfl)
theorem dX2_copy_200 : decode cX2_copy 200 = .ok (.getfield 81, 3) := dk_180 0 81 (dk_at dksX2_copy_8 11 rfl rfl)
theorem dX2_copy_203 : decode cX2_copy 203 = .ok (.putfield 81, 3) := dk_181 0 81 (dk_at dksX2_copy_8 14 rfl rfl)
theorem dX2_copy_206 : decode cX2_copy 206 = .ok (.aload_n 1, 1) := dk_43 (dk_at dksX2_copy_8 17 rfl rfl)
theorem dX2_copy_207 : decode cX2_copy 207 = .ok (.aload_n 0, 1) := dk_42 (dk_at dksX2_copy_8 18 rfl rfl)
theorem dX2_copy_208 : decode cX2_copy 208 = .ok (.getfield 141, 3) := dk_180 0 141 (dk_at dksX2_copy_8 19 rfl rfl)
theorem dX2_copy_211 : decode cX2_copy 211 = .ok (.putfield 141, 3) := dk_181 0 141 (dk_at dksX2_copy_9 0 rfl rfl)
theorem dX2_copy_214 : decode cX2_copy 214 = .ok (.aload_n 1, 1) := dk_43 (dk_at dksX2_copy_9 3 rfl rfl)
theorem dX2_copy_215 : decode cX2_copy 215 = .ok (.aload_n 0, 1) := dk_42 (dk_at dksX2_copy_9 4 rfl rfl)
theorem dX2_copy_216 : decode cX2_copy 216 = .ok (.getfield 59, 3) := dk_180 0 59 (dk_at dksX2_copy_9 5 rfl rfl)
theorem dX2_copy_219 : decode cX2_copy 219 = .ok (.putfield 59, 3) := dk_181 0 59 (dk_at dksX2_copy_9 8 rfl rfl)
theorem dX2_copy_222 : decode cX2_copy 222 = .ok (.aload_n 1, 1) := dk_43 (dk_at dksX2_copy_9 11 rfl rfl)
theorem dX2_copy_223 : decode cX2_copy 223 = .ok (.aload_n 0, 1) := dk_42 (dk_at dksX2_copy_9 12 rfl rfl)
theorem dX2_copy_224 : decode cX2_copy 224 = .ok (.getfield 144, 3) := dk_180 0 144 (dk_at dksX2_copy_9 13 rfl rfl)
theorem dX2_copy_227 : decode cX2_copy 227 = .ok (.putfield 144, 3) := dk_181 0 144 (dk_at dksX2_copy_9 16 rfl rfl)
theorem dX2_copy_230 : decode cX2_copy 230 = .ok (.aload_n 1, 1) := dk_43 (dk_at dksX2_copy_9 19 rfl rfl)
theorem dX2_copy_231 : decode cX2_copy 231 = .ok (.aload_n 0, 1) := dk_42 (dk_at dksX2_copy_9 20 rfl rfl)
theorem dX2_copy_232 : decode cX2_copy 232 = .ok (.getfield 75, 3) := dk_180 0 75 (dk_at dksX2_copy_9 21 rfl rfl)
theorem dX2_copy_235 : decode cX2_copy 235 = .ok (.putfield 75, 3) := dk_181 0 75 (dk_at dksX2_copy_10 0 rfl rfl)
theorem dX2_copy_238 : decode cX2_copy 238 = .ok (.aload_n 1, 1) := dk_43 (dk_at dksX2_copy_10 3 rfl rfl)
theorem dX2_copy_239 : decode cX2_copy 239 = .ok (.areturn, 1) := dk_176 (dk_at dksX2_copy_10 4 rfl rfl)
abbrev cX2_blocked : ByteArray := prog_3_method_53_code
def yX2_blocked : MethodName := ⟨RX2, "blocked", "()I"⟩
def dkwX2_blocked_3 : List UInt8 := [21, 4, 96, 60, 132, 3, 1, 167, 255, 192, 132, 2, 1, 167, 255, 176, 27, 172]
abbrev dktX2_blocked_3 : List UInt8 := dkwX2_blocked_3 ++ []
def dkwX2_blocked_2 : List UInt8 := [42, 29, 182, 1, 101, 104, 54, 4, 21, 4, 158, 0, 17, 42, 28, 29, 182, 1, 16, 153, 0, 8, 27]
abbrev dktX2_blocked_2 : List UInt8 := dkwX2_blocked_2 ++ dktX2_blocked_3
def dkwX2_blocked_1 : List UInt8 := [160, 0, 19, 42, 28, 182, 1, 101, 42, 28, 182, 1, 101, 4, 100, 104, 167, 0, 14, 42, 28, 182, 1, 101]
abbrev dktX2_blocked_1 : List UInt8 := dkwX2_blocked_1 ++ dktX2_blocked_2
def dkwX2_blocked_0 : List UInt8 := [3, 60, 3, 61, 28, 42, 180, 0, 63, 162, 0, 78, 3, 62, 29, 42, 180, 0, 63, 162, 0, 62, 28, 29]
abbrev dktX2_blocked_0 : List UInt8 := dkwX2_blocked_0 ++ dktX2_blocked_1
theorem dksX2_blocked_0 : cX2_blocked.data.toList.drop 0 = dktX2_blocked_0 := by decide +kernel
theorem dksX2_blocked_1 : cX2_blocked.data.toList.drop 24 = dktX2_blocked_1 := dk_seg dksX2_blocked_0 24 rfl rfl
theorem dksX2_blocked_2 : cX2_blocked.data.toList.drop 48 = dktX2_blocked_2 := dk_seg dksX2_blocked_1 24 rfl rfl
theorem dksX2_blocked_3 : cX2_blocked.data.toList.drop 71 = dktX2_blocked_3 := dk_seg dksX2_blocked_2 23 rfl rfl
theorem dX2_blocked_0 : decode cX2_blocked 0 = .ok (.iconst 0, 1) := dk_3 (dk_at dksX2_blocked_0 0 rfl rfl)
theorem dX2_blocked_1 : decode cX2_blocked 1 = .ok (.istore_n 1, 1) := dk_60 (dk_at dksX2_blocked_0 1 rfl rfl)
theorem dX2_blocked_2 : decode cX2_blocked 2 = .ok (.iconst 0, 1) := dk_3 (dk_at dksX2_blocked_0 2 rfl rfl)
theorem dX2_blocked_3 : decode cX2_blocked 3 = .ok (.istore_n 2, 1) := dk_61 (dk_at dksX2_blocked_0 3 rfl rfl)
theorem dX2_blocked_4 : decode cX2_blocked 4 = .ok (.iload_n 2, 1) := dk_28 (dk_at dksX2_blocked_0 4 rfl rfl)
theorem dX2_blocked_5 : decode cX2_blocked 5 = .ok (.aload_n 0, 1) := dk_42 (dk_at dksX2_blocked_0 5 rfl rfl)
theorem dX2_blocked_6 : decode cX2_blocked 6 = .ok (.getfield 63, 3) := dk_180 0 63 (dk_at dksX2_blocked_0 6 rfl rfl)
theorem dX2_blocked_9 : decode cX2_blocked 9 = .ok (.if_icmp .ge 78, 3) := dk_162 0 78 (dk_at dksX2_blocked_0 9 rfl rfl)
theorem dX2_blocked_12 : decode cX2_blocked 12 = .ok (.iconst 0, 1) := dk_3 (dk_at dksX2_blocked_0 12 rfl rfl)
theorem dX2_blocked_13 : decode cX2_blocked 13 = .ok (.istore_n 3, 1) := dk_62 (dk_at dksX2_blocked_0 13 rfl rfl)
theorem dX2_blocked_14 : decode cX2_blocked 14 = .ok (.iload_n 3, 1) := dk_29 (dk_at dksX2_blocked_0 14 rfl rfl)
theorem dX2_blocked_15 : decode cX2_blocked 15 = .ok (.aload_n 0, 1) := dk_42 (dk_at dksX2_blocked_0 15 rfl rfl)
theorem dX2_blocked_16 : decode cX2_blocked 16 = .ok (.getfield 63, 3) := dk_180 0 63 (dk_at dksX2_blocked_0 16 rfl rfl)
theorem dX2_blocked_19 : decode cX2_blocked 19 = .ok (.if_icmp .ge 62, 3) := dk_162 0 62 (dk_at dksX2_blocked_0 19 rfl rfl)
theorem dX2_blocked_22 : decode cX2_blocked 22 = .ok (.iload_n 2, 1) := dk_28 (dk_at dksX2_blocked_0 22 rfl rfl)
theorem dX2_blocked_23 : decode cX2_blocked 23 = .ok (.iload_n 3, 1) := dk_29 (dk_at dksX2_blocked_0 23 rfl rfl)
theorem dX2_blocked_24 : decode cX2_blocked 24 = .ok (.if_icmp .ne 19, 3) := dk_160 0 19 (dk_at dksX2_blocked_1 0 rfl rfl)
theorem dX2_blocked_27 : decode cX2_blocked 27 = .ok (.aload_n 0, 1) := dk_42 (dk_at dksX2_blocked_1 3 rfl rfl)
theorem dX2_blocked_28 : decode cX2_blocked 28 = .ok (.iload_n 2, 1) := dk_28 (dk_at dksX2_blocked_1 4 rfl rfl)
theorem dX2_blocked_29 : decode cX2_blocked 29 = .ok (.invokevirtual 357, 3) := dk_182 1 101 (dk_at dksX2_blocked_1 5 rfl rfl)
theorem dX2_blocked_32 : decode cX2_blocked 32 = .ok (.aload_n 0, 1) := dk_42 (dk_at dksX2_blocked_1 8 rfl rfl)
theorem dX2_blocked_33 : decode cX2_blocked 33 = .ok (.iload_n 2, 1) := dk_28 (dk_at dksX2_blocked_1 9 rfl rfl)
theorem dX2_blocked_34 : decode cX2_blocked 34 = .ok (.invokevirtual 357, 3) := dk_182 1 101 (dk_at dksX2_blocked_1 10 rfl rfl)
theorem dX2_blocked_37 : decode cX2_blocked 37 = .ok (.iconst 1, 1) := dk_4 (dk_at dksX2_blocked_1 13 rfl rfl)
theorem dX2_blocked_38 : decode cX2_blocked 38 = .ok (.isub, 1) := dk_100 (dk_at dksX2_blocked_1 14 rfl rfl)
theorem dX2_blocked_39 : decode cX2_blocked 39 = .ok (.imul, 1) := dk_104 (dk_at dksX2_blocked_1 15 rfl rfl)
theorem dX2_blocked_40 : decode cX2_blocked 40 = .ok (.goto 14, 3) := dk_167 0 14 (dk_at dksX2_blocked_1 16 rfl rfl)
theorem dX2_blocked_43 : decode cX2_blocked 43 = .ok (.aload_n 0, 1) := dk_42 (dk_at dksX2_blocked_1 19 rfl rfl)
theorem dX2_blocked_44 : decode cX2_blocked 44 = .ok (.iload_n 2, 1) := dk_28 (dk_at dksX2_blocked_1 20 rfl rfl)
theorem dX2_blocked_45 : decode cX2_blocked 45 = .ok (.invokevirtual 357, 3) := dk_182 1 101 (dk_at dksX2_blocked_1 21 rfl rfl)
theorem dX2_blocked_48 : decode cX2_blocked 48 = .ok (.aload_n 0, 1) := dk_42 (dk_at dksX2_blocked_2 0 rfl rfl)
theorem dX2_blocked_49 : decode cX2_blocked 49 = .ok (.iload_n 3, 1) := dk_29 (dk_at dksX2_blocked_2 1 rfl rfl)
theorem dX2_blocked_50 : decode cX2_blocked 50 = .ok (.invokevirtual 357, 3) := dk_182 1 101 (dk_at dksX2_blocked_2 2 rfl rfl)
theorem dX2_blocked_53 : decode cX2_blocked 53 = .ok (.imul, 1) := dk_104 (dk_at dksX2_blocked_2 5 rfl rfl)
theorem dX2_blocked_54 : decode cX2_blocked 54 = .ok (.istore 4, 2) := dk_54 4 (dk_at dksX2_blocked_2 6 rfl rfl)
theorem dX2_blocked_56 : decode cX2_blocked 56 = .ok (.iload 4, 2) := dk_21 4 (dk_at dksX2_blocked_2 8 rfl rfl)
theorem dX2_blocked_58 : decode cX2_blocked 58 = .ok (.ifCond .le 17, 3) := dk_158 0 17 (dk_at dksX2_blocked_2 10 rfl rfl)
theorem dX2_blocked_61 : decode cX2_blocked 61 = .ok (.aload_n 0, 1) := dk_42 (dk_at dksX2_blocked_2 13 rfl rfl)
theorem dX2_blocked_62 : decode cX2_blocked 62 = .ok (.iload_n 2, 1) := dk_28 (dk_at dksX2_blocked_2 14 rfl rfl)
theorem dX2_blocked_63 : decode cX2_blocked 63 = .ok (.iload_n 3, 1) := dk_29 (dk_at dksX2_blocked_2 15 rfl rfl)
theorem dX2_blocked_64 : decode cX2_blocked 64 = .ok (.invokevirtual 272, 3) := dk_182 1 16 (dk_at dksX2_blocked_2 16 rfl rfl)
theorem dX2_blocked_67 : decode cX2_blocked 67 = .ok (.ifCond .eq 8, 3) := dk_153 0 8 (dk_at dksX2_blocked_2 19 rfl rfl)
theorem dX2_blocked_70 : decode cX2_blocked 70 = .ok (.iload_n 1, 1) := dk_27 (dk_at dksX2_blocked_2 22 rfl rfl)
theorem dX2_blocked_71 : decode cX2_blocked 71 = .ok (.iload 4, 2) := dk_21 4 (dk_at dksX2_blocked_3 0 rfl rfl)
theorem dX2_blocked_73 : decode cX2_blocked 73 = .ok (.iadd, 1) := dk_96 (dk_at dksX2_blocked_3 2 rfl rfl)
theorem dX2_blocked_74 : decode cX2_blocked 74 = .ok (.istore_n 1, 1) := dk_60 (dk_at dksX2_blocked_3 3 rfl rfl)
theorem dX2_blocked_75 : decode cX2_blocked 75 = .ok (.iinc 3 1, 3) := dk_132 3 1 (dk_at dksX2_blocked_3 4 rfl rfl)
theorem dX2_blocked_78 : decode cX2_blocked 78 = .ok (.goto (-64), 3) := dk_167 255 192 (dk_at dksX2_blocked_3 7 rfl rfl)
theorem dX2_blocked_81 : decode cX2_blocked 81 = .ok (.iinc 2 1, 3) := dk_132 2 1 (dk_at dksX2_blocked_3 10 rfl rfl)
theorem dX2_blocked_84 : decode cX2_blocked 84 = .ok (.goto (-80), 3) := dk_167 255 176 (dk_at dksX2_blocked_3 13 rfl rfl)
theorem dX2_blocked_87 : decode cX2_blocked 87 = .ok (.iload_n 1, 1) := dk_27 (dk_at dksX2_blocked_3 16 rfl rfl)
theorem dX2_blocked_88 : decode cX2_blocked 88 = .ok (.ireturn, 1) := dk_172 (dk_at dksX2_blocked_3 17 rfl rfl)
abbrev cX2_idleAt : ByteArray := prog_3_method_52_code
def yX2_idleAt : MethodName := ⟨RX2, "idleAt", "(I)I"⟩
def dkwX2_idleAt_1 : List UInt8 := [42, 29, 182, 1, 13, 153, 0, 6, 132, 2, 1, 132, 3, 1, 167, 255, 227, 28, 172]
abbrev dktX2_idleAt_1 : List UInt8 := dkwX2_idleAt_1 ++ []
def dkwX2_idleAt_0 : List UInt8 := [3, 61, 27, 42, 180, 0, 66, 104, 62, 29, 27, 42, 180, 0, 66, 104, 42, 180, 0, 66, 96, 162, 0, 20]
abbrev dktX2_idleAt_0 : List UInt8 := dkwX2_idleAt_0 ++ dktX2_idleAt_1
theorem dksX2_idleAt_0 : cX2_idleAt.data.toList.drop 0 = dktX2_idleAt_0 := by decide +kernel
theorem dksX2_idleAt_1 : cX2_idleAt.data.toList.drop 24 = dktX2_idleAt_1 := dk_seg dksX2_idleAt_0 24 rfl rfl
theorem dX2_idleAt_0 : decode cX2_idleAt 0 = .ok (.iconst 0, 1) := dk_3 (dk_at dksX2_idleAt_0 0 rfl rfl)
theorem dX2_idleAt_1 : decode cX2_idleAt 1 = .ok (.istore_n 2, 1) := dk_61 (dk_at dksX2_idleAt_0 1 rfl rfl)
theorem dX2_idleAt_2 : decode cX2_idleAt 2 = .ok (.iload_n 1, 1) := dk_27 (dk_at dksX2_idleAt_0 2 rfl rfl)
theorem dX2_idleAt_3 : decode cX2_idleAt 3 = .ok (.aload_n 0, 1) := dk_42 (dk_at dksX2_idleAt_0 3 rfl rfl)
theorem dX2_idleAt_4 : decode cX2_idleAt 4 = .ok (.getfield 66, 3) := dk_180 0 66 (dk_at dksX2_idleAt_0 4 rfl rfl)
theorem dX2_idleAt_7 : decode cX2_idleAt 7 = .ok (.imul, 1) := dk_104 (dk_at dksX2_idleAt_0 7 rfl rfl)
theorem dX2_idleAt_8 : decode cX2_idleAt 8 = .ok (.istore_n 3, 1) := dk_62 (dk_at dksX2_idleAt_0 8 rfl rfl)
theorem dX2_idleAt_9 : decode cX2_idleAt 9 = .ok (.iload_n 3, 1) := dk_29 (dk_at dksX2_idleAt_0 9 rfl rfl)
theorem dX2_idleAt_10 : decode cX2_idleAt 10 = .ok (.iload_n 1, 1) := dk_27 (dk_at dksX2_idleAt_0 10 rfl rfl)
theorem dX2_idleAt_11 : decode cX2_idleAt 11 = .ok (.aload_n 0, 1) := dk_42 (dk_at dksX2_idleAt_0 11 rfl rfl)
theorem dX2_idleAt_12 : decode cX2_idleAt 12 = .ok (.getfield 66, 3) := dk_180 0 66 (dk_at dksX2_idleAt_0 12 rfl rfl)
theorem dX2_idleAt_15 : decode cX2_idleAt 15 = .ok (.imul, 1) := dk_104 (dk_at dksX2_idleAt_0 15 rfl rfl)
theorem dX2_idleAt_16 : decode cX2_idleAt 16 = .ok (.aload_n 0, 1) := dk_42 (dk_at dksX2_idleAt_0 16 rfl rfl)
theorem dX2_idleAt_17 : decode cX2_idleAt 17 = .ok (.getfield 66, 3) := dk_180 0 66 (dk_at dksX2_idleAt_0 17 rfl rfl)
theorem dX2_idleAt_20 : decode cX2_idleAt 20 = .ok (.iadd, 1) := dk_96 (dk_at dksX2_idleAt_0 20 rfl rfl)
theorem dX2_idleAt_21 : decode cX2_idleAt 21 = .ok (.if_icmp .ge 20, 3) := dk_162 0 20 (dk_at dksX2_idleAt_0 21 rfl rfl)
theorem dX2_idleAt_24 : decode cX2_idleAt 24 = .ok (.aload_n 0, 1) := dk_42 (dk_at dksX2_idleAt_1 0 rfl rfl)
theorem dX2_idleAt_25 : decode cX2_idleAt 25 = .ok (.iload_n 3, 1) := dk_29 (dk_at dksX2_idleAt_1 1 rfl rfl)
theorem dX2_idleAt_26 : decode cX2_idleAt 26 = .ok (.invokevirtual 269, 3) := dk_182 1 13 (dk_at dksX2_idleAt_1 2 rfl rfl)
theorem dX2_idleAt_29 : decode cX2_idleAt 29 = .ok (.ifCond .eq 6, 3) := dk_153 0 6 (dk_at dksX2_idleAt_1 5 rfl rfl)
theorem dX2_idleAt_32 : decode cX2_idleAt 32 = .ok (.iinc 2 1, 3) := dk_132 2 1 (dk_at dksX2_idleAt_1 8 rfl rfl)
theorem dX2_idleAt_35 : decode cX2_idleAt 35 = .ok (.iinc 3 1, 3) := dk_132 3 1 (dk_at dksX2_idleAt_1 11 rfl rfl)
theorem dX2_idleAt_38 : decode cX2_idleAt 38 = .ok (.goto (-29), 3) := dk_167 255 227 (dk_at dksX2_idleAt_1 14 rfl rfl)
theorem dX2_idleAt_41 : decode cX2_idleAt 41 = .ok (.iload_n 2, 1) := dk_28 (dk_at dksX2_idleAt_1 17 rfl rfl)
theorem dX2_idleAt_42 : decode cX2_idleAt 42 = .ok (.ireturn, 1) := dk_172 (dk_at dksX2_idleAt_1 18 rfl rfl)
abbrev cX2_chainFor : ByteArray := prog_3_method_29_code
def yX2_chainFor : MethodName := ⟨RX2, "chainFor", "(II)LCrossbarExchange$Path;"⟩
def dkwX2_chainFor_1 : List UInt8 := [182, 0, 236, 182, 0, 232, 176]
abbrev dktX2_chainFor_1 : List UInt8 := dkwX2_chainFor_1 ++ []
def dkwX2_chainFor_0 : List UInt8 := [42, 27, 28, 42, 182, 0, 236, 3, 182, 0, 226, 2, 159, 0, 7, 1, 167, 0, 13, 42, 27, 28, 42]
abbrev dktX2_chainFor_0 : List UInt8 := dkwX2_chainFor_0 ++ dktX2_chainFor_1
theorem dksX2_chainFor_0 : cX2_chainFor.data.toList.drop 0 = dktX2_chainFor_0 := by decide +kernel
theorem dksX2_chainFor_1 : cX2_chainFor.data.toList.drop 23 = dktX2_chainFor_1 := dk_seg dksX2_chainFor_0 23 rfl rfl
theorem dX2_chainFor_0 : decode cX2_chainFor 0 = .ok (.aload_n 0, 1) := dk_42 (dk_at dksX2_chainFor_0 0 rfl rfl)
theorem dX2_chainFor_1 : decode cX2_chainFor 1 = .ok (.iload_n 1, 1) := dk_27 (dk_at dksX2_chainFor_0 1 rfl rfl)
theorem dX2_chainFor_2 : decode cX2_chainFor 2 = .ok (.iload_n 2, 1) := dk_28 (dk_at dksX2_chainFor_0 2 rfl rfl)
theorem dX2_chainFor_3 : decode cX2_chainFor 3 = .ok (.aload_n 0, 1) := dk_42 (dk_at dksX2_chainFor_0 3 rfl rfl)
theorem dX2_chainFor_4 : decode cX2_chainFor 4 = .ok (.invokevirtual 236, 3) := dk_182 0 236 (dk_at dksX2_chainFor_0 4 rfl rfl)
theorem dX2_chainFor_7 : decode cX2_chainFor 7 = .ok (.iconst 0, 1) := dk_3 (dk_at dksX2_chainFor_0 7 rfl rfl)
theorem dX2_chainFor_8 : decode cX2_chainFor 8 = .ok (.invokevirtual 226, 3) := dk_182 0 226 (dk_at dksX2_chainFor_0 8 rfl rfl)
theorem dX2_chainFor_11 : decode cX2_chainFor 11 = .ok (.iconst (-1), 1) := dk_2 (dk_at dksX2_chainFor_0 11 rfl rfl)
theorem dX2_chainFor_12 : decode cX2_chainFor 12 = .ok (.if_icmp .eq 7, 3) := dk_159 0 7 (dk_at dksX2_chainFor_0 12 rfl rfl)
theorem dX2_chainFor_15 : decode cX2_chainFor 15 = .ok (.aconst_null, 1) := dk_1 (dk_at dksX2_chainFor_0 15 rfl rfl)
theorem dX2_chainFor_16 : decode cX2_chainFor 16 = .ok (.goto 13, 3) := dk_167 0 13 (dk_at dksX2_chainFor_0 16 rfl rfl)
theorem dX2_chainFor_19 : decode cX2_chainFor 19 = .ok (.aload_n 0, 1) := dk_42 (dk_at dksX2_chainFor_0 19 rfl rfl)
theorem dX2_chainFor_20 : decode cX2_chainFor 20 = .ok (.iload_n 1, 1) := dk_27 (dk_at dksX2_chainFor_0 20 rfl rfl)
theorem dX2_chainFor_21 : decode cX2_chainFor 21 = .ok (.iload_n 2, 1) := dk_28 (dk_at dksX2_chainFor_0 21 rfl rfl)
theorem dX2_chainFor_22 : decode cX2_chainFor 22 = .ok (.aload_n 0, 1) := dk_42 (dk_at dksX2_chainFor_0 22 rfl rfl)
theorem dX2_chainFor_23 : decode cX2_chainFor 23 = .ok (.invokevirtual 236, 3) := dk_182 0 236 (dk_at dksX2_chainFor_1 0 rfl rfl)
theorem dX2_chainFor_26 : decode cX2_chainFor 26 = .ok (.invokevirtual 232, 3) := dk_182 0 232 (dk_at dksX2_chainFor_1 3 rfl rfl)
theorem dX2_chainFor_29 : decode cX2_chainFor 29 = .ok (.areturn, 1) := dk_176 (dk_at dksX2_chainFor_1 6 rfl rfl)
abbrev cX2_greatestUsed : ByteArray := prog_3_method_51_code
def yX2_greatestUsed : MethodName := ⟨RX2, "greatestUsed", "()I"⟩
def dkwX2_greatestUsed_1 : List UInt8 := [132, 2, 1, 167, 255, 235, 27, 172]
abbrev dktX2_greatestUsed_1 : List UInt8 := dkwX2_greatestUsed_1 ++ []
def dkwX2_greatestUsed_0 : List UInt8 := [2, 60, 3, 61, 28, 42, 180, 0, 69, 162, 0, 19, 42, 28, 182, 0, 211, 158, 0, 5, 28, 60]
abbrev dktX2_greatestUsed_0 : List UInt8 := dkwX2_greatestUsed_0 ++ dktX2_greatestUsed_1
theorem dksX2_greatestUsed_0 : cX2_greatestUsed.data.toList.drop 0 = dktX2_greatestUsed_0 := by decide +kernel
theorem dksX2_greatestUsed_1 : cX2_greatestUsed.data.toList.drop 22 = dktX2_greatestUsed_1 := dk_seg dksX2_greatestUsed_0 22 rfl rfl
theorem dX2_greatestUsed_0 : decode cX2_greatestUsed 0 = .ok (.iconst (-1), 1) := dk_2 (dk_at dksX2_greatestUsed_0 0 rfl rfl)
theorem dX2_greatestUsed_1 : decode cX2_greatestUsed 1 = .ok (.istore_n 1, 1) := dk_60 (dk_at dksX2_greatestUsed_0 1 rfl rfl)
theorem dX2_greatestUsed_2 : decode cX2_greatestUsed 2 = .ok (.iconst 0, 1) := dk_3 (dk_at dksX2_greatestUsed_0 2 rfl rfl)
theorem dX2_greatestUsed_3 : decode cX2_greatestUsed 3 = .ok (.istore_n 2, 1) := dk_61 (dk_at dksX2_greatestUsed_0 3 rfl rfl)
theorem dX2_greatestUsed_4 : decode cX2_greatestUsed 4 = .ok (.iload_n 2, 1) := dk_28 (dk_at dksX2_greatestUsed_0 4 rfl rfl)
theorem dX2_greatestUsed_5 : decode cX2_greatestUsed 5 = .ok (.aload_n 0, 1) := dk_42 (dk_at dksX2_greatestUsed_0 5 rfl rfl)
theorem dX2_greatestUsed_6 : decode cX2_greatestUsed 6 = .ok (.getfield 69, 3) := dk_180 0 69 (dk_at dksX2_greatestUsed_0 6 rfl rfl)
theorem dX2_greatestUsed_9 : decode cX2_greatestUsed 9 = .ok (.if_icmp .ge 19, 3) := dk_162 0 19 (dk_at dksX2_greatestUsed_0 9 rfl rfl)
theorem dX2_greatestUsed_12 : decode cX2_greatestUsed 12 = .ok (.aload_n 0, 1) := dk_42 (dk_at dksX2_greatestUsed_0 12 rfl rfl)
theorem dX2_greatestUsed_13 : decode cX2_greatestUsed 13 = .ok (.iload_n 2, 1) := dk_28 (dk_at dksX2_greatestUsed_0 13 rfl rfl)
theorem dX2_greatestUsed_14 : decode cX2_greatestUsed 14 = .ok (.invokevirtual 211, 3) := dk_182 0 211 (dk_at dksX2_greatestUsed_0 14 rfl rfl)
theorem dX2_greatestUsed_17 : decode cX2_greatestUsed 17 = .ok (.ifCond .le 5, 3) := dk_158 0 5 (dk_at dksX2_greatestUsed_0 17 rfl rfl)
theorem dX2_greatestUsed_20 : decode cX2_greatestUsed 20 = .ok (.iload_n 2, 1) := dk_28 (dk_at dksX2_greatestUsed_0 20 rfl rfl)
theorem dX2_greatestUsed_21 : decode cX2_greatestUsed 21 = .ok (.istore_n 1, 1) := dk_60 (dk_at dksX2_greatestUsed_0 21 rfl rfl)
theorem dX2_greatestUsed_22 : decode cX2_greatestUsed 22 = .ok (.iinc 2 1, 3) := dk_132 2 1 (dk_at dksX2_greatestUsed_1 0 rfl rfl)
theorem dX2_greatestUsed_25 : decode cX2_greatestUsed 25 = .ok (.goto (-21), 3) := dk_167 255 235 (dk_at dksX2_greatestUsed_1 3 rfl rfl)
theorem dX2_greatestUsed_28 : decode cX2_greatestUsed 28 = .ok (.iload_n 1, 1) := dk_27 (dk_at dksX2_greatestUsed_1 6 rfl rfl)
theorem dX2_greatestUsed_29 : decode cX2_greatestUsed 29 = .ok (.ireturn, 1) := dk_172 (dk_at dksX2_greatestUsed_1 7 rfl rfl)
theorem q153 : (Jvm.Cond.initialized "CrossbarExchange$Exchange") ∈ lw_all := lw_g (lw_at lw_m1 2 rfl) rfl
theorem q213 : (Jvm.Cond.instantiable "CrossbarExchange$Exchange" (17 : Nat)) ∈ lw_all := lw_g (lw_at lw_m1 62 rfl) rfl
theorem q215 : (Jvm.Cond.instanceMethod ({ cls := "CrossbarExchange$Exchange", name := "<init>", desc := "(III)V" } : Jvm.MethodName)) ∈ lw_all := lw_g (lw_at lw_m1 64 rfl) rfl
theorem q216 : (Jvm.Cond.code ({ cls := "CrossbarExchange$Exchange", name := "<init>", desc := "(III)V" } : Jvm.MethodName) prog_3_method_1_code (4 : Nat) (Option.none : Option Jvm.ClassFile.FieldType)) ∈ lw_all := lw_g (lw_at lw_m1 65 rfl) rfl
theorem q217 : (Jvm.Cond.methodLink "CrossbarExchange$Exchange" (3 : Nat) ({ cls := "java/lang/Object", name := "<init>", desc := "()V" } : Jvm.MethodName)) ∈ lw_all := lw_g (lw_at lw_m1 66 rfl) rfl
theorem q218 : (Jvm.Cond.classLink "CrossbarExchange$Exchange" (9 : Nat) "CrossbarExchange$Call") ∈ lw_all := lw_g (lw_at lw_m1 67 rfl) rfl
theorem q220 : (Jvm.Cond.classLink "CrossbarExchange$Exchange" (17 : Nat) "java/util/HashMap") ∈ lw_all := lw_g (lw_at lw_m1 69 rfl) rfl
theorem q222 : (Jvm.Cond.methodLink "CrossbarExchange$Exchange" (19 : Nat) ({ cls := "java/util/HashMap", name := "<init>", desc := "()V" } : Jvm.MethodName)) ∈ lw_all := lw_g (lw_at lw_m1 71 rfl) rfl
theorem q255 : (Jvm.Cond.classLink "CrossbarExchange$Exchange" (24 : Nat) "java/util/HashSet") ∈ lw_all := lw_g (lw_at lw_m1 104 rfl) rfl
theorem q257 : (Jvm.Cond.methodLink "CrossbarExchange$Exchange" (26 : Nat) ({ cls := "java/util/HashSet", name := "<init>", desc := "()V" } : Jvm.MethodName)) ∈ lw_all := lw_g (lw_at lw_m1 106 rfl) rfl
theorem q273 : (Jvm.Cond.classLink "CrossbarExchange$Exchange" (31 : Nat) "java/util/LinkedHashMap") ∈ lw_all := lw_g (lw_at lw_m1 122 rfl) rfl
theorem q275 : (Jvm.Cond.methodLink "CrossbarExchange$Exchange" (33 : Nat) ({ cls := "java/util/LinkedHashMap", name := "<init>", desc := "()V" } : Jvm.MethodName)) ∈ lw_all := lw_g (lw_at lw_m1 124 rfl) rfl
theorem q300 : (Jvm.Cond.classLink "CrossbarExchange$Exchange" (38 : Nat) "java/util/ArrayList") ∈ lw_all := lw_g (lw_at lw_m1 149 rfl) rfl
theorem q302 : (Jvm.Cond.methodLink "CrossbarExchange$Exchange" (40 : Nat) ({ cls := "java/util/ArrayList", name := "<init>", desc := "()V" } : Jvm.MethodName)) ∈ lw_all := lw_g (lw_at lw_m1 151 rfl) rfl
theorem q323 : (Jvm.Cond.classLink "CrossbarExchange$Exchange" (52 : Nat) "CrossbarExchange$Spot") ∈ lw_all := lw_g (lw_at lw_m1 172 rfl) rfl
theorem q325 : (Jvm.Cond.methodLinkNest "CrossbarExchange$Exchange" (54 : Nat) ({ cls := "CrossbarExchange$Spot", name := "<init>", desc := "()V" } : Jvm.MethodName) "CrossbarExchange") ∈ lw_tbl := lw_at lw_m1 174 rfl
theorem q340 : (Jvm.Cond.fieldLink "CrossbarExchange$Exchange" (63 : Nat) "CrossbarExchange$Exchange" "switches" "I") ∈ lw_all := lw_g (lw_at lw_m1 189 rfl) rfl
theorem q342 : (Jvm.Cond.fieldLink "CrossbarExchange$Exchange" (66 : Nat) "CrossbarExchange$Exchange" "lines" "I") ∈ lw_all := lw_g (lw_at lw_m1 191 rfl) rfl
theorem q344 : (Jvm.Cond.fieldLink "CrossbarExchange$Exchange" (69 : Nat) "CrossbarExchange$Exchange" "middles" "I") ∈ lw_all := lw_g (lw_at lw_m1 193 rfl) rfl
theorem q347 : (Jvm.Cond.fieldLink "CrossbarExchange$Exchange" (11 : Nat) "CrossbarExchange$Exchange" "calls" "[LCrossbarExchange$Call;") ∈ lw_all := lw_g (lw_at lw_m1 196 rfl) rfl
theorem q349 : (Jvm.Cond.fieldLink "CrossbarExchange$Exchange" (72 : Nat) "CrossbarExchange$Exchange" "talks" "[LCrossbarExchange$Call;") ∈ lw_all := lw_g (lw_at lw_m1 198 rfl) rfl
theorem q351 : (Jvm.Cond.fieldLink "CrossbarExchange$Exchange" (20 : Nat) "CrossbarExchange$Exchange" "carried" "Ljava/util/HashMap;") ∈ lw_all := lw_g (lw_at lw_m1 200 rfl) rfl
theorem q352 : (Jvm.Cond.fieldLink "CrossbarExchange$Exchange" (27 : Nat) "CrossbarExchange$Exchange" "cut" "Ljava/util/HashSet;") ∈ lw_all := lw_g (lw_at lw_m1 201 rfl) rfl
theorem q353 : (Jvm.Cond.fieldLink "CrossbarExchange$Exchange" (34 : Nat) "CrossbarExchange$Exchange" "names" "Ljava/util/LinkedHashMap;") ∈ lw_all := lw_g (lw_at lw_m1 202 rfl) rfl
theorem q355 : (Jvm.Cond.fieldLink "CrossbarExchange$Exchange" (41 : Nat) "CrossbarExchange$Exchange" "groups" "Ljava/util/List;") ∈ lw_all := lw_g (lw_at lw_m1 204 rfl) rfl
theorem q358 : (Jvm.Cond.fieldLink "CrossbarExchange$Exchange" (45 : Nat) "CrossbarExchange$Exchange" "waiting" "Ljava/util/List;") ∈ lw_all := lw_g (lw_at lw_m1 207 rfl) rfl
theorem q360 : (Jvm.Cond.fieldLink "CrossbarExchange$Exchange" (48 : Nat) "CrossbarExchange$Exchange" "accounts" "[I") ∈ lw_all := lw_g (lw_at lw_m1 209 rfl) rfl
theorem q362 : (Jvm.Cond.fieldLink "CrossbarExchange$Exchange" (55 : Nat) "CrossbarExchange$Exchange" "probe" "LCrossbarExchange$Spot;") ∈ lw_all := lw_g (lw_at lw_m1 211 rfl) rfl
theorem q363 : (Jvm.Cond.fieldLink "CrossbarExchange$Exchange" (81 : Nat) "CrossbarExchange$Exchange" "begun" "I") ∈ lw_all := lw_g (lw_at lw_m1 212 rfl) rfl
theorem q365 : (Jvm.Cond.fieldLink "CrossbarExchange$Exchange" (141 : Nat) "CrossbarExchange$Exchange" "tick" "I") ∈ lw_all := lw_g (lw_at lw_m1 214 rfl) rfl
theorem q368 : (Jvm.Cond.fieldLink "CrossbarExchange$Exchange" (59 : Nat) "CrossbarExchange$Exchange" "mode" "I") ∈ lw_all := lw_g (lw_at lw_m1 217 rfl) rfl
theorem q371 : (Jvm.Cond.fieldLink "CrossbarExchange$Exchange" (144 : Nat) "CrossbarExchange$Exchange" "hunt" "I") ∈ lw_all := lw_g (lw_at lw_m1 220 rfl) rfl
theorem q374 : (Jvm.Cond.fieldLink "CrossbarExchange$Exchange" (75 : Nat) "CrossbarExchange$Exchange" "latest" "I") ∈ lw_all := lw_g (lw_at lw_m1 223 rfl) rfl
theorem q376 : (Jvm.Cond.laysFinal "CrossbarExchange$Exchange" "CrossbarExchange$Exchange" "switches" "I") ∈ lw_all := lw_g (lw_at lw_m1 225 rfl) rfl
theorem q377 : (Jvm.Cond.soleField "CrossbarExchange$Exchange" "switches") ∈ lw_all := lw_g (lw_at lw_m1 226 rfl) rfl
theorem q378 : (Jvm.Cond.laysFinal "CrossbarExchange$Exchange" "CrossbarExchange$Exchange" "lines" "I") ∈ lw_all := lw_g (lw_at lw_m1 227 rfl) rfl
theorem q379 : (Jvm.Cond.soleField "CrossbarExchange$Exchange" "lines") ∈ lw_all := lw_g (lw_at lw_m1 228 rfl) rfl
theorem q380 : (Jvm.Cond.laysFinal "CrossbarExchange$Exchange" "CrossbarExchange$Exchange" "middles" "I") ∈ lw_all := lw_g (lw_at lw_m1 229 rfl) rfl
theorem q381 : (Jvm.Cond.soleField "CrossbarExchange$Exchange" "middles") ∈ lw_all := lw_g (lw_at lw_m1 230 rfl) rfl
theorem q382 : (Jvm.Cond.laysFinal "CrossbarExchange$Exchange" "CrossbarExchange$Exchange" "calls" "[LCrossbarExchange$Call;") ∈ lw_all := lw_g (lw_at lw_m1 231 rfl) rfl
theorem q383 : (Jvm.Cond.soleField "CrossbarExchange$Exchange" "calls") ∈ lw_all := lw_g (lw_at lw_m1 232 rfl) rfl
theorem q384 : (Jvm.Cond.laysFinal "CrossbarExchange$Exchange" "CrossbarExchange$Exchange" "talks" "[LCrossbarExchange$Call;") ∈ lw_all := lw_g (lw_at lw_m1 233 rfl) rfl
theorem q385 : (Jvm.Cond.soleField "CrossbarExchange$Exchange" "talks") ∈ lw_all := lw_g (lw_at lw_m1 234 rfl) rfl
theorem q386 : (Jvm.Cond.laysFinal "CrossbarExchange$Exchange" "CrossbarExchange$Exchange" "carried" "Ljava/util/HashMap;") ∈ lw_all := lw_g (lw_at lw_m1 235 rfl) rfl
theorem q387 : (Jvm.Cond.soleField "CrossbarExchange$Exchange" "carried") ∈ lw_all := lw_g (lw_at lw_m1 236 rfl) rfl
theorem q388 : (Jvm.Cond.laysFinal "CrossbarExchange$Exchange" "CrossbarExchange$Exchange" "cut" "Ljava/util/HashSet;") ∈ lw_all := lw_g (lw_at lw_m1 237 rfl) rfl
theorem q389 : (Jvm.Cond.soleField "CrossbarExchange$Exchange" "cut") ∈ lw_all := lw_g (lw_at lw_m1 238 rfl) rfl
theorem q390 : (Jvm.Cond.laysFinal "CrossbarExchange$Exchange" "CrossbarExchange$Exchange" "names" "Ljava/util/LinkedHashMap;") ∈ lw_all := lw_g (lw_at lw_m1 239 rfl) rfl
theorem q391 : (Jvm.Cond.soleField "CrossbarExchange$Exchange" "names") ∈ lw_all := lw_g (lw_at lw_m2 0 rfl) rfl
theorem q392 : (Jvm.Cond.laysFinal "CrossbarExchange$Exchange" "CrossbarExchange$Exchange" "groups" "Ljava/util/List;") ∈ lw_all := lw_g (lw_at lw_m2 1 rfl) rfl
theorem q393 : (Jvm.Cond.soleField "CrossbarExchange$Exchange" "groups") ∈ lw_all := lw_g (lw_at lw_m2 2 rfl) rfl
theorem q394 : (Jvm.Cond.laysFinal "CrossbarExchange$Exchange" "CrossbarExchange$Exchange" "waiting" "Ljava/util/List;") ∈ lw_all := lw_g (lw_at lw_m2 3 rfl) rfl
theorem q395 : (Jvm.Cond.soleField "CrossbarExchange$Exchange" "waiting") ∈ lw_all := lw_g (lw_at lw_m2 4 rfl) rfl
theorem q396 : (Jvm.Cond.laysFinal "CrossbarExchange$Exchange" "CrossbarExchange$Exchange" "accounts" "[I") ∈ lw_all := lw_g (lw_at lw_m2 5 rfl) rfl
theorem q397 : (Jvm.Cond.soleField "CrossbarExchange$Exchange" "accounts") ∈ lw_all := lw_g (lw_at lw_m2 6 rfl) rfl
theorem q398 : (Jvm.Cond.laysFinal "CrossbarExchange$Exchange" "CrossbarExchange$Exchange" "probe" "LCrossbarExchange$Spot;") ∈ lw_all := lw_g (lw_at lw_m2 7 rfl) rfl
theorem q399 : (Jvm.Cond.soleField "CrossbarExchange$Exchange" "probe") ∈ lw_all := lw_g (lw_at lw_m2 8 rfl) rfl
theorem q400 : (Jvm.Cond.lays "CrossbarExchange$Exchange" "CrossbarExchange$Exchange" "begun" "I") ∈ lw_all := lw_g (lw_at lw_m2 9 rfl) rfl
theorem q401 : (Jvm.Cond.soleField "CrossbarExchange$Exchange" "begun") ∈ lw_all := lw_g (lw_at lw_m2 10 rfl) rfl
theorem q402 : (Jvm.Cond.lays "CrossbarExchange$Exchange" "CrossbarExchange$Exchange" "tick" "I") ∈ lw_all := lw_g (lw_at lw_m2 11 rfl) rfl
theorem q403 : (Jvm.Cond.soleField "CrossbarExchange$Exchange" "tick") ∈ lw_all := lw_g (lw_at lw_m2 12 rfl) rfl
theorem q404 : (Jvm.Cond.lays "CrossbarExchange$Exchange" "CrossbarExchange$Exchange" "mode" "I") ∈ lw_all := lw_g (lw_at lw_m2 13 rfl) rfl
theorem q405 : (Jvm.Cond.soleField "CrossbarExchange$Exchange" "mode") ∈ lw_all := lw_g (lw_at lw_m2 14 rfl) rfl
theorem q406 : (Jvm.Cond.lays "CrossbarExchange$Exchange" "CrossbarExchange$Exchange" "hunt" "I") ∈ lw_all := lw_g (lw_at lw_m2 15 rfl) rfl
theorem q407 : (Jvm.Cond.soleField "CrossbarExchange$Exchange" "hunt") ∈ lw_all := lw_g (lw_at lw_m2 16 rfl) rfl
theorem q408 : (Jvm.Cond.lays "CrossbarExchange$Exchange" "CrossbarExchange$Exchange" "latest" "I") ∈ lw_all := lw_g (lw_at lw_m2 17 rfl) rfl
theorem q409 : (Jvm.Cond.soleField "CrossbarExchange$Exchange" "latest") ∈ lw_all := lw_g (lw_at lw_m2 18 rfl) rfl
theorem q410 : (Jvm.Cond.superclass "CrossbarExchange$Exchange" "java/lang/Object") ∈ lw_all := lw_g (lw_at lw_m2 19 rfl) rfl
theorem q422 : (Jvm.Cond.fieldLinkNest "CrossbarExchange$Exchange" (159 : Nat) "CrossbarExchange$Group" "name" "Ljava/lang/String;" "CrossbarExchange") ∈ lw_tbl := lw_at lw_m2 31 rfl
theorem q427 : (Jvm.Cond.fieldLinkNest "CrossbarExchange$Exchange" (294 : Nat) "CrossbarExchange$Group" "members" "Ljava/util/List;" "CrossbarExchange") ∈ lw_tbl := lw_at lw_m2 36 rfl
theorem q493 : (Jvm.Cond.selects "CrossbarExchange$Exchange" ({ cls := "java/lang/Object", name := "getClass", desc := "()Ljava/lang/Class;" } : Jvm.MethodName) ({ cls := "java/lang/Object", name := "getClass", desc := "()Ljava/lang/Class;" } : Jvm.MethodName)) ∈ lw_all := lw_g (lw_at lw_m2 102 rfl) rfl
theorem q539 : (Jvm.Cond.instanceMethod ({ cls := "CrossbarExchange$Exchange", name := "join", desc := "(LCrossbarExchange$Group;)V" } : Jvm.MethodName)) ∈ lw_all := lw_g (lw_at lw_m2 148 rfl) rfl
theorem q540 : (Jvm.Cond.selects "CrossbarExchange$Exchange" ({ cls := "CrossbarExchange$Exchange", name := "join", desc := "(LCrossbarExchange$Group;)V" } : Jvm.MethodName) ({ cls := "CrossbarExchange$Exchange", name := "join", desc := "(LCrossbarExchange$Group;)V" } : Jvm.MethodName)) ∈ lw_all := lw_g (lw_at lw_m2 149 rfl) rfl
theorem q541 : (Jvm.Cond.code ({ cls := "CrossbarExchange$Exchange", name := "join", desc := "(LCrossbarExchange$Group;)V" } : Jvm.MethodName) prog_3_method_5_code (4 : Nat) (Option.none : Option Jvm.ClassFile.FieldType)) ∈ lw_all := lw_g (lw_at lw_m2 150 rfl) rfl
theorem q542 : (Jvm.Cond.interfaceEntry "CrossbarExchange$Exchange" (113 : Nat)) ∈ lw_tbl := lw_at lw_m2 151 rfl
theorem q543 : (Jvm.Cond.methodLink "CrossbarExchange$Exchange" (113 : Nat) ({ cls := "java/util/List", name := "size", desc := "()I" } : Jvm.MethodName)) ∈ lw_all := lw_g (lw_at lw_m2 152 rfl) rfl
theorem q551 : (Jvm.Cond.methodLink "CrossbarExchange$Exchange" (99 : Nat) ({ cls := "java/lang/Integer", name := "valueOf", desc := "(I)Ljava/lang/Integer;" } : Jvm.MethodName)) ∈ lw_all := lw_g (lw_at lw_m2 160 rfl) rfl
theorem q552 : (Jvm.Cond.methodLink "CrossbarExchange$Exchange" (163 : Nat) ({ cls := "java/util/LinkedHashMap", name := "put", desc := "(Ljava/lang/Object;Ljava/lang/Object;)Ljava/lang/Object;" } : Jvm.MethodName)) ∈ lw_all := lw_g (lw_at lw_m2 161 rfl) rfl
theorem q567 : (Jvm.Cond.selects "CrossbarExchange$Exchange" ({ cls := "java/lang/Object", name := "hashCode", desc := "()I" } : Jvm.MethodName) ({ cls := "java/lang/Object", name := "hashCode", desc := "()I" } : Jvm.MethodName)) ∈ lw_all := lw_g (lw_at lw_m2 176 rfl) rfl
theorem q1301 : (Jvm.Cond.selects "CrossbarExchange$Exchange" ({ cls := "java/lang/Object", name := "equals", desc := "(Ljava/lang/Object;)Z" } : Jvm.MethodName) ({ cls := "java/lang/Object", name := "equals", desc := "(Ljava/lang/Object;)Z" } : Jvm.MethodName)) ∈ lw_all := lw_g (lw_at lw_m5 190 rfl) rfl
theorem q1425 : (Jvm.Cond.classLink "CrossbarExchange$Exchange" (100 : Nat) "java/lang/Integer") ∈ lw_all := lw_g (lw_at lw_m6 74 rfl) rfl
theorem q1426 : (Jvm.Cond.interfaceEntry "CrossbarExchange$Exchange" (167 : Nat)) ∈ lw_tbl := lw_at lw_m6 75 rfl
theorem q1427 : (Jvm.Cond.methodLink "CrossbarExchange$Exchange" (167 : Nat) ({ cls := "java/util/List", name := "add", desc := "(Ljava/lang/Object;)Z" } : Jvm.MethodName)) ∈ lw_all := lw_g (lw_at lw_m6 76 rfl) rfl
theorem q1658 : (Jvm.Cond.instanceMethod ({ cls := "CrossbarExchange$Exchange", name := "subscribers", desc := "()I" } : Jvm.MethodName)) ∈ lw_all := lw_g (lw_at lw_m7 67 rfl) rfl
theorem q1659 : (Jvm.Cond.selects "CrossbarExchange$Exchange" ({ cls := "CrossbarExchange$Exchange", name := "subscribers", desc := "()I" } : Jvm.MethodName) ({ cls := "CrossbarExchange$Exchange", name := "subscribers", desc := "()I" } : Jvm.MethodName)) ∈ lw_all := lw_g (lw_at lw_m7 68 rfl) rfl
theorem q1660 : (Jvm.Cond.code ({ cls := "CrossbarExchange$Exchange", name := "subscribers", desc := "()I" } : Jvm.MethodName) prog_3_method_7_code (1 : Nat) (Option.some Jvm.ClassFile.FieldType.int)) ∈ lw_all := lw_g (lw_at lw_m7 69 rfl) rfl
theorem q1718 : (Jvm.Cond.instanceMethod ({ cls := "CrossbarExchange$Exchange", name := "call", desc := "(III)I" } : Jvm.MethodName)) ∈ lw_all := lw_g (lw_at lw_m7 127 rfl) rfl
theorem q1719 : (Jvm.Cond.selects "CrossbarExchange$Exchange" ({ cls := "CrossbarExchange$Exchange", name := "call", desc := "(III)I" } : Jvm.MethodName) ({ cls := "CrossbarExchange$Exchange", name := "call", desc := "(III)I" } : Jvm.MethodName)) ∈ lw_all := lw_g (lw_at lw_m7 128 rfl) rfl
theorem q1720 : (Jvm.Cond.code ({ cls := "CrossbarExchange$Exchange", name := "call", desc := "(III)I" } : Jvm.MethodName) prog_3_method_36_code (5 : Nat) (Option.some Jvm.ClassFile.FieldType.int)) ∈ lw_all := lw_g (lw_at lw_m7 129 rfl) rfl
theorem q1721 : (Jvm.Cond.methodLink "CrossbarExchange$Exchange" (283 : Nat) ({ cls := "CrossbarExchange$Exchange", name := "whyNot", desc := "(II)I" } : Jvm.MethodName)) ∈ lw_all := lw_g (lw_at lw_m7 130 rfl) rfl
theorem q1722 : (Jvm.Cond.instanceMethod ({ cls := "CrossbarExchange$Exchange", name := "whyNot", desc := "(II)I" } : Jvm.MethodName)) ∈ lw_all := lw_g (lw_at lw_m7 131 rfl) rfl
theorem q1723 : (Jvm.Cond.selects "CrossbarExchange$Exchange" ({ cls := "CrossbarExchange$Exchange", name := "whyNot", desc := "(II)I" } : Jvm.MethodName) ({ cls := "CrossbarExchange$Exchange", name := "whyNot", desc := "(II)I" } : Jvm.MethodName)) ∈ lw_all := lw_g (lw_at lw_m7 132 rfl) rfl
theorem q1724 : (Jvm.Cond.code ({ cls := "CrossbarExchange$Exchange", name := "whyNot", desc := "(II)I" } : Jvm.MethodName) prog_3_method_33_code (3 : Nat) (Option.some Jvm.ClassFile.FieldType.int)) ∈ lw_all := lw_g (lw_at lw_m7 133 rfl) rfl
theorem q1725 : (Jvm.Cond.methodLink "CrossbarExchange$Exchange" (269 : Nat) ({ cls := "CrossbarExchange$Exchange", name := "isIdle", desc := "(I)Z" } : Jvm.MethodName)) ∈ lw_all := lw_g (lw_at lw_m7 134 rfl) rfl
theorem q1726 : (Jvm.Cond.instanceMethod ({ cls := "CrossbarExchange$Exchange", name := "isIdle", desc := "(I)Z" } : Jvm.MethodName)) ∈ lw_all := lw_g (lw_at lw_m7 135 rfl) rfl
theorem q1727 : (Jvm.Cond.selects "CrossbarExchange$Exchange" ({ cls := "CrossbarExchange$Exchange", name := "isIdle", desc := "(I)Z" } : Jvm.MethodName) ({ cls := "CrossbarExchange$Exchange", name := "isIdle", desc := "(I)Z" } : Jvm.MethodName)) ∈ lw_all := lw_g (lw_at lw_m7 136 rfl) rfl
theorem q1728 : (Jvm.Cond.code ({ cls := "CrossbarExchange$Exchange", name := "isIdle", desc := "(I)Z" } : Jvm.MethodName) prog_3_method_14_code (2 : Nat) (Option.some Jvm.ClassFile.FieldType.boolean)) ∈ lw_all := lw_g (lw_at lw_m7 137 rfl) rfl
theorem q1729 : (Jvm.Cond.methodLink "CrossbarExchange$Exchange" (177 : Nat) ({ cls := "CrossbarExchange$Exchange", name := "stateOf", desc := "(I)I" } : Jvm.MethodName)) ∈ lw_all := lw_g (lw_at lw_m7 138 rfl) rfl
theorem q1730 : (Jvm.Cond.instanceMethod ({ cls := "CrossbarExchange$Exchange", name := "stateOf", desc := "(I)I" } : Jvm.MethodName)) ∈ lw_all := lw_g (lw_at lw_m7 139 rfl) rfl
theorem q1731 : (Jvm.Cond.selects "CrossbarExchange$Exchange" ({ cls := "CrossbarExchange$Exchange", name := "stateOf", desc := "(I)I" } : Jvm.MethodName) ({ cls := "CrossbarExchange$Exchange", name := "stateOf", desc := "(I)I" } : Jvm.MethodName)) ∈ lw_all := lw_g (lw_at lw_m7 140 rfl) rfl
theorem q1732 : (Jvm.Cond.code ({ cls := "CrossbarExchange$Exchange", name := "stateOf", desc := "(I)I" } : Jvm.MethodName) prog_3_method_13_code (2 : Nat) (Option.some Jvm.ClassFile.FieldType.int)) ∈ lw_all := lw_g (lw_at lw_m7 141 rfl) rfl
theorem q1733 : (Jvm.Cond.methodLink "CrossbarExchange$Exchange" (173 : Nat) ({ cls := "CrossbarExchange$Exchange", name := "waiter", desc := "(I)LCrossbarExchange$Waiter;" } : Jvm.MethodName)) ∈ lw_all := lw_g (lw_at lw_m7 142 rfl) rfl
theorem q1734 : (Jvm.Cond.instanceMethod ({ cls := "CrossbarExchange$Exchange", name := "waiter", desc := "(I)LCrossbarExchange$Waiter;" } : Jvm.MethodName)) ∈ lw_all := lw_g (lw_at lw_m7 143 rfl) rfl
theorem q1735 : (Jvm.Cond.selects "CrossbarExchange$Exchange" ({ cls := "CrossbarExchange$Exchange", name := "waiter", desc := "(I)LCrossbarExchange$Waiter;" } : Jvm.MethodName) ({ cls := "CrossbarExchange$Exchange", name := "waiter", desc := "(I)LCrossbarExchange$Waiter;" } : Jvm.MethodName)) ∈ lw_all := lw_g (lw_at lw_m7 144 rfl) rfl
theorem q1736 : (Jvm.Cond.code ({ cls := "CrossbarExchange$Exchange", name := "waiter", desc := "(I)LCrossbarExchange$Waiter;" } : Jvm.MethodName) prog_3_method_12_code (3 : Nat) (Option.some (Jvm.ClassFile.FieldType.object "CrossbarExchange$Waiter"))) ∈ lw_all := lw_g (lw_at lw_m7 145 rfl) rfl
theorem q1737 : (Jvm.Cond.interfaceEntry "CrossbarExchange$Exchange" (119 : Nat)) ∈ lw_tbl := lw_at lw_m7 146 rfl
theorem q1738 : (Jvm.Cond.methodLink "CrossbarExchange$Exchange" (119 : Nat) ({ cls := "java/util/List", name := "get", desc := "(I)Ljava/lang/Object;" } : Jvm.MethodName)) ∈ lw_all := lw_g (lw_at lw_m7 147 rfl) rfl
theorem q1739 : (Jvm.Cond.classLink "CrossbarExchange$Exchange" (129 : Nat) "CrossbarExchange$Waiter") ∈ lw_all := lw_g (lw_at lw_m7 148 rfl) rfl
theorem q1740 : (Jvm.Cond.methodLink "CrossbarExchange$Exchange" (168 : Nat) ({ cls := "CrossbarExchange$Exchange", name := "stage", desc := "(I)I" } : Jvm.MethodName)) ∈ lw_all := lw_g (lw_at lw_m7 149 rfl) rfl
theorem q1741 : (Jvm.Cond.instanceMethod ({ cls := "CrossbarExchange$Exchange", name := "stage", desc := "(I)I" } : Jvm.MethodName)) ∈ lw_all := lw_g (lw_at lw_m7 150 rfl) rfl
theorem q1742 : (Jvm.Cond.selects "CrossbarExchange$Exchange" ({ cls := "CrossbarExchange$Exchange", name := "stage", desc := "(I)I" } : Jvm.MethodName) ({ cls := "CrossbarExchange$Exchange", name := "stage", desc := "(I)I" } : Jvm.MethodName)) ∈ lw_all := lw_g (lw_at lw_m7 151 rfl) rfl
theorem q1743 : (Jvm.Cond.code ({ cls := "CrossbarExchange$Exchange", name := "stage", desc := "(I)I" } : Jvm.MethodName) prog_3_method_8_code (2 : Nat) (Option.some Jvm.ClassFile.FieldType.int)) ∈ lw_all := lw_g (lw_at lw_m7 152 rfl) rfl
theorem q1744 : (Jvm.Cond.methodLink "CrossbarExchange$Exchange" (272 : Nat) ({ cls := "CrossbarExchange$Exchange", name := "isBlocked", desc := "(II)Z" } : Jvm.MethodName)) ∈ lw_all := lw_g (lw_at lw_m7 153 rfl) rfl
theorem q1745 : (Jvm.Cond.instanceMethod ({ cls := "CrossbarExchange$Exchange", name := "isBlocked", desc := "(II)Z" } : Jvm.MethodName)) ∈ lw_all := lw_g (lw_at lw_m7 154 rfl) rfl
theorem q1746 : (Jvm.Cond.selects "CrossbarExchange$Exchange" ({ cls := "CrossbarExchange$Exchange", name := "isBlocked", desc := "(II)Z" } : Jvm.MethodName) ({ cls := "CrossbarExchange$Exchange", name := "isBlocked", desc := "(II)Z" } : Jvm.MethodName)) ∈ lw_all := lw_g (lw_at lw_m7 155 rfl) rfl
theorem q1747 : (Jvm.Cond.code ({ cls := "CrossbarExchange$Exchange", name := "isBlocked", desc := "(II)Z" } : Jvm.MethodName) prog_3_method_30_code (3 : Nat) (Option.some Jvm.ClassFile.FieldType.boolean)) ∈ lw_all := lw_g (lw_at lw_m7 156 rfl) rfl
theorem q1748 : (Jvm.Cond.methodLink "CrossbarExchange$Exchange" (243 : Nat) ({ cls := "CrossbarExchange$Exchange", name := "path", desc := "(II)LCrossbarExchange$Path;" } : Jvm.MethodName)) ∈ lw_all := lw_g (lw_at lw_m7 157 rfl) rfl
theorem q1749 : (Jvm.Cond.instanceMethod ({ cls := "CrossbarExchange$Exchange", name := "path", desc := "(II)LCrossbarExchange$Path;" } : Jvm.MethodName)) ∈ lw_all := lw_g (lw_at lw_m7 158 rfl) rfl
theorem q1750 : (Jvm.Cond.selects "CrossbarExchange$Exchange" ({ cls := "CrossbarExchange$Exchange", name := "path", desc := "(II)LCrossbarExchange$Path;" } : Jvm.MethodName) ({ cls := "CrossbarExchange$Exchange", name := "path", desc := "(II)LCrossbarExchange$Path;" } : Jvm.MethodName)) ∈ lw_all := lw_g (lw_at lw_m7 159 rfl) rfl
theorem q1751 : (Jvm.Cond.code ({ cls := "CrossbarExchange$Exchange", name := "path", desc := "(II)LCrossbarExchange$Path;" } : Jvm.MethodName) prog_3_method_28_code (3 : Nat) (Option.some (Jvm.ClassFile.FieldType.object "CrossbarExchange$Path"))) ∈ lw_all := lw_g (lw_at lw_m7 160 rfl) rfl
theorem q1752 : (Jvm.Cond.methodLink "CrossbarExchange$Exchange" (236 : Nat) ({ cls := "CrossbarExchange$Exchange", name := "usable", desc := "()I" } : Jvm.MethodName)) ∈ lw_all := lw_g (lw_at lw_m7 161 rfl) rfl
theorem q1753 : (Jvm.Cond.privateMethod ({ cls := "CrossbarExchange$Exchange", name := "usable", desc := "()I" } : Jvm.MethodName)) ∈ lw_tbl := lw_at lw_m7 162 rfl
theorem q1754 : (Jvm.Cond.instanceMethod ({ cls := "CrossbarExchange$Exchange", name := "usable", desc := "()I" } : Jvm.MethodName)) ∈ lw_all := lw_g (lw_at lw_m7 163 rfl) rfl
theorem q1755 : (Jvm.Cond.code ({ cls := "CrossbarExchange$Exchange", name := "usable", desc := "()I" } : Jvm.MethodName) prog_3_method_17_code (3 : Nat) (Option.some Jvm.ClassFile.FieldType.int)) ∈ lw_all := lw_g (lw_at lw_m7 164 rfl) rfl
theorem q1756 : (Jvm.Cond.methodLink "CrossbarExchange$Exchange" (181 : Nat) ({ cls := "CrossbarExchange$Exchange", name := "isInOrder", desc := "(I)Z" } : Jvm.MethodName)) ∈ lw_all := lw_g (lw_at lw_m7 165 rfl) rfl
theorem q1757 : (Jvm.Cond.instanceMethod ({ cls := "CrossbarExchange$Exchange", name := "isInOrder", desc := "(I)Z" } : Jvm.MethodName)) ∈ lw_all := lw_g (lw_at lw_m7 166 rfl) rfl
theorem q1758 : (Jvm.Cond.selects "CrossbarExchange$Exchange" ({ cls := "CrossbarExchange$Exchange", name := "isInOrder", desc := "(I)Z" } : Jvm.MethodName) ({ cls := "CrossbarExchange$Exchange", name := "isInOrder", desc := "(I)Z" } : Jvm.MethodName)) ∈ lw_all := lw_g (lw_at lw_m7 167 rfl) rfl
theorem q1759 : (Jvm.Cond.code ({ cls := "CrossbarExchange$Exchange", name := "isInOrder", desc := "(I)Z" } : Jvm.MethodName) prog_3_method_15_code (2 : Nat) (Option.some Jvm.ClassFile.FieldType.boolean)) ∈ lw_all := lw_g (lw_at lw_m7 168 rfl) rfl
theorem q1760 : (Jvm.Cond.methodLink "CrossbarExchange$Exchange" (105 : Nat) ({ cls := "java/util/HashSet", name := "contains", desc := "(Ljava/lang/Object;)Z" } : Jvm.MethodName)) ∈ lw_all := lw_g (lw_at lw_m7 169 rfl) rfl
theorem q1765 : (Jvm.Cond.methodLink "CrossbarExchange$Exchange" (239 : Nat) ({ cls := "CrossbarExchange$Exchange", name := "path", desc := "(IIIIZ)LCrossbarExchange$Path;" } : Jvm.MethodName)) ∈ lw_all := lw_g (lw_at lw_m7 174 rfl) rfl
theorem q1766 : (Jvm.Cond.privateMethod ({ cls := "CrossbarExchange$Exchange", name := "path", desc := "(IIIIZ)LCrossbarExchange$Path;" } : Jvm.MethodName)) ∈ lw_tbl := lw_at lw_m7 175 rfl
theorem q1767 : (Jvm.Cond.instanceMethod ({ cls := "CrossbarExchange$Exchange", name := "path", desc := "(IIIIZ)LCrossbarExchange$Path;" } : Jvm.MethodName)) ∈ lw_all := lw_g (lw_at lw_m7 176 rfl) rfl
theorem q1768 : (Jvm.Cond.code ({ cls := "CrossbarExchange$Exchange", name := "path", desc := "(IIIIZ)LCrossbarExchange$Path;" } : Jvm.MethodName) prog_3_method_27_code (7 : Nat) (Option.some (Jvm.ClassFile.FieldType.object "CrossbarExchange$Path"))) ∈ lw_all := lw_g (lw_at lw_m7 177 rfl) rfl
theorem q1769 : (Jvm.Cond.methodLink "CrossbarExchange$Exchange" (226 : Nat) ({ cls := "CrossbarExchange$Exchange", name := "hunted", desc := "(IIII)I" } : Jvm.MethodName)) ∈ lw_all := lw_g (lw_at lw_m7 178 rfl) rfl
theorem q1770 : (Jvm.Cond.privateMethod ({ cls := "CrossbarExchange$Exchange", name := "hunted", desc := "(IIII)I" } : Jvm.MethodName)) ∈ lw_tbl := lw_at lw_m7 179 rfl
theorem q1771 : (Jvm.Cond.instanceMethod ({ cls := "CrossbarExchange$Exchange", name := "hunted", desc := "(IIII)I" } : Jvm.MethodName)) ∈ lw_all := lw_g (lw_at lw_m7 180 rfl) rfl
theorem q1772 : (Jvm.Cond.code ({ cls := "CrossbarExchange$Exchange", name := "hunted", desc := "(IIII)I" } : Jvm.MethodName) prog_3_method_24_code (8 : Nat) (Option.some Jvm.ClassFile.FieldType.int)) ∈ lw_all := lw_g (lw_at lw_m7 181 rfl) rfl
theorem q1773 : (Jvm.Cond.methodLink "CrossbarExchange$Exchange" (207 : Nat) ({ cls := "CrossbarExchange$Exchange", name := "isOpen", desc := "(III)Z" } : Jvm.MethodName)) ∈ lw_all := lw_g (lw_at lw_m7 182 rfl) rfl
theorem q1774 : (Jvm.Cond.instanceMethod ({ cls := "CrossbarExchange$Exchange", name := "isOpen", desc := "(III)Z" } : Jvm.MethodName)) ∈ lw_all := lw_g (lw_at lw_m7 183 rfl) rfl
theorem q1775 : (Jvm.Cond.selects "CrossbarExchange$Exchange" ({ cls := "CrossbarExchange$Exchange", name := "isOpen", desc := "(III)Z" } : Jvm.MethodName) ({ cls := "CrossbarExchange$Exchange", name := "isOpen", desc := "(III)Z" } : Jvm.MethodName)) ∈ lw_all := lw_g (lw_at lw_m7 184 rfl) rfl
theorem q1776 : (Jvm.Cond.code ({ cls := "CrossbarExchange$Exchange", name := "isOpen", desc := "(III)Z" } : Jvm.MethodName) prog_3_method_23_code (4 : Nat) (Option.some Jvm.ClassFile.FieldType.boolean)) ∈ lw_all := lw_g (lw_at lw_m7 185 rfl) rfl
theorem q1777 : (Jvm.Cond.methodLink "CrossbarExchange$Exchange" (192 : Nat) ({ cls := "CrossbarExchange$Exchange", name := "carriedBy", desc := "(IIZ)LCrossbarExchange$Call;" } : Jvm.MethodName)) ∈ lw_all := lw_g (lw_at lw_m7 186 rfl) rfl
theorem q1778 : (Jvm.Cond.instanceMethod ({ cls := "CrossbarExchange$Exchange", name := "carriedBy", desc := "(IIZ)LCrossbarExchange$Call;" } : Jvm.MethodName)) ∈ lw_all := lw_g (lw_at lw_m7 187 rfl) rfl
theorem q1779 : (Jvm.Cond.selects "CrossbarExchange$Exchange" ({ cls := "CrossbarExchange$Exchange", name := "carriedBy", desc := "(IIZ)LCrossbarExchange$Call;" } : Jvm.MethodName) ({ cls := "CrossbarExchange$Exchange", name := "carriedBy", desc := "(IIZ)LCrossbarExchange$Call;" } : Jvm.MethodName)) ∈ lw_all := lw_g (lw_at lw_m7 188 rfl) rfl
theorem q1780 : (Jvm.Cond.code ({ cls := "CrossbarExchange$Exchange", name := "carriedBy", desc := "(IIZ)LCrossbarExchange$Call;" } : Jvm.MethodName) prog_3_method_19_code (4 : Nat) (Option.some (Jvm.ClassFile.FieldType.object "CrossbarExchange$Call"))) ∈ lw_all := lw_g (lw_at lw_m7 189 rfl) rfl
theorem q1781 : (Jvm.Cond.methodLink "CrossbarExchange$Exchange" (185 : Nat) ({ cls := "CrossbarExchange$Spot", name := "at", desc := "(IIZ)LCrossbarExchange$Spot;" } : Jvm.MethodName)) ∈ lw_all := lw_g (lw_at lw_m7 190 rfl) rfl
theorem q1785 : (Jvm.Cond.methodLink "CrossbarExchange$Exchange" (189 : Nat) ({ cls := "java/util/HashMap", name := "get", desc := "(Ljava/lang/Object;)Ljava/lang/Object;" } : Jvm.MethodName)) ∈ lw_all := lw_g (lw_at lw_m7 194 rfl) rfl
theorem q1798 : (Jvm.Cond.methodLink "CrossbarExchange$Exchange" (211 : Nat) ({ cls := "CrossbarExchange$Exchange", name := "load", desc := "(I)I" } : Jvm.MethodName)) ∈ lw_all := lw_g (lw_at lw_m7 207 rfl) rfl
theorem q1799 : (Jvm.Cond.instanceMethod ({ cls := "CrossbarExchange$Exchange", name := "load", desc := "(I)I" } : Jvm.MethodName)) ∈ lw_all := lw_g (lw_at lw_m7 208 rfl) rfl
theorem q1800 : (Jvm.Cond.selects "CrossbarExchange$Exchange" ({ cls := "CrossbarExchange$Exchange", name := "load", desc := "(I)I" } : Jvm.MethodName) ({ cls := "CrossbarExchange$Exchange", name := "load", desc := "(I)I" } : Jvm.MethodName)) ∈ lw_all := lw_g (lw_at lw_m7 209 rfl) rfl
theorem q1801 : (Jvm.Cond.code ({ cls := "CrossbarExchange$Exchange", name := "load", desc := "(I)I" } : Jvm.MethodName) prog_3_method_20_code (4 : Nat) (Option.some Jvm.ClassFile.FieldType.int)) ∈ lw_all := lw_g (lw_at lw_m7 210 rfl) rfl
theorem q1802 : (Jvm.Cond.classLink "CrossbarExchange$Exchange" (219 : Nat) "CrossbarExchange$Path") ∈ lw_all := lw_g (lw_at lw_m7 211 rfl) rfl
theorem q1804 : (Jvm.Cond.methodLink "CrossbarExchange$Exchange" (230 : Nat) ({ cls := "CrossbarExchange$Path", name := "<init>", desc := "(I)V" } : Jvm.MethodName)) ∈ lw_all := lw_g (lw_at lw_m7 213 rfl) rfl
theorem q1826 : (Jvm.Cond.fieldLinkNest "CrossbarExchange$Exchange" (268 : Nat) "CrossbarExchange$Path" "middle" "I" "CrossbarExchange") ∈ lw_tbl := lw_at lw_m7 235 rfl
theorem q1829 : (Jvm.Cond.fieldLinkNest "CrossbarExchange$Exchange" (249 : Nat) "CrossbarExchange$Path" "p" "I" "CrossbarExchange") ∈ lw_tbl := lw_at lw_m7 238 rfl
theorem q1832 : (Jvm.Cond.fieldLinkNest "CrossbarExchange$Exchange" (252 : Nat) "CrossbarExchange$Path" "q" "I" "CrossbarExchange") ∈ lw_tbl := lw_at lw_m8 1 rfl
theorem q1835 : (Jvm.Cond.fieldLinkNest "CrossbarExchange$Exchange" (246 : Nat) "CrossbarExchange$Path" "chain" "Ljava/util/List;" "CrossbarExchange") ∈ lw_tbl := lw_at lw_m8 4 rfl
theorem q1846 : (Jvm.Cond.methodLink "CrossbarExchange$Exchange" (232 : Nat) ({ cls := "CrossbarExchange$Exchange", name := "chained", desc := "(III)LCrossbarExchange$Path;" } : Jvm.MethodName)) ∈ lw_all := lw_g (lw_at lw_m8 15 rfl) rfl
theorem q1847 : (Jvm.Cond.privateMethod ({ cls := "CrossbarExchange$Exchange", name := "chained", desc := "(III)LCrossbarExchange$Path;" } : Jvm.MethodName)) ∈ lw_tbl := lw_at lw_m8 16 rfl
theorem q1848 : (Jvm.Cond.instanceMethod ({ cls := "CrossbarExchange$Exchange", name := "chained", desc := "(III)LCrossbarExchange$Path;" } : Jvm.MethodName)) ∈ lw_all := lw_g (lw_at lw_m8 17 rfl) rfl
theorem q1849 : (Jvm.Cond.code ({ cls := "CrossbarExchange$Exchange", name := "chained", desc := "(III)LCrossbarExchange$Path;" } : Jvm.MethodName) prog_3_method_26_code (9 : Nat) (Option.some (Jvm.ClassFile.FieldType.object "CrossbarExchange$Path"))) ∈ lw_all := lw_g (lw_at lw_m8 18 rfl) rfl
theorem q1850 : (Jvm.Cond.methodLink "CrossbarExchange$Exchange" (214 : Nat) ({ cls := "CrossbarExchange$Exchange", name := "walk", desc := "(IIZII)Ljava/util/List;" } : Jvm.MethodName)) ∈ lw_all := lw_g (lw_at lw_m8 19 rfl) rfl
theorem q1851 : (Jvm.Cond.privateMethod ({ cls := "CrossbarExchange$Exchange", name := "walk", desc := "(IIZII)Ljava/util/List;" } : Jvm.MethodName)) ∈ lw_tbl := lw_at lw_m8 20 rfl
theorem q1852 : (Jvm.Cond.instanceMethod ({ cls := "CrossbarExchange$Exchange", name := "walk", desc := "(IIZII)Ljava/util/List;" } : Jvm.MethodName)) ∈ lw_all := lw_g (lw_at lw_m8 21 rfl) rfl
theorem q1853 : (Jvm.Cond.code ({ cls := "CrossbarExchange$Exchange", name := "walk", desc := "(IIZII)Ljava/util/List;" } : Jvm.MethodName) prog_3_method_25_code (11 : Nat) (Option.some (Jvm.ClassFile.FieldType.object "java/util/List"))) ∈ lw_all := lw_g (lw_at lw_m8 22 rfl) rfl
theorem q1854 : (Jvm.Cond.methodLink "CrossbarExchange$Exchange" (201 : Nat) ({ cls := "CrossbarExchange$Exchange", name := "to", desc := "(LCrossbarExchange$Call;)I" } : Jvm.MethodName)) ∈ lw_all := lw_g (lw_at lw_m8 23 rfl) rfl
theorem q1855 : (Jvm.Cond.instanceMethod ({ cls := "CrossbarExchange$Exchange", name := "to", desc := "(LCrossbarExchange$Call;)I" } : Jvm.MethodName)) ∈ lw_all := lw_g (lw_at lw_m8 24 rfl) rfl
theorem q1856 : (Jvm.Cond.selects "CrossbarExchange$Exchange" ({ cls := "CrossbarExchange$Exchange", name := "to", desc := "(LCrossbarExchange$Call;)I" } : Jvm.MethodName) ({ cls := "CrossbarExchange$Exchange", name := "to", desc := "(LCrossbarExchange$Call;)I" } : Jvm.MethodName)) ∈ lw_all := lw_g (lw_at lw_m8 25 rfl) rfl
theorem q1857 : (Jvm.Cond.code ({ cls := "CrossbarExchange$Exchange", name := "to", desc := "(LCrossbarExchange$Call;)I" } : Jvm.MethodName) prog_3_method_10_code (2 : Nat) (Option.some Jvm.ClassFile.FieldType.int)) ∈ lw_all := lw_g (lw_at lw_m8 26 rfl) rfl
theorem q1858 : (Jvm.Cond.methodLink "CrossbarExchange$Exchange" (196 : Nat) ({ cls := "CrossbarExchange$Exchange", name := "from", desc := "(LCrossbarExchange$Call;)I" } : Jvm.MethodName)) ∈ lw_all := lw_g (lw_at lw_m8 27 rfl) rfl
theorem q1859 : (Jvm.Cond.instanceMethod ({ cls := "CrossbarExchange$Exchange", name := "from", desc := "(LCrossbarExchange$Call;)I" } : Jvm.MethodName)) ∈ lw_all := lw_g (lw_at lw_m8 28 rfl) rfl
theorem q1860 : (Jvm.Cond.selects "CrossbarExchange$Exchange" ({ cls := "CrossbarExchange$Exchange", name := "from", desc := "(LCrossbarExchange$Call;)I" } : Jvm.MethodName) ({ cls := "CrossbarExchange$Exchange", name := "from", desc := "(LCrossbarExchange$Call;)I" } : Jvm.MethodName)) ∈ lw_all := lw_g (lw_at lw_m8 29 rfl) rfl
theorem q1861 : (Jvm.Cond.code ({ cls := "CrossbarExchange$Exchange", name := "from", desc := "(LCrossbarExchange$Call;)I" } : Jvm.MethodName) prog_3_method_9_code (2 : Nat) (Option.some Jvm.ClassFile.FieldType.int)) ∈ lw_all := lw_g (lw_at lw_m8 30 rfl) rfl
theorem q1862 : (Jvm.Cond.methodLink "CrossbarExchange$Exchange" (218 : Nat) ({ cls := "CrossbarExchange$Path", name := "length", desc := "()I" } : Jvm.MethodName)) ∈ lw_all := lw_g (lw_at lw_m8 31 rfl) rfl
theorem q1868 : (Jvm.Cond.methodLink "CrossbarExchange$Exchange" (223 : Nat) ({ cls := "CrossbarExchange$Path", name := "<init>", desc := "(IIILjava/util/List;)V" } : Jvm.MethodName)) ∈ lw_all := lw_g (lw_at lw_m8 37 rfl) rfl
theorem q1869 : (Jvm.Cond.methodLink "CrossbarExchange$Exchange" (287 : Nat) ({ cls := "CrossbarExchange$Exchange", name := "begin", desc := "(III)I" } : Jvm.MethodName)) ∈ lw_all := lw_g (lw_at lw_m8 38 rfl) rfl
theorem q1870 : (Jvm.Cond.privateMethod ({ cls := "CrossbarExchange$Exchange", name := "begin", desc := "(III)I" } : Jvm.MethodName)) ∈ lw_tbl := lw_at lw_m8 39 rfl
theorem q1871 : (Jvm.Cond.instanceMethod ({ cls := "CrossbarExchange$Exchange", name := "begin", desc := "(III)I" } : Jvm.MethodName)) ∈ lw_all := lw_g (lw_at lw_m8 40 rfl) rfl
theorem q1872 : (Jvm.Cond.code ({ cls := "CrossbarExchange$Exchange", name := "begin", desc := "(III)I" } : Jvm.MethodName) prog_3_method_35_code (5 : Nat) (Option.some Jvm.ClassFile.FieldType.int)) ∈ lw_all := lw_g (lw_at lw_m8 41 rfl) rfl
theorem q1874 : (Jvm.Cond.methodLink "CrossbarExchange$Exchange" (276 : Nat) ({ cls := "CrossbarExchange$Call", name := "<init>", desc := "(IIIII)V" } : Jvm.MethodName)) ∈ lw_all := lw_g (lw_at lw_m8 43 rfl) rfl
theorem q1879 : (Jvm.Cond.fieldLinkNest "CrossbarExchange$Exchange" (147 : Nat) "CrossbarExchange$Call" "number" "I" "CrossbarExchange") ∈ lw_tbl := lw_at lw_m8 48 rfl
theorem q1882 : (Jvm.Cond.fieldLinkNest "CrossbarExchange$Exchange" (150 : Nat) "CrossbarExchange$Call" "caller" "I" "CrossbarExchange") ∈ lw_tbl := lw_at lw_m8 51 rfl
theorem q1885 : (Jvm.Cond.fieldLinkNest "CrossbarExchange$Exchange" (153 : Nat) "CrossbarExchange$Call" "callee" "I" "CrossbarExchange") ∈ lw_tbl := lw_at lw_m8 54 rfl
theorem q1890 : (Jvm.Cond.fieldLinkNest "CrossbarExchange$Exchange" (324 : Nat) "CrossbarExchange$Call" "lasts" "I" "CrossbarExchange") ∈ lw_tbl := lw_at lw_m8 59 rfl
theorem q1893 : (Jvm.Cond.fieldLinkNest "CrossbarExchange$Exchange" (92 : Nat) "CrossbarExchange$Call" "middle" "I" "CrossbarExchange") ∈ lw_tbl := lw_at lw_m8 62 rfl
theorem q1896 : (Jvm.Cond.fieldLinkNest "CrossbarExchange$Exchange" (265 : Nat) "CrossbarExchange$Call" "moved" "I" "CrossbarExchange") ∈ lw_tbl := lw_at lw_m8 65 rfl
theorem q1913 : (Jvm.Cond.methodLink "CrossbarExchange$Exchange" (279 : Nat) ({ cls := "CrossbarExchange$Exchange", name := "take", desc := "(LCrossbarExchange$Call;LCrossbarExchange$Path;)V" } : Jvm.MethodName)) ∈ lw_all := lw_g (lw_at lw_m8 82 rfl) rfl
theorem q1914 : (Jvm.Cond.privateMethod ({ cls := "CrossbarExchange$Exchange", name := "take", desc := "(LCrossbarExchange$Call;LCrossbarExchange$Path;)V" } : Jvm.MethodName)) ∈ lw_tbl := lw_at lw_m8 83 rfl
theorem q1915 : (Jvm.Cond.instanceMethod ({ cls := "CrossbarExchange$Exchange", name := "take", desc := "(LCrossbarExchange$Call;LCrossbarExchange$Path;)V" } : Jvm.MethodName)) ∈ lw_all := lw_g (lw_at lw_m8 84 rfl) rfl
theorem q1916 : (Jvm.Cond.code ({ cls := "CrossbarExchange$Exchange", name := "take", desc := "(LCrossbarExchange$Call;LCrossbarExchange$Path;)V" } : Jvm.MethodName) prog_3_method_32_code (4 : Nat) (Option.none : Option Jvm.ClassFile.FieldType)) ∈ lw_all := lw_g (lw_at lw_m8 85 rfl) rfl
theorem q1917 : (Jvm.Cond.methodLink "CrossbarExchange$Exchange" (258 : Nat) ({ cls := "CrossbarExchange$Path", name := "isOpen", desc := "()Z" } : Jvm.MethodName)) ∈ lw_all := lw_g (lw_at lw_m8 86 rfl) rfl
theorem q1930 : (Jvm.Cond.methodLink "CrossbarExchange$Exchange" (261 : Nat) ({ cls := "CrossbarExchange$Exchange", name := "swap", desc := "(LCrossbarExchange$Path;)V" } : Jvm.MethodName)) ∈ lw_all := lw_g (lw_at lw_m8 99 rfl) rfl
theorem q1931 : (Jvm.Cond.privateMethod ({ cls := "CrossbarExchange$Exchange", name := "swap", desc := "(LCrossbarExchange$Path;)V" } : Jvm.MethodName)) ∈ lw_tbl := lw_at lw_m8 100 rfl
theorem q1932 : (Jvm.Cond.instanceMethod ({ cls := "CrossbarExchange$Exchange", name := "swap", desc := "(LCrossbarExchange$Path;)V" } : Jvm.MethodName)) ∈ lw_all := lw_g (lw_at lw_m8 101 rfl) rfl
theorem q1933 : (Jvm.Cond.code ({ cls := "CrossbarExchange$Exchange", name := "swap", desc := "(LCrossbarExchange$Path;)V" } : Jvm.MethodName) prog_3_method_31_code (5 : Nat) (Option.none : Option Jvm.ClassFile.FieldType)) ∈ lw_all := lw_g (lw_at lw_m8 102 rfl) rfl
theorem q1934 : (Jvm.Cond.methodLink "CrossbarExchange$Exchange" (255 : Nat) ({ cls := "CrossbarExchange$Exchange", name := "lift", desc := "(LCrossbarExchange$Call;)V" } : Jvm.MethodName)) ∈ lw_all := lw_g (lw_at lw_m8 103 rfl) rfl
theorem q1935 : (Jvm.Cond.privateMethod ({ cls := "CrossbarExchange$Exchange", name := "lift", desc := "(LCrossbarExchange$Call;)V" } : Jvm.MethodName)) ∈ lw_tbl := lw_at lw_m8 104 rfl
theorem q1936 : (Jvm.Cond.instanceMethod ({ cls := "CrossbarExchange$Exchange", name := "lift", desc := "(LCrossbarExchange$Call;)V" } : Jvm.MethodName)) ∈ lw_all := lw_g (lw_at lw_m8 105 rfl) rfl
theorem q1937 : (Jvm.Cond.code ({ cls := "CrossbarExchange$Exchange", name := "lift", desc := "(LCrossbarExchange$Call;)V" } : Jvm.MethodName) prog_3_method_22_code (4 : Nat) (Option.none : Option Jvm.ClassFile.FieldType)) ∈ lw_all := lw_g (lw_at lw_m8 106 rfl) rfl
theorem q1938 : (Jvm.Cond.methodLink "CrossbarExchange$Exchange" (204 : Nat) ({ cls := "java/util/HashMap", name := "remove", desc := "(Ljava/lang/Object;)Ljava/lang/Object;" } : Jvm.MethodName)) ∈ lw_all := lw_g (lw_at lw_m8 107 rfl) rfl
theorem q1965 : (Jvm.Cond.methodLink "CrossbarExchange$Exchange" (95 : Nat) ({ cls := "CrossbarExchange$Exchange", name := "lay", desc := "(LCrossbarExchange$Call;I)V" } : Jvm.MethodName)) ∈ lw_all := lw_g (lw_at lw_m8 134 rfl) rfl
theorem q1966 : (Jvm.Cond.privateMethod ({ cls := "CrossbarExchange$Exchange", name := "lay", desc := "(LCrossbarExchange$Call;I)V" } : Jvm.MethodName)) ∈ lw_tbl := lw_at lw_m8 135 rfl
theorem q1967 : (Jvm.Cond.instanceMethod ({ cls := "CrossbarExchange$Exchange", name := "lay", desc := "(LCrossbarExchange$Call;I)V" } : Jvm.MethodName)) ∈ lw_all := lw_g (lw_at lw_m8 136 rfl) rfl
theorem q1968 : (Jvm.Cond.code ({ cls := "CrossbarExchange$Exchange", name := "lay", desc := "(LCrossbarExchange$Call;I)V" } : Jvm.MethodName) prog_3_method_21_code (5 : Nat) (Option.none : Option Jvm.ClassFile.FieldType)) ∈ lw_all := lw_g (lw_at lw_m8 137 rfl) rfl
theorem q1969 : (Jvm.Cond.methodLink "CrossbarExchange$Exchange" (200 : Nat) ({ cls := "java/util/HashMap", name := "put", desc := "(Ljava/lang/Object;Ljava/lang/Object;)Ljava/lang/Object;" } : Jvm.MethodName)) ∈ lw_all := lw_g (lw_at lw_m8 138 rfl) rfl
theorem q1970 : (Jvm.Cond.methodLink "CrossbarExchange$Exchange" (88 : Nat) ({ cls := "CrossbarExchange$Exchange", name := "keep", desc := "(LCrossbarExchange$Call;)V" } : Jvm.MethodName)) ∈ lw_all := lw_g (lw_at lw_m8 139 rfl) rfl
theorem q1971 : (Jvm.Cond.privateMethod ({ cls := "CrossbarExchange$Exchange", name := "keep", desc := "(LCrossbarExchange$Call;)V" } : Jvm.MethodName)) ∈ lw_tbl := lw_at lw_m8 140 rfl
theorem q1972 : (Jvm.Cond.instanceMethod ({ cls := "CrossbarExchange$Exchange", name := "keep", desc := "(LCrossbarExchange$Call;)V" } : Jvm.MethodName)) ∈ lw_all := lw_g (lw_at lw_m8 141 rfl) rfl
theorem q1973 : (Jvm.Cond.code ({ cls := "CrossbarExchange$Exchange", name := "keep", desc := "(LCrossbarExchange$Call;)V" } : Jvm.MethodName) prog_3_method_3_code (2 : Nat) (Option.none : Option Jvm.ClassFile.FieldType)) ∈ lw_all := lw_g (lw_at lw_m8 142 rfl) rfl
theorem q1974 : (Jvm.Cond.methodLink "CrossbarExchange$Exchange" (291 : Nat) ({ cls := "CrossbarExchange$Exchange", name := "refuse", desc := "(I)I" } : Jvm.MethodName)) ∈ lw_all := lw_g (lw_at lw_m8 143 rfl) rfl
theorem q1975 : (Jvm.Cond.privateMethod ({ cls := "CrossbarExchange$Exchange", name := "refuse", desc := "(I)I" } : Jvm.MethodName)) ∈ lw_tbl := lw_at lw_m8 144 rfl
theorem q1976 : (Jvm.Cond.instanceMethod ({ cls := "CrossbarExchange$Exchange", name := "refuse", desc := "(I)I" } : Jvm.MethodName)) ∈ lw_all := lw_g (lw_at lw_m8 145 rfl) rfl
theorem q1977 : (Jvm.Cond.code ({ cls := "CrossbarExchange$Exchange", name := "refuse", desc := "(I)I" } : Jvm.MethodName) prog_3_method_34_code (2 : Nat) (Option.some Jvm.ClassFile.FieldType.int)) ∈ lw_all := lw_g (lw_at lw_m8 146 rfl) rfl
theorem q1986 : (Jvm.Cond.instanceMethod ({ cls := "CrossbarExchange$Exchange", name := "dial", desc := "(III)I" } : Jvm.MethodName)) ∈ lw_all := lw_g (lw_at lw_m8 155 rfl) rfl
theorem q1987 : (Jvm.Cond.selects "CrossbarExchange$Exchange" ({ cls := "CrossbarExchange$Exchange", name := "dial", desc := "(III)I" } : Jvm.MethodName) ({ cls := "CrossbarExchange$Exchange", name := "dial", desc := "(III)I" } : Jvm.MethodName)) ∈ lw_all := lw_g (lw_at lw_m8 156 rfl) rfl
theorem q1988 : (Jvm.Cond.code ({ cls := "CrossbarExchange$Exchange", name := "dial", desc := "(III)I" } : Jvm.MethodName) prog_3_method_38_code (6 : Nat) (Option.some Jvm.ClassFile.FieldType.int)) ∈ lw_all := lw_g (lw_at lw_m8 157 rfl) rfl
theorem q1989 : (Jvm.Cond.classLink "CrossbarExchange$Exchange" (123 : Nat) "CrossbarExchange$Group") ∈ lw_all := lw_g (lw_at lw_m8 158 rfl) rfl
theorem q1990 : (Jvm.Cond.methodLink "CrossbarExchange$Exchange" (300 : Nat) ({ cls := "CrossbarExchange$Exchange", name := "member", desc := "(LCrossbarExchange$Group;IZ)I" } : Jvm.MethodName)) ∈ lw_all := lw_g (lw_at lw_m8 159 rfl) rfl
theorem q1991 : (Jvm.Cond.privateMethod ({ cls := "CrossbarExchange$Exchange", name := "member", desc := "(LCrossbarExchange$Group;IZ)I" } : Jvm.MethodName)) ∈ lw_tbl := lw_at lw_m8 160 rfl
theorem q1992 : (Jvm.Cond.instanceMethod ({ cls := "CrossbarExchange$Exchange", name := "member", desc := "(LCrossbarExchange$Group;IZ)I" } : Jvm.MethodName)) ∈ lw_all := lw_g (lw_at lw_m8 161 rfl) rfl
theorem q1993 : (Jvm.Cond.code ({ cls := "CrossbarExchange$Exchange", name := "member", desc := "(LCrossbarExchange$Group;IZ)I" } : Jvm.MethodName) prog_3_method_37_code (6 : Nat) (Option.some Jvm.ClassFile.FieldType.int)) ∈ lw_all := lw_g (lw_at lw_m8 162 rfl) rfl
theorem q1994 : (Jvm.Cond.methodLink "CrossbarExchange$Exchange" (297 : Nat) ({ cls := "java/lang/Integer", name := "intValue", desc := "()I" } : Jvm.MethodName)) ∈ lw_all := lw_g (lw_at lw_m8 163 rfl) rfl
theorem q1996 : (Jvm.Cond.methodLink "CrossbarExchange$Exchange" (304 : Nat) ({ cls := "CrossbarExchange$Waiter", name := "<init>", desc := "(IIII)V" } : Jvm.MethodName)) ∈ lw_all := lw_g (lw_at lw_m8 165 rfl) rfl
theorem q2001 : (Jvm.Cond.fieldLinkNest "CrossbarExchange$Exchange" (172 : Nat) "CrossbarExchange$Waiter" "caller" "I" "CrossbarExchange") ∈ lw_tbl := lw_at lw_m8 170 rfl
theorem q2004 : (Jvm.Cond.fieldLinkNest "CrossbarExchange$Exchange" (307 : Nat) "CrossbarExchange$Waiter" "group" "I" "CrossbarExchange") ∈ lw_tbl := lw_at lw_m8 173 rfl
theorem q2007 : (Jvm.Cond.fieldLinkNest "CrossbarExchange$Exchange" (312 : Nat) "CrossbarExchange$Waiter" "lasts" "I" "CrossbarExchange") ∈ lw_tbl := lw_at lw_m8 176 rfl
theorem q2010 : (Jvm.Cond.fieldLinkNest "CrossbarExchange$Exchange" (315 : Nat) "CrossbarExchange$Waiter" "since" "I" "CrossbarExchange") ∈ lw_tbl := lw_at lw_m8 179 rfl
theorem q2021 : (Jvm.Cond.methodLink "CrossbarExchange$Exchange" (131 : Nat) ({ cls := "CrossbarExchange$Exchange", name := "queue", desc := "(LCrossbarExchange$Waiter;)V" } : Jvm.MethodName)) ∈ lw_all := lw_g (lw_at lw_m8 190 rfl) rfl
theorem q2022 : (Jvm.Cond.privateMethod ({ cls := "CrossbarExchange$Exchange", name := "queue", desc := "(LCrossbarExchange$Waiter;)V" } : Jvm.MethodName)) ∈ lw_tbl := lw_at lw_m8 191 rfl
theorem q2023 : (Jvm.Cond.instanceMethod ({ cls := "CrossbarExchange$Exchange", name := "queue", desc := "(LCrossbarExchange$Waiter;)V" } : Jvm.MethodName)) ∈ lw_all := lw_g (lw_at lw_m8 192 rfl) rfl
theorem q2024 : (Jvm.Cond.code ({ cls := "CrossbarExchange$Exchange", name := "queue", desc := "(LCrossbarExchange$Waiter;)V" } : Jvm.MethodName) prog_3_method_6_code (3 : Nat) (Option.none : Option Jvm.ClassFile.FieldType)) ∈ lw_all := lw_g (lw_at lw_m8 193 rfl) rfl
theorem q2027 : (Jvm.Cond.instanceMethod ({ cls := "CrossbarExchange$Exchange", name := "hangUp", desc := "(I)I" } : Jvm.MethodName)) ∈ lw_all := lw_g (lw_at lw_m8 196 rfl) rfl
theorem q2028 : (Jvm.Cond.selects "CrossbarExchange$Exchange" ({ cls := "CrossbarExchange$Exchange", name := "hangUp", desc := "(I)I" } : Jvm.MethodName) ({ cls := "CrossbarExchange$Exchange", name := "hangUp", desc := "(I)I" } : Jvm.MethodName)) ∈ lw_all := lw_g (lw_at lw_m8 197 rfl) rfl
theorem q2029 : (Jvm.Cond.code ({ cls := "CrossbarExchange$Exchange", name := "hangUp", desc := "(I)I" } : Jvm.MethodName) prog_3_method_41_code (5 : Nat) (Option.some Jvm.ClassFile.FieldType.int)) ∈ lw_all := lw_g (lw_at lw_m8 198 rfl) rfl
theorem q2030 : (Jvm.Cond.methodLink "CrossbarExchange$Exchange" (318 : Nat) ({ cls := "CrossbarExchange$Exchange", name := "end", desc := "(LCrossbarExchange$Call;I)V" } : Jvm.MethodName)) ∈ lw_all := lw_g (lw_at lw_m8 199 rfl) rfl
theorem q2031 : (Jvm.Cond.privateMethod ({ cls := "CrossbarExchange$Exchange", name := "end", desc := "(LCrossbarExchange$Call;I)V" } : Jvm.MethodName)) ∈ lw_tbl := lw_at lw_m8 200 rfl
theorem q2032 : (Jvm.Cond.instanceMethod ({ cls := "CrossbarExchange$Exchange", name := "end", desc := "(LCrossbarExchange$Call;I)V" } : Jvm.MethodName)) ∈ lw_all := lw_g (lw_at lw_m8 201 rfl) rfl
theorem q2033 : (Jvm.Cond.code ({ cls := "CrossbarExchange$Exchange", name := "end", desc := "(LCrossbarExchange$Call;I)V" } : Jvm.MethodName) prog_3_method_40_code (3 : Nat) (Option.none : Option Jvm.ClassFile.FieldType)) ∈ lw_all := lw_g (lw_at lw_m8 202 rfl) rfl
theorem q2034 : (Jvm.Cond.interfaceEntry "CrossbarExchange$Exchange" (310 : Nat)) ∈ lw_tbl := lw_at lw_m8 203 rfl
theorem q2035 : (Jvm.Cond.methodLink "CrossbarExchange$Exchange" (310 : Nat) ({ cls := "java/util/List", name := "remove", desc := "(I)Ljava/lang/Object;" } : Jvm.MethodName)) ∈ lw_all := lw_g (lw_at lw_m8 204 rfl) rfl
theorem q2048 : (Jvm.Cond.methodLink "CrossbarExchange$Exchange" (321 : Nat) ({ cls := "CrossbarExchange$Exchange", name := "serve", desc := "()V" } : Jvm.MethodName)) ∈ lw_all := lw_g (lw_at lw_m8 217 rfl) rfl
theorem q2049 : (Jvm.Cond.instanceMethod ({ cls := "CrossbarExchange$Exchange", name := "serve", desc := "()V" } : Jvm.MethodName)) ∈ lw_all := lw_g (lw_at lw_m8 218 rfl) rfl
theorem q2050 : (Jvm.Cond.selects "CrossbarExchange$Exchange" ({ cls := "CrossbarExchange$Exchange", name := "serve", desc := "()V" } : Jvm.MethodName) ({ cls := "CrossbarExchange$Exchange", name := "serve", desc := "()V" } : Jvm.MethodName)) ∈ lw_all := lw_g (lw_at lw_m8 219 rfl) rfl
theorem q2051 : (Jvm.Cond.code ({ cls := "CrossbarExchange$Exchange", name := "serve", desc := "()V" } : Jvm.MethodName) prog_3_method_39_code (6 : Nat) (Option.none : Option Jvm.ClassFile.FieldType)) ∈ lw_all := lw_g (lw_at lw_m8 220 rfl) rfl
theorem q2053 : (Jvm.Cond.instanceMethod ({ cls := "CrossbarExchange$Exchange", name := "ticks", desc := "(I)I" } : Jvm.MethodName)) ∈ lw_all := lw_g (lw_at lw_m8 222 rfl) rfl
theorem q2054 : (Jvm.Cond.selects "CrossbarExchange$Exchange" ({ cls := "CrossbarExchange$Exchange", name := "ticks", desc := "(I)I" } : Jvm.MethodName) ({ cls := "CrossbarExchange$Exchange", name := "ticks", desc := "(I)I" } : Jvm.MethodName)) ∈ lw_all := lw_g (lw_at lw_m8 223 rfl) rfl
theorem q2055 : (Jvm.Cond.code ({ cls := "CrossbarExchange$Exchange", name := "ticks", desc := "(I)I" } : Jvm.MethodName) prog_3_method_43_code (4 : Nat) (Option.some Jvm.ClassFile.FieldType.int)) ∈ lw_all := lw_g (lw_at lw_m8 224 rfl) rfl
theorem q2056 : (Jvm.Cond.methodLink "CrossbarExchange$Exchange" (327 : Nat) ({ cls := "CrossbarExchange$Exchange", name := "ends", desc := "()I" } : Jvm.MethodName)) ∈ lw_all := lw_g (lw_at lw_m8 225 rfl) rfl
theorem q2057 : (Jvm.Cond.privateMethod ({ cls := "CrossbarExchange$Exchange", name := "ends", desc := "()I" } : Jvm.MethodName)) ∈ lw_tbl := lw_at lw_m8 226 rfl
theorem q2058 : (Jvm.Cond.instanceMethod ({ cls := "CrossbarExchange$Exchange", name := "ends", desc := "()I" } : Jvm.MethodName)) ∈ lw_all := lw_g (lw_at lw_m8 227 rfl) rfl
theorem q2059 : (Jvm.Cond.code ({ cls := "CrossbarExchange$Exchange", name := "ends", desc := "()I" } : Jvm.MethodName) prog_3_method_42_code (4 : Nat) (Option.some Jvm.ClassFile.FieldType.int)) ∈ lw_all := lw_g (lw_at lw_m8 228 rfl) rfl
theorem q2060 : (Jvm.Cond.methodLink "CrossbarExchange$Exchange" (325 : Nat) ({ cls := "CrossbarExchange$Call", name := "end", desc := "()I" } : Jvm.MethodName)) ∈ lw_all := lw_g (lw_at lw_m8 229 rfl) rfl
theorem q2070 : (Jvm.Cond.instanceMethod ({ cls := "CrossbarExchange$Exchange", name := "cut", desc := "(I)I" } : Jvm.MethodName)) ∈ lw_all := lw_g (lw_at lw_m8 239 rfl) rfl
theorem q2071 : (Jvm.Cond.selects "CrossbarExchange$Exchange" ({ cls := "CrossbarExchange$Exchange", name := "cut", desc := "(I)I" } : Jvm.MethodName) ({ cls := "CrossbarExchange$Exchange", name := "cut", desc := "(I)I" } : Jvm.MethodName)) ∈ lw_all := lw_g (lw_at lw_m9 0 rfl) rfl
theorem q2072 : (Jvm.Cond.code ({ cls := "CrossbarExchange$Exchange", name := "cut", desc := "(I)I" } : Jvm.MethodName) prog_3_method_44_code (5 : Nat) (Option.some Jvm.ClassFile.FieldType.int)) ∈ lw_all := lw_g (lw_at lw_m9 1 rfl) rfl
theorem q2073 : (Jvm.Cond.methodLink "CrossbarExchange$Exchange" (109 : Nat) ({ cls := "CrossbarExchange$Exchange", name := "cuts", desc := "(I)V" } : Jvm.MethodName)) ∈ lw_all := lw_g (lw_at lw_m9 2 rfl) rfl
theorem q2074 : (Jvm.Cond.privateMethod ({ cls := "CrossbarExchange$Exchange", name := "cuts", desc := "(I)V" } : Jvm.MethodName)) ∈ lw_tbl := lw_at lw_m9 3 rfl
theorem q2075 : (Jvm.Cond.instanceMethod ({ cls := "CrossbarExchange$Exchange", name := "cuts", desc := "(I)V" } : Jvm.MethodName)) ∈ lw_all := lw_g (lw_at lw_m9 4 rfl) rfl
theorem q2076 : (Jvm.Cond.code ({ cls := "CrossbarExchange$Exchange", name := "cuts", desc := "(I)V" } : Jvm.MethodName) prog_3_method_4_code (3 : Nat) (Option.none : Option Jvm.ClassFile.FieldType)) ∈ lw_all := lw_g (lw_at lw_m9 5 rfl) rfl
theorem q2077 : (Jvm.Cond.methodLink "CrossbarExchange$Exchange" (156 : Nat) ({ cls := "java/util/HashSet", name := "add", desc := "(Ljava/lang/Object;)Z" } : Jvm.MethodName)) ∈ lw_all := lw_g (lw_at lw_m9 6 rfl) rfl
theorem q2084 : (Jvm.Cond.methodLink "CrossbarExchange$Exchange" (330 : Nat) ({ cls := "CrossbarExchange$Exchange", name := "isRouted", desc := "(LCrossbarExchange$Call;)Z" } : Jvm.MethodName)) ∈ lw_all := lw_g (lw_at lw_m9 13 rfl) rfl
theorem q2085 : (Jvm.Cond.privateMethod ({ cls := "CrossbarExchange$Exchange", name := "isRouted", desc := "(LCrossbarExchange$Call;)Z" } : Jvm.MethodName)) ∈ lw_tbl := lw_at lw_m9 14 rfl
theorem q2086 : (Jvm.Cond.instanceMethod ({ cls := "CrossbarExchange$Exchange", name := "isRouted", desc := "(LCrossbarExchange$Call;)Z" } : Jvm.MethodName)) ∈ lw_all := lw_g (lw_at lw_m9 15 rfl) rfl
theorem q2087 : (Jvm.Cond.code ({ cls := "CrossbarExchange$Exchange", name := "isRouted", desc := "(LCrossbarExchange$Call;)Z" } : Jvm.MethodName) prog_3_method_45_code (3 : Nat) (Option.some Jvm.ClassFile.FieldType.boolean)) ∈ lw_all := lw_g (lw_at lw_m9 16 rfl) rfl
theorem q2089 : (Jvm.Cond.instanceMethod ({ cls := "CrossbarExchange$Exchange", name := "mend", desc := "(I)I" } : Jvm.MethodName)) ∈ lw_all := lw_g (lw_at lw_m9 18 rfl) rfl
theorem q2090 : (Jvm.Cond.selects "CrossbarExchange$Exchange" ({ cls := "CrossbarExchange$Exchange", name := "mend", desc := "(I)I" } : Jvm.MethodName) ({ cls := "CrossbarExchange$Exchange", name := "mend", desc := "(I)I" } : Jvm.MethodName)) ∈ lw_all := lw_g (lw_at lw_m9 19 rfl) rfl
theorem q2091 : (Jvm.Cond.code ({ cls := "CrossbarExchange$Exchange", name := "mend", desc := "(I)I" } : Jvm.MethodName) prog_3_method_46_code (3 : Nat) (Option.some Jvm.ClassFile.FieldType.int)) ∈ lw_all := lw_g (lw_at lw_m9 20 rfl) rfl
theorem q2092 : (Jvm.Cond.methodLink "CrossbarExchange$Exchange" (334 : Nat) ({ cls := "java/util/HashSet", name := "remove", desc := "(Ljava/lang/Object;)Z" } : Jvm.MethodName)) ∈ lw_all := lw_g (lw_at lw_m9 21 rfl) rfl
theorem q2097 : (Jvm.Cond.methodLink "CrossbarExchange$Exchange" (336 : Nat) ({ cls := "CrossbarExchange$Exchange", name := "inOrder", desc := "()I" } : Jvm.MethodName)) ∈ lw_all := lw_g (lw_at lw_m9 26 rfl) rfl
theorem q2098 : (Jvm.Cond.instanceMethod ({ cls := "CrossbarExchange$Exchange", name := "inOrder", desc := "()I" } : Jvm.MethodName)) ∈ lw_all := lw_g (lw_at lw_m9 27 rfl) rfl
theorem q2099 : (Jvm.Cond.selects "CrossbarExchange$Exchange" ({ cls := "CrossbarExchange$Exchange", name := "inOrder", desc := "()I" } : Jvm.MethodName) ({ cls := "CrossbarExchange$Exchange", name := "inOrder", desc := "()I" } : Jvm.MethodName)) ∈ lw_all := lw_g (lw_at lw_m9 28 rfl) rfl
theorem q2100 : (Jvm.Cond.code ({ cls := "CrossbarExchange$Exchange", name := "inOrder", desc := "()I" } : Jvm.MethodName) prog_3_method_16_code (1 : Nat) (Option.some Jvm.ClassFile.FieldType.int)) ∈ lw_all := lw_g (lw_at lw_m9 29 rfl) rfl
theorem q2101 : (Jvm.Cond.methodLink "CrossbarExchange$Exchange" (180 : Nat) ({ cls := "java/util/HashSet", name := "size", desc := "()I" } : Jvm.MethodName)) ∈ lw_all := lw_g (lw_at lw_m9 30 rfl) rfl
theorem q2124 : (Jvm.Cond.instanceMethod ({ cls := "CrossbarExchange$Exchange", name := "pack", desc := "()I" } : Jvm.MethodName)) ∈ lw_all := lw_g (lw_at lw_m9 53 rfl) rfl
theorem q2125 : (Jvm.Cond.selects "CrossbarExchange$Exchange" ({ cls := "CrossbarExchange$Exchange", name := "pack", desc := "()I" } : Jvm.MethodName) ({ cls := "CrossbarExchange$Exchange", name := "pack", desc := "()I" } : Jvm.MethodName)) ∈ lw_all := lw_g (lw_at lw_m9 54 rfl) rfl
theorem q2126 : (Jvm.Cond.code ({ cls := "CrossbarExchange$Exchange", name := "pack", desc := "()I" } : Jvm.MethodName) prog_3_method_49_code (5 : Nat) (Option.some Jvm.ClassFile.FieldType.int)) ∈ lw_all := lw_g (lw_at lw_m9 55 rfl) rfl
theorem q2127 : (Jvm.Cond.methodLink "CrossbarExchange$Exchange" (348 : Nat) ({ cls := "CrossbarExchange$Exchange", name := "needed", desc := "()I" } : Jvm.MethodName)) ∈ lw_all := lw_g (lw_at lw_m9 56 rfl) rfl
theorem q2128 : (Jvm.Cond.instanceMethod ({ cls := "CrossbarExchange$Exchange", name := "needed", desc := "()I" } : Jvm.MethodName)) ∈ lw_all := lw_g (lw_at lw_m9 57 rfl) rfl
theorem q2129 : (Jvm.Cond.selects "CrossbarExchange$Exchange" ({ cls := "CrossbarExchange$Exchange", name := "needed", desc := "()I" } : Jvm.MethodName) ({ cls := "CrossbarExchange$Exchange", name := "needed", desc := "()I" } : Jvm.MethodName)) ∈ lw_all := lw_g (lw_at lw_m9 58 rfl) rfl
theorem q2130 : (Jvm.Cond.code ({ cls := "CrossbarExchange$Exchange", name := "needed", desc := "()I" } : Jvm.MethodName) prog_3_method_48_code (3 : Nat) (Option.some Jvm.ClassFile.FieldType.int)) ∈ lw_all := lw_g (lw_at lw_m9 59 rfl) rfl
theorem q2131 : (Jvm.Cond.methodLink "CrossbarExchange$Exchange" (339 : Nat) ({ cls := "CrossbarExchange$Exchange", name := "callsAt", desc := "(IZ)I" } : Jvm.MethodName)) ∈ lw_all := lw_g (lw_at lw_m9 60 rfl) rfl
theorem q2132 : (Jvm.Cond.instanceMethod ({ cls := "CrossbarExchange$Exchange", name := "callsAt", desc := "(IZ)I" } : Jvm.MethodName)) ∈ lw_all := lw_g (lw_at lw_m9 61 rfl) rfl
theorem q2133 : (Jvm.Cond.selects "CrossbarExchange$Exchange" ({ cls := "CrossbarExchange$Exchange", name := "callsAt", desc := "(IZ)I" } : Jvm.MethodName) ({ cls := "CrossbarExchange$Exchange", name := "callsAt", desc := "(IZ)I" } : Jvm.MethodName)) ∈ lw_all := lw_g (lw_at lw_m9 62 rfl) rfl
theorem q2134 : (Jvm.Cond.code ({ cls := "CrossbarExchange$Exchange", name := "callsAt", desc := "(IZ)I" } : Jvm.MethodName) prog_3_method_47_code (5 : Nat) (Option.some Jvm.ClassFile.FieldType.int)) ∈ lw_all := lw_g (lw_at lw_m9 63 rfl) rfl
theorem q2135 : (Jvm.Cond.methodLink "CrossbarExchange$Exchange" (343 : Nat) ({ cls := "java/lang/Math", name := "max", desc := "(II)I" } : Jvm.MethodName)) ∈ lw_all := lw_g (lw_at lw_m9 64 rfl) rfl
theorem q2136 : (Jvm.Cond.methodLink "CrossbarExchange$Exchange" (351 : Nat) ({ cls := "CrossbarExchange$Exchange", name := "lowest", desc := "(I)I" } : Jvm.MethodName)) ∈ lw_all := lw_g (lw_at lw_m9 65 rfl) rfl
theorem q2137 : (Jvm.Cond.privateMethod ({ cls := "CrossbarExchange$Exchange", name := "lowest", desc := "(I)I" } : Jvm.MethodName)) ∈ lw_tbl := lw_at lw_m9 66 rfl
theorem q2138 : (Jvm.Cond.instanceMethod ({ cls := "CrossbarExchange$Exchange", name := "lowest", desc := "(I)I" } : Jvm.MethodName)) ∈ lw_all := lw_g (lw_at lw_m9 67 rfl) rfl
theorem q2139 : (Jvm.Cond.code ({ cls := "CrossbarExchange$Exchange", name := "lowest", desc := "(I)I" } : Jvm.MethodName) prog_3_method_18_code (5 : Nat) (Option.some Jvm.ClassFile.FieldType.int)) ∈ lw_all := lw_g (lw_at lw_m9 68 rfl) rfl
theorem q2140 : (Jvm.Cond.methodLink "CrossbarExchange$Exchange" (354 : Nat) ({ cls := "CrossbarExchange$Exchange", name := "packOne", desc := "(LCrossbarExchange$Call;I)V" } : Jvm.MethodName)) ∈ lw_all := lw_g (lw_at lw_m9 69 rfl) rfl
theorem q2141 : (Jvm.Cond.privateMethod ({ cls := "CrossbarExchange$Exchange", name := "packOne", desc := "(LCrossbarExchange$Call;I)V" } : Jvm.MethodName)) ∈ lw_tbl := lw_at lw_m9 70 rfl
theorem q2142 : (Jvm.Cond.instanceMethod ({ cls := "CrossbarExchange$Exchange", name := "packOne", desc := "(LCrossbarExchange$Call;I)V" } : Jvm.MethodName)) ∈ lw_all := lw_g (lw_at lw_m9 71 rfl) rfl
theorem q2143 : (Jvm.Cond.code ({ cls := "CrossbarExchange$Exchange", name := "packOne", desc := "(LCrossbarExchange$Call;I)V" } : Jvm.MethodName) prog_3_method_50_code (4 : Nat) (Option.none : Option Jvm.ClassFile.FieldType)) ∈ lw_all := lw_g (lw_at lw_m9 72 rfl) rfl
theorem q2149 : (Jvm.Cond.instanceMethod ({ cls := "CrossbarExchange$Exchange", name := "live", desc := "()I" } : Jvm.MethodName)) ∈ lw_all := lw_g (lw_at lw_m9 78 rfl) rfl
theorem q2150 : (Jvm.Cond.selects "CrossbarExchange$Exchange" ({ cls := "CrossbarExchange$Exchange", name := "live", desc := "()I" } : Jvm.MethodName) ({ cls := "CrossbarExchange$Exchange", name := "live", desc := "()I" } : Jvm.MethodName)) ∈ lw_all := lw_g (lw_at lw_m9 79 rfl) rfl
theorem q2151 : (Jvm.Cond.code ({ cls := "CrossbarExchange$Exchange", name := "live", desc := "()I" } : Jvm.MethodName) prog_3_method_11_code (3 : Nat) (Option.some Jvm.ClassFile.FieldType.int)) ∈ lw_all := lw_g (lw_at lw_m9 80 rfl) rfl
theorem q2157 : (Jvm.Cond.instanceMethod ({ cls := "CrossbarExchange$Exchange", name := "copy", desc := "()LCrossbarExchange$Exchange;" } : Jvm.MethodName)) ∈ lw_all := lw_g (lw_at lw_m9 86 rfl) rfl
theorem q2158 : (Jvm.Cond.selects "CrossbarExchange$Exchange" ({ cls := "CrossbarExchange$Exchange", name := "copy", desc := "()LCrossbarExchange$Exchange;" } : Jvm.MethodName) ({ cls := "CrossbarExchange$Exchange", name := "copy", desc := "()LCrossbarExchange$Exchange;" } : Jvm.MethodName)) ∈ lw_all := lw_g (lw_at lw_m9 87 rfl) rfl
theorem q2159 : (Jvm.Cond.code ({ cls := "CrossbarExchange$Exchange", name := "copy", desc := "()LCrossbarExchange$Exchange;" } : Jvm.MethodName) prog_3_method_2_code (4 : Nat) (Option.some (Jvm.ClassFile.FieldType.object "CrossbarExchange$Exchange"))) ∈ lw_all := lw_g (lw_at lw_m9 88 rfl) rfl
theorem q2160 : (Jvm.Cond.classLink "CrossbarExchange$Exchange" (12 : Nat) "CrossbarExchange$Exchange") ∈ lw_all := lw_g (lw_at lw_m9 89 rfl) rfl
theorem q2161 : (Jvm.Cond.methodLink "CrossbarExchange$Exchange" (78 : Nat) ({ cls := "CrossbarExchange$Exchange", name := "<init>", desc := "(III)V" } : Jvm.MethodName)) ∈ lw_all := lw_g (lw_at lw_m9 90 rfl) rfl
theorem q2162 : (Jvm.Cond.methodLink "CrossbarExchange$Exchange" (84 : Nat) ({ cls := "CrossbarExchange$Call", name := "copy", desc := "()LCrossbarExchange$Call;" } : Jvm.MethodName)) ∈ lw_all := lw_g (lw_at lw_m9 91 rfl) rfl
theorem q2168 : (Jvm.Cond.methodLink "CrossbarExchange$Exchange" (125 : Nat) ({ cls := "CrossbarExchange$Exchange", name := "join", desc := "(LCrossbarExchange$Group;)V" } : Jvm.MethodName)) ∈ lw_all := lw_g (lw_at lw_m9 97 rfl) rfl
theorem q2169 : (Jvm.Cond.methodLink "CrossbarExchange$Exchange" (135 : Nat) ({ cls := "java/lang/System", name := "arraycopy", desc := "(Ljava/lang/Object;ILjava/lang/Object;II)V" } : Jvm.MethodName)) ∈ lw_all := lw_g (lw_at lw_m9 98 rfl) rfl
theorem q2206 : (Jvm.Cond.instanceMethod ({ cls := "CrossbarExchange$Exchange", name := "blocked", desc := "()I" } : Jvm.MethodName)) ∈ lw_all := lw_g (lw_at lw_m9 135 rfl) rfl
theorem q2207 : (Jvm.Cond.selects "CrossbarExchange$Exchange" ({ cls := "CrossbarExchange$Exchange", name := "blocked", desc := "()I" } : Jvm.MethodName) ({ cls := "CrossbarExchange$Exchange", name := "blocked", desc := "()I" } : Jvm.MethodName)) ∈ lw_all := lw_g (lw_at lw_m9 136 rfl) rfl
theorem q2208 : (Jvm.Cond.code ({ cls := "CrossbarExchange$Exchange", name := "blocked", desc := "()I" } : Jvm.MethodName) prog_3_method_53_code (5 : Nat) (Option.some Jvm.ClassFile.FieldType.int)) ∈ lw_all := lw_g (lw_at lw_m9 137 rfl) rfl
theorem q2209 : (Jvm.Cond.methodLink "CrossbarExchange$Exchange" (357 : Nat) ({ cls := "CrossbarExchange$Exchange", name := "idleAt", desc := "(I)I" } : Jvm.MethodName)) ∈ lw_all := lw_g (lw_at lw_m9 138 rfl) rfl
theorem q2210 : (Jvm.Cond.instanceMethod ({ cls := "CrossbarExchange$Exchange", name := "idleAt", desc := "(I)I" } : Jvm.MethodName)) ∈ lw_all := lw_g (lw_at lw_m9 139 rfl) rfl
theorem q2211 : (Jvm.Cond.selects "CrossbarExchange$Exchange" ({ cls := "CrossbarExchange$Exchange", name := "idleAt", desc := "(I)I" } : Jvm.MethodName) ({ cls := "CrossbarExchange$Exchange", name := "idleAt", desc := "(I)I" } : Jvm.MethodName)) ∈ lw_all := lw_g (lw_at lw_m9 140 rfl) rfl
theorem q2212 : (Jvm.Cond.code ({ cls := "CrossbarExchange$Exchange", name := "idleAt", desc := "(I)I" } : Jvm.MethodName) prog_3_method_52_code (4 : Nat) (Option.some Jvm.ClassFile.FieldType.int)) ∈ lw_all := lw_g (lw_at lw_m9 141 rfl) rfl
theorem q2735 : (Jvm.Cond.instanceMethod ({ cls := "CrossbarExchange$Exchange", name := "chainFor", desc := "(II)LCrossbarExchange$Path;" } : Jvm.MethodName)) ∈ lw_all := lw_g (lw_at lw_m11 184 rfl) rfl
theorem q2736 : (Jvm.Cond.selects "CrossbarExchange$Exchange" ({ cls := "CrossbarExchange$Exchange", name := "chainFor", desc := "(II)LCrossbarExchange$Path;" } : Jvm.MethodName) ({ cls := "CrossbarExchange$Exchange", name := "chainFor", desc := "(II)LCrossbarExchange$Path;" } : Jvm.MethodName)) ∈ lw_all := lw_g (lw_at lw_m11 185 rfl) rfl
theorem q2737 : (Jvm.Cond.code ({ cls := "CrossbarExchange$Exchange", name := "chainFor", desc := "(II)LCrossbarExchange$Path;" } : Jvm.MethodName) prog_3_method_29_code (3 : Nat) (Option.some (Jvm.ClassFile.FieldType.object "CrossbarExchange$Path"))) ∈ lw_all := lw_g (lw_at lw_m11 186 rfl) rfl
theorem q2773 : (Jvm.Cond.instanceMethod ({ cls := "CrossbarExchange$Exchange", name := "greatestUsed", desc := "()I" } : Jvm.MethodName)) ∈ lw_all := lw_g (lw_at lw_m11 222 rfl) rfl
theorem q2774 : (Jvm.Cond.selects "CrossbarExchange$Exchange" ({ cls := "CrossbarExchange$Exchange", name := "greatestUsed", desc := "()I" } : Jvm.MethodName) ({ cls := "CrossbarExchange$Exchange", name := "greatestUsed", desc := "()I" } : Jvm.MethodName)) ∈ lw_all := lw_g (lw_at lw_m11 223 rfl) rfl
theorem q2775 : (Jvm.Cond.code ({ cls := "CrossbarExchange$Exchange", name := "greatestUsed", desc := "()I" } : Jvm.MethodName) prog_3_method_51_code (3 : Nat) (Option.some Jvm.ClassFile.FieldType.int)) ∈ lw_all := lw_g (lw_at lw_m11 224 rfl) rfl
theorem q3525 : (Jvm.Cond.castable "CrossbarExchange$Exchange" "java/lang/Object") ∈ lw_tbl := lw_at lw_m15 14 rfl
theorem in_X2 : ∀ w ∈ wsX20, w ∈ lw_all := lw_in wsX20 [376, 378, 380, 382, 384, 386, 388, 390, 392, 394, 396, 398, 400, 402, 404, 406, 408] (by decide +kernel) (by decide +kernel)
