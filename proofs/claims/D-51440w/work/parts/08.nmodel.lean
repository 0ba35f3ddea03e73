/-! CrossbarExchangeModel -/
set_option maxRecDepth 100000
def RX5 : String := "CrossbarExchangeModel"
def TX5 : u_T := fun k => match k with
  | 0 => ("CrossbarExchangeModel", "code", "I", false)
  | 1 => ("CrossbarExchangeModel", "input", "[B", true)
  | 2 => ("CrossbarExchangeModel", "inputLength", "I", false)
  | 3 => ("CrossbarExchangeModel", "error", "I", false)
  | 4 => ("CrossbarExchangeModel", "position", "I", false)
  | 5 => ("CrossbarExchangeModel", "out", "[B", true)
  | 6 => ("CrossbarExchangeModel", "outLength", "I", false)
  | 7 => ("CrossbarExchangeModel", "switches", "I", false)
  | 8 => ("CrossbarExchangeModel", "lines", "I", false)
  | 9 => ("CrossbarExchangeModel", "middles", "I", false)
  | 10 => ("CrossbarExchangeModel", "cutSet", "I", false)
  | 11 => ("CrossbarExchangeModel", "mode", "I", false)
  | 12 => ("CrossbarExchangeModel", "hunt", "I", false)
  | 13 => ("CrossbarExchangeModel", "tick", "I", false)
  | 14 => ("CrossbarExchangeModel", "latest", "I", false)
  | 15 => ("CrossbarExchangeModel", "begun", "I", false)
  | 16 => ("CrossbarExchangeModel", "calls", "I", false)
  | 17 => ("CrossbarExchangeModel", "number", "[I", true)
  | 18 => ("CrossbarExchangeModel", "caller", "[I", true)
  | 19 => ("CrossbarExchangeModel", "callee", "[I", true)
  | 20 => ("CrossbarExchangeModel", "middle", "[I", true)
  | 21 => ("CrossbarExchangeModel", "began", "[I", true)
  | 22 => ("CrossbarExchangeModel", "lasts", "[I", true)
  | 23 => ("CrossbarExchangeModel", "moved", "[I", true)
  | 24 => ("CrossbarExchangeModel", "waiters", "I", false)
  | 25 => ("CrossbarExchangeModel", "waiter", "[I", true)
  | 26 => ("CrossbarExchangeModel", "waitsFor", "[I", true)
  | 27 => ("CrossbarExchangeModel", "waitLasts", "[I", true)
  | 28 => ("CrossbarExchangeModel", "waitsSince", "[I", true)
  | 29 => ("CrossbarExchangeModel", "groups", "I", false)
  | 30 => ("CrossbarExchangeModel", "nameLength", "[I", true)
  | 31 => ("CrossbarExchangeModel", "nameBytes", "[I", true)
  | 32 => ("CrossbarExchangeModel", "memberCount", "[I", true)
  | 33 => ("CrossbarExchangeModel", "members", "[I", true)
  | 34 => ("CrossbarExchangeModel", "accounts", "[I", true)
  | 35 => ("CrossbarExchangeModel", "images", "[I", true)
  | 36 => ("CrossbarExchangeModel", "oldest", "I", false)
  | 37 => ("CrossbarExchangeModel", "undoable", "I", false)
  | 38 => ("CrossbarExchangeModel", "inSlot", "[Z", true)
  | 39 => ("CrossbarExchangeModel", "links", "[I", true)
  | 40 => ("CrossbarExchangeModel", "trial", "[I", true)
  | 41 => ("CrossbarExchangeModel", "chainSize", "I", false)
  | 42 => ("CrossbarExchangeModel", "chainP", "I", false)
  | 43 => ("CrossbarExchangeModel", "chainQ", "I", false)
  | 44 => ("CrossbarExchangeModel", "chainIsFirst", "Z", false)
  | 45 => ("CrossbarExchangeModel", "before", "[I", true)
  | 46 => ("CrossbarExchangeModel", "at", "I", false)
  | 47 => ("CrossbarExchangeModel", "start", "I", false)
  | 48 => ("CrossbarExchangeModel", "kind", "I", false)
  | 49 => ("CrossbarExchangeModel", "length", "I", false)
  | 50 => ("CrossbarExchangeModel", "value", "I", false)
  | 51 => ("CrossbarExchangeModel", "told", "[I", true)
  | _ => ("CrossbarExchangeModel", "place", "I", false)
def tyX5 : Nat → FieldType := fun k => match k with
  | 0 => .int
  | 1 => .array .byte
  | 2 => .int
  | 3 => .int
  | 4 => .int
  | 5 => .array .byte
  | 6 => .int
  | 7 => .int
  | 8 => .int
  | 9 => .int
  | 10 => .int
  | 11 => .int
  | 12 => .int
  | 13 => .int
  | 14 => .int
  | 15 => .int
  | 16 => .int
  | 17 => .array .int
  | 18 => .array .int
  | 19 => .array .int
  | 20 => .array .int
  | 21 => .array .int
  | 22 => .array .int
  | 23 => .array .int
  | 24 => .int
  | 25 => .array .int
  | 26 => .array .int
  | 27 => .array .int
  | 28 => .array .int
  | 29 => .int
  | 30 => .array .int
  | 31 => .array .int
  | 32 => .array .int
  | 33 => .array .int
  | 34 => .array .int
  | 35 => .array .int
  | 36 => .int
  | 37 => .int
  | 38 => .array .boolean
  | 39 => .array .int
  | 40 => .array .int
  | 41 => .int
  | 42 => .int
  | 43 => .int
  | 44 => .boolean
  | 45 => .array .int
  | 46 => .int
  | 47 => .int
  | 48 => .int
  | 49 => .int
  | 50 => .int
  | 51 => .array .int
  | _ => .int
abbrev wsX50 : List Cond := u_ws RX5 TX5 53
set_option maxRecDepth 100000 in
theorem nmX5 : ∀ a, a < 53 → ∀ b, b < 53 → a ≠ b → (TX5 a).2.1 ≠ (TX5 b).2.1 := by decide +kernel
set_option maxRecDepth 100000 in
theorem tyX5_ok : ∀ k, k < 53 → parseFieldDescriptor (TX5 k).2.2.1 = some (tyX5 k) := by decide +kernel
abbrev cX5_init : ByteArray := prog_12_method_1_code
def yX5_init : MethodName := ⟨RX5, "<init>", "()V"⟩
def dkwX5_init_12 : List UInt8 := [180, 0, 78, 4, 8, 79, 177]
abbrev dktX5_init_12 : List UInt8 := dkwX5_init_12 ++ []
def dkwX5_init_11 : List UInt8 := [79, 42, 180, 0, 72, 6, 16, 107, 79, 42, 180, 0, 75, 3, 5, 79, 42, 180, 0, 78, 3, 7, 79, 42]
abbrev dktX5_init_11 : List UInt8 := dkwX5_init_11 ++ dktX5_init_12
def dkwX5_init_10 : List UInt8 := [79, 42, 180, 0, 72, 3, 16, 100, 79, 42, 180, 0, 72, 4, 16, 101, 79, 42, 180, 0, 72, 5, 16, 115]
abbrev dktX5_init_10 : List UInt8 := dkwX5_init_10 ++ dktX5_init_11
def dkwX5_init_9 : List UInt8 := [188, 10, 181, 0, 97, 42, 16, 8, 188, 10, 181, 0, 100, 42, 4, 181, 0, 103, 42, 180, 0, 69, 3, 7]
abbrev dktX5_init_9 : List UInt8 := dkwX5_init_9 ++ dktX5_init_10
def dkwX5_init_8 : List UInt8 := [188, 4, 181, 0, 87, 42, 16, 20, 188, 10, 181, 0, 91, 42, 16, 20, 188, 10, 181, 0, 94, 42, 16, 20]
abbrev dktX5_init_8 : List UInt8 := dkwX5_init_8 ++ dktX5_init_9
def dkwX5_init_7 : List UInt8 := [188, 10, 181, 0, 78, 42, 16, 13, 188, 10, 181, 0, 81, 42, 17, 15, 0, 188, 10, 181, 0, 84, 42, 5]
abbrev dktX5_init_7 : List UInt8 := dkwX5_init_7 ++ dktX5_init_8
def dkwX5_init_6 : List UInt8 := [188, 10, 181, 0, 69, 42, 16, 24, 188, 10, 181, 0, 72, 42, 7, 188, 10, 181, 0, 75, 42, 16, 32]
abbrev dktX5_init_6 : List UInt8 := dkwX5_init_6 ++ dktX5_init_7
def dkwX5_init_5 : List UInt8 := [188, 10, 181, 0, 60, 42, 16, 9, 188, 10, 181, 0, 63, 42, 16, 9, 188, 10, 181, 0, 66, 42, 7]
abbrev dktX5_init_5 : List UInt8 := dkwX5_init_5 ++ dktX5_init_6
def dkwX5_init_4 : List UInt8 := [188, 10, 181, 0, 51, 42, 16, 20, 188, 10, 181, 0, 54, 42, 16, 9, 188, 10, 181, 0, 57, 42, 16, 9]
abbrev dktX5_init_4 : List UInt8 := dkwX5_init_4 ++ dktX5_init_5
def dkwX5_init_3 : List UInt8 := [188, 10, 181, 0, 42, 42, 16, 20, 188, 10, 181, 0, 45, 42, 16, 20, 188, 10, 181, 0, 48, 42, 16, 20]
abbrev dktX5_init_3 : List UInt8 := dkwX5_init_3 ++ dktX5_init_4
def dkwX5_init_2 : List UInt8 := [4, 181, 0, 32, 42, 16, 20, 188, 10, 181, 0, 35, 42, 16, 20, 188, 10, 181, 0, 39, 42, 16, 20]
abbrev dktX5_init_2 : List UInt8 := dkwX5_init_2 ++ dktX5_init_3
def dkwX5_init_1 : List UInt8 := [181, 0, 17, 42, 6, 181, 0, 20, 42, 5, 181, 0, 23, 42, 5, 181, 0, 26, 42, 4, 181, 0, 29, 42]
abbrev dktX5_init_1 : List UInt8 := dkwX5_init_1 ++ dktX5_init_2
def dkwX5_init_0 : List UInt8 := [42, 183, 0, 1, 42, 17, 2, 88, 188, 8, 181, 0, 7, 42, 2, 181, 0, 13, 42, 17, 3, 232, 188, 8]
abbrev dktX5_init_0 : List UInt8 := dkwX5_init_0 ++ dktX5_init_1
theorem dksX5_init_0 : cX5_init.data.toList.drop 0 = dktX5_init_0 := by decide +kernel
theorem dksX5_init_1 : cX5_init.data.toList.drop 24 = dktX5_init_1 := dk_seg dksX5_init_0 24 rfl rfl
theorem dksX5_init_2 : cX5_init.data.toList.drop 48 = dktX5_init_2 := dk_seg dksX5_init_1 24 rfl rfl
theorem dksX5_init_3 : cX5_init.data.toList.drop 71 = dktX5_init_3 := dk_seg dksX5_init_2 23 rfl rfl
theorem dksX5_init_4 : cX5_init.data.toList.drop 95 = dktX5_init_4 := dk_seg dksX5_init_3 24 rfl rfl
theorem dksX5_init_5 : cX5_init.data.toList.drop 119 = dktX5_init_5 := dk_seg dksX5_init_4 24 rfl rfl
theorem dksX5_init_6 : cX5_init.data.toList.drop 142 = dktX5_init_6 := dk_seg dksX5_init_5 23 rfl rfl
theorem dksX5_init_7 : cX5_init.data.toList.drop 165 = dktX5_init_7 := dk_seg dksX5_init_6 23 rfl rfl
theorem dksX5_init_8 : cX5_init.data.toList.drop 189 = dktX5_init_8 := dk_seg dksX5_init_7 24 rfl rfl
theorem dksX5_init_9 : cX5_init.data.toList.drop 213 = dktX5_init_9 := dk_seg dksX5_init_8 24 rfl rfl
theorem dksX5_init_10 : cX5_init.data.toList.drop 237 = dktX5_init_10 := dk_seg dksX5_init_9 24 rfl rfl
theorem dksX5_init_11 : cX5_init.data.toList.drop 261 = dktX5_init_11 := dk_seg dksX5_init_10 24 rfl rfl
theorem dksX5_init_12 : cX5_init.data.toList.drop 285 = dktX5_init_12 := dk_seg dksX5_init_11 24 rfl rfl
theorem dX5_init_0 : decode cX5_init 0 = .ok (.aload_n 0, 1) := dk_42 (dk_at dksX5_init_0 0 rfl rfl)
theorem dX5_init_1 : decode cX5_init 1 = .ok (.invokespecial 1, 3) := dk_183 0 1 (dk_at dksX5_init_0 1 rfl rfl)
theorem dX5_init_4 : decode cX5_init 4 = .ok (.aload_n 0, 1) := dk_42 (dk_at dksX5_init_0 4 rfl rfl)
theorem dX5_init_5 : decode cX5_init 5 = .ok (.sipush 600, 3) := dk_17 2 88 (dk_at dksX5_init_0 5 rfl rfl)
theorem dX5_init_8 : decode cX5_init 8 = .ok (.newarray .byte, 2) := dk_188_8 (dk_at dksX5_init_0 8 rfl rfl)
theorem dX5_init_10 : decode cX5_init 10 = .ok (.putfield 7, 3) := dk_181 0 7 (dk_at dksX5_init_0 10 rfl rfl)
theorem dX5_init_13 : decode cX5_init 13 = .ok (.aload_n 0, 1) := dk_42 (dk_at dksX5_init_0 13 rfl rfl)
theorem dX5_init_14 : decode cX5_init 14 = .ok (.iconst (-1), 1) := dk_2 (dk_at dksX5_init_0 14 rfl rfl)
theorem dX5_init_15 : decode cX5_init 15 = .ok (.putfield 13, 3) := dk_181 0 13 (dk_at dksX5_init_0 15 rfl rfl)
theorem dX5_init_18 : decode cX5_init 18 = .ok (.aload_n 0, 1) := dk_42 (dk_at dksX5_init_0 18 rfl rfl)
theorem dX5_init_19 : decode cX5_init 19 = .ok (.sipush 1000, 3) := dk_17 3 232 (dk_at dksX5_init_0 19 rfl rfl)
theorem dX5_init_22 : decode cX5_init 22 = .ok (.newarray .byte, 2) := dk_188_8 (dk_at dksX5_init_0 22 rfl rfl)
theorem dX5_init_24 : decode cX5_init 24 = .ok (.putfield 17, 3) := dk_181 0 17 (dk_at dksX5_init_1 0 rfl rfl)
theorem dX5_init_27 : decode cX5_init 27 = .ok (.aload_n 0, 1) := dk_42 (dk_at dksX5_init_1 3 rfl rfl)
theorem dX5_init_28 : decode cX5_init 28 = .ok (.iconst 3, 1) := dk_6 (dk_at dksX5_init_1 4 rfl rfl)
theorem dX5_init_29 : decode cX5_init 29 = .ok (.putfield 20, 3) := dk_181 0 20 (dk_at dksX5_init_1 5 rfl rfl)
theorem dX5_init_32 : decode cX5_init 32 = .ok (.aload_n 0, 1) := dk_42 (dk_at dksX5_init_1 8 rfl rfl)
theorem dX5_init_33 : decode cX5_init 33 = .ok (.iconst 2, 1) := dk_5 (dk_at dksX5_init_1 9 rfl rfl)
theorem dX5_init_34 : decode cX5_init 34 = .ok (.putfield 23, 3) := dk_181 0 23 (dk_at dksX5_init_1 10 rfl rfl)
theorem dX5_init_37 : decode cX5_init 37 = .ok (.aload_n 0, 1) := dk_42 (dk_at dksX5_init_1 13 rfl rfl)
theorem dX5_init_38 : decode cX5_init 38 = .ok (.iconst 2, 1) := dk_5 (dk_at dksX5_init_1 14 rfl rfl)
theorem dX5_init_39 : decode cX5_init 39 = .ok (.putfield 26, 3) := dk_181 0 26 (dk_at dksX5_init_1 15 rfl rfl)
theorem dX5_init_42 : decode cX5_init 42 = .ok (.aload_n 0, 1) := dk_42 (dk_at dksX5_init_1 18 rfl rfl)
theorem dX5_init_43 : decode cX5_init 43 = .ok (.iconst 1, 1) := dk_4 (dk_at dksX5_init_1 19 rfl rfl)
theorem dX5_init_44 : decode cX5_init 44 = .ok (.putfield 29, 3) := dk_181 0 29 (dk_at dksX5_init_1 20 rfl rfl)
theorem dX5_init_47 : decode cX5_init 47 = .ok (.aload_n 0, 1) := dk_42 (dk_at dksX5_init_1 23 rfl rfl)
theorem dX5_init_48 : decode cX5_init 48 = .ok (.iconst 1, 1) := dk_4 (dk_at dksX5_init_2 0 rfl rfl)
theorem dX5_init_49 : decode cX5_init 49 = .ok (.putfield 32, 3) := dk_181 0 32 (dk_at dksX5_init_2 1 rfl rfl)
theorem dX5_init_52 : decode cX5_init 52 = .ok (.aload_n 0, 1) := dk_42 (dk_at dksX5_init_2 4 rfl rfl)
theorem dX5_init_53 : decode cX5_init 53 = .ok (.bipush 20, 2) := dk_16 20 (dk_at dksX5_init_2 5 rfl rfl)
theorem dX5_init_55 : decode cX5_init 55 = .ok (.newarray .int, 2) := dk_188_10 (dk_at dksX5_init_2 7 rfl rfl)
theorem dX5_init_57 : decode cX5_init 57 = .ok (.putfield 35, 3) := dk_181 0 35 (dk_at dksX5_init_2 9 rfl rfl)
theorem dX5_init_60 : decode cX5_init 60 = .ok (.aload_n 0, 1) := dk_42 (dk_at dksX5_init_2 12 rfl rfl)
theorem dX5_init_61 : decode cX5_init 61 = .ok (.bipush 20, 2) := dk_16 20 (dk_at dksX5_init_2 13 rfl rfl)
theorem dX5_init_63 : decode cX5_init 63 = .ok (.newarray .int, 2) := dk_188_10 (dk_at dksX5_init_2 15 rfl rfl)
theorem dX5_init_65 : decode cX5_init 65 = .ok (.putfield 39, 3) := dk_181 0 39 (dk_at dksX5_init_2 17 rfl rfl)
theorem dX5_init_68 : decode cX5_init 68 = .ok (.aload_n 0, 1) := dk_42 (dk_at dksX5_init_2 20 rfl rfl)
theorem dX5_init_69 : decode cX5_init 69 = .ok (.bipush 20, 2) := dk_16 20 (dk_at dksX5_init_2 21 rfl rfl)
theorem dX5_init_71 : decode cX5_init 71 = .ok (.newarray .int, 2) := dk_188_10 (dk_at dksX5_init_3 0 rfl rfl)
theorem dX5_init_73 : decode cX5_init 73 = .ok (.putfield 42, 3) := dk_181 0 42 (dk_at dksX5_init_3 2 rfl rfl)
theorem dX5_init_76 : decode cX5_init 76 = .ok (.aload_n 0, 1) := dk_42 (dk_at dksX5_init_3 5 rfl rfl)
theorem dX5_init_77 : decode cX5_init 77 = .ok (.bipush 20, 2) := dk_16 20 (dk_at dksX5_init_3 6 rfl rfl)
theorem dX5_init_79 : decode cX5_init 79 = .ok (.newarray .int, 2) := dk_188_10 (dk_at dksX5_init_3 8 rfl rfl)
theorem dX5_init_81 : decode cX5_init 81 = .ok (.putfield 45, 3) := dk_181 0 45 (dk_at dksX5_init_3 10 rfl rfl)
theorem dX5_init_84 : decode cX5_init 84 = .ok (.aload_n 0, 1) := dk_42 (dk_at dksX5_init_3 13 rfl rfl)
theorem dX5_init_85 : decode cX5_init 85 = .ok (.bipush 20, 2) := dk_16 20 (dk_at dksX5_init_3 14 rfl rfl)
theorem dX5_init_87 : decode cX5_init 87 = .ok (.newarray .int, 2) := dk_188_10 (dk_at dksX5_init_3 16 rfl rfl)
theorem dX5_init_89 : decode cX5_init 89 = .ok (.putfield 48, 3) := dk_181 0 48 (dk_at dksX5_init_3 18 rfl rfl)
theorem dX5_init_92 : decode cX5_init 92 = .ok (.aload_n 0, 1) := dk_42 (dk_at dksX5_init_3 21 rfl rfl)
theorem dX5_init_93 : decode cX5_init 93 = .ok (.bipush 20, 2) := dk_16 20 (dk_at dksX5_init_3 22 rfl rfl)
theorem dX5_init_95 : decode cX5_init 95 = .ok (.newarray .int, 2) := dk_188_10 (dk_at dksX5_init_4 0 rfl rfl)
theorem dX5_init_97 : decode cX5_init 97 = .ok (.putfield 51, 3) := dk_181 0 51 (dk_at dksX5_init_4 2 rfl rfl)
theorem dX5_init_100 : decode cX5_init 100 = .ok (.aload_n 0, 1) := dk_42 (dk_at dksX5_init_4 5 rfl rfl)
theorem dX5_init_101 : decode cX5_init 101 = .ok (.bipush 20, 2) := dk_16 20 (dk_at dksX5_init_4 6 rfl rfl)
theorem dX5_init_103 : decode cX5_init 103 = .ok (.newarray .int, 2) := dk_188_10 (dk_at dksX5_init_4 8 rfl rfl)
theorem dX5_init_105 : decode cX5_init 105 = .ok (.putfield 54, 3) := dk_181 0 54 (dk_at dksX5_init_4 10 rfl rfl)
theorem dX5_init_108 : decode cX5_init 108 = .ok (.aload_n 0, 1) := dk_42 (dk_at dksX5_init_4 13 rfl rfl)
theorem dX5_init_109 : decode cX5_init 109 = .ok (.bipush 9, 2) := dk_16 9 (dk_at dksX5_init_4 14 rfl rfl)
theorem dX5_init_111 : decode cX5_init 111 = .ok (.newarray .int, 2) := dk_188_10 (dk_at dksX5_init_4 16 rfl rfl)
theorem dX5_init_113 : decode cX5_init 113 = .ok (.putfield 57, 3) := dk_181 0 57 (dk_at dksX5_init_4 18 rfl rfl)
theorem dX5_init_116 : decode cX5_init 116 = .ok (.aload_n 0, 1) := dk_42 (dk_at dksX5_init_4 21 rfl rfl)
theorem dX5_init_117 : decode cX5_init 117 = .ok (.bipush 9, 2) := dk_16 9 (dk_at dksX5_init_4 22 rfl rfl)
theorem dX5_init_119 : decode cX5_init 119 = .ok (.newarray .int, 2) := dk_188_10 (dk_at dksX5_init_5 0 rfl rfl)
theorem dX5_init_121 : decode cX5_init 121 = .ok (.putfield 60, 3) := dk_181 0 60 (dk_at dksX5_init_5 2 rfl rfl)
theorem dX5_init_124 : decode cX5_init 124 = .ok (.aload_n 0, 1) := dk_42 (dk_at dksX5_init_5 5 rfl rfl)
theorem dX5_init_125 : decode cX5_init 125 = .ok (.bipush 9, 2) := dk_16 9 (dk_at dksX5_init_5 6 rfl rfl)
theorem dX5_init_127 : decode cX5_init 127 = .ok (.newarray .int, 2) := dk_188_10 (dk_at dksX5_init_5 8 rfl rfl)
theorem dX5_init_129 : decode cX5_init 129 = .ok (.putfield 63, 3) := dk_181 0 63 (dk_at dksX5_init_5 10 rfl rfl)
theorem dX5_init_132 : decode cX5_init 132 = .ok (.aload_n 0, 1) := dk_42 (dk_at dksX5_init_5 13 rfl rfl)
theorem dX5_init_133 : decode cX5_init 133 = .ok (.bipush 9, 2) := dk_16 9 (dk_at dksX5_init_5 14 rfl rfl)
theorem dX5_init_135 : decode cX5_init 135 = .ok (.newarray .int, 2) := dk_188_10 (dk_at dksX5_init_5 16 rfl rfl)
theorem dX5_init_137 : decode cX5_init 137 = .ok (.putfield 66, 3) := dk_181 0 66 (dk_at dksX5_init_5 18 rfl rfl)
theorem dX5_init_140 : decode cX5_init 140 = .ok (.aload_n 0, 1) := dk_42 (dk_at dksX5_init_5 21 rfl rfl)
theorem dX5_init_141 : decode cX5_init 141 = .ok (.iconst 4, 1) := dk_7 (dk_at dksX5_init_5 22 rfl rfl)
theorem dX5_init_142 : decode cX5_init 142 = .ok (.newarray .int, 2) := dk_188_10 (dk_at dksX5_init_6 0 rfl rfl)
theorem dX5_init_144 : decode cX5_init 144 = .ok (.putfield 69, 3) := dk_181 0 69 (dk_at dksX5_init_6 2 rfl rfl)
theorem dX5_init_147 : decode cX5_init 147 = .ok (.aload_n 0, 1) := dk_42 (dk_at dksX5_init_6 5 rfl rfl)
theorem dX5_init_148 : decode cX5_init 148 = .ok (.bipush 24, 2) := dk_16 24 (dk_at dksX5_init_6 6 rfl rfl)
theorem dX5_init_150 : decode cX5_init 150 = .ok (.newarray .int, 2) := dk_188_10 (dk_at dksX5_init_6 8 rfl rfl)
theorem dX5_init_152 : decode cX5_init 152 = .ok (.putfield 72, 3) := dk_181 0 72 (dk_at dksX5_init_6 10 rfl rfl)
theorem dX5_init_155 : decode cX5_init 155 = .ok (.aload_n 0, 1) := dk_42 (dk_at dksX5_init_6 13 rfl rfl)
theorem dX5_init_156 : decode cX5_init 156 = .ok (.iconst 4, 1) := dk_7 (dk_at dksX5_init_6 14 rfl rfl)
theorem dX5_init_157 : decode cX5_init 157 = .ok (.newarray .int, 2) := dk_188_10 (dk_at dksX5_init_6 15 rfl rfl)
theorem dX5_init_159 : decode cX5_init 159 = .ok (.putfield 75, 3) := dk_181 0 75 (dk_at dksX5_init_6 17 rfl rfl)
theorem dX5_init_162 : decode cX5_init 162 = .ok (.aload_n 0, 1) := dk_42 (dk_at dksX5_init_6 20 rfl rfl)
theorem dX5_init_163 : decode cX5_init 163 = .ok (.bipush 32, 2) := dk_16 32 (dk_at dksX5_init_6 21 rfl rfl)
theorem dX5_init_165 : decode cX5_init 165 = .ok (.newarray .int, 2) := dk_188_10 (dk_at dksX5_init_7 0 rfl rfl)
theorem dX5_init_167 : decode cX5_init 167 = .ok (.putfield 78, 3) := dk_181 0 78 (dk_at dksX5_init_7 2 rfl rfl)
theorem dX5_init_170 : decode cX5_init 170 = .ok (.aload_n 0, 1) := dk_42 (dk_at dksX5_init_7 5 rfl rfl)
theorem dX5_init_171 : decode cX5_init 171 = .ok (.bipush 13, 2) := dk_16 13 (dk_at dksX5_init_7 6 rfl rfl)
theorem dX5_init_173 : decode cX5_init 173 = .ok (.newarray .int, 2) := dk_188_10 (dk_at dksX5_init_7 8 rfl rfl)
theorem dX5_init_175 : decode cX5_init 175 = .ok (.putfield 81, 3) := dk_181 0 81 (dk_at dksX5_init_7 10 rfl rfl)
theorem dX5_init_178 : decode cX5_init 178 = .ok (.aload_n 0, 1) := dk_42 (dk_at dksX5_init_7 13 rfl rfl)
theorem dX5_init_179 : decode cX5_init 179 = .ok (.sipush 3840, 3) := dk_17 15 0 (dk_at dksX5_init_7 14 rfl rfl)
theorem dX5_init_182 : decode cX5_init 182 = .ok (.newarray .int, 2) := dk_188_10 (dk_at dksX5_init_7 17 rfl rfl)
theorem dX5_init_184 : decode cX5_init 184 = .ok (.putfield 84, 3) := dk_181 0 84 (dk_at dksX5_init_7 19 rfl rfl)
theorem dX5_init_187 : decode cX5_init 187 = .ok (.aload_n 0, 1) := dk_42 (dk_at dksX5_init_7 22 rfl rfl)
theorem dX5_init_188 : decode cX5_init 188 = .ok (.iconst 2, 1) := dk_5 (dk_at dksX5_init_7 23 rfl rfl)
theorem dX5_init_189 : decode cX5_init 189 = .ok (.newarray .boolean, 2) := dk_188_4 (dk_at dksX5_init_8 0 rfl rfl)
theorem dX5_init_191 : decode cX5_init 191 = .ok (.putfield 87, 3) := dk_181 0 87 (dk_at dksX5_init_8 2 rfl rfl)
theorem dX5_init_194 : decode cX5_init 194 = .ok (.aload_n 0, 1) := dk_42 (dk_at dksX5_init_8 5 rfl rfl)
theorem dX5_init_195 : decode cX5_init 195 = .ok (.bipush 20, 2) := dk_16 20 (dk_at dksX5_init_8 6 rfl rfl)
theorem dX5_init_197 : decode cX5_init 197 = .ok (.newarray .int, 2) := dk_188_10 (dk_at dksX5_init_8 8 rfl rfl)
theorem dX5_init_199 : decode cX5_init 199 = .ok (.putfield 91, 3) := dk_181 0 91 (dk_at dksX5_init_8 10 rfl rfl)
theorem dX5_init_202 : decode cX5_init 202 = .ok (.aload_n 0, 1) := dk_42 (dk_at dksX5_init_8 13 rfl rfl)
theorem dX5_init_203 : decode cX5_init 203 = .ok (.bipush 20, 2) := dk_16 20 (dk_at dksX5_init_8 14 rfl rfl)
theorem dX5_init_205 : decode cX5_init 205 = .ok (.newarray .int, 2) := dk_188_10 (dk_at dksX5_init_8 16 rfl rfl)
theorem dX5_init_207 : decode cX5_init 207 = .ok (.putfield 94, 3) := dk_181 0 94 (dk_at dksX5_init_8 18 rfl rfl)
theorem dX5_init_210 : decode cX5_init 210 = .ok (.aload_n 0, 1) := dk_42 (dk_at dksX5_init_8 21 rfl rfl)
theorem dX5_init_211 : decode cX5_init 211 = .ok (.bipush 20, 2) := dk_16 20 (dk_at dksX5_init_8 22 rfl rfl)
theorem dX5_init_213 : decode cX5_init 213 = .ok (.newarray .int, 2) := dk_188_10 (dk_at dksX5_init_9 0 rfl rfl)
theorem dX5_init_215 : decode cX5_init 215 = .ok (.putfield 97, 3) := dk_181 0 97 (dk_at dksX5_init_9 2 rfl rfl)
theorem dX5_init_218 : decode cX5_init 218 = .ok (.aload_n 0, 1) := dk_42 (dk_at dksX5_init_9 5 rfl rfl)
theorem dX5_init_219 : decode cX5_init 219 = .ok (.bipush 8, 2) := dk_16 8 (dk_at dksX5_init_9 6 rfl rfl)
theorem dX5_init_221 : decode cX5_init 221 = .ok (.newarray .int, 2) := dk_188_10 (dk_at dksX5_init_9 8 rfl rfl)
theorem dX5_init_223 : decode cX5_init 223 = .ok (.putfield 100, 3) := dk_181 0 100 (dk_at dksX5_init_9 10 rfl rfl)
theorem dX5_init_226 : decode cX5_init 226 = .ok (.aload_n 0, 1) := dk_42 (dk_at dksX5_init_9 13 rfl rfl)
theorem dX5_init_227 : decode cX5_init 227 = .ok (.iconst 1, 1) := dk_4 (dk_at dksX5_init_9 14 rfl rfl)
theorem dX5_init_228 : decode cX5_init 228 = .ok (.putfield 103, 3) := dk_181 0 103 (dk_at dksX5_init_9 15 rfl rfl)
theorem dX5_init_231 : decode cX5_init 231 = .ok (.aload_n 0, 1) := dk_42 (dk_at dksX5_init_9 18 rfl rfl)
theorem dX5_init_232 : decode cX5_init 232 = .ok (.getfield 69, 3) := dk_180 0 69 (dk_at dksX5_init_9 19 rfl rfl)
theorem dX5_init_235 : decode cX5_init 235 = .ok (.iconst 0, 1) := dk_3 (dk_at dksX5_init_9 22 rfl rfl)
theorem dX5_init_236 : decode cX5_init 236 = .ok (.iconst 4, 1) := dk_7 (dk_at dksX5_init_9 23 rfl rfl)
theorem dX5_init_237 : decode cX5_init 237 = .ok (.iastore, 1) := dk_79 (dk_at dksX5_init_10 0 rfl rfl)
theorem dX5_init_238 : decode cX5_init 238 = .ok (.aload_n 0, 1) := dk_42 (dk_at dksX5_init_10 1 rfl rfl)
theorem dX5_init_239 : decode cX5_init 239 = .ok (.getfield 72, 3) := dk_180 0 72 (dk_at dksX5_init_10 2 rfl rfl)
theorem dX5_init_242 : decode cX5_init 242 = .ok (.iconst 0, 1) := dk_3 (dk_at dksX5_init_10 5 rfl rfl)
theorem dX5_init_243 : decode cX5_init 243 = .ok (.bipush 100, 2) := dk_16 100 (dk_at dksX5_init_10 6 rfl rfl)
theorem dX5_init_245 : decode cX5_init 245 = .ok (.iastore, 1) := dk_79 (dk_at dksX5_init_10 8 rfl rfl)
theorem dX5_init_246 : decode cX5_init 246 = .ok (.aload_n 0, 1) := dk_42 (dk_at dksX5_init_10 9 rfl rfl)
theorem dX5_init_247 : decode cX5_init 247 = .ok (.getfield 72, 3) := dk_180 0 72 (dk_at dksX5_init_10 10 rfl rfl)
theorem dX5_init_250 : decode cX5_init 250 = .ok (.iconst 1, 1) := dk_4 (dk_at dksX5_init_10 13 rfl rfl)
theorem dX5_init_251 : decode cX5_init 251 = .ok (.bipush 101, 2) := dk_16 101 (dk_at dksX5_init_10 14 rfl rfl)
theorem dX5_init_253 : decode cX5_init 253 = .ok (.iastore, 1) := dk_79 (dk_at dksX5_init_10 16 rfl rfl)
theorem dX5_init_254 : decode cX5_init 254 = .ok (.aload_n 0, 1) := dk_42 (dk_at dksX5_init_10 17 rfl rfl)
theorem dX5_init_255 : decode cX5_init 255 = .ok (.getfield 72, 3) := dk_180 0 72 (dk_at dksX5_init_10 18 rfl rfl)
theorem dX5_init_258 : decode cX5_init 258 = .ok (.iconst 2, 1) := dk_5 (dk_at dksX5_init_10 21 rfl rfl)
theorem dX5_init_259 : decode cX5_init 259 = .ok (.bipush 115, 2) := dk_16 115 (dk_at dksX5_init_10 22 rfl rfl)
theorem dX5_init_261 : decode cX5_init 261 = .ok (.iastore, 1) := dk_79 (dk_at dksX5_init_11 0 rfl rfl)
theorem dX5_init_262 : decode cX5_init 262 = .ok (.aload_n 0, 1) := dk_42 (dk_at dksX5_init_11 1 rfl rfl)
theorem dX5_init_263 : decode cX5_init 263 = .ok (.getfield 72, 3) := dk_180 0 72 (dk_at dksX5_init_11 2 rfl rfl)
theorem dX5_init_266 : decode cX5_init 266 = .ok (.iconst 3, 1) := dk_6 (dk_at dksX5_init_11 5 rfl rfl)
theorem dX5_init_267 : decode cX5_init 267 = .ok (.bipush 107, 2) := dk_16 107 (dk_at dksX5_init_11 6 rfl rfl)
theorem dX5_init_269 : decode cX5_init 269 = .ok (.iastore, 1) := dk_79 (dk_at dksX5_init_11 8 rfl rfl)
theorem dX5_init_270 : decode cX5_init 270 = .ok (.aload_n 0, 1) := dk_42 (dk_at dksX5_init_11 9 rfl rfl)
theorem dX5_init_271 : decode cX5_init 271 = .ok (.getfield 75, 3) := dk_180 0 75 (dk_at dksX5_init_11 10 rfl rfl)
theorem dX5_init_274 : decode cX5_init 274 = .ok (.iconst 0, 1) := dk_3 (dk_at dksX5_init_11 13 rfl rfl)
theorem dX5_init_275 : decode cX5_init 275 = .ok (.iconst 2, 1) := dk_5 (dk_at dksX5_init_11 14 rfl rfl)
theorem dX5_init_276 : decode cX5_init 276 = .ok (.iastore, 1) := dk_79 (dk_at dksX5_init_11 15 rfl rfl)
theorem dX5_init_277 : decode cX5_init 277 = .ok (.aload_n 0, 1) := dk_42 (dk_at dksX5_init_11 16 rfl rfl)
theorem dX5_init_278 : decode cX5_init 278 = .ok (.getfield 78, 3) := dk_180 0 78 (dk_at dksX5_init_11 17 rfl rfl)
theorem dX5_init_281 : decode cX5_init 281 = .ok (.iconst 0, 1) := dk_3 (dk_at dksX5_init_11 20 rfl rfl)
theorem dX5_init_282 : decode cX5_init 282 = .ok (.iconst 4, 1) := dk_7 (dk_at dksX5_init_11 21 rfl rfl)
theorem dX5_init_283 : decode cX5_init 283 = .ok (.iastore, 1) := dk_79 (dk_at dksX5_init_11 22 rfl rfl)
theorem dX5_init_284 : decode cX5_init 284 = .ok (.aload_n 0, 1) := dk_42 (dk_at dksX5_init_11 23 rfl rfl)
theorem dX5_init_285 : decode cX5_init 285 = .ok (.getfield 78, 3) := dk_180 0 78 (dk_at dksX5_init_12 0 rfl rfl)
theorem dX5_init_288 : decode cX5_init 288 = .ok (.iconst 1, 1) := dk_4 (dk_at dksX5_init_12 3 rfl rfl)
theorem dX5_init_289 : decode cX5_init 289 = .ok (.iconst 5, 1) := dk_8 (dk_at dksX5_init_12 4 rfl rfl)
theorem dX5_init_290 : decode cX5_init 290 = .ok (.iastore, 1) := dk_79 (dk_at dksX5_init_12 5 rfl rfl)
theorem dX5_init_291 : decode cX5_init 291 = .ok (.return_, 1) := dk_177 (dk_at dksX5_init_12 6 rfl rfl)
abbrev cX5_thrown : ByteArray := prog_12_method_2_code
def yX5_thrown : MethodName := ⟨RX5, "thrown", "()I"⟩
theorem dX5_thrown_0 : decode cX5_thrown 0 = .ok (.aload_n 0, 1) := by decide +kernel
theorem dX5_thrown_1 : decode cX5_thrown 1 = .ok (.getfield 106, 3) := by decide +kernel
theorem dX5_thrown_4 : decode cX5_thrown 4 = .ok (.ireturn, 1) := by decide +kernel
abbrev cX5_append : ByteArray := prog_12_method_4_code
def yX5_append : MethodName := ⟨RX5, "append", "(IIIII)I"⟩
def dkwX5_append_2 : List UInt8 := [172]
abbrev dktX5_append_2 : List UInt8 := dkwX5_append_2 ++ []
def dkwX5_append_1 : List UInt8 := [182, 0, 112, 42, 29, 182, 0, 112, 42, 21, 4, 182, 0, 112, 42, 21, 5, 182, 0, 112, 42, 180, 0, 109]
abbrev dktX5_append_1 : List UInt8 := dkwX5_append_1 ++ dktX5_append_2
def dkwX5_append_0 : List UInt8 := [42, 3, 181, 0, 106, 42, 180, 0, 109, 17, 2, 68, 164, 0, 5, 2, 172, 42, 27, 182, 0, 112, 42, 28]
abbrev dktX5_append_0 : List UInt8 := dkwX5_append_0 ++ dktX5_append_1
theorem dksX5_append_0 : cX5_append.data.toList.drop 0 = dktX5_append_0 := by decide +kernel
theorem dksX5_append_1 : cX5_append.data.toList.drop 24 = dktX5_append_1 := dk_seg dksX5_append_0 24 rfl rfl
theorem dksX5_append_2 : cX5_append.data.toList.drop 48 = dktX5_append_2 := dk_seg dksX5_append_1 24 rfl rfl
theorem dX5_append_0 : decode cX5_append 0 = .ok (.aload_n 0, 1) := dk_42 (dk_at dksX5_append_0 0 rfl rfl)
theorem dX5_append_1 : decode cX5_append 1 = .ok (.iconst 0, 1) := dk_3 (dk_at dksX5_append_0 1 rfl rfl)
theorem dX5_append_2 : decode cX5_append 2 = .ok (.putfield 106, 3) := dk_181 0 106 (dk_at dksX5_append_0 2 rfl rfl)
theorem dX5_append_5 : decode cX5_append 5 = .ok (.aload_n 0, 1) := dk_42 (dk_at dksX5_append_0 5 rfl rfl)
theorem dX5_append_6 : decode cX5_append 6 = .ok (.getfield 109, 3) := dk_180 0 109 (dk_at dksX5_append_0 6 rfl rfl)
theorem dX5_append_9 : decode cX5_append 9 = .ok (.sipush 580, 3) := dk_17 2 68 (dk_at dksX5_append_0 9 rfl rfl)
theorem dX5_append_12 : decode cX5_append 12 = .ok (.if_icmp .le 5, 3) := dk_164 0 5 (dk_at dksX5_append_0 12 rfl rfl)
theorem dX5_append_15 : decode cX5_append 15 = .ok (.iconst (-1), 1) := dk_2 (dk_at dksX5_append_0 15 rfl rfl)
theorem dX5_append_16 : decode cX5_append 16 = .ok (.ireturn, 1) := dk_172 (dk_at dksX5_append_0 16 rfl rfl)
theorem dX5_append_17 : decode cX5_append 17 = .ok (.aload_n 0, 1) := dk_42 (dk_at dksX5_append_0 17 rfl rfl)
theorem dX5_append_18 : decode cX5_append 18 = .ok (.iload_n 1, 1) := dk_27 (dk_at dksX5_append_0 18 rfl rfl)
theorem dX5_append_19 : decode cX5_append 19 = .ok (.invokevirtual 112, 3) := dk_182 0 112 (dk_at dksX5_append_0 19 rfl rfl)
theorem dX5_append_22 : decode cX5_append 22 = .ok (.aload_n 0, 1) := dk_42 (dk_at dksX5_append_0 22 rfl rfl)
theorem dX5_append_23 : decode cX5_append 23 = .ok (.iload_n 2, 1) := dk_28 (dk_at dksX5_append_0 23 rfl rfl)
theorem dX5_append_24 : decode cX5_append 24 = .ok (.invokevirtual 112, 3) := dk_182 0 112 (dk_at dksX5_append_1 0 rfl rfl)
theorem dX5_append_27 : decode cX5_append 27 = .ok (.aload_n 0, 1) := dk_42 (dk_at dksX5_append_1 3 rfl rfl)
theorem dX5_append_28 : decode cX5_append 28 = .ok (.iload_n 3, 1) := dk_29 (dk_at dksX5_append_1 4 rfl rfl)
theorem dX5_append_29 : decode cX5_append 29 = .ok (.invokevirtual 112, 3) := dk_182 0 112 (dk_at dksX5_append_1 5 rfl rfl)
theorem dX5_append_32 : decode cX5_append 32 = .ok (.aload_n 0, 1) := dk_42 (dk_at dksX5_append_1 8 rfl rfl)
theorem dX5_append_33 : decode cX5_append 33 = .ok (.iload 4, 2) := dk_21 4 (dk_at dksX5_append_1 9 rfl rfl)
theorem dX5_append_35 : decode cX5_append 35 = .ok (.invokevirtual 112, 3) := dk_182 0 112 (dk_at dksX5_append_1 11 rfl rfl)
theorem dX5_append_38 : decode cX5_append 38 = .ok (.aload_n 0, 1) := dk_42 (dk_at dksX5_append_1 14 rfl rfl)
theorem dX5_append_39 : decode cX5_append 39 = .ok (.iload 5, 2) := dk_21 5 (dk_at dksX5_append_1 15 rfl rfl)
theorem dX5_append_41 : decode cX5_append 41 = .ok (.invokevirtual 112, 3) := dk_182 0 112 (dk_at dksX5_append_1 17 rfl rfl)
theorem dX5_append_44 : decode cX5_append 44 = .ok (.aload_n 0, 1) := dk_42 (dk_at dksX5_append_1 20 rfl rfl)
theorem dX5_append_45 : decode cX5_append 45 = .ok (.getfield 109, 3) := dk_180 0 109 (dk_at dksX5_append_1 21 rfl rfl)
theorem dX5_append_48 : decode cX5_append 48 = .ok (.ireturn, 1) := dk_172 (dk_at dksX5_append_2 0 rfl rfl)
abbrev cX5_fourBytes : ByteArray := prog_12_method_5_code
def yX5_fourBytes : MethodName := ⟨RX5, "fourBytes", "(I)V"⟩
def dkwX5_fourBytes_2 : List UInt8 := [180, 0, 7, 42, 180, 0, 109, 6, 96, 27, 145, 84, 42, 89, 180, 0, 109, 7, 96, 181, 0, 109, 177]
abbrev dktX5_fourBytes_2 : List UInt8 := dkwX5_fourBytes_2 ++ []
def dkwX5_fourBytes_1 : List UInt8 := [27, 16, 16, 122, 145, 84, 42, 180, 0, 7, 42, 180, 0, 109, 5, 96, 27, 16, 8, 122, 145, 84, 42]
abbrev dktX5_fourBytes_1 : List UInt8 := dkwX5_fourBytes_1 ++ dktX5_fourBytes_2
def dkwX5_fourBytes_0 : List UInt8 := [42, 180, 0, 7, 42, 180, 0, 109, 27, 16, 24, 122, 145, 84, 42, 180, 0, 7, 42, 180, 0, 109, 4, 96]
abbrev dktX5_fourBytes_0 : List UInt8 := dkwX5_fourBytes_0 ++ dktX5_fourBytes_1
theorem dksX5_fourBytes_0 : cX5_fourBytes.data.toList.drop 0 = dktX5_fourBytes_0 := by decide +kernel
theorem dksX5_fourBytes_1 : cX5_fourBytes.data.toList.drop 24 = dktX5_fourBytes_1 := dk_seg dksX5_fourBytes_0 24 rfl rfl
theorem dksX5_fourBytes_2 : cX5_fourBytes.data.toList.drop 47 = dktX5_fourBytes_2 := dk_seg dksX5_fourBytes_1 23 rfl rfl
theorem dX5_fourBytes_0 : decode cX5_fourBytes 0 = .ok (.aload_n 0, 1) := dk_42 (dk_at dksX5_fourBytes_0 0 rfl rfl)
theorem dX5_fourBytes_1 : decode cX5_fourBytes 1 = .ok (.getfield 7, 3) := dk_180 0 7 (dk_at dksX5_fourBytes_0 1 rfl rfl)
theorem dX5_fourBytes_4 : decode cX5_fourBytes 4 = .ok (.aload_n 0, 1) := dk_42 (dk_at dksX5_fourBytes_0 4 rfl rfl)
theorem dX5_fourBytes_5 : decode cX5_fourBytes 5 = .ok (.getfield 109, 3) := dk_180 0 109 (dk_at dksX5_fourBytes_0 5 rfl rfl)
theorem dX5_fourBytes_8 : decode cX5_fourBytes 8 = .ok (.iload_n 1, 1) := dk_27 (dk_at dksX5_fourBytes_0 8 rfl rfl)
theorem dX5_fourBytes_9 : decode cX5_fourBytes 9 = .ok (.bipush 24, 2) := dk_16 24 (dk_at dksX5_fourBytes_0 9 rfl rfl)
theorem dX5_fourBytes_11 : decode cX5_fourBytes 11 = .ok (.ishr, 1) := dk_122 (dk_at dksX5_fourBytes_0 11 rfl rfl)
theorem dX5_fourBytes_12 : decode cX5_fourBytes 12 = .ok (.i2b, 1) := dk_145 (dk_at dksX5_fourBytes_0 12 rfl rfl)
theorem dX5_fourBytes_13 : decode cX5_fourBytes 13 = .ok (.bastore, 1) := dk_84 (dk_at dksX5_fourBytes_0 13 rfl rfl)
theorem dX5_fourBytes_14 : decode cX5_fourBytes 14 = .ok (.aload_n 0, 1) := dk_42 (dk_at dksX5_fourBytes_0 14 rfl rfl)
theorem dX5_fourBytes_15 : decode cX5_fourBytes 15 = .ok (.getfield 7, 3) := dk_180 0 7 (dk_at dksX5_fourBytes_0 15 rfl rfl)
theorem dX5_fourBytes_18 : decode cX5_fourBytes 18 = .ok (.aload_n 0, 1) := dk_42 (dk_at dksX5_fourBytes_0 18 rfl rfl)
theorem dX5_fourBytes_19 : decode cX5_fourBytes 19 = .ok (.getfield 109, 3) := dk_180 0 109 (dk_at dksX5_fourBytes_0 19 rfl rfl)
theorem dX5_fourBytes_22 : decode cX5_fourBytes 22 = .ok (.iconst 1, 1) := dk_4 (dk_at dksX5_fourBytes_0 22 rfl rfl)
theorem dX5_fourBytes_23 : decode cX5_fourBytes 23 = .ok (.iadd, 1) := dk_96 (dk_at dksX5_fourBytes_0 23 rfl rfl)
theorem dX5_fourBytes_24 : decode cX5_fourBytes 24 = .ok (.iload_n 1, 1) := dk_27 (dk_at dksX5_fourBytes_1 0 rfl rfl)
theorem dX5_fourBytes_25 : decode cX5_fourBytes 25 = .ok (.bipush 16, 2) := dk_16 16 (dk_at dksX5_fourBytes_1 1 rfl rfl)
theorem dX5_fourBytes_27 : decode cX5_fourBytes 27 = .ok (.ishr, 1) := dk_122 (dk_at dksX5_fourBytes_1 3 rfl rfl)
theorem dX5_fourBytes_28 : decode cX5_fourBytes 28 = .ok (.i2b, 1) := dk_145 (dk_at dksX5_fourBytes_1 4 rfl rfl)
theorem dX5_fourBytes_29 : decode cX5_fourBytes 29 = .ok (.bastore, 1) := dk_84 (dk_at dksX5_fourBytes_1 5 rfl rfl)
theorem dX5_fourBytes_30 : decode cX5_fourBytes 30 = .ok (.aload_n 0, 1) := dk_42 (dk_at dksX5_fourBytes_1 6 rfl rfl)
theorem dX5_fourBytes_31 : decode cX5_fourBytes 31 = .ok (.getfield 7, 3) := dk_180 0 7 (dk_at dksX5_fourBytes_1 7 rfl rfl)
theorem dX5_fourBytes_34 : decode cX5_fourBytes 34 = .ok (.aload_n 0, 1) := dk_42 (dk_at dksX5_fourBytes_1 10 rfl rfl)
theorem dX5_fourBytes_35 : decode cX5_fourBytes 35 = .ok (.getfield 109, 3) := dk_180 0 109 (dk_at dksX5_fourBytes_1 11 rfl rfl)
theorem dX5_fourBytes_38 : decode cX5_fourBytes 38 = .ok (.iconst 2, 1) := dk_5 (dk_at dksX5_fourBytes_1 14 rfl rfl)
theorem dX5_fourBytes_39 : decode cX5_fourBytes 39 = .ok (.iadd, 1) := dk_96 (dk_at dksX5_fourBytes_1 15 rfl rfl)
theorem dX5_fourBytes_40 : decode cX5_fourBytes 40 = .ok (.iload_n 1, 1) := dk_27 (dk_at dksX5_fourBytes_1 16 rfl rfl)
theorem dX5_fourBytes_41 : decode cX5_fourBytes 41 = .ok (.bipush 8, 2) := dk_16 8 (dk_at dksX5_fourBytes_1 17 rfl rfl)
theorem dX5_fourBytes_43 : decode cX5_fourBytes 43 = .ok (.ishr, 1) := dk_122 (dk_at dksX5_fourBytes_1 19 rfl rfl)
theorem dX5_fourBytes_44 : decode cX5_fourBytes 44 = .ok (.i2b, 1) := dk_145 (dk_at dksX5_fourBytes_1 20 rfl rfl)
theorem dX5_fourBytes_45 : decode cX5_fourBytes 45 = .ok (.bastore, 1) := dk_84 (dk_at dksX5_fourBytes_1 21 rfl rfl)
theorem dX5_fourBytes_46 : decode cX5_fourBytes 46 = .ok (.aload_n 0, 1) := dk_42 (dk_at dksX5_fourBytes_1 22 rfl rfl)
theorem dX5_fourBytes_47 : decode cX5_fourBytes 47 = .ok (.getfield 7, 3) := dk_180 0 7 (dk_at dksX5_fourBytes_2 0 rfl rfl)
theorem dX5_fourBytes_50 : decode cX5_fourBytes 50 = .ok (.aload_n 0, 1) := dk_42 (dk_at dksX5_fourBytes_2 3 rfl rfl)
theorem dX5_fourBytes_51 : decode cX5_fourBytes 51 = .ok (.getfield 109, 3) := dk_180 0 109 (dk_at dksX5_fourBytes_2 4 rfl rfl)
theorem dX5_fourBytes_54 : decode cX5_fourBytes 54 = .ok (.iconst 3, 1) := dk_6 (dk_at dksX5_fourBytes_2 7 rfl rfl)
theorem dX5_fourBytes_55 : decode cX5_fourBytes 55 = .ok (.iadd, 1) := dk_96 (dk_at dksX5_fourBytes_2 8 rfl rfl)
theorem dX5_fourBytes_56 : decode cX5_fourBytes 56 = .ok (.iload_n 1, 1) := dk_27 (dk_at dksX5_fourBytes_2 9 rfl rfl)
theorem dX5_fourBytes_57 : decode cX5_fourBytes 57 = .ok (.i2b, 1) := dk_145 (dk_at dksX5_fourBytes_2 10 rfl rfl)
theorem dX5_fourBytes_58 : decode cX5_fourBytes 58 = .ok (.bastore, 1) := dk_84 (dk_at dksX5_fourBytes_2 11 rfl rfl)
theorem dX5_fourBytes_59 : decode cX5_fourBytes 59 = .ok (.aload_n 0, 1) := dk_42 (dk_at dksX5_fourBytes_2 12 rfl rfl)
theorem dX5_fourBytes_60 : decode cX5_fourBytes 60 = .ok (.dup, 1) := dk_89 (dk_at dksX5_fourBytes_2 13 rfl rfl)
theorem dX5_fourBytes_61 : decode cX5_fourBytes 61 = .ok (.getfield 109, 3) := dk_180 0 109 (dk_at dksX5_fourBytes_2 14 rfl rfl)
theorem dX5_fourBytes_64 : decode cX5_fourBytes 64 = .ok (.iconst 4, 1) := dk_7 (dk_at dksX5_fourBytes_2 17 rfl rfl)
theorem dX5_fourBytes_65 : decode cX5_fourBytes 65 = .ok (.iadd, 1) := dk_96 (dk_at dksX5_fourBytes_2 18 rfl rfl)
theorem dX5_fourBytes_66 : decode cX5_fourBytes 66 = .ok (.putfield 109, 3) := dk_181 0 109 (dk_at dksX5_fourBytes_2 19 rfl rfl)
theorem dX5_fourBytes_69 : decode cX5_fourBytes 69 = .ok (.return_, 1) := dk_177 (dk_at dksX5_fourBytes_2 22 rfl rfl)
abbrev cX5_truncate : ByteArray := prog_12_method_6_code
def yX5_truncate : MethodName := ⟨RX5, "truncate", "(I)I"⟩
def dkwX5_truncate_1 : List UInt8 := [27, 181, 0, 109, 27, 172]
abbrev dktX5_truncate_1 : List UInt8 := dkwX5_truncate_1 ++ []
def dkwX5_truncate_0 : List UInt8 := [42, 3, 181, 0, 106, 27, 155, 0, 11, 27, 42, 180, 0, 109, 164, 0, 9, 42, 4, 182, 0, 116, 172, 42]
abbrev dktX5_truncate_0 : List UInt8 := dkwX5_truncate_0 ++ dktX5_truncate_1
theorem dksX5_truncate_0 : cX5_truncate.data.toList.drop 0 = dktX5_truncate_0 := by decide +kernel
theorem dksX5_truncate_1 : cX5_truncate.data.toList.drop 24 = dktX5_truncate_1 := dk_seg dksX5_truncate_0 24 rfl rfl
theorem dX5_truncate_0 : decode cX5_truncate 0 = .ok (.aload_n 0, 1) := dk_42 (dk_at dksX5_truncate_0 0 rfl rfl)
theorem dX5_truncate_1 : decode cX5_truncate 1 = .ok (.iconst 0, 1) := dk_3 (dk_at dksX5_truncate_0 1 rfl rfl)
theorem dX5_truncate_2 : decode cX5_truncate 2 = .ok (.putfield 106, 3) := dk_181 0 106 (dk_at dksX5_truncate_0 2 rfl rfl)
theorem dX5_truncate_5 : decode cX5_truncate 5 = .ok (.iload_n 1, 1) := dk_27 (dk_at dksX5_truncate_0 5 rfl rfl)
theorem dX5_truncate_6 : decode cX5_truncate 6 = .ok (.ifCond .lt 11, 3) := dk_155 0 11 (dk_at dksX5_truncate_0 6 rfl rfl)
theorem dX5_truncate_9 : decode cX5_truncate 9 = .ok (.iload_n 1, 1) := dk_27 (dk_at dksX5_truncate_0 9 rfl rfl)
theorem dX5_truncate_10 : decode cX5_truncate 10 = .ok (.aload_n 0, 1) := dk_42 (dk_at dksX5_truncate_0 10 rfl rfl)
theorem dX5_truncate_11 : decode cX5_truncate 11 = .ok (.getfield 109, 3) := dk_180 0 109 (dk_at dksX5_truncate_0 11 rfl rfl)
theorem dX5_truncate_14 : decode cX5_truncate 14 = .ok (.if_icmp .le 9, 3) := dk_164 0 9 (dk_at dksX5_truncate_0 14 rfl rfl)
theorem dX5_truncate_17 : decode cX5_truncate 17 = .ok (.aload_n 0, 1) := dk_42 (dk_at dksX5_truncate_0 17 rfl rfl)
theorem dX5_truncate_18 : decode cX5_truncate 18 = .ok (.iconst 1, 1) := dk_4 (dk_at dksX5_truncate_0 18 rfl rfl)
theorem dX5_truncate_19 : decode cX5_truncate 19 = .ok (.invokevirtual 116, 3) := dk_182 0 116 (dk_at dksX5_truncate_0 19 rfl rfl)
theorem dX5_truncate_22 : decode cX5_truncate 22 = .ok (.ireturn, 1) := dk_172 (dk_at dksX5_truncate_0 22 rfl rfl)
theorem dX5_truncate_23 : decode cX5_truncate 23 = .ok (.aload_n 0, 1) := dk_42 (dk_at dksX5_truncate_0 23 rfl rfl)
theorem dX5_truncate_24 : decode cX5_truncate 24 = .ok (.iload_n 1, 1) := dk_27 (dk_at dksX5_truncate_1 0 rfl rfl)
theorem dX5_truncate_25 : decode cX5_truncate 25 = .ok (.putfield 109, 3) := dk_181 0 109 (dk_at dksX5_truncate_1 1 rfl rfl)
theorem dX5_truncate_28 : decode cX5_truncate 28 = .ok (.iload_n 1, 1) := dk_27 (dk_at dksX5_truncate_1 4 rfl rfl)
theorem dX5_truncate_29 : decode cX5_truncate 29 = .ok (.ireturn, 1) := dk_172 (dk_at dksX5_truncate_1 5 rfl rfl)
abbrev cX5_refuse : ByteArray := prog_12_method_3_code
def yX5_refuse : MethodName := ⟨RX5, "refuse", "(I)I"⟩
def dkwX5_refuse_0 : List UInt8 := [42, 27, 181, 0, 106, 3, 172]
abbrev dktX5_refuse_0 : List UInt8 := dkwX5_refuse_0 ++ []
theorem dksX5_refuse_0 : cX5_refuse.data.toList.drop 0 = dktX5_refuse_0 := by decide +kernel
theorem dX5_refuse_0 : decode cX5_refuse 0 = .ok (.aload_n 0, 1) := dk_42 (dk_at dksX5_refuse_0 0 rfl rfl)
theorem dX5_refuse_1 : decode cX5_refuse 1 = .ok (.iload_n 1, 1) := dk_27 (dk_at dksX5_refuse_0 1 rfl rfl)
theorem dX5_refuse_2 : decode cX5_refuse 2 = .ok (.putfield 106, 3) := dk_181 0 106 (dk_at dksX5_refuse_0 2 rfl rfl)
theorem dX5_refuse_5 : decode cX5_refuse 5 = .ok (.iconst 0, 1) := dk_3 (dk_at dksX5_refuse_0 5 rfl rfl)
theorem dX5_refuse_6 : decode cX5_refuse 6 = .ok (.ireturn, 1) := dk_172 (dk_at dksX5_refuse_0 6 rfl rfl)
abbrev cX5_load : ByteArray := prog_12_method_51_code
def yX5_load : MethodName := ⟨RX5, "load", "()I"⟩
def dkwX5_load_2 : List UInt8 := [16, 10, 182, 1, 17, 2, 172, 42, 3, 181, 0, 148, 42, 180, 0, 132, 172]
abbrev dktX5_load_2 : List UInt8 := dkwX5_load_2 ++ []
def dkwX5_load_1 : List UInt8 := [182, 1, 14, 2, 159, 0, 7, 4, 167, 0, 4, 3, 60, 42, 3, 181, 0, 109, 27, 154, 0, 11, 42]
abbrev dktX5_load_1 : List UInt8 := dkwX5_load_1 ++ dktX5_load_2
def dkwX5_load_0 : List UInt8 := [42, 3, 181, 0, 106, 42, 16, 10, 182, 0, 158, 42, 182, 1, 7, 42, 182, 1, 10, 153, 0, 15, 42]
abbrev dktX5_load_0 : List UInt8 := dkwX5_load_0 ++ dktX5_load_1
theorem dksX5_load_0 : cX5_load.data.toList.drop 0 = dktX5_load_0 := by decide +kernel
theorem dksX5_load_1 : cX5_load.data.toList.drop 23 = dktX5_load_1 := dk_seg dksX5_load_0 23 rfl rfl
theorem dksX5_load_2 : cX5_load.data.toList.drop 46 = dktX5_load_2 := dk_seg dksX5_load_1 23 rfl rfl
theorem dX5_load_0 : decode cX5_load 0 = .ok (.aload_n 0, 1) := dk_42 (dk_at dksX5_load_0 0 rfl rfl)
theorem dX5_load_1 : decode cX5_load 1 = .ok (.iconst 0, 1) := dk_3 (dk_at dksX5_load_0 1 rfl rfl)
theorem dX5_load_2 : decode cX5_load 2 = .ok (.putfield 106, 3) := dk_181 0 106 (dk_at dksX5_load_0 2 rfl rfl)
theorem dX5_load_5 : decode cX5_load 5 = .ok (.aload_n 0, 1) := dk_42 (dk_at dksX5_load_0 5 rfl rfl)
theorem dX5_load_6 : decode cX5_load 6 = .ok (.bipush 10, 2) := dk_16 10 (dk_at dksX5_load_0 6 rfl rfl)
theorem dX5_load_8 : decode cX5_load 8 = .ok (.invokevirtual 158, 3) := dk_182 0 158 (dk_at dksX5_load_0 8 rfl rfl)
theorem dX5_load_11 : decode cX5_load 11 = .ok (.aload_n 0, 1) := dk_42 (dk_at dksX5_load_0 11 rfl rfl)
theorem dX5_load_12 : decode cX5_load 12 = .ok (.invokevirtual 263, 3) := dk_182 1 7 (dk_at dksX5_load_0 12 rfl rfl)
theorem dX5_load_15 : decode cX5_load 15 = .ok (.aload_n 0, 1) := dk_42 (dk_at dksX5_load_0 15 rfl rfl)
theorem dX5_load_16 : decode cX5_load 16 = .ok (.invokevirtual 266, 3) := dk_182 1 10 (dk_at dksX5_load_0 16 rfl rfl)
theorem dX5_load_19 : decode cX5_load 19 = .ok (.ifCond .eq 15, 3) := dk_153 0 15 (dk_at dksX5_load_0 19 rfl rfl)
theorem dX5_load_22 : decode cX5_load 22 = .ok (.aload_n 0, 1) := dk_42 (dk_at dksX5_load_0 22 rfl rfl)
theorem dX5_load_23 : decode cX5_load 23 = .ok (.invokevirtual 270, 3) := dk_182 1 14 (dk_at dksX5_load_1 0 rfl rfl)
theorem dX5_load_26 : decode cX5_load 26 = .ok (.iconst (-1), 1) := dk_2 (dk_at dksX5_load_1 3 rfl rfl)
theorem dX5_load_27 : decode cX5_load 27 = .ok (.if_icmp .eq 7, 3) := dk_159 0 7 (dk_at dksX5_load_1 4 rfl rfl)
theorem dX5_load_30 : decode cX5_load 30 = .ok (.iconst 1, 1) := dk_4 (dk_at dksX5_load_1 7 rfl rfl)
theorem dX5_load_31 : decode cX5_load 31 = .ok (.goto 4, 3) := dk_167 0 4 (dk_at dksX5_load_1 8 rfl rfl)
theorem dX5_load_34 : decode cX5_load 34 = .ok (.iconst 0, 1) := dk_3 (dk_at dksX5_load_1 11 rfl rfl)
theorem dX5_load_35 : decode cX5_load 35 = .ok (.istore_n 1, 1) := dk_60 (dk_at dksX5_load_1 12 rfl rfl)
theorem dX5_load_36 : decode cX5_load 36 = .ok (.aload_n 0, 1) := dk_42 (dk_at dksX5_load_1 13 rfl rfl)
theorem dX5_load_37 : decode cX5_load 37 = .ok (.iconst 0, 1) := dk_3 (dk_at dksX5_load_1 14 rfl rfl)
theorem dX5_load_38 : decode cX5_load 38 = .ok (.putfield 109, 3) := dk_181 0 109 (dk_at dksX5_load_1 15 rfl rfl)
theorem dX5_load_41 : decode cX5_load 41 = .ok (.iload_n 1, 1) := dk_27 (dk_at dksX5_load_1 18 rfl rfl)
theorem dX5_load_42 : decode cX5_load 42 = .ok (.ifCond .ne 11, 3) := dk_154 0 11 (dk_at dksX5_load_1 19 rfl rfl)
theorem dX5_load_45 : decode cX5_load 45 = .ok (.aload_n 0, 1) := dk_42 (dk_at dksX5_load_1 22 rfl rfl)
theorem dX5_load_46 : decode cX5_load 46 = .ok (.bipush 10, 2) := dk_16 10 (dk_at dksX5_load_2 0 rfl rfl)
theorem dX5_load_48 : decode cX5_load 48 = .ok (.invokevirtual 273, 3) := dk_182 1 17 (dk_at dksX5_load_2 2 rfl rfl)
theorem dX5_load_51 : decode cX5_load 51 = .ok (.iconst (-1), 1) := dk_2 (dk_at dksX5_load_2 5 rfl rfl)
theorem dX5_load_52 : decode cX5_load 52 = .ok (.ireturn, 1) := dk_172 (dk_at dksX5_load_2 6 rfl rfl)
theorem dX5_load_53 : decode cX5_load 53 = .ok (.aload_n 0, 1) := dk_42 (dk_at dksX5_load_2 7 rfl rfl)
theorem dX5_load_54 : decode cX5_load 54 = .ok (.iconst 0, 1) := dk_3 (dk_at dksX5_load_2 8 rfl rfl)
theorem dX5_load_55 : decode cX5_load 55 = .ok (.putfield 148, 3) := dk_181 0 148 (dk_at dksX5_load_2 9 rfl rfl)
theorem dX5_load_58 : decode cX5_load 58 = .ok (.aload_n 0, 1) := dk_42 (dk_at dksX5_load_2 12 rfl rfl)
theorem dX5_load_59 : decode cX5_load 59 = .ok (.getfield 132, 3) := dk_180 0 132 (dk_at dksX5_load_2 13 rfl rfl)
theorem dX5_load_62 : decode cX5_load 62 = .ok (.ireturn, 1) := dk_172 (dk_at dksX5_load_2 16 rfl rfl)
abbrev cX5_keepImage : ByteArray := prog_12_method_9_code
def yX5_keepImage : MethodName := ⟨RX5, "keepImage", "(I)V"⟩
def dkwX5_keepImage_14 : List UInt8 := [182, 0, 138, 61, 42, 42, 42, 180, 0, 81, 28, 16, 13, 182, 0, 138, 181, 0, 142, 177]
abbrev dktX5_keepImage_14 : List UInt8 := dkwX5_keepImage_14 ++ []
def dkwX5_keepImage_13 : List UInt8 := [182, 0, 138, 61, 42, 42, 180, 0, 75, 28, 7, 182, 0, 138, 61, 42, 42, 180, 0, 78, 28, 16, 32]
abbrev dktX5_keepImage_13 : List UInt8 := dkwX5_keepImage_13 ++ dktX5_keepImage_14
def dkwX5_keepImage_12 : List UInt8 := [182, 0, 138, 61, 42, 42, 180, 0, 69, 28, 7, 182, 0, 138, 61, 42, 42, 180, 0, 72, 28, 16, 24]
abbrev dktX5_keepImage_12 : List UInt8 := dkwX5_keepImage_12 ++ dktX5_keepImage_13
def dkwX5_keepImage_11 : List UInt8 := [182, 0, 138, 61, 42, 42, 180, 0, 63, 28, 16, 8, 182, 0, 138, 61, 42, 42, 180, 0, 66, 28, 16, 8]
abbrev dktX5_keepImage_11 : List UInt8 := dkwX5_keepImage_11 ++ dktX5_keepImage_12
def dkwX5_keepImage_10 : List UInt8 := [182, 0, 138, 61, 42, 42, 180, 0, 57, 28, 16, 8, 182, 0, 138, 61, 42, 42, 180, 0, 60, 28, 16, 8]
abbrev dktX5_keepImage_10 : List UInt8 := dkwX5_keepImage_10 ++ dktX5_keepImage_11
def dkwX5_keepImage_9 : List UInt8 := [182, 0, 138, 61, 42, 42, 180, 0, 51, 28, 16, 20, 182, 0, 138, 61, 42, 42, 180, 0, 54, 28, 16, 20]
abbrev dktX5_keepImage_9 : List UInt8 := dkwX5_keepImage_9 ++ dktX5_keepImage_10
def dkwX5_keepImage_8 : List UInt8 := [182, 0, 138, 61, 42, 42, 180, 0, 45, 28, 16, 20, 182, 0, 138, 61, 42, 42, 180, 0, 48, 28, 16, 20]
abbrev dktX5_keepImage_8 : List UInt8 := dkwX5_keepImage_8 ++ dktX5_keepImage_9
def dkwX5_keepImage_7 : List UInt8 := [182, 0, 138, 61, 42, 42, 180, 0, 39, 28, 16, 20, 182, 0, 138, 61, 42, 42, 180, 0, 42, 28, 16, 20]
abbrev dktX5_keepImage_7 : List UInt8 := dkwX5_keepImage_7 ++ dktX5_keepImage_8
def dkwX5_keepImage_6 : List UInt8 := [180, 0, 84, 28, 16, 11, 96, 42, 180, 0, 103, 79, 42, 42, 180, 0, 35, 28, 16, 12, 96, 16, 20]
abbrev dktX5_keepImage_6 : List UInt8 := dkwX5_keepImage_6 ++ dktX5_keepImage_7
def dkwX5_keepImage_5 : List UInt8 := [16, 9, 96, 42, 180, 0, 132, 79, 42, 180, 0, 84, 28, 16, 10, 96, 42, 180, 0, 135, 79, 42]
abbrev dktX5_keepImage_5 : List UInt8 := dkwX5_keepImage_5 ++ dktX5_keepImage_6
def dkwX5_keepImage_4 : List UInt8 := [96, 42, 180, 0, 32, 79, 42, 180, 0, 84, 28, 16, 8, 96, 42, 180, 0, 129, 79, 42, 180, 0, 84, 28]
abbrev dktX5_keepImage_4 : List UInt8 := dkwX5_keepImage_4 ++ dktX5_keepImage_5
def dkwX5_keepImage_3 : List UInt8 := [180, 0, 123, 79, 42, 180, 0, 84, 28, 16, 6, 96, 42, 180, 0, 126, 79, 42, 180, 0, 84, 28, 16, 7]
abbrev dktX5_keepImage_3 : List UInt8 := dkwX5_keepImage_3 ++ dktX5_keepImage_4
def dkwX5_keepImage_2 : List UInt8 := [180, 0, 120, 79, 42, 180, 0, 84, 28, 7, 96, 42, 180, 0, 29, 79, 42, 180, 0, 84, 28, 8, 96, 42]
abbrev dktX5_keepImage_2 : List UInt8 := dkwX5_keepImage_2 ++ dktX5_keepImage_3
def dkwX5_keepImage_1 : List UInt8 := [180, 0, 23, 79, 42, 180, 0, 84, 28, 5, 96, 42, 180, 0, 26, 79, 42, 180, 0, 84, 28, 6, 96, 42]
abbrev dktX5_keepImage_1 : List UInt8 := dkwX5_keepImage_1 ++ dktX5_keepImage_2
def dkwX5_keepImage_0 : List UInt8 := [27, 17, 1, 64, 104, 61, 42, 180, 0, 84, 28, 42, 180, 0, 20, 79, 42, 180, 0, 84, 28, 4, 96, 42]
abbrev dktX5_keepImage_0 : List UInt8 := dkwX5_keepImage_0 ++ dktX5_keepImage_1
theorem dksX5_keepImage_0 : cX5_keepImage.data.toList.drop 0 = dktX5_keepImage_0 := by decide +kernel
theorem dksX5_keepImage_1 : cX5_keepImage.data.toList.drop 24 = dktX5_keepImage_1 := dk_seg dksX5_keepImage_0 24 rfl rfl
theorem dksX5_keepImage_2 : cX5_keepImage.data.toList.drop 48 = dktX5_keepImage_2 := dk_seg dksX5_keepImage_1 24 rfl rfl
theorem dksX5_keepImage_3 : cX5_keepImage.data.toList.drop 72 = dktX5_keepImage_3 := dk_seg dksX5_keepImage_2 24 rfl rfl
theorem dksX5_keepImage_4 : cX5_keepImage.data.toList.drop 96 = dktX5_keepImage_4 := dk_seg dksX5_keepImage_3 24 rfl rfl
theorem dksX5_keepImage_5 : cX5_keepImage.data.toList.drop 120 = dktX5_keepImage_5 := dk_seg dksX5_keepImage_4 24 rfl rfl
theorem dksX5_keepImage_6 : cX5_keepImage.data.toList.drop 142 = dktX5_keepImage_6 := dk_seg dksX5_keepImage_5 22 rfl rfl
theorem dksX5_keepImage_7 : cX5_keepImage.data.toList.drop 165 = dktX5_keepImage_7 := dk_seg dksX5_keepImage_6 23 rfl rfl
theorem dksX5_keepImage_8 : cX5_keepImage.data.toList.drop 189 = dktX5_keepImage_8 := dk_seg dksX5_keepImage_7 24 rfl rfl
theorem dksX5_keepImage_9 : cX5_keepImage.data.toList.drop 213 = dktX5_keepImage_9 := dk_seg dksX5_keepImage_8 24 rfl rfl
theorem dksX5_keepImage_10 : cX5_keepImage.data.toList.drop 237 = dktX5_keepImage_10 := dk_seg dksX5_keepImage_9 24 rfl rfl
theorem dksX5_keepImage_11 : cX5_keepImage.data.toList.drop 261 = dktX5_keepImage_11 := dk_seg dksX5_keepImage_10 24 rfl rfl
theorem dksX5_keepImage_12 : cX5_keepImage.data.toList.drop 285 = dktX5_keepImage_12 := dk_seg dksX5_keepImage_11 24 rfl rfl
theorem dksX5_keepImage_13 : cX5_keepImage.data.toList.drop 308 = dktX5_keepImage_13 := dk_seg dksX5_keepImage_12 23 rfl rfl
theorem dksX5_keepImage_14 : cX5_keepImage.data.toList.drop 331 = dktX5_keepImage_14 := dk_seg dksX5_keepImage_13 23 rfl rfl
theorem dX5_keepImage_0 : decode cX5_keepImage 0 = .ok (.iload_n 1, 1) := dk_27 (dk_at dksX5_keepImage_0 0 rfl rfl)
theorem dX5_keepImage_1 : decode cX5_keepImage 1 = .ok (.sipush 320, 3) := dk_17 1 64 (dk_at dksX5_keepImage_0 1 rfl rfl)
theorem dX5_keepImage_4 : decode cX5_keepImage 4 = .ok (.imul, 1) := dk_104 (dk_at dksX5_keepImage_0 4 rfl rfl)
theorem dX5_keepImage_5 : decode cX5_keepImage 5 = .ok (.istore_n 2, 1) := dk_61 (dk_at dksX5_keepImage_0 5 rfl rfl)
theorem dX5_keepImage_6 : decode cX5_keepImage 6 = .ok (.aload_n 0, 1) := dk_42 (dk_at dksX5_keepImage_0 6 rfl rfl)
theorem dX5_keepImage_7 : decode cX5_keepImage 7 = .ok (.getfield 84, 3) := dk_180 0 84 (dk_at dksX5_keepImage_0 7 rfl rfl)
theorem dX5_keepImage_10 : decode cX5_keepImage 10 = .ok (.iload_n 2, 1) := dk_28 (dk_at dksX5_keepImage_0 10 rfl rfl)
theorem dX5_keepImage_11 : decode cX5_keepImage 11 = .ok (.aload_n 0, 1) := dk_42 (dk_at dksX5_keepImage_0 11 rfl rfl)
theorem dX5_keepImage_12 : decode cX5_keepImage 12 = .ok (.getfield 20, 3) := dk_180 0 20 (dk_at dksX5_keepImage_0 12 rfl rfl)
theorem dX5_keepImage_15 : decode cX5_keepImage 15 = .ok (.iastore, 1) := dk_79 (dk_at dksX5_keepImage_0 15 rfl rfl)
theorem dX5_keepImage_16 : decode cX5_keepImage 16 = .ok (.aload_n 0, 1) := dk_42 (dk_at dksX5_keepImage_0 16 rfl rfl)
theorem dX5_keepImage_17 : decode cX5_keepImage 17 = .ok (.getfield 84, 3) := dk_180 0 84 (dk_at dksX5_keepImage_0 17 rfl rfl)
theorem dX5_keepImage_20 : decode cX5_keepImage 20 = .ok (.iload_n 2, 1) := dk_28 (dk_at dksX5_keepImage_0 20 rfl rfl)
theorem dX5_keepImage_21 : decode cX5_keepImage 21 = .ok (.iconst 1, 1) := dk_4 (dk_at dksX5_keepImage_0 21 rfl rfl)
theorem dX5_keepImage_22 : decode cX5_keepImage 22 = .ok (.iadd, 1) := dk_96 (dk_at dksX5_keepImage_0 22 rfl rfl)
theorem dX5_keepImage_23 : decode cX5_keepImage 23 = .ok (.aload_n 0, 1) := dk_42 (dk_at dksX5_keepImage_0 23 rfl rfl)
theorem dX5_keepImage_24 : decode cX5_keepImage 24 = .ok (.getfield 23, 3) := dk_180 0 23 (dk_at dksX5_keepImage_1 0 rfl rfl)
theorem dX5_keepImage_27 : decode cX5_keepImage 27 = .ok (.iastore, 1) := dk_79 (dk_at dksX5_keepImage_1 3 rfl rfl)
theorem dX5_keepImage_28 : decode cX5_keepImage 28 = .ok (.aload_n 0, 1) := dk_42 (dk_at dksX5_keepImage_1 4 rfl rfl)
theorem dX5_keepImage_29 : decode cX5_keepImage 29 = .ok (.getfield 84, 3) := dk_180 0 84 (dk_at dksX5_keepImage_1 5 rfl rfl)
theorem dX5_keepImage_32 : decode cX5_keepImage 32 = .ok (.iload_n 2, 1) := dk_28 (dk_at dksX5_keepImage_1 8 rfl rfl)
theorem dX5_keepImage_33 : decode cX5_keepImage 33 = .ok (.iconst 2, 1) := dk_5 (dk_at dksX5_keepImage_1 9 rfl rfl)
theorem dX5_keepImage_34 : decode cX5_keepImage 34 = .ok (.iadd, 1) := dk_96 (dk_at dksX5_keepImage_1 10 rfl rfl)
theorem dX5_keepImage_35 : decode cX5_keepImage 35 = .ok (.aload_n 0, 1) := dk_42 (dk_at dksX5_keepImage_1 11 rfl rfl)
theorem dX5_keepImage_36 : decode cX5_keepImage 36 = .ok (.getfield 26, 3) := dk_180 0 26 (dk_at dksX5_keepImage_1 12 rfl rfl)
theorem dX5_keepImage_39 : decode cX5_keepImage 39 = .ok (.iastore, 1) := dk_79 (dk_at dksX5_keepImage_1 15 rfl rfl)
theorem dX5_keepImage_40 : decode cX5_keepImage 40 = .ok (.aload_n 0, 1) := dk_42 (dk_at dksX5_keepImage_1 16 rfl rfl)
theorem dX5_keepImage_41 : decode cX5_keepImage 41 = .ok (.getfield 84, 3) := dk_180 0 84 (dk_at dksX5_keepImage_1 17 rfl rfl)
theorem dX5_keepImage_44 : decode cX5_keepImage 44 = .ok (.iload_n 2, 1) := dk_28 (dk_at dksX5_keepImage_1 20 rfl rfl)
theorem dX5_keepImage_45 : decode cX5_keepImage 45 = .ok (.iconst 3, 1) := dk_6 (dk_at dksX5_keepImage_1 21 rfl rfl)
theorem dX5_keepImage_46 : decode cX5_keepImage 46 = .ok (.iadd, 1) := dk_96 (dk_at dksX5_keepImage_1 22 rfl rfl)
theorem dX5_keepImage_47 : decode cX5_keepImage 47 = .ok (.aload_n 0, 1) := dk_42 (dk_at dksX5_keepImage_1 23 rfl rfl)
theorem dX5_keepImage_48 : decode cX5_keepImage 48 = .ok (.getfield 120, 3) := dk_180 0 120 (dk_at dksX5_keepImage_2 0 rfl rfl)
theorem dX5_keepImage_51 : decode cX5_keepImage 51 = .ok (.iastore, 1) := dk_79 (dk_at dksX5_keepImage_2 3 rfl rfl)
theorem dX5_keepImage_52 : decode cX5_keepImage 52 = .ok (.aload_n 0, 1) := dk_42 (dk_at dksX5_keepImage_2 4 rfl rfl)
theorem dX5_keepImage_53 : decode cX5_keepImage 53 = .ok (.getfield 84, 3) := dk_180 0 84 (dk_at dksX5_keepImage_2 5 rfl rfl)
theorem dX5_keepImage_56 : decode cX5_keepImage 56 = .ok (.iload_n 2, 1) := dk_28 (dk_at dksX5_keepImage_2 8 rfl rfl)
theorem dX5_keepImage_57 : decode cX5_keepImage 57 = .ok (.iconst 4, 1) := dk_7 (dk_at dksX5_keepImage_2 9 rfl rfl)
theorem dX5_keepImage_58 : decode cX5_keepImage 58 = .ok (.iadd, 1) := dk_96 (dk_at dksX5_keepImage_2 10 rfl rfl)
theorem dX5_keepImage_59 : decode cX5_keepImage 59 = .ok (.aload_n 0, 1) := dk_42 (dk_at dksX5_keepImage_2 11 rfl rfl)
theorem dX5_keepImage_60 : decode cX5_keepImage 60 = .ok (.getfield 29, 3) := dk_180 0 29 (dk_at dksX5_keepImage_2 12 rfl rfl)
theorem dX5_keepImage_63 : decode cX5_keepImage 63 = .ok (.iastore, 1) := dk_79 (dk_at dksX5_keepImage_2 15 rfl rfl)
theorem dX5_keepImage_64 : decode cX5_keepImage 64 = .ok (.aload_n 0, 1) := dk_42 (dk_at dksX5_keepImage_2 16 rfl rfl)
theorem dX5_keepImage_65 : decode cX5_keepImage 65 = .ok (.getfield 84, 3) := dk_180 0 84 (dk_at dksX5_keepImage_2 17 rfl rfl)
theorem dX5_keepImage_68 : decode cX5_keepImage 68 = .ok (.iload_n 2, 1) := dk_28 (dk_at dksX5_keepImage_2 20 rfl rfl)
theorem dX5_keepImage_69 : decode cX5_keepImage 69 = .ok (.iconst 5, 1) := dk_8 (dk_at dksX5_keepImage_2 21 rfl rfl)
theorem dX5_keepImage_70 : decode cX5_keepImage 70 = .ok (.iadd, 1) := dk_96 (dk_at dksX5_keepImage_2 22 rfl rfl)
theorem dX5_keepImage_71 : decode cX5_keepImage 71 = .ok (.aload_n 0, 1) := dk_42 (dk_at dksX5_keepImage_2 23 rfl rfl)
theorem dX5_keepImage_72 : decode cX5_keepImage 72 = .ok (.getfield 123, 3) := dk_180 0 123 (dk_at dksX5_keepImage_3 0 rfl rfl)
theorem dX5_keepImage_75 : decode cX5_keepImage 75 = .ok (.iastore, 1) := dk_79 (dk_at dksX5_keepImage_3 3 rfl rfl)
theorem dX5_keepImage_76 : decode cX5_keepImage 76 = .ok (.aload_n 0, 1) := dk_42 (dk_at dksX5_keepImage_3 4 rfl rfl)
theorem dX5_keepImage_77 : decode cX5_keepImage 77 = .ok (.getfield 84, 3) := dk_180 0 84 (dk_at dksX5_keepImage_3 5 rfl rfl)
theorem dX5_keepImage_80 : decode cX5_keepImage 80 = .ok (.iload_n 2, 1) := dk_28 (dk_at dksX5_keepImage_3 8 rfl rfl)
theorem dX5_keepImage_81 : decode cX5_keepImage 81 = .ok (.bipush 6, 2) := dk_16 6 (dk_at dksX5_keepImage_3 9 rfl rfl)
theorem dX5_keepImage_83 : decode cX5_keepImage 83 = .ok (.iadd, 1) := dk_96 (dk_at dksX5_keepImage_3 11 rfl rfl)
theorem dX5_keepImage_84 : decode cX5_keepImage 84 = .ok (.aload_n 0, 1) := dk_42 (dk_at dksX5_keepImage_3 12 rfl rfl)
theorem dX5_keepImage_85 : decode cX5_keepImage 85 = .ok (.getfield 126, 3) := dk_180 0 126 (dk_at dksX5_keepImage_3 13 rfl rfl)
theorem dX5_keepImage_88 : decode cX5_keepImage 88 = .ok (.iastore, 1) := dk_79 (dk_at dksX5_keepImage_3 16 rfl rfl)
theorem dX5_keepImage_89 : decode cX5_keepImage 89 = .ok (.aload_n 0, 1) := dk_42 (dk_at dksX5_keepImage_3 17 rfl rfl)
theorem dX5_keepImage_90 : decode cX5_keepImage 90 = .ok (.getfield 84, 3) := dk_180 0 84 (dk_at dksX5_keepImage_3 18 rfl rfl)
theorem dX5_keepImage_93 : decode cX5_keepImage 93 = .ok (.iload_n 2, 1) := dk_28 (dk_at dksX5_keepImage_3 21 rfl rfl)
theorem dX5_keepImage_94 : decode cX5_keepImage 94 = .ok (.bipush 7, 2) := dk_16 7 (dk_at dksX5_keepImage_3 22 rfl rfl)
theorem dX5_keepImage_96 : decode cX5_keepImage 96 = .ok (.iadd, 1) := dk_96 (dk_at dksX5_keepImage_4 0 rfl rfl)
theorem dX5_keepImage_97 : decode cX5_keepImage 97 = .ok (.aload_n 0, 1) := dk_42 (dk_at dksX5_keepImage_4 1 rfl rfl)
theorem dX5_keepImage_98 : decode cX5_keepImage 98 = .ok (.getfield 32, 3) := dk_180 0 32 (dk_at dksX5_keepImage_4 2 rfl rfl)
theorem dX5_keepImage_101 : decode cX5_keepImage 101 = .ok (.iastore, 1) := dk_79 (dk_at dksX5_keepImage_4 5 rfl rfl)
theorem dX5_keepImage_102 : decode cX5_keepImage 102 = .ok (.aload_n 0, 1) := dk_42 (dk_at dksX5_keepImage_4 6 rfl rfl)
theorem dX5_keepImage_103 : decode cX5_keepImage 103 = .ok (.getfield 84, 3) := dk_180 0 84 (dk_at dksX5_keepImage_4 7 rfl rfl)
theorem dX5_keepImage_106 : decode cX5_keepImage 106 = .ok (.iload_n 2, 1) := dk_28 (dk_at dksX5_keepImage_4 10 rfl rfl)
theorem dX5_keepImage_107 : decode cX5_keepImage 107 = .ok (.bipush 8, 2) := dk_16 8 (dk_at dksX5_keepImage_4 11 rfl rfl)
theorem dX5_keepImage_109 : decode cX5_keepImage 109 = .ok (.iadd, 1) := dk_96 (dk_at dksX5_keepImage_4 13 rfl rfl)
theorem dX5_keepImage_110 : decode cX5_keepImage 110 = .ok (.aload_n 0, 1) := dk_42 (dk_at dksX5_keepImage_4 14 rfl rfl)
theorem dX5_keepImage_111 : decode cX5_keepImage 111 = .ok (.getfield 129, 3) := dk_180 0 129 (dk_at dksX5_keepImage_4 15 rfl rfl)
theorem dX5_keepImage_114 : decode cX5_keepImage 114 = .ok (.iastore, 1) := dk_79 (dk_at dksX5_keepImage_4 18 rfl rfl)
theorem dX5_keepImage_115 : decode cX5_keepImage 115 = .ok (.aload_n 0, 1) := dk_42 (dk_at dksX5_keepImage_4 19 rfl rfl)
theorem dX5_keepImage_116 : decode cX5_keepImage 116 = .ok (.getfield 84, 3) := dk_180 0 84 (dk_at dksX5_keepImage_4 20 rfl rfl)
theorem dX5_keepImage_119 : decode cX5_keepImage 119 = .ok (.iload_n 2, 1) := dk_28 (dk_at dksX5_keepImage_4 23 rfl rfl)
theorem dX5_keepImage_120 : decode cX5_keepImage 120 = .ok (.bipush 9, 2) := dk_16 9 (dk_at dksX5_keepImage_5 0 rfl rfl)
theorem dX5_keepImage_122 : decode cX5_keepImage 122 = .ok (.iadd, 1) := dk_96 (dk_at dksX5_keepImage_5 2 rfl rfl)
theorem dX5_keepImage_123 : decode cX5_keepImage 123 = .ok (.aload_n 0, 1) := dk_42 (dk_at dksX5_keepImage_5 3 rfl rfl)
theorem dX5_keepImage_124 : decode cX5_keepImage 124 = .ok (.getfield 132, 3) := dk_180 0 132 (dk_at dksX5_keepImage_5 4 rfl rfl)
theorem dX5_keepImage_127 : decode cX5_keepImage 127 = .ok (.iastore, 1) := dk_79 (dk_at dksX5_keepImage_5 7 rfl rfl)
theorem dX5_keepImage_128 : decode cX5_keepImage 128 = .ok (.aload_n 0, 1) := dk_42 (dk_at dksX5_keepImage_5 8 rfl rfl)
theorem dX5_keepImage_129 : decode cX5_keepImage 129 = .ok (.getfield 84, 3) := dk_180 0 84 (dk_at dksX5_keepImage_5 9 rfl rfl)
theorem dX5_keepImage_132 : decode cX5_keepImage 132 = .ok (.iload_n 2, 1) := dk_28 (dk_at dksX5_keepImage_5 12 rfl rfl)
theorem dX5_keepImage_133 : decode cX5_keepImage 133 = .ok (.bipush 10, 2) := dk_16 10 (dk_at dksX5_keepImage_5 13 rfl rfl)
theorem dX5_keepImage_135 : decode cX5_keepImage 135 = .ok (.iadd, 1) := dk_96 (dk_at dksX5_keepImage_5 15 rfl rfl)
theorem dX5_keepImage_136 : decode cX5_keepImage 136 = .ok (.aload_n 0, 1) := dk_42 (dk_at dksX5_keepImage_5 16 rfl rfl)
theorem dX5_keepImage_137 : decode cX5_keepImage 137 = .ok (.getfield 135, 3) := dk_180 0 135 (dk_at dksX5_keepImage_5 17 rfl rfl)
theorem dX5_keepImage_140 : decode cX5_keepImage 140 = .ok (.iastore, 1) := dk_79 (dk_at dksX5_keepImage_5 20 rfl rfl)
theorem dX5_keepImage_141 : decode cX5_keepImage 141 = .ok (.aload_n 0, 1) := dk_42 (dk_at dksX5_keepImage_5 21 rfl rfl)
theorem dX5_keepImage_142 : decode cX5_keepImage 142 = .ok (.getfield 84, 3) := dk_180 0 84 (dk_at dksX5_keepImage_6 0 rfl rfl)
theorem dX5_keepImage_145 : decode cX5_keepImage 145 = .ok (.iload_n 2, 1) := dk_28 (dk_at dksX5_keepImage_6 3 rfl rfl)
theorem dX5_keepImage_146 : decode cX5_keepImage 146 = .ok (.bipush 11, 2) := dk_16 11 (dk_at dksX5_keepImage_6 4 rfl rfl)
theorem dX5_keepImage_148 : decode cX5_keepImage 148 = .ok (.iadd, 1) := dk_96 (dk_at dksX5_keepImage_6 6 rfl rfl)
theorem dX5_keepImage_149 : decode cX5_keepImage 149 = .ok (.aload_n 0, 1) := dk_42 (dk_at dksX5_keepImage_6 7 rfl rfl)
theorem dX5_keepImage_150 : decode cX5_keepImage 150 = .ok (.getfield 103, 3) := dk_180 0 103 (dk_at dksX5_keepImage_6 8 rfl rfl)
theorem dX5_keepImage_153 : decode cX5_keepImage 153 = .ok (.iastore, 1) := dk_79 (dk_at dksX5_keepImage_6 11 rfl rfl)
theorem dX5_keepImage_154 : decode cX5_keepImage 154 = .ok (.aload_n 0, 1) := dk_42 (dk_at dksX5_keepImage_6 12 rfl rfl)
theorem dX5_keepImage_155 : decode cX5_keepImage 155 = .ok (.aload_n 0, 1) := dk_42 (dk_at dksX5_keepImage_6 13 rfl rfl)
theorem dX5_keepImage_156 : decode cX5_keepImage 156 = .ok (.getfield 35, 3) := dk_180 0 35 (dk_at dksX5_keepImage_6 14 rfl rfl)
theorem dX5_keepImage_159 : decode cX5_keepImage 159 = .ok (.iload_n 2, 1) := dk_28 (dk_at dksX5_keepImage_6 17 rfl rfl)
theorem dX5_keepImage_160 : decode cX5_keepImage 160 = .ok (.bipush 12, 2) := dk_16 12 (dk_at dksX5_keepImage_6 18 rfl rfl)
theorem dX5_keepImage_162 : decode cX5_keepImage 162 = .ok (.iadd, 1) := dk_96 (dk_at dksX5_keepImage_6 20 rfl rfl)
theorem dX5_keepImage_163 : decode cX5_keepImage 163 = .ok (.bipush 20, 2) := dk_16 20 (dk_at dksX5_keepImage_6 21 rfl rfl)
theorem dX5_keepImage_165 : decode cX5_keepImage 165 = .ok (.invokevirtual 138, 3) := dk_182 0 138 (dk_at dksX5_keepImage_7 0 rfl rfl)
theorem dX5_keepImage_168 : decode cX5_keepImage 168 = .ok (.istore_n 2, 1) := dk_61 (dk_at dksX5_keepImage_7 3 rfl rfl)
theorem dX5_keepImage_169 : decode cX5_keepImage 169 = .ok (.aload_n 0, 1) := dk_42 (dk_at dksX5_keepImage_7 4 rfl rfl)
theorem dX5_keepImage_170 : decode cX5_keepImage 170 = .ok (.aload_n 0, 1) := dk_42 (dk_at dksX5_keepImage_7 5 rfl rfl)
theorem dX5_keepImage_171 : decode cX5_keepImage 171 = .ok (.getfield 39, 3) := dk_180 0 39 (dk_at dksX5_keepImage_7 6 rfl rfl)
theorem dX5_keepImage_174 : decode cX5_keepImage 174 = .ok (.iload_n 2, 1) := dk_28 (dk_at dksX5_keepImage_7 9 rfl rfl)
theorem dX5_keepImage_175 : decode cX5_keepImage 175 = .ok (.bipush 20, 2) := dk_16 20 (dk_at dksX5_keepImage_7 10 rfl rfl)
theorem dX5_keepImage_177 : decode cX5_keepImage 177 = .ok (.invokevirtual 138, 3) := dk_182 0 138 (dk_at dksX5_keepImage_7 12 rfl rfl)
theorem dX5_keepImage_180 : decode cX5_keepImage 180 = .ok (.istore_n 2, 1) := dk_61 (dk_at dksX5_keepImage_7 15 rfl rfl)
theorem dX5_keepImage_181 : decode cX5_keepImage 181 = .ok (.aload_n 0, 1) := dk_42 (dk_at dksX5_keepImage_7 16 rfl rfl)
theorem dX5_keepImage_182 : decode cX5_keepImage 182 = .ok (.aload_n 0, 1) := dk_42 (dk_at dksX5_keepImage_7 17 rfl rfl)
theorem dX5_keepImage_183 : decode cX5_keepImage 183 = .ok (.getfield 42, 3) := dk_180 0 42 (dk_at dksX5_keepImage_7 18 rfl rfl)
theorem dX5_keepImage_186 : decode cX5_keepImage 186 = .ok (.iload_n 2, 1) := dk_28 (dk_at dksX5_keepImage_7 21 rfl rfl)
theorem dX5_keepImage_187 : decode cX5_keepImage 187 = .ok (.bipush 20, 2) := dk_16 20 (dk_at dksX5_keepImage_7 22 rfl rfl)
theorem dX5_keepImage_189 : decode cX5_keepImage 189 = .ok (.invokevirtual 138, 3) := dk_182 0 138 (dk_at dksX5_keepImage_8 0 rfl rfl)
theorem dX5_keepImage_192 : decode cX5_keepImage 192 = .ok (.istore_n 2, 1) := dk_61 (dk_at dksX5_keepImage_8 3 rfl rfl)
theorem dX5_keepImage_193 : decode cX5_keepImage 193 = .ok (.aload_n 0, 1) := dk_42 (dk_at dksX5_keepImage_8 4 rfl rfl)
theorem dX5_keepImage_194 : decode cX5_keepImage 194 = .ok (.aload_n 0, 1) := dk_42 (dk_at dksX5_keepImage_8 5 rfl rfl)
theorem dX5_keepImage_195 : decode cX5_keepImage 195 = .ok (.getfield 45, 3) := dk_180 0 45 (dk_at dksX5_keepImage_8 6 rfl rfl)
theorem dX5_keepImage_198 : decode cX5_keepImage 198 = .ok (.iload_n 2, 1) := dk_28 (dk_at dksX5_keepImage_8 9 rfl rfl)
theorem dX5_keepImage_199 : decode cX5_keepImage 199 = .ok (.bipush 20, 2) := dk_16 20 (dk_at dksX5_keepImage_8 10 rfl rfl)
theorem dX5_keepImage_201 : decode cX5_keepImage 201 = .ok (.invokevirtual 138, 3) := dk_182 0 138 (dk_at dksX5_keepImage_8 12 rfl rfl)
theorem dX5_keepImage_204 : decode cX5_keepImage 204 = .ok (.istore_n 2, 1) := dk_61 (dk_at dksX5_keepImage_8 15 rfl rfl)
theorem dX5_keepImage_205 : decode cX5_keepImage 205 = .ok (.aload_n 0, 1) := dk_42 (dk_at dksX5_keepImage_8 16 rfl rfl)
theorem dX5_keepImage_206 : decode cX5_keepImage 206 = .ok (.aload_n 0, 1) := dk_42 (dk_at dksX5_keepImage_8 17 rfl rfl)
theorem dX5_keepImage_207 : decode cX5_keepImage 207 = .ok (.getfield 48, 3) := dk_180 0 48 (dk_at dksX5_keepImage_8 18 rfl rfl)
theorem dX5_keepImage_210 : decode cX5_keepImage 210 = .ok (.iload_n 2, 1) := dk_28 (dk_at dksX5_keepImage_8 21 rfl rfl)
theorem dX5_keepImage_211 : decode cX5_keepImage 211 = .ok (.bipush 20, 2) := dk_16 20 (dk_at dksX5_keepImage_8 22 rfl rfl)
theorem dX5_keepImage_213 : decode cX5_keepImage 213 = .ok (.invokevirtual 138, 3) := dk_182 0 138 (dk_at dksX5_keepImage_9 0 rfl rfl)
theorem dX5_keepImage_216 : decode cX5_keepImage 216 = .ok (.istore_n 2, 1) := dk_61 (dk_at dksX5_keepImage_9 3 rfl rfl)
theorem dX5_keepImage_217 : decode cX5_keepImage 217 = .ok (.aload_n 0, 1) := dk_42 (dk_at dksX5_keepImage_9 4 rfl rfl)
theorem dX5_keepImage_218 : decode cX5_keepImage 218 = .ok (.aload_n 0, 1) := dk_42 (dk_at dksX5_keepImage_9 5 rfl rfl)
theorem dX5_keepImage_219 : decode cX5_keepImage 219 = .ok (.getfield 51, 3) := dk_180 0 51 (dk_at dksX5_keepImage_9 6 rfl rfl)
theorem dX5_keepImage_222 : decode cX5_keepImage 222 = .ok (.iload_n 2, 1) := dk_28 (dk_at dksX5_keepImage_9 9 rfl rfl)
theorem dX5_keepImage_223 : decode cX5_keepImage 223 = .ok (.bipush 20, 2) := dk_16 20 (dk_at dksX5_keepImage_9 10 rfl rfl)
theorem dX5_keepImage_225 : decode cX5_keepImage 225 = .ok (.invokevirtual 138, 3) := dk_182 0 138 (dk_at dksX5_keepImage_9 12 rfl rfl)
theorem dX5_keepImage_228 : decode cX5_keepImage 228 = .ok (.istore_n 2, 1) := dk_61 (dk_at dksX5_keepImage_9 15 rfl rfl)
theorem dX5_keepImage_229 : decode cX5_keepImage 229 = .ok (.aload_n 0, 1) := dk_42 (dk_at dksX5_keepImage_9 16 rfl rfl)
theorem dX5_keepImage_230 : decode cX5_keepImage 230 = .ok (.aload_n 0, 1) := dk_42 (dk_at dksX5_keepImage_9 17 rfl rfl)
theorem dX5_keepImage_231 : decode cX5_keepImage 231 = .ok (.getfield 54, 3) := dk_180 0 54 (dk_at dksX5_keepImage_9 18 rfl rfl)
theorem dX5_keepImage_234 : decode cX5_keepImage 234 = .ok (.iload_n 2, 1) := dk_28 (dk_at dksX5_keepImage_9 21 rfl rfl)
theorem dX5_keepImage_235 : decode cX5_keepImage 235 = .ok (.bipush 20, 2) := dk_16 20 (dk_at dksX5_keepImage_9 22 rfl rfl)
theorem dX5_keepImage_237 : decode cX5_keepImage 237 = .ok (.invokevirtual 138, 3) := dk_182 0 138 (dk_at dksX5_keepImage_10 0 rfl rfl)
theorem dX5_keepImage_240 : decode cX5_keepImage 240 = .ok (.istore_n 2, 1) := dk_61 (dk_at dksX5_keepImage_10 3 rfl rfl)
theorem dX5_keepImage_241 : decode cX5_keepImage 241 = .ok (.aload_n 0, 1) := dk_42 (dk_at dksX5_keepImage_10 4 rfl rfl)
theorem dX5_keepImage_242 : decode cX5_keepImage 242 = .ok (.aload_n 0, 1) := dk_42 (dk_at dksX5_keepImage_10 5 rfl rfl)
theorem dX5_keepImage_243 : decode cX5_keepImage 243 = .ok (.getfield 57, 3) := dk_180 0 57 (dk_at dksX5_keepImage_10 6 rfl rfl)
theorem dX5_keepImage_246 : decode cX5_keepImage 246 = .ok (.iload_n 2, 1) := dk_28 (dk_at dksX5_keepImage_10 9 rfl rfl)
theorem dX5_keepImage_247 : decode cX5_keepImage 247 = .ok (.bipush 8, 2) := dk_16 8 (dk_at dksX5_keepImage_10 10 rfl rfl)
theorem dX5_keepImage_249 : decode cX5_keepImage 249 = .ok (.invokevirtual 138, 3) := dk_182 0 138 (dk_at dksX5_keepImage_10 12 rfl rfl)
theorem dX5_keepImage_252 : decode cX5_keepImage 252 = .ok (.istore_n 2, 1) := dk_61 (dk_at dksX5_keepImage_10 15 rfl rfl)
theorem dX5_keepImage_253 : decode cX5_keepImage 253 = .ok (.aload_n 0, 1) := dk_42 (dk_at dksX5_keepImage_10 16 rfl rfl)
theorem dX5_keepImage_254 : decode cX5_keepImage 254 = .ok (.aload_n 0, 1) := dk_42 (dk_at dksX5_keepImage_10 17 rfl rfl)
theorem dX5_keepImage_255 : decode cX5_keepImage 255 = .ok (.getfield 60, 3) := dk_180 0 60 (dk_at dksX5_keepImage_10 18 rfl rfl)
theorem dX5_keepImage_258 : decode cX5_keepImage 258 = .ok (.iload_n 2, 1) := dk_28 (dk_at dksX5_keepImage_10 21 rfl rfl)
theorem dX5_keepImage_259 : decode cX5_keepImage 259 = .ok (.bipush 8, 2) := dk_16 8 (dk_at dksX5_keepImage_10 22 rfl rfl)
theorem dX5_keepImage_261 : decode cX5_keepImage 261 = .ok (.invokevirtual 138, 3) := dk_182 0 138 (dk_at dksX5_keepImage_11 0 rfl rfl)
theorem dX5_keepImage_264 : decode cX5_keepImage 264 = .ok (.istore_n 2, 1) := dk_61 (dk_at dksX5_keepImage_11 3 rfl rfl)
theorem dX5_keepImage_265 : decode cX5_keepImage 265 = .ok (.aload_n 0, 1) := dk_42 (dk_at dksX5_keepImage_11 4 rfl rfl)
theorem dX5_keepImage_266 : decode cX5_keepImage 266 = .ok (.aload_n 0, 1) := dk_42 (dk_at dksX5_keepImage_11 5 rfl rfl)
theorem dX5_keepImage_267 : decode cX5_keepImage 267 = .ok (.getfield 63, 3) := dk_180 0 63 (dk_at dksX5_keepImage_11 6 rfl rfl)
theorem dX5_keepImage_270 : decode cX5_keepImage 270 = .ok (.iload_n 2, 1) := dk_28 (dk_at dksX5_keepImage_11 9 rfl rfl)
theorem dX5_keepImage_271 : decode cX5_keepImage 271 = .ok (.bipush 8, 2) := dk_16 8 (dk_at dksX5_keepImage_11 10 rfl rfl)
theorem dX5_keepImage_273 : decode cX5_keepImage 273 = .ok (.invokevirtual 138, 3) := dk_182 0 138 (dk_at dksX5_keepImage_11 12 rfl rfl)
theorem dX5_keepImage_276 : decode cX5_keepImage 276 = .ok (.istore_n 2, 1) := dk_61 (dk_at dksX5_keepImage_11 15 rfl rfl)
theorem dX5_keepImage_277 : decode cX5_keepImage 277 = .ok (.aload_n 0, 1) := dk_42 (dk_at dksX5_keepImage_11 16 rfl rfl)
theorem dX5_keepImage_278 : decode cX5_keepImage 278 = .ok (.aload_n 0, 1) := dk_42 (dk_at dksX5_keepImage_11 17 rfl rfl)
theorem dX5_keepImage_279 : decode cX5_keepImage 279 = .ok (.getfield 66, 3) := dk_180 0 66 (dk_at dksX5_keepImage_11 18 rfl rfl)
theorem dX5_keepImage_282 : decode cX5_keepImage 282 = .ok (.iload_n 2, 1) := dk_28 (dk_at dksX5_keepImage_11 21 rfl rfl)
theorem dX5_keepImage_283 : decode cX5_keepImage 283 = .ok (.bipush 8, 2) := dk_16 8 (dk_at dksX5_keepImage_11 22 rfl rfl)
theorem dX5_keepImage_285 : decode cX5_keepImage 285 = .ok (.invokevirtual 138, 3) := dk_182 0 138 (dk_at dksX5_keepImage_12 0 rfl rfl)
theorem dX5_keepImage_288 : decode cX5_keepImage 288 = .ok (.istore_n 2, 1) := dk_61 (dk_at dksX5_keepImage_12 3 rfl rfl)
theorem dX5_keepImage_289 : decode cX5_keepImage 289 = .ok (.aload_n 0, 1) := dk_42 (dk_at dksX5_keepImage_12 4 rfl rfl)
theorem dX5_keepImage_290 : decode cX5_keepImage 290 = .ok (.aload_n 0, 1) := dk_42 (dk_at dksX5_keepImage_12 5 rfl rfl)
theorem dX5_keepImage_291 : decode cX5_keepImage 291 = .ok (.getfield 69, 3) := dk_180 0 69 (dk_at dksX5_keepImage_12 6 rfl rfl)
theorem dX5_keepImage_294 : decode cX5_keepImage 294 = .ok (.iload_n 2, 1) := dk_28 (dk_at dksX5_keepImage_12 9 rfl rfl)
theorem dX5_keepImage_295 : decode cX5_keepImage 295 = .ok (.iconst 4, 1) := dk_7 (dk_at dksX5_keepImage_12 10 rfl rfl)
theorem dX5_keepImage_296 : decode cX5_keepImage 296 = .ok (.invokevirtual 138, 3) := dk_182 0 138 (dk_at dksX5_keepImage_12 11 rfl rfl)
theorem dX5_keepImage_299 : decode cX5_keepImage 299 = .ok (.istore_n 2, 1) := dk_61 (dk_at dksX5_keepImage_12 14 rfl rfl)
theorem dX5_keepImage_300 : decode cX5_keepImage 300 = .ok (.aload_n 0, 1) := dk_42 (dk_at dksX5_keepImage_12 15 rfl rfl)
theorem dX5_keepImage_301 : decode cX5_keepImage 301 = .ok (.aload_n 0, 1) := dk_42 (dk_at dksX5_keepImage_12 16 rfl rfl)
theorem dX5_keepImage_302 : decode cX5_keepImage 302 = .ok (.getfield 72, 3) := dk_180 0 72 (dk_at dksX5_keepImage_12 17 rfl rfl)
theorem dX5_keepImage_305 : decode cX5_keepImage 305 = .ok (.iload_n 2, 1) := dk_28 (dk_at dksX5_keepImage_12 20 rfl rfl)
theorem dX5_keepImage_306 : decode cX5_keepImage 306 = .ok (.bipush 24, 2) := dk_16 24 (dk_at dksX5_keepImage_12 21 rfl rfl)
theorem dX5_keepImage_308 : decode cX5_keepImage 308 = .ok (.invokevirtual 138, 3) := dk_182 0 138 (dk_at dksX5_keepImage_13 0 rfl rfl)
theorem dX5_keepImage_311 : decode cX5_keepImage 311 = .ok (.istore_n 2, 1) := dk_61 (dk_at dksX5_keepImage_13 3 rfl rfl)
theorem dX5_keepImage_312 : decode cX5_keepImage 312 = .ok (.aload_n 0, 1) := dk_42 (dk_at dksX5_keepImage_13 4 rfl rfl)
theorem dX5_keepImage_313 : decode cX5_keepImage 313 = .ok (.aload_n 0, 1) := dk_42 (dk_at dksX5_keepImage_13 5 rfl rfl)
theorem dX5_keepImage_314 : decode cX5_keepImage 314 = .ok (.getfield 75, 3) := dk_180 0 75 (dk_at dksX5_keepImage_13 6 rfl rfl)
theorem dX5_keepImage_317 : decode cX5_keepImage 317 = .ok (.iload_n 2, 1) := dk_28 (dk_at dksX5_keepImage_13 9 rfl rfl)
theorem dX5_keepImage_318 : decode cX5_keepImage 318 = .ok (.iconst 4, 1) := dk_7 (dk_at dksX5_keepImage_13 10 rfl rfl)
theorem dX5_keepImage_319 : decode cX5_keepImage 319 = .ok (.invokevirtual 138, 3) := dk_182 0 138 (dk_at dksX5_keepImage_13 11 rfl rfl)
theorem dX5_keepImage_322 : decode cX5_keepImage 322 = .ok (.istore_n 2, 1) := dk_61 (dk_at dksX5_keepImage_13 14 rfl rfl)
theorem dX5_keepImage_323 : decode cX5_keepImage 323 = .ok (.aload_n 0, 1) := dk_42 (dk_at dksX5_keepImage_13 15 rfl rfl)
theorem dX5_keepImage_324 : decode cX5_keepImage 324 = .ok (.aload_n 0, 1) := dk_42 (dk_at dksX5_keepImage_13 16 rfl rfl)
theorem dX5_keepImage_325 : decode cX5_keepImage 325 = .ok (.getfield 78, 3) := dk_180 0 78 (dk_at dksX5_keepImage_13 17 rfl rfl)
theorem dX5_keepImage_328 : decode cX5_keepImage 328 = .ok (.iload_n 2, 1) := dk_28 (dk_at dksX5_keepImage_13 20 rfl rfl)
theorem dX5_keepImage_329 : decode cX5_keepImage 329 = .ok (.bipush 32, 2) := dk_16 32 (dk_at dksX5_keepImage_13 21 rfl rfl)
theorem dX5_keepImage_331 : decode cX5_keepImage 331 = .ok (.invokevirtual 138, 3) := dk_182 0 138 (dk_at dksX5_keepImage_14 0 rfl rfl)
theorem dX5_keepImage_334 : decode cX5_keepImage 334 = .ok (.istore_n 2, 1) := dk_61 (dk_at dksX5_keepImage_14 3 rfl rfl)
theorem dX5_keepImage_335 : decode cX5_keepImage 335 = .ok (.aload_n 0, 1) := dk_42 (dk_at dksX5_keepImage_14 4 rfl rfl)
theorem dX5_keepImage_336 : decode cX5_keepImage 336 = .ok (.aload_n 0, 1) := dk_42 (dk_at dksX5_keepImage_14 5 rfl rfl)
theorem dX5_keepImage_337 : decode cX5_keepImage 337 = .ok (.aload_n 0, 1) := dk_42 (dk_at dksX5_keepImage_14 6 rfl rfl)
theorem dX5_keepImage_338 : decode cX5_keepImage 338 = .ok (.getfield 81, 3) := dk_180 0 81 (dk_at dksX5_keepImage_14 7 rfl rfl)
theorem dX5_keepImage_341 : decode cX5_keepImage 341 = .ok (.iload_n 2, 1) := dk_28 (dk_at dksX5_keepImage_14 10 rfl rfl)
theorem dX5_keepImage_342 : decode cX5_keepImage 342 = .ok (.bipush 13, 2) := dk_16 13 (dk_at dksX5_keepImage_14 11 rfl rfl)
theorem dX5_keepImage_344 : decode cX5_keepImage 344 = .ok (.invokevirtual 138, 3) := dk_182 0 138 (dk_at dksX5_keepImage_14 13 rfl rfl)
theorem dX5_keepImage_347 : decode cX5_keepImage 347 = .ok (.putfield 142, 3) := dk_181 0 142 (dk_at dksX5_keepImage_14 16 rfl rfl)
theorem dX5_keepImage_350 : decode cX5_keepImage 350 = .ok (.return_, 1) := dk_177 (dk_at dksX5_keepImage_14 19 rfl rfl)
abbrev cX5_keepsRow : ByteArray := prog_12_method_7_code
def yX5_keepsRow : MethodName := ⟨RX5, "keepsRow", "([III)I"⟩
def dkwX5_keepsRow_1 : List UInt8 := [132, 4, 1, 167, 255, 234, 28, 29, 96, 172]
abbrev dktX5_keepsRow_1 : List UInt8 := dkwX5_keepsRow_1 ++ []
def dkwX5_keepsRow_0 : List UInt8 := [3, 54, 4, 21, 4, 29, 162, 0, 22, 42, 180, 0, 84, 28, 21, 4, 96, 43, 21, 4, 46, 79]
abbrev dktX5_keepsRow_0 : List UInt8 := dkwX5_keepsRow_0 ++ dktX5_keepsRow_1
theorem dksX5_keepsRow_0 : cX5_keepsRow.data.toList.drop 0 = dktX5_keepsRow_0 := by decide +kernel
theorem dksX5_keepsRow_1 : cX5_keepsRow.data.toList.drop 22 = dktX5_keepsRow_1 := dk_seg dksX5_keepsRow_0 22 rfl rfl
theorem dX5_keepsRow_0 : decode cX5_keepsRow 0 = .ok (.iconst 0, 1) := dk_3 (dk_at dksX5_keepsRow_0 0 rfl rfl)
theorem dX5_keepsRow_1 : decode cX5_keepsRow 1 = .ok (.istore 4, 2) := dk_54 4 (dk_at dksX5_keepsRow_0 1 rfl rfl)
theorem dX5_keepsRow_3 : decode cX5_keepsRow 3 = .ok (.iload 4, 2) := dk_21 4 (dk_at dksX5_keepsRow_0 3 rfl rfl)
theorem dX5_keepsRow_5 : decode cX5_keepsRow 5 = .ok (.iload_n 3, 1) := dk_29 (dk_at dksX5_keepsRow_0 5 rfl rfl)
theorem dX5_keepsRow_6 : decode cX5_keepsRow 6 = .ok (.if_icmp .ge 22, 3) := dk_162 0 22 (dk_at dksX5_keepsRow_0 6 rfl rfl)
theorem dX5_keepsRow_9 : decode cX5_keepsRow 9 = .ok (.aload_n 0, 1) := dk_42 (dk_at dksX5_keepsRow_0 9 rfl rfl)
theorem dX5_keepsRow_10 : decode cX5_keepsRow 10 = .ok (.getfield 84, 3) := dk_180 0 84 (dk_at dksX5_keepsRow_0 10 rfl rfl)
theorem dX5_keepsRow_13 : decode cX5_keepsRow 13 = .ok (.iload_n 2, 1) := dk_28 (dk_at dksX5_keepsRow_0 13 rfl rfl)
theorem dX5_keepsRow_14 : decode cX5_keepsRow 14 = .ok (.iload 4, 2) := dk_21 4 (dk_at dksX5_keepsRow_0 14 rfl rfl)
theorem dX5_keepsRow_16 : decode cX5_keepsRow 16 = .ok (.iadd, 1) := dk_96 (dk_at dksX5_keepsRow_0 16 rfl rfl)
theorem dX5_keepsRow_17 : decode cX5_keepsRow 17 = .ok (.aload_n 1, 1) := dk_43 (dk_at dksX5_keepsRow_0 17 rfl rfl)
theorem dX5_keepsRow_18 : decode cX5_keepsRow 18 = .ok (.iload 4, 2) := dk_21 4 (dk_at dksX5_keepsRow_0 18 rfl rfl)
theorem dX5_keepsRow_20 : decode cX5_keepsRow 20 = .ok (.iaload, 1) := dk_46 (dk_at dksX5_keepsRow_0 20 rfl rfl)
theorem dX5_keepsRow_21 : decode cX5_keepsRow 21 = .ok (.iastore, 1) := dk_79 (dk_at dksX5_keepsRow_0 21 rfl rfl)
theorem dX5_keepsRow_22 : decode cX5_keepsRow 22 = .ok (.iinc 4 1, 3) := dk_132 4 1 (dk_at dksX5_keepsRow_1 0 rfl rfl)
theorem dX5_keepsRow_25 : decode cX5_keepsRow 25 = .ok (.goto (-22), 3) := dk_167 255 234 (dk_at dksX5_keepsRow_1 3 rfl rfl)
theorem dX5_keepsRow_28 : decode cX5_keepsRow 28 = .ok (.iload_n 2, 1) := dk_28 (dk_at dksX5_keepsRow_1 6 rfl rfl)
theorem dX5_keepsRow_29 : decode cX5_keepsRow 29 = .ok (.iload_n 3, 1) := dk_29 (dk_at dksX5_keepsRow_1 7 rfl rfl)
theorem dX5_keepsRow_30 : decode cX5_keepsRow 30 = .ok (.iadd, 1) := dk_96 (dk_at dksX5_keepsRow_1 8 rfl rfl)
theorem dX5_keepsRow_31 : decode cX5_keepsRow 31 = .ok (.ireturn, 1) := dk_172 (dk_at dksX5_keepsRow_1 9 rfl rfl)
abbrev cX5_begin : ByteArray := prog_12_method_53_code
def yX5_begin : MethodName := ⟨RX5, "begin", "()V"⟩
def dkwX5_begin_0 : List UInt8 := [42, 3, 181, 1, 26, 42, 2, 181, 0, 13, 42, 3, 181, 1, 29, 177]
abbrev dktX5_begin_0 : List UInt8 := dkwX5_begin_0 ++ []
theorem dksX5_begin_0 : cX5_begin.data.toList.drop 0 = dktX5_begin_0 := by decide +kernel
theorem dX5_begin_0 : decode cX5_begin 0 = .ok (.aload_n 0, 1) := dk_42 (dk_at dksX5_begin_0 0 rfl rfl)
theorem dX5_begin_1 : decode cX5_begin 1 = .ok (.iconst 0, 1) := dk_3 (dk_at dksX5_begin_0 1 rfl rfl)
theorem dX5_begin_2 : decode cX5_begin 2 = .ok (.putfield 282, 3) := dk_181 1 26 (dk_at dksX5_begin_0 2 rfl rfl)
theorem dX5_begin_5 : decode cX5_begin 5 = .ok (.aload_n 0, 1) := dk_42 (dk_at dksX5_begin_0 5 rfl rfl)
theorem dX5_begin_6 : decode cX5_begin 6 = .ok (.iconst (-1), 1) := dk_2 (dk_at dksX5_begin_0 6 rfl rfl)
theorem dX5_begin_7 : decode cX5_begin 7 = .ok (.putfield 13, 3) := dk_181 0 13 (dk_at dksX5_begin_0 7 rfl rfl)
theorem dX5_begin_10 : decode cX5_begin 10 = .ok (.aload_n 0, 1) := dk_42 (dk_at dksX5_begin_0 10 rfl rfl)
theorem dX5_begin_11 : decode cX5_begin 11 = .ok (.iconst 0, 1) := dk_3 (dk_at dksX5_begin_0 11 rfl rfl)
theorem dX5_begin_12 : decode cX5_begin 12 = .ok (.putfield 285, 3) := dk_181 1 29 (dk_at dksX5_begin_0 12 rfl rfl)
theorem dX5_begin_15 : decode cX5_begin 15 = .ok (.return_, 1) := dk_177 (dk_at dksX5_begin_0 15 rfl rfl)
abbrev cX5_readsHead : ByteArray := prog_12_method_65_code
def yX5_readsHead : MethodName := ⟨RX5, "readsHead", "()Z"⟩
def dkwX5_readsHead_5 : List UInt8 := [172, 42, 182, 1, 82, 154, 0, 5, 3, 172, 42, 182, 1, 20, 167, 255, 218, 4, 172]
abbrev dktX5_readsHead_5 : List UInt8 := dkwX5_readsHead_5 ++ []
def dkwX5_readsHead_4 : List UInt8 := [42, 182, 1, 67, 20, 1, 80, 148, 154, 0, 33, 42, 180, 0, 103, 7, 160, 0, 9, 42, 8, 182, 1, 55]
abbrev dktX5_readsHead_4 : List UInt8 := dkwX5_readsHead_4 ++ dktX5_readsHead_5
def dkwX5_readsHead_3 : List UInt8 := [180, 1, 38, 62, 42, 182, 1, 73, 154, 0, 5, 3, 172, 42, 27, 28, 29, 182, 1, 76, 42, 182, 1, 20]
abbrev dktX5_readsHead_3 : List UInt8 := dkwX5_readsHead_3 ++ dktX5_readsHead_4
def dkwX5_readsHead_2 : List UInt8 := [154, 0, 5, 3, 172, 42, 180, 1, 38, 61, 42, 4, 16, 9, 182, 1, 61, 154, 0, 5, 3, 172, 42]
abbrev dktX5_readsHead_2 : List UInt8 := dkwX5_readsHead_2 ++ dktX5_readsHead_3
def dkwX5_readsHead_1 : List UInt8 := [16, 6, 182, 1, 61, 154, 0, 5, 3, 172, 42, 180, 1, 38, 60, 42, 4, 16, 6, 182, 1, 61]
abbrev dktX5_readsHead_1 : List UInt8 := dkwX5_readsHead_1 ++ dktX5_readsHead_2
def dkwX5_readsHead_0 : List UInt8 := [42, 182, 1, 20, 42, 182, 1, 67, 20, 1, 71, 148, 153, 0, 9, 42, 4, 182, 1, 55, 172, 42, 4]
abbrev dktX5_readsHead_0 : List UInt8 := dkwX5_readsHead_0 ++ dktX5_readsHead_1
theorem dksX5_readsHead_0 : cX5_readsHead.data.toList.drop 0 = dktX5_readsHead_0 := by decide +kernel
theorem dksX5_readsHead_1 : cX5_readsHead.data.toList.drop 23 = dktX5_readsHead_1 := dk_seg dksX5_readsHead_0 23 rfl rfl
theorem dksX5_readsHead_2 : cX5_readsHead.data.toList.drop 45 = dktX5_readsHead_2 := dk_seg dksX5_readsHead_1 22 rfl rfl
theorem dksX5_readsHead_3 : cX5_readsHead.data.toList.drop 68 = dktX5_readsHead_3 := dk_seg dksX5_readsHead_2 23 rfl rfl
theorem dksX5_readsHead_4 : cX5_readsHead.data.toList.drop 92 = dktX5_readsHead_4 := dk_seg dksX5_readsHead_3 24 rfl rfl
theorem dksX5_readsHead_5 : cX5_readsHead.data.toList.drop 116 = dktX5_readsHead_5 := dk_seg dksX5_readsHead_4 24 rfl rfl
theorem dX5_readsHead_0 : decode cX5_readsHead 0 = .ok (.aload_n 0, 1) := dk_42 (dk_at dksX5_readsHead_0 0 rfl rfl)
theorem dX5_readsHead_1 : decode cX5_readsHead 1 = .ok (.invokevirtual 276, 3) := dk_182 1 20 (dk_at dksX5_readsHead_0 1 rfl rfl)
theorem dX5_readsHead_4 : decode cX5_readsHead 4 = .ok (.aload_n 0, 1) := dk_42 (dk_at dksX5_readsHead_0 4 rfl rfl)
theorem dX5_readsHead_5 : decode cX5_readsHead 5 = .ok (.invokevirtual 323, 3) := dk_182 1 67 (dk_at dksX5_readsHead_0 5 rfl rfl)
theorem dX5_readsHead_8 : decode cX5_readsHead 8 = .ok (.ldc2_w 327, 3) := dk_20 1 71 (dk_at dksX5_readsHead_0 8 rfl rfl)
theorem dX5_readsHead_11 : decode cX5_readsHead 11 = .ok (.lcmp, 1) := dk_148 (dk_at dksX5_readsHead_0 11 rfl rfl)
theorem dX5_readsHead_12 : decode cX5_readsHead 12 = .ok (.ifCond .eq 9, 3) := dk_153 0 9 (dk_at dksX5_readsHead_0 12 rfl rfl)
theorem dX5_readsHead_15 : decode cX5_readsHead 15 = .ok (.aload_n 0, 1) := dk_42 (dk_at dksX5_readsHead_0 15 rfl rfl)
theorem dX5_readsHead_16 : decode cX5_readsHead 16 = .ok (.iconst 1, 1) := dk_4 (dk_at dksX5_readsHead_0 16 rfl rfl)
theorem dX5_readsHead_17 : decode cX5_readsHead 17 = .ok (.invokevirtual 311, 3) := dk_182 1 55 (dk_at dksX5_readsHead_0 17 rfl rfl)
theorem dX5_readsHead_20 : decode cX5_readsHead 20 = .ok (.ireturn, 1) := dk_172 (dk_at dksX5_readsHead_0 20 rfl rfl)
theorem dX5_readsHead_21 : decode cX5_readsHead 21 = .ok (.aload_n 0, 1) := dk_42 (dk_at dksX5_readsHead_0 21 rfl rfl)
theorem dX5_readsHead_22 : decode cX5_readsHead 22 = .ok (.iconst 1, 1) := dk_4 (dk_at dksX5_readsHead_0 22 rfl rfl)
theorem dX5_readsHead_23 : decode cX5_readsHead 23 = .ok (.bipush 6, 2) := dk_16 6 (dk_at dksX5_readsHead_1 0 rfl rfl)
theorem dX5_readsHead_25 : decode cX5_readsHead 25 = .ok (.invokevirtual 317, 3) := dk_182 1 61 (dk_at dksX5_readsHead_1 2 rfl rfl)
theorem dX5_readsHead_28 : decode cX5_readsHead 28 = .ok (.ifCond .ne 5, 3) := dk_154 0 5 (dk_at dksX5_readsHead_1 5 rfl rfl)
theorem dX5_readsHead_31 : decode cX5_readsHead 31 = .ok (.iconst 0, 1) := dk_3 (dk_at dksX5_readsHead_1 8 rfl rfl)
theorem dX5_readsHead_32 : decode cX5_readsHead 32 = .ok (.ireturn, 1) := dk_172 (dk_at dksX5_readsHead_1 9 rfl rfl)
theorem dX5_readsHead_33 : decode cX5_readsHead 33 = .ok (.aload_n 0, 1) := dk_42 (dk_at dksX5_readsHead_1 10 rfl rfl)
theorem dX5_readsHead_34 : decode cX5_readsHead 34 = .ok (.getfield 294, 3) := dk_180 1 38 (dk_at dksX5_readsHead_1 11 rfl rfl)
theorem dX5_readsHead_37 : decode cX5_readsHead 37 = .ok (.istore_n 1, 1) := dk_60 (dk_at dksX5_readsHead_1 14 rfl rfl)
theorem dX5_readsHead_38 : decode cX5_readsHead 38 = .ok (.aload_n 0, 1) := dk_42 (dk_at dksX5_readsHead_1 15 rfl rfl)
theorem dX5_readsHead_39 : decode cX5_readsHead 39 = .ok (.iconst 1, 1) := dk_4 (dk_at dksX5_readsHead_1 16 rfl rfl)
theorem dX5_readsHead_40 : decode cX5_readsHead 40 = .ok (.bipush 6, 2) := dk_16 6 (dk_at dksX5_readsHead_1 17 rfl rfl)
theorem dX5_readsHead_42 : decode cX5_readsHead 42 = .ok (.invokevirtual 317, 3) := dk_182 1 61 (dk_at dksX5_readsHead_1 19 rfl rfl)
theorem dX5_readsHead_45 : decode cX5_readsHead 45 = .ok (.ifCond .ne 5, 3) := dk_154 0 5 (dk_at dksX5_readsHead_2 0 rfl rfl)
theorem dX5_readsHead_48 : decode cX5_readsHead 48 = .ok (.iconst 0, 1) := dk_3 (dk_at dksX5_readsHead_2 3 rfl rfl)
theorem dX5_readsHead_49 : decode cX5_readsHead 49 = .ok (.ireturn, 1) := dk_172 (dk_at dksX5_readsHead_2 4 rfl rfl)
theorem dX5_readsHead_50 : decode cX5_readsHead 50 = .ok (.aload_n 0, 1) := dk_42 (dk_at dksX5_readsHead_2 5 rfl rfl)
theorem dX5_readsHead_51 : decode cX5_readsHead 51 = .ok (.getfield 294, 3) := dk_180 1 38 (dk_at dksX5_readsHead_2 6 rfl rfl)
theorem dX5_readsHead_54 : decode cX5_readsHead 54 = .ok (.istore_n 2, 1) := dk_61 (dk_at dksX5_readsHead_2 9 rfl rfl)
theorem dX5_readsHead_55 : decode cX5_readsHead 55 = .ok (.aload_n 0, 1) := dk_42 (dk_at dksX5_readsHead_2 10 rfl rfl)
theorem dX5_readsHead_56 : decode cX5_readsHead 56 = .ok (.iconst 1, 1) := dk_4 (dk_at dksX5_readsHead_2 11 rfl rfl)
theorem dX5_readsHead_57 : decode cX5_readsHead 57 = .ok (.bipush 9, 2) := dk_16 9 (dk_at dksX5_readsHead_2 12 rfl rfl)
theorem dX5_readsHead_59 : decode cX5_readsHead 59 = .ok (.invokevirtual 317, 3) := dk_182 1 61 (dk_at dksX5_readsHead_2 14 rfl rfl)
theorem dX5_readsHead_62 : decode cX5_readsHead 62 = .ok (.ifCond .ne 5, 3) := dk_154 0 5 (dk_at dksX5_readsHead_2 17 rfl rfl)
theorem dX5_readsHead_65 : decode cX5_readsHead 65 = .ok (.iconst 0, 1) := dk_3 (dk_at dksX5_readsHead_2 20 rfl rfl)
theorem dX5_readsHead_66 : decode cX5_readsHead 66 = .ok (.ireturn, 1) := dk_172 (dk_at dksX5_readsHead_2 21 rfl rfl)
theorem dX5_readsHead_67 : decode cX5_readsHead 67 = .ok (.aload_n 0, 1) := dk_42 (dk_at dksX5_readsHead_2 22 rfl rfl)
theorem dX5_readsHead_68 : decode cX5_readsHead 68 = .ok (.getfield 294, 3) := dk_180 1 38 (dk_at dksX5_readsHead_3 0 rfl rfl)
theorem dX5_readsHead_71 : decode cX5_readsHead 71 = .ok (.istore_n 3, 1) := dk_62 (dk_at dksX5_readsHead_3 3 rfl rfl)
theorem dX5_readsHead_72 : decode cX5_readsHead 72 = .ok (.aload_n 0, 1) := dk_42 (dk_at dksX5_readsHead_3 4 rfl rfl)
theorem dX5_readsHead_73 : decode cX5_readsHead 73 = .ok (.invokevirtual 329, 3) := dk_182 1 73 (dk_at dksX5_readsHead_3 5 rfl rfl)
theorem dX5_readsHead_76 : decode cX5_readsHead 76 = .ok (.ifCond .ne 5, 3) := dk_154 0 5 (dk_at dksX5_readsHead_3 8 rfl rfl)
theorem dX5_readsHead_79 : decode cX5_readsHead 79 = .ok (.iconst 0, 1) := dk_3 (dk_at dksX5_readsHead_3 11 rfl rfl)
theorem dX5_readsHead_80 : decode cX5_readsHead 80 = .ok (.ireturn, 1) := dk_172 (dk_at dksX5_readsHead_3 12 rfl rfl)
theorem dX5_readsHead_81 : decode cX5_readsHead 81 = .ok (.aload_n 0, 1) := dk_42 (dk_at dksX5_readsHead_3 13 rfl rfl)
theorem dX5_readsHead_82 : decode cX5_readsHead 82 = .ok (.iload_n 1, 1) := dk_27 (dk_at dksX5_readsHead_3 14 rfl rfl)
theorem dX5_readsHead_83 : decode cX5_readsHead 83 = .ok (.iload_n 2, 1) := dk_28 (dk_at dksX5_readsHead_3 15 rfl rfl)
theorem dX5_readsHead_84 : decode cX5_readsHead 84 = .ok (.iload_n 3, 1) := dk_29 (dk_at dksX5_readsHead_3 16 rfl rfl)
theorem dX5_readsHead_85 : decode cX5_readsHead 85 = .ok (.invokevirtual 332, 3) := dk_182 1 76 (dk_at dksX5_readsHead_3 17 rfl rfl)
theorem dX5_readsHead_88 : decode cX5_readsHead 88 = .ok (.aload_n 0, 1) := dk_42 (dk_at dksX5_readsHead_3 20 rfl rfl)
theorem dX5_readsHead_89 : decode cX5_readsHead 89 = .ok (.invokevirtual 276, 3) := dk_182 1 20 (dk_at dksX5_readsHead_3 21 rfl rfl)
theorem dX5_readsHead_92 : decode cX5_readsHead 92 = .ok (.aload_n 0, 1) := dk_42 (dk_at dksX5_readsHead_4 0 rfl rfl)
theorem dX5_readsHead_93 : decode cX5_readsHead 93 = .ok (.invokevirtual 323, 3) := dk_182 1 67 (dk_at dksX5_readsHead_4 1 rfl rfl)
theorem dX5_readsHead_96 : decode cX5_readsHead 96 = .ok (.ldc2_w 336, 3) := dk_20 1 80 (dk_at dksX5_readsHead_4 4 rfl rfl)
theorem dX5_readsHead_99 : decode cX5_readsHead 99 = .ok (.lcmp, 1) := dk_148 (dk_at dksX5_readsHead_4 7 rfl rfl)
theorem dX5_readsHead_100 : decode cX5_readsHead 100 = .ok (.ifCond .ne 33, 3) := dk_154 0 33 (dk_at dksX5_readsHead_4 8 rfl rfl)
theorem dX5_readsHead_103 : decode cX5_readsHead 103 = .ok (.aload_n 0, 1) := dk_42 (dk_at dksX5_readsHead_4 11 rfl rfl)
theorem dX5_readsHead_104 : decode cX5_readsHead 104 = .ok (.getfield 103, 3) := dk_180 0 103 (dk_at dksX5_readsHead_4 12 rfl rfl)
theorem dX5_readsHead_107 : decode cX5_readsHead 107 = .ok (.iconst 4, 1) := dk_7 (dk_at dksX5_readsHead_4 15 rfl rfl)
theorem dX5_readsHead_108 : decode cX5_readsHead 108 = .ok (.if_icmp .ne 9, 3) := dk_160 0 9 (dk_at dksX5_readsHead_4 16 rfl rfl)
theorem dX5_readsHead_111 : decode cX5_readsHead 111 = .ok (.aload_n 0, 1) := dk_42 (dk_at dksX5_readsHead_4 19 rfl rfl)
theorem dX5_readsHead_112 : decode cX5_readsHead 112 = .ok (.iconst 5, 1) := dk_8 (dk_at dksX5_readsHead_4 20 rfl rfl)
theorem dX5_readsHead_113 : decode cX5_readsHead 113 = .ok (.invokevirtual 311, 3) := dk_182 1 55 (dk_at dksX5_readsHead_4 21 rfl rfl)
theorem dX5_readsHead_116 : decode cX5_readsHead 116 = .ok (.ireturn, 1) := dk_172 (dk_at dksX5_readsHead_5 0 rfl rfl)
theorem dX5_readsHead_117 : decode cX5_readsHead 117 = .ok (.aload_n 0, 1) := dk_42 (dk_at dksX5_readsHead_5 1 rfl rfl)
theorem dX5_readsHead_118 : decode cX5_readsHead 118 = .ok (.invokevirtual 338, 3) := dk_182 1 82 (dk_at dksX5_readsHead_5 2 rfl rfl)
theorem dX5_readsHead_121 : decode cX5_readsHead 121 = .ok (.ifCond .ne 5, 3) := dk_154 0 5 (dk_at dksX5_readsHead_5 5 rfl rfl)
theorem dX5_readsHead_124 : decode cX5_readsHead 124 = .ok (.iconst 0, 1) := dk_3 (dk_at dksX5_readsHead_5 8 rfl rfl)
theorem dX5_readsHead_125 : decode cX5_readsHead 125 = .ok (.ireturn, 1) := dk_172 (dk_at dksX5_readsHead_5 9 rfl rfl)
theorem dX5_readsHead_126 : decode cX5_readsHead 126 = .ok (.aload_n 0, 1) := dk_42 (dk_at dksX5_readsHead_5 10 rfl rfl)
theorem dX5_readsHead_127 : decode cX5_readsHead 127 = .ok (.invokevirtual 276, 3) := dk_182 1 20 (dk_at dksX5_readsHead_5 11 rfl rfl)
theorem dX5_readsHead_130 : decode cX5_readsHead 130 = .ok (.goto (-38), 3) := dk_167 255 218 (dk_at dksX5_readsHead_5 14 rfl rfl)
theorem dX5_readsHead_133 : decode cX5_readsHead 133 = .ok (.iconst 1, 1) := dk_4 (dk_at dksX5_readsHead_5 17 rfl rfl)
theorem dX5_readsHead_134 : decode cX5_readsHead 134 = .ok (.ireturn, 1) := dk_172 (dk_at dksX5_readsHead_5 18 rfl rfl)
abbrev cX5_token : ByteArray := prog_12_method_57_code
def yX5_token : MethodName := ⟨RX5, "token", "()V"⟩
def dkwX5_token_12 : List UInt8 := [89, 180, 1, 29, 4, 96, 181, 1, 29, 177]
abbrev dktX5_token_12 : List UInt8 := dkwX5_token_12 ++ []
def dkwX5_token_11 : List UInt8 := [4, 96, 181, 1, 29, 167, 255, 171, 42, 27, 16, 59, 160, 0, 7, 6, 167, 0, 4, 7, 181, 1, 41, 42]
abbrev dktX5_token_11 : List UInt8 := dkwX5_token_11 ++ dktX5_token_12
def dkwX5_token_10 : List UInt8 := [19, 1, 50, 164, 0, 9, 19, 1, 50, 167, 0, 7, 42, 180, 1, 38, 181, 1, 38, 42, 89, 180, 1, 29]
abbrev dktX5_token_10 : List UInt8 := dkwX5_token_10 ++ dktX5_token_11
def dkwX5_token_9 : List UInt8 := [16, 10, 104, 42, 180, 0, 7, 42, 180, 1, 29, 51, 96, 16, 48, 100, 181, 1, 38, 42, 42, 180, 1, 38]
abbrev dktX5_token_9 : List UInt8 := dkwX5_token_9 ++ dktX5_token_10
def dkwX5_token_8 : List UInt8 := [162, 0, 105, 42, 42, 180, 0, 7, 42, 180, 1, 29, 51, 182, 1, 47, 153, 0, 89, 42, 42, 180, 1, 38]
abbrev dktX5_token_8 : List UInt8 := dkwX5_token_8 ++ dktX5_token_9
def dkwX5_token_7 : List UInt8 := [167, 0, 129, 42, 27, 182, 1, 47, 153, 0, 96, 42, 5, 181, 1, 41, 42, 180, 1, 29, 42, 180, 0, 109]
abbrev dktX5_token_7 : List UInt8 := dkwX5_token_7 ++ dktX5_token_8
def dkwX5_token_6 : List UInt8 := [180, 1, 29, 4, 96, 181, 1, 29, 167, 255, 219, 42, 42, 180, 1, 29, 42, 180, 1, 32, 100, 181, 1, 35]
abbrev dktX5_token_6 : List UInt8 := dkwX5_token_6 ++ dktX5_token_7
def dkwX5_token_5 : List UInt8 := [180, 0, 109, 162, 0, 32, 42, 42, 180, 0, 7, 42, 180, 1, 29, 51, 182, 1, 44, 153, 0, 16, 42, 89]
abbrev dktX5_token_5 : List UInt8 := dkwX5_token_5 ++ dktX5_token_6
def dkwX5_token_4 : List UInt8 := [180, 1, 29, 51, 60, 42, 27, 182, 1, 44, 153, 0, 64, 42, 4, 181, 1, 41, 42, 180, 1, 29, 42]
abbrev dktX5_token_4 : List UInt8 := dkwX5_token_4 ++ dktX5_token_5
def dkwX5_token_3 : List UInt8 := [42, 180, 1, 29, 42, 180, 0, 109, 161, 0, 9, 42, 3, 181, 1, 41, 177, 42, 180, 0, 7, 42]
abbrev dktX5_token_3 : List UInt8 := dkwX5_token_3 ++ dktX5_token_4
def dkwX5_token_2 : List UInt8 := [181, 1, 29, 167, 255, 207, 42, 42, 180, 1, 29, 181, 1, 32, 42, 3, 181, 1, 35, 42, 3, 181, 1, 38]
abbrev dktX5_token_2 : List UInt8 := dkwX5_token_2 ++ dktX5_token_3
def dkwX5_token_1 : List UInt8 := [159, 0, 17, 42, 180, 0, 7, 42, 180, 1, 29, 51, 16, 10, 160, 0, 16, 42, 89, 180, 1, 29, 4, 96]
abbrev dktX5_token_1 : List UInt8 := dkwX5_token_1 ++ dktX5_token_2
def dkwX5_token_0 : List UInt8 := [42, 180, 1, 29, 42, 180, 0, 109, 162, 0, 44, 42, 180, 0, 7, 42, 180, 1, 29, 51, 16, 32]
abbrev dktX5_token_0 : List UInt8 := dkwX5_token_0 ++ dktX5_token_1
theorem dksX5_token_0 : cX5_token.data.toList.drop 0 = dktX5_token_0 := by decide +kernel
theorem dksX5_token_1 : cX5_token.data.toList.drop 22 = dktX5_token_1 := dk_seg dksX5_token_0 22 rfl rfl
theorem dksX5_token_2 : cX5_token.data.toList.drop 46 = dktX5_token_2 := dk_seg dksX5_token_1 24 rfl rfl
theorem dksX5_token_3 : cX5_token.data.toList.drop 70 = dktX5_token_3 := dk_seg dksX5_token_2 24 rfl rfl
theorem dksX5_token_4 : cX5_token.data.toList.drop 92 = dktX5_token_4 := dk_seg dksX5_token_3 22 rfl rfl
theorem dksX5_token_5 : cX5_token.data.toList.drop 115 = dktX5_token_5 := dk_seg dksX5_token_4 23 rfl rfl
theorem dksX5_token_6 : cX5_token.data.toList.drop 139 = dktX5_token_6 := dk_seg dksX5_token_5 24 rfl rfl
theorem dksX5_token_7 : cX5_token.data.toList.drop 163 = dktX5_token_7 := dk_seg dksX5_token_6 24 rfl rfl
theorem dksX5_token_8 : cX5_token.data.toList.drop 187 = dktX5_token_8 := dk_seg dksX5_token_7 24 rfl rfl
theorem dksX5_token_9 : cX5_token.data.toList.drop 211 = dktX5_token_9 := dk_seg dksX5_token_8 24 rfl rfl
theorem dksX5_token_10 : cX5_token.data.toList.drop 235 = dktX5_token_10 := dk_seg dksX5_token_9 24 rfl rfl
theorem dksX5_token_11 : cX5_token.data.toList.drop 259 = dktX5_token_11 := dk_seg dksX5_token_10 24 rfl rfl
theorem dksX5_token_12 : cX5_token.data.toList.drop 283 = dktX5_token_12 := dk_seg dksX5_token_11 24 rfl rfl
theorem dX5_token_0 : decode cX5_token 0 = .ok (.aload_n 0, 1) := dk_42 (dk_at dksX5_token_0 0 rfl rfl)
theorem dX5_token_1 : decode cX5_token 1 = .ok (.getfield 285, 3) := dk_180 1 29 (dk_at dksX5_token_0 1 rfl rfl)
theorem dX5_token_4 : decode cX5_token 4 = .ok (.aload_n 0, 1) := dk_42 (dk_at dksX5_token_0 4 rfl rfl)
theorem dX5_token_5 : decode cX5_token 5 = .ok (.getfield 109, 3) := dk_180 0 109 (dk_at dksX5_token_0 5 rfl rfl)
theorem dX5_token_8 : decode cX5_token 8 = .ok (.if_icmp .ge 44, 3) := dk_162 0 44 (dk_at dksX5_token_0 8 rfl rfl)
theorem dX5_token_11 : decode cX5_token 11 = .ok (.aload_n 0, 1) := dk_42 (dk_at dksX5_token_0 11 rfl rfl)
theorem dX5_token_12 : decode cX5_token 12 = .ok (.getfield 7, 3) := dk_180 0 7 (dk_at dksX5_token_0 12 rfl rfl)
theorem dX5_token_15 : decode cX5_token 15 = .ok (.aload_n 0, 1) := dk_42 (dk_at dksX5_token_0 15 rfl rfl)
theorem dX5_token_16 : decode cX5_token 16 = .ok (.getfield 285, 3) := dk_180 1 29 (dk_at dksX5_token_0 16 rfl rfl)
theorem dX5_token_19 : decode cX5_token 19 = .ok (.baload, 1) := dk_51 (dk_at dksX5_token_0 19 rfl rfl)
theorem dX5_token_20 : decode cX5_token 20 = .ok (.bipush 32, 2) := dk_16 32 (dk_at dksX5_token_0 20 rfl rfl)
theorem dX5_token_22 : decode cX5_token 22 = .ok (.if_icmp .eq 17, 3) := dk_159 0 17 (dk_at dksX5_token_1 0 rfl rfl)
theorem dX5_token_25 : decode cX5_token 25 = .ok (.aload_n 0, 1) := dk_42 (dk_at dksX5_token_1 3 rfl rfl)
theorem dX5_token_26 : decode cX5_token 26 = .ok (.getfield 7, 3) := dk_180 0 7 (dk_at dksX5_token_1 4 rfl rfl)
theorem dX5_token_29 : decode cX5_token 29 = .ok (.aload_n 0, 1) := dk_42 (dk_at dksX5_token_1 7 rfl rfl)
theorem dX5_token_30 : decode cX5_token 30 = .ok (.getfield 285, 3) := dk_180 1 29 (dk_at dksX5_token_1 8 rfl rfl)
theorem dX5_token_33 : decode cX5_token 33 = .ok (.baload, 1) := dk_51 (dk_at dksX5_token_1 11 rfl rfl)
theorem dX5_token_34 : decode cX5_token 34 = .ok (.bipush 10, 2) := dk_16 10 (dk_at dksX5_token_1 12 rfl rfl)
theorem dX5_token_36 : decode cX5_token 36 = .ok (.if_icmp .ne 16, 3) := dk_160 0 16 (dk_at dksX5_token_1 14 rfl rfl)
theorem dX5_token_39 : decode cX5_token 39 = .ok (.aload_n 0, 1) := dk_42 (dk_at dksX5_token_1 17 rfl rfl)
theorem dX5_token_40 : decode cX5_token 40 = .ok (.dup, 1) := dk_89 (dk_at dksX5_token_1 18 rfl rfl)
theorem dX5_token_41 : decode cX5_token 41 = .ok (.getfield 285, 3) := dk_180 1 29 (dk_at dksX5_token_1 19 rfl rfl)
theorem dX5_token_44 : decode cX5_token 44 = .ok (.iconst 1, 1) := dk_4 (dk_at dksX5_token_1 22 rfl rfl)
theorem dX5_token_45 : decode cX5_token 45 = .ok (.iadd, 1) := dk_96 (dk_at dksX5_token_1 23 rfl rfl)
theorem dX5_token_46 : decode cX5_token 46 = .ok (.putfield 285, 3) := dk_181 1 29 (dk_at dksX5_token_2 0 rfl rfl)
theorem dX5_token_49 : decode cX5_token 49 = .ok (.goto (-49), 3) := dk_167 255 207 (dk_at dksX5_token_2 3 rfl rfl)
theorem dX5_token_52 : decode cX5_token 52 = .ok (.aload_n 0, 1) := dk_42 (dk_at dksX5_token_2 6 rfl rfl)
theorem dX5_token_53 : decode cX5_token 53 = .ok (.aload_n 0, 1) := dk_42 (dk_at dksX5_token_2 7 rfl rfl)
theorem dX5_token_54 : decode cX5_token 54 = .ok (.getfield 285, 3) := dk_180 1 29 (dk_at dksX5_token_2 8 rfl rfl)
theorem dX5_token_57 : decode cX5_token 57 = .ok (.putfield 288, 3) := dk_181 1 32 (dk_at dksX5_token_2 11 rfl rfl)
theorem dX5_token_60 : decode cX5_token 60 = .ok (.aload_n 0, 1) := dk_42 (dk_at dksX5_token_2 14 rfl rfl)
theorem dX5_token_61 : decode cX5_token 61 = .ok (.iconst 0, 1) := dk_3 (dk_at dksX5_token_2 15 rfl rfl)
theorem dX5_token_62 : decode cX5_token 62 = .ok (.putfield 291, 3) := dk_181 1 35 (dk_at dksX5_token_2 16 rfl rfl)
theorem dX5_token_65 : decode cX5_token 65 = .ok (.aload_n 0, 1) := dk_42 (dk_at dksX5_token_2 19 rfl rfl)
theorem dX5_token_66 : decode cX5_token 66 = .ok (.iconst 0, 1) := dk_3 (dk_at dksX5_token_2 20 rfl rfl)
theorem dX5_token_67 : decode cX5_token 67 = .ok (.putfield 294, 3) := dk_181 1 38 (dk_at dksX5_token_2 21 rfl rfl)
theorem dX5_token_70 : decode cX5_token 70 = .ok (.aload_n 0, 1) := dk_42 (dk_at dksX5_token_3 0 rfl rfl)
theorem dX5_token_71 : decode cX5_token 71 = .ok (.getfield 285, 3) := dk_180 1 29 (dk_at dksX5_token_3 1 rfl rfl)
theorem dX5_token_74 : decode cX5_token 74 = .ok (.aload_n 0, 1) := dk_42 (dk_at dksX5_token_3 4 rfl rfl)
theorem dX5_token_75 : decode cX5_token 75 = .ok (.getfield 109, 3) := dk_180 0 109 (dk_at dksX5_token_3 5 rfl rfl)
theorem dX5_token_78 : decode cX5_token 78 = .ok (.if_icmp .lt 9, 3) := dk_161 0 9 (dk_at dksX5_token_3 8 rfl rfl)
theorem dX5_token_81 : decode cX5_token 81 = .ok (.aload_n 0, 1) := dk_42 (dk_at dksX5_token_3 11 rfl rfl)
theorem dX5_token_82 : decode cX5_token 82 = .ok (.iconst 0, 1) := dk_3 (dk_at dksX5_token_3 12 rfl rfl)
theorem dX5_token_83 : decode cX5_token 83 = .ok (.putfield 297, 3) := dk_181 1 41 (dk_at dksX5_token_3 13 rfl rfl)
theorem dX5_token_86 : decode cX5_token 86 = .ok (.return_, 1) := dk_177 (dk_at dksX5_token_3 16 rfl rfl)
theorem dX5_token_87 : decode cX5_token 87 = .ok (.aload_n 0, 1) := dk_42 (dk_at dksX5_token_3 17 rfl rfl)
theorem dX5_token_88 : decode cX5_token 88 = .ok (.getfield 7, 3) := dk_180 0 7 (dk_at dksX5_token_3 18 rfl rfl)
theorem dX5_token_91 : decode cX5_token 91 = .ok (.aload_n 0, 1) := dk_42 (dk_at dksX5_token_3 21 rfl rfl)
theorem dX5_token_92 : decode cX5_token 92 = .ok (.getfield 285, 3) := dk_180 1 29 (dk_at dksX5_token_4 0 rfl rfl)
theorem dX5_token_95 : decode cX5_token 95 = .ok (.baload, 1) := dk_51 (dk_at dksX5_token_4 3 rfl rfl)
theorem dX5_token_96 : decode cX5_token 96 = .ok (.istore_n 1, 1) := dk_60 (dk_at dksX5_token_4 4 rfl rfl)
theorem dX5_token_97 : decode cX5_token 97 = .ok (.aload_n 0, 1) := dk_42 (dk_at dksX5_token_4 5 rfl rfl)
theorem dX5_token_98 : decode cX5_token 98 = .ok (.iload_n 1, 1) := dk_27 (dk_at dksX5_token_4 6 rfl rfl)
theorem dX5_token_99 : decode cX5_token 99 = .ok (.invokevirtual 300, 3) := dk_182 1 44 (dk_at dksX5_token_4 7 rfl rfl)
theorem dX5_token_102 : decode cX5_token 102 = .ok (.ifCond .eq 64, 3) := dk_153 0 64 (dk_at dksX5_token_4 10 rfl rfl)
theorem dX5_token_105 : decode cX5_token 105 = .ok (.aload_n 0, 1) := dk_42 (dk_at dksX5_token_4 13 rfl rfl)
theorem dX5_token_106 : decode cX5_token 106 = .ok (.iconst 1, 1) := dk_4 (dk_at dksX5_token_4 14 rfl rfl)
theorem dX5_token_107 : decode cX5_token 107 = .ok (.putfield 297, 3) := dk_181 1 41 (dk_at dksX5_token_4 15 rfl rfl)
theorem dX5_token_110 : decode cX5_token 110 = .ok (.aload_n 0, 1) := dk_42 (dk_at dksX5_token_4 18 rfl rfl)
theorem dX5_token_111 : decode cX5_token 111 = .ok (.getfield 285, 3) := dk_180 1 29 (dk_at dksX5_token_4 19 rfl rfl)
theorem dX5_token_114 : decode cX5_token 114 = .ok (.aload_n 0, 1) := dk_42 (dk_at dksX5_token_4 22 rfl rfl)
theorem dX5_token_115 : decode cX5_token 115 = .ok (.getfield 109, 3) := dk_180 0 109 (dk_at dksX5_token_5 0 rfl rfl)
theorem dX5_token_118 : decode cX5_token 118 = .ok (.if_icmp .ge 32, 3) := dk_162 0 32 (dk_at dksX5_token_5 3 rfl rfl)
theorem dX5_token_121 : decode cX5_token 121 = .ok (.aload_n 0, 1) := dk_42 (dk_at dksX5_token_5 6 rfl rfl)
theorem dX5_token_122 : decode cX5_token 122 = .ok (.aload_n 0, 1) := dk_42 (dk_at dksX5_token_5 7 rfl rfl)
theorem dX5_token_123 : decode cX5_token 123 = .ok (.getfield 7, 3) := dk_180 0 7 (dk_at dksX5_token_5 8 rfl rfl)
theorem dX5_token_126 : decode cX5_token 126 = .ok (.aload_n 0, 1) := dk_42 (dk_at dksX5_token_5 11 rfl rfl)
theorem dX5_token_127 : decode cX5_token 127 = .ok (.getfield 285, 3) := dk_180 1 29 (dk_at dksX5_token_5 12 rfl rfl)
theorem dX5_token_130 : decode cX5_token 130 = .ok (.baload, 1) := dk_51 (dk_at dksX5_token_5 15 rfl rfl)
theorem dX5_token_131 : decode cX5_token 131 = .ok (.invokevirtual 300, 3) := dk_182 1 44 (dk_at dksX5_token_5 16 rfl rfl)
theorem dX5_token_134 : decode cX5_token 134 = .ok (.ifCond .eq 16, 3) := dk_153 0 16 (dk_at dksX5_token_5 19 rfl rfl)
theorem dX5_token_137 : decode cX5_token 137 = .ok (.aload_n 0, 1) := dk_42 (dk_at dksX5_token_5 22 rfl rfl)
theorem dX5_token_138 : decode cX5_token 138 = .ok (.dup, 1) := dk_89 (dk_at dksX5_token_5 23 rfl rfl)
theorem dX5_token_139 : decode cX5_token 139 = .ok (.getfield 285, 3) := dk_180 1 29 (dk_at dksX5_token_6 0 rfl rfl)
theorem dX5_token_142 : decode cX5_token 142 = .ok (.iconst 1, 1) := dk_4 (dk_at dksX5_token_6 3 rfl rfl)
theorem dX5_token_143 : decode cX5_token 143 = .ok (.iadd, 1) := dk_96 (dk_at dksX5_token_6 4 rfl rfl)
theorem dX5_token_144 : decode cX5_token 144 = .ok (.putfield 285, 3) := dk_181 1 29 (dk_at dksX5_token_6 5 rfl rfl)
theorem dX5_token_147 : decode cX5_token 147 = .ok (.goto (-37), 3) := dk_167 255 219 (dk_at dksX5_token_6 8 rfl rfl)
theorem dX5_token_150 : decode cX5_token 150 = .ok (.aload_n 0, 1) := dk_42 (dk_at dksX5_token_6 11 rfl rfl)
theorem dX5_token_151 : decode cX5_token 151 = .ok (.aload_n 0, 1) := dk_42 (dk_at dksX5_token_6 12 rfl rfl)
theorem dX5_token_152 : decode cX5_token 152 = .ok (.getfield 285, 3) := dk_180 1 29 (dk_at dksX5_token_6 13 rfl rfl)
theorem dX5_token_155 : decode cX5_token 155 = .ok (.aload_n 0, 1) := dk_42 (dk_at dksX5_token_6 16 rfl rfl)
theorem dX5_token_156 : decode cX5_token 156 = .ok (.getfield 288, 3) := dk_180 1 32 (dk_at dksX5_token_6 17 rfl rfl)
theorem dX5_token_159 : decode cX5_token 159 = .ok (.isub, 1) := dk_100 (dk_at dksX5_token_6 20 rfl rfl)
theorem dX5_token_160 : decode cX5_token 160 = .ok (.putfield 291, 3) := dk_181 1 35 (dk_at dksX5_token_6 21 rfl rfl)
theorem dX5_token_163 : decode cX5_token 163 = .ok (.goto 129, 3) := dk_167 0 129 (dk_at dksX5_token_7 0 rfl rfl)
theorem dX5_token_166 : decode cX5_token 166 = .ok (.aload_n 0, 1) := dk_42 (dk_at dksX5_token_7 3 rfl rfl)
theorem dX5_token_167 : decode cX5_token 167 = .ok (.iload_n 1, 1) := dk_27 (dk_at dksX5_token_7 4 rfl rfl)
theorem dX5_token_168 : decode cX5_token 168 = .ok (.invokevirtual 303, 3) := dk_182 1 47 (dk_at dksX5_token_7 5 rfl rfl)
theorem dX5_token_171 : decode cX5_token 171 = .ok (.ifCond .eq 96, 3) := dk_153 0 96 (dk_at dksX5_token_7 8 rfl rfl)
theorem dX5_token_174 : decode cX5_token 174 = .ok (.aload_n 0, 1) := dk_42 (dk_at dksX5_token_7 11 rfl rfl)
theorem dX5_token_175 : decode cX5_token 175 = .ok (.iconst 2, 1) := dk_5 (dk_at dksX5_token_7 12 rfl rfl)
theorem dX5_token_176 : decode cX5_token 176 = .ok (.putfield 297, 3) := dk_181 1 41 (dk_at dksX5_token_7 13 rfl rfl)
theorem dX5_token_179 : decode cX5_token 179 = .ok (.aload_n 0, 1) := dk_42 (dk_at dksX5_token_7 16 rfl rfl)
theorem dX5_token_180 : decode cX5_token 180 = .ok (.getfield 285, 3) := dk_180 1 29 (dk_at dksX5_token_7 17 rfl rfl)
theorem dX5_token_183 : decode cX5_token 183 = .ok (.aload_n 0, 1) := dk_42 (dk_at dksX5_token_7 20 rfl rfl)
theorem dX5_token_184 : decode cX5_token 184 = .ok (.getfield 109, 3) := dk_180 0 109 (dk_at dksX5_token_7 21 rfl rfl)
theorem dX5_token_187 : decode cX5_token 187 = .ok (.if_icmp .ge 105, 3) := dk_162 0 105 (dk_at dksX5_token_8 0 rfl rfl)
theorem dX5_token_190 : decode cX5_token 190 = .ok (.aload_n 0, 1) := dk_42 (dk_at dksX5_token_8 3 rfl rfl)
theorem dX5_token_191 : decode cX5_token 191 = .ok (.aload_n 0, 1) := dk_42 (dk_at dksX5_token_8 4 rfl rfl)
theorem dX5_token_192 : decode cX5_token 192 = .ok (.getfield 7, 3) := dk_180 0 7 (dk_at dksX5_token_8 5 rfl rfl)
theorem dX5_token_195 : decode cX5_token 195 = .ok (.aload_n 0, 1) := dk_42 (dk_at dksX5_token_8 8 rfl rfl)
theorem dX5_token_196 : decode cX5_token 196 = .ok (.getfield 285, 3) := dk_180 1 29 (dk_at dksX5_token_8 9 rfl rfl)
theorem dX5_token_199 : decode cX5_token 199 = .ok (.baload, 1) := dk_51 (dk_at dksX5_token_8 12 rfl rfl)
theorem dX5_token_200 : decode cX5_token 200 = .ok (.invokevirtual 303, 3) := dk_182 1 47 (dk_at dksX5_token_8 13 rfl rfl)
theorem dX5_token_203 : decode cX5_token 203 = .ok (.ifCond .eq 89, 3) := dk_153 0 89 (dk_at dksX5_token_8 16 rfl rfl)
theorem dX5_token_206 : decode cX5_token 206 = .ok (.aload_n 0, 1) := dk_42 (dk_at dksX5_token_8 19 rfl rfl)
theorem dX5_token_207 : decode cX5_token 207 = .ok (.aload_n 0, 1) := dk_42 (dk_at dksX5_token_8 20 rfl rfl)
theorem dX5_token_208 : decode cX5_token 208 = .ok (.getfield 294, 3) := dk_180 1 38 (dk_at dksX5_token_8 21 rfl rfl)
theorem dX5_token_211 : decode cX5_token 211 = .ok (.bipush 10, 2) := dk_16 10 (dk_at dksX5_token_9 0 rfl rfl)
theorem dX5_token_213 : decode cX5_token 213 = .ok (.imul, 1) := dk_104 (dk_at dksX5_token_9 2 rfl rfl)
theorem dX5_token_214 : decode cX5_token 214 = .ok (.aload_n 0, 1) := dk_42 (dk_at dksX5_token_9 3 rfl rfl)
theorem dX5_token_215 : decode cX5_token 215 = .ok (.getfield 7, 3) := dk_180 0 7 (dk_at dksX5_token_9 4 rfl rfl)
theorem dX5_token_218 : decode cX5_token 218 = .ok (.aload_n 0, 1) := dk_42 (dk_at dksX5_token_9 7 rfl rfl)
theorem dX5_token_219 : decode cX5_token 219 = .ok (.getfield 285, 3) := dk_180 1 29 (dk_at dksX5_token_9 8 rfl rfl)
theorem dX5_token_222 : decode cX5_token 222 = .ok (.baload, 1) := dk_51 (dk_at dksX5_token_9 11 rfl rfl)
theorem dX5_token_223 : decode cX5_token 223 = .ok (.iadd, 1) := dk_96 (dk_at dksX5_token_9 12 rfl rfl)
theorem dX5_token_224 : decode cX5_token 224 = .ok (.bipush 48, 2) := dk_16 48 (dk_at dksX5_token_9 13 rfl rfl)
theorem dX5_token_226 : decode cX5_token 226 = .ok (.isub, 1) := dk_100 (dk_at dksX5_token_9 15 rfl rfl)
theorem dX5_token_227 : decode cX5_token 227 = .ok (.putfield 294, 3) := dk_181 1 38 (dk_at dksX5_token_9 16 rfl rfl)
theorem dX5_token_230 : decode cX5_token 230 = .ok (.aload_n 0, 1) := dk_42 (dk_at dksX5_token_9 19 rfl rfl)
theorem dX5_token_231 : decode cX5_token 231 = .ok (.aload_n 0, 1) := dk_42 (dk_at dksX5_token_9 20 rfl rfl)
theorem dX5_token_232 : decode cX5_token 232 = .ok (.getfield 294, 3) := dk_180 1 38 (dk_at dksX5_token_9 21 rfl rfl)
theorem dX5_token_235 : decode cX5_token 235 = .ok (.ldc_w 306, 3) := dk_19 1 50 (dk_at dksX5_token_10 0 rfl rfl)
theorem dX5_token_238 : decode cX5_token 238 = .ok (.if_icmp .le 9, 3) := dk_164 0 9 (dk_at dksX5_token_10 3 rfl rfl)
theorem dX5_token_241 : decode cX5_token 241 = .ok (.ldc_w 306, 3) := dk_19 1 50 (dk_at dksX5_token_10 6 rfl rfl)
theorem dX5_token_244 : decode cX5_token 244 = .ok (.goto 7, 3) := dk_167 0 7 (dk_at dksX5_token_10 9 rfl rfl)
theorem dX5_token_247 : decode cX5_token 247 = .ok (.aload_n 0, 1) := dk_42 (dk_at dksX5_token_10 12 rfl rfl)
theorem dX5_token_248 : decode cX5_token 248 = .ok (.getfield 294, 3) := dk_180 1 38 (dk_at dksX5_token_10 13 rfl rfl)
theorem dX5_token_251 : decode cX5_token 251 = .ok (.putfield 294, 3) := dk_181 1 38 (dk_at dksX5_token_10 16 rfl rfl)
theorem dX5_token_254 : decode cX5_token 254 = .ok (.aload_n 0, 1) := dk_42 (dk_at dksX5_token_10 19 rfl rfl)
theorem dX5_token_255 : decode cX5_token 255 = .ok (.dup, 1) := dk_89 (dk_at dksX5_token_10 20 rfl rfl)
theorem dX5_token_256 : decode cX5_token 256 = .ok (.getfield 285, 3) := dk_180 1 29 (dk_at dksX5_token_10 21 rfl rfl)
theorem dX5_token_259 : decode cX5_token 259 = .ok (.iconst 1, 1) := dk_4 (dk_at dksX5_token_11 0 rfl rfl)
theorem dX5_token_260 : decode cX5_token 260 = .ok (.iadd, 1) := dk_96 (dk_at dksX5_token_11 1 rfl rfl)
theorem dX5_token_261 : decode cX5_token 261 = .ok (.putfield 285, 3) := dk_181 1 29 (dk_at dksX5_token_11 2 rfl rfl)
theorem dX5_token_264 : decode cX5_token 264 = .ok (.goto (-85), 3) := dk_167 255 171 (dk_at dksX5_token_11 5 rfl rfl)
theorem dX5_token_267 : decode cX5_token 267 = .ok (.aload_n 0, 1) := dk_42 (dk_at dksX5_token_11 8 rfl rfl)
theorem dX5_token_268 : decode cX5_token 268 = .ok (.iload_n 1, 1) := dk_27 (dk_at dksX5_token_11 9 rfl rfl)
theorem dX5_token_269 : decode cX5_token 269 = .ok (.bipush 59, 2) := dk_16 59 (dk_at dksX5_token_11 10 rfl rfl)
theorem dX5_token_271 : decode cX5_token 271 = .ok (.if_icmp .ne 7, 3) := dk_160 0 7 (dk_at dksX5_token_11 12 rfl rfl)
theorem dX5_token_274 : decode cX5_token 274 = .ok (.iconst 3, 1) := dk_6 (dk_at dksX5_token_11 15 rfl rfl)
theorem dX5_token_275 : decode cX5_token 275 = .ok (.goto 4, 3) := dk_167 0 4 (dk_at dksX5_token_11 16 rfl rfl)
theorem dX5_token_278 : decode cX5_token 278 = .ok (.iconst 4, 1) := dk_7 (dk_at dksX5_token_11 19 rfl rfl)
theorem dX5_token_279 : decode cX5_token 279 = .ok (.putfield 297, 3) := dk_181 1 41 (dk_at dksX5_token_11 20 rfl rfl)
theorem dX5_token_282 : decode cX5_token 282 = .ok (.aload_n 0, 1) := dk_42 (dk_at dksX5_token_11 23 rfl rfl)
theorem dX5_token_283 : decode cX5_token 283 = .ok (.dup, 1) := dk_89 (dk_at dksX5_token_12 0 rfl rfl)
theorem dX5_token_284 : decode cX5_token 284 = .ok (.getfield 285, 3) := dk_180 1 29 (dk_at dksX5_token_12 1 rfl rfl)
theorem dX5_token_287 : decode cX5_token 287 = .ok (.iconst 1, 1) := dk_4 (dk_at dksX5_token_12 4 rfl rfl)
theorem dX5_token_288 : decode cX5_token 288 = .ok (.iadd, 1) := dk_96 (dk_at dksX5_token_12 5 rfl rfl)
theorem dX5_token_289 : decode cX5_token 289 = .ok (.putfield 285, 3) := dk_181 1 29 (dk_at dksX5_token_12 6 rfl rfl)
theorem dX5_token_292 : decode cX5_token 292 = .ok (.return_, 1) := dk_177 (dk_at dksX5_token_12 9 rfl rfl)
abbrev cX5_isLower : ByteArray := prog_12_method_55_code
def yX5_isLower : MethodName := ⟨RX5, "isLower", "(I)Z"⟩
def dkwX5_isLower_0 : List UInt8 := [27, 16, 97, 161, 0, 13, 27, 16, 122, 163, 0, 7, 4, 167, 0, 4, 3, 172]
abbrev dktX5_isLower_0 : List UInt8 := dkwX5_isLower_0 ++ []
theorem dksX5_isLower_0 : cX5_isLower.data.toList.drop 0 = dktX5_isLower_0 := by decide +kernel
theorem dX5_isLower_0 : decode cX5_isLower 0 = .ok (.iload_n 1, 1) := dk_27 (dk_at dksX5_isLower_0 0 rfl rfl)
theorem dX5_isLower_1 : decode cX5_isLower 1 = .ok (.bipush 97, 2) := dk_16 97 (dk_at dksX5_isLower_0 1 rfl rfl)
theorem dX5_isLower_3 : decode cX5_isLower 3 = .ok (.if_icmp .lt 13, 3) := dk_161 0 13 (dk_at dksX5_isLower_0 3 rfl rfl)
theorem dX5_isLower_6 : decode cX5_isLower 6 = .ok (.iload_n 1, 1) := dk_27 (dk_at dksX5_isLower_0 6 rfl rfl)
theorem dX5_isLower_7 : decode cX5_isLower 7 = .ok (.bipush 122, 2) := dk_16 122 (dk_at dksX5_isLower_0 7 rfl rfl)
theorem dX5_isLower_9 : decode cX5_isLower 9 = .ok (.if_icmp .gt 7, 3) := dk_163 0 7 (dk_at dksX5_isLower_0 9 rfl rfl)
theorem dX5_isLower_12 : decode cX5_isLower 12 = .ok (.iconst 1, 1) := dk_4 (dk_at dksX5_isLower_0 12 rfl rfl)
theorem dX5_isLower_13 : decode cX5_isLower 13 = .ok (.goto 4, 3) := dk_167 0 4 (dk_at dksX5_isLower_0 13 rfl rfl)
theorem dX5_isLower_16 : decode cX5_isLower 16 = .ok (.iconst 0, 1) := dk_3 (dk_at dksX5_isLower_0 16 rfl rfl)
theorem dX5_isLower_17 : decode cX5_isLower 17 = .ok (.ireturn, 1) := dk_172 (dk_at dksX5_isLower_0 17 rfl rfl)
abbrev cX5_isDigit : ByteArray := prog_12_method_56_code
def yX5_isDigit : MethodName := ⟨RX5, "isDigit", "(I)Z"⟩
def dkwX5_isDigit_0 : List UInt8 := [27, 16, 48, 161, 0, 13, 27, 16, 57, 163, 0, 7, 4, 167, 0, 4, 3, 172]
abbrev dktX5_isDigit_0 : List UInt8 := dkwX5_isDigit_0 ++ []
theorem dksX5_isDigit_0 : cX5_isDigit.data.toList.drop 0 = dktX5_isDigit_0 := by decide +kernel
theorem dX5_isDigit_0 : decode cX5_isDigit 0 = .ok (.iload_n 1, 1) := dk_27 (dk_at dksX5_isDigit_0 0 rfl rfl)
theorem dX5_isDigit_1 : decode cX5_isDigit 1 = .ok (.bipush 48, 2) := dk_16 48 (dk_at dksX5_isDigit_0 1 rfl rfl)
theorem dX5_isDigit_3 : decode cX5_isDigit 3 = .ok (.if_icmp .lt 13, 3) := dk_161 0 13 (dk_at dksX5_isDigit_0 3 rfl rfl)
theorem dX5_isDigit_6 : decode cX5_isDigit 6 = .ok (.iload_n 1, 1) := dk_27 (dk_at dksX5_isDigit_0 6 rfl rfl)
theorem dX5_isDigit_7 : decode cX5_isDigit 7 = .ok (.bipush 57, 2) := dk_16 57 (dk_at dksX5_isDigit_0 7 rfl rfl)
theorem dX5_isDigit_9 : decode cX5_isDigit 9 = .ok (.if_icmp .gt 7, 3) := dk_163 0 7 (dk_at dksX5_isDigit_0 9 rfl rfl)
theorem dX5_isDigit_12 : decode cX5_isDigit 12 = .ok (.iconst 1, 1) := dk_4 (dk_at dksX5_isDigit_0 12 rfl rfl)
theorem dX5_isDigit_13 : decode cX5_isDigit 13 = .ok (.goto 4, 3) := dk_167 0 4 (dk_at dksX5_isDigit_0 13 rfl rfl)
theorem dX5_isDigit_16 : decode cX5_isDigit 16 = .ok (.iconst 0, 1) := dk_3 (dk_at dksX5_isDigit_0 16 rfl rfl)
theorem dX5_isDigit_17 : decode cX5_isDigit 17 = .ok (.ireturn, 1) := dk_172 (dk_at dksX5_isDigit_0 17 rfl rfl)
abbrev cX5_spelled : ByteArray := prog_12_method_58_code
def yX5_spelled : MethodName := ⟨RX5, "spelled", "()J"⟩
def dkwX5_spelled_2 : List UInt8 := [97, 20, 1, 53, 101, 64, 132, 3, 1, 167, 255, 227, 31, 173]
abbrev dktX5_spelled_2 : List UInt8 := dkwX5_spelled_2 ++ []
def dkwX5_spelled_1 : List UInt8 := [180, 1, 32, 62, 29, 42, 180, 1, 29, 162, 0, 27, 31, 20, 1, 51, 105, 42, 180, 0, 7, 29, 51, 133]
abbrev dktX5_spelled_1 : List UInt8 := dkwX5_spelled_1 ++ dktX5_spelled_2
def dkwX5_spelled_0 : List UInt8 := [42, 180, 1, 41, 4, 160, 0, 12, 42, 180, 1, 35, 16, 12, 164, 0, 5, 9, 173, 9, 64, 42]
abbrev dktX5_spelled_0 : List UInt8 := dkwX5_spelled_0 ++ dktX5_spelled_1
theorem dksX5_spelled_0 : cX5_spelled.data.toList.drop 0 = dktX5_spelled_0 := by decide +kernel
theorem dksX5_spelled_1 : cX5_spelled.data.toList.drop 22 = dktX5_spelled_1 := dk_seg dksX5_spelled_0 22 rfl rfl
theorem dksX5_spelled_2 : cX5_spelled.data.toList.drop 46 = dktX5_spelled_2 := dk_seg dksX5_spelled_1 24 rfl rfl
theorem dX5_spelled_0 : decode cX5_spelled 0 = .ok (.aload_n 0, 1) := dk_42 (dk_at dksX5_spelled_0 0 rfl rfl)
theorem dX5_spelled_1 : decode cX5_spelled 1 = .ok (.getfield 297, 3) := dk_180 1 41 (dk_at dksX5_spelled_0 1 rfl rfl)
theorem dX5_spelled_4 : decode cX5_spelled 4 = .ok (.iconst 1, 1) := dk_4 (dk_at dksX5_spelled_0 4 rfl rfl)
theorem dX5_spelled_5 : decode cX5_spelled 5 = .ok (.if_icmp .ne 12, 3) := dk_160 0 12 (dk_at dksX5_spelled_0 5 rfl rfl)
theorem dX5_spelled_8 : decode cX5_spelled 8 = .ok (.aload_n 0, 1) := dk_42 (dk_at dksX5_spelled_0 8 rfl rfl)
theorem dX5_spelled_9 : decode cX5_spelled 9 = .ok (.getfield 291, 3) := dk_180 1 35 (dk_at dksX5_spelled_0 9 rfl rfl)
theorem dX5_spelled_12 : decode cX5_spelled 12 = .ok (.bipush 12, 2) := dk_16 12 (dk_at dksX5_spelled_0 12 rfl rfl)
theorem dX5_spelled_14 : decode cX5_spelled 14 = .ok (.if_icmp .le 5, 3) := dk_164 0 5 (dk_at dksX5_spelled_0 14 rfl rfl)
theorem dX5_spelled_17 : decode cX5_spelled 17 = .ok (.lconst 0, 1) := dk_9 (dk_at dksX5_spelled_0 17 rfl rfl)
theorem dX5_spelled_18 : decode cX5_spelled 18 = .ok (.lreturn, 1) := dk_173 (dk_at dksX5_spelled_0 18 rfl rfl)
theorem dX5_spelled_19 : decode cX5_spelled 19 = .ok (.lconst 0, 1) := dk_9 (dk_at dksX5_spelled_0 19 rfl rfl)
theorem dX5_spelled_20 : decode cX5_spelled 20 = .ok (.lstore_n 1, 1) := dk_64 (dk_at dksX5_spelled_0 20 rfl rfl)
theorem dX5_spelled_21 : decode cX5_spelled 21 = .ok (.aload_n 0, 1) := dk_42 (dk_at dksX5_spelled_0 21 rfl rfl)
theorem dX5_spelled_22 : decode cX5_spelled 22 = .ok (.getfield 288, 3) := dk_180 1 32 (dk_at dksX5_spelled_1 0 rfl rfl)
theorem dX5_spelled_25 : decode cX5_spelled 25 = .ok (.istore_n 3, 1) := dk_62 (dk_at dksX5_spelled_1 3 rfl rfl)
theorem dX5_spelled_26 : decode cX5_spelled 26 = .ok (.iload_n 3, 1) := dk_29 (dk_at dksX5_spelled_1 4 rfl rfl)
theorem dX5_spelled_27 : decode cX5_spelled 27 = .ok (.aload_n 0, 1) := dk_42 (dk_at dksX5_spelled_1 5 rfl rfl)
theorem dX5_spelled_28 : decode cX5_spelled 28 = .ok (.getfield 285, 3) := dk_180 1 29 (dk_at dksX5_spelled_1 6 rfl rfl)
theorem dX5_spelled_31 : decode cX5_spelled 31 = .ok (.if_icmp .ge 27, 3) := dk_162 0 27 (dk_at dksX5_spelled_1 9 rfl rfl)
theorem dX5_spelled_34 : decode cX5_spelled 34 = .ok (.lload_n 1, 1) := dk_31 (dk_at dksX5_spelled_1 12 rfl rfl)
theorem dX5_spelled_35 : decode cX5_spelled 35 = .ok (.ldc2_w 307, 3) := dk_20 1 51 (dk_at dksX5_spelled_1 13 rfl rfl)
theorem dX5_spelled_38 : decode cX5_spelled 38 = .ok (.lmul, 1) := dk_105 (dk_at dksX5_spelled_1 16 rfl rfl)
theorem dX5_spelled_39 : decode cX5_spelled 39 = .ok (.aload_n 0, 1) := dk_42 (dk_at dksX5_spelled_1 17 rfl rfl)
theorem dX5_spelled_40 : decode cX5_spelled 40 = .ok (.getfield 7, 3) := dk_180 0 7 (dk_at dksX5_spelled_1 18 rfl rfl)
theorem dX5_spelled_43 : decode cX5_spelled 43 = .ok (.iload_n 3, 1) := dk_29 (dk_at dksX5_spelled_1 21 rfl rfl)
theorem dX5_spelled_44 : decode cX5_spelled 44 = .ok (.baload, 1) := dk_51 (dk_at dksX5_spelled_1 22 rfl rfl)
theorem dX5_spelled_45 : decode cX5_spelled 45 = .ok (.i2l, 1) := dk_133 (dk_at dksX5_spelled_1 23 rfl rfl)
theorem dX5_spelled_46 : decode cX5_spelled 46 = .ok (.ladd, 1) := dk_97 (dk_at dksX5_spelled_2 0 rfl rfl)
theorem dX5_spelled_47 : decode cX5_spelled 47 = .ok (.ldc2_w 309, 3) := dk_20 1 53 (dk_at dksX5_spelled_2 1 rfl rfl)
theorem dX5_spelled_50 : decode cX5_spelled 50 = .ok (.lsub, 1) := dk_101 (dk_at dksX5_spelled_2 4 rfl rfl)
theorem dX5_spelled_51 : decode cX5_spelled 51 = .ok (.lstore_n 1, 1) := dk_64 (dk_at dksX5_spelled_2 5 rfl rfl)
theorem dX5_spelled_52 : decode cX5_spelled 52 = .ok (.iinc 3 1, 3) := dk_132 3 1 (dk_at dksX5_spelled_2 6 rfl rfl)
theorem dX5_spelled_55 : decode cX5_spelled 55 = .ok (.goto (-29), 3) := dk_167 255 227 (dk_at dksX5_spelled_2 9 rfl rfl)
theorem dX5_spelled_58 : decode cX5_spelled 58 = .ok (.lload_n 1, 1) := dk_31 (dk_at dksX5_spelled_2 12 rfl rfl)
theorem dX5_spelled_59 : decode cX5_spelled 59 = .ok (.lreturn, 1) := dk_173 (dk_at dksX5_spelled_2 13 rfl rfl)
abbrev cX5_blames : ByteArray := prog_12_method_54_code
def yX5_blames : MethodName := ⟨RX5, "blames", "(I)Z"⟩
def dkwX5_blames_0 : List UInt8 := [42, 27, 181, 1, 26, 42, 42, 180, 1, 32, 181, 0, 13, 3, 172]
abbrev dktX5_blames_0 : List UInt8 := dkwX5_blames_0 ++ []
theorem dksX5_blames_0 : cX5_blames.data.toList.drop 0 = dktX5_blames_0 := by decide +kernel
theorem dX5_blames_0 : decode cX5_blames 0 = .ok (.aload_n 0, 1) := dk_42 (dk_at dksX5_blames_0 0 rfl rfl)
theorem dX5_blames_1 : decode cX5_blames 1 = .ok (.iload_n 1, 1) := dk_27 (dk_at dksX5_blames_0 1 rfl rfl)
theorem dX5_blames_2 : decode cX5_blames 2 = .ok (.putfield 282, 3) := dk_181 1 26 (dk_at dksX5_blames_0 2 rfl rfl)
theorem dX5_blames_5 : decode cX5_blames 5 = .ok (.aload_n 0, 1) := dk_42 (dk_at dksX5_blames_0 5 rfl rfl)
theorem dX5_blames_6 : decode cX5_blames 6 = .ok (.aload_n 0, 1) := dk_42 (dk_at dksX5_blames_0 6 rfl rfl)
theorem dX5_blames_7 : decode cX5_blames 7 = .ok (.getfield 288, 3) := dk_180 1 32 (dk_at dksX5_blames_0 7 rfl rfl)
theorem dX5_blames_10 : decode cX5_blames 10 = .ok (.putfield 13, 3) := dk_181 0 13 (dk_at dksX5_blames_0 10 rfl rfl)
theorem dX5_blames_13 : decode cX5_blames 13 = .ok (.iconst 0, 1) := dk_3 (dk_at dksX5_blames_0 13 rfl rfl)
theorem dX5_blames_14 : decode cX5_blames 14 = .ok (.ireturn, 1) := dk_172 (dk_at dksX5_blames_0 14 rfl rfl)
abbrev cX5_readsNumber : ByteArray := prog_12_method_60_code
def yX5_readsNumber : MethodName := ⟨RX5, "readsNumber", "(II)Z"⟩
def dkwX5_readsNumber_0 : List UInt8 := [42, 182, 1, 20, 42, 27, 28, 182, 1, 58, 172]
abbrev dktX5_readsNumber_0 : List UInt8 := dkwX5_readsNumber_0 ++ []
theorem dksX5_readsNumber_0 : cX5_readsNumber.data.toList.drop 0 = dktX5_readsNumber_0 := by decide +kernel
theorem dX5_readsNumber_0 : decode cX5_readsNumber 0 = .ok (.aload_n 0, 1) := dk_42 (dk_at dksX5_readsNumber_0 0 rfl rfl)
theorem dX5_readsNumber_1 : decode cX5_readsNumber 1 = .ok (.invokevirtual 276, 3) := dk_182 1 20 (dk_at dksX5_readsNumber_0 1 rfl rfl)
theorem dX5_readsNumber_4 : decode cX5_readsNumber 4 = .ok (.aload_n 0, 1) := dk_42 (dk_at dksX5_readsNumber_0 4 rfl rfl)
theorem dX5_readsNumber_5 : decode cX5_readsNumber 5 = .ok (.iload_n 1, 1) := dk_27 (dk_at dksX5_readsNumber_0 5 rfl rfl)
theorem dX5_readsNumber_6 : decode cX5_readsNumber 6 = .ok (.iload_n 2, 1) := dk_28 (dk_at dksX5_readsNumber_0 6 rfl rfl)
theorem dX5_readsNumber_7 : decode cX5_readsNumber 7 = .ok (.invokevirtual 314, 3) := dk_182 1 58 (dk_at dksX5_readsNumber_0 7 rfl rfl)
theorem dX5_readsNumber_10 : decode cX5_readsNumber 10 = .ok (.ireturn, 1) := dk_172 (dk_at dksX5_readsNumber_0 10 rfl rfl)
abbrev cX5_isNumber : ByteArray := prog_12_method_59_code
def yX5_isNumber : MethodName := ⟨RX5, "isNumber", "(II)Z"⟩
def dkwX5_isNumber_1 : List UInt8 := [180, 1, 38, 28, 164, 0, 11, 42, 5, 182, 1, 55, 153, 0, 7, 4, 167, 0, 4, 3, 172]
abbrev dktX5_isNumber_1 : List UInt8 := dkwX5_isNumber_1 ++ []
def dkwX5_isNumber_0 : List UInt8 := [42, 180, 1, 41, 5, 159, 0, 9, 42, 4, 182, 1, 55, 172, 42, 180, 1, 38, 27, 161, 0, 11, 42]
abbrev dktX5_isNumber_0 : List UInt8 := dkwX5_isNumber_0 ++ dktX5_isNumber_1
theorem dksX5_isNumber_0 : cX5_isNumber.data.toList.drop 0 = dktX5_isNumber_0 := by decide +kernel
theorem dksX5_isNumber_1 : cX5_isNumber.data.toList.drop 23 = dktX5_isNumber_1 := dk_seg dksX5_isNumber_0 23 rfl rfl
theorem dX5_isNumber_0 : decode cX5_isNumber 0 = .ok (.aload_n 0, 1) := dk_42 (dk_at dksX5_isNumber_0 0 rfl rfl)
theorem dX5_isNumber_1 : decode cX5_isNumber 1 = .ok (.getfield 297, 3) := dk_180 1 41 (dk_at dksX5_isNumber_0 1 rfl rfl)
theorem dX5_isNumber_4 : decode cX5_isNumber 4 = .ok (.iconst 2, 1) := dk_5 (dk_at dksX5_isNumber_0 4 rfl rfl)
theorem dX5_isNumber_5 : decode cX5_isNumber 5 = .ok (.if_icmp .eq 9, 3) := dk_159 0 9 (dk_at dksX5_isNumber_0 5 rfl rfl)
theorem dX5_isNumber_8 : decode cX5_isNumber 8 = .ok (.aload_n 0, 1) := dk_42 (dk_at dksX5_isNumber_0 8 rfl rfl)
theorem dX5_isNumber_9 : decode cX5_isNumber 9 = .ok (.iconst 1, 1) := dk_4 (dk_at dksX5_isNumber_0 9 rfl rfl)
theorem dX5_isNumber_10 : decode cX5_isNumber 10 = .ok (.invokevirtual 311, 3) := dk_182 1 55 (dk_at dksX5_isNumber_0 10 rfl rfl)
theorem dX5_isNumber_13 : decode cX5_isNumber 13 = .ok (.ireturn, 1) := dk_172 (dk_at dksX5_isNumber_0 13 rfl rfl)
theorem dX5_isNumber_14 : decode cX5_isNumber 14 = .ok (.aload_n 0, 1) := dk_42 (dk_at dksX5_isNumber_0 14 rfl rfl)
theorem dX5_isNumber_15 : decode cX5_isNumber 15 = .ok (.getfield 294, 3) := dk_180 1 38 (dk_at dksX5_isNumber_0 15 rfl rfl)
theorem dX5_isNumber_18 : decode cX5_isNumber 18 = .ok (.iload_n 1, 1) := dk_27 (dk_at dksX5_isNumber_0 18 rfl rfl)
theorem dX5_isNumber_19 : decode cX5_isNumber 19 = .ok (.if_icmp .lt 11, 3) := dk_161 0 11 (dk_at dksX5_isNumber_0 19 rfl rfl)
theorem dX5_isNumber_22 : decode cX5_isNumber 22 = .ok (.aload_n 0, 1) := dk_42 (dk_at dksX5_isNumber_0 22 rfl rfl)
theorem dX5_isNumber_23 : decode cX5_isNumber 23 = .ok (.getfield 294, 3) := dk_180 1 38 (dk_at dksX5_isNumber_1 0 rfl rfl)
theorem dX5_isNumber_26 : decode cX5_isNumber 26 = .ok (.iload_n 2, 1) := dk_28 (dk_at dksX5_isNumber_1 3 rfl rfl)
theorem dX5_isNumber_27 : decode cX5_isNumber 27 = .ok (.if_icmp .le 11, 3) := dk_164 0 11 (dk_at dksX5_isNumber_1 4 rfl rfl)
theorem dX5_isNumber_30 : decode cX5_isNumber 30 = .ok (.aload_n 0, 1) := dk_42 (dk_at dksX5_isNumber_1 7 rfl rfl)
theorem dX5_isNumber_31 : decode cX5_isNumber 31 = .ok (.iconst 2, 1) := dk_5 (dk_at dksX5_isNumber_1 8 rfl rfl)
theorem dX5_isNumber_32 : decode cX5_isNumber 32 = .ok (.invokevirtual 311, 3) := dk_182 1 55 (dk_at dksX5_isNumber_1 9 rfl rfl)
theorem dX5_isNumber_35 : decode cX5_isNumber 35 = .ok (.ifCond .eq 7, 3) := dk_153 0 7 (dk_at dksX5_isNumber_1 12 rfl rfl)
theorem dX5_isNumber_38 : decode cX5_isNumber 38 = .ok (.iconst 1, 1) := dk_4 (dk_at dksX5_isNumber_1 15 rfl rfl)
theorem dX5_isNumber_39 : decode cX5_isNumber 39 = .ok (.goto 4, 3) := dk_167 0 4 (dk_at dksX5_isNumber_1 16 rfl rfl)
theorem dX5_isNumber_42 : decode cX5_isNumber 42 = .ok (.iconst 0, 1) := dk_3 (dk_at dksX5_isNumber_1 19 rfl rfl)
theorem dX5_isNumber_43 : decode cX5_isNumber 43 = .ok (.ireturn, 1) := dk_172 (dk_at dksX5_isNumber_1 20 rfl rfl)
abbrev cX5_readsSemicolon : ByteArray := prog_12_method_63_code
def yX5_readsSemicolon : MethodName := ⟨RX5, "readsSemicolon", "()Z"⟩
def dkwX5_readsSemicolon_0 : List UInt8 := [42, 182, 1, 20, 42, 182, 1, 64, 172]
abbrev dktX5_readsSemicolon_0 : List UInt8 := dkwX5_readsSemicolon_0 ++ []
theorem dksX5_readsSemicolon_0 : cX5_readsSemicolon.data.toList.drop 0 = dktX5_readsSemicolon_0 := by decide +kernel
theorem dX5_readsSemicolon_0 : decode cX5_readsSemicolon 0 = .ok (.aload_n 0, 1) := dk_42 (dk_at dksX5_readsSemicolon_0 0 rfl rfl)
theorem dX5_readsSemicolon_1 : decode cX5_readsSemicolon 1 = .ok (.invokevirtual 276, 3) := dk_182 1 20 (dk_at dksX5_readsSemicolon_0 1 rfl rfl)
theorem dX5_readsSemicolon_4 : decode cX5_readsSemicolon 4 = .ok (.aload_n 0, 1) := dk_42 (dk_at dksX5_readsSemicolon_0 4 rfl rfl)
theorem dX5_readsSemicolon_5 : decode cX5_readsSemicolon 5 = .ok (.invokevirtual 320, 3) := dk_182 1 64 (dk_at dksX5_readsSemicolon_0 5 rfl rfl)
theorem dX5_readsSemicolon_8 : decode cX5_readsSemicolon 8 = .ok (.ireturn, 1) := dk_172 (dk_at dksX5_readsSemicolon_0 8 rfl rfl)
abbrev cX5_isSemicolon : ByteArray := prog_12_method_62_code
def yX5_isSemicolon : MethodName := ⟨RX5, "isSemicolon", "()Z"⟩
def dkwX5_isSemicolon_0 : List UInt8 := [42, 180, 1, 41, 6, 159, 0, 11, 42, 4, 182, 1, 55, 153, 0, 7, 4, 167, 0, 4, 3, 172]
abbrev dktX5_isSemicolon_0 : List UInt8 := dkwX5_isSemicolon_0 ++ []
theorem dksX5_isSemicolon_0 : cX5_isSemicolon.data.toList.drop 0 = dktX5_isSemicolon_0 := by decide +kernel
theorem dX5_isSemicolon_0 : decode cX5_isSemicolon 0 = .ok (.aload_n 0, 1) := dk_42 (dk_at dksX5_isSemicolon_0 0 rfl rfl)
theorem dX5_isSemicolon_1 : decode cX5_isSemicolon 1 = .ok (.getfield 297, 3) := dk_180 1 41 (dk_at dksX5_isSemicolon_0 1 rfl rfl)
theorem dX5_isSemicolon_4 : decode cX5_isSemicolon 4 = .ok (.iconst 3, 1) := dk_6 (dk_at dksX5_isSemicolon_0 4 rfl rfl)
theorem dX5_isSemicolon_5 : decode cX5_isSemicolon 5 = .ok (.if_icmp .eq 11, 3) := dk_159 0 11 (dk_at dksX5_isSemicolon_0 5 rfl rfl)
theorem dX5_isSemicolon_8 : decode cX5_isSemicolon 8 = .ok (.aload_n 0, 1) := dk_42 (dk_at dksX5_isSemicolon_0 8 rfl rfl)
theorem dX5_isSemicolon_9 : decode cX5_isSemicolon 9 = .ok (.iconst 1, 1) := dk_4 (dk_at dksX5_isSemicolon_0 9 rfl rfl)
theorem dX5_isSemicolon_10 : decode cX5_isSemicolon 10 = .ok (.invokevirtual 311, 3) := dk_182 1 55 (dk_at dksX5_isSemicolon_0 10 rfl rfl)
theorem dX5_isSemicolon_13 : decode cX5_isSemicolon 13 = .ok (.ifCond .eq 7, 3) := dk_153 0 7 (dk_at dksX5_isSemicolon_0 13 rfl rfl)
theorem dX5_isSemicolon_16 : decode cX5_isSemicolon 16 = .ok (.iconst 1, 1) := dk_4 (dk_at dksX5_isSemicolon_0 16 rfl rfl)
theorem dX5_isSemicolon_17 : decode cX5_isSemicolon 17 = .ok (.goto 4, 3) := dk_167 0 4 (dk_at dksX5_isSemicolon_0 17 rfl rfl)
theorem dX5_isSemicolon_20 : decode cX5_isSemicolon 20 = .ok (.iconst 0, 1) := dk_3 (dk_at dksX5_isSemicolon_0 20 rfl rfl)
theorem dX5_isSemicolon_21 : decode cX5_isSemicolon 21 = .ok (.ireturn, 1) := dk_172 (dk_at dksX5_isSemicolon_0 21 rfl rfl)
abbrev cX5_clearAll : ByteArray := prog_12_method_64_code
def yX5_clearAll : MethodName := ⟨RX5, "clearAll", "(III)V"⟩
def dkwX5_clearAll_3 : List UInt8 := [16, 13, 162, 0, 17, 42, 180, 0, 81, 21, 4, 3, 79, 132, 4, 1, 167, 255, 238, 177]
abbrev dktX5_clearAll_3 : List UInt8 := dkwX5_clearAll_3 ++ []
def dkwX5_clearAll_2 : List UInt8 := [181, 0, 129, 42, 3, 181, 0, 132, 42, 3, 181, 0, 135, 42, 3, 181, 0, 103, 3, 54, 4, 21, 4]
abbrev dktX5_clearAll_2 : List UInt8 := dkwX5_clearAll_2 ++ dktX5_clearAll_3
def dkwX5_clearAll_1 : List UInt8 := [181, 0, 29, 42, 3, 181, 0, 123, 42, 3, 181, 0, 126, 42, 29, 4, 100, 181, 0, 32, 42, 3]
abbrev dktX5_clearAll_1 : List UInt8 := dkwX5_clearAll_1 ++ dktX5_clearAll_2
def dkwX5_clearAll_0 : List UInt8 := [42, 27, 181, 0, 20, 42, 28, 181, 0, 23, 42, 29, 181, 0, 26, 42, 3, 181, 0, 120, 42, 4]
abbrev dktX5_clearAll_0 : List UInt8 := dkwX5_clearAll_0 ++ dktX5_clearAll_1
theorem dksX5_clearAll_0 : cX5_clearAll.data.toList.drop 0 = dktX5_clearAll_0 := by decide +kernel
theorem dksX5_clearAll_1 : cX5_clearAll.data.toList.drop 22 = dktX5_clearAll_1 := dk_seg dksX5_clearAll_0 22 rfl rfl
theorem dksX5_clearAll_2 : cX5_clearAll.data.toList.drop 44 = dktX5_clearAll_2 := dk_seg dksX5_clearAll_1 22 rfl rfl
theorem dksX5_clearAll_3 : cX5_clearAll.data.toList.drop 67 = dktX5_clearAll_3 := dk_seg dksX5_clearAll_2 23 rfl rfl
theorem dX5_clearAll_0 : decode cX5_clearAll 0 = .ok (.aload_n 0, 1) := dk_42 (dk_at dksX5_clearAll_0 0 rfl rfl)
theorem dX5_clearAll_1 : decode cX5_clearAll 1 = .ok (.iload_n 1, 1) := dk_27 (dk_at dksX5_clearAll_0 1 rfl rfl)
theorem dX5_clearAll_2 : decode cX5_clearAll 2 = .ok (.putfield 20, 3) := dk_181 0 20 (dk_at dksX5_clearAll_0 2 rfl rfl)
theorem dX5_clearAll_5 : decode cX5_clearAll 5 = .ok (.aload_n 0, 1) := dk_42 (dk_at dksX5_clearAll_0 5 rfl rfl)
theorem dX5_clearAll_6 : decode cX5_clearAll 6 = .ok (.iload_n 2, 1) := dk_28 (dk_at dksX5_clearAll_0 6 rfl rfl)
theorem dX5_clearAll_7 : decode cX5_clearAll 7 = .ok (.putfield 23, 3) := dk_181 0 23 (dk_at dksX5_clearAll_0 7 rfl rfl)
theorem dX5_clearAll_10 : decode cX5_clearAll 10 = .ok (.aload_n 0, 1) := dk_42 (dk_at dksX5_clearAll_0 10 rfl rfl)
theorem dX5_clearAll_11 : decode cX5_clearAll 11 = .ok (.iload_n 3, 1) := dk_29 (dk_at dksX5_clearAll_0 11 rfl rfl)
theorem dX5_clearAll_12 : decode cX5_clearAll 12 = .ok (.putfield 26, 3) := dk_181 0 26 (dk_at dksX5_clearAll_0 12 rfl rfl)
theorem dX5_clearAll_15 : decode cX5_clearAll 15 = .ok (.aload_n 0, 1) := dk_42 (dk_at dksX5_clearAll_0 15 rfl rfl)
theorem dX5_clearAll_16 : decode cX5_clearAll 16 = .ok (.iconst 0, 1) := dk_3 (dk_at dksX5_clearAll_0 16 rfl rfl)
theorem dX5_clearAll_17 : decode cX5_clearAll 17 = .ok (.putfield 120, 3) := dk_181 0 120 (dk_at dksX5_clearAll_0 17 rfl rfl)
theorem dX5_clearAll_20 : decode cX5_clearAll 20 = .ok (.aload_n 0, 1) := dk_42 (dk_at dksX5_clearAll_0 20 rfl rfl)
theorem dX5_clearAll_21 : decode cX5_clearAll 21 = .ok (.iconst 1, 1) := dk_4 (dk_at dksX5_clearAll_0 21 rfl rfl)
theorem dX5_clearAll_22 : decode cX5_clearAll 22 = .ok (.putfield 29, 3) := dk_181 0 29 (dk_at dksX5_clearAll_1 0 rfl rfl)
theorem dX5_clearAll_25 : decode cX5_clearAll 25 = .ok (.aload_n 0, 1) := dk_42 (dk_at dksX5_clearAll_1 3 rfl rfl)
theorem dX5_clearAll_26 : decode cX5_clearAll 26 = .ok (.iconst 0, 1) := dk_3 (dk_at dksX5_clearAll_1 4 rfl rfl)
theorem dX5_clearAll_27 : decode cX5_clearAll 27 = .ok (.putfield 123, 3) := dk_181 0 123 (dk_at dksX5_clearAll_1 5 rfl rfl)
theorem dX5_clearAll_30 : decode cX5_clearAll 30 = .ok (.aload_n 0, 1) := dk_42 (dk_at dksX5_clearAll_1 8 rfl rfl)
theorem dX5_clearAll_31 : decode cX5_clearAll 31 = .ok (.iconst 0, 1) := dk_3 (dk_at dksX5_clearAll_1 9 rfl rfl)
theorem dX5_clearAll_32 : decode cX5_clearAll 32 = .ok (.putfield 126, 3) := dk_181 0 126 (dk_at dksX5_clearAll_1 10 rfl rfl)
theorem dX5_clearAll_35 : decode cX5_clearAll 35 = .ok (.aload_n 0, 1) := dk_42 (dk_at dksX5_clearAll_1 13 rfl rfl)
theorem dX5_clearAll_36 : decode cX5_clearAll 36 = .ok (.iload_n 3, 1) := dk_29 (dk_at dksX5_clearAll_1 14 rfl rfl)
theorem dX5_clearAll_37 : decode cX5_clearAll 37 = .ok (.iconst 1, 1) := dk_4 (dk_at dksX5_clearAll_1 15 rfl rfl)
theorem dX5_clearAll_38 : decode cX5_clearAll 38 = .ok (.isub, 1) := dk_100 (dk_at dksX5_clearAll_1 16 rfl rfl)
theorem dX5_clearAll_39 : decode cX5_clearAll 39 = .ok (.putfield 32, 3) := dk_181 0 32 (dk_at dksX5_clearAll_1 17 rfl rfl)
theorem dX5_clearAll_42 : decode cX5_clearAll 42 = .ok (.aload_n 0, 1) := dk_42 (dk_at dksX5_clearAll_1 20 rfl rfl)
theorem dX5_clearAll_43 : decode cX5_clearAll 43 = .ok (.iconst 0, 1) := dk_3 (dk_at dksX5_clearAll_1 21 rfl rfl)
theorem dX5_clearAll_44 : decode cX5_clearAll 44 = .ok (.putfield 129, 3) := dk_181 0 129 (dk_at dksX5_clearAll_2 0 rfl rfl)
theorem dX5_clearAll_47 : decode cX5_clearAll 47 = .ok (.aload_n 0, 1) := dk_42 (dk_at dksX5_clearAll_2 3 rfl rfl)
theorem dX5_clearAll_48 : decode cX5_clearAll 48 = .ok (.iconst 0, 1) := dk_3 (dk_at dksX5_clearAll_2 4 rfl rfl)
theorem dX5_clearAll_49 : decode cX5_clearAll 49 = .ok (.putfield 132, 3) := dk_181 0 132 (dk_at dksX5_clearAll_2 5 rfl rfl)
theorem dX5_clearAll_52 : decode cX5_clearAll 52 = .ok (.aload_n 0, 1) := dk_42 (dk_at dksX5_clearAll_2 8 rfl rfl)
theorem dX5_clearAll_53 : decode cX5_clearAll 53 = .ok (.iconst 0, 1) := dk_3 (dk_at dksX5_clearAll_2 9 rfl rfl)
theorem dX5_clearAll_54 : decode cX5_clearAll 54 = .ok (.putfield 135, 3) := dk_181 0 135 (dk_at dksX5_clearAll_2 10 rfl rfl)
theorem dX5_clearAll_57 : decode cX5_clearAll 57 = .ok (.aload_n 0, 1) := dk_42 (dk_at dksX5_clearAll_2 13 rfl rfl)
theorem dX5_clearAll_58 : decode cX5_clearAll 58 = .ok (.iconst 0, 1) := dk_3 (dk_at dksX5_clearAll_2 14 rfl rfl)
theorem dX5_clearAll_59 : decode cX5_clearAll 59 = .ok (.putfield 103, 3) := dk_181 0 103 (dk_at dksX5_clearAll_2 15 rfl rfl)
theorem dX5_clearAll_62 : decode cX5_clearAll 62 = .ok (.iconst 0, 1) := dk_3 (dk_at dksX5_clearAll_2 18 rfl rfl)
theorem dX5_clearAll_63 : decode cX5_clearAll 63 = .ok (.istore 4, 2) := dk_54 4 (dk_at dksX5_clearAll_2 19 rfl rfl)
theorem dX5_clearAll_65 : decode cX5_clearAll 65 = .ok (.iload 4, 2) := dk_21 4 (dk_at dksX5_clearAll_2 21 rfl rfl)
theorem dX5_clearAll_67 : decode cX5_clearAll 67 = .ok (.bipush 13, 2) := dk_16 13 (dk_at dksX5_clearAll_3 0 rfl rfl)
theorem dX5_clearAll_69 : decode cX5_clearAll 69 = .ok (.if_icmp .ge 17, 3) := dk_162 0 17 (dk_at dksX5_clearAll_3 2 rfl rfl)
theorem dX5_clearAll_72 : decode cX5_clearAll 72 = .ok (.aload_n 0, 1) := dk_42 (dk_at dksX5_clearAll_3 5 rfl rfl)
theorem dX5_clearAll_73 : decode cX5_clearAll 73 = .ok (.getfield 81, 3) := dk_180 0 81 (dk_at dksX5_clearAll_3 6 rfl rfl)
theorem dX5_clearAll_76 : decode cX5_clearAll 76 = .ok (.iload 4, 2) := dk_21 4 (dk_at dksX5_clearAll_3 9 rfl rfl)
theorem dX5_clearAll_78 : decode cX5_clearAll 78 = .ok (.iconst 0, 1) := dk_3 (dk_at dksX5_clearAll_3 11 rfl rfl)
theorem dX5_clearAll_79 : decode cX5_clearAll 79 = .ok (.iastore, 1) := dk_79 (dk_at dksX5_clearAll_3 12 rfl rfl)
theorem dX5_clearAll_80 : decode cX5_clearAll 80 = .ok (.iinc 4 1, 3) := dk_132 4 1 (dk_at dksX5_clearAll_3 13 rfl rfl)
theorem dX5_clearAll_83 : decode cX5_clearAll 83 = .ok (.goto (-18), 3) := dk_167 255 238 (dk_at dksX5_clearAll_3 16 rfl rfl)
theorem dX5_clearAll_86 : decode cX5_clearAll 86 = .ok (.return_, 1) := dk_177 (dk_at dksX5_clearAll_3 19 rfl rfl)
abbrev cX5_readsGroup : ByteArray := prog_12_method_67_code
def yX5_readsGroup : MethodName := ⟨RX5, "readsGroup", "()Z"⟩
def dkwX5_readsGroup_11 : List UInt8 := [79, 132, 4, 1, 167, 255, 225, 42, 89, 180, 0, 103, 4, 96, 181, 0, 103, 4, 172]
abbrev dktX5_readsGroup_11 : List UInt8 := dkwX5_readsGroup_11 ++ []
def dkwX5_readsGroup_10 : List UInt8 := [162, 0, 31, 42, 180, 0, 78, 42, 180, 0, 103, 16, 8, 104, 21, 4, 96, 42, 180, 0, 100, 21, 4, 46]
abbrev dktX5_readsGroup_10 : List UInt8 := dkwX5_readsGroup_10 ++ dktX5_readsGroup_11
def dkwX5_readsGroup_9 : List UInt8 := [132, 4, 1, 167, 255, 223, 42, 180, 0, 75, 42, 180, 0, 103, 29, 79, 3, 54, 4, 21, 4, 29]
abbrev dktX5_readsGroup_9 : List UInt8 := dkwX5_readsGroup_9 ++ dktX5_readsGroup_10
def dkwX5_readsGroup_8 : List UInt8 := [42, 180, 0, 72, 42, 180, 0, 103, 16, 6, 104, 21, 4, 96, 42, 180, 0, 7, 27, 21, 4, 96, 51, 79]
abbrev dktX5_readsGroup_8 : List UInt8 := dkwX5_readsGroup_8 ++ dktX5_readsGroup_9
def dkwX5_readsGroup_7 : List UInt8 := [154, 0, 5, 3, 172, 42, 180, 0, 69, 42, 180, 0, 103, 28, 79, 3, 54, 4, 21, 4, 28, 162, 0, 33]
abbrev dktX5_readsGroup_7 : List UInt8 := dkwX5_readsGroup_7 ++ dktX5_readsGroup_8
def dkwX5_readsGroup_6 : List UInt8 := [180, 0, 100, 29, 42, 180, 1, 38, 79, 132, 3, 1, 42, 182, 1, 20, 167, 255, 168, 42, 182, 1, 64]
abbrev dktX5_readsGroup_6 : List UInt8 := dkwX5_readsGroup_6 ++ dktX5_readsGroup_7
def dkwX5_readsGroup_5 : List UInt8 := [7, 182, 1, 55, 172, 132, 4, 1, 167, 255, 227, 29, 16, 8, 160, 0, 9, 42, 8, 182, 1, 55, 172, 42]
abbrev dktX5_readsGroup_5 : List UInt8 := dkwX5_readsGroup_5 ++ dktX5_readsGroup_6
def dkwX5_readsGroup_4 : List UInt8 := [3, 54, 4, 21, 4, 29, 162, 0, 29, 42, 180, 0, 100, 21, 4, 46, 42, 180, 1, 38, 160, 0, 9, 42]
abbrev dktX5_readsGroup_4 : List UInt8 := dkwX5_readsGroup_4 ++ dktX5_readsGroup_5
def dkwX5_readsGroup_3 : List UInt8 := [42, 180, 1, 41, 5, 160, 0, 86, 42, 3, 42, 182, 0, 161, 4, 100, 182, 1, 58, 154, 0, 5, 3, 172]
abbrev dktX5_readsGroup_3 : List UInt8 := dkwX5_readsGroup_3 ++ dktX5_readsGroup_4
def dkwX5_readsGroup_2 : List UInt8 := [180, 1, 35, 61, 3, 62, 42, 182, 1, 20, 42, 180, 1, 41, 5, 159, 0, 9, 42, 4, 182, 1, 55, 172]
abbrev dktX5_readsGroup_2 : List UInt8 := dkwX5_readsGroup_2 ++ dktX5_readsGroup_3
def dkwX5_readsGroup_1 : List UInt8 := [182, 1, 55, 172, 42, 182, 1, 85, 2, 159, 0, 9, 42, 7, 182, 1, 55, 172, 42, 180, 1, 32, 60, 42]
abbrev dktX5_readsGroup_1 : List UInt8 := dkwX5_readsGroup_1 ++ dktX5_readsGroup_2
def dkwX5_readsGroup_0 : List UInt8 := [42, 182, 1, 20, 42, 180, 1, 41, 4, 160, 0, 12, 42, 180, 1, 35, 16, 6, 164, 0, 9, 42, 4]
abbrev dktX5_readsGroup_0 : List UInt8 := dkwX5_readsGroup_0 ++ dktX5_readsGroup_1
theorem dksX5_readsGroup_0 : cX5_readsGroup.data.toList.drop 0 = dktX5_readsGroup_0 := by decide +kernel
theorem dksX5_readsGroup_1 : cX5_readsGroup.data.toList.drop 23 = dktX5_readsGroup_1 := dk_seg dksX5_readsGroup_0 23 rfl rfl
theorem dksX5_readsGroup_2 : cX5_readsGroup.data.toList.drop 47 = dktX5_readsGroup_2 := dk_seg dksX5_readsGroup_1 24 rfl rfl
theorem dksX5_readsGroup_3 : cX5_readsGroup.data.toList.drop 71 = dktX5_readsGroup_3 := dk_seg dksX5_readsGroup_2 24 rfl rfl
theorem dksX5_readsGroup_4 : cX5_readsGroup.data.toList.drop 95 = dktX5_readsGroup_4 := dk_seg dksX5_readsGroup_3 24 rfl rfl
theorem dksX5_readsGroup_5 : cX5_readsGroup.data.toList.drop 119 = dktX5_readsGroup_5 := dk_seg dksX5_readsGroup_4 24 rfl rfl
theorem dksX5_readsGroup_6 : cX5_readsGroup.data.toList.drop 143 = dktX5_readsGroup_6 := dk_seg dksX5_readsGroup_5 24 rfl rfl
theorem dksX5_readsGroup_7 : cX5_readsGroup.data.toList.drop 166 = dktX5_readsGroup_7 := dk_seg dksX5_readsGroup_6 23 rfl rfl
theorem dksX5_readsGroup_8 : cX5_readsGroup.data.toList.drop 190 = dktX5_readsGroup_8 := dk_seg dksX5_readsGroup_7 24 rfl rfl
theorem dksX5_readsGroup_9 : cX5_readsGroup.data.toList.drop 214 = dktX5_readsGroup_9 := dk_seg dksX5_readsGroup_8 24 rfl rfl
theorem dksX5_readsGroup_10 : cX5_readsGroup.data.toList.drop 236 = dktX5_readsGroup_10 := dk_seg dksX5_readsGroup_9 22 rfl rfl
theorem dksX5_readsGroup_11 : cX5_readsGroup.data.toList.drop 260 = dktX5_readsGroup_11 := dk_seg dksX5_readsGroup_10 24 rfl rfl
theorem dX5_readsGroup_0 : decode cX5_readsGroup 0 = .ok (.aload_n 0, 1) := dk_42 (dk_at dksX5_readsGroup_0 0 rfl rfl)
theorem dX5_readsGroup_1 : decode cX5_readsGroup 1 = .ok (.invokevirtual 276, 3) := dk_182 1 20 (dk_at dksX5_readsGroup_0 1 rfl rfl)
theorem dX5_readsGroup_4 : decode cX5_readsGroup 4 = .ok (.aload_n 0, 1) := dk_42 (dk_at dksX5_readsGroup_0 4 rfl rfl)
theorem dX5_readsGroup_5 : decode cX5_readsGroup 5 = .ok (.getfield 297, 3) := dk_180 1 41 (dk_at dksX5_readsGroup_0 5 rfl rfl)
theorem dX5_readsGroup_8 : decode cX5_readsGroup 8 = .ok (.iconst 1, 1) := dk_4 (dk_at dksX5_readsGroup_0 8 rfl rfl)
theorem dX5_readsGroup_9 : decode cX5_readsGroup 9 = .ok (.if_icmp .ne 12, 3) := dk_160 0 12 (dk_at dksX5_readsGroup_0 9 rfl rfl)
theorem dX5_readsGroup_12 : decode cX5_readsGroup 12 = .ok (.aload_n 0, 1) := dk_42 (dk_at dksX5_readsGroup_0 12 rfl rfl)
theorem dX5_readsGroup_13 : decode cX5_readsGroup 13 = .ok (.getfield 291, 3) := dk_180 1 35 (dk_at dksX5_readsGroup_0 13 rfl rfl)
theorem dX5_readsGroup_16 : decode cX5_readsGroup 16 = .ok (.bipush 6, 2) := dk_16 6 (dk_at dksX5_readsGroup_0 16 rfl rfl)
theorem dX5_readsGroup_18 : decode cX5_readsGroup 18 = .ok (.if_icmp .le 9, 3) := dk_164 0 9 (dk_at dksX5_readsGroup_0 18 rfl rfl)
theorem dX5_readsGroup_21 : decode cX5_readsGroup 21 = .ok (.aload_n 0, 1) := dk_42 (dk_at dksX5_readsGroup_0 21 rfl rfl)
theorem dX5_readsGroup_22 : decode cX5_readsGroup 22 = .ok (.iconst 1, 1) := dk_4 (dk_at dksX5_readsGroup_0 22 rfl rfl)
theorem dX5_readsGroup_23 : decode cX5_readsGroup 23 = .ok (.invokevirtual 311, 3) := dk_182 1 55 (dk_at dksX5_readsGroup_1 0 rfl rfl)
theorem dX5_readsGroup_26 : decode cX5_readsGroup 26 = .ok (.ireturn, 1) := dk_172 (dk_at dksX5_readsGroup_1 3 rfl rfl)
theorem dX5_readsGroup_27 : decode cX5_readsGroup 27 = .ok (.aload_n 0, 1) := dk_42 (dk_at dksX5_readsGroup_1 4 rfl rfl)
theorem dX5_readsGroup_28 : decode cX5_readsGroup 28 = .ok (.invokevirtual 341, 3) := dk_182 1 85 (dk_at dksX5_readsGroup_1 5 rfl rfl)
theorem dX5_readsGroup_31 : decode cX5_readsGroup 31 = .ok (.iconst (-1), 1) := dk_2 (dk_at dksX5_readsGroup_1 8 rfl rfl)
theorem dX5_readsGroup_32 : decode cX5_readsGroup 32 = .ok (.if_icmp .eq 9, 3) := dk_159 0 9 (dk_at dksX5_readsGroup_1 9 rfl rfl)
theorem dX5_readsGroup_35 : decode cX5_readsGroup 35 = .ok (.aload_n 0, 1) := dk_42 (dk_at dksX5_readsGroup_1 12 rfl rfl)
theorem dX5_readsGroup_36 : decode cX5_readsGroup 36 = .ok (.iconst 4, 1) := dk_7 (dk_at dksX5_readsGroup_1 13 rfl rfl)
theorem dX5_readsGroup_37 : decode cX5_readsGroup 37 = .ok (.invokevirtual 311, 3) := dk_182 1 55 (dk_at dksX5_readsGroup_1 14 rfl rfl)
theorem dX5_readsGroup_40 : decode cX5_readsGroup 40 = .ok (.ireturn, 1) := dk_172 (dk_at dksX5_readsGroup_1 17 rfl rfl)
theorem dX5_readsGroup_41 : decode cX5_readsGroup 41 = .ok (.aload_n 0, 1) := dk_42 (dk_at dksX5_readsGroup_1 18 rfl rfl)
theorem dX5_readsGroup_42 : decode cX5_readsGroup 42 = .ok (.getfield 288, 3) := dk_180 1 32 (dk_at dksX5_readsGroup_1 19 rfl rfl)
theorem dX5_readsGroup_45 : decode cX5_readsGroup 45 = .ok (.istore_n 1, 1) := dk_60 (dk_at dksX5_readsGroup_1 22 rfl rfl)
theorem dX5_readsGroup_46 : decode cX5_readsGroup 46 = .ok (.aload_n 0, 1) := dk_42 (dk_at dksX5_readsGroup_1 23 rfl rfl)
theorem dX5_readsGroup_47 : decode cX5_readsGroup 47 = .ok (.getfield 291, 3) := dk_180 1 35 (dk_at dksX5_readsGroup_2 0 rfl rfl)
theorem dX5_readsGroup_50 : decode cX5_readsGroup 50 = .ok (.istore_n 2, 1) := dk_61 (dk_at dksX5_readsGroup_2 3 rfl rfl)
theorem dX5_readsGroup_51 : decode cX5_readsGroup 51 = .ok (.iconst 0, 1) := dk_3 (dk_at dksX5_readsGroup_2 4 rfl rfl)
theorem dX5_readsGroup_52 : decode cX5_readsGroup 52 = .ok (.istore_n 3, 1) := dk_62 (dk_at dksX5_readsGroup_2 5 rfl rfl)
theorem dX5_readsGroup_53 : decode cX5_readsGroup 53 = .ok (.aload_n 0, 1) := dk_42 (dk_at dksX5_readsGroup_2 6 rfl rfl)
theorem dX5_readsGroup_54 : decode cX5_readsGroup 54 = .ok (.invokevirtual 276, 3) := dk_182 1 20 (dk_at dksX5_readsGroup_2 7 rfl rfl)
theorem dX5_readsGroup_57 : decode cX5_readsGroup 57 = .ok (.aload_n 0, 1) := dk_42 (dk_at dksX5_readsGroup_2 10 rfl rfl)
theorem dX5_readsGroup_58 : decode cX5_readsGroup 58 = .ok (.getfield 297, 3) := dk_180 1 41 (dk_at dksX5_readsGroup_2 11 rfl rfl)
theorem dX5_readsGroup_61 : decode cX5_readsGroup 61 = .ok (.iconst 2, 1) := dk_5 (dk_at dksX5_readsGroup_2 14 rfl rfl)
theorem dX5_readsGroup_62 : decode cX5_readsGroup 62 = .ok (.if_icmp .eq 9, 3) := dk_159 0 9 (dk_at dksX5_readsGroup_2 15 rfl rfl)
theorem dX5_readsGroup_65 : decode cX5_readsGroup 65 = .ok (.aload_n 0, 1) := dk_42 (dk_at dksX5_readsGroup_2 18 rfl rfl)
theorem dX5_readsGroup_66 : decode cX5_readsGroup 66 = .ok (.iconst 1, 1) := dk_4 (dk_at dksX5_readsGroup_2 19 rfl rfl)
theorem dX5_readsGroup_67 : decode cX5_readsGroup 67 = .ok (.invokevirtual 311, 3) := dk_182 1 55 (dk_at dksX5_readsGroup_2 20 rfl rfl)
theorem dX5_readsGroup_70 : decode cX5_readsGroup 70 = .ok (.ireturn, 1) := dk_172 (dk_at dksX5_readsGroup_2 23 rfl rfl)
theorem dX5_readsGroup_71 : decode cX5_readsGroup 71 = .ok (.aload_n 0, 1) := dk_42 (dk_at dksX5_readsGroup_3 0 rfl rfl)
theorem dX5_readsGroup_72 : decode cX5_readsGroup 72 = .ok (.getfield 297, 3) := dk_180 1 41 (dk_at dksX5_readsGroup_3 1 rfl rfl)
theorem dX5_readsGroup_75 : decode cX5_readsGroup 75 = .ok (.iconst 2, 1) := dk_5 (dk_at dksX5_readsGroup_3 4 rfl rfl)
theorem dX5_readsGroup_76 : decode cX5_readsGroup 76 = .ok (.if_icmp .ne 86, 3) := dk_160 0 86 (dk_at dksX5_readsGroup_3 5 rfl rfl)
theorem dX5_readsGroup_79 : decode cX5_readsGroup 79 = .ok (.aload_n 0, 1) := dk_42 (dk_at dksX5_readsGroup_3 8 rfl rfl)
theorem dX5_readsGroup_80 : decode cX5_readsGroup 80 = .ok (.iconst 0, 1) := dk_3 (dk_at dksX5_readsGroup_3 9 rfl rfl)
theorem dX5_readsGroup_81 : decode cX5_readsGroup 81 = .ok (.aload_n 0, 1) := dk_42 (dk_at dksX5_readsGroup_3 10 rfl rfl)
theorem dX5_readsGroup_82 : decode cX5_readsGroup 82 = .ok (.invokevirtual 161, 3) := dk_182 0 161 (dk_at dksX5_readsGroup_3 11 rfl rfl)
theorem dX5_readsGroup_85 : decode cX5_readsGroup 85 = .ok (.iconst 1, 1) := dk_4 (dk_at dksX5_readsGroup_3 14 rfl rfl)
theorem dX5_readsGroup_86 : decode cX5_readsGroup 86 = .ok (.isub, 1) := dk_100 (dk_at dksX5_readsGroup_3 15 rfl rfl)
theorem dX5_readsGroup_87 : decode cX5_readsGroup 87 = .ok (.invokevirtual 314, 3) := dk_182 1 58 (dk_at dksX5_readsGroup_3 16 rfl rfl)
theorem dX5_readsGroup_90 : decode cX5_readsGroup 90 = .ok (.ifCond .ne 5, 3) := dk_154 0 5 (dk_at dksX5_readsGroup_3 19 rfl rfl)
theorem dX5_readsGroup_93 : decode cX5_readsGroup 93 = .ok (.iconst 0, 1) := dk_3 (dk_at dksX5_readsGroup_3 22 rfl rfl)
theorem dX5_readsGroup_94 : decode cX5_readsGroup 94 = .ok (.ireturn, 1) := dk_172 (dk_at dksX5_readsGroup_3 23 rfl rfl)
theorem dX5_readsGroup_95 : decode cX5_readsGroup 95 = .ok (.iconst 0, 1) := dk_3 (dk_at dksX5_readsGroup_4 0 rfl rfl)
theorem dX5_readsGroup_96 : decode cX5_readsGroup 96 = .ok (.istore 4, 2) := dk_54 4 (dk_at dksX5_readsGroup_4 1 rfl rfl)
theorem dX5_readsGroup_98 : decode cX5_readsGroup 98 = .ok (.iload 4, 2) := dk_21 4 (dk_at dksX5_readsGroup_4 3 rfl rfl)
theorem dX5_readsGroup_100 : decode cX5_readsGroup 100 = .ok (.iload_n 3, 1) := dk_29 (dk_at dksX5_readsGroup_4 5 rfl rfl)
theorem dX5_readsGroup_101 : decode cX5_readsGroup 101 = .ok (.if_icmp .ge 29, 3) := dk_162 0 29 (dk_at dksX5_readsGroup_4 6 rfl rfl)
theorem dX5_readsGroup_104 : decode cX5_readsGroup 104 = .ok (.aload_n 0, 1) := dk_42 (dk_at dksX5_readsGroup_4 9 rfl rfl)
theorem dX5_readsGroup_105 : decode cX5_readsGroup 105 = .ok (.getfield 100, 3) := dk_180 0 100 (dk_at dksX5_readsGroup_4 10 rfl rfl)
theorem dX5_readsGroup_108 : decode cX5_readsGroup 108 = .ok (.iload 4, 2) := dk_21 4 (dk_at dksX5_readsGroup_4 13 rfl rfl)
theorem dX5_readsGroup_110 : decode cX5_readsGroup 110 = .ok (.iaload, 1) := dk_46 (dk_at dksX5_readsGroup_4 15 rfl rfl)
theorem dX5_readsGroup_111 : decode cX5_readsGroup 111 = .ok (.aload_n 0, 1) := dk_42 (dk_at dksX5_readsGroup_4 16 rfl rfl)
theorem dX5_readsGroup_112 : decode cX5_readsGroup 112 = .ok (.getfield 294, 3) := dk_180 1 38 (dk_at dksX5_readsGroup_4 17 rfl rfl)
theorem dX5_readsGroup_115 : decode cX5_readsGroup 115 = .ok (.if_icmp .ne 9, 3) := dk_160 0 9 (dk_at dksX5_readsGroup_4 20 rfl rfl)
theorem dX5_readsGroup_118 : decode cX5_readsGroup 118 = .ok (.aload_n 0, 1) := dk_42 (dk_at dksX5_readsGroup_4 23 rfl rfl)
theorem dX5_readsGroup_119 : decode cX5_readsGroup 119 = .ok (.iconst 4, 1) := dk_7 (dk_at dksX5_readsGroup_5 0 rfl rfl)
theorem dX5_readsGroup_120 : decode cX5_readsGroup 120 = .ok (.invokevirtual 311, 3) := dk_182 1 55 (dk_at dksX5_readsGroup_5 1 rfl rfl)
theorem dX5_readsGroup_123 : decode cX5_readsGroup 123 = .ok (.ireturn, 1) := dk_172 (dk_at dksX5_readsGroup_5 4 rfl rfl)
theorem dX5_readsGroup_124 : decode cX5_readsGroup 124 = .ok (.iinc 4 1, 3) := dk_132 4 1 (dk_at dksX5_readsGroup_5 5 rfl rfl)
theorem dX5_readsGroup_127 : decode cX5_readsGroup 127 = .ok (.goto (-29), 3) := dk_167 255 227 (dk_at dksX5_readsGroup_5 8 rfl rfl)
theorem dX5_readsGroup_130 : decode cX5_readsGroup 130 = .ok (.iload_n 3, 1) := dk_29 (dk_at dksX5_readsGroup_5 11 rfl rfl)
theorem dX5_readsGroup_131 : decode cX5_readsGroup 131 = .ok (.bipush 8, 2) := dk_16 8 (dk_at dksX5_readsGroup_5 12 rfl rfl)
theorem dX5_readsGroup_133 : decode cX5_readsGroup 133 = .ok (.if_icmp .ne 9, 3) := dk_160 0 9 (dk_at dksX5_readsGroup_5 14 rfl rfl)
theorem dX5_readsGroup_136 : decode cX5_readsGroup 136 = .ok (.aload_n 0, 1) := dk_42 (dk_at dksX5_readsGroup_5 17 rfl rfl)
theorem dX5_readsGroup_137 : decode cX5_readsGroup 137 = .ok (.iconst 5, 1) := dk_8 (dk_at dksX5_readsGroup_5 18 rfl rfl)
theorem dX5_readsGroup_138 : decode cX5_readsGroup 138 = .ok (.invokevirtual 311, 3) := dk_182 1 55 (dk_at dksX5_readsGroup_5 19 rfl rfl)
theorem dX5_readsGroup_141 : decode cX5_readsGroup 141 = .ok (.ireturn, 1) := dk_172 (dk_at dksX5_readsGroup_5 22 rfl rfl)
theorem dX5_readsGroup_142 : decode cX5_readsGroup 142 = .ok (.aload_n 0, 1) := dk_42 (dk_at dksX5_readsGroup_5 23 rfl rfl)
theorem dX5_readsGroup_143 : decode cX5_readsGroup 143 = .ok (.getfield 100, 3) := dk_180 0 100 (dk_at dksX5_readsGroup_6 0 rfl rfl)
theorem dX5_readsGroup_146 : decode cX5_readsGroup 146 = .ok (.iload_n 3, 1) := dk_29 (dk_at dksX5_readsGroup_6 3 rfl rfl)
theorem dX5_readsGroup_147 : decode cX5_readsGroup 147 = .ok (.aload_n 0, 1) := dk_42 (dk_at dksX5_readsGroup_6 4 rfl rfl)
theorem dX5_readsGroup_148 : decode cX5_readsGroup 148 = .ok (.getfield 294, 3) := dk_180 1 38 (dk_at dksX5_readsGroup_6 5 rfl rfl)
theorem dX5_readsGroup_151 : decode cX5_readsGroup 151 = .ok (.iastore, 1) := dk_79 (dk_at dksX5_readsGroup_6 8 rfl rfl)
theorem dX5_readsGroup_152 : decode cX5_readsGroup 152 = .ok (.iinc 3 1, 3) := dk_132 3 1 (dk_at dksX5_readsGroup_6 9 rfl rfl)
theorem dX5_readsGroup_155 : decode cX5_readsGroup 155 = .ok (.aload_n 0, 1) := dk_42 (dk_at dksX5_readsGroup_6 12 rfl rfl)
theorem dX5_readsGroup_156 : decode cX5_readsGroup 156 = .ok (.invokevirtual 276, 3) := dk_182 1 20 (dk_at dksX5_readsGroup_6 13 rfl rfl)
theorem dX5_readsGroup_159 : decode cX5_readsGroup 159 = .ok (.goto (-88), 3) := dk_167 255 168 (dk_at dksX5_readsGroup_6 16 rfl rfl)
theorem dX5_readsGroup_162 : decode cX5_readsGroup 162 = .ok (.aload_n 0, 1) := dk_42 (dk_at dksX5_readsGroup_6 19 rfl rfl)
theorem dX5_readsGroup_163 : decode cX5_readsGroup 163 = .ok (.invokevirtual 320, 3) := dk_182 1 64 (dk_at dksX5_readsGroup_6 20 rfl rfl)
theorem dX5_readsGroup_166 : decode cX5_readsGroup 166 = .ok (.ifCond .ne 5, 3) := dk_154 0 5 (dk_at dksX5_readsGroup_7 0 rfl rfl)
theorem dX5_readsGroup_169 : decode cX5_readsGroup 169 = .ok (.iconst 0, 1) := dk_3 (dk_at dksX5_readsGroup_7 3 rfl rfl)
theorem dX5_readsGroup_170 : decode cX5_readsGroup 170 = .ok (.ireturn, 1) := dk_172 (dk_at dksX5_readsGroup_7 4 rfl rfl)
theorem dX5_readsGroup_171 : decode cX5_readsGroup 171 = .ok (.aload_n 0, 1) := dk_42 (dk_at dksX5_readsGroup_7 5 rfl rfl)
theorem dX5_readsGroup_172 : decode cX5_readsGroup 172 = .ok (.getfield 69, 3) := dk_180 0 69 (dk_at dksX5_readsGroup_7 6 rfl rfl)
theorem dX5_readsGroup_175 : decode cX5_readsGroup 175 = .ok (.aload_n 0, 1) := dk_42 (dk_at dksX5_readsGroup_7 9 rfl rfl)
theorem dX5_readsGroup_176 : decode cX5_readsGroup 176 = .ok (.getfield 103, 3) := dk_180 0 103 (dk_at dksX5_readsGroup_7 10 rfl rfl)
theorem dX5_readsGroup_179 : decode cX5_readsGroup 179 = .ok (.iload_n 2, 1) := dk_28 (dk_at dksX5_readsGroup_7 13 rfl rfl)
theorem dX5_readsGroup_180 : decode cX5_readsGroup 180 = .ok (.iastore, 1) := dk_79 (dk_at dksX5_readsGroup_7 14 rfl rfl)
theorem dX5_readsGroup_181 : decode cX5_readsGroup 181 = .ok (.iconst 0, 1) := dk_3 (dk_at dksX5_readsGroup_7 15 rfl rfl)
theorem dX5_readsGroup_182 : decode cX5_readsGroup 182 = .ok (.istore 4, 2) := dk_54 4 (dk_at dksX5_readsGroup_7 16 rfl rfl)
theorem dX5_readsGroup_184 : decode cX5_readsGroup 184 = .ok (.iload 4, 2) := dk_21 4 (dk_at dksX5_readsGroup_7 18 rfl rfl)
theorem dX5_readsGroup_186 : decode cX5_readsGroup 186 = .ok (.iload_n 2, 1) := dk_28 (dk_at dksX5_readsGroup_7 20 rfl rfl)
theorem dX5_readsGroup_187 : decode cX5_readsGroup 187 = .ok (.if_icmp .ge 33, 3) := dk_162 0 33 (dk_at dksX5_readsGroup_7 21 rfl rfl)
theorem dX5_readsGroup_190 : decode cX5_readsGroup 190 = .ok (.aload_n 0, 1) := dk_42 (dk_at dksX5_readsGroup_8 0 rfl rfl)
theorem dX5_readsGroup_191 : decode cX5_readsGroup 191 = .ok (.getfield 72, 3) := dk_180 0 72 (dk_at dksX5_readsGroup_8 1 rfl rfl)
theorem dX5_readsGroup_194 : decode cX5_readsGroup 194 = .ok (.aload_n 0, 1) := dk_42 (dk_at dksX5_readsGroup_8 4 rfl rfl)
theorem dX5_readsGroup_195 : decode cX5_readsGroup 195 = .ok (.getfield 103, 3) := dk_180 0 103 (dk_at dksX5_readsGroup_8 5 rfl rfl)
theorem dX5_readsGroup_198 : decode cX5_readsGroup 198 = .ok (.bipush 6, 2) := dk_16 6 (dk_at dksX5_readsGroup_8 8 rfl rfl)
theorem dX5_readsGroup_200 : decode cX5_readsGroup 200 = .ok (.imul, 1) := dk_104 (dk_at dksX5_readsGroup_8 10 rfl rfl)
theorem dX5_readsGroup_201 : decode cX5_readsGroup 201 = .ok (.iload 4, 2) := dk_21 4 (dk_at dksX5_readsGroup_8 11 rfl rfl)
theorem dX5_readsGroup_203 : decode cX5_readsGroup 203 = .ok (.iadd, 1) := dk_96 (dk_at dksX5_readsGroup_8 13 rfl rfl)
theorem dX5_readsGroup_204 : decode cX5_readsGroup 204 = .ok (.aload_n 0, 1) := dk_42 (dk_at dksX5_readsGroup_8 14 rfl rfl)
theorem dX5_readsGroup_205 : decode cX5_readsGroup 205 = .ok (.getfield 7, 3) := dk_180 0 7 (dk_at dksX5_readsGroup_8 15 rfl rfl)
theorem dX5_readsGroup_208 : decode cX5_readsGroup 208 = .ok (.iload_n 1, 1) := dk_27 (dk_at dksX5_readsGroup_8 18 rfl rfl)
theorem dX5_readsGroup_209 : decode cX5_readsGroup 209 = .ok (.iload 4, 2) := dk_21 4 (dk_at dksX5_readsGroup_8 19 rfl rfl)
theorem dX5_readsGroup_211 : decode cX5_readsGroup 211 = .ok (.iadd, 1) := dk_96 (dk_at dksX5_readsGroup_8 21 rfl rfl)
theorem dX5_readsGroup_212 : decode cX5_readsGroup 212 = .ok (.baload, 1) := dk_51 (dk_at dksX5_readsGroup_8 22 rfl rfl)
theorem dX5_readsGroup_213 : decode cX5_readsGroup 213 = .ok (.iastore, 1) := dk_79 (dk_at dksX5_readsGroup_8 23 rfl rfl)
theorem dX5_readsGroup_214 : decode cX5_readsGroup 214 = .ok (.iinc 4 1, 3) := dk_132 4 1 (dk_at dksX5_readsGroup_9 0 rfl rfl)
theorem dX5_readsGroup_217 : decode cX5_readsGroup 217 = .ok (.goto (-33), 3) := dk_167 255 223 (dk_at dksX5_readsGroup_9 3 rfl rfl)
theorem dX5_readsGroup_220 : decode cX5_readsGroup 220 = .ok (.aload_n 0, 1) := dk_42 (dk_at dksX5_readsGroup_9 6 rfl rfl)
theorem dX5_readsGroup_221 : decode cX5_readsGroup 221 = .ok (.getfield 75, 3) := dk_180 0 75 (dk_at dksX5_readsGroup_9 7 rfl rfl)
theorem dX5_readsGroup_224 : decode cX5_readsGroup 224 = .ok (.aload_n 0, 1) := dk_42 (dk_at dksX5_readsGroup_9 10 rfl rfl)
theorem dX5_readsGroup_225 : decode cX5_readsGroup 225 = .ok (.getfield 103, 3) := dk_180 0 103 (dk_at dksX5_readsGroup_9 11 rfl rfl)
theorem dX5_readsGroup_228 : decode cX5_readsGroup 228 = .ok (.iload_n 3, 1) := dk_29 (dk_at dksX5_readsGroup_9 14 rfl rfl)
theorem dX5_readsGroup_229 : decode cX5_readsGroup 229 = .ok (.iastore, 1) := dk_79 (dk_at dksX5_readsGroup_9 15 rfl rfl)
theorem dX5_readsGroup_230 : decode cX5_readsGroup 230 = .ok (.iconst 0, 1) := dk_3 (dk_at dksX5_readsGroup_9 16 rfl rfl)
theorem dX5_readsGroup_231 : decode cX5_readsGroup 231 = .ok (.istore 4, 2) := dk_54 4 (dk_at dksX5_readsGroup_9 17 rfl rfl)
theorem dX5_readsGroup_233 : decode cX5_readsGroup 233 = .ok (.iload 4, 2) := dk_21 4 (dk_at dksX5_readsGroup_9 19 rfl rfl)
theorem dX5_readsGroup_235 : decode cX5_readsGroup 235 = .ok (.iload_n 3, 1) := dk_29 (dk_at dksX5_readsGroup_9 21 rfl rfl)
theorem dX5_readsGroup_236 : decode cX5_readsGroup 236 = .ok (.if_icmp .ge 31, 3) := dk_162 0 31 (dk_at dksX5_readsGroup_10 0 rfl rfl)
theorem dX5_readsGroup_239 : decode cX5_readsGroup 239 = .ok (.aload_n 0, 1) := dk_42 (dk_at dksX5_readsGroup_10 3 rfl rfl)
theorem dX5_readsGroup_240 : decode cX5_readsGroup 240 = .ok (.getfield 78, 3) := dk_180 0 78 (dk_at dksX5_readsGroup_10 4 rfl rfl)
theorem dX5_readsGroup_243 : decode cX5_readsGroup 243 = .ok (.aload_n 0, 1) := dk_42 (dk_at dksX5_readsGroup_10 7 rfl rfl)
theorem dX5_readsGroup_244 : decode cX5_readsGroup 244 = .ok (.getfield 103, 3) := dk_180 0 103 (dk_at dksX5_readsGroup_10 8 rfl rfl)
theorem dX5_readsGroup_247 : decode cX5_readsGroup 247 = .ok (.bipush 8, 2) := dk_16 8 (dk_at dksX5_readsGroup_10 11 rfl rfl)
theorem dX5_readsGroup_249 : decode cX5_readsGroup 249 = .ok (.imul, 1) := dk_104 (dk_at dksX5_readsGroup_10 13 rfl rfl)
theorem dX5_readsGroup_250 : decode cX5_readsGroup 250 = .ok (.iload 4, 2) := dk_21 4 (dk_at dksX5_readsGroup_10 14 rfl rfl)
theorem dX5_readsGroup_252 : decode cX5_readsGroup 252 = .ok (.iadd, 1) := dk_96 (dk_at dksX5_readsGroup_10 16 rfl rfl)
theorem dX5_readsGroup_253 : decode cX5_readsGroup 253 = .ok (.aload_n 0, 1) := dk_42 (dk_at dksX5_readsGroup_10 17 rfl rfl)
theorem dX5_readsGroup_254 : decode cX5_readsGroup 254 = .ok (.getfield 100, 3) := dk_180 0 100 (dk_at dksX5_readsGroup_10 18 rfl rfl)
theorem dX5_readsGroup_257 : decode cX5_readsGroup 257 = .ok (.iload 4, 2) := dk_21 4 (dk_at dksX5_readsGroup_10 21 rfl rfl)
theorem dX5_readsGroup_259 : decode cX5_readsGroup 259 = .ok (.iaload, 1) := dk_46 (dk_at dksX5_readsGroup_10 23 rfl rfl)
theorem dX5_readsGroup_260 : decode cX5_readsGroup 260 = .ok (.iastore, 1) := dk_79 (dk_at dksX5_readsGroup_11 0 rfl rfl)
theorem dX5_readsGroup_261 : decode cX5_readsGroup 261 = .ok (.iinc 4 1, 3) := dk_132 4 1 (dk_at dksX5_readsGroup_11 1 rfl rfl)
theorem dX5_readsGroup_264 : decode cX5_readsGroup 264 = .ok (.goto (-31), 3) := dk_167 255 225 (dk_at dksX5_readsGroup_11 4 rfl rfl)
theorem dX5_readsGroup_267 : decode cX5_readsGroup 267 = .ok (.aload_n 0, 1) := dk_42 (dk_at dksX5_readsGroup_11 7 rfl rfl)
theorem dX5_readsGroup_268 : decode cX5_readsGroup 268 = .ok (.dup, 1) := dk_89 (dk_at dksX5_readsGroup_11 8 rfl rfl)
theorem dX5_readsGroup_269 : decode cX5_readsGroup 269 = .ok (.getfield 103, 3) := dk_180 0 103 (dk_at dksX5_readsGroup_11 9 rfl rfl)
theorem dX5_readsGroup_272 : decode cX5_readsGroup 272 = .ok (.iconst 1, 1) := dk_4 (dk_at dksX5_readsGroup_11 12 rfl rfl)
theorem dX5_readsGroup_273 : decode cX5_readsGroup 273 = .ok (.iadd, 1) := dk_96 (dk_at dksX5_readsGroup_11 13 rfl rfl)
theorem dX5_readsGroup_274 : decode cX5_readsGroup 274 = .ok (.putfield 103, 3) := dk_181 0 103 (dk_at dksX5_readsGroup_11 14 rfl rfl)
theorem dX5_readsGroup_277 : decode cX5_readsGroup 277 = .ok (.iconst 1, 1) := dk_4 (dk_at dksX5_readsGroup_11 17 rfl rfl)
theorem dX5_readsGroup_278 : decode cX5_readsGroup 278 = .ok (.ireturn, 1) := dk_172 (dk_at dksX5_readsGroup_11 18 rfl rfl)
abbrev cX5_groupOfToken : ByteArray := prog_12_method_66_code
def yX5_groupOfToken : MethodName := ⟨RX5, "groupOfToken", "()I"⟩
def dkwX5_groupOfToken_3 : List UInt8 := [3, 61, 132, 3, 1, 167, 255, 210, 28, 153, 0, 5, 27, 172, 132, 1, 1, 167, 255, 169, 2, 172]
abbrev dktX5_groupOfToken_3 : List UInt8 := dkwX5_groupOfToken_3 ++ []
def dkwX5_groupOfToken_2 : List UInt8 := [16, 6, 104, 29, 96, 46, 42, 180, 0, 7, 42, 180, 1, 32, 29, 96, 51, 160, 0, 7, 4, 167, 0, 4]
abbrev dktX5_groupOfToken_2 : List UInt8 := dkwX5_groupOfToken_2 ++ dktX5_groupOfToken_3
def dkwX5_groupOfToken_1 : List UInt8 := [167, 0, 4, 3, 61, 3, 62, 28, 153, 0, 48, 29, 42, 180, 1, 35, 162, 0, 40, 42, 180, 0, 72, 27]
abbrev dktX5_groupOfToken_1 : List UInt8 := dkwX5_groupOfToken_1 ++ dktX5_groupOfToken_2
def dkwX5_groupOfToken_0 : List UInt8 := [3, 60, 27, 42, 180, 0, 103, 162, 0, 85, 42, 180, 0, 69, 27, 46, 42, 180, 1, 35, 160, 0, 7, 4]
abbrev dktX5_groupOfToken_0 : List UInt8 := dkwX5_groupOfToken_0 ++ dktX5_groupOfToken_1
theorem dksX5_groupOfToken_0 : cX5_groupOfToken.data.toList.drop 0 = dktX5_groupOfToken_0 := by decide +kernel
theorem dksX5_groupOfToken_1 : cX5_groupOfToken.data.toList.drop 24 = dktX5_groupOfToken_1 := dk_seg dksX5_groupOfToken_0 24 rfl rfl
theorem dksX5_groupOfToken_2 : cX5_groupOfToken.data.toList.drop 48 = dktX5_groupOfToken_2 := dk_seg dksX5_groupOfToken_1 24 rfl rfl
theorem dksX5_groupOfToken_3 : cX5_groupOfToken.data.toList.drop 72 = dktX5_groupOfToken_3 := dk_seg dksX5_groupOfToken_2 24 rfl rfl
theorem dX5_groupOfToken_0 : decode cX5_groupOfToken 0 = .ok (.iconst 0, 1) := dk_3 (dk_at dksX5_groupOfToken_0 0 rfl rfl)
theorem dX5_groupOfToken_1 : decode cX5_groupOfToken 1 = .ok (.istore_n 1, 1) := dk_60 (dk_at dksX5_groupOfToken_0 1 rfl rfl)
theorem dX5_groupOfToken_2 : decode cX5_groupOfToken 2 = .ok (.iload_n 1, 1) := dk_27 (dk_at dksX5_groupOfToken_0 2 rfl rfl)
theorem dX5_groupOfToken_3 : decode cX5_groupOfToken 3 = .ok (.aload_n 0, 1) := dk_42 (dk_at dksX5_groupOfToken_0 3 rfl rfl)
theorem dX5_groupOfToken_4 : decode cX5_groupOfToken 4 = .ok (.getfield 103, 3) := dk_180 0 103 (dk_at dksX5_groupOfToken_0 4 rfl rfl)
theorem dX5_groupOfToken_7 : decode cX5_groupOfToken 7 = .ok (.if_icmp .ge 85, 3) := dk_162 0 85 (dk_at dksX5_groupOfToken_0 7 rfl rfl)
theorem dX5_groupOfToken_10 : decode cX5_groupOfToken 10 = .ok (.aload_n 0, 1) := dk_42 (dk_at dksX5_groupOfToken_0 10 rfl rfl)
theorem dX5_groupOfToken_11 : decode cX5_groupOfToken 11 = .ok (.getfield 69, 3) := dk_180 0 69 (dk_at dksX5_groupOfToken_0 11 rfl rfl)
theorem dX5_groupOfToken_14 : decode cX5_groupOfToken 14 = .ok (.iload_n 1, 1) := dk_27 (dk_at dksX5_groupOfToken_0 14 rfl rfl)
theorem dX5_groupOfToken_15 : decode cX5_groupOfToken 15 = .ok (.iaload, 1) := dk_46 (dk_at dksX5_groupOfToken_0 15 rfl rfl)
theorem dX5_groupOfToken_16 : decode cX5_groupOfToken 16 = .ok (.aload_n 0, 1) := dk_42 (dk_at dksX5_groupOfToken_0 16 rfl rfl)
theorem dX5_groupOfToken_17 : decode cX5_groupOfToken 17 = .ok (.getfield 291, 3) := dk_180 1 35 (dk_at dksX5_groupOfToken_0 17 rfl rfl)
theorem dX5_groupOfToken_20 : decode cX5_groupOfToken 20 = .ok (.if_icmp .ne 7, 3) := dk_160 0 7 (dk_at dksX5_groupOfToken_0 20 rfl rfl)
theorem dX5_groupOfToken_23 : decode cX5_groupOfToken 23 = .ok (.iconst 1, 1) := dk_4 (dk_at dksX5_groupOfToken_0 23 rfl rfl)
theorem dX5_groupOfToken_24 : decode cX5_groupOfToken 24 = .ok (.goto 4, 3) := dk_167 0 4 (dk_at dksX5_groupOfToken_1 0 rfl rfl)
theorem dX5_groupOfToken_27 : decode cX5_groupOfToken 27 = .ok (.iconst 0, 1) := dk_3 (dk_at dksX5_groupOfToken_1 3 rfl rfl)
theorem dX5_groupOfToken_28 : decode cX5_groupOfToken 28 = .ok (.istore_n 2, 1) := dk_61 (dk_at dksX5_groupOfToken_1 4 rfl rfl)
theorem dX5_groupOfToken_29 : decode cX5_groupOfToken 29 = .ok (.iconst 0, 1) := dk_3 (dk_at dksX5_groupOfToken_1 5 rfl rfl)
theorem dX5_groupOfToken_30 : decode cX5_groupOfToken 30 = .ok (.istore_n 3, 1) := dk_62 (dk_at dksX5_groupOfToken_1 6 rfl rfl)
theorem dX5_groupOfToken_31 : decode cX5_groupOfToken 31 = .ok (.iload_n 2, 1) := dk_28 (dk_at dksX5_groupOfToken_1 7 rfl rfl)
theorem dX5_groupOfToken_32 : decode cX5_groupOfToken 32 = .ok (.ifCond .eq 48, 3) := dk_153 0 48 (dk_at dksX5_groupOfToken_1 8 rfl rfl)
theorem dX5_groupOfToken_35 : decode cX5_groupOfToken 35 = .ok (.iload_n 3, 1) := dk_29 (dk_at dksX5_groupOfToken_1 11 rfl rfl)
theorem dX5_groupOfToken_36 : decode cX5_groupOfToken 36 = .ok (.aload_n 0, 1) := dk_42 (dk_at dksX5_groupOfToken_1 12 rfl rfl)
theorem dX5_groupOfToken_37 : decode cX5_groupOfToken 37 = .ok (.getfield 291, 3) := dk_180 1 35 (dk_at dksX5_groupOfToken_1 13 rfl rfl)
theorem dX5_groupOfToken_40 : decode cX5_groupOfToken 40 = .ok (.if_icmp .ge 40, 3) := dk_162 0 40 (dk_at dksX5_groupOfToken_1 16 rfl rfl)
theorem dX5_groupOfToken_43 : decode cX5_groupOfToken 43 = .ok (.aload_n 0, 1) := dk_42 (dk_at dksX5_groupOfToken_1 19 rfl rfl)
theorem dX5_groupOfToken_44 : decode cX5_groupOfToken 44 = .ok (.getfield 72, 3) := dk_180 0 72 (dk_at dksX5_groupOfToken_1 20 rfl rfl)
theorem dX5_groupOfToken_47 : decode cX5_groupOfToken 47 = .ok (.iload_n 1, 1) := dk_27 (dk_at dksX5_groupOfToken_1 23 rfl rfl)
theorem dX5_groupOfToken_48 : decode cX5_groupOfToken 48 = .ok (.bipush 6, 2) := dk_16 6 (dk_at dksX5_groupOfToken_2 0 rfl rfl)
theorem dX5_groupOfToken_50 : decode cX5_groupOfToken 50 = .ok (.imul, 1) := dk_104 (dk_at dksX5_groupOfToken_2 2 rfl rfl)
theorem dX5_groupOfToken_51 : decode cX5_groupOfToken 51 = .ok (.iload_n 3, 1) := dk_29 (dk_at dksX5_groupOfToken_2 3 rfl rfl)
theorem dX5_groupOfToken_52 : decode cX5_groupOfToken 52 = .ok (.iadd, 1) := dk_96 (dk_at dksX5_groupOfToken_2 4 rfl rfl)
theorem dX5_groupOfToken_53 : decode cX5_groupOfToken 53 = .ok (.iaload, 1) := dk_46 (dk_at dksX5_groupOfToken_2 5 rfl rfl)
theorem dX5_groupOfToken_54 : decode cX5_groupOfToken 54 = .ok (.aload_n 0, 1) := dk_42 (dk_at dksX5_groupOfToken_2 6 rfl rfl)
theorem dX5_groupOfToken_55 : decode cX5_groupOfToken 55 = .ok (.getfield 7, 3) := dk_180 0 7 (dk_at dksX5_groupOfToken_2 7 rfl rfl)
theorem dX5_groupOfToken_58 : decode cX5_groupOfToken 58 = .ok (.aload_n 0, 1) := dk_42 (dk_at dksX5_groupOfToken_2 10 rfl rfl)
theorem dX5_groupOfToken_59 : decode cX5_groupOfToken 59 = .ok (.getfield 288, 3) := dk_180 1 32 (dk_at dksX5_groupOfToken_2 11 rfl rfl)
theorem dX5_groupOfToken_62 : decode cX5_groupOfToken 62 = .ok (.iload_n 3, 1) := dk_29 (dk_at dksX5_groupOfToken_2 14 rfl rfl)
theorem dX5_groupOfToken_63 : decode cX5_groupOfToken 63 = .ok (.iadd, 1) := dk_96 (dk_at dksX5_groupOfToken_2 15 rfl rfl)
theorem dX5_groupOfToken_64 : decode cX5_groupOfToken 64 = .ok (.baload, 1) := dk_51 (dk_at dksX5_groupOfToken_2 16 rfl rfl)
theorem dX5_groupOfToken_65 : decode cX5_groupOfToken 65 = .ok (.if_icmp .ne 7, 3) := dk_160 0 7 (dk_at dksX5_groupOfToken_2 17 rfl rfl)
theorem dX5_groupOfToken_68 : decode cX5_groupOfToken 68 = .ok (.iconst 1, 1) := dk_4 (dk_at dksX5_groupOfToken_2 20 rfl rfl)
theorem dX5_groupOfToken_69 : decode cX5_groupOfToken 69 = .ok (.goto 4, 3) := dk_167 0 4 (dk_at dksX5_groupOfToken_2 21 rfl rfl)
theorem dX5_groupOfToken_72 : decode cX5_groupOfToken 72 = .ok (.iconst 0, 1) := dk_3 (dk_at dksX5_groupOfToken_3 0 rfl rfl)
theorem dX5_groupOfToken_73 : decode cX5_groupOfToken 73 = .ok (.istore_n 2, 1) := dk_61 (dk_at dksX5_groupOfToken_3 1 rfl rfl)
theorem dX5_groupOfToken_74 : decode cX5_groupOfToken 74 = .ok (.iinc 3 1, 3) := dk_132 3 1 (dk_at dksX5_groupOfToken_3 2 rfl rfl)
theorem dX5_groupOfToken_77 : decode cX5_groupOfToken 77 = .ok (.goto (-46), 3) := dk_167 255 210 (dk_at dksX5_groupOfToken_3 5 rfl rfl)
theorem dX5_groupOfToken_80 : decode cX5_groupOfToken 80 = .ok (.iload_n 2, 1) := dk_28 (dk_at dksX5_groupOfToken_3 8 rfl rfl)
theorem dX5_groupOfToken_81 : decode cX5_groupOfToken 81 = .ok (.ifCond .eq 5, 3) := dk_153 0 5 (dk_at dksX5_groupOfToken_3 9 rfl rfl)
theorem dX5_groupOfToken_84 : decode cX5_groupOfToken 84 = .ok (.iload_n 1, 1) := dk_27 (dk_at dksX5_groupOfToken_3 12 rfl rfl)
theorem dX5_groupOfToken_85 : decode cX5_groupOfToken 85 = .ok (.ireturn, 1) := dk_172 (dk_at dksX5_groupOfToken_3 13 rfl rfl)
theorem dX5_groupOfToken_86 : decode cX5_groupOfToken 86 = .ok (.iinc 1 1, 3) := dk_132 1 1 (dk_at dksX5_groupOfToken_3 14 rfl rfl)
theorem dX5_groupOfToken_89 : decode cX5_groupOfToken 89 = .ok (.goto (-87), 3) := dk_167 255 169 (dk_at dksX5_groupOfToken_3 17 rfl rfl)
theorem dX5_groupOfToken_92 : decode cX5_groupOfToken 92 = .ok (.iconst (-1), 1) := dk_2 (dk_at dksX5_groupOfToken_3 20 rfl rfl)
theorem dX5_groupOfToken_93 : decode cX5_groupOfToken 93 = .ok (.ireturn, 1) := dk_172 (dk_at dksX5_groupOfToken_3 21 rfl rfl)
abbrev cX5_subscribers : ByteArray := prog_12_method_14_code
def yX5_subscribers : MethodName := ⟨RX5, "subscribers", "()I"⟩
def dkwX5_subscribers_0 : List UInt8 := [42, 180, 0, 20, 42, 180, 0, 23, 104, 172]
abbrev dktX5_subscribers_0 : List UInt8 := dkwX5_subscribers_0 ++ []
theorem dksX5_subscribers_0 : cX5_subscribers.data.toList.drop 0 = dktX5_subscribers_0 := by decide +kernel
theorem dX5_subscribers_0 : decode cX5_subscribers 0 = .ok (.aload_n 0, 1) := dk_42 (dk_at dksX5_subscribers_0 0 rfl rfl)
theorem dX5_subscribers_1 : decode cX5_subscribers 1 = .ok (.getfield 20, 3) := dk_180 0 20 (dk_at dksX5_subscribers_0 1 rfl rfl)
theorem dX5_subscribers_4 : decode cX5_subscribers 4 = .ok (.aload_n 0, 1) := dk_42 (dk_at dksX5_subscribers_0 4 rfl rfl)
theorem dX5_subscribers_5 : decode cX5_subscribers 5 = .ok (.getfield 23, 3) := dk_180 0 23 (dk_at dksX5_subscribers_0 5 rfl rfl)
theorem dX5_subscribers_8 : decode cX5_subscribers 8 = .ok (.imul, 1) := dk_104 (dk_at dksX5_subscribers_0 8 rfl rfl)
theorem dX5_subscribers_9 : decode cX5_subscribers 9 = .ok (.ireturn, 1) := dk_172 (dk_at dksX5_subscribers_0 9 rfl rfl)
abbrev cX5_readsCommands : ByteArray := prog_12_method_68_code
def yX5_readsCommands : MethodName := ⟨RX5, "readsCommands", "()I"⟩
def dkwX5_readsCommands_1 : List UInt8 := [182, 1, 20, 167, 255, 233, 27, 172]
abbrev dktX5_readsCommands_1 : List UInt8 := dkwX5_readsCommands_1 ++ []
def dkwX5_readsCommands_0 : List UInt8 := [3, 60, 42, 180, 1, 41, 153, 0, 22, 42, 182, 1, 88, 154, 0, 5, 2, 172, 132, 1, 1, 42]
abbrev dktX5_readsCommands_0 : List UInt8 := dkwX5_readsCommands_0 ++ dktX5_readsCommands_1
theorem dksX5_readsCommands_0 : cX5_readsCommands.data.toList.drop 0 = dktX5_readsCommands_0 := by decide +kernel
theorem dksX5_readsCommands_1 : cX5_readsCommands.data.toList.drop 22 = dktX5_readsCommands_1 := dk_seg dksX5_readsCommands_0 22 rfl rfl
theorem dX5_readsCommands_0 : decode cX5_readsCommands 0 = .ok (.iconst 0, 1) := dk_3 (dk_at dksX5_readsCommands_0 0 rfl rfl)
theorem dX5_readsCommands_1 : decode cX5_readsCommands 1 = .ok (.istore_n 1, 1) := dk_60 (dk_at dksX5_readsCommands_0 1 rfl rfl)
theorem dX5_readsCommands_2 : decode cX5_readsCommands 2 = .ok (.aload_n 0, 1) := dk_42 (dk_at dksX5_readsCommands_0 2 rfl rfl)
theorem dX5_readsCommands_3 : decode cX5_readsCommands 3 = .ok (.getfield 297, 3) := dk_180 1 41 (dk_at dksX5_readsCommands_0 3 rfl rfl)
theorem dX5_readsCommands_6 : decode cX5_readsCommands 6 = .ok (.ifCond .eq 22, 3) := dk_153 0 22 (dk_at dksX5_readsCommands_0 6 rfl rfl)
theorem dX5_readsCommands_9 : decode cX5_readsCommands 9 = .ok (.aload_n 0, 1) := dk_42 (dk_at dksX5_readsCommands_0 9 rfl rfl)
theorem dX5_readsCommands_10 : decode cX5_readsCommands 10 = .ok (.invokevirtual 344, 3) := dk_182 1 88 (dk_at dksX5_readsCommands_0 10 rfl rfl)
theorem dX5_readsCommands_13 : decode cX5_readsCommands 13 = .ok (.ifCond .ne 5, 3) := dk_154 0 5 (dk_at dksX5_readsCommands_0 13 rfl rfl)
theorem dX5_readsCommands_16 : decode cX5_readsCommands 16 = .ok (.iconst (-1), 1) := dk_2 (dk_at dksX5_readsCommands_0 16 rfl rfl)
theorem dX5_readsCommands_17 : decode cX5_readsCommands 17 = .ok (.ireturn, 1) := dk_172 (dk_at dksX5_readsCommands_0 17 rfl rfl)
theorem dX5_readsCommands_18 : decode cX5_readsCommands 18 = .ok (.iinc 1 1, 3) := dk_132 1 1 (dk_at dksX5_readsCommands_0 18 rfl rfl)
theorem dX5_readsCommands_21 : decode cX5_readsCommands 21 = .ok (.aload_n 0, 1) := dk_42 (dk_at dksX5_readsCommands_0 21 rfl rfl)
theorem dX5_readsCommands_22 : decode cX5_readsCommands 22 = .ok (.invokevirtual 276, 3) := dk_182 1 20 (dk_at dksX5_readsCommands_1 0 rfl rfl)
theorem dX5_readsCommands_25 : decode cX5_readsCommands 25 = .ok (.goto (-23), 3) := dk_167 255 233 (dk_at dksX5_readsCommands_1 3 rfl rfl)
theorem dX5_readsCommands_28 : decode cX5_readsCommands 28 = .ok (.iload_n 1, 1) := dk_27 (dk_at dksX5_readsCommands_1 6 rfl rfl)
theorem dX5_readsCommands_29 : decode cX5_readsCommands 29 = .ok (.ireturn, 1) := dk_172 (dk_at dksX5_readsCommands_1 7 rfl rfl)
abbrev cX5_command : ByteArray := prog_12_method_70_code
def yX5_command : MethodName := ⟨RX5, "command", "()Z"⟩
def dkwX5_command_11 : List UInt8 := [3, 172, 42, 182, 1, 133, 87, 42, 182, 0, 253, 4, 172, 42, 4, 182, 1, 55, 172]
abbrev dktX5_command_11 : List UInt8 := dkwX5_command_11 ++ []
def dkwX5_command_10 : List UInt8 := [4, 167, 0, 4, 3, 182, 1, 128, 172, 31, 20, 1, 131, 148, 154, 0, 23, 42, 182, 1, 73, 154, 0, 5]
abbrev dktX5_command_10 : List UInt8 := dkwX5_command_10 ++ dktX5_command_11
def dkwX5_command_9 : List UInt8 := [20, 1, 124, 148, 153, 0, 11, 31, 20, 1, 126, 148, 154, 0, 21, 42, 31, 20, 1, 124, 148, 154, 0, 7]
abbrev dktX5_command_9 : List UInt8 := dkwX5_command_9 ++ dktX5_command_10
def dkwX5_command_8 : List UInt8 := [148, 154, 0, 21, 42, 31, 20, 1, 116, 148, 154, 0, 7, 4, 167, 0, 4, 3, 182, 1, 120, 172, 31]
abbrev dktX5_command_8 : List UInt8 := dkwX5_command_8 ++ dktX5_command_9
def dkwX5_command_7 : List UInt8 := [182, 1, 113, 87, 132, 4, 1, 167, 255, 242, 4, 172, 31, 20, 1, 116, 148, 153, 0, 11, 31, 20, 1, 118]
abbrev dktX5_command_7 : List UInt8 := dkwX5_command_7 ++ dktX5_command_8
def dkwX5_command_6 : List UInt8 := [42, 180, 1, 38, 62, 42, 182, 1, 73, 154, 0, 5, 3, 172, 3, 54, 4, 21, 4, 29, 162, 0, 14, 42]
abbrev dktX5_command_6 : List UInt8 := dkwX5_command_6 ++ dktX5_command_7
def dkwX5_command_5 : List UInt8 := [162, 0, 14, 17, 39, 15, 42, 180, 0, 126, 100, 167, 0, 5, 16, 100, 182, 1, 61, 154, 0, 5, 3, 172]
abbrev dktX5_command_5 : List UInt8 := dkwX5_command_5 ++ dktX5_command_6
def dkwX5_command_4 : List UInt8 := [87, 4, 172, 31, 20, 1, 111, 148, 154, 0, 75, 42, 4, 17, 39, 15, 42, 180, 0, 126, 100, 16, 100]
abbrev dktX5_command_4 : List UInt8 := dkwX5_command_4 ++ dktX5_command_5
def dkwX5_command_3 : List UInt8 := [153, 0, 10, 42, 16, 6, 182, 1, 55, 172, 42, 182, 1, 73, 154, 0, 5, 3, 172, 42, 29, 182, 1, 108]
abbrev dktX5_command_3 : List UInt8 := dkwX5_command_3 ++ dktX5_command_4
def dkwX5_command_2 : List UInt8 := [154, 0, 49, 42, 182, 1, 105, 154, 0, 5, 3, 172, 42, 180, 1, 38, 62, 42, 29, 182, 0, 224]
abbrev dktX5_command_2 : List UInt8 := dkwX5_command_2 ++ dktX5_command_3
def dkwX5_command_1 : List UInt8 := [20, 1, 93, 148, 154, 0, 10, 42, 182, 1, 97, 167, 0, 7, 42, 182, 1, 100, 172, 31, 20, 1, 103, 148]
abbrev dktX5_command_1 : List UInt8 := dkwX5_command_1 ++ dktX5_command_2
def dkwX5_command_0 : List UInt8 := [42, 182, 1, 67, 64, 31, 20, 1, 93, 148, 153, 0, 11, 31, 20, 1, 95, 148, 154, 0, 23, 31]
abbrev dktX5_command_0 : List UInt8 := dkwX5_command_0 ++ dktX5_command_1
theorem dksX5_command_0 : cX5_command.data.toList.drop 0 = dktX5_command_0 := by decide +kernel
theorem dksX5_command_1 : cX5_command.data.toList.drop 22 = dktX5_command_1 := dk_seg dksX5_command_0 22 rfl rfl
theorem dksX5_command_2 : cX5_command.data.toList.drop 46 = dktX5_command_2 := dk_seg dksX5_command_1 24 rfl rfl
theorem dksX5_command_3 : cX5_command.data.toList.drop 68 = dktX5_command_3 := dk_seg dksX5_command_2 22 rfl rfl
theorem dksX5_command_4 : cX5_command.data.toList.drop 92 = dktX5_command_4 := dk_seg dksX5_command_3 24 rfl rfl
theorem dksX5_command_5 : cX5_command.data.toList.drop 115 = dktX5_command_5 := dk_seg dksX5_command_4 23 rfl rfl
theorem dksX5_command_6 : cX5_command.data.toList.drop 139 = dktX5_command_6 := dk_seg dksX5_command_5 24 rfl rfl
theorem dksX5_command_7 : cX5_command.data.toList.drop 163 = dktX5_command_7 := dk_seg dksX5_command_6 24 rfl rfl
theorem dksX5_command_8 : cX5_command.data.toList.drop 187 = dktX5_command_8 := dk_seg dksX5_command_7 24 rfl rfl
theorem dksX5_command_9 : cX5_command.data.toList.drop 210 = dktX5_command_9 := dk_seg dksX5_command_8 23 rfl rfl
theorem dksX5_command_10 : cX5_command.data.toList.drop 234 = dktX5_command_10 := dk_seg dksX5_command_9 24 rfl rfl
theorem dksX5_command_11 : cX5_command.data.toList.drop 258 = dktX5_command_11 := dk_seg dksX5_command_10 24 rfl rfl
theorem dX5_command_0 : decode cX5_command 0 = .ok (.aload_n 0, 1) := dk_42 (dk_at dksX5_command_0 0 rfl rfl)
theorem dX5_command_1 : decode cX5_command 1 = .ok (.invokevirtual 323, 3) := dk_182 1 67 (dk_at dksX5_command_0 1 rfl rfl)
theorem dX5_command_4 : decode cX5_command 4 = .ok (.lstore_n 1, 1) := dk_64 (dk_at dksX5_command_0 4 rfl rfl)
theorem dX5_command_5 : decode cX5_command 5 = .ok (.lload_n 1, 1) := dk_31 (dk_at dksX5_command_0 5 rfl rfl)
theorem dX5_command_6 : decode cX5_command 6 = .ok (.ldc2_w 349, 3) := dk_20 1 93 (dk_at dksX5_command_0 6 rfl rfl)
theorem dX5_command_9 : decode cX5_command 9 = .ok (.lcmp, 1) := dk_148 (dk_at dksX5_command_0 9 rfl rfl)
theorem dX5_command_10 : decode cX5_command 10 = .ok (.ifCond .eq 11, 3) := dk_153 0 11 (dk_at dksX5_command_0 10 rfl rfl)
theorem dX5_command_13 : decode cX5_command 13 = .ok (.lload_n 1, 1) := dk_31 (dk_at dksX5_command_0 13 rfl rfl)
theorem dX5_command_14 : decode cX5_command 14 = .ok (.ldc2_w 351, 3) := dk_20 1 95 (dk_at dksX5_command_0 14 rfl rfl)
theorem dX5_command_17 : decode cX5_command 17 = .ok (.lcmp, 1) := dk_148 (dk_at dksX5_command_0 17 rfl rfl)
theorem dX5_command_18 : decode cX5_command 18 = .ok (.ifCond .ne 23, 3) := dk_154 0 23 (dk_at dksX5_command_0 18 rfl rfl)
theorem dX5_command_21 : decode cX5_command 21 = .ok (.lload_n 1, 1) := dk_31 (dk_at dksX5_command_0 21 rfl rfl)
theorem dX5_command_22 : decode cX5_command 22 = .ok (.ldc2_w 349, 3) := dk_20 1 93 (dk_at dksX5_command_1 0 rfl rfl)
theorem dX5_command_25 : decode cX5_command 25 = .ok (.lcmp, 1) := dk_148 (dk_at dksX5_command_1 3 rfl rfl)
theorem dX5_command_26 : decode cX5_command 26 = .ok (.ifCond .ne 10, 3) := dk_154 0 10 (dk_at dksX5_command_1 4 rfl rfl)
theorem dX5_command_29 : decode cX5_command 29 = .ok (.aload_n 0, 1) := dk_42 (dk_at dksX5_command_1 7 rfl rfl)
theorem dX5_command_30 : decode cX5_command 30 = .ok (.invokevirtual 353, 3) := dk_182 1 97 (dk_at dksX5_command_1 8 rfl rfl)
theorem dX5_command_33 : decode cX5_command 33 = .ok (.goto 7, 3) := dk_167 0 7 (dk_at dksX5_command_1 11 rfl rfl)
theorem dX5_command_36 : decode cX5_command 36 = .ok (.aload_n 0, 1) := dk_42 (dk_at dksX5_command_1 14 rfl rfl)
theorem dX5_command_37 : decode cX5_command 37 = .ok (.invokevirtual 356, 3) := dk_182 1 100 (dk_at dksX5_command_1 15 rfl rfl)
theorem dX5_command_40 : decode cX5_command 40 = .ok (.ireturn, 1) := dk_172 (dk_at dksX5_command_1 18 rfl rfl)
theorem dX5_command_41 : decode cX5_command 41 = .ok (.lload_n 1, 1) := dk_31 (dk_at dksX5_command_1 19 rfl rfl)
theorem dX5_command_42 : decode cX5_command 42 = .ok (.ldc2_w 359, 3) := dk_20 1 103 (dk_at dksX5_command_1 20 rfl rfl)
theorem dX5_command_45 : decode cX5_command 45 = .ok (.lcmp, 1) := dk_148 (dk_at dksX5_command_1 23 rfl rfl)
theorem dX5_command_46 : decode cX5_command 46 = .ok (.ifCond .ne 49, 3) := dk_154 0 49 (dk_at dksX5_command_2 0 rfl rfl)
theorem dX5_command_49 : decode cX5_command 49 = .ok (.aload_n 0, 1) := dk_42 (dk_at dksX5_command_2 3 rfl rfl)
theorem dX5_command_50 : decode cX5_command 50 = .ok (.invokevirtual 361, 3) := dk_182 1 105 (dk_at dksX5_command_2 4 rfl rfl)
theorem dX5_command_53 : decode cX5_command 53 = .ok (.ifCond .ne 5, 3) := dk_154 0 5 (dk_at dksX5_command_2 7 rfl rfl)
theorem dX5_command_56 : decode cX5_command 56 = .ok (.iconst 0, 1) := dk_3 (dk_at dksX5_command_2 10 rfl rfl)
theorem dX5_command_57 : decode cX5_command 57 = .ok (.ireturn, 1) := dk_172 (dk_at dksX5_command_2 11 rfl rfl)
theorem dX5_command_58 : decode cX5_command 58 = .ok (.aload_n 0, 1) := dk_42 (dk_at dksX5_command_2 12 rfl rfl)
theorem dX5_command_59 : decode cX5_command 59 = .ok (.getfield 294, 3) := dk_180 1 38 (dk_at dksX5_command_2 13 rfl rfl)
theorem dX5_command_62 : decode cX5_command 62 = .ok (.istore_n 3, 1) := dk_62 (dk_at dksX5_command_2 16 rfl rfl)
theorem dX5_command_63 : decode cX5_command 63 = .ok (.aload_n 0, 1) := dk_42 (dk_at dksX5_command_2 17 rfl rfl)
theorem dX5_command_64 : decode cX5_command 64 = .ok (.iload_n 3, 1) := dk_29 (dk_at dksX5_command_2 18 rfl rfl)
theorem dX5_command_65 : decode cX5_command 65 = .ok (.invokevirtual 224, 3) := dk_182 0 224 (dk_at dksX5_command_2 19 rfl rfl)
theorem dX5_command_68 : decode cX5_command 68 = .ok (.ifCond .eq 10, 3) := dk_153 0 10 (dk_at dksX5_command_3 0 rfl rfl)
theorem dX5_command_71 : decode cX5_command 71 = .ok (.aload_n 0, 1) := dk_42 (dk_at dksX5_command_3 3 rfl rfl)
theorem dX5_command_72 : decode cX5_command 72 = .ok (.bipush 6, 2) := dk_16 6 (dk_at dksX5_command_3 4 rfl rfl)
theorem dX5_command_74 : decode cX5_command 74 = .ok (.invokevirtual 311, 3) := dk_182 1 55 (dk_at dksX5_command_3 6 rfl rfl)
theorem dX5_command_77 : decode cX5_command 77 = .ok (.ireturn, 1) := dk_172 (dk_at dksX5_command_3 9 rfl rfl)
theorem dX5_command_78 : decode cX5_command 78 = .ok (.aload_n 0, 1) := dk_42 (dk_at dksX5_command_3 10 rfl rfl)
theorem dX5_command_79 : decode cX5_command 79 = .ok (.invokevirtual 329, 3) := dk_182 1 73 (dk_at dksX5_command_3 11 rfl rfl)
theorem dX5_command_82 : decode cX5_command 82 = .ok (.ifCond .ne 5, 3) := dk_154 0 5 (dk_at dksX5_command_3 14 rfl rfl)
theorem dX5_command_85 : decode cX5_command 85 = .ok (.iconst 0, 1) := dk_3 (dk_at dksX5_command_3 17 rfl rfl)
theorem dX5_command_86 : decode cX5_command 86 = .ok (.ireturn, 1) := dk_172 (dk_at dksX5_command_3 18 rfl rfl)
theorem dX5_command_87 : decode cX5_command 87 = .ok (.aload_n 0, 1) := dk_42 (dk_at dksX5_command_3 19 rfl rfl)
theorem dX5_command_88 : decode cX5_command 88 = .ok (.iload_n 3, 1) := dk_29 (dk_at dksX5_command_3 20 rfl rfl)
theorem dX5_command_89 : decode cX5_command 89 = .ok (.invokevirtual 364, 3) := dk_182 1 108 (dk_at dksX5_command_3 21 rfl rfl)
theorem dX5_command_92 : decode cX5_command 92 = .ok (.pop, 1) := dk_87 (dk_at dksX5_command_4 0 rfl rfl)
theorem dX5_command_93 : decode cX5_command 93 = .ok (.iconst 1, 1) := dk_4 (dk_at dksX5_command_4 1 rfl rfl)
theorem dX5_command_94 : decode cX5_command 94 = .ok (.ireturn, 1) := dk_172 (dk_at dksX5_command_4 2 rfl rfl)
theorem dX5_command_95 : decode cX5_command 95 = .ok (.lload_n 1, 1) := dk_31 (dk_at dksX5_command_4 3 rfl rfl)
theorem dX5_command_96 : decode cX5_command 96 = .ok (.ldc2_w 367, 3) := dk_20 1 111 (dk_at dksX5_command_4 4 rfl rfl)
theorem dX5_command_99 : decode cX5_command 99 = .ok (.lcmp, 1) := dk_148 (dk_at dksX5_command_4 7 rfl rfl)
theorem dX5_command_100 : decode cX5_command 100 = .ok (.ifCond .ne 75, 3) := dk_154 0 75 (dk_at dksX5_command_4 8 rfl rfl)
theorem dX5_command_103 : decode cX5_command 103 = .ok (.aload_n 0, 1) := dk_42 (dk_at dksX5_command_4 11 rfl rfl)
theorem dX5_command_104 : decode cX5_command 104 = .ok (.iconst 1, 1) := dk_4 (dk_at dksX5_command_4 12 rfl rfl)
theorem dX5_command_105 : decode cX5_command 105 = .ok (.sipush 9999, 3) := dk_17 39 15 (dk_at dksX5_command_4 13 rfl rfl)
theorem dX5_command_108 : decode cX5_command 108 = .ok (.aload_n 0, 1) := dk_42 (dk_at dksX5_command_4 16 rfl rfl)
theorem dX5_command_109 : decode cX5_command 109 = .ok (.getfield 126, 3) := dk_180 0 126 (dk_at dksX5_command_4 17 rfl rfl)
theorem dX5_command_112 : decode cX5_command 112 = .ok (.isub, 1) := dk_100 (dk_at dksX5_command_4 20 rfl rfl)
theorem dX5_command_113 : decode cX5_command 113 = .ok (.bipush 100, 2) := dk_16 100 (dk_at dksX5_command_4 21 rfl rfl)
theorem dX5_command_115 : decode cX5_command 115 = .ok (.if_icmp .ge 14, 3) := dk_162 0 14 (dk_at dksX5_command_5 0 rfl rfl)
theorem dX5_command_118 : decode cX5_command 118 = .ok (.sipush 9999, 3) := dk_17 39 15 (dk_at dksX5_command_5 3 rfl rfl)
theorem dX5_command_121 : decode cX5_command 121 = .ok (.aload_n 0, 1) := dk_42 (dk_at dksX5_command_5 6 rfl rfl)
theorem dX5_command_122 : decode cX5_command 122 = .ok (.getfield 126, 3) := dk_180 0 126 (dk_at dksX5_command_5 7 rfl rfl)
theorem dX5_command_125 : decode cX5_command 125 = .ok (.isub, 1) := dk_100 (dk_at dksX5_command_5 10 rfl rfl)
theorem dX5_command_126 : decode cX5_command 126 = .ok (.goto 5, 3) := dk_167 0 5 (dk_at dksX5_command_5 11 rfl rfl)
theorem dX5_command_129 : decode cX5_command 129 = .ok (.bipush 100, 2) := dk_16 100 (dk_at dksX5_command_5 14 rfl rfl)
theorem dX5_command_131 : decode cX5_command 131 = .ok (.invokevirtual 317, 3) := dk_182 1 61 (dk_at dksX5_command_5 16 rfl rfl)
theorem dX5_command_134 : decode cX5_command 134 = .ok (.ifCond .ne 5, 3) := dk_154 0 5 (dk_at dksX5_command_5 19 rfl rfl)
theorem dX5_command_137 : decode cX5_command 137 = .ok (.iconst 0, 1) := dk_3 (dk_at dksX5_command_5 22 rfl rfl)
theorem dX5_command_138 : decode cX5_command 138 = .ok (.ireturn, 1) := dk_172 (dk_at dksX5_command_5 23 rfl rfl)
theorem dX5_command_139 : decode cX5_command 139 = .ok (.aload_n 0, 1) := dk_42 (dk_at dksX5_command_6 0 rfl rfl)
theorem dX5_command_140 : decode cX5_command 140 = .ok (.getfield 294, 3) := dk_180 1 38 (dk_at dksX5_command_6 1 rfl rfl)
theorem dX5_command_143 : decode cX5_command 143 = .ok (.istore_n 3, 1) := dk_62 (dk_at dksX5_command_6 4 rfl rfl)
theorem dX5_command_144 : decode cX5_command 144 = .ok (.aload_n 0, 1) := dk_42 (dk_at dksX5_command_6 5 rfl rfl)
theorem dX5_command_145 : decode cX5_command 145 = .ok (.invokevirtual 329, 3) := dk_182 1 73 (dk_at dksX5_command_6 6 rfl rfl)
theorem dX5_command_148 : decode cX5_command 148 = .ok (.ifCond .ne 5, 3) := dk_154 0 5 (dk_at dksX5_command_6 9 rfl rfl)
theorem dX5_command_151 : decode cX5_command 151 = .ok (.iconst 0, 1) := dk_3 (dk_at dksX5_command_6 12 rfl rfl)
theorem dX5_command_152 : decode cX5_command 152 = .ok (.ireturn, 1) := dk_172 (dk_at dksX5_command_6 13 rfl rfl)
theorem dX5_command_153 : decode cX5_command 153 = .ok (.iconst 0, 1) := dk_3 (dk_at dksX5_command_6 14 rfl rfl)
theorem dX5_command_154 : decode cX5_command 154 = .ok (.istore 4, 2) := dk_54 4 (dk_at dksX5_command_6 15 rfl rfl)
theorem dX5_command_156 : decode cX5_command 156 = .ok (.iload 4, 2) := dk_21 4 (dk_at dksX5_command_6 17 rfl rfl)
theorem dX5_command_158 : decode cX5_command 158 = .ok (.iload_n 3, 1) := dk_29 (dk_at dksX5_command_6 19 rfl rfl)
theorem dX5_command_159 : decode cX5_command 159 = .ok (.if_icmp .ge 14, 3) := dk_162 0 14 (dk_at dksX5_command_6 20 rfl rfl)
theorem dX5_command_162 : decode cX5_command 162 = .ok (.aload_n 0, 1) := dk_42 (dk_at dksX5_command_6 23 rfl rfl)
theorem dX5_command_163 : decode cX5_command 163 = .ok (.invokevirtual 369, 3) := dk_182 1 113 (dk_at dksX5_command_7 0 rfl rfl)
theorem dX5_command_166 : decode cX5_command 166 = .ok (.pop, 1) := dk_87 (dk_at dksX5_command_7 3 rfl rfl)
theorem dX5_command_167 : decode cX5_command 167 = .ok (.iinc 4 1, 3) := dk_132 4 1 (dk_at dksX5_command_7 4 rfl rfl)
theorem dX5_command_170 : decode cX5_command 170 = .ok (.goto (-14), 3) := dk_167 255 242 (dk_at dksX5_command_7 7 rfl rfl)
theorem dX5_command_173 : decode cX5_command 173 = .ok (.iconst 1, 1) := dk_4 (dk_at dksX5_command_7 10 rfl rfl)
theorem dX5_command_174 : decode cX5_command 174 = .ok (.ireturn, 1) := dk_172 (dk_at dksX5_command_7 11 rfl rfl)
theorem dX5_command_175 : decode cX5_command 175 = .ok (.lload_n 1, 1) := dk_31 (dk_at dksX5_command_7 12 rfl rfl)
theorem dX5_command_176 : decode cX5_command 176 = .ok (.ldc2_w 372, 3) := dk_20 1 116 (dk_at dksX5_command_7 13 rfl rfl)
theorem dX5_command_179 : decode cX5_command 179 = .ok (.lcmp, 1) := dk_148 (dk_at dksX5_command_7 16 rfl rfl)
theorem dX5_command_180 : decode cX5_command 180 = .ok (.ifCond .eq 11, 3) := dk_153 0 11 (dk_at dksX5_command_7 17 rfl rfl)
theorem dX5_command_183 : decode cX5_command 183 = .ok (.lload_n 1, 1) := dk_31 (dk_at dksX5_command_7 20 rfl rfl)
theorem dX5_command_184 : decode cX5_command 184 = .ok (.ldc2_w 374, 3) := dk_20 1 118 (dk_at dksX5_command_7 21 rfl rfl)
theorem dX5_command_187 : decode cX5_command 187 = .ok (.lcmp, 1) := dk_148 (dk_at dksX5_command_8 0 rfl rfl)
theorem dX5_command_188 : decode cX5_command 188 = .ok (.ifCond .ne 21, 3) := dk_154 0 21 (dk_at dksX5_command_8 1 rfl rfl)
theorem dX5_command_191 : decode cX5_command 191 = .ok (.aload_n 0, 1) := dk_42 (dk_at dksX5_command_8 4 rfl rfl)
theorem dX5_command_192 : decode cX5_command 192 = .ok (.lload_n 1, 1) := dk_31 (dk_at dksX5_command_8 5 rfl rfl)
theorem dX5_command_193 : decode cX5_command 193 = .ok (.ldc2_w 372, 3) := dk_20 1 116 (dk_at dksX5_command_8 6 rfl rfl)
theorem dX5_command_196 : decode cX5_command 196 = .ok (.lcmp, 1) := dk_148 (dk_at dksX5_command_8 9 rfl rfl)
theorem dX5_command_197 : decode cX5_command 197 = .ok (.ifCond .ne 7, 3) := dk_154 0 7 (dk_at dksX5_command_8 10 rfl rfl)
theorem dX5_command_200 : decode cX5_command 200 = .ok (.iconst 1, 1) := dk_4 (dk_at dksX5_command_8 13 rfl rfl)
theorem dX5_command_201 : decode cX5_command 201 = .ok (.goto 4, 3) := dk_167 0 4 (dk_at dksX5_command_8 14 rfl rfl)
theorem dX5_command_204 : decode cX5_command 204 = .ok (.iconst 0, 1) := dk_3 (dk_at dksX5_command_8 17 rfl rfl)
theorem dX5_command_205 : decode cX5_command 205 = .ok (.invokevirtual 376, 3) := dk_182 1 120 (dk_at dksX5_command_8 18 rfl rfl)
theorem dX5_command_208 : decode cX5_command 208 = .ok (.ireturn, 1) := dk_172 (dk_at dksX5_command_8 21 rfl rfl)
theorem dX5_command_209 : decode cX5_command 209 = .ok (.lload_n 1, 1) := dk_31 (dk_at dksX5_command_8 22 rfl rfl)
theorem dX5_command_210 : decode cX5_command 210 = .ok (.ldc2_w 380, 3) := dk_20 1 124 (dk_at dksX5_command_9 0 rfl rfl)
theorem dX5_command_213 : decode cX5_command 213 = .ok (.lcmp, 1) := dk_148 (dk_at dksX5_command_9 3 rfl rfl)
theorem dX5_command_214 : decode cX5_command 214 = .ok (.ifCond .eq 11, 3) := dk_153 0 11 (dk_at dksX5_command_9 4 rfl rfl)
theorem dX5_command_217 : decode cX5_command 217 = .ok (.lload_n 1, 1) := dk_31 (dk_at dksX5_command_9 7 rfl rfl)
theorem dX5_command_218 : decode cX5_command 218 = .ok (.ldc2_w 382, 3) := dk_20 1 126 (dk_at dksX5_command_9 8 rfl rfl)
theorem dX5_command_221 : decode cX5_command 221 = .ok (.lcmp, 1) := dk_148 (dk_at dksX5_command_9 11 rfl rfl)
theorem dX5_command_222 : decode cX5_command 222 = .ok (.ifCond .ne 21, 3) := dk_154 0 21 (dk_at dksX5_command_9 12 rfl rfl)
theorem dX5_command_225 : decode cX5_command 225 = .ok (.aload_n 0, 1) := dk_42 (dk_at dksX5_command_9 15 rfl rfl)
theorem dX5_command_226 : decode cX5_command 226 = .ok (.lload_n 1, 1) := dk_31 (dk_at dksX5_command_9 16 rfl rfl)
theorem dX5_command_227 : decode cX5_command 227 = .ok (.ldc2_w 380, 3) := dk_20 1 124 (dk_at dksX5_command_9 17 rfl rfl)
theorem dX5_command_230 : decode cX5_command 230 = .ok (.lcmp, 1) := dk_148 (dk_at dksX5_command_9 20 rfl rfl)
theorem dX5_command_231 : decode cX5_command 231 = .ok (.ifCond .ne 7, 3) := dk_154 0 7 (dk_at dksX5_command_9 21 rfl rfl)
theorem dX5_command_234 : decode cX5_command 234 = .ok (.iconst 1, 1) := dk_4 (dk_at dksX5_command_10 0 rfl rfl)
theorem dX5_command_235 : decode cX5_command 235 = .ok (.goto 4, 3) := dk_167 0 4 (dk_at dksX5_command_10 1 rfl rfl)
theorem dX5_command_238 : decode cX5_command 238 = .ok (.iconst 0, 1) := dk_3 (dk_at dksX5_command_10 4 rfl rfl)
theorem dX5_command_239 : decode cX5_command 239 = .ok (.invokevirtual 384, 3) := dk_182 1 128 (dk_at dksX5_command_10 5 rfl rfl)
theorem dX5_command_242 : decode cX5_command 242 = .ok (.ireturn, 1) := dk_172 (dk_at dksX5_command_10 8 rfl rfl)
theorem dX5_command_243 : decode cX5_command 243 = .ok (.lload_n 1, 1) := dk_31 (dk_at dksX5_command_10 9 rfl rfl)
theorem dX5_command_244 : decode cX5_command 244 = .ok (.ldc2_w 387, 3) := dk_20 1 131 (dk_at dksX5_command_10 10 rfl rfl)
theorem dX5_command_247 : decode cX5_command 247 = .ok (.lcmp, 1) := dk_148 (dk_at dksX5_command_10 13 rfl rfl)
theorem dX5_command_248 : decode cX5_command 248 = .ok (.ifCond .ne 23, 3) := dk_154 0 23 (dk_at dksX5_command_10 14 rfl rfl)
theorem dX5_command_251 : decode cX5_command 251 = .ok (.aload_n 0, 1) := dk_42 (dk_at dksX5_command_10 17 rfl rfl)
theorem dX5_command_252 : decode cX5_command 252 = .ok (.invokevirtual 329, 3) := dk_182 1 73 (dk_at dksX5_command_10 18 rfl rfl)
theorem dX5_command_255 : decode cX5_command 255 = .ok (.ifCond .ne 5, 3) := dk_154 0 5 (dk_at dksX5_command_10 21 rfl rfl)
theorem dX5_command_258 : decode cX5_command 258 = .ok (.iconst 0, 1) := dk_3 (dk_at dksX5_command_11 0 rfl rfl)
theorem dX5_command_259 : decode cX5_command 259 = .ok (.ireturn, 1) := dk_172 (dk_at dksX5_command_11 1 rfl rfl)
theorem dX5_command_260 : decode cX5_command 260 = .ok (.aload_n 0, 1) := dk_42 (dk_at dksX5_command_11 2 rfl rfl)
theorem dX5_command_261 : decode cX5_command 261 = .ok (.invokevirtual 389, 3) := dk_182 1 133 (dk_at dksX5_command_11 3 rfl rfl)
theorem dX5_command_264 : decode cX5_command 264 = .ok (.pop, 1) := dk_87 (dk_at dksX5_command_11 6 rfl rfl)
theorem dX5_command_265 : decode cX5_command 265 = .ok (.aload_n 0, 1) := dk_42 (dk_at dksX5_command_11 7 rfl rfl)
theorem dX5_command_266 : decode cX5_command 266 = .ok (.invokevirtual 253, 3) := dk_182 0 253 (dk_at dksX5_command_11 8 rfl rfl)
theorem dX5_command_269 : decode cX5_command 269 = .ok (.iconst 1, 1) := dk_4 (dk_at dksX5_command_11 11 rfl rfl)
theorem dX5_command_270 : decode cX5_command 270 = .ok (.ireturn, 1) := dk_172 (dk_at dksX5_command_11 12 rfl rfl)
theorem dX5_command_271 : decode cX5_command 271 = .ok (.aload_n 0, 1) := dk_42 (dk_at dksX5_command_11 13 rfl rfl)
theorem dX5_command_272 : decode cX5_command 272 = .ok (.iconst 1, 1) := dk_4 (dk_at dksX5_command_11 14 rfl rfl)
theorem dX5_command_273 : decode cX5_command 273 = .ok (.invokevirtual 311, 3) := dk_182 1 55 (dk_at dksX5_command_11 15 rfl rfl)
theorem dX5_command_276 : decode cX5_command 276 = .ok (.ireturn, 1) := dk_172 (dk_at dksX5_command_11 18 rfl rfl)
abbrev cX5_readsCall : ByteArray := prog_12_method_71_code
def yX5_readsCall : MethodName := ⟨RX5, "readsCall", "()Z"⟩
def dkwX5_readsCall_2 : List UInt8 := [42, 27, 28, 42, 180, 1, 38, 182, 1, 139, 87, 4, 172]
abbrev dktX5_readsCall_2 : List UInt8 := dkwX5_readsCall_2 ++ []
def dkwX5_readsCall_1 : List UInt8 := [180, 1, 38, 61, 27, 28, 160, 0, 9, 42, 7, 182, 1, 55, 172, 42, 182, 1, 136, 154, 0, 5, 3, 172]
abbrev dktX5_readsCall_1 : List UInt8 := dkwX5_readsCall_1 ++ dktX5_readsCall_2
def dkwX5_readsCall_0 : List UInt8 := [42, 182, 1, 105, 154, 0, 5, 3, 172, 42, 180, 1, 38, 60, 42, 182, 1, 105, 154, 0, 5, 3, 172, 42]
abbrev dktX5_readsCall_0 : List UInt8 := dkwX5_readsCall_0 ++ dktX5_readsCall_1
theorem dksX5_readsCall_0 : cX5_readsCall.data.toList.drop 0 = dktX5_readsCall_0 := by decide +kernel
theorem dksX5_readsCall_1 : cX5_readsCall.data.toList.drop 24 = dktX5_readsCall_1 := dk_seg dksX5_readsCall_0 24 rfl rfl
theorem dksX5_readsCall_2 : cX5_readsCall.data.toList.drop 48 = dktX5_readsCall_2 := dk_seg dksX5_readsCall_1 24 rfl rfl
theorem dX5_readsCall_0 : decode cX5_readsCall 0 = .ok (.aload_n 0, 1) := dk_42 (dk_at dksX5_readsCall_0 0 rfl rfl)
theorem dX5_readsCall_1 : decode cX5_readsCall 1 = .ok (.invokevirtual 361, 3) := dk_182 1 105 (dk_at dksX5_readsCall_0 1 rfl rfl)
theorem dX5_readsCall_4 : decode cX5_readsCall 4 = .ok (.ifCond .ne 5, 3) := dk_154 0 5 (dk_at dksX5_readsCall_0 4 rfl rfl)
theorem dX5_readsCall_7 : decode cX5_readsCall 7 = .ok (.iconst 0, 1) := dk_3 (dk_at dksX5_readsCall_0 7 rfl rfl)
theorem dX5_readsCall_8 : decode cX5_readsCall 8 = .ok (.ireturn, 1) := dk_172 (dk_at dksX5_readsCall_0 8 rfl rfl)
theorem dX5_readsCall_9 : decode cX5_readsCall 9 = .ok (.aload_n 0, 1) := dk_42 (dk_at dksX5_readsCall_0 9 rfl rfl)
theorem dX5_readsCall_10 : decode cX5_readsCall 10 = .ok (.getfield 294, 3) := dk_180 1 38 (dk_at dksX5_readsCall_0 10 rfl rfl)
theorem dX5_readsCall_13 : decode cX5_readsCall 13 = .ok (.istore_n 1, 1) := dk_60 (dk_at dksX5_readsCall_0 13 rfl rfl)
theorem dX5_readsCall_14 : decode cX5_readsCall 14 = .ok (.aload_n 0, 1) := dk_42 (dk_at dksX5_readsCall_0 14 rfl rfl)
theorem dX5_readsCall_15 : decode cX5_readsCall 15 = .ok (.invokevirtual 361, 3) := dk_182 1 105 (dk_at dksX5_readsCall_0 15 rfl rfl)
theorem dX5_readsCall_18 : decode cX5_readsCall 18 = .ok (.ifCond .ne 5, 3) := dk_154 0 5 (dk_at dksX5_readsCall_0 18 rfl rfl)
theorem dX5_readsCall_21 : decode cX5_readsCall 21 = .ok (.iconst 0, 1) := dk_3 (dk_at dksX5_readsCall_0 21 rfl rfl)
theorem dX5_readsCall_22 : decode cX5_readsCall 22 = .ok (.ireturn, 1) := dk_172 (dk_at dksX5_readsCall_0 22 rfl rfl)
theorem dX5_readsCall_23 : decode cX5_readsCall 23 = .ok (.aload_n 0, 1) := dk_42 (dk_at dksX5_readsCall_0 23 rfl rfl)
theorem dX5_readsCall_24 : decode cX5_readsCall 24 = .ok (.getfield 294, 3) := dk_180 1 38 (dk_at dksX5_readsCall_1 0 rfl rfl)
theorem dX5_readsCall_27 : decode cX5_readsCall 27 = .ok (.istore_n 2, 1) := dk_61 (dk_at dksX5_readsCall_1 3 rfl rfl)
theorem dX5_readsCall_28 : decode cX5_readsCall 28 = .ok (.iload_n 1, 1) := dk_27 (dk_at dksX5_readsCall_1 4 rfl rfl)
theorem dX5_readsCall_29 : decode cX5_readsCall 29 = .ok (.iload_n 2, 1) := dk_28 (dk_at dksX5_readsCall_1 5 rfl rfl)
theorem dX5_readsCall_30 : decode cX5_readsCall 30 = .ok (.if_icmp .ne 9, 3) := dk_160 0 9 (dk_at dksX5_readsCall_1 6 rfl rfl)
theorem dX5_readsCall_33 : decode cX5_readsCall 33 = .ok (.aload_n 0, 1) := dk_42 (dk_at dksX5_readsCall_1 9 rfl rfl)
theorem dX5_readsCall_34 : decode cX5_readsCall 34 = .ok (.iconst 4, 1) := dk_7 (dk_at dksX5_readsCall_1 10 rfl rfl)
theorem dX5_readsCall_35 : decode cX5_readsCall 35 = .ok (.invokevirtual 311, 3) := dk_182 1 55 (dk_at dksX5_readsCall_1 11 rfl rfl)
theorem dX5_readsCall_38 : decode cX5_readsCall 38 = .ok (.ireturn, 1) := dk_172 (dk_at dksX5_readsCall_1 14 rfl rfl)
theorem dX5_readsCall_39 : decode cX5_readsCall 39 = .ok (.aload_n 0, 1) := dk_42 (dk_at dksX5_readsCall_1 15 rfl rfl)
theorem dX5_readsCall_40 : decode cX5_readsCall 40 = .ok (.invokevirtual 392, 3) := dk_182 1 136 (dk_at dksX5_readsCall_1 16 rfl rfl)
theorem dX5_readsCall_43 : decode cX5_readsCall 43 = .ok (.ifCond .ne 5, 3) := dk_154 0 5 (dk_at dksX5_readsCall_1 19 rfl rfl)
theorem dX5_readsCall_46 : decode cX5_readsCall 46 = .ok (.iconst 0, 1) := dk_3 (dk_at dksX5_readsCall_1 22 rfl rfl)
theorem dX5_readsCall_47 : decode cX5_readsCall 47 = .ok (.ireturn, 1) := dk_172 (dk_at dksX5_readsCall_1 23 rfl rfl)
theorem dX5_readsCall_48 : decode cX5_readsCall 48 = .ok (.aload_n 0, 1) := dk_42 (dk_at dksX5_readsCall_2 0 rfl rfl)
theorem dX5_readsCall_49 : decode cX5_readsCall 49 = .ok (.iload_n 1, 1) := dk_27 (dk_at dksX5_readsCall_2 1 rfl rfl)
theorem dX5_readsCall_50 : decode cX5_readsCall 50 = .ok (.iload_n 2, 1) := dk_28 (dk_at dksX5_readsCall_2 2 rfl rfl)
theorem dX5_readsCall_51 : decode cX5_readsCall 51 = .ok (.aload_n 0, 1) := dk_42 (dk_at dksX5_readsCall_2 3 rfl rfl)
theorem dX5_readsCall_52 : decode cX5_readsCall 52 = .ok (.getfield 294, 3) := dk_180 1 38 (dk_at dksX5_readsCall_2 4 rfl rfl)
theorem dX5_readsCall_55 : decode cX5_readsCall 55 = .ok (.invokevirtual 395, 3) := dk_182 1 139 (dk_at dksX5_readsCall_2 7 rfl rfl)
theorem dX5_readsCall_58 : decode cX5_readsCall 58 = .ok (.pop, 1) := dk_87 (dk_at dksX5_readsCall_2 10 rfl rfl)
theorem dX5_readsCall_59 : decode cX5_readsCall 59 = .ok (.iconst 1, 1) := dk_4 (dk_at dksX5_readsCall_2 11 rfl rfl)
theorem dX5_readsCall_60 : decode cX5_readsCall 60 = .ok (.ireturn, 1) := dk_172 (dk_at dksX5_readsCall_2 12 rfl rfl)
abbrev cX5_readsSubscriber : ByteArray := prog_12_method_61_code
def yX5_readsSubscriber : MethodName := ⟨RX5, "readsSubscriber", "()Z"⟩
def dkwX5_readsSubscriber_0 : List UInt8 := [42, 3, 42, 182, 0, 161, 4, 100, 182, 1, 61, 172]
abbrev dktX5_readsSubscriber_0 : List UInt8 := dkwX5_readsSubscriber_0 ++ []
theorem dksX5_readsSubscriber_0 : cX5_readsSubscriber.data.toList.drop 0 = dktX5_readsSubscriber_0 := by decide +kernel
theorem dX5_readsSubscriber_0 : decode cX5_readsSubscriber 0 = .ok (.aload_n 0, 1) := dk_42 (dk_at dksX5_readsSubscriber_0 0 rfl rfl)
theorem dX5_readsSubscriber_1 : decode cX5_readsSubscriber 1 = .ok (.iconst 0, 1) := dk_3 (dk_at dksX5_readsSubscriber_0 1 rfl rfl)
theorem dX5_readsSubscriber_2 : decode cX5_readsSubscriber 2 = .ok (.aload_n 0, 1) := dk_42 (dk_at dksX5_readsSubscriber_0 2 rfl rfl)
theorem dX5_readsSubscriber_3 : decode cX5_readsSubscriber 3 = .ok (.invokevirtual 161, 3) := dk_182 0 161 (dk_at dksX5_readsSubscriber_0 3 rfl rfl)
theorem dX5_readsSubscriber_6 : decode cX5_readsSubscriber 6 = .ok (.iconst 1, 1) := dk_4 (dk_at dksX5_readsSubscriber_0 6 rfl rfl)
theorem dX5_readsSubscriber_7 : decode cX5_readsSubscriber 7 = .ok (.isub, 1) := dk_100 (dk_at dksX5_readsSubscriber_0 7 rfl rfl)
theorem dX5_readsSubscriber_8 : decode cX5_readsSubscriber 8 = .ok (.invokevirtual 317, 3) := dk_182 1 61 (dk_at dksX5_readsSubscriber_0 8 rfl rfl)
theorem dX5_readsSubscriber_11 : decode cX5_readsSubscriber 11 = .ok (.ireturn, 1) := dk_172 (dk_at dksX5_readsSubscriber_0 11 rfl rfl)
abbrev cX5_readsLasts : ByteArray := prog_12_method_69_code
def yX5_readsLasts : MethodName := ⟨RX5, "readsLasts", "()Z"⟩
def dkwX5_readsLasts_2 : List UInt8 := [154, 0, 5, 3, 172, 42, 27, 181, 1, 38, 4, 172]
abbrev dktX5_readsLasts_2 : List UInt8 := dkwX5_readsLasts_2 ++ []
def dkwX5_readsLasts_1 : List UInt8 := [172, 42, 4, 16, 99, 182, 1, 61, 154, 0, 5, 3, 172, 42, 180, 1, 38, 60, 42, 182, 1, 73]
abbrev dktX5_readsLasts_1 : List UInt8 := dkwX5_readsLasts_1 ++ dktX5_readsLasts_2
def dkwX5_readsLasts_0 : List UInt8 := [42, 182, 1, 20, 42, 182, 1, 67, 20, 1, 91, 148, 153, 0, 13, 42, 3, 181, 1, 38, 42, 182, 1, 64]
abbrev dktX5_readsLasts_0 : List UInt8 := dkwX5_readsLasts_0 ++ dktX5_readsLasts_1
theorem dksX5_readsLasts_0 : cX5_readsLasts.data.toList.drop 0 = dktX5_readsLasts_0 := by decide +kernel
theorem dksX5_readsLasts_1 : cX5_readsLasts.data.toList.drop 24 = dktX5_readsLasts_1 := dk_seg dksX5_readsLasts_0 24 rfl rfl
theorem dksX5_readsLasts_2 : cX5_readsLasts.data.toList.drop 46 = dktX5_readsLasts_2 := dk_seg dksX5_readsLasts_1 22 rfl rfl
theorem dX5_readsLasts_0 : decode cX5_readsLasts 0 = .ok (.aload_n 0, 1) := dk_42 (dk_at dksX5_readsLasts_0 0 rfl rfl)
theorem dX5_readsLasts_1 : decode cX5_readsLasts 1 = .ok (.invokevirtual 276, 3) := dk_182 1 20 (dk_at dksX5_readsLasts_0 1 rfl rfl)
theorem dX5_readsLasts_4 : decode cX5_readsLasts 4 = .ok (.aload_n 0, 1) := dk_42 (dk_at dksX5_readsLasts_0 4 rfl rfl)
theorem dX5_readsLasts_5 : decode cX5_readsLasts 5 = .ok (.invokevirtual 323, 3) := dk_182 1 67 (dk_at dksX5_readsLasts_0 5 rfl rfl)
theorem dX5_readsLasts_8 : decode cX5_readsLasts 8 = .ok (.ldc2_w 347, 3) := dk_20 1 91 (dk_at dksX5_readsLasts_0 8 rfl rfl)
theorem dX5_readsLasts_11 : decode cX5_readsLasts 11 = .ok (.lcmp, 1) := dk_148 (dk_at dksX5_readsLasts_0 11 rfl rfl)
theorem dX5_readsLasts_12 : decode cX5_readsLasts 12 = .ok (.ifCond .eq 13, 3) := dk_153 0 13 (dk_at dksX5_readsLasts_0 12 rfl rfl)
theorem dX5_readsLasts_15 : decode cX5_readsLasts 15 = .ok (.aload_n 0, 1) := dk_42 (dk_at dksX5_readsLasts_0 15 rfl rfl)
theorem dX5_readsLasts_16 : decode cX5_readsLasts 16 = .ok (.iconst 0, 1) := dk_3 (dk_at dksX5_readsLasts_0 16 rfl rfl)
theorem dX5_readsLasts_17 : decode cX5_readsLasts 17 = .ok (.putfield 294, 3) := dk_181 1 38 (dk_at dksX5_readsLasts_0 17 rfl rfl)
theorem dX5_readsLasts_20 : decode cX5_readsLasts 20 = .ok (.aload_n 0, 1) := dk_42 (dk_at dksX5_readsLasts_0 20 rfl rfl)
theorem dX5_readsLasts_21 : decode cX5_readsLasts 21 = .ok (.invokevirtual 320, 3) := dk_182 1 64 (dk_at dksX5_readsLasts_0 21 rfl rfl)
theorem dX5_readsLasts_24 : decode cX5_readsLasts 24 = .ok (.ireturn, 1) := dk_172 (dk_at dksX5_readsLasts_1 0 rfl rfl)
theorem dX5_readsLasts_25 : decode cX5_readsLasts 25 = .ok (.aload_n 0, 1) := dk_42 (dk_at dksX5_readsLasts_1 1 rfl rfl)
theorem dX5_readsLasts_26 : decode cX5_readsLasts 26 = .ok (.iconst 1, 1) := dk_4 (dk_at dksX5_readsLasts_1 2 rfl rfl)
theorem dX5_readsLasts_27 : decode cX5_readsLasts 27 = .ok (.bipush 99, 2) := dk_16 99 (dk_at dksX5_readsLasts_1 3 rfl rfl)
theorem dX5_readsLasts_29 : decode cX5_readsLasts 29 = .ok (.invokevirtual 317, 3) := dk_182 1 61 (dk_at dksX5_readsLasts_1 5 rfl rfl)
theorem dX5_readsLasts_32 : decode cX5_readsLasts 32 = .ok (.ifCond .ne 5, 3) := dk_154 0 5 (dk_at dksX5_readsLasts_1 8 rfl rfl)
theorem dX5_readsLasts_35 : decode cX5_readsLasts 35 = .ok (.iconst 0, 1) := dk_3 (dk_at dksX5_readsLasts_1 11 rfl rfl)
theorem dX5_readsLasts_36 : decode cX5_readsLasts 36 = .ok (.ireturn, 1) := dk_172 (dk_at dksX5_readsLasts_1 12 rfl rfl)
theorem dX5_readsLasts_37 : decode cX5_readsLasts 37 = .ok (.aload_n 0, 1) := dk_42 (dk_at dksX5_readsLasts_1 13 rfl rfl)
theorem dX5_readsLasts_38 : decode cX5_readsLasts 38 = .ok (.getfield 294, 3) := dk_180 1 38 (dk_at dksX5_readsLasts_1 14 rfl rfl)
theorem dX5_readsLasts_41 : decode cX5_readsLasts 41 = .ok (.istore_n 1, 1) := dk_60 (dk_at dksX5_readsLasts_1 17 rfl rfl)
theorem dX5_readsLasts_42 : decode cX5_readsLasts 42 = .ok (.aload_n 0, 1) := dk_42 (dk_at dksX5_readsLasts_1 18 rfl rfl)
theorem dX5_readsLasts_43 : decode cX5_readsLasts 43 = .ok (.invokevirtual 329, 3) := dk_182 1 73 (dk_at dksX5_readsLasts_1 19 rfl rfl)
theorem dX5_readsLasts_46 : decode cX5_readsLasts 46 = .ok (.ifCond .ne 5, 3) := dk_154 0 5 (dk_at dksX5_readsLasts_2 0 rfl rfl)
theorem dX5_readsLasts_49 : decode cX5_readsLasts 49 = .ok (.iconst 0, 1) := dk_3 (dk_at dksX5_readsLasts_2 3 rfl rfl)
theorem dX5_readsLasts_50 : decode cX5_readsLasts 50 = .ok (.ireturn, 1) := dk_172 (dk_at dksX5_readsLasts_2 4 rfl rfl)
theorem dX5_readsLasts_51 : decode cX5_readsLasts 51 = .ok (.aload_n 0, 1) := dk_42 (dk_at dksX5_readsLasts_2 5 rfl rfl)
theorem dX5_readsLasts_52 : decode cX5_readsLasts 52 = .ok (.iload_n 1, 1) := dk_27 (dk_at dksX5_readsLasts_2 6 rfl rfl)
theorem dX5_readsLasts_53 : decode cX5_readsLasts 53 = .ok (.putfield 294, 3) := dk_181 1 38 (dk_at dksX5_readsLasts_2 7 rfl rfl)
theorem dX5_readsLasts_56 : decode cX5_readsLasts 56 = .ok (.iconst 1, 1) := dk_4 (dk_at dksX5_readsLasts_2 10 rfl rfl)
theorem dX5_readsLasts_57 : decode cX5_readsLasts 57 = .ok (.ireturn, 1) := dk_172 (dk_at dksX5_readsLasts_2 11 rfl rfl)
abbrev cX5_callsUp : ByteArray := prog_12_method_43_code
def yX5_callsUp : MethodName := ⟨RX5, "callsUp", "(III)I"⟩
def dkwX5_callsUp_1 : List UInt8 := [21, 4, 182, 0, 230, 172]
abbrev dktX5_callsUp_1 : List UInt8 := dkwX5_callsUp_1 ++ []
def dkwX5_callsUp_0 : List UInt8 := [42, 27, 28, 182, 0, 244, 54, 4, 21, 4, 154, 0, 13, 42, 27, 28, 29, 182, 0, 237, 167, 0, 9, 42]
abbrev dktX5_callsUp_0 : List UInt8 := dkwX5_callsUp_0 ++ dktX5_callsUp_1
theorem dksX5_callsUp_0 : cX5_callsUp.data.toList.drop 0 = dktX5_callsUp_0 := by decide +kernel
theorem dksX5_callsUp_1 : cX5_callsUp.data.toList.drop 24 = dktX5_callsUp_1 := dk_seg dksX5_callsUp_0 24 rfl rfl
theorem dX5_callsUp_0 : decode cX5_callsUp 0 = .ok (.aload_n 0, 1) := dk_42 (dk_at dksX5_callsUp_0 0 rfl rfl)
theorem dX5_callsUp_1 : decode cX5_callsUp 1 = .ok (.iload_n 1, 1) := dk_27 (dk_at dksX5_callsUp_0 1 rfl rfl)
theorem dX5_callsUp_2 : decode cX5_callsUp 2 = .ok (.iload_n 2, 1) := dk_28 (dk_at dksX5_callsUp_0 2 rfl rfl)
theorem dX5_callsUp_3 : decode cX5_callsUp 3 = .ok (.invokevirtual 244, 3) := dk_182 0 244 (dk_at dksX5_callsUp_0 3 rfl rfl)
theorem dX5_callsUp_6 : decode cX5_callsUp 6 = .ok (.istore 4, 2) := dk_54 4 (dk_at dksX5_callsUp_0 6 rfl rfl)
theorem dX5_callsUp_8 : decode cX5_callsUp 8 = .ok (.iload 4, 2) := dk_21 4 (dk_at dksX5_callsUp_0 8 rfl rfl)
theorem dX5_callsUp_10 : decode cX5_callsUp 10 = .ok (.ifCond .ne 13, 3) := dk_154 0 13 (dk_at dksX5_callsUp_0 10 rfl rfl)
theorem dX5_callsUp_13 : decode cX5_callsUp 13 = .ok (.aload_n 0, 1) := dk_42 (dk_at dksX5_callsUp_0 13 rfl rfl)
theorem dX5_callsUp_14 : decode cX5_callsUp 14 = .ok (.iload_n 1, 1) := dk_27 (dk_at dksX5_callsUp_0 14 rfl rfl)
theorem dX5_callsUp_15 : decode cX5_callsUp 15 = .ok (.iload_n 2, 1) := dk_28 (dk_at dksX5_callsUp_0 15 rfl rfl)
theorem dX5_callsUp_16 : decode cX5_callsUp 16 = .ok (.iload_n 3, 1) := dk_29 (dk_at dksX5_callsUp_0 16 rfl rfl)
theorem dX5_callsUp_17 : decode cX5_callsUp 17 = .ok (.invokevirtual 237, 3) := dk_182 0 237 (dk_at dksX5_callsUp_0 17 rfl rfl)
theorem dX5_callsUp_20 : decode cX5_callsUp 20 = .ok (.goto 9, 3) := dk_167 0 9 (dk_at dksX5_callsUp_0 20 rfl rfl)
theorem dX5_callsUp_23 : decode cX5_callsUp 23 = .ok (.aload_n 0, 1) := dk_42 (dk_at dksX5_callsUp_0 23 rfl rfl)
theorem dX5_callsUp_24 : decode cX5_callsUp 24 = .ok (.iload 4, 2) := dk_21 4 (dk_at dksX5_callsUp_1 0 rfl rfl)
theorem dX5_callsUp_26 : decode cX5_callsUp 26 = .ok (.invokevirtual 230, 3) := dk_182 0 230 (dk_at dksX5_callsUp_1 2 rfl rfl)
theorem dX5_callsUp_29 : decode cX5_callsUp 29 = .ok (.ireturn, 1) := dk_172 (dk_at dksX5_callsUp_1 5 rfl rfl)
abbrev cX5_reasonNot : ByteArray := prog_12_method_38_code
def yX5_reasonNot : MethodName := ⟨RX5, "reasonNot", "(II)I"⟩
def dkwX5_reasonNot_2 : List UInt8 := [153, 0, 7, 7, 167, 0, 4, 3, 172]
abbrev dktX5_reasonNot_2 : List UInt8 := dkwX5_reasonNot_2 ++ []
def dkwX5_reasonNot_1 : List UInt8 := [17, 0, 200, 160, 0, 5, 6, 172, 42, 27, 42, 180, 0, 23, 108, 28, 42, 180, 0, 23, 108, 182, 0, 227]
abbrev dktX5_reasonNot_1 : List UInt8 := dkwX5_reasonNot_1 ++ dktX5_reasonNot_2
def dkwX5_reasonNot_0 : List UInt8 := [42, 27, 182, 0, 224, 154, 0, 5, 4, 172, 42, 28, 182, 0, 224, 154, 0, 5, 5, 172, 42, 180, 0, 129]
abbrev dktX5_reasonNot_0 : List UInt8 := dkwX5_reasonNot_0 ++ dktX5_reasonNot_1
theorem dksX5_reasonNot_0 : cX5_reasonNot.data.toList.drop 0 = dktX5_reasonNot_0 := by decide +kernel
theorem dksX5_reasonNot_1 : cX5_reasonNot.data.toList.drop 24 = dktX5_reasonNot_1 := dk_seg dksX5_reasonNot_0 24 rfl rfl
theorem dksX5_reasonNot_2 : cX5_reasonNot.data.toList.drop 48 = dktX5_reasonNot_2 := dk_seg dksX5_reasonNot_1 24 rfl rfl
theorem dX5_reasonNot_0 : decode cX5_reasonNot 0 = .ok (.aload_n 0, 1) := dk_42 (dk_at dksX5_reasonNot_0 0 rfl rfl)
theorem dX5_reasonNot_1 : decode cX5_reasonNot 1 = .ok (.iload_n 1, 1) := dk_27 (dk_at dksX5_reasonNot_0 1 rfl rfl)
theorem dX5_reasonNot_2 : decode cX5_reasonNot 2 = .ok (.invokevirtual 224, 3) := dk_182 0 224 (dk_at dksX5_reasonNot_0 2 rfl rfl)
theorem dX5_reasonNot_5 : decode cX5_reasonNot 5 = .ok (.ifCond .ne 5, 3) := dk_154 0 5 (dk_at dksX5_reasonNot_0 5 rfl rfl)
theorem dX5_reasonNot_8 : decode cX5_reasonNot 8 = .ok (.iconst 1, 1) := dk_4 (dk_at dksX5_reasonNot_0 8 rfl rfl)
theorem dX5_reasonNot_9 : decode cX5_reasonNot 9 = .ok (.ireturn, 1) := dk_172 (dk_at dksX5_reasonNot_0 9 rfl rfl)
theorem dX5_reasonNot_10 : decode cX5_reasonNot 10 = .ok (.aload_n 0, 1) := dk_42 (dk_at dksX5_reasonNot_0 10 rfl rfl)
theorem dX5_reasonNot_11 : decode cX5_reasonNot 11 = .ok (.iload_n 2, 1) := dk_28 (dk_at dksX5_reasonNot_0 11 rfl rfl)
theorem dX5_reasonNot_12 : decode cX5_reasonNot 12 = .ok (.invokevirtual 224, 3) := dk_182 0 224 (dk_at dksX5_reasonNot_0 12 rfl rfl)
theorem dX5_reasonNot_15 : decode cX5_reasonNot 15 = .ok (.ifCond .ne 5, 3) := dk_154 0 5 (dk_at dksX5_reasonNot_0 15 rfl rfl)
theorem dX5_reasonNot_18 : decode cX5_reasonNot 18 = .ok (.iconst 2, 1) := dk_5 (dk_at dksX5_reasonNot_0 18 rfl rfl)
theorem dX5_reasonNot_19 : decode cX5_reasonNot 19 = .ok (.ireturn, 1) := dk_172 (dk_at dksX5_reasonNot_0 19 rfl rfl)
theorem dX5_reasonNot_20 : decode cX5_reasonNot 20 = .ok (.aload_n 0, 1) := dk_42 (dk_at dksX5_reasonNot_0 20 rfl rfl)
theorem dX5_reasonNot_21 : decode cX5_reasonNot 21 = .ok (.getfield 129, 3) := dk_180 0 129 (dk_at dksX5_reasonNot_0 21 rfl rfl)
theorem dX5_reasonNot_24 : decode cX5_reasonNot 24 = .ok (.sipush 200, 3) := dk_17 0 200 (dk_at dksX5_reasonNot_1 0 rfl rfl)
theorem dX5_reasonNot_27 : decode cX5_reasonNot 27 = .ok (.if_icmp .ne 5, 3) := dk_160 0 5 (dk_at dksX5_reasonNot_1 3 rfl rfl)
theorem dX5_reasonNot_30 : decode cX5_reasonNot 30 = .ok (.iconst 3, 1) := dk_6 (dk_at dksX5_reasonNot_1 6 rfl rfl)
theorem dX5_reasonNot_31 : decode cX5_reasonNot 31 = .ok (.ireturn, 1) := dk_172 (dk_at dksX5_reasonNot_1 7 rfl rfl)
theorem dX5_reasonNot_32 : decode cX5_reasonNot 32 = .ok (.aload_n 0, 1) := dk_42 (dk_at dksX5_reasonNot_1 8 rfl rfl)
theorem dX5_reasonNot_33 : decode cX5_reasonNot 33 = .ok (.iload_n 1, 1) := dk_27 (dk_at dksX5_reasonNot_1 9 rfl rfl)
theorem dX5_reasonNot_34 : decode cX5_reasonNot 34 = .ok (.aload_n 0, 1) := dk_42 (dk_at dksX5_reasonNot_1 10 rfl rfl)
theorem dX5_reasonNot_35 : decode cX5_reasonNot 35 = .ok (.getfield 23, 3) := dk_180 0 23 (dk_at dksX5_reasonNot_1 11 rfl rfl)
theorem dX5_reasonNot_38 : decode cX5_reasonNot 38 = .ok (.idiv, 1) := dk_108 (dk_at dksX5_reasonNot_1 14 rfl rfl)
theorem dX5_reasonNot_39 : decode cX5_reasonNot 39 = .ok (.iload_n 2, 1) := dk_28 (dk_at dksX5_reasonNot_1 15 rfl rfl)
theorem dX5_reasonNot_40 : decode cX5_reasonNot 40 = .ok (.aload_n 0, 1) := dk_42 (dk_at dksX5_reasonNot_1 16 rfl rfl)
theorem dX5_reasonNot_41 : decode cX5_reasonNot 41 = .ok (.getfield 23, 3) := dk_180 0 23 (dk_at dksX5_reasonNot_1 17 rfl rfl)
theorem dX5_reasonNot_44 : decode cX5_reasonNot 44 = .ok (.idiv, 1) := dk_108 (dk_at dksX5_reasonNot_1 20 rfl rfl)
theorem dX5_reasonNot_45 : decode cX5_reasonNot 45 = .ok (.invokevirtual 227, 3) := dk_182 0 227 (dk_at dksX5_reasonNot_1 21 rfl rfl)
theorem dX5_reasonNot_48 : decode cX5_reasonNot 48 = .ok (.ifCond .eq 7, 3) := dk_153 0 7 (dk_at dksX5_reasonNot_2 0 rfl rfl)
theorem dX5_reasonNot_51 : decode cX5_reasonNot 51 = .ok (.iconst 4, 1) := dk_7 (dk_at dksX5_reasonNot_2 3 rfl rfl)
theorem dX5_reasonNot_52 : decode cX5_reasonNot 52 = .ok (.goto 4, 3) := dk_167 0 4 (dk_at dksX5_reasonNot_2 4 rfl rfl)
theorem dX5_reasonNot_55 : decode cX5_reasonNot 55 = .ok (.iconst 0, 1) := dk_3 (dk_at dksX5_reasonNot_2 7 rfl rfl)
theorem dX5_reasonNot_56 : decode cX5_reasonNot 56 = .ok (.ireturn, 1) := dk_172 (dk_at dksX5_reasonNot_2 8 rfl rfl)
abbrev cX5_isIdle : ByteArray := prog_12_method_23_code
def yX5_isIdle : MethodName := ⟨RX5, "isIdle", "(I)Z"⟩
def dkwX5_isIdle_0 : List UInt8 := [42, 27, 182, 0, 168, 2, 160, 0, 16, 42, 27, 182, 0, 171, 2, 160, 0, 7, 4, 167, 0, 4, 3, 172]
abbrev dktX5_isIdle_0 : List UInt8 := dkwX5_isIdle_0 ++ []
theorem dksX5_isIdle_0 : cX5_isIdle.data.toList.drop 0 = dktX5_isIdle_0 := by decide +kernel
theorem dX5_isIdle_0 : decode cX5_isIdle 0 = .ok (.aload_n 0, 1) := dk_42 (dk_at dksX5_isIdle_0 0 rfl rfl)
theorem dX5_isIdle_1 : decode cX5_isIdle 1 = .ok (.iload_n 1, 1) := dk_27 (dk_at dksX5_isIdle_0 1 rfl rfl)
theorem dX5_isIdle_2 : decode cX5_isIdle 2 = .ok (.invokevirtual 168, 3) := dk_182 0 168 (dk_at dksX5_isIdle_0 2 rfl rfl)
theorem dX5_isIdle_5 : decode cX5_isIdle 5 = .ok (.iconst (-1), 1) := dk_2 (dk_at dksX5_isIdle_0 5 rfl rfl)
theorem dX5_isIdle_6 : decode cX5_isIdle 6 = .ok (.if_icmp .ne 16, 3) := dk_160 0 16 (dk_at dksX5_isIdle_0 6 rfl rfl)
theorem dX5_isIdle_9 : decode cX5_isIdle 9 = .ok (.aload_n 0, 1) := dk_42 (dk_at dksX5_isIdle_0 9 rfl rfl)
theorem dX5_isIdle_10 : decode cX5_isIdle 10 = .ok (.iload_n 1, 1) := dk_27 (dk_at dksX5_isIdle_0 10 rfl rfl)
theorem dX5_isIdle_11 : decode cX5_isIdle 11 = .ok (.invokevirtual 171, 3) := dk_182 0 171 (dk_at dksX5_isIdle_0 11 rfl rfl)
theorem dX5_isIdle_14 : decode cX5_isIdle 14 = .ok (.iconst (-1), 1) := dk_2 (dk_at dksX5_isIdle_0 14 rfl rfl)
theorem dX5_isIdle_15 : decode cX5_isIdle 15 = .ok (.if_icmp .ne 7, 3) := dk_160 0 7 (dk_at dksX5_isIdle_0 15 rfl rfl)
theorem dX5_isIdle_18 : decode cX5_isIdle 18 = .ok (.iconst 1, 1) := dk_4 (dk_at dksX5_isIdle_0 18 rfl rfl)
theorem dX5_isIdle_19 : decode cX5_isIdle 19 = .ok (.goto 4, 3) := dk_167 0 4 (dk_at dksX5_isIdle_0 19 rfl rfl)
theorem dX5_isIdle_22 : decode cX5_isIdle 22 = .ok (.iconst 0, 1) := dk_3 (dk_at dksX5_isIdle_0 22 rfl rfl)
theorem dX5_isIdle_23 : decode cX5_isIdle 23 = .ok (.ireturn, 1) := dk_172 (dk_at dksX5_isIdle_0 23 rfl rfl)
abbrev cX5_callWith : ByteArray := prog_12_method_21_code
def yX5_callWith : MethodName := ⟨RX5, "callWith", "(I)I"⟩
def dkwX5_callWith_1 : List UInt8 := [28, 46, 27, 160, 0, 5, 28, 172, 132, 2, 1, 167, 255, 223, 2, 172]
abbrev dktX5_callWith_1 : List UInt8 := dkwX5_callWith_1 ++ []
def dkwX5_callWith_0 : List UInt8 := [3, 61, 28, 42, 180, 0, 132, 162, 0, 31, 42, 180, 0, 39, 28, 46, 27, 159, 0, 13, 42, 180, 0, 42]
abbrev dktX5_callWith_0 : List UInt8 := dkwX5_callWith_0 ++ dktX5_callWith_1
theorem dksX5_callWith_0 : cX5_callWith.data.toList.drop 0 = dktX5_callWith_0 := by decide +kernel
theorem dksX5_callWith_1 : cX5_callWith.data.toList.drop 24 = dktX5_callWith_1 := dk_seg dksX5_callWith_0 24 rfl rfl
theorem dX5_callWith_0 : decode cX5_callWith 0 = .ok (.iconst 0, 1) := dk_3 (dk_at dksX5_callWith_0 0 rfl rfl)
theorem dX5_callWith_1 : decode cX5_callWith 1 = .ok (.istore_n 2, 1) := dk_61 (dk_at dksX5_callWith_0 1 rfl rfl)
theorem dX5_callWith_2 : decode cX5_callWith 2 = .ok (.iload_n 2, 1) := dk_28 (dk_at dksX5_callWith_0 2 rfl rfl)
theorem dX5_callWith_3 : decode cX5_callWith 3 = .ok (.aload_n 0, 1) := dk_42 (dk_at dksX5_callWith_0 3 rfl rfl)
theorem dX5_callWith_4 : decode cX5_callWith 4 = .ok (.getfield 132, 3) := dk_180 0 132 (dk_at dksX5_callWith_0 4 rfl rfl)
theorem dX5_callWith_7 : decode cX5_callWith 7 = .ok (.if_icmp .ge 31, 3) := dk_162 0 31 (dk_at dksX5_callWith_0 7 rfl rfl)
theorem dX5_callWith_10 : decode cX5_callWith 10 = .ok (.aload_n 0, 1) := dk_42 (dk_at dksX5_callWith_0 10 rfl rfl)
theorem dX5_callWith_11 : decode cX5_callWith 11 = .ok (.getfield 39, 3) := dk_180 0 39 (dk_at dksX5_callWith_0 11 rfl rfl)
theorem dX5_callWith_14 : decode cX5_callWith 14 = .ok (.iload_n 2, 1) := dk_28 (dk_at dksX5_callWith_0 14 rfl rfl)
theorem dX5_callWith_15 : decode cX5_callWith 15 = .ok (.iaload, 1) := dk_46 (dk_at dksX5_callWith_0 15 rfl rfl)
theorem dX5_callWith_16 : decode cX5_callWith 16 = .ok (.iload_n 1, 1) := dk_27 (dk_at dksX5_callWith_0 16 rfl rfl)
theorem dX5_callWith_17 : decode cX5_callWith 17 = .ok (.if_icmp .eq 13, 3) := dk_159 0 13 (dk_at dksX5_callWith_0 17 rfl rfl)
theorem dX5_callWith_20 : decode cX5_callWith 20 = .ok (.aload_n 0, 1) := dk_42 (dk_at dksX5_callWith_0 20 rfl rfl)
theorem dX5_callWith_21 : decode cX5_callWith 21 = .ok (.getfield 42, 3) := dk_180 0 42 (dk_at dksX5_callWith_0 21 rfl rfl)
theorem dX5_callWith_24 : decode cX5_callWith 24 = .ok (.iload_n 2, 1) := dk_28 (dk_at dksX5_callWith_1 0 rfl rfl)
theorem dX5_callWith_25 : decode cX5_callWith 25 = .ok (.iaload, 1) := dk_46 (dk_at dksX5_callWith_1 1 rfl rfl)
theorem dX5_callWith_26 : decode cX5_callWith 26 = .ok (.iload_n 1, 1) := dk_27 (dk_at dksX5_callWith_1 2 rfl rfl)
theorem dX5_callWith_27 : decode cX5_callWith 27 = .ok (.if_icmp .ne 5, 3) := dk_160 0 5 (dk_at dksX5_callWith_1 3 rfl rfl)
theorem dX5_callWith_30 : decode cX5_callWith 30 = .ok (.iload_n 2, 1) := dk_28 (dk_at dksX5_callWith_1 6 rfl rfl)
theorem dX5_callWith_31 : decode cX5_callWith 31 = .ok (.ireturn, 1) := dk_172 (dk_at dksX5_callWith_1 7 rfl rfl)
theorem dX5_callWith_32 : decode cX5_callWith 32 = .ok (.iinc 2 1, 3) := dk_132 2 1 (dk_at dksX5_callWith_1 8 rfl rfl)
theorem dX5_callWith_35 : decode cX5_callWith 35 = .ok (.goto (-33), 3) := dk_167 255 223 (dk_at dksX5_callWith_1 11 rfl rfl)
theorem dX5_callWith_38 : decode cX5_callWith 38 = .ok (.iconst (-1), 1) := dk_2 (dk_at dksX5_callWith_1 14 rfl rfl)
theorem dX5_callWith_39 : decode cX5_callWith 39 = .ok (.ireturn, 1) := dk_172 (dk_at dksX5_callWith_1 15 rfl rfl)
abbrev cX5_waiterPlace : ByteArray := prog_12_method_22_code
def yX5_waiterPlace : MethodName := ⟨RX5, "waiterPlace", "(I)I"⟩
def dkwX5_waiterPlace_1 : List UInt8 := [132, 2, 1, 167, 255, 233, 2, 172]
abbrev dktX5_waiterPlace_1 : List UInt8 := dkwX5_waiterPlace_1 ++ []
def dkwX5_waiterPlace_0 : List UInt8 := [3, 61, 28, 42, 180, 0, 135, 162, 0, 21, 42, 180, 0, 57, 28, 46, 27, 160, 0, 5, 28, 172]
abbrev dktX5_waiterPlace_0 : List UInt8 := dkwX5_waiterPlace_0 ++ dktX5_waiterPlace_1
theorem dksX5_waiterPlace_0 : cX5_waiterPlace.data.toList.drop 0 = dktX5_waiterPlace_0 := by decide +kernel
theorem dksX5_waiterPlace_1 : cX5_waiterPlace.data.toList.drop 22 = dktX5_waiterPlace_1 := dk_seg dksX5_waiterPlace_0 22 rfl rfl
theorem dX5_waiterPlace_0 : decode cX5_waiterPlace 0 = .ok (.iconst 0, 1) := dk_3 (dk_at dksX5_waiterPlace_0 0 rfl rfl)
theorem dX5_waiterPlace_1 : decode cX5_waiterPlace 1 = .ok (.istore_n 2, 1) := dk_61 (dk_at dksX5_waiterPlace_0 1 rfl rfl)
theorem dX5_waiterPlace_2 : decode cX5_waiterPlace 2 = .ok (.iload_n 2, 1) := dk_28 (dk_at dksX5_waiterPlace_0 2 rfl rfl)
theorem dX5_waiterPlace_3 : decode cX5_waiterPlace 3 = .ok (.aload_n 0, 1) := dk_42 (dk_at dksX5_waiterPlace_0 3 rfl rfl)
theorem dX5_waiterPlace_4 : decode cX5_waiterPlace 4 = .ok (.getfield 135, 3) := dk_180 0 135 (dk_at dksX5_waiterPlace_0 4 rfl rfl)
theorem dX5_waiterPlace_7 : decode cX5_waiterPlace 7 = .ok (.if_icmp .ge 21, 3) := dk_162 0 21 (dk_at dksX5_waiterPlace_0 7 rfl rfl)
theorem dX5_waiterPlace_10 : decode cX5_waiterPlace 10 = .ok (.aload_n 0, 1) := dk_42 (dk_at dksX5_waiterPlace_0 10 rfl rfl)
theorem dX5_waiterPlace_11 : decode cX5_waiterPlace 11 = .ok (.getfield 57, 3) := dk_180 0 57 (dk_at dksX5_waiterPlace_0 11 rfl rfl)
theorem dX5_waiterPlace_14 : decode cX5_waiterPlace 14 = .ok (.iload_n 2, 1) := dk_28 (dk_at dksX5_waiterPlace_0 14 rfl rfl)
theorem dX5_waiterPlace_15 : decode cX5_waiterPlace 15 = .ok (.iaload, 1) := dk_46 (dk_at dksX5_waiterPlace_0 15 rfl rfl)
theorem dX5_waiterPlace_16 : decode cX5_waiterPlace 16 = .ok (.iload_n 1, 1) := dk_27 (dk_at dksX5_waiterPlace_0 16 rfl rfl)
theorem dX5_waiterPlace_17 : decode cX5_waiterPlace 17 = .ok (.if_icmp .ne 5, 3) := dk_160 0 5 (dk_at dksX5_waiterPlace_0 17 rfl rfl)
theorem dX5_waiterPlace_20 : decode cX5_waiterPlace 20 = .ok (.iload_n 2, 1) := dk_28 (dk_at dksX5_waiterPlace_0 20 rfl rfl)
theorem dX5_waiterPlace_21 : decode cX5_waiterPlace 21 = .ok (.ireturn, 1) := dk_172 (dk_at dksX5_waiterPlace_0 21 rfl rfl)
theorem dX5_waiterPlace_22 : decode cX5_waiterPlace 22 = .ok (.iinc 2 1, 3) := dk_132 2 1 (dk_at dksX5_waiterPlace_1 0 rfl rfl)
theorem dX5_waiterPlace_25 : decode cX5_waiterPlace 25 = .ok (.goto (-23), 3) := dk_167 255 233 (dk_at dksX5_waiterPlace_1 3 rfl rfl)
theorem dX5_waiterPlace_28 : decode cX5_waiterPlace 28 = .ok (.iconst (-1), 1) := dk_2 (dk_at dksX5_waiterPlace_1 6 rfl rfl)
theorem dX5_waiterPlace_29 : decode cX5_waiterPlace 29 = .ok (.ireturn, 1) := dk_172 (dk_at dksX5_waiterPlace_1 7 rfl rfl)
abbrev cX5_isBlocked : ByteArray := prog_12_method_35_code
def yX5_isBlocked : MethodName := ⟨RX5, "isBlocked", "(II)Z"⟩
def dkwX5_isBlocked_1 : List UInt8 := [28, 42, 180, 0, 26, 182, 0, 216, 154, 0, 7, 4, 167, 0, 4, 3, 172]
abbrev dktX5_isBlocked_1 : List UInt8 := dkwX5_isBlocked_1 ++ []
def dkwX5_isBlocked_0 : List UInt8 := [42, 27, 28, 3, 42, 180, 0, 26, 182, 0, 212, 2, 160, 0, 27, 42, 180, 0, 29, 153, 0, 16, 42, 27]
abbrev dktX5_isBlocked_0 : List UInt8 := dkwX5_isBlocked_0 ++ dktX5_isBlocked_1
theorem dksX5_isBlocked_0 : cX5_isBlocked.data.toList.drop 0 = dktX5_isBlocked_0 := by decide +kernel
theorem dksX5_isBlocked_1 : cX5_isBlocked.data.toList.drop 24 = dktX5_isBlocked_1 := dk_seg dksX5_isBlocked_0 24 rfl rfl
theorem dX5_isBlocked_0 : decode cX5_isBlocked 0 = .ok (.aload_n 0, 1) := dk_42 (dk_at dksX5_isBlocked_0 0 rfl rfl)
theorem dX5_isBlocked_1 : decode cX5_isBlocked 1 = .ok (.iload_n 1, 1) := dk_27 (dk_at dksX5_isBlocked_0 1 rfl rfl)
theorem dX5_isBlocked_2 : decode cX5_isBlocked 2 = .ok (.iload_n 2, 1) := dk_28 (dk_at dksX5_isBlocked_0 2 rfl rfl)
theorem dX5_isBlocked_3 : decode cX5_isBlocked 3 = .ok (.iconst 0, 1) := dk_3 (dk_at dksX5_isBlocked_0 3 rfl rfl)
theorem dX5_isBlocked_4 : decode cX5_isBlocked 4 = .ok (.aload_n 0, 1) := dk_42 (dk_at dksX5_isBlocked_0 4 rfl rfl)
theorem dX5_isBlocked_5 : decode cX5_isBlocked 5 = .ok (.getfield 26, 3) := dk_180 0 26 (dk_at dksX5_isBlocked_0 5 rfl rfl)
theorem dX5_isBlocked_8 : decode cX5_isBlocked 8 = .ok (.invokevirtual 212, 3) := dk_182 0 212 (dk_at dksX5_isBlocked_0 8 rfl rfl)
theorem dX5_isBlocked_11 : decode cX5_isBlocked 11 = .ok (.iconst (-1), 1) := dk_2 (dk_at dksX5_isBlocked_0 11 rfl rfl)
theorem dX5_isBlocked_12 : decode cX5_isBlocked 12 = .ok (.if_icmp .ne 27, 3) := dk_160 0 27 (dk_at dksX5_isBlocked_0 12 rfl rfl)
theorem dX5_isBlocked_15 : decode cX5_isBlocked 15 = .ok (.aload_n 0, 1) := dk_42 (dk_at dksX5_isBlocked_0 15 rfl rfl)
theorem dX5_isBlocked_16 : decode cX5_isBlocked 16 = .ok (.getfield 29, 3) := dk_180 0 29 (dk_at dksX5_isBlocked_0 16 rfl rfl)
theorem dX5_isBlocked_19 : decode cX5_isBlocked 19 = .ok (.ifCond .eq 16, 3) := dk_153 0 16 (dk_at dksX5_isBlocked_0 19 rfl rfl)
theorem dX5_isBlocked_22 : decode cX5_isBlocked 22 = .ok (.aload_n 0, 1) := dk_42 (dk_at dksX5_isBlocked_0 22 rfl rfl)
theorem dX5_isBlocked_23 : decode cX5_isBlocked 23 = .ok (.iload_n 1, 1) := dk_27 (dk_at dksX5_isBlocked_0 23 rfl rfl)
theorem dX5_isBlocked_24 : decode cX5_isBlocked 24 = .ok (.iload_n 2, 1) := dk_28 (dk_at dksX5_isBlocked_1 0 rfl rfl)
theorem dX5_isBlocked_25 : decode cX5_isBlocked 25 = .ok (.aload_n 0, 1) := dk_42 (dk_at dksX5_isBlocked_1 1 rfl rfl)
theorem dX5_isBlocked_26 : decode cX5_isBlocked 26 = .ok (.getfield 26, 3) := dk_180 0 26 (dk_at dksX5_isBlocked_1 2 rfl rfl)
theorem dX5_isBlocked_29 : decode cX5_isBlocked 29 = .ok (.invokevirtual 216, 3) := dk_182 0 216 (dk_at dksX5_isBlocked_1 5 rfl rfl)
theorem dX5_isBlocked_32 : decode cX5_isBlocked 32 = .ok (.ifCond .ne 7, 3) := dk_154 0 7 (dk_at dksX5_isBlocked_1 8 rfl rfl)
theorem dX5_isBlocked_35 : decode cX5_isBlocked 35 = .ok (.iconst 1, 1) := dk_4 (dk_at dksX5_isBlocked_1 11 rfl rfl)
theorem dX5_isBlocked_36 : decode cX5_isBlocked 36 = .ok (.goto 4, 3) := dk_167 0 4 (dk_at dksX5_isBlocked_1 12 rfl rfl)
theorem dX5_isBlocked_39 : decode cX5_isBlocked 39 = .ok (.iconst 0, 1) := dk_3 (dk_at dksX5_isBlocked_1 15 rfl rfl)
theorem dX5_isBlocked_40 : decode cX5_isBlocked 40 = .ok (.ireturn, 1) := dk_172 (dk_at dksX5_isBlocked_1 16 rfl rfl)
abbrev cX5_hunted : ByteArray := prog_12_method_31_code
def yX5_hunted : MethodName := ⟨RX5, "hunted", "(IIII)I"⟩
def dkwX5_hunted_3 : List UInt8 := [21, 5, 182, 0, 192, 164, 0, 7, 21, 7, 54, 5, 132, 6, 1, 167, 255, 175, 21, 5, 172]
abbrev dktX5_hunted_3 : List UInt8 := dkwX5_hunted_3 ++ []
def dkwX5_hunted_2 : List UInt8 := [182, 0, 188, 153, 0, 33, 21, 5, 2, 159, 0, 23, 29, 4, 160, 0, 22, 42, 21, 7, 182, 0, 192, 42]
abbrev dktX5_hunted_2 : List UInt8 := dkwX5_hunted_2 ++ dktX5_hunted_3
def dkwX5_hunted_1 : List UInt8 := [4, 96, 21, 6, 96, 42, 180, 0, 26, 112, 167, 0, 5, 21, 6, 54, 7, 42, 21, 7, 27, 28, 21, 4]
abbrev dktX5_hunted_1 : List UInt8 := dkwX5_hunted_1 ++ dktX5_hunted_2
def dkwX5_hunted_0 : List UInt8 := [2, 54, 5, 3, 54, 6, 21, 6, 42, 180, 0, 26, 162, 0, 78, 29, 5, 160, 0, 20, 42, 180, 0, 32]
abbrev dktX5_hunted_0 : List UInt8 := dkwX5_hunted_0 ++ dktX5_hunted_1
theorem dksX5_hunted_0 : cX5_hunted.data.toList.drop 0 = dktX5_hunted_0 := by decide +kernel
theorem dksX5_hunted_1 : cX5_hunted.data.toList.drop 24 = dktX5_hunted_1 := dk_seg dksX5_hunted_0 24 rfl rfl
theorem dksX5_hunted_2 : cX5_hunted.data.toList.drop 48 = dktX5_hunted_2 := dk_seg dksX5_hunted_1 24 rfl rfl
theorem dksX5_hunted_3 : cX5_hunted.data.toList.drop 72 = dktX5_hunted_3 := dk_seg dksX5_hunted_2 24 rfl rfl
theorem dX5_hunted_0 : decode cX5_hunted 0 = .ok (.iconst (-1), 1) := dk_2 (dk_at dksX5_hunted_0 0 rfl rfl)
theorem dX5_hunted_1 : decode cX5_hunted 1 = .ok (.istore 5, 2) := dk_54 5 (dk_at dksX5_hunted_0 1 rfl rfl)
theorem dX5_hunted_3 : decode cX5_hunted 3 = .ok (.iconst 0, 1) := dk_3 (dk_at dksX5_hunted_0 3 rfl rfl)
theorem dX5_hunted_4 : decode cX5_hunted 4 = .ok (.istore 6, 2) := dk_54 6 (dk_at dksX5_hunted_0 4 rfl rfl)
theorem dX5_hunted_6 : decode cX5_hunted 6 = .ok (.iload 6, 2) := dk_21 6 (dk_at dksX5_hunted_0 6 rfl rfl)
theorem dX5_hunted_8 : decode cX5_hunted 8 = .ok (.aload_n 0, 1) := dk_42 (dk_at dksX5_hunted_0 8 rfl rfl)
theorem dX5_hunted_9 : decode cX5_hunted 9 = .ok (.getfield 26, 3) := dk_180 0 26 (dk_at dksX5_hunted_0 9 rfl rfl)
theorem dX5_hunted_12 : decode cX5_hunted 12 = .ok (.if_icmp .ge 78, 3) := dk_162 0 78 (dk_at dksX5_hunted_0 12 rfl rfl)
theorem dX5_hunted_15 : decode cX5_hunted 15 = .ok (.iload_n 3, 1) := dk_29 (dk_at dksX5_hunted_0 15 rfl rfl)
theorem dX5_hunted_16 : decode cX5_hunted 16 = .ok (.iconst 2, 1) := dk_5 (dk_at dksX5_hunted_0 16 rfl rfl)
theorem dX5_hunted_17 : decode cX5_hunted 17 = .ok (.if_icmp .ne 20, 3) := dk_160 0 20 (dk_at dksX5_hunted_0 17 rfl rfl)
theorem dX5_hunted_20 : decode cX5_hunted 20 = .ok (.aload_n 0, 1) := dk_42 (dk_at dksX5_hunted_0 20 rfl rfl)
theorem dX5_hunted_21 : decode cX5_hunted 21 = .ok (.getfield 32, 3) := dk_180 0 32 (dk_at dksX5_hunted_0 21 rfl rfl)
theorem dX5_hunted_24 : decode cX5_hunted 24 = .ok (.iconst 1, 1) := dk_4 (dk_at dksX5_hunted_1 0 rfl rfl)
theorem dX5_hunted_25 : decode cX5_hunted 25 = .ok (.iadd, 1) := dk_96 (dk_at dksX5_hunted_1 1 rfl rfl)
theorem dX5_hunted_26 : decode cX5_hunted 26 = .ok (.iload 6, 2) := dk_21 6 (dk_at dksX5_hunted_1 2 rfl rfl)
theorem dX5_hunted_28 : decode cX5_hunted 28 = .ok (.iadd, 1) := dk_96 (dk_at dksX5_hunted_1 4 rfl rfl)
theorem dX5_hunted_29 : decode cX5_hunted 29 = .ok (.aload_n 0, 1) := dk_42 (dk_at dksX5_hunted_1 5 rfl rfl)
theorem dX5_hunted_30 : decode cX5_hunted 30 = .ok (.getfield 26, 3) := dk_180 0 26 (dk_at dksX5_hunted_1 6 rfl rfl)
theorem dX5_hunted_33 : decode cX5_hunted 33 = .ok (.irem, 1) := dk_112 (dk_at dksX5_hunted_1 9 rfl rfl)
theorem dX5_hunted_34 : decode cX5_hunted 34 = .ok (.goto 5, 3) := dk_167 0 5 (dk_at dksX5_hunted_1 10 rfl rfl)
theorem dX5_hunted_37 : decode cX5_hunted 37 = .ok (.iload 6, 2) := dk_21 6 (dk_at dksX5_hunted_1 13 rfl rfl)
theorem dX5_hunted_39 : decode cX5_hunted 39 = .ok (.istore 7, 2) := dk_54 7 (dk_at dksX5_hunted_1 15 rfl rfl)
theorem dX5_hunted_41 : decode cX5_hunted 41 = .ok (.aload_n 0, 1) := dk_42 (dk_at dksX5_hunted_1 17 rfl rfl)
theorem dX5_hunted_42 : decode cX5_hunted 42 = .ok (.iload 7, 2) := dk_21 7 (dk_at dksX5_hunted_1 18 rfl rfl)
theorem dX5_hunted_44 : decode cX5_hunted 44 = .ok (.iload_n 1, 1) := dk_27 (dk_at dksX5_hunted_1 20 rfl rfl)
theorem dX5_hunted_45 : decode cX5_hunted 45 = .ok (.iload_n 2, 1) := dk_28 (dk_at dksX5_hunted_1 21 rfl rfl)
theorem dX5_hunted_46 : decode cX5_hunted 46 = .ok (.iload 4, 2) := dk_21 4 (dk_at dksX5_hunted_1 22 rfl rfl)
theorem dX5_hunted_48 : decode cX5_hunted 48 = .ok (.invokevirtual 188, 3) := dk_182 0 188 (dk_at dksX5_hunted_2 0 rfl rfl)
theorem dX5_hunted_51 : decode cX5_hunted 51 = .ok (.ifCond .eq 33, 3) := dk_153 0 33 (dk_at dksX5_hunted_2 3 rfl rfl)
theorem dX5_hunted_54 : decode cX5_hunted 54 = .ok (.iload 5, 2) := dk_21 5 (dk_at dksX5_hunted_2 6 rfl rfl)
theorem dX5_hunted_56 : decode cX5_hunted 56 = .ok (.iconst (-1), 1) := dk_2 (dk_at dksX5_hunted_2 8 rfl rfl)
theorem dX5_hunted_57 : decode cX5_hunted 57 = .ok (.if_icmp .eq 23, 3) := dk_159 0 23 (dk_at dksX5_hunted_2 9 rfl rfl)
theorem dX5_hunted_60 : decode cX5_hunted 60 = .ok (.iload_n 3, 1) := dk_29 (dk_at dksX5_hunted_2 12 rfl rfl)
theorem dX5_hunted_61 : decode cX5_hunted 61 = .ok (.iconst 1, 1) := dk_4 (dk_at dksX5_hunted_2 13 rfl rfl)
theorem dX5_hunted_62 : decode cX5_hunted 62 = .ok (.if_icmp .ne 22, 3) := dk_160 0 22 (dk_at dksX5_hunted_2 14 rfl rfl)
theorem dX5_hunted_65 : decode cX5_hunted 65 = .ok (.aload_n 0, 1) := dk_42 (dk_at dksX5_hunted_2 17 rfl rfl)
theorem dX5_hunted_66 : decode cX5_hunted 66 = .ok (.iload 7, 2) := dk_21 7 (dk_at dksX5_hunted_2 18 rfl rfl)
theorem dX5_hunted_68 : decode cX5_hunted 68 = .ok (.invokevirtual 192, 3) := dk_182 0 192 (dk_at dksX5_hunted_2 20 rfl rfl)
theorem dX5_hunted_71 : decode cX5_hunted 71 = .ok (.aload_n 0, 1) := dk_42 (dk_at dksX5_hunted_2 23 rfl rfl)
theorem dX5_hunted_72 : decode cX5_hunted 72 = .ok (.iload 5, 2) := dk_21 5 (dk_at dksX5_hunted_3 0 rfl rfl)
theorem dX5_hunted_74 : decode cX5_hunted 74 = .ok (.invokevirtual 192, 3) := dk_182 0 192 (dk_at dksX5_hunted_3 2 rfl rfl)
theorem dX5_hunted_77 : decode cX5_hunted 77 = .ok (.if_icmp .le 7, 3) := dk_164 0 7 (dk_at dksX5_hunted_3 5 rfl rfl)
theorem dX5_hunted_80 : decode cX5_hunted 80 = .ok (.iload 7, 2) := dk_21 7 (dk_at dksX5_hunted_3 8 rfl rfl)
theorem dX5_hunted_82 : decode cX5_hunted 82 = .ok (.istore 5, 2) := dk_54 5 (dk_at dksX5_hunted_3 10 rfl rfl)
theorem dX5_hunted_84 : decode cX5_hunted 84 = .ok (.iinc 6 1, 3) := dk_132 6 1 (dk_at dksX5_hunted_3 12 rfl rfl)
theorem dX5_hunted_87 : decode cX5_hunted 87 = .ok (.goto (-81), 3) := dk_167 255 175 (dk_at dksX5_hunted_3 15 rfl rfl)
theorem dX5_hunted_90 : decode cX5_hunted 90 = .ok (.iload 5, 2) := dk_21 5 (dk_at dksX5_hunted_3 18 rfl rfl)
theorem dX5_hunted_92 : decode cX5_hunted 92 = .ok (.ireturn, 1) := dk_172 (dk_at dksX5_hunted_3 20 rfl rfl)
abbrev cX5_isOpen : ByteArray := prog_12_method_30_code
def yX5_isOpen : MethodName := ⟨RX5, "isOpen", "(IIII)Z"⟩
def dkwX5_isOpen_1 : List UInt8 := [4, 182, 0, 184, 2, 160, 0, 7, 4, 167, 0, 4, 3, 172]
abbrev dktX5_isOpen_1 : List UInt8 := dkwX5_isOpen_1 ++ []
def dkwX5_isOpen_0 : List UInt8 := [42, 27, 21, 4, 182, 0, 180, 153, 0, 29, 42, 27, 28, 3, 182, 0, 184, 2, 160, 0, 18, 42, 27, 29]
abbrev dktX5_isOpen_0 : List UInt8 := dkwX5_isOpen_0 ++ dktX5_isOpen_1
theorem dksX5_isOpen_0 : cX5_isOpen.data.toList.drop 0 = dktX5_isOpen_0 := by decide +kernel
theorem dksX5_isOpen_1 : cX5_isOpen.data.toList.drop 24 = dktX5_isOpen_1 := dk_seg dksX5_isOpen_0 24 rfl rfl
theorem dX5_isOpen_0 : decode cX5_isOpen 0 = .ok (.aload_n 0, 1) := dk_42 (dk_at dksX5_isOpen_0 0 rfl rfl)
theorem dX5_isOpen_1 : decode cX5_isOpen 1 = .ok (.iload_n 1, 1) := dk_27 (dk_at dksX5_isOpen_0 1 rfl rfl)
theorem dX5_isOpen_2 : decode cX5_isOpen 2 = .ok (.iload 4, 2) := dk_21 4 (dk_at dksX5_isOpen_0 2 rfl rfl)
theorem dX5_isOpen_4 : decode cX5_isOpen 4 = .ok (.invokevirtual 180, 3) := dk_182 0 180 (dk_at dksX5_isOpen_0 4 rfl rfl)
theorem dX5_isOpen_7 : decode cX5_isOpen 7 = .ok (.ifCond .eq 29, 3) := dk_153 0 29 (dk_at dksX5_isOpen_0 7 rfl rfl)
theorem dX5_isOpen_10 : decode cX5_isOpen 10 = .ok (.aload_n 0, 1) := dk_42 (dk_at dksX5_isOpen_0 10 rfl rfl)
theorem dX5_isOpen_11 : decode cX5_isOpen 11 = .ok (.iload_n 1, 1) := dk_27 (dk_at dksX5_isOpen_0 11 rfl rfl)
theorem dX5_isOpen_12 : decode cX5_isOpen 12 = .ok (.iload_n 2, 1) := dk_28 (dk_at dksX5_isOpen_0 12 rfl rfl)
theorem dX5_isOpen_13 : decode cX5_isOpen 13 = .ok (.iconst 0, 1) := dk_3 (dk_at dksX5_isOpen_0 13 rfl rfl)
theorem dX5_isOpen_14 : decode cX5_isOpen 14 = .ok (.invokevirtual 184, 3) := dk_182 0 184 (dk_at dksX5_isOpen_0 14 rfl rfl)
theorem dX5_isOpen_17 : decode cX5_isOpen 17 = .ok (.iconst (-1), 1) := dk_2 (dk_at dksX5_isOpen_0 17 rfl rfl)
theorem dX5_isOpen_18 : decode cX5_isOpen 18 = .ok (.if_icmp .ne 18, 3) := dk_160 0 18 (dk_at dksX5_isOpen_0 18 rfl rfl)
theorem dX5_isOpen_21 : decode cX5_isOpen 21 = .ok (.aload_n 0, 1) := dk_42 (dk_at dksX5_isOpen_0 21 rfl rfl)
theorem dX5_isOpen_22 : decode cX5_isOpen 22 = .ok (.iload_n 1, 1) := dk_27 (dk_at dksX5_isOpen_0 22 rfl rfl)
theorem dX5_isOpen_23 : decode cX5_isOpen 23 = .ok (.iload_n 3, 1) := dk_29 (dk_at dksX5_isOpen_0 23 rfl rfl)
theorem dX5_isOpen_24 : decode cX5_isOpen 24 = .ok (.iconst 1, 1) := dk_4 (dk_at dksX5_isOpen_1 0 rfl rfl)
theorem dX5_isOpen_25 : decode cX5_isOpen 25 = .ok (.invokevirtual 184, 3) := dk_182 0 184 (dk_at dksX5_isOpen_1 1 rfl rfl)
theorem dX5_isOpen_28 : decode cX5_isOpen 28 = .ok (.iconst (-1), 1) := dk_2 (dk_at dksX5_isOpen_1 4 rfl rfl)
theorem dX5_isOpen_29 : decode cX5_isOpen 29 = .ok (.if_icmp .ne 7, 3) := dk_160 0 7 (dk_at dksX5_isOpen_1 5 rfl rfl)
theorem dX5_isOpen_32 : decode cX5_isOpen 32 = .ok (.iconst 1, 1) := dk_4 (dk_at dksX5_isOpen_1 8 rfl rfl)
theorem dX5_isOpen_33 : decode cX5_isOpen 33 = .ok (.goto 4, 3) := dk_167 0 4 (dk_at dksX5_isOpen_1 9 rfl rfl)
theorem dX5_isOpen_36 : decode cX5_isOpen 36 = .ok (.iconst 0, 1) := dk_3 (dk_at dksX5_isOpen_1 12 rfl rfl)
theorem dX5_isOpen_37 : decode cX5_isOpen 37 = .ok (.ireturn, 1) := dk_172 (dk_at dksX5_isOpen_1 13 rfl rfl)
abbrev cX5_isThere : ByteArray := prog_12_method_29_code
def yX5_isThere : MethodName := ⟨RX5, "isThere", "(II)Z"⟩
def dkwX5_isThere_2 : List UInt8 := [162, 0, 7, 4, 167, 0, 4, 3, 172]
abbrev dktX5_isThere_2 : List UInt8 := dkwX5_isThere_2 ++ []
def dkwX5_isThere_1 : List UInt8 := [167, 0, 4, 4, 96, 62, 132, 4, 1, 167, 255, 230, 42, 27, 182, 0, 164, 154, 0, 12, 29, 28]
abbrev dktX5_isThere_1 : List UInt8 := dkwX5_isThere_1 ++ dktX5_isThere_2
def dkwX5_isThere_0 : List UInt8 := [3, 62, 3, 54, 4, 21, 4, 27, 162, 0, 26, 29, 42, 21, 4, 182, 0, 164, 153, 0, 7, 3]
abbrev dktX5_isThere_0 : List UInt8 := dkwX5_isThere_0 ++ dktX5_isThere_1
theorem dksX5_isThere_0 : cX5_isThere.data.toList.drop 0 = dktX5_isThere_0 := by decide +kernel
theorem dksX5_isThere_1 : cX5_isThere.data.toList.drop 22 = dktX5_isThere_1 := dk_seg dksX5_isThere_0 22 rfl rfl
theorem dksX5_isThere_2 : cX5_isThere.data.toList.drop 44 = dktX5_isThere_2 := dk_seg dksX5_isThere_1 22 rfl rfl
theorem dX5_isThere_0 : decode cX5_isThere 0 = .ok (.iconst 0, 1) := dk_3 (dk_at dksX5_isThere_0 0 rfl rfl)
theorem dX5_isThere_1 : decode cX5_isThere 1 = .ok (.istore_n 3, 1) := dk_62 (dk_at dksX5_isThere_0 1 rfl rfl)
theorem dX5_isThere_2 : decode cX5_isThere 2 = .ok (.iconst 0, 1) := dk_3 (dk_at dksX5_isThere_0 2 rfl rfl)
theorem dX5_isThere_3 : decode cX5_isThere 3 = .ok (.istore 4, 2) := dk_54 4 (dk_at dksX5_isThere_0 3 rfl rfl)
theorem dX5_isThere_5 : decode cX5_isThere 5 = .ok (.iload 4, 2) := dk_21 4 (dk_at dksX5_isThere_0 5 rfl rfl)
theorem dX5_isThere_7 : decode cX5_isThere 7 = .ok (.iload_n 1, 1) := dk_27 (dk_at dksX5_isThere_0 7 rfl rfl)
theorem dX5_isThere_8 : decode cX5_isThere 8 = .ok (.if_icmp .ge 26, 3) := dk_162 0 26 (dk_at dksX5_isThere_0 8 rfl rfl)
theorem dX5_isThere_11 : decode cX5_isThere 11 = .ok (.iload_n 3, 1) := dk_29 (dk_at dksX5_isThere_0 11 rfl rfl)
theorem dX5_isThere_12 : decode cX5_isThere 12 = .ok (.aload_n 0, 1) := dk_42 (dk_at dksX5_isThere_0 12 rfl rfl)
theorem dX5_isThere_13 : decode cX5_isThere 13 = .ok (.iload 4, 2) := dk_21 4 (dk_at dksX5_isThere_0 13 rfl rfl)
theorem dX5_isThere_15 : decode cX5_isThere 15 = .ok (.invokevirtual 164, 3) := dk_182 0 164 (dk_at dksX5_isThere_0 15 rfl rfl)
theorem dX5_isThere_18 : decode cX5_isThere 18 = .ok (.ifCond .eq 7, 3) := dk_153 0 7 (dk_at dksX5_isThere_0 18 rfl rfl)
theorem dX5_isThere_21 : decode cX5_isThere 21 = .ok (.iconst 0, 1) := dk_3 (dk_at dksX5_isThere_0 21 rfl rfl)
theorem dX5_isThere_22 : decode cX5_isThere 22 = .ok (.goto 4, 3) := dk_167 0 4 (dk_at dksX5_isThere_1 0 rfl rfl)
theorem dX5_isThere_25 : decode cX5_isThere 25 = .ok (.iconst 1, 1) := dk_4 (dk_at dksX5_isThere_1 3 rfl rfl)
theorem dX5_isThere_26 : decode cX5_isThere 26 = .ok (.iadd, 1) := dk_96 (dk_at dksX5_isThere_1 4 rfl rfl)
theorem dX5_isThere_27 : decode cX5_isThere 27 = .ok (.istore_n 3, 1) := dk_62 (dk_at dksX5_isThere_1 5 rfl rfl)
theorem dX5_isThere_28 : decode cX5_isThere 28 = .ok (.iinc 4 1, 3) := dk_132 4 1 (dk_at dksX5_isThere_1 6 rfl rfl)
theorem dX5_isThere_31 : decode cX5_isThere 31 = .ok (.goto (-26), 3) := dk_167 255 230 (dk_at dksX5_isThere_1 9 rfl rfl)
theorem dX5_isThere_34 : decode cX5_isThere 34 = .ok (.aload_n 0, 1) := dk_42 (dk_at dksX5_isThere_1 12 rfl rfl)
theorem dX5_isThere_35 : decode cX5_isThere 35 = .ok (.iload_n 1, 1) := dk_27 (dk_at dksX5_isThere_1 13 rfl rfl)
theorem dX5_isThere_36 : decode cX5_isThere 36 = .ok (.invokevirtual 164, 3) := dk_182 0 164 (dk_at dksX5_isThere_1 14 rfl rfl)
theorem dX5_isThere_39 : decode cX5_isThere 39 = .ok (.ifCond .ne 12, 3) := dk_154 0 12 (dk_at dksX5_isThere_1 17 rfl rfl)
theorem dX5_isThere_42 : decode cX5_isThere 42 = .ok (.iload_n 3, 1) := dk_29 (dk_at dksX5_isThere_1 20 rfl rfl)
theorem dX5_isThere_43 : decode cX5_isThere 43 = .ok (.iload_n 2, 1) := dk_28 (dk_at dksX5_isThere_1 21 rfl rfl)
theorem dX5_isThere_44 : decode cX5_isThere 44 = .ok (.if_icmp .ge 7, 3) := dk_162 0 7 (dk_at dksX5_isThere_2 0 rfl rfl)
theorem dX5_isThere_47 : decode cX5_isThere 47 = .ok (.iconst 1, 1) := dk_4 (dk_at dksX5_isThere_2 3 rfl rfl)
theorem dX5_isThere_48 : decode cX5_isThere 48 = .ok (.goto 4, 3) := dk_167 0 4 (dk_at dksX5_isThere_2 4 rfl rfl)
theorem dX5_isThere_51 : decode cX5_isThere 51 = .ok (.iconst 0, 1) := dk_3 (dk_at dksX5_isThere_2 7 rfl rfl)
theorem dX5_isThere_52 : decode cX5_isThere 52 = .ok (.ireturn, 1) := dk_172 (dk_at dksX5_isThere_2 8 rfl rfl)
abbrev cX5_isCut : ByteArray := prog_12_method_19_code
def yX5_isCut : MethodName := ⟨RX5, "isCut", "(I)Z"⟩
def dkwX5_isCut_0 : List UInt8 := [42, 180, 0, 120, 27, 122, 4, 126, 4, 160, 0, 7, 4, 167, 0, 4, 3, 172]
abbrev dktX5_isCut_0 : List UInt8 := dkwX5_isCut_0 ++ []
theorem dksX5_isCut_0 : cX5_isCut.data.toList.drop 0 = dktX5_isCut_0 := by decide +kernel
theorem dX5_isCut_0 : decode cX5_isCut 0 = .ok (.aload_n 0, 1) := dk_42 (dk_at dksX5_isCut_0 0 rfl rfl)
theorem dX5_isCut_1 : decode cX5_isCut 1 = .ok (.getfield 120, 3) := dk_180 0 120 (dk_at dksX5_isCut_0 1 rfl rfl)
theorem dX5_isCut_4 : decode cX5_isCut 4 = .ok (.iload_n 1, 1) := dk_27 (dk_at dksX5_isCut_0 4 rfl rfl)
theorem dX5_isCut_5 : decode cX5_isCut 5 = .ok (.ishr, 1) := dk_122 (dk_at dksX5_isCut_0 5 rfl rfl)
theorem dX5_isCut_6 : decode cX5_isCut 6 = .ok (.iconst 1, 1) := dk_4 (dk_at dksX5_isCut_0 6 rfl rfl)
theorem dX5_isCut_7 : decode cX5_isCut 7 = .ok (.iand, 1) := dk_126 (dk_at dksX5_isCut_0 7 rfl rfl)
theorem dX5_isCut_8 : decode cX5_isCut 8 = .ok (.iconst 1, 1) := dk_4 (dk_at dksX5_isCut_0 8 rfl rfl)
theorem dX5_isCut_9 : decode cX5_isCut 9 = .ok (.if_icmp .ne 7, 3) := dk_160 0 7 (dk_at dksX5_isCut_0 9 rfl rfl)
theorem dX5_isCut_12 : decode cX5_isCut 12 = .ok (.iconst 1, 1) := dk_4 (dk_at dksX5_isCut_0 12 rfl rfl)
theorem dX5_isCut_13 : decode cX5_isCut 13 = .ok (.goto 4, 3) := dk_167 0 4 (dk_at dksX5_isCut_0 13 rfl rfl)
theorem dX5_isCut_16 : decode cX5_isCut 16 = .ok (.iconst 0, 1) := dk_3 (dk_at dksX5_isCut_0 16 rfl rfl)
theorem dX5_isCut_17 : decode cX5_isCut 17 = .ok (.ireturn, 1) := dk_172 (dk_at dksX5_isCut_0 17 rfl rfl)
abbrev cX5_carriedAt : ByteArray := prog_12_method_26_code
def yX5_carriedAt : MethodName := ⟨RX5, "carriedAt", "(IIZ)I"⟩
def dkwX5_carriedAt_2 : List UInt8 := [172, 132, 4, 1, 167, 255, 207, 2, 172]
abbrev dktX5_carriedAt_2 : List UInt8 := dkwX5_carriedAt_2 ++ []
def dkwX5_carriedAt_1 : List UInt8 := [153, 0, 12, 42, 21, 4, 182, 0, 174, 167, 0, 9, 42, 21, 4, 182, 0, 177, 28, 160, 0, 6, 21, 4]
abbrev dktX5_carriedAt_1 : List UInt8 := dkwX5_carriedAt_1 ++ dktX5_carriedAt_2
def dkwX5_carriedAt_0 : List UInt8 := [3, 54, 4, 21, 4, 42, 180, 0, 132, 162, 0, 46, 42, 180, 0, 45, 21, 4, 46, 27, 160, 0, 29, 29]
abbrev dktX5_carriedAt_0 : List UInt8 := dkwX5_carriedAt_0 ++ dktX5_carriedAt_1
theorem dksX5_carriedAt_0 : cX5_carriedAt.data.toList.drop 0 = dktX5_carriedAt_0 := by decide +kernel
theorem dksX5_carriedAt_1 : cX5_carriedAt.data.toList.drop 24 = dktX5_carriedAt_1 := dk_seg dksX5_carriedAt_0 24 rfl rfl
theorem dksX5_carriedAt_2 : cX5_carriedAt.data.toList.drop 48 = dktX5_carriedAt_2 := dk_seg dksX5_carriedAt_1 24 rfl rfl
theorem dX5_carriedAt_0 : decode cX5_carriedAt 0 = .ok (.iconst 0, 1) := dk_3 (dk_at dksX5_carriedAt_0 0 rfl rfl)
theorem dX5_carriedAt_1 : decode cX5_carriedAt 1 = .ok (.istore 4, 2) := dk_54 4 (dk_at dksX5_carriedAt_0 1 rfl rfl)
theorem dX5_carriedAt_3 : decode cX5_carriedAt 3 = .ok (.iload 4, 2) := dk_21 4 (dk_at dksX5_carriedAt_0 3 rfl rfl)
theorem dX5_carriedAt_5 : decode cX5_carriedAt 5 = .ok (.aload_n 0, 1) := dk_42 (dk_at dksX5_carriedAt_0 5 rfl rfl)
theorem dX5_carriedAt_6 : decode cX5_carriedAt 6 = .ok (.getfield 132, 3) := dk_180 0 132 (dk_at dksX5_carriedAt_0 6 rfl rfl)
theorem dX5_carriedAt_9 : decode cX5_carriedAt 9 = .ok (.if_icmp .ge 46, 3) := dk_162 0 46 (dk_at dksX5_carriedAt_0 9 rfl rfl)
theorem dX5_carriedAt_12 : decode cX5_carriedAt 12 = .ok (.aload_n 0, 1) := dk_42 (dk_at dksX5_carriedAt_0 12 rfl rfl)
theorem dX5_carriedAt_13 : decode cX5_carriedAt 13 = .ok (.getfield 45, 3) := dk_180 0 45 (dk_at dksX5_carriedAt_0 13 rfl rfl)
theorem dX5_carriedAt_16 : decode cX5_carriedAt 16 = .ok (.iload 4, 2) := dk_21 4 (dk_at dksX5_carriedAt_0 16 rfl rfl)
theorem dX5_carriedAt_18 : decode cX5_carriedAt 18 = .ok (.iaload, 1) := dk_46 (dk_at dksX5_carriedAt_0 18 rfl rfl)
theorem dX5_carriedAt_19 : decode cX5_carriedAt 19 = .ok (.iload_n 1, 1) := dk_27 (dk_at dksX5_carriedAt_0 19 rfl rfl)
theorem dX5_carriedAt_20 : decode cX5_carriedAt 20 = .ok (.if_icmp .ne 29, 3) := dk_160 0 29 (dk_at dksX5_carriedAt_0 20 rfl rfl)
theorem dX5_carriedAt_23 : decode cX5_carriedAt 23 = .ok (.iload_n 3, 1) := dk_29 (dk_at dksX5_carriedAt_0 23 rfl rfl)
theorem dX5_carriedAt_24 : decode cX5_carriedAt 24 = .ok (.ifCond .eq 12, 3) := dk_153 0 12 (dk_at dksX5_carriedAt_1 0 rfl rfl)
theorem dX5_carriedAt_27 : decode cX5_carriedAt 27 = .ok (.aload_n 0, 1) := dk_42 (dk_at dksX5_carriedAt_1 3 rfl rfl)
theorem dX5_carriedAt_28 : decode cX5_carriedAt 28 = .ok (.iload 4, 2) := dk_21 4 (dk_at dksX5_carriedAt_1 4 rfl rfl)
theorem dX5_carriedAt_30 : decode cX5_carriedAt 30 = .ok (.invokevirtual 174, 3) := dk_182 0 174 (dk_at dksX5_carriedAt_1 6 rfl rfl)
theorem dX5_carriedAt_33 : decode cX5_carriedAt 33 = .ok (.goto 9, 3) := dk_167 0 9 (dk_at dksX5_carriedAt_1 9 rfl rfl)
theorem dX5_carriedAt_36 : decode cX5_carriedAt 36 = .ok (.aload_n 0, 1) := dk_42 (dk_at dksX5_carriedAt_1 12 rfl rfl)
theorem dX5_carriedAt_37 : decode cX5_carriedAt 37 = .ok (.iload 4, 2) := dk_21 4 (dk_at dksX5_carriedAt_1 13 rfl rfl)
theorem dX5_carriedAt_39 : decode cX5_carriedAt 39 = .ok (.invokevirtual 177, 3) := dk_182 0 177 (dk_at dksX5_carriedAt_1 15 rfl rfl)
theorem dX5_carriedAt_42 : decode cX5_carriedAt 42 = .ok (.iload_n 2, 1) := dk_28 (dk_at dksX5_carriedAt_1 18 rfl rfl)
theorem dX5_carriedAt_43 : decode cX5_carriedAt 43 = .ok (.if_icmp .ne 6, 3) := dk_160 0 6 (dk_at dksX5_carriedAt_1 19 rfl rfl)
theorem dX5_carriedAt_46 : decode cX5_carriedAt 46 = .ok (.iload 4, 2) := dk_21 4 (dk_at dksX5_carriedAt_1 22 rfl rfl)
theorem dX5_carriedAt_48 : decode cX5_carriedAt 48 = .ok (.ireturn, 1) := dk_172 (dk_at dksX5_carriedAt_2 0 rfl rfl)
theorem dX5_carriedAt_49 : decode cX5_carriedAt 49 = .ok (.iinc 4 1, 3) := dk_132 4 1 (dk_at dksX5_carriedAt_2 1 rfl rfl)
theorem dX5_carriedAt_52 : decode cX5_carriedAt 52 = .ok (.goto (-49), 3) := dk_167 255 207 (dk_at dksX5_carriedAt_2 4 rfl rfl)
theorem dX5_carriedAt_55 : decode cX5_carriedAt 55 = .ok (.iconst (-1), 1) := dk_2 (dk_at dksX5_carriedAt_2 7 rfl rfl)
theorem dX5_carriedAt_56 : decode cX5_carriedAt 56 = .ok (.ireturn, 1) := dk_172 (dk_at dksX5_carriedAt_2 8 rfl rfl)
abbrev cX5_toSwitch : ByteArray := prog_12_method_25_code
def yX5_toSwitch : MethodName := ⟨RX5, "toSwitch", "(I)I"⟩
def dkwX5_toSwitch_0 : List UInt8 := [42, 180, 0, 42, 27, 46, 42, 180, 0, 23, 108, 172]
abbrev dktX5_toSwitch_0 : List UInt8 := dkwX5_toSwitch_0 ++ []
theorem dksX5_toSwitch_0 : cX5_toSwitch.data.toList.drop 0 = dktX5_toSwitch_0 := by decide +kernel
theorem dX5_toSwitch_0 : decode cX5_toSwitch 0 = .ok (.aload_n 0, 1) := dk_42 (dk_at dksX5_toSwitch_0 0 rfl rfl)
theorem dX5_toSwitch_1 : decode cX5_toSwitch 1 = .ok (.getfield 42, 3) := dk_180 0 42 (dk_at dksX5_toSwitch_0 1 rfl rfl)
theorem dX5_toSwitch_4 : decode cX5_toSwitch 4 = .ok (.iload_n 1, 1) := dk_27 (dk_at dksX5_toSwitch_0 4 rfl rfl)
theorem dX5_toSwitch_5 : decode cX5_toSwitch 5 = .ok (.iaload, 1) := dk_46 (dk_at dksX5_toSwitch_0 5 rfl rfl)
theorem dX5_toSwitch_6 : decode cX5_toSwitch 6 = .ok (.aload_n 0, 1) := dk_42 (dk_at dksX5_toSwitch_0 6 rfl rfl)
theorem dX5_toSwitch_7 : decode cX5_toSwitch 7 = .ok (.getfield 23, 3) := dk_180 0 23 (dk_at dksX5_toSwitch_0 7 rfl rfl)
theorem dX5_toSwitch_10 : decode cX5_toSwitch 10 = .ok (.idiv, 1) := dk_108 (dk_at dksX5_toSwitch_0 10 rfl rfl)
theorem dX5_toSwitch_11 : decode cX5_toSwitch 11 = .ok (.ireturn, 1) := dk_172 (dk_at dksX5_toSwitch_0 11 rfl rfl)
abbrev cX5_fromSwitch : ByteArray := prog_12_method_24_code
def yX5_fromSwitch : MethodName := ⟨RX5, "fromSwitch", "(I)I"⟩
def dkwX5_fromSwitch_0 : List UInt8 := [42, 180, 0, 39, 27, 46, 42, 180, 0, 23, 108, 172]
abbrev dktX5_fromSwitch_0 : List UInt8 := dkwX5_fromSwitch_0 ++ []
theorem dksX5_fromSwitch_0 : cX5_fromSwitch.data.toList.drop 0 = dktX5_fromSwitch_0 := by decide +kernel
theorem dX5_fromSwitch_0 : decode cX5_fromSwitch 0 = .ok (.aload_n 0, 1) := dk_42 (dk_at dksX5_fromSwitch_0 0 rfl rfl)
theorem dX5_fromSwitch_1 : decode cX5_fromSwitch 1 = .ok (.getfield 39, 3) := dk_180 0 39 (dk_at dksX5_fromSwitch_0 1 rfl rfl)
theorem dX5_fromSwitch_4 : decode cX5_fromSwitch 4 = .ok (.iload_n 1, 1) := dk_27 (dk_at dksX5_fromSwitch_0 4 rfl rfl)
theorem dX5_fromSwitch_5 : decode cX5_fromSwitch 5 = .ok (.iaload, 1) := dk_46 (dk_at dksX5_fromSwitch_0 5 rfl rfl)
theorem dX5_fromSwitch_6 : decode cX5_fromSwitch 6 = .ok (.aload_n 0, 1) := dk_42 (dk_at dksX5_fromSwitch_0 6 rfl rfl)
theorem dX5_fromSwitch_7 : decode cX5_fromSwitch 7 = .ok (.getfield 23, 3) := dk_180 0 23 (dk_at dksX5_fromSwitch_0 7 rfl rfl)
theorem dX5_fromSwitch_10 : decode cX5_fromSwitch 10 = .ok (.idiv, 1) := dk_108 (dk_at dksX5_fromSwitch_0 10 rfl rfl)
theorem dX5_fromSwitch_11 : decode cX5_fromSwitch 11 = .ok (.ireturn, 1) := dk_172 (dk_at dksX5_fromSwitch_0 11 rfl rfl)
abbrev cX5_loadOf : ByteArray := prog_12_method_27_code
def yX5_loadOf : MethodName := ⟨RX5, "loadOf", "(I)I"⟩
def dkwX5_loadOf_1 : List UInt8 := [167, 0, 4, 3, 96, 61, 132, 3, 1, 167, 255, 227, 28, 172]
abbrev dktX5_loadOf_1 : List UInt8 := dkwX5_loadOf_1 ++ []
def dkwX5_loadOf_0 : List UInt8 := [3, 61, 3, 62, 29, 42, 180, 0, 132, 162, 0, 27, 28, 42, 180, 0, 45, 29, 46, 27, 160, 0, 7, 4]
abbrev dktX5_loadOf_0 : List UInt8 := dkwX5_loadOf_0 ++ dktX5_loadOf_1
theorem dksX5_loadOf_0 : cX5_loadOf.data.toList.drop 0 = dktX5_loadOf_0 := by decide +kernel
theorem dksX5_loadOf_1 : cX5_loadOf.data.toList.drop 24 = dktX5_loadOf_1 := dk_seg dksX5_loadOf_0 24 rfl rfl
theorem dX5_loadOf_0 : decode cX5_loadOf 0 = .ok (.iconst 0, 1) := dk_3 (dk_at dksX5_loadOf_0 0 rfl rfl)
theorem dX5_loadOf_1 : decode cX5_loadOf 1 = .ok (.istore_n 2, 1) := dk_61 (dk_at dksX5_loadOf_0 1 rfl rfl)
theorem dX5_loadOf_2 : decode cX5_loadOf 2 = .ok (.iconst 0, 1) := dk_3 (dk_at dksX5_loadOf_0 2 rfl rfl)
theorem dX5_loadOf_3 : decode cX5_loadOf 3 = .ok (.istore_n 3, 1) := dk_62 (dk_at dksX5_loadOf_0 3 rfl rfl)
theorem dX5_loadOf_4 : decode cX5_loadOf 4 = .ok (.iload_n 3, 1) := dk_29 (dk_at dksX5_loadOf_0 4 rfl rfl)
theorem dX5_loadOf_5 : decode cX5_loadOf 5 = .ok (.aload_n 0, 1) := dk_42 (dk_at dksX5_loadOf_0 5 rfl rfl)
theorem dX5_loadOf_6 : decode cX5_loadOf 6 = .ok (.getfield 132, 3) := dk_180 0 132 (dk_at dksX5_loadOf_0 6 rfl rfl)
theorem dX5_loadOf_9 : decode cX5_loadOf 9 = .ok (.if_icmp .ge 27, 3) := dk_162 0 27 (dk_at dksX5_loadOf_0 9 rfl rfl)
theorem dX5_loadOf_12 : decode cX5_loadOf 12 = .ok (.iload_n 2, 1) := dk_28 (dk_at dksX5_loadOf_0 12 rfl rfl)
theorem dX5_loadOf_13 : decode cX5_loadOf 13 = .ok (.aload_n 0, 1) := dk_42 (dk_at dksX5_loadOf_0 13 rfl rfl)
theorem dX5_loadOf_14 : decode cX5_loadOf 14 = .ok (.getfield 45, 3) := dk_180 0 45 (dk_at dksX5_loadOf_0 14 rfl rfl)
theorem dX5_loadOf_17 : decode cX5_loadOf 17 = .ok (.iload_n 3, 1) := dk_29 (dk_at dksX5_loadOf_0 17 rfl rfl)
theorem dX5_loadOf_18 : decode cX5_loadOf 18 = .ok (.iaload, 1) := dk_46 (dk_at dksX5_loadOf_0 18 rfl rfl)
theorem dX5_loadOf_19 : decode cX5_loadOf 19 = .ok (.iload_n 1, 1) := dk_27 (dk_at dksX5_loadOf_0 19 rfl rfl)
theorem dX5_loadOf_20 : decode cX5_loadOf 20 = .ok (.if_icmp .ne 7, 3) := dk_160 0 7 (dk_at dksX5_loadOf_0 20 rfl rfl)
theorem dX5_loadOf_23 : decode cX5_loadOf 23 = .ok (.iconst 1, 1) := dk_4 (dk_at dksX5_loadOf_0 23 rfl rfl)
theorem dX5_loadOf_24 : decode cX5_loadOf 24 = .ok (.goto 4, 3) := dk_167 0 4 (dk_at dksX5_loadOf_1 0 rfl rfl)
theorem dX5_loadOf_27 : decode cX5_loadOf 27 = .ok (.iconst 0, 1) := dk_3 (dk_at dksX5_loadOf_1 3 rfl rfl)
theorem dX5_loadOf_28 : decode cX5_loadOf 28 = .ok (.iadd, 1) := dk_96 (dk_at dksX5_loadOf_1 4 rfl rfl)
theorem dX5_loadOf_29 : decode cX5_loadOf 29 = .ok (.istore_n 2, 1) := dk_61 (dk_at dksX5_loadOf_1 5 rfl rfl)
theorem dX5_loadOf_30 : decode cX5_loadOf 30 = .ok (.iinc 3 1, 3) := dk_132 3 1 (dk_at dksX5_loadOf_1 6 rfl rfl)
theorem dX5_loadOf_33 : decode cX5_loadOf 33 = .ok (.goto (-29), 3) := dk_167 255 227 (dk_at dksX5_loadOf_1 9 rfl rfl)
theorem dX5_loadOf_36 : decode cX5_loadOf 36 = .ok (.iload_n 2, 1) := dk_28 (dk_at dksX5_loadOf_1 12 rfl rfl)
theorem dX5_loadOf_37 : decode cX5_loadOf 37 = .ok (.ireturn, 1) := dk_172 (dk_at dksX5_loadOf_1 13 rfl rfl)
abbrev cX5_findChain : ByteArray := prog_12_method_33_code
def yX5_findChain : MethodName := ⟨RX5, "findChain", "(III)Z"⟩
def dkwX5_findChain_9 : List UInt8 := [158, 0, 7, 4, 167, 0, 4, 3, 172]
abbrev dktX5_findChain_9 : List UInt8 := dkwX5_findChain_9 ++ []
def dkwX5_findChain_8 : List UInt8 := [132, 6, 1, 167, 255, 147, 132, 5, 1, 167, 255, 104, 132, 4, 1, 167, 255, 61, 42, 180, 0, 195]
abbrev dktX5_findChain_8 : List UInt8 := dkwX5_findChain_8 ++ dktX5_findChain_9
def dkwX5_findChain_7 : List UInt8 := [162, 0, 23, 42, 180, 0, 91, 21, 8, 42, 180, 0, 94, 21, 8, 46, 79, 132, 8, 1, 167, 255, 232]
abbrev dktX5_findChain_7 : List UInt8 := dkwX5_findChain_7 ++ dktX5_findChain_8
def dkwX5_findChain_6 : List UInt8 := [181, 0, 205, 42, 21, 6, 154, 0, 7, 4, 167, 0, 4, 3, 181, 0, 208, 3, 54, 8, 21, 8, 21, 7]
abbrev dktX5_findChain_6 : List UInt8 := dkwX5_findChain_6 ++ dktX5_findChain_7
def dkwX5_findChain_5 : List UInt8 := [42, 180, 0, 195, 162, 0, 65, 42, 21, 7, 181, 0, 195, 42, 21, 4, 181, 0, 202, 42, 21, 5]
abbrev dktX5_findChain_5 : List UInt8 := dkwX5_findChain_5 ++ dktX5_findChain_6
def dkwX5_findChain_4 : List UInt8 := [21, 6, 154, 0, 7, 4, 167, 0, 4, 3, 182, 0, 198, 54, 7, 42, 180, 0, 195, 153, 0, 12, 21, 7]
abbrev dktX5_findChain_4 : List UInt8 := dkwX5_findChain_4 ++ dktX5_findChain_5
def dkwX5_findChain_3 : List UInt8 := [2, 159, 0, 6, 167, 0, 118, 3, 54, 6, 21, 6, 5, 162, 0, 109, 42, 21, 4, 21, 5, 27, 28]
abbrev dktX5_findChain_3 : List UInt8 := dkwX5_findChain_3 ++ dktX5_findChain_4
def dkwX5_findChain_2 : List UInt8 := [180, 0, 26, 162, 0, 149, 42, 21, 5, 29, 182, 0, 180, 153, 0, 133, 42, 21, 5, 28, 4, 182, 0, 184]
abbrev dktX5_findChain_2 : List UInt8 := dkwX5_findChain_2 ++ dktX5_findChain_3
def dkwX5_findChain_1 : List UInt8 := [153, 0, 176, 42, 21, 4, 27, 3, 182, 0, 184, 2, 159, 0, 6, 167, 0, 161, 3, 54, 5, 21, 5, 42]
abbrev dktX5_findChain_1 : List UInt8 := dkwX5_findChain_1 ++ dktX5_findChain_2
def dkwX5_findChain_0 : List UInt8 := [42, 3, 181, 0, 195, 3, 54, 4, 21, 4, 42, 180, 0, 26, 162, 0, 192, 42, 21, 4, 29, 182, 0, 180]
abbrev dktX5_findChain_0 : List UInt8 := dkwX5_findChain_0 ++ dktX5_findChain_1
theorem dksX5_findChain_0 : cX5_findChain.data.toList.drop 0 = dktX5_findChain_0 := by decide +kernel
theorem dksX5_findChain_1 : cX5_findChain.data.toList.drop 24 = dktX5_findChain_1 := dk_seg dksX5_findChain_0 24 rfl rfl
theorem dksX5_findChain_2 : cX5_findChain.data.toList.drop 48 = dktX5_findChain_2 := dk_seg dksX5_findChain_1 24 rfl rfl
theorem dksX5_findChain_3 : cX5_findChain.data.toList.drop 72 = dktX5_findChain_3 := dk_seg dksX5_findChain_2 24 rfl rfl
theorem dksX5_findChain_4 : cX5_findChain.data.toList.drop 95 = dktX5_findChain_4 := dk_seg dksX5_findChain_3 23 rfl rfl
theorem dksX5_findChain_5 : cX5_findChain.data.toList.drop 119 = dktX5_findChain_5 := dk_seg dksX5_findChain_4 24 rfl rfl
theorem dksX5_findChain_6 : cX5_findChain.data.toList.drop 141 = dktX5_findChain_6 := dk_seg dksX5_findChain_5 22 rfl rfl
theorem dksX5_findChain_7 : cX5_findChain.data.toList.drop 165 = dktX5_findChain_7 := dk_seg dksX5_findChain_6 24 rfl rfl
theorem dksX5_findChain_8 : cX5_findChain.data.toList.drop 188 = dktX5_findChain_8 := dk_seg dksX5_findChain_7 23 rfl rfl
theorem dksX5_findChain_9 : cX5_findChain.data.toList.drop 210 = dktX5_findChain_9 := dk_seg dksX5_findChain_8 22 rfl rfl
theorem dX5_findChain_0 : decode cX5_findChain 0 = .ok (.aload_n 0, 1) := dk_42 (dk_at dksX5_findChain_0 0 rfl rfl)
theorem dX5_findChain_1 : decode cX5_findChain 1 = .ok (.iconst 0, 1) := dk_3 (dk_at dksX5_findChain_0 1 rfl rfl)
theorem dX5_findChain_2 : decode cX5_findChain 2 = .ok (.putfield 195, 3) := dk_181 0 195 (dk_at dksX5_findChain_0 2 rfl rfl)
theorem dX5_findChain_5 : decode cX5_findChain 5 = .ok (.iconst 0, 1) := dk_3 (dk_at dksX5_findChain_0 5 rfl rfl)
theorem dX5_findChain_6 : decode cX5_findChain 6 = .ok (.istore 4, 2) := dk_54 4 (dk_at dksX5_findChain_0 6 rfl rfl)
theorem dX5_findChain_8 : decode cX5_findChain 8 = .ok (.iload 4, 2) := dk_21 4 (dk_at dksX5_findChain_0 8 rfl rfl)
theorem dX5_findChain_10 : decode cX5_findChain 10 = .ok (.aload_n 0, 1) := dk_42 (dk_at dksX5_findChain_0 10 rfl rfl)
theorem dX5_findChain_11 : decode cX5_findChain 11 = .ok (.getfield 26, 3) := dk_180 0 26 (dk_at dksX5_findChain_0 11 rfl rfl)
theorem dX5_findChain_14 : decode cX5_findChain 14 = .ok (.if_icmp .ge 192, 3) := dk_162 0 192 (dk_at dksX5_findChain_0 14 rfl rfl)
theorem dX5_findChain_17 : decode cX5_findChain 17 = .ok (.aload_n 0, 1) := dk_42 (dk_at dksX5_findChain_0 17 rfl rfl)
theorem dX5_findChain_18 : decode cX5_findChain 18 = .ok (.iload 4, 2) := dk_21 4 (dk_at dksX5_findChain_0 18 rfl rfl)
theorem dX5_findChain_20 : decode cX5_findChain 20 = .ok (.iload_n 3, 1) := dk_29 (dk_at dksX5_findChain_0 20 rfl rfl)
theorem dX5_findChain_21 : decode cX5_findChain 21 = .ok (.invokevirtual 180, 3) := dk_182 0 180 (dk_at dksX5_findChain_0 21 rfl rfl)
theorem dX5_findChain_24 : decode cX5_findChain 24 = .ok (.ifCond .eq 176, 3) := dk_153 0 176 (dk_at dksX5_findChain_1 0 rfl rfl)
theorem dX5_findChain_27 : decode cX5_findChain 27 = .ok (.aload_n 0, 1) := dk_42 (dk_at dksX5_findChain_1 3 rfl rfl)
theorem dX5_findChain_28 : decode cX5_findChain 28 = .ok (.iload 4, 2) := dk_21 4 (dk_at dksX5_findChain_1 4 rfl rfl)
theorem dX5_findChain_30 : decode cX5_findChain 30 = .ok (.iload_n 1, 1) := dk_27 (dk_at dksX5_findChain_1 6 rfl rfl)
theorem dX5_findChain_31 : decode cX5_findChain 31 = .ok (.iconst 0, 1) := dk_3 (dk_at dksX5_findChain_1 7 rfl rfl)
theorem dX5_findChain_32 : decode cX5_findChain 32 = .ok (.invokevirtual 184, 3) := dk_182 0 184 (dk_at dksX5_findChain_1 8 rfl rfl)
theorem dX5_findChain_35 : decode cX5_findChain 35 = .ok (.iconst (-1), 1) := dk_2 (dk_at dksX5_findChain_1 11 rfl rfl)
theorem dX5_findChain_36 : decode cX5_findChain 36 = .ok (.if_icmp .eq 6, 3) := dk_159 0 6 (dk_at dksX5_findChain_1 12 rfl rfl)
theorem dX5_findChain_39 : decode cX5_findChain 39 = .ok (.goto 161, 3) := dk_167 0 161 (dk_at dksX5_findChain_1 15 rfl rfl)
theorem dX5_findChain_42 : decode cX5_findChain 42 = .ok (.iconst 0, 1) := dk_3 (dk_at dksX5_findChain_1 18 rfl rfl)
theorem dX5_findChain_43 : decode cX5_findChain 43 = .ok (.istore 5, 2) := dk_54 5 (dk_at dksX5_findChain_1 19 rfl rfl)
theorem dX5_findChain_45 : decode cX5_findChain 45 = .ok (.iload 5, 2) := dk_21 5 (dk_at dksX5_findChain_1 21 rfl rfl)
theorem dX5_findChain_47 : decode cX5_findChain 47 = .ok (.aload_n 0, 1) := dk_42 (dk_at dksX5_findChain_1 23 rfl rfl)
theorem dX5_findChain_48 : decode cX5_findChain 48 = .ok (.getfield 26, 3) := dk_180 0 26 (dk_at dksX5_findChain_2 0 rfl rfl)
theorem dX5_findChain_51 : decode cX5_findChain 51 = .ok (.if_icmp .ge 149, 3) := dk_162 0 149 (dk_at dksX5_findChain_2 3 rfl rfl)
theorem dX5_findChain_54 : decode cX5_findChain 54 = .ok (.aload_n 0, 1) := dk_42 (dk_at dksX5_findChain_2 6 rfl rfl)
theorem dX5_findChain_55 : decode cX5_findChain 55 = .ok (.iload 5, 2) := dk_21 5 (dk_at dksX5_findChain_2 7 rfl rfl)
theorem dX5_findChain_57 : decode cX5_findChain 57 = .ok (.iload_n 3, 1) := dk_29 (dk_at dksX5_findChain_2 9 rfl rfl)
theorem dX5_findChain_58 : decode cX5_findChain 58 = .ok (.invokevirtual 180, 3) := dk_182 0 180 (dk_at dksX5_findChain_2 10 rfl rfl)
theorem dX5_findChain_61 : decode cX5_findChain 61 = .ok (.ifCond .eq 133, 3) := dk_153 0 133 (dk_at dksX5_findChain_2 13 rfl rfl)
theorem dX5_findChain_64 : decode cX5_findChain 64 = .ok (.aload_n 0, 1) := dk_42 (dk_at dksX5_findChain_2 16 rfl rfl)
theorem dX5_findChain_65 : decode cX5_findChain 65 = .ok (.iload 5, 2) := dk_21 5 (dk_at dksX5_findChain_2 17 rfl rfl)
theorem dX5_findChain_67 : decode cX5_findChain 67 = .ok (.iload_n 2, 1) := dk_28 (dk_at dksX5_findChain_2 19 rfl rfl)
theorem dX5_findChain_68 : decode cX5_findChain 68 = .ok (.iconst 1, 1) := dk_4 (dk_at dksX5_findChain_2 20 rfl rfl)
theorem dX5_findChain_69 : decode cX5_findChain 69 = .ok (.invokevirtual 184, 3) := dk_182 0 184 (dk_at dksX5_findChain_2 21 rfl rfl)
theorem dX5_findChain_72 : decode cX5_findChain 72 = .ok (.iconst (-1), 1) := dk_2 (dk_at dksX5_findChain_3 0 rfl rfl)
theorem dX5_findChain_73 : decode cX5_findChain 73 = .ok (.if_icmp .eq 6, 3) := dk_159 0 6 (dk_at dksX5_findChain_3 1 rfl rfl)
theorem dX5_findChain_76 : decode cX5_findChain 76 = .ok (.goto 118, 3) := dk_167 0 118 (dk_at dksX5_findChain_3 4 rfl rfl)
theorem dX5_findChain_79 : decode cX5_findChain 79 = .ok (.iconst 0, 1) := dk_3 (dk_at dksX5_findChain_3 7 rfl rfl)
theorem dX5_findChain_80 : decode cX5_findChain 80 = .ok (.istore 6, 2) := dk_54 6 (dk_at dksX5_findChain_3 8 rfl rfl)
theorem dX5_findChain_82 : decode cX5_findChain 82 = .ok (.iload 6, 2) := dk_21 6 (dk_at dksX5_findChain_3 10 rfl rfl)
theorem dX5_findChain_84 : decode cX5_findChain 84 = .ok (.iconst 2, 1) := dk_5 (dk_at dksX5_findChain_3 12 rfl rfl)
theorem dX5_findChain_85 : decode cX5_findChain 85 = .ok (.if_icmp .ge 109, 3) := dk_162 0 109 (dk_at dksX5_findChain_3 13 rfl rfl)
theorem dX5_findChain_88 : decode cX5_findChain 88 = .ok (.aload_n 0, 1) := dk_42 (dk_at dksX5_findChain_3 16 rfl rfl)
theorem dX5_findChain_89 : decode cX5_findChain 89 = .ok (.iload 4, 2) := dk_21 4 (dk_at dksX5_findChain_3 17 rfl rfl)
theorem dX5_findChain_91 : decode cX5_findChain 91 = .ok (.iload 5, 2) := dk_21 5 (dk_at dksX5_findChain_3 19 rfl rfl)
theorem dX5_findChain_93 : decode cX5_findChain 93 = .ok (.iload_n 1, 1) := dk_27 (dk_at dksX5_findChain_3 21 rfl rfl)
theorem dX5_findChain_94 : decode cX5_findChain 94 = .ok (.iload_n 2, 1) := dk_28 (dk_at dksX5_findChain_3 22 rfl rfl)
theorem dX5_findChain_95 : decode cX5_findChain 95 = .ok (.iload 6, 2) := dk_21 6 (dk_at dksX5_findChain_4 0 rfl rfl)
theorem dX5_findChain_97 : decode cX5_findChain 97 = .ok (.ifCond .ne 7, 3) := dk_154 0 7 (dk_at dksX5_findChain_4 2 rfl rfl)
theorem dX5_findChain_100 : decode cX5_findChain 100 = .ok (.iconst 1, 1) := dk_4 (dk_at dksX5_findChain_4 5 rfl rfl)
theorem dX5_findChain_101 : decode cX5_findChain 101 = .ok (.goto 4, 3) := dk_167 0 4 (dk_at dksX5_findChain_4 6 rfl rfl)
theorem dX5_findChain_104 : decode cX5_findChain 104 = .ok (.iconst 0, 1) := dk_3 (dk_at dksX5_findChain_4 9 rfl rfl)
theorem dX5_findChain_105 : decode cX5_findChain 105 = .ok (.invokevirtual 198, 3) := dk_182 0 198 (dk_at dksX5_findChain_4 10 rfl rfl)
theorem dX5_findChain_108 : decode cX5_findChain 108 = .ok (.istore 7, 2) := dk_54 7 (dk_at dksX5_findChain_4 13 rfl rfl)
theorem dX5_findChain_110 : decode cX5_findChain 110 = .ok (.aload_n 0, 1) := dk_42 (dk_at dksX5_findChain_4 15 rfl rfl)
theorem dX5_findChain_111 : decode cX5_findChain 111 = .ok (.getfield 195, 3) := dk_180 0 195 (dk_at dksX5_findChain_4 16 rfl rfl)
theorem dX5_findChain_114 : decode cX5_findChain 114 = .ok (.ifCond .eq 12, 3) := dk_153 0 12 (dk_at dksX5_findChain_4 19 rfl rfl)
theorem dX5_findChain_117 : decode cX5_findChain 117 = .ok (.iload 7, 2) := dk_21 7 (dk_at dksX5_findChain_4 22 rfl rfl)
theorem dX5_findChain_119 : decode cX5_findChain 119 = .ok (.aload_n 0, 1) := dk_42 (dk_at dksX5_findChain_5 0 rfl rfl)
theorem dX5_findChain_120 : decode cX5_findChain 120 = .ok (.getfield 195, 3) := dk_180 0 195 (dk_at dksX5_findChain_5 1 rfl rfl)
theorem dX5_findChain_123 : decode cX5_findChain 123 = .ok (.if_icmp .ge 65, 3) := dk_162 0 65 (dk_at dksX5_findChain_5 4 rfl rfl)
theorem dX5_findChain_126 : decode cX5_findChain 126 = .ok (.aload_n 0, 1) := dk_42 (dk_at dksX5_findChain_5 7 rfl rfl)
theorem dX5_findChain_127 : decode cX5_findChain 127 = .ok (.iload 7, 2) := dk_21 7 (dk_at dksX5_findChain_5 8 rfl rfl)
theorem dX5_findChain_129 : decode cX5_findChain 129 = .ok (.putfield 195, 3) := dk_181 0 195 (dk_at dksX5_findChain_5 10 rfl rfl)
theorem dX5_findChain_132 : decode cX5_findChain 132 = .ok (.aload_n 0, 1) := dk_42 (dk_at dksX5_findChain_5 13 rfl rfl)
theorem dX5_findChain_133 : decode cX5_findChain 133 = .ok (.iload 4, 2) := dk_21 4 (dk_at dksX5_findChain_5 14 rfl rfl)
theorem dX5_findChain_135 : decode cX5_findChain 135 = .ok (.putfield 202, 3) := dk_181 0 202 (dk_at dksX5_findChain_5 16 rfl rfl)
theorem dX5_findChain_138 : decode cX5_findChain 138 = .ok (.aload_n 0, 1) := dk_42 (dk_at dksX5_findChain_5 19 rfl rfl)
theorem dX5_findChain_139 : decode cX5_findChain 139 = .ok (.iload 5, 2) := dk_21 5 (dk_at dksX5_findChain_5 20 rfl rfl)
theorem dX5_findChain_141 : decode cX5_findChain 141 = .ok (.putfield 205, 3) := dk_181 0 205 (dk_at dksX5_findChain_6 0 rfl rfl)
theorem dX5_findChain_144 : decode cX5_findChain 144 = .ok (.aload_n 0, 1) := dk_42 (dk_at dksX5_findChain_6 3 rfl rfl)
theorem dX5_findChain_145 : decode cX5_findChain 145 = .ok (.iload 6, 2) := dk_21 6 (dk_at dksX5_findChain_6 4 rfl rfl)
theorem dX5_findChain_147 : decode cX5_findChain 147 = .ok (.ifCond .ne 7, 3) := dk_154 0 7 (dk_at dksX5_findChain_6 6 rfl rfl)
theorem dX5_findChain_150 : decode cX5_findChain 150 = .ok (.iconst 1, 1) := dk_4 (dk_at dksX5_findChain_6 9 rfl rfl)
theorem dX5_findChain_151 : decode cX5_findChain 151 = .ok (.goto 4, 3) := dk_167 0 4 (dk_at dksX5_findChain_6 10 rfl rfl)
theorem dX5_findChain_154 : decode cX5_findChain 154 = .ok (.iconst 0, 1) := dk_3 (dk_at dksX5_findChain_6 13 rfl rfl)
theorem dX5_findChain_155 : decode cX5_findChain 155 = .ok (.putfield 208, 3) := dk_181 0 208 (dk_at dksX5_findChain_6 14 rfl rfl)
theorem dX5_findChain_158 : decode cX5_findChain 158 = .ok (.iconst 0, 1) := dk_3 (dk_at dksX5_findChain_6 17 rfl rfl)
theorem dX5_findChain_159 : decode cX5_findChain 159 = .ok (.istore 8, 2) := dk_54 8 (dk_at dksX5_findChain_6 18 rfl rfl)
theorem dX5_findChain_161 : decode cX5_findChain 161 = .ok (.iload 8, 2) := dk_21 8 (dk_at dksX5_findChain_6 20 rfl rfl)
theorem dX5_findChain_163 : decode cX5_findChain 163 = .ok (.iload 7, 2) := dk_21 7 (dk_at dksX5_findChain_6 22 rfl rfl)
theorem dX5_findChain_165 : decode cX5_findChain 165 = .ok (.if_icmp .ge 23, 3) := dk_162 0 23 (dk_at dksX5_findChain_7 0 rfl rfl)
theorem dX5_findChain_168 : decode cX5_findChain 168 = .ok (.aload_n 0, 1) := dk_42 (dk_at dksX5_findChain_7 3 rfl rfl)
theorem dX5_findChain_169 : decode cX5_findChain 169 = .ok (.getfield 91, 3) := dk_180 0 91 (dk_at dksX5_findChain_7 4 rfl rfl)
theorem dX5_findChain_172 : decode cX5_findChain 172 = .ok (.iload 8, 2) := dk_21 8 (dk_at dksX5_findChain_7 7 rfl rfl)
theorem dX5_findChain_174 : decode cX5_findChain 174 = .ok (.aload_n 0, 1) := dk_42 (dk_at dksX5_findChain_7 9 rfl rfl)
theorem dX5_findChain_175 : decode cX5_findChain 175 = .ok (.getfield 94, 3) := dk_180 0 94 (dk_at dksX5_findChain_7 10 rfl rfl)
theorem dX5_findChain_178 : decode cX5_findChain 178 = .ok (.iload 8, 2) := dk_21 8 (dk_at dksX5_findChain_7 13 rfl rfl)
theorem dX5_findChain_180 : decode cX5_findChain 180 = .ok (.iaload, 1) := dk_46 (dk_at dksX5_findChain_7 15 rfl rfl)
theorem dX5_findChain_181 : decode cX5_findChain 181 = .ok (.iastore, 1) := dk_79 (dk_at dksX5_findChain_7 16 rfl rfl)
theorem dX5_findChain_182 : decode cX5_findChain 182 = .ok (.iinc 8 1, 3) := dk_132 8 1 (dk_at dksX5_findChain_7 17 rfl rfl)
theorem dX5_findChain_185 : decode cX5_findChain 185 = .ok (.goto (-24), 3) := dk_167 255 232 (dk_at dksX5_findChain_7 20 rfl rfl)
theorem dX5_findChain_188 : decode cX5_findChain 188 = .ok (.iinc 6 1, 3) := dk_132 6 1 (dk_at dksX5_findChain_8 0 rfl rfl)
theorem dX5_findChain_191 : decode cX5_findChain 191 = .ok (.goto (-109), 3) := dk_167 255 147 (dk_at dksX5_findChain_8 3 rfl rfl)
theorem dX5_findChain_194 : decode cX5_findChain 194 = .ok (.iinc 5 1, 3) := dk_132 5 1 (dk_at dksX5_findChain_8 6 rfl rfl)
theorem dX5_findChain_197 : decode cX5_findChain 197 = .ok (.goto (-152), 3) := dk_167 255 104 (dk_at dksX5_findChain_8 9 rfl rfl)
theorem dX5_findChain_200 : decode cX5_findChain 200 = .ok (.iinc 4 1, 3) := dk_132 4 1 (dk_at dksX5_findChain_8 12 rfl rfl)
theorem dX5_findChain_203 : decode cX5_findChain 203 = .ok (.goto (-195), 3) := dk_167 255 61 (dk_at dksX5_findChain_8 15 rfl rfl)
theorem dX5_findChain_206 : decode cX5_findChain 206 = .ok (.aload_n 0, 1) := dk_42 (dk_at dksX5_findChain_8 18 rfl rfl)
theorem dX5_findChain_207 : decode cX5_findChain 207 = .ok (.getfield 195, 3) := dk_180 0 195 (dk_at dksX5_findChain_8 19 rfl rfl)
theorem dX5_findChain_210 : decode cX5_findChain 210 = .ok (.ifCond .le 7, 3) := dk_158 0 7 (dk_at dksX5_findChain_9 0 rfl rfl)
theorem dX5_findChain_213 : decode cX5_findChain 213 = .ok (.iconst 1, 1) := dk_4 (dk_at dksX5_findChain_9 3 rfl rfl)
theorem dX5_findChain_214 : decode cX5_findChain 214 = .ok (.goto 4, 3) := dk_167 0 4 (dk_at dksX5_findChain_9 4 rfl rfl)
theorem dX5_findChain_217 : decode cX5_findChain 217 = .ok (.iconst 0, 1) := dk_3 (dk_at dksX5_findChain_9 7 rfl rfl)
theorem dX5_findChain_218 : decode cX5_findChain 218 = .ok (.ireturn, 1) := dk_172 (dk_at dksX5_findChain_9 8 rfl rfl)
abbrev cX5_walk : ByteArray := prog_12_method_32_code
def yX5_walk : MethodName := ⟨RX5, "walk", "(IIIIZ)I"⟩
def dkwX5_walk_5 : List UInt8 := [167, 255, 178, 21, 6, 172]
abbrev dktX5_walk_5 : List UInt8 := dkwX5_walk_5 ++ []
def dkwX5_walk_4 : List UInt8 := [21, 7, 182, 0, 177, 21, 8, 182, 0, 184, 54, 7, 21, 8, 154, 0, 7, 4, 167, 0, 4, 3, 54, 8]
abbrev dktX5_walk_4 : List UInt8 := dkwX5_walk_4 ++ dktX5_walk_5
def dkwX5_walk_3 : List UInt8 := [167, 0, 4, 27, 54, 9, 42, 21, 9, 21, 8, 153, 0, 12, 42, 21, 7, 182, 0, 174, 167, 0, 9, 42]
abbrev dktX5_walk_3 : List UInt8 := dkwX5_walk_3 ++ dktX5_walk_4
def dkwX5_walk_2 : List UInt8 := [180, 0, 94, 21, 6, 21, 7, 79, 132, 6, 1, 42, 180, 0, 45, 21, 7, 46, 27, 160, 0, 7, 28]
abbrev dktX5_walk_2 : List UInt8 := dkwX5_walk_2 ++ dktX5_walk_3
def dkwX5_walk_1 : List UInt8 := [182, 0, 184, 54, 7, 21, 5, 154, 0, 7, 4, 167, 0, 4, 3, 54, 8, 21, 7, 2, 159, 0, 78, 42]
abbrev dktX5_walk_1 : List UInt8 := dkwX5_walk_1 ++ dktX5_walk_2
def dkwX5_walk_0 : List UInt8 := [3, 54, 6, 21, 5, 153, 0, 14, 42, 27, 21, 4, 4, 182, 0, 184, 167, 0, 10, 42, 28, 29, 3]
abbrev dktX5_walk_0 : List UInt8 := dkwX5_walk_0 ++ dktX5_walk_1
theorem dksX5_walk_0 : cX5_walk.data.toList.drop 0 = dktX5_walk_0 := by decide +kernel
theorem dksX5_walk_1 : cX5_walk.data.toList.drop 23 = dktX5_walk_1 := dk_seg dksX5_walk_0 23 rfl rfl
theorem dksX5_walk_2 : cX5_walk.data.toList.drop 47 = dktX5_walk_2 := dk_seg dksX5_walk_1 24 rfl rfl
theorem dksX5_walk_3 : cX5_walk.data.toList.drop 70 = dktX5_walk_3 := dk_seg dksX5_walk_2 23 rfl rfl
theorem dksX5_walk_4 : cX5_walk.data.toList.drop 94 = dktX5_walk_4 := dk_seg dksX5_walk_3 24 rfl rfl
theorem dksX5_walk_5 : cX5_walk.data.toList.drop 118 = dktX5_walk_5 := dk_seg dksX5_walk_4 24 rfl rfl
theorem dX5_walk_0 : decode cX5_walk 0 = .ok (.iconst 0, 1) := dk_3 (dk_at dksX5_walk_0 0 rfl rfl)
theorem dX5_walk_1 : decode cX5_walk 1 = .ok (.istore 6, 2) := dk_54 6 (dk_at dksX5_walk_0 1 rfl rfl)
theorem dX5_walk_3 : decode cX5_walk 3 = .ok (.iload 5, 2) := dk_21 5 (dk_at dksX5_walk_0 3 rfl rfl)
theorem dX5_walk_5 : decode cX5_walk 5 = .ok (.ifCond .eq 14, 3) := dk_153 0 14 (dk_at dksX5_walk_0 5 rfl rfl)
theorem dX5_walk_8 : decode cX5_walk 8 = .ok (.aload_n 0, 1) := dk_42 (dk_at dksX5_walk_0 8 rfl rfl)
theorem dX5_walk_9 : decode cX5_walk 9 = .ok (.iload_n 1, 1) := dk_27 (dk_at dksX5_walk_0 9 rfl rfl)
theorem dX5_walk_10 : decode cX5_walk 10 = .ok (.iload 4, 2) := dk_21 4 (dk_at dksX5_walk_0 10 rfl rfl)
theorem dX5_walk_12 : decode cX5_walk 12 = .ok (.iconst 1, 1) := dk_4 (dk_at dksX5_walk_0 12 rfl rfl)
theorem dX5_walk_13 : decode cX5_walk 13 = .ok (.invokevirtual 184, 3) := dk_182 0 184 (dk_at dksX5_walk_0 13 rfl rfl)
theorem dX5_walk_16 : decode cX5_walk 16 = .ok (.goto 10, 3) := dk_167 0 10 (dk_at dksX5_walk_0 16 rfl rfl)
theorem dX5_walk_19 : decode cX5_walk 19 = .ok (.aload_n 0, 1) := dk_42 (dk_at dksX5_walk_0 19 rfl rfl)
theorem dX5_walk_20 : decode cX5_walk 20 = .ok (.iload_n 2, 1) := dk_28 (dk_at dksX5_walk_0 20 rfl rfl)
theorem dX5_walk_21 : decode cX5_walk 21 = .ok (.iload_n 3, 1) := dk_29 (dk_at dksX5_walk_0 21 rfl rfl)
theorem dX5_walk_22 : decode cX5_walk 22 = .ok (.iconst 0, 1) := dk_3 (dk_at dksX5_walk_0 22 rfl rfl)
theorem dX5_walk_23 : decode cX5_walk 23 = .ok (.invokevirtual 184, 3) := dk_182 0 184 (dk_at dksX5_walk_1 0 rfl rfl)
theorem dX5_walk_26 : decode cX5_walk 26 = .ok (.istore 7, 2) := dk_54 7 (dk_at dksX5_walk_1 3 rfl rfl)
theorem dX5_walk_28 : decode cX5_walk 28 = .ok (.iload 5, 2) := dk_21 5 (dk_at dksX5_walk_1 5 rfl rfl)
theorem dX5_walk_30 : decode cX5_walk 30 = .ok (.ifCond .ne 7, 3) := dk_154 0 7 (dk_at dksX5_walk_1 7 rfl rfl)
theorem dX5_walk_33 : decode cX5_walk 33 = .ok (.iconst 1, 1) := dk_4 (dk_at dksX5_walk_1 10 rfl rfl)
theorem dX5_walk_34 : decode cX5_walk 34 = .ok (.goto 4, 3) := dk_167 0 4 (dk_at dksX5_walk_1 11 rfl rfl)
theorem dX5_walk_37 : decode cX5_walk 37 = .ok (.iconst 0, 1) := dk_3 (dk_at dksX5_walk_1 14 rfl rfl)
theorem dX5_walk_38 : decode cX5_walk 38 = .ok (.istore 8, 2) := dk_54 8 (dk_at dksX5_walk_1 15 rfl rfl)
theorem dX5_walk_40 : decode cX5_walk 40 = .ok (.iload 7, 2) := dk_21 7 (dk_at dksX5_walk_1 17 rfl rfl)
theorem dX5_walk_42 : decode cX5_walk 42 = .ok (.iconst (-1), 1) := dk_2 (dk_at dksX5_walk_1 19 rfl rfl)
theorem dX5_walk_43 : decode cX5_walk 43 = .ok (.if_icmp .eq 78, 3) := dk_159 0 78 (dk_at dksX5_walk_1 20 rfl rfl)
theorem dX5_walk_46 : decode cX5_walk 46 = .ok (.aload_n 0, 1) := dk_42 (dk_at dksX5_walk_1 23 rfl rfl)
theorem dX5_walk_47 : decode cX5_walk 47 = .ok (.getfield 94, 3) := dk_180 0 94 (dk_at dksX5_walk_2 0 rfl rfl)
theorem dX5_walk_50 : decode cX5_walk 50 = .ok (.iload 6, 2) := dk_21 6 (dk_at dksX5_walk_2 3 rfl rfl)
theorem dX5_walk_52 : decode cX5_walk 52 = .ok (.iload 7, 2) := dk_21 7 (dk_at dksX5_walk_2 5 rfl rfl)
theorem dX5_walk_54 : decode cX5_walk 54 = .ok (.iastore, 1) := dk_79 (dk_at dksX5_walk_2 7 rfl rfl)
theorem dX5_walk_55 : decode cX5_walk 55 = .ok (.iinc 6 1, 3) := dk_132 6 1 (dk_at dksX5_walk_2 8 rfl rfl)
theorem dX5_walk_58 : decode cX5_walk 58 = .ok (.aload_n 0, 1) := dk_42 (dk_at dksX5_walk_2 11 rfl rfl)
theorem dX5_walk_59 : decode cX5_walk 59 = .ok (.getfield 45, 3) := dk_180 0 45 (dk_at dksX5_walk_2 12 rfl rfl)
theorem dX5_walk_62 : decode cX5_walk 62 = .ok (.iload 7, 2) := dk_21 7 (dk_at dksX5_walk_2 15 rfl rfl)
theorem dX5_walk_64 : decode cX5_walk 64 = .ok (.iaload, 1) := dk_46 (dk_at dksX5_walk_2 17 rfl rfl)
theorem dX5_walk_65 : decode cX5_walk 65 = .ok (.iload_n 1, 1) := dk_27 (dk_at dksX5_walk_2 18 rfl rfl)
theorem dX5_walk_66 : decode cX5_walk 66 = .ok (.if_icmp .ne 7, 3) := dk_160 0 7 (dk_at dksX5_walk_2 19 rfl rfl)
theorem dX5_walk_69 : decode cX5_walk 69 = .ok (.iload_n 2, 1) := dk_28 (dk_at dksX5_walk_2 22 rfl rfl)
theorem dX5_walk_70 : decode cX5_walk 70 = .ok (.goto 4, 3) := dk_167 0 4 (dk_at dksX5_walk_3 0 rfl rfl)
theorem dX5_walk_73 : decode cX5_walk 73 = .ok (.iload_n 1, 1) := dk_27 (dk_at dksX5_walk_3 3 rfl rfl)
theorem dX5_walk_74 : decode cX5_walk 74 = .ok (.istore 9, 2) := dk_54 9 (dk_at dksX5_walk_3 4 rfl rfl)
theorem dX5_walk_76 : decode cX5_walk 76 = .ok (.aload_n 0, 1) := dk_42 (dk_at dksX5_walk_3 6 rfl rfl)
theorem dX5_walk_77 : decode cX5_walk 77 = .ok (.iload 9, 2) := dk_21 9 (dk_at dksX5_walk_3 7 rfl rfl)
theorem dX5_walk_79 : decode cX5_walk 79 = .ok (.iload 8, 2) := dk_21 8 (dk_at dksX5_walk_3 9 rfl rfl)
theorem dX5_walk_81 : decode cX5_walk 81 = .ok (.ifCond .eq 12, 3) := dk_153 0 12 (dk_at dksX5_walk_3 11 rfl rfl)
theorem dX5_walk_84 : decode cX5_walk 84 = .ok (.aload_n 0, 1) := dk_42 (dk_at dksX5_walk_3 14 rfl rfl)
theorem dX5_walk_85 : decode cX5_walk 85 = .ok (.iload 7, 2) := dk_21 7 (dk_at dksX5_walk_3 15 rfl rfl)
theorem dX5_walk_87 : decode cX5_walk 87 = .ok (.invokevirtual 174, 3) := dk_182 0 174 (dk_at dksX5_walk_3 17 rfl rfl)
theorem dX5_walk_90 : decode cX5_walk 90 = .ok (.goto 9, 3) := dk_167 0 9 (dk_at dksX5_walk_3 20 rfl rfl)
theorem dX5_walk_93 : decode cX5_walk 93 = .ok (.aload_n 0, 1) := dk_42 (dk_at dksX5_walk_3 23 rfl rfl)
theorem dX5_walk_94 : decode cX5_walk 94 = .ok (.iload 7, 2) := dk_21 7 (dk_at dksX5_walk_4 0 rfl rfl)
theorem dX5_walk_96 : decode cX5_walk 96 = .ok (.invokevirtual 177, 3) := dk_182 0 177 (dk_at dksX5_walk_4 2 rfl rfl)
theorem dX5_walk_99 : decode cX5_walk 99 = .ok (.iload 8, 2) := dk_21 8 (dk_at dksX5_walk_4 5 rfl rfl)
theorem dX5_walk_101 : decode cX5_walk 101 = .ok (.invokevirtual 184, 3) := dk_182 0 184 (dk_at dksX5_walk_4 7 rfl rfl)
theorem dX5_walk_104 : decode cX5_walk 104 = .ok (.istore 7, 2) := dk_54 7 (dk_at dksX5_walk_4 10 rfl rfl)
theorem dX5_walk_106 : decode cX5_walk 106 = .ok (.iload 8, 2) := dk_21 8 (dk_at dksX5_walk_4 12 rfl rfl)
theorem dX5_walk_108 : decode cX5_walk 108 = .ok (.ifCond .ne 7, 3) := dk_154 0 7 (dk_at dksX5_walk_4 14 rfl rfl)
theorem dX5_walk_111 : decode cX5_walk 111 = .ok (.iconst 1, 1) := dk_4 (dk_at dksX5_walk_4 17 rfl rfl)
theorem dX5_walk_112 : decode cX5_walk 112 = .ok (.goto 4, 3) := dk_167 0 4 (dk_at dksX5_walk_4 18 rfl rfl)
theorem dX5_walk_115 : decode cX5_walk 115 = .ok (.iconst 0, 1) := dk_3 (dk_at dksX5_walk_4 21 rfl rfl)
theorem dX5_walk_116 : decode cX5_walk 116 = .ok (.istore 8, 2) := dk_54 8 (dk_at dksX5_walk_4 22 rfl rfl)
theorem dX5_walk_118 : decode cX5_walk 118 = .ok (.goto (-78), 3) := dk_167 255 178 (dk_at dksX5_walk_5 0 rfl rfl)
theorem dX5_walk_121 : decode cX5_walk 121 = .ok (.iload 6, 2) := dk_21 6 (dk_at dksX5_walk_5 3 rfl rfl)
theorem dX5_walk_123 : decode cX5_walk 123 = .ok (.ireturn, 1) := dk_172 (dk_at dksX5_walk_5 5 rfl rfl)
abbrev cX5_begins : ByteArray := prog_12_method_36_code
def yX5_begins : MethodName := ⟨RX5, "begins", "(III)I"⟩
def dkwX5_begins_6 : List UInt8 := [172]
abbrev dktX5_begins_6 : List UInt8 := dkwX5_begins_6 ++ []
def dkwX5_begins_5 : List UInt8 := [180, 0, 132, 4, 96, 181, 0, 132, 42, 89, 180, 0, 129, 4, 96, 181, 0, 129, 42, 180, 0, 129, 4, 100]
abbrev dktX5_begins_5 : List UInt8 := dkwX5_begins_5 ++ dktX5_begins_6
def dkwX5_begins_4 : List UInt8 := [42, 180, 0, 126, 79, 42, 180, 0, 51, 21, 5, 29, 79, 42, 180, 0, 54, 21, 5, 3, 79, 42, 89]
abbrev dktX5_begins_4 : List UInt8 := dkwX5_begins_4 ++ dktX5_begins_5
def dkwX5_begins_3 : List UInt8 := [79, 42, 180, 0, 42, 21, 5, 28, 79, 42, 180, 0, 45, 21, 5, 21, 4, 79, 42, 180, 0, 48, 21, 5]
abbrev dktX5_begins_3 : List UInt8 := dkwX5_begins_3 ++ dktX5_begins_4
def dkwX5_begins_2 : List UInt8 := [42, 180, 0, 132, 54, 5, 42, 180, 0, 35, 21, 5, 42, 180, 0, 129, 79, 42, 180, 0, 39, 21, 5, 27]
abbrev dktX5_begins_2 : List UInt8 := dkwX5_begins_2 ++ dktX5_begins_3
def dkwX5_begins_1 : List UInt8 := [160, 0, 7, 4, 167, 0, 4, 3, 42, 180, 0, 26, 4, 182, 0, 220, 54, 4, 42, 21, 4, 181, 0, 32]
abbrev dktX5_begins_1 : List UInt8 := dkwX5_begins_1 ++ dktX5_begins_2
def dkwX5_begins_0 : List UInt8 := [42, 27, 42, 180, 0, 23, 108, 28, 42, 180, 0, 23, 108, 42, 180, 0, 123, 42, 180, 0, 29, 4]
abbrev dktX5_begins_0 : List UInt8 := dkwX5_begins_0 ++ dktX5_begins_1
theorem dksX5_begins_0 : cX5_begins.data.toList.drop 0 = dktX5_begins_0 := by decide +kernel
theorem dksX5_begins_1 : cX5_begins.data.toList.drop 22 = dktX5_begins_1 := dk_seg dksX5_begins_0 22 rfl rfl
theorem dksX5_begins_2 : cX5_begins.data.toList.drop 46 = dktX5_begins_2 := dk_seg dksX5_begins_1 24 rfl rfl
theorem dksX5_begins_3 : cX5_begins.data.toList.drop 70 = dktX5_begins_3 := dk_seg dksX5_begins_2 24 rfl rfl
theorem dksX5_begins_4 : cX5_begins.data.toList.drop 94 = dktX5_begins_4 := dk_seg dksX5_begins_3 24 rfl rfl
theorem dksX5_begins_5 : cX5_begins.data.toList.drop 117 = dktX5_begins_5 := dk_seg dksX5_begins_4 23 rfl rfl
theorem dksX5_begins_6 : cX5_begins.data.toList.drop 141 = dktX5_begins_6 := dk_seg dksX5_begins_5 24 rfl rfl
theorem dX5_begins_0 : decode cX5_begins 0 = .ok (.aload_n 0, 1) := dk_42 (dk_at dksX5_begins_0 0 rfl rfl)
theorem dX5_begins_1 : decode cX5_begins 1 = .ok (.iload_n 1, 1) := dk_27 (dk_at dksX5_begins_0 1 rfl rfl)
theorem dX5_begins_2 : decode cX5_begins 2 = .ok (.aload_n 0, 1) := dk_42 (dk_at dksX5_begins_0 2 rfl rfl)
theorem dX5_begins_3 : decode cX5_begins 3 = .ok (.getfield 23, 3) := dk_180 0 23 (dk_at dksX5_begins_0 3 rfl rfl)
theorem dX5_begins_6 : decode cX5_begins 6 = .ok (.idiv, 1) := dk_108 (dk_at dksX5_begins_0 6 rfl rfl)
theorem dX5_begins_7 : decode cX5_begins 7 = .ok (.iload_n 2, 1) := dk_28 (dk_at dksX5_begins_0 7 rfl rfl)
theorem dX5_begins_8 : decode cX5_begins 8 = .ok (.aload_n 0, 1) := dk_42 (dk_at dksX5_begins_0 8 rfl rfl)
theorem dX5_begins_9 : decode cX5_begins 9 = .ok (.getfield 23, 3) := dk_180 0 23 (dk_at dksX5_begins_0 9 rfl rfl)
theorem dX5_begins_12 : decode cX5_begins 12 = .ok (.idiv, 1) := dk_108 (dk_at dksX5_begins_0 12 rfl rfl)
theorem dX5_begins_13 : decode cX5_begins 13 = .ok (.aload_n 0, 1) := dk_42 (dk_at dksX5_begins_0 13 rfl rfl)
theorem dX5_begins_14 : decode cX5_begins 14 = .ok (.getfield 123, 3) := dk_180 0 123 (dk_at dksX5_begins_0 14 rfl rfl)
theorem dX5_begins_17 : decode cX5_begins 17 = .ok (.aload_n 0, 1) := dk_42 (dk_at dksX5_begins_0 17 rfl rfl)
theorem dX5_begins_18 : decode cX5_begins 18 = .ok (.getfield 29, 3) := dk_180 0 29 (dk_at dksX5_begins_0 18 rfl rfl)
theorem dX5_begins_21 : decode cX5_begins 21 = .ok (.iconst 1, 1) := dk_4 (dk_at dksX5_begins_0 21 rfl rfl)
theorem dX5_begins_22 : decode cX5_begins 22 = .ok (.if_icmp .ne 7, 3) := dk_160 0 7 (dk_at dksX5_begins_1 0 rfl rfl)
theorem dX5_begins_25 : decode cX5_begins 25 = .ok (.iconst 1, 1) := dk_4 (dk_at dksX5_begins_1 3 rfl rfl)
theorem dX5_begins_26 : decode cX5_begins 26 = .ok (.goto 4, 3) := dk_167 0 4 (dk_at dksX5_begins_1 4 rfl rfl)
theorem dX5_begins_29 : decode cX5_begins 29 = .ok (.iconst 0, 1) := dk_3 (dk_at dksX5_begins_1 7 rfl rfl)
theorem dX5_begins_30 : decode cX5_begins 30 = .ok (.aload_n 0, 1) := dk_42 (dk_at dksX5_begins_1 8 rfl rfl)
theorem dX5_begins_31 : decode cX5_begins 31 = .ok (.getfield 26, 3) := dk_180 0 26 (dk_at dksX5_begins_1 9 rfl rfl)
theorem dX5_begins_34 : decode cX5_begins 34 = .ok (.iconst 1, 1) := dk_4 (dk_at dksX5_begins_1 12 rfl rfl)
theorem dX5_begins_35 : decode cX5_begins 35 = .ok (.invokevirtual 220, 3) := dk_182 0 220 (dk_at dksX5_begins_1 13 rfl rfl)
theorem dX5_begins_38 : decode cX5_begins 38 = .ok (.istore 4, 2) := dk_54 4 (dk_at dksX5_begins_1 16 rfl rfl)
theorem dX5_begins_40 : decode cX5_begins 40 = .ok (.aload_n 0, 1) := dk_42 (dk_at dksX5_begins_1 18 rfl rfl)
theorem dX5_begins_41 : decode cX5_begins 41 = .ok (.iload 4, 2) := dk_21 4 (dk_at dksX5_begins_1 19 rfl rfl)
theorem dX5_begins_43 : decode cX5_begins 43 = .ok (.putfield 32, 3) := dk_181 0 32 (dk_at dksX5_begins_1 21 rfl rfl)
theorem dX5_begins_46 : decode cX5_begins 46 = .ok (.aload_n 0, 1) := dk_42 (dk_at dksX5_begins_2 0 rfl rfl)
theorem dX5_begins_47 : decode cX5_begins 47 = .ok (.getfield 132, 3) := dk_180 0 132 (dk_at dksX5_begins_2 1 rfl rfl)
theorem dX5_begins_50 : decode cX5_begins 50 = .ok (.istore 5, 2) := dk_54 5 (dk_at dksX5_begins_2 4 rfl rfl)
theorem dX5_begins_52 : decode cX5_begins 52 = .ok (.aload_n 0, 1) := dk_42 (dk_at dksX5_begins_2 6 rfl rfl)
theorem dX5_begins_53 : decode cX5_begins 53 = .ok (.getfield 35, 3) := dk_180 0 35 (dk_at dksX5_begins_2 7 rfl rfl)
theorem dX5_begins_56 : decode cX5_begins 56 = .ok (.iload 5, 2) := dk_21 5 (dk_at dksX5_begins_2 10 rfl rfl)
theorem dX5_begins_58 : decode cX5_begins 58 = .ok (.aload_n 0, 1) := dk_42 (dk_at dksX5_begins_2 12 rfl rfl)
theorem dX5_begins_59 : decode cX5_begins 59 = .ok (.getfield 129, 3) := dk_180 0 129 (dk_at dksX5_begins_2 13 rfl rfl)
theorem dX5_begins_62 : decode cX5_begins 62 = .ok (.iastore, 1) := dk_79 (dk_at dksX5_begins_2 16 rfl rfl)
theorem dX5_begins_63 : decode cX5_begins 63 = .ok (.aload_n 0, 1) := dk_42 (dk_at dksX5_begins_2 17 rfl rfl)
theorem dX5_begins_64 : decode cX5_begins 64 = .ok (.getfield 39, 3) := dk_180 0 39 (dk_at dksX5_begins_2 18 rfl rfl)
theorem dX5_begins_67 : decode cX5_begins 67 = .ok (.iload 5, 2) := dk_21 5 (dk_at dksX5_begins_2 21 rfl rfl)
theorem dX5_begins_69 : decode cX5_begins 69 = .ok (.iload_n 1, 1) := dk_27 (dk_at dksX5_begins_2 23 rfl rfl)
theorem dX5_begins_70 : decode cX5_begins 70 = .ok (.iastore, 1) := dk_79 (dk_at dksX5_begins_3 0 rfl rfl)
theorem dX5_begins_71 : decode cX5_begins 71 = .ok (.aload_n 0, 1) := dk_42 (dk_at dksX5_begins_3 1 rfl rfl)
theorem dX5_begins_72 : decode cX5_begins 72 = .ok (.getfield 42, 3) := dk_180 0 42 (dk_at dksX5_begins_3 2 rfl rfl)
theorem dX5_begins_75 : decode cX5_begins 75 = .ok (.iload 5, 2) := dk_21 5 (dk_at dksX5_begins_3 5 rfl rfl)
theorem dX5_begins_77 : decode cX5_begins 77 = .ok (.iload_n 2, 1) := dk_28 (dk_at dksX5_begins_3 7 rfl rfl)
theorem dX5_begins_78 : decode cX5_begins 78 = .ok (.iastore, 1) := dk_79 (dk_at dksX5_begins_3 8 rfl rfl)
theorem dX5_begins_79 : decode cX5_begins 79 = .ok (.aload_n 0, 1) := dk_42 (dk_at dksX5_begins_3 9 rfl rfl)
theorem dX5_begins_80 : decode cX5_begins 80 = .ok (.getfield 45, 3) := dk_180 0 45 (dk_at dksX5_begins_3 10 rfl rfl)
theorem dX5_begins_83 : decode cX5_begins 83 = .ok (.iload 5, 2) := dk_21 5 (dk_at dksX5_begins_3 13 rfl rfl)
theorem dX5_begins_85 : decode cX5_begins 85 = .ok (.iload 4, 2) := dk_21 4 (dk_at dksX5_begins_3 15 rfl rfl)
theorem dX5_begins_87 : decode cX5_begins 87 = .ok (.iastore, 1) := dk_79 (dk_at dksX5_begins_3 17 rfl rfl)
theorem dX5_begins_88 : decode cX5_begins 88 = .ok (.aload_n 0, 1) := dk_42 (dk_at dksX5_begins_3 18 rfl rfl)
theorem dX5_begins_89 : decode cX5_begins 89 = .ok (.getfield 48, 3) := dk_180 0 48 (dk_at dksX5_begins_3 19 rfl rfl)
theorem dX5_begins_92 : decode cX5_begins 92 = .ok (.iload 5, 2) := dk_21 5 (dk_at dksX5_begins_3 22 rfl rfl)
theorem dX5_begins_94 : decode cX5_begins 94 = .ok (.aload_n 0, 1) := dk_42 (dk_at dksX5_begins_4 0 rfl rfl)
theorem dX5_begins_95 : decode cX5_begins 95 = .ok (.getfield 126, 3) := dk_180 0 126 (dk_at dksX5_begins_4 1 rfl rfl)
theorem dX5_begins_98 : decode cX5_begins 98 = .ok (.iastore, 1) := dk_79 (dk_at dksX5_begins_4 4 rfl rfl)
theorem dX5_begins_99 : decode cX5_begins 99 = .ok (.aload_n 0, 1) := dk_42 (dk_at dksX5_begins_4 5 rfl rfl)
theorem dX5_begins_100 : decode cX5_begins 100 = .ok (.getfield 51, 3) := dk_180 0 51 (dk_at dksX5_begins_4 6 rfl rfl)
theorem dX5_begins_103 : decode cX5_begins 103 = .ok (.iload 5, 2) := dk_21 5 (dk_at dksX5_begins_4 9 rfl rfl)
theorem dX5_begins_105 : decode cX5_begins 105 = .ok (.iload_n 3, 1) := dk_29 (dk_at dksX5_begins_4 11 rfl rfl)
theorem dX5_begins_106 : decode cX5_begins 106 = .ok (.iastore, 1) := dk_79 (dk_at dksX5_begins_4 12 rfl rfl)
theorem dX5_begins_107 : decode cX5_begins 107 = .ok (.aload_n 0, 1) := dk_42 (dk_at dksX5_begins_4 13 rfl rfl)
theorem dX5_begins_108 : decode cX5_begins 108 = .ok (.getfield 54, 3) := dk_180 0 54 (dk_at dksX5_begins_4 14 rfl rfl)
theorem dX5_begins_111 : decode cX5_begins 111 = .ok (.iload 5, 2) := dk_21 5 (dk_at dksX5_begins_4 17 rfl rfl)
theorem dX5_begins_113 : decode cX5_begins 113 = .ok (.iconst 0, 1) := dk_3 (dk_at dksX5_begins_4 19 rfl rfl)
theorem dX5_begins_114 : decode cX5_begins 114 = .ok (.iastore, 1) := dk_79 (dk_at dksX5_begins_4 20 rfl rfl)
theorem dX5_begins_115 : decode cX5_begins 115 = .ok (.aload_n 0, 1) := dk_42 (dk_at dksX5_begins_4 21 rfl rfl)
theorem dX5_begins_116 : decode cX5_begins 116 = .ok (.dup, 1) := dk_89 (dk_at dksX5_begins_4 22 rfl rfl)
theorem dX5_begins_117 : decode cX5_begins 117 = .ok (.getfield 132, 3) := dk_180 0 132 (dk_at dksX5_begins_5 0 rfl rfl)
theorem dX5_begins_120 : decode cX5_begins 120 = .ok (.iconst 1, 1) := dk_4 (dk_at dksX5_begins_5 3 rfl rfl)
theorem dX5_begins_121 : decode cX5_begins 121 = .ok (.iadd, 1) := dk_96 (dk_at dksX5_begins_5 4 rfl rfl)
theorem dX5_begins_122 : decode cX5_begins 122 = .ok (.putfield 132, 3) := dk_181 0 132 (dk_at dksX5_begins_5 5 rfl rfl)
theorem dX5_begins_125 : decode cX5_begins 125 = .ok (.aload_n 0, 1) := dk_42 (dk_at dksX5_begins_5 8 rfl rfl)
theorem dX5_begins_126 : decode cX5_begins 126 = .ok (.dup, 1) := dk_89 (dk_at dksX5_begins_5 9 rfl rfl)
theorem dX5_begins_127 : decode cX5_begins 127 = .ok (.getfield 129, 3) := dk_180 0 129 (dk_at dksX5_begins_5 10 rfl rfl)
theorem dX5_begins_130 : decode cX5_begins 130 = .ok (.iconst 1, 1) := dk_4 (dk_at dksX5_begins_5 13 rfl rfl)
theorem dX5_begins_131 : decode cX5_begins 131 = .ok (.iadd, 1) := dk_96 (dk_at dksX5_begins_5 14 rfl rfl)
theorem dX5_begins_132 : decode cX5_begins 132 = .ok (.putfield 129, 3) := dk_181 0 129 (dk_at dksX5_begins_5 15 rfl rfl)
theorem dX5_begins_135 : decode cX5_begins 135 = .ok (.aload_n 0, 1) := dk_42 (dk_at dksX5_begins_5 18 rfl rfl)
theorem dX5_begins_136 : decode cX5_begins 136 = .ok (.getfield 129, 3) := dk_180 0 129 (dk_at dksX5_begins_5 19 rfl rfl)
theorem dX5_begins_139 : decode cX5_begins 139 = .ok (.iconst 1, 1) := dk_4 (dk_at dksX5_begins_5 22 rfl rfl)
theorem dX5_begins_140 : decode cX5_begins 140 = .ok (.isub, 1) := dk_100 (dk_at dksX5_begins_5 23 rfl rfl)
theorem dX5_begins_141 : decode cX5_begins 141 = .ok (.ireturn, 1) := dk_172 (dk_at dksX5_begins_6 0 rfl rfl)
abbrev cX5_route : ByteArray := prog_12_method_34_code
def yX5_route : MethodName := ⟨RX5, "route", "(IIIZIZ)I"⟩
def dkwX5_route_7 : List UInt8 := [180, 0, 208, 153, 0, 10, 42, 180, 0, 202, 167, 0, 7, 42, 180, 0, 205, 172]
abbrev dktX5_route_7 : List UInt8 := dkwX5_route_7 ++ []
def dkwX5_route_6 : List UInt8 := [180, 0, 81, 16, 9, 92, 46, 21, 6, 153, 0, 10, 42, 180, 0, 195, 167, 0, 4, 3, 96, 79, 42]
abbrev dktX5_route_6 : List UInt8 := dkwX5_route_6 ++ dktX5_route_7
def dkwX5_route_5 : List UInt8 := [167, 255, 177, 42, 180, 0, 81, 16, 8, 92, 46, 21, 6, 153, 0, 7, 4, 167, 0, 4, 3, 96, 79, 42]
abbrev dktX5_route_5 : List UInt8 := dkwX5_route_5 ++ dktX5_route_6
def dkwX5_route_4 : List UInt8 := [180, 0, 91, 21, 8, 46, 92, 46, 21, 6, 153, 0, 7, 4, 167, 0, 4, 3, 96, 79, 132, 8, 1]
abbrev dktX5_route_4 : List UInt8 := dkwX5_route_4 ++ dktX5_route_5
def dkwX5_route_3 : List UInt8 := [180, 0, 202, 160, 0, 10, 42, 180, 0, 205, 167, 0, 7, 42, 180, 0, 202, 79, 42, 180, 0, 54, 42]
abbrev dktX5_route_3 : List UInt8 := dkwX5_route_3 ++ dktX5_route_4
def dkwX5_route_2 : List UInt8 := [42, 180, 0, 45, 42, 180, 0, 91, 21, 8, 46, 42, 180, 0, 45, 42, 180, 0, 91, 21, 8, 46, 46, 42]
abbrev dktX5_route_2 : List UInt8 := dkwX5_route_2 ++ dktX5_route_3
def dkwX5_route_1 : List UInt8 := [28, 21, 5, 182, 0, 216, 154, 0, 6, 21, 7, 172, 3, 54, 8, 21, 8, 42, 180, 0, 195, 162, 0, 76]
abbrev dktX5_route_1 : List UInt8 := dkwX5_route_1 ++ dktX5_route_2
def dkwX5_route_0 : List UInt8 := [42, 27, 28, 29, 21, 5, 182, 0, 212, 54, 7, 21, 7, 2, 160, 0, 19, 21, 4, 153, 0, 14, 42, 27]
abbrev dktX5_route_0 : List UInt8 := dkwX5_route_0 ++ dktX5_route_1
theorem dksX5_route_0 : cX5_route.data.toList.drop 0 = dktX5_route_0 := by decide +kernel
theorem dksX5_route_1 : cX5_route.data.toList.drop 24 = dktX5_route_1 := dk_seg dksX5_route_0 24 rfl rfl
theorem dksX5_route_2 : cX5_route.data.toList.drop 48 = dktX5_route_2 := dk_seg dksX5_route_1 24 rfl rfl
theorem dksX5_route_3 : cX5_route.data.toList.drop 72 = dktX5_route_3 := dk_seg dksX5_route_2 24 rfl rfl
theorem dksX5_route_4 : cX5_route.data.toList.drop 95 = dktX5_route_4 := dk_seg dksX5_route_3 23 rfl rfl
theorem dksX5_route_5 : cX5_route.data.toList.drop 118 = dktX5_route_5 := dk_seg dksX5_route_4 23 rfl rfl
theorem dksX5_route_6 : cX5_route.data.toList.drop 142 = dktX5_route_6 := dk_seg dksX5_route_5 24 rfl rfl
theorem dksX5_route_7 : cX5_route.data.toList.drop 165 = dktX5_route_7 := dk_seg dksX5_route_6 23 rfl rfl
theorem dX5_route_0 : decode cX5_route 0 = .ok (.aload_n 0, 1) := dk_42 (dk_at dksX5_route_0 0 rfl rfl)
theorem dX5_route_1 : decode cX5_route 1 = .ok (.iload_n 1, 1) := dk_27 (dk_at dksX5_route_0 1 rfl rfl)
theorem dX5_route_2 : decode cX5_route 2 = .ok (.iload_n 2, 1) := dk_28 (dk_at dksX5_route_0 2 rfl rfl)
theorem dX5_route_3 : decode cX5_route 3 = .ok (.iload_n 3, 1) := dk_29 (dk_at dksX5_route_0 3 rfl rfl)
theorem dX5_route_4 : decode cX5_route 4 = .ok (.iload 5, 2) := dk_21 5 (dk_at dksX5_route_0 4 rfl rfl)
theorem dX5_route_6 : decode cX5_route 6 = .ok (.invokevirtual 212, 3) := dk_182 0 212 (dk_at dksX5_route_0 6 rfl rfl)
theorem dX5_route_9 : decode cX5_route 9 = .ok (.istore 7, 2) := dk_54 7 (dk_at dksX5_route_0 9 rfl rfl)
theorem dX5_route_11 : decode cX5_route 11 = .ok (.iload 7, 2) := dk_21 7 (dk_at dksX5_route_0 11 rfl rfl)
theorem dX5_route_13 : decode cX5_route 13 = .ok (.iconst (-1), 1) := dk_2 (dk_at dksX5_route_0 13 rfl rfl)
theorem dX5_route_14 : decode cX5_route 14 = .ok (.if_icmp .ne 19, 3) := dk_160 0 19 (dk_at dksX5_route_0 14 rfl rfl)
theorem dX5_route_17 : decode cX5_route 17 = .ok (.iload 4, 2) := dk_21 4 (dk_at dksX5_route_0 17 rfl rfl)
theorem dX5_route_19 : decode cX5_route 19 = .ok (.ifCond .eq 14, 3) := dk_153 0 14 (dk_at dksX5_route_0 19 rfl rfl)
theorem dX5_route_22 : decode cX5_route 22 = .ok (.aload_n 0, 1) := dk_42 (dk_at dksX5_route_0 22 rfl rfl)
theorem dX5_route_23 : decode cX5_route 23 = .ok (.iload_n 1, 1) := dk_27 (dk_at dksX5_route_0 23 rfl rfl)
theorem dX5_route_24 : decode cX5_route 24 = .ok (.iload_n 2, 1) := dk_28 (dk_at dksX5_route_1 0 rfl rfl)
theorem dX5_route_25 : decode cX5_route 25 = .ok (.iload 5, 2) := dk_21 5 (dk_at dksX5_route_1 1 rfl rfl)
theorem dX5_route_27 : decode cX5_route 27 = .ok (.invokevirtual 216, 3) := dk_182 0 216 (dk_at dksX5_route_1 3 rfl rfl)
theorem dX5_route_30 : decode cX5_route 30 = .ok (.ifCond .ne 6, 3) := dk_154 0 6 (dk_at dksX5_route_1 6 rfl rfl)
theorem dX5_route_33 : decode cX5_route 33 = .ok (.iload 7, 2) := dk_21 7 (dk_at dksX5_route_1 9 rfl rfl)
theorem dX5_route_35 : decode cX5_route 35 = .ok (.ireturn, 1) := dk_172 (dk_at dksX5_route_1 11 rfl rfl)
theorem dX5_route_36 : decode cX5_route 36 = .ok (.iconst 0, 1) := dk_3 (dk_at dksX5_route_1 12 rfl rfl)
theorem dX5_route_37 : decode cX5_route 37 = .ok (.istore 8, 2) := dk_54 8 (dk_at dksX5_route_1 13 rfl rfl)
theorem dX5_route_39 : decode cX5_route 39 = .ok (.iload 8, 2) := dk_21 8 (dk_at dksX5_route_1 15 rfl rfl)
theorem dX5_route_41 : decode cX5_route 41 = .ok (.aload_n 0, 1) := dk_42 (dk_at dksX5_route_1 17 rfl rfl)
theorem dX5_route_42 : decode cX5_route 42 = .ok (.getfield 195, 3) := dk_180 0 195 (dk_at dksX5_route_1 18 rfl rfl)
theorem dX5_route_45 : decode cX5_route 45 = .ok (.if_icmp .ge 76, 3) := dk_162 0 76 (dk_at dksX5_route_1 21 rfl rfl)
theorem dX5_route_48 : decode cX5_route 48 = .ok (.aload_n 0, 1) := dk_42 (dk_at dksX5_route_2 0 rfl rfl)
theorem dX5_route_49 : decode cX5_route 49 = .ok (.getfield 45, 3) := dk_180 0 45 (dk_at dksX5_route_2 1 rfl rfl)
theorem dX5_route_52 : decode cX5_route 52 = .ok (.aload_n 0, 1) := dk_42 (dk_at dksX5_route_2 4 rfl rfl)
theorem dX5_route_53 : decode cX5_route 53 = .ok (.getfield 91, 3) := dk_180 0 91 (dk_at dksX5_route_2 5 rfl rfl)
theorem dX5_route_56 : decode cX5_route 56 = .ok (.iload 8, 2) := dk_21 8 (dk_at dksX5_route_2 8 rfl rfl)
theorem dX5_route_58 : decode cX5_route 58 = .ok (.iaload, 1) := dk_46 (dk_at dksX5_route_2 10 rfl rfl)
theorem dX5_route_59 : decode cX5_route 59 = .ok (.aload_n 0, 1) := dk_42 (dk_at dksX5_route_2 11 rfl rfl)
theorem dX5_route_60 : decode cX5_route 60 = .ok (.getfield 45, 3) := dk_180 0 45 (dk_at dksX5_route_2 12 rfl rfl)
theorem dX5_route_63 : decode cX5_route 63 = .ok (.aload_n 0, 1) := dk_42 (dk_at dksX5_route_2 15 rfl rfl)
theorem dX5_route_64 : decode cX5_route 64 = .ok (.getfield 91, 3) := dk_180 0 91 (dk_at dksX5_route_2 16 rfl rfl)
theorem dX5_route_67 : decode cX5_route 67 = .ok (.iload 8, 2) := dk_21 8 (dk_at dksX5_route_2 19 rfl rfl)
theorem dX5_route_69 : decode cX5_route 69 = .ok (.iaload, 1) := dk_46 (dk_at dksX5_route_2 21 rfl rfl)
theorem dX5_route_70 : decode cX5_route 70 = .ok (.iaload, 1) := dk_46 (dk_at dksX5_route_2 22 rfl rfl)
theorem dX5_route_71 : decode cX5_route 71 = .ok (.aload_n 0, 1) := dk_42 (dk_at dksX5_route_2 23 rfl rfl)
theorem dX5_route_72 : decode cX5_route 72 = .ok (.getfield 202, 3) := dk_180 0 202 (dk_at dksX5_route_3 0 rfl rfl)
theorem dX5_route_75 : decode cX5_route 75 = .ok (.if_icmp .ne 10, 3) := dk_160 0 10 (dk_at dksX5_route_3 3 rfl rfl)
theorem dX5_route_78 : decode cX5_route 78 = .ok (.aload_n 0, 1) := dk_42 (dk_at dksX5_route_3 6 rfl rfl)
theorem dX5_route_79 : decode cX5_route 79 = .ok (.getfield 205, 3) := dk_180 0 205 (dk_at dksX5_route_3 7 rfl rfl)
theorem dX5_route_82 : decode cX5_route 82 = .ok (.goto 7, 3) := dk_167 0 7 (dk_at dksX5_route_3 10 rfl rfl)
theorem dX5_route_85 : decode cX5_route 85 = .ok (.aload_n 0, 1) := dk_42 (dk_at dksX5_route_3 13 rfl rfl)
theorem dX5_route_86 : decode cX5_route 86 = .ok (.getfield 202, 3) := dk_180 0 202 (dk_at dksX5_route_3 14 rfl rfl)
theorem dX5_route_89 : decode cX5_route 89 = .ok (.iastore, 1) := dk_79 (dk_at dksX5_route_3 17 rfl rfl)
theorem dX5_route_90 : decode cX5_route 90 = .ok (.aload_n 0, 1) := dk_42 (dk_at dksX5_route_3 18 rfl rfl)
theorem dX5_route_91 : decode cX5_route 91 = .ok (.getfield 54, 3) := dk_180 0 54 (dk_at dksX5_route_3 19 rfl rfl)
theorem dX5_route_94 : decode cX5_route 94 = .ok (.aload_n 0, 1) := dk_42 (dk_at dksX5_route_3 22 rfl rfl)
theorem dX5_route_95 : decode cX5_route 95 = .ok (.getfield 91, 3) := dk_180 0 91 (dk_at dksX5_route_4 0 rfl rfl)
theorem dX5_route_98 : decode cX5_route 98 = .ok (.iload 8, 2) := dk_21 8 (dk_at dksX5_route_4 3 rfl rfl)
theorem dX5_route_100 : decode cX5_route 100 = .ok (.iaload, 1) := dk_46 (dk_at dksX5_route_4 5 rfl rfl)
theorem dX5_route_101 : decode cX5_route 101 = .ok (.dup2, 1) := dk_92 (dk_at dksX5_route_4 6 rfl rfl)
theorem dX5_route_102 : decode cX5_route 102 = .ok (.iaload, 1) := dk_46 (dk_at dksX5_route_4 7 rfl rfl)
theorem dX5_route_103 : decode cX5_route 103 = .ok (.iload 6, 2) := dk_21 6 (dk_at dksX5_route_4 8 rfl rfl)
theorem dX5_route_105 : decode cX5_route 105 = .ok (.ifCond .eq 7, 3) := dk_153 0 7 (dk_at dksX5_route_4 10 rfl rfl)
theorem dX5_route_108 : decode cX5_route 108 = .ok (.iconst 1, 1) := dk_4 (dk_at dksX5_route_4 13 rfl rfl)
theorem dX5_route_109 : decode cX5_route 109 = .ok (.goto 4, 3) := dk_167 0 4 (dk_at dksX5_route_4 14 rfl rfl)
theorem dX5_route_112 : decode cX5_route 112 = .ok (.iconst 0, 1) := dk_3 (dk_at dksX5_route_4 17 rfl rfl)
theorem dX5_route_113 : decode cX5_route 113 = .ok (.iadd, 1) := dk_96 (dk_at dksX5_route_4 18 rfl rfl)
theorem dX5_route_114 : decode cX5_route 114 = .ok (.iastore, 1) := dk_79 (dk_at dksX5_route_4 19 rfl rfl)
theorem dX5_route_115 : decode cX5_route 115 = .ok (.iinc 8 1, 3) := dk_132 8 1 (dk_at dksX5_route_4 20 rfl rfl)
theorem dX5_route_118 : decode cX5_route 118 = .ok (.goto (-79), 3) := dk_167 255 177 (dk_at dksX5_route_5 0 rfl rfl)
theorem dX5_route_121 : decode cX5_route 121 = .ok (.aload_n 0, 1) := dk_42 (dk_at dksX5_route_5 3 rfl rfl)
theorem dX5_route_122 : decode cX5_route 122 = .ok (.getfield 81, 3) := dk_180 0 81 (dk_at dksX5_route_5 4 rfl rfl)
theorem dX5_route_125 : decode cX5_route 125 = .ok (.bipush 8, 2) := dk_16 8 (dk_at dksX5_route_5 7 rfl rfl)
theorem dX5_route_127 : decode cX5_route 127 = .ok (.dup2, 1) := dk_92 (dk_at dksX5_route_5 9 rfl rfl)
theorem dX5_route_128 : decode cX5_route 128 = .ok (.iaload, 1) := dk_46 (dk_at dksX5_route_5 10 rfl rfl)
theorem dX5_route_129 : decode cX5_route 129 = .ok (.iload 6, 2) := dk_21 6 (dk_at dksX5_route_5 11 rfl rfl)
theorem dX5_route_131 : decode cX5_route 131 = .ok (.ifCond .eq 7, 3) := dk_153 0 7 (dk_at dksX5_route_5 13 rfl rfl)
theorem dX5_route_134 : decode cX5_route 134 = .ok (.iconst 1, 1) := dk_4 (dk_at dksX5_route_5 16 rfl rfl)
theorem dX5_route_135 : decode cX5_route 135 = .ok (.goto 4, 3) := dk_167 0 4 (dk_at dksX5_route_5 17 rfl rfl)
theorem dX5_route_138 : decode cX5_route 138 = .ok (.iconst 0, 1) := dk_3 (dk_at dksX5_route_5 20 rfl rfl)
theorem dX5_route_139 : decode cX5_route 139 = .ok (.iadd, 1) := dk_96 (dk_at dksX5_route_5 21 rfl rfl)
theorem dX5_route_140 : decode cX5_route 140 = .ok (.iastore, 1) := dk_79 (dk_at dksX5_route_5 22 rfl rfl)
theorem dX5_route_141 : decode cX5_route 141 = .ok (.aload_n 0, 1) := dk_42 (dk_at dksX5_route_5 23 rfl rfl)
theorem dX5_route_142 : decode cX5_route 142 = .ok (.getfield 81, 3) := dk_180 0 81 (dk_at dksX5_route_6 0 rfl rfl)
theorem dX5_route_145 : decode cX5_route 145 = .ok (.bipush 9, 2) := dk_16 9 (dk_at dksX5_route_6 3 rfl rfl)
theorem dX5_route_147 : decode cX5_route 147 = .ok (.dup2, 1) := dk_92 (dk_at dksX5_route_6 5 rfl rfl)
theorem dX5_route_148 : decode cX5_route 148 = .ok (.iaload, 1) := dk_46 (dk_at dksX5_route_6 6 rfl rfl)
theorem dX5_route_149 : decode cX5_route 149 = .ok (.iload 6, 2) := dk_21 6 (dk_at dksX5_route_6 7 rfl rfl)
theorem dX5_route_151 : decode cX5_route 151 = .ok (.ifCond .eq 10, 3) := dk_153 0 10 (dk_at dksX5_route_6 9 rfl rfl)
theorem dX5_route_154 : decode cX5_route 154 = .ok (.aload_n 0, 1) := dk_42 (dk_at dksX5_route_6 12 rfl rfl)
theorem dX5_route_155 : decode cX5_route 155 = .ok (.getfield 195, 3) := dk_180 0 195 (dk_at dksX5_route_6 13 rfl rfl)
theorem dX5_route_158 : decode cX5_route 158 = .ok (.goto 4, 3) := dk_167 0 4 (dk_at dksX5_route_6 16 rfl rfl)
theorem dX5_route_161 : decode cX5_route 161 = .ok (.iconst 0, 1) := dk_3 (dk_at dksX5_route_6 19 rfl rfl)
theorem dX5_route_162 : decode cX5_route 162 = .ok (.iadd, 1) := dk_96 (dk_at dksX5_route_6 20 rfl rfl)
theorem dX5_route_163 : decode cX5_route 163 = .ok (.iastore, 1) := dk_79 (dk_at dksX5_route_6 21 rfl rfl)
theorem dX5_route_164 : decode cX5_route 164 = .ok (.aload_n 0, 1) := dk_42 (dk_at dksX5_route_6 22 rfl rfl)
theorem dX5_route_165 : decode cX5_route 165 = .ok (.getfield 208, 3) := dk_180 0 208 (dk_at dksX5_route_7 0 rfl rfl)
theorem dX5_route_168 : decode cX5_route 168 = .ok (.ifCond .eq 10, 3) := dk_153 0 10 (dk_at dksX5_route_7 3 rfl rfl)
theorem dX5_route_171 : decode cX5_route 171 = .ok (.aload_n 0, 1) := dk_42 (dk_at dksX5_route_7 6 rfl rfl)
theorem dX5_route_172 : decode cX5_route 172 = .ok (.getfield 202, 3) := dk_180 0 202 (dk_at dksX5_route_7 7 rfl rfl)
theorem dX5_route_175 : decode cX5_route 175 = .ok (.goto 7, 3) := dk_167 0 7 (dk_at dksX5_route_7 10 rfl rfl)
theorem dX5_route_178 : decode cX5_route 178 = .ok (.aload_n 0, 1) := dk_42 (dk_at dksX5_route_7 13 rfl rfl)
theorem dX5_route_179 : decode cX5_route 179 = .ok (.getfield 205, 3) := dk_180 0 205 (dk_at dksX5_route_7 14 rfl rfl)
theorem dX5_route_182 : decode cX5_route 182 = .ok (.ireturn, 1) := dk_172 (dk_at dksX5_route_7 17 rfl rfl)
abbrev cX5_refused : ByteArray := prog_12_method_39_code
def yX5_refused : MethodName := ⟨RX5, "refused", "(I)I"⟩
def dkwX5_refused_0 : List UInt8 := [42, 180, 0, 81, 27, 92, 46, 4, 96, 79, 16, 246, 27, 100, 172]
abbrev dktX5_refused_0 : List UInt8 := dkwX5_refused_0 ++ []
theorem dksX5_refused_0 : cX5_refused.data.toList.drop 0 = dktX5_refused_0 := by decide +kernel
theorem dX5_refused_0 : decode cX5_refused 0 = .ok (.aload_n 0, 1) := dk_42 (dk_at dksX5_refused_0 0 rfl rfl)
theorem dX5_refused_1 : decode cX5_refused 1 = .ok (.getfield 81, 3) := dk_180 0 81 (dk_at dksX5_refused_0 1 rfl rfl)
theorem dX5_refused_4 : decode cX5_refused 4 = .ok (.iload_n 1, 1) := dk_27 (dk_at dksX5_refused_0 4 rfl rfl)
theorem dX5_refused_5 : decode cX5_refused 5 = .ok (.dup2, 1) := dk_92 (dk_at dksX5_refused_0 5 rfl rfl)
theorem dX5_refused_6 : decode cX5_refused 6 = .ok (.iaload, 1) := dk_46 (dk_at dksX5_refused_0 6 rfl rfl)
theorem dX5_refused_7 : decode cX5_refused 7 = .ok (.iconst 1, 1) := dk_4 (dk_at dksX5_refused_0 7 rfl rfl)
theorem dX5_refused_8 : decode cX5_refused 8 = .ok (.iadd, 1) := dk_96 (dk_at dksX5_refused_0 8 rfl rfl)
theorem dX5_refused_9 : decode cX5_refused 9 = .ok (.iastore, 1) := dk_79 (dk_at dksX5_refused_0 9 rfl rfl)
theorem dX5_refused_10 : decode cX5_refused 10 = .ok (.bipush (-10), 2) := dk_16 246 (dk_at dksX5_refused_0 10 rfl rfl)
theorem dX5_refused_12 : decode cX5_refused 12 = .ok (.iload_n 1, 1) := dk_27 (dk_at dksX5_refused_0 12 rfl rfl)
theorem dX5_refused_13 : decode cX5_refused 13 = .ok (.isub, 1) := dk_100 (dk_at dksX5_refused_0 13 rfl rfl)
theorem dX5_refused_14 : decode cX5_refused 14 = .ok (.ireturn, 1) := dk_172 (dk_at dksX5_refused_0 14 rfl rfl)
abbrev cX5_readsDial : ByteArray := prog_12_method_72_code
def yX5_readsDial : MethodName := ⟨RX5, "readsDial", "()Z"⟩
def dkwX5_readsDial_3 : List UInt8 := [180, 1, 38, 182, 1, 142, 87, 4, 172]
abbrev dktX5_readsDial_3 : List UInt8 := dkwX5_readsDial_3 ++ []
def dkwX5_readsDial_2 : List UInt8 := [2, 160, 0, 9, 42, 6, 182, 1, 55, 172, 42, 182, 1, 136, 154, 0, 5, 3, 172, 42, 27, 28, 42]
abbrev dktX5_readsDial_2 : List UInt8 := dkwX5_readsDial_2 ++ dktX5_readsDial_3
def dkwX5_readsDial_1 : List UInt8 := [160, 0, 12, 42, 180, 1, 35, 16, 6, 164, 0, 9, 42, 4, 182, 1, 55, 172, 42, 182, 1, 85, 61, 28]
abbrev dktX5_readsDial_1 : List UInt8 := dkwX5_readsDial_1 ++ dktX5_readsDial_2
def dkwX5_readsDial_0 : List UInt8 := [42, 182, 1, 105, 154, 0, 5, 3, 172, 42, 180, 1, 38, 60, 42, 182, 1, 20, 42, 180, 1, 41, 4]
abbrev dktX5_readsDial_0 : List UInt8 := dkwX5_readsDial_0 ++ dktX5_readsDial_1
theorem dksX5_readsDial_0 : cX5_readsDial.data.toList.drop 0 = dktX5_readsDial_0 := by decide +kernel
theorem dksX5_readsDial_1 : cX5_readsDial.data.toList.drop 23 = dktX5_readsDial_1 := dk_seg dksX5_readsDial_0 23 rfl rfl
theorem dksX5_readsDial_2 : cX5_readsDial.data.toList.drop 47 = dktX5_readsDial_2 := dk_seg dksX5_readsDial_1 24 rfl rfl
theorem dksX5_readsDial_3 : cX5_readsDial.data.toList.drop 70 = dktX5_readsDial_3 := dk_seg dksX5_readsDial_2 23 rfl rfl
theorem dX5_readsDial_0 : decode cX5_readsDial 0 = .ok (.aload_n 0, 1) := dk_42 (dk_at dksX5_readsDial_0 0 rfl rfl)
theorem dX5_readsDial_1 : decode cX5_readsDial 1 = .ok (.invokevirtual 361, 3) := dk_182 1 105 (dk_at dksX5_readsDial_0 1 rfl rfl)
theorem dX5_readsDial_4 : decode cX5_readsDial 4 = .ok (.ifCond .ne 5, 3) := dk_154 0 5 (dk_at dksX5_readsDial_0 4 rfl rfl)
theorem dX5_readsDial_7 : decode cX5_readsDial 7 = .ok (.iconst 0, 1) := dk_3 (dk_at dksX5_readsDial_0 7 rfl rfl)
theorem dX5_readsDial_8 : decode cX5_readsDial 8 = .ok (.ireturn, 1) := dk_172 (dk_at dksX5_readsDial_0 8 rfl rfl)
theorem dX5_readsDial_9 : decode cX5_readsDial 9 = .ok (.aload_n 0, 1) := dk_42 (dk_at dksX5_readsDial_0 9 rfl rfl)
theorem dX5_readsDial_10 : decode cX5_readsDial 10 = .ok (.getfield 294, 3) := dk_180 1 38 (dk_at dksX5_readsDial_0 10 rfl rfl)
theorem dX5_readsDial_13 : decode cX5_readsDial 13 = .ok (.istore_n 1, 1) := dk_60 (dk_at dksX5_readsDial_0 13 rfl rfl)
theorem dX5_readsDial_14 : decode cX5_readsDial 14 = .ok (.aload_n 0, 1) := dk_42 (dk_at dksX5_readsDial_0 14 rfl rfl)
theorem dX5_readsDial_15 : decode cX5_readsDial 15 = .ok (.invokevirtual 276, 3) := dk_182 1 20 (dk_at dksX5_readsDial_0 15 rfl rfl)
theorem dX5_readsDial_18 : decode cX5_readsDial 18 = .ok (.aload_n 0, 1) := dk_42 (dk_at dksX5_readsDial_0 18 rfl rfl)
theorem dX5_readsDial_19 : decode cX5_readsDial 19 = .ok (.getfield 297, 3) := dk_180 1 41 (dk_at dksX5_readsDial_0 19 rfl rfl)
theorem dX5_readsDial_22 : decode cX5_readsDial 22 = .ok (.iconst 1, 1) := dk_4 (dk_at dksX5_readsDial_0 22 rfl rfl)
theorem dX5_readsDial_23 : decode cX5_readsDial 23 = .ok (.if_icmp .ne 12, 3) := dk_160 0 12 (dk_at dksX5_readsDial_1 0 rfl rfl)
theorem dX5_readsDial_26 : decode cX5_readsDial 26 = .ok (.aload_n 0, 1) := dk_42 (dk_at dksX5_readsDial_1 3 rfl rfl)
theorem dX5_readsDial_27 : decode cX5_readsDial 27 = .ok (.getfield 291, 3) := dk_180 1 35 (dk_at dksX5_readsDial_1 4 rfl rfl)
theorem dX5_readsDial_30 : decode cX5_readsDial 30 = .ok (.bipush 6, 2) := dk_16 6 (dk_at dksX5_readsDial_1 7 rfl rfl)
theorem dX5_readsDial_32 : decode cX5_readsDial 32 = .ok (.if_icmp .le 9, 3) := dk_164 0 9 (dk_at dksX5_readsDial_1 9 rfl rfl)
theorem dX5_readsDial_35 : decode cX5_readsDial 35 = .ok (.aload_n 0, 1) := dk_42 (dk_at dksX5_readsDial_1 12 rfl rfl)
theorem dX5_readsDial_36 : decode cX5_readsDial 36 = .ok (.iconst 1, 1) := dk_4 (dk_at dksX5_readsDial_1 13 rfl rfl)
theorem dX5_readsDial_37 : decode cX5_readsDial 37 = .ok (.invokevirtual 311, 3) := dk_182 1 55 (dk_at dksX5_readsDial_1 14 rfl rfl)
theorem dX5_readsDial_40 : decode cX5_readsDial 40 = .ok (.ireturn, 1) := dk_172 (dk_at dksX5_readsDial_1 17 rfl rfl)
theorem dX5_readsDial_41 : decode cX5_readsDial 41 = .ok (.aload_n 0, 1) := dk_42 (dk_at dksX5_readsDial_1 18 rfl rfl)
theorem dX5_readsDial_42 : decode cX5_readsDial 42 = .ok (.invokevirtual 341, 3) := dk_182 1 85 (dk_at dksX5_readsDial_1 19 rfl rfl)
theorem dX5_readsDial_45 : decode cX5_readsDial 45 = .ok (.istore_n 2, 1) := dk_61 (dk_at dksX5_readsDial_1 22 rfl rfl)
theorem dX5_readsDial_46 : decode cX5_readsDial 46 = .ok (.iload_n 2, 1) := dk_28 (dk_at dksX5_readsDial_1 23 rfl rfl)
theorem dX5_readsDial_47 : decode cX5_readsDial 47 = .ok (.iconst (-1), 1) := dk_2 (dk_at dksX5_readsDial_2 0 rfl rfl)
theorem dX5_readsDial_48 : decode cX5_readsDial 48 = .ok (.if_icmp .ne 9, 3) := dk_160 0 9 (dk_at dksX5_readsDial_2 1 rfl rfl)
theorem dX5_readsDial_51 : decode cX5_readsDial 51 = .ok (.aload_n 0, 1) := dk_42 (dk_at dksX5_readsDial_2 4 rfl rfl)
theorem dX5_readsDial_52 : decode cX5_readsDial 52 = .ok (.iconst 3, 1) := dk_6 (dk_at dksX5_readsDial_2 5 rfl rfl)
theorem dX5_readsDial_53 : decode cX5_readsDial 53 = .ok (.invokevirtual 311, 3) := dk_182 1 55 (dk_at dksX5_readsDial_2 6 rfl rfl)
theorem dX5_readsDial_56 : decode cX5_readsDial 56 = .ok (.ireturn, 1) := dk_172 (dk_at dksX5_readsDial_2 9 rfl rfl)
theorem dX5_readsDial_57 : decode cX5_readsDial 57 = .ok (.aload_n 0, 1) := dk_42 (dk_at dksX5_readsDial_2 10 rfl rfl)
theorem dX5_readsDial_58 : decode cX5_readsDial 58 = .ok (.invokevirtual 392, 3) := dk_182 1 136 (dk_at dksX5_readsDial_2 11 rfl rfl)
theorem dX5_readsDial_61 : decode cX5_readsDial 61 = .ok (.ifCond .ne 5, 3) := dk_154 0 5 (dk_at dksX5_readsDial_2 14 rfl rfl)
theorem dX5_readsDial_64 : decode cX5_readsDial 64 = .ok (.iconst 0, 1) := dk_3 (dk_at dksX5_readsDial_2 17 rfl rfl)
theorem dX5_readsDial_65 : decode cX5_readsDial 65 = .ok (.ireturn, 1) := dk_172 (dk_at dksX5_readsDial_2 18 rfl rfl)
theorem dX5_readsDial_66 : decode cX5_readsDial 66 = .ok (.aload_n 0, 1) := dk_42 (dk_at dksX5_readsDial_2 19 rfl rfl)
theorem dX5_readsDial_67 : decode cX5_readsDial 67 = .ok (.iload_n 1, 1) := dk_27 (dk_at dksX5_readsDial_2 20 rfl rfl)
theorem dX5_readsDial_68 : decode cX5_readsDial 68 = .ok (.iload_n 2, 1) := dk_28 (dk_at dksX5_readsDial_2 21 rfl rfl)
theorem dX5_readsDial_69 : decode cX5_readsDial 69 = .ok (.aload_n 0, 1) := dk_42 (dk_at dksX5_readsDial_2 22 rfl rfl)
theorem dX5_readsDial_70 : decode cX5_readsDial 70 = .ok (.getfield 294, 3) := dk_180 1 38 (dk_at dksX5_readsDial_3 0 rfl rfl)
theorem dX5_readsDial_73 : decode cX5_readsDial 73 = .ok (.invokevirtual 398, 3) := dk_182 1 142 (dk_at dksX5_readsDial_3 3 rfl rfl)
theorem dX5_readsDial_76 : decode cX5_readsDial 76 = .ok (.pop, 1) := dk_87 (dk_at dksX5_readsDial_3 6 rfl rfl)
theorem dX5_readsDial_77 : decode cX5_readsDial 77 = .ok (.iconst 1, 1) := dk_4 (dk_at dksX5_readsDial_3 7 rfl rfl)
theorem dX5_readsDial_78 : decode cX5_readsDial 78 = .ok (.ireturn, 1) := dk_172 (dk_at dksX5_readsDial_3 8 rfl rfl)
abbrev cX5_dials : ByteArray := prog_12_method_42_code
def yX5_dials : MethodName := ⟨RX5, "dials", "(III)I"⟩
def dkwX5_dials_5 : List UInt8 := [180, 0, 135, 42, 180, 0, 126, 79, 42, 89, 180, 0, 135, 4, 96, 181, 0, 135, 16, 254, 172]
abbrev dktX5_dials_5 : List UInt8 := dkwX5_dials_5 ++ []
def dkwX5_dials_4 : List UInt8 := [180, 0, 60, 42, 180, 0, 135, 28, 79, 42, 180, 0, 63, 42, 180, 0, 135, 29, 79, 42, 180, 0, 66, 42]
abbrev dktX5_dials_4 : List UInt8 := dkwX5_dials_4 ++ dktX5_dials_5
def dkwX5_dials_3 : List UInt8 := [16, 8, 160, 0, 9, 42, 8, 182, 0, 230, 172, 42, 180, 0, 57, 42, 180, 0, 135, 27, 79, 42]
abbrev dktX5_dials_3 : List UInt8 := dkwX5_dials_3 ++ dktX5_dials_4
def dkwX5_dials_2 : List UInt8 := [29, 182, 0, 237, 172, 42, 27, 28, 182, 0, 241, 153, 0, 9, 42, 7, 182, 0, 230, 172, 42, 180, 0, 135]
abbrev dktX5_dials_2 : List UInt8 := dkwX5_dials_2 ++ dktX5_dials_3
def dkwX5_dials_1 : List UInt8 := [42, 6, 182, 0, 230, 172, 42, 27, 28, 182, 0, 233, 54, 4, 21, 4, 2, 159, 0, 12, 42, 27, 21, 4]
abbrev dktX5_dials_1 : List UInt8 := dkwX5_dials_1 ++ dktX5_dials_2
def dkwX5_dials_0 : List UInt8 := [42, 27, 182, 0, 224, 154, 0, 9, 42, 4, 182, 0, 230, 172, 42, 180, 0, 129, 17, 0, 200, 160, 0, 9]
abbrev dktX5_dials_0 : List UInt8 := dkwX5_dials_0 ++ dktX5_dials_1
theorem dksX5_dials_0 : cX5_dials.data.toList.drop 0 = dktX5_dials_0 := by decide +kernel
theorem dksX5_dials_1 : cX5_dials.data.toList.drop 24 = dktX5_dials_1 := dk_seg dksX5_dials_0 24 rfl rfl
theorem dksX5_dials_2 : cX5_dials.data.toList.drop 48 = dktX5_dials_2 := dk_seg dksX5_dials_1 24 rfl rfl
theorem dksX5_dials_3 : cX5_dials.data.toList.drop 72 = dktX5_dials_3 := dk_seg dksX5_dials_2 24 rfl rfl
theorem dksX5_dials_4 : cX5_dials.data.toList.drop 94 = dktX5_dials_4 := dk_seg dksX5_dials_3 22 rfl rfl
theorem dksX5_dials_5 : cX5_dials.data.toList.drop 118 = dktX5_dials_5 := dk_seg dksX5_dials_4 24 rfl rfl
theorem dX5_dials_0 : decode cX5_dials 0 = .ok (.aload_n 0, 1) := dk_42 (dk_at dksX5_dials_0 0 rfl rfl)
theorem dX5_dials_1 : decode cX5_dials 1 = .ok (.iload_n 1, 1) := dk_27 (dk_at dksX5_dials_0 1 rfl rfl)
theorem dX5_dials_2 : decode cX5_dials 2 = .ok (.invokevirtual 224, 3) := dk_182 0 224 (dk_at dksX5_dials_0 2 rfl rfl)
theorem dX5_dials_5 : decode cX5_dials 5 = .ok (.ifCond .ne 9, 3) := dk_154 0 9 (dk_at dksX5_dials_0 5 rfl rfl)
theorem dX5_dials_8 : decode cX5_dials 8 = .ok (.aload_n 0, 1) := dk_42 (dk_at dksX5_dials_0 8 rfl rfl)
theorem dX5_dials_9 : decode cX5_dials 9 = .ok (.iconst 1, 1) := dk_4 (dk_at dksX5_dials_0 9 rfl rfl)
theorem dX5_dials_10 : decode cX5_dials 10 = .ok (.invokevirtual 230, 3) := dk_182 0 230 (dk_at dksX5_dials_0 10 rfl rfl)
theorem dX5_dials_13 : decode cX5_dials 13 = .ok (.ireturn, 1) := dk_172 (dk_at dksX5_dials_0 13 rfl rfl)
theorem dX5_dials_14 : decode cX5_dials 14 = .ok (.aload_n 0, 1) := dk_42 (dk_at dksX5_dials_0 14 rfl rfl)
theorem dX5_dials_15 : decode cX5_dials 15 = .ok (.getfield 129, 3) := dk_180 0 129 (dk_at dksX5_dials_0 15 rfl rfl)
theorem dX5_dials_18 : decode cX5_dials 18 = .ok (.sipush 200, 3) := dk_17 0 200 (dk_at dksX5_dials_0 18 rfl rfl)
theorem dX5_dials_21 : decode cX5_dials 21 = .ok (.if_icmp .ne 9, 3) := dk_160 0 9 (dk_at dksX5_dials_0 21 rfl rfl)
theorem dX5_dials_24 : decode cX5_dials 24 = .ok (.aload_n 0, 1) := dk_42 (dk_at dksX5_dials_1 0 rfl rfl)
theorem dX5_dials_25 : decode cX5_dials 25 = .ok (.iconst 3, 1) := dk_6 (dk_at dksX5_dials_1 1 rfl rfl)
theorem dX5_dials_26 : decode cX5_dials 26 = .ok (.invokevirtual 230, 3) := dk_182 0 230 (dk_at dksX5_dials_1 2 rfl rfl)
theorem dX5_dials_29 : decode cX5_dials 29 = .ok (.ireturn, 1) := dk_172 (dk_at dksX5_dials_1 5 rfl rfl)
theorem dX5_dials_30 : decode cX5_dials 30 = .ok (.aload_n 0, 1) := dk_42 (dk_at dksX5_dials_1 6 rfl rfl)
theorem dX5_dials_31 : decode cX5_dials 31 = .ok (.iload_n 1, 1) := dk_27 (dk_at dksX5_dials_1 7 rfl rfl)
theorem dX5_dials_32 : decode cX5_dials 32 = .ok (.iload_n 2, 1) := dk_28 (dk_at dksX5_dials_1 8 rfl rfl)
theorem dX5_dials_33 : decode cX5_dials 33 = .ok (.invokevirtual 233, 3) := dk_182 0 233 (dk_at dksX5_dials_1 9 rfl rfl)
theorem dX5_dials_36 : decode cX5_dials 36 = .ok (.istore 4, 2) := dk_54 4 (dk_at dksX5_dials_1 12 rfl rfl)
theorem dX5_dials_38 : decode cX5_dials 38 = .ok (.iload 4, 2) := dk_21 4 (dk_at dksX5_dials_1 14 rfl rfl)
theorem dX5_dials_40 : decode cX5_dials 40 = .ok (.iconst (-1), 1) := dk_2 (dk_at dksX5_dials_1 16 rfl rfl)
theorem dX5_dials_41 : decode cX5_dials 41 = .ok (.if_icmp .eq 12, 3) := dk_159 0 12 (dk_at dksX5_dials_1 17 rfl rfl)
theorem dX5_dials_44 : decode cX5_dials 44 = .ok (.aload_n 0, 1) := dk_42 (dk_at dksX5_dials_1 20 rfl rfl)
theorem dX5_dials_45 : decode cX5_dials 45 = .ok (.iload_n 1, 1) := dk_27 (dk_at dksX5_dials_1 21 rfl rfl)
theorem dX5_dials_46 : decode cX5_dials 46 = .ok (.iload 4, 2) := dk_21 4 (dk_at dksX5_dials_1 22 rfl rfl)
theorem dX5_dials_48 : decode cX5_dials 48 = .ok (.iload_n 3, 1) := dk_29 (dk_at dksX5_dials_2 0 rfl rfl)
theorem dX5_dials_49 : decode cX5_dials 49 = .ok (.invokevirtual 237, 3) := dk_182 0 237 (dk_at dksX5_dials_2 1 rfl rfl)
theorem dX5_dials_52 : decode cX5_dials 52 = .ok (.ireturn, 1) := dk_172 (dk_at dksX5_dials_2 4 rfl rfl)
theorem dX5_dials_53 : decode cX5_dials 53 = .ok (.aload_n 0, 1) := dk_42 (dk_at dksX5_dials_2 5 rfl rfl)
theorem dX5_dials_54 : decode cX5_dials 54 = .ok (.iload_n 1, 1) := dk_27 (dk_at dksX5_dials_2 6 rfl rfl)
theorem dX5_dials_55 : decode cX5_dials 55 = .ok (.iload_n 2, 1) := dk_28 (dk_at dksX5_dials_2 7 rfl rfl)
theorem dX5_dials_56 : decode cX5_dials 56 = .ok (.invokevirtual 241, 3) := dk_182 0 241 (dk_at dksX5_dials_2 8 rfl rfl)
theorem dX5_dials_59 : decode cX5_dials 59 = .ok (.ifCond .eq 9, 3) := dk_153 0 9 (dk_at dksX5_dials_2 11 rfl rfl)
theorem dX5_dials_62 : decode cX5_dials 62 = .ok (.aload_n 0, 1) := dk_42 (dk_at dksX5_dials_2 14 rfl rfl)
theorem dX5_dials_63 : decode cX5_dials 63 = .ok (.iconst 4, 1) := dk_7 (dk_at dksX5_dials_2 15 rfl rfl)
theorem dX5_dials_64 : decode cX5_dials 64 = .ok (.invokevirtual 230, 3) := dk_182 0 230 (dk_at dksX5_dials_2 16 rfl rfl)
theorem dX5_dials_67 : decode cX5_dials 67 = .ok (.ireturn, 1) := dk_172 (dk_at dksX5_dials_2 19 rfl rfl)
theorem dX5_dials_68 : decode cX5_dials 68 = .ok (.aload_n 0, 1) := dk_42 (dk_at dksX5_dials_2 20 rfl rfl)
theorem dX5_dials_69 : decode cX5_dials 69 = .ok (.getfield 135, 3) := dk_180 0 135 (dk_at dksX5_dials_2 21 rfl rfl)
theorem dX5_dials_72 : decode cX5_dials 72 = .ok (.bipush 8, 2) := dk_16 8 (dk_at dksX5_dials_3 0 rfl rfl)
theorem dX5_dials_74 : decode cX5_dials 74 = .ok (.if_icmp .ne 9, 3) := dk_160 0 9 (dk_at dksX5_dials_3 2 rfl rfl)
theorem dX5_dials_77 : decode cX5_dials 77 = .ok (.aload_n 0, 1) := dk_42 (dk_at dksX5_dials_3 5 rfl rfl)
theorem dX5_dials_78 : decode cX5_dials 78 = .ok (.iconst 5, 1) := dk_8 (dk_at dksX5_dials_3 6 rfl rfl)
theorem dX5_dials_79 : decode cX5_dials 79 = .ok (.invokevirtual 230, 3) := dk_182 0 230 (dk_at dksX5_dials_3 7 rfl rfl)
theorem dX5_dials_82 : decode cX5_dials 82 = .ok (.ireturn, 1) := dk_172 (dk_at dksX5_dials_3 10 rfl rfl)
theorem dX5_dials_83 : decode cX5_dials 83 = .ok (.aload_n 0, 1) := dk_42 (dk_at dksX5_dials_3 11 rfl rfl)
theorem dX5_dials_84 : decode cX5_dials 84 = .ok (.getfield 57, 3) := dk_180 0 57 (dk_at dksX5_dials_3 12 rfl rfl)
theorem dX5_dials_87 : decode cX5_dials 87 = .ok (.aload_n 0, 1) := dk_42 (dk_at dksX5_dials_3 15 rfl rfl)
theorem dX5_dials_88 : decode cX5_dials 88 = .ok (.getfield 135, 3) := dk_180 0 135 (dk_at dksX5_dials_3 16 rfl rfl)
theorem dX5_dials_91 : decode cX5_dials 91 = .ok (.iload_n 1, 1) := dk_27 (dk_at dksX5_dials_3 19 rfl rfl)
theorem dX5_dials_92 : decode cX5_dials 92 = .ok (.iastore, 1) := dk_79 (dk_at dksX5_dials_3 20 rfl rfl)
theorem dX5_dials_93 : decode cX5_dials 93 = .ok (.aload_n 0, 1) := dk_42 (dk_at dksX5_dials_3 21 rfl rfl)
theorem dX5_dials_94 : decode cX5_dials 94 = .ok (.getfield 60, 3) := dk_180 0 60 (dk_at dksX5_dials_4 0 rfl rfl)
theorem dX5_dials_97 : decode cX5_dials 97 = .ok (.aload_n 0, 1) := dk_42 (dk_at dksX5_dials_4 3 rfl rfl)
theorem dX5_dials_98 : decode cX5_dials 98 = .ok (.getfield 135, 3) := dk_180 0 135 (dk_at dksX5_dials_4 4 rfl rfl)
theorem dX5_dials_101 : decode cX5_dials 101 = .ok (.iload_n 2, 1) := dk_28 (dk_at dksX5_dials_4 7 rfl rfl)
theorem dX5_dials_102 : decode cX5_dials 102 = .ok (.iastore, 1) := dk_79 (dk_at dksX5_dials_4 8 rfl rfl)
theorem dX5_dials_103 : decode cX5_dials 103 = .ok (.aload_n 0, 1) := dk_42 (dk_at dksX5_dials_4 9 rfl rfl)
theorem dX5_dials_104 : decode cX5_dials 104 = .ok (.getfield 63, 3) := dk_180 0 63 (dk_at dksX5_dials_4 10 rfl rfl)
theorem dX5_dials_107 : decode cX5_dials 107 = .ok (.aload_n 0, 1) := dk_42 (dk_at dksX5_dials_4 13 rfl rfl)
theorem dX5_dials_108 : decode cX5_dials 108 = .ok (.getfield 135, 3) := dk_180 0 135 (dk_at dksX5_dials_4 14 rfl rfl)
theorem dX5_dials_111 : decode cX5_dials 111 = .ok (.iload_n 3, 1) := dk_29 (dk_at dksX5_dials_4 17 rfl rfl)
theorem dX5_dials_112 : decode cX5_dials 112 = .ok (.iastore, 1) := dk_79 (dk_at dksX5_dials_4 18 rfl rfl)
theorem dX5_dials_113 : decode cX5_dials 113 = .ok (.aload_n 0, 1) := dk_42 (dk_at dksX5_dials_4 19 rfl rfl)
theorem dX5_dials_114 : decode cX5_dials 114 = .ok (.getfield 66, 3) := dk_180 0 66 (dk_at dksX5_dials_4 20 rfl rfl)
theorem dX5_dials_117 : decode cX5_dials 117 = .ok (.aload_n 0, 1) := dk_42 (dk_at dksX5_dials_4 23 rfl rfl)
theorem dX5_dials_118 : decode cX5_dials 118 = .ok (.getfield 135, 3) := dk_180 0 135 (dk_at dksX5_dials_5 0 rfl rfl)
theorem dX5_dials_121 : decode cX5_dials 121 = .ok (.aload_n 0, 1) := dk_42 (dk_at dksX5_dials_5 3 rfl rfl)
theorem dX5_dials_122 : decode cX5_dials 122 = .ok (.getfield 126, 3) := dk_180 0 126 (dk_at dksX5_dials_5 4 rfl rfl)
theorem dX5_dials_125 : decode cX5_dials 125 = .ok (.iastore, 1) := dk_79 (dk_at dksX5_dials_5 7 rfl rfl)
theorem dX5_dials_126 : decode cX5_dials 126 = .ok (.aload_n 0, 1) := dk_42 (dk_at dksX5_dials_5 8 rfl rfl)
theorem dX5_dials_127 : decode cX5_dials 127 = .ok (.dup, 1) := dk_89 (dk_at dksX5_dials_5 9 rfl rfl)
theorem dX5_dials_128 : decode cX5_dials 128 = .ok (.getfield 135, 3) := dk_180 0 135 (dk_at dksX5_dials_5 10 rfl rfl)
theorem dX5_dials_131 : decode cX5_dials 131 = .ok (.iconst 1, 1) := dk_4 (dk_at dksX5_dials_5 13 rfl rfl)
theorem dX5_dials_132 : decode cX5_dials 132 = .ok (.iadd, 1) := dk_96 (dk_at dksX5_dials_5 14 rfl rfl)
theorem dX5_dials_133 : decode cX5_dials 133 = .ok (.putfield 135, 3) := dk_181 0 135 (dk_at dksX5_dials_5 15 rfl rfl)
theorem dX5_dials_136 : decode cX5_dials 136 = .ok (.bipush (-2), 2) := dk_16 254 (dk_at dksX5_dials_5 18 rfl rfl)
theorem dX5_dials_138 : decode cX5_dials 138 = .ok (.ireturn, 1) := dk_172 (dk_at dksX5_dials_5 20 rfl rfl)
abbrev cX5_memberFor : ByteArray := prog_12_method_40_code
def yX5_memberFor : MethodName := ⟨RX5, "memberFor", "(II)I"⟩
def dkwX5_memberFor_2 : List UInt8 := [21, 4, 42, 180, 0, 23, 108, 182, 0, 227, 154, 0, 6, 21, 4, 172, 132, 3, 1, 167, 255, 192, 2, 172]
abbrev dktX5_memberFor_2 : List UInt8 := dkwX5_memberFor_2 ++ []
def dkwX5_memberFor_1 : List UInt8 := [54, 4, 21, 4, 27, 159, 0, 35, 42, 21, 4, 182, 0, 224, 153, 0, 26, 42, 27, 42, 180, 0, 23, 108]
abbrev dktX5_memberFor_1 : List UInt8 := dkwX5_memberFor_1 ++ dktX5_memberFor_2
def dkwX5_memberFor_0 : List UInt8 := [3, 62, 29, 42, 180, 0, 75, 28, 46, 162, 0, 60, 42, 180, 0, 78, 28, 16, 8, 104, 29, 96, 46]
abbrev dktX5_memberFor_0 : List UInt8 := dkwX5_memberFor_0 ++ dktX5_memberFor_1
theorem dksX5_memberFor_0 : cX5_memberFor.data.toList.drop 0 = dktX5_memberFor_0 := by decide +kernel
theorem dksX5_memberFor_1 : cX5_memberFor.data.toList.drop 23 = dktX5_memberFor_1 := dk_seg dksX5_memberFor_0 23 rfl rfl
theorem dksX5_memberFor_2 : cX5_memberFor.data.toList.drop 47 = dktX5_memberFor_2 := dk_seg dksX5_memberFor_1 24 rfl rfl
theorem dX5_memberFor_0 : decode cX5_memberFor 0 = .ok (.iconst 0, 1) := dk_3 (dk_at dksX5_memberFor_0 0 rfl rfl)
theorem dX5_memberFor_1 : decode cX5_memberFor 1 = .ok (.istore_n 3, 1) := dk_62 (dk_at dksX5_memberFor_0 1 rfl rfl)
theorem dX5_memberFor_2 : decode cX5_memberFor 2 = .ok (.iload_n 3, 1) := dk_29 (dk_at dksX5_memberFor_0 2 rfl rfl)
theorem dX5_memberFor_3 : decode cX5_memberFor 3 = .ok (.aload_n 0, 1) := dk_42 (dk_at dksX5_memberFor_0 3 rfl rfl)
theorem dX5_memberFor_4 : decode cX5_memberFor 4 = .ok (.getfield 75, 3) := dk_180 0 75 (dk_at dksX5_memberFor_0 4 rfl rfl)
theorem dX5_memberFor_7 : decode cX5_memberFor 7 = .ok (.iload_n 2, 1) := dk_28 (dk_at dksX5_memberFor_0 7 rfl rfl)
theorem dX5_memberFor_8 : decode cX5_memberFor 8 = .ok (.iaload, 1) := dk_46 (dk_at dksX5_memberFor_0 8 rfl rfl)
theorem dX5_memberFor_9 : decode cX5_memberFor 9 = .ok (.if_icmp .ge 60, 3) := dk_162 0 60 (dk_at dksX5_memberFor_0 9 rfl rfl)
theorem dX5_memberFor_12 : decode cX5_memberFor 12 = .ok (.aload_n 0, 1) := dk_42 (dk_at dksX5_memberFor_0 12 rfl rfl)
theorem dX5_memberFor_13 : decode cX5_memberFor 13 = .ok (.getfield 78, 3) := dk_180 0 78 (dk_at dksX5_memberFor_0 13 rfl rfl)
theorem dX5_memberFor_16 : decode cX5_memberFor 16 = .ok (.iload_n 2, 1) := dk_28 (dk_at dksX5_memberFor_0 16 rfl rfl)
theorem dX5_memberFor_17 : decode cX5_memberFor 17 = .ok (.bipush 8, 2) := dk_16 8 (dk_at dksX5_memberFor_0 17 rfl rfl)
theorem dX5_memberFor_19 : decode cX5_memberFor 19 = .ok (.imul, 1) := dk_104 (dk_at dksX5_memberFor_0 19 rfl rfl)
theorem dX5_memberFor_20 : decode cX5_memberFor 20 = .ok (.iload_n 3, 1) := dk_29 (dk_at dksX5_memberFor_0 20 rfl rfl)
theorem dX5_memberFor_21 : decode cX5_memberFor 21 = .ok (.iadd, 1) := dk_96 (dk_at dksX5_memberFor_0 21 rfl rfl)
theorem dX5_memberFor_22 : decode cX5_memberFor 22 = .ok (.iaload, 1) := dk_46 (dk_at dksX5_memberFor_0 22 rfl rfl)
theorem dX5_memberFor_23 : decode cX5_memberFor 23 = .ok (.istore 4, 2) := dk_54 4 (dk_at dksX5_memberFor_1 0 rfl rfl)
theorem dX5_memberFor_25 : decode cX5_memberFor 25 = .ok (.iload 4, 2) := dk_21 4 (dk_at dksX5_memberFor_1 2 rfl rfl)
theorem dX5_memberFor_27 : decode cX5_memberFor 27 = .ok (.iload_n 1, 1) := dk_27 (dk_at dksX5_memberFor_1 4 rfl rfl)
theorem dX5_memberFor_28 : decode cX5_memberFor 28 = .ok (.if_icmp .eq 35, 3) := dk_159 0 35 (dk_at dksX5_memberFor_1 5 rfl rfl)
theorem dX5_memberFor_31 : decode cX5_memberFor 31 = .ok (.aload_n 0, 1) := dk_42 (dk_at dksX5_memberFor_1 8 rfl rfl)
theorem dX5_memberFor_32 : decode cX5_memberFor 32 = .ok (.iload 4, 2) := dk_21 4 (dk_at dksX5_memberFor_1 9 rfl rfl)
theorem dX5_memberFor_34 : decode cX5_memberFor 34 = .ok (.invokevirtual 224, 3) := dk_182 0 224 (dk_at dksX5_memberFor_1 11 rfl rfl)
theorem dX5_memberFor_37 : decode cX5_memberFor 37 = .ok (.ifCond .eq 26, 3) := dk_153 0 26 (dk_at dksX5_memberFor_1 14 rfl rfl)
theorem dX5_memberFor_40 : decode cX5_memberFor 40 = .ok (.aload_n 0, 1) := dk_42 (dk_at dksX5_memberFor_1 17 rfl rfl)
theorem dX5_memberFor_41 : decode cX5_memberFor 41 = .ok (.iload_n 1, 1) := dk_27 (dk_at dksX5_memberFor_1 18 rfl rfl)
theorem dX5_memberFor_42 : decode cX5_memberFor 42 = .ok (.aload_n 0, 1) := dk_42 (dk_at dksX5_memberFor_1 19 rfl rfl)
theorem dX5_memberFor_43 : decode cX5_memberFor 43 = .ok (.getfield 23, 3) := dk_180 0 23 (dk_at dksX5_memberFor_1 20 rfl rfl)
theorem dX5_memberFor_46 : decode cX5_memberFor 46 = .ok (.idiv, 1) := dk_108 (dk_at dksX5_memberFor_1 23 rfl rfl)
theorem dX5_memberFor_47 : decode cX5_memberFor 47 = .ok (.iload 4, 2) := dk_21 4 (dk_at dksX5_memberFor_2 0 rfl rfl)
theorem dX5_memberFor_49 : decode cX5_memberFor 49 = .ok (.aload_n 0, 1) := dk_42 (dk_at dksX5_memberFor_2 2 rfl rfl)
theorem dX5_memberFor_50 : decode cX5_memberFor 50 = .ok (.getfield 23, 3) := dk_180 0 23 (dk_at dksX5_memberFor_2 3 rfl rfl)
theorem dX5_memberFor_53 : decode cX5_memberFor 53 = .ok (.idiv, 1) := dk_108 (dk_at dksX5_memberFor_2 6 rfl rfl)
theorem dX5_memberFor_54 : decode cX5_memberFor 54 = .ok (.invokevirtual 227, 3) := dk_182 0 227 (dk_at dksX5_memberFor_2 7 rfl rfl)
theorem dX5_memberFor_57 : decode cX5_memberFor 57 = .ok (.ifCond .ne 6, 3) := dk_154 0 6 (dk_at dksX5_memberFor_2 10 rfl rfl)
theorem dX5_memberFor_60 : decode cX5_memberFor 60 = .ok (.iload 4, 2) := dk_21 4 (dk_at dksX5_memberFor_2 13 rfl rfl)
theorem dX5_memberFor_62 : decode cX5_memberFor 62 = .ok (.ireturn, 1) := dk_172 (dk_at dksX5_memberFor_2 15 rfl rfl)
theorem dX5_memberFor_63 : decode cX5_memberFor 63 = .ok (.iinc 3 1, 3) := dk_132 3 1 (dk_at dksX5_memberFor_2 16 rfl rfl)
theorem dX5_memberFor_66 : decode cX5_memberFor 66 = .ok (.goto (-64), 3) := dk_167 255 192 (dk_at dksX5_memberFor_2 19 rfl rfl)
theorem dX5_memberFor_69 : decode cX5_memberFor 69 = .ok (.iconst (-1), 1) := dk_2 (dk_at dksX5_memberFor_2 22 rfl rfl)
theorem dX5_memberFor_70 : decode cX5_memberFor 70 = .ok (.ireturn, 1) := dk_172 (dk_at dksX5_memberFor_2 23 rfl rfl)
abbrev cX5_hasIdleMember : ByteArray := prog_12_method_41_code
def yX5_hasIdleMember : MethodName := ⟨RX5, "hasIdleMember", "(II)Z"⟩
def dkwX5_hasIdleMember_2 : List UInt8 := [167, 255, 213, 3, 172]
abbrev dktX5_hasIdleMember_2 : List UInt8 := dkwX5_hasIdleMember_2 ++ []
def dkwX5_hasIdleMember_1 : List UInt8 := [54, 4, 21, 4, 27, 159, 0, 14, 42, 21, 4, 182, 0, 224, 153, 0, 5, 4, 172, 132, 3, 1]
abbrev dktX5_hasIdleMember_1 : List UInt8 := dkwX5_hasIdleMember_1 ++ dktX5_hasIdleMember_2
def dkwX5_hasIdleMember_0 : List UInt8 := [3, 62, 29, 42, 180, 0, 75, 28, 46, 162, 0, 39, 42, 180, 0, 78, 28, 16, 8, 104, 29, 96, 46]
abbrev dktX5_hasIdleMember_0 : List UInt8 := dkwX5_hasIdleMember_0 ++ dktX5_hasIdleMember_1
theorem dksX5_hasIdleMember_0 : cX5_hasIdleMember.data.toList.drop 0 = dktX5_hasIdleMember_0 := by decide +kernel
theorem dksX5_hasIdleMember_1 : cX5_hasIdleMember.data.toList.drop 23 = dktX5_hasIdleMember_1 := dk_seg dksX5_hasIdleMember_0 23 rfl rfl
theorem dksX5_hasIdleMember_2 : cX5_hasIdleMember.data.toList.drop 45 = dktX5_hasIdleMember_2 := dk_seg dksX5_hasIdleMember_1 22 rfl rfl
theorem dX5_hasIdleMember_0 : decode cX5_hasIdleMember 0 = .ok (.iconst 0, 1) := dk_3 (dk_at dksX5_hasIdleMember_0 0 rfl rfl)
theorem dX5_hasIdleMember_1 : decode cX5_hasIdleMember 1 = .ok (.istore_n 3, 1) := dk_62 (dk_at dksX5_hasIdleMember_0 1 rfl rfl)
theorem dX5_hasIdleMember_2 : decode cX5_hasIdleMember 2 = .ok (.iload_n 3, 1) := dk_29 (dk_at dksX5_hasIdleMember_0 2 rfl rfl)
theorem dX5_hasIdleMember_3 : decode cX5_hasIdleMember 3 = .ok (.aload_n 0, 1) := dk_42 (dk_at dksX5_hasIdleMember_0 3 rfl rfl)
theorem dX5_hasIdleMember_4 : decode cX5_hasIdleMember 4 = .ok (.getfield 75, 3) := dk_180 0 75 (dk_at dksX5_hasIdleMember_0 4 rfl rfl)
theorem dX5_hasIdleMember_7 : decode cX5_hasIdleMember 7 = .ok (.iload_n 2, 1) := dk_28 (dk_at dksX5_hasIdleMember_0 7 rfl rfl)
theorem dX5_hasIdleMember_8 : decode cX5_hasIdleMember 8 = .ok (.iaload, 1) := dk_46 (dk_at dksX5_hasIdleMember_0 8 rfl rfl)
theorem dX5_hasIdleMember_9 : decode cX5_hasIdleMember 9 = .ok (.if_icmp .ge 39, 3) := dk_162 0 39 (dk_at dksX5_hasIdleMember_0 9 rfl rfl)
theorem dX5_hasIdleMember_12 : decode cX5_hasIdleMember 12 = .ok (.aload_n 0, 1) := dk_42 (dk_at dksX5_hasIdleMember_0 12 rfl rfl)
theorem dX5_hasIdleMember_13 : decode cX5_hasIdleMember 13 = .ok (.getfield 78, 3) := dk_180 0 78 (dk_at dksX5_hasIdleMember_0 13 rfl rfl)
theorem dX5_hasIdleMember_16 : decode cX5_hasIdleMember 16 = .ok (.iload_n 2, 1) := dk_28 (dk_at dksX5_hasIdleMember_0 16 rfl rfl)
theorem dX5_hasIdleMember_17 : decode cX5_hasIdleMember 17 = .ok (.bipush 8, 2) := dk_16 8 (dk_at dksX5_hasIdleMember_0 17 rfl rfl)
theorem dX5_hasIdleMember_19 : decode cX5_hasIdleMember 19 = .ok (.imul, 1) := dk_104 (dk_at dksX5_hasIdleMember_0 19 rfl rfl)
theorem dX5_hasIdleMember_20 : decode cX5_hasIdleMember 20 = .ok (.iload_n 3, 1) := dk_29 (dk_at dksX5_hasIdleMember_0 20 rfl rfl)
theorem dX5_hasIdleMember_21 : decode cX5_hasIdleMember 21 = .ok (.iadd, 1) := dk_96 (dk_at dksX5_hasIdleMember_0 21 rfl rfl)
theorem dX5_hasIdleMember_22 : decode cX5_hasIdleMember 22 = .ok (.iaload, 1) := dk_46 (dk_at dksX5_hasIdleMember_0 22 rfl rfl)
theorem dX5_hasIdleMember_23 : decode cX5_hasIdleMember 23 = .ok (.istore 4, 2) := dk_54 4 (dk_at dksX5_hasIdleMember_1 0 rfl rfl)
theorem dX5_hasIdleMember_25 : decode cX5_hasIdleMember 25 = .ok (.iload 4, 2) := dk_21 4 (dk_at dksX5_hasIdleMember_1 2 rfl rfl)
theorem dX5_hasIdleMember_27 : decode cX5_hasIdleMember 27 = .ok (.iload_n 1, 1) := dk_27 (dk_at dksX5_hasIdleMember_1 4 rfl rfl)
theorem dX5_hasIdleMember_28 : decode cX5_hasIdleMember 28 = .ok (.if_icmp .eq 14, 3) := dk_159 0 14 (dk_at dksX5_hasIdleMember_1 5 rfl rfl)
theorem dX5_hasIdleMember_31 : decode cX5_hasIdleMember 31 = .ok (.aload_n 0, 1) := dk_42 (dk_at dksX5_hasIdleMember_1 8 rfl rfl)
theorem dX5_hasIdleMember_32 : decode cX5_hasIdleMember 32 = .ok (.iload 4, 2) := dk_21 4 (dk_at dksX5_hasIdleMember_1 9 rfl rfl)
theorem dX5_hasIdleMember_34 : decode cX5_hasIdleMember 34 = .ok (.invokevirtual 224, 3) := dk_182 0 224 (dk_at dksX5_hasIdleMember_1 11 rfl rfl)
theorem dX5_hasIdleMember_37 : decode cX5_hasIdleMember 37 = .ok (.ifCond .eq 5, 3) := dk_153 0 5 (dk_at dksX5_hasIdleMember_1 14 rfl rfl)
theorem dX5_hasIdleMember_40 : decode cX5_hasIdleMember 40 = .ok (.iconst 1, 1) := dk_4 (dk_at dksX5_hasIdleMember_1 17 rfl rfl)
theorem dX5_hasIdleMember_41 : decode cX5_hasIdleMember 41 = .ok (.ireturn, 1) := dk_172 (dk_at dksX5_hasIdleMember_1 18 rfl rfl)
theorem dX5_hasIdleMember_42 : decode cX5_hasIdleMember 42 = .ok (.iinc 3 1, 3) := dk_132 3 1 (dk_at dksX5_hasIdleMember_1 19 rfl rfl)
theorem dX5_hasIdleMember_45 : decode cX5_hasIdleMember 45 = .ok (.goto (-43), 3) := dk_167 255 213 (dk_at dksX5_hasIdleMember_2 0 rfl rfl)
theorem dX5_hasIdleMember_48 : decode cX5_hasIdleMember 48 = .ok (.iconst 0, 1) := dk_3 (dk_at dksX5_hasIdleMember_2 3 rfl rfl)
theorem dX5_hasIdleMember_49 : decode cX5_hasIdleMember 49 = .ok (.ireturn, 1) := dk_172 (dk_at dksX5_hasIdleMember_2 4 rfl rfl)
abbrev cX5_hangs : ByteArray := prog_12_method_46_code
def yX5_hangs : MethodName := ⟨RX5, "hangs", "(I)I"⟩
def dkwX5_hangs_2 : List UInt8 := [96, 79, 42, 182, 0, 253, 29, 172]
abbrev dktX5_hangs_2 : List UInt8 := dkwX5_hangs_2 ++ []
def dkwX5_hangs_1 : List UInt8 := [167, 0, 26, 42, 180, 0, 35, 28, 46, 62, 42, 28, 182, 0, 250, 42, 180, 0, 81, 16, 6, 92, 46, 4]
abbrev dktX5_hangs_1 : List UInt8 := dkwX5_hangs_1 ++ dktX5_hangs_2
def dkwX5_hangs_0 : List UInt8 := [42, 27, 182, 0, 168, 61, 2, 62, 28, 2, 160, 0, 15, 42, 42, 27, 182, 0, 171, 182, 0, 247]
abbrev dktX5_hangs_0 : List UInt8 := dkwX5_hangs_0 ++ dktX5_hangs_1
theorem dksX5_hangs_0 : cX5_hangs.data.toList.drop 0 = dktX5_hangs_0 := by decide +kernel
theorem dksX5_hangs_1 : cX5_hangs.data.toList.drop 22 = dktX5_hangs_1 := dk_seg dksX5_hangs_0 22 rfl rfl
theorem dksX5_hangs_2 : cX5_hangs.data.toList.drop 46 = dktX5_hangs_2 := dk_seg dksX5_hangs_1 24 rfl rfl
theorem dX5_hangs_0 : decode cX5_hangs 0 = .ok (.aload_n 0, 1) := dk_42 (dk_at dksX5_hangs_0 0 rfl rfl)
theorem dX5_hangs_1 : decode cX5_hangs 1 = .ok (.iload_n 1, 1) := dk_27 (dk_at dksX5_hangs_0 1 rfl rfl)
theorem dX5_hangs_2 : decode cX5_hangs 2 = .ok (.invokevirtual 168, 3) := dk_182 0 168 (dk_at dksX5_hangs_0 2 rfl rfl)
theorem dX5_hangs_5 : decode cX5_hangs 5 = .ok (.istore_n 2, 1) := dk_61 (dk_at dksX5_hangs_0 5 rfl rfl)
theorem dX5_hangs_6 : decode cX5_hangs 6 = .ok (.iconst (-1), 1) := dk_2 (dk_at dksX5_hangs_0 6 rfl rfl)
theorem dX5_hangs_7 : decode cX5_hangs 7 = .ok (.istore_n 3, 1) := dk_62 (dk_at dksX5_hangs_0 7 rfl rfl)
theorem dX5_hangs_8 : decode cX5_hangs 8 = .ok (.iload_n 2, 1) := dk_28 (dk_at dksX5_hangs_0 8 rfl rfl)
theorem dX5_hangs_9 : decode cX5_hangs 9 = .ok (.iconst (-1), 1) := dk_2 (dk_at dksX5_hangs_0 9 rfl rfl)
theorem dX5_hangs_10 : decode cX5_hangs 10 = .ok (.if_icmp .ne 15, 3) := dk_160 0 15 (dk_at dksX5_hangs_0 10 rfl rfl)
theorem dX5_hangs_13 : decode cX5_hangs 13 = .ok (.aload_n 0, 1) := dk_42 (dk_at dksX5_hangs_0 13 rfl rfl)
theorem dX5_hangs_14 : decode cX5_hangs 14 = .ok (.aload_n 0, 1) := dk_42 (dk_at dksX5_hangs_0 14 rfl rfl)
theorem dX5_hangs_15 : decode cX5_hangs 15 = .ok (.iload_n 1, 1) := dk_27 (dk_at dksX5_hangs_0 15 rfl rfl)
theorem dX5_hangs_16 : decode cX5_hangs 16 = .ok (.invokevirtual 171, 3) := dk_182 0 171 (dk_at dksX5_hangs_0 16 rfl rfl)
theorem dX5_hangs_19 : decode cX5_hangs 19 = .ok (.invokevirtual 247, 3) := dk_182 0 247 (dk_at dksX5_hangs_0 19 rfl rfl)
theorem dX5_hangs_22 : decode cX5_hangs 22 = .ok (.goto 26, 3) := dk_167 0 26 (dk_at dksX5_hangs_1 0 rfl rfl)
theorem dX5_hangs_25 : decode cX5_hangs 25 = .ok (.aload_n 0, 1) := dk_42 (dk_at dksX5_hangs_1 3 rfl rfl)
theorem dX5_hangs_26 : decode cX5_hangs 26 = .ok (.getfield 35, 3) := dk_180 0 35 (dk_at dksX5_hangs_1 4 rfl rfl)
theorem dX5_hangs_29 : decode cX5_hangs 29 = .ok (.iload_n 2, 1) := dk_28 (dk_at dksX5_hangs_1 7 rfl rfl)
theorem dX5_hangs_30 : decode cX5_hangs 30 = .ok (.iaload, 1) := dk_46 (dk_at dksX5_hangs_1 8 rfl rfl)
theorem dX5_hangs_31 : decode cX5_hangs 31 = .ok (.istore_n 3, 1) := dk_62 (dk_at dksX5_hangs_1 9 rfl rfl)
theorem dX5_hangs_32 : decode cX5_hangs 32 = .ok (.aload_n 0, 1) := dk_42 (dk_at dksX5_hangs_1 10 rfl rfl)
theorem dX5_hangs_33 : decode cX5_hangs 33 = .ok (.iload_n 2, 1) := dk_28 (dk_at dksX5_hangs_1 11 rfl rfl)
theorem dX5_hangs_34 : decode cX5_hangs 34 = .ok (.invokevirtual 250, 3) := dk_182 0 250 (dk_at dksX5_hangs_1 12 rfl rfl)
theorem dX5_hangs_37 : decode cX5_hangs 37 = .ok (.aload_n 0, 1) := dk_42 (dk_at dksX5_hangs_1 15 rfl rfl)
theorem dX5_hangs_38 : decode cX5_hangs 38 = .ok (.getfield 81, 3) := dk_180 0 81 (dk_at dksX5_hangs_1 16 rfl rfl)
theorem dX5_hangs_41 : decode cX5_hangs 41 = .ok (.bipush 6, 2) := dk_16 6 (dk_at dksX5_hangs_1 19 rfl rfl)
theorem dX5_hangs_43 : decode cX5_hangs 43 = .ok (.dup2, 1) := dk_92 (dk_at dksX5_hangs_1 21 rfl rfl)
theorem dX5_hangs_44 : decode cX5_hangs 44 = .ok (.iaload, 1) := dk_46 (dk_at dksX5_hangs_1 22 rfl rfl)
theorem dX5_hangs_45 : decode cX5_hangs 45 = .ok (.iconst 1, 1) := dk_4 (dk_at dksX5_hangs_1 23 rfl rfl)
theorem dX5_hangs_46 : decode cX5_hangs 46 = .ok (.iadd, 1) := dk_96 (dk_at dksX5_hangs_2 0 rfl rfl)
theorem dX5_hangs_47 : decode cX5_hangs 47 = .ok (.iastore, 1) := dk_79 (dk_at dksX5_hangs_2 1 rfl rfl)
theorem dX5_hangs_48 : decode cX5_hangs 48 = .ok (.aload_n 0, 1) := dk_42 (dk_at dksX5_hangs_2 2 rfl rfl)
theorem dX5_hangs_49 : decode cX5_hangs 49 = .ok (.invokevirtual 253, 3) := dk_182 0 253 (dk_at dksX5_hangs_2 3 rfl rfl)
theorem dX5_hangs_52 : decode cX5_hangs 52 = .ok (.iload_n 3, 1) := dk_29 (dk_at dksX5_hangs_2 6 rfl rfl)
theorem dX5_hangs_53 : decode cX5_hangs 53 = .ok (.ireturn, 1) := dk_172 (dk_at dksX5_hangs_2 7 rfl rfl)
abbrev cX5_stopsWaiting : ByteArray := prog_12_method_44_code
def yX5_stopsWaiting : MethodName := ⟨RX5, "stopsWaiting", "(I)V"⟩
def dkwX5_stopsWaiting_3 : List UInt8 := [4, 96, 46, 79, 132, 2, 1, 167, 255, 189, 177]
abbrev dktX5_stopsWaiting_3 : List UInt8 := dkwX5_stopsWaiting_3 ++ []
def dkwX5_stopsWaiting_2 : List UInt8 := [42, 180, 0, 63, 28, 42, 180, 0, 63, 28, 4, 96, 46, 79, 42, 180, 0, 66, 28, 42, 180, 0, 66, 28]
abbrev dktX5_stopsWaiting_2 : List UInt8 := dkwX5_stopsWaiting_2 ++ dktX5_stopsWaiting_3
def dkwX5_stopsWaiting_1 : List UInt8 := [28, 42, 180, 0, 57, 28, 4, 96, 46, 79, 42, 180, 0, 60, 28, 42, 180, 0, 60, 28, 4, 96, 46, 79]
abbrev dktX5_stopsWaiting_1 : List UInt8 := dkwX5_stopsWaiting_1 ++ dktX5_stopsWaiting_2
def dkwX5_stopsWaiting_0 : List UInt8 := [42, 89, 180, 0, 135, 4, 100, 181, 0, 135, 27, 61, 28, 42, 180, 0, 135, 162, 0, 65, 42, 180, 0, 57]
abbrev dktX5_stopsWaiting_0 : List UInt8 := dkwX5_stopsWaiting_0 ++ dktX5_stopsWaiting_1
theorem dksX5_stopsWaiting_0 : cX5_stopsWaiting.data.toList.drop 0 = dktX5_stopsWaiting_0 := by decide +kernel
theorem dksX5_stopsWaiting_1 : cX5_stopsWaiting.data.toList.drop 24 = dktX5_stopsWaiting_1 := dk_seg dksX5_stopsWaiting_0 24 rfl rfl
theorem dksX5_stopsWaiting_2 : cX5_stopsWaiting.data.toList.drop 48 = dktX5_stopsWaiting_2 := dk_seg dksX5_stopsWaiting_1 24 rfl rfl
theorem dksX5_stopsWaiting_3 : cX5_stopsWaiting.data.toList.drop 72 = dktX5_stopsWaiting_3 := dk_seg dksX5_stopsWaiting_2 24 rfl rfl
theorem dX5_stopsWaiting_0 : decode cX5_stopsWaiting 0 = .ok (.aload_n 0, 1) := dk_42 (dk_at dksX5_stopsWaiting_0 0 rfl rfl)
theorem dX5_stopsWaiting_1 : decode cX5_stopsWaiting 1 = .ok (.dup, 1) := dk_89 (dk_at dksX5_stopsWaiting_0 1 rfl rfl)
theorem dX5_stopsWaiting_2 : decode cX5_stopsWaiting 2 = .ok (.getfield 135, 3) := dk_180 0 135 (dk_at dksX5_stopsWaiting_0 2 rfl rfl)
theorem dX5_stopsWaiting_5 : decode cX5_stopsWaiting 5 = .ok (.iconst 1, 1) := dk_4 (dk_at dksX5_stopsWaiting_0 5 rfl rfl)
theorem dX5_stopsWaiting_6 : decode cX5_stopsWaiting 6 = .ok (.isub, 1) := dk_100 (dk_at dksX5_stopsWaiting_0 6 rfl rfl)
theorem dX5_stopsWaiting_7 : decode cX5_stopsWaiting 7 = .ok (.putfield 135, 3) := dk_181 0 135 (dk_at dksX5_stopsWaiting_0 7 rfl rfl)
theorem dX5_stopsWaiting_10 : decode cX5_stopsWaiting 10 = .ok (.iload_n 1, 1) := dk_27 (dk_at dksX5_stopsWaiting_0 10 rfl rfl)
theorem dX5_stopsWaiting_11 : decode cX5_stopsWaiting 11 = .ok (.istore_n 2, 1) := dk_61 (dk_at dksX5_stopsWaiting_0 11 rfl rfl)
theorem dX5_stopsWaiting_12 : decode cX5_stopsWaiting 12 = .ok (.iload_n 2, 1) := dk_28 (dk_at dksX5_stopsWaiting_0 12 rfl rfl)
theorem dX5_stopsWaiting_13 : decode cX5_stopsWaiting 13 = .ok (.aload_n 0, 1) := dk_42 (dk_at dksX5_stopsWaiting_0 13 rfl rfl)
theorem dX5_stopsWaiting_14 : decode cX5_stopsWaiting 14 = .ok (.getfield 135, 3) := dk_180 0 135 (dk_at dksX5_stopsWaiting_0 14 rfl rfl)
theorem dX5_stopsWaiting_17 : decode cX5_stopsWaiting 17 = .ok (.if_icmp .ge 65, 3) := dk_162 0 65 (dk_at dksX5_stopsWaiting_0 17 rfl rfl)
theorem dX5_stopsWaiting_20 : decode cX5_stopsWaiting 20 = .ok (.aload_n 0, 1) := dk_42 (dk_at dksX5_stopsWaiting_0 20 rfl rfl)
theorem dX5_stopsWaiting_21 : decode cX5_stopsWaiting 21 = .ok (.getfield 57, 3) := dk_180 0 57 (dk_at dksX5_stopsWaiting_0 21 rfl rfl)
theorem dX5_stopsWaiting_24 : decode cX5_stopsWaiting 24 = .ok (.iload_n 2, 1) := dk_28 (dk_at dksX5_stopsWaiting_1 0 rfl rfl)
theorem dX5_stopsWaiting_25 : decode cX5_stopsWaiting 25 = .ok (.aload_n 0, 1) := dk_42 (dk_at dksX5_stopsWaiting_1 1 rfl rfl)
theorem dX5_stopsWaiting_26 : decode cX5_stopsWaiting 26 = .ok (.getfield 57, 3) := dk_180 0 57 (dk_at dksX5_stopsWaiting_1 2 rfl rfl)
theorem dX5_stopsWaiting_29 : decode cX5_stopsWaiting 29 = .ok (.iload_n 2, 1) := dk_28 (dk_at dksX5_stopsWaiting_1 5 rfl rfl)
theorem dX5_stopsWaiting_30 : decode cX5_stopsWaiting 30 = .ok (.iconst 1, 1) := dk_4 (dk_at dksX5_stopsWaiting_1 6 rfl rfl)
theorem dX5_stopsWaiting_31 : decode cX5_stopsWaiting 31 = .ok (.iadd, 1) := dk_96 (dk_at dksX5_stopsWaiting_1 7 rfl rfl)
theorem dX5_stopsWaiting_32 : decode cX5_stopsWaiting 32 = .ok (.iaload, 1) := dk_46 (dk_at dksX5_stopsWaiting_1 8 rfl rfl)
theorem dX5_stopsWaiting_33 : decode cX5_stopsWaiting 33 = .ok (.iastore, 1) := dk_79 (dk_at dksX5_stopsWaiting_1 9 rfl rfl)
theorem dX5_stopsWaiting_34 : decode cX5_stopsWaiting 34 = .ok (.aload_n 0, 1) := dk_42 (dk_at dksX5_stopsWaiting_1 10 rfl rfl)
theorem dX5_stopsWaiting_35 : decode cX5_stopsWaiting 35 = .ok (.getfield 60, 3) := dk_180 0 60 (dk_at dksX5_stopsWaiting_1 11 rfl rfl)
theorem dX5_stopsWaiting_38 : decode cX5_stopsWaiting 38 = .ok (.iload_n 2, 1) := dk_28 (dk_at dksX5_stopsWaiting_1 14 rfl rfl)
theorem dX5_stopsWaiting_39 : decode cX5_stopsWaiting 39 = .ok (.aload_n 0, 1) := dk_42 (dk_at dksX5_stopsWaiting_1 15 rfl rfl)
theorem dX5_stopsWaiting_40 : decode cX5_stopsWaiting 40 = .ok (.getfield 60, 3) := dk_180 0 60 (dk_at dksX5_stopsWaiting_1 16 rfl rfl)
theorem dX5_stopsWaiting_43 : decode cX5_stopsWaiting 43 = .ok (.iload_n 2, 1) := dk_28 (dk_at dksX5_stopsWaiting_1 19 rfl rfl)
theorem dX5_stopsWaiting_44 : decode cX5_stopsWaiting 44 = .ok (.iconst 1, 1) := dk_4 (dk_at dksX5_stopsWaiting_1 20 rfl rfl)
theorem dX5_stopsWaiting_45 : decode cX5_stopsWaiting 45 = .ok (.iadd, 1) := dk_96 (dk_at dksX5_stopsWaiting_1 21 rfl rfl)
theorem dX5_stopsWaiting_46 : decode cX5_stopsWaiting 46 = .ok (.iaload, 1) := dk_46 (dk_at dksX5_stopsWaiting_1 22 rfl rfl)
theorem dX5_stopsWaiting_47 : decode cX5_stopsWaiting 47 = .ok (.iastore, 1) := dk_79 (dk_at dksX5_stopsWaiting_1 23 rfl rfl)
theorem dX5_stopsWaiting_48 : decode cX5_stopsWaiting 48 = .ok (.aload_n 0, 1) := dk_42 (dk_at dksX5_stopsWaiting_2 0 rfl rfl)
theorem dX5_stopsWaiting_49 : decode cX5_stopsWaiting 49 = .ok (.getfield 63, 3) := dk_180 0 63 (dk_at dksX5_stopsWaiting_2 1 rfl rfl)
theorem dX5_stopsWaiting_52 : decode cX5_stopsWaiting 52 = .ok (.iload_n 2, 1) := dk_28 (dk_at dksX5_stopsWaiting_2 4 rfl rfl)
theorem dX5_stopsWaiting_53 : decode cX5_stopsWaiting 53 = .ok (.aload_n 0, 1) := dk_42 (dk_at dksX5_stopsWaiting_2 5 rfl rfl)
theorem dX5_stopsWaiting_54 : decode cX5_stopsWaiting 54 = .ok (.getfield 63, 3) := dk_180 0 63 (dk_at dksX5_stopsWaiting_2 6 rfl rfl)
theorem dX5_stopsWaiting_57 : decode cX5_stopsWaiting 57 = .ok (.iload_n 2, 1) := dk_28 (dk_at dksX5_stopsWaiting_2 9 rfl rfl)
theorem dX5_stopsWaiting_58 : decode cX5_stopsWaiting 58 = .ok (.iconst 1, 1) := dk_4 (dk_at dksX5_stopsWaiting_2 10 rfl rfl)
theorem dX5_stopsWaiting_59 : decode cX5_stopsWaiting 59 = .ok (.iadd, 1) := dk_96 (dk_at dksX5_stopsWaiting_2 11 rfl rfl)
theorem dX5_stopsWaiting_60 : decode cX5_stopsWaiting 60 = .ok (.iaload, 1) := dk_46 (dk_at dksX5_stopsWaiting_2 12 rfl rfl)
theorem dX5_stopsWaiting_61 : decode cX5_stopsWaiting 61 = .ok (.iastore, 1) := dk_79 (dk_at dksX5_stopsWaiting_2 13 rfl rfl)
theorem dX5_stopsWaiting_62 : decode cX5_stopsWaiting 62 = .ok (.aload_n 0, 1) := dk_42 (dk_at dksX5_stopsWaiting_2 14 rfl rfl)
theorem dX5_stopsWaiting_63 : decode cX5_stopsWaiting 63 = .ok (.getfield 66, 3) := dk_180 0 66 (dk_at dksX5_stopsWaiting_2 15 rfl rfl)
theorem dX5_stopsWaiting_66 : decode cX5_stopsWaiting 66 = .ok (.iload_n 2, 1) := dk_28 (dk_at dksX5_stopsWaiting_2 18 rfl rfl)
theorem dX5_stopsWaiting_67 : decode cX5_stopsWaiting 67 = .ok (.aload_n 0, 1) := dk_42 (dk_at dksX5_stopsWaiting_2 19 rfl rfl)
theorem dX5_stopsWaiting_68 : decode cX5_stopsWaiting 68 = .ok (.getfield 66, 3) := dk_180 0 66 (dk_at dksX5_stopsWaiting_2 20 rfl rfl)
theorem dX5_stopsWaiting_71 : decode cX5_stopsWaiting 71 = .ok (.iload_n 2, 1) := dk_28 (dk_at dksX5_stopsWaiting_2 23 rfl rfl)
theorem dX5_stopsWaiting_72 : decode cX5_stopsWaiting 72 = .ok (.iconst 1, 1) := dk_4 (dk_at dksX5_stopsWaiting_3 0 rfl rfl)
theorem dX5_stopsWaiting_73 : decode cX5_stopsWaiting 73 = .ok (.iadd, 1) := dk_96 (dk_at dksX5_stopsWaiting_3 1 rfl rfl)
theorem dX5_stopsWaiting_74 : decode cX5_stopsWaiting 74 = .ok (.iaload, 1) := dk_46 (dk_at dksX5_stopsWaiting_3 2 rfl rfl)
theorem dX5_stopsWaiting_75 : decode cX5_stopsWaiting 75 = .ok (.iastore, 1) := dk_79 (dk_at dksX5_stopsWaiting_3 3 rfl rfl)
theorem dX5_stopsWaiting_76 : decode cX5_stopsWaiting 76 = .ok (.iinc 2 1, 3) := dk_132 2 1 (dk_at dksX5_stopsWaiting_3 4 rfl rfl)
theorem dX5_stopsWaiting_79 : decode cX5_stopsWaiting 79 = .ok (.goto (-67), 3) := dk_167 255 189 (dk_at dksX5_stopsWaiting_3 7 rfl rfl)
theorem dX5_stopsWaiting_82 : decode cX5_stopsWaiting 82 = .ok (.return_, 1) := dk_177 (dk_at dksX5_stopsWaiting_3 10 rfl rfl)
abbrev cX5_ends : ByteArray := prog_12_method_37_code
def yX5_ends : MethodName := ⟨RX5, "ends", "(I)V"⟩
def dkwX5_ends_5 : List UInt8 := [132, 2, 1, 167, 255, 147, 177]
abbrev dktX5_ends_5 : List UInt8 := dkwX5_ends_5 ++ []
def dkwX5_ends_4 : List UInt8 := [180, 0, 51, 28, 4, 96, 46, 79, 42, 180, 0, 54, 28, 42, 180, 0, 54, 28, 4, 96, 46, 79]
abbrev dktX5_ends_4 : List UInt8 := dkwX5_ends_4 ++ dktX5_ends_5
def dkwX5_ends_3 : List UInt8 := [4, 96, 46, 79, 42, 180, 0, 48, 28, 42, 180, 0, 48, 28, 4, 96, 46, 79, 42, 180, 0, 51, 28, 42]
abbrev dktX5_ends_3 : List UInt8 := dkwX5_ends_3 ++ dktX5_ends_4
def dkwX5_ends_2 : List UInt8 := [42, 180, 0, 42, 28, 42, 180, 0, 42, 28, 4, 96, 46, 79, 42, 180, 0, 45, 28, 42, 180, 0, 45, 28]
abbrev dktX5_ends_2 : List UInt8 := dkwX5_ends_2 ++ dktX5_ends_3
def dkwX5_ends_1 : List UInt8 := [28, 42, 180, 0, 35, 28, 4, 96, 46, 79, 42, 180, 0, 39, 28, 42, 180, 0, 39, 28, 4, 96, 46, 79]
abbrev dktX5_ends_1 : List UInt8 := dkwX5_ends_1 ++ dktX5_ends_2
def dkwX5_ends_0 : List UInt8 := [42, 89, 180, 0, 132, 4, 100, 181, 0, 132, 27, 61, 28, 42, 180, 0, 132, 162, 0, 107, 42, 180, 0, 35]
abbrev dktX5_ends_0 : List UInt8 := dkwX5_ends_0 ++ dktX5_ends_1
theorem dksX5_ends_0 : cX5_ends.data.toList.drop 0 = dktX5_ends_0 := by decide +kernel
theorem dksX5_ends_1 : cX5_ends.data.toList.drop 24 = dktX5_ends_1 := dk_seg dksX5_ends_0 24 rfl rfl
theorem dksX5_ends_2 : cX5_ends.data.toList.drop 48 = dktX5_ends_2 := dk_seg dksX5_ends_1 24 rfl rfl
theorem dksX5_ends_3 : cX5_ends.data.toList.drop 72 = dktX5_ends_3 := dk_seg dksX5_ends_2 24 rfl rfl
theorem dksX5_ends_4 : cX5_ends.data.toList.drop 96 = dktX5_ends_4 := dk_seg dksX5_ends_3 24 rfl rfl
theorem dksX5_ends_5 : cX5_ends.data.toList.drop 118 = dktX5_ends_5 := dk_seg dksX5_ends_4 22 rfl rfl
theorem dX5_ends_0 : decode cX5_ends 0 = .ok (.aload_n 0, 1) := dk_42 (dk_at dksX5_ends_0 0 rfl rfl)
theorem dX5_ends_1 : decode cX5_ends 1 = .ok (.dup, 1) := dk_89 (dk_at dksX5_ends_0 1 rfl rfl)
theorem dX5_ends_2 : decode cX5_ends 2 = .ok (.getfield 132, 3) := dk_180 0 132 (dk_at dksX5_ends_0 2 rfl rfl)
theorem dX5_ends_5 : decode cX5_ends 5 = .ok (.iconst 1, 1) := dk_4 (dk_at dksX5_ends_0 5 rfl rfl)
theorem dX5_ends_6 : decode cX5_ends 6 = .ok (.isub, 1) := dk_100 (dk_at dksX5_ends_0 6 rfl rfl)
theorem dX5_ends_7 : decode cX5_ends 7 = .ok (.putfield 132, 3) := dk_181 0 132 (dk_at dksX5_ends_0 7 rfl rfl)
theorem dX5_ends_10 : decode cX5_ends 10 = .ok (.iload_n 1, 1) := dk_27 (dk_at dksX5_ends_0 10 rfl rfl)
theorem dX5_ends_11 : decode cX5_ends 11 = .ok (.istore_n 2, 1) := dk_61 (dk_at dksX5_ends_0 11 rfl rfl)
theorem dX5_ends_12 : decode cX5_ends 12 = .ok (.iload_n 2, 1) := dk_28 (dk_at dksX5_ends_0 12 rfl rfl)
theorem dX5_ends_13 : decode cX5_ends 13 = .ok (.aload_n 0, 1) := dk_42 (dk_at dksX5_ends_0 13 rfl rfl)
theorem dX5_ends_14 : decode cX5_ends 14 = .ok (.getfield 132, 3) := dk_180 0 132 (dk_at dksX5_ends_0 14 rfl rfl)
theorem dX5_ends_17 : decode cX5_ends 17 = .ok (.if_icmp .ge 107, 3) := dk_162 0 107 (dk_at dksX5_ends_0 17 rfl rfl)
theorem dX5_ends_20 : decode cX5_ends 20 = .ok (.aload_n 0, 1) := dk_42 (dk_at dksX5_ends_0 20 rfl rfl)
theorem dX5_ends_21 : decode cX5_ends 21 = .ok (.getfield 35, 3) := dk_180 0 35 (dk_at dksX5_ends_0 21 rfl rfl)
theorem dX5_ends_24 : decode cX5_ends 24 = .ok (.iload_n 2, 1) := dk_28 (dk_at dksX5_ends_1 0 rfl rfl)
theorem dX5_ends_25 : decode cX5_ends 25 = .ok (.aload_n 0, 1) := dk_42 (dk_at dksX5_ends_1 1 rfl rfl)
theorem dX5_ends_26 : decode cX5_ends 26 = .ok (.getfield 35, 3) := dk_180 0 35 (dk_at dksX5_ends_1 2 rfl rfl)
theorem dX5_ends_29 : decode cX5_ends 29 = .ok (.iload_n 2, 1) := dk_28 (dk_at dksX5_ends_1 5 rfl rfl)
theorem dX5_ends_30 : decode cX5_ends 30 = .ok (.iconst 1, 1) := dk_4 (dk_at dksX5_ends_1 6 rfl rfl)
theorem dX5_ends_31 : decode cX5_ends 31 = .ok (.iadd, 1) := dk_96 (dk_at dksX5_ends_1 7 rfl rfl)
theorem dX5_ends_32 : decode cX5_ends 32 = .ok (.iaload, 1) := dk_46 (dk_at dksX5_ends_1 8 rfl rfl)
theorem dX5_ends_33 : decode cX5_ends 33 = .ok (.iastore, 1) := dk_79 (dk_at dksX5_ends_1 9 rfl rfl)
theorem dX5_ends_34 : decode cX5_ends 34 = .ok (.aload_n 0, 1) := dk_42 (dk_at dksX5_ends_1 10 rfl rfl)
theorem dX5_ends_35 : decode cX5_ends 35 = .ok (.getfield 39, 3) := dk_180 0 39 (dk_at dksX5_ends_1 11 rfl rfl)
theorem dX5_ends_38 : decode cX5_ends 38 = .ok (.iload_n 2, 1) := dk_28 (dk_at dksX5_ends_1 14 rfl rfl)
theorem dX5_ends_39 : decode cX5_ends 39 = .ok (.aload_n 0, 1) := dk_42 (dk_at dksX5_ends_1 15 rfl rfl)
theorem dX5_ends_40 : decode cX5_ends 40 = .ok (.getfield 39, 3) := dk_180 0 39 (dk_at dksX5_ends_1 16 rfl rfl)
theorem dX5_ends_43 : decode cX5_ends 43 = .ok (.iload_n 2, 1) := dk_28 (dk_at dksX5_ends_1 19 rfl rfl)
theorem dX5_ends_44 : decode cX5_ends 44 = .ok (.iconst 1, 1) := dk_4 (dk_at dksX5_ends_1 20 rfl rfl)
theorem dX5_ends_45 : decode cX5_ends 45 = .ok (.iadd, 1) := dk_96 (dk_at dksX5_ends_1 21 rfl rfl)
theorem dX5_ends_46 : decode cX5_ends 46 = .ok (.iaload, 1) := dk_46 (dk_at dksX5_ends_1 22 rfl rfl)
theorem dX5_ends_47 : decode cX5_ends 47 = .ok (.iastore, 1) := dk_79 (dk_at dksX5_ends_1 23 rfl rfl)
theorem dX5_ends_48 : decode cX5_ends 48 = .ok (.aload_n 0, 1) := dk_42 (dk_at dksX5_ends_2 0 rfl rfl)
theorem dX5_ends_49 : decode cX5_ends 49 = .ok (.getfield 42, 3) := dk_180 0 42 (dk_at dksX5_ends_2 1 rfl rfl)
theorem dX5_ends_52 : decode cX5_ends 52 = .ok (.iload_n 2, 1) := dk_28 (dk_at dksX5_ends_2 4 rfl rfl)
theorem dX5_ends_53 : decode cX5_ends 53 = .ok (.aload_n 0, 1) := dk_42 (dk_at dksX5_ends_2 5 rfl rfl)
theorem dX5_ends_54 : decode cX5_ends 54 = .ok (.getfield 42, 3) := dk_180 0 42 (dk_at dksX5_ends_2 6 rfl rfl)
theorem dX5_ends_57 : decode cX5_ends 57 = .ok (.iload_n 2, 1) := dk_28 (dk_at dksX5_ends_2 9 rfl rfl)
theorem dX5_ends_58 : decode cX5_ends 58 = .ok (.iconst 1, 1) := dk_4 (dk_at dksX5_ends_2 10 rfl rfl)
theorem dX5_ends_59 : decode cX5_ends 59 = .ok (.iadd, 1) := dk_96 (dk_at dksX5_ends_2 11 rfl rfl)
theorem dX5_ends_60 : decode cX5_ends 60 = .ok (.iaload, 1) := dk_46 (dk_at dksX5_ends_2 12 rfl rfl)
theorem dX5_ends_61 : decode cX5_ends 61 = .ok (.iastore, 1) := dk_79 (dk_at dksX5_ends_2 13 rfl rfl)
theorem dX5_ends_62 : decode cX5_ends 62 = .ok (.aload_n 0, 1) := dk_42 (dk_at dksX5_ends_2 14 rfl rfl)
theorem dX5_ends_63 : decode cX5_ends 63 = .ok (.getfield 45, 3) := dk_180 0 45 (dk_at dksX5_ends_2 15 rfl rfl)
theorem dX5_ends_66 : decode cX5_ends 66 = .ok (.iload_n 2, 1) := dk_28 (dk_at dksX5_ends_2 18 rfl rfl)
theorem dX5_ends_67 : decode cX5_ends 67 = .ok (.aload_n 0, 1) := dk_42 (dk_at dksX5_ends_2 19 rfl rfl)
theorem dX5_ends_68 : decode cX5_ends 68 = .ok (.getfield 45, 3) := dk_180 0 45 (dk_at dksX5_ends_2 20 rfl rfl)
theorem dX5_ends_71 : decode cX5_ends 71 = .ok (.iload_n 2, 1) := dk_28 (dk_at dksX5_ends_2 23 rfl rfl)
theorem dX5_ends_72 : decode cX5_ends 72 = .ok (.iconst 1, 1) := dk_4 (dk_at dksX5_ends_3 0 rfl rfl)
theorem dX5_ends_73 : decode cX5_ends 73 = .ok (.iadd, 1) := dk_96 (dk_at dksX5_ends_3 1 rfl rfl)
theorem dX5_ends_74 : decode cX5_ends 74 = .ok (.iaload, 1) := dk_46 (dk_at dksX5_ends_3 2 rfl rfl)
theorem dX5_ends_75 : decode cX5_ends 75 = .ok (.iastore, 1) := dk_79 (dk_at dksX5_ends_3 3 rfl rfl)
theorem dX5_ends_76 : decode cX5_ends 76 = .ok (.aload_n 0, 1) := dk_42 (dk_at dksX5_ends_3 4 rfl rfl)
theorem dX5_ends_77 : decode cX5_ends 77 = .ok (.getfield 48, 3) := dk_180 0 48 (dk_at dksX5_ends_3 5 rfl rfl)
theorem dX5_ends_80 : decode cX5_ends 80 = .ok (.iload_n 2, 1) := dk_28 (dk_at dksX5_ends_3 8 rfl rfl)
theorem dX5_ends_81 : decode cX5_ends 81 = .ok (.aload_n 0, 1) := dk_42 (dk_at dksX5_ends_3 9 rfl rfl)
theorem dX5_ends_82 : decode cX5_ends 82 = .ok (.getfield 48, 3) := dk_180 0 48 (dk_at dksX5_ends_3 10 rfl rfl)
theorem dX5_ends_85 : decode cX5_ends 85 = .ok (.iload_n 2, 1) := dk_28 (dk_at dksX5_ends_3 13 rfl rfl)
theorem dX5_ends_86 : decode cX5_ends 86 = .ok (.iconst 1, 1) := dk_4 (dk_at dksX5_ends_3 14 rfl rfl)
theorem dX5_ends_87 : decode cX5_ends 87 = .ok (.iadd, 1) := dk_96 (dk_at dksX5_ends_3 15 rfl rfl)
theorem dX5_ends_88 : decode cX5_ends 88 = .ok (.iaload, 1) := dk_46 (dk_at dksX5_ends_3 16 rfl rfl)
theorem dX5_ends_89 : decode cX5_ends 89 = .ok (.iastore, 1) := dk_79 (dk_at dksX5_ends_3 17 rfl rfl)
theorem dX5_ends_90 : decode cX5_ends 90 = .ok (.aload_n 0, 1) := dk_42 (dk_at dksX5_ends_3 18 rfl rfl)
theorem dX5_ends_91 : decode cX5_ends 91 = .ok (.getfield 51, 3) := dk_180 0 51 (dk_at dksX5_ends_3 19 rfl rfl)
theorem dX5_ends_94 : decode cX5_ends 94 = .ok (.iload_n 2, 1) := dk_28 (dk_at dksX5_ends_3 22 rfl rfl)
theorem dX5_ends_95 : decode cX5_ends 95 = .ok (.aload_n 0, 1) := dk_42 (dk_at dksX5_ends_3 23 rfl rfl)
theorem dX5_ends_96 : decode cX5_ends 96 = .ok (.getfield 51, 3) := dk_180 0 51 (dk_at dksX5_ends_4 0 rfl rfl)
theorem dX5_ends_99 : decode cX5_ends 99 = .ok (.iload_n 2, 1) := dk_28 (dk_at dksX5_ends_4 3 rfl rfl)
theorem dX5_ends_100 : decode cX5_ends 100 = .ok (.iconst 1, 1) := dk_4 (dk_at dksX5_ends_4 4 rfl rfl)
theorem dX5_ends_101 : decode cX5_ends 101 = .ok (.iadd, 1) := dk_96 (dk_at dksX5_ends_4 5 rfl rfl)
theorem dX5_ends_102 : decode cX5_ends 102 = .ok (.iaload, 1) := dk_46 (dk_at dksX5_ends_4 6 rfl rfl)
theorem dX5_ends_103 : decode cX5_ends 103 = .ok (.iastore, 1) := dk_79 (dk_at dksX5_ends_4 7 rfl rfl)
theorem dX5_ends_104 : decode cX5_ends 104 = .ok (.aload_n 0, 1) := dk_42 (dk_at dksX5_ends_4 8 rfl rfl)
theorem dX5_ends_105 : decode cX5_ends 105 = .ok (.getfield 54, 3) := dk_180 0 54 (dk_at dksX5_ends_4 9 rfl rfl)
theorem dX5_ends_108 : decode cX5_ends 108 = .ok (.iload_n 2, 1) := dk_28 (dk_at dksX5_ends_4 12 rfl rfl)
theorem dX5_ends_109 : decode cX5_ends 109 = .ok (.aload_n 0, 1) := dk_42 (dk_at dksX5_ends_4 13 rfl rfl)
theorem dX5_ends_110 : decode cX5_ends 110 = .ok (.getfield 54, 3) := dk_180 0 54 (dk_at dksX5_ends_4 14 rfl rfl)
theorem dX5_ends_113 : decode cX5_ends 113 = .ok (.iload_n 2, 1) := dk_28 (dk_at dksX5_ends_4 17 rfl rfl)
theorem dX5_ends_114 : decode cX5_ends 114 = .ok (.iconst 1, 1) := dk_4 (dk_at dksX5_ends_4 18 rfl rfl)
theorem dX5_ends_115 : decode cX5_ends 115 = .ok (.iadd, 1) := dk_96 (dk_at dksX5_ends_4 19 rfl rfl)
theorem dX5_ends_116 : decode cX5_ends 116 = .ok (.iaload, 1) := dk_46 (dk_at dksX5_ends_4 20 rfl rfl)
theorem dX5_ends_117 : decode cX5_ends 117 = .ok (.iastore, 1) := dk_79 (dk_at dksX5_ends_4 21 rfl rfl)
theorem dX5_ends_118 : decode cX5_ends 118 = .ok (.iinc 2 1, 3) := dk_132 2 1 (dk_at dksX5_ends_5 0 rfl rfl)
theorem dX5_ends_121 : decode cX5_ends 121 = .ok (.goto (-109), 3) := dk_167 255 147 (dk_at dksX5_ends_5 3 rfl rfl)
theorem dX5_ends_124 : decode cX5_ends 124 = .ok (.return_, 1) := dk_177 (dk_at dksX5_ends_5 6 rfl rfl)
abbrev cX5_serves : ByteArray := prog_12_method_45_code
def yX5_serves : MethodName := ⟨RX5, "serves", "()V"⟩
def dkwX5_serves_4 : List UInt8 := [182, 0, 247, 42, 28, 29, 21, 4, 182, 0, 237, 87, 167, 255, 150, 177]
abbrev dktX5_serves_4 : List UInt8 := dkwX5_serves_4 ++ []
def dkwX5_serves_3 : List UInt8 := [79, 42, 180, 0, 81, 16, 12, 92, 46, 42, 180, 0, 126, 42, 180, 0, 66, 27, 46, 100, 96, 79, 42, 27]
abbrev dktX5_serves_3 : List UInt8 := dkwX5_serves_3 ++ dktX5_serves_4
def dkwX5_serves_2 : List UInt8 := [132, 1, 1, 167, 0, 57, 42, 180, 0, 63, 27, 46, 54, 4, 42, 180, 0, 81, 16, 11, 92, 46, 4, 96]
abbrev dktX5_serves_2 : List UInt8 := dkwX5_serves_2 ++ dktX5_serves_3
def dkwX5_serves_1 : List UInt8 := [160, 0, 7, 2, 167, 0, 14, 42, 28, 42, 180, 0, 60, 27, 46, 182, 0, 233, 62, 29, 2, 160, 0, 9]
abbrev dktX5_serves_1 : List UInt8 := dkwX5_serves_1 ++ dktX5_serves_2
def dkwX5_serves_0 : List UInt8 := [3, 60, 27, 42, 180, 0, 135, 162, 0, 104, 42, 180, 0, 57, 27, 46, 61, 42, 180, 0, 129, 17, 0, 200]
abbrev dktX5_serves_0 : List UInt8 := dkwX5_serves_0 ++ dktX5_serves_1
theorem dksX5_serves_0 : cX5_serves.data.toList.drop 0 = dktX5_serves_0 := by decide +kernel
theorem dksX5_serves_1 : cX5_serves.data.toList.drop 24 = dktX5_serves_1 := dk_seg dksX5_serves_0 24 rfl rfl
theorem dksX5_serves_2 : cX5_serves.data.toList.drop 48 = dktX5_serves_2 := dk_seg dksX5_serves_1 24 rfl rfl
theorem dksX5_serves_3 : cX5_serves.data.toList.drop 72 = dktX5_serves_3 := dk_seg dksX5_serves_2 24 rfl rfl
theorem dksX5_serves_4 : cX5_serves.data.toList.drop 96 = dktX5_serves_4 := dk_seg dksX5_serves_3 24 rfl rfl
theorem dX5_serves_0 : decode cX5_serves 0 = .ok (.iconst 0, 1) := dk_3 (dk_at dksX5_serves_0 0 rfl rfl)
theorem dX5_serves_1 : decode cX5_serves 1 = .ok (.istore_n 1, 1) := dk_60 (dk_at dksX5_serves_0 1 rfl rfl)
theorem dX5_serves_2 : decode cX5_serves 2 = .ok (.iload_n 1, 1) := dk_27 (dk_at dksX5_serves_0 2 rfl rfl)
theorem dX5_serves_3 : decode cX5_serves 3 = .ok (.aload_n 0, 1) := dk_42 (dk_at dksX5_serves_0 3 rfl rfl)
theorem dX5_serves_4 : decode cX5_serves 4 = .ok (.getfield 135, 3) := dk_180 0 135 (dk_at dksX5_serves_0 4 rfl rfl)
theorem dX5_serves_7 : decode cX5_serves 7 = .ok (.if_icmp .ge 104, 3) := dk_162 0 104 (dk_at dksX5_serves_0 7 rfl rfl)
theorem dX5_serves_10 : decode cX5_serves 10 = .ok (.aload_n 0, 1) := dk_42 (dk_at dksX5_serves_0 10 rfl rfl)
theorem dX5_serves_11 : decode cX5_serves 11 = .ok (.getfield 57, 3) := dk_180 0 57 (dk_at dksX5_serves_0 11 rfl rfl)
theorem dX5_serves_14 : decode cX5_serves 14 = .ok (.iload_n 1, 1) := dk_27 (dk_at dksX5_serves_0 14 rfl rfl)
theorem dX5_serves_15 : decode cX5_serves 15 = .ok (.iaload, 1) := dk_46 (dk_at dksX5_serves_0 15 rfl rfl)
theorem dX5_serves_16 : decode cX5_serves 16 = .ok (.istore_n 2, 1) := dk_61 (dk_at dksX5_serves_0 16 rfl rfl)
theorem dX5_serves_17 : decode cX5_serves 17 = .ok (.aload_n 0, 1) := dk_42 (dk_at dksX5_serves_0 17 rfl rfl)
theorem dX5_serves_18 : decode cX5_serves 18 = .ok (.getfield 129, 3) := dk_180 0 129 (dk_at dksX5_serves_0 18 rfl rfl)
theorem dX5_serves_21 : decode cX5_serves 21 = .ok (.sipush 200, 3) := dk_17 0 200 (dk_at dksX5_serves_0 21 rfl rfl)
theorem dX5_serves_24 : decode cX5_serves 24 = .ok (.if_icmp .ne 7, 3) := dk_160 0 7 (dk_at dksX5_serves_1 0 rfl rfl)
theorem dX5_serves_27 : decode cX5_serves 27 = .ok (.iconst (-1), 1) := dk_2 (dk_at dksX5_serves_1 3 rfl rfl)
theorem dX5_serves_28 : decode cX5_serves 28 = .ok (.goto 14, 3) := dk_167 0 14 (dk_at dksX5_serves_1 4 rfl rfl)
theorem dX5_serves_31 : decode cX5_serves 31 = .ok (.aload_n 0, 1) := dk_42 (dk_at dksX5_serves_1 7 rfl rfl)
theorem dX5_serves_32 : decode cX5_serves 32 = .ok (.iload_n 2, 1) := dk_28 (dk_at dksX5_serves_1 8 rfl rfl)
theorem dX5_serves_33 : decode cX5_serves 33 = .ok (.aload_n 0, 1) := dk_42 (dk_at dksX5_serves_1 9 rfl rfl)
theorem dX5_serves_34 : decode cX5_serves 34 = .ok (.getfield 60, 3) := dk_180 0 60 (dk_at dksX5_serves_1 10 rfl rfl)
theorem dX5_serves_37 : decode cX5_serves 37 = .ok (.iload_n 1, 1) := dk_27 (dk_at dksX5_serves_1 13 rfl rfl)
theorem dX5_serves_38 : decode cX5_serves 38 = .ok (.iaload, 1) := dk_46 (dk_at dksX5_serves_1 14 rfl rfl)
theorem dX5_serves_39 : decode cX5_serves 39 = .ok (.invokevirtual 233, 3) := dk_182 0 233 (dk_at dksX5_serves_1 15 rfl rfl)
theorem dX5_serves_42 : decode cX5_serves 42 = .ok (.istore_n 3, 1) := dk_62 (dk_at dksX5_serves_1 18 rfl rfl)
theorem dX5_serves_43 : decode cX5_serves 43 = .ok (.iload_n 3, 1) := dk_29 (dk_at dksX5_serves_1 19 rfl rfl)
theorem dX5_serves_44 : decode cX5_serves 44 = .ok (.iconst (-1), 1) := dk_2 (dk_at dksX5_serves_1 20 rfl rfl)
theorem dX5_serves_45 : decode cX5_serves 45 = .ok (.if_icmp .ne 9, 3) := dk_160 0 9 (dk_at dksX5_serves_1 21 rfl rfl)
theorem dX5_serves_48 : decode cX5_serves 48 = .ok (.iinc 1 1, 3) := dk_132 1 1 (dk_at dksX5_serves_2 0 rfl rfl)
theorem dX5_serves_51 : decode cX5_serves 51 = .ok (.goto 57, 3) := dk_167 0 57 (dk_at dksX5_serves_2 3 rfl rfl)
theorem dX5_serves_54 : decode cX5_serves 54 = .ok (.aload_n 0, 1) := dk_42 (dk_at dksX5_serves_2 6 rfl rfl)
theorem dX5_serves_55 : decode cX5_serves 55 = .ok (.getfield 63, 3) := dk_180 0 63 (dk_at dksX5_serves_2 7 rfl rfl)
theorem dX5_serves_58 : decode cX5_serves 58 = .ok (.iload_n 1, 1) := dk_27 (dk_at dksX5_serves_2 10 rfl rfl)
theorem dX5_serves_59 : decode cX5_serves 59 = .ok (.iaload, 1) := dk_46 (dk_at dksX5_serves_2 11 rfl rfl)
theorem dX5_serves_60 : decode cX5_serves 60 = .ok (.istore 4, 2) := dk_54 4 (dk_at dksX5_serves_2 12 rfl rfl)
theorem dX5_serves_62 : decode cX5_serves 62 = .ok (.aload_n 0, 1) := dk_42 (dk_at dksX5_serves_2 14 rfl rfl)
theorem dX5_serves_63 : decode cX5_serves 63 = .ok (.getfield 81, 3) := dk_180 0 81 (dk_at dksX5_serves_2 15 rfl rfl)
theorem dX5_serves_66 : decode cX5_serves 66 = .ok (.bipush 11, 2) := dk_16 11 (dk_at dksX5_serves_2 18 rfl rfl)
theorem dX5_serves_68 : decode cX5_serves 68 = .ok (.dup2, 1) := dk_92 (dk_at dksX5_serves_2 20 rfl rfl)
theorem dX5_serves_69 : decode cX5_serves 69 = .ok (.iaload, 1) := dk_46 (dk_at dksX5_serves_2 21 rfl rfl)
theorem dX5_serves_70 : decode cX5_serves 70 = .ok (.iconst 1, 1) := dk_4 (dk_at dksX5_serves_2 22 rfl rfl)
theorem dX5_serves_71 : decode cX5_serves 71 = .ok (.iadd, 1) := dk_96 (dk_at dksX5_serves_2 23 rfl rfl)
theorem dX5_serves_72 : decode cX5_serves 72 = .ok (.iastore, 1) := dk_79 (dk_at dksX5_serves_3 0 rfl rfl)
theorem dX5_serves_73 : decode cX5_serves 73 = .ok (.aload_n 0, 1) := dk_42 (dk_at dksX5_serves_3 1 rfl rfl)
theorem dX5_serves_74 : decode cX5_serves 74 = .ok (.getfield 81, 3) := dk_180 0 81 (dk_at dksX5_serves_3 2 rfl rfl)
theorem dX5_serves_77 : decode cX5_serves 77 = .ok (.bipush 12, 2) := dk_16 12 (dk_at dksX5_serves_3 5 rfl rfl)
theorem dX5_serves_79 : decode cX5_serves 79 = .ok (.dup2, 1) := dk_92 (dk_at dksX5_serves_3 7 rfl rfl)
theorem dX5_serves_80 : decode cX5_serves 80 = .ok (.iaload, 1) := dk_46 (dk_at dksX5_serves_3 8 rfl rfl)
theorem dX5_serves_81 : decode cX5_serves 81 = .ok (.aload_n 0, 1) := dk_42 (dk_at dksX5_serves_3 9 rfl rfl)
theorem dX5_serves_82 : decode cX5_serves 82 = .ok (.getfield 126, 3) := dk_180 0 126 (dk_at dksX5_serves_3 10 rfl rfl)
theorem dX5_serves_85 : decode cX5_serves 85 = .ok (.aload_n 0, 1) := dk_42 (dk_at dksX5_serves_3 13 rfl rfl)
theorem dX5_serves_86 : decode cX5_serves 86 = .ok (.getfield 66, 3) := dk_180 0 66 (dk_at dksX5_serves_3 14 rfl rfl)
theorem dX5_serves_89 : decode cX5_serves 89 = .ok (.iload_n 1, 1) := dk_27 (dk_at dksX5_serves_3 17 rfl rfl)
theorem dX5_serves_90 : decode cX5_serves 90 = .ok (.iaload, 1) := dk_46 (dk_at dksX5_serves_3 18 rfl rfl)
theorem dX5_serves_91 : decode cX5_serves 91 = .ok (.isub, 1) := dk_100 (dk_at dksX5_serves_3 19 rfl rfl)
theorem dX5_serves_92 : decode cX5_serves 92 = .ok (.iadd, 1) := dk_96 (dk_at dksX5_serves_3 20 rfl rfl)
theorem dX5_serves_93 : decode cX5_serves 93 = .ok (.iastore, 1) := dk_79 (dk_at dksX5_serves_3 21 rfl rfl)
theorem dX5_serves_94 : decode cX5_serves 94 = .ok (.aload_n 0, 1) := dk_42 (dk_at dksX5_serves_3 22 rfl rfl)
theorem dX5_serves_95 : decode cX5_serves 95 = .ok (.iload_n 1, 1) := dk_27 (dk_at dksX5_serves_3 23 rfl rfl)
theorem dX5_serves_96 : decode cX5_serves 96 = .ok (.invokevirtual 247, 3) := dk_182 0 247 (dk_at dksX5_serves_4 0 rfl rfl)
theorem dX5_serves_99 : decode cX5_serves 99 = .ok (.aload_n 0, 1) := dk_42 (dk_at dksX5_serves_4 3 rfl rfl)
theorem dX5_serves_100 : decode cX5_serves 100 = .ok (.iload_n 2, 1) := dk_28 (dk_at dksX5_serves_4 4 rfl rfl)
theorem dX5_serves_101 : decode cX5_serves 101 = .ok (.iload_n 3, 1) := dk_29 (dk_at dksX5_serves_4 5 rfl rfl)
theorem dX5_serves_102 : decode cX5_serves 102 = .ok (.iload 4, 2) := dk_21 4 (dk_at dksX5_serves_4 6 rfl rfl)
theorem dX5_serves_104 : decode cX5_serves 104 = .ok (.invokevirtual 237, 3) := dk_182 0 237 (dk_at dksX5_serves_4 8 rfl rfl)
theorem dX5_serves_107 : decode cX5_serves 107 = .ok (.pop, 1) := dk_87 (dk_at dksX5_serves_4 11 rfl rfl)
theorem dX5_serves_108 : decode cX5_serves 108 = .ok (.goto (-106), 3) := dk_167 255 150 (dk_at dksX5_serves_4 12 rfl rfl)
theorem dX5_serves_111 : decode cX5_serves 111 = .ok (.return_, 1) := dk_177 (dk_at dksX5_serves_4 15 rfl rfl)
abbrev cX5_passes : ByteArray := prog_12_method_47_code
def yX5_passes : MethodName := ⟨RX5, "passes", "()I"⟩
def dkwX5_passes_3 : List UInt8 := [167, 255, 201, 132, 2, 1, 167, 255, 195, 42, 182, 0, 253, 27, 172]
abbrev dktX5_passes_3 : List UInt8 := dkwX5_passes_3 ++ []
def dkwX5_passes_2 : List UInt8 := [180, 0, 126, 160, 0, 24, 42, 28, 182, 0, 250, 42, 180, 0, 81, 3, 92, 46, 4, 96, 79, 132, 1, 1]
abbrev dktX5_passes_2 : List UInt8 := dkwX5_passes_2 ++ dktX5_passes_3
def dkwX5_passes_1 : List UInt8 := [180, 0, 51, 28, 46, 158, 0, 44, 42, 180, 0, 48, 28, 46, 42, 180, 0, 51, 28, 46, 96, 42]
abbrev dktX5_passes_1 : List UInt8 := dkwX5_passes_1 ++ dktX5_passes_2
def dkwX5_passes_0 : List UInt8 := [3, 60, 42, 89, 180, 0, 126, 4, 96, 181, 0, 126, 3, 61, 28, 42, 180, 0, 132, 162, 0, 59, 42]
abbrev dktX5_passes_0 : List UInt8 := dkwX5_passes_0 ++ dktX5_passes_1
theorem dksX5_passes_0 : cX5_passes.data.toList.drop 0 = dktX5_passes_0 := by decide +kernel
theorem dksX5_passes_1 : cX5_passes.data.toList.drop 23 = dktX5_passes_1 := dk_seg dksX5_passes_0 23 rfl rfl
theorem dksX5_passes_2 : cX5_passes.data.toList.drop 45 = dktX5_passes_2 := dk_seg dksX5_passes_1 22 rfl rfl
theorem dksX5_passes_3 : cX5_passes.data.toList.drop 69 = dktX5_passes_3 := dk_seg dksX5_passes_2 24 rfl rfl
theorem dX5_passes_0 : decode cX5_passes 0 = .ok (.iconst 0, 1) := dk_3 (dk_at dksX5_passes_0 0 rfl rfl)
theorem dX5_passes_1 : decode cX5_passes 1 = .ok (.istore_n 1, 1) := dk_60 (dk_at dksX5_passes_0 1 rfl rfl)
theorem dX5_passes_2 : decode cX5_passes 2 = .ok (.aload_n 0, 1) := dk_42 (dk_at dksX5_passes_0 2 rfl rfl)
theorem dX5_passes_3 : decode cX5_passes 3 = .ok (.dup, 1) := dk_89 (dk_at dksX5_passes_0 3 rfl rfl)
theorem dX5_passes_4 : decode cX5_passes 4 = .ok (.getfield 126, 3) := dk_180 0 126 (dk_at dksX5_passes_0 4 rfl rfl)
theorem dX5_passes_7 : decode cX5_passes 7 = .ok (.iconst 1, 1) := dk_4 (dk_at dksX5_passes_0 7 rfl rfl)
theorem dX5_passes_8 : decode cX5_passes 8 = .ok (.iadd, 1) := dk_96 (dk_at dksX5_passes_0 8 rfl rfl)
theorem dX5_passes_9 : decode cX5_passes 9 = .ok (.putfield 126, 3) := dk_181 0 126 (dk_at dksX5_passes_0 9 rfl rfl)
theorem dX5_passes_12 : decode cX5_passes 12 = .ok (.iconst 0, 1) := dk_3 (dk_at dksX5_passes_0 12 rfl rfl)
theorem dX5_passes_13 : decode cX5_passes 13 = .ok (.istore_n 2, 1) := dk_61 (dk_at dksX5_passes_0 13 rfl rfl)
theorem dX5_passes_14 : decode cX5_passes 14 = .ok (.iload_n 2, 1) := dk_28 (dk_at dksX5_passes_0 14 rfl rfl)
theorem dX5_passes_15 : decode cX5_passes 15 = .ok (.aload_n 0, 1) := dk_42 (dk_at dksX5_passes_0 15 rfl rfl)
theorem dX5_passes_16 : decode cX5_passes 16 = .ok (.getfield 132, 3) := dk_180 0 132 (dk_at dksX5_passes_0 16 rfl rfl)
theorem dX5_passes_19 : decode cX5_passes 19 = .ok (.if_icmp .ge 59, 3) := dk_162 0 59 (dk_at dksX5_passes_0 19 rfl rfl)
theorem dX5_passes_22 : decode cX5_passes 22 = .ok (.aload_n 0, 1) := dk_42 (dk_at dksX5_passes_0 22 rfl rfl)
theorem dX5_passes_23 : decode cX5_passes 23 = .ok (.getfield 51, 3) := dk_180 0 51 (dk_at dksX5_passes_1 0 rfl rfl)
theorem dX5_passes_26 : decode cX5_passes 26 = .ok (.iload_n 2, 1) := dk_28 (dk_at dksX5_passes_1 3 rfl rfl)
theorem dX5_passes_27 : decode cX5_passes 27 = .ok (.iaload, 1) := dk_46 (dk_at dksX5_passes_1 4 rfl rfl)
theorem dX5_passes_28 : decode cX5_passes 28 = .ok (.ifCond .le 44, 3) := dk_158 0 44 (dk_at dksX5_passes_1 5 rfl rfl)
theorem dX5_passes_31 : decode cX5_passes 31 = .ok (.aload_n 0, 1) := dk_42 (dk_at dksX5_passes_1 8 rfl rfl)
theorem dX5_passes_32 : decode cX5_passes 32 = .ok (.getfield 48, 3) := dk_180 0 48 (dk_at dksX5_passes_1 9 rfl rfl)
theorem dX5_passes_35 : decode cX5_passes 35 = .ok (.iload_n 2, 1) := dk_28 (dk_at dksX5_passes_1 12 rfl rfl)
theorem dX5_passes_36 : decode cX5_passes 36 = .ok (.iaload, 1) := dk_46 (dk_at dksX5_passes_1 13 rfl rfl)
theorem dX5_passes_37 : decode cX5_passes 37 = .ok (.aload_n 0, 1) := dk_42 (dk_at dksX5_passes_1 14 rfl rfl)
theorem dX5_passes_38 : decode cX5_passes 38 = .ok (.getfield 51, 3) := dk_180 0 51 (dk_at dksX5_passes_1 15 rfl rfl)
theorem dX5_passes_41 : decode cX5_passes 41 = .ok (.iload_n 2, 1) := dk_28 (dk_at dksX5_passes_1 18 rfl rfl)
theorem dX5_passes_42 : decode cX5_passes 42 = .ok (.iaload, 1) := dk_46 (dk_at dksX5_passes_1 19 rfl rfl)
theorem dX5_passes_43 : decode cX5_passes 43 = .ok (.iadd, 1) := dk_96 (dk_at dksX5_passes_1 20 rfl rfl)
theorem dX5_passes_44 : decode cX5_passes 44 = .ok (.aload_n 0, 1) := dk_42 (dk_at dksX5_passes_1 21 rfl rfl)
theorem dX5_passes_45 : decode cX5_passes 45 = .ok (.getfield 126, 3) := dk_180 0 126 (dk_at dksX5_passes_2 0 rfl rfl)
theorem dX5_passes_48 : decode cX5_passes 48 = .ok (.if_icmp .ne 24, 3) := dk_160 0 24 (dk_at dksX5_passes_2 3 rfl rfl)
theorem dX5_passes_51 : decode cX5_passes 51 = .ok (.aload_n 0, 1) := dk_42 (dk_at dksX5_passes_2 6 rfl rfl)
theorem dX5_passes_52 : decode cX5_passes 52 = .ok (.iload_n 2, 1) := dk_28 (dk_at dksX5_passes_2 7 rfl rfl)
theorem dX5_passes_53 : decode cX5_passes 53 = .ok (.invokevirtual 250, 3) := dk_182 0 250 (dk_at dksX5_passes_2 8 rfl rfl)
theorem dX5_passes_56 : decode cX5_passes 56 = .ok (.aload_n 0, 1) := dk_42 (dk_at dksX5_passes_2 11 rfl rfl)
theorem dX5_passes_57 : decode cX5_passes 57 = .ok (.getfield 81, 3) := dk_180 0 81 (dk_at dksX5_passes_2 12 rfl rfl)
theorem dX5_passes_60 : decode cX5_passes 60 = .ok (.iconst 0, 1) := dk_3 (dk_at dksX5_passes_2 15 rfl rfl)
theorem dX5_passes_61 : decode cX5_passes 61 = .ok (.dup2, 1) := dk_92 (dk_at dksX5_passes_2 16 rfl rfl)
theorem dX5_passes_62 : decode cX5_passes 62 = .ok (.iaload, 1) := dk_46 (dk_at dksX5_passes_2 17 rfl rfl)
theorem dX5_passes_63 : decode cX5_passes 63 = .ok (.iconst 1, 1) := dk_4 (dk_at dksX5_passes_2 18 rfl rfl)
theorem dX5_passes_64 : decode cX5_passes 64 = .ok (.iadd, 1) := dk_96 (dk_at dksX5_passes_2 19 rfl rfl)
theorem dX5_passes_65 : decode cX5_passes 65 = .ok (.iastore, 1) := dk_79 (dk_at dksX5_passes_2 20 rfl rfl)
theorem dX5_passes_66 : decode cX5_passes 66 = .ok (.iinc 1 1, 3) := dk_132 1 1 (dk_at dksX5_passes_2 21 rfl rfl)
theorem dX5_passes_69 : decode cX5_passes 69 = .ok (.goto (-55), 3) := dk_167 255 201 (dk_at dksX5_passes_3 0 rfl rfl)
theorem dX5_passes_72 : decode cX5_passes 72 = .ok (.iinc 2 1, 3) := dk_132 2 1 (dk_at dksX5_passes_3 3 rfl rfl)
theorem dX5_passes_75 : decode cX5_passes 75 = .ok (.goto (-61), 3) := dk_167 255 195 (dk_at dksX5_passes_3 6 rfl rfl)
theorem dX5_passes_78 : decode cX5_passes 78 = .ok (.aload_n 0, 1) := dk_42 (dk_at dksX5_passes_3 9 rfl rfl)
theorem dX5_passes_79 : decode cX5_passes 79 = .ok (.invokevirtual 253, 3) := dk_182 0 253 (dk_at dksX5_passes_3 10 rfl rfl)
theorem dX5_passes_82 : decode cX5_passes 82 = .ok (.iload_n 1, 1) := dk_27 (dk_at dksX5_passes_3 13 rfl rfl)
theorem dX5_passes_83 : decode cX5_passes 83 = .ok (.ireturn, 1) := dk_172 (dk_at dksX5_passes_3 14 rfl rfl)
abbrev cX5_readsMiddle : ByteArray := prog_12_method_73_code
def yX5_readsMiddle : MethodName := ⟨RX5, "readsMiddle", "(Z)Z"⟩
def dkwX5_readsMiddle_3 : List UInt8 := [181, 0, 120, 42, 182, 0, 253, 4, 172]
abbrev dktX5_readsMiddle_3 : List UInt8 := dkwX5_readsMiddle_3 ++ []
def dkwX5_readsMiddle_2 : List UInt8 := [153, 0, 12, 42, 28, 182, 1, 145, 87, 167, 0, 21, 42, 89, 180, 0, 120, 4, 28, 120, 2, 130, 126]
abbrev dktX5_readsMiddle_2 : List UInt8 := dkwX5_readsMiddle_2 ++ dktX5_readsMiddle_3
def dkwX5_readsMiddle_1 : List UInt8 := [182, 0, 164, 27, 160, 0, 10, 42, 16, 6, 182, 1, 55, 172, 42, 182, 1, 73, 154, 0, 5, 3, 172, 27]
abbrev dktX5_readsMiddle_1 : List UInt8 := dkwX5_readsMiddle_1 ++ dktX5_readsMiddle_2
def dkwX5_readsMiddle_0 : List UInt8 := [42, 3, 42, 180, 0, 26, 4, 100, 182, 1, 61, 154, 0, 5, 3, 172, 42, 180, 1, 38, 61, 42, 28]
abbrev dktX5_readsMiddle_0 : List UInt8 := dkwX5_readsMiddle_0 ++ dktX5_readsMiddle_1
theorem dksX5_readsMiddle_0 : cX5_readsMiddle.data.toList.drop 0 = dktX5_readsMiddle_0 := by decide +kernel
theorem dksX5_readsMiddle_1 : cX5_readsMiddle.data.toList.drop 23 = dktX5_readsMiddle_1 := dk_seg dksX5_readsMiddle_0 23 rfl rfl
theorem dksX5_readsMiddle_2 : cX5_readsMiddle.data.toList.drop 47 = dktX5_readsMiddle_2 := dk_seg dksX5_readsMiddle_1 24 rfl rfl
theorem dksX5_readsMiddle_3 : cX5_readsMiddle.data.toList.drop 70 = dktX5_readsMiddle_3 := dk_seg dksX5_readsMiddle_2 23 rfl rfl
theorem dX5_readsMiddle_0 : decode cX5_readsMiddle 0 = .ok (.aload_n 0, 1) := dk_42 (dk_at dksX5_readsMiddle_0 0 rfl rfl)
theorem dX5_readsMiddle_1 : decode cX5_readsMiddle 1 = .ok (.iconst 0, 1) := dk_3 (dk_at dksX5_readsMiddle_0 1 rfl rfl)
theorem dX5_readsMiddle_2 : decode cX5_readsMiddle 2 = .ok (.aload_n 0, 1) := dk_42 (dk_at dksX5_readsMiddle_0 2 rfl rfl)
theorem dX5_readsMiddle_3 : decode cX5_readsMiddle 3 = .ok (.getfield 26, 3) := dk_180 0 26 (dk_at dksX5_readsMiddle_0 3 rfl rfl)
theorem dX5_readsMiddle_6 : decode cX5_readsMiddle 6 = .ok (.iconst 1, 1) := dk_4 (dk_at dksX5_readsMiddle_0 6 rfl rfl)
theorem dX5_readsMiddle_7 : decode cX5_readsMiddle 7 = .ok (.isub, 1) := dk_100 (dk_at dksX5_readsMiddle_0 7 rfl rfl)
theorem dX5_readsMiddle_8 : decode cX5_readsMiddle 8 = .ok (.invokevirtual 317, 3) := dk_182 1 61 (dk_at dksX5_readsMiddle_0 8 rfl rfl)
theorem dX5_readsMiddle_11 : decode cX5_readsMiddle 11 = .ok (.ifCond .ne 5, 3) := dk_154 0 5 (dk_at dksX5_readsMiddle_0 11 rfl rfl)
theorem dX5_readsMiddle_14 : decode cX5_readsMiddle 14 = .ok (.iconst 0, 1) := dk_3 (dk_at dksX5_readsMiddle_0 14 rfl rfl)
theorem dX5_readsMiddle_15 : decode cX5_readsMiddle 15 = .ok (.ireturn, 1) := dk_172 (dk_at dksX5_readsMiddle_0 15 rfl rfl)
theorem dX5_readsMiddle_16 : decode cX5_readsMiddle 16 = .ok (.aload_n 0, 1) := dk_42 (dk_at dksX5_readsMiddle_0 16 rfl rfl)
theorem dX5_readsMiddle_17 : decode cX5_readsMiddle 17 = .ok (.getfield 294, 3) := dk_180 1 38 (dk_at dksX5_readsMiddle_0 17 rfl rfl)
theorem dX5_readsMiddle_20 : decode cX5_readsMiddle 20 = .ok (.istore_n 2, 1) := dk_61 (dk_at dksX5_readsMiddle_0 20 rfl rfl)
theorem dX5_readsMiddle_21 : decode cX5_readsMiddle 21 = .ok (.aload_n 0, 1) := dk_42 (dk_at dksX5_readsMiddle_0 21 rfl rfl)
theorem dX5_readsMiddle_22 : decode cX5_readsMiddle 22 = .ok (.iload_n 2, 1) := dk_28 (dk_at dksX5_readsMiddle_0 22 rfl rfl)
theorem dX5_readsMiddle_23 : decode cX5_readsMiddle 23 = .ok (.invokevirtual 164, 3) := dk_182 0 164 (dk_at dksX5_readsMiddle_1 0 rfl rfl)
theorem dX5_readsMiddle_26 : decode cX5_readsMiddle 26 = .ok (.iload_n 1, 1) := dk_27 (dk_at dksX5_readsMiddle_1 3 rfl rfl)
theorem dX5_readsMiddle_27 : decode cX5_readsMiddle 27 = .ok (.if_icmp .ne 10, 3) := dk_160 0 10 (dk_at dksX5_readsMiddle_1 4 rfl rfl)
theorem dX5_readsMiddle_30 : decode cX5_readsMiddle 30 = .ok (.aload_n 0, 1) := dk_42 (dk_at dksX5_readsMiddle_1 7 rfl rfl)
theorem dX5_readsMiddle_31 : decode cX5_readsMiddle 31 = .ok (.bipush 6, 2) := dk_16 6 (dk_at dksX5_readsMiddle_1 8 rfl rfl)
theorem dX5_readsMiddle_33 : decode cX5_readsMiddle 33 = .ok (.invokevirtual 311, 3) := dk_182 1 55 (dk_at dksX5_readsMiddle_1 10 rfl rfl)
theorem dX5_readsMiddle_36 : decode cX5_readsMiddle 36 = .ok (.ireturn, 1) := dk_172 (dk_at dksX5_readsMiddle_1 13 rfl rfl)
theorem dX5_readsMiddle_37 : decode cX5_readsMiddle 37 = .ok (.aload_n 0, 1) := dk_42 (dk_at dksX5_readsMiddle_1 14 rfl rfl)
theorem dX5_readsMiddle_38 : decode cX5_readsMiddle 38 = .ok (.invokevirtual 329, 3) := dk_182 1 73 (dk_at dksX5_readsMiddle_1 15 rfl rfl)
theorem dX5_readsMiddle_41 : decode cX5_readsMiddle 41 = .ok (.ifCond .ne 5, 3) := dk_154 0 5 (dk_at dksX5_readsMiddle_1 18 rfl rfl)
theorem dX5_readsMiddle_44 : decode cX5_readsMiddle 44 = .ok (.iconst 0, 1) := dk_3 (dk_at dksX5_readsMiddle_1 21 rfl rfl)
theorem dX5_readsMiddle_45 : decode cX5_readsMiddle 45 = .ok (.ireturn, 1) := dk_172 (dk_at dksX5_readsMiddle_1 22 rfl rfl)
theorem dX5_readsMiddle_46 : decode cX5_readsMiddle 46 = .ok (.iload_n 1, 1) := dk_27 (dk_at dksX5_readsMiddle_1 23 rfl rfl)
theorem dX5_readsMiddle_47 : decode cX5_readsMiddle 47 = .ok (.ifCond .eq 12, 3) := dk_153 0 12 (dk_at dksX5_readsMiddle_2 0 rfl rfl)
theorem dX5_readsMiddle_50 : decode cX5_readsMiddle 50 = .ok (.aload_n 0, 1) := dk_42 (dk_at dksX5_readsMiddle_2 3 rfl rfl)
theorem dX5_readsMiddle_51 : decode cX5_readsMiddle 51 = .ok (.iload_n 2, 1) := dk_28 (dk_at dksX5_readsMiddle_2 4 rfl rfl)
theorem dX5_readsMiddle_52 : decode cX5_readsMiddle 52 = .ok (.invokevirtual 401, 3) := dk_182 1 145 (dk_at dksX5_readsMiddle_2 5 rfl rfl)
theorem dX5_readsMiddle_55 : decode cX5_readsMiddle 55 = .ok (.pop, 1) := dk_87 (dk_at dksX5_readsMiddle_2 8 rfl rfl)
theorem dX5_readsMiddle_56 : decode cX5_readsMiddle 56 = .ok (.goto 21, 3) := dk_167 0 21 (dk_at dksX5_readsMiddle_2 9 rfl rfl)
theorem dX5_readsMiddle_59 : decode cX5_readsMiddle 59 = .ok (.aload_n 0, 1) := dk_42 (dk_at dksX5_readsMiddle_2 12 rfl rfl)
theorem dX5_readsMiddle_60 : decode cX5_readsMiddle 60 = .ok (.dup, 1) := dk_89 (dk_at dksX5_readsMiddle_2 13 rfl rfl)
theorem dX5_readsMiddle_61 : decode cX5_readsMiddle 61 = .ok (.getfield 120, 3) := dk_180 0 120 (dk_at dksX5_readsMiddle_2 14 rfl rfl)
theorem dX5_readsMiddle_64 : decode cX5_readsMiddle 64 = .ok (.iconst 1, 1) := dk_4 (dk_at dksX5_readsMiddle_2 17 rfl rfl)
theorem dX5_readsMiddle_65 : decode cX5_readsMiddle 65 = .ok (.iload_n 2, 1) := dk_28 (dk_at dksX5_readsMiddle_2 18 rfl rfl)
theorem dX5_readsMiddle_66 : decode cX5_readsMiddle 66 = .ok (.ishl, 1) := dk_120 (dk_at dksX5_readsMiddle_2 19 rfl rfl)
theorem dX5_readsMiddle_67 : decode cX5_readsMiddle 67 = .ok (.iconst (-1), 1) := dk_2 (dk_at dksX5_readsMiddle_2 20 rfl rfl)
theorem dX5_readsMiddle_68 : decode cX5_readsMiddle 68 = .ok (.ixor, 1) := dk_130 (dk_at dksX5_readsMiddle_2 21 rfl rfl)
theorem dX5_readsMiddle_69 : decode cX5_readsMiddle 69 = .ok (.iand, 1) := dk_126 (dk_at dksX5_readsMiddle_2 22 rfl rfl)
theorem dX5_readsMiddle_70 : decode cX5_readsMiddle 70 = .ok (.putfield 120, 3) := dk_181 0 120 (dk_at dksX5_readsMiddle_3 0 rfl rfl)
theorem dX5_readsMiddle_73 : decode cX5_readsMiddle 73 = .ok (.aload_n 0, 1) := dk_42 (dk_at dksX5_readsMiddle_3 3 rfl rfl)
theorem dX5_readsMiddle_74 : decode cX5_readsMiddle 74 = .ok (.invokevirtual 253, 3) := dk_182 0 253 (dk_at dksX5_readsMiddle_3 4 rfl rfl)
theorem dX5_readsMiddle_77 : decode cX5_readsMiddle 77 = .ok (.iconst 1, 1) := dk_4 (dk_at dksX5_readsMiddle_3 7 rfl rfl)
theorem dX5_readsMiddle_78 : decode cX5_readsMiddle 78 = .ok (.ireturn, 1) := dk_172 (dk_at dksX5_readsMiddle_3 8 rfl rfl)
abbrev cX5_cuts : ByteArray := prog_12_method_48_code
def yX5_cuts : MethodName := ⟨RX5, "cuts", "(I)I"⟩
def dkwX5_cuts_9 : List UInt8 := [167, 255, 126, 28, 172]
abbrev dktX5_cuts_9 : List UInt8 := dkwX5_cuts_9 ++ []
def dkwX5_cuts_8 : List UInt8 := [42, 21, 6, 181, 0, 32, 42, 180, 0, 81, 16, 10, 92, 46, 4, 96, 79, 132, 3, 1, 132, 5, 1]
abbrev dktX5_cuts_8 : List UInt8 := dkwX5_cuts_8 ++ dktX5_cuts_9
def dkwX5_cuts_7 : List UInt8 := [132, 2, 1, 167, 0, 41, 42, 180, 0, 45, 29, 21, 6, 79, 42, 180, 0, 54, 29, 92, 46, 4, 96, 79]
abbrev dktX5_cuts_7 : List UInt8 := dkwX5_cuts_7 ++ dktX5_cuts_8
def dkwX5_cuts_6 : List UInt8 := [21, 6, 2, 160, 0, 25, 42, 29, 182, 0, 250, 42, 180, 0, 81, 16, 7, 92, 46, 4, 96, 79]
abbrev dktX5_cuts_6 : List UInt8 := dkwX5_cuts_6 ++ dktX5_cuts_7
def dkwX5_cuts_5 : List UInt8 := [42, 180, 0, 29, 4, 160, 0, 7, 4, 167, 0, 4, 3, 42, 180, 0, 26, 4, 182, 0, 220, 54, 6]
abbrev dktX5_cuts_5 : List UInt8 := dkwX5_cuts_5 ++ dktX5_cuts_6
def dkwX5_cuts_4 : List UInt8 := [154, 0, 9, 132, 3, 1, 167, 0, 107, 42, 42, 29, 182, 0, 177, 42, 29, 182, 0, 174, 42, 180, 0, 123]
abbrev dktX5_cuts_4 : List UInt8 := dkwX5_cuts_4 ++ dktX5_cuts_5
def dkwX5_cuts_3 : List UInt8 := [42, 180, 0, 132, 54, 4, 3, 54, 5, 21, 5, 21, 4, 162, 0, 129, 42, 180, 0, 97, 21, 5, 46]
abbrev dktX5_cuts_3 : List UInt8 := dkwX5_cuts_3 ++ dktX5_cuts_4
def dkwX5_cuts_2 : List UInt8 := [180, 0, 97, 29, 46, 4, 160, 0, 10, 42, 180, 0, 45, 29, 2, 79, 132, 3, 1, 167, 255, 207, 3, 62]
abbrev dktX5_cuts_2 : List UInt8 := dkwX5_cuts_2 ++ dktX5_cuts_3
def dkwX5_cuts_1 : List UInt8 := [42, 180, 0, 97, 29, 42, 180, 0, 45, 29, 46, 27, 160, 0, 7, 4, 167, 0, 4, 3, 79, 42]
abbrev dktX5_cuts_1 : List UInt8 := dkwX5_cuts_1 ++ dktX5_cuts_2
def dkwX5_cuts_0 : List UInt8 := [42, 89, 180, 0, 120, 4, 27, 120, 128, 181, 0, 120, 3, 61, 3, 62, 29, 42, 180, 0, 132, 162, 0, 47]
abbrev dktX5_cuts_0 : List UInt8 := dkwX5_cuts_0 ++ dktX5_cuts_1
theorem dksX5_cuts_0 : cX5_cuts.data.toList.drop 0 = dktX5_cuts_0 := by decide +kernel
theorem dksX5_cuts_1 : cX5_cuts.data.toList.drop 24 = dktX5_cuts_1 := dk_seg dksX5_cuts_0 24 rfl rfl
theorem dksX5_cuts_2 : cX5_cuts.data.toList.drop 46 = dktX5_cuts_2 := dk_seg dksX5_cuts_1 22 rfl rfl
theorem dksX5_cuts_3 : cX5_cuts.data.toList.drop 70 = dktX5_cuts_3 := dk_seg dksX5_cuts_2 24 rfl rfl
theorem dksX5_cuts_4 : cX5_cuts.data.toList.drop 93 = dktX5_cuts_4 := dk_seg dksX5_cuts_3 23 rfl rfl
theorem dksX5_cuts_5 : cX5_cuts.data.toList.drop 117 = dktX5_cuts_5 := dk_seg dksX5_cuts_4 24 rfl rfl
theorem dksX5_cuts_6 : cX5_cuts.data.toList.drop 140 = dktX5_cuts_6 := dk_seg dksX5_cuts_5 23 rfl rfl
theorem dksX5_cuts_7 : cX5_cuts.data.toList.drop 162 = dktX5_cuts_7 := dk_seg dksX5_cuts_6 22 rfl rfl
theorem dksX5_cuts_8 : cX5_cuts.data.toList.drop 186 = dktX5_cuts_8 := dk_seg dksX5_cuts_7 24 rfl rfl
theorem dksX5_cuts_9 : cX5_cuts.data.toList.drop 209 = dktX5_cuts_9 := dk_seg dksX5_cuts_8 23 rfl rfl
theorem dX5_cuts_0 : decode cX5_cuts 0 = .ok (.aload_n 0, 1) := dk_42 (dk_at dksX5_cuts_0 0 rfl rfl)
theorem dX5_cuts_1 : decode cX5_cuts 1 = .ok (.dup, 1) := dk_89 (dk_at dksX5_cuts_0 1 rfl rfl)
theorem dX5_cuts_2 : decode cX5_cuts 2 = .ok (.getfield 120, 3) := dk_180 0 120 (dk_at dksX5_cuts_0 2 rfl rfl)
theorem dX5_cuts_5 : decode cX5_cuts 5 = .ok (.iconst 1, 1) := dk_4 (dk_at dksX5_cuts_0 5 rfl rfl)
theorem dX5_cuts_6 : decode cX5_cuts 6 = .ok (.iload_n 1, 1) := dk_27 (dk_at dksX5_cuts_0 6 rfl rfl)
theorem dX5_cuts_7 : decode cX5_cuts 7 = .ok (.ishl, 1) := dk_120 (dk_at dksX5_cuts_0 7 rfl rfl)
theorem dX5_cuts_8 : decode cX5_cuts 8 = .ok (.ior, 1) := dk_128 (dk_at dksX5_cuts_0 8 rfl rfl)
theorem dX5_cuts_9 : decode cX5_cuts 9 = .ok (.putfield 120, 3) := dk_181 0 120 (dk_at dksX5_cuts_0 9 rfl rfl)
theorem dX5_cuts_12 : decode cX5_cuts 12 = .ok (.iconst 0, 1) := dk_3 (dk_at dksX5_cuts_0 12 rfl rfl)
theorem dX5_cuts_13 : decode cX5_cuts 13 = .ok (.istore_n 2, 1) := dk_61 (dk_at dksX5_cuts_0 13 rfl rfl)
theorem dX5_cuts_14 : decode cX5_cuts 14 = .ok (.iconst 0, 1) := dk_3 (dk_at dksX5_cuts_0 14 rfl rfl)
theorem dX5_cuts_15 : decode cX5_cuts 15 = .ok (.istore_n 3, 1) := dk_62 (dk_at dksX5_cuts_0 15 rfl rfl)
theorem dX5_cuts_16 : decode cX5_cuts 16 = .ok (.iload_n 3, 1) := dk_29 (dk_at dksX5_cuts_0 16 rfl rfl)
theorem dX5_cuts_17 : decode cX5_cuts 17 = .ok (.aload_n 0, 1) := dk_42 (dk_at dksX5_cuts_0 17 rfl rfl)
theorem dX5_cuts_18 : decode cX5_cuts 18 = .ok (.getfield 132, 3) := dk_180 0 132 (dk_at dksX5_cuts_0 18 rfl rfl)
theorem dX5_cuts_21 : decode cX5_cuts 21 = .ok (.if_icmp .ge 47, 3) := dk_162 0 47 (dk_at dksX5_cuts_0 21 rfl rfl)
theorem dX5_cuts_24 : decode cX5_cuts 24 = .ok (.aload_n 0, 1) := dk_42 (dk_at dksX5_cuts_1 0 rfl rfl)
theorem dX5_cuts_25 : decode cX5_cuts 25 = .ok (.getfield 97, 3) := dk_180 0 97 (dk_at dksX5_cuts_1 1 rfl rfl)
theorem dX5_cuts_28 : decode cX5_cuts 28 = .ok (.iload_n 3, 1) := dk_29 (dk_at dksX5_cuts_1 4 rfl rfl)
theorem dX5_cuts_29 : decode cX5_cuts 29 = .ok (.aload_n 0, 1) := dk_42 (dk_at dksX5_cuts_1 5 rfl rfl)
theorem dX5_cuts_30 : decode cX5_cuts 30 = .ok (.getfield 45, 3) := dk_180 0 45 (dk_at dksX5_cuts_1 6 rfl rfl)
theorem dX5_cuts_33 : decode cX5_cuts 33 = .ok (.iload_n 3, 1) := dk_29 (dk_at dksX5_cuts_1 9 rfl rfl)
theorem dX5_cuts_34 : decode cX5_cuts 34 = .ok (.iaload, 1) := dk_46 (dk_at dksX5_cuts_1 10 rfl rfl)
theorem dX5_cuts_35 : decode cX5_cuts 35 = .ok (.iload_n 1, 1) := dk_27 (dk_at dksX5_cuts_1 11 rfl rfl)
theorem dX5_cuts_36 : decode cX5_cuts 36 = .ok (.if_icmp .ne 7, 3) := dk_160 0 7 (dk_at dksX5_cuts_1 12 rfl rfl)
theorem dX5_cuts_39 : decode cX5_cuts 39 = .ok (.iconst 1, 1) := dk_4 (dk_at dksX5_cuts_1 15 rfl rfl)
theorem dX5_cuts_40 : decode cX5_cuts 40 = .ok (.goto 4, 3) := dk_167 0 4 (dk_at dksX5_cuts_1 16 rfl rfl)
theorem dX5_cuts_43 : decode cX5_cuts 43 = .ok (.iconst 0, 1) := dk_3 (dk_at dksX5_cuts_1 19 rfl rfl)
theorem dX5_cuts_44 : decode cX5_cuts 44 = .ok (.iastore, 1) := dk_79 (dk_at dksX5_cuts_1 20 rfl rfl)
theorem dX5_cuts_45 : decode cX5_cuts 45 = .ok (.aload_n 0, 1) := dk_42 (dk_at dksX5_cuts_1 21 rfl rfl)
theorem dX5_cuts_46 : decode cX5_cuts 46 = .ok (.getfield 97, 3) := dk_180 0 97 (dk_at dksX5_cuts_2 0 rfl rfl)
theorem dX5_cuts_49 : decode cX5_cuts 49 = .ok (.iload_n 3, 1) := dk_29 (dk_at dksX5_cuts_2 3 rfl rfl)
theorem dX5_cuts_50 : decode cX5_cuts 50 = .ok (.iaload, 1) := dk_46 (dk_at dksX5_cuts_2 4 rfl rfl)
theorem dX5_cuts_51 : decode cX5_cuts 51 = .ok (.iconst 1, 1) := dk_4 (dk_at dksX5_cuts_2 5 rfl rfl)
theorem dX5_cuts_52 : decode cX5_cuts 52 = .ok (.if_icmp .ne 10, 3) := dk_160 0 10 (dk_at dksX5_cuts_2 6 rfl rfl)
theorem dX5_cuts_55 : decode cX5_cuts 55 = .ok (.aload_n 0, 1) := dk_42 (dk_at dksX5_cuts_2 9 rfl rfl)
theorem dX5_cuts_56 : decode cX5_cuts 56 = .ok (.getfield 45, 3) := dk_180 0 45 (dk_at dksX5_cuts_2 10 rfl rfl)
theorem dX5_cuts_59 : decode cX5_cuts 59 = .ok (.iload_n 3, 1) := dk_29 (dk_at dksX5_cuts_2 13 rfl rfl)
theorem dX5_cuts_60 : decode cX5_cuts 60 = .ok (.iconst (-1), 1) := dk_2 (dk_at dksX5_cuts_2 14 rfl rfl)
theorem dX5_cuts_61 : decode cX5_cuts 61 = .ok (.iastore, 1) := dk_79 (dk_at dksX5_cuts_2 15 rfl rfl)
theorem dX5_cuts_62 : decode cX5_cuts 62 = .ok (.iinc 3 1, 3) := dk_132 3 1 (dk_at dksX5_cuts_2 16 rfl rfl)
theorem dX5_cuts_65 : decode cX5_cuts 65 = .ok (.goto (-49), 3) := dk_167 255 207 (dk_at dksX5_cuts_2 19 rfl rfl)
theorem dX5_cuts_68 : decode cX5_cuts 68 = .ok (.iconst 0, 1) := dk_3 (dk_at dksX5_cuts_2 22 rfl rfl)
theorem dX5_cuts_69 : decode cX5_cuts 69 = .ok (.istore_n 3, 1) := dk_62 (dk_at dksX5_cuts_2 23 rfl rfl)
theorem dX5_cuts_70 : decode cX5_cuts 70 = .ok (.aload_n 0, 1) := dk_42 (dk_at dksX5_cuts_3 0 rfl rfl)
theorem dX5_cuts_71 : decode cX5_cuts 71 = .ok (.getfield 132, 3) := dk_180 0 132 (dk_at dksX5_cuts_3 1 rfl rfl)
theorem dX5_cuts_74 : decode cX5_cuts 74 = .ok (.istore 4, 2) := dk_54 4 (dk_at dksX5_cuts_3 4 rfl rfl)
theorem dX5_cuts_76 : decode cX5_cuts 76 = .ok (.iconst 0, 1) := dk_3 (dk_at dksX5_cuts_3 6 rfl rfl)
theorem dX5_cuts_77 : decode cX5_cuts 77 = .ok (.istore 5, 2) := dk_54 5 (dk_at dksX5_cuts_3 7 rfl rfl)
theorem dX5_cuts_79 : decode cX5_cuts 79 = .ok (.iload 5, 2) := dk_21 5 (dk_at dksX5_cuts_3 9 rfl rfl)
theorem dX5_cuts_81 : decode cX5_cuts 81 = .ok (.iload 4, 2) := dk_21 4 (dk_at dksX5_cuts_3 11 rfl rfl)
theorem dX5_cuts_83 : decode cX5_cuts 83 = .ok (.if_icmp .ge 129, 3) := dk_162 0 129 (dk_at dksX5_cuts_3 13 rfl rfl)
theorem dX5_cuts_86 : decode cX5_cuts 86 = .ok (.aload_n 0, 1) := dk_42 (dk_at dksX5_cuts_3 16 rfl rfl)
theorem dX5_cuts_87 : decode cX5_cuts 87 = .ok (.getfield 97, 3) := dk_180 0 97 (dk_at dksX5_cuts_3 17 rfl rfl)
theorem dX5_cuts_90 : decode cX5_cuts 90 = .ok (.iload 5, 2) := dk_21 5 (dk_at dksX5_cuts_3 20 rfl rfl)
theorem dX5_cuts_92 : decode cX5_cuts 92 = .ok (.iaload, 1) := dk_46 (dk_at dksX5_cuts_3 22 rfl rfl)
theorem dX5_cuts_93 : decode cX5_cuts 93 = .ok (.ifCond .ne 9, 3) := dk_154 0 9 (dk_at dksX5_cuts_4 0 rfl rfl)
theorem dX5_cuts_96 : decode cX5_cuts 96 = .ok (.iinc 3 1, 3) := dk_132 3 1 (dk_at dksX5_cuts_4 3 rfl rfl)
theorem dX5_cuts_99 : decode cX5_cuts 99 = .ok (.goto 107, 3) := dk_167 0 107 (dk_at dksX5_cuts_4 6 rfl rfl)
theorem dX5_cuts_102 : decode cX5_cuts 102 = .ok (.aload_n 0, 1) := dk_42 (dk_at dksX5_cuts_4 9 rfl rfl)
theorem dX5_cuts_103 : decode cX5_cuts 103 = .ok (.aload_n 0, 1) := dk_42 (dk_at dksX5_cuts_4 10 rfl rfl)
theorem dX5_cuts_104 : decode cX5_cuts 104 = .ok (.iload_n 3, 1) := dk_29 (dk_at dksX5_cuts_4 11 rfl rfl)
theorem dX5_cuts_105 : decode cX5_cuts 105 = .ok (.invokevirtual 177, 3) := dk_182 0 177 (dk_at dksX5_cuts_4 12 rfl rfl)
theorem dX5_cuts_108 : decode cX5_cuts 108 = .ok (.aload_n 0, 1) := dk_42 (dk_at dksX5_cuts_4 15 rfl rfl)
theorem dX5_cuts_109 : decode cX5_cuts 109 = .ok (.iload_n 3, 1) := dk_29 (dk_at dksX5_cuts_4 16 rfl rfl)
theorem dX5_cuts_110 : decode cX5_cuts 110 = .ok (.invokevirtual 174, 3) := dk_182 0 174 (dk_at dksX5_cuts_4 17 rfl rfl)
theorem dX5_cuts_113 : decode cX5_cuts 113 = .ok (.aload_n 0, 1) := dk_42 (dk_at dksX5_cuts_4 20 rfl rfl)
theorem dX5_cuts_114 : decode cX5_cuts 114 = .ok (.getfield 123, 3) := dk_180 0 123 (dk_at dksX5_cuts_4 21 rfl rfl)
theorem dX5_cuts_117 : decode cX5_cuts 117 = .ok (.aload_n 0, 1) := dk_42 (dk_at dksX5_cuts_5 0 rfl rfl)
theorem dX5_cuts_118 : decode cX5_cuts 118 = .ok (.getfield 29, 3) := dk_180 0 29 (dk_at dksX5_cuts_5 1 rfl rfl)
theorem dX5_cuts_121 : decode cX5_cuts 121 = .ok (.iconst 1, 1) := dk_4 (dk_at dksX5_cuts_5 4 rfl rfl)
theorem dX5_cuts_122 : decode cX5_cuts 122 = .ok (.if_icmp .ne 7, 3) := dk_160 0 7 (dk_at dksX5_cuts_5 5 rfl rfl)
theorem dX5_cuts_125 : decode cX5_cuts 125 = .ok (.iconst 1, 1) := dk_4 (dk_at dksX5_cuts_5 8 rfl rfl)
theorem dX5_cuts_126 : decode cX5_cuts 126 = .ok (.goto 4, 3) := dk_167 0 4 (dk_at dksX5_cuts_5 9 rfl rfl)
theorem dX5_cuts_129 : decode cX5_cuts 129 = .ok (.iconst 0, 1) := dk_3 (dk_at dksX5_cuts_5 12 rfl rfl)
theorem dX5_cuts_130 : decode cX5_cuts 130 = .ok (.aload_n 0, 1) := dk_42 (dk_at dksX5_cuts_5 13 rfl rfl)
theorem dX5_cuts_131 : decode cX5_cuts 131 = .ok (.getfield 26, 3) := dk_180 0 26 (dk_at dksX5_cuts_5 14 rfl rfl)
theorem dX5_cuts_134 : decode cX5_cuts 134 = .ok (.iconst 1, 1) := dk_4 (dk_at dksX5_cuts_5 17 rfl rfl)
theorem dX5_cuts_135 : decode cX5_cuts 135 = .ok (.invokevirtual 220, 3) := dk_182 0 220 (dk_at dksX5_cuts_5 18 rfl rfl)
theorem dX5_cuts_138 : decode cX5_cuts 138 = .ok (.istore 6, 2) := dk_54 6 (dk_at dksX5_cuts_5 21 rfl rfl)
theorem dX5_cuts_140 : decode cX5_cuts 140 = .ok (.iload 6, 2) := dk_21 6 (dk_at dksX5_cuts_6 0 rfl rfl)
theorem dX5_cuts_142 : decode cX5_cuts 142 = .ok (.iconst (-1), 1) := dk_2 (dk_at dksX5_cuts_6 2 rfl rfl)
theorem dX5_cuts_143 : decode cX5_cuts 143 = .ok (.if_icmp .ne 25, 3) := dk_160 0 25 (dk_at dksX5_cuts_6 3 rfl rfl)
theorem dX5_cuts_146 : decode cX5_cuts 146 = .ok (.aload_n 0, 1) := dk_42 (dk_at dksX5_cuts_6 6 rfl rfl)
theorem dX5_cuts_147 : decode cX5_cuts 147 = .ok (.iload_n 3, 1) := dk_29 (dk_at dksX5_cuts_6 7 rfl rfl)
theorem dX5_cuts_148 : decode cX5_cuts 148 = .ok (.invokevirtual 250, 3) := dk_182 0 250 (dk_at dksX5_cuts_6 8 rfl rfl)
theorem dX5_cuts_151 : decode cX5_cuts 151 = .ok (.aload_n 0, 1) := dk_42 (dk_at dksX5_cuts_6 11 rfl rfl)
theorem dX5_cuts_152 : decode cX5_cuts 152 = .ok (.getfield 81, 3) := dk_180 0 81 (dk_at dksX5_cuts_6 12 rfl rfl)
theorem dX5_cuts_155 : decode cX5_cuts 155 = .ok (.bipush 7, 2) := dk_16 7 (dk_at dksX5_cuts_6 15 rfl rfl)
theorem dX5_cuts_157 : decode cX5_cuts 157 = .ok (.dup2, 1) := dk_92 (dk_at dksX5_cuts_6 17 rfl rfl)
theorem dX5_cuts_158 : decode cX5_cuts 158 = .ok (.iaload, 1) := dk_46 (dk_at dksX5_cuts_6 18 rfl rfl)
theorem dX5_cuts_159 : decode cX5_cuts 159 = .ok (.iconst 1, 1) := dk_4 (dk_at dksX5_cuts_6 19 rfl rfl)
theorem dX5_cuts_160 : decode cX5_cuts 160 = .ok (.iadd, 1) := dk_96 (dk_at dksX5_cuts_6 20 rfl rfl)
theorem dX5_cuts_161 : decode cX5_cuts 161 = .ok (.iastore, 1) := dk_79 (dk_at dksX5_cuts_6 21 rfl rfl)
theorem dX5_cuts_162 : decode cX5_cuts 162 = .ok (.iinc 2 1, 3) := dk_132 2 1 (dk_at dksX5_cuts_7 0 rfl rfl)
theorem dX5_cuts_165 : decode cX5_cuts 165 = .ok (.goto 41, 3) := dk_167 0 41 (dk_at dksX5_cuts_7 3 rfl rfl)
theorem dX5_cuts_168 : decode cX5_cuts 168 = .ok (.aload_n 0, 1) := dk_42 (dk_at dksX5_cuts_7 6 rfl rfl)
theorem dX5_cuts_169 : decode cX5_cuts 169 = .ok (.getfield 45, 3) := dk_180 0 45 (dk_at dksX5_cuts_7 7 rfl rfl)
theorem dX5_cuts_172 : decode cX5_cuts 172 = .ok (.iload_n 3, 1) := dk_29 (dk_at dksX5_cuts_7 10 rfl rfl)
theorem dX5_cuts_173 : decode cX5_cuts 173 = .ok (.iload 6, 2) := dk_21 6 (dk_at dksX5_cuts_7 11 rfl rfl)
theorem dX5_cuts_175 : decode cX5_cuts 175 = .ok (.iastore, 1) := dk_79 (dk_at dksX5_cuts_7 13 rfl rfl)
theorem dX5_cuts_176 : decode cX5_cuts 176 = .ok (.aload_n 0, 1) := dk_42 (dk_at dksX5_cuts_7 14 rfl rfl)
theorem dX5_cuts_177 : decode cX5_cuts 177 = .ok (.getfield 54, 3) := dk_180 0 54 (dk_at dksX5_cuts_7 15 rfl rfl)
theorem dX5_cuts_180 : decode cX5_cuts 180 = .ok (.iload_n 3, 1) := dk_29 (dk_at dksX5_cuts_7 18 rfl rfl)
theorem dX5_cuts_181 : decode cX5_cuts 181 = .ok (.dup2, 1) := dk_92 (dk_at dksX5_cuts_7 19 rfl rfl)
theorem dX5_cuts_182 : decode cX5_cuts 182 = .ok (.iaload, 1) := dk_46 (dk_at dksX5_cuts_7 20 rfl rfl)
theorem dX5_cuts_183 : decode cX5_cuts 183 = .ok (.iconst 1, 1) := dk_4 (dk_at dksX5_cuts_7 21 rfl rfl)
theorem dX5_cuts_184 : decode cX5_cuts 184 = .ok (.iadd, 1) := dk_96 (dk_at dksX5_cuts_7 22 rfl rfl)
theorem dX5_cuts_185 : decode cX5_cuts 185 = .ok (.iastore, 1) := dk_79 (dk_at dksX5_cuts_7 23 rfl rfl)
theorem dX5_cuts_186 : decode cX5_cuts 186 = .ok (.aload_n 0, 1) := dk_42 (dk_at dksX5_cuts_8 0 rfl rfl)
theorem dX5_cuts_187 : decode cX5_cuts 187 = .ok (.iload 6, 2) := dk_21 6 (dk_at dksX5_cuts_8 1 rfl rfl)
theorem dX5_cuts_189 : decode cX5_cuts 189 = .ok (.putfield 32, 3) := dk_181 0 32 (dk_at dksX5_cuts_8 3 rfl rfl)
theorem dX5_cuts_192 : decode cX5_cuts 192 = .ok (.aload_n 0, 1) := dk_42 (dk_at dksX5_cuts_8 6 rfl rfl)
theorem dX5_cuts_193 : decode cX5_cuts 193 = .ok (.getfield 81, 3) := dk_180 0 81 (dk_at dksX5_cuts_8 7 rfl rfl)
theorem dX5_cuts_196 : decode cX5_cuts 196 = .ok (.bipush 10, 2) := dk_16 10 (dk_at dksX5_cuts_8 10 rfl rfl)
theorem dX5_cuts_198 : decode cX5_cuts 198 = .ok (.dup2, 1) := dk_92 (dk_at dksX5_cuts_8 12 rfl rfl)
theorem dX5_cuts_199 : decode cX5_cuts 199 = .ok (.iaload, 1) := dk_46 (dk_at dksX5_cuts_8 13 rfl rfl)
theorem dX5_cuts_200 : decode cX5_cuts 200 = .ok (.iconst 1, 1) := dk_4 (dk_at dksX5_cuts_8 14 rfl rfl)
theorem dX5_cuts_201 : decode cX5_cuts 201 = .ok (.iadd, 1) := dk_96 (dk_at dksX5_cuts_8 15 rfl rfl)
theorem dX5_cuts_202 : decode cX5_cuts 202 = .ok (.iastore, 1) := dk_79 (dk_at dksX5_cuts_8 16 rfl rfl)
theorem dX5_cuts_203 : decode cX5_cuts 203 = .ok (.iinc 3 1, 3) := dk_132 3 1 (dk_at dksX5_cuts_8 17 rfl rfl)
theorem dX5_cuts_206 : decode cX5_cuts 206 = .ok (.iinc 5 1, 3) := dk_132 5 1 (dk_at dksX5_cuts_8 20 rfl rfl)
theorem dX5_cuts_209 : decode cX5_cuts 209 = .ok (.goto (-130), 3) := dk_167 255 126 (dk_at dksX5_cuts_9 0 rfl rfl)
theorem dX5_cuts_212 : decode cX5_cuts 212 = .ok (.iload_n 2, 1) := dk_28 (dk_at dksX5_cuts_9 3 rfl rfl)
theorem dX5_cuts_213 : decode cX5_cuts 213 = .ok (.ireturn, 1) := dk_172 (dk_at dksX5_cuts_9 4 rfl rfl)
abbrev cX5_readsRule : ByteArray := prog_12_method_74_code
def yX5_readsRule : MethodName := ⟨RX5, "readsRule", "(Z)Z"⟩
def dkwX5_readsRule_5 : List UInt8 := [167, 0, 9, 42, 21, 4, 181, 0, 123, 4, 172]
abbrev dktX5_readsRule_5 : List UInt8 := dkwX5_readsRule_5 ++ []
def dkwX5_readsRule_4 : List UInt8 := [182, 1, 73, 154, 0, 5, 3, 172, 27, 153, 0, 16, 42, 21, 4, 181, 0, 29, 42, 182, 0, 253]
abbrev dktX5_readsRule_4 : List UInt8 := dkwX5_readsRule_4 ++ dktX5_readsRule_5
def dkwX5_readsRule_3 : List UInt8 := [154, 0, 7, 5, 167, 0, 4, 2, 54, 4, 21, 4, 2, 160, 0, 9, 42, 4, 182, 1, 55, 172, 42]
abbrev dktX5_readsRule_3 : List UInt8 := dkwX5_readsRule_3 ++ dktX5_readsRule_4
def dkwX5_readsRule_2 : List UInt8 := [154, 0, 7, 3, 167, 0, 28, 32, 20, 1, 154, 148, 154, 0, 7, 4, 167, 0, 16, 32, 20, 1, 156, 148]
abbrev dktX5_readsRule_2 : List UInt8 := dkwX5_readsRule_2 ++ dktX5_readsRule_3
def dkwX5_readsRule_1 : List UInt8 := [167, 0, 56, 32, 20, 1, 150, 148, 154, 0, 7, 4, 167, 0, 44, 2, 167, 0, 40, 32, 20, 1, 152, 148]
abbrev dktX5_readsRule_1 : List UInt8 := dkwX5_readsRule_1 ++ dktX5_readsRule_2
def dkwX5_readsRule_0 : List UInt8 := [42, 182, 1, 20, 42, 182, 1, 67, 65, 27, 153, 0, 31, 32, 20, 1, 148, 148, 154, 0, 7, 3]
abbrev dktX5_readsRule_0 : List UInt8 := dkwX5_readsRule_0 ++ dktX5_readsRule_1
theorem dksX5_readsRule_0 : cX5_readsRule.data.toList.drop 0 = dktX5_readsRule_0 := by decide +kernel
theorem dksX5_readsRule_1 : cX5_readsRule.data.toList.drop 22 = dktX5_readsRule_1 := dk_seg dksX5_readsRule_0 22 rfl rfl
theorem dksX5_readsRule_2 : cX5_readsRule.data.toList.drop 46 = dktX5_readsRule_2 := dk_seg dksX5_readsRule_1 24 rfl rfl
theorem dksX5_readsRule_3 : cX5_readsRule.data.toList.drop 70 = dktX5_readsRule_3 := dk_seg dksX5_readsRule_2 24 rfl rfl
theorem dksX5_readsRule_4 : cX5_readsRule.data.toList.drop 93 = dktX5_readsRule_4 := dk_seg dksX5_readsRule_3 23 rfl rfl
theorem dksX5_readsRule_5 : cX5_readsRule.data.toList.drop 115 = dktX5_readsRule_5 := dk_seg dksX5_readsRule_4 22 rfl rfl
theorem dX5_readsRule_0 : decode cX5_readsRule 0 = .ok (.aload_n 0, 1) := dk_42 (dk_at dksX5_readsRule_0 0 rfl rfl)
theorem dX5_readsRule_1 : decode cX5_readsRule 1 = .ok (.invokevirtual 276, 3) := dk_182 1 20 (dk_at dksX5_readsRule_0 1 rfl rfl)
theorem dX5_readsRule_4 : decode cX5_readsRule 4 = .ok (.aload_n 0, 1) := dk_42 (dk_at dksX5_readsRule_0 4 rfl rfl)
theorem dX5_readsRule_5 : decode cX5_readsRule 5 = .ok (.invokevirtual 323, 3) := dk_182 1 67 (dk_at dksX5_readsRule_0 5 rfl rfl)
theorem dX5_readsRule_8 : decode cX5_readsRule 8 = .ok (.lstore_n 2, 1) := dk_65 (dk_at dksX5_readsRule_0 8 rfl rfl)
theorem dX5_readsRule_9 : decode cX5_readsRule 9 = .ok (.iload_n 1, 1) := dk_27 (dk_at dksX5_readsRule_0 9 rfl rfl)
theorem dX5_readsRule_10 : decode cX5_readsRule 10 = .ok (.ifCond .eq 31, 3) := dk_153 0 31 (dk_at dksX5_readsRule_0 10 rfl rfl)
theorem dX5_readsRule_13 : decode cX5_readsRule 13 = .ok (.lload_n 2, 1) := dk_32 (dk_at dksX5_readsRule_0 13 rfl rfl)
theorem dX5_readsRule_14 : decode cX5_readsRule 14 = .ok (.ldc2_w 404, 3) := dk_20 1 148 (dk_at dksX5_readsRule_0 14 rfl rfl)
theorem dX5_readsRule_17 : decode cX5_readsRule 17 = .ok (.lcmp, 1) := dk_148 (dk_at dksX5_readsRule_0 17 rfl rfl)
theorem dX5_readsRule_18 : decode cX5_readsRule 18 = .ok (.ifCond .ne 7, 3) := dk_154 0 7 (dk_at dksX5_readsRule_0 18 rfl rfl)
theorem dX5_readsRule_21 : decode cX5_readsRule 21 = .ok (.iconst 0, 1) := dk_3 (dk_at dksX5_readsRule_0 21 rfl rfl)
theorem dX5_readsRule_22 : decode cX5_readsRule 22 = .ok (.goto 56, 3) := dk_167 0 56 (dk_at dksX5_readsRule_1 0 rfl rfl)
theorem dX5_readsRule_25 : decode cX5_readsRule 25 = .ok (.lload_n 2, 1) := dk_32 (dk_at dksX5_readsRule_1 3 rfl rfl)
theorem dX5_readsRule_26 : decode cX5_readsRule 26 = .ok (.ldc2_w 406, 3) := dk_20 1 150 (dk_at dksX5_readsRule_1 4 rfl rfl)
theorem dX5_readsRule_29 : decode cX5_readsRule 29 = .ok (.lcmp, 1) := dk_148 (dk_at dksX5_readsRule_1 7 rfl rfl)
theorem dX5_readsRule_30 : decode cX5_readsRule 30 = .ok (.ifCond .ne 7, 3) := dk_154 0 7 (dk_at dksX5_readsRule_1 8 rfl rfl)
theorem dX5_readsRule_33 : decode cX5_readsRule 33 = .ok (.iconst 1, 1) := dk_4 (dk_at dksX5_readsRule_1 11 rfl rfl)
theorem dX5_readsRule_34 : decode cX5_readsRule 34 = .ok (.goto 44, 3) := dk_167 0 44 (dk_at dksX5_readsRule_1 12 rfl rfl)
theorem dX5_readsRule_37 : decode cX5_readsRule 37 = .ok (.iconst (-1), 1) := dk_2 (dk_at dksX5_readsRule_1 15 rfl rfl)
theorem dX5_readsRule_38 : decode cX5_readsRule 38 = .ok (.goto 40, 3) := dk_167 0 40 (dk_at dksX5_readsRule_1 16 rfl rfl)
theorem dX5_readsRule_41 : decode cX5_readsRule 41 = .ok (.lload_n 2, 1) := dk_32 (dk_at dksX5_readsRule_1 19 rfl rfl)
theorem dX5_readsRule_42 : decode cX5_readsRule 42 = .ok (.ldc2_w 408, 3) := dk_20 1 152 (dk_at dksX5_readsRule_1 20 rfl rfl)
theorem dX5_readsRule_45 : decode cX5_readsRule 45 = .ok (.lcmp, 1) := dk_148 (dk_at dksX5_readsRule_1 23 rfl rfl)
theorem dX5_readsRule_46 : decode cX5_readsRule 46 = .ok (.ifCond .ne 7, 3) := dk_154 0 7 (dk_at dksX5_readsRule_2 0 rfl rfl)
theorem dX5_readsRule_49 : decode cX5_readsRule 49 = .ok (.iconst 0, 1) := dk_3 (dk_at dksX5_readsRule_2 3 rfl rfl)
theorem dX5_readsRule_50 : decode cX5_readsRule 50 = .ok (.goto 28, 3) := dk_167 0 28 (dk_at dksX5_readsRule_2 4 rfl rfl)
theorem dX5_readsRule_53 : decode cX5_readsRule 53 = .ok (.lload_n 2, 1) := dk_32 (dk_at dksX5_readsRule_2 7 rfl rfl)
theorem dX5_readsRule_54 : decode cX5_readsRule 54 = .ok (.ldc2_w 410, 3) := dk_20 1 154 (dk_at dksX5_readsRule_2 8 rfl rfl)
theorem dX5_readsRule_57 : decode cX5_readsRule 57 = .ok (.lcmp, 1) := dk_148 (dk_at dksX5_readsRule_2 11 rfl rfl)
theorem dX5_readsRule_58 : decode cX5_readsRule 58 = .ok (.ifCond .ne 7, 3) := dk_154 0 7 (dk_at dksX5_readsRule_2 12 rfl rfl)
theorem dX5_readsRule_61 : decode cX5_readsRule 61 = .ok (.iconst 1, 1) := dk_4 (dk_at dksX5_readsRule_2 15 rfl rfl)
theorem dX5_readsRule_62 : decode cX5_readsRule 62 = .ok (.goto 16, 3) := dk_167 0 16 (dk_at dksX5_readsRule_2 16 rfl rfl)
theorem dX5_readsRule_65 : decode cX5_readsRule 65 = .ok (.lload_n 2, 1) := dk_32 (dk_at dksX5_readsRule_2 19 rfl rfl)
theorem dX5_readsRule_66 : decode cX5_readsRule 66 = .ok (.ldc2_w 412, 3) := dk_20 1 156 (dk_at dksX5_readsRule_2 20 rfl rfl)
theorem dX5_readsRule_69 : decode cX5_readsRule 69 = .ok (.lcmp, 1) := dk_148 (dk_at dksX5_readsRule_2 23 rfl rfl)
theorem dX5_readsRule_70 : decode cX5_readsRule 70 = .ok (.ifCond .ne 7, 3) := dk_154 0 7 (dk_at dksX5_readsRule_3 0 rfl rfl)
theorem dX5_readsRule_73 : decode cX5_readsRule 73 = .ok (.iconst 2, 1) := dk_5 (dk_at dksX5_readsRule_3 3 rfl rfl)
theorem dX5_readsRule_74 : decode cX5_readsRule 74 = .ok (.goto 4, 3) := dk_167 0 4 (dk_at dksX5_readsRule_3 4 rfl rfl)
theorem dX5_readsRule_77 : decode cX5_readsRule 77 = .ok (.iconst (-1), 1) := dk_2 (dk_at dksX5_readsRule_3 7 rfl rfl)
theorem dX5_readsRule_78 : decode cX5_readsRule 78 = .ok (.istore 4, 2) := dk_54 4 (dk_at dksX5_readsRule_3 8 rfl rfl)
theorem dX5_readsRule_80 : decode cX5_readsRule 80 = .ok (.iload 4, 2) := dk_21 4 (dk_at dksX5_readsRule_3 10 rfl rfl)
theorem dX5_readsRule_82 : decode cX5_readsRule 82 = .ok (.iconst (-1), 1) := dk_2 (dk_at dksX5_readsRule_3 12 rfl rfl)
theorem dX5_readsRule_83 : decode cX5_readsRule 83 = .ok (.if_icmp .ne 9, 3) := dk_160 0 9 (dk_at dksX5_readsRule_3 13 rfl rfl)
theorem dX5_readsRule_86 : decode cX5_readsRule 86 = .ok (.aload_n 0, 1) := dk_42 (dk_at dksX5_readsRule_3 16 rfl rfl)
theorem dX5_readsRule_87 : decode cX5_readsRule 87 = .ok (.iconst 1, 1) := dk_4 (dk_at dksX5_readsRule_3 17 rfl rfl)
theorem dX5_readsRule_88 : decode cX5_readsRule 88 = .ok (.invokevirtual 311, 3) := dk_182 1 55 (dk_at dksX5_readsRule_3 18 rfl rfl)
theorem dX5_readsRule_91 : decode cX5_readsRule 91 = .ok (.ireturn, 1) := dk_172 (dk_at dksX5_readsRule_3 21 rfl rfl)
theorem dX5_readsRule_92 : decode cX5_readsRule 92 = .ok (.aload_n 0, 1) := dk_42 (dk_at dksX5_readsRule_3 22 rfl rfl)
theorem dX5_readsRule_93 : decode cX5_readsRule 93 = .ok (.invokevirtual 329, 3) := dk_182 1 73 (dk_at dksX5_readsRule_4 0 rfl rfl)
theorem dX5_readsRule_96 : decode cX5_readsRule 96 = .ok (.ifCond .ne 5, 3) := dk_154 0 5 (dk_at dksX5_readsRule_4 3 rfl rfl)
theorem dX5_readsRule_99 : decode cX5_readsRule 99 = .ok (.iconst 0, 1) := dk_3 (dk_at dksX5_readsRule_4 6 rfl rfl)
theorem dX5_readsRule_100 : decode cX5_readsRule 100 = .ok (.ireturn, 1) := dk_172 (dk_at dksX5_readsRule_4 7 rfl rfl)
theorem dX5_readsRule_101 : decode cX5_readsRule 101 = .ok (.iload_n 1, 1) := dk_27 (dk_at dksX5_readsRule_4 8 rfl rfl)
theorem dX5_readsRule_102 : decode cX5_readsRule 102 = .ok (.ifCond .eq 16, 3) := dk_153 0 16 (dk_at dksX5_readsRule_4 9 rfl rfl)
theorem dX5_readsRule_105 : decode cX5_readsRule 105 = .ok (.aload_n 0, 1) := dk_42 (dk_at dksX5_readsRule_4 12 rfl rfl)
theorem dX5_readsRule_106 : decode cX5_readsRule 106 = .ok (.iload 4, 2) := dk_21 4 (dk_at dksX5_readsRule_4 13 rfl rfl)
theorem dX5_readsRule_108 : decode cX5_readsRule 108 = .ok (.putfield 29, 3) := dk_181 0 29 (dk_at dksX5_readsRule_4 15 rfl rfl)
theorem dX5_readsRule_111 : decode cX5_readsRule 111 = .ok (.aload_n 0, 1) := dk_42 (dk_at dksX5_readsRule_4 18 rfl rfl)
theorem dX5_readsRule_112 : decode cX5_readsRule 112 = .ok (.invokevirtual 253, 3) := dk_182 0 253 (dk_at dksX5_readsRule_4 19 rfl rfl)
theorem dX5_readsRule_115 : decode cX5_readsRule 115 = .ok (.goto 9, 3) := dk_167 0 9 (dk_at dksX5_readsRule_5 0 rfl rfl)
theorem dX5_readsRule_118 : decode cX5_readsRule 118 = .ok (.aload_n 0, 1) := dk_42 (dk_at dksX5_readsRule_5 3 rfl rfl)
theorem dX5_readsRule_119 : decode cX5_readsRule 119 = .ok (.iload 4, 2) := dk_21 4 (dk_at dksX5_readsRule_5 4 rfl rfl)
theorem dX5_readsRule_121 : decode cX5_readsRule 121 = .ok (.putfield 123, 3) := dk_181 0 123 (dk_at dksX5_readsRule_5 6 rfl rfl)
theorem dX5_readsRule_124 : decode cX5_readsRule 124 = .ok (.iconst 1, 1) := dk_4 (dk_at dksX5_readsRule_5 9 rfl rfl)
theorem dX5_readsRule_125 : decode cX5_readsRule 125 = .ok (.ireturn, 1) := dk_172 (dk_at dksX5_readsRule_5 10 rfl rfl)
abbrev cX5_packs : ByteArray := prog_12_method_50_code
def yX5_packs : MethodName := ⟨RX5, "packs", "()I"⟩
def dkwX5_packs_5 : List UInt8 := [132, 2, 1, 132, 3, 1, 167, 255, 217, 28, 172]
abbrev dktX5_packs_5 : List UInt8 := dkwX5_packs_5 ++ []
def dkwX5_packs_4 : List UInt8 := [180, 0, 45, 29, 46, 42, 180, 0, 97, 29, 46, 159, 0, 16, 42, 180, 0, 54, 29, 92, 46, 4, 96, 79]
abbrev dktX5_packs_4 : List UInt8 := dkwX5_packs_4 ++ dktX5_packs_5
def dkwX5_packs_3 : List UInt8 := [182, 0, 220, 79, 132, 2, 1, 167, 255, 221, 3, 61, 3, 62, 29, 42, 180, 0, 132, 162, 0, 37, 42]
abbrev dktX5_packs_3 : List UInt8 := dkwX5_packs_3 ++ dktX5_packs_4
def dkwX5_packs_2 : List UInt8 := [162, 0, 33, 42, 180, 0, 45, 28, 42, 42, 28, 182, 0, 177, 42, 28, 182, 0, 174, 3, 4, 27, 3]
abbrev dktX5_packs_2 : List UInt8 := dkwX5_packs_2 ++ dktX5_packs_3
def dkwX5_packs_1 : List UInt8 := [28, 46, 79, 42, 180, 0, 45, 28, 2, 79, 132, 2, 1, 167, 255, 226, 3, 61, 28, 42, 180, 0, 132]
abbrev dktX5_packs_1 : List UInt8 := dkwX5_packs_1 ++ dktX5_packs_2
def dkwX5_packs_0 : List UInt8 := [42, 182, 1, 4, 60, 3, 61, 28, 42, 180, 0, 132, 162, 0, 28, 42, 180, 0, 97, 28, 42, 180, 0, 45]
abbrev dktX5_packs_0 : List UInt8 := dkwX5_packs_0 ++ dktX5_packs_1
theorem dksX5_packs_0 : cX5_packs.data.toList.drop 0 = dktX5_packs_0 := by decide +kernel
theorem dksX5_packs_1 : cX5_packs.data.toList.drop 24 = dktX5_packs_1 := dk_seg dksX5_packs_0 24 rfl rfl
theorem dksX5_packs_2 : cX5_packs.data.toList.drop 47 = dktX5_packs_2 := dk_seg dksX5_packs_1 23 rfl rfl
theorem dksX5_packs_3 : cX5_packs.data.toList.drop 70 = dktX5_packs_3 := dk_seg dksX5_packs_2 23 rfl rfl
theorem dksX5_packs_4 : cX5_packs.data.toList.drop 93 = dktX5_packs_4 := dk_seg dksX5_packs_3 23 rfl rfl
theorem dksX5_packs_5 : cX5_packs.data.toList.drop 117 = dktX5_packs_5 := dk_seg dksX5_packs_4 24 rfl rfl
theorem dX5_packs_0 : decode cX5_packs 0 = .ok (.aload_n 0, 1) := dk_42 (dk_at dksX5_packs_0 0 rfl rfl)
theorem dX5_packs_1 : decode cX5_packs 1 = .ok (.invokevirtual 260, 3) := dk_182 1 4 (dk_at dksX5_packs_0 1 rfl rfl)
theorem dX5_packs_4 : decode cX5_packs 4 = .ok (.istore_n 1, 1) := dk_60 (dk_at dksX5_packs_0 4 rfl rfl)
theorem dX5_packs_5 : decode cX5_packs 5 = .ok (.iconst 0, 1) := dk_3 (dk_at dksX5_packs_0 5 rfl rfl)
theorem dX5_packs_6 : decode cX5_packs 6 = .ok (.istore_n 2, 1) := dk_61 (dk_at dksX5_packs_0 6 rfl rfl)
theorem dX5_packs_7 : decode cX5_packs 7 = .ok (.iload_n 2, 1) := dk_28 (dk_at dksX5_packs_0 7 rfl rfl)
theorem dX5_packs_8 : decode cX5_packs 8 = .ok (.aload_n 0, 1) := dk_42 (dk_at dksX5_packs_0 8 rfl rfl)
theorem dX5_packs_9 : decode cX5_packs 9 = .ok (.getfield 132, 3) := dk_180 0 132 (dk_at dksX5_packs_0 9 rfl rfl)
theorem dX5_packs_12 : decode cX5_packs 12 = .ok (.if_icmp .ge 28, 3) := dk_162 0 28 (dk_at dksX5_packs_0 12 rfl rfl)
theorem dX5_packs_15 : decode cX5_packs 15 = .ok (.aload_n 0, 1) := dk_42 (dk_at dksX5_packs_0 15 rfl rfl)
theorem dX5_packs_16 : decode cX5_packs 16 = .ok (.getfield 97, 3) := dk_180 0 97 (dk_at dksX5_packs_0 16 rfl rfl)
theorem dX5_packs_19 : decode cX5_packs 19 = .ok (.iload_n 2, 1) := dk_28 (dk_at dksX5_packs_0 19 rfl rfl)
theorem dX5_packs_20 : decode cX5_packs 20 = .ok (.aload_n 0, 1) := dk_42 (dk_at dksX5_packs_0 20 rfl rfl)
theorem dX5_packs_21 : decode cX5_packs 21 = .ok (.getfield 45, 3) := dk_180 0 45 (dk_at dksX5_packs_0 21 rfl rfl)
theorem dX5_packs_24 : decode cX5_packs 24 = .ok (.iload_n 2, 1) := dk_28 (dk_at dksX5_packs_1 0 rfl rfl)
theorem dX5_packs_25 : decode cX5_packs 25 = .ok (.iaload, 1) := dk_46 (dk_at dksX5_packs_1 1 rfl rfl)
theorem dX5_packs_26 : decode cX5_packs 26 = .ok (.iastore, 1) := dk_79 (dk_at dksX5_packs_1 2 rfl rfl)
theorem dX5_packs_27 : decode cX5_packs 27 = .ok (.aload_n 0, 1) := dk_42 (dk_at dksX5_packs_1 3 rfl rfl)
theorem dX5_packs_28 : decode cX5_packs 28 = .ok (.getfield 45, 3) := dk_180 0 45 (dk_at dksX5_packs_1 4 rfl rfl)
theorem dX5_packs_31 : decode cX5_packs 31 = .ok (.iload_n 2, 1) := dk_28 (dk_at dksX5_packs_1 7 rfl rfl)
theorem dX5_packs_32 : decode cX5_packs 32 = .ok (.iconst (-1), 1) := dk_2 (dk_at dksX5_packs_1 8 rfl rfl)
theorem dX5_packs_33 : decode cX5_packs 33 = .ok (.iastore, 1) := dk_79 (dk_at dksX5_packs_1 9 rfl rfl)
theorem dX5_packs_34 : decode cX5_packs 34 = .ok (.iinc 2 1, 3) := dk_132 2 1 (dk_at dksX5_packs_1 10 rfl rfl)
theorem dX5_packs_37 : decode cX5_packs 37 = .ok (.goto (-30), 3) := dk_167 255 226 (dk_at dksX5_packs_1 13 rfl rfl)
theorem dX5_packs_40 : decode cX5_packs 40 = .ok (.iconst 0, 1) := dk_3 (dk_at dksX5_packs_1 16 rfl rfl)
theorem dX5_packs_41 : decode cX5_packs 41 = .ok (.istore_n 2, 1) := dk_61 (dk_at dksX5_packs_1 17 rfl rfl)
theorem dX5_packs_42 : decode cX5_packs 42 = .ok (.iload_n 2, 1) := dk_28 (dk_at dksX5_packs_1 18 rfl rfl)
theorem dX5_packs_43 : decode cX5_packs 43 = .ok (.aload_n 0, 1) := dk_42 (dk_at dksX5_packs_1 19 rfl rfl)
theorem dX5_packs_44 : decode cX5_packs 44 = .ok (.getfield 132, 3) := dk_180 0 132 (dk_at dksX5_packs_1 20 rfl rfl)
theorem dX5_packs_47 : decode cX5_packs 47 = .ok (.if_icmp .ge 33, 3) := dk_162 0 33 (dk_at dksX5_packs_2 0 rfl rfl)
theorem dX5_packs_50 : decode cX5_packs 50 = .ok (.aload_n 0, 1) := dk_42 (dk_at dksX5_packs_2 3 rfl rfl)
theorem dX5_packs_51 : decode cX5_packs 51 = .ok (.getfield 45, 3) := dk_180 0 45 (dk_at dksX5_packs_2 4 rfl rfl)
theorem dX5_packs_54 : decode cX5_packs 54 = .ok (.iload_n 2, 1) := dk_28 (dk_at dksX5_packs_2 7 rfl rfl)
theorem dX5_packs_55 : decode cX5_packs 55 = .ok (.aload_n 0, 1) := dk_42 (dk_at dksX5_packs_2 8 rfl rfl)
theorem dX5_packs_56 : decode cX5_packs 56 = .ok (.aload_n 0, 1) := dk_42 (dk_at dksX5_packs_2 9 rfl rfl)
theorem dX5_packs_57 : decode cX5_packs 57 = .ok (.iload_n 2, 1) := dk_28 (dk_at dksX5_packs_2 10 rfl rfl)
theorem dX5_packs_58 : decode cX5_packs 58 = .ok (.invokevirtual 177, 3) := dk_182 0 177 (dk_at dksX5_packs_2 11 rfl rfl)
theorem dX5_packs_61 : decode cX5_packs 61 = .ok (.aload_n 0, 1) := dk_42 (dk_at dksX5_packs_2 14 rfl rfl)
theorem dX5_packs_62 : decode cX5_packs 62 = .ok (.iload_n 2, 1) := dk_28 (dk_at dksX5_packs_2 15 rfl rfl)
theorem dX5_packs_63 : decode cX5_packs 63 = .ok (.invokevirtual 174, 3) := dk_182 0 174 (dk_at dksX5_packs_2 16 rfl rfl)
theorem dX5_packs_66 : decode cX5_packs 66 = .ok (.iconst 0, 1) := dk_3 (dk_at dksX5_packs_2 19 rfl rfl)
theorem dX5_packs_67 : decode cX5_packs 67 = .ok (.iconst 1, 1) := dk_4 (dk_at dksX5_packs_2 20 rfl rfl)
theorem dX5_packs_68 : decode cX5_packs 68 = .ok (.iload_n 1, 1) := dk_27 (dk_at dksX5_packs_2 21 rfl rfl)
theorem dX5_packs_69 : decode cX5_packs 69 = .ok (.iconst 0, 1) := dk_3 (dk_at dksX5_packs_2 22 rfl rfl)
theorem dX5_packs_70 : decode cX5_packs 70 = .ok (.invokevirtual 220, 3) := dk_182 0 220 (dk_at dksX5_packs_3 0 rfl rfl)
theorem dX5_packs_73 : decode cX5_packs 73 = .ok (.iastore, 1) := dk_79 (dk_at dksX5_packs_3 3 rfl rfl)
theorem dX5_packs_74 : decode cX5_packs 74 = .ok (.iinc 2 1, 3) := dk_132 2 1 (dk_at dksX5_packs_3 4 rfl rfl)
theorem dX5_packs_77 : decode cX5_packs 77 = .ok (.goto (-35), 3) := dk_167 255 221 (dk_at dksX5_packs_3 7 rfl rfl)
theorem dX5_packs_80 : decode cX5_packs 80 = .ok (.iconst 0, 1) := dk_3 (dk_at dksX5_packs_3 10 rfl rfl)
theorem dX5_packs_81 : decode cX5_packs 81 = .ok (.istore_n 2, 1) := dk_61 (dk_at dksX5_packs_3 11 rfl rfl)
theorem dX5_packs_82 : decode cX5_packs 82 = .ok (.iconst 0, 1) := dk_3 (dk_at dksX5_packs_3 12 rfl rfl)
theorem dX5_packs_83 : decode cX5_packs 83 = .ok (.istore_n 3, 1) := dk_62 (dk_at dksX5_packs_3 13 rfl rfl)
theorem dX5_packs_84 : decode cX5_packs 84 = .ok (.iload_n 3, 1) := dk_29 (dk_at dksX5_packs_3 14 rfl rfl)
theorem dX5_packs_85 : decode cX5_packs 85 = .ok (.aload_n 0, 1) := dk_42 (dk_at dksX5_packs_3 15 rfl rfl)
theorem dX5_packs_86 : decode cX5_packs 86 = .ok (.getfield 132, 3) := dk_180 0 132 (dk_at dksX5_packs_3 16 rfl rfl)
theorem dX5_packs_89 : decode cX5_packs 89 = .ok (.if_icmp .ge 37, 3) := dk_162 0 37 (dk_at dksX5_packs_3 19 rfl rfl)
theorem dX5_packs_92 : decode cX5_packs 92 = .ok (.aload_n 0, 1) := dk_42 (dk_at dksX5_packs_3 22 rfl rfl)
theorem dX5_packs_93 : decode cX5_packs 93 = .ok (.getfield 45, 3) := dk_180 0 45 (dk_at dksX5_packs_4 0 rfl rfl)
theorem dX5_packs_96 : decode cX5_packs 96 = .ok (.iload_n 3, 1) := dk_29 (dk_at dksX5_packs_4 3 rfl rfl)
theorem dX5_packs_97 : decode cX5_packs 97 = .ok (.iaload, 1) := dk_46 (dk_at dksX5_packs_4 4 rfl rfl)
theorem dX5_packs_98 : decode cX5_packs 98 = .ok (.aload_n 0, 1) := dk_42 (dk_at dksX5_packs_4 5 rfl rfl)
theorem dX5_packs_99 : decode cX5_packs 99 = .ok (.getfield 97, 3) := dk_180 0 97 (dk_at dksX5_packs_4 6 rfl rfl)
theorem dX5_packs_102 : decode cX5_packs 102 = .ok (.iload_n 3, 1) := dk_29 (dk_at dksX5_packs_4 9 rfl rfl)
theorem dX5_packs_103 : decode cX5_packs 103 = .ok (.iaload, 1) := dk_46 (dk_at dksX5_packs_4 10 rfl rfl)
theorem dX5_packs_104 : decode cX5_packs 104 = .ok (.if_icmp .eq 16, 3) := dk_159 0 16 (dk_at dksX5_packs_4 11 rfl rfl)
theorem dX5_packs_107 : decode cX5_packs 107 = .ok (.aload_n 0, 1) := dk_42 (dk_at dksX5_packs_4 14 rfl rfl)
theorem dX5_packs_108 : decode cX5_packs 108 = .ok (.getfield 54, 3) := dk_180 0 54 (dk_at dksX5_packs_4 15 rfl rfl)
theorem dX5_packs_111 : decode cX5_packs 111 = .ok (.iload_n 3, 1) := dk_29 (dk_at dksX5_packs_4 18 rfl rfl)
theorem dX5_packs_112 : decode cX5_packs 112 = .ok (.dup2, 1) := dk_92 (dk_at dksX5_packs_4 19 rfl rfl)
theorem dX5_packs_113 : decode cX5_packs 113 = .ok (.iaload, 1) := dk_46 (dk_at dksX5_packs_4 20 rfl rfl)
theorem dX5_packs_114 : decode cX5_packs 114 = .ok (.iconst 1, 1) := dk_4 (dk_at dksX5_packs_4 21 rfl rfl)
theorem dX5_packs_115 : decode cX5_packs 115 = .ok (.iadd, 1) := dk_96 (dk_at dksX5_packs_4 22 rfl rfl)
theorem dX5_packs_116 : decode cX5_packs 116 = .ok (.iastore, 1) := dk_79 (dk_at dksX5_packs_4 23 rfl rfl)
theorem dX5_packs_117 : decode cX5_packs 117 = .ok (.iinc 2 1, 3) := dk_132 2 1 (dk_at dksX5_packs_5 0 rfl rfl)
theorem dX5_packs_120 : decode cX5_packs 120 = .ok (.iinc 3 1, 3) := dk_132 3 1 (dk_at dksX5_packs_5 3 rfl rfl)
theorem dX5_packs_123 : decode cX5_packs 123 = .ok (.goto (-39), 3) := dk_167 255 217 (dk_at dksX5_packs_5 6 rfl rfl)
theorem dX5_packs_126 : decode cX5_packs 126 = .ok (.iload_n 2, 1) := dk_28 (dk_at dksX5_packs_5 9 rfl rfl)
theorem dX5_packs_127 : decode cX5_packs 127 = .ok (.ireturn, 1) := dk_172 (dk_at dksX5_packs_5 10 rfl rfl)
abbrev cX5_fewest : ByteArray := prog_12_method_49_code
def yX5_fewest : MethodName := ⟨RX5, "fewest", "()I"⟩
def dkwX5_fewest_2 : List UInt8 := [167, 0, 4, 27, 60, 132, 2, 1, 167, 255, 206, 27, 172]
abbrev dktX5_fewest_2 : List UInt8 := dkwX5_fewest_2 ++ []
def dkwX5_fewest_1 : List UInt8 := [182, 1, 0, 54, 4, 29, 27, 164, 0, 7, 29, 167, 0, 4, 27, 60, 21, 4, 27, 164, 0, 8, 21, 4]
abbrev dktX5_fewest_1 : List UInt8 := dkwX5_fewest_1 ++ dktX5_fewest_2
def dkwX5_fewest_0 : List UInt8 := [3, 60, 3, 61, 28, 42, 180, 0, 20, 162, 0, 48, 42, 28, 3, 182, 1, 0, 62, 42, 28, 4]
abbrev dktX5_fewest_0 : List UInt8 := dkwX5_fewest_0 ++ dktX5_fewest_1
theorem dksX5_fewest_0 : cX5_fewest.data.toList.drop 0 = dktX5_fewest_0 := by decide +kernel
theorem dksX5_fewest_1 : cX5_fewest.data.toList.drop 22 = dktX5_fewest_1 := dk_seg dksX5_fewest_0 22 rfl rfl
theorem dksX5_fewest_2 : cX5_fewest.data.toList.drop 46 = dktX5_fewest_2 := dk_seg dksX5_fewest_1 24 rfl rfl
theorem dX5_fewest_0 : decode cX5_fewest 0 = .ok (.iconst 0, 1) := dk_3 (dk_at dksX5_fewest_0 0 rfl rfl)
theorem dX5_fewest_1 : decode cX5_fewest 1 = .ok (.istore_n 1, 1) := dk_60 (dk_at dksX5_fewest_0 1 rfl rfl)
theorem dX5_fewest_2 : decode cX5_fewest 2 = .ok (.iconst 0, 1) := dk_3 (dk_at dksX5_fewest_0 2 rfl rfl)
theorem dX5_fewest_3 : decode cX5_fewest 3 = .ok (.istore_n 2, 1) := dk_61 (dk_at dksX5_fewest_0 3 rfl rfl)
theorem dX5_fewest_4 : decode cX5_fewest 4 = .ok (.iload_n 2, 1) := dk_28 (dk_at dksX5_fewest_0 4 rfl rfl)
theorem dX5_fewest_5 : decode cX5_fewest 5 = .ok (.aload_n 0, 1) := dk_42 (dk_at dksX5_fewest_0 5 rfl rfl)
theorem dX5_fewest_6 : decode cX5_fewest 6 = .ok (.getfield 20, 3) := dk_180 0 20 (dk_at dksX5_fewest_0 6 rfl rfl)
theorem dX5_fewest_9 : decode cX5_fewest 9 = .ok (.if_icmp .ge 48, 3) := dk_162 0 48 (dk_at dksX5_fewest_0 9 rfl rfl)
theorem dX5_fewest_12 : decode cX5_fewest 12 = .ok (.aload_n 0, 1) := dk_42 (dk_at dksX5_fewest_0 12 rfl rfl)
theorem dX5_fewest_13 : decode cX5_fewest 13 = .ok (.iload_n 2, 1) := dk_28 (dk_at dksX5_fewest_0 13 rfl rfl)
theorem dX5_fewest_14 : decode cX5_fewest 14 = .ok (.iconst 0, 1) := dk_3 (dk_at dksX5_fewest_0 14 rfl rfl)
theorem dX5_fewest_15 : decode cX5_fewest 15 = .ok (.invokevirtual 256, 3) := dk_182 1 0 (dk_at dksX5_fewest_0 15 rfl rfl)
theorem dX5_fewest_18 : decode cX5_fewest 18 = .ok (.istore_n 3, 1) := dk_62 (dk_at dksX5_fewest_0 18 rfl rfl)
theorem dX5_fewest_19 : decode cX5_fewest 19 = .ok (.aload_n 0, 1) := dk_42 (dk_at dksX5_fewest_0 19 rfl rfl)
theorem dX5_fewest_20 : decode cX5_fewest 20 = .ok (.iload_n 2, 1) := dk_28 (dk_at dksX5_fewest_0 20 rfl rfl)
theorem dX5_fewest_21 : decode cX5_fewest 21 = .ok (.iconst 1, 1) := dk_4 (dk_at dksX5_fewest_0 21 rfl rfl)
theorem dX5_fewest_22 : decode cX5_fewest 22 = .ok (.invokevirtual 256, 3) := dk_182 1 0 (dk_at dksX5_fewest_1 0 rfl rfl)
theorem dX5_fewest_25 : decode cX5_fewest 25 = .ok (.istore 4, 2) := dk_54 4 (dk_at dksX5_fewest_1 3 rfl rfl)
theorem dX5_fewest_27 : decode cX5_fewest 27 = .ok (.iload_n 3, 1) := dk_29 (dk_at dksX5_fewest_1 5 rfl rfl)
theorem dX5_fewest_28 : decode cX5_fewest 28 = .ok (.iload_n 1, 1) := dk_27 (dk_at dksX5_fewest_1 6 rfl rfl)
theorem dX5_fewest_29 : decode cX5_fewest 29 = .ok (.if_icmp .le 7, 3) := dk_164 0 7 (dk_at dksX5_fewest_1 7 rfl rfl)
theorem dX5_fewest_32 : decode cX5_fewest 32 = .ok (.iload_n 3, 1) := dk_29 (dk_at dksX5_fewest_1 10 rfl rfl)
theorem dX5_fewest_33 : decode cX5_fewest 33 = .ok (.goto 4, 3) := dk_167 0 4 (dk_at dksX5_fewest_1 11 rfl rfl)
theorem dX5_fewest_36 : decode cX5_fewest 36 = .ok (.iload_n 1, 1) := dk_27 (dk_at dksX5_fewest_1 14 rfl rfl)
theorem dX5_fewest_37 : decode cX5_fewest 37 = .ok (.istore_n 1, 1) := dk_60 (dk_at dksX5_fewest_1 15 rfl rfl)
theorem dX5_fewest_38 : decode cX5_fewest 38 = .ok (.iload 4, 2) := dk_21 4 (dk_at dksX5_fewest_1 16 rfl rfl)
theorem dX5_fewest_40 : decode cX5_fewest 40 = .ok (.iload_n 1, 1) := dk_27 (dk_at dksX5_fewest_1 18 rfl rfl)
theorem dX5_fewest_41 : decode cX5_fewest 41 = .ok (.if_icmp .le 8, 3) := dk_164 0 8 (dk_at dksX5_fewest_1 19 rfl rfl)
theorem dX5_fewest_44 : decode cX5_fewest 44 = .ok (.iload 4, 2) := dk_21 4 (dk_at dksX5_fewest_1 22 rfl rfl)
theorem dX5_fewest_46 : decode cX5_fewest 46 = .ok (.goto 4, 3) := dk_167 0 4 (dk_at dksX5_fewest_2 0 rfl rfl)
theorem dX5_fewest_49 : decode cX5_fewest 49 = .ok (.iload_n 1, 1) := dk_27 (dk_at dksX5_fewest_2 3 rfl rfl)
theorem dX5_fewest_50 : decode cX5_fewest 50 = .ok (.istore_n 1, 1) := dk_60 (dk_at dksX5_fewest_2 4 rfl rfl)
theorem dX5_fewest_51 : decode cX5_fewest 51 = .ok (.iinc 2 1, 3) := dk_132 2 1 (dk_at dksX5_fewest_2 5 rfl rfl)
theorem dX5_fewest_54 : decode cX5_fewest 54 = .ok (.goto (-50), 3) := dk_167 255 206 (dk_at dksX5_fewest_2 8 rfl rfl)
theorem dX5_fewest_57 : decode cX5_fewest 57 = .ok (.iload_n 1, 1) := dk_27 (dk_at dksX5_fewest_2 11 rfl rfl)
theorem dX5_fewest_58 : decode cX5_fewest 58 = .ok (.ireturn, 1) := dk_172 (dk_at dksX5_fewest_2 12 rfl rfl)
abbrev cX5_callsAt : ByteArray := prog_12_method_28_code
def yX5_callsAt : MethodName := ⟨RX5, "callsAt", "(IZ)I"⟩
def dkwX5_callsAt_2 : List UInt8 := [132, 4, 1, 167, 255, 213, 29, 172]
abbrev dktX5_callsAt_2 : List UInt8 := dkwX5_callsAt_2 ++ []
def dkwX5_callsAt_1 : List UInt8 := [182, 0, 174, 167, 0, 9, 42, 21, 4, 182, 0, 177, 27, 160, 0, 7, 4, 167, 0, 4, 3, 96, 62]
abbrev dktX5_callsAt_1 : List UInt8 := dkwX5_callsAt_1 ++ dktX5_callsAt_2
def dkwX5_callsAt_0 : List UInt8 := [3, 62, 3, 54, 4, 21, 4, 42, 180, 0, 132, 162, 0, 40, 29, 28, 153, 0, 12, 42, 21, 4]
abbrev dktX5_callsAt_0 : List UInt8 := dkwX5_callsAt_0 ++ dktX5_callsAt_1
theorem dksX5_callsAt_0 : cX5_callsAt.data.toList.drop 0 = dktX5_callsAt_0 := by decide +kernel
theorem dksX5_callsAt_1 : cX5_callsAt.data.toList.drop 22 = dktX5_callsAt_1 := dk_seg dksX5_callsAt_0 22 rfl rfl
theorem dksX5_callsAt_2 : cX5_callsAt.data.toList.drop 45 = dktX5_callsAt_2 := dk_seg dksX5_callsAt_1 23 rfl rfl
theorem dX5_callsAt_0 : decode cX5_callsAt 0 = .ok (.iconst 0, 1) := dk_3 (dk_at dksX5_callsAt_0 0 rfl rfl)
theorem dX5_callsAt_1 : decode cX5_callsAt 1 = .ok (.istore_n 3, 1) := dk_62 (dk_at dksX5_callsAt_0 1 rfl rfl)
theorem dX5_callsAt_2 : decode cX5_callsAt 2 = .ok (.iconst 0, 1) := dk_3 (dk_at dksX5_callsAt_0 2 rfl rfl)
theorem dX5_callsAt_3 : decode cX5_callsAt 3 = .ok (.istore 4, 2) := dk_54 4 (dk_at dksX5_callsAt_0 3 rfl rfl)
theorem dX5_callsAt_5 : decode cX5_callsAt 5 = .ok (.iload 4, 2) := dk_21 4 (dk_at dksX5_callsAt_0 5 rfl rfl)
theorem dX5_callsAt_7 : decode cX5_callsAt 7 = .ok (.aload_n 0, 1) := dk_42 (dk_at dksX5_callsAt_0 7 rfl rfl)
theorem dX5_callsAt_8 : decode cX5_callsAt 8 = .ok (.getfield 132, 3) := dk_180 0 132 (dk_at dksX5_callsAt_0 8 rfl rfl)
theorem dX5_callsAt_11 : decode cX5_callsAt 11 = .ok (.if_icmp .ge 40, 3) := dk_162 0 40 (dk_at dksX5_callsAt_0 11 rfl rfl)
theorem dX5_callsAt_14 : decode cX5_callsAt 14 = .ok (.iload_n 3, 1) := dk_29 (dk_at dksX5_callsAt_0 14 rfl rfl)
theorem dX5_callsAt_15 : decode cX5_callsAt 15 = .ok (.iload_n 2, 1) := dk_28 (dk_at dksX5_callsAt_0 15 rfl rfl)
theorem dX5_callsAt_16 : decode cX5_callsAt 16 = .ok (.ifCond .eq 12, 3) := dk_153 0 12 (dk_at dksX5_callsAt_0 16 rfl rfl)
theorem dX5_callsAt_19 : decode cX5_callsAt 19 = .ok (.aload_n 0, 1) := dk_42 (dk_at dksX5_callsAt_0 19 rfl rfl)
theorem dX5_callsAt_20 : decode cX5_callsAt 20 = .ok (.iload 4, 2) := dk_21 4 (dk_at dksX5_callsAt_0 20 rfl rfl)
theorem dX5_callsAt_22 : decode cX5_callsAt 22 = .ok (.invokevirtual 174, 3) := dk_182 0 174 (dk_at dksX5_callsAt_1 0 rfl rfl)
theorem dX5_callsAt_25 : decode cX5_callsAt 25 = .ok (.goto 9, 3) := dk_167 0 9 (dk_at dksX5_callsAt_1 3 rfl rfl)
theorem dX5_callsAt_28 : decode cX5_callsAt 28 = .ok (.aload_n 0, 1) := dk_42 (dk_at dksX5_callsAt_1 6 rfl rfl)
theorem dX5_callsAt_29 : decode cX5_callsAt 29 = .ok (.iload 4, 2) := dk_21 4 (dk_at dksX5_callsAt_1 7 rfl rfl)
theorem dX5_callsAt_31 : decode cX5_callsAt 31 = .ok (.invokevirtual 177, 3) := dk_182 0 177 (dk_at dksX5_callsAt_1 9 rfl rfl)
theorem dX5_callsAt_34 : decode cX5_callsAt 34 = .ok (.iload_n 1, 1) := dk_27 (dk_at dksX5_callsAt_1 12 rfl rfl)
theorem dX5_callsAt_35 : decode cX5_callsAt 35 = .ok (.if_icmp .ne 7, 3) := dk_160 0 7 (dk_at dksX5_callsAt_1 13 rfl rfl)
theorem dX5_callsAt_38 : decode cX5_callsAt 38 = .ok (.iconst 1, 1) := dk_4 (dk_at dksX5_callsAt_1 16 rfl rfl)
theorem dX5_callsAt_39 : decode cX5_callsAt 39 = .ok (.goto 4, 3) := dk_167 0 4 (dk_at dksX5_callsAt_1 17 rfl rfl)
theorem dX5_callsAt_42 : decode cX5_callsAt 42 = .ok (.iconst 0, 1) := dk_3 (dk_at dksX5_callsAt_1 20 rfl rfl)
theorem dX5_callsAt_43 : decode cX5_callsAt 43 = .ok (.iadd, 1) := dk_96 (dk_at dksX5_callsAt_1 21 rfl rfl)
theorem dX5_callsAt_44 : decode cX5_callsAt 44 = .ok (.istore_n 3, 1) := dk_62 (dk_at dksX5_callsAt_1 22 rfl rfl)
theorem dX5_callsAt_45 : decode cX5_callsAt 45 = .ok (.iinc 4 1, 3) := dk_132 4 1 (dk_at dksX5_callsAt_2 0 rfl rfl)
theorem dX5_callsAt_48 : decode cX5_callsAt 48 = .ok (.goto (-43), 3) := dk_167 255 213 (dk_at dksX5_callsAt_2 3 rfl rfl)
theorem dX5_callsAt_51 : decode cX5_callsAt 51 = .ok (.iload_n 3, 1) := dk_29 (dk_at dksX5_callsAt_2 6 rfl rfl)
theorem dX5_callsAt_52 : decode cX5_callsAt 52 = .ok (.ireturn, 1) := dk_172 (dk_at dksX5_callsAt_2 7 rfl rfl)
abbrev cX5_takeImage : ByteArray := prog_12_method_10_code
def yX5_takeImage : MethodName := ⟨RX5, "takeImage", "(I)V"⟩
def dkwX5_takeImage_14 : List UInt8 := [182, 0, 145, 61, 42, 42, 42, 180, 0, 81, 28, 16, 13, 182, 0, 145, 181, 0, 142, 177]
abbrev dktX5_takeImage_14 : List UInt8 := dkwX5_takeImage_14 ++ []
def dkwX5_takeImage_13 : List UInt8 := [182, 0, 145, 61, 42, 42, 180, 0, 75, 28, 7, 182, 0, 145, 61, 42, 42, 180, 0, 78, 28, 16, 32]
abbrev dktX5_takeImage_13 : List UInt8 := dkwX5_takeImage_13 ++ dktX5_takeImage_14
def dkwX5_takeImage_12 : List UInt8 := [182, 0, 145, 61, 42, 42, 180, 0, 69, 28, 7, 182, 0, 145, 61, 42, 42, 180, 0, 72, 28, 16, 24]
abbrev dktX5_takeImage_12 : List UInt8 := dkwX5_takeImage_12 ++ dktX5_takeImage_13
def dkwX5_takeImage_11 : List UInt8 := [182, 0, 145, 61, 42, 42, 180, 0, 63, 28, 16, 8, 182, 0, 145, 61, 42, 42, 180, 0, 66, 28, 16, 8]
abbrev dktX5_takeImage_11 : List UInt8 := dkwX5_takeImage_11 ++ dktX5_takeImage_12
def dkwX5_takeImage_10 : List UInt8 := [182, 0, 145, 61, 42, 42, 180, 0, 57, 28, 16, 8, 182, 0, 145, 61, 42, 42, 180, 0, 60, 28, 16, 8]
abbrev dktX5_takeImage_10 : List UInt8 := dkwX5_takeImage_10 ++ dktX5_takeImage_11
def dkwX5_takeImage_9 : List UInt8 := [182, 0, 145, 61, 42, 42, 180, 0, 51, 28, 16, 20, 182, 0, 145, 61, 42, 42, 180, 0, 54, 28, 16, 20]
abbrev dktX5_takeImage_9 : List UInt8 := dkwX5_takeImage_9 ++ dktX5_takeImage_10
def dkwX5_takeImage_8 : List UInt8 := [182, 0, 145, 61, 42, 42, 180, 0, 45, 28, 16, 20, 182, 0, 145, 61, 42, 42, 180, 0, 48, 28, 16, 20]
abbrev dktX5_takeImage_8 : List UInt8 := dkwX5_takeImage_8 ++ dktX5_takeImage_9
def dkwX5_takeImage_7 : List UInt8 := [182, 0, 145, 61, 42, 42, 180, 0, 39, 28, 16, 20, 182, 0, 145, 61, 42, 42, 180, 0, 42, 28, 16, 20]
abbrev dktX5_takeImage_7 : List UInt8 := dkwX5_takeImage_7 ++ dktX5_takeImage_8
def dkwX5_takeImage_6 : List UInt8 := [42, 42, 180, 0, 84, 28, 16, 11, 96, 46, 181, 0, 103, 42, 42, 180, 0, 35, 28, 16, 12, 96, 16, 20]
abbrev dktX5_takeImage_6 : List UInt8 := dkwX5_takeImage_6 ++ dktX5_takeImage_7
def dkwX5_takeImage_5 : List UInt8 := [180, 0, 84, 28, 16, 9, 96, 46, 181, 0, 132, 42, 42, 180, 0, 84, 28, 16, 10, 96, 46, 181, 0, 135]
abbrev dktX5_takeImage_5 : List UInt8 := dkwX5_takeImage_5 ++ dktX5_takeImage_6
def dkwX5_takeImage_4 : List UInt8 := [16, 7, 96, 46, 181, 0, 32, 42, 42, 180, 0, 84, 28, 16, 8, 96, 46, 181, 0, 129, 42, 42]
abbrev dktX5_takeImage_4 : List UInt8 := dkwX5_takeImage_4 ++ dktX5_takeImage_5
def dkwX5_takeImage_3 : List UInt8 := [46, 181, 0, 123, 42, 42, 180, 0, 84, 28, 16, 6, 96, 46, 181, 0, 126, 42, 42, 180, 0, 84, 28]
abbrev dktX5_takeImage_3 : List UInt8 := dkwX5_takeImage_3 ++ dktX5_takeImage_4
def dkwX5_takeImage_2 : List UInt8 := [46, 181, 0, 120, 42, 42, 180, 0, 84, 28, 7, 96, 46, 181, 0, 29, 42, 42, 180, 0, 84, 28, 8, 96]
abbrev dktX5_takeImage_2 : List UInt8 := dkwX5_takeImage_2 ++ dktX5_takeImage_3
def dkwX5_takeImage_1 : List UInt8 := [46, 181, 0, 23, 42, 42, 180, 0, 84, 28, 5, 96, 46, 181, 0, 26, 42, 42, 180, 0, 84, 28, 6, 96]
abbrev dktX5_takeImage_1 : List UInt8 := dkwX5_takeImage_1 ++ dktX5_takeImage_2
def dkwX5_takeImage_0 : List UInt8 := [27, 17, 1, 64, 104, 61, 42, 42, 180, 0, 84, 28, 46, 181, 0, 20, 42, 42, 180, 0, 84, 28, 4, 96]
abbrev dktX5_takeImage_0 : List UInt8 := dkwX5_takeImage_0 ++ dktX5_takeImage_1
theorem dksX5_takeImage_0 : cX5_takeImage.data.toList.drop 0 = dktX5_takeImage_0 := by decide +kernel
theorem dksX5_takeImage_1 : cX5_takeImage.data.toList.drop 24 = dktX5_takeImage_1 := dk_seg dksX5_takeImage_0 24 rfl rfl
theorem dksX5_takeImage_2 : cX5_takeImage.data.toList.drop 48 = dktX5_takeImage_2 := dk_seg dksX5_takeImage_1 24 rfl rfl
theorem dksX5_takeImage_3 : cX5_takeImage.data.toList.drop 72 = dktX5_takeImage_3 := dk_seg dksX5_takeImage_2 24 rfl rfl
theorem dksX5_takeImage_4 : cX5_takeImage.data.toList.drop 95 = dktX5_takeImage_4 := dk_seg dksX5_takeImage_3 23 rfl rfl
theorem dksX5_takeImage_5 : cX5_takeImage.data.toList.drop 117 = dktX5_takeImage_5 := dk_seg dksX5_takeImage_4 22 rfl rfl
theorem dksX5_takeImage_6 : cX5_takeImage.data.toList.drop 141 = dktX5_takeImage_6 := dk_seg dksX5_takeImage_5 24 rfl rfl
theorem dksX5_takeImage_7 : cX5_takeImage.data.toList.drop 165 = dktX5_takeImage_7 := dk_seg dksX5_takeImage_6 24 rfl rfl
theorem dksX5_takeImage_8 : cX5_takeImage.data.toList.drop 189 = dktX5_takeImage_8 := dk_seg dksX5_takeImage_7 24 rfl rfl
theorem dksX5_takeImage_9 : cX5_takeImage.data.toList.drop 213 = dktX5_takeImage_9 := dk_seg dksX5_takeImage_8 24 rfl rfl
theorem dksX5_takeImage_10 : cX5_takeImage.data.toList.drop 237 = dktX5_takeImage_10 := dk_seg dksX5_takeImage_9 24 rfl rfl
theorem dksX5_takeImage_11 : cX5_takeImage.data.toList.drop 261 = dktX5_takeImage_11 := dk_seg dksX5_takeImage_10 24 rfl rfl
theorem dksX5_takeImage_12 : cX5_takeImage.data.toList.drop 285 = dktX5_takeImage_12 := dk_seg dksX5_takeImage_11 24 rfl rfl
theorem dksX5_takeImage_13 : cX5_takeImage.data.toList.drop 308 = dktX5_takeImage_13 := dk_seg dksX5_takeImage_12 23 rfl rfl
theorem dksX5_takeImage_14 : cX5_takeImage.data.toList.drop 331 = dktX5_takeImage_14 := dk_seg dksX5_takeImage_13 23 rfl rfl
theorem dX5_takeImage_0 : decode cX5_takeImage 0 = .ok (.iload_n 1, 1) := dk_27 (dk_at dksX5_takeImage_0 0 rfl rfl)
theorem dX5_takeImage_1 : decode cX5_takeImage 1 = .ok (.sipush 320, 3) := dk_17 1 64 (dk_at dksX5_takeImage_0 1 rfl rfl)
theorem dX5_takeImage_4 : decode cX5_takeImage 4 = .ok (.imul, 1) := dk_104 (dk_at dksX5_takeImage_0 4 rfl rfl)
theorem dX5_takeImage_5 : decode cX5_takeImage 5 = .ok (.istore_n 2, 1) := dk_61 (dk_at dksX5_takeImage_0 5 rfl rfl)
theorem dX5_takeImage_6 : decode cX5_takeImage 6 = .ok (.aload_n 0, 1) := dk_42 (dk_at dksX5_takeImage_0 6 rfl rfl)
theorem dX5_takeImage_7 : decode cX5_takeImage 7 = .ok (.aload_n 0, 1) := dk_42 (dk_at dksX5_takeImage_0 7 rfl rfl)
theorem dX5_takeImage_8 : decode cX5_takeImage 8 = .ok (.getfield 84, 3) := dk_180 0 84 (dk_at dksX5_takeImage_0 8 rfl rfl)
theorem dX5_takeImage_11 : decode cX5_takeImage 11 = .ok (.iload_n 2, 1) := dk_28 (dk_at dksX5_takeImage_0 11 rfl rfl)
theorem dX5_takeImage_12 : decode cX5_takeImage 12 = .ok (.iaload, 1) := dk_46 (dk_at dksX5_takeImage_0 12 rfl rfl)
theorem dX5_takeImage_13 : decode cX5_takeImage 13 = .ok (.putfield 20, 3) := dk_181 0 20 (dk_at dksX5_takeImage_0 13 rfl rfl)
theorem dX5_takeImage_16 : decode cX5_takeImage 16 = .ok (.aload_n 0, 1) := dk_42 (dk_at dksX5_takeImage_0 16 rfl rfl)
theorem dX5_takeImage_17 : decode cX5_takeImage 17 = .ok (.aload_n 0, 1) := dk_42 (dk_at dksX5_takeImage_0 17 rfl rfl)
theorem dX5_takeImage_18 : decode cX5_takeImage 18 = .ok (.getfield 84, 3) := dk_180 0 84 (dk_at dksX5_takeImage_0 18 rfl rfl)
theorem dX5_takeImage_21 : decode cX5_takeImage 21 = .ok (.iload_n 2, 1) := dk_28 (dk_at dksX5_takeImage_0 21 rfl rfl)
theorem dX5_takeImage_22 : decode cX5_takeImage 22 = .ok (.iconst 1, 1) := dk_4 (dk_at dksX5_takeImage_0 22 rfl rfl)
theorem dX5_takeImage_23 : decode cX5_takeImage 23 = .ok (.iadd, 1) := dk_96 (dk_at dksX5_takeImage_0 23 rfl rfl)
theorem dX5_takeImage_24 : decode cX5_takeImage 24 = .ok (.iaload, 1) := dk_46 (dk_at dksX5_takeImage_1 0 rfl rfl)
theorem dX5_takeImage_25 : decode cX5_takeImage 25 = .ok (.putfield 23, 3) := dk_181 0 23 (dk_at dksX5_takeImage_1 1 rfl rfl)
theorem dX5_takeImage_28 : decode cX5_takeImage 28 = .ok (.aload_n 0, 1) := dk_42 (dk_at dksX5_takeImage_1 4 rfl rfl)
theorem dX5_takeImage_29 : decode cX5_takeImage 29 = .ok (.aload_n 0, 1) := dk_42 (dk_at dksX5_takeImage_1 5 rfl rfl)
theorem dX5_takeImage_30 : decode cX5_takeImage 30 = .ok (.getfield 84, 3) := dk_180 0 84 (dk_at dksX5_takeImage_1 6 rfl rfl)
theorem dX5_takeImage_33 : decode cX5_takeImage 33 = .ok (.iload_n 2, 1) := dk_28 (dk_at dksX5_takeImage_1 9 rfl rfl)
theorem dX5_takeImage_34 : decode cX5_takeImage 34 = .ok (.iconst 2, 1) := dk_5 (dk_at dksX5_takeImage_1 10 rfl rfl)
theorem dX5_takeImage_35 : decode cX5_takeImage 35 = .ok (.iadd, 1) := dk_96 (dk_at dksX5_takeImage_1 11 rfl rfl)
theorem dX5_takeImage_36 : decode cX5_takeImage 36 = .ok (.iaload, 1) := dk_46 (dk_at dksX5_takeImage_1 12 rfl rfl)
theorem dX5_takeImage_37 : decode cX5_takeImage 37 = .ok (.putfield 26, 3) := dk_181 0 26 (dk_at dksX5_takeImage_1 13 rfl rfl)
theorem dX5_takeImage_40 : decode cX5_takeImage 40 = .ok (.aload_n 0, 1) := dk_42 (dk_at dksX5_takeImage_1 16 rfl rfl)
theorem dX5_takeImage_41 : decode cX5_takeImage 41 = .ok (.aload_n 0, 1) := dk_42 (dk_at dksX5_takeImage_1 17 rfl rfl)
theorem dX5_takeImage_42 : decode cX5_takeImage 42 = .ok (.getfield 84, 3) := dk_180 0 84 (dk_at dksX5_takeImage_1 18 rfl rfl)
theorem dX5_takeImage_45 : decode cX5_takeImage 45 = .ok (.iload_n 2, 1) := dk_28 (dk_at dksX5_takeImage_1 21 rfl rfl)
theorem dX5_takeImage_46 : decode cX5_takeImage 46 = .ok (.iconst 3, 1) := dk_6 (dk_at dksX5_takeImage_1 22 rfl rfl)
theorem dX5_takeImage_47 : decode cX5_takeImage 47 = .ok (.iadd, 1) := dk_96 (dk_at dksX5_takeImage_1 23 rfl rfl)
theorem dX5_takeImage_48 : decode cX5_takeImage 48 = .ok (.iaload, 1) := dk_46 (dk_at dksX5_takeImage_2 0 rfl rfl)
theorem dX5_takeImage_49 : decode cX5_takeImage 49 = .ok (.putfield 120, 3) := dk_181 0 120 (dk_at dksX5_takeImage_2 1 rfl rfl)
theorem dX5_takeImage_52 : decode cX5_takeImage 52 = .ok (.aload_n 0, 1) := dk_42 (dk_at dksX5_takeImage_2 4 rfl rfl)
theorem dX5_takeImage_53 : decode cX5_takeImage 53 = .ok (.aload_n 0, 1) := dk_42 (dk_at dksX5_takeImage_2 5 rfl rfl)
theorem dX5_takeImage_54 : decode cX5_takeImage 54 = .ok (.getfield 84, 3) := dk_180 0 84 (dk_at dksX5_takeImage_2 6 rfl rfl)
theorem dX5_takeImage_57 : decode cX5_takeImage 57 = .ok (.iload_n 2, 1) := dk_28 (dk_at dksX5_takeImage_2 9 rfl rfl)
theorem dX5_takeImage_58 : decode cX5_takeImage 58 = .ok (.iconst 4, 1) := dk_7 (dk_at dksX5_takeImage_2 10 rfl rfl)
theorem dX5_takeImage_59 : decode cX5_takeImage 59 = .ok (.iadd, 1) := dk_96 (dk_at dksX5_takeImage_2 11 rfl rfl)
theorem dX5_takeImage_60 : decode cX5_takeImage 60 = .ok (.iaload, 1) := dk_46 (dk_at dksX5_takeImage_2 12 rfl rfl)
theorem dX5_takeImage_61 : decode cX5_takeImage 61 = .ok (.putfield 29, 3) := dk_181 0 29 (dk_at dksX5_takeImage_2 13 rfl rfl)
theorem dX5_takeImage_64 : decode cX5_takeImage 64 = .ok (.aload_n 0, 1) := dk_42 (dk_at dksX5_takeImage_2 16 rfl rfl)
theorem dX5_takeImage_65 : decode cX5_takeImage 65 = .ok (.aload_n 0, 1) := dk_42 (dk_at dksX5_takeImage_2 17 rfl rfl)
theorem dX5_takeImage_66 : decode cX5_takeImage 66 = .ok (.getfield 84, 3) := dk_180 0 84 (dk_at dksX5_takeImage_2 18 rfl rfl)
theorem dX5_takeImage_69 : decode cX5_takeImage 69 = .ok (.iload_n 2, 1) := dk_28 (dk_at dksX5_takeImage_2 21 rfl rfl)
theorem dX5_takeImage_70 : decode cX5_takeImage 70 = .ok (.iconst 5, 1) := dk_8 (dk_at dksX5_takeImage_2 22 rfl rfl)
theorem dX5_takeImage_71 : decode cX5_takeImage 71 = .ok (.iadd, 1) := dk_96 (dk_at dksX5_takeImage_2 23 rfl rfl)
theorem dX5_takeImage_72 : decode cX5_takeImage 72 = .ok (.iaload, 1) := dk_46 (dk_at dksX5_takeImage_3 0 rfl rfl)
theorem dX5_takeImage_73 : decode cX5_takeImage 73 = .ok (.putfield 123, 3) := dk_181 0 123 (dk_at dksX5_takeImage_3 1 rfl rfl)
theorem dX5_takeImage_76 : decode cX5_takeImage 76 = .ok (.aload_n 0, 1) := dk_42 (dk_at dksX5_takeImage_3 4 rfl rfl)
theorem dX5_takeImage_77 : decode cX5_takeImage 77 = .ok (.aload_n 0, 1) := dk_42 (dk_at dksX5_takeImage_3 5 rfl rfl)
theorem dX5_takeImage_78 : decode cX5_takeImage 78 = .ok (.getfield 84, 3) := dk_180 0 84 (dk_at dksX5_takeImage_3 6 rfl rfl)
theorem dX5_takeImage_81 : decode cX5_takeImage 81 = .ok (.iload_n 2, 1) := dk_28 (dk_at dksX5_takeImage_3 9 rfl rfl)
theorem dX5_takeImage_82 : decode cX5_takeImage 82 = .ok (.bipush 6, 2) := dk_16 6 (dk_at dksX5_takeImage_3 10 rfl rfl)
theorem dX5_takeImage_84 : decode cX5_takeImage 84 = .ok (.iadd, 1) := dk_96 (dk_at dksX5_takeImage_3 12 rfl rfl)
theorem dX5_takeImage_85 : decode cX5_takeImage 85 = .ok (.iaload, 1) := dk_46 (dk_at dksX5_takeImage_3 13 rfl rfl)
theorem dX5_takeImage_86 : decode cX5_takeImage 86 = .ok (.putfield 126, 3) := dk_181 0 126 (dk_at dksX5_takeImage_3 14 rfl rfl)
theorem dX5_takeImage_89 : decode cX5_takeImage 89 = .ok (.aload_n 0, 1) := dk_42 (dk_at dksX5_takeImage_3 17 rfl rfl)
theorem dX5_takeImage_90 : decode cX5_takeImage 90 = .ok (.aload_n 0, 1) := dk_42 (dk_at dksX5_takeImage_3 18 rfl rfl)
theorem dX5_takeImage_91 : decode cX5_takeImage 91 = .ok (.getfield 84, 3) := dk_180 0 84 (dk_at dksX5_takeImage_3 19 rfl rfl)
theorem dX5_takeImage_94 : decode cX5_takeImage 94 = .ok (.iload_n 2, 1) := dk_28 (dk_at dksX5_takeImage_3 22 rfl rfl)
theorem dX5_takeImage_95 : decode cX5_takeImage 95 = .ok (.bipush 7, 2) := dk_16 7 (dk_at dksX5_takeImage_4 0 rfl rfl)
theorem dX5_takeImage_97 : decode cX5_takeImage 97 = .ok (.iadd, 1) := dk_96 (dk_at dksX5_takeImage_4 2 rfl rfl)
theorem dX5_takeImage_98 : decode cX5_takeImage 98 = .ok (.iaload, 1) := dk_46 (dk_at dksX5_takeImage_4 3 rfl rfl)
theorem dX5_takeImage_99 : decode cX5_takeImage 99 = .ok (.putfield 32, 3) := dk_181 0 32 (dk_at dksX5_takeImage_4 4 rfl rfl)
theorem dX5_takeImage_102 : decode cX5_takeImage 102 = .ok (.aload_n 0, 1) := dk_42 (dk_at dksX5_takeImage_4 7 rfl rfl)
theorem dX5_takeImage_103 : decode cX5_takeImage 103 = .ok (.aload_n 0, 1) := dk_42 (dk_at dksX5_takeImage_4 8 rfl rfl)
theorem dX5_takeImage_104 : decode cX5_takeImage 104 = .ok (.getfield 84, 3) := dk_180 0 84 (dk_at dksX5_takeImage_4 9 rfl rfl)
theorem dX5_takeImage_107 : decode cX5_takeImage 107 = .ok (.iload_n 2, 1) := dk_28 (dk_at dksX5_takeImage_4 12 rfl rfl)
theorem dX5_takeImage_108 : decode cX5_takeImage 108 = .ok (.bipush 8, 2) := dk_16 8 (dk_at dksX5_takeImage_4 13 rfl rfl)
theorem dX5_takeImage_110 : decode cX5_takeImage 110 = .ok (.iadd, 1) := dk_96 (dk_at dksX5_takeImage_4 15 rfl rfl)
theorem dX5_takeImage_111 : decode cX5_takeImage 111 = .ok (.iaload, 1) := dk_46 (dk_at dksX5_takeImage_4 16 rfl rfl)
theorem dX5_takeImage_112 : decode cX5_takeImage 112 = .ok (.putfield 129, 3) := dk_181 0 129 (dk_at dksX5_takeImage_4 17 rfl rfl)
theorem dX5_takeImage_115 : decode cX5_takeImage 115 = .ok (.aload_n 0, 1) := dk_42 (dk_at dksX5_takeImage_4 20 rfl rfl)
theorem dX5_takeImage_116 : decode cX5_takeImage 116 = .ok (.aload_n 0, 1) := dk_42 (dk_at dksX5_takeImage_4 21 rfl rfl)
theorem dX5_takeImage_117 : decode cX5_takeImage 117 = .ok (.getfield 84, 3) := dk_180 0 84 (dk_at dksX5_takeImage_5 0 rfl rfl)
theorem dX5_takeImage_120 : decode cX5_takeImage 120 = .ok (.iload_n 2, 1) := dk_28 (dk_at dksX5_takeImage_5 3 rfl rfl)
theorem dX5_takeImage_121 : decode cX5_takeImage 121 = .ok (.bipush 9, 2) := dk_16 9 (dk_at dksX5_takeImage_5 4 rfl rfl)
theorem dX5_takeImage_123 : decode cX5_takeImage 123 = .ok (.iadd, 1) := dk_96 (dk_at dksX5_takeImage_5 6 rfl rfl)
theorem dX5_takeImage_124 : decode cX5_takeImage 124 = .ok (.iaload, 1) := dk_46 (dk_at dksX5_takeImage_5 7 rfl rfl)
theorem dX5_takeImage_125 : decode cX5_takeImage 125 = .ok (.putfield 132, 3) := dk_181 0 132 (dk_at dksX5_takeImage_5 8 rfl rfl)
theorem dX5_takeImage_128 : decode cX5_takeImage 128 = .ok (.aload_n 0, 1) := dk_42 (dk_at dksX5_takeImage_5 11 rfl rfl)
theorem dX5_takeImage_129 : decode cX5_takeImage 129 = .ok (.aload_n 0, 1) := dk_42 (dk_at dksX5_takeImage_5 12 rfl rfl)
theorem dX5_takeImage_130 : decode cX5_takeImage 130 = .ok (.getfield 84, 3) := dk_180 0 84 (dk_at dksX5_takeImage_5 13 rfl rfl)
theorem dX5_takeImage_133 : decode cX5_takeImage 133 = .ok (.iload_n 2, 1) := dk_28 (dk_at dksX5_takeImage_5 16 rfl rfl)
theorem dX5_takeImage_134 : decode cX5_takeImage 134 = .ok (.bipush 10, 2) := dk_16 10 (dk_at dksX5_takeImage_5 17 rfl rfl)
theorem dX5_takeImage_136 : decode cX5_takeImage 136 = .ok (.iadd, 1) := dk_96 (dk_at dksX5_takeImage_5 19 rfl rfl)
theorem dX5_takeImage_137 : decode cX5_takeImage 137 = .ok (.iaload, 1) := dk_46 (dk_at dksX5_takeImage_5 20 rfl rfl)
theorem dX5_takeImage_138 : decode cX5_takeImage 138 = .ok (.putfield 135, 3) := dk_181 0 135 (dk_at dksX5_takeImage_5 21 rfl rfl)
theorem dX5_takeImage_141 : decode cX5_takeImage 141 = .ok (.aload_n 0, 1) := dk_42 (dk_at dksX5_takeImage_6 0 rfl rfl)
theorem dX5_takeImage_142 : decode cX5_takeImage 142 = .ok (.aload_n 0, 1) := dk_42 (dk_at dksX5_takeImage_6 1 rfl rfl)
theorem dX5_takeImage_143 : decode cX5_takeImage 143 = .ok (.getfield 84, 3) := dk_180 0 84 (dk_at dksX5_takeImage_6 2 rfl rfl)
theorem dX5_takeImage_146 : decode cX5_takeImage 146 = .ok (.iload_n 2, 1) := dk_28 (dk_at dksX5_takeImage_6 5 rfl rfl)
theorem dX5_takeImage_147 : decode cX5_takeImage 147 = .ok (.bipush 11, 2) := dk_16 11 (dk_at dksX5_takeImage_6 6 rfl rfl)
theorem dX5_takeImage_149 : decode cX5_takeImage 149 = .ok (.iadd, 1) := dk_96 (dk_at dksX5_takeImage_6 8 rfl rfl)
theorem dX5_takeImage_150 : decode cX5_takeImage 150 = .ok (.iaload, 1) := dk_46 (dk_at dksX5_takeImage_6 9 rfl rfl)
theorem dX5_takeImage_151 : decode cX5_takeImage 151 = .ok (.putfield 103, 3) := dk_181 0 103 (dk_at dksX5_takeImage_6 10 rfl rfl)
theorem dX5_takeImage_154 : decode cX5_takeImage 154 = .ok (.aload_n 0, 1) := dk_42 (dk_at dksX5_takeImage_6 13 rfl rfl)
theorem dX5_takeImage_155 : decode cX5_takeImage 155 = .ok (.aload_n 0, 1) := dk_42 (dk_at dksX5_takeImage_6 14 rfl rfl)
theorem dX5_takeImage_156 : decode cX5_takeImage 156 = .ok (.getfield 35, 3) := dk_180 0 35 (dk_at dksX5_takeImage_6 15 rfl rfl)
theorem dX5_takeImage_159 : decode cX5_takeImage 159 = .ok (.iload_n 2, 1) := dk_28 (dk_at dksX5_takeImage_6 18 rfl rfl)
theorem dX5_takeImage_160 : decode cX5_takeImage 160 = .ok (.bipush 12, 2) := dk_16 12 (dk_at dksX5_takeImage_6 19 rfl rfl)
theorem dX5_takeImage_162 : decode cX5_takeImage 162 = .ok (.iadd, 1) := dk_96 (dk_at dksX5_takeImage_6 21 rfl rfl)
theorem dX5_takeImage_163 : decode cX5_takeImage 163 = .ok (.bipush 20, 2) := dk_16 20 (dk_at dksX5_takeImage_6 22 rfl rfl)
theorem dX5_takeImage_165 : decode cX5_takeImage 165 = .ok (.invokevirtual 145, 3) := dk_182 0 145 (dk_at dksX5_takeImage_7 0 rfl rfl)
theorem dX5_takeImage_168 : decode cX5_takeImage 168 = .ok (.istore_n 2, 1) := dk_61 (dk_at dksX5_takeImage_7 3 rfl rfl)
theorem dX5_takeImage_169 : decode cX5_takeImage 169 = .ok (.aload_n 0, 1) := dk_42 (dk_at dksX5_takeImage_7 4 rfl rfl)
theorem dX5_takeImage_170 : decode cX5_takeImage 170 = .ok (.aload_n 0, 1) := dk_42 (dk_at dksX5_takeImage_7 5 rfl rfl)
theorem dX5_takeImage_171 : decode cX5_takeImage 171 = .ok (.getfield 39, 3) := dk_180 0 39 (dk_at dksX5_takeImage_7 6 rfl rfl)
theorem dX5_takeImage_174 : decode cX5_takeImage 174 = .ok (.iload_n 2, 1) := dk_28 (dk_at dksX5_takeImage_7 9 rfl rfl)
theorem dX5_takeImage_175 : decode cX5_takeImage 175 = .ok (.bipush 20, 2) := dk_16 20 (dk_at dksX5_takeImage_7 10 rfl rfl)
theorem dX5_takeImage_177 : decode cX5_takeImage 177 = .ok (.invokevirtual 145, 3) := dk_182 0 145 (dk_at dksX5_takeImage_7 12 rfl rfl)
theorem dX5_takeImage_180 : decode cX5_takeImage 180 = .ok (.istore_n 2, 1) := dk_61 (dk_at dksX5_takeImage_7 15 rfl rfl)
theorem dX5_takeImage_181 : decode cX5_takeImage 181 = .ok (.aload_n 0, 1) := dk_42 (dk_at dksX5_takeImage_7 16 rfl rfl)
theorem dX5_takeImage_182 : decode cX5_takeImage 182 = .ok (.aload_n 0, 1) := dk_42 (dk_at dksX5_takeImage_7 17 rfl rfl)
theorem dX5_takeImage_183 : decode cX5_takeImage 183 = .ok (.getfield 42, 3) := dk_180 0 42 (dk_at dksX5_takeImage_7 18 rfl rfl)
theorem dX5_takeImage_186 : decode cX5_takeImage 186 = .ok (.iload_n 2, 1) := dk_28 (dk_at dksX5_takeImage_7 21 rfl rfl)
theorem dX5_takeImage_187 : decode cX5_takeImage 187 = .ok (.bipush 20, 2) := dk_16 20 (dk_at dksX5_takeImage_7 22 rfl rfl)
theorem dX5_takeImage_189 : decode cX5_takeImage 189 = .ok (.invokevirtual 145, 3) := dk_182 0 145 (dk_at dksX5_takeImage_8 0 rfl rfl)
theorem dX5_takeImage_192 : decode cX5_takeImage 192 = .ok (.istore_n 2, 1) := dk_61 (dk_at dksX5_takeImage_8 3 rfl rfl)
theorem dX5_takeImage_193 : decode cX5_takeImage 193 = .ok (.aload_n 0, 1) := dk_42 (dk_at dksX5_takeImage_8 4 rfl rfl)
theorem dX5_takeImage_194 : decode cX5_takeImage 194 = .ok (.aload_n 0, 1) := dk_42 (dk_at dksX5_takeImage_8 5 rfl rfl)
theorem dX5_takeImage_195 : decode cX5_takeImage 195 = .ok (.getfield 45, 3) := dk_180 0 45 (dk_at dksX5_takeImage_8 6 rfl rfl)
theorem dX5_takeImage_198 : decode cX5_takeImage 198 = .ok (.iload_n 2, 1) := dk_28 (dk_at dksX5_takeImage_8 9 rfl rfl)
theorem dX5_takeImage_199 : decode cX5_takeImage 199 = .ok (.bipush 20, 2) := dk_16 20 (dk_at dksX5_takeImage_8 10 rfl rfl)
theorem dX5_takeImage_201 : decode cX5_takeImage 201 = .ok (.invokevirtual 145, 3) := dk_182 0 145 (dk_at dksX5_takeImage_8 12 rfl rfl)
theorem dX5_takeImage_204 : decode cX5_takeImage 204 = .ok (.istore_n 2, 1) := dk_61 (dk_at dksX5_takeImage_8 15 rfl rfl)
theorem dX5_takeImage_205 : decode cX5_takeImage 205 = .ok (.aload_n 0, 1) := dk_42 (dk_at dksX5_takeImage_8 16 rfl rfl)
theorem dX5_takeImage_206 : decode cX5_takeImage 206 = .ok (.aload_n 0, 1) := dk_42 (dk_at dksX5_takeImage_8 17 rfl rfl)
theorem dX5_takeImage_207 : decode cX5_takeImage 207 = .ok (.getfield 48, 3) := dk_180 0 48 (dk_at dksX5_takeImage_8 18 rfl rfl)
theorem dX5_takeImage_210 : decode cX5_takeImage 210 = .ok (.iload_n 2, 1) := dk_28 (dk_at dksX5_takeImage_8 21 rfl rfl)
theorem dX5_takeImage_211 : decode cX5_takeImage 211 = .ok (.bipush 20, 2) := dk_16 20 (dk_at dksX5_takeImage_8 22 rfl rfl)
theorem dX5_takeImage_213 : decode cX5_takeImage 213 = .ok (.invokevirtual 145, 3) := dk_182 0 145 (dk_at dksX5_takeImage_9 0 rfl rfl)
theorem dX5_takeImage_216 : decode cX5_takeImage 216 = .ok (.istore_n 2, 1) := dk_61 (dk_at dksX5_takeImage_9 3 rfl rfl)
theorem dX5_takeImage_217 : decode cX5_takeImage 217 = .ok (.aload_n 0, 1) := dk_42 (dk_at dksX5_takeImage_9 4 rfl rfl)
theorem dX5_takeImage_218 : decode cX5_takeImage 218 = .ok (.aload_n 0, 1) := dk_42 (dk_at dksX5_takeImage_9 5 rfl rfl)
theorem dX5_takeImage_219 : decode cX5_takeImage 219 = .ok (.getfield 51, 3) := dk_180 0 51 (dk_at dksX5_takeImage_9 6 rfl rfl)
theorem dX5_takeImage_222 : decode cX5_takeImage 222 = .ok (.iload_n 2, 1) := dk_28 (dk_at dksX5_takeImage_9 9 rfl rfl)
theorem dX5_takeImage_223 : decode cX5_takeImage 223 = .ok (.bipush 20, 2) := dk_16 20 (dk_at dksX5_takeImage_9 10 rfl rfl)
theorem dX5_takeImage_225 : decode cX5_takeImage 225 = .ok (.invokevirtual 145, 3) := dk_182 0 145 (dk_at dksX5_takeImage_9 12 rfl rfl)
theorem dX5_takeImage_228 : decode cX5_takeImage 228 = .ok (.istore_n 2, 1) := dk_61 (dk_at dksX5_takeImage_9 15 rfl rfl)
theorem dX5_takeImage_229 : decode cX5_takeImage 229 = .ok (.aload_n 0, 1) := dk_42 (dk_at dksX5_takeImage_9 16 rfl rfl)
theorem dX5_takeImage_230 : decode cX5_takeImage 230 = .ok (.aload_n 0, 1) := dk_42 (dk_at dksX5_takeImage_9 17 rfl rfl)
theorem dX5_takeImage_231 : decode cX5_takeImage 231 = .ok (.getfield 54, 3) := dk_180 0 54 (dk_at dksX5_takeImage_9 18 rfl rfl)
theorem dX5_takeImage_234 : decode cX5_takeImage 234 = .ok (.iload_n 2, 1) := dk_28 (dk_at dksX5_takeImage_9 21 rfl rfl)
theorem dX5_takeImage_235 : decode cX5_takeImage 235 = .ok (.bipush 20, 2) := dk_16 20 (dk_at dksX5_takeImage_9 22 rfl rfl)
theorem dX5_takeImage_237 : decode cX5_takeImage 237 = .ok (.invokevirtual 145, 3) := dk_182 0 145 (dk_at dksX5_takeImage_10 0 rfl rfl)
theorem dX5_takeImage_240 : decode cX5_takeImage 240 = .ok (.istore_n 2, 1) := dk_61 (dk_at dksX5_takeImage_10 3 rfl rfl)
theorem dX5_takeImage_241 : decode cX5_takeImage 241 = .ok (.aload_n 0, 1) := dk_42 (dk_at dksX5_takeImage_10 4 rfl rfl)
theorem dX5_takeImage_242 : decode cX5_takeImage 242 = .ok (.aload_n 0, 1) := dk_42 (dk_at dksX5_takeImage_10 5 rfl rfl)
theorem dX5_takeImage_243 : decode cX5_takeImage 243 = .ok (.getfield 57, 3) := dk_180 0 57 (dk_at dksX5_takeImage_10 6 rfl rfl)
theorem dX5_takeImage_246 : decode cX5_takeImage 246 = .ok (.iload_n 2, 1) := dk_28 (dk_at dksX5_takeImage_10 9 rfl rfl)
theorem dX5_takeImage_247 : decode cX5_takeImage 247 = .ok (.bipush 8, 2) := dk_16 8 (dk_at dksX5_takeImage_10 10 rfl rfl)
theorem dX5_takeImage_249 : decode cX5_takeImage 249 = .ok (.invokevirtual 145, 3) := dk_182 0 145 (dk_at dksX5_takeImage_10 12 rfl rfl)
theorem dX5_takeImage_252 : decode cX5_takeImage 252 = .ok (.istore_n 2, 1) := dk_61 (dk_at dksX5_takeImage_10 15 rfl rfl)
theorem dX5_takeImage_253 : decode cX5_takeImage 253 = .ok (.aload_n 0, 1) := dk_42 (dk_at dksX5_takeImage_10 16 rfl rfl)
theorem dX5_takeImage_254 : decode cX5_takeImage 254 = .ok (.aload_n 0, 1) := dk_42 (dk_at dksX5_takeImage_10 17 rfl rfl)
theorem dX5_takeImage_255 : decode cX5_takeImage 255 = .ok (.getfield 60, 3) := dk_180 0 60 (dk_at dksX5_takeImage_10 18 rfl rfl)
theorem dX5_takeImage_258 : decode cX5_takeImage 258 = .ok (.iload_n 2, 1) := dk_28 (dk_at dksX5_takeImage_10 21 rfl rfl)
theorem dX5_takeImage_259 : decode cX5_takeImage 259 = .ok (.bipush 8, 2) := dk_16 8 (dk_at dksX5_takeImage_10 22 rfl rfl)
theorem dX5_takeImage_261 : decode cX5_takeImage 261 = .ok (.invokevirtual 145, 3) := dk_182 0 145 (dk_at dksX5_takeImage_11 0 rfl rfl)
theorem dX5_takeImage_264 : decode cX5_takeImage 264 = .ok (.istore_n 2, 1) := dk_61 (dk_at dksX5_takeImage_11 3 rfl rfl)
theorem dX5_takeImage_265 : decode cX5_takeImage 265 = .ok (.aload_n 0, 1) := dk_42 (dk_at dksX5_takeImage_11 4 rfl rfl)
theorem dX5_takeImage_266 : decode cX5_takeImage 266 = .ok (.aload_n 0, 1) := dk_42 (dk_at dksX5_takeImage_11 5 rfl rfl)
theorem dX5_takeImage_267 : decode cX5_takeImage 267 = .ok (.getfield 63, 3) := dk_180 0 63 (dk_at dksX5_takeImage_11 6 rfl rfl)
theorem dX5_takeImage_270 : decode cX5_takeImage 270 = .ok (.iload_n 2, 1) := dk_28 (dk_at dksX5_takeImage_11 9 rfl rfl)
theorem dX5_takeImage_271 : decode cX5_takeImage 271 = .ok (.bipush 8, 2) := dk_16 8 (dk_at dksX5_takeImage_11 10 rfl rfl)
theorem dX5_takeImage_273 : decode cX5_takeImage 273 = .ok (.invokevirtual 145, 3) := dk_182 0 145 (dk_at dksX5_takeImage_11 12 rfl rfl)
theorem dX5_takeImage_276 : decode cX5_takeImage 276 = .ok (.istore_n 2, 1) := dk_61 (dk_at dksX5_takeImage_11 15 rfl rfl)
theorem dX5_takeImage_277 : decode cX5_takeImage 277 = .ok (.aload_n 0, 1) := dk_42 (dk_at dksX5_takeImage_11 16 rfl rfl)
theorem dX5_takeImage_278 : decode cX5_takeImage 278 = .ok (.aload_n 0, 1) := dk_42 (dk_at dksX5_takeImage_11 17 rfl rfl)
theorem dX5_takeImage_279 : decode cX5_takeImage 279 = .ok (.getfield 66, 3) := dk_180 0 66 (dk_at dksX5_takeImage_11 18 rfl rfl)
theorem dX5_takeImage_282 : decode cX5_takeImage 282 = .ok (.iload_n 2, 1) := dk_28 (dk_at dksX5_takeImage_11 21 rfl rfl)
theorem dX5_takeImage_283 : decode cX5_takeImage 283 = .ok (.bipush 8, 2) := dk_16 8 (dk_at dksX5_takeImage_11 22 rfl rfl)
theorem dX5_takeImage_285 : decode cX5_takeImage 285 = .ok (.invokevirtual 145, 3) := dk_182 0 145 (dk_at dksX5_takeImage_12 0 rfl rfl)
theorem dX5_takeImage_288 : decode cX5_takeImage 288 = .ok (.istore_n 2, 1) := dk_61 (dk_at dksX5_takeImage_12 3 rfl rfl)
theorem dX5_takeImage_289 : decode cX5_takeImage 289 = .ok (.aload_n 0, 1) := dk_42 (dk_at dksX5_takeImage_12 4 rfl rfl)
theorem dX5_takeImage_290 : decode cX5_takeImage 290 = .ok (.aload_n 0, 1) := dk_42 (dk_at dksX5_takeImage_12 5 rfl rfl)
theorem dX5_takeImage_291 : decode cX5_takeImage 291 = .ok (.getfield 69, 3) := dk_180 0 69 (dk_at dksX5_takeImage_12 6 rfl rfl)
theorem dX5_takeImage_294 : decode cX5_takeImage 294 = .ok (.iload_n 2, 1) := dk_28 (dk_at dksX5_takeImage_12 9 rfl rfl)
theorem dX5_takeImage_295 : decode cX5_takeImage 295 = .ok (.iconst 4, 1) := dk_7 (dk_at dksX5_takeImage_12 10 rfl rfl)
theorem dX5_takeImage_296 : decode cX5_takeImage 296 = .ok (.invokevirtual 145, 3) := dk_182 0 145 (dk_at dksX5_takeImage_12 11 rfl rfl)
theorem dX5_takeImage_299 : decode cX5_takeImage 299 = .ok (.istore_n 2, 1) := dk_61 (dk_at dksX5_takeImage_12 14 rfl rfl)
theorem dX5_takeImage_300 : decode cX5_takeImage 300 = .ok (.aload_n 0, 1) := dk_42 (dk_at dksX5_takeImage_12 15 rfl rfl)
theorem dX5_takeImage_301 : decode cX5_takeImage 301 = .ok (.aload_n 0, 1) := dk_42 (dk_at dksX5_takeImage_12 16 rfl rfl)
theorem dX5_takeImage_302 : decode cX5_takeImage 302 = .ok (.getfield 72, 3) := dk_180 0 72 (dk_at dksX5_takeImage_12 17 rfl rfl)
theorem dX5_takeImage_305 : decode cX5_takeImage 305 = .ok (.iload_n 2, 1) := dk_28 (dk_at dksX5_takeImage_12 20 rfl rfl)
theorem dX5_takeImage_306 : decode cX5_takeImage 306 = .ok (.bipush 24, 2) := dk_16 24 (dk_at dksX5_takeImage_12 21 rfl rfl)
theorem dX5_takeImage_308 : decode cX5_takeImage 308 = .ok (.invokevirtual 145, 3) := dk_182 0 145 (dk_at dksX5_takeImage_13 0 rfl rfl)
theorem dX5_takeImage_311 : decode cX5_takeImage 311 = .ok (.istore_n 2, 1) := dk_61 (dk_at dksX5_takeImage_13 3 rfl rfl)
theorem dX5_takeImage_312 : decode cX5_takeImage 312 = .ok (.aload_n 0, 1) := dk_42 (dk_at dksX5_takeImage_13 4 rfl rfl)
theorem dX5_takeImage_313 : decode cX5_takeImage 313 = .ok (.aload_n 0, 1) := dk_42 (dk_at dksX5_takeImage_13 5 rfl rfl)
theorem dX5_takeImage_314 : decode cX5_takeImage 314 = .ok (.getfield 75, 3) := dk_180 0 75 (dk_at dksX5_takeImage_13 6 rfl rfl)
theorem dX5_takeImage_317 : decode cX5_takeImage 317 = .ok (.iload_n 2, 1) := dk_28 (dk_at dksX5_takeImage_13 9 rfl rfl)
theorem dX5_takeImage_318 : decode cX5_takeImage 318 = .ok (.iconst 4, 1) := dk_7 (dk_at dksX5_takeImage_13 10 rfl rfl)
theorem dX5_takeImage_319 : decode cX5_takeImage 319 = .ok (.invokevirtual 145, 3) := dk_182 0 145 (dk_at dksX5_takeImage_13 11 rfl rfl)
theorem dX5_takeImage_322 : decode cX5_takeImage 322 = .ok (.istore_n 2, 1) := dk_61 (dk_at dksX5_takeImage_13 14 rfl rfl)
theorem dX5_takeImage_323 : decode cX5_takeImage 323 = .ok (.aload_n 0, 1) := dk_42 (dk_at dksX5_takeImage_13 15 rfl rfl)
theorem dX5_takeImage_324 : decode cX5_takeImage 324 = .ok (.aload_n 0, 1) := dk_42 (dk_at dksX5_takeImage_13 16 rfl rfl)
theorem dX5_takeImage_325 : decode cX5_takeImage 325 = .ok (.getfield 78, 3) := dk_180 0 78 (dk_at dksX5_takeImage_13 17 rfl rfl)
theorem dX5_takeImage_328 : decode cX5_takeImage 328 = .ok (.iload_n 2, 1) := dk_28 (dk_at dksX5_takeImage_13 20 rfl rfl)
theorem dX5_takeImage_329 : decode cX5_takeImage 329 = .ok (.bipush 32, 2) := dk_16 32 (dk_at dksX5_takeImage_13 21 rfl rfl)
theorem dX5_takeImage_331 : decode cX5_takeImage 331 = .ok (.invokevirtual 145, 3) := dk_182 0 145 (dk_at dksX5_takeImage_14 0 rfl rfl)
theorem dX5_takeImage_334 : decode cX5_takeImage 334 = .ok (.istore_n 2, 1) := dk_61 (dk_at dksX5_takeImage_14 3 rfl rfl)
theorem dX5_takeImage_335 : decode cX5_takeImage 335 = .ok (.aload_n 0, 1) := dk_42 (dk_at dksX5_takeImage_14 4 rfl rfl)
theorem dX5_takeImage_336 : decode cX5_takeImage 336 = .ok (.aload_n 0, 1) := dk_42 (dk_at dksX5_takeImage_14 5 rfl rfl)
theorem dX5_takeImage_337 : decode cX5_takeImage 337 = .ok (.aload_n 0, 1) := dk_42 (dk_at dksX5_takeImage_14 6 rfl rfl)
theorem dX5_takeImage_338 : decode cX5_takeImage 338 = .ok (.getfield 81, 3) := dk_180 0 81 (dk_at dksX5_takeImage_14 7 rfl rfl)
theorem dX5_takeImage_341 : decode cX5_takeImage 341 = .ok (.iload_n 2, 1) := dk_28 (dk_at dksX5_takeImage_14 10 rfl rfl)
theorem dX5_takeImage_342 : decode cX5_takeImage 342 = .ok (.bipush 13, 2) := dk_16 13 (dk_at dksX5_takeImage_14 11 rfl rfl)
theorem dX5_takeImage_344 : decode cX5_takeImage 344 = .ok (.invokevirtual 145, 3) := dk_182 0 145 (dk_at dksX5_takeImage_14 13 rfl rfl)
theorem dX5_takeImage_347 : decode cX5_takeImage 347 = .ok (.putfield 142, 3) := dk_181 0 142 (dk_at dksX5_takeImage_14 16 rfl rfl)
theorem dX5_takeImage_350 : decode cX5_takeImage 350 = .ok (.return_, 1) := dk_177 (dk_at dksX5_takeImage_14 19 rfl rfl)
abbrev cX5_takesRow : ByteArray := prog_12_method_8_code
def yX5_takesRow : MethodName := ⟨RX5, "takesRow", "([III)I"⟩
def dkwX5_takesRow_1 : List UInt8 := [132, 4, 1, 167, 255, 234, 28, 29, 96, 172]
abbrev dktX5_takesRow_1 : List UInt8 := dkwX5_takesRow_1 ++ []
def dkwX5_takesRow_0 : List UInt8 := [3, 54, 4, 21, 4, 29, 162, 0, 22, 43, 21, 4, 42, 180, 0, 84, 28, 21, 4, 96, 46, 79]
abbrev dktX5_takesRow_0 : List UInt8 := dkwX5_takesRow_0 ++ dktX5_takesRow_1
theorem dksX5_takesRow_0 : cX5_takesRow.data.toList.drop 0 = dktX5_takesRow_0 := by decide +kernel
theorem dksX5_takesRow_1 : cX5_takesRow.data.toList.drop 22 = dktX5_takesRow_1 := dk_seg dksX5_takesRow_0 22 rfl rfl
theorem dX5_takesRow_0 : decode cX5_takesRow 0 = .ok (.iconst 0, 1) := dk_3 (dk_at dksX5_takesRow_0 0 rfl rfl)
theorem dX5_takesRow_1 : decode cX5_takesRow 1 = .ok (.istore 4, 2) := dk_54 4 (dk_at dksX5_takesRow_0 1 rfl rfl)
theorem dX5_takesRow_3 : decode cX5_takesRow 3 = .ok (.iload 4, 2) := dk_21 4 (dk_at dksX5_takesRow_0 3 rfl rfl)
theorem dX5_takesRow_5 : decode cX5_takesRow 5 = .ok (.iload_n 3, 1) := dk_29 (dk_at dksX5_takesRow_0 5 rfl rfl)
theorem dX5_takesRow_6 : decode cX5_takesRow 6 = .ok (.if_icmp .ge 22, 3) := dk_162 0 22 (dk_at dksX5_takesRow_0 6 rfl rfl)
theorem dX5_takesRow_9 : decode cX5_takesRow 9 = .ok (.aload_n 1, 1) := dk_43 (dk_at dksX5_takesRow_0 9 rfl rfl)
theorem dX5_takesRow_10 : decode cX5_takesRow 10 = .ok (.iload 4, 2) := dk_21 4 (dk_at dksX5_takesRow_0 10 rfl rfl)
theorem dX5_takesRow_12 : decode cX5_takesRow 12 = .ok (.aload_n 0, 1) := dk_42 (dk_at dksX5_takesRow_0 12 rfl rfl)
theorem dX5_takesRow_13 : decode cX5_takesRow 13 = .ok (.getfield 84, 3) := dk_180 0 84 (dk_at dksX5_takesRow_0 13 rfl rfl)
theorem dX5_takesRow_16 : decode cX5_takesRow 16 = .ok (.iload_n 2, 1) := dk_28 (dk_at dksX5_takesRow_0 16 rfl rfl)
theorem dX5_takesRow_17 : decode cX5_takesRow 17 = .ok (.iload 4, 2) := dk_21 4 (dk_at dksX5_takesRow_0 17 rfl rfl)
theorem dX5_takesRow_19 : decode cX5_takesRow 19 = .ok (.iadd, 1) := dk_96 (dk_at dksX5_takesRow_0 19 rfl rfl)
theorem dX5_takesRow_20 : decode cX5_takesRow 20 = .ok (.iaload, 1) := dk_46 (dk_at dksX5_takesRow_0 20 rfl rfl)
theorem dX5_takesRow_21 : decode cX5_takesRow 21 = .ok (.iastore, 1) := dk_79 (dk_at dksX5_takesRow_0 21 rfl rfl)
theorem dX5_takesRow_22 : decode cX5_takesRow 22 = .ok (.iinc 4 1, 3) := dk_132 4 1 (dk_at dksX5_takesRow_1 0 rfl rfl)
theorem dX5_takesRow_25 : decode cX5_takesRow 25 = .ok (.goto (-22), 3) := dk_167 255 234 (dk_at dksX5_takesRow_1 3 rfl rfl)
theorem dX5_takesRow_28 : decode cX5_takesRow 28 = .ok (.iload_n 2, 1) := dk_28 (dk_at dksX5_takesRow_1 6 rfl rfl)
theorem dX5_takesRow_29 : decode cX5_takesRow 29 = .ok (.iload_n 3, 1) := dk_29 (dk_at dksX5_takesRow_1 7 rfl rfl)
theorem dX5_takesRow_30 : decode cX5_takesRow 30 = .ok (.iadd, 1) := dk_96 (dk_at dksX5_takesRow_1 8 rfl rfl)
theorem dX5_takesRow_31 : decode cX5_takesRow 31 = .ok (.ireturn, 1) := dk_172 (dk_at dksX5_takesRow_1 9 rfl rfl)
abbrev cX5_run : ByteArray := prog_12_method_52_code
def yX5_run : MethodName := ⟨RX5, "run", "()I"⟩
def dkwX5_run_1 : List UInt8 := [42, 3, 181, 0, 109, 27, 2, 160, 0, 11, 42, 16, 10, 182, 1, 17, 2, 172, 42, 182, 1, 23, 27, 172]
abbrev dktX5_run_1 : List UInt8 := dkwX5_run_1 ++ []
def dkwX5_run_0 : List UInt8 := [42, 3, 181, 0, 106, 42, 16, 10, 182, 0, 158, 42, 182, 1, 7, 42, 182, 1, 20, 42, 182, 1, 14, 60]
abbrev dktX5_run_0 : List UInt8 := dkwX5_run_0 ++ dktX5_run_1
theorem dksX5_run_0 : cX5_run.data.toList.drop 0 = dktX5_run_0 := by decide +kernel
theorem dksX5_run_1 : cX5_run.data.toList.drop 24 = dktX5_run_1 := dk_seg dksX5_run_0 24 rfl rfl
theorem dX5_run_0 : decode cX5_run 0 = .ok (.aload_n 0, 1) := dk_42 (dk_at dksX5_run_0 0 rfl rfl)
theorem dX5_run_1 : decode cX5_run 1 = .ok (.iconst 0, 1) := dk_3 (dk_at dksX5_run_0 1 rfl rfl)
theorem dX5_run_2 : decode cX5_run 2 = .ok (.putfield 106, 3) := dk_181 0 106 (dk_at dksX5_run_0 2 rfl rfl)
theorem dX5_run_5 : decode cX5_run 5 = .ok (.aload_n 0, 1) := dk_42 (dk_at dksX5_run_0 5 rfl rfl)
theorem dX5_run_6 : decode cX5_run 6 = .ok (.bipush 10, 2) := dk_16 10 (dk_at dksX5_run_0 6 rfl rfl)
theorem dX5_run_8 : decode cX5_run 8 = .ok (.invokevirtual 158, 3) := dk_182 0 158 (dk_at dksX5_run_0 8 rfl rfl)
theorem dX5_run_11 : decode cX5_run 11 = .ok (.aload_n 0, 1) := dk_42 (dk_at dksX5_run_0 11 rfl rfl)
theorem dX5_run_12 : decode cX5_run 12 = .ok (.invokevirtual 263, 3) := dk_182 1 7 (dk_at dksX5_run_0 12 rfl rfl)
theorem dX5_run_15 : decode cX5_run 15 = .ok (.aload_n 0, 1) := dk_42 (dk_at dksX5_run_0 15 rfl rfl)
theorem dX5_run_16 : decode cX5_run 16 = .ok (.invokevirtual 276, 3) := dk_182 1 20 (dk_at dksX5_run_0 16 rfl rfl)
theorem dX5_run_19 : decode cX5_run 19 = .ok (.aload_n 0, 1) := dk_42 (dk_at dksX5_run_0 19 rfl rfl)
theorem dX5_run_20 : decode cX5_run 20 = .ok (.invokevirtual 270, 3) := dk_182 1 14 (dk_at dksX5_run_0 20 rfl rfl)
theorem dX5_run_23 : decode cX5_run 23 = .ok (.istore_n 1, 1) := dk_60 (dk_at dksX5_run_0 23 rfl rfl)
theorem dX5_run_24 : decode cX5_run 24 = .ok (.aload_n 0, 1) := dk_42 (dk_at dksX5_run_1 0 rfl rfl)
theorem dX5_run_25 : decode cX5_run 25 = .ok (.iconst 0, 1) := dk_3 (dk_at dksX5_run_1 1 rfl rfl)
theorem dX5_run_26 : decode cX5_run 26 = .ok (.putfield 109, 3) := dk_181 0 109 (dk_at dksX5_run_1 2 rfl rfl)
theorem dX5_run_29 : decode cX5_run 29 = .ok (.iload_n 1, 1) := dk_27 (dk_at dksX5_run_1 5 rfl rfl)
theorem dX5_run_30 : decode cX5_run 30 = .ok (.iconst (-1), 1) := dk_2 (dk_at dksX5_run_1 6 rfl rfl)
theorem dX5_run_31 : decode cX5_run 31 = .ok (.if_icmp .ne 11, 3) := dk_160 0 11 (dk_at dksX5_run_1 7 rfl rfl)
theorem dX5_run_34 : decode cX5_run 34 = .ok (.aload_n 0, 1) := dk_42 (dk_at dksX5_run_1 10 rfl rfl)
theorem dX5_run_35 : decode cX5_run 35 = .ok (.bipush 10, 2) := dk_16 10 (dk_at dksX5_run_1 11 rfl rfl)
theorem dX5_run_37 : decode cX5_run 37 = .ok (.invokevirtual 273, 3) := dk_182 1 17 (dk_at dksX5_run_1 13 rfl rfl)
theorem dX5_run_40 : decode cX5_run 40 = .ok (.iconst (-1), 1) := dk_2 (dk_at dksX5_run_1 16 rfl rfl)
theorem dX5_run_41 : decode cX5_run 41 = .ok (.ireturn, 1) := dk_172 (dk_at dksX5_run_1 17 rfl rfl)
theorem dX5_run_42 : decode cX5_run 42 = .ok (.aload_n 0, 1) := dk_42 (dk_at dksX5_run_1 18 rfl rfl)
theorem dX5_run_43 : decode cX5_run 43 = .ok (.invokevirtual 279, 3) := dk_182 1 23 (dk_at dksX5_run_1 19 rfl rfl)
theorem dX5_run_46 : decode cX5_run 46 = .ok (.iload_n 1, 1) := dk_27 (dk_at dksX5_run_1 22 rfl rfl)
theorem dX5_run_47 : decode cX5_run 47 = .ok (.ireturn, 1) := dk_172 (dk_at dksX5_run_1 23 rfl rfl)
abbrev cX5_noteTextChange : ByteArray := prog_12_method_13_code
def yX5_noteTextChange : MethodName := ⟨RX5, "noteTextChange", "()V"⟩
def dkwX5_noteTextChange_1 : List UInt8 := [96, 42, 180, 0, 84, 17, 12, 128, 28, 96, 46, 79, 132, 2, 1, 167, 255, 228, 177]
abbrev dktX5_noteTextChange_1 : List UInt8 := dkwX5_noteTextChange_1 ++ []
def dkwX5_noteTextChange_0 : List UInt8 := [42, 182, 0, 154, 17, 1, 64, 104, 60, 3, 61, 28, 17, 1, 64, 162, 0, 27, 42, 180, 0, 84, 27, 28]
abbrev dktX5_noteTextChange_0 : List UInt8 := dkwX5_noteTextChange_0 ++ dktX5_noteTextChange_1
theorem dksX5_noteTextChange_0 : cX5_noteTextChange.data.toList.drop 0 = dktX5_noteTextChange_0 := by decide +kernel
theorem dksX5_noteTextChange_1 : cX5_noteTextChange.data.toList.drop 24 = dktX5_noteTextChange_1 := dk_seg dksX5_noteTextChange_0 24 rfl rfl
theorem dX5_noteTextChange_0 : decode cX5_noteTextChange 0 = .ok (.aload_n 0, 1) := dk_42 (dk_at dksX5_noteTextChange_0 0 rfl rfl)
theorem dX5_noteTextChange_1 : decode cX5_noteTextChange 1 = .ok (.invokevirtual 154, 3) := dk_182 0 154 (dk_at dksX5_noteTextChange_0 1 rfl rfl)
theorem dX5_noteTextChange_4 : decode cX5_noteTextChange 4 = .ok (.sipush 320, 3) := dk_17 1 64 (dk_at dksX5_noteTextChange_0 4 rfl rfl)
theorem dX5_noteTextChange_7 : decode cX5_noteTextChange 7 = .ok (.imul, 1) := dk_104 (dk_at dksX5_noteTextChange_0 7 rfl rfl)
theorem dX5_noteTextChange_8 : decode cX5_noteTextChange 8 = .ok (.istore_n 1, 1) := dk_60 (dk_at dksX5_noteTextChange_0 8 rfl rfl)
theorem dX5_noteTextChange_9 : decode cX5_noteTextChange 9 = .ok (.iconst 0, 1) := dk_3 (dk_at dksX5_noteTextChange_0 9 rfl rfl)
theorem dX5_noteTextChange_10 : decode cX5_noteTextChange 10 = .ok (.istore_n 2, 1) := dk_61 (dk_at dksX5_noteTextChange_0 10 rfl rfl)
theorem dX5_noteTextChange_11 : decode cX5_noteTextChange 11 = .ok (.iload_n 2, 1) := dk_28 (dk_at dksX5_noteTextChange_0 11 rfl rfl)
theorem dX5_noteTextChange_12 : decode cX5_noteTextChange 12 = .ok (.sipush 320, 3) := dk_17 1 64 (dk_at dksX5_noteTextChange_0 12 rfl rfl)
theorem dX5_noteTextChange_15 : decode cX5_noteTextChange 15 = .ok (.if_icmp .ge 27, 3) := dk_162 0 27 (dk_at dksX5_noteTextChange_0 15 rfl rfl)
theorem dX5_noteTextChange_18 : decode cX5_noteTextChange 18 = .ok (.aload_n 0, 1) := dk_42 (dk_at dksX5_noteTextChange_0 18 rfl rfl)
theorem dX5_noteTextChange_19 : decode cX5_noteTextChange 19 = .ok (.getfield 84, 3) := dk_180 0 84 (dk_at dksX5_noteTextChange_0 19 rfl rfl)
theorem dX5_noteTextChange_22 : decode cX5_noteTextChange 22 = .ok (.iload_n 1, 1) := dk_27 (dk_at dksX5_noteTextChange_0 22 rfl rfl)
theorem dX5_noteTextChange_23 : decode cX5_noteTextChange 23 = .ok (.iload_n 2, 1) := dk_28 (dk_at dksX5_noteTextChange_0 23 rfl rfl)
theorem dX5_noteTextChange_24 : decode cX5_noteTextChange 24 = .ok (.iadd, 1) := dk_96 (dk_at dksX5_noteTextChange_1 0 rfl rfl)
theorem dX5_noteTextChange_25 : decode cX5_noteTextChange 25 = .ok (.aload_n 0, 1) := dk_42 (dk_at dksX5_noteTextChange_1 1 rfl rfl)
theorem dX5_noteTextChange_26 : decode cX5_noteTextChange 26 = .ok (.getfield 84, 3) := dk_180 0 84 (dk_at dksX5_noteTextChange_1 2 rfl rfl)
theorem dX5_noteTextChange_29 : decode cX5_noteTextChange 29 = .ok (.sipush 3200, 3) := dk_17 12 128 (dk_at dksX5_noteTextChange_1 5 rfl rfl)
theorem dX5_noteTextChange_32 : decode cX5_noteTextChange 32 = .ok (.iload_n 2, 1) := dk_28 (dk_at dksX5_noteTextChange_1 8 rfl rfl)
theorem dX5_noteTextChange_33 : decode cX5_noteTextChange 33 = .ok (.iadd, 1) := dk_96 (dk_at dksX5_noteTextChange_1 9 rfl rfl)
theorem dX5_noteTextChange_34 : decode cX5_noteTextChange 34 = .ok (.iaload, 1) := dk_46 (dk_at dksX5_noteTextChange_1 10 rfl rfl)
theorem dX5_noteTextChange_35 : decode cX5_noteTextChange 35 = .ok (.iastore, 1) := dk_79 (dk_at dksX5_noteTextChange_1 11 rfl rfl)
theorem dX5_noteTextChange_36 : decode cX5_noteTextChange 36 = .ok (.iinc 2 1, 3) := dk_132 2 1 (dk_at dksX5_noteTextChange_1 12 rfl rfl)
theorem dX5_noteTextChange_39 : decode cX5_noteTextChange 39 = .ok (.goto (-28), 3) := dk_167 255 228 (dk_at dksX5_noteTextChange_1 15 rfl rfl)
theorem dX5_noteTextChange_42 : decode cX5_noteTextChange 42 = .ok (.return_, 1) := dk_177 (dk_at dksX5_noteTextChange_1 18 rfl rfl)
abbrev cX5_nextImage : ByteArray := prog_12_method_11_code
def yX5_nextImage : MethodName := ⟨RX5, "nextImage", "()I"⟩
def dkwX5_nextImage_2 : List UInt8 := [180, 0, 148, 96, 4, 100, 16, 8, 112, 172]
abbrev dktX5_nextImage_2 : List UInt8 := dkwX5_nextImage_2 ++ []
def dkwX5_nextImage_1 : List UInt8 := [180, 0, 148, 4, 100, 181, 0, 148, 42, 89, 180, 0, 148, 4, 96, 181, 0, 148, 42, 180, 0, 151, 42]
abbrev dktX5_nextImage_1 : List UInt8 := dkwX5_nextImage_1 ++ dktX5_nextImage_2
def dkwX5_nextImage_0 : List UInt8 := [42, 180, 0, 148, 16, 8, 160, 0, 26, 42, 42, 180, 0, 151, 4, 96, 16, 8, 112, 181, 0, 151, 42, 89]
abbrev dktX5_nextImage_0 : List UInt8 := dkwX5_nextImage_0 ++ dktX5_nextImage_1
theorem dksX5_nextImage_0 : cX5_nextImage.data.toList.drop 0 = dktX5_nextImage_0 := by decide +kernel
theorem dksX5_nextImage_1 : cX5_nextImage.data.toList.drop 24 = dktX5_nextImage_1 := dk_seg dksX5_nextImage_0 24 rfl rfl
theorem dksX5_nextImage_2 : cX5_nextImage.data.toList.drop 47 = dktX5_nextImage_2 := dk_seg dksX5_nextImage_1 23 rfl rfl
theorem dX5_nextImage_0 : decode cX5_nextImage 0 = .ok (.aload_n 0, 1) := dk_42 (dk_at dksX5_nextImage_0 0 rfl rfl)
theorem dX5_nextImage_1 : decode cX5_nextImage 1 = .ok (.getfield 148, 3) := dk_180 0 148 (dk_at dksX5_nextImage_0 1 rfl rfl)
theorem dX5_nextImage_4 : decode cX5_nextImage 4 = .ok (.bipush 8, 2) := dk_16 8 (dk_at dksX5_nextImage_0 4 rfl rfl)
theorem dX5_nextImage_6 : decode cX5_nextImage 6 = .ok (.if_icmp .ne 26, 3) := dk_160 0 26 (dk_at dksX5_nextImage_0 6 rfl rfl)
theorem dX5_nextImage_9 : decode cX5_nextImage 9 = .ok (.aload_n 0, 1) := dk_42 (dk_at dksX5_nextImage_0 9 rfl rfl)
theorem dX5_nextImage_10 : decode cX5_nextImage 10 = .ok (.aload_n 0, 1) := dk_42 (dk_at dksX5_nextImage_0 10 rfl rfl)
theorem dX5_nextImage_11 : decode cX5_nextImage 11 = .ok (.getfield 151, 3) := dk_180 0 151 (dk_at dksX5_nextImage_0 11 rfl rfl)
theorem dX5_nextImage_14 : decode cX5_nextImage 14 = .ok (.iconst 1, 1) := dk_4 (dk_at dksX5_nextImage_0 14 rfl rfl)
theorem dX5_nextImage_15 : decode cX5_nextImage 15 = .ok (.iadd, 1) := dk_96 (dk_at dksX5_nextImage_0 15 rfl rfl)
theorem dX5_nextImage_16 : decode cX5_nextImage 16 = .ok (.bipush 8, 2) := dk_16 8 (dk_at dksX5_nextImage_0 16 rfl rfl)
theorem dX5_nextImage_18 : decode cX5_nextImage 18 = .ok (.irem, 1) := dk_112 (dk_at dksX5_nextImage_0 18 rfl rfl)
theorem dX5_nextImage_19 : decode cX5_nextImage 19 = .ok (.putfield 151, 3) := dk_181 0 151 (dk_at dksX5_nextImage_0 19 rfl rfl)
theorem dX5_nextImage_22 : decode cX5_nextImage 22 = .ok (.aload_n 0, 1) := dk_42 (dk_at dksX5_nextImage_0 22 rfl rfl)
theorem dX5_nextImage_23 : decode cX5_nextImage 23 = .ok (.dup, 1) := dk_89 (dk_at dksX5_nextImage_0 23 rfl rfl)
theorem dX5_nextImage_24 : decode cX5_nextImage 24 = .ok (.getfield 148, 3) := dk_180 0 148 (dk_at dksX5_nextImage_1 0 rfl rfl)
theorem dX5_nextImage_27 : decode cX5_nextImage 27 = .ok (.iconst 1, 1) := dk_4 (dk_at dksX5_nextImage_1 3 rfl rfl)
theorem dX5_nextImage_28 : decode cX5_nextImage 28 = .ok (.isub, 1) := dk_100 (dk_at dksX5_nextImage_1 4 rfl rfl)
theorem dX5_nextImage_29 : decode cX5_nextImage 29 = .ok (.putfield 148, 3) := dk_181 0 148 (dk_at dksX5_nextImage_1 5 rfl rfl)
theorem dX5_nextImage_32 : decode cX5_nextImage 32 = .ok (.aload_n 0, 1) := dk_42 (dk_at dksX5_nextImage_1 8 rfl rfl)
theorem dX5_nextImage_33 : decode cX5_nextImage 33 = .ok (.dup, 1) := dk_89 (dk_at dksX5_nextImage_1 9 rfl rfl)
theorem dX5_nextImage_34 : decode cX5_nextImage 34 = .ok (.getfield 148, 3) := dk_180 0 148 (dk_at dksX5_nextImage_1 10 rfl rfl)
theorem dX5_nextImage_37 : decode cX5_nextImage 37 = .ok (.iconst 1, 1) := dk_4 (dk_at dksX5_nextImage_1 13 rfl rfl)
theorem dX5_nextImage_38 : decode cX5_nextImage 38 = .ok (.iadd, 1) := dk_96 (dk_at dksX5_nextImage_1 14 rfl rfl)
theorem dX5_nextImage_39 : decode cX5_nextImage 39 = .ok (.putfield 148, 3) := dk_181 0 148 (dk_at dksX5_nextImage_1 15 rfl rfl)
theorem dX5_nextImage_42 : decode cX5_nextImage 42 = .ok (.aload_n 0, 1) := dk_42 (dk_at dksX5_nextImage_1 18 rfl rfl)
theorem dX5_nextImage_43 : decode cX5_nextImage 43 = .ok (.getfield 151, 3) := dk_180 0 151 (dk_at dksX5_nextImage_1 19 rfl rfl)
theorem dX5_nextImage_46 : decode cX5_nextImage 46 = .ok (.aload_n 0, 1) := dk_42 (dk_at dksX5_nextImage_1 22 rfl rfl)
theorem dX5_nextImage_47 : decode cX5_nextImage 47 = .ok (.getfield 148, 3) := dk_180 0 148 (dk_at dksX5_nextImage_2 0 rfl rfl)
theorem dX5_nextImage_50 : decode cX5_nextImage 50 = .ok (.iadd, 1) := dk_96 (dk_at dksX5_nextImage_2 3 rfl rfl)
theorem dX5_nextImage_51 : decode cX5_nextImage 51 = .ok (.iconst 1, 1) := dk_4 (dk_at dksX5_nextImage_2 4 rfl rfl)
theorem dX5_nextImage_52 : decode cX5_nextImage 52 = .ok (.isub, 1) := dk_100 (dk_at dksX5_nextImage_2 5 rfl rfl)
theorem dX5_nextImage_53 : decode cX5_nextImage 53 = .ok (.bipush 8, 2) := dk_16 8 (dk_at dksX5_nextImage_2 6 rfl rfl)
theorem dX5_nextImage_55 : decode cX5_nextImage 55 = .ok (.irem, 1) := dk_112 (dk_at dksX5_nextImage_2 8 rfl rfl)
theorem dX5_nextImage_56 : decode cX5_nextImage 56 = .ok (.ireturn, 1) := dk_172 (dk_at dksX5_nextImage_2 9 rfl rfl)
abbrev cX5_errorCode : ByteArray := prog_12_method_75_code
def yX5_errorCode : MethodName := ⟨RX5, "errorCode", "()I"⟩
def dkwX5_errorCode_0 : List UInt8 := [42, 3, 181, 0, 106, 42, 180, 1, 26, 172]
abbrev dktX5_errorCode_0 : List UInt8 := dkwX5_errorCode_0 ++ []
theorem dksX5_errorCode_0 : cX5_errorCode.data.toList.drop 0 = dktX5_errorCode_0 := by decide +kernel
theorem dX5_errorCode_0 : decode cX5_errorCode 0 = .ok (.aload_n 0, 1) := dk_42 (dk_at dksX5_errorCode_0 0 rfl rfl)
theorem dX5_errorCode_1 : decode cX5_errorCode 1 = .ok (.iconst 0, 1) := dk_3 (dk_at dksX5_errorCode_0 1 rfl rfl)
theorem dX5_errorCode_2 : decode cX5_errorCode 2 = .ok (.putfield 106, 3) := dk_181 0 106 (dk_at dksX5_errorCode_0 2 rfl rfl)
theorem dX5_errorCode_5 : decode cX5_errorCode 5 = .ok (.aload_n 0, 1) := dk_42 (dk_at dksX5_errorCode_0 5 rfl rfl)
theorem dX5_errorCode_6 : decode cX5_errorCode 6 = .ok (.getfield 282, 3) := dk_180 1 26 (dk_at dksX5_errorCode_0 6 rfl rfl)
theorem dX5_errorCode_9 : decode cX5_errorCode 9 = .ok (.ireturn, 1) := dk_172 (dk_at dksX5_errorCode_0 9 rfl rfl)
abbrev cX5_errorPosition : ByteArray := prog_12_method_76_code
def yX5_errorPosition : MethodName := ⟨RX5, "errorPosition", "()I"⟩
def dkwX5_errorPosition_0 : List UInt8 := [42, 3, 181, 0, 106, 42, 180, 0, 13, 172]
abbrev dktX5_errorPosition_0 : List UInt8 := dkwX5_errorPosition_0 ++ []
theorem dksX5_errorPosition_0 : cX5_errorPosition.data.toList.drop 0 = dktX5_errorPosition_0 := by decide +kernel
theorem dX5_errorPosition_0 : decode cX5_errorPosition 0 = .ok (.aload_n 0, 1) := dk_42 (dk_at dksX5_errorPosition_0 0 rfl rfl)
theorem dX5_errorPosition_1 : decode cX5_errorPosition 1 = .ok (.iconst 0, 1) := dk_3 (dk_at dksX5_errorPosition_0 1 rfl rfl)
theorem dX5_errorPosition_2 : decode cX5_errorPosition 2 = .ok (.putfield 106, 3) := dk_181 0 106 (dk_at dksX5_errorPosition_0 2 rfl rfl)
theorem dX5_errorPosition_5 : decode cX5_errorPosition 5 = .ok (.aload_n 0, 1) := dk_42 (dk_at dksX5_errorPosition_0 5 rfl rfl)
theorem dX5_errorPosition_6 : decode cX5_errorPosition 6 = .ok (.getfield 13, 3) := dk_180 0 13 (dk_at dksX5_errorPosition_0 6 rfl rfl)
theorem dX5_errorPosition_9 : decode cX5_errorPosition 9 = .ok (.ireturn, 1) := dk_172 (dk_at dksX5_errorPosition_0 9 rfl rfl)
abbrev cX5_call : ByteArray := prog_12_method_77_code
def yX5_call : MethodName := ⟨RX5, "call", "(III)I"⟩
def dkwX5_call_2 : List UInt8 := [172, 42, 182, 1, 161, 42, 27, 28, 29, 182, 1, 139, 172]
abbrev dktX5_call_2 : List UInt8 := dkwX5_call_2 ++ []
def dkwX5_call_1 : List UInt8 := [182, 0, 116, 172, 27, 28, 159, 0, 13, 29, 155, 0, 9, 29, 16, 99, 164, 0, 9, 42, 5, 182, 0, 116]
abbrev dktX5_call_1 : List UInt8 := dkwX5_call_1 ++ dktX5_call_2
def dkwX5_call_0 : List UInt8 := [42, 3, 181, 0, 106, 42, 27, 182, 1, 158, 154, 0, 11, 42, 28, 182, 1, 158, 153, 0, 9, 42, 4]
abbrev dktX5_call_0 : List UInt8 := dkwX5_call_0 ++ dktX5_call_1
theorem dksX5_call_0 : cX5_call.data.toList.drop 0 = dktX5_call_0 := by decide +kernel
theorem dksX5_call_1 : cX5_call.data.toList.drop 23 = dktX5_call_1 := dk_seg dksX5_call_0 23 rfl rfl
theorem dksX5_call_2 : cX5_call.data.toList.drop 47 = dktX5_call_2 := dk_seg dksX5_call_1 24 rfl rfl
theorem dX5_call_0 : decode cX5_call 0 = .ok (.aload_n 0, 1) := dk_42 (dk_at dksX5_call_0 0 rfl rfl)
theorem dX5_call_1 : decode cX5_call 1 = .ok (.iconst 0, 1) := dk_3 (dk_at dksX5_call_0 1 rfl rfl)
theorem dX5_call_2 : decode cX5_call 2 = .ok (.putfield 106, 3) := dk_181 0 106 (dk_at dksX5_call_0 2 rfl rfl)
theorem dX5_call_5 : decode cX5_call 5 = .ok (.aload_n 0, 1) := dk_42 (dk_at dksX5_call_0 5 rfl rfl)
theorem dX5_call_6 : decode cX5_call 6 = .ok (.iload_n 1, 1) := dk_27 (dk_at dksX5_call_0 6 rfl rfl)
theorem dX5_call_7 : decode cX5_call 7 = .ok (.invokevirtual 414, 3) := dk_182 1 158 (dk_at dksX5_call_0 7 rfl rfl)
theorem dX5_call_10 : decode cX5_call 10 = .ok (.ifCond .ne 11, 3) := dk_154 0 11 (dk_at dksX5_call_0 10 rfl rfl)
theorem dX5_call_13 : decode cX5_call 13 = .ok (.aload_n 0, 1) := dk_42 (dk_at dksX5_call_0 13 rfl rfl)
theorem dX5_call_14 : decode cX5_call 14 = .ok (.iload_n 2, 1) := dk_28 (dk_at dksX5_call_0 14 rfl rfl)
theorem dX5_call_15 : decode cX5_call 15 = .ok (.invokevirtual 414, 3) := dk_182 1 158 (dk_at dksX5_call_0 15 rfl rfl)
theorem dX5_call_18 : decode cX5_call 18 = .ok (.ifCond .eq 9, 3) := dk_153 0 9 (dk_at dksX5_call_0 18 rfl rfl)
theorem dX5_call_21 : decode cX5_call 21 = .ok (.aload_n 0, 1) := dk_42 (dk_at dksX5_call_0 21 rfl rfl)
theorem dX5_call_22 : decode cX5_call 22 = .ok (.iconst 1, 1) := dk_4 (dk_at dksX5_call_0 22 rfl rfl)
theorem dX5_call_23 : decode cX5_call 23 = .ok (.invokevirtual 116, 3) := dk_182 0 116 (dk_at dksX5_call_1 0 rfl rfl)
theorem dX5_call_26 : decode cX5_call 26 = .ok (.ireturn, 1) := dk_172 (dk_at dksX5_call_1 3 rfl rfl)
theorem dX5_call_27 : decode cX5_call 27 = .ok (.iload_n 1, 1) := dk_27 (dk_at dksX5_call_1 4 rfl rfl)
theorem dX5_call_28 : decode cX5_call 28 = .ok (.iload_n 2, 1) := dk_28 (dk_at dksX5_call_1 5 rfl rfl)
theorem dX5_call_29 : decode cX5_call 29 = .ok (.if_icmp .eq 13, 3) := dk_159 0 13 (dk_at dksX5_call_1 6 rfl rfl)
theorem dX5_call_32 : decode cX5_call 32 = .ok (.iload_n 3, 1) := dk_29 (dk_at dksX5_call_1 9 rfl rfl)
theorem dX5_call_33 : decode cX5_call 33 = .ok (.ifCond .lt 9, 3) := dk_155 0 9 (dk_at dksX5_call_1 10 rfl rfl)
theorem dX5_call_36 : decode cX5_call 36 = .ok (.iload_n 3, 1) := dk_29 (dk_at dksX5_call_1 13 rfl rfl)
theorem dX5_call_37 : decode cX5_call 37 = .ok (.bipush 99, 2) := dk_16 99 (dk_at dksX5_call_1 14 rfl rfl)
theorem dX5_call_39 : decode cX5_call 39 = .ok (.if_icmp .le 9, 3) := dk_164 0 9 (dk_at dksX5_call_1 16 rfl rfl)
theorem dX5_call_42 : decode cX5_call 42 = .ok (.aload_n 0, 1) := dk_42 (dk_at dksX5_call_1 19 rfl rfl)
theorem dX5_call_43 : decode cX5_call 43 = .ok (.iconst 2, 1) := dk_5 (dk_at dksX5_call_1 20 rfl rfl)
theorem dX5_call_44 : decode cX5_call 44 = .ok (.invokevirtual 116, 3) := dk_182 0 116 (dk_at dksX5_call_1 21 rfl rfl)
theorem dX5_call_47 : decode cX5_call 47 = .ok (.ireturn, 1) := dk_172 (dk_at dksX5_call_2 0 rfl rfl)
theorem dX5_call_48 : decode cX5_call 48 = .ok (.aload_n 0, 1) := dk_42 (dk_at dksX5_call_2 1 rfl rfl)
theorem dX5_call_49 : decode cX5_call 49 = .ok (.invokevirtual 417, 3) := dk_182 1 161 (dk_at dksX5_call_2 2 rfl rfl)
theorem dX5_call_52 : decode cX5_call 52 = .ok (.aload_n 0, 1) := dk_42 (dk_at dksX5_call_2 5 rfl rfl)
theorem dX5_call_53 : decode cX5_call 53 = .ok (.iload_n 1, 1) := dk_27 (dk_at dksX5_call_2 6 rfl rfl)
theorem dX5_call_54 : decode cX5_call 54 = .ok (.iload_n 2, 1) := dk_28 (dk_at dksX5_call_2 7 rfl rfl)
theorem dX5_call_55 : decode cX5_call 55 = .ok (.iload_n 3, 1) := dk_29 (dk_at dksX5_call_2 8 rfl rfl)
theorem dX5_call_56 : decode cX5_call 56 = .ok (.invokevirtual 395, 3) := dk_182 1 139 (dk_at dksX5_call_2 9 rfl rfl)
theorem dX5_call_59 : decode cX5_call 59 = .ok (.ireturn, 1) := dk_172 (dk_at dksX5_call_2 12 rfl rfl)
abbrev cX5_noSubscriber : ByteArray := prog_12_method_15_code
def yX5_noSubscriber : MethodName := ⟨RX5, "noSubscriber", "(I)Z"⟩
def dkwX5_noSubscriber_0 : List UInt8 := [27, 155, 0, 11, 27, 42, 182, 0, 161, 161, 0, 7, 4, 167, 0, 4, 3, 172]
abbrev dktX5_noSubscriber_0 : List UInt8 := dkwX5_noSubscriber_0 ++ []
theorem dksX5_noSubscriber_0 : cX5_noSubscriber.data.toList.drop 0 = dktX5_noSubscriber_0 := by decide +kernel
theorem dX5_noSubscriber_0 : decode cX5_noSubscriber 0 = .ok (.iload_n 1, 1) := dk_27 (dk_at dksX5_noSubscriber_0 0 rfl rfl)
theorem dX5_noSubscriber_1 : decode cX5_noSubscriber 1 = .ok (.ifCond .lt 11, 3) := dk_155 0 11 (dk_at dksX5_noSubscriber_0 1 rfl rfl)
theorem dX5_noSubscriber_4 : decode cX5_noSubscriber 4 = .ok (.iload_n 1, 1) := dk_27 (dk_at dksX5_noSubscriber_0 4 rfl rfl)
theorem dX5_noSubscriber_5 : decode cX5_noSubscriber 5 = .ok (.aload_n 0, 1) := dk_42 (dk_at dksX5_noSubscriber_0 5 rfl rfl)
theorem dX5_noSubscriber_6 : decode cX5_noSubscriber 6 = .ok (.invokevirtual 161, 3) := dk_182 0 161 (dk_at dksX5_noSubscriber_0 6 rfl rfl)
theorem dX5_noSubscriber_9 : decode cX5_noSubscriber 9 = .ok (.if_icmp .lt 7, 3) := dk_161 0 7 (dk_at dksX5_noSubscriber_0 9 rfl rfl)
theorem dX5_noSubscriber_12 : decode cX5_noSubscriber 12 = .ok (.iconst 1, 1) := dk_4 (dk_at dksX5_noSubscriber_0 12 rfl rfl)
theorem dX5_noSubscriber_13 : decode cX5_noSubscriber 13 = .ok (.goto 4, 3) := dk_167 0 4 (dk_at dksX5_noSubscriber_0 13 rfl rfl)
theorem dX5_noSubscriber_16 : decode cX5_noSubscriber 16 = .ok (.iconst 0, 1) := dk_3 (dk_at dksX5_noSubscriber_0 16 rfl rfl)
theorem dX5_noSubscriber_17 : decode cX5_noSubscriber 17 = .ok (.ireturn, 1) := dk_172 (dk_at dksX5_noSubscriber_0 17 rfl rfl)
abbrev cX5_noteChange : ByteArray := prog_12_method_12_code
def yX5_noteChange : MethodName := ⟨RX5, "noteChange", "()V"⟩
def dkwX5_noteChange_0 : List UInt8 := [42, 42, 182, 0, 154, 182, 0, 158, 177]
abbrev dktX5_noteChange_0 : List UInt8 := dkwX5_noteChange_0 ++ []
theorem dksX5_noteChange_0 : cX5_noteChange.data.toList.drop 0 = dktX5_noteChange_0 := by decide +kernel
theorem dX5_noteChange_0 : decode cX5_noteChange 0 = .ok (.aload_n 0, 1) := dk_42 (dk_at dksX5_noteChange_0 0 rfl rfl)
theorem dX5_noteChange_1 : decode cX5_noteChange 1 = .ok (.aload_n 0, 1) := dk_42 (dk_at dksX5_noteChange_0 1 rfl rfl)
theorem dX5_noteChange_2 : decode cX5_noteChange 2 = .ok (.invokevirtual 154, 3) := dk_182 0 154 (dk_at dksX5_noteChange_0 2 rfl rfl)
theorem dX5_noteChange_5 : decode cX5_noteChange 5 = .ok (.invokevirtual 158, 3) := dk_182 0 158 (dk_at dksX5_noteChange_0 5 rfl rfl)
theorem dX5_noteChange_8 : decode cX5_noteChange 8 = .ok (.return_, 1) := dk_177 (dk_at dksX5_noteChange_0 8 rfl rfl)
abbrev cX5_dial : ByteArray := prog_12_method_78_code
def yX5_dial : MethodName := ⟨RX5, "dial", "(III)I"⟩
def dkwX5_dial_2 : List UInt8 := [42, 27, 28, 29, 182, 1, 142, 172]
abbrev dktX5_dial_2 : List UInt8 := dkwX5_dial_2 ++ []
def dkwX5_dial_1 : List UInt8 := [182, 0, 116, 172, 29, 155, 0, 9, 29, 16, 99, 164, 0, 9, 42, 5, 182, 0, 116, 172, 42, 182, 1, 161]
abbrev dktX5_dial_1 : List UInt8 := dkwX5_dial_1 ++ dktX5_dial_2
def dkwX5_dial_0 : List UInt8 := [42, 3, 181, 0, 106, 42, 27, 182, 1, 158, 154, 0, 11, 42, 28, 182, 1, 164, 153, 0, 9, 42, 4]
abbrev dktX5_dial_0 : List UInt8 := dkwX5_dial_0 ++ dktX5_dial_1
theorem dksX5_dial_0 : cX5_dial.data.toList.drop 0 = dktX5_dial_0 := by decide +kernel
theorem dksX5_dial_1 : cX5_dial.data.toList.drop 23 = dktX5_dial_1 := dk_seg dksX5_dial_0 23 rfl rfl
theorem dksX5_dial_2 : cX5_dial.data.toList.drop 47 = dktX5_dial_2 := dk_seg dksX5_dial_1 24 rfl rfl
theorem dX5_dial_0 : decode cX5_dial 0 = .ok (.aload_n 0, 1) := dk_42 (dk_at dksX5_dial_0 0 rfl rfl)
theorem dX5_dial_1 : decode cX5_dial 1 = .ok (.iconst 0, 1) := dk_3 (dk_at dksX5_dial_0 1 rfl rfl)
theorem dX5_dial_2 : decode cX5_dial 2 = .ok (.putfield 106, 3) := dk_181 0 106 (dk_at dksX5_dial_0 2 rfl rfl)
theorem dX5_dial_5 : decode cX5_dial 5 = .ok (.aload_n 0, 1) := dk_42 (dk_at dksX5_dial_0 5 rfl rfl)
theorem dX5_dial_6 : decode cX5_dial 6 = .ok (.iload_n 1, 1) := dk_27 (dk_at dksX5_dial_0 6 rfl rfl)
theorem dX5_dial_7 : decode cX5_dial 7 = .ok (.invokevirtual 414, 3) := dk_182 1 158 (dk_at dksX5_dial_0 7 rfl rfl)
theorem dX5_dial_10 : decode cX5_dial 10 = .ok (.ifCond .ne 11, 3) := dk_154 0 11 (dk_at dksX5_dial_0 10 rfl rfl)
theorem dX5_dial_13 : decode cX5_dial 13 = .ok (.aload_n 0, 1) := dk_42 (dk_at dksX5_dial_0 13 rfl rfl)
theorem dX5_dial_14 : decode cX5_dial 14 = .ok (.iload_n 2, 1) := dk_28 (dk_at dksX5_dial_0 14 rfl rfl)
theorem dX5_dial_15 : decode cX5_dial 15 = .ok (.invokevirtual 420, 3) := dk_182 1 164 (dk_at dksX5_dial_0 15 rfl rfl)
theorem dX5_dial_18 : decode cX5_dial 18 = .ok (.ifCond .eq 9, 3) := dk_153 0 9 (dk_at dksX5_dial_0 18 rfl rfl)
theorem dX5_dial_21 : decode cX5_dial 21 = .ok (.aload_n 0, 1) := dk_42 (dk_at dksX5_dial_0 21 rfl rfl)
theorem dX5_dial_22 : decode cX5_dial 22 = .ok (.iconst 1, 1) := dk_4 (dk_at dksX5_dial_0 22 rfl rfl)
theorem dX5_dial_23 : decode cX5_dial 23 = .ok (.invokevirtual 116, 3) := dk_182 0 116 (dk_at dksX5_dial_1 0 rfl rfl)
theorem dX5_dial_26 : decode cX5_dial 26 = .ok (.ireturn, 1) := dk_172 (dk_at dksX5_dial_1 3 rfl rfl)
theorem dX5_dial_27 : decode cX5_dial 27 = .ok (.iload_n 3, 1) := dk_29 (dk_at dksX5_dial_1 4 rfl rfl)
theorem dX5_dial_28 : decode cX5_dial 28 = .ok (.ifCond .lt 9, 3) := dk_155 0 9 (dk_at dksX5_dial_1 5 rfl rfl)
theorem dX5_dial_31 : decode cX5_dial 31 = .ok (.iload_n 3, 1) := dk_29 (dk_at dksX5_dial_1 8 rfl rfl)
theorem dX5_dial_32 : decode cX5_dial 32 = .ok (.bipush 99, 2) := dk_16 99 (dk_at dksX5_dial_1 9 rfl rfl)
theorem dX5_dial_34 : decode cX5_dial 34 = .ok (.if_icmp .le 9, 3) := dk_164 0 9 (dk_at dksX5_dial_1 11 rfl rfl)
theorem dX5_dial_37 : decode cX5_dial 37 = .ok (.aload_n 0, 1) := dk_42 (dk_at dksX5_dial_1 14 rfl rfl)
theorem dX5_dial_38 : decode cX5_dial 38 = .ok (.iconst 2, 1) := dk_5 (dk_at dksX5_dial_1 15 rfl rfl)
theorem dX5_dial_39 : decode cX5_dial 39 = .ok (.invokevirtual 116, 3) := dk_182 0 116 (dk_at dksX5_dial_1 16 rfl rfl)
theorem dX5_dial_42 : decode cX5_dial 42 = .ok (.ireturn, 1) := dk_172 (dk_at dksX5_dial_1 19 rfl rfl)
theorem dX5_dial_43 : decode cX5_dial 43 = .ok (.aload_n 0, 1) := dk_42 (dk_at dksX5_dial_1 20 rfl rfl)
theorem dX5_dial_44 : decode cX5_dial 44 = .ok (.invokevirtual 417, 3) := dk_182 1 161 (dk_at dksX5_dial_1 21 rfl rfl)
theorem dX5_dial_47 : decode cX5_dial 47 = .ok (.aload_n 0, 1) := dk_42 (dk_at dksX5_dial_2 0 rfl rfl)
theorem dX5_dial_48 : decode cX5_dial 48 = .ok (.iload_n 1, 1) := dk_27 (dk_at dksX5_dial_2 1 rfl rfl)
theorem dX5_dial_49 : decode cX5_dial 49 = .ok (.iload_n 2, 1) := dk_28 (dk_at dksX5_dial_2 2 rfl rfl)
theorem dX5_dial_50 : decode cX5_dial 50 = .ok (.iload_n 3, 1) := dk_29 (dk_at dksX5_dial_2 3 rfl rfl)
theorem dX5_dial_51 : decode cX5_dial 51 = .ok (.invokevirtual 398, 3) := dk_182 1 142 (dk_at dksX5_dial_2 4 rfl rfl)
theorem dX5_dial_54 : decode cX5_dial 54 = .ok (.ireturn, 1) := dk_172 (dk_at dksX5_dial_2 7 rfl rfl)
abbrev cX5_noGroup : ByteArray := prog_12_method_18_code
def yX5_noGroup : MethodName := ⟨RX5, "noGroup", "(I)Z"⟩
def dkwX5_noGroup_0 : List UInt8 := [27, 155, 0, 11, 27, 42, 180, 0, 103, 161, 0, 7, 4, 167, 0, 4, 3, 172]
abbrev dktX5_noGroup_0 : List UInt8 := dkwX5_noGroup_0 ++ []
theorem dksX5_noGroup_0 : cX5_noGroup.data.toList.drop 0 = dktX5_noGroup_0 := by decide +kernel
theorem dX5_noGroup_0 : decode cX5_noGroup 0 = .ok (.iload_n 1, 1) := dk_27 (dk_at dksX5_noGroup_0 0 rfl rfl)
theorem dX5_noGroup_1 : decode cX5_noGroup 1 = .ok (.ifCond .lt 11, 3) := dk_155 0 11 (dk_at dksX5_noGroup_0 1 rfl rfl)
theorem dX5_noGroup_4 : decode cX5_noGroup 4 = .ok (.iload_n 1, 1) := dk_27 (dk_at dksX5_noGroup_0 4 rfl rfl)
theorem dX5_noGroup_5 : decode cX5_noGroup 5 = .ok (.aload_n 0, 1) := dk_42 (dk_at dksX5_noGroup_0 5 rfl rfl)
theorem dX5_noGroup_6 : decode cX5_noGroup 6 = .ok (.getfield 103, 3) := dk_180 0 103 (dk_at dksX5_noGroup_0 6 rfl rfl)
theorem dX5_noGroup_9 : decode cX5_noGroup 9 = .ok (.if_icmp .lt 7, 3) := dk_161 0 7 (dk_at dksX5_noGroup_0 9 rfl rfl)
theorem dX5_noGroup_12 : decode cX5_noGroup 12 = .ok (.iconst 1, 1) := dk_4 (dk_at dksX5_noGroup_0 12 rfl rfl)
theorem dX5_noGroup_13 : decode cX5_noGroup 13 = .ok (.goto 4, 3) := dk_167 0 4 (dk_at dksX5_noGroup_0 13 rfl rfl)
theorem dX5_noGroup_16 : decode cX5_noGroup 16 = .ok (.iconst 0, 1) := dk_3 (dk_at dksX5_noGroup_0 16 rfl rfl)
theorem dX5_noGroup_17 : decode cX5_noGroup 17 = .ok (.ireturn, 1) := dk_172 (dk_at dksX5_noGroup_0 17 rfl rfl)
abbrev cX5_hangUp : ByteArray := prog_12_method_79_code
def yX5_hangUp : MethodName := ⟨RX5, "hangUp", "(I)I"⟩
def dkwX5_hangUp_1 : List UInt8 := [153, 0, 9, 42, 5, 182, 0, 116, 172, 42, 182, 1, 161, 42, 27, 182, 1, 108, 172]
abbrev dktX5_hangUp_1 : List UInt8 := dkwX5_hangUp_1 ++ []
def dkwX5_hangUp_0 : List UInt8 := [42, 3, 181, 0, 106, 42, 27, 182, 1, 158, 153, 0, 9, 42, 4, 182, 0, 116, 172, 42, 27, 182, 0, 224]
abbrev dktX5_hangUp_0 : List UInt8 := dkwX5_hangUp_0 ++ dktX5_hangUp_1
theorem dksX5_hangUp_0 : cX5_hangUp.data.toList.drop 0 = dktX5_hangUp_0 := by decide +kernel
theorem dksX5_hangUp_1 : cX5_hangUp.data.toList.drop 24 = dktX5_hangUp_1 := dk_seg dksX5_hangUp_0 24 rfl rfl
theorem dX5_hangUp_0 : decode cX5_hangUp 0 = .ok (.aload_n 0, 1) := dk_42 (dk_at dksX5_hangUp_0 0 rfl rfl)
theorem dX5_hangUp_1 : decode cX5_hangUp 1 = .ok (.iconst 0, 1) := dk_3 (dk_at dksX5_hangUp_0 1 rfl rfl)
theorem dX5_hangUp_2 : decode cX5_hangUp 2 = .ok (.putfield 106, 3) := dk_181 0 106 (dk_at dksX5_hangUp_0 2 rfl rfl)
theorem dX5_hangUp_5 : decode cX5_hangUp 5 = .ok (.aload_n 0, 1) := dk_42 (dk_at dksX5_hangUp_0 5 rfl rfl)
theorem dX5_hangUp_6 : decode cX5_hangUp 6 = .ok (.iload_n 1, 1) := dk_27 (dk_at dksX5_hangUp_0 6 rfl rfl)
theorem dX5_hangUp_7 : decode cX5_hangUp 7 = .ok (.invokevirtual 414, 3) := dk_182 1 158 (dk_at dksX5_hangUp_0 7 rfl rfl)
theorem dX5_hangUp_10 : decode cX5_hangUp 10 = .ok (.ifCond .eq 9, 3) := dk_153 0 9 (dk_at dksX5_hangUp_0 10 rfl rfl)
theorem dX5_hangUp_13 : decode cX5_hangUp 13 = .ok (.aload_n 0, 1) := dk_42 (dk_at dksX5_hangUp_0 13 rfl rfl)
theorem dX5_hangUp_14 : decode cX5_hangUp 14 = .ok (.iconst 1, 1) := dk_4 (dk_at dksX5_hangUp_0 14 rfl rfl)
theorem dX5_hangUp_15 : decode cX5_hangUp 15 = .ok (.invokevirtual 116, 3) := dk_182 0 116 (dk_at dksX5_hangUp_0 15 rfl rfl)
theorem dX5_hangUp_18 : decode cX5_hangUp 18 = .ok (.ireturn, 1) := dk_172 (dk_at dksX5_hangUp_0 18 rfl rfl)
theorem dX5_hangUp_19 : decode cX5_hangUp 19 = .ok (.aload_n 0, 1) := dk_42 (dk_at dksX5_hangUp_0 19 rfl rfl)
theorem dX5_hangUp_20 : decode cX5_hangUp 20 = .ok (.iload_n 1, 1) := dk_27 (dk_at dksX5_hangUp_0 20 rfl rfl)
theorem dX5_hangUp_21 : decode cX5_hangUp 21 = .ok (.invokevirtual 224, 3) := dk_182 0 224 (dk_at dksX5_hangUp_0 21 rfl rfl)
theorem dX5_hangUp_24 : decode cX5_hangUp 24 = .ok (.ifCond .eq 9, 3) := dk_153 0 9 (dk_at dksX5_hangUp_1 0 rfl rfl)
theorem dX5_hangUp_27 : decode cX5_hangUp 27 = .ok (.aload_n 0, 1) := dk_42 (dk_at dksX5_hangUp_1 3 rfl rfl)
theorem dX5_hangUp_28 : decode cX5_hangUp 28 = .ok (.iconst 2, 1) := dk_5 (dk_at dksX5_hangUp_1 4 rfl rfl)
theorem dX5_hangUp_29 : decode cX5_hangUp 29 = .ok (.invokevirtual 116, 3) := dk_182 0 116 (dk_at dksX5_hangUp_1 5 rfl rfl)
theorem dX5_hangUp_32 : decode cX5_hangUp 32 = .ok (.ireturn, 1) := dk_172 (dk_at dksX5_hangUp_1 8 rfl rfl)
theorem dX5_hangUp_33 : decode cX5_hangUp 33 = .ok (.aload_n 0, 1) := dk_42 (dk_at dksX5_hangUp_1 9 rfl rfl)
theorem dX5_hangUp_34 : decode cX5_hangUp 34 = .ok (.invokevirtual 417, 3) := dk_182 1 161 (dk_at dksX5_hangUp_1 10 rfl rfl)
theorem dX5_hangUp_37 : decode cX5_hangUp 37 = .ok (.aload_n 0, 1) := dk_42 (dk_at dksX5_hangUp_1 13 rfl rfl)
theorem dX5_hangUp_38 : decode cX5_hangUp 38 = .ok (.iload_n 1, 1) := dk_27 (dk_at dksX5_hangUp_1 14 rfl rfl)
theorem dX5_hangUp_39 : decode cX5_hangUp 39 = .ok (.invokevirtual 364, 3) := dk_182 1 108 (dk_at dksX5_hangUp_1 15 rfl rfl)
theorem dX5_hangUp_42 : decode cX5_hangUp 42 = .ok (.ireturn, 1) := dk_172 (dk_at dksX5_hangUp_1 18 rfl rfl)
abbrev cX5_tick : ByteArray := prog_12_method_80_code
def yX5_tick : MethodName := ⟨RX5, "tick", "(I)I"⟩
def dkwX5_tick_2 : List UInt8 := [62, 29, 27, 162, 0, 16, 28, 42, 182, 1, 113, 96, 61, 132, 3, 1, 167, 255, 241, 28, 172]
abbrev dktX5_tick_2 : List UInt8 := dkwX5_tick_2 ++ []
def dkwX5_tick_1 : List UInt8 := [180, 0, 126, 27, 96, 17, 39, 15, 164, 0, 9, 42, 5, 182, 0, 116, 172, 42, 182, 1, 161, 3, 61, 3]
abbrev dktX5_tick_1 : List UInt8 := dkwX5_tick_1 ++ dktX5_tick_2
def dkwX5_tick_0 : List UInt8 := [42, 3, 181, 0, 106, 27, 4, 161, 0, 9, 27, 16, 100, 164, 0, 9, 42, 4, 182, 0, 116, 172, 42]
abbrev dktX5_tick_0 : List UInt8 := dkwX5_tick_0 ++ dktX5_tick_1
theorem dksX5_tick_0 : cX5_tick.data.toList.drop 0 = dktX5_tick_0 := by decide +kernel
theorem dksX5_tick_1 : cX5_tick.data.toList.drop 23 = dktX5_tick_1 := dk_seg dksX5_tick_0 23 rfl rfl
theorem dksX5_tick_2 : cX5_tick.data.toList.drop 47 = dktX5_tick_2 := dk_seg dksX5_tick_1 24 rfl rfl
theorem dX5_tick_0 : decode cX5_tick 0 = .ok (.aload_n 0, 1) := dk_42 (dk_at dksX5_tick_0 0 rfl rfl)
theorem dX5_tick_1 : decode cX5_tick 1 = .ok (.iconst 0, 1) := dk_3 (dk_at dksX5_tick_0 1 rfl rfl)
theorem dX5_tick_2 : decode cX5_tick 2 = .ok (.putfield 106, 3) := dk_181 0 106 (dk_at dksX5_tick_0 2 rfl rfl)
theorem dX5_tick_5 : decode cX5_tick 5 = .ok (.iload_n 1, 1) := dk_27 (dk_at dksX5_tick_0 5 rfl rfl)
theorem dX5_tick_6 : decode cX5_tick 6 = .ok (.iconst 1, 1) := dk_4 (dk_at dksX5_tick_0 6 rfl rfl)
theorem dX5_tick_7 : decode cX5_tick 7 = .ok (.if_icmp .lt 9, 3) := dk_161 0 9 (dk_at dksX5_tick_0 7 rfl rfl)
theorem dX5_tick_10 : decode cX5_tick 10 = .ok (.iload_n 1, 1) := dk_27 (dk_at dksX5_tick_0 10 rfl rfl)
theorem dX5_tick_11 : decode cX5_tick 11 = .ok (.bipush 100, 2) := dk_16 100 (dk_at dksX5_tick_0 11 rfl rfl)
theorem dX5_tick_13 : decode cX5_tick 13 = .ok (.if_icmp .le 9, 3) := dk_164 0 9 (dk_at dksX5_tick_0 13 rfl rfl)
theorem dX5_tick_16 : decode cX5_tick 16 = .ok (.aload_n 0, 1) := dk_42 (dk_at dksX5_tick_0 16 rfl rfl)
theorem dX5_tick_17 : decode cX5_tick 17 = .ok (.iconst 1, 1) := dk_4 (dk_at dksX5_tick_0 17 rfl rfl)
theorem dX5_tick_18 : decode cX5_tick 18 = .ok (.invokevirtual 116, 3) := dk_182 0 116 (dk_at dksX5_tick_0 18 rfl rfl)
theorem dX5_tick_21 : decode cX5_tick 21 = .ok (.ireturn, 1) := dk_172 (dk_at dksX5_tick_0 21 rfl rfl)
theorem dX5_tick_22 : decode cX5_tick 22 = .ok (.aload_n 0, 1) := dk_42 (dk_at dksX5_tick_0 22 rfl rfl)
theorem dX5_tick_23 : decode cX5_tick 23 = .ok (.getfield 126, 3) := dk_180 0 126 (dk_at dksX5_tick_1 0 rfl rfl)
theorem dX5_tick_26 : decode cX5_tick 26 = .ok (.iload_n 1, 1) := dk_27 (dk_at dksX5_tick_1 3 rfl rfl)
theorem dX5_tick_27 : decode cX5_tick 27 = .ok (.iadd, 1) := dk_96 (dk_at dksX5_tick_1 4 rfl rfl)
theorem dX5_tick_28 : decode cX5_tick 28 = .ok (.sipush 9999, 3) := dk_17 39 15 (dk_at dksX5_tick_1 5 rfl rfl)
theorem dX5_tick_31 : decode cX5_tick 31 = .ok (.if_icmp .le 9, 3) := dk_164 0 9 (dk_at dksX5_tick_1 8 rfl rfl)
theorem dX5_tick_34 : decode cX5_tick 34 = .ok (.aload_n 0, 1) := dk_42 (dk_at dksX5_tick_1 11 rfl rfl)
theorem dX5_tick_35 : decode cX5_tick 35 = .ok (.iconst 2, 1) := dk_5 (dk_at dksX5_tick_1 12 rfl rfl)
theorem dX5_tick_36 : decode cX5_tick 36 = .ok (.invokevirtual 116, 3) := dk_182 0 116 (dk_at dksX5_tick_1 13 rfl rfl)
theorem dX5_tick_39 : decode cX5_tick 39 = .ok (.ireturn, 1) := dk_172 (dk_at dksX5_tick_1 16 rfl rfl)
theorem dX5_tick_40 : decode cX5_tick 40 = .ok (.aload_n 0, 1) := dk_42 (dk_at dksX5_tick_1 17 rfl rfl)
theorem dX5_tick_41 : decode cX5_tick 41 = .ok (.invokevirtual 417, 3) := dk_182 1 161 (dk_at dksX5_tick_1 18 rfl rfl)
theorem dX5_tick_44 : decode cX5_tick 44 = .ok (.iconst 0, 1) := dk_3 (dk_at dksX5_tick_1 21 rfl rfl)
theorem dX5_tick_45 : decode cX5_tick 45 = .ok (.istore_n 2, 1) := dk_61 (dk_at dksX5_tick_1 22 rfl rfl)
theorem dX5_tick_46 : decode cX5_tick 46 = .ok (.iconst 0, 1) := dk_3 (dk_at dksX5_tick_1 23 rfl rfl)
theorem dX5_tick_47 : decode cX5_tick 47 = .ok (.istore_n 3, 1) := dk_62 (dk_at dksX5_tick_2 0 rfl rfl)
theorem dX5_tick_48 : decode cX5_tick 48 = .ok (.iload_n 3, 1) := dk_29 (dk_at dksX5_tick_2 1 rfl rfl)
theorem dX5_tick_49 : decode cX5_tick 49 = .ok (.iload_n 1, 1) := dk_27 (dk_at dksX5_tick_2 2 rfl rfl)
theorem dX5_tick_50 : decode cX5_tick 50 = .ok (.if_icmp .ge 16, 3) := dk_162 0 16 (dk_at dksX5_tick_2 3 rfl rfl)
theorem dX5_tick_53 : decode cX5_tick 53 = .ok (.iload_n 2, 1) := dk_28 (dk_at dksX5_tick_2 6 rfl rfl)
theorem dX5_tick_54 : decode cX5_tick 54 = .ok (.aload_n 0, 1) := dk_42 (dk_at dksX5_tick_2 7 rfl rfl)
theorem dX5_tick_55 : decode cX5_tick 55 = .ok (.invokevirtual 369, 3) := dk_182 1 113 (dk_at dksX5_tick_2 8 rfl rfl)
theorem dX5_tick_58 : decode cX5_tick 58 = .ok (.iadd, 1) := dk_96 (dk_at dksX5_tick_2 11 rfl rfl)
theorem dX5_tick_59 : decode cX5_tick 59 = .ok (.istore_n 2, 1) := dk_61 (dk_at dksX5_tick_2 12 rfl rfl)
theorem dX5_tick_60 : decode cX5_tick 60 = .ok (.iinc 3 1, 3) := dk_132 3 1 (dk_at dksX5_tick_2 13 rfl rfl)
theorem dX5_tick_63 : decode cX5_tick 63 = .ok (.goto (-15), 3) := dk_167 255 241 (dk_at dksX5_tick_2 16 rfl rfl)
theorem dX5_tick_66 : decode cX5_tick 66 = .ok (.iload_n 2, 1) := dk_28 (dk_at dksX5_tick_2 19 rfl rfl)
theorem dX5_tick_67 : decode cX5_tick 67 = .ok (.ireturn, 1) := dk_172 (dk_at dksX5_tick_2 20 rfl rfl)
abbrev cX5_cut : ByteArray := prog_12_method_81_code
def yX5_cut : MethodName := ⟨RX5, "cut", "(I)I"⟩
def dkwX5_cut_1 : List UInt8 := [153, 0, 9, 42, 5, 182, 0, 116, 172, 42, 182, 1, 161, 42, 27, 182, 1, 145, 172]
abbrev dktX5_cut_1 : List UInt8 := dkwX5_cut_1 ++ []
def dkwX5_cut_0 : List UInt8 := [42, 3, 181, 0, 106, 42, 27, 182, 1, 167, 153, 0, 9, 42, 4, 182, 0, 116, 172, 42, 27, 182, 0, 164]
abbrev dktX5_cut_0 : List UInt8 := dkwX5_cut_0 ++ dktX5_cut_1
theorem dksX5_cut_0 : cX5_cut.data.toList.drop 0 = dktX5_cut_0 := by decide +kernel
theorem dksX5_cut_1 : cX5_cut.data.toList.drop 24 = dktX5_cut_1 := dk_seg dksX5_cut_0 24 rfl rfl
theorem dX5_cut_0 : decode cX5_cut 0 = .ok (.aload_n 0, 1) := dk_42 (dk_at dksX5_cut_0 0 rfl rfl)
theorem dX5_cut_1 : decode cX5_cut 1 = .ok (.iconst 0, 1) := dk_3 (dk_at dksX5_cut_0 1 rfl rfl)
theorem dX5_cut_2 : decode cX5_cut 2 = .ok (.putfield 106, 3) := dk_181 0 106 (dk_at dksX5_cut_0 2 rfl rfl)
theorem dX5_cut_5 : decode cX5_cut 5 = .ok (.aload_n 0, 1) := dk_42 (dk_at dksX5_cut_0 5 rfl rfl)
theorem dX5_cut_6 : decode cX5_cut 6 = .ok (.iload_n 1, 1) := dk_27 (dk_at dksX5_cut_0 6 rfl rfl)
theorem dX5_cut_7 : decode cX5_cut 7 = .ok (.invokevirtual 423, 3) := dk_182 1 167 (dk_at dksX5_cut_0 7 rfl rfl)
theorem dX5_cut_10 : decode cX5_cut 10 = .ok (.ifCond .eq 9, 3) := dk_153 0 9 (dk_at dksX5_cut_0 10 rfl rfl)
theorem dX5_cut_13 : decode cX5_cut 13 = .ok (.aload_n 0, 1) := dk_42 (dk_at dksX5_cut_0 13 rfl rfl)
theorem dX5_cut_14 : decode cX5_cut 14 = .ok (.iconst 1, 1) := dk_4 (dk_at dksX5_cut_0 14 rfl rfl)
theorem dX5_cut_15 : decode cX5_cut 15 = .ok (.invokevirtual 116, 3) := dk_182 0 116 (dk_at dksX5_cut_0 15 rfl rfl)
theorem dX5_cut_18 : decode cX5_cut 18 = .ok (.ireturn, 1) := dk_172 (dk_at dksX5_cut_0 18 rfl rfl)
theorem dX5_cut_19 : decode cX5_cut 19 = .ok (.aload_n 0, 1) := dk_42 (dk_at dksX5_cut_0 19 rfl rfl)
theorem dX5_cut_20 : decode cX5_cut 20 = .ok (.iload_n 1, 1) := dk_27 (dk_at dksX5_cut_0 20 rfl rfl)
theorem dX5_cut_21 : decode cX5_cut 21 = .ok (.invokevirtual 164, 3) := dk_182 0 164 (dk_at dksX5_cut_0 21 rfl rfl)
theorem dX5_cut_24 : decode cX5_cut 24 = .ok (.ifCond .eq 9, 3) := dk_153 0 9 (dk_at dksX5_cut_1 0 rfl rfl)
theorem dX5_cut_27 : decode cX5_cut 27 = .ok (.aload_n 0, 1) := dk_42 (dk_at dksX5_cut_1 3 rfl rfl)
theorem dX5_cut_28 : decode cX5_cut 28 = .ok (.iconst 2, 1) := dk_5 (dk_at dksX5_cut_1 4 rfl rfl)
theorem dX5_cut_29 : decode cX5_cut 29 = .ok (.invokevirtual 116, 3) := dk_182 0 116 (dk_at dksX5_cut_1 5 rfl rfl)
theorem dX5_cut_32 : decode cX5_cut 32 = .ok (.ireturn, 1) := dk_172 (dk_at dksX5_cut_1 8 rfl rfl)
theorem dX5_cut_33 : decode cX5_cut 33 = .ok (.aload_n 0, 1) := dk_42 (dk_at dksX5_cut_1 9 rfl rfl)
theorem dX5_cut_34 : decode cX5_cut 34 = .ok (.invokevirtual 417, 3) := dk_182 1 161 (dk_at dksX5_cut_1 10 rfl rfl)
theorem dX5_cut_37 : decode cX5_cut 37 = .ok (.aload_n 0, 1) := dk_42 (dk_at dksX5_cut_1 13 rfl rfl)
theorem dX5_cut_38 : decode cX5_cut 38 = .ok (.iload_n 1, 1) := dk_27 (dk_at dksX5_cut_1 14 rfl rfl)
theorem dX5_cut_39 : decode cX5_cut 39 = .ok (.invokevirtual 401, 3) := dk_182 1 145 (dk_at dksX5_cut_1 15 rfl rfl)
theorem dX5_cut_42 : decode cX5_cut 42 = .ok (.ireturn, 1) := dk_172 (dk_at dksX5_cut_1 18 rfl rfl)
abbrev cX5_noMiddle : ByteArray := prog_12_method_17_code
def yX5_noMiddle : MethodName := ⟨RX5, "noMiddle", "(I)Z"⟩
def dkwX5_noMiddle_0 : List UInt8 := [27, 155, 0, 11, 27, 42, 180, 0, 26, 161, 0, 7, 4, 167, 0, 4, 3, 172]
abbrev dktX5_noMiddle_0 : List UInt8 := dkwX5_noMiddle_0 ++ []
theorem dksX5_noMiddle_0 : cX5_noMiddle.data.toList.drop 0 = dktX5_noMiddle_0 := by decide +kernel
theorem dX5_noMiddle_0 : decode cX5_noMiddle 0 = .ok (.iload_n 1, 1) := dk_27 (dk_at dksX5_noMiddle_0 0 rfl rfl)
theorem dX5_noMiddle_1 : decode cX5_noMiddle 1 = .ok (.ifCond .lt 11, 3) := dk_155 0 11 (dk_at dksX5_noMiddle_0 1 rfl rfl)
theorem dX5_noMiddle_4 : decode cX5_noMiddle 4 = .ok (.iload_n 1, 1) := dk_27 (dk_at dksX5_noMiddle_0 4 rfl rfl)
theorem dX5_noMiddle_5 : decode cX5_noMiddle 5 = .ok (.aload_n 0, 1) := dk_42 (dk_at dksX5_noMiddle_0 5 rfl rfl)
theorem dX5_noMiddle_6 : decode cX5_noMiddle 6 = .ok (.getfield 26, 3) := dk_180 0 26 (dk_at dksX5_noMiddle_0 6 rfl rfl)
theorem dX5_noMiddle_9 : decode cX5_noMiddle 9 = .ok (.if_icmp .lt 7, 3) := dk_161 0 7 (dk_at dksX5_noMiddle_0 9 rfl rfl)
theorem dX5_noMiddle_12 : decode cX5_noMiddle 12 = .ok (.iconst 1, 1) := dk_4 (dk_at dksX5_noMiddle_0 12 rfl rfl)
theorem dX5_noMiddle_13 : decode cX5_noMiddle 13 = .ok (.goto 4, 3) := dk_167 0 4 (dk_at dksX5_noMiddle_0 13 rfl rfl)
theorem dX5_noMiddle_16 : decode cX5_noMiddle 16 = .ok (.iconst 0, 1) := dk_3 (dk_at dksX5_noMiddle_0 16 rfl rfl)
theorem dX5_noMiddle_17 : decode cX5_noMiddle 17 = .ok (.ireturn, 1) := dk_172 (dk_at dksX5_noMiddle_0 17 rfl rfl)
abbrev cX5_mend : ByteArray := prog_12_method_82_code
def yX5_mend : MethodName := ⟨RX5, "mend", "(I)I"⟩
def dkwX5_mend_2 : List UInt8 := [181, 0, 120, 42, 182, 0, 253, 42, 182, 1, 170, 172]
abbrev dktX5_mend_2 : List UInt8 := dkwX5_mend_2 ++ []
def dkwX5_mend_1 : List UInt8 := [154, 0, 9, 42, 5, 182, 0, 116, 172, 42, 182, 1, 161, 42, 89, 180, 0, 120, 4, 27, 120, 2, 130, 126]
abbrev dktX5_mend_1 : List UInt8 := dkwX5_mend_1 ++ dktX5_mend_2
def dkwX5_mend_0 : List UInt8 := [42, 3, 181, 0, 106, 42, 27, 182, 1, 167, 153, 0, 9, 42, 4, 182, 0, 116, 172, 42, 27, 182, 0, 164]
abbrev dktX5_mend_0 : List UInt8 := dkwX5_mend_0 ++ dktX5_mend_1
theorem dksX5_mend_0 : cX5_mend.data.toList.drop 0 = dktX5_mend_0 := by decide +kernel
theorem dksX5_mend_1 : cX5_mend.data.toList.drop 24 = dktX5_mend_1 := dk_seg dksX5_mend_0 24 rfl rfl
theorem dksX5_mend_2 : cX5_mend.data.toList.drop 48 = dktX5_mend_2 := dk_seg dksX5_mend_1 24 rfl rfl
theorem dX5_mend_0 : decode cX5_mend 0 = .ok (.aload_n 0, 1) := dk_42 (dk_at dksX5_mend_0 0 rfl rfl)
theorem dX5_mend_1 : decode cX5_mend 1 = .ok (.iconst 0, 1) := dk_3 (dk_at dksX5_mend_0 1 rfl rfl)
theorem dX5_mend_2 : decode cX5_mend 2 = .ok (.putfield 106, 3) := dk_181 0 106 (dk_at dksX5_mend_0 2 rfl rfl)
theorem dX5_mend_5 : decode cX5_mend 5 = .ok (.aload_n 0, 1) := dk_42 (dk_at dksX5_mend_0 5 rfl rfl)
theorem dX5_mend_6 : decode cX5_mend 6 = .ok (.iload_n 1, 1) := dk_27 (dk_at dksX5_mend_0 6 rfl rfl)
theorem dX5_mend_7 : decode cX5_mend 7 = .ok (.invokevirtual 423, 3) := dk_182 1 167 (dk_at dksX5_mend_0 7 rfl rfl)
theorem dX5_mend_10 : decode cX5_mend 10 = .ok (.ifCond .eq 9, 3) := dk_153 0 9 (dk_at dksX5_mend_0 10 rfl rfl)
theorem dX5_mend_13 : decode cX5_mend 13 = .ok (.aload_n 0, 1) := dk_42 (dk_at dksX5_mend_0 13 rfl rfl)
theorem dX5_mend_14 : decode cX5_mend 14 = .ok (.iconst 1, 1) := dk_4 (dk_at dksX5_mend_0 14 rfl rfl)
theorem dX5_mend_15 : decode cX5_mend 15 = .ok (.invokevirtual 116, 3) := dk_182 0 116 (dk_at dksX5_mend_0 15 rfl rfl)
theorem dX5_mend_18 : decode cX5_mend 18 = .ok (.ireturn, 1) := dk_172 (dk_at dksX5_mend_0 18 rfl rfl)
theorem dX5_mend_19 : decode cX5_mend 19 = .ok (.aload_n 0, 1) := dk_42 (dk_at dksX5_mend_0 19 rfl rfl)
theorem dX5_mend_20 : decode cX5_mend 20 = .ok (.iload_n 1, 1) := dk_27 (dk_at dksX5_mend_0 20 rfl rfl)
theorem dX5_mend_21 : decode cX5_mend 21 = .ok (.invokevirtual 164, 3) := dk_182 0 164 (dk_at dksX5_mend_0 21 rfl rfl)
theorem dX5_mend_24 : decode cX5_mend 24 = .ok (.ifCond .ne 9, 3) := dk_154 0 9 (dk_at dksX5_mend_1 0 rfl rfl)
theorem dX5_mend_27 : decode cX5_mend 27 = .ok (.aload_n 0, 1) := dk_42 (dk_at dksX5_mend_1 3 rfl rfl)
theorem dX5_mend_28 : decode cX5_mend 28 = .ok (.iconst 2, 1) := dk_5 (dk_at dksX5_mend_1 4 rfl rfl)
theorem dX5_mend_29 : decode cX5_mend 29 = .ok (.invokevirtual 116, 3) := dk_182 0 116 (dk_at dksX5_mend_1 5 rfl rfl)
theorem dX5_mend_32 : decode cX5_mend 32 = .ok (.ireturn, 1) := dk_172 (dk_at dksX5_mend_1 8 rfl rfl)
theorem dX5_mend_33 : decode cX5_mend 33 = .ok (.aload_n 0, 1) := dk_42 (dk_at dksX5_mend_1 9 rfl rfl)
theorem dX5_mend_34 : decode cX5_mend 34 = .ok (.invokevirtual 417, 3) := dk_182 1 161 (dk_at dksX5_mend_1 10 rfl rfl)
theorem dX5_mend_37 : decode cX5_mend 37 = .ok (.aload_n 0, 1) := dk_42 (dk_at dksX5_mend_1 13 rfl rfl)
theorem dX5_mend_38 : decode cX5_mend 38 = .ok (.dup, 1) := dk_89 (dk_at dksX5_mend_1 14 rfl rfl)
theorem dX5_mend_39 : decode cX5_mend 39 = .ok (.getfield 120, 3) := dk_180 0 120 (dk_at dksX5_mend_1 15 rfl rfl)
theorem dX5_mend_42 : decode cX5_mend 42 = .ok (.iconst 1, 1) := dk_4 (dk_at dksX5_mend_1 18 rfl rfl)
theorem dX5_mend_43 : decode cX5_mend 43 = .ok (.iload_n 1, 1) := dk_27 (dk_at dksX5_mend_1 19 rfl rfl)
theorem dX5_mend_44 : decode cX5_mend 44 = .ok (.ishl, 1) := dk_120 (dk_at dksX5_mend_1 20 rfl rfl)
theorem dX5_mend_45 : decode cX5_mend 45 = .ok (.iconst (-1), 1) := dk_2 (dk_at dksX5_mend_1 21 rfl rfl)
theorem dX5_mend_46 : decode cX5_mend 46 = .ok (.ixor, 1) := dk_130 (dk_at dksX5_mend_1 22 rfl rfl)
theorem dX5_mend_47 : decode cX5_mend 47 = .ok (.iand, 1) := dk_126 (dk_at dksX5_mend_1 23 rfl rfl)
theorem dX5_mend_48 : decode cX5_mend 48 = .ok (.putfield 120, 3) := dk_181 0 120 (dk_at dksX5_mend_2 0 rfl rfl)
theorem dX5_mend_51 : decode cX5_mend 51 = .ok (.aload_n 0, 1) := dk_42 (dk_at dksX5_mend_2 3 rfl rfl)
theorem dX5_mend_52 : decode cX5_mend 52 = .ok (.invokevirtual 253, 3) := dk_182 0 253 (dk_at dksX5_mend_2 4 rfl rfl)
theorem dX5_mend_55 : decode cX5_mend 55 = .ok (.aload_n 0, 1) := dk_42 (dk_at dksX5_mend_2 7 rfl rfl)
theorem dX5_mend_56 : decode cX5_mend 56 = .ok (.invokevirtual 426, 3) := dk_182 1 170 (dk_at dksX5_mend_2 8 rfl rfl)
theorem dX5_mend_59 : decode cX5_mend 59 = .ok (.ireturn, 1) := dk_172 (dk_at dksX5_mend_2 11 rfl rfl)
abbrev cX5_inOrder : ByteArray := prog_12_method_20_code
def yX5_inOrder : MethodName := ⟨RX5, "inOrder", "()I"⟩
def dkwX5_inOrder_1 : List UInt8 := [167, 0, 4, 4, 96, 60, 132, 2, 1, 167, 255, 229, 27, 172]
abbrev dktX5_inOrder_1 : List UInt8 := dkwX5_inOrder_1 ++ []
def dkwX5_inOrder_0 : List UInt8 := [3, 60, 3, 61, 28, 42, 180, 0, 26, 162, 0, 25, 27, 42, 28, 182, 0, 164, 153, 0, 7, 3]
abbrev dktX5_inOrder_0 : List UInt8 := dkwX5_inOrder_0 ++ dktX5_inOrder_1
theorem dksX5_inOrder_0 : cX5_inOrder.data.toList.drop 0 = dktX5_inOrder_0 := by decide +kernel
theorem dksX5_inOrder_1 : cX5_inOrder.data.toList.drop 22 = dktX5_inOrder_1 := dk_seg dksX5_inOrder_0 22 rfl rfl
theorem dX5_inOrder_0 : decode cX5_inOrder 0 = .ok (.iconst 0, 1) := dk_3 (dk_at dksX5_inOrder_0 0 rfl rfl)
theorem dX5_inOrder_1 : decode cX5_inOrder 1 = .ok (.istore_n 1, 1) := dk_60 (dk_at dksX5_inOrder_0 1 rfl rfl)
theorem dX5_inOrder_2 : decode cX5_inOrder 2 = .ok (.iconst 0, 1) := dk_3 (dk_at dksX5_inOrder_0 2 rfl rfl)
theorem dX5_inOrder_3 : decode cX5_inOrder 3 = .ok (.istore_n 2, 1) := dk_61 (dk_at dksX5_inOrder_0 3 rfl rfl)
theorem dX5_inOrder_4 : decode cX5_inOrder 4 = .ok (.iload_n 2, 1) := dk_28 (dk_at dksX5_inOrder_0 4 rfl rfl)
theorem dX5_inOrder_5 : decode cX5_inOrder 5 = .ok (.aload_n 0, 1) := dk_42 (dk_at dksX5_inOrder_0 5 rfl rfl)
theorem dX5_inOrder_6 : decode cX5_inOrder 6 = .ok (.getfield 26, 3) := dk_180 0 26 (dk_at dksX5_inOrder_0 6 rfl rfl)
theorem dX5_inOrder_9 : decode cX5_inOrder 9 = .ok (.if_icmp .ge 25, 3) := dk_162 0 25 (dk_at dksX5_inOrder_0 9 rfl rfl)
theorem dX5_inOrder_12 : decode cX5_inOrder 12 = .ok (.iload_n 1, 1) := dk_27 (dk_at dksX5_inOrder_0 12 rfl rfl)
theorem dX5_inOrder_13 : decode cX5_inOrder 13 = .ok (.aload_n 0, 1) := dk_42 (dk_at dksX5_inOrder_0 13 rfl rfl)
theorem dX5_inOrder_14 : decode cX5_inOrder 14 = .ok (.iload_n 2, 1) := dk_28 (dk_at dksX5_inOrder_0 14 rfl rfl)
theorem dX5_inOrder_15 : decode cX5_inOrder 15 = .ok (.invokevirtual 164, 3) := dk_182 0 164 (dk_at dksX5_inOrder_0 15 rfl rfl)
theorem dX5_inOrder_18 : decode cX5_inOrder 18 = .ok (.ifCond .eq 7, 3) := dk_153 0 7 (dk_at dksX5_inOrder_0 18 rfl rfl)
theorem dX5_inOrder_21 : decode cX5_inOrder 21 = .ok (.iconst 0, 1) := dk_3 (dk_at dksX5_inOrder_0 21 rfl rfl)
theorem dX5_inOrder_22 : decode cX5_inOrder 22 = .ok (.goto 4, 3) := dk_167 0 4 (dk_at dksX5_inOrder_1 0 rfl rfl)
theorem dX5_inOrder_25 : decode cX5_inOrder 25 = .ok (.iconst 1, 1) := dk_4 (dk_at dksX5_inOrder_1 3 rfl rfl)
theorem dX5_inOrder_26 : decode cX5_inOrder 26 = .ok (.iadd, 1) := dk_96 (dk_at dksX5_inOrder_1 4 rfl rfl)
theorem dX5_inOrder_27 : decode cX5_inOrder 27 = .ok (.istore_n 1, 1) := dk_60 (dk_at dksX5_inOrder_1 5 rfl rfl)
theorem dX5_inOrder_28 : decode cX5_inOrder 28 = .ok (.iinc 2 1, 3) := dk_132 2 1 (dk_at dksX5_inOrder_1 6 rfl rfl)
theorem dX5_inOrder_31 : decode cX5_inOrder 31 = .ok (.goto (-27), 3) := dk_167 255 229 (dk_at dksX5_inOrder_1 9 rfl rfl)
theorem dX5_inOrder_34 : decode cX5_inOrder 34 = .ok (.iload_n 1, 1) := dk_27 (dk_at dksX5_inOrder_1 12 rfl rfl)
theorem dX5_inOrder_35 : decode cX5_inOrder 35 = .ok (.ireturn, 1) := dk_172 (dk_at dksX5_inOrder_1 13 rfl rfl)
abbrev cX5_setMode : ByteArray := prog_12_method_83_code
def yX5_setMode : MethodName := ⟨RX5, "setMode", "(I)I"⟩
def dkwX5_setMode_1 : List UInt8 := [42, 180, 0, 29, 61, 42, 27, 181, 0, 29, 42, 182, 0, 253, 28, 172]
abbrev dktX5_setMode_1 : List UInt8 := dkwX5_setMode_1 ++ []
def dkwX5_setMode_0 : List UInt8 := [42, 3, 181, 0, 106, 27, 155, 0, 8, 27, 4, 164, 0, 9, 42, 4, 182, 0, 116, 172, 42, 182, 1, 161]
abbrev dktX5_setMode_0 : List UInt8 := dkwX5_setMode_0 ++ dktX5_setMode_1
theorem dksX5_setMode_0 : cX5_setMode.data.toList.drop 0 = dktX5_setMode_0 := by decide +kernel
theorem dksX5_setMode_1 : cX5_setMode.data.toList.drop 24 = dktX5_setMode_1 := dk_seg dksX5_setMode_0 24 rfl rfl
theorem dX5_setMode_0 : decode cX5_setMode 0 = .ok (.aload_n 0, 1) := dk_42 (dk_at dksX5_setMode_0 0 rfl rfl)
theorem dX5_setMode_1 : decode cX5_setMode 1 = .ok (.iconst 0, 1) := dk_3 (dk_at dksX5_setMode_0 1 rfl rfl)
theorem dX5_setMode_2 : decode cX5_setMode 2 = .ok (.putfield 106, 3) := dk_181 0 106 (dk_at dksX5_setMode_0 2 rfl rfl)
theorem dX5_setMode_5 : decode cX5_setMode 5 = .ok (.iload_n 1, 1) := dk_27 (dk_at dksX5_setMode_0 5 rfl rfl)
theorem dX5_setMode_6 : decode cX5_setMode 6 = .ok (.ifCond .lt 8, 3) := dk_155 0 8 (dk_at dksX5_setMode_0 6 rfl rfl)
theorem dX5_setMode_9 : decode cX5_setMode 9 = .ok (.iload_n 1, 1) := dk_27 (dk_at dksX5_setMode_0 9 rfl rfl)
theorem dX5_setMode_10 : decode cX5_setMode 10 = .ok (.iconst 1, 1) := dk_4 (dk_at dksX5_setMode_0 10 rfl rfl)
theorem dX5_setMode_11 : decode cX5_setMode 11 = .ok (.if_icmp .le 9, 3) := dk_164 0 9 (dk_at dksX5_setMode_0 11 rfl rfl)
theorem dX5_setMode_14 : decode cX5_setMode 14 = .ok (.aload_n 0, 1) := dk_42 (dk_at dksX5_setMode_0 14 rfl rfl)
theorem dX5_setMode_15 : decode cX5_setMode 15 = .ok (.iconst 1, 1) := dk_4 (dk_at dksX5_setMode_0 15 rfl rfl)
theorem dX5_setMode_16 : decode cX5_setMode 16 = .ok (.invokevirtual 116, 3) := dk_182 0 116 (dk_at dksX5_setMode_0 16 rfl rfl)
theorem dX5_setMode_19 : decode cX5_setMode 19 = .ok (.ireturn, 1) := dk_172 (dk_at dksX5_setMode_0 19 rfl rfl)
theorem dX5_setMode_20 : decode cX5_setMode 20 = .ok (.aload_n 0, 1) := dk_42 (dk_at dksX5_setMode_0 20 rfl rfl)
theorem dX5_setMode_21 : decode cX5_setMode 21 = .ok (.invokevirtual 417, 3) := dk_182 1 161 (dk_at dksX5_setMode_0 21 rfl rfl)
theorem dX5_setMode_24 : decode cX5_setMode 24 = .ok (.aload_n 0, 1) := dk_42 (dk_at dksX5_setMode_1 0 rfl rfl)
theorem dX5_setMode_25 : decode cX5_setMode 25 = .ok (.getfield 29, 3) := dk_180 0 29 (dk_at dksX5_setMode_1 1 rfl rfl)
theorem dX5_setMode_28 : decode cX5_setMode 28 = .ok (.istore_n 2, 1) := dk_61 (dk_at dksX5_setMode_1 4 rfl rfl)
theorem dX5_setMode_29 : decode cX5_setMode 29 = .ok (.aload_n 0, 1) := dk_42 (dk_at dksX5_setMode_1 5 rfl rfl)
theorem dX5_setMode_30 : decode cX5_setMode 30 = .ok (.iload_n 1, 1) := dk_27 (dk_at dksX5_setMode_1 6 rfl rfl)
theorem dX5_setMode_31 : decode cX5_setMode 31 = .ok (.putfield 29, 3) := dk_181 0 29 (dk_at dksX5_setMode_1 7 rfl rfl)
theorem dX5_setMode_34 : decode cX5_setMode 34 = .ok (.aload_n 0, 1) := dk_42 (dk_at dksX5_setMode_1 10 rfl rfl)
theorem dX5_setMode_35 : decode cX5_setMode 35 = .ok (.invokevirtual 253, 3) := dk_182 0 253 (dk_at dksX5_setMode_1 11 rfl rfl)
theorem dX5_setMode_38 : decode cX5_setMode 38 = .ok (.iload_n 2, 1) := dk_28 (dk_at dksX5_setMode_1 14 rfl rfl)
theorem dX5_setMode_39 : decode cX5_setMode 39 = .ok (.ireturn, 1) := dk_172 (dk_at dksX5_setMode_1 15 rfl rfl)
abbrev cX5_setHunt : ByteArray := prog_12_method_84_code
def yX5_setHunt : MethodName := ⟨RX5, "setHunt", "(I)I"⟩
def dkwX5_setHunt_1 : List UInt8 := [42, 180, 0, 123, 61, 42, 27, 181, 0, 123, 28, 172]
abbrev dktX5_setHunt_1 : List UInt8 := dkwX5_setHunt_1 ++ []
def dkwX5_setHunt_0 : List UInt8 := [42, 3, 181, 0, 106, 27, 155, 0, 8, 27, 5, 164, 0, 9, 42, 4, 182, 0, 116, 172, 42, 182, 1, 161]
abbrev dktX5_setHunt_0 : List UInt8 := dkwX5_setHunt_0 ++ dktX5_setHunt_1
theorem dksX5_setHunt_0 : cX5_setHunt.data.toList.drop 0 = dktX5_setHunt_0 := by decide +kernel
theorem dksX5_setHunt_1 : cX5_setHunt.data.toList.drop 24 = dktX5_setHunt_1 := dk_seg dksX5_setHunt_0 24 rfl rfl
theorem dX5_setHunt_0 : decode cX5_setHunt 0 = .ok (.aload_n 0, 1) := dk_42 (dk_at dksX5_setHunt_0 0 rfl rfl)
theorem dX5_setHunt_1 : decode cX5_setHunt 1 = .ok (.iconst 0, 1) := dk_3 (dk_at dksX5_setHunt_0 1 rfl rfl)
theorem dX5_setHunt_2 : decode cX5_setHunt 2 = .ok (.putfield 106, 3) := dk_181 0 106 (dk_at dksX5_setHunt_0 2 rfl rfl)
theorem dX5_setHunt_5 : decode cX5_setHunt 5 = .ok (.iload_n 1, 1) := dk_27 (dk_at dksX5_setHunt_0 5 rfl rfl)
theorem dX5_setHunt_6 : decode cX5_setHunt 6 = .ok (.ifCond .lt 8, 3) := dk_155 0 8 (dk_at dksX5_setHunt_0 6 rfl rfl)
theorem dX5_setHunt_9 : decode cX5_setHunt 9 = .ok (.iload_n 1, 1) := dk_27 (dk_at dksX5_setHunt_0 9 rfl rfl)
theorem dX5_setHunt_10 : decode cX5_setHunt 10 = .ok (.iconst 2, 1) := dk_5 (dk_at dksX5_setHunt_0 10 rfl rfl)
theorem dX5_setHunt_11 : decode cX5_setHunt 11 = .ok (.if_icmp .le 9, 3) := dk_164 0 9 (dk_at dksX5_setHunt_0 11 rfl rfl)
theorem dX5_setHunt_14 : decode cX5_setHunt 14 = .ok (.aload_n 0, 1) := dk_42 (dk_at dksX5_setHunt_0 14 rfl rfl)
theorem dX5_setHunt_15 : decode cX5_setHunt 15 = .ok (.iconst 1, 1) := dk_4 (dk_at dksX5_setHunt_0 15 rfl rfl)
theorem dX5_setHunt_16 : decode cX5_setHunt 16 = .ok (.invokevirtual 116, 3) := dk_182 0 116 (dk_at dksX5_setHunt_0 16 rfl rfl)
theorem dX5_setHunt_19 : decode cX5_setHunt 19 = .ok (.ireturn, 1) := dk_172 (dk_at dksX5_setHunt_0 19 rfl rfl)
theorem dX5_setHunt_20 : decode cX5_setHunt 20 = .ok (.aload_n 0, 1) := dk_42 (dk_at dksX5_setHunt_0 20 rfl rfl)
theorem dX5_setHunt_21 : decode cX5_setHunt 21 = .ok (.invokevirtual 417, 3) := dk_182 1 161 (dk_at dksX5_setHunt_0 21 rfl rfl)
theorem dX5_setHunt_24 : decode cX5_setHunt 24 = .ok (.aload_n 0, 1) := dk_42 (dk_at dksX5_setHunt_1 0 rfl rfl)
theorem dX5_setHunt_25 : decode cX5_setHunt 25 = .ok (.getfield 123, 3) := dk_180 0 123 (dk_at dksX5_setHunt_1 1 rfl rfl)
theorem dX5_setHunt_28 : decode cX5_setHunt 28 = .ok (.istore_n 2, 1) := dk_61 (dk_at dksX5_setHunt_1 4 rfl rfl)
theorem dX5_setHunt_29 : decode cX5_setHunt 29 = .ok (.aload_n 0, 1) := dk_42 (dk_at dksX5_setHunt_1 5 rfl rfl)
theorem dX5_setHunt_30 : decode cX5_setHunt 30 = .ok (.iload_n 1, 1) := dk_27 (dk_at dksX5_setHunt_1 6 rfl rfl)
theorem dX5_setHunt_31 : decode cX5_setHunt 31 = .ok (.putfield 123, 3) := dk_181 0 123 (dk_at dksX5_setHunt_1 7 rfl rfl)
theorem dX5_setHunt_34 : decode cX5_setHunt 34 = .ok (.iload_n 2, 1) := dk_28 (dk_at dksX5_setHunt_1 10 rfl rfl)
theorem dX5_setHunt_35 : decode cX5_setHunt 35 = .ok (.ireturn, 1) := dk_172 (dk_at dksX5_setHunt_1 11 rfl rfl)
abbrev cX5_pack : ByteArray := prog_12_method_85_code
def yX5_pack : MethodName := ⟨RX5, "pack", "()I"⟩
def dkwX5_pack_0 : List UInt8 := [42, 3, 181, 0, 106, 42, 182, 1, 161, 42, 182, 1, 133, 60, 42, 182, 0, 253, 27, 172]
abbrev dktX5_pack_0 : List UInt8 := dkwX5_pack_0 ++ []
theorem dksX5_pack_0 : cX5_pack.data.toList.drop 0 = dktX5_pack_0 := by decide +kernel
theorem dX5_pack_0 : decode cX5_pack 0 = .ok (.aload_n 0, 1) := dk_42 (dk_at dksX5_pack_0 0 rfl rfl)
theorem dX5_pack_1 : decode cX5_pack 1 = .ok (.iconst 0, 1) := dk_3 (dk_at dksX5_pack_0 1 rfl rfl)
theorem dX5_pack_2 : decode cX5_pack 2 = .ok (.putfield 106, 3) := dk_181 0 106 (dk_at dksX5_pack_0 2 rfl rfl)
theorem dX5_pack_5 : decode cX5_pack 5 = .ok (.aload_n 0, 1) := dk_42 (dk_at dksX5_pack_0 5 rfl rfl)
theorem dX5_pack_6 : decode cX5_pack 6 = .ok (.invokevirtual 417, 3) := dk_182 1 161 (dk_at dksX5_pack_0 6 rfl rfl)
theorem dX5_pack_9 : decode cX5_pack 9 = .ok (.aload_n 0, 1) := dk_42 (dk_at dksX5_pack_0 9 rfl rfl)
theorem dX5_pack_10 : decode cX5_pack 10 = .ok (.invokevirtual 389, 3) := dk_182 1 133 (dk_at dksX5_pack_0 10 rfl rfl)
theorem dX5_pack_13 : decode cX5_pack 13 = .ok (.istore_n 1, 1) := dk_60 (dk_at dksX5_pack_0 13 rfl rfl)
theorem dX5_pack_14 : decode cX5_pack 14 = .ok (.aload_n 0, 1) := dk_42 (dk_at dksX5_pack_0 14 rfl rfl)
theorem dX5_pack_15 : decode cX5_pack 15 = .ok (.invokevirtual 253, 3) := dk_182 0 253 (dk_at dksX5_pack_0 15 rfl rfl)
theorem dX5_pack_18 : decode cX5_pack 18 = .ok (.iload_n 1, 1) := dk_27 (dk_at dksX5_pack_0 18 rfl rfl)
theorem dX5_pack_19 : decode cX5_pack 19 = .ok (.ireturn, 1) := dk_172 (dk_at dksX5_pack_0 19 rfl rfl)
abbrev cX5_undo : ByteArray := prog_12_method_86_code
def yX5_undo : MethodName := ⟨RX5, "undo", "()I"⟩
def dkwX5_undo_2 : List UInt8 := [172]
abbrev dktX5_undo_2 : List UInt8 := dkwX5_undo_2 ++ []
def dkwX5_undo_1 : List UInt8 := [100, 181, 0, 148, 42, 42, 180, 0, 151, 42, 180, 0, 148, 96, 16, 8, 112, 182, 1, 17, 42, 180, 0, 148]
abbrev dktX5_undo_1 : List UInt8 := dkwX5_undo_1 ++ dktX5_undo_2
def dkwX5_undo_0 : List UInt8 := [42, 3, 181, 0, 106, 42, 180, 0, 148, 154, 0, 9, 42, 4, 182, 0, 116, 172, 42, 89, 180, 0, 148, 4]
abbrev dktX5_undo_0 : List UInt8 := dkwX5_undo_0 ++ dktX5_undo_1
theorem dksX5_undo_0 : cX5_undo.data.toList.drop 0 = dktX5_undo_0 := by decide +kernel
theorem dksX5_undo_1 : cX5_undo.data.toList.drop 24 = dktX5_undo_1 := dk_seg dksX5_undo_0 24 rfl rfl
theorem dksX5_undo_2 : cX5_undo.data.toList.drop 48 = dktX5_undo_2 := dk_seg dksX5_undo_1 24 rfl rfl
theorem dX5_undo_0 : decode cX5_undo 0 = .ok (.aload_n 0, 1) := dk_42 (dk_at dksX5_undo_0 0 rfl rfl)
theorem dX5_undo_1 : decode cX5_undo 1 = .ok (.iconst 0, 1) := dk_3 (dk_at dksX5_undo_0 1 rfl rfl)
theorem dX5_undo_2 : decode cX5_undo 2 = .ok (.putfield 106, 3) := dk_181 0 106 (dk_at dksX5_undo_0 2 rfl rfl)
theorem dX5_undo_5 : decode cX5_undo 5 = .ok (.aload_n 0, 1) := dk_42 (dk_at dksX5_undo_0 5 rfl rfl)
theorem dX5_undo_6 : decode cX5_undo 6 = .ok (.getfield 148, 3) := dk_180 0 148 (dk_at dksX5_undo_0 6 rfl rfl)
theorem dX5_undo_9 : decode cX5_undo 9 = .ok (.ifCond .ne 9, 3) := dk_154 0 9 (dk_at dksX5_undo_0 9 rfl rfl)
theorem dX5_undo_12 : decode cX5_undo 12 = .ok (.aload_n 0, 1) := dk_42 (dk_at dksX5_undo_0 12 rfl rfl)
theorem dX5_undo_13 : decode cX5_undo 13 = .ok (.iconst 1, 1) := dk_4 (dk_at dksX5_undo_0 13 rfl rfl)
theorem dX5_undo_14 : decode cX5_undo 14 = .ok (.invokevirtual 116, 3) := dk_182 0 116 (dk_at dksX5_undo_0 14 rfl rfl)
theorem dX5_undo_17 : decode cX5_undo 17 = .ok (.ireturn, 1) := dk_172 (dk_at dksX5_undo_0 17 rfl rfl)
theorem dX5_undo_18 : decode cX5_undo 18 = .ok (.aload_n 0, 1) := dk_42 (dk_at dksX5_undo_0 18 rfl rfl)
theorem dX5_undo_19 : decode cX5_undo 19 = .ok (.dup, 1) := dk_89 (dk_at dksX5_undo_0 19 rfl rfl)
theorem dX5_undo_20 : decode cX5_undo 20 = .ok (.getfield 148, 3) := dk_180 0 148 (dk_at dksX5_undo_0 20 rfl rfl)
theorem dX5_undo_23 : decode cX5_undo 23 = .ok (.iconst 1, 1) := dk_4 (dk_at dksX5_undo_0 23 rfl rfl)
theorem dX5_undo_24 : decode cX5_undo 24 = .ok (.isub, 1) := dk_100 (dk_at dksX5_undo_1 0 rfl rfl)
theorem dX5_undo_25 : decode cX5_undo 25 = .ok (.putfield 148, 3) := dk_181 0 148 (dk_at dksX5_undo_1 1 rfl rfl)
theorem dX5_undo_28 : decode cX5_undo 28 = .ok (.aload_n 0, 1) := dk_42 (dk_at dksX5_undo_1 4 rfl rfl)
theorem dX5_undo_29 : decode cX5_undo 29 = .ok (.aload_n 0, 1) := dk_42 (dk_at dksX5_undo_1 5 rfl rfl)
theorem dX5_undo_30 : decode cX5_undo 30 = .ok (.getfield 151, 3) := dk_180 0 151 (dk_at dksX5_undo_1 6 rfl rfl)
theorem dX5_undo_33 : decode cX5_undo 33 = .ok (.aload_n 0, 1) := dk_42 (dk_at dksX5_undo_1 9 rfl rfl)
theorem dX5_undo_34 : decode cX5_undo 34 = .ok (.getfield 148, 3) := dk_180 0 148 (dk_at dksX5_undo_1 10 rfl rfl)
theorem dX5_undo_37 : decode cX5_undo 37 = .ok (.iadd, 1) := dk_96 (dk_at dksX5_undo_1 13 rfl rfl)
theorem dX5_undo_38 : decode cX5_undo 38 = .ok (.bipush 8, 2) := dk_16 8 (dk_at dksX5_undo_1 14 rfl rfl)
theorem dX5_undo_40 : decode cX5_undo 40 = .ok (.irem, 1) := dk_112 (dk_at dksX5_undo_1 16 rfl rfl)
theorem dX5_undo_41 : decode cX5_undo 41 = .ok (.invokevirtual 273, 3) := dk_182 1 17 (dk_at dksX5_undo_1 17 rfl rfl)
theorem dX5_undo_44 : decode cX5_undo 44 = .ok (.aload_n 0, 1) := dk_42 (dk_at dksX5_undo_1 20 rfl rfl)
theorem dX5_undo_45 : decode cX5_undo 45 = .ok (.getfield 148, 3) := dk_180 0 148 (dk_at dksX5_undo_1 21 rfl rfl)
theorem dX5_undo_48 : decode cX5_undo 48 = .ok (.ireturn, 1) := dk_172 (dk_at dksX5_undo_2 0 rfl rfl)
abbrev cX5_save : ByteArray := prog_12_method_87_code
def yX5_save : MethodName := ⟨RX5, "save", "(I)I"⟩
def dkwX5_save_1 : List UInt8 := [96, 182, 0, 158, 42, 180, 0, 87, 27, 4, 84, 42, 180, 0, 126, 172]
abbrev dktX5_save_1 : List UInt8 := dkwX5_save_1 ++ []
def dkwX5_save_0 : List UInt8 := [42, 3, 181, 0, 106, 27, 155, 0, 8, 27, 4, 164, 0, 9, 42, 4, 182, 0, 116, 172, 42, 16, 8, 27]
abbrev dktX5_save_0 : List UInt8 := dkwX5_save_0 ++ dktX5_save_1
theorem dksX5_save_0 : cX5_save.data.toList.drop 0 = dktX5_save_0 := by decide +kernel
theorem dksX5_save_1 : cX5_save.data.toList.drop 24 = dktX5_save_1 := dk_seg dksX5_save_0 24 rfl rfl
theorem dX5_save_0 : decode cX5_save 0 = .ok (.aload_n 0, 1) := dk_42 (dk_at dksX5_save_0 0 rfl rfl)
theorem dX5_save_1 : decode cX5_save 1 = .ok (.iconst 0, 1) := dk_3 (dk_at dksX5_save_0 1 rfl rfl)
theorem dX5_save_2 : decode cX5_save 2 = .ok (.putfield 106, 3) := dk_181 0 106 (dk_at dksX5_save_0 2 rfl rfl)
theorem dX5_save_5 : decode cX5_save 5 = .ok (.iload_n 1, 1) := dk_27 (dk_at dksX5_save_0 5 rfl rfl)
theorem dX5_save_6 : decode cX5_save 6 = .ok (.ifCond .lt 8, 3) := dk_155 0 8 (dk_at dksX5_save_0 6 rfl rfl)
theorem dX5_save_9 : decode cX5_save 9 = .ok (.iload_n 1, 1) := dk_27 (dk_at dksX5_save_0 9 rfl rfl)
theorem dX5_save_10 : decode cX5_save 10 = .ok (.iconst 1, 1) := dk_4 (dk_at dksX5_save_0 10 rfl rfl)
theorem dX5_save_11 : decode cX5_save 11 = .ok (.if_icmp .le 9, 3) := dk_164 0 9 (dk_at dksX5_save_0 11 rfl rfl)
theorem dX5_save_14 : decode cX5_save 14 = .ok (.aload_n 0, 1) := dk_42 (dk_at dksX5_save_0 14 rfl rfl)
theorem dX5_save_15 : decode cX5_save 15 = .ok (.iconst 1, 1) := dk_4 (dk_at dksX5_save_0 15 rfl rfl)
theorem dX5_save_16 : decode cX5_save 16 = .ok (.invokevirtual 116, 3) := dk_182 0 116 (dk_at dksX5_save_0 16 rfl rfl)
theorem dX5_save_19 : decode cX5_save 19 = .ok (.ireturn, 1) := dk_172 (dk_at dksX5_save_0 19 rfl rfl)
theorem dX5_save_20 : decode cX5_save 20 = .ok (.aload_n 0, 1) := dk_42 (dk_at dksX5_save_0 20 rfl rfl)
theorem dX5_save_21 : decode cX5_save 21 = .ok (.bipush 8, 2) := dk_16 8 (dk_at dksX5_save_0 21 rfl rfl)
theorem dX5_save_23 : decode cX5_save 23 = .ok (.iload_n 1, 1) := dk_27 (dk_at dksX5_save_0 23 rfl rfl)
theorem dX5_save_24 : decode cX5_save 24 = .ok (.iadd, 1) := dk_96 (dk_at dksX5_save_1 0 rfl rfl)
theorem dX5_save_25 : decode cX5_save 25 = .ok (.invokevirtual 158, 3) := dk_182 0 158 (dk_at dksX5_save_1 1 rfl rfl)
theorem dX5_save_28 : decode cX5_save 28 = .ok (.aload_n 0, 1) := dk_42 (dk_at dksX5_save_1 4 rfl rfl)
theorem dX5_save_29 : decode cX5_save 29 = .ok (.getfield 87, 3) := dk_180 0 87 (dk_at dksX5_save_1 5 rfl rfl)
theorem dX5_save_32 : decode cX5_save 32 = .ok (.iload_n 1, 1) := dk_27 (dk_at dksX5_save_1 8 rfl rfl)
theorem dX5_save_33 : decode cX5_save 33 = .ok (.iconst 1, 1) := dk_4 (dk_at dksX5_save_1 9 rfl rfl)
theorem dX5_save_34 : decode cX5_save 34 = .ok (.bastore, 1) := dk_84 (dk_at dksX5_save_1 10 rfl rfl)
theorem dX5_save_35 : decode cX5_save 35 = .ok (.aload_n 0, 1) := dk_42 (dk_at dksX5_save_1 11 rfl rfl)
theorem dX5_save_36 : decode cX5_save 36 = .ok (.getfield 126, 3) := dk_180 0 126 (dk_at dksX5_save_1 12 rfl rfl)
theorem dX5_save_39 : decode cX5_save 39 = .ok (.ireturn, 1) := dk_172 (dk_at dksX5_save_1 15 rfl rfl)
abbrev cX5_restore : ByteArray := prog_12_method_88_code
def yX5_restore : MethodName := ⟨RX5, "restore", "(I)I"⟩
def dkwX5_restore_2 : List UInt8 := [180, 0, 126, 172]
abbrev dktX5_restore_2 : List UInt8 := dkwX5_restore_2 ++ []
def dkwX5_restore_1 : List UInt8 := [27, 51, 154, 0, 9, 42, 5, 182, 0, 116, 172, 42, 182, 1, 161, 42, 16, 8, 27, 96, 182, 1, 17, 42]
abbrev dktX5_restore_1 : List UInt8 := dkwX5_restore_1 ++ dktX5_restore_2
def dkwX5_restore_0 : List UInt8 := [42, 3, 181, 0, 106, 27, 155, 0, 8, 27, 4, 164, 0, 9, 42, 4, 182, 0, 116, 172, 42, 180, 0, 87]
abbrev dktX5_restore_0 : List UInt8 := dkwX5_restore_0 ++ dktX5_restore_1
theorem dksX5_restore_0 : cX5_restore.data.toList.drop 0 = dktX5_restore_0 := by decide +kernel
theorem dksX5_restore_1 : cX5_restore.data.toList.drop 24 = dktX5_restore_1 := dk_seg dksX5_restore_0 24 rfl rfl
theorem dksX5_restore_2 : cX5_restore.data.toList.drop 48 = dktX5_restore_2 := dk_seg dksX5_restore_1 24 rfl rfl
theorem dX5_restore_0 : decode cX5_restore 0 = .ok (.aload_n 0, 1) := dk_42 (dk_at dksX5_restore_0 0 rfl rfl)
theorem dX5_restore_1 : decode cX5_restore 1 = .ok (.iconst 0, 1) := dk_3 (dk_at dksX5_restore_0 1 rfl rfl)
theorem dX5_restore_2 : decode cX5_restore 2 = .ok (.putfield 106, 3) := dk_181 0 106 (dk_at dksX5_restore_0 2 rfl rfl)
theorem dX5_restore_5 : decode cX5_restore 5 = .ok (.iload_n 1, 1) := dk_27 (dk_at dksX5_restore_0 5 rfl rfl)
theorem dX5_restore_6 : decode cX5_restore 6 = .ok (.ifCond .lt 8, 3) := dk_155 0 8 (dk_at dksX5_restore_0 6 rfl rfl)
theorem dX5_restore_9 : decode cX5_restore 9 = .ok (.iload_n 1, 1) := dk_27 (dk_at dksX5_restore_0 9 rfl rfl)
theorem dX5_restore_10 : decode cX5_restore 10 = .ok (.iconst 1, 1) := dk_4 (dk_at dksX5_restore_0 10 rfl rfl)
theorem dX5_restore_11 : decode cX5_restore 11 = .ok (.if_icmp .le 9, 3) := dk_164 0 9 (dk_at dksX5_restore_0 11 rfl rfl)
theorem dX5_restore_14 : decode cX5_restore 14 = .ok (.aload_n 0, 1) := dk_42 (dk_at dksX5_restore_0 14 rfl rfl)
theorem dX5_restore_15 : decode cX5_restore 15 = .ok (.iconst 1, 1) := dk_4 (dk_at dksX5_restore_0 15 rfl rfl)
theorem dX5_restore_16 : decode cX5_restore 16 = .ok (.invokevirtual 116, 3) := dk_182 0 116 (dk_at dksX5_restore_0 16 rfl rfl)
theorem dX5_restore_19 : decode cX5_restore 19 = .ok (.ireturn, 1) := dk_172 (dk_at dksX5_restore_0 19 rfl rfl)
theorem dX5_restore_20 : decode cX5_restore 20 = .ok (.aload_n 0, 1) := dk_42 (dk_at dksX5_restore_0 20 rfl rfl)
theorem dX5_restore_21 : decode cX5_restore 21 = .ok (.getfield 87, 3) := dk_180 0 87 (dk_at dksX5_restore_0 21 rfl rfl)
theorem dX5_restore_24 : decode cX5_restore 24 = .ok (.iload_n 1, 1) := dk_27 (dk_at dksX5_restore_1 0 rfl rfl)
theorem dX5_restore_25 : decode cX5_restore 25 = .ok (.baload, 1) := dk_51 (dk_at dksX5_restore_1 1 rfl rfl)
theorem dX5_restore_26 : decode cX5_restore 26 = .ok (.ifCond .ne 9, 3) := dk_154 0 9 (dk_at dksX5_restore_1 2 rfl rfl)
theorem dX5_restore_29 : decode cX5_restore 29 = .ok (.aload_n 0, 1) := dk_42 (dk_at dksX5_restore_1 5 rfl rfl)
theorem dX5_restore_30 : decode cX5_restore 30 = .ok (.iconst 2, 1) := dk_5 (dk_at dksX5_restore_1 6 rfl rfl)
theorem dX5_restore_31 : decode cX5_restore 31 = .ok (.invokevirtual 116, 3) := dk_182 0 116 (dk_at dksX5_restore_1 7 rfl rfl)
theorem dX5_restore_34 : decode cX5_restore 34 = .ok (.ireturn, 1) := dk_172 (dk_at dksX5_restore_1 10 rfl rfl)
theorem dX5_restore_35 : decode cX5_restore 35 = .ok (.aload_n 0, 1) := dk_42 (dk_at dksX5_restore_1 11 rfl rfl)
theorem dX5_restore_36 : decode cX5_restore 36 = .ok (.invokevirtual 417, 3) := dk_182 1 161 (dk_at dksX5_restore_1 12 rfl rfl)
theorem dX5_restore_39 : decode cX5_restore 39 = .ok (.aload_n 0, 1) := dk_42 (dk_at dksX5_restore_1 15 rfl rfl)
theorem dX5_restore_40 : decode cX5_restore 40 = .ok (.bipush 8, 2) := dk_16 8 (dk_at dksX5_restore_1 16 rfl rfl)
theorem dX5_restore_42 : decode cX5_restore 42 = .ok (.iload_n 1, 1) := dk_27 (dk_at dksX5_restore_1 18 rfl rfl)
theorem dX5_restore_43 : decode cX5_restore 43 = .ok (.iadd, 1) := dk_96 (dk_at dksX5_restore_1 19 rfl rfl)
theorem dX5_restore_44 : decode cX5_restore 44 = .ok (.invokevirtual 273, 3) := dk_182 1 17 (dk_at dksX5_restore_1 20 rfl rfl)
theorem dX5_restore_47 : decode cX5_restore 47 = .ok (.aload_n 0, 1) := dk_42 (dk_at dksX5_restore_1 23 rfl rfl)
theorem dX5_restore_48 : decode cX5_restore 48 = .ok (.getfield 126, 3) := dk_180 0 126 (dk_at dksX5_restore_2 0 rfl rfl)
theorem dX5_restore_51 : decode cX5_restore 51 = .ok (.ireturn, 1) := dk_172 (dk_at dksX5_restore_2 3 rfl rfl)
abbrev cX5_count : ByteArray := prog_12_method_91_code
def yX5_count : MethodName := ⟨RX5, "count", "(I)I"⟩
def dkwX5_count_5 : List UInt8 := [42, 180, 0, 129, 172, 42, 4, 182, 0, 116, 172]
abbrev dktX5_count_5 : List UInt8 := dkwX5_count_5 ++ []
def dkwX5_count_4 : List UInt8 := [180, 0, 123, 172, 42, 180, 0, 32, 172, 42, 180, 0, 103, 172, 42, 180, 0, 148, 172, 42, 180, 0, 109, 172]
abbrev dktX5_count_4 : List UInt8 := dkwX5_count_4 ++ dktX5_count_5
def dkwX5_count_3 : List UInt8 := [172, 42, 180, 0, 135, 172, 42, 182, 1, 176, 172, 42, 180, 0, 126, 172, 42, 180, 0, 29, 172, 42]
abbrev dktX5_count_3 : List UInt8 := dkwX5_count_3 ++ dktX5_count_4
def dkwX5_count_2 : List UInt8 := [42, 180, 0, 20, 172, 42, 180, 0, 23, 172, 42, 180, 0, 26, 172, 42, 182, 1, 170, 172, 42, 180, 0, 132]
abbrev dktX5_count_2 : List UInt8 := dkwX5_count_2 ++ dktX5_count_3
def dkwX5_count_1 : List UInt8 := [170, 0, 0, 0, 0, 149, 0, 0, 0, 0, 0, 0, 0, 14, 0, 0, 0, 74, 0, 0, 0, 79, 0, 0, 0, 84, 0, 0, 0, 89, 0, 0, 0, 94, 0, 0, 0, 99, 0, 0, 0, 104, 0, 0, 0, 109, 0, 0, 0, 114, 0, 0, 0, 119, 0, 0, 0, 124, 0, 0, 0, 129, 0, 0, 0, 134, 0, 0, 0, 139, 0, 0, 0, 144]
abbrev dktX5_count_1 : List UInt8 := dkwX5_count_1 ++ dktX5_count_2
def dkwX5_count_0 : List UInt8 := [42, 3, 181, 0, 106, 27]
abbrev dktX5_count_0 : List UInt8 := dkwX5_count_0 ++ dktX5_count_1
theorem dksX5_count_0 : cX5_count.data.toList.drop 0 = dktX5_count_0 := by decide +kernel
theorem dksX5_count_1 : cX5_count.data.toList.drop 6 = dktX5_count_1 := dk_seg dksX5_count_0 6 rfl rfl
theorem dksX5_count_2 : cX5_count.data.toList.drop 80 = dktX5_count_2 := dk_seg dksX5_count_1 74 rfl rfl
theorem dksX5_count_3 : cX5_count.data.toList.drop 104 = dktX5_count_3 := dk_seg dksX5_count_2 24 rfl rfl
theorem dksX5_count_4 : cX5_count.data.toList.drop 126 = dktX5_count_4 := dk_seg dksX5_count_3 22 rfl rfl
theorem dksX5_count_5 : cX5_count.data.toList.drop 150 = dktX5_count_5 := dk_seg dksX5_count_4 24 rfl rfl
theorem dX5_count_0 : decode cX5_count 0 = .ok (.aload_n 0, 1) := dk_42 (dk_at dksX5_count_0 0 rfl rfl)
theorem dX5_count_1 : decode cX5_count 1 = .ok (.iconst 0, 1) := dk_3 (dk_at dksX5_count_0 1 rfl rfl)
theorem dX5_count_2 : decode cX5_count 2 = .ok (.putfield 106, 3) := dk_181 0 106 (dk_at dksX5_count_0 2 rfl rfl)
theorem dX5_count_5 : decode cX5_count 5 = .ok (.iload_n 1, 1) := dk_27 (dk_at dksX5_count_0 5 rfl rfl)
theorem dX5_count_6 : decode cX5_count 6 = .ok (.tableswitch 149 0 14 #[74, 79, 84, 89, 94, 99, 104, 109, 114, 119, 124, 129, 134, 139, 144], 74) := by decide +kernel
theorem dX5_count_80 : decode cX5_count 80 = .ok (.aload_n 0, 1) := dk_42 (dk_at dksX5_count_2 0 rfl rfl)
theorem dX5_count_81 : decode cX5_count 81 = .ok (.getfield 20, 3) := dk_180 0 20 (dk_at dksX5_count_2 1 rfl rfl)
theorem dX5_count_84 : decode cX5_count 84 = .ok (.ireturn, 1) := dk_172 (dk_at dksX5_count_2 4 rfl rfl)
theorem dX5_count_85 : decode cX5_count 85 = .ok (.aload_n 0, 1) := dk_42 (dk_at dksX5_count_2 5 rfl rfl)
theorem dX5_count_86 : decode cX5_count 86 = .ok (.getfield 23, 3) := dk_180 0 23 (dk_at dksX5_count_2 6 rfl rfl)
theorem dX5_count_89 : decode cX5_count 89 = .ok (.ireturn, 1) := dk_172 (dk_at dksX5_count_2 9 rfl rfl)
theorem dX5_count_90 : decode cX5_count 90 = .ok (.aload_n 0, 1) := dk_42 (dk_at dksX5_count_2 10 rfl rfl)
theorem dX5_count_91 : decode cX5_count 91 = .ok (.getfield 26, 3) := dk_180 0 26 (dk_at dksX5_count_2 11 rfl rfl)
theorem dX5_count_94 : decode cX5_count 94 = .ok (.ireturn, 1) := dk_172 (dk_at dksX5_count_2 14 rfl rfl)
theorem dX5_count_95 : decode cX5_count 95 = .ok (.aload_n 0, 1) := dk_42 (dk_at dksX5_count_2 15 rfl rfl)
theorem dX5_count_96 : decode cX5_count 96 = .ok (.invokevirtual 426, 3) := dk_182 1 170 (dk_at dksX5_count_2 16 rfl rfl)
theorem dX5_count_99 : decode cX5_count 99 = .ok (.ireturn, 1) := dk_172 (dk_at dksX5_count_2 19 rfl rfl)
theorem dX5_count_100 : decode cX5_count 100 = .ok (.aload_n 0, 1) := dk_42 (dk_at dksX5_count_2 20 rfl rfl)
theorem dX5_count_101 : decode cX5_count 101 = .ok (.getfield 132, 3) := dk_180 0 132 (dk_at dksX5_count_2 21 rfl rfl)
theorem dX5_count_104 : decode cX5_count 104 = .ok (.ireturn, 1) := dk_172 (dk_at dksX5_count_3 0 rfl rfl)
theorem dX5_count_105 : decode cX5_count 105 = .ok (.aload_n 0, 1) := dk_42 (dk_at dksX5_count_3 1 rfl rfl)
theorem dX5_count_106 : decode cX5_count 106 = .ok (.getfield 135, 3) := dk_180 0 135 (dk_at dksX5_count_3 2 rfl rfl)
theorem dX5_count_109 : decode cX5_count 109 = .ok (.ireturn, 1) := dk_172 (dk_at dksX5_count_3 5 rfl rfl)
theorem dX5_count_110 : decode cX5_count 110 = .ok (.aload_n 0, 1) := dk_42 (dk_at dksX5_count_3 6 rfl rfl)
theorem dX5_count_111 : decode cX5_count 111 = .ok (.invokevirtual 432, 3) := dk_182 1 176 (dk_at dksX5_count_3 7 rfl rfl)
theorem dX5_count_114 : decode cX5_count 114 = .ok (.ireturn, 1) := dk_172 (dk_at dksX5_count_3 10 rfl rfl)
theorem dX5_count_115 : decode cX5_count 115 = .ok (.aload_n 0, 1) := dk_42 (dk_at dksX5_count_3 11 rfl rfl)
theorem dX5_count_116 : decode cX5_count 116 = .ok (.getfield 126, 3) := dk_180 0 126 (dk_at dksX5_count_3 12 rfl rfl)
theorem dX5_count_119 : decode cX5_count 119 = .ok (.ireturn, 1) := dk_172 (dk_at dksX5_count_3 15 rfl rfl)
theorem dX5_count_120 : decode cX5_count 120 = .ok (.aload_n 0, 1) := dk_42 (dk_at dksX5_count_3 16 rfl rfl)
theorem dX5_count_121 : decode cX5_count 121 = .ok (.getfield 29, 3) := dk_180 0 29 (dk_at dksX5_count_3 17 rfl rfl)
theorem dX5_count_124 : decode cX5_count 124 = .ok (.ireturn, 1) := dk_172 (dk_at dksX5_count_3 20 rfl rfl)
theorem dX5_count_125 : decode cX5_count 125 = .ok (.aload_n 0, 1) := dk_42 (dk_at dksX5_count_3 21 rfl rfl)
theorem dX5_count_126 : decode cX5_count 126 = .ok (.getfield 123, 3) := dk_180 0 123 (dk_at dksX5_count_4 0 rfl rfl)
theorem dX5_count_129 : decode cX5_count 129 = .ok (.ireturn, 1) := dk_172 (dk_at dksX5_count_4 3 rfl rfl)
theorem dX5_count_130 : decode cX5_count 130 = .ok (.aload_n 0, 1) := dk_42 (dk_at dksX5_count_4 4 rfl rfl)
theorem dX5_count_131 : decode cX5_count 131 = .ok (.getfield 32, 3) := dk_180 0 32 (dk_at dksX5_count_4 5 rfl rfl)
theorem dX5_count_134 : decode cX5_count 134 = .ok (.ireturn, 1) := dk_172 (dk_at dksX5_count_4 8 rfl rfl)
theorem dX5_count_135 : decode cX5_count 135 = .ok (.aload_n 0, 1) := dk_42 (dk_at dksX5_count_4 9 rfl rfl)
theorem dX5_count_136 : decode cX5_count 136 = .ok (.getfield 103, 3) := dk_180 0 103 (dk_at dksX5_count_4 10 rfl rfl)
theorem dX5_count_139 : decode cX5_count 139 = .ok (.ireturn, 1) := dk_172 (dk_at dksX5_count_4 13 rfl rfl)
theorem dX5_count_140 : decode cX5_count 140 = .ok (.aload_n 0, 1) := dk_42 (dk_at dksX5_count_4 14 rfl rfl)
theorem dX5_count_141 : decode cX5_count 141 = .ok (.getfield 148, 3) := dk_180 0 148 (dk_at dksX5_count_4 15 rfl rfl)
theorem dX5_count_144 : decode cX5_count 144 = .ok (.ireturn, 1) := dk_172 (dk_at dksX5_count_4 18 rfl rfl)
theorem dX5_count_145 : decode cX5_count 145 = .ok (.aload_n 0, 1) := dk_42 (dk_at dksX5_count_4 19 rfl rfl)
theorem dX5_count_146 : decode cX5_count 146 = .ok (.getfield 109, 3) := dk_180 0 109 (dk_at dksX5_count_4 20 rfl rfl)
theorem dX5_count_149 : decode cX5_count 149 = .ok (.ireturn, 1) := dk_172 (dk_at dksX5_count_4 23 rfl rfl)
theorem dX5_count_150 : decode cX5_count 150 = .ok (.aload_n 0, 1) := dk_42 (dk_at dksX5_count_5 0 rfl rfl)
theorem dX5_count_151 : decode cX5_count 151 = .ok (.getfield 129, 3) := dk_180 0 129 (dk_at dksX5_count_5 1 rfl rfl)
theorem dX5_count_154 : decode cX5_count 154 = .ok (.ireturn, 1) := dk_172 (dk_at dksX5_count_5 4 rfl rfl)
theorem dX5_count_155 : decode cX5_count 155 = .ok (.aload_n 0, 1) := dk_42 (dk_at dksX5_count_5 5 rfl rfl)
theorem dX5_count_156 : decode cX5_count 156 = .ok (.iconst 1, 1) := dk_4 (dk_at dksX5_count_5 6 rfl rfl)
theorem dX5_count_157 : decode cX5_count 157 = .ok (.invokevirtual 116, 3) := dk_182 0 116 (dk_at dksX5_count_5 7 rfl rfl)
theorem dX5_count_160 : decode cX5_count 160 = .ok (.ireturn, 1) := dk_172 (dk_at dksX5_count_5 10 rfl rfl)
abbrev cX5_idleInAll : ByteArray := prog_12_method_90_code
def yX5_idleInAll : MethodName := ⟨RX5, "idleInAll", "()I"⟩
def dkwX5_idleInAll_1 : List UInt8 := [167, 255, 237, 27, 172]
abbrev dktX5_idleInAll_1 : List UInt8 := dkwX5_idleInAll_1 ++ []
def dkwX5_idleInAll_0 : List UInt8 := [3, 60, 3, 61, 28, 42, 180, 0, 20, 162, 0, 17, 27, 42, 28, 182, 1, 173, 96, 60, 132, 2, 1]
abbrev dktX5_idleInAll_0 : List UInt8 := dkwX5_idleInAll_0 ++ dktX5_idleInAll_1
theorem dksX5_idleInAll_0 : cX5_idleInAll.data.toList.drop 0 = dktX5_idleInAll_0 := by decide +kernel
theorem dksX5_idleInAll_1 : cX5_idleInAll.data.toList.drop 23 = dktX5_idleInAll_1 := dk_seg dksX5_idleInAll_0 23 rfl rfl
theorem dX5_idleInAll_0 : decode cX5_idleInAll 0 = .ok (.iconst 0, 1) := dk_3 (dk_at dksX5_idleInAll_0 0 rfl rfl)
theorem dX5_idleInAll_1 : decode cX5_idleInAll 1 = .ok (.istore_n 1, 1) := dk_60 (dk_at dksX5_idleInAll_0 1 rfl rfl)
theorem dX5_idleInAll_2 : decode cX5_idleInAll 2 = .ok (.iconst 0, 1) := dk_3 (dk_at dksX5_idleInAll_0 2 rfl rfl)
theorem dX5_idleInAll_3 : decode cX5_idleInAll 3 = .ok (.istore_n 2, 1) := dk_61 (dk_at dksX5_idleInAll_0 3 rfl rfl)
theorem dX5_idleInAll_4 : decode cX5_idleInAll 4 = .ok (.iload_n 2, 1) := dk_28 (dk_at dksX5_idleInAll_0 4 rfl rfl)
theorem dX5_idleInAll_5 : decode cX5_idleInAll 5 = .ok (.aload_n 0, 1) := dk_42 (dk_at dksX5_idleInAll_0 5 rfl rfl)
theorem dX5_idleInAll_6 : decode cX5_idleInAll 6 = .ok (.getfield 20, 3) := dk_180 0 20 (dk_at dksX5_idleInAll_0 6 rfl rfl)
theorem dX5_idleInAll_9 : decode cX5_idleInAll 9 = .ok (.if_icmp .ge 17, 3) := dk_162 0 17 (dk_at dksX5_idleInAll_0 9 rfl rfl)
theorem dX5_idleInAll_12 : decode cX5_idleInAll 12 = .ok (.iload_n 1, 1) := dk_27 (dk_at dksX5_idleInAll_0 12 rfl rfl)
theorem dX5_idleInAll_13 : decode cX5_idleInAll 13 = .ok (.aload_n 0, 1) := dk_42 (dk_at dksX5_idleInAll_0 13 rfl rfl)
theorem dX5_idleInAll_14 : decode cX5_idleInAll 14 = .ok (.iload_n 2, 1) := dk_28 (dk_at dksX5_idleInAll_0 14 rfl rfl)
theorem dX5_idleInAll_15 : decode cX5_idleInAll 15 = .ok (.invokevirtual 429, 3) := dk_182 1 173 (dk_at dksX5_idleInAll_0 15 rfl rfl)
theorem dX5_idleInAll_18 : decode cX5_idleInAll 18 = .ok (.iadd, 1) := dk_96 (dk_at dksX5_idleInAll_0 18 rfl rfl)
theorem dX5_idleInAll_19 : decode cX5_idleInAll 19 = .ok (.istore_n 1, 1) := dk_60 (dk_at dksX5_idleInAll_0 19 rfl rfl)
theorem dX5_idleInAll_20 : decode cX5_idleInAll 20 = .ok (.iinc 2 1, 3) := dk_132 2 1 (dk_at dksX5_idleInAll_0 20 rfl rfl)
theorem dX5_idleInAll_23 : decode cX5_idleInAll 23 = .ok (.goto (-19), 3) := dk_167 255 237 (dk_at dksX5_idleInAll_1 0 rfl rfl)
theorem dX5_idleInAll_26 : decode cX5_idleInAll 26 = .ok (.iload_n 1, 1) := dk_27 (dk_at dksX5_idleInAll_1 3 rfl rfl)
theorem dX5_idleInAll_27 : decode cX5_idleInAll 27 = .ok (.ireturn, 1) := dk_172 (dk_at dksX5_idleInAll_1 4 rfl rfl)
abbrev cX5_idleAt : ByteArray := prog_12_method_89_code
def yX5_idleAt : MethodName := ⟨RX5, "idleAt", "(I)I"⟩
def dkwX5_idleAt_1 : List UInt8 := [182, 0, 224, 153, 0, 7, 4, 167, 0, 4, 3, 96, 61, 132, 3, 1, 167, 255, 222, 28, 172]
abbrev dktX5_idleAt_1 : List UInt8 := dkwX5_idleAt_1 ++ []
def dkwX5_idleAt_0 : List UInt8 := [3, 61, 3, 62, 29, 42, 180, 0, 23, 162, 0, 32, 28, 42, 27, 42, 180, 0, 23, 104, 29, 96]
abbrev dktX5_idleAt_0 : List UInt8 := dkwX5_idleAt_0 ++ dktX5_idleAt_1
theorem dksX5_idleAt_0 : cX5_idleAt.data.toList.drop 0 = dktX5_idleAt_0 := by decide +kernel
theorem dksX5_idleAt_1 : cX5_idleAt.data.toList.drop 22 = dktX5_idleAt_1 := dk_seg dksX5_idleAt_0 22 rfl rfl
theorem dX5_idleAt_0 : decode cX5_idleAt 0 = .ok (.iconst 0, 1) := dk_3 (dk_at dksX5_idleAt_0 0 rfl rfl)
theorem dX5_idleAt_1 : decode cX5_idleAt 1 = .ok (.istore_n 2, 1) := dk_61 (dk_at dksX5_idleAt_0 1 rfl rfl)
theorem dX5_idleAt_2 : decode cX5_idleAt 2 = .ok (.iconst 0, 1) := dk_3 (dk_at dksX5_idleAt_0 2 rfl rfl)
theorem dX5_idleAt_3 : decode cX5_idleAt 3 = .ok (.istore_n 3, 1) := dk_62 (dk_at dksX5_idleAt_0 3 rfl rfl)
theorem dX5_idleAt_4 : decode cX5_idleAt 4 = .ok (.iload_n 3, 1) := dk_29 (dk_at dksX5_idleAt_0 4 rfl rfl)
theorem dX5_idleAt_5 : decode cX5_idleAt 5 = .ok (.aload_n 0, 1) := dk_42 (dk_at dksX5_idleAt_0 5 rfl rfl)
theorem dX5_idleAt_6 : decode cX5_idleAt 6 = .ok (.getfield 23, 3) := dk_180 0 23 (dk_at dksX5_idleAt_0 6 rfl rfl)
theorem dX5_idleAt_9 : decode cX5_idleAt 9 = .ok (.if_icmp .ge 32, 3) := dk_162 0 32 (dk_at dksX5_idleAt_0 9 rfl rfl)
theorem dX5_idleAt_12 : decode cX5_idleAt 12 = .ok (.iload_n 2, 1) := dk_28 (dk_at dksX5_idleAt_0 12 rfl rfl)
theorem dX5_idleAt_13 : decode cX5_idleAt 13 = .ok (.aload_n 0, 1) := dk_42 (dk_at dksX5_idleAt_0 13 rfl rfl)
theorem dX5_idleAt_14 : decode cX5_idleAt 14 = .ok (.iload_n 1, 1) := dk_27 (dk_at dksX5_idleAt_0 14 rfl rfl)
theorem dX5_idleAt_15 : decode cX5_idleAt 15 = .ok (.aload_n 0, 1) := dk_42 (dk_at dksX5_idleAt_0 15 rfl rfl)
theorem dX5_idleAt_16 : decode cX5_idleAt 16 = .ok (.getfield 23, 3) := dk_180 0 23 (dk_at dksX5_idleAt_0 16 rfl rfl)
theorem dX5_idleAt_19 : decode cX5_idleAt 19 = .ok (.imul, 1) := dk_104 (dk_at dksX5_idleAt_0 19 rfl rfl)
theorem dX5_idleAt_20 : decode cX5_idleAt 20 = .ok (.iload_n 3, 1) := dk_29 (dk_at dksX5_idleAt_0 20 rfl rfl)
theorem dX5_idleAt_21 : decode cX5_idleAt 21 = .ok (.iadd, 1) := dk_96 (dk_at dksX5_idleAt_0 21 rfl rfl)
theorem dX5_idleAt_22 : decode cX5_idleAt 22 = .ok (.invokevirtual 224, 3) := dk_182 0 224 (dk_at dksX5_idleAt_1 0 rfl rfl)
theorem dX5_idleAt_25 : decode cX5_idleAt 25 = .ok (.ifCond .eq 7, 3) := dk_153 0 7 (dk_at dksX5_idleAt_1 3 rfl rfl)
theorem dX5_idleAt_28 : decode cX5_idleAt 28 = .ok (.iconst 1, 1) := dk_4 (dk_at dksX5_idleAt_1 6 rfl rfl)
theorem dX5_idleAt_29 : decode cX5_idleAt 29 = .ok (.goto 4, 3) := dk_167 0 4 (dk_at dksX5_idleAt_1 7 rfl rfl)
theorem dX5_idleAt_32 : decode cX5_idleAt 32 = .ok (.iconst 0, 1) := dk_3 (dk_at dksX5_idleAt_1 10 rfl rfl)
theorem dX5_idleAt_33 : decode cX5_idleAt 33 = .ok (.iadd, 1) := dk_96 (dk_at dksX5_idleAt_1 11 rfl rfl)
theorem dX5_idleAt_34 : decode cX5_idleAt 34 = .ok (.istore_n 2, 1) := dk_61 (dk_at dksX5_idleAt_1 12 rfl rfl)
theorem dX5_idleAt_35 : decode cX5_idleAt 35 = .ok (.iinc 3 1, 3) := dk_132 3 1 (dk_at dksX5_idleAt_1 13 rfl rfl)
theorem dX5_idleAt_38 : decode cX5_idleAt 38 = .ok (.goto (-34), 3) := dk_167 255 222 (dk_at dksX5_idleAt_1 16 rfl rfl)
theorem dX5_idleAt_41 : decode cX5_idleAt 41 = .ok (.iload_n 2, 1) := dk_28 (dk_at dksX5_idleAt_1 19 rfl rfl)
theorem dX5_idleAt_42 : decode cX5_idleAt 42 = .ok (.ireturn, 1) := dk_172 (dk_at dksX5_idleAt_1 20 rfl rfl)
abbrev cX5_account : ByteArray := prog_12_method_92_code
def yX5_account : MethodName := ⟨RX5, "account", "(I)I"⟩
def dkwX5_account_1 : List UInt8 := [180, 0, 81, 27, 46, 172]
abbrev dktX5_account_1 : List UInt8 := dkwX5_account_1 ++ []
def dkwX5_account_0 : List UInt8 := [42, 3, 181, 0, 106, 27, 155, 0, 9, 27, 16, 13, 161, 0, 9, 42, 4, 182, 0, 116, 172, 42]
abbrev dktX5_account_0 : List UInt8 := dkwX5_account_0 ++ dktX5_account_1
theorem dksX5_account_0 : cX5_account.data.toList.drop 0 = dktX5_account_0 := by decide +kernel
theorem dksX5_account_1 : cX5_account.data.toList.drop 22 = dktX5_account_1 := dk_seg dksX5_account_0 22 rfl rfl
theorem dX5_account_0 : decode cX5_account 0 = .ok (.aload_n 0, 1) := dk_42 (dk_at dksX5_account_0 0 rfl rfl)
theorem dX5_account_1 : decode cX5_account 1 = .ok (.iconst 0, 1) := dk_3 (dk_at dksX5_account_0 1 rfl rfl)
theorem dX5_account_2 : decode cX5_account 2 = .ok (.putfield 106, 3) := dk_181 0 106 (dk_at dksX5_account_0 2 rfl rfl)
theorem dX5_account_5 : decode cX5_account 5 = .ok (.iload_n 1, 1) := dk_27 (dk_at dksX5_account_0 5 rfl rfl)
theorem dX5_account_6 : decode cX5_account 6 = .ok (.ifCond .lt 9, 3) := dk_155 0 9 (dk_at dksX5_account_0 6 rfl rfl)
theorem dX5_account_9 : decode cX5_account 9 = .ok (.iload_n 1, 1) := dk_27 (dk_at dksX5_account_0 9 rfl rfl)
theorem dX5_account_10 : decode cX5_account 10 = .ok (.bipush 13, 2) := dk_16 13 (dk_at dksX5_account_0 10 rfl rfl)
theorem dX5_account_12 : decode cX5_account 12 = .ok (.if_icmp .lt 9, 3) := dk_161 0 9 (dk_at dksX5_account_0 12 rfl rfl)
theorem dX5_account_15 : decode cX5_account 15 = .ok (.aload_n 0, 1) := dk_42 (dk_at dksX5_account_0 15 rfl rfl)
theorem dX5_account_16 : decode cX5_account 16 = .ok (.iconst 1, 1) := dk_4 (dk_at dksX5_account_0 16 rfl rfl)
theorem dX5_account_17 : decode cX5_account 17 = .ok (.invokevirtual 116, 3) := dk_182 0 116 (dk_at dksX5_account_0 17 rfl rfl)
theorem dX5_account_20 : decode cX5_account 20 = .ok (.ireturn, 1) := dk_172 (dk_at dksX5_account_0 20 rfl rfl)
theorem dX5_account_21 : decode cX5_account 21 = .ok (.aload_n 0, 1) := dk_42 (dk_at dksX5_account_0 21 rfl rfl)
theorem dX5_account_22 : decode cX5_account 22 = .ok (.getfield 81, 3) := dk_180 0 81 (dk_at dksX5_account_1 0 rfl rfl)
theorem dX5_account_25 : decode cX5_account 25 = .ok (.iload_n 1, 1) := dk_27 (dk_at dksX5_account_1 3 rfl rfl)
theorem dX5_account_26 : decode cX5_account 26 = .ok (.iaload, 1) := dk_46 (dk_at dksX5_account_1 4 rfl rfl)
theorem dX5_account_27 : decode cX5_account 27 = .ok (.ireturn, 1) := dk_172 (dk_at dksX5_account_1 5 rfl rfl)
abbrev cX5_subscriber : ByteArray := prog_12_method_94_code
def yX5_subscriber : MethodName := ⟨RX5, "subscriber", "(II)I"⟩
def dkwX5_subscriber_10 : List UInt8 := [172, 42, 5, 182, 0, 116, 172]
abbrev dktX5_subscriber_10 : List UInt8 := dkwX5_subscriber_10 ++ []
def dkwX5_subscriber_9 : List UInt8 := [21, 6, 182, 1, 179, 153, 0, 7, 4, 167, 0, 4, 3, 96, 54, 5, 132, 6, 1, 167, 255, 224, 21, 5]
abbrev dktX5_subscriber_9 : List UInt8 := dkwX5_subscriber_9 ++ dktX5_subscriber_10
def dkwX5_subscriber_8 : List UInt8 := [21, 4, 46, 172, 3, 54, 5, 3, 54, 6, 21, 6, 42, 180, 0, 103, 162, 0, 29, 21, 5, 42, 27]
abbrev dktX5_subscriber_8 : List UInt8 := dkwX5_subscriber_8 ++ dktX5_subscriber_9
def dkwX5_subscriber_7 : List UInt8 := [160, 0, 7, 4, 167, 0, 4, 3, 172, 21, 4, 2, 160, 0, 7, 2, 167, 0, 10, 42, 180, 0, 60]
abbrev dktX5_subscriber_7 : List UInt8 := dkwX5_subscriber_7 ++ dktX5_subscriber_8
def dkwX5_subscriber_6 : List UInt8 := [167, 0, 9, 42, 180, 0, 39, 29, 46, 172, 29, 2, 159, 0, 17, 42, 180, 0, 39, 29, 46, 27]
abbrev dktX5_subscriber_6 : List UInt8 := dkwX5_subscriber_6 ++ dktX5_subscriber_7
def dkwX5_subscriber_5 : List UInt8 := [160, 0, 7, 2, 167, 0, 28, 42, 180, 0, 39, 29, 46, 27, 160, 0, 12, 42, 180, 0, 42, 29, 46]
abbrev dktX5_subscriber_5 : List UInt8 := dkwX5_subscriber_5 ++ dktX5_subscriber_6
def dkwX5_subscriber_4 : List UInt8 := [180, 0, 23, 108, 172, 29, 2, 160, 0, 7, 2, 167, 0, 9, 42, 180, 0, 35, 29, 46, 172, 29, 2]
abbrev dktX5_subscriber_4 : List UInt8 := dkwX5_subscriber_4 ++ dktX5_subscriber_5
def dkwX5_subscriber_3 : List UInt8 := [29, 2, 159, 0, 7, 4, 167, 0, 14, 21, 4, 2, 159, 0, 7, 5, 167, 0, 4, 3, 172, 27, 42]
abbrev dktX5_subscriber_3 : List UInt8 := dkwX5_subscriber_3 ++ dktX5_subscriber_4
def dkwX5_subscriber_2 : List UInt8 := [170, 0, 0, 0, 0, 0, 205, 0, 0, 0, 0, 0, 0, 0, 6, 0, 0, 0, 43, 0, 0, 0, 64, 0, 0, 0, 71, 0, 0, 0, 87, 0, 0, 0, 122, 0, 0, 0, 143, 0, 0, 0, 161]
abbrev dktX5_subscriber_2 : List UInt8 := dkwX5_subscriber_2 ++ dktX5_subscriber_3
def dkwX5_subscriber_1 : List UInt8 := [62, 42, 27, 182, 0, 171, 54, 4, 28]
abbrev dktX5_subscriber_1 : List UInt8 := dkwX5_subscriber_1 ++ dktX5_subscriber_2
def dkwX5_subscriber_0 : List UInt8 := [42, 3, 181, 0, 106, 42, 27, 182, 1, 158, 153, 0, 9, 42, 4, 182, 0, 116, 172, 42, 27, 182, 0, 168]
abbrev dktX5_subscriber_0 : List UInt8 := dkwX5_subscriber_0 ++ dktX5_subscriber_1
theorem dksX5_subscriber_0 : cX5_subscriber.data.toList.drop 0 = dktX5_subscriber_0 := by decide +kernel
theorem dksX5_subscriber_1 : cX5_subscriber.data.toList.drop 24 = dktX5_subscriber_1 := dk_seg dksX5_subscriber_0 24 rfl rfl
theorem dksX5_subscriber_2 : cX5_subscriber.data.toList.drop 33 = dktX5_subscriber_2 := dk_seg dksX5_subscriber_1 9 rfl rfl
theorem dksX5_subscriber_3 : cX5_subscriber.data.toList.drop 76 = dktX5_subscriber_3 := dk_seg dksX5_subscriber_2 43 rfl rfl
theorem dksX5_subscriber_4 : cX5_subscriber.data.toList.drop 99 = dktX5_subscriber_4 := dk_seg dksX5_subscriber_3 23 rfl rfl
theorem dksX5_subscriber_5 : cX5_subscriber.data.toList.drop 122 = dktX5_subscriber_5 := dk_seg dksX5_subscriber_4 23 rfl rfl
theorem dksX5_subscriber_6 : cX5_subscriber.data.toList.drop 145 = dktX5_subscriber_6 := dk_seg dksX5_subscriber_5 23 rfl rfl
theorem dksX5_subscriber_7 : cX5_subscriber.data.toList.drop 167 = dktX5_subscriber_7 := dk_seg dksX5_subscriber_6 22 rfl rfl
theorem dksX5_subscriber_8 : cX5_subscriber.data.toList.drop 190 = dktX5_subscriber_8 := dk_seg dksX5_subscriber_7 23 rfl rfl
theorem dksX5_subscriber_9 : cX5_subscriber.data.toList.drop 213 = dktX5_subscriber_9 := dk_seg dksX5_subscriber_8 23 rfl rfl
theorem dksX5_subscriber_10 : cX5_subscriber.data.toList.drop 237 = dktX5_subscriber_10 := dk_seg dksX5_subscriber_9 24 rfl rfl
theorem dX5_subscriber_0 : decode cX5_subscriber 0 = .ok (.aload_n 0, 1) := dk_42 (dk_at dksX5_subscriber_0 0 rfl rfl)
theorem dX5_subscriber_1 : decode cX5_subscriber 1 = .ok (.iconst 0, 1) := dk_3 (dk_at dksX5_subscriber_0 1 rfl rfl)
theorem dX5_subscriber_2 : decode cX5_subscriber 2 = .ok (.putfield 106, 3) := dk_181 0 106 (dk_at dksX5_subscriber_0 2 rfl rfl)
theorem dX5_subscriber_5 : decode cX5_subscriber 5 = .ok (.aload_n 0, 1) := dk_42 (dk_at dksX5_subscriber_0 5 rfl rfl)
theorem dX5_subscriber_6 : decode cX5_subscriber 6 = .ok (.iload_n 1, 1) := dk_27 (dk_at dksX5_subscriber_0 6 rfl rfl)
theorem dX5_subscriber_7 : decode cX5_subscriber 7 = .ok (.invokevirtual 414, 3) := dk_182 1 158 (dk_at dksX5_subscriber_0 7 rfl rfl)
theorem dX5_subscriber_10 : decode cX5_subscriber 10 = .ok (.ifCond .eq 9, 3) := dk_153 0 9 (dk_at dksX5_subscriber_0 10 rfl rfl)
theorem dX5_subscriber_13 : decode cX5_subscriber 13 = .ok (.aload_n 0, 1) := dk_42 (dk_at dksX5_subscriber_0 13 rfl rfl)
theorem dX5_subscriber_14 : decode cX5_subscriber 14 = .ok (.iconst 1, 1) := dk_4 (dk_at dksX5_subscriber_0 14 rfl rfl)
theorem dX5_subscriber_15 : decode cX5_subscriber 15 = .ok (.invokevirtual 116, 3) := dk_182 0 116 (dk_at dksX5_subscriber_0 15 rfl rfl)
theorem dX5_subscriber_18 : decode cX5_subscriber 18 = .ok (.ireturn, 1) := dk_172 (dk_at dksX5_subscriber_0 18 rfl rfl)
theorem dX5_subscriber_19 : decode cX5_subscriber 19 = .ok (.aload_n 0, 1) := dk_42 (dk_at dksX5_subscriber_0 19 rfl rfl)
theorem dX5_subscriber_20 : decode cX5_subscriber 20 = .ok (.iload_n 1, 1) := dk_27 (dk_at dksX5_subscriber_0 20 rfl rfl)
theorem dX5_subscriber_21 : decode cX5_subscriber 21 = .ok (.invokevirtual 168, 3) := dk_182 0 168 (dk_at dksX5_subscriber_0 21 rfl rfl)
theorem dX5_subscriber_24 : decode cX5_subscriber 24 = .ok (.istore_n 3, 1) := dk_62 (dk_at dksX5_subscriber_1 0 rfl rfl)
theorem dX5_subscriber_25 : decode cX5_subscriber 25 = .ok (.aload_n 0, 1) := dk_42 (dk_at dksX5_subscriber_1 1 rfl rfl)
theorem dX5_subscriber_26 : decode cX5_subscriber 26 = .ok (.iload_n 1, 1) := dk_27 (dk_at dksX5_subscriber_1 2 rfl rfl)
theorem dX5_subscriber_27 : decode cX5_subscriber 27 = .ok (.invokevirtual 171, 3) := dk_182 0 171 (dk_at dksX5_subscriber_1 3 rfl rfl)
theorem dX5_subscriber_30 : decode cX5_subscriber 30 = .ok (.istore 4, 2) := dk_54 4 (dk_at dksX5_subscriber_1 6 rfl rfl)
theorem dX5_subscriber_32 : decode cX5_subscriber 32 = .ok (.iload_n 2, 1) := dk_28 (dk_at dksX5_subscriber_1 8 rfl rfl)
theorem dX5_subscriber_33 : decode cX5_subscriber 33 = .ok (.tableswitch 205 0 6 #[43, 64, 71, 87, 122, 143, 161], 43) := by decide +kernel
theorem dX5_subscriber_76 : decode cX5_subscriber 76 = .ok (.iload_n 3, 1) := dk_29 (dk_at dksX5_subscriber_3 0 rfl rfl)
theorem dX5_subscriber_77 : decode cX5_subscriber 77 = .ok (.iconst (-1), 1) := dk_2 (dk_at dksX5_subscriber_3 1 rfl rfl)
theorem dX5_subscriber_78 : decode cX5_subscriber 78 = .ok (.if_icmp .eq 7, 3) := dk_159 0 7 (dk_at dksX5_subscriber_3 2 rfl rfl)
theorem dX5_subscriber_81 : decode cX5_subscriber 81 = .ok (.iconst 1, 1) := dk_4 (dk_at dksX5_subscriber_3 5 rfl rfl)
theorem dX5_subscriber_82 : decode cX5_subscriber 82 = .ok (.goto 14, 3) := dk_167 0 14 (dk_at dksX5_subscriber_3 6 rfl rfl)
theorem dX5_subscriber_85 : decode cX5_subscriber 85 = .ok (.iload 4, 2) := dk_21 4 (dk_at dksX5_subscriber_3 9 rfl rfl)
theorem dX5_subscriber_87 : decode cX5_subscriber 87 = .ok (.iconst (-1), 1) := dk_2 (dk_at dksX5_subscriber_3 11 rfl rfl)
theorem dX5_subscriber_88 : decode cX5_subscriber 88 = .ok (.if_icmp .eq 7, 3) := dk_159 0 7 (dk_at dksX5_subscriber_3 12 rfl rfl)
theorem dX5_subscriber_91 : decode cX5_subscriber 91 = .ok (.iconst 2, 1) := dk_5 (dk_at dksX5_subscriber_3 15 rfl rfl)
theorem dX5_subscriber_92 : decode cX5_subscriber 92 = .ok (.goto 4, 3) := dk_167 0 4 (dk_at dksX5_subscriber_3 16 rfl rfl)
theorem dX5_subscriber_95 : decode cX5_subscriber 95 = .ok (.iconst 0, 1) := dk_3 (dk_at dksX5_subscriber_3 19 rfl rfl)
theorem dX5_subscriber_96 : decode cX5_subscriber 96 = .ok (.ireturn, 1) := dk_172 (dk_at dksX5_subscriber_3 20 rfl rfl)
theorem dX5_subscriber_97 : decode cX5_subscriber 97 = .ok (.iload_n 1, 1) := dk_27 (dk_at dksX5_subscriber_3 21 rfl rfl)
theorem dX5_subscriber_98 : decode cX5_subscriber 98 = .ok (.aload_n 0, 1) := dk_42 (dk_at dksX5_subscriber_3 22 rfl rfl)
theorem dX5_subscriber_99 : decode cX5_subscriber 99 = .ok (.getfield 23, 3) := dk_180 0 23 (dk_at dksX5_subscriber_4 0 rfl rfl)
theorem dX5_subscriber_102 : decode cX5_subscriber 102 = .ok (.idiv, 1) := dk_108 (dk_at dksX5_subscriber_4 3 rfl rfl)
theorem dX5_subscriber_103 : decode cX5_subscriber 103 = .ok (.ireturn, 1) := dk_172 (dk_at dksX5_subscriber_4 4 rfl rfl)
theorem dX5_subscriber_104 : decode cX5_subscriber 104 = .ok (.iload_n 3, 1) := dk_29 (dk_at dksX5_subscriber_4 5 rfl rfl)
theorem dX5_subscriber_105 : decode cX5_subscriber 105 = .ok (.iconst (-1), 1) := dk_2 (dk_at dksX5_subscriber_4 6 rfl rfl)
theorem dX5_subscriber_106 : decode cX5_subscriber 106 = .ok (.if_icmp .ne 7, 3) := dk_160 0 7 (dk_at dksX5_subscriber_4 7 rfl rfl)
theorem dX5_subscriber_109 : decode cX5_subscriber 109 = .ok (.iconst (-1), 1) := dk_2 (dk_at dksX5_subscriber_4 10 rfl rfl)
theorem dX5_subscriber_110 : decode cX5_subscriber 110 = .ok (.goto 9, 3) := dk_167 0 9 (dk_at dksX5_subscriber_4 11 rfl rfl)
theorem dX5_subscriber_113 : decode cX5_subscriber 113 = .ok (.aload_n 0, 1) := dk_42 (dk_at dksX5_subscriber_4 14 rfl rfl)
theorem dX5_subscriber_114 : decode cX5_subscriber 114 = .ok (.getfield 35, 3) := dk_180 0 35 (dk_at dksX5_subscriber_4 15 rfl rfl)
theorem dX5_subscriber_117 : decode cX5_subscriber 117 = .ok (.iload_n 3, 1) := dk_29 (dk_at dksX5_subscriber_4 18 rfl rfl)
theorem dX5_subscriber_118 : decode cX5_subscriber 118 = .ok (.iaload, 1) := dk_46 (dk_at dksX5_subscriber_4 19 rfl rfl)
theorem dX5_subscriber_119 : decode cX5_subscriber 119 = .ok (.ireturn, 1) := dk_172 (dk_at dksX5_subscriber_4 20 rfl rfl)
theorem dX5_subscriber_120 : decode cX5_subscriber 120 = .ok (.iload_n 3, 1) := dk_29 (dk_at dksX5_subscriber_4 21 rfl rfl)
theorem dX5_subscriber_121 : decode cX5_subscriber 121 = .ok (.iconst (-1), 1) := dk_2 (dk_at dksX5_subscriber_4 22 rfl rfl)
theorem dX5_subscriber_122 : decode cX5_subscriber 122 = .ok (.if_icmp .ne 7, 3) := dk_160 0 7 (dk_at dksX5_subscriber_5 0 rfl rfl)
theorem dX5_subscriber_125 : decode cX5_subscriber 125 = .ok (.iconst (-1), 1) := dk_2 (dk_at dksX5_subscriber_5 3 rfl rfl)
theorem dX5_subscriber_126 : decode cX5_subscriber 126 = .ok (.goto 28, 3) := dk_167 0 28 (dk_at dksX5_subscriber_5 4 rfl rfl)
theorem dX5_subscriber_129 : decode cX5_subscriber 129 = .ok (.aload_n 0, 1) := dk_42 (dk_at dksX5_subscriber_5 7 rfl rfl)
theorem dX5_subscriber_130 : decode cX5_subscriber 130 = .ok (.getfield 39, 3) := dk_180 0 39 (dk_at dksX5_subscriber_5 8 rfl rfl)
theorem dX5_subscriber_133 : decode cX5_subscriber 133 = .ok (.iload_n 3, 1) := dk_29 (dk_at dksX5_subscriber_5 11 rfl rfl)
theorem dX5_subscriber_134 : decode cX5_subscriber 134 = .ok (.iaload, 1) := dk_46 (dk_at dksX5_subscriber_5 12 rfl rfl)
theorem dX5_subscriber_135 : decode cX5_subscriber 135 = .ok (.iload_n 1, 1) := dk_27 (dk_at dksX5_subscriber_5 13 rfl rfl)
theorem dX5_subscriber_136 : decode cX5_subscriber 136 = .ok (.if_icmp .ne 12, 3) := dk_160 0 12 (dk_at dksX5_subscriber_5 14 rfl rfl)
theorem dX5_subscriber_139 : decode cX5_subscriber 139 = .ok (.aload_n 0, 1) := dk_42 (dk_at dksX5_subscriber_5 17 rfl rfl)
theorem dX5_subscriber_140 : decode cX5_subscriber 140 = .ok (.getfield 42, 3) := dk_180 0 42 (dk_at dksX5_subscriber_5 18 rfl rfl)
theorem dX5_subscriber_143 : decode cX5_subscriber 143 = .ok (.iload_n 3, 1) := dk_29 (dk_at dksX5_subscriber_5 21 rfl rfl)
theorem dX5_subscriber_144 : decode cX5_subscriber 144 = .ok (.iaload, 1) := dk_46 (dk_at dksX5_subscriber_5 22 rfl rfl)
theorem dX5_subscriber_145 : decode cX5_subscriber 145 = .ok (.goto 9, 3) := dk_167 0 9 (dk_at dksX5_subscriber_6 0 rfl rfl)
theorem dX5_subscriber_148 : decode cX5_subscriber 148 = .ok (.aload_n 0, 1) := dk_42 (dk_at dksX5_subscriber_6 3 rfl rfl)
theorem dX5_subscriber_149 : decode cX5_subscriber 149 = .ok (.getfield 39, 3) := dk_180 0 39 (dk_at dksX5_subscriber_6 4 rfl rfl)
theorem dX5_subscriber_152 : decode cX5_subscriber 152 = .ok (.iload_n 3, 1) := dk_29 (dk_at dksX5_subscriber_6 7 rfl rfl)
theorem dX5_subscriber_153 : decode cX5_subscriber 153 = .ok (.iaload, 1) := dk_46 (dk_at dksX5_subscriber_6 8 rfl rfl)
theorem dX5_subscriber_154 : decode cX5_subscriber 154 = .ok (.ireturn, 1) := dk_172 (dk_at dksX5_subscriber_6 9 rfl rfl)
theorem dX5_subscriber_155 : decode cX5_subscriber 155 = .ok (.iload_n 3, 1) := dk_29 (dk_at dksX5_subscriber_6 10 rfl rfl)
theorem dX5_subscriber_156 : decode cX5_subscriber 156 = .ok (.iconst (-1), 1) := dk_2 (dk_at dksX5_subscriber_6 11 rfl rfl)
theorem dX5_subscriber_157 : decode cX5_subscriber 157 = .ok (.if_icmp .eq 17, 3) := dk_159 0 17 (dk_at dksX5_subscriber_6 12 rfl rfl)
theorem dX5_subscriber_160 : decode cX5_subscriber 160 = .ok (.aload_n 0, 1) := dk_42 (dk_at dksX5_subscriber_6 15 rfl rfl)
theorem dX5_subscriber_161 : decode cX5_subscriber 161 = .ok (.getfield 39, 3) := dk_180 0 39 (dk_at dksX5_subscriber_6 16 rfl rfl)
theorem dX5_subscriber_164 : decode cX5_subscriber 164 = .ok (.iload_n 3, 1) := dk_29 (dk_at dksX5_subscriber_6 19 rfl rfl)
theorem dX5_subscriber_165 : decode cX5_subscriber 165 = .ok (.iaload, 1) := dk_46 (dk_at dksX5_subscriber_6 20 rfl rfl)
theorem dX5_subscriber_166 : decode cX5_subscriber 166 = .ok (.iload_n 1, 1) := dk_27 (dk_at dksX5_subscriber_6 21 rfl rfl)
theorem dX5_subscriber_167 : decode cX5_subscriber 167 = .ok (.if_icmp .ne 7, 3) := dk_160 0 7 (dk_at dksX5_subscriber_7 0 rfl rfl)
theorem dX5_subscriber_170 : decode cX5_subscriber 170 = .ok (.iconst 1, 1) := dk_4 (dk_at dksX5_subscriber_7 3 rfl rfl)
theorem dX5_subscriber_171 : decode cX5_subscriber 171 = .ok (.goto 4, 3) := dk_167 0 4 (dk_at dksX5_subscriber_7 4 rfl rfl)
theorem dX5_subscriber_174 : decode cX5_subscriber 174 = .ok (.iconst 0, 1) := dk_3 (dk_at dksX5_subscriber_7 7 rfl rfl)
theorem dX5_subscriber_175 : decode cX5_subscriber 175 = .ok (.ireturn, 1) := dk_172 (dk_at dksX5_subscriber_7 8 rfl rfl)
theorem dX5_subscriber_176 : decode cX5_subscriber 176 = .ok (.iload 4, 2) := dk_21 4 (dk_at dksX5_subscriber_7 9 rfl rfl)
theorem dX5_subscriber_178 : decode cX5_subscriber 178 = .ok (.iconst (-1), 1) := dk_2 (dk_at dksX5_subscriber_7 11 rfl rfl)
theorem dX5_subscriber_179 : decode cX5_subscriber 179 = .ok (.if_icmp .ne 7, 3) := dk_160 0 7 (dk_at dksX5_subscriber_7 12 rfl rfl)
theorem dX5_subscriber_182 : decode cX5_subscriber 182 = .ok (.iconst (-1), 1) := dk_2 (dk_at dksX5_subscriber_7 15 rfl rfl)
theorem dX5_subscriber_183 : decode cX5_subscriber 183 = .ok (.goto 10, 3) := dk_167 0 10 (dk_at dksX5_subscriber_7 16 rfl rfl)
theorem dX5_subscriber_186 : decode cX5_subscriber 186 = .ok (.aload_n 0, 1) := dk_42 (dk_at dksX5_subscriber_7 19 rfl rfl)
theorem dX5_subscriber_187 : decode cX5_subscriber 187 = .ok (.getfield 60, 3) := dk_180 0 60 (dk_at dksX5_subscriber_7 20 rfl rfl)
theorem dX5_subscriber_190 : decode cX5_subscriber 190 = .ok (.iload 4, 2) := dk_21 4 (dk_at dksX5_subscriber_8 0 rfl rfl)
theorem dX5_subscriber_192 : decode cX5_subscriber 192 = .ok (.iaload, 1) := dk_46 (dk_at dksX5_subscriber_8 2 rfl rfl)
theorem dX5_subscriber_193 : decode cX5_subscriber 193 = .ok (.ireturn, 1) := dk_172 (dk_at dksX5_subscriber_8 3 rfl rfl)
theorem dX5_subscriber_194 : decode cX5_subscriber 194 = .ok (.iconst 0, 1) := dk_3 (dk_at dksX5_subscriber_8 4 rfl rfl)
theorem dX5_subscriber_195 : decode cX5_subscriber 195 = .ok (.istore 5, 2) := dk_54 5 (dk_at dksX5_subscriber_8 5 rfl rfl)
theorem dX5_subscriber_197 : decode cX5_subscriber 197 = .ok (.iconst 0, 1) := dk_3 (dk_at dksX5_subscriber_8 7 rfl rfl)
theorem dX5_subscriber_198 : decode cX5_subscriber 198 = .ok (.istore 6, 2) := dk_54 6 (dk_at dksX5_subscriber_8 8 rfl rfl)
theorem dX5_subscriber_200 : decode cX5_subscriber 200 = .ok (.iload 6, 2) := dk_21 6 (dk_at dksX5_subscriber_8 10 rfl rfl)
theorem dX5_subscriber_202 : decode cX5_subscriber 202 = .ok (.aload_n 0, 1) := dk_42 (dk_at dksX5_subscriber_8 12 rfl rfl)
theorem dX5_subscriber_203 : decode cX5_subscriber 203 = .ok (.getfield 103, 3) := dk_180 0 103 (dk_at dksX5_subscriber_8 13 rfl rfl)
theorem dX5_subscriber_206 : decode cX5_subscriber 206 = .ok (.if_icmp .ge 29, 3) := dk_162 0 29 (dk_at dksX5_subscriber_8 16 rfl rfl)
theorem dX5_subscriber_209 : decode cX5_subscriber 209 = .ok (.iload 5, 2) := dk_21 5 (dk_at dksX5_subscriber_8 19 rfl rfl)
theorem dX5_subscriber_211 : decode cX5_subscriber 211 = .ok (.aload_n 0, 1) := dk_42 (dk_at dksX5_subscriber_8 21 rfl rfl)
theorem dX5_subscriber_212 : decode cX5_subscriber 212 = .ok (.iload_n 1, 1) := dk_27 (dk_at dksX5_subscriber_8 22 rfl rfl)
theorem dX5_subscriber_213 : decode cX5_subscriber 213 = .ok (.iload 6, 2) := dk_21 6 (dk_at dksX5_subscriber_9 0 rfl rfl)
theorem dX5_subscriber_215 : decode cX5_subscriber 215 = .ok (.invokevirtual 435, 3) := dk_182 1 179 (dk_at dksX5_subscriber_9 2 rfl rfl)
theorem dX5_subscriber_218 : decode cX5_subscriber 218 = .ok (.ifCond .eq 7, 3) := dk_153 0 7 (dk_at dksX5_subscriber_9 5 rfl rfl)
theorem dX5_subscriber_221 : decode cX5_subscriber 221 = .ok (.iconst 1, 1) := dk_4 (dk_at dksX5_subscriber_9 8 rfl rfl)
theorem dX5_subscriber_222 : decode cX5_subscriber 222 = .ok (.goto 4, 3) := dk_167 0 4 (dk_at dksX5_subscriber_9 9 rfl rfl)
theorem dX5_subscriber_225 : decode cX5_subscriber 225 = .ok (.iconst 0, 1) := dk_3 (dk_at dksX5_subscriber_9 12 rfl rfl)
theorem dX5_subscriber_226 : decode cX5_subscriber 226 = .ok (.iadd, 1) := dk_96 (dk_at dksX5_subscriber_9 13 rfl rfl)
theorem dX5_subscriber_227 : decode cX5_subscriber 227 = .ok (.istore 5, 2) := dk_54 5 (dk_at dksX5_subscriber_9 14 rfl rfl)
theorem dX5_subscriber_229 : decode cX5_subscriber 229 = .ok (.iinc 6 1, 3) := dk_132 6 1 (dk_at dksX5_subscriber_9 16 rfl rfl)
theorem dX5_subscriber_232 : decode cX5_subscriber 232 = .ok (.goto (-32), 3) := dk_167 255 224 (dk_at dksX5_subscriber_9 19 rfl rfl)
theorem dX5_subscriber_235 : decode cX5_subscriber 235 = .ok (.iload 5, 2) := dk_21 5 (dk_at dksX5_subscriber_9 22 rfl rfl)
theorem dX5_subscriber_237 : decode cX5_subscriber 237 = .ok (.ireturn, 1) := dk_172 (dk_at dksX5_subscriber_10 0 rfl rfl)
theorem dX5_subscriber_238 : decode cX5_subscriber 238 = .ok (.aload_n 0, 1) := dk_42 (dk_at dksX5_subscriber_10 1 rfl rfl)
theorem dX5_subscriber_239 : decode cX5_subscriber 239 = .ok (.iconst 2, 1) := dk_5 (dk_at dksX5_subscriber_10 2 rfl rfl)
theorem dX5_subscriber_240 : decode cX5_subscriber 240 = .ok (.invokevirtual 116, 3) := dk_182 0 116 (dk_at dksX5_subscriber_10 3 rfl rfl)
theorem dX5_subscriber_243 : decode cX5_subscriber 243 = .ok (.ireturn, 1) := dk_172 (dk_at dksX5_subscriber_10 6 rfl rfl)
abbrev cX5_belongs : ByteArray := prog_12_method_93_code
def yX5_belongs : MethodName := ⟨RX5, "belongs", "(II)Z"⟩
def dkwX5_belongs_1 : List UInt8 := [160, 0, 5, 4, 172, 132, 3, 1, 167, 255, 226, 3, 172]
abbrev dktX5_belongs_1 : List UInt8 := dkwX5_belongs_1 ++ []
def dkwX5_belongs_0 : List UInt8 := [3, 62, 29, 42, 180, 0, 75, 28, 46, 162, 0, 26, 42, 180, 0, 78, 28, 16, 8, 104, 29, 96, 46, 27]
abbrev dktX5_belongs_0 : List UInt8 := dkwX5_belongs_0 ++ dktX5_belongs_1
theorem dksX5_belongs_0 : cX5_belongs.data.toList.drop 0 = dktX5_belongs_0 := by decide +kernel
theorem dksX5_belongs_1 : cX5_belongs.data.toList.drop 24 = dktX5_belongs_1 := dk_seg dksX5_belongs_0 24 rfl rfl
theorem dX5_belongs_0 : decode cX5_belongs 0 = .ok (.iconst 0, 1) := dk_3 (dk_at dksX5_belongs_0 0 rfl rfl)
theorem dX5_belongs_1 : decode cX5_belongs 1 = .ok (.istore_n 3, 1) := dk_62 (dk_at dksX5_belongs_0 1 rfl rfl)
theorem dX5_belongs_2 : decode cX5_belongs 2 = .ok (.iload_n 3, 1) := dk_29 (dk_at dksX5_belongs_0 2 rfl rfl)
theorem dX5_belongs_3 : decode cX5_belongs 3 = .ok (.aload_n 0, 1) := dk_42 (dk_at dksX5_belongs_0 3 rfl rfl)
theorem dX5_belongs_4 : decode cX5_belongs 4 = .ok (.getfield 75, 3) := dk_180 0 75 (dk_at dksX5_belongs_0 4 rfl rfl)
theorem dX5_belongs_7 : decode cX5_belongs 7 = .ok (.iload_n 2, 1) := dk_28 (dk_at dksX5_belongs_0 7 rfl rfl)
theorem dX5_belongs_8 : decode cX5_belongs 8 = .ok (.iaload, 1) := dk_46 (dk_at dksX5_belongs_0 8 rfl rfl)
theorem dX5_belongs_9 : decode cX5_belongs 9 = .ok (.if_icmp .ge 26, 3) := dk_162 0 26 (dk_at dksX5_belongs_0 9 rfl rfl)
theorem dX5_belongs_12 : decode cX5_belongs 12 = .ok (.aload_n 0, 1) := dk_42 (dk_at dksX5_belongs_0 12 rfl rfl)
theorem dX5_belongs_13 : decode cX5_belongs 13 = .ok (.getfield 78, 3) := dk_180 0 78 (dk_at dksX5_belongs_0 13 rfl rfl)
theorem dX5_belongs_16 : decode cX5_belongs 16 = .ok (.iload_n 2, 1) := dk_28 (dk_at dksX5_belongs_0 16 rfl rfl)
theorem dX5_belongs_17 : decode cX5_belongs 17 = .ok (.bipush 8, 2) := dk_16 8 (dk_at dksX5_belongs_0 17 rfl rfl)
theorem dX5_belongs_19 : decode cX5_belongs 19 = .ok (.imul, 1) := dk_104 (dk_at dksX5_belongs_0 19 rfl rfl)
theorem dX5_belongs_20 : decode cX5_belongs 20 = .ok (.iload_n 3, 1) := dk_29 (dk_at dksX5_belongs_0 20 rfl rfl)
theorem dX5_belongs_21 : decode cX5_belongs 21 = .ok (.iadd, 1) := dk_96 (dk_at dksX5_belongs_0 21 rfl rfl)
theorem dX5_belongs_22 : decode cX5_belongs 22 = .ok (.iaload, 1) := dk_46 (dk_at dksX5_belongs_0 22 rfl rfl)
theorem dX5_belongs_23 : decode cX5_belongs 23 = .ok (.iload_n 1, 1) := dk_27 (dk_at dksX5_belongs_0 23 rfl rfl)
theorem dX5_belongs_24 : decode cX5_belongs 24 = .ok (.if_icmp .ne 5, 3) := dk_160 0 5 (dk_at dksX5_belongs_1 0 rfl rfl)
theorem dX5_belongs_27 : decode cX5_belongs 27 = .ok (.iconst 1, 1) := dk_4 (dk_at dksX5_belongs_1 3 rfl rfl)
theorem dX5_belongs_28 : decode cX5_belongs 28 = .ok (.ireturn, 1) := dk_172 (dk_at dksX5_belongs_1 4 rfl rfl)
theorem dX5_belongs_29 : decode cX5_belongs 29 = .ok (.iinc 3 1, 3) := dk_132 3 1 (dk_at dksX5_belongs_1 5 rfl rfl)
theorem dX5_belongs_32 : decode cX5_belongs 32 = .ok (.goto (-30), 3) := dk_167 255 226 (dk_at dksX5_belongs_1 8 rfl rfl)
theorem dX5_belongs_35 : decode cX5_belongs 35 = .ok (.iconst 0, 1) := dk_3 (dk_at dksX5_belongs_1 11 rfl rfl)
theorem dX5_belongs_36 : decode cX5_belongs 36 = .ok (.ireturn, 1) := dk_172 (dk_at dksX5_belongs_1 12 rfl rfl)
abbrev cX5_stage : ByteArray := prog_12_method_96_code
def yX5_stage : MethodName := ⟨RX5, "stage", "(II)I"⟩
def dkwX5_stage_5 : List UInt8 := [3, 182, 1, 185, 172, 42, 27, 4, 182, 1, 185, 172, 42, 5, 182, 0, 116, 172]
abbrev dktX5_stage_5 : List UInt8 := dkwX5_stage_5 ++ []
def dkwX5_stage_4 : List UInt8 := [182, 0, 174, 27, 160, 0, 7, 4, 167, 0, 4, 3, 96, 62, 132, 4, 1, 167, 255, 216, 29, 172, 42, 27]
abbrev dktX5_stage_4 : List UInt8 := dkwX5_stage_4 ++ dktX5_stage_5
def dkwX5_stage_3 : List UInt8 := [21, 4, 42, 180, 0, 132, 162, 0, 37, 29, 42, 21, 4, 182, 0, 177, 27, 160, 0, 17, 42, 21, 4]
abbrev dktX5_stage_3 : List UInt8 := dkwX5_stage_3 ++ dktX5_stage_4
def dkwX5_stage_2 : List UInt8 := [42, 27, 3, 182, 1, 0, 172, 42, 27, 4, 182, 1, 0, 172, 42, 27, 182, 1, 173, 172, 3, 54, 4]
abbrev dktX5_stage_2 : List UInt8 := dkwX5_stage_2 ++ dktX5_stage_3
def dkwX5_stage_1 : List UInt8 := [170, 0, 0, 0, 0, 120, 0, 0, 0, 0, 0, 0, 0, 5, 0, 0, 0, 38, 0, 0, 0, 45, 0, 0, 0, 52, 0, 0, 0, 58, 0, 0, 0, 106, 0, 0, 0, 113]
abbrev dktX5_stage_1 : List UInt8 := dkwX5_stage_1 ++ dktX5_stage_2
def dkwX5_stage_0 : List UInt8 := [42, 3, 181, 0, 106, 42, 27, 182, 1, 182, 153, 0, 9, 42, 4, 182, 0, 116, 172, 3, 62, 28]
abbrev dktX5_stage_0 : List UInt8 := dkwX5_stage_0 ++ dktX5_stage_1
theorem dksX5_stage_0 : cX5_stage.data.toList.drop 0 = dktX5_stage_0 := by decide +kernel
theorem dksX5_stage_1 : cX5_stage.data.toList.drop 22 = dktX5_stage_1 := dk_seg dksX5_stage_0 22 rfl rfl
theorem dksX5_stage_2 : cX5_stage.data.toList.drop 60 = dktX5_stage_2 := dk_seg dksX5_stage_1 38 rfl rfl
theorem dksX5_stage_3 : cX5_stage.data.toList.drop 83 = dktX5_stage_3 := dk_seg dksX5_stage_2 23 rfl rfl
theorem dksX5_stage_4 : cX5_stage.data.toList.drop 106 = dktX5_stage_4 := dk_seg dksX5_stage_3 23 rfl rfl
theorem dksX5_stage_5 : cX5_stage.data.toList.drop 130 = dktX5_stage_5 := dk_seg dksX5_stage_4 24 rfl rfl
theorem dX5_stage_0 : decode cX5_stage 0 = .ok (.aload_n 0, 1) := dk_42 (dk_at dksX5_stage_0 0 rfl rfl)
theorem dX5_stage_1 : decode cX5_stage 1 = .ok (.iconst 0, 1) := dk_3 (dk_at dksX5_stage_0 1 rfl rfl)
theorem dX5_stage_2 : decode cX5_stage 2 = .ok (.putfield 106, 3) := dk_181 0 106 (dk_at dksX5_stage_0 2 rfl rfl)
theorem dX5_stage_5 : decode cX5_stage 5 = .ok (.aload_n 0, 1) := dk_42 (dk_at dksX5_stage_0 5 rfl rfl)
theorem dX5_stage_6 : decode cX5_stage 6 = .ok (.iload_n 1, 1) := dk_27 (dk_at dksX5_stage_0 6 rfl rfl)
theorem dX5_stage_7 : decode cX5_stage 7 = .ok (.invokevirtual 438, 3) := dk_182 1 182 (dk_at dksX5_stage_0 7 rfl rfl)
theorem dX5_stage_10 : decode cX5_stage 10 = .ok (.ifCond .eq 9, 3) := dk_153 0 9 (dk_at dksX5_stage_0 10 rfl rfl)
theorem dX5_stage_13 : decode cX5_stage 13 = .ok (.aload_n 0, 1) := dk_42 (dk_at dksX5_stage_0 13 rfl rfl)
theorem dX5_stage_14 : decode cX5_stage 14 = .ok (.iconst 1, 1) := dk_4 (dk_at dksX5_stage_0 14 rfl rfl)
theorem dX5_stage_15 : decode cX5_stage 15 = .ok (.invokevirtual 116, 3) := dk_182 0 116 (dk_at dksX5_stage_0 15 rfl rfl)
theorem dX5_stage_18 : decode cX5_stage 18 = .ok (.ireturn, 1) := dk_172 (dk_at dksX5_stage_0 18 rfl rfl)
theorem dX5_stage_19 : decode cX5_stage 19 = .ok (.iconst 0, 1) := dk_3 (dk_at dksX5_stage_0 19 rfl rfl)
theorem dX5_stage_20 : decode cX5_stage 20 = .ok (.istore_n 3, 1) := dk_62 (dk_at dksX5_stage_0 20 rfl rfl)
theorem dX5_stage_21 : decode cX5_stage 21 = .ok (.iload_n 2, 1) := dk_28 (dk_at dksX5_stage_0 21 rfl rfl)
theorem dX5_stage_22 : decode cX5_stage 22 = .ok (.tableswitch 120 0 5 #[38, 45, 52, 58, 106, 113], 38) := by decide +kernel
theorem dX5_stage_60 : decode cX5_stage 60 = .ok (.aload_n 0, 1) := dk_42 (dk_at dksX5_stage_2 0 rfl rfl)
theorem dX5_stage_61 : decode cX5_stage 61 = .ok (.iload_n 1, 1) := dk_27 (dk_at dksX5_stage_2 1 rfl rfl)
theorem dX5_stage_62 : decode cX5_stage 62 = .ok (.iconst 0, 1) := dk_3 (dk_at dksX5_stage_2 2 rfl rfl)
theorem dX5_stage_63 : decode cX5_stage 63 = .ok (.invokevirtual 256, 3) := dk_182 1 0 (dk_at dksX5_stage_2 3 rfl rfl)
theorem dX5_stage_66 : decode cX5_stage 66 = .ok (.ireturn, 1) := dk_172 (dk_at dksX5_stage_2 6 rfl rfl)
theorem dX5_stage_67 : decode cX5_stage 67 = .ok (.aload_n 0, 1) := dk_42 (dk_at dksX5_stage_2 7 rfl rfl)
theorem dX5_stage_68 : decode cX5_stage 68 = .ok (.iload_n 1, 1) := dk_27 (dk_at dksX5_stage_2 8 rfl rfl)
theorem dX5_stage_69 : decode cX5_stage 69 = .ok (.iconst 1, 1) := dk_4 (dk_at dksX5_stage_2 9 rfl rfl)
theorem dX5_stage_70 : decode cX5_stage 70 = .ok (.invokevirtual 256, 3) := dk_182 1 0 (dk_at dksX5_stage_2 10 rfl rfl)
theorem dX5_stage_73 : decode cX5_stage 73 = .ok (.ireturn, 1) := dk_172 (dk_at dksX5_stage_2 13 rfl rfl)
theorem dX5_stage_74 : decode cX5_stage 74 = .ok (.aload_n 0, 1) := dk_42 (dk_at dksX5_stage_2 14 rfl rfl)
theorem dX5_stage_75 : decode cX5_stage 75 = .ok (.iload_n 1, 1) := dk_27 (dk_at dksX5_stage_2 15 rfl rfl)
theorem dX5_stage_76 : decode cX5_stage 76 = .ok (.invokevirtual 429, 3) := dk_182 1 173 (dk_at dksX5_stage_2 16 rfl rfl)
theorem dX5_stage_79 : decode cX5_stage 79 = .ok (.ireturn, 1) := dk_172 (dk_at dksX5_stage_2 19 rfl rfl)
theorem dX5_stage_80 : decode cX5_stage 80 = .ok (.iconst 0, 1) := dk_3 (dk_at dksX5_stage_2 20 rfl rfl)
theorem dX5_stage_81 : decode cX5_stage 81 = .ok (.istore 4, 2) := dk_54 4 (dk_at dksX5_stage_2 21 rfl rfl)
theorem dX5_stage_83 : decode cX5_stage 83 = .ok (.iload 4, 2) := dk_21 4 (dk_at dksX5_stage_3 0 rfl rfl)
theorem dX5_stage_85 : decode cX5_stage 85 = .ok (.aload_n 0, 1) := dk_42 (dk_at dksX5_stage_3 2 rfl rfl)
theorem dX5_stage_86 : decode cX5_stage 86 = .ok (.getfield 132, 3) := dk_180 0 132 (dk_at dksX5_stage_3 3 rfl rfl)
theorem dX5_stage_89 : decode cX5_stage 89 = .ok (.if_icmp .ge 37, 3) := dk_162 0 37 (dk_at dksX5_stage_3 6 rfl rfl)
theorem dX5_stage_92 : decode cX5_stage 92 = .ok (.iload_n 3, 1) := dk_29 (dk_at dksX5_stage_3 9 rfl rfl)
theorem dX5_stage_93 : decode cX5_stage 93 = .ok (.aload_n 0, 1) := dk_42 (dk_at dksX5_stage_3 10 rfl rfl)
theorem dX5_stage_94 : decode cX5_stage 94 = .ok (.iload 4, 2) := dk_21 4 (dk_at dksX5_stage_3 11 rfl rfl)
theorem dX5_stage_96 : decode cX5_stage 96 = .ok (.invokevirtual 177, 3) := dk_182 0 177 (dk_at dksX5_stage_3 13 rfl rfl)
theorem dX5_stage_99 : decode cX5_stage 99 = .ok (.iload_n 1, 1) := dk_27 (dk_at dksX5_stage_3 16 rfl rfl)
theorem dX5_stage_100 : decode cX5_stage 100 = .ok (.if_icmp .ne 17, 3) := dk_160 0 17 (dk_at dksX5_stage_3 17 rfl rfl)
theorem dX5_stage_103 : decode cX5_stage 103 = .ok (.aload_n 0, 1) := dk_42 (dk_at dksX5_stage_3 20 rfl rfl)
theorem dX5_stage_104 : decode cX5_stage 104 = .ok (.iload 4, 2) := dk_21 4 (dk_at dksX5_stage_3 21 rfl rfl)
theorem dX5_stage_106 : decode cX5_stage 106 = .ok (.invokevirtual 174, 3) := dk_182 0 174 (dk_at dksX5_stage_4 0 rfl rfl)
theorem dX5_stage_109 : decode cX5_stage 109 = .ok (.iload_n 1, 1) := dk_27 (dk_at dksX5_stage_4 3 rfl rfl)
theorem dX5_stage_110 : decode cX5_stage 110 = .ok (.if_icmp .ne 7, 3) := dk_160 0 7 (dk_at dksX5_stage_4 4 rfl rfl)
theorem dX5_stage_113 : decode cX5_stage 113 = .ok (.iconst 1, 1) := dk_4 (dk_at dksX5_stage_4 7 rfl rfl)
theorem dX5_stage_114 : decode cX5_stage 114 = .ok (.goto 4, 3) := dk_167 0 4 (dk_at dksX5_stage_4 8 rfl rfl)
theorem dX5_stage_117 : decode cX5_stage 117 = .ok (.iconst 0, 1) := dk_3 (dk_at dksX5_stage_4 11 rfl rfl)
theorem dX5_stage_118 : decode cX5_stage 118 = .ok (.iadd, 1) := dk_96 (dk_at dksX5_stage_4 12 rfl rfl)
theorem dX5_stage_119 : decode cX5_stage 119 = .ok (.istore_n 3, 1) := dk_62 (dk_at dksX5_stage_4 13 rfl rfl)
theorem dX5_stage_120 : decode cX5_stage 120 = .ok (.iinc 4 1, 3) := dk_132 4 1 (dk_at dksX5_stage_4 14 rfl rfl)
theorem dX5_stage_123 : decode cX5_stage 123 = .ok (.goto (-40), 3) := dk_167 255 216 (dk_at dksX5_stage_4 17 rfl rfl)
theorem dX5_stage_126 : decode cX5_stage 126 = .ok (.iload_n 3, 1) := dk_29 (dk_at dksX5_stage_4 20 rfl rfl)
theorem dX5_stage_127 : decode cX5_stage 127 = .ok (.ireturn, 1) := dk_172 (dk_at dksX5_stage_4 21 rfl rfl)
theorem dX5_stage_128 : decode cX5_stage 128 = .ok (.aload_n 0, 1) := dk_42 (dk_at dksX5_stage_4 22 rfl rfl)
theorem dX5_stage_129 : decode cX5_stage 129 = .ok (.iload_n 1, 1) := dk_27 (dk_at dksX5_stage_4 23 rfl rfl)
theorem dX5_stage_130 : decode cX5_stage 130 = .ok (.iconst 0, 1) := dk_3 (dk_at dksX5_stage_5 0 rfl rfl)
theorem dX5_stage_131 : decode cX5_stage 131 = .ok (.invokevirtual 441, 3) := dk_182 1 185 (dk_at dksX5_stage_5 1 rfl rfl)
theorem dX5_stage_134 : decode cX5_stage 134 = .ok (.ireturn, 1) := dk_172 (dk_at dksX5_stage_5 4 rfl rfl)
theorem dX5_stage_135 : decode cX5_stage 135 = .ok (.aload_n 0, 1) := dk_42 (dk_at dksX5_stage_5 5 rfl rfl)
theorem dX5_stage_136 : decode cX5_stage 136 = .ok (.iload_n 1, 1) := dk_27 (dk_at dksX5_stage_5 6 rfl rfl)
theorem dX5_stage_137 : decode cX5_stage 137 = .ok (.iconst 1, 1) := dk_4 (dk_at dksX5_stage_5 7 rfl rfl)
theorem dX5_stage_138 : decode cX5_stage 138 = .ok (.invokevirtual 441, 3) := dk_182 1 185 (dk_at dksX5_stage_5 8 rfl rfl)
theorem dX5_stage_141 : decode cX5_stage 141 = .ok (.ireturn, 1) := dk_172 (dk_at dksX5_stage_5 11 rfl rfl)
theorem dX5_stage_142 : decode cX5_stage 142 = .ok (.aload_n 0, 1) := dk_42 (dk_at dksX5_stage_5 12 rfl rfl)
theorem dX5_stage_143 : decode cX5_stage 143 = .ok (.iconst 2, 1) := dk_5 (dk_at dksX5_stage_5 13 rfl rfl)
theorem dX5_stage_144 : decode cX5_stage 144 = .ok (.invokevirtual 116, 3) := dk_182 0 116 (dk_at dksX5_stage_5 14 rfl rfl)
theorem dX5_stage_147 : decode cX5_stage 147 = .ok (.ireturn, 1) := dk_172 (dk_at dksX5_stage_5 17 rfl rfl)
abbrev cX5_noSwitch : ByteArray := prog_12_method_16_code
def yX5_noSwitch : MethodName := ⟨RX5, "noSwitch", "(I)Z"⟩
def dkwX5_noSwitch_0 : List UInt8 := [27, 155, 0, 11, 27, 42, 180, 0, 20, 161, 0, 7, 4, 167, 0, 4, 3, 172]
abbrev dktX5_noSwitch_0 : List UInt8 := dkwX5_noSwitch_0 ++ []
theorem dksX5_noSwitch_0 : cX5_noSwitch.data.toList.drop 0 = dktX5_noSwitch_0 := by decide +kernel
theorem dX5_noSwitch_0 : decode cX5_noSwitch 0 = .ok (.iload_n 1, 1) := dk_27 (dk_at dksX5_noSwitch_0 0 rfl rfl)
theorem dX5_noSwitch_1 : decode cX5_noSwitch 1 = .ok (.ifCond .lt 11, 3) := dk_155 0 11 (dk_at dksX5_noSwitch_0 1 rfl rfl)
theorem dX5_noSwitch_4 : decode cX5_noSwitch 4 = .ok (.iload_n 1, 1) := dk_27 (dk_at dksX5_noSwitch_0 4 rfl rfl)
theorem dX5_noSwitch_5 : decode cX5_noSwitch 5 = .ok (.aload_n 0, 1) := dk_42 (dk_at dksX5_noSwitch_0 5 rfl rfl)
theorem dX5_noSwitch_6 : decode cX5_noSwitch 6 = .ok (.getfield 20, 3) := dk_180 0 20 (dk_at dksX5_noSwitch_0 6 rfl rfl)
theorem dX5_noSwitch_9 : decode cX5_noSwitch 9 = .ok (.if_icmp .lt 7, 3) := dk_161 0 7 (dk_at dksX5_noSwitch_0 9 rfl rfl)
theorem dX5_noSwitch_12 : decode cX5_noSwitch 12 = .ok (.iconst 1, 1) := dk_4 (dk_at dksX5_noSwitch_0 12 rfl rfl)
theorem dX5_noSwitch_13 : decode cX5_noSwitch 13 = .ok (.goto 4, 3) := dk_167 0 4 (dk_at dksX5_noSwitch_0 13 rfl rfl)
theorem dX5_noSwitch_16 : decode cX5_noSwitch 16 = .ok (.iconst 0, 1) := dk_3 (dk_at dksX5_noSwitch_0 16 rfl rfl)
theorem dX5_noSwitch_17 : decode cX5_noSwitch 17 = .ok (.ireturn, 1) := dk_172 (dk_at dksX5_noSwitch_0 17 rfl rfl)
abbrev cX5_freeAt : ByteArray := prog_12_method_95_code
def yX5_freeAt : MethodName := ⟨RX5, "freeAt", "(IZ)I"⟩
def dkwX5_freeAt_2 : List UInt8 := [167, 255, 215, 29, 172]
abbrev dktX5_freeAt_2 : List UInt8 := dkwX5_freeAt_2 ++ []
def dkwX5_freeAt_1 : List UInt8 := [42, 21, 4, 27, 28, 182, 0, 184, 2, 160, 0, 7, 4, 167, 0, 4, 3, 96, 62, 132, 4, 1]
abbrev dktX5_freeAt_1 : List UInt8 := dkwX5_freeAt_1 ++ dktX5_freeAt_2
def dkwX5_freeAt_0 : List UInt8 := [3, 62, 3, 54, 4, 21, 4, 42, 180, 0, 26, 162, 0, 38, 29, 42, 21, 4, 182, 0, 164, 154, 0, 19]
abbrev dktX5_freeAt_0 : List UInt8 := dkwX5_freeAt_0 ++ dktX5_freeAt_1
theorem dksX5_freeAt_0 : cX5_freeAt.data.toList.drop 0 = dktX5_freeAt_0 := by decide +kernel
theorem dksX5_freeAt_1 : cX5_freeAt.data.toList.drop 24 = dktX5_freeAt_1 := dk_seg dksX5_freeAt_0 24 rfl rfl
theorem dksX5_freeAt_2 : cX5_freeAt.data.toList.drop 46 = dktX5_freeAt_2 := dk_seg dksX5_freeAt_1 22 rfl rfl
theorem dX5_freeAt_0 : decode cX5_freeAt 0 = .ok (.iconst 0, 1) := dk_3 (dk_at dksX5_freeAt_0 0 rfl rfl)
theorem dX5_freeAt_1 : decode cX5_freeAt 1 = .ok (.istore_n 3, 1) := dk_62 (dk_at dksX5_freeAt_0 1 rfl rfl)
theorem dX5_freeAt_2 : decode cX5_freeAt 2 = .ok (.iconst 0, 1) := dk_3 (dk_at dksX5_freeAt_0 2 rfl rfl)
theorem dX5_freeAt_3 : decode cX5_freeAt 3 = .ok (.istore 4, 2) := dk_54 4 (dk_at dksX5_freeAt_0 3 rfl rfl)
theorem dX5_freeAt_5 : decode cX5_freeAt 5 = .ok (.iload 4, 2) := dk_21 4 (dk_at dksX5_freeAt_0 5 rfl rfl)
theorem dX5_freeAt_7 : decode cX5_freeAt 7 = .ok (.aload_n 0, 1) := dk_42 (dk_at dksX5_freeAt_0 7 rfl rfl)
theorem dX5_freeAt_8 : decode cX5_freeAt 8 = .ok (.getfield 26, 3) := dk_180 0 26 (dk_at dksX5_freeAt_0 8 rfl rfl)
theorem dX5_freeAt_11 : decode cX5_freeAt 11 = .ok (.if_icmp .ge 38, 3) := dk_162 0 38 (dk_at dksX5_freeAt_0 11 rfl rfl)
theorem dX5_freeAt_14 : decode cX5_freeAt 14 = .ok (.iload_n 3, 1) := dk_29 (dk_at dksX5_freeAt_0 14 rfl rfl)
theorem dX5_freeAt_15 : decode cX5_freeAt 15 = .ok (.aload_n 0, 1) := dk_42 (dk_at dksX5_freeAt_0 15 rfl rfl)
theorem dX5_freeAt_16 : decode cX5_freeAt 16 = .ok (.iload 4, 2) := dk_21 4 (dk_at dksX5_freeAt_0 16 rfl rfl)
theorem dX5_freeAt_18 : decode cX5_freeAt 18 = .ok (.invokevirtual 164, 3) := dk_182 0 164 (dk_at dksX5_freeAt_0 18 rfl rfl)
theorem dX5_freeAt_21 : decode cX5_freeAt 21 = .ok (.ifCond .ne 19, 3) := dk_154 0 19 (dk_at dksX5_freeAt_0 21 rfl rfl)
theorem dX5_freeAt_24 : decode cX5_freeAt 24 = .ok (.aload_n 0, 1) := dk_42 (dk_at dksX5_freeAt_1 0 rfl rfl)
theorem dX5_freeAt_25 : decode cX5_freeAt 25 = .ok (.iload 4, 2) := dk_21 4 (dk_at dksX5_freeAt_1 1 rfl rfl)
theorem dX5_freeAt_27 : decode cX5_freeAt 27 = .ok (.iload_n 1, 1) := dk_27 (dk_at dksX5_freeAt_1 3 rfl rfl)
theorem dX5_freeAt_28 : decode cX5_freeAt 28 = .ok (.iload_n 2, 1) := dk_28 (dk_at dksX5_freeAt_1 4 rfl rfl)
theorem dX5_freeAt_29 : decode cX5_freeAt 29 = .ok (.invokevirtual 184, 3) := dk_182 0 184 (dk_at dksX5_freeAt_1 5 rfl rfl)
theorem dX5_freeAt_32 : decode cX5_freeAt 32 = .ok (.iconst (-1), 1) := dk_2 (dk_at dksX5_freeAt_1 8 rfl rfl)
theorem dX5_freeAt_33 : decode cX5_freeAt 33 = .ok (.if_icmp .ne 7, 3) := dk_160 0 7 (dk_at dksX5_freeAt_1 9 rfl rfl)
theorem dX5_freeAt_36 : decode cX5_freeAt 36 = .ok (.iconst 1, 1) := dk_4 (dk_at dksX5_freeAt_1 12 rfl rfl)
theorem dX5_freeAt_37 : decode cX5_freeAt 37 = .ok (.goto 4, 3) := dk_167 0 4 (dk_at dksX5_freeAt_1 13 rfl rfl)
theorem dX5_freeAt_40 : decode cX5_freeAt 40 = .ok (.iconst 0, 1) := dk_3 (dk_at dksX5_freeAt_1 16 rfl rfl)
theorem dX5_freeAt_41 : decode cX5_freeAt 41 = .ok (.iadd, 1) := dk_96 (dk_at dksX5_freeAt_1 17 rfl rfl)
theorem dX5_freeAt_42 : decode cX5_freeAt 42 = .ok (.istore_n 3, 1) := dk_62 (dk_at dksX5_freeAt_1 18 rfl rfl)
theorem dX5_freeAt_43 : decode cX5_freeAt 43 = .ok (.iinc 4 1, 3) := dk_132 4 1 (dk_at dksX5_freeAt_1 19 rfl rfl)
theorem dX5_freeAt_46 : decode cX5_freeAt 46 = .ok (.goto (-41), 3) := dk_167 255 215 (dk_at dksX5_freeAt_2 0 rfl rfl)
theorem dX5_freeAt_49 : decode cX5_freeAt 49 = .ok (.iload_n 3, 1) := dk_29 (dk_at dksX5_freeAt_2 3 rfl rfl)
theorem dX5_freeAt_50 : decode cX5_freeAt 50 = .ok (.ireturn, 1) := dk_172 (dk_at dksX5_freeAt_2 4 rfl rfl)
abbrev cX5_middle : ByteArray := prog_12_method_97_code
def yX5_middle : MethodName := ⟨RX5, "middle", "(II)I"⟩
def dkwX5_middle_4 : List UInt8 := [132, 3, 1, 167, 255, 228, 2, 172, 42, 5, 182, 0, 116, 172]
abbrev dktX5_middle_4 : List UInt8 := dkwX5_middle_4 ++ []
def dkwX5_middle_3 : List UInt8 := [180, 0, 132, 162, 0, 26, 42, 180, 0, 45, 29, 46, 27, 160, 0, 10, 42, 180, 0, 35, 29, 46, 172]
abbrev dktX5_middle_3 : List UInt8 := dkwX5_middle_3 ++ dktX5_middle_4
def dkwX5_middle_2 : List UInt8 := [42, 27, 182, 0, 164, 153, 0, 7, 3, 167, 0, 4, 4, 172, 42, 27, 182, 0, 192, 172, 3, 62, 29, 42]
abbrev dktX5_middle_2 : List UInt8 := dkwX5_middle_2 ++ dktX5_middle_3
def dkwX5_middle_1 : List UInt8 := [170, 0, 0, 0, 0, 0, 0, 83, 0, 0, 0, 0, 0, 0, 0, 2, 0, 0, 0, 28, 0, 0, 0, 42, 0, 0, 0, 48]
abbrev dktX5_middle_1 : List UInt8 := dkwX5_middle_1 ++ dktX5_middle_2
def dkwX5_middle_0 : List UInt8 := [42, 3, 181, 0, 106, 42, 27, 182, 1, 167, 153, 0, 9, 42, 4, 182, 0, 116, 172, 28]
abbrev dktX5_middle_0 : List UInt8 := dkwX5_middle_0 ++ dktX5_middle_1
theorem dksX5_middle_0 : cX5_middle.data.toList.drop 0 = dktX5_middle_0 := by decide +kernel
theorem dksX5_middle_1 : cX5_middle.data.toList.drop 20 = dktX5_middle_1 := dk_seg dksX5_middle_0 20 rfl rfl
theorem dksX5_middle_2 : cX5_middle.data.toList.drop 48 = dktX5_middle_2 := dk_seg dksX5_middle_1 28 rfl rfl
theorem dksX5_middle_3 : cX5_middle.data.toList.drop 72 = dktX5_middle_3 := dk_seg dksX5_middle_2 24 rfl rfl
theorem dksX5_middle_4 : cX5_middle.data.toList.drop 95 = dktX5_middle_4 := dk_seg dksX5_middle_3 23 rfl rfl
theorem dX5_middle_0 : decode cX5_middle 0 = .ok (.aload_n 0, 1) := dk_42 (dk_at dksX5_middle_0 0 rfl rfl)
theorem dX5_middle_1 : decode cX5_middle 1 = .ok (.iconst 0, 1) := dk_3 (dk_at dksX5_middle_0 1 rfl rfl)
theorem dX5_middle_2 : decode cX5_middle 2 = .ok (.putfield 106, 3) := dk_181 0 106 (dk_at dksX5_middle_0 2 rfl rfl)
theorem dX5_middle_5 : decode cX5_middle 5 = .ok (.aload_n 0, 1) := dk_42 (dk_at dksX5_middle_0 5 rfl rfl)
theorem dX5_middle_6 : decode cX5_middle 6 = .ok (.iload_n 1, 1) := dk_27 (dk_at dksX5_middle_0 6 rfl rfl)
theorem dX5_middle_7 : decode cX5_middle 7 = .ok (.invokevirtual 423, 3) := dk_182 1 167 (dk_at dksX5_middle_0 7 rfl rfl)
theorem dX5_middle_10 : decode cX5_middle 10 = .ok (.ifCond .eq 9, 3) := dk_153 0 9 (dk_at dksX5_middle_0 10 rfl rfl)
theorem dX5_middle_13 : decode cX5_middle 13 = .ok (.aload_n 0, 1) := dk_42 (dk_at dksX5_middle_0 13 rfl rfl)
theorem dX5_middle_14 : decode cX5_middle 14 = .ok (.iconst 1, 1) := dk_4 (dk_at dksX5_middle_0 14 rfl rfl)
theorem dX5_middle_15 : decode cX5_middle 15 = .ok (.invokevirtual 116, 3) := dk_182 0 116 (dk_at dksX5_middle_0 15 rfl rfl)
theorem dX5_middle_18 : decode cX5_middle 18 = .ok (.ireturn, 1) := dk_172 (dk_at dksX5_middle_0 18 rfl rfl)
theorem dX5_middle_19 : decode cX5_middle 19 = .ok (.iload_n 2, 1) := dk_28 (dk_at dksX5_middle_0 19 rfl rfl)
theorem dX5_middle_20 : decode cX5_middle 20 = .ok (.tableswitch 83 0 2 #[28, 42, 48], 28) := by decide +kernel
theorem dX5_middle_48 : decode cX5_middle 48 = .ok (.aload_n 0, 1) := dk_42 (dk_at dksX5_middle_2 0 rfl rfl)
theorem dX5_middle_49 : decode cX5_middle 49 = .ok (.iload_n 1, 1) := dk_27 (dk_at dksX5_middle_2 1 rfl rfl)
theorem dX5_middle_50 : decode cX5_middle 50 = .ok (.invokevirtual 164, 3) := dk_182 0 164 (dk_at dksX5_middle_2 2 rfl rfl)
theorem dX5_middle_53 : decode cX5_middle 53 = .ok (.ifCond .eq 7, 3) := dk_153 0 7 (dk_at dksX5_middle_2 5 rfl rfl)
theorem dX5_middle_56 : decode cX5_middle 56 = .ok (.iconst 0, 1) := dk_3 (dk_at dksX5_middle_2 8 rfl rfl)
theorem dX5_middle_57 : decode cX5_middle 57 = .ok (.goto 4, 3) := dk_167 0 4 (dk_at dksX5_middle_2 9 rfl rfl)
theorem dX5_middle_60 : decode cX5_middle 60 = .ok (.iconst 1, 1) := dk_4 (dk_at dksX5_middle_2 12 rfl rfl)
theorem dX5_middle_61 : decode cX5_middle 61 = .ok (.ireturn, 1) := dk_172 (dk_at dksX5_middle_2 13 rfl rfl)
theorem dX5_middle_62 : decode cX5_middle 62 = .ok (.aload_n 0, 1) := dk_42 (dk_at dksX5_middle_2 14 rfl rfl)
theorem dX5_middle_63 : decode cX5_middle 63 = .ok (.iload_n 1, 1) := dk_27 (dk_at dksX5_middle_2 15 rfl rfl)
theorem dX5_middle_64 : decode cX5_middle 64 = .ok (.invokevirtual 192, 3) := dk_182 0 192 (dk_at dksX5_middle_2 16 rfl rfl)
theorem dX5_middle_67 : decode cX5_middle 67 = .ok (.ireturn, 1) := dk_172 (dk_at dksX5_middle_2 19 rfl rfl)
theorem dX5_middle_68 : decode cX5_middle 68 = .ok (.iconst 0, 1) := dk_3 (dk_at dksX5_middle_2 20 rfl rfl)
theorem dX5_middle_69 : decode cX5_middle 69 = .ok (.istore_n 3, 1) := dk_62 (dk_at dksX5_middle_2 21 rfl rfl)
theorem dX5_middle_70 : decode cX5_middle 70 = .ok (.iload_n 3, 1) := dk_29 (dk_at dksX5_middle_2 22 rfl rfl)
theorem dX5_middle_71 : decode cX5_middle 71 = .ok (.aload_n 0, 1) := dk_42 (dk_at dksX5_middle_2 23 rfl rfl)
theorem dX5_middle_72 : decode cX5_middle 72 = .ok (.getfield 132, 3) := dk_180 0 132 (dk_at dksX5_middle_3 0 rfl rfl)
theorem dX5_middle_75 : decode cX5_middle 75 = .ok (.if_icmp .ge 26, 3) := dk_162 0 26 (dk_at dksX5_middle_3 3 rfl rfl)
theorem dX5_middle_78 : decode cX5_middle 78 = .ok (.aload_n 0, 1) := dk_42 (dk_at dksX5_middle_3 6 rfl rfl)
theorem dX5_middle_79 : decode cX5_middle 79 = .ok (.getfield 45, 3) := dk_180 0 45 (dk_at dksX5_middle_3 7 rfl rfl)
theorem dX5_middle_82 : decode cX5_middle 82 = .ok (.iload_n 3, 1) := dk_29 (dk_at dksX5_middle_3 10 rfl rfl)
theorem dX5_middle_83 : decode cX5_middle 83 = .ok (.iaload, 1) := dk_46 (dk_at dksX5_middle_3 11 rfl rfl)
theorem dX5_middle_84 : decode cX5_middle 84 = .ok (.iload_n 1, 1) := dk_27 (dk_at dksX5_middle_3 12 rfl rfl)
theorem dX5_middle_85 : decode cX5_middle 85 = .ok (.if_icmp .ne 10, 3) := dk_160 0 10 (dk_at dksX5_middle_3 13 rfl rfl)
theorem dX5_middle_88 : decode cX5_middle 88 = .ok (.aload_n 0, 1) := dk_42 (dk_at dksX5_middle_3 16 rfl rfl)
theorem dX5_middle_89 : decode cX5_middle 89 = .ok (.getfield 35, 3) := dk_180 0 35 (dk_at dksX5_middle_3 17 rfl rfl)
theorem dX5_middle_92 : decode cX5_middle 92 = .ok (.iload_n 3, 1) := dk_29 (dk_at dksX5_middle_3 20 rfl rfl)
theorem dX5_middle_93 : decode cX5_middle 93 = .ok (.iaload, 1) := dk_46 (dk_at dksX5_middle_3 21 rfl rfl)
theorem dX5_middle_94 : decode cX5_middle 94 = .ok (.ireturn, 1) := dk_172 (dk_at dksX5_middle_3 22 rfl rfl)
theorem dX5_middle_95 : decode cX5_middle 95 = .ok (.iinc 3 1, 3) := dk_132 3 1 (dk_at dksX5_middle_4 0 rfl rfl)
theorem dX5_middle_98 : decode cX5_middle 98 = .ok (.goto (-28), 3) := dk_167 255 228 (dk_at dksX5_middle_4 3 rfl rfl)
theorem dX5_middle_101 : decode cX5_middle 101 = .ok (.iconst (-1), 1) := dk_2 (dk_at dksX5_middle_4 6 rfl rfl)
theorem dX5_middle_102 : decode cX5_middle 102 = .ok (.ireturn, 1) := dk_172 (dk_at dksX5_middle_4 7 rfl rfl)
theorem dX5_middle_103 : decode cX5_middle 103 = .ok (.aload_n 0, 1) := dk_42 (dk_at dksX5_middle_4 8 rfl rfl)
theorem dX5_middle_104 : decode cX5_middle 104 = .ok (.iconst 2, 1) := dk_5 (dk_at dksX5_middle_4 9 rfl rfl)
theorem dX5_middle_105 : decode cX5_middle 105 = .ok (.invokevirtual 116, 3) := dk_182 0 116 (dk_at dksX5_middle_4 10 rfl rfl)
theorem dX5_middle_108 : decode cX5_middle 108 = .ok (.ireturn, 1) := dk_172 (dk_at dksX5_middle_4 13 rfl rfl)
abbrev cX5_carried : ByteArray := prog_12_method_98_code
def yX5_carried : MethodName := ⟨RX5, "carried", "(IIZ)I"⟩
def dkwX5_carried_2 : List UInt8 := [180, 0, 35, 21, 4, 46, 172]
abbrev dktX5_carried_2 : List UInt8 := dkwX5_carried_2 ++ []
def dkwX5_carried_1 : List UInt8 := [182, 0, 116, 172, 42, 27, 28, 29, 182, 0, 184, 54, 4, 21, 4, 2, 160, 0, 7, 2, 167, 0, 10, 42]
abbrev dktX5_carried_1 : List UInt8 := dkwX5_carried_1 ++ dktX5_carried_2
def dkwX5_carried_0 : List UInt8 := [42, 3, 181, 0, 106, 42, 27, 182, 1, 167, 154, 0, 11, 42, 28, 182, 1, 182, 153, 0, 9, 42, 4]
abbrev dktX5_carried_0 : List UInt8 := dkwX5_carried_0 ++ dktX5_carried_1
theorem dksX5_carried_0 : cX5_carried.data.toList.drop 0 = dktX5_carried_0 := by decide +kernel
theorem dksX5_carried_1 : cX5_carried.data.toList.drop 23 = dktX5_carried_1 := dk_seg dksX5_carried_0 23 rfl rfl
theorem dksX5_carried_2 : cX5_carried.data.toList.drop 47 = dktX5_carried_2 := dk_seg dksX5_carried_1 24 rfl rfl
theorem dX5_carried_0 : decode cX5_carried 0 = .ok (.aload_n 0, 1) := dk_42 (dk_at dksX5_carried_0 0 rfl rfl)
theorem dX5_carried_1 : decode cX5_carried 1 = .ok (.iconst 0, 1) := dk_3 (dk_at dksX5_carried_0 1 rfl rfl)
theorem dX5_carried_2 : decode cX5_carried 2 = .ok (.putfield 106, 3) := dk_181 0 106 (dk_at dksX5_carried_0 2 rfl rfl)
theorem dX5_carried_5 : decode cX5_carried 5 = .ok (.aload_n 0, 1) := dk_42 (dk_at dksX5_carried_0 5 rfl rfl)
theorem dX5_carried_6 : decode cX5_carried 6 = .ok (.iload_n 1, 1) := dk_27 (dk_at dksX5_carried_0 6 rfl rfl)
theorem dX5_carried_7 : decode cX5_carried 7 = .ok (.invokevirtual 423, 3) := dk_182 1 167 (dk_at dksX5_carried_0 7 rfl rfl)
theorem dX5_carried_10 : decode cX5_carried 10 = .ok (.ifCond .ne 11, 3) := dk_154 0 11 (dk_at dksX5_carried_0 10 rfl rfl)
theorem dX5_carried_13 : decode cX5_carried 13 = .ok (.aload_n 0, 1) := dk_42 (dk_at dksX5_carried_0 13 rfl rfl)
theorem dX5_carried_14 : decode cX5_carried 14 = .ok (.iload_n 2, 1) := dk_28 (dk_at dksX5_carried_0 14 rfl rfl)
theorem dX5_carried_15 : decode cX5_carried 15 = .ok (.invokevirtual 438, 3) := dk_182 1 182 (dk_at dksX5_carried_0 15 rfl rfl)
theorem dX5_carried_18 : decode cX5_carried 18 = .ok (.ifCond .eq 9, 3) := dk_153 0 9 (dk_at dksX5_carried_0 18 rfl rfl)
theorem dX5_carried_21 : decode cX5_carried 21 = .ok (.aload_n 0, 1) := dk_42 (dk_at dksX5_carried_0 21 rfl rfl)
theorem dX5_carried_22 : decode cX5_carried 22 = .ok (.iconst 1, 1) := dk_4 (dk_at dksX5_carried_0 22 rfl rfl)
theorem dX5_carried_23 : decode cX5_carried 23 = .ok (.invokevirtual 116, 3) := dk_182 0 116 (dk_at dksX5_carried_1 0 rfl rfl)
theorem dX5_carried_26 : decode cX5_carried 26 = .ok (.ireturn, 1) := dk_172 (dk_at dksX5_carried_1 3 rfl rfl)
theorem dX5_carried_27 : decode cX5_carried 27 = .ok (.aload_n 0, 1) := dk_42 (dk_at dksX5_carried_1 4 rfl rfl)
theorem dX5_carried_28 : decode cX5_carried 28 = .ok (.iload_n 1, 1) := dk_27 (dk_at dksX5_carried_1 5 rfl rfl)
theorem dX5_carried_29 : decode cX5_carried 29 = .ok (.iload_n 2, 1) := dk_28 (dk_at dksX5_carried_1 6 rfl rfl)
theorem dX5_carried_30 : decode cX5_carried 30 = .ok (.iload_n 3, 1) := dk_29 (dk_at dksX5_carried_1 7 rfl rfl)
theorem dX5_carried_31 : decode cX5_carried 31 = .ok (.invokevirtual 184, 3) := dk_182 0 184 (dk_at dksX5_carried_1 8 rfl rfl)
theorem dX5_carried_34 : decode cX5_carried 34 = .ok (.istore 4, 2) := dk_54 4 (dk_at dksX5_carried_1 11 rfl rfl)
theorem dX5_carried_36 : decode cX5_carried 36 = .ok (.iload 4, 2) := dk_21 4 (dk_at dksX5_carried_1 13 rfl rfl)
theorem dX5_carried_38 : decode cX5_carried 38 = .ok (.iconst (-1), 1) := dk_2 (dk_at dksX5_carried_1 15 rfl rfl)
theorem dX5_carried_39 : decode cX5_carried 39 = .ok (.if_icmp .ne 7, 3) := dk_160 0 7 (dk_at dksX5_carried_1 16 rfl rfl)
theorem dX5_carried_42 : decode cX5_carried 42 = .ok (.iconst (-1), 1) := dk_2 (dk_at dksX5_carried_1 19 rfl rfl)
theorem dX5_carried_43 : decode cX5_carried 43 = .ok (.goto 10, 3) := dk_167 0 10 (dk_at dksX5_carried_1 20 rfl rfl)
theorem dX5_carried_46 : decode cX5_carried 46 = .ok (.aload_n 0, 1) := dk_42 (dk_at dksX5_carried_1 23 rfl rfl)
theorem dX5_carried_47 : decode cX5_carried 47 = .ok (.getfield 35, 3) := dk_180 0 35 (dk_at dksX5_carried_2 0 rfl rfl)
theorem dX5_carried_50 : decode cX5_carried 50 = .ok (.iload 4, 2) := dk_21 4 (dk_at dksX5_carried_2 3 rfl rfl)
theorem dX5_carried_52 : decode cX5_carried 52 = .ok (.iaload, 1) := dk_46 (dk_at dksX5_carried_2 5 rfl rfl)
theorem dX5_carried_53 : decode cX5_carried 53 = .ok (.ireturn, 1) := dk_172 (dk_at dksX5_carried_2 6 rfl rfl)
abbrev cX5_callOf : ByteArray := prog_12_method_99_code
def yX5_callOf : MethodName := ⟨RX5, "callOf", "(II)I"⟩
def dkwX5_callOf_6 : List UInt8 := [180, 0, 126, 100, 172, 42, 5, 182, 0, 116, 172]
abbrev dktX5_callOf_6 : List UInt8 := dkwX5_callOf_6 ++ []
def dkwX5_callOf_5 : List UInt8 := [29, 46, 154, 0, 7, 2, 167, 0, 21, 42, 180, 0, 48, 29, 46, 42, 180, 0, 51, 29, 46, 96, 42]
abbrev dktX5_callOf_5 : List UInt8 := dkwX5_callOf_5 ++ dktX5_callOf_6
def dkwX5_callOf_4 : List UInt8 := [180, 0, 48, 29, 46, 172, 42, 180, 0, 51, 29, 46, 172, 42, 180, 0, 54, 29, 46, 172, 42, 180, 0, 51]
abbrev dktX5_callOf_4 : List UInt8 := dkwX5_callOf_4 ++ dktX5_callOf_5
def dkwX5_callOf_3 : List UInt8 := [42, 180, 0, 39, 29, 46, 172, 42, 180, 0, 42, 29, 46, 172, 42, 180, 0, 45, 29, 46, 172, 42]
abbrev dktX5_callOf_3 : List UInt8 := dkwX5_callOf_3 ++ dktX5_callOf_4
def dkwX5_callOf_2 : List UInt8 := [170, 0, 0, 0, 0, 116, 0, 0, 0, 0, 0, 0, 0, 6, 0, 0, 0, 42, 0, 0, 0, 49, 0, 0, 0, 56, 0, 0, 0, 63, 0, 0, 0, 70, 0, 0, 0, 77, 0, 0, 0, 84]
abbrev dktX5_callOf_2 : List UInt8 := dkwX5_callOf_2 ++ dktX5_callOf_3
def dkwX5_callOf_1 : List UInt8 := [159, 0, 9, 132, 3, 1, 167, 255, 235, 29, 42, 180, 0, 132, 160, 0, 9, 42, 4, 182, 0, 116, 172, 28]
abbrev dktX5_callOf_1 : List UInt8 := dkwX5_callOf_1 ++ dktX5_callOf_2
def dkwX5_callOf_0 : List UInt8 := [42, 3, 181, 0, 106, 3, 62, 29, 42, 180, 0, 132, 162, 0, 19, 42, 180, 0, 35, 29, 46, 27]
abbrev dktX5_callOf_0 : List UInt8 := dkwX5_callOf_0 ++ dktX5_callOf_1
theorem dksX5_callOf_0 : cX5_callOf.data.toList.drop 0 = dktX5_callOf_0 := by decide +kernel
theorem dksX5_callOf_1 : cX5_callOf.data.toList.drop 22 = dktX5_callOf_1 := dk_seg dksX5_callOf_0 22 rfl rfl
theorem dksX5_callOf_2 : cX5_callOf.data.toList.drop 46 = dktX5_callOf_2 := dk_seg dksX5_callOf_1 24 rfl rfl
theorem dksX5_callOf_3 : cX5_callOf.data.toList.drop 88 = dktX5_callOf_3 := dk_seg dksX5_callOf_2 42 rfl rfl
theorem dksX5_callOf_4 : cX5_callOf.data.toList.drop 110 = dktX5_callOf_4 := dk_seg dksX5_callOf_3 22 rfl rfl
theorem dksX5_callOf_5 : cX5_callOf.data.toList.drop 134 = dktX5_callOf_5 := dk_seg dksX5_callOf_4 24 rfl rfl
theorem dksX5_callOf_6 : cX5_callOf.data.toList.drop 157 = dktX5_callOf_6 := dk_seg dksX5_callOf_5 23 rfl rfl
theorem dX5_callOf_0 : decode cX5_callOf 0 = .ok (.aload_n 0, 1) := dk_42 (dk_at dksX5_callOf_0 0 rfl rfl)
theorem dX5_callOf_1 : decode cX5_callOf 1 = .ok (.iconst 0, 1) := dk_3 (dk_at dksX5_callOf_0 1 rfl rfl)
theorem dX5_callOf_2 : decode cX5_callOf 2 = .ok (.putfield 106, 3) := dk_181 0 106 (dk_at dksX5_callOf_0 2 rfl rfl)
theorem dX5_callOf_5 : decode cX5_callOf 5 = .ok (.iconst 0, 1) := dk_3 (dk_at dksX5_callOf_0 5 rfl rfl)
theorem dX5_callOf_6 : decode cX5_callOf 6 = .ok (.istore_n 3, 1) := dk_62 (dk_at dksX5_callOf_0 6 rfl rfl)
theorem dX5_callOf_7 : decode cX5_callOf 7 = .ok (.iload_n 3, 1) := dk_29 (dk_at dksX5_callOf_0 7 rfl rfl)
theorem dX5_callOf_8 : decode cX5_callOf 8 = .ok (.aload_n 0, 1) := dk_42 (dk_at dksX5_callOf_0 8 rfl rfl)
theorem dX5_callOf_9 : decode cX5_callOf 9 = .ok (.getfield 132, 3) := dk_180 0 132 (dk_at dksX5_callOf_0 9 rfl rfl)
theorem dX5_callOf_12 : decode cX5_callOf 12 = .ok (.if_icmp .ge 19, 3) := dk_162 0 19 (dk_at dksX5_callOf_0 12 rfl rfl)
theorem dX5_callOf_15 : decode cX5_callOf 15 = .ok (.aload_n 0, 1) := dk_42 (dk_at dksX5_callOf_0 15 rfl rfl)
theorem dX5_callOf_16 : decode cX5_callOf 16 = .ok (.getfield 35, 3) := dk_180 0 35 (dk_at dksX5_callOf_0 16 rfl rfl)
theorem dX5_callOf_19 : decode cX5_callOf 19 = .ok (.iload_n 3, 1) := dk_29 (dk_at dksX5_callOf_0 19 rfl rfl)
theorem dX5_callOf_20 : decode cX5_callOf 20 = .ok (.iaload, 1) := dk_46 (dk_at dksX5_callOf_0 20 rfl rfl)
theorem dX5_callOf_21 : decode cX5_callOf 21 = .ok (.iload_n 1, 1) := dk_27 (dk_at dksX5_callOf_0 21 rfl rfl)
theorem dX5_callOf_22 : decode cX5_callOf 22 = .ok (.if_icmp .eq 9, 3) := dk_159 0 9 (dk_at dksX5_callOf_1 0 rfl rfl)
theorem dX5_callOf_25 : decode cX5_callOf 25 = .ok (.iinc 3 1, 3) := dk_132 3 1 (dk_at dksX5_callOf_1 3 rfl rfl)
theorem dX5_callOf_28 : decode cX5_callOf 28 = .ok (.goto (-21), 3) := dk_167 255 235 (dk_at dksX5_callOf_1 6 rfl rfl)
theorem dX5_callOf_31 : decode cX5_callOf 31 = .ok (.iload_n 3, 1) := dk_29 (dk_at dksX5_callOf_1 9 rfl rfl)
theorem dX5_callOf_32 : decode cX5_callOf 32 = .ok (.aload_n 0, 1) := dk_42 (dk_at dksX5_callOf_1 10 rfl rfl)
theorem dX5_callOf_33 : decode cX5_callOf 33 = .ok (.getfield 132, 3) := dk_180 0 132 (dk_at dksX5_callOf_1 11 rfl rfl)
theorem dX5_callOf_36 : decode cX5_callOf 36 = .ok (.if_icmp .ne 9, 3) := dk_160 0 9 (dk_at dksX5_callOf_1 14 rfl rfl)
theorem dX5_callOf_39 : decode cX5_callOf 39 = .ok (.aload_n 0, 1) := dk_42 (dk_at dksX5_callOf_1 17 rfl rfl)
theorem dX5_callOf_40 : decode cX5_callOf 40 = .ok (.iconst 1, 1) := dk_4 (dk_at dksX5_callOf_1 18 rfl rfl)
theorem dX5_callOf_41 : decode cX5_callOf 41 = .ok (.invokevirtual 116, 3) := dk_182 0 116 (dk_at dksX5_callOf_1 19 rfl rfl)
theorem dX5_callOf_44 : decode cX5_callOf 44 = .ok (.ireturn, 1) := dk_172 (dk_at dksX5_callOf_1 22 rfl rfl)
theorem dX5_callOf_45 : decode cX5_callOf 45 = .ok (.iload_n 2, 1) := dk_28 (dk_at dksX5_callOf_1 23 rfl rfl)
theorem dX5_callOf_46 : decode cX5_callOf 46 = .ok (.tableswitch 116 0 6 #[42, 49, 56, 63, 70, 77, 84], 42) := by decide +kernel
theorem dX5_callOf_88 : decode cX5_callOf 88 = .ok (.aload_n 0, 1) := dk_42 (dk_at dksX5_callOf_3 0 rfl rfl)
theorem dX5_callOf_89 : decode cX5_callOf 89 = .ok (.getfield 39, 3) := dk_180 0 39 (dk_at dksX5_callOf_3 1 rfl rfl)
theorem dX5_callOf_92 : decode cX5_callOf 92 = .ok (.iload_n 3, 1) := dk_29 (dk_at dksX5_callOf_3 4 rfl rfl)
theorem dX5_callOf_93 : decode cX5_callOf 93 = .ok (.iaload, 1) := dk_46 (dk_at dksX5_callOf_3 5 rfl rfl)
theorem dX5_callOf_94 : decode cX5_callOf 94 = .ok (.ireturn, 1) := dk_172 (dk_at dksX5_callOf_3 6 rfl rfl)
theorem dX5_callOf_95 : decode cX5_callOf 95 = .ok (.aload_n 0, 1) := dk_42 (dk_at dksX5_callOf_3 7 rfl rfl)
theorem dX5_callOf_96 : decode cX5_callOf 96 = .ok (.getfield 42, 3) := dk_180 0 42 (dk_at dksX5_callOf_3 8 rfl rfl)
theorem dX5_callOf_99 : decode cX5_callOf 99 = .ok (.iload_n 3, 1) := dk_29 (dk_at dksX5_callOf_3 11 rfl rfl)
theorem dX5_callOf_100 : decode cX5_callOf 100 = .ok (.iaload, 1) := dk_46 (dk_at dksX5_callOf_3 12 rfl rfl)
theorem dX5_callOf_101 : decode cX5_callOf 101 = .ok (.ireturn, 1) := dk_172 (dk_at dksX5_callOf_3 13 rfl rfl)
theorem dX5_callOf_102 : decode cX5_callOf 102 = .ok (.aload_n 0, 1) := dk_42 (dk_at dksX5_callOf_3 14 rfl rfl)
theorem dX5_callOf_103 : decode cX5_callOf 103 = .ok (.getfield 45, 3) := dk_180 0 45 (dk_at dksX5_callOf_3 15 rfl rfl)
theorem dX5_callOf_106 : decode cX5_callOf 106 = .ok (.iload_n 3, 1) := dk_29 (dk_at dksX5_callOf_3 18 rfl rfl)
theorem dX5_callOf_107 : decode cX5_callOf 107 = .ok (.iaload, 1) := dk_46 (dk_at dksX5_callOf_3 19 rfl rfl)
theorem dX5_callOf_108 : decode cX5_callOf 108 = .ok (.ireturn, 1) := dk_172 (dk_at dksX5_callOf_3 20 rfl rfl)
theorem dX5_callOf_109 : decode cX5_callOf 109 = .ok (.aload_n 0, 1) := dk_42 (dk_at dksX5_callOf_3 21 rfl rfl)
theorem dX5_callOf_110 : decode cX5_callOf 110 = .ok (.getfield 48, 3) := dk_180 0 48 (dk_at dksX5_callOf_4 0 rfl rfl)
theorem dX5_callOf_113 : decode cX5_callOf 113 = .ok (.iload_n 3, 1) := dk_29 (dk_at dksX5_callOf_4 3 rfl rfl)
theorem dX5_callOf_114 : decode cX5_callOf 114 = .ok (.iaload, 1) := dk_46 (dk_at dksX5_callOf_4 4 rfl rfl)
theorem dX5_callOf_115 : decode cX5_callOf 115 = .ok (.ireturn, 1) := dk_172 (dk_at dksX5_callOf_4 5 rfl rfl)
theorem dX5_callOf_116 : decode cX5_callOf 116 = .ok (.aload_n 0, 1) := dk_42 (dk_at dksX5_callOf_4 6 rfl rfl)
theorem dX5_callOf_117 : decode cX5_callOf 117 = .ok (.getfield 51, 3) := dk_180 0 51 (dk_at dksX5_callOf_4 7 rfl rfl)
theorem dX5_callOf_120 : decode cX5_callOf 120 = .ok (.iload_n 3, 1) := dk_29 (dk_at dksX5_callOf_4 10 rfl rfl)
theorem dX5_callOf_121 : decode cX5_callOf 121 = .ok (.iaload, 1) := dk_46 (dk_at dksX5_callOf_4 11 rfl rfl)
theorem dX5_callOf_122 : decode cX5_callOf 122 = .ok (.ireturn, 1) := dk_172 (dk_at dksX5_callOf_4 12 rfl rfl)
theorem dX5_callOf_123 : decode cX5_callOf 123 = .ok (.aload_n 0, 1) := dk_42 (dk_at dksX5_callOf_4 13 rfl rfl)
theorem dX5_callOf_124 : decode cX5_callOf 124 = .ok (.getfield 54, 3) := dk_180 0 54 (dk_at dksX5_callOf_4 14 rfl rfl)
theorem dX5_callOf_127 : decode cX5_callOf 127 = .ok (.iload_n 3, 1) := dk_29 (dk_at dksX5_callOf_4 17 rfl rfl)
theorem dX5_callOf_128 : decode cX5_callOf 128 = .ok (.iaload, 1) := dk_46 (dk_at dksX5_callOf_4 18 rfl rfl)
theorem dX5_callOf_129 : decode cX5_callOf 129 = .ok (.ireturn, 1) := dk_172 (dk_at dksX5_callOf_4 19 rfl rfl)
theorem dX5_callOf_130 : decode cX5_callOf 130 = .ok (.aload_n 0, 1) := dk_42 (dk_at dksX5_callOf_4 20 rfl rfl)
theorem dX5_callOf_131 : decode cX5_callOf 131 = .ok (.getfield 51, 3) := dk_180 0 51 (dk_at dksX5_callOf_4 21 rfl rfl)
theorem dX5_callOf_134 : decode cX5_callOf 134 = .ok (.iload_n 3, 1) := dk_29 (dk_at dksX5_callOf_5 0 rfl rfl)
theorem dX5_callOf_135 : decode cX5_callOf 135 = .ok (.iaload, 1) := dk_46 (dk_at dksX5_callOf_5 1 rfl rfl)
theorem dX5_callOf_136 : decode cX5_callOf 136 = .ok (.ifCond .ne 7, 3) := dk_154 0 7 (dk_at dksX5_callOf_5 2 rfl rfl)
theorem dX5_callOf_139 : decode cX5_callOf 139 = .ok (.iconst (-1), 1) := dk_2 (dk_at dksX5_callOf_5 5 rfl rfl)
theorem dX5_callOf_140 : decode cX5_callOf 140 = .ok (.goto 21, 3) := dk_167 0 21 (dk_at dksX5_callOf_5 6 rfl rfl)
theorem dX5_callOf_143 : decode cX5_callOf 143 = .ok (.aload_n 0, 1) := dk_42 (dk_at dksX5_callOf_5 9 rfl rfl)
theorem dX5_callOf_144 : decode cX5_callOf 144 = .ok (.getfield 48, 3) := dk_180 0 48 (dk_at dksX5_callOf_5 10 rfl rfl)
theorem dX5_callOf_147 : decode cX5_callOf 147 = .ok (.iload_n 3, 1) := dk_29 (dk_at dksX5_callOf_5 13 rfl rfl)
theorem dX5_callOf_148 : decode cX5_callOf 148 = .ok (.iaload, 1) := dk_46 (dk_at dksX5_callOf_5 14 rfl rfl)
theorem dX5_callOf_149 : decode cX5_callOf 149 = .ok (.aload_n 0, 1) := dk_42 (dk_at dksX5_callOf_5 15 rfl rfl)
theorem dX5_callOf_150 : decode cX5_callOf 150 = .ok (.getfield 51, 3) := dk_180 0 51 (dk_at dksX5_callOf_5 16 rfl rfl)
theorem dX5_callOf_153 : decode cX5_callOf 153 = .ok (.iload_n 3, 1) := dk_29 (dk_at dksX5_callOf_5 19 rfl rfl)
theorem dX5_callOf_154 : decode cX5_callOf 154 = .ok (.iaload, 1) := dk_46 (dk_at dksX5_callOf_5 20 rfl rfl)
theorem dX5_callOf_155 : decode cX5_callOf 155 = .ok (.iadd, 1) := dk_96 (dk_at dksX5_callOf_5 21 rfl rfl)
theorem dX5_callOf_156 : decode cX5_callOf 156 = .ok (.aload_n 0, 1) := dk_42 (dk_at dksX5_callOf_5 22 rfl rfl)
theorem dX5_callOf_157 : decode cX5_callOf 157 = .ok (.getfield 126, 3) := dk_180 0 126 (dk_at dksX5_callOf_6 0 rfl rfl)
theorem dX5_callOf_160 : decode cX5_callOf 160 = .ok (.isub, 1) := dk_100 (dk_at dksX5_callOf_6 3 rfl rfl)
theorem dX5_callOf_161 : decode cX5_callOf 161 = .ok (.ireturn, 1) := dk_172 (dk_at dksX5_callOf_6 4 rfl rfl)
theorem dX5_callOf_162 : decode cX5_callOf 162 = .ok (.aload_n 0, 1) := dk_42 (dk_at dksX5_callOf_6 5 rfl rfl)
theorem dX5_callOf_163 : decode cX5_callOf 163 = .ok (.iconst 2, 1) := dk_5 (dk_at dksX5_callOf_6 6 rfl rfl)
theorem dX5_callOf_164 : decode cX5_callOf 164 = .ok (.invokevirtual 116, 3) := dk_182 0 116 (dk_at dksX5_callOf_6 7 rfl rfl)
theorem dX5_callOf_167 : decode cX5_callOf 167 = .ok (.ireturn, 1) := dk_172 (dk_at dksX5_callOf_6 10 rfl rfl)
abbrev cX5_callAt : ByteArray := prog_12_method_100_code
def yX5_callAt : MethodName := ⟨RX5, "callAt", "(I)I"⟩
def dkwX5_callAt_1 : List UInt8 := [180, 0, 35, 27, 46, 172]
abbrev dktX5_callAt_1 : List UInt8 := dkwX5_callAt_1 ++ []
def dkwX5_callAt_0 : List UInt8 := [42, 3, 181, 0, 106, 27, 155, 0, 11, 27, 42, 180, 0, 132, 161, 0, 7, 2, 167, 0, 9, 42]
abbrev dktX5_callAt_0 : List UInt8 := dkwX5_callAt_0 ++ dktX5_callAt_1
theorem dksX5_callAt_0 : cX5_callAt.data.toList.drop 0 = dktX5_callAt_0 := by decide +kernel
theorem dksX5_callAt_1 : cX5_callAt.data.toList.drop 22 = dktX5_callAt_1 := dk_seg dksX5_callAt_0 22 rfl rfl
theorem dX5_callAt_0 : decode cX5_callAt 0 = .ok (.aload_n 0, 1) := dk_42 (dk_at dksX5_callAt_0 0 rfl rfl)
theorem dX5_callAt_1 : decode cX5_callAt 1 = .ok (.iconst 0, 1) := dk_3 (dk_at dksX5_callAt_0 1 rfl rfl)
theorem dX5_callAt_2 : decode cX5_callAt 2 = .ok (.putfield 106, 3) := dk_181 0 106 (dk_at dksX5_callAt_0 2 rfl rfl)
theorem dX5_callAt_5 : decode cX5_callAt 5 = .ok (.iload_n 1, 1) := dk_27 (dk_at dksX5_callAt_0 5 rfl rfl)
theorem dX5_callAt_6 : decode cX5_callAt 6 = .ok (.ifCond .lt 11, 3) := dk_155 0 11 (dk_at dksX5_callAt_0 6 rfl rfl)
theorem dX5_callAt_9 : decode cX5_callAt 9 = .ok (.iload_n 1, 1) := dk_27 (dk_at dksX5_callAt_0 9 rfl rfl)
theorem dX5_callAt_10 : decode cX5_callAt 10 = .ok (.aload_n 0, 1) := dk_42 (dk_at dksX5_callAt_0 10 rfl rfl)
theorem dX5_callAt_11 : decode cX5_callAt 11 = .ok (.getfield 132, 3) := dk_180 0 132 (dk_at dksX5_callAt_0 11 rfl rfl)
theorem dX5_callAt_14 : decode cX5_callAt 14 = .ok (.if_icmp .lt 7, 3) := dk_161 0 7 (dk_at dksX5_callAt_0 14 rfl rfl)
theorem dX5_callAt_17 : decode cX5_callAt 17 = .ok (.iconst (-1), 1) := dk_2 (dk_at dksX5_callAt_0 17 rfl rfl)
theorem dX5_callAt_18 : decode cX5_callAt 18 = .ok (.goto 9, 3) := dk_167 0 9 (dk_at dksX5_callAt_0 18 rfl rfl)
theorem dX5_callAt_21 : decode cX5_callAt 21 = .ok (.aload_n 0, 1) := dk_42 (dk_at dksX5_callAt_0 21 rfl rfl)
theorem dX5_callAt_22 : decode cX5_callAt 22 = .ok (.getfield 35, 3) := dk_180 0 35 (dk_at dksX5_callAt_1 0 rfl rfl)
theorem dX5_callAt_25 : decode cX5_callAt 25 = .ok (.iload_n 1, 1) := dk_27 (dk_at dksX5_callAt_1 3 rfl rfl)
theorem dX5_callAt_26 : decode cX5_callAt 26 = .ok (.iaload, 1) := dk_46 (dk_at dksX5_callAt_1 4 rfl rfl)
theorem dX5_callAt_27 : decode cX5_callAt 27 = .ok (.ireturn, 1) := dk_172 (dk_at dksX5_callAt_1 5 rfl rfl)
abbrev cX5_group : ByteArray := prog_12_method_101_code
def yX5_group : MethodName := ⟨RX5, "group", "(II)I"⟩
def dkwX5_group_6 : List UInt8 := [172, 42, 180, 0, 69, 27, 46, 172, 42, 5, 182, 0, 116, 172]
abbrev dktX5_group_6 : List UInt8 := dkwX5_group_6 ++ []
def dkwX5_group_5 : List UInt8 := [180, 0, 60, 21, 4, 46, 27, 160, 0, 7, 4, 167, 0, 4, 3, 96, 62, 132, 4, 1, 167, 255, 225, 29]
abbrev dktX5_group_5 : List UInt8 := dkwX5_group_5 ++ dktX5_group_6
def dkwX5_group_4 : List UInt8 := [132, 4, 1, 167, 255, 215, 29, 172, 3, 54, 4, 21, 4, 42, 180, 0, 135, 162, 0, 28, 29, 42]
abbrev dktX5_group_4 : List UInt8 := dkwX5_group_4 ++ dktX5_group_5
def dkwX5_group_3 : List UInt8 := [180, 0, 78, 27, 16, 8, 104, 21, 4, 96, 46, 182, 0, 224, 153, 0, 7, 4, 167, 0, 4, 3, 96, 62]
abbrev dktX5_group_3 : List UInt8 := dkwX5_group_3 ++ dktX5_group_4
def dkwX5_group_2 : List UInt8 := [42, 180, 0, 75, 27, 46, 172, 3, 54, 4, 21, 4, 42, 180, 0, 75, 27, 46, 162, 0, 36, 29, 42, 42]
abbrev dktX5_group_2 : List UInt8 := dkwX5_group_2 ++ dktX5_group_3
def dkwX5_group_1 : List UInt8 := [170, 0, 0, 0, 0, 132, 0, 0, 0, 0, 0, 0, 0, 3, 0, 0, 0, 30, 0, 0, 0, 37, 0, 0, 0, 86, 0, 0, 0, 125]
abbrev dktX5_group_1 : List UInt8 := dkwX5_group_1 ++ dktX5_group_2
def dkwX5_group_0 : List UInt8 := [42, 3, 181, 0, 106, 42, 27, 182, 1, 164, 153, 0, 9, 42, 4, 182, 0, 116, 172, 3, 62, 28]
abbrev dktX5_group_0 : List UInt8 := dkwX5_group_0 ++ dktX5_group_1
theorem dksX5_group_0 : cX5_group.data.toList.drop 0 = dktX5_group_0 := by decide +kernel
theorem dksX5_group_1 : cX5_group.data.toList.drop 22 = dktX5_group_1 := dk_seg dksX5_group_0 22 rfl rfl
theorem dksX5_group_2 : cX5_group.data.toList.drop 52 = dktX5_group_2 := dk_seg dksX5_group_1 30 rfl rfl
theorem dksX5_group_3 : cX5_group.data.toList.drop 76 = dktX5_group_3 := dk_seg dksX5_group_2 24 rfl rfl
theorem dksX5_group_4 : cX5_group.data.toList.drop 100 = dktX5_group_4 := dk_seg dksX5_group_3 24 rfl rfl
theorem dksX5_group_5 : cX5_group.data.toList.drop 122 = dktX5_group_5 := dk_seg dksX5_group_4 22 rfl rfl
theorem dksX5_group_6 : cX5_group.data.toList.drop 146 = dktX5_group_6 := dk_seg dksX5_group_5 24 rfl rfl
theorem dX5_group_0 : decode cX5_group 0 = .ok (.aload_n 0, 1) := dk_42 (dk_at dksX5_group_0 0 rfl rfl)
theorem dX5_group_1 : decode cX5_group 1 = .ok (.iconst 0, 1) := dk_3 (dk_at dksX5_group_0 1 rfl rfl)
theorem dX5_group_2 : decode cX5_group 2 = .ok (.putfield 106, 3) := dk_181 0 106 (dk_at dksX5_group_0 2 rfl rfl)
theorem dX5_group_5 : decode cX5_group 5 = .ok (.aload_n 0, 1) := dk_42 (dk_at dksX5_group_0 5 rfl rfl)
theorem dX5_group_6 : decode cX5_group 6 = .ok (.iload_n 1, 1) := dk_27 (dk_at dksX5_group_0 6 rfl rfl)
theorem dX5_group_7 : decode cX5_group 7 = .ok (.invokevirtual 420, 3) := dk_182 1 164 (dk_at dksX5_group_0 7 rfl rfl)
theorem dX5_group_10 : decode cX5_group 10 = .ok (.ifCond .eq 9, 3) := dk_153 0 9 (dk_at dksX5_group_0 10 rfl rfl)
theorem dX5_group_13 : decode cX5_group 13 = .ok (.aload_n 0, 1) := dk_42 (dk_at dksX5_group_0 13 rfl rfl)
theorem dX5_group_14 : decode cX5_group 14 = .ok (.iconst 1, 1) := dk_4 (dk_at dksX5_group_0 14 rfl rfl)
theorem dX5_group_15 : decode cX5_group 15 = .ok (.invokevirtual 116, 3) := dk_182 0 116 (dk_at dksX5_group_0 15 rfl rfl)
theorem dX5_group_18 : decode cX5_group 18 = .ok (.ireturn, 1) := dk_172 (dk_at dksX5_group_0 18 rfl rfl)
theorem dX5_group_19 : decode cX5_group 19 = .ok (.iconst 0, 1) := dk_3 (dk_at dksX5_group_0 19 rfl rfl)
theorem dX5_group_20 : decode cX5_group 20 = .ok (.istore_n 3, 1) := dk_62 (dk_at dksX5_group_0 20 rfl rfl)
theorem dX5_group_21 : decode cX5_group 21 = .ok (.iload_n 2, 1) := dk_28 (dk_at dksX5_group_0 21 rfl rfl)
theorem dX5_group_22 : decode cX5_group 22 = .ok (.tableswitch 132 0 3 #[30, 37, 86, 125], 30) := by decide +kernel
theorem dX5_group_52 : decode cX5_group 52 = .ok (.aload_n 0, 1) := dk_42 (dk_at dksX5_group_2 0 rfl rfl)
theorem dX5_group_53 : decode cX5_group 53 = .ok (.getfield 75, 3) := dk_180 0 75 (dk_at dksX5_group_2 1 rfl rfl)
theorem dX5_group_56 : decode cX5_group 56 = .ok (.iload_n 1, 1) := dk_27 (dk_at dksX5_group_2 4 rfl rfl)
theorem dX5_group_57 : decode cX5_group 57 = .ok (.iaload, 1) := dk_46 (dk_at dksX5_group_2 5 rfl rfl)
theorem dX5_group_58 : decode cX5_group 58 = .ok (.ireturn, 1) := dk_172 (dk_at dksX5_group_2 6 rfl rfl)
theorem dX5_group_59 : decode cX5_group 59 = .ok (.iconst 0, 1) := dk_3 (dk_at dksX5_group_2 7 rfl rfl)
theorem dX5_group_60 : decode cX5_group 60 = .ok (.istore 4, 2) := dk_54 4 (dk_at dksX5_group_2 8 rfl rfl)
theorem dX5_group_62 : decode cX5_group 62 = .ok (.iload 4, 2) := dk_21 4 (dk_at dksX5_group_2 10 rfl rfl)
theorem dX5_group_64 : decode cX5_group 64 = .ok (.aload_n 0, 1) := dk_42 (dk_at dksX5_group_2 12 rfl rfl)
theorem dX5_group_65 : decode cX5_group 65 = .ok (.getfield 75, 3) := dk_180 0 75 (dk_at dksX5_group_2 13 rfl rfl)
theorem dX5_group_68 : decode cX5_group 68 = .ok (.iload_n 1, 1) := dk_27 (dk_at dksX5_group_2 16 rfl rfl)
theorem dX5_group_69 : decode cX5_group 69 = .ok (.iaload, 1) := dk_46 (dk_at dksX5_group_2 17 rfl rfl)
theorem dX5_group_70 : decode cX5_group 70 = .ok (.if_icmp .ge 36, 3) := dk_162 0 36 (dk_at dksX5_group_2 18 rfl rfl)
theorem dX5_group_73 : decode cX5_group 73 = .ok (.iload_n 3, 1) := dk_29 (dk_at dksX5_group_2 21 rfl rfl)
theorem dX5_group_74 : decode cX5_group 74 = .ok (.aload_n 0, 1) := dk_42 (dk_at dksX5_group_2 22 rfl rfl)
theorem dX5_group_75 : decode cX5_group 75 = .ok (.aload_n 0, 1) := dk_42 (dk_at dksX5_group_2 23 rfl rfl)
theorem dX5_group_76 : decode cX5_group 76 = .ok (.getfield 78, 3) := dk_180 0 78 (dk_at dksX5_group_3 0 rfl rfl)
theorem dX5_group_79 : decode cX5_group 79 = .ok (.iload_n 1, 1) := dk_27 (dk_at dksX5_group_3 3 rfl rfl)
theorem dX5_group_80 : decode cX5_group 80 = .ok (.bipush 8, 2) := dk_16 8 (dk_at dksX5_group_3 4 rfl rfl)
theorem dX5_group_82 : decode cX5_group 82 = .ok (.imul, 1) := dk_104 (dk_at dksX5_group_3 6 rfl rfl)
theorem dX5_group_83 : decode cX5_group 83 = .ok (.iload 4, 2) := dk_21 4 (dk_at dksX5_group_3 7 rfl rfl)
theorem dX5_group_85 : decode cX5_group 85 = .ok (.iadd, 1) := dk_96 (dk_at dksX5_group_3 9 rfl rfl)
theorem dX5_group_86 : decode cX5_group 86 = .ok (.iaload, 1) := dk_46 (dk_at dksX5_group_3 10 rfl rfl)
theorem dX5_group_87 : decode cX5_group 87 = .ok (.invokevirtual 224, 3) := dk_182 0 224 (dk_at dksX5_group_3 11 rfl rfl)
theorem dX5_group_90 : decode cX5_group 90 = .ok (.ifCond .eq 7, 3) := dk_153 0 7 (dk_at dksX5_group_3 14 rfl rfl)
theorem dX5_group_93 : decode cX5_group 93 = .ok (.iconst 1, 1) := dk_4 (dk_at dksX5_group_3 17 rfl rfl)
theorem dX5_group_94 : decode cX5_group 94 = .ok (.goto 4, 3) := dk_167 0 4 (dk_at dksX5_group_3 18 rfl rfl)
theorem dX5_group_97 : decode cX5_group 97 = .ok (.iconst 0, 1) := dk_3 (dk_at dksX5_group_3 21 rfl rfl)
theorem dX5_group_98 : decode cX5_group 98 = .ok (.iadd, 1) := dk_96 (dk_at dksX5_group_3 22 rfl rfl)
theorem dX5_group_99 : decode cX5_group 99 = .ok (.istore_n 3, 1) := dk_62 (dk_at dksX5_group_3 23 rfl rfl)
theorem dX5_group_100 : decode cX5_group 100 = .ok (.iinc 4 1, 3) := dk_132 4 1 (dk_at dksX5_group_4 0 rfl rfl)
theorem dX5_group_103 : decode cX5_group 103 = .ok (.goto (-41), 3) := dk_167 255 215 (dk_at dksX5_group_4 3 rfl rfl)
theorem dX5_group_106 : decode cX5_group 106 = .ok (.iload_n 3, 1) := dk_29 (dk_at dksX5_group_4 6 rfl rfl)
theorem dX5_group_107 : decode cX5_group 107 = .ok (.ireturn, 1) := dk_172 (dk_at dksX5_group_4 7 rfl rfl)
theorem dX5_group_108 : decode cX5_group 108 = .ok (.iconst 0, 1) := dk_3 (dk_at dksX5_group_4 8 rfl rfl)
theorem dX5_group_109 : decode cX5_group 109 = .ok (.istore 4, 2) := dk_54 4 (dk_at dksX5_group_4 9 rfl rfl)
theorem dX5_group_111 : decode cX5_group 111 = .ok (.iload 4, 2) := dk_21 4 (dk_at dksX5_group_4 11 rfl rfl)
theorem dX5_group_113 : decode cX5_group 113 = .ok (.aload_n 0, 1) := dk_42 (dk_at dksX5_group_4 13 rfl rfl)
theorem dX5_group_114 : decode cX5_group 114 = .ok (.getfield 135, 3) := dk_180 0 135 (dk_at dksX5_group_4 14 rfl rfl)
theorem dX5_group_117 : decode cX5_group 117 = .ok (.if_icmp .ge 28, 3) := dk_162 0 28 (dk_at dksX5_group_4 17 rfl rfl)
theorem dX5_group_120 : decode cX5_group 120 = .ok (.iload_n 3, 1) := dk_29 (dk_at dksX5_group_4 20 rfl rfl)
theorem dX5_group_121 : decode cX5_group 121 = .ok (.aload_n 0, 1) := dk_42 (dk_at dksX5_group_4 21 rfl rfl)
theorem dX5_group_122 : decode cX5_group 122 = .ok (.getfield 60, 3) := dk_180 0 60 (dk_at dksX5_group_5 0 rfl rfl)
theorem dX5_group_125 : decode cX5_group 125 = .ok (.iload 4, 2) := dk_21 4 (dk_at dksX5_group_5 3 rfl rfl)
theorem dX5_group_127 : decode cX5_group 127 = .ok (.iaload, 1) := dk_46 (dk_at dksX5_group_5 5 rfl rfl)
theorem dX5_group_128 : decode cX5_group 128 = .ok (.iload_n 1, 1) := dk_27 (dk_at dksX5_group_5 6 rfl rfl)
theorem dX5_group_129 : decode cX5_group 129 = .ok (.if_icmp .ne 7, 3) := dk_160 0 7 (dk_at dksX5_group_5 7 rfl rfl)
theorem dX5_group_132 : decode cX5_group 132 = .ok (.iconst 1, 1) := dk_4 (dk_at dksX5_group_5 10 rfl rfl)
theorem dX5_group_133 : decode cX5_group 133 = .ok (.goto 4, 3) := dk_167 0 4 (dk_at dksX5_group_5 11 rfl rfl)
theorem dX5_group_136 : decode cX5_group 136 = .ok (.iconst 0, 1) := dk_3 (dk_at dksX5_group_5 14 rfl rfl)
theorem dX5_group_137 : decode cX5_group 137 = .ok (.iadd, 1) := dk_96 (dk_at dksX5_group_5 15 rfl rfl)
theorem dX5_group_138 : decode cX5_group 138 = .ok (.istore_n 3, 1) := dk_62 (dk_at dksX5_group_5 16 rfl rfl)
theorem dX5_group_139 : decode cX5_group 139 = .ok (.iinc 4 1, 3) := dk_132 4 1 (dk_at dksX5_group_5 17 rfl rfl)
theorem dX5_group_142 : decode cX5_group 142 = .ok (.goto (-31), 3) := dk_167 255 225 (dk_at dksX5_group_5 20 rfl rfl)
theorem dX5_group_145 : decode cX5_group 145 = .ok (.iload_n 3, 1) := dk_29 (dk_at dksX5_group_5 23 rfl rfl)
theorem dX5_group_146 : decode cX5_group 146 = .ok (.ireturn, 1) := dk_172 (dk_at dksX5_group_6 0 rfl rfl)
theorem dX5_group_147 : decode cX5_group 147 = .ok (.aload_n 0, 1) := dk_42 (dk_at dksX5_group_6 1 rfl rfl)
theorem dX5_group_148 : decode cX5_group 148 = .ok (.getfield 69, 3) := dk_180 0 69 (dk_at dksX5_group_6 2 rfl rfl)
theorem dX5_group_151 : decode cX5_group 151 = .ok (.iload_n 1, 1) := dk_27 (dk_at dksX5_group_6 5 rfl rfl)
theorem dX5_group_152 : decode cX5_group 152 = .ok (.iaload, 1) := dk_46 (dk_at dksX5_group_6 6 rfl rfl)
theorem dX5_group_153 : decode cX5_group 153 = .ok (.ireturn, 1) := dk_172 (dk_at dksX5_group_6 7 rfl rfl)
theorem dX5_group_154 : decode cX5_group 154 = .ok (.aload_n 0, 1) := dk_42 (dk_at dksX5_group_6 8 rfl rfl)
theorem dX5_group_155 : decode cX5_group 155 = .ok (.iconst 2, 1) := dk_5 (dk_at dksX5_group_6 9 rfl rfl)
theorem dX5_group_156 : decode cX5_group 156 = .ok (.invokevirtual 116, 3) := dk_182 0 116 (dk_at dksX5_group_6 10 rfl rfl)
theorem dX5_group_159 : decode cX5_group 159 = .ok (.ireturn, 1) := dk_172 (dk_at dksX5_group_6 13 rfl rfl)
abbrev cX5_member : ByteArray := prog_12_method_102_code
def yX5_member : MethodName := ⟨RX5, "member", "(II)I"⟩
def dkwX5_member_2 : List UInt8 := [172]
abbrev dktX5_member_2 : List UInt8 := dkwX5_member_2 ++ []
def dkwX5_member_1 : List UInt8 := [42, 180, 0, 75, 27, 46, 161, 0, 7, 2, 167, 0, 14, 42, 180, 0, 78, 27, 16, 8, 104, 28, 96, 46]
abbrev dktX5_member_1 : List UInt8 := dkwX5_member_1 ++ dktX5_member_2
def dkwX5_member_0 : List UInt8 := [42, 3, 181, 0, 106, 42, 27, 182, 1, 164, 153, 0, 9, 42, 4, 182, 0, 116, 172, 28, 155, 0, 13, 28]
abbrev dktX5_member_0 : List UInt8 := dkwX5_member_0 ++ dktX5_member_1
theorem dksX5_member_0 : cX5_member.data.toList.drop 0 = dktX5_member_0 := by decide +kernel
theorem dksX5_member_1 : cX5_member.data.toList.drop 24 = dktX5_member_1 := dk_seg dksX5_member_0 24 rfl rfl
theorem dksX5_member_2 : cX5_member.data.toList.drop 48 = dktX5_member_2 := dk_seg dksX5_member_1 24 rfl rfl
theorem dX5_member_0 : decode cX5_member 0 = .ok (.aload_n 0, 1) := dk_42 (dk_at dksX5_member_0 0 rfl rfl)
theorem dX5_member_1 : decode cX5_member 1 = .ok (.iconst 0, 1) := dk_3 (dk_at dksX5_member_0 1 rfl rfl)
theorem dX5_member_2 : decode cX5_member 2 = .ok (.putfield 106, 3) := dk_181 0 106 (dk_at dksX5_member_0 2 rfl rfl)
theorem dX5_member_5 : decode cX5_member 5 = .ok (.aload_n 0, 1) := dk_42 (dk_at dksX5_member_0 5 rfl rfl)
theorem dX5_member_6 : decode cX5_member 6 = .ok (.iload_n 1, 1) := dk_27 (dk_at dksX5_member_0 6 rfl rfl)
theorem dX5_member_7 : decode cX5_member 7 = .ok (.invokevirtual 420, 3) := dk_182 1 164 (dk_at dksX5_member_0 7 rfl rfl)
theorem dX5_member_10 : decode cX5_member 10 = .ok (.ifCond .eq 9, 3) := dk_153 0 9 (dk_at dksX5_member_0 10 rfl rfl)
theorem dX5_member_13 : decode cX5_member 13 = .ok (.aload_n 0, 1) := dk_42 (dk_at dksX5_member_0 13 rfl rfl)
theorem dX5_member_14 : decode cX5_member 14 = .ok (.iconst 1, 1) := dk_4 (dk_at dksX5_member_0 14 rfl rfl)
theorem dX5_member_15 : decode cX5_member 15 = .ok (.invokevirtual 116, 3) := dk_182 0 116 (dk_at dksX5_member_0 15 rfl rfl)
theorem dX5_member_18 : decode cX5_member 18 = .ok (.ireturn, 1) := dk_172 (dk_at dksX5_member_0 18 rfl rfl)
theorem dX5_member_19 : decode cX5_member 19 = .ok (.iload_n 2, 1) := dk_28 (dk_at dksX5_member_0 19 rfl rfl)
theorem dX5_member_20 : decode cX5_member 20 = .ok (.ifCond .lt 13, 3) := dk_155 0 13 (dk_at dksX5_member_0 20 rfl rfl)
theorem dX5_member_23 : decode cX5_member 23 = .ok (.iload_n 2, 1) := dk_28 (dk_at dksX5_member_0 23 rfl rfl)
theorem dX5_member_24 : decode cX5_member 24 = .ok (.aload_n 0, 1) := dk_42 (dk_at dksX5_member_1 0 rfl rfl)
theorem dX5_member_25 : decode cX5_member 25 = .ok (.getfield 75, 3) := dk_180 0 75 (dk_at dksX5_member_1 1 rfl rfl)
theorem dX5_member_28 : decode cX5_member 28 = .ok (.iload_n 1, 1) := dk_27 (dk_at dksX5_member_1 4 rfl rfl)
theorem dX5_member_29 : decode cX5_member 29 = .ok (.iaload, 1) := dk_46 (dk_at dksX5_member_1 5 rfl rfl)
theorem dX5_member_30 : decode cX5_member 30 = .ok (.if_icmp .lt 7, 3) := dk_161 0 7 (dk_at dksX5_member_1 6 rfl rfl)
theorem dX5_member_33 : decode cX5_member 33 = .ok (.iconst (-1), 1) := dk_2 (dk_at dksX5_member_1 9 rfl rfl)
theorem dX5_member_34 : decode cX5_member 34 = .ok (.goto 14, 3) := dk_167 0 14 (dk_at dksX5_member_1 10 rfl rfl)
theorem dX5_member_37 : decode cX5_member 37 = .ok (.aload_n 0, 1) := dk_42 (dk_at dksX5_member_1 13 rfl rfl)
theorem dX5_member_38 : decode cX5_member 38 = .ok (.getfield 78, 3) := dk_180 0 78 (dk_at dksX5_member_1 14 rfl rfl)
theorem dX5_member_41 : decode cX5_member 41 = .ok (.iload_n 1, 1) := dk_27 (dk_at dksX5_member_1 17 rfl rfl)
theorem dX5_member_42 : decode cX5_member 42 = .ok (.bipush 8, 2) := dk_16 8 (dk_at dksX5_member_1 18 rfl rfl)
theorem dX5_member_44 : decode cX5_member 44 = .ok (.imul, 1) := dk_104 (dk_at dksX5_member_1 20 rfl rfl)
theorem dX5_member_45 : decode cX5_member 45 = .ok (.iload_n 2, 1) := dk_28 (dk_at dksX5_member_1 21 rfl rfl)
theorem dX5_member_46 : decode cX5_member 46 = .ok (.iadd, 1) := dk_96 (dk_at dksX5_member_1 22 rfl rfl)
theorem dX5_member_47 : decode cX5_member 47 = .ok (.iaload, 1) := dk_46 (dk_at dksX5_member_1 23 rfl rfl)
theorem dX5_member_48 : decode cX5_member 48 = .ok (.ireturn, 1) := dk_172 (dk_at dksX5_member_2 0 rfl rfl)
abbrev cX5_waiting : ByteArray := prog_12_method_103_code
def yX5_waiting : MethodName := ⟨RX5, "waiting", "(II)I"⟩
def dkwX5_waiting_3 : List UInt8 := [180, 0, 66, 27, 46, 172, 42, 5, 182, 0, 116, 172]
abbrev dktX5_waiting_3 : List UInt8 := dkwX5_waiting_3 ++ []
def dkwX5_waiting_2 : List UInt8 := [42, 180, 0, 57, 27, 46, 172, 42, 180, 0, 60, 27, 46, 172, 42, 180, 0, 63, 27, 46, 172, 42]
abbrev dktX5_waiting_2 : List UInt8 := dkwX5_waiting_2 ++ dktX5_waiting_3
def dkwX5_waiting_1 : List UInt8 := [170, 0, 0, 0, 0, 0, 0, 60, 0, 0, 0, 0, 0, 0, 0, 3, 0, 0, 0, 32, 0, 0, 0, 39, 0, 0, 0, 46, 0, 0, 0, 53]
abbrev dktX5_waiting_1 : List UInt8 := dkwX5_waiting_1 ++ dktX5_waiting_2
def dkwX5_waiting_0 : List UInt8 := [42, 3, 181, 0, 106, 27, 155, 0, 11, 27, 42, 180, 0, 135, 161, 0, 9, 42, 4, 182, 0, 116, 172, 28]
abbrev dktX5_waiting_0 : List UInt8 := dkwX5_waiting_0 ++ dktX5_waiting_1
theorem dksX5_waiting_0 : cX5_waiting.data.toList.drop 0 = dktX5_waiting_0 := by decide +kernel
theorem dksX5_waiting_1 : cX5_waiting.data.toList.drop 24 = dktX5_waiting_1 := dk_seg dksX5_waiting_0 24 rfl rfl
theorem dksX5_waiting_2 : cX5_waiting.data.toList.drop 56 = dktX5_waiting_2 := dk_seg dksX5_waiting_1 32 rfl rfl
theorem dksX5_waiting_3 : cX5_waiting.data.toList.drop 78 = dktX5_waiting_3 := dk_seg dksX5_waiting_2 22 rfl rfl
theorem dX5_waiting_0 : decode cX5_waiting 0 = .ok (.aload_n 0, 1) := dk_42 (dk_at dksX5_waiting_0 0 rfl rfl)
theorem dX5_waiting_1 : decode cX5_waiting 1 = .ok (.iconst 0, 1) := dk_3 (dk_at dksX5_waiting_0 1 rfl rfl)
theorem dX5_waiting_2 : decode cX5_waiting 2 = .ok (.putfield 106, 3) := dk_181 0 106 (dk_at dksX5_waiting_0 2 rfl rfl)
theorem dX5_waiting_5 : decode cX5_waiting 5 = .ok (.iload_n 1, 1) := dk_27 (dk_at dksX5_waiting_0 5 rfl rfl)
theorem dX5_waiting_6 : decode cX5_waiting 6 = .ok (.ifCond .lt 11, 3) := dk_155 0 11 (dk_at dksX5_waiting_0 6 rfl rfl)
theorem dX5_waiting_9 : decode cX5_waiting 9 = .ok (.iload_n 1, 1) := dk_27 (dk_at dksX5_waiting_0 9 rfl rfl)
theorem dX5_waiting_10 : decode cX5_waiting 10 = .ok (.aload_n 0, 1) := dk_42 (dk_at dksX5_waiting_0 10 rfl rfl)
theorem dX5_waiting_11 : decode cX5_waiting 11 = .ok (.getfield 135, 3) := dk_180 0 135 (dk_at dksX5_waiting_0 11 rfl rfl)
theorem dX5_waiting_14 : decode cX5_waiting 14 = .ok (.if_icmp .lt 9, 3) := dk_161 0 9 (dk_at dksX5_waiting_0 14 rfl rfl)
theorem dX5_waiting_17 : decode cX5_waiting 17 = .ok (.aload_n 0, 1) := dk_42 (dk_at dksX5_waiting_0 17 rfl rfl)
theorem dX5_waiting_18 : decode cX5_waiting 18 = .ok (.iconst 1, 1) := dk_4 (dk_at dksX5_waiting_0 18 rfl rfl)
theorem dX5_waiting_19 : decode cX5_waiting 19 = .ok (.invokevirtual 116, 3) := dk_182 0 116 (dk_at dksX5_waiting_0 19 rfl rfl)
theorem dX5_waiting_22 : decode cX5_waiting 22 = .ok (.ireturn, 1) := dk_172 (dk_at dksX5_waiting_0 22 rfl rfl)
theorem dX5_waiting_23 : decode cX5_waiting 23 = .ok (.iload_n 2, 1) := dk_28 (dk_at dksX5_waiting_0 23 rfl rfl)
theorem dX5_waiting_24 : decode cX5_waiting 24 = .ok (.tableswitch 60 0 3 #[32, 39, 46, 53], 32) := by decide +kernel
theorem dX5_waiting_56 : decode cX5_waiting 56 = .ok (.aload_n 0, 1) := dk_42 (dk_at dksX5_waiting_2 0 rfl rfl)
theorem dX5_waiting_57 : decode cX5_waiting 57 = .ok (.getfield 57, 3) := dk_180 0 57 (dk_at dksX5_waiting_2 1 rfl rfl)
theorem dX5_waiting_60 : decode cX5_waiting 60 = .ok (.iload_n 1, 1) := dk_27 (dk_at dksX5_waiting_2 4 rfl rfl)
theorem dX5_waiting_61 : decode cX5_waiting 61 = .ok (.iaload, 1) := dk_46 (dk_at dksX5_waiting_2 5 rfl rfl)
theorem dX5_waiting_62 : decode cX5_waiting 62 = .ok (.ireturn, 1) := dk_172 (dk_at dksX5_waiting_2 6 rfl rfl)
theorem dX5_waiting_63 : decode cX5_waiting 63 = .ok (.aload_n 0, 1) := dk_42 (dk_at dksX5_waiting_2 7 rfl rfl)
theorem dX5_waiting_64 : decode cX5_waiting 64 = .ok (.getfield 60, 3) := dk_180 0 60 (dk_at dksX5_waiting_2 8 rfl rfl)
theorem dX5_waiting_67 : decode cX5_waiting 67 = .ok (.iload_n 1, 1) := dk_27 (dk_at dksX5_waiting_2 11 rfl rfl)
theorem dX5_waiting_68 : decode cX5_waiting 68 = .ok (.iaload, 1) := dk_46 (dk_at dksX5_waiting_2 12 rfl rfl)
theorem dX5_waiting_69 : decode cX5_waiting 69 = .ok (.ireturn, 1) := dk_172 (dk_at dksX5_waiting_2 13 rfl rfl)
theorem dX5_waiting_70 : decode cX5_waiting 70 = .ok (.aload_n 0, 1) := dk_42 (dk_at dksX5_waiting_2 14 rfl rfl)
theorem dX5_waiting_71 : decode cX5_waiting 71 = .ok (.getfield 63, 3) := dk_180 0 63 (dk_at dksX5_waiting_2 15 rfl rfl)
theorem dX5_waiting_74 : decode cX5_waiting 74 = .ok (.iload_n 1, 1) := dk_27 (dk_at dksX5_waiting_2 18 rfl rfl)
theorem dX5_waiting_75 : decode cX5_waiting 75 = .ok (.iaload, 1) := dk_46 (dk_at dksX5_waiting_2 19 rfl rfl)
theorem dX5_waiting_76 : decode cX5_waiting 76 = .ok (.ireturn, 1) := dk_172 (dk_at dksX5_waiting_2 20 rfl rfl)
theorem dX5_waiting_77 : decode cX5_waiting 77 = .ok (.aload_n 0, 1) := dk_42 (dk_at dksX5_waiting_2 21 rfl rfl)
theorem dX5_waiting_78 : decode cX5_waiting 78 = .ok (.getfield 66, 3) := dk_180 0 66 (dk_at dksX5_waiting_3 0 rfl rfl)
theorem dX5_waiting_81 : decode cX5_waiting 81 = .ok (.iload_n 1, 1) := dk_27 (dk_at dksX5_waiting_3 3 rfl rfl)
theorem dX5_waiting_82 : decode cX5_waiting 82 = .ok (.iaload, 1) := dk_46 (dk_at dksX5_waiting_3 4 rfl rfl)
theorem dX5_waiting_83 : decode cX5_waiting 83 = .ok (.ireturn, 1) := dk_172 (dk_at dksX5_waiting_3 5 rfl rfl)
theorem dX5_waiting_84 : decode cX5_waiting 84 = .ok (.aload_n 0, 1) := dk_42 (dk_at dksX5_waiting_3 6 rfl rfl)
theorem dX5_waiting_85 : decode cX5_waiting 85 = .ok (.iconst 2, 1) := dk_5 (dk_at dksX5_waiting_3 7 rfl rfl)
theorem dX5_waiting_86 : decode cX5_waiting 86 = .ok (.invokevirtual 116, 3) := dk_182 0 116 (dk_at dksX5_waiting_3 8 rfl rfl)
theorem dX5_waiting_89 : decode cX5_waiting 89 = .ok (.ireturn, 1) := dk_172 (dk_at dksX5_waiting_3 11 rfl rfl)
abbrev cX5_open : ByteArray := prog_12_method_104_code
def yX5_open : MethodName := ⟨RX5, "open", "(II)I"⟩
def dkwX5_open_3 : List UInt8 := [172]
abbrev dktX5_open_3 : List UInt8 := dkwX5_open_3 ++ []
def dkwX5_open_2 : List UInt8 := [42, 180, 0, 26, 182, 0, 188, 153, 0, 7, 4, 167, 0, 4, 3, 96, 62, 132, 4, 1, 167, 255, 221, 29]
abbrev dktX5_open_2 : List UInt8 := dkwX5_open_2 ++ dktX5_open_3
def dkwX5_open_1 : List UInt8 := [182, 0, 116, 172, 3, 62, 3, 54, 4, 21, 4, 42, 180, 0, 26, 162, 0, 32, 29, 42, 21, 4, 27, 28]
abbrev dktX5_open_1 : List UInt8 := dkwX5_open_1 ++ dktX5_open_2
def dkwX5_open_0 : List UInt8 := [42, 3, 181, 0, 106, 42, 27, 182, 1, 182, 154, 0, 11, 42, 28, 182, 1, 182, 153, 0, 9, 42, 4]
abbrev dktX5_open_0 : List UInt8 := dkwX5_open_0 ++ dktX5_open_1
theorem dksX5_open_0 : cX5_open.data.toList.drop 0 = dktX5_open_0 := by decide +kernel
theorem dksX5_open_1 : cX5_open.data.toList.drop 23 = dktX5_open_1 := dk_seg dksX5_open_0 23 rfl rfl
theorem dksX5_open_2 : cX5_open.data.toList.drop 47 = dktX5_open_2 := dk_seg dksX5_open_1 24 rfl rfl
theorem dksX5_open_3 : cX5_open.data.toList.drop 71 = dktX5_open_3 := dk_seg dksX5_open_2 24 rfl rfl
theorem dX5_open_0 : decode cX5_open 0 = .ok (.aload_n 0, 1) := dk_42 (dk_at dksX5_open_0 0 rfl rfl)
theorem dX5_open_1 : decode cX5_open 1 = .ok (.iconst 0, 1) := dk_3 (dk_at dksX5_open_0 1 rfl rfl)
theorem dX5_open_2 : decode cX5_open 2 = .ok (.putfield 106, 3) := dk_181 0 106 (dk_at dksX5_open_0 2 rfl rfl)
theorem dX5_open_5 : decode cX5_open 5 = .ok (.aload_n 0, 1) := dk_42 (dk_at dksX5_open_0 5 rfl rfl)
theorem dX5_open_6 : decode cX5_open 6 = .ok (.iload_n 1, 1) := dk_27 (dk_at dksX5_open_0 6 rfl rfl)
theorem dX5_open_7 : decode cX5_open 7 = .ok (.invokevirtual 438, 3) := dk_182 1 182 (dk_at dksX5_open_0 7 rfl rfl)
theorem dX5_open_10 : decode cX5_open 10 = .ok (.ifCond .ne 11, 3) := dk_154 0 11 (dk_at dksX5_open_0 10 rfl rfl)
theorem dX5_open_13 : decode cX5_open 13 = .ok (.aload_n 0, 1) := dk_42 (dk_at dksX5_open_0 13 rfl rfl)
theorem dX5_open_14 : decode cX5_open 14 = .ok (.iload_n 2, 1) := dk_28 (dk_at dksX5_open_0 14 rfl rfl)
theorem dX5_open_15 : decode cX5_open 15 = .ok (.invokevirtual 438, 3) := dk_182 1 182 (dk_at dksX5_open_0 15 rfl rfl)
theorem dX5_open_18 : decode cX5_open 18 = .ok (.ifCond .eq 9, 3) := dk_153 0 9 (dk_at dksX5_open_0 18 rfl rfl)
theorem dX5_open_21 : decode cX5_open 21 = .ok (.aload_n 0, 1) := dk_42 (dk_at dksX5_open_0 21 rfl rfl)
theorem dX5_open_22 : decode cX5_open 22 = .ok (.iconst 1, 1) := dk_4 (dk_at dksX5_open_0 22 rfl rfl)
theorem dX5_open_23 : decode cX5_open 23 = .ok (.invokevirtual 116, 3) := dk_182 0 116 (dk_at dksX5_open_1 0 rfl rfl)
theorem dX5_open_26 : decode cX5_open 26 = .ok (.ireturn, 1) := dk_172 (dk_at dksX5_open_1 3 rfl rfl)
theorem dX5_open_27 : decode cX5_open 27 = .ok (.iconst 0, 1) := dk_3 (dk_at dksX5_open_1 4 rfl rfl)
theorem dX5_open_28 : decode cX5_open 28 = .ok (.istore_n 3, 1) := dk_62 (dk_at dksX5_open_1 5 rfl rfl)
theorem dX5_open_29 : decode cX5_open 29 = .ok (.iconst 0, 1) := dk_3 (dk_at dksX5_open_1 6 rfl rfl)
theorem dX5_open_30 : decode cX5_open 30 = .ok (.istore 4, 2) := dk_54 4 (dk_at dksX5_open_1 7 rfl rfl)
theorem dX5_open_32 : decode cX5_open 32 = .ok (.iload 4, 2) := dk_21 4 (dk_at dksX5_open_1 9 rfl rfl)
theorem dX5_open_34 : decode cX5_open 34 = .ok (.aload_n 0, 1) := dk_42 (dk_at dksX5_open_1 11 rfl rfl)
theorem dX5_open_35 : decode cX5_open 35 = .ok (.getfield 26, 3) := dk_180 0 26 (dk_at dksX5_open_1 12 rfl rfl)
theorem dX5_open_38 : decode cX5_open 38 = .ok (.if_icmp .ge 32, 3) := dk_162 0 32 (dk_at dksX5_open_1 15 rfl rfl)
theorem dX5_open_41 : decode cX5_open 41 = .ok (.iload_n 3, 1) := dk_29 (dk_at dksX5_open_1 18 rfl rfl)
theorem dX5_open_42 : decode cX5_open 42 = .ok (.aload_n 0, 1) := dk_42 (dk_at dksX5_open_1 19 rfl rfl)
theorem dX5_open_43 : decode cX5_open 43 = .ok (.iload 4, 2) := dk_21 4 (dk_at dksX5_open_1 20 rfl rfl)
theorem dX5_open_45 : decode cX5_open 45 = .ok (.iload_n 1, 1) := dk_27 (dk_at dksX5_open_1 22 rfl rfl)
theorem dX5_open_46 : decode cX5_open 46 = .ok (.iload_n 2, 1) := dk_28 (dk_at dksX5_open_1 23 rfl rfl)
theorem dX5_open_47 : decode cX5_open 47 = .ok (.aload_n 0, 1) := dk_42 (dk_at dksX5_open_2 0 rfl rfl)
theorem dX5_open_48 : decode cX5_open 48 = .ok (.getfield 26, 3) := dk_180 0 26 (dk_at dksX5_open_2 1 rfl rfl)
theorem dX5_open_51 : decode cX5_open 51 = .ok (.invokevirtual 188, 3) := dk_182 0 188 (dk_at dksX5_open_2 4 rfl rfl)
theorem dX5_open_54 : decode cX5_open 54 = .ok (.ifCond .eq 7, 3) := dk_153 0 7 (dk_at dksX5_open_2 7 rfl rfl)
theorem dX5_open_57 : decode cX5_open 57 = .ok (.iconst 1, 1) := dk_4 (dk_at dksX5_open_2 10 rfl rfl)
theorem dX5_open_58 : decode cX5_open 58 = .ok (.goto 4, 3) := dk_167 0 4 (dk_at dksX5_open_2 11 rfl rfl)
theorem dX5_open_61 : decode cX5_open 61 = .ok (.iconst 0, 1) := dk_3 (dk_at dksX5_open_2 14 rfl rfl)
theorem dX5_open_62 : decode cX5_open 62 = .ok (.iadd, 1) := dk_96 (dk_at dksX5_open_2 15 rfl rfl)
theorem dX5_open_63 : decode cX5_open 63 = .ok (.istore_n 3, 1) := dk_62 (dk_at dksX5_open_2 16 rfl rfl)
theorem dX5_open_64 : decode cX5_open 64 = .ok (.iinc 4 1, 3) := dk_132 4 1 (dk_at dksX5_open_2 17 rfl rfl)
theorem dX5_open_67 : decode cX5_open 67 = .ok (.goto (-35), 3) := dk_167 255 221 (dk_at dksX5_open_2 20 rfl rfl)
theorem dX5_open_70 : decode cX5_open 70 = .ok (.iload_n 3, 1) := dk_29 (dk_at dksX5_open_2 23 rfl rfl)
theorem dX5_open_71 : decode cX5_open 71 = .ok (.ireturn, 1) := dk_172 (dk_at dksX5_open_3 0 rfl rfl)
abbrev cX5_chain : ByteArray := prog_12_method_105_code
def yX5_chain : MethodName := ⟨RX5, "chain", "(III)I"⟩
def dkwX5_chain_6 : List UInt8 := [180, 0, 202, 167, 0, 7, 42, 180, 0, 205, 172, 42, 180, 0, 35, 42, 180, 0, 91, 3, 46, 46, 172]
abbrev dktX5_chain_6 : List UInt8 := dkwX5_chain_6 ++ []
def dkwX5_chain_5 : List UInt8 := [42, 180, 0, 195, 172, 42, 180, 0, 202, 172, 42, 180, 0, 205, 172, 42, 180, 0, 208, 153, 0, 10, 42]
abbrev dktX5_chain_5 : List UInt8 := dkwX5_chain_5 ++ dktX5_chain_6
def dkwX5_chain_4 : List UInt8 := [170, 0, 0, 0, 0, 0, 65, 0, 0, 0, 0, 0, 0, 0, 3, 0, 0, 0, 31, 0, 0, 0, 36, 0, 0, 0, 41, 0, 0, 0, 46]
abbrev dktX5_chain_4 : List UInt8 := dkwX5_chain_4 ++ dktX5_chain_5
def dkwX5_chain_3 : List UInt8 := [172, 29]
abbrev dktX5_chain_3 : List UInt8 := dkwX5_chain_3 ++ dktX5_chain_4
def dkwX5_chain_2 : List UInt8 := [180, 0, 26, 182, 0, 212, 2, 160, 0, 16, 42, 27, 28, 42, 180, 0, 26, 182, 0, 216, 154, 0, 5, 2]
abbrev dktX5_chain_2 : List UInt8 := dkwX5_chain_2 ++ dktX5_chain_3
def dkwX5_chain_1 : List UInt8 := [182, 0, 116, 172, 29, 155, 0, 8, 29, 7, 164, 0, 9, 42, 5, 182, 0, 116, 172, 42, 27, 28, 3, 42]
abbrev dktX5_chain_1 : List UInt8 := dkwX5_chain_1 ++ dktX5_chain_2
def dkwX5_chain_0 : List UInt8 := [42, 3, 181, 0, 106, 42, 27, 182, 1, 182, 154, 0, 11, 42, 28, 182, 1, 182, 153, 0, 9, 42, 4]
abbrev dktX5_chain_0 : List UInt8 := dkwX5_chain_0 ++ dktX5_chain_1
theorem dksX5_chain_0 : cX5_chain.data.toList.drop 0 = dktX5_chain_0 := by decide +kernel
theorem dksX5_chain_1 : cX5_chain.data.toList.drop 23 = dktX5_chain_1 := dk_seg dksX5_chain_0 23 rfl rfl
theorem dksX5_chain_2 : cX5_chain.data.toList.drop 47 = dktX5_chain_2 := dk_seg dksX5_chain_1 24 rfl rfl
theorem dksX5_chain_3 : cX5_chain.data.toList.drop 71 = dktX5_chain_3 := dk_seg dksX5_chain_2 24 rfl rfl
theorem dksX5_chain_4 : cX5_chain.data.toList.drop 73 = dktX5_chain_4 := dk_seg dksX5_chain_3 2 rfl rfl
theorem dksX5_chain_5 : cX5_chain.data.toList.drop 104 = dktX5_chain_5 := dk_seg dksX5_chain_4 31 rfl rfl
theorem dksX5_chain_6 : cX5_chain.data.toList.drop 127 = dktX5_chain_6 := dk_seg dksX5_chain_5 23 rfl rfl
theorem dX5_chain_0 : decode cX5_chain 0 = .ok (.aload_n 0, 1) := dk_42 (dk_at dksX5_chain_0 0 rfl rfl)
theorem dX5_chain_1 : decode cX5_chain 1 = .ok (.iconst 0, 1) := dk_3 (dk_at dksX5_chain_0 1 rfl rfl)
theorem dX5_chain_2 : decode cX5_chain 2 = .ok (.putfield 106, 3) := dk_181 0 106 (dk_at dksX5_chain_0 2 rfl rfl)
theorem dX5_chain_5 : decode cX5_chain 5 = .ok (.aload_n 0, 1) := dk_42 (dk_at dksX5_chain_0 5 rfl rfl)
theorem dX5_chain_6 : decode cX5_chain 6 = .ok (.iload_n 1, 1) := dk_27 (dk_at dksX5_chain_0 6 rfl rfl)
theorem dX5_chain_7 : decode cX5_chain 7 = .ok (.invokevirtual 438, 3) := dk_182 1 182 (dk_at dksX5_chain_0 7 rfl rfl)
theorem dX5_chain_10 : decode cX5_chain 10 = .ok (.ifCond .ne 11, 3) := dk_154 0 11 (dk_at dksX5_chain_0 10 rfl rfl)
theorem dX5_chain_13 : decode cX5_chain 13 = .ok (.aload_n 0, 1) := dk_42 (dk_at dksX5_chain_0 13 rfl rfl)
theorem dX5_chain_14 : decode cX5_chain 14 = .ok (.iload_n 2, 1) := dk_28 (dk_at dksX5_chain_0 14 rfl rfl)
theorem dX5_chain_15 : decode cX5_chain 15 = .ok (.invokevirtual 438, 3) := dk_182 1 182 (dk_at dksX5_chain_0 15 rfl rfl)
theorem dX5_chain_18 : decode cX5_chain 18 = .ok (.ifCond .eq 9, 3) := dk_153 0 9 (dk_at dksX5_chain_0 18 rfl rfl)
theorem dX5_chain_21 : decode cX5_chain 21 = .ok (.aload_n 0, 1) := dk_42 (dk_at dksX5_chain_0 21 rfl rfl)
theorem dX5_chain_22 : decode cX5_chain 22 = .ok (.iconst 1, 1) := dk_4 (dk_at dksX5_chain_0 22 rfl rfl)
theorem dX5_chain_23 : decode cX5_chain 23 = .ok (.invokevirtual 116, 3) := dk_182 0 116 (dk_at dksX5_chain_1 0 rfl rfl)
theorem dX5_chain_26 : decode cX5_chain 26 = .ok (.ireturn, 1) := dk_172 (dk_at dksX5_chain_1 3 rfl rfl)
theorem dX5_chain_27 : decode cX5_chain 27 = .ok (.iload_n 3, 1) := dk_29 (dk_at dksX5_chain_1 4 rfl rfl)
theorem dX5_chain_28 : decode cX5_chain 28 = .ok (.ifCond .lt 8, 3) := dk_155 0 8 (dk_at dksX5_chain_1 5 rfl rfl)
theorem dX5_chain_31 : decode cX5_chain 31 = .ok (.iload_n 3, 1) := dk_29 (dk_at dksX5_chain_1 8 rfl rfl)
theorem dX5_chain_32 : decode cX5_chain 32 = .ok (.iconst 4, 1) := dk_7 (dk_at dksX5_chain_1 9 rfl rfl)
theorem dX5_chain_33 : decode cX5_chain 33 = .ok (.if_icmp .le 9, 3) := dk_164 0 9 (dk_at dksX5_chain_1 10 rfl rfl)
theorem dX5_chain_36 : decode cX5_chain 36 = .ok (.aload_n 0, 1) := dk_42 (dk_at dksX5_chain_1 13 rfl rfl)
theorem dX5_chain_37 : decode cX5_chain 37 = .ok (.iconst 2, 1) := dk_5 (dk_at dksX5_chain_1 14 rfl rfl)
theorem dX5_chain_38 : decode cX5_chain 38 = .ok (.invokevirtual 116, 3) := dk_182 0 116 (dk_at dksX5_chain_1 15 rfl rfl)
theorem dX5_chain_41 : decode cX5_chain 41 = .ok (.ireturn, 1) := dk_172 (dk_at dksX5_chain_1 18 rfl rfl)
theorem dX5_chain_42 : decode cX5_chain 42 = .ok (.aload_n 0, 1) := dk_42 (dk_at dksX5_chain_1 19 rfl rfl)
theorem dX5_chain_43 : decode cX5_chain 43 = .ok (.iload_n 1, 1) := dk_27 (dk_at dksX5_chain_1 20 rfl rfl)
theorem dX5_chain_44 : decode cX5_chain 44 = .ok (.iload_n 2, 1) := dk_28 (dk_at dksX5_chain_1 21 rfl rfl)
theorem dX5_chain_45 : decode cX5_chain 45 = .ok (.iconst 0, 1) := dk_3 (dk_at dksX5_chain_1 22 rfl rfl)
theorem dX5_chain_46 : decode cX5_chain 46 = .ok (.aload_n 0, 1) := dk_42 (dk_at dksX5_chain_1 23 rfl rfl)
theorem dX5_chain_47 : decode cX5_chain 47 = .ok (.getfield 26, 3) := dk_180 0 26 (dk_at dksX5_chain_2 0 rfl rfl)
theorem dX5_chain_50 : decode cX5_chain 50 = .ok (.invokevirtual 212, 3) := dk_182 0 212 (dk_at dksX5_chain_2 3 rfl rfl)
theorem dX5_chain_53 : decode cX5_chain 53 = .ok (.iconst (-1), 1) := dk_2 (dk_at dksX5_chain_2 6 rfl rfl)
theorem dX5_chain_54 : decode cX5_chain 54 = .ok (.if_icmp .ne 16, 3) := dk_160 0 16 (dk_at dksX5_chain_2 7 rfl rfl)
theorem dX5_chain_57 : decode cX5_chain 57 = .ok (.aload_n 0, 1) := dk_42 (dk_at dksX5_chain_2 10 rfl rfl)
theorem dX5_chain_58 : decode cX5_chain 58 = .ok (.iload_n 1, 1) := dk_27 (dk_at dksX5_chain_2 11 rfl rfl)
theorem dX5_chain_59 : decode cX5_chain 59 = .ok (.iload_n 2, 1) := dk_28 (dk_at dksX5_chain_2 12 rfl rfl)
theorem dX5_chain_60 : decode cX5_chain 60 = .ok (.aload_n 0, 1) := dk_42 (dk_at dksX5_chain_2 13 rfl rfl)
theorem dX5_chain_61 : decode cX5_chain 61 = .ok (.getfield 26, 3) := dk_180 0 26 (dk_at dksX5_chain_2 14 rfl rfl)
theorem dX5_chain_64 : decode cX5_chain 64 = .ok (.invokevirtual 216, 3) := dk_182 0 216 (dk_at dksX5_chain_2 17 rfl rfl)
theorem dX5_chain_67 : decode cX5_chain 67 = .ok (.ifCond .ne 5, 3) := dk_154 0 5 (dk_at dksX5_chain_2 20 rfl rfl)
theorem dX5_chain_70 : decode cX5_chain 70 = .ok (.iconst (-1), 1) := dk_2 (dk_at dksX5_chain_2 23 rfl rfl)
theorem dX5_chain_71 : decode cX5_chain 71 = .ok (.ireturn, 1) := dk_172 (dk_at dksX5_chain_3 0 rfl rfl)
theorem dX5_chain_72 : decode cX5_chain 72 = .ok (.iload_n 3, 1) := dk_29 (dk_at dksX5_chain_3 1 rfl rfl)
theorem dX5_chain_73 : decode cX5_chain 73 = .ok (.tableswitch 65 0 3 #[31, 36, 41, 46], 31) := by decide +kernel
theorem dX5_chain_104 : decode cX5_chain 104 = .ok (.aload_n 0, 1) := dk_42 (dk_at dksX5_chain_5 0 rfl rfl)
theorem dX5_chain_105 : decode cX5_chain 105 = .ok (.getfield 195, 3) := dk_180 0 195 (dk_at dksX5_chain_5 1 rfl rfl)
theorem dX5_chain_108 : decode cX5_chain 108 = .ok (.ireturn, 1) := dk_172 (dk_at dksX5_chain_5 4 rfl rfl)
theorem dX5_chain_109 : decode cX5_chain 109 = .ok (.aload_n 0, 1) := dk_42 (dk_at dksX5_chain_5 5 rfl rfl)
theorem dX5_chain_110 : decode cX5_chain 110 = .ok (.getfield 202, 3) := dk_180 0 202 (dk_at dksX5_chain_5 6 rfl rfl)
theorem dX5_chain_113 : decode cX5_chain 113 = .ok (.ireturn, 1) := dk_172 (dk_at dksX5_chain_5 9 rfl rfl)
theorem dX5_chain_114 : decode cX5_chain 114 = .ok (.aload_n 0, 1) := dk_42 (dk_at dksX5_chain_5 10 rfl rfl)
theorem dX5_chain_115 : decode cX5_chain 115 = .ok (.getfield 205, 3) := dk_180 0 205 (dk_at dksX5_chain_5 11 rfl rfl)
theorem dX5_chain_118 : decode cX5_chain 118 = .ok (.ireturn, 1) := dk_172 (dk_at dksX5_chain_5 14 rfl rfl)
theorem dX5_chain_119 : decode cX5_chain 119 = .ok (.aload_n 0, 1) := dk_42 (dk_at dksX5_chain_5 15 rfl rfl)
theorem dX5_chain_120 : decode cX5_chain 120 = .ok (.getfield 208, 3) := dk_180 0 208 (dk_at dksX5_chain_5 16 rfl rfl)
theorem dX5_chain_123 : decode cX5_chain 123 = .ok (.ifCond .eq 10, 3) := dk_153 0 10 (dk_at dksX5_chain_5 19 rfl rfl)
theorem dX5_chain_126 : decode cX5_chain 126 = .ok (.aload_n 0, 1) := dk_42 (dk_at dksX5_chain_5 22 rfl rfl)
theorem dX5_chain_127 : decode cX5_chain 127 = .ok (.getfield 202, 3) := dk_180 0 202 (dk_at dksX5_chain_6 0 rfl rfl)
theorem dX5_chain_130 : decode cX5_chain 130 = .ok (.goto 7, 3) := dk_167 0 7 (dk_at dksX5_chain_6 3 rfl rfl)
theorem dX5_chain_133 : decode cX5_chain 133 = .ok (.aload_n 0, 1) := dk_42 (dk_at dksX5_chain_6 6 rfl rfl)
theorem dX5_chain_134 : decode cX5_chain 134 = .ok (.getfield 205, 3) := dk_180 0 205 (dk_at dksX5_chain_6 7 rfl rfl)
theorem dX5_chain_137 : decode cX5_chain 137 = .ok (.ireturn, 1) := dk_172 (dk_at dksX5_chain_6 10 rfl rfl)
theorem dX5_chain_138 : decode cX5_chain 138 = .ok (.aload_n 0, 1) := dk_42 (dk_at dksX5_chain_6 11 rfl rfl)
theorem dX5_chain_139 : decode cX5_chain 139 = .ok (.getfield 35, 3) := dk_180 0 35 (dk_at dksX5_chain_6 12 rfl rfl)
theorem dX5_chain_142 : decode cX5_chain 142 = .ok (.aload_n 0, 1) := dk_42 (dk_at dksX5_chain_6 15 rfl rfl)
theorem dX5_chain_143 : decode cX5_chain 143 = .ok (.getfield 91, 3) := dk_180 0 91 (dk_at dksX5_chain_6 16 rfl rfl)
theorem dX5_chain_146 : decode cX5_chain 146 = .ok (.iconst 0, 1) := dk_3 (dk_at dksX5_chain_6 19 rfl rfl)
theorem dX5_chain_147 : decode cX5_chain 147 = .ok (.iaload, 1) := dk_46 (dk_at dksX5_chain_6 20 rfl rfl)
theorem dX5_chain_148 : decode cX5_chain 148 = .ok (.iaload, 1) := dk_46 (dk_at dksX5_chain_6 21 rfl rfl)
theorem dX5_chain_149 : decode cX5_chain 149 = .ok (.ireturn, 1) := dk_172 (dk_at dksX5_chain_6 22 rfl rfl)
abbrev cX5_why : ByteArray := prog_12_method_107_code
def yX5_why : MethodName := ⟨RX5, "why", "(III)I"⟩
def dkwX5_why_11 : List UInt8 := [172, 2, 172]
abbrev dktX5_why_11 : List UInt8 := dkwX5_why_11 ++ []
def dkwX5_why_10 : List UInt8 := [5, 167, 0, 4, 3, 172, 42, 180, 0, 208, 153, 0, 10, 42, 180, 0, 202, 167, 0, 7, 42, 180, 0, 205]
abbrev dktX5_why_10 : List UInt8 := dkwX5_why_10 ++ dktX5_why_11
def dkwX5_why_9 : List UInt8 := [182, 1, 170, 160, 0, 7, 4, 167, 0, 22, 42, 21, 5, 4, 182, 1, 0, 42, 182, 1, 170, 160, 0, 7]
abbrev dktX5_why_9 : List UInt8 := dkwX5_why_9 ++ dktX5_why_10
def dkwX5_why_8 : List UInt8 := [21, 7, 172, 42, 27, 182, 1, 188, 172, 42, 28, 182, 1, 188, 172, 42, 21, 4, 3, 182, 1, 0, 42]
abbrev dktX5_why_8 : List UInt8 := dkwX5_why_8 ++ dktX5_why_9
def dkwX5_why_7 : List UInt8 := [170, 0, 0, 0, 113, 0, 0, 0, 0, 0, 0, 0, 6, 0, 0, 0, 41, 0, 0, 0, 44, 0, 0, 0, 50, 0, 0, 0, 113, 0, 0, 0, 56, 0, 0, 0, 113, 0, 0, 0, 94]
abbrev dktX5_why_7 : List UInt8 := dkwX5_why_7 ++ dktX5_why_8
def dkwX5_why_6 : List UInt8 := [167, 0, 4, 2, 172, 21, 6]
abbrev dktX5_why_6 : List UInt8 := dkwX5_why_6 ++ dktX5_why_7
def dkwX5_why_5 : List UInt8 := [154, 0, 6, 21, 6, 172, 29, 5, 160, 0, 19, 21, 6, 16, 6, 160, 0, 10, 42, 180, 0, 195]
abbrev dktX5_why_5 : List UInt8 := dkwX5_why_5 ++ dktX5_why_6
def dkwX5_why_4 : List UInt8 := [21, 7, 2, 160, 0, 20, 16, 6, 54, 6, 42, 21, 4, 21, 5, 42, 180, 0, 26, 182, 0, 216, 87, 29]
abbrev dktX5_why_4 : List UInt8 := dkwX5_why_4 ++ dktX5_why_5
def dkwX5_why_3 : List UInt8 := [42, 21, 4, 21, 5, 42, 180, 0, 123, 42, 180, 0, 26, 182, 0, 212, 54, 7, 21, 6, 154, 0, 26]
abbrev dktX5_why_3 : List UInt8 := dkwX5_why_3 ++ dktX5_why_4
def dkwX5_why_2 : List UInt8 := [27, 42, 180, 0, 23, 108, 54, 4, 28, 42, 180, 0, 23, 108, 54, 5, 42, 27, 28, 182, 0, 244, 54, 6]
abbrev dktX5_why_2 : List UInt8 := dkwX5_why_2 ++ dktX5_why_3
def dkwX5_why_1 : List UInt8 := [182, 0, 116, 172, 27, 28, 159, 0, 12, 29, 155, 0, 8, 29, 5, 164, 0, 9, 42, 5, 182, 0, 116, 172]
abbrev dktX5_why_1 : List UInt8 := dkwX5_why_1 ++ dktX5_why_2
def dkwX5_why_0 : List UInt8 := [42, 3, 181, 0, 106, 42, 27, 182, 1, 158, 154, 0, 11, 42, 28, 182, 1, 158, 153, 0, 9, 42, 4]
abbrev dktX5_why_0 : List UInt8 := dkwX5_why_0 ++ dktX5_why_1
theorem dksX5_why_0 : cX5_why.data.toList.drop 0 = dktX5_why_0 := by decide +kernel
theorem dksX5_why_1 : cX5_why.data.toList.drop 23 = dktX5_why_1 := dk_seg dksX5_why_0 23 rfl rfl
theorem dksX5_why_2 : cX5_why.data.toList.drop 47 = dktX5_why_2 := dk_seg dksX5_why_1 24 rfl rfl
theorem dksX5_why_3 : cX5_why.data.toList.drop 71 = dktX5_why_3 := dk_seg dksX5_why_2 24 rfl rfl
theorem dksX5_why_4 : cX5_why.data.toList.drop 94 = dktX5_why_4 := dk_seg dksX5_why_3 23 rfl rfl
theorem dksX5_why_5 : cX5_why.data.toList.drop 118 = dktX5_why_5 := dk_seg dksX5_why_4 24 rfl rfl
theorem dksX5_why_6 : cX5_why.data.toList.drop 140 = dktX5_why_6 := dk_seg dksX5_why_5 22 rfl rfl
theorem dksX5_why_7 : cX5_why.data.toList.drop 147 = dktX5_why_7 := dk_seg dksX5_why_6 7 rfl rfl
theorem dksX5_why_8 : cX5_why.data.toList.drop 188 = dktX5_why_8 := dk_seg dksX5_why_7 41 rfl rfl
theorem dksX5_why_9 : cX5_why.data.toList.drop 211 = dktX5_why_9 := dk_seg dksX5_why_8 23 rfl rfl
theorem dksX5_why_10 : cX5_why.data.toList.drop 235 = dktX5_why_10 := dk_seg dksX5_why_9 24 rfl rfl
theorem dksX5_why_11 : cX5_why.data.toList.drop 259 = dktX5_why_11 := dk_seg dksX5_why_10 24 rfl rfl
theorem dX5_why_0 : decode cX5_why 0 = .ok (.aload_n 0, 1) := dk_42 (dk_at dksX5_why_0 0 rfl rfl)
theorem dX5_why_1 : decode cX5_why 1 = .ok (.iconst 0, 1) := dk_3 (dk_at dksX5_why_0 1 rfl rfl)
theorem dX5_why_2 : decode cX5_why 2 = .ok (.putfield 106, 3) := dk_181 0 106 (dk_at dksX5_why_0 2 rfl rfl)
theorem dX5_why_5 : decode cX5_why 5 = .ok (.aload_n 0, 1) := dk_42 (dk_at dksX5_why_0 5 rfl rfl)
theorem dX5_why_6 : decode cX5_why 6 = .ok (.iload_n 1, 1) := dk_27 (dk_at dksX5_why_0 6 rfl rfl)
theorem dX5_why_7 : decode cX5_why 7 = .ok (.invokevirtual 414, 3) := dk_182 1 158 (dk_at dksX5_why_0 7 rfl rfl)
theorem dX5_why_10 : decode cX5_why 10 = .ok (.ifCond .ne 11, 3) := dk_154 0 11 (dk_at dksX5_why_0 10 rfl rfl)
theorem dX5_why_13 : decode cX5_why 13 = .ok (.aload_n 0, 1) := dk_42 (dk_at dksX5_why_0 13 rfl rfl)
theorem dX5_why_14 : decode cX5_why 14 = .ok (.iload_n 2, 1) := dk_28 (dk_at dksX5_why_0 14 rfl rfl)
theorem dX5_why_15 : decode cX5_why 15 = .ok (.invokevirtual 414, 3) := dk_182 1 158 (dk_at dksX5_why_0 15 rfl rfl)
theorem dX5_why_18 : decode cX5_why 18 = .ok (.ifCond .eq 9, 3) := dk_153 0 9 (dk_at dksX5_why_0 18 rfl rfl)
theorem dX5_why_21 : decode cX5_why 21 = .ok (.aload_n 0, 1) := dk_42 (dk_at dksX5_why_0 21 rfl rfl)
theorem dX5_why_22 : decode cX5_why 22 = .ok (.iconst 1, 1) := dk_4 (dk_at dksX5_why_0 22 rfl rfl)
theorem dX5_why_23 : decode cX5_why 23 = .ok (.invokevirtual 116, 3) := dk_182 0 116 (dk_at dksX5_why_1 0 rfl rfl)
theorem dX5_why_26 : decode cX5_why 26 = .ok (.ireturn, 1) := dk_172 (dk_at dksX5_why_1 3 rfl rfl)
theorem dX5_why_27 : decode cX5_why 27 = .ok (.iload_n 1, 1) := dk_27 (dk_at dksX5_why_1 4 rfl rfl)
theorem dX5_why_28 : decode cX5_why 28 = .ok (.iload_n 2, 1) := dk_28 (dk_at dksX5_why_1 5 rfl rfl)
theorem dX5_why_29 : decode cX5_why 29 = .ok (.if_icmp .eq 12, 3) := dk_159 0 12 (dk_at dksX5_why_1 6 rfl rfl)
theorem dX5_why_32 : decode cX5_why 32 = .ok (.iload_n 3, 1) := dk_29 (dk_at dksX5_why_1 9 rfl rfl)
theorem dX5_why_33 : decode cX5_why 33 = .ok (.ifCond .lt 8, 3) := dk_155 0 8 (dk_at dksX5_why_1 10 rfl rfl)
theorem dX5_why_36 : decode cX5_why 36 = .ok (.iload_n 3, 1) := dk_29 (dk_at dksX5_why_1 13 rfl rfl)
theorem dX5_why_37 : decode cX5_why 37 = .ok (.iconst 2, 1) := dk_5 (dk_at dksX5_why_1 14 rfl rfl)
theorem dX5_why_38 : decode cX5_why 38 = .ok (.if_icmp .le 9, 3) := dk_164 0 9 (dk_at dksX5_why_1 15 rfl rfl)
theorem dX5_why_41 : decode cX5_why 41 = .ok (.aload_n 0, 1) := dk_42 (dk_at dksX5_why_1 18 rfl rfl)
theorem dX5_why_42 : decode cX5_why 42 = .ok (.iconst 2, 1) := dk_5 (dk_at dksX5_why_1 19 rfl rfl)
theorem dX5_why_43 : decode cX5_why 43 = .ok (.invokevirtual 116, 3) := dk_182 0 116 (dk_at dksX5_why_1 20 rfl rfl)
theorem dX5_why_46 : decode cX5_why 46 = .ok (.ireturn, 1) := dk_172 (dk_at dksX5_why_1 23 rfl rfl)
theorem dX5_why_47 : decode cX5_why 47 = .ok (.iload_n 1, 1) := dk_27 (dk_at dksX5_why_2 0 rfl rfl)
theorem dX5_why_48 : decode cX5_why 48 = .ok (.aload_n 0, 1) := dk_42 (dk_at dksX5_why_2 1 rfl rfl)
theorem dX5_why_49 : decode cX5_why 49 = .ok (.getfield 23, 3) := dk_180 0 23 (dk_at dksX5_why_2 2 rfl rfl)
theorem dX5_why_52 : decode cX5_why 52 = .ok (.idiv, 1) := dk_108 (dk_at dksX5_why_2 5 rfl rfl)
theorem dX5_why_53 : decode cX5_why 53 = .ok (.istore 4, 2) := dk_54 4 (dk_at dksX5_why_2 6 rfl rfl)
theorem dX5_why_55 : decode cX5_why 55 = .ok (.iload_n 2, 1) := dk_28 (dk_at dksX5_why_2 8 rfl rfl)
theorem dX5_why_56 : decode cX5_why 56 = .ok (.aload_n 0, 1) := dk_42 (dk_at dksX5_why_2 9 rfl rfl)
theorem dX5_why_57 : decode cX5_why 57 = .ok (.getfield 23, 3) := dk_180 0 23 (dk_at dksX5_why_2 10 rfl rfl)
theorem dX5_why_60 : decode cX5_why 60 = .ok (.idiv, 1) := dk_108 (dk_at dksX5_why_2 13 rfl rfl)
theorem dX5_why_61 : decode cX5_why 61 = .ok (.istore 5, 2) := dk_54 5 (dk_at dksX5_why_2 14 rfl rfl)
theorem dX5_why_63 : decode cX5_why 63 = .ok (.aload_n 0, 1) := dk_42 (dk_at dksX5_why_2 16 rfl rfl)
theorem dX5_why_64 : decode cX5_why 64 = .ok (.iload_n 1, 1) := dk_27 (dk_at dksX5_why_2 17 rfl rfl)
theorem dX5_why_65 : decode cX5_why 65 = .ok (.iload_n 2, 1) := dk_28 (dk_at dksX5_why_2 18 rfl rfl)
theorem dX5_why_66 : decode cX5_why 66 = .ok (.invokevirtual 244, 3) := dk_182 0 244 (dk_at dksX5_why_2 19 rfl rfl)
theorem dX5_why_69 : decode cX5_why 69 = .ok (.istore 6, 2) := dk_54 6 (dk_at dksX5_why_2 22 rfl rfl)
theorem dX5_why_71 : decode cX5_why 71 = .ok (.aload_n 0, 1) := dk_42 (dk_at dksX5_why_3 0 rfl rfl)
theorem dX5_why_72 : decode cX5_why 72 = .ok (.iload 4, 2) := dk_21 4 (dk_at dksX5_why_3 1 rfl rfl)
theorem dX5_why_74 : decode cX5_why 74 = .ok (.iload 5, 2) := dk_21 5 (dk_at dksX5_why_3 3 rfl rfl)
theorem dX5_why_76 : decode cX5_why 76 = .ok (.aload_n 0, 1) := dk_42 (dk_at dksX5_why_3 5 rfl rfl)
theorem dX5_why_77 : decode cX5_why 77 = .ok (.getfield 123, 3) := dk_180 0 123 (dk_at dksX5_why_3 6 rfl rfl)
theorem dX5_why_80 : decode cX5_why 80 = .ok (.aload_n 0, 1) := dk_42 (dk_at dksX5_why_3 9 rfl rfl)
theorem dX5_why_81 : decode cX5_why 81 = .ok (.getfield 26, 3) := dk_180 0 26 (dk_at dksX5_why_3 10 rfl rfl)
theorem dX5_why_84 : decode cX5_why 84 = .ok (.invokevirtual 212, 3) := dk_182 0 212 (dk_at dksX5_why_3 13 rfl rfl)
theorem dX5_why_87 : decode cX5_why 87 = .ok (.istore 7, 2) := dk_54 7 (dk_at dksX5_why_3 16 rfl rfl)
theorem dX5_why_89 : decode cX5_why 89 = .ok (.iload 6, 2) := dk_21 6 (dk_at dksX5_why_3 18 rfl rfl)
theorem dX5_why_91 : decode cX5_why 91 = .ok (.ifCond .ne 26, 3) := dk_154 0 26 (dk_at dksX5_why_3 20 rfl rfl)
theorem dX5_why_94 : decode cX5_why 94 = .ok (.iload 7, 2) := dk_21 7 (dk_at dksX5_why_4 0 rfl rfl)
theorem dX5_why_96 : decode cX5_why 96 = .ok (.iconst (-1), 1) := dk_2 (dk_at dksX5_why_4 2 rfl rfl)
theorem dX5_why_97 : decode cX5_why 97 = .ok (.if_icmp .ne 20, 3) := dk_160 0 20 (dk_at dksX5_why_4 3 rfl rfl)
theorem dX5_why_100 : decode cX5_why 100 = .ok (.bipush 6, 2) := dk_16 6 (dk_at dksX5_why_4 6 rfl rfl)
theorem dX5_why_102 : decode cX5_why 102 = .ok (.istore 6, 2) := dk_54 6 (dk_at dksX5_why_4 8 rfl rfl)
theorem dX5_why_104 : decode cX5_why 104 = .ok (.aload_n 0, 1) := dk_42 (dk_at dksX5_why_4 10 rfl rfl)
theorem dX5_why_105 : decode cX5_why 105 = .ok (.iload 4, 2) := dk_21 4 (dk_at dksX5_why_4 11 rfl rfl)
theorem dX5_why_107 : decode cX5_why 107 = .ok (.iload 5, 2) := dk_21 5 (dk_at dksX5_why_4 13 rfl rfl)
theorem dX5_why_109 : decode cX5_why 109 = .ok (.aload_n 0, 1) := dk_42 (dk_at dksX5_why_4 15 rfl rfl)
theorem dX5_why_110 : decode cX5_why 110 = .ok (.getfield 26, 3) := dk_180 0 26 (dk_at dksX5_why_4 16 rfl rfl)
theorem dX5_why_113 : decode cX5_why 113 = .ok (.invokevirtual 216, 3) := dk_182 0 216 (dk_at dksX5_why_4 19 rfl rfl)
theorem dX5_why_116 : decode cX5_why 116 = .ok (.pop, 1) := dk_87 (dk_at dksX5_why_4 22 rfl rfl)
theorem dX5_why_117 : decode cX5_why 117 = .ok (.iload_n 3, 1) := dk_29 (dk_at dksX5_why_4 23 rfl rfl)
theorem dX5_why_118 : decode cX5_why 118 = .ok (.ifCond .ne 6, 3) := dk_154 0 6 (dk_at dksX5_why_5 0 rfl rfl)
theorem dX5_why_121 : decode cX5_why 121 = .ok (.iload 6, 2) := dk_21 6 (dk_at dksX5_why_5 3 rfl rfl)
theorem dX5_why_123 : decode cX5_why 123 = .ok (.ireturn, 1) := dk_172 (dk_at dksX5_why_5 5 rfl rfl)
theorem dX5_why_124 : decode cX5_why 124 = .ok (.iload_n 3, 1) := dk_29 (dk_at dksX5_why_5 6 rfl rfl)
theorem dX5_why_125 : decode cX5_why 125 = .ok (.iconst 2, 1) := dk_5 (dk_at dksX5_why_5 7 rfl rfl)
theorem dX5_why_126 : decode cX5_why 126 = .ok (.if_icmp .ne 19, 3) := dk_160 0 19 (dk_at dksX5_why_5 8 rfl rfl)
theorem dX5_why_129 : decode cX5_why 129 = .ok (.iload 6, 2) := dk_21 6 (dk_at dksX5_why_5 11 rfl rfl)
theorem dX5_why_131 : decode cX5_why 131 = .ok (.bipush 6, 2) := dk_16 6 (dk_at dksX5_why_5 13 rfl rfl)
theorem dX5_why_133 : decode cX5_why 133 = .ok (.if_icmp .ne 10, 3) := dk_160 0 10 (dk_at dksX5_why_5 15 rfl rfl)
theorem dX5_why_136 : decode cX5_why 136 = .ok (.aload_n 0, 1) := dk_42 (dk_at dksX5_why_5 18 rfl rfl)
theorem dX5_why_137 : decode cX5_why 137 = .ok (.getfield 195, 3) := dk_180 0 195 (dk_at dksX5_why_5 19 rfl rfl)
theorem dX5_why_140 : decode cX5_why 140 = .ok (.goto 4, 3) := dk_167 0 4 (dk_at dksX5_why_6 0 rfl rfl)
theorem dX5_why_143 : decode cX5_why 143 = .ok (.iconst (-1), 1) := dk_2 (dk_at dksX5_why_6 3 rfl rfl)
theorem dX5_why_144 : decode cX5_why 144 = .ok (.ireturn, 1) := dk_172 (dk_at dksX5_why_6 4 rfl rfl)
theorem dX5_why_145 : decode cX5_why 145 = .ok (.iload 6, 2) := dk_21 6 (dk_at dksX5_why_6 5 rfl rfl)
theorem dX5_why_147 : decode cX5_why 147 = .ok (.tableswitch 113 0 6 #[41, 44, 50, 113, 56, 113, 94], 41) := by decide +kernel
theorem dX5_why_188 : decode cX5_why 188 = .ok (.iload 7, 2) := dk_21 7 (dk_at dksX5_why_8 0 rfl rfl)
theorem dX5_why_190 : decode cX5_why 190 = .ok (.ireturn, 1) := dk_172 (dk_at dksX5_why_8 2 rfl rfl)
theorem dX5_why_191 : decode cX5_why 191 = .ok (.aload_n 0, 1) := dk_42 (dk_at dksX5_why_8 3 rfl rfl)
theorem dX5_why_192 : decode cX5_why 192 = .ok (.iload_n 1, 1) := dk_27 (dk_at dksX5_why_8 4 rfl rfl)
theorem dX5_why_193 : decode cX5_why 193 = .ok (.invokevirtual 444, 3) := dk_182 1 188 (dk_at dksX5_why_8 5 rfl rfl)
theorem dX5_why_196 : decode cX5_why 196 = .ok (.ireturn, 1) := dk_172 (dk_at dksX5_why_8 8 rfl rfl)
theorem dX5_why_197 : decode cX5_why 197 = .ok (.aload_n 0, 1) := dk_42 (dk_at dksX5_why_8 9 rfl rfl)
theorem dX5_why_198 : decode cX5_why 198 = .ok (.iload_n 2, 1) := dk_28 (dk_at dksX5_why_8 10 rfl rfl)
theorem dX5_why_199 : decode cX5_why 199 = .ok (.invokevirtual 444, 3) := dk_182 1 188 (dk_at dksX5_why_8 11 rfl rfl)
theorem dX5_why_202 : decode cX5_why 202 = .ok (.ireturn, 1) := dk_172 (dk_at dksX5_why_8 14 rfl rfl)
theorem dX5_why_203 : decode cX5_why 203 = .ok (.aload_n 0, 1) := dk_42 (dk_at dksX5_why_8 15 rfl rfl)
theorem dX5_why_204 : decode cX5_why 204 = .ok (.iload 4, 2) := dk_21 4 (dk_at dksX5_why_8 16 rfl rfl)
theorem dX5_why_206 : decode cX5_why 206 = .ok (.iconst 0, 1) := dk_3 (dk_at dksX5_why_8 18 rfl rfl)
theorem dX5_why_207 : decode cX5_why 207 = .ok (.invokevirtual 256, 3) := dk_182 1 0 (dk_at dksX5_why_8 19 rfl rfl)
theorem dX5_why_210 : decode cX5_why 210 = .ok (.aload_n 0, 1) := dk_42 (dk_at dksX5_why_8 22 rfl rfl)
theorem dX5_why_211 : decode cX5_why 211 = .ok (.invokevirtual 426, 3) := dk_182 1 170 (dk_at dksX5_why_9 0 rfl rfl)
theorem dX5_why_214 : decode cX5_why 214 = .ok (.if_icmp .ne 7, 3) := dk_160 0 7 (dk_at dksX5_why_9 3 rfl rfl)
theorem dX5_why_217 : decode cX5_why 217 = .ok (.iconst 1, 1) := dk_4 (dk_at dksX5_why_9 6 rfl rfl)
theorem dX5_why_218 : decode cX5_why 218 = .ok (.goto 22, 3) := dk_167 0 22 (dk_at dksX5_why_9 7 rfl rfl)
theorem dX5_why_221 : decode cX5_why 221 = .ok (.aload_n 0, 1) := dk_42 (dk_at dksX5_why_9 10 rfl rfl)
theorem dX5_why_222 : decode cX5_why 222 = .ok (.iload 5, 2) := dk_21 5 (dk_at dksX5_why_9 11 rfl rfl)
theorem dX5_why_224 : decode cX5_why 224 = .ok (.iconst 1, 1) := dk_4 (dk_at dksX5_why_9 13 rfl rfl)
theorem dX5_why_225 : decode cX5_why 225 = .ok (.invokevirtual 256, 3) := dk_182 1 0 (dk_at dksX5_why_9 14 rfl rfl)
theorem dX5_why_228 : decode cX5_why 228 = .ok (.aload_n 0, 1) := dk_42 (dk_at dksX5_why_9 17 rfl rfl)
theorem dX5_why_229 : decode cX5_why 229 = .ok (.invokevirtual 426, 3) := dk_182 1 170 (dk_at dksX5_why_9 18 rfl rfl)
theorem dX5_why_232 : decode cX5_why 232 = .ok (.if_icmp .ne 7, 3) := dk_160 0 7 (dk_at dksX5_why_9 21 rfl rfl)
theorem dX5_why_235 : decode cX5_why 235 = .ok (.iconst 2, 1) := dk_5 (dk_at dksX5_why_10 0 rfl rfl)
theorem dX5_why_236 : decode cX5_why 236 = .ok (.goto 4, 3) := dk_167 0 4 (dk_at dksX5_why_10 1 rfl rfl)
theorem dX5_why_239 : decode cX5_why 239 = .ok (.iconst 0, 1) := dk_3 (dk_at dksX5_why_10 4 rfl rfl)
theorem dX5_why_240 : decode cX5_why 240 = .ok (.ireturn, 1) := dk_172 (dk_at dksX5_why_10 5 rfl rfl)
theorem dX5_why_241 : decode cX5_why 241 = .ok (.aload_n 0, 1) := dk_42 (dk_at dksX5_why_10 6 rfl rfl)
theorem dX5_why_242 : decode cX5_why 242 = .ok (.getfield 208, 3) := dk_180 0 208 (dk_at dksX5_why_10 7 rfl rfl)
theorem dX5_why_245 : decode cX5_why 245 = .ok (.ifCond .eq 10, 3) := dk_153 0 10 (dk_at dksX5_why_10 10 rfl rfl)
theorem dX5_why_248 : decode cX5_why 248 = .ok (.aload_n 0, 1) := dk_42 (dk_at dksX5_why_10 13 rfl rfl)
theorem dX5_why_249 : decode cX5_why 249 = .ok (.getfield 202, 3) := dk_180 0 202 (dk_at dksX5_why_10 14 rfl rfl)
theorem dX5_why_252 : decode cX5_why 252 = .ok (.goto 7, 3) := dk_167 0 7 (dk_at dksX5_why_10 17 rfl rfl)
theorem dX5_why_255 : decode cX5_why 255 = .ok (.aload_n 0, 1) := dk_42 (dk_at dksX5_why_10 20 rfl rfl)
theorem dX5_why_256 : decode cX5_why 256 = .ok (.getfield 205, 3) := dk_180 0 205 (dk_at dksX5_why_10 21 rfl rfl)
theorem dX5_why_259 : decode cX5_why 259 = .ok (.ireturn, 1) := dk_172 (dk_at dksX5_why_11 0 rfl rfl)
theorem dX5_why_260 : decode cX5_why 260 = .ok (.iconst (-1), 1) := dk_2 (dk_at dksX5_why_11 1 rfl rfl)
theorem dX5_why_261 : decode cX5_why 261 = .ok (.ireturn, 1) := dk_172 (dk_at dksX5_why_11 2 rfl rfl)
abbrev cX5_callNumberOf : ByteArray := prog_12_method_106_code
def yX5_callNumberOf : MethodName := ⟨RX5, "callNumberOf", "(I)I"⟩
def dkwX5_callNumberOf_0 : List UInt8 := [42, 27, 182, 0, 168, 61, 28, 2, 160, 0, 7, 2, 167, 0, 9, 42, 180, 0, 35, 28, 46, 172]
abbrev dktX5_callNumberOf_0 : List UInt8 := dkwX5_callNumberOf_0 ++ []
theorem dksX5_callNumberOf_0 : cX5_callNumberOf.data.toList.drop 0 = dktX5_callNumberOf_0 := by decide +kernel
theorem dX5_callNumberOf_0 : decode cX5_callNumberOf 0 = .ok (.aload_n 0, 1) := dk_42 (dk_at dksX5_callNumberOf_0 0 rfl rfl)
theorem dX5_callNumberOf_1 : decode cX5_callNumberOf 1 = .ok (.iload_n 1, 1) := dk_27 (dk_at dksX5_callNumberOf_0 1 rfl rfl)
theorem dX5_callNumberOf_2 : decode cX5_callNumberOf 2 = .ok (.invokevirtual 168, 3) := dk_182 0 168 (dk_at dksX5_callNumberOf_0 2 rfl rfl)
theorem dX5_callNumberOf_5 : decode cX5_callNumberOf 5 = .ok (.istore_n 2, 1) := dk_61 (dk_at dksX5_callNumberOf_0 5 rfl rfl)
theorem dX5_callNumberOf_6 : decode cX5_callNumberOf 6 = .ok (.iload_n 2, 1) := dk_28 (dk_at dksX5_callNumberOf_0 6 rfl rfl)
theorem dX5_callNumberOf_7 : decode cX5_callNumberOf 7 = .ok (.iconst (-1), 1) := dk_2 (dk_at dksX5_callNumberOf_0 7 rfl rfl)
theorem dX5_callNumberOf_8 : decode cX5_callNumberOf 8 = .ok (.if_icmp .ne 7, 3) := dk_160 0 7 (dk_at dksX5_callNumberOf_0 8 rfl rfl)
theorem dX5_callNumberOf_11 : decode cX5_callNumberOf 11 = .ok (.iconst (-1), 1) := dk_2 (dk_at dksX5_callNumberOf_0 11 rfl rfl)
theorem dX5_callNumberOf_12 : decode cX5_callNumberOf 12 = .ok (.goto 9, 3) := dk_167 0 9 (dk_at dksX5_callNumberOf_0 12 rfl rfl)
theorem dX5_callNumberOf_15 : decode cX5_callNumberOf 15 = .ok (.aload_n 0, 1) := dk_42 (dk_at dksX5_callNumberOf_0 15 rfl rfl)
theorem dX5_callNumberOf_16 : decode cX5_callNumberOf 16 = .ok (.getfield 35, 3) := dk_180 0 35 (dk_at dksX5_callNumberOf_0 16 rfl rfl)
theorem dX5_callNumberOf_19 : decode cX5_callNumberOf 19 = .ok (.iload_n 2, 1) := dk_28 (dk_at dksX5_callNumberOf_0 19 rfl rfl)
theorem dX5_callNumberOf_20 : decode cX5_callNumberOf 20 = .ok (.iaload, 1) := dk_46 (dk_at dksX5_callNumberOf_0 20 rfl rfl)
theorem dX5_callNumberOf_21 : decode cX5_callNumberOf 21 = .ok (.ireturn, 1) := dk_172 (dk_at dksX5_callNumberOf_0 21 rfl rfl)
abbrev cX5_blocked : ByteArray := prog_12_method_109_code
def yX5_blocked : MethodName := ⟨RX5, "blocked", "()I"⟩
def dkwX5_blocked_0 : List UInt8 := [42, 3, 181, 0, 106, 42, 182, 1, 191, 172]
abbrev dktX5_blocked_0 : List UInt8 := dkwX5_blocked_0 ++ []
theorem dksX5_blocked_0 : cX5_blocked.data.toList.drop 0 = dktX5_blocked_0 := by decide +kernel
theorem dX5_blocked_0 : decode cX5_blocked 0 = .ok (.aload_n 0, 1) := dk_42 (dk_at dksX5_blocked_0 0 rfl rfl)
theorem dX5_blocked_1 : decode cX5_blocked 1 = .ok (.iconst 0, 1) := dk_3 (dk_at dksX5_blocked_0 1 rfl rfl)
theorem dX5_blocked_2 : decode cX5_blocked 2 = .ok (.putfield 106, 3) := dk_181 0 106 (dk_at dksX5_blocked_0 2 rfl rfl)
theorem dX5_blocked_5 : decode cX5_blocked 5 = .ok (.aload_n 0, 1) := dk_42 (dk_at dksX5_blocked_0 5 rfl rfl)
theorem dX5_blocked_6 : decode cX5_blocked 6 = .ok (.invokevirtual 447, 3) := dk_182 1 191 (dk_at dksX5_blocked_0 6 rfl rfl)
theorem dX5_blocked_9 : decode cX5_blocked 9 = .ok (.ireturn, 1) := dk_172 (dk_at dksX5_blocked_0 9 rfl rfl)
abbrev cX5_blockedPairs : ByteArray := prog_12_method_108_code
def yX5_blockedPairs : MethodName := ⟨RX5, "blockedPairs", "()I"⟩
def dkwX5_blockedPairs_3 : List UInt8 := [60, 132, 3, 1, 167, 255, 194, 132, 2, 1, 167, 255, 178, 27, 172]
abbrev dktX5_blockedPairs_3 : List UInt8 := dkwX5_blockedPairs_3 ++ []
def dkwX5_blockedPairs_2 : List UInt8 := [182, 1, 173, 104, 54, 5, 21, 5, 158, 0, 17, 42, 28, 29, 182, 0, 227, 153, 0, 8, 27, 21, 5, 96]
abbrev dktX5_blockedPairs_2 : List UInt8 := dkwX5_blockedPairs_2 ++ dktX5_blockedPairs_3
def dkwX5_blockedPairs_1 : List UInt8 := [182, 1, 173, 54, 4, 28, 29, 160, 0, 13, 21, 4, 21, 4, 4, 100, 104, 167, 0, 11, 21, 4, 42, 29]
abbrev dktX5_blockedPairs_1 : List UInt8 := dkwX5_blockedPairs_1 ++ dktX5_blockedPairs_2
def dkwX5_blockedPairs_0 : List UInt8 := [3, 60, 3, 61, 28, 42, 180, 0, 20, 162, 0, 76, 3, 62, 29, 42, 180, 0, 20, 162, 0, 60, 42, 28]
abbrev dktX5_blockedPairs_0 : List UInt8 := dkwX5_blockedPairs_0 ++ dktX5_blockedPairs_1
theorem dksX5_blockedPairs_0 : cX5_blockedPairs.data.toList.drop 0 = dktX5_blockedPairs_0 := by decide +kernel
theorem dksX5_blockedPairs_1 : cX5_blockedPairs.data.toList.drop 24 = dktX5_blockedPairs_1 := dk_seg dksX5_blockedPairs_0 24 rfl rfl
theorem dksX5_blockedPairs_2 : cX5_blockedPairs.data.toList.drop 48 = dktX5_blockedPairs_2 := dk_seg dksX5_blockedPairs_1 24 rfl rfl
theorem dksX5_blockedPairs_3 : cX5_blockedPairs.data.toList.drop 72 = dktX5_blockedPairs_3 := dk_seg dksX5_blockedPairs_2 24 rfl rfl
theorem dX5_blockedPairs_0 : decode cX5_blockedPairs 0 = .ok (.iconst 0, 1) := dk_3 (dk_at dksX5_blockedPairs_0 0 rfl rfl)
theorem dX5_blockedPairs_1 : decode cX5_blockedPairs 1 = .ok (.istore_n 1, 1) := dk_60 (dk_at dksX5_blockedPairs_0 1 rfl rfl)
theorem dX5_blockedPairs_2 : decode cX5_blockedPairs 2 = .ok (.iconst 0, 1) := dk_3 (dk_at dksX5_blockedPairs_0 2 rfl rfl)
theorem dX5_blockedPairs_3 : decode cX5_blockedPairs 3 = .ok (.istore_n 2, 1) := dk_61 (dk_at dksX5_blockedPairs_0 3 rfl rfl)
theorem dX5_blockedPairs_4 : decode cX5_blockedPairs 4 = .ok (.iload_n 2, 1) := dk_28 (dk_at dksX5_blockedPairs_0 4 rfl rfl)
theorem dX5_blockedPairs_5 : decode cX5_blockedPairs 5 = .ok (.aload_n 0, 1) := dk_42 (dk_at dksX5_blockedPairs_0 5 rfl rfl)
theorem dX5_blockedPairs_6 : decode cX5_blockedPairs 6 = .ok (.getfield 20, 3) := dk_180 0 20 (dk_at dksX5_blockedPairs_0 6 rfl rfl)
theorem dX5_blockedPairs_9 : decode cX5_blockedPairs 9 = .ok (.if_icmp .ge 76, 3) := dk_162 0 76 (dk_at dksX5_blockedPairs_0 9 rfl rfl)
theorem dX5_blockedPairs_12 : decode cX5_blockedPairs 12 = .ok (.iconst 0, 1) := dk_3 (dk_at dksX5_blockedPairs_0 12 rfl rfl)
theorem dX5_blockedPairs_13 : decode cX5_blockedPairs 13 = .ok (.istore_n 3, 1) := dk_62 (dk_at dksX5_blockedPairs_0 13 rfl rfl)
theorem dX5_blockedPairs_14 : decode cX5_blockedPairs 14 = .ok (.iload_n 3, 1) := dk_29 (dk_at dksX5_blockedPairs_0 14 rfl rfl)
theorem dX5_blockedPairs_15 : decode cX5_blockedPairs 15 = .ok (.aload_n 0, 1) := dk_42 (dk_at dksX5_blockedPairs_0 15 rfl rfl)
theorem dX5_blockedPairs_16 : decode cX5_blockedPairs 16 = .ok (.getfield 20, 3) := dk_180 0 20 (dk_at dksX5_blockedPairs_0 16 rfl rfl)
theorem dX5_blockedPairs_19 : decode cX5_blockedPairs 19 = .ok (.if_icmp .ge 60, 3) := dk_162 0 60 (dk_at dksX5_blockedPairs_0 19 rfl rfl)
theorem dX5_blockedPairs_22 : decode cX5_blockedPairs 22 = .ok (.aload_n 0, 1) := dk_42 (dk_at dksX5_blockedPairs_0 22 rfl rfl)
theorem dX5_blockedPairs_23 : decode cX5_blockedPairs 23 = .ok (.iload_n 2, 1) := dk_28 (dk_at dksX5_blockedPairs_0 23 rfl rfl)
theorem dX5_blockedPairs_24 : decode cX5_blockedPairs 24 = .ok (.invokevirtual 429, 3) := dk_182 1 173 (dk_at dksX5_blockedPairs_1 0 rfl rfl)
theorem dX5_blockedPairs_27 : decode cX5_blockedPairs 27 = .ok (.istore 4, 2) := dk_54 4 (dk_at dksX5_blockedPairs_1 3 rfl rfl)
theorem dX5_blockedPairs_29 : decode cX5_blockedPairs 29 = .ok (.iload_n 2, 1) := dk_28 (dk_at dksX5_blockedPairs_1 5 rfl rfl)
theorem dX5_blockedPairs_30 : decode cX5_blockedPairs 30 = .ok (.iload_n 3, 1) := dk_29 (dk_at dksX5_blockedPairs_1 6 rfl rfl)
theorem dX5_blockedPairs_31 : decode cX5_blockedPairs 31 = .ok (.if_icmp .ne 13, 3) := dk_160 0 13 (dk_at dksX5_blockedPairs_1 7 rfl rfl)
theorem dX5_blockedPairs_34 : decode cX5_blockedPairs 34 = .ok (.iload 4, 2) := dk_21 4 (dk_at dksX5_blockedPairs_1 10 rfl rfl)
theorem dX5_blockedPairs_36 : decode cX5_blockedPairs 36 = .ok (.iload 4, 2) := dk_21 4 (dk_at dksX5_blockedPairs_1 12 rfl rfl)
theorem dX5_blockedPairs_38 : decode cX5_blockedPairs 38 = .ok (.iconst 1, 1) := dk_4 (dk_at dksX5_blockedPairs_1 14 rfl rfl)
theorem dX5_blockedPairs_39 : decode cX5_blockedPairs 39 = .ok (.isub, 1) := dk_100 (dk_at dksX5_blockedPairs_1 15 rfl rfl)
theorem dX5_blockedPairs_40 : decode cX5_blockedPairs 40 = .ok (.imul, 1) := dk_104 (dk_at dksX5_blockedPairs_1 16 rfl rfl)
theorem dX5_blockedPairs_41 : decode cX5_blockedPairs 41 = .ok (.goto 11, 3) := dk_167 0 11 (dk_at dksX5_blockedPairs_1 17 rfl rfl)
theorem dX5_blockedPairs_44 : decode cX5_blockedPairs 44 = .ok (.iload 4, 2) := dk_21 4 (dk_at dksX5_blockedPairs_1 20 rfl rfl)
theorem dX5_blockedPairs_46 : decode cX5_blockedPairs 46 = .ok (.aload_n 0, 1) := dk_42 (dk_at dksX5_blockedPairs_1 22 rfl rfl)
theorem dX5_blockedPairs_47 : decode cX5_blockedPairs 47 = .ok (.iload_n 3, 1) := dk_29 (dk_at dksX5_blockedPairs_1 23 rfl rfl)
theorem dX5_blockedPairs_48 : decode cX5_blockedPairs 48 = .ok (.invokevirtual 429, 3) := dk_182 1 173 (dk_at dksX5_blockedPairs_2 0 rfl rfl)
theorem dX5_blockedPairs_51 : decode cX5_blockedPairs 51 = .ok (.imul, 1) := dk_104 (dk_at dksX5_blockedPairs_2 3 rfl rfl)
theorem dX5_blockedPairs_52 : decode cX5_blockedPairs 52 = .ok (.istore 5, 2) := dk_54 5 (dk_at dksX5_blockedPairs_2 4 rfl rfl)
theorem dX5_blockedPairs_54 : decode cX5_blockedPairs 54 = .ok (.iload 5, 2) := dk_21 5 (dk_at dksX5_blockedPairs_2 6 rfl rfl)
theorem dX5_blockedPairs_56 : decode cX5_blockedPairs 56 = .ok (.ifCond .le 17, 3) := dk_158 0 17 (dk_at dksX5_blockedPairs_2 8 rfl rfl)
theorem dX5_blockedPairs_59 : decode cX5_blockedPairs 59 = .ok (.aload_n 0, 1) := dk_42 (dk_at dksX5_blockedPairs_2 11 rfl rfl)
theorem dX5_blockedPairs_60 : decode cX5_blockedPairs 60 = .ok (.iload_n 2, 1) := dk_28 (dk_at dksX5_blockedPairs_2 12 rfl rfl)
theorem dX5_blockedPairs_61 : decode cX5_blockedPairs 61 = .ok (.iload_n 3, 1) := dk_29 (dk_at dksX5_blockedPairs_2 13 rfl rfl)
theorem dX5_blockedPairs_62 : decode cX5_blockedPairs 62 = .ok (.invokevirtual 227, 3) := dk_182 0 227 (dk_at dksX5_blockedPairs_2 14 rfl rfl)
theorem dX5_blockedPairs_65 : decode cX5_blockedPairs 65 = .ok (.ifCond .eq 8, 3) := dk_153 0 8 (dk_at dksX5_blockedPairs_2 17 rfl rfl)
theorem dX5_blockedPairs_68 : decode cX5_blockedPairs 68 = .ok (.iload_n 1, 1) := dk_27 (dk_at dksX5_blockedPairs_2 20 rfl rfl)
theorem dX5_blockedPairs_69 : decode cX5_blockedPairs 69 = .ok (.iload 5, 2) := dk_21 5 (dk_at dksX5_blockedPairs_2 21 rfl rfl)
theorem dX5_blockedPairs_71 : decode cX5_blockedPairs 71 = .ok (.iadd, 1) := dk_96 (dk_at dksX5_blockedPairs_2 23 rfl rfl)
theorem dX5_blockedPairs_72 : decode cX5_blockedPairs 72 = .ok (.istore_n 1, 1) := dk_60 (dk_at dksX5_blockedPairs_3 0 rfl rfl)
theorem dX5_blockedPairs_73 : decode cX5_blockedPairs 73 = .ok (.iinc 3 1, 3) := dk_132 3 1 (dk_at dksX5_blockedPairs_3 1 rfl rfl)
theorem dX5_blockedPairs_76 : decode cX5_blockedPairs 76 = .ok (.goto (-62), 3) := dk_167 255 194 (dk_at dksX5_blockedPairs_3 4 rfl rfl)
theorem dX5_blockedPairs_79 : decode cX5_blockedPairs 79 = .ok (.iinc 2 1, 3) := dk_132 2 1 (dk_at dksX5_blockedPairs_3 7 rfl rfl)
theorem dX5_blockedPairs_82 : decode cX5_blockedPairs 82 = .ok (.goto (-78), 3) := dk_167 255 178 (dk_at dksX5_blockedPairs_3 10 rfl rfl)
theorem dX5_blockedPairs_85 : decode cX5_blockedPairs 85 = .ok (.iload_n 1, 1) := dk_27 (dk_at dksX5_blockedPairs_3 13 rfl rfl)
theorem dX5_blockedPairs_86 : decode cX5_blockedPairs 86 = .ok (.ireturn, 1) := dk_172 (dk_at dksX5_blockedPairs_3 14 rfl rfl)
abbrev cX5_needed : ByteArray := prog_12_method_110_code
def yX5_needed : MethodName := ⟨RX5, "needed", "()I"⟩
def dkwX5_needed_0 : List UInt8 := [42, 3, 181, 0, 106, 42, 182, 1, 4, 172]
abbrev dktX5_needed_0 : List UInt8 := dkwX5_needed_0 ++ []
theorem dksX5_needed_0 : cX5_needed.data.toList.drop 0 = dktX5_needed_0 := by decide +kernel
theorem dX5_needed_0 : decode cX5_needed 0 = .ok (.aload_n 0, 1) := dk_42 (dk_at dksX5_needed_0 0 rfl rfl)
theorem dX5_needed_1 : decode cX5_needed 1 = .ok (.iconst 0, 1) := dk_3 (dk_at dksX5_needed_0 1 rfl rfl)
theorem dX5_needed_2 : decode cX5_needed 2 = .ok (.putfield 106, 3) := dk_181 0 106 (dk_at dksX5_needed_0 2 rfl rfl)
theorem dX5_needed_5 : decode cX5_needed 5 = .ok (.aload_n 0, 1) := dk_42 (dk_at dksX5_needed_0 5 rfl rfl)
theorem dX5_needed_6 : decode cX5_needed 6 = .ok (.invokevirtual 260, 3) := dk_182 1 4 (dk_at dksX5_needed_0 6 rfl rfl)
theorem dX5_needed_9 : decode cX5_needed 9 = .ok (.ireturn, 1) := dk_172 (dk_at dksX5_needed_0 9 rfl rfl)
abbrev cX5_isFree : ByteArray := prog_12_method_111_code
def yX5_isFree : MethodName := ⟨RX5, "isFree", "(Z)Z"⟩
def dkwX5_isFree_1 : List UInt8 := [180, 0, 23, 104, 4, 100, 161, 0, 7, 4, 167, 0, 4, 3, 172]
abbrev dktX5_isFree_1 : List UInt8 := dkwX5_isFree_1 ++ []
def dkwX5_isFree_0 : List UInt8 := [42, 3, 181, 0, 106, 42, 182, 1, 170, 27, 153, 0, 10, 42, 180, 0, 23, 167, 0, 11, 5, 42]
abbrev dktX5_isFree_0 : List UInt8 := dkwX5_isFree_0 ++ dktX5_isFree_1
theorem dksX5_isFree_0 : cX5_isFree.data.toList.drop 0 = dktX5_isFree_0 := by decide +kernel
theorem dksX5_isFree_1 : cX5_isFree.data.toList.drop 22 = dktX5_isFree_1 := dk_seg dksX5_isFree_0 22 rfl rfl
theorem dX5_isFree_0 : decode cX5_isFree 0 = .ok (.aload_n 0, 1) := dk_42 (dk_at dksX5_isFree_0 0 rfl rfl)
theorem dX5_isFree_1 : decode cX5_isFree 1 = .ok (.iconst 0, 1) := dk_3 (dk_at dksX5_isFree_0 1 rfl rfl)
theorem dX5_isFree_2 : decode cX5_isFree 2 = .ok (.putfield 106, 3) := dk_181 0 106 (dk_at dksX5_isFree_0 2 rfl rfl)
theorem dX5_isFree_5 : decode cX5_isFree 5 = .ok (.aload_n 0, 1) := dk_42 (dk_at dksX5_isFree_0 5 rfl rfl)
theorem dX5_isFree_6 : decode cX5_isFree 6 = .ok (.invokevirtual 426, 3) := dk_182 1 170 (dk_at dksX5_isFree_0 6 rfl rfl)
theorem dX5_isFree_9 : decode cX5_isFree 9 = .ok (.iload_n 1, 1) := dk_27 (dk_at dksX5_isFree_0 9 rfl rfl)
theorem dX5_isFree_10 : decode cX5_isFree 10 = .ok (.ifCond .eq 10, 3) := dk_153 0 10 (dk_at dksX5_isFree_0 10 rfl rfl)
theorem dX5_isFree_13 : decode cX5_isFree 13 = .ok (.aload_n 0, 1) := dk_42 (dk_at dksX5_isFree_0 13 rfl rfl)
theorem dX5_isFree_14 : decode cX5_isFree 14 = .ok (.getfield 23, 3) := dk_180 0 23 (dk_at dksX5_isFree_0 14 rfl rfl)
theorem dX5_isFree_17 : decode cX5_isFree 17 = .ok (.goto 11, 3) := dk_167 0 11 (dk_at dksX5_isFree_0 17 rfl rfl)
theorem dX5_isFree_20 : decode cX5_isFree 20 = .ok (.iconst 2, 1) := dk_5 (dk_at dksX5_isFree_0 20 rfl rfl)
theorem dX5_isFree_21 : decode cX5_isFree 21 = .ok (.aload_n 0, 1) := dk_42 (dk_at dksX5_isFree_0 21 rfl rfl)
theorem dX5_isFree_22 : decode cX5_isFree 22 = .ok (.getfield 23, 3) := dk_180 0 23 (dk_at dksX5_isFree_1 0 rfl rfl)
theorem dX5_isFree_25 : decode cX5_isFree 25 = .ok (.imul, 1) := dk_104 (dk_at dksX5_isFree_1 3 rfl rfl)
theorem dX5_isFree_26 : decode cX5_isFree 26 = .ok (.iconst 1, 1) := dk_4 (dk_at dksX5_isFree_1 4 rfl rfl)
theorem dX5_isFree_27 : decode cX5_isFree 27 = .ok (.isub, 1) := dk_100 (dk_at dksX5_isFree_1 5 rfl rfl)
theorem dX5_isFree_28 : decode cX5_isFree 28 = .ok (.if_icmp .lt 7, 3) := dk_161 0 7 (dk_at dksX5_isFree_1 6 rfl rfl)
theorem dX5_isFree_31 : decode cX5_isFree 31 = .ok (.iconst 1, 1) := dk_4 (dk_at dksX5_isFree_1 9 rfl rfl)
theorem dX5_isFree_32 : decode cX5_isFree 32 = .ok (.goto 4, 3) := dk_167 0 4 (dk_at dksX5_isFree_1 10 rfl rfl)
theorem dX5_isFree_35 : decode cX5_isFree 35 = .ok (.iconst 0, 1) := dk_3 (dk_at dksX5_isFree_1 13 rfl rfl)
theorem dX5_isFree_36 : decode cX5_isFree 36 = .ok (.ireturn, 1) := dk_172 (dk_at dksX5_isFree_1 14 rfl rfl)
abbrev cX5_ifCut : ByteArray := prog_12_method_113_code
def yX5_ifCut : MethodName := ⟨RX5, "ifCut", "(II)I"⟩
def dkwX5_ifCut_4 : List UInt8 := [16, 10, 46, 29, 100, 167, 0, 7, 42, 182, 1, 191, 54, 5, 42, 16, 11, 182, 1, 17, 21, 5, 172]
abbrev dktX5_ifCut_4 : List UInt8 := dkwX5_ifCut_4 ++ []
def dkwX5_ifCut_3 : List UInt8 := [182, 1, 145, 54, 4, 28, 154, 0, 8, 21, 4, 167, 0, 24, 28, 4, 160, 0, 15, 42, 180, 0, 81]
abbrev dktX5_ifCut_3 : List UInt8 := dkwX5_ifCut_3 ++ dktX5_ifCut_4
def dkwX5_ifCut_2 : List UInt8 := [182, 1, 191, 167, 0, 4, 3, 172, 42, 16, 11, 182, 0, 158, 42, 180, 0, 81, 16, 10, 46, 62, 42, 27]
abbrev dktX5_ifCut_2 : List UInt8 := dkwX5_ifCut_2 ++ dktX5_ifCut_3
def dkwX5_ifCut_1 : List UInt8 := [5, 164, 0, 9, 42, 5, 182, 0, 116, 172, 42, 27, 182, 0, 164, 153, 0, 17, 28, 5, 160, 0, 10, 42]
abbrev dktX5_ifCut_1 : List UInt8 := dkwX5_ifCut_1 ++ dktX5_ifCut_2
def dkwX5_ifCut_0 : List UInt8 := [42, 3, 181, 0, 106, 42, 27, 182, 1, 167, 153, 0, 9, 42, 4, 182, 0, 116, 172, 28, 155, 0, 8, 28]
abbrev dktX5_ifCut_0 : List UInt8 := dkwX5_ifCut_0 ++ dktX5_ifCut_1
theorem dksX5_ifCut_0 : cX5_ifCut.data.toList.drop 0 = dktX5_ifCut_0 := by decide +kernel
theorem dksX5_ifCut_1 : cX5_ifCut.data.toList.drop 24 = dktX5_ifCut_1 := dk_seg dksX5_ifCut_0 24 rfl rfl
theorem dksX5_ifCut_2 : cX5_ifCut.data.toList.drop 48 = dktX5_ifCut_2 := dk_seg dksX5_ifCut_1 24 rfl rfl
theorem dksX5_ifCut_3 : cX5_ifCut.data.toList.drop 72 = dktX5_ifCut_3 := dk_seg dksX5_ifCut_2 24 rfl rfl
theorem dksX5_ifCut_4 : cX5_ifCut.data.toList.drop 95 = dktX5_ifCut_4 := dk_seg dksX5_ifCut_3 23 rfl rfl
theorem dX5_ifCut_0 : decode cX5_ifCut 0 = .ok (.aload_n 0, 1) := dk_42 (dk_at dksX5_ifCut_0 0 rfl rfl)
theorem dX5_ifCut_1 : decode cX5_ifCut 1 = .ok (.iconst 0, 1) := dk_3 (dk_at dksX5_ifCut_0 1 rfl rfl)
theorem dX5_ifCut_2 : decode cX5_ifCut 2 = .ok (.putfield 106, 3) := dk_181 0 106 (dk_at dksX5_ifCut_0 2 rfl rfl)
theorem dX5_ifCut_5 : decode cX5_ifCut 5 = .ok (.aload_n 0, 1) := dk_42 (dk_at dksX5_ifCut_0 5 rfl rfl)
theorem dX5_ifCut_6 : decode cX5_ifCut 6 = .ok (.iload_n 1, 1) := dk_27 (dk_at dksX5_ifCut_0 6 rfl rfl)
theorem dX5_ifCut_7 : decode cX5_ifCut 7 = .ok (.invokevirtual 423, 3) := dk_182 1 167 (dk_at dksX5_ifCut_0 7 rfl rfl)
theorem dX5_ifCut_10 : decode cX5_ifCut 10 = .ok (.ifCond .eq 9, 3) := dk_153 0 9 (dk_at dksX5_ifCut_0 10 rfl rfl)
theorem dX5_ifCut_13 : decode cX5_ifCut 13 = .ok (.aload_n 0, 1) := dk_42 (dk_at dksX5_ifCut_0 13 rfl rfl)
theorem dX5_ifCut_14 : decode cX5_ifCut 14 = .ok (.iconst 1, 1) := dk_4 (dk_at dksX5_ifCut_0 14 rfl rfl)
theorem dX5_ifCut_15 : decode cX5_ifCut 15 = .ok (.invokevirtual 116, 3) := dk_182 0 116 (dk_at dksX5_ifCut_0 15 rfl rfl)
theorem dX5_ifCut_18 : decode cX5_ifCut 18 = .ok (.ireturn, 1) := dk_172 (dk_at dksX5_ifCut_0 18 rfl rfl)
theorem dX5_ifCut_19 : decode cX5_ifCut 19 = .ok (.iload_n 2, 1) := dk_28 (dk_at dksX5_ifCut_0 19 rfl rfl)
theorem dX5_ifCut_20 : decode cX5_ifCut 20 = .ok (.ifCond .lt 8, 3) := dk_155 0 8 (dk_at dksX5_ifCut_0 20 rfl rfl)
theorem dX5_ifCut_23 : decode cX5_ifCut 23 = .ok (.iload_n 2, 1) := dk_28 (dk_at dksX5_ifCut_0 23 rfl rfl)
theorem dX5_ifCut_24 : decode cX5_ifCut 24 = .ok (.iconst 2, 1) := dk_5 (dk_at dksX5_ifCut_1 0 rfl rfl)
theorem dX5_ifCut_25 : decode cX5_ifCut 25 = .ok (.if_icmp .le 9, 3) := dk_164 0 9 (dk_at dksX5_ifCut_1 1 rfl rfl)
theorem dX5_ifCut_28 : decode cX5_ifCut 28 = .ok (.aload_n 0, 1) := dk_42 (dk_at dksX5_ifCut_1 4 rfl rfl)
theorem dX5_ifCut_29 : decode cX5_ifCut 29 = .ok (.iconst 2, 1) := dk_5 (dk_at dksX5_ifCut_1 5 rfl rfl)
theorem dX5_ifCut_30 : decode cX5_ifCut 30 = .ok (.invokevirtual 116, 3) := dk_182 0 116 (dk_at dksX5_ifCut_1 6 rfl rfl)
theorem dX5_ifCut_33 : decode cX5_ifCut 33 = .ok (.ireturn, 1) := dk_172 (dk_at dksX5_ifCut_1 9 rfl rfl)
theorem dX5_ifCut_34 : decode cX5_ifCut 34 = .ok (.aload_n 0, 1) := dk_42 (dk_at dksX5_ifCut_1 10 rfl rfl)
theorem dX5_ifCut_35 : decode cX5_ifCut 35 = .ok (.iload_n 1, 1) := dk_27 (dk_at dksX5_ifCut_1 11 rfl rfl)
theorem dX5_ifCut_36 : decode cX5_ifCut 36 = .ok (.invokevirtual 164, 3) := dk_182 0 164 (dk_at dksX5_ifCut_1 12 rfl rfl)
theorem dX5_ifCut_39 : decode cX5_ifCut 39 = .ok (.ifCond .eq 17, 3) := dk_153 0 17 (dk_at dksX5_ifCut_1 15 rfl rfl)
theorem dX5_ifCut_42 : decode cX5_ifCut 42 = .ok (.iload_n 2, 1) := dk_28 (dk_at dksX5_ifCut_1 18 rfl rfl)
theorem dX5_ifCut_43 : decode cX5_ifCut 43 = .ok (.iconst 2, 1) := dk_5 (dk_at dksX5_ifCut_1 19 rfl rfl)
theorem dX5_ifCut_44 : decode cX5_ifCut 44 = .ok (.if_icmp .ne 10, 3) := dk_160 0 10 (dk_at dksX5_ifCut_1 20 rfl rfl)
theorem dX5_ifCut_47 : decode cX5_ifCut 47 = .ok (.aload_n 0, 1) := dk_42 (dk_at dksX5_ifCut_1 23 rfl rfl)
theorem dX5_ifCut_48 : decode cX5_ifCut 48 = .ok (.invokevirtual 447, 3) := dk_182 1 191 (dk_at dksX5_ifCut_2 0 rfl rfl)
theorem dX5_ifCut_51 : decode cX5_ifCut 51 = .ok (.goto 4, 3) := dk_167 0 4 (dk_at dksX5_ifCut_2 3 rfl rfl)
theorem dX5_ifCut_54 : decode cX5_ifCut 54 = .ok (.iconst 0, 1) := dk_3 (dk_at dksX5_ifCut_2 6 rfl rfl)
theorem dX5_ifCut_55 : decode cX5_ifCut 55 = .ok (.ireturn, 1) := dk_172 (dk_at dksX5_ifCut_2 7 rfl rfl)
theorem dX5_ifCut_56 : decode cX5_ifCut 56 = .ok (.aload_n 0, 1) := dk_42 (dk_at dksX5_ifCut_2 8 rfl rfl)
theorem dX5_ifCut_57 : decode cX5_ifCut 57 = .ok (.bipush 11, 2) := dk_16 11 (dk_at dksX5_ifCut_2 9 rfl rfl)
theorem dX5_ifCut_59 : decode cX5_ifCut 59 = .ok (.invokevirtual 158, 3) := dk_182 0 158 (dk_at dksX5_ifCut_2 11 rfl rfl)
theorem dX5_ifCut_62 : decode cX5_ifCut 62 = .ok (.aload_n 0, 1) := dk_42 (dk_at dksX5_ifCut_2 14 rfl rfl)
theorem dX5_ifCut_63 : decode cX5_ifCut 63 = .ok (.getfield 81, 3) := dk_180 0 81 (dk_at dksX5_ifCut_2 15 rfl rfl)
theorem dX5_ifCut_66 : decode cX5_ifCut 66 = .ok (.bipush 10, 2) := dk_16 10 (dk_at dksX5_ifCut_2 18 rfl rfl)
theorem dX5_ifCut_68 : decode cX5_ifCut 68 = .ok (.iaload, 1) := dk_46 (dk_at dksX5_ifCut_2 20 rfl rfl)
theorem dX5_ifCut_69 : decode cX5_ifCut 69 = .ok (.istore_n 3, 1) := dk_62 (dk_at dksX5_ifCut_2 21 rfl rfl)
theorem dX5_ifCut_70 : decode cX5_ifCut 70 = .ok (.aload_n 0, 1) := dk_42 (dk_at dksX5_ifCut_2 22 rfl rfl)
theorem dX5_ifCut_71 : decode cX5_ifCut 71 = .ok (.iload_n 1, 1) := dk_27 (dk_at dksX5_ifCut_2 23 rfl rfl)
theorem dX5_ifCut_72 : decode cX5_ifCut 72 = .ok (.invokevirtual 401, 3) := dk_182 1 145 (dk_at dksX5_ifCut_3 0 rfl rfl)
theorem dX5_ifCut_75 : decode cX5_ifCut 75 = .ok (.istore 4, 2) := dk_54 4 (dk_at dksX5_ifCut_3 3 rfl rfl)
theorem dX5_ifCut_77 : decode cX5_ifCut 77 = .ok (.iload_n 2, 1) := dk_28 (dk_at dksX5_ifCut_3 5 rfl rfl)
theorem dX5_ifCut_78 : decode cX5_ifCut 78 = .ok (.ifCond .ne 8, 3) := dk_154 0 8 (dk_at dksX5_ifCut_3 6 rfl rfl)
theorem dX5_ifCut_81 : decode cX5_ifCut 81 = .ok (.iload 4, 2) := dk_21 4 (dk_at dksX5_ifCut_3 9 rfl rfl)
theorem dX5_ifCut_83 : decode cX5_ifCut 83 = .ok (.goto 24, 3) := dk_167 0 24 (dk_at dksX5_ifCut_3 11 rfl rfl)
theorem dX5_ifCut_86 : decode cX5_ifCut 86 = .ok (.iload_n 2, 1) := dk_28 (dk_at dksX5_ifCut_3 14 rfl rfl)
theorem dX5_ifCut_87 : decode cX5_ifCut 87 = .ok (.iconst 1, 1) := dk_4 (dk_at dksX5_ifCut_3 15 rfl rfl)
theorem dX5_ifCut_88 : decode cX5_ifCut 88 = .ok (.if_icmp .ne 15, 3) := dk_160 0 15 (dk_at dksX5_ifCut_3 16 rfl rfl)
theorem dX5_ifCut_91 : decode cX5_ifCut 91 = .ok (.aload_n 0, 1) := dk_42 (dk_at dksX5_ifCut_3 19 rfl rfl)
theorem dX5_ifCut_92 : decode cX5_ifCut 92 = .ok (.getfield 81, 3) := dk_180 0 81 (dk_at dksX5_ifCut_3 20 rfl rfl)
theorem dX5_ifCut_95 : decode cX5_ifCut 95 = .ok (.bipush 10, 2) := dk_16 10 (dk_at dksX5_ifCut_4 0 rfl rfl)
theorem dX5_ifCut_97 : decode cX5_ifCut 97 = .ok (.iaload, 1) := dk_46 (dk_at dksX5_ifCut_4 2 rfl rfl)
theorem dX5_ifCut_98 : decode cX5_ifCut 98 = .ok (.iload_n 3, 1) := dk_29 (dk_at dksX5_ifCut_4 3 rfl rfl)
theorem dX5_ifCut_99 : decode cX5_ifCut 99 = .ok (.isub, 1) := dk_100 (dk_at dksX5_ifCut_4 4 rfl rfl)
theorem dX5_ifCut_100 : decode cX5_ifCut 100 = .ok (.goto 7, 3) := dk_167 0 7 (dk_at dksX5_ifCut_4 5 rfl rfl)
theorem dX5_ifCut_103 : decode cX5_ifCut 103 = .ok (.aload_n 0, 1) := dk_42 (dk_at dksX5_ifCut_4 8 rfl rfl)
theorem dX5_ifCut_104 : decode cX5_ifCut 104 = .ok (.invokevirtual 447, 3) := dk_182 1 191 (dk_at dksX5_ifCut_4 9 rfl rfl)
theorem dX5_ifCut_107 : decode cX5_ifCut 107 = .ok (.istore 5, 2) := dk_54 5 (dk_at dksX5_ifCut_4 12 rfl rfl)
theorem dX5_ifCut_109 : decode cX5_ifCut 109 = .ok (.aload_n 0, 1) := dk_42 (dk_at dksX5_ifCut_4 14 rfl rfl)
theorem dX5_ifCut_110 : decode cX5_ifCut 110 = .ok (.bipush 11, 2) := dk_16 11 (dk_at dksX5_ifCut_4 15 rfl rfl)
theorem dX5_ifCut_112 : decode cX5_ifCut 112 = .ok (.invokevirtual 273, 3) := dk_182 1 17 (dk_at dksX5_ifCut_4 17 rfl rfl)
theorem dX5_ifCut_115 : decode cX5_ifCut 115 = .ok (.iload 5, 2) := dk_21 5 (dk_at dksX5_ifCut_4 20 rfl rfl)
theorem dX5_ifCut_117 : decode cX5_ifCut 117 = .ok (.ireturn, 1) := dk_172 (dk_at dksX5_ifCut_4 22 rfl rfl)
abbrev cX5_leastCut : ByteArray := prog_12_method_114_code
def yX5_leastCut : MethodName := ⟨RX5, "leastCut", "()I"⟩
def dkwX5_leastCut_2 : List UInt8 := [21, 4, 61, 132, 3, 1, 167, 255, 214, 27, 172]
abbrev dktX5_leastCut_2 : List UInt8 := dkwX5_leastCut_2 ++ []
def dkwX5_leastCut_1 : List UInt8 := [154, 0, 26, 42, 29, 182, 1, 194, 54, 4, 27, 2, 159, 0, 9, 21, 4, 28, 162, 0, 8, 29, 60]
abbrev dktX5_leastCut_1 : List UInt8 := dkwX5_leastCut_1 ++ dktX5_leastCut_2
def dkwX5_leastCut_0 : List UInt8 := [42, 3, 181, 0, 106, 2, 60, 3, 61, 3, 62, 29, 42, 180, 0, 26, 162, 0, 40, 42, 29, 182, 0, 164]
abbrev dktX5_leastCut_0 : List UInt8 := dkwX5_leastCut_0 ++ dktX5_leastCut_1
theorem dksX5_leastCut_0 : cX5_leastCut.data.toList.drop 0 = dktX5_leastCut_0 := by decide +kernel
theorem dksX5_leastCut_1 : cX5_leastCut.data.toList.drop 24 = dktX5_leastCut_1 := dk_seg dksX5_leastCut_0 24 rfl rfl
theorem dksX5_leastCut_2 : cX5_leastCut.data.toList.drop 47 = dktX5_leastCut_2 := dk_seg dksX5_leastCut_1 23 rfl rfl
theorem dX5_leastCut_0 : decode cX5_leastCut 0 = .ok (.aload_n 0, 1) := dk_42 (dk_at dksX5_leastCut_0 0 rfl rfl)
theorem dX5_leastCut_1 : decode cX5_leastCut 1 = .ok (.iconst 0, 1) := dk_3 (dk_at dksX5_leastCut_0 1 rfl rfl)
theorem dX5_leastCut_2 : decode cX5_leastCut 2 = .ok (.putfield 106, 3) := dk_181 0 106 (dk_at dksX5_leastCut_0 2 rfl rfl)
theorem dX5_leastCut_5 : decode cX5_leastCut 5 = .ok (.iconst (-1), 1) := dk_2 (dk_at dksX5_leastCut_0 5 rfl rfl)
theorem dX5_leastCut_6 : decode cX5_leastCut 6 = .ok (.istore_n 1, 1) := dk_60 (dk_at dksX5_leastCut_0 6 rfl rfl)
theorem dX5_leastCut_7 : decode cX5_leastCut 7 = .ok (.iconst 0, 1) := dk_3 (dk_at dksX5_leastCut_0 7 rfl rfl)
theorem dX5_leastCut_8 : decode cX5_leastCut 8 = .ok (.istore_n 2, 1) := dk_61 (dk_at dksX5_leastCut_0 8 rfl rfl)
theorem dX5_leastCut_9 : decode cX5_leastCut 9 = .ok (.iconst 0, 1) := dk_3 (dk_at dksX5_leastCut_0 9 rfl rfl)
theorem dX5_leastCut_10 : decode cX5_leastCut 10 = .ok (.istore_n 3, 1) := dk_62 (dk_at dksX5_leastCut_0 10 rfl rfl)
theorem dX5_leastCut_11 : decode cX5_leastCut 11 = .ok (.iload_n 3, 1) := dk_29 (dk_at dksX5_leastCut_0 11 rfl rfl)
theorem dX5_leastCut_12 : decode cX5_leastCut 12 = .ok (.aload_n 0, 1) := dk_42 (dk_at dksX5_leastCut_0 12 rfl rfl)
theorem dX5_leastCut_13 : decode cX5_leastCut 13 = .ok (.getfield 26, 3) := dk_180 0 26 (dk_at dksX5_leastCut_0 13 rfl rfl)
theorem dX5_leastCut_16 : decode cX5_leastCut 16 = .ok (.if_icmp .ge 40, 3) := dk_162 0 40 (dk_at dksX5_leastCut_0 16 rfl rfl)
theorem dX5_leastCut_19 : decode cX5_leastCut 19 = .ok (.aload_n 0, 1) := dk_42 (dk_at dksX5_leastCut_0 19 rfl rfl)
theorem dX5_leastCut_20 : decode cX5_leastCut 20 = .ok (.iload_n 3, 1) := dk_29 (dk_at dksX5_leastCut_0 20 rfl rfl)
theorem dX5_leastCut_21 : decode cX5_leastCut 21 = .ok (.invokevirtual 164, 3) := dk_182 0 164 (dk_at dksX5_leastCut_0 21 rfl rfl)
theorem dX5_leastCut_24 : decode cX5_leastCut 24 = .ok (.ifCond .ne 26, 3) := dk_154 0 26 (dk_at dksX5_leastCut_1 0 rfl rfl)
theorem dX5_leastCut_27 : decode cX5_leastCut 27 = .ok (.aload_n 0, 1) := dk_42 (dk_at dksX5_leastCut_1 3 rfl rfl)
theorem dX5_leastCut_28 : decode cX5_leastCut 28 = .ok (.iload_n 3, 1) := dk_29 (dk_at dksX5_leastCut_1 4 rfl rfl)
theorem dX5_leastCut_29 : decode cX5_leastCut 29 = .ok (.invokevirtual 450, 3) := dk_182 1 194 (dk_at dksX5_leastCut_1 5 rfl rfl)
theorem dX5_leastCut_32 : decode cX5_leastCut 32 = .ok (.istore 4, 2) := dk_54 4 (dk_at dksX5_leastCut_1 8 rfl rfl)
theorem dX5_leastCut_34 : decode cX5_leastCut 34 = .ok (.iload_n 1, 1) := dk_27 (dk_at dksX5_leastCut_1 10 rfl rfl)
theorem dX5_leastCut_35 : decode cX5_leastCut 35 = .ok (.iconst (-1), 1) := dk_2 (dk_at dksX5_leastCut_1 11 rfl rfl)
theorem dX5_leastCut_36 : decode cX5_leastCut 36 = .ok (.if_icmp .eq 9, 3) := dk_159 0 9 (dk_at dksX5_leastCut_1 12 rfl rfl)
theorem dX5_leastCut_39 : decode cX5_leastCut 39 = .ok (.iload 4, 2) := dk_21 4 (dk_at dksX5_leastCut_1 15 rfl rfl)
theorem dX5_leastCut_41 : decode cX5_leastCut 41 = .ok (.iload_n 2, 1) := dk_28 (dk_at dksX5_leastCut_1 17 rfl rfl)
theorem dX5_leastCut_42 : decode cX5_leastCut 42 = .ok (.if_icmp .ge 8, 3) := dk_162 0 8 (dk_at dksX5_leastCut_1 18 rfl rfl)
theorem dX5_leastCut_45 : decode cX5_leastCut 45 = .ok (.iload_n 3, 1) := dk_29 (dk_at dksX5_leastCut_1 21 rfl rfl)
theorem dX5_leastCut_46 : decode cX5_leastCut 46 = .ok (.istore_n 1, 1) := dk_60 (dk_at dksX5_leastCut_1 22 rfl rfl)
theorem dX5_leastCut_47 : decode cX5_leastCut 47 = .ok (.iload 4, 2) := dk_21 4 (dk_at dksX5_leastCut_2 0 rfl rfl)
theorem dX5_leastCut_49 : decode cX5_leastCut 49 = .ok (.istore_n 2, 1) := dk_61 (dk_at dksX5_leastCut_2 2 rfl rfl)
theorem dX5_leastCut_50 : decode cX5_leastCut 50 = .ok (.iinc 3 1, 3) := dk_132 3 1 (dk_at dksX5_leastCut_2 3 rfl rfl)
theorem dX5_leastCut_53 : decode cX5_leastCut 53 = .ok (.goto (-42), 3) := dk_167 255 214 (dk_at dksX5_leastCut_2 6 rfl rfl)
theorem dX5_leastCut_56 : decode cX5_leastCut 56 = .ok (.iload_n 1, 1) := dk_27 (dk_at dksX5_leastCut_2 9 rfl rfl)
theorem dX5_leastCut_57 : decode cX5_leastCut 57 = .ok (.ireturn, 1) := dk_172 (dk_at dksX5_leastCut_2 10 rfl rfl)
abbrev cX5_droppedBy : ByteArray := prog_12_method_112_code
def yX5_droppedBy : MethodName := ⟨RX5, "droppedBy", "(I)I"⟩
def dkwX5_droppedBy_0 : List UInt8 := [42, 16, 11, 182, 0, 158, 42, 27, 182, 1, 145, 61, 42, 16, 11, 182, 1, 17, 28, 172]
abbrev dktX5_droppedBy_0 : List UInt8 := dkwX5_droppedBy_0 ++ []
theorem dksX5_droppedBy_0 : cX5_droppedBy.data.toList.drop 0 = dktX5_droppedBy_0 := by decide +kernel
theorem dX5_droppedBy_0 : decode cX5_droppedBy 0 = .ok (.aload_n 0, 1) := dk_42 (dk_at dksX5_droppedBy_0 0 rfl rfl)
theorem dX5_droppedBy_1 : decode cX5_droppedBy 1 = .ok (.bipush 11, 2) := dk_16 11 (dk_at dksX5_droppedBy_0 1 rfl rfl)
theorem dX5_droppedBy_3 : decode cX5_droppedBy 3 = .ok (.invokevirtual 158, 3) := dk_182 0 158 (dk_at dksX5_droppedBy_0 3 rfl rfl)
theorem dX5_droppedBy_6 : decode cX5_droppedBy 6 = .ok (.aload_n 0, 1) := dk_42 (dk_at dksX5_droppedBy_0 6 rfl rfl)
theorem dX5_droppedBy_7 : decode cX5_droppedBy 7 = .ok (.iload_n 1, 1) := dk_27 (dk_at dksX5_droppedBy_0 7 rfl rfl)
theorem dX5_droppedBy_8 : decode cX5_droppedBy 8 = .ok (.invokevirtual 401, 3) := dk_182 1 145 (dk_at dksX5_droppedBy_0 8 rfl rfl)
theorem dX5_droppedBy_11 : decode cX5_droppedBy 11 = .ok (.istore_n 2, 1) := dk_61 (dk_at dksX5_droppedBy_0 11 rfl rfl)
theorem dX5_droppedBy_12 : decode cX5_droppedBy 12 = .ok (.aload_n 0, 1) := dk_42 (dk_at dksX5_droppedBy_0 12 rfl rfl)
theorem dX5_droppedBy_13 : decode cX5_droppedBy 13 = .ok (.bipush 11, 2) := dk_16 11 (dk_at dksX5_droppedBy_0 13 rfl rfl)
theorem dX5_droppedBy_15 : decode cX5_droppedBy 15 = .ok (.invokevirtual 273, 3) := dk_182 1 17 (dk_at dksX5_droppedBy_0 15 rfl rfl)
theorem dX5_droppedBy_18 : decode cX5_droppedBy 18 = .ok (.iload_n 2, 1) := dk_28 (dk_at dksX5_droppedBy_0 18 rfl rfl)
theorem dX5_droppedBy_19 : decode cX5_droppedBy 19 = .ok (.ireturn, 1) := dk_172 (dk_at dksX5_droppedBy_0 19 rfl rfl)
abbrev cX5_ifPacked : ByteArray := prog_12_method_115_code
def yX5_ifPacked : MethodName := ⟨RX5, "ifPacked", "(I)I"⟩
def dkwX5_ifPacked_3 : List UInt8 := [132, 4, 1, 167, 255, 221, 42, 16, 11, 182, 1, 17, 27, 154, 0, 7, 28, 167, 0, 4, 29, 172]
abbrev dktX5_ifPacked_3 : List UInt8 := dkwX5_ifPacked_3 ++ []
def dkwX5_ifPacked_2 : List UInt8 := [180, 0, 45, 21, 4, 46, 29, 164, 0, 13, 42, 180, 0, 45, 21, 4, 46, 167, 0, 4, 29, 62]
abbrev dktX5_ifPacked_2 : List UInt8 := dkwX5_ifPacked_2 ++ dktX5_ifPacked_3
def dkwX5_ifPacked_1 : List UInt8 := [182, 0, 158, 42, 182, 1, 133, 61, 2, 62, 3, 54, 4, 21, 4, 42, 180, 0, 132, 162, 0, 32, 42]
abbrev dktX5_ifPacked_1 : List UInt8 := dkwX5_ifPacked_1 ++ dktX5_ifPacked_2
def dkwX5_ifPacked_0 : List UInt8 := [42, 3, 181, 0, 106, 27, 155, 0, 8, 27, 4, 164, 0, 9, 42, 4, 182, 0, 116, 172, 42, 16, 11]
abbrev dktX5_ifPacked_0 : List UInt8 := dkwX5_ifPacked_0 ++ dktX5_ifPacked_1
theorem dksX5_ifPacked_0 : cX5_ifPacked.data.toList.drop 0 = dktX5_ifPacked_0 := by decide +kernel
theorem dksX5_ifPacked_1 : cX5_ifPacked.data.toList.drop 23 = dktX5_ifPacked_1 := dk_seg dksX5_ifPacked_0 23 rfl rfl
theorem dksX5_ifPacked_2 : cX5_ifPacked.data.toList.drop 46 = dktX5_ifPacked_2 := dk_seg dksX5_ifPacked_1 23 rfl rfl
theorem dksX5_ifPacked_3 : cX5_ifPacked.data.toList.drop 68 = dktX5_ifPacked_3 := dk_seg dksX5_ifPacked_2 22 rfl rfl
theorem dX5_ifPacked_0 : decode cX5_ifPacked 0 = .ok (.aload_n 0, 1) := dk_42 (dk_at dksX5_ifPacked_0 0 rfl rfl)
theorem dX5_ifPacked_1 : decode cX5_ifPacked 1 = .ok (.iconst 0, 1) := dk_3 (dk_at dksX5_ifPacked_0 1 rfl rfl)
theorem dX5_ifPacked_2 : decode cX5_ifPacked 2 = .ok (.putfield 106, 3) := dk_181 0 106 (dk_at dksX5_ifPacked_0 2 rfl rfl)
theorem dX5_ifPacked_5 : decode cX5_ifPacked 5 = .ok (.iload_n 1, 1) := dk_27 (dk_at dksX5_ifPacked_0 5 rfl rfl)
theorem dX5_ifPacked_6 : decode cX5_ifPacked 6 = .ok (.ifCond .lt 8, 3) := dk_155 0 8 (dk_at dksX5_ifPacked_0 6 rfl rfl)
theorem dX5_ifPacked_9 : decode cX5_ifPacked 9 = .ok (.iload_n 1, 1) := dk_27 (dk_at dksX5_ifPacked_0 9 rfl rfl)
theorem dX5_ifPacked_10 : decode cX5_ifPacked 10 = .ok (.iconst 1, 1) := dk_4 (dk_at dksX5_ifPacked_0 10 rfl rfl)
theorem dX5_ifPacked_11 : decode cX5_ifPacked 11 = .ok (.if_icmp .le 9, 3) := dk_164 0 9 (dk_at dksX5_ifPacked_0 11 rfl rfl)
theorem dX5_ifPacked_14 : decode cX5_ifPacked 14 = .ok (.aload_n 0, 1) := dk_42 (dk_at dksX5_ifPacked_0 14 rfl rfl)
theorem dX5_ifPacked_15 : decode cX5_ifPacked 15 = .ok (.iconst 1, 1) := dk_4 (dk_at dksX5_ifPacked_0 15 rfl rfl)
theorem dX5_ifPacked_16 : decode cX5_ifPacked 16 = .ok (.invokevirtual 116, 3) := dk_182 0 116 (dk_at dksX5_ifPacked_0 16 rfl rfl)
theorem dX5_ifPacked_19 : decode cX5_ifPacked 19 = .ok (.ireturn, 1) := dk_172 (dk_at dksX5_ifPacked_0 19 rfl rfl)
theorem dX5_ifPacked_20 : decode cX5_ifPacked 20 = .ok (.aload_n 0, 1) := dk_42 (dk_at dksX5_ifPacked_0 20 rfl rfl)
theorem dX5_ifPacked_21 : decode cX5_ifPacked 21 = .ok (.bipush 11, 2) := dk_16 11 (dk_at dksX5_ifPacked_0 21 rfl rfl)
theorem dX5_ifPacked_23 : decode cX5_ifPacked 23 = .ok (.invokevirtual 158, 3) := dk_182 0 158 (dk_at dksX5_ifPacked_1 0 rfl rfl)
theorem dX5_ifPacked_26 : decode cX5_ifPacked 26 = .ok (.aload_n 0, 1) := dk_42 (dk_at dksX5_ifPacked_1 3 rfl rfl)
theorem dX5_ifPacked_27 : decode cX5_ifPacked 27 = .ok (.invokevirtual 389, 3) := dk_182 1 133 (dk_at dksX5_ifPacked_1 4 rfl rfl)
theorem dX5_ifPacked_30 : decode cX5_ifPacked 30 = .ok (.istore_n 2, 1) := dk_61 (dk_at dksX5_ifPacked_1 7 rfl rfl)
theorem dX5_ifPacked_31 : decode cX5_ifPacked 31 = .ok (.iconst (-1), 1) := dk_2 (dk_at dksX5_ifPacked_1 8 rfl rfl)
theorem dX5_ifPacked_32 : decode cX5_ifPacked 32 = .ok (.istore_n 3, 1) := dk_62 (dk_at dksX5_ifPacked_1 9 rfl rfl)
theorem dX5_ifPacked_33 : decode cX5_ifPacked 33 = .ok (.iconst 0, 1) := dk_3 (dk_at dksX5_ifPacked_1 10 rfl rfl)
theorem dX5_ifPacked_34 : decode cX5_ifPacked 34 = .ok (.istore 4, 2) := dk_54 4 (dk_at dksX5_ifPacked_1 11 rfl rfl)
theorem dX5_ifPacked_36 : decode cX5_ifPacked 36 = .ok (.iload 4, 2) := dk_21 4 (dk_at dksX5_ifPacked_1 13 rfl rfl)
theorem dX5_ifPacked_38 : decode cX5_ifPacked 38 = .ok (.aload_n 0, 1) := dk_42 (dk_at dksX5_ifPacked_1 15 rfl rfl)
theorem dX5_ifPacked_39 : decode cX5_ifPacked 39 = .ok (.getfield 132, 3) := dk_180 0 132 (dk_at dksX5_ifPacked_1 16 rfl rfl)
theorem dX5_ifPacked_42 : decode cX5_ifPacked 42 = .ok (.if_icmp .ge 32, 3) := dk_162 0 32 (dk_at dksX5_ifPacked_1 19 rfl rfl)
theorem dX5_ifPacked_45 : decode cX5_ifPacked 45 = .ok (.aload_n 0, 1) := dk_42 (dk_at dksX5_ifPacked_1 22 rfl rfl)
theorem dX5_ifPacked_46 : decode cX5_ifPacked 46 = .ok (.getfield 45, 3) := dk_180 0 45 (dk_at dksX5_ifPacked_2 0 rfl rfl)
theorem dX5_ifPacked_49 : decode cX5_ifPacked 49 = .ok (.iload 4, 2) := dk_21 4 (dk_at dksX5_ifPacked_2 3 rfl rfl)
theorem dX5_ifPacked_51 : decode cX5_ifPacked 51 = .ok (.iaload, 1) := dk_46 (dk_at dksX5_ifPacked_2 5 rfl rfl)
theorem dX5_ifPacked_52 : decode cX5_ifPacked 52 = .ok (.iload_n 3, 1) := dk_29 (dk_at dksX5_ifPacked_2 6 rfl rfl)
theorem dX5_ifPacked_53 : decode cX5_ifPacked 53 = .ok (.if_icmp .le 13, 3) := dk_164 0 13 (dk_at dksX5_ifPacked_2 7 rfl rfl)
theorem dX5_ifPacked_56 : decode cX5_ifPacked 56 = .ok (.aload_n 0, 1) := dk_42 (dk_at dksX5_ifPacked_2 10 rfl rfl)
theorem dX5_ifPacked_57 : decode cX5_ifPacked 57 = .ok (.getfield 45, 3) := dk_180 0 45 (dk_at dksX5_ifPacked_2 11 rfl rfl)
theorem dX5_ifPacked_60 : decode cX5_ifPacked 60 = .ok (.iload 4, 2) := dk_21 4 (dk_at dksX5_ifPacked_2 14 rfl rfl)
theorem dX5_ifPacked_62 : decode cX5_ifPacked 62 = .ok (.iaload, 1) := dk_46 (dk_at dksX5_ifPacked_2 16 rfl rfl)
theorem dX5_ifPacked_63 : decode cX5_ifPacked 63 = .ok (.goto 4, 3) := dk_167 0 4 (dk_at dksX5_ifPacked_2 17 rfl rfl)
theorem dX5_ifPacked_66 : decode cX5_ifPacked 66 = .ok (.iload_n 3, 1) := dk_29 (dk_at dksX5_ifPacked_2 20 rfl rfl)
theorem dX5_ifPacked_67 : decode cX5_ifPacked 67 = .ok (.istore_n 3, 1) := dk_62 (dk_at dksX5_ifPacked_2 21 rfl rfl)
theorem dX5_ifPacked_68 : decode cX5_ifPacked 68 = .ok (.iinc 4 1, 3) := dk_132 4 1 (dk_at dksX5_ifPacked_3 0 rfl rfl)
theorem dX5_ifPacked_71 : decode cX5_ifPacked 71 = .ok (.goto (-35), 3) := dk_167 255 221 (dk_at dksX5_ifPacked_3 3 rfl rfl)
theorem dX5_ifPacked_74 : decode cX5_ifPacked 74 = .ok (.aload_n 0, 1) := dk_42 (dk_at dksX5_ifPacked_3 6 rfl rfl)
theorem dX5_ifPacked_75 : decode cX5_ifPacked 75 = .ok (.bipush 11, 2) := dk_16 11 (dk_at dksX5_ifPacked_3 7 rfl rfl)
theorem dX5_ifPacked_77 : decode cX5_ifPacked 77 = .ok (.invokevirtual 273, 3) := dk_182 1 17 (dk_at dksX5_ifPacked_3 9 rfl rfl)
theorem dX5_ifPacked_80 : decode cX5_ifPacked 80 = .ok (.iload_n 1, 1) := dk_27 (dk_at dksX5_ifPacked_3 12 rfl rfl)
theorem dX5_ifPacked_81 : decode cX5_ifPacked 81 = .ok (.ifCond .ne 7, 3) := dk_154 0 7 (dk_at dksX5_ifPacked_3 13 rfl rfl)
theorem dX5_ifPacked_84 : decode cX5_ifPacked 84 = .ok (.iload_n 2, 1) := dk_28 (dk_at dksX5_ifPacked_3 16 rfl rfl)
theorem dX5_ifPacked_85 : decode cX5_ifPacked 85 = .ok (.goto 4, 3) := dk_167 0 4 (dk_at dksX5_ifPacked_3 17 rfl rfl)
theorem dX5_ifPacked_88 : decode cX5_ifPacked 88 = .ok (.iload_n 3, 1) := dk_29 (dk_at dksX5_ifPacked_3 20 rfl rfl)
theorem dX5_ifPacked_89 : decode cX5_ifPacked 89 = .ok (.ireturn, 1) := dk_172 (dk_at dksX5_ifPacked_3 21 rfl rfl)
abbrev cX5_callsIn : ByteArray := prog_12_method_116_code
def yX5_callsIn : MethodName := ⟨RX5, "callsIn", "(I)I"⟩
def dkwX5_callsIn_2 : List UInt8 := [180, 0, 132, 61, 42, 16, 11, 182, 1, 17, 28, 172]
abbrev dktX5_callsIn_2 : List UInt8 := dkwX5_callsIn_2 ++ []
def dkwX5_callsIn_1 : List UInt8 := [16, 11, 182, 0, 158, 3, 61, 28, 27, 162, 0, 14, 42, 182, 1, 113, 87, 132, 2, 1, 167, 255, 243, 42]
abbrev dktX5_callsIn_1 : List UInt8 := dkwX5_callsIn_1 ++ dktX5_callsIn_2
def dkwX5_callsIn_0 : List UInt8 := [42, 3, 181, 0, 106, 27, 155, 0, 10, 27, 17, 0, 200, 164, 0, 9, 42, 4, 182, 0, 116, 172, 42]
abbrev dktX5_callsIn_0 : List UInt8 := dkwX5_callsIn_0 ++ dktX5_callsIn_1
theorem dksX5_callsIn_0 : cX5_callsIn.data.toList.drop 0 = dktX5_callsIn_0 := by decide +kernel
theorem dksX5_callsIn_1 : cX5_callsIn.data.toList.drop 23 = dktX5_callsIn_1 := dk_seg dksX5_callsIn_0 23 rfl rfl
theorem dksX5_callsIn_2 : cX5_callsIn.data.toList.drop 47 = dktX5_callsIn_2 := dk_seg dksX5_callsIn_1 24 rfl rfl
theorem dX5_callsIn_0 : decode cX5_callsIn 0 = .ok (.aload_n 0, 1) := dk_42 (dk_at dksX5_callsIn_0 0 rfl rfl)
theorem dX5_callsIn_1 : decode cX5_callsIn 1 = .ok (.iconst 0, 1) := dk_3 (dk_at dksX5_callsIn_0 1 rfl rfl)
theorem dX5_callsIn_2 : decode cX5_callsIn 2 = .ok (.putfield 106, 3) := dk_181 0 106 (dk_at dksX5_callsIn_0 2 rfl rfl)
theorem dX5_callsIn_5 : decode cX5_callsIn 5 = .ok (.iload_n 1, 1) := dk_27 (dk_at dksX5_callsIn_0 5 rfl rfl)
theorem dX5_callsIn_6 : decode cX5_callsIn 6 = .ok (.ifCond .lt 10, 3) := dk_155 0 10 (dk_at dksX5_callsIn_0 6 rfl rfl)
theorem dX5_callsIn_9 : decode cX5_callsIn 9 = .ok (.iload_n 1, 1) := dk_27 (dk_at dksX5_callsIn_0 9 rfl rfl)
theorem dX5_callsIn_10 : decode cX5_callsIn 10 = .ok (.sipush 200, 3) := dk_17 0 200 (dk_at dksX5_callsIn_0 10 rfl rfl)
theorem dX5_callsIn_13 : decode cX5_callsIn 13 = .ok (.if_icmp .le 9, 3) := dk_164 0 9 (dk_at dksX5_callsIn_0 13 rfl rfl)
theorem dX5_callsIn_16 : decode cX5_callsIn 16 = .ok (.aload_n 0, 1) := dk_42 (dk_at dksX5_callsIn_0 16 rfl rfl)
theorem dX5_callsIn_17 : decode cX5_callsIn 17 = .ok (.iconst 1, 1) := dk_4 (dk_at dksX5_callsIn_0 17 rfl rfl)
theorem dX5_callsIn_18 : decode cX5_callsIn 18 = .ok (.invokevirtual 116, 3) := dk_182 0 116 (dk_at dksX5_callsIn_0 18 rfl rfl)
theorem dX5_callsIn_21 : decode cX5_callsIn 21 = .ok (.ireturn, 1) := dk_172 (dk_at dksX5_callsIn_0 21 rfl rfl)
theorem dX5_callsIn_22 : decode cX5_callsIn 22 = .ok (.aload_n 0, 1) := dk_42 (dk_at dksX5_callsIn_0 22 rfl rfl)
theorem dX5_callsIn_23 : decode cX5_callsIn 23 = .ok (.bipush 11, 2) := dk_16 11 (dk_at dksX5_callsIn_1 0 rfl rfl)
theorem dX5_callsIn_25 : decode cX5_callsIn 25 = .ok (.invokevirtual 158, 3) := dk_182 0 158 (dk_at dksX5_callsIn_1 2 rfl rfl)
theorem dX5_callsIn_28 : decode cX5_callsIn 28 = .ok (.iconst 0, 1) := dk_3 (dk_at dksX5_callsIn_1 5 rfl rfl)
theorem dX5_callsIn_29 : decode cX5_callsIn 29 = .ok (.istore_n 2, 1) := dk_61 (dk_at dksX5_callsIn_1 6 rfl rfl)
theorem dX5_callsIn_30 : decode cX5_callsIn 30 = .ok (.iload_n 2, 1) := dk_28 (dk_at dksX5_callsIn_1 7 rfl rfl)
theorem dX5_callsIn_31 : decode cX5_callsIn 31 = .ok (.iload_n 1, 1) := dk_27 (dk_at dksX5_callsIn_1 8 rfl rfl)
theorem dX5_callsIn_32 : decode cX5_callsIn 32 = .ok (.if_icmp .ge 14, 3) := dk_162 0 14 (dk_at dksX5_callsIn_1 9 rfl rfl)
theorem dX5_callsIn_35 : decode cX5_callsIn 35 = .ok (.aload_n 0, 1) := dk_42 (dk_at dksX5_callsIn_1 12 rfl rfl)
theorem dX5_callsIn_36 : decode cX5_callsIn 36 = .ok (.invokevirtual 369, 3) := dk_182 1 113 (dk_at dksX5_callsIn_1 13 rfl rfl)
theorem dX5_callsIn_39 : decode cX5_callsIn 39 = .ok (.pop, 1) := dk_87 (dk_at dksX5_callsIn_1 16 rfl rfl)
theorem dX5_callsIn_40 : decode cX5_callsIn 40 = .ok (.iinc 2 1, 3) := dk_132 2 1 (dk_at dksX5_callsIn_1 17 rfl rfl)
theorem dX5_callsIn_43 : decode cX5_callsIn 43 = .ok (.goto (-13), 3) := dk_167 255 243 (dk_at dksX5_callsIn_1 20 rfl rfl)
theorem dX5_callsIn_46 : decode cX5_callsIn 46 = .ok (.aload_n 0, 1) := dk_42 (dk_at dksX5_callsIn_1 23 rfl rfl)
theorem dX5_callsIn_47 : decode cX5_callsIn 47 = .ok (.getfield 132, 3) := dk_180 0 132 (dk_at dksX5_callsIn_2 0 rfl rfl)
theorem dX5_callsIn_50 : decode cX5_callsIn 50 = .ok (.istore_n 2, 1) := dk_61 (dk_at dksX5_callsIn_2 3 rfl rfl)
theorem dX5_callsIn_51 : decode cX5_callsIn 51 = .ok (.aload_n 0, 1) := dk_42 (dk_at dksX5_callsIn_2 4 rfl rfl)
theorem dX5_callsIn_52 : decode cX5_callsIn 52 = .ok (.bipush 11, 2) := dk_16 11 (dk_at dksX5_callsIn_2 5 rfl rfl)
theorem dX5_callsIn_54 : decode cX5_callsIn 54 = .ok (.invokevirtual 273, 3) := dk_182 1 17 (dk_at dksX5_callsIn_2 7 rfl rfl)
theorem dX5_callsIn_57 : decode cX5_callsIn 57 = .ok (.iload_n 2, 1) := dk_28 (dk_at dksX5_callsIn_2 10 rfl rfl)
theorem dX5_callsIn_58 : decode cX5_callsIn 58 = .ok (.ireturn, 1) := dk_172 (dk_at dksX5_callsIn_2 11 rfl rfl)
abbrev cX5_idleIn : ByteArray := prog_12_method_118_code
def yX5_idleIn : MethodName := ⟨RX5, "idleIn", "(I)I"⟩
def dkwX5_idleIn_1 : List UInt8 := [182, 1, 197, 172]
abbrev dktX5_idleIn_1 : List UInt8 := dkwX5_idleIn_1 ++ []
def dkwX5_idleIn_0 : List UInt8 := [42, 3, 181, 0, 106, 42, 27, 182, 1, 158, 153, 0, 9, 42, 4, 182, 0, 116, 172, 42, 27, 4]
abbrev dktX5_idleIn_0 : List UInt8 := dkwX5_idleIn_0 ++ dktX5_idleIn_1
theorem dksX5_idleIn_0 : cX5_idleIn.data.toList.drop 0 = dktX5_idleIn_0 := by decide +kernel
theorem dksX5_idleIn_1 : cX5_idleIn.data.toList.drop 22 = dktX5_idleIn_1 := dk_seg dksX5_idleIn_0 22 rfl rfl
theorem dX5_idleIn_0 : decode cX5_idleIn 0 = .ok (.aload_n 0, 1) := dk_42 (dk_at dksX5_idleIn_0 0 rfl rfl)
theorem dX5_idleIn_1 : decode cX5_idleIn 1 = .ok (.iconst 0, 1) := dk_3 (dk_at dksX5_idleIn_0 1 rfl rfl)
theorem dX5_idleIn_2 : decode cX5_idleIn 2 = .ok (.putfield 106, 3) := dk_181 0 106 (dk_at dksX5_idleIn_0 2 rfl rfl)
theorem dX5_idleIn_5 : decode cX5_idleIn 5 = .ok (.aload_n 0, 1) := dk_42 (dk_at dksX5_idleIn_0 5 rfl rfl)
theorem dX5_idleIn_6 : decode cX5_idleIn 6 = .ok (.iload_n 1, 1) := dk_27 (dk_at dksX5_idleIn_0 6 rfl rfl)
theorem dX5_idleIn_7 : decode cX5_idleIn 7 = .ok (.invokevirtual 414, 3) := dk_182 1 158 (dk_at dksX5_idleIn_0 7 rfl rfl)
theorem dX5_idleIn_10 : decode cX5_idleIn 10 = .ok (.ifCond .eq 9, 3) := dk_153 0 9 (dk_at dksX5_idleIn_0 10 rfl rfl)
theorem dX5_idleIn_13 : decode cX5_idleIn 13 = .ok (.aload_n 0, 1) := dk_42 (dk_at dksX5_idleIn_0 13 rfl rfl)
theorem dX5_idleIn_14 : decode cX5_idleIn 14 = .ok (.iconst 1, 1) := dk_4 (dk_at dksX5_idleIn_0 14 rfl rfl)
theorem dX5_idleIn_15 : decode cX5_idleIn 15 = .ok (.invokevirtual 116, 3) := dk_182 0 116 (dk_at dksX5_idleIn_0 15 rfl rfl)
theorem dX5_idleIn_18 : decode cX5_idleIn 18 = .ok (.ireturn, 1) := dk_172 (dk_at dksX5_idleIn_0 18 rfl rfl)
theorem dX5_idleIn_19 : decode cX5_idleIn 19 = .ok (.aload_n 0, 1) := dk_42 (dk_at dksX5_idleIn_0 19 rfl rfl)
theorem dX5_idleIn_20 : decode cX5_idleIn 20 = .ok (.iload_n 1, 1) := dk_27 (dk_at dksX5_idleIn_0 20 rfl rfl)
theorem dX5_idleIn_21 : decode cX5_idleIn 21 = .ok (.iconst 1, 1) := dk_4 (dk_at dksX5_idleIn_0 21 rfl rfl)
theorem dX5_idleIn_22 : decode cX5_idleIn 22 = .ok (.invokevirtual 453, 3) := dk_182 1 197 (dk_at dksX5_idleIn_1 0 rfl rfl)
theorem dX5_idleIn_25 : decode cX5_idleIn 25 = .ok (.ireturn, 1) := dk_172 (dk_at dksX5_idleIn_1 3 rfl rfl)
abbrev cX5_until : ByteArray := prog_12_method_117_code
def yX5_until : MethodName := ⟨RX5, "until", "(IZ)I"⟩
def dkwX5_until_2 : List UInt8 := [167, 255, 217, 42, 16, 11, 182, 1, 17, 29, 17, 0, 200, 164, 0, 7, 2, 167, 0, 4, 29, 172]
abbrev dktX5_until_2 : List UInt8 := dkwX5_until_2 ++ []
def dkwX5_until_1 : List UInt8 := [154, 0, 26, 167, 0, 12, 42, 27, 182, 0, 171, 2, 159, 0, 14, 42, 182, 1, 113, 87, 132, 3, 1]
abbrev dktX5_until_1 : List UInt8 := dkwX5_until_1 ++ dktX5_until_2
def dkwX5_until_0 : List UInt8 := [42, 16, 11, 182, 0, 158, 3, 62, 29, 17, 0, 200, 163, 0, 38, 28, 153, 0, 14, 42, 27, 182, 0, 224]
abbrev dktX5_until_0 : List UInt8 := dkwX5_until_0 ++ dktX5_until_1
theorem dksX5_until_0 : cX5_until.data.toList.drop 0 = dktX5_until_0 := by decide +kernel
theorem dksX5_until_1 : cX5_until.data.toList.drop 24 = dktX5_until_1 := dk_seg dksX5_until_0 24 rfl rfl
theorem dksX5_until_2 : cX5_until.data.toList.drop 47 = dktX5_until_2 := dk_seg dksX5_until_1 23 rfl rfl
theorem dX5_until_0 : decode cX5_until 0 = .ok (.aload_n 0, 1) := dk_42 (dk_at dksX5_until_0 0 rfl rfl)
theorem dX5_until_1 : decode cX5_until 1 = .ok (.bipush 11, 2) := dk_16 11 (dk_at dksX5_until_0 1 rfl rfl)
theorem dX5_until_3 : decode cX5_until 3 = .ok (.invokevirtual 158, 3) := dk_182 0 158 (dk_at dksX5_until_0 3 rfl rfl)
theorem dX5_until_6 : decode cX5_until 6 = .ok (.iconst 0, 1) := dk_3 (dk_at dksX5_until_0 6 rfl rfl)
theorem dX5_until_7 : decode cX5_until 7 = .ok (.istore_n 3, 1) := dk_62 (dk_at dksX5_until_0 7 rfl rfl)
theorem dX5_until_8 : decode cX5_until 8 = .ok (.iload_n 3, 1) := dk_29 (dk_at dksX5_until_0 8 rfl rfl)
theorem dX5_until_9 : decode cX5_until 9 = .ok (.sipush 200, 3) := dk_17 0 200 (dk_at dksX5_until_0 9 rfl rfl)
theorem dX5_until_12 : decode cX5_until 12 = .ok (.if_icmp .gt 38, 3) := dk_163 0 38 (dk_at dksX5_until_0 12 rfl rfl)
theorem dX5_until_15 : decode cX5_until 15 = .ok (.iload_n 2, 1) := dk_28 (dk_at dksX5_until_0 15 rfl rfl)
theorem dX5_until_16 : decode cX5_until 16 = .ok (.ifCond .eq 14, 3) := dk_153 0 14 (dk_at dksX5_until_0 16 rfl rfl)
theorem dX5_until_19 : decode cX5_until 19 = .ok (.aload_n 0, 1) := dk_42 (dk_at dksX5_until_0 19 rfl rfl)
theorem dX5_until_20 : decode cX5_until 20 = .ok (.iload_n 1, 1) := dk_27 (dk_at dksX5_until_0 20 rfl rfl)
theorem dX5_until_21 : decode cX5_until 21 = .ok (.invokevirtual 224, 3) := dk_182 0 224 (dk_at dksX5_until_0 21 rfl rfl)
theorem dX5_until_24 : decode cX5_until 24 = .ok (.ifCond .ne 26, 3) := dk_154 0 26 (dk_at dksX5_until_1 0 rfl rfl)
theorem dX5_until_27 : decode cX5_until 27 = .ok (.goto 12, 3) := dk_167 0 12 (dk_at dksX5_until_1 3 rfl rfl)
theorem dX5_until_30 : decode cX5_until 30 = .ok (.aload_n 0, 1) := dk_42 (dk_at dksX5_until_1 6 rfl rfl)
theorem dX5_until_31 : decode cX5_until 31 = .ok (.iload_n 1, 1) := dk_27 (dk_at dksX5_until_1 7 rfl rfl)
theorem dX5_until_32 : decode cX5_until 32 = .ok (.invokevirtual 171, 3) := dk_182 0 171 (dk_at dksX5_until_1 8 rfl rfl)
theorem dX5_until_35 : decode cX5_until 35 = .ok (.iconst (-1), 1) := dk_2 (dk_at dksX5_until_1 11 rfl rfl)
theorem dX5_until_36 : decode cX5_until 36 = .ok (.if_icmp .eq 14, 3) := dk_159 0 14 (dk_at dksX5_until_1 12 rfl rfl)
theorem dX5_until_39 : decode cX5_until 39 = .ok (.aload_n 0, 1) := dk_42 (dk_at dksX5_until_1 15 rfl rfl)
theorem dX5_until_40 : decode cX5_until 40 = .ok (.invokevirtual 369, 3) := dk_182 1 113 (dk_at dksX5_until_1 16 rfl rfl)
theorem dX5_until_43 : decode cX5_until 43 = .ok (.pop, 1) := dk_87 (dk_at dksX5_until_1 19 rfl rfl)
theorem dX5_until_44 : decode cX5_until 44 = .ok (.iinc 3 1, 3) := dk_132 3 1 (dk_at dksX5_until_1 20 rfl rfl)
theorem dX5_until_47 : decode cX5_until 47 = .ok (.goto (-39), 3) := dk_167 255 217 (dk_at dksX5_until_2 0 rfl rfl)
theorem dX5_until_50 : decode cX5_until 50 = .ok (.aload_n 0, 1) := dk_42 (dk_at dksX5_until_2 3 rfl rfl)
theorem dX5_until_51 : decode cX5_until 51 = .ok (.bipush 11, 2) := dk_16 11 (dk_at dksX5_until_2 4 rfl rfl)
theorem dX5_until_53 : decode cX5_until 53 = .ok (.invokevirtual 273, 3) := dk_182 1 17 (dk_at dksX5_until_2 6 rfl rfl)
theorem dX5_until_56 : decode cX5_until 56 = .ok (.iload_n 3, 1) := dk_29 (dk_at dksX5_until_2 9 rfl rfl)
theorem dX5_until_57 : decode cX5_until 57 = .ok (.sipush 200, 3) := dk_17 0 200 (dk_at dksX5_until_2 10 rfl rfl)
theorem dX5_until_60 : decode cX5_until 60 = .ok (.if_icmp .le 7, 3) := dk_164 0 7 (dk_at dksX5_until_2 13 rfl rfl)
theorem dX5_until_63 : decode cX5_until 63 = .ok (.iconst (-1), 1) := dk_2 (dk_at dksX5_until_2 16 rfl rfl)
theorem dX5_until_64 : decode cX5_until 64 = .ok (.goto 4, 3) := dk_167 0 4 (dk_at dksX5_until_2 17 rfl rfl)
theorem dX5_until_67 : decode cX5_until 67 = .ok (.iload_n 3, 1) := dk_29 (dk_at dksX5_until_2 20 rfl rfl)
theorem dX5_until_68 : decode cX5_until 68 = .ok (.ireturn, 1) := dk_172 (dk_at dksX5_until_2 21 rfl rfl)
abbrev cX5_servedIn : ByteArray := prog_12_method_119_code
def yX5_servedIn : MethodName := ⟨RX5, "servedIn", "(I)I"⟩
def dkwX5_servedIn_1 : List UInt8 := [42, 180, 0, 57, 27, 46, 3, 182, 1, 197, 172]
abbrev dktX5_servedIn_1 : List UInt8 := dkwX5_servedIn_1 ++ []
def dkwX5_servedIn_0 : List UInt8 := [42, 3, 181, 0, 106, 27, 155, 0, 11, 27, 42, 180, 0, 135, 161, 0, 9, 42, 4, 182, 0, 116, 172, 42]
abbrev dktX5_servedIn_0 : List UInt8 := dkwX5_servedIn_0 ++ dktX5_servedIn_1
theorem dksX5_servedIn_0 : cX5_servedIn.data.toList.drop 0 = dktX5_servedIn_0 := by decide +kernel
theorem dksX5_servedIn_1 : cX5_servedIn.data.toList.drop 24 = dktX5_servedIn_1 := dk_seg dksX5_servedIn_0 24 rfl rfl
theorem dX5_servedIn_0 : decode cX5_servedIn 0 = .ok (.aload_n 0, 1) := dk_42 (dk_at dksX5_servedIn_0 0 rfl rfl)
theorem dX5_servedIn_1 : decode cX5_servedIn 1 = .ok (.iconst 0, 1) := dk_3 (dk_at dksX5_servedIn_0 1 rfl rfl)
theorem dX5_servedIn_2 : decode cX5_servedIn 2 = .ok (.putfield 106, 3) := dk_181 0 106 (dk_at dksX5_servedIn_0 2 rfl rfl)
theorem dX5_servedIn_5 : decode cX5_servedIn 5 = .ok (.iload_n 1, 1) := dk_27 (dk_at dksX5_servedIn_0 5 rfl rfl)
theorem dX5_servedIn_6 : decode cX5_servedIn 6 = .ok (.ifCond .lt 11, 3) := dk_155 0 11 (dk_at dksX5_servedIn_0 6 rfl rfl)
theorem dX5_servedIn_9 : decode cX5_servedIn 9 = .ok (.iload_n 1, 1) := dk_27 (dk_at dksX5_servedIn_0 9 rfl rfl)
theorem dX5_servedIn_10 : decode cX5_servedIn 10 = .ok (.aload_n 0, 1) := dk_42 (dk_at dksX5_servedIn_0 10 rfl rfl)
theorem dX5_servedIn_11 : decode cX5_servedIn 11 = .ok (.getfield 135, 3) := dk_180 0 135 (dk_at dksX5_servedIn_0 11 rfl rfl)
theorem dX5_servedIn_14 : decode cX5_servedIn 14 = .ok (.if_icmp .lt 9, 3) := dk_161 0 9 (dk_at dksX5_servedIn_0 14 rfl rfl)
theorem dX5_servedIn_17 : decode cX5_servedIn 17 = .ok (.aload_n 0, 1) := dk_42 (dk_at dksX5_servedIn_0 17 rfl rfl)
theorem dX5_servedIn_18 : decode cX5_servedIn 18 = .ok (.iconst 1, 1) := dk_4 (dk_at dksX5_servedIn_0 18 rfl rfl)
theorem dX5_servedIn_19 : decode cX5_servedIn 19 = .ok (.invokevirtual 116, 3) := dk_182 0 116 (dk_at dksX5_servedIn_0 19 rfl rfl)
theorem dX5_servedIn_22 : decode cX5_servedIn 22 = .ok (.ireturn, 1) := dk_172 (dk_at dksX5_servedIn_0 22 rfl rfl)
theorem dX5_servedIn_23 : decode cX5_servedIn 23 = .ok (.aload_n 0, 1) := dk_42 (dk_at dksX5_servedIn_0 23 rfl rfl)
theorem dX5_servedIn_24 : decode cX5_servedIn 24 = .ok (.aload_n 0, 1) := dk_42 (dk_at dksX5_servedIn_1 0 rfl rfl)
theorem dX5_servedIn_25 : decode cX5_servedIn 25 = .ok (.getfield 57, 3) := dk_180 0 57 (dk_at dksX5_servedIn_1 1 rfl rfl)
theorem dX5_servedIn_28 : decode cX5_servedIn 28 = .ok (.iload_n 1, 1) := dk_27 (dk_at dksX5_servedIn_1 4 rfl rfl)
theorem dX5_servedIn_29 : decode cX5_servedIn 29 = .ok (.iaload, 1) := dk_46 (dk_at dksX5_servedIn_1 5 rfl rfl)
theorem dX5_servedIn_30 : decode cX5_servedIn 30 = .ok (.iconst 0, 1) := dk_3 (dk_at dksX5_servedIn_1 6 rfl rfl)
theorem dX5_servedIn_31 : decode cX5_servedIn 31 = .ok (.invokevirtual 453, 3) := dk_182 1 197 (dk_at dksX5_servedIn_1 7 rfl rfl)
theorem dX5_servedIn_34 : decode cX5_servedIn 34 = .ok (.ireturn, 1) := dk_172 (dk_at dksX5_servedIn_1 10 rfl rfl)
abbrev cX5_gap : ByteArray := prog_12_method_120_code
def yX5_gap : MethodName := ⟨RX5, "gap", "()I"⟩
def dkwX5_gap_9 : List UInt8 := [167, 0, 4, 28, 96, 172]
abbrev dktX5_gap_9 : List UInt8 := dkwX5_gap_9 ++ []
def dkwX5_gap_8 : List UInt8 := [100, 42, 180, 0, 81, 16, 7, 46, 100, 42, 180, 0, 132, 100, 61, 27, 28, 156, 0, 8, 28, 116]
abbrev dktX5_gap_8 : List UInt8 := dkwX5_gap_8 ++ dktX5_gap_9
def dkwX5_gap_7 : List UInt8 := [132, 2, 1, 167, 255, 97, 42, 180, 0, 129, 42, 180, 0, 81, 3, 46, 100, 42, 180, 0, 81, 16, 6, 46]
abbrev dktX5_gap_7 : List UInt8 := dkwX5_gap_7 ++ dktX5_gap_8
def dkwX5_gap_6 : List UInt8 := [167, 255, 133, 27, 42, 28, 182, 0, 164, 153, 0, 11, 42, 28, 182, 0, 192, 167, 0, 4, 3, 96, 60]
abbrev dktX5_gap_6 : List UInt8 := dkwX5_gap_6 ++ dktX5_gap_7
def dkwX5_gap_5 : List UInt8 := [4, 167, 0, 4, 3, 21, 5, 4, 164, 0, 7, 4, 167, 0, 4, 3, 96, 96, 60, 132, 3, 1]
abbrev dktX5_gap_5 : List UInt8 := dkwX5_gap_5 ++ dktX5_gap_6
def dkwX5_gap_4 : List UInt8 := [160, 0, 7, 4, 167, 0, 4, 3, 96, 54, 5, 132, 6, 1, 167, 255, 182, 27, 21, 4, 4, 164, 0, 7]
abbrev dktX5_gap_4 : List UInt8 := dkwX5_gap_4 ++ dktX5_gap_5
def dkwX5_gap_3 : List UInt8 := [3, 96, 54, 4, 21, 5, 42, 180, 0, 45, 21, 6, 46, 28, 160, 0, 17, 42, 21, 6, 182, 0, 174, 29]
abbrev dktX5_gap_3 : List UInt8 := dkwX5_gap_3 ++ dktX5_gap_4
def dkwX5_gap_2 : List UInt8 := [180, 0, 45, 21, 6, 46, 28, 160, 0, 17, 42, 21, 6, 182, 0, 177, 29, 160, 0, 7, 4, 167, 0, 4]
abbrev dktX5_gap_2 : List UInt8 := dkwX5_gap_2 ++ dktX5_gap_3
def dkwX5_gap_1 : List UInt8 := [162, 0, 121, 3, 54, 4, 3, 54, 5, 3, 54, 6, 21, 6, 42, 180, 0, 132, 162, 0, 71, 21, 4, 42]
abbrev dktX5_gap_1 : List UInt8 := dkwX5_gap_1 ++ dktX5_gap_2
def dkwX5_gap_0 : List UInt8 := [42, 3, 181, 0, 106, 3, 60, 3, 61, 28, 42, 180, 0, 26, 162, 0, 157, 3, 62, 29, 42, 180, 0, 20]
abbrev dktX5_gap_0 : List UInt8 := dkwX5_gap_0 ++ dktX5_gap_1
theorem dksX5_gap_0 : cX5_gap.data.toList.drop 0 = dktX5_gap_0 := by decide +kernel
theorem dksX5_gap_1 : cX5_gap.data.toList.drop 24 = dktX5_gap_1 := dk_seg dksX5_gap_0 24 rfl rfl
theorem dksX5_gap_2 : cX5_gap.data.toList.drop 48 = dktX5_gap_2 := dk_seg dksX5_gap_1 24 rfl rfl
theorem dksX5_gap_3 : cX5_gap.data.toList.drop 72 = dktX5_gap_3 := dk_seg dksX5_gap_2 24 rfl rfl
theorem dksX5_gap_4 : cX5_gap.data.toList.drop 96 = dktX5_gap_4 := dk_seg dksX5_gap_3 24 rfl rfl
theorem dksX5_gap_5 : cX5_gap.data.toList.drop 120 = dktX5_gap_5 := dk_seg dksX5_gap_4 24 rfl rfl
theorem dksX5_gap_6 : cX5_gap.data.toList.drop 142 = dktX5_gap_6 := dk_seg dksX5_gap_5 22 rfl rfl
theorem dksX5_gap_7 : cX5_gap.data.toList.drop 165 = dktX5_gap_7 := dk_seg dksX5_gap_6 23 rfl rfl
theorem dksX5_gap_8 : cX5_gap.data.toList.drop 189 = dktX5_gap_8 := dk_seg dksX5_gap_7 24 rfl rfl
theorem dksX5_gap_9 : cX5_gap.data.toList.drop 211 = dktX5_gap_9 := dk_seg dksX5_gap_8 22 rfl rfl
theorem dX5_gap_0 : decode cX5_gap 0 = .ok (.aload_n 0, 1) := dk_42 (dk_at dksX5_gap_0 0 rfl rfl)
theorem dX5_gap_1 : decode cX5_gap 1 = .ok (.iconst 0, 1) := dk_3 (dk_at dksX5_gap_0 1 rfl rfl)
theorem dX5_gap_2 : decode cX5_gap 2 = .ok (.putfield 106, 3) := dk_181 0 106 (dk_at dksX5_gap_0 2 rfl rfl)
theorem dX5_gap_5 : decode cX5_gap 5 = .ok (.iconst 0, 1) := dk_3 (dk_at dksX5_gap_0 5 rfl rfl)
theorem dX5_gap_6 : decode cX5_gap 6 = .ok (.istore_n 1, 1) := dk_60 (dk_at dksX5_gap_0 6 rfl rfl)
theorem dX5_gap_7 : decode cX5_gap 7 = .ok (.iconst 0, 1) := dk_3 (dk_at dksX5_gap_0 7 rfl rfl)
theorem dX5_gap_8 : decode cX5_gap 8 = .ok (.istore_n 2, 1) := dk_61 (dk_at dksX5_gap_0 8 rfl rfl)
theorem dX5_gap_9 : decode cX5_gap 9 = .ok (.iload_n 2, 1) := dk_28 (dk_at dksX5_gap_0 9 rfl rfl)
theorem dX5_gap_10 : decode cX5_gap 10 = .ok (.aload_n 0, 1) := dk_42 (dk_at dksX5_gap_0 10 rfl rfl)
theorem dX5_gap_11 : decode cX5_gap 11 = .ok (.getfield 26, 3) := dk_180 0 26 (dk_at dksX5_gap_0 11 rfl rfl)
theorem dX5_gap_14 : decode cX5_gap 14 = .ok (.if_icmp .ge 157, 3) := dk_162 0 157 (dk_at dksX5_gap_0 14 rfl rfl)
theorem dX5_gap_17 : decode cX5_gap 17 = .ok (.iconst 0, 1) := dk_3 (dk_at dksX5_gap_0 17 rfl rfl)
theorem dX5_gap_18 : decode cX5_gap 18 = .ok (.istore_n 3, 1) := dk_62 (dk_at dksX5_gap_0 18 rfl rfl)
theorem dX5_gap_19 : decode cX5_gap 19 = .ok (.iload_n 3, 1) := dk_29 (dk_at dksX5_gap_0 19 rfl rfl)
theorem dX5_gap_20 : decode cX5_gap 20 = .ok (.aload_n 0, 1) := dk_42 (dk_at dksX5_gap_0 20 rfl rfl)
theorem dX5_gap_21 : decode cX5_gap 21 = .ok (.getfield 20, 3) := dk_180 0 20 (dk_at dksX5_gap_0 21 rfl rfl)
theorem dX5_gap_24 : decode cX5_gap 24 = .ok (.if_icmp .ge 121, 3) := dk_162 0 121 (dk_at dksX5_gap_1 0 rfl rfl)
theorem dX5_gap_27 : decode cX5_gap 27 = .ok (.iconst 0, 1) := dk_3 (dk_at dksX5_gap_1 3 rfl rfl)
theorem dX5_gap_28 : decode cX5_gap 28 = .ok (.istore 4, 2) := dk_54 4 (dk_at dksX5_gap_1 4 rfl rfl)
theorem dX5_gap_30 : decode cX5_gap 30 = .ok (.iconst 0, 1) := dk_3 (dk_at dksX5_gap_1 6 rfl rfl)
theorem dX5_gap_31 : decode cX5_gap 31 = .ok (.istore 5, 2) := dk_54 5 (dk_at dksX5_gap_1 7 rfl rfl)
theorem dX5_gap_33 : decode cX5_gap 33 = .ok (.iconst 0, 1) := dk_3 (dk_at dksX5_gap_1 9 rfl rfl)
theorem dX5_gap_34 : decode cX5_gap 34 = .ok (.istore 6, 2) := dk_54 6 (dk_at dksX5_gap_1 10 rfl rfl)
theorem dX5_gap_36 : decode cX5_gap 36 = .ok (.iload 6, 2) := dk_21 6 (dk_at dksX5_gap_1 12 rfl rfl)
theorem dX5_gap_38 : decode cX5_gap 38 = .ok (.aload_n 0, 1) := dk_42 (dk_at dksX5_gap_1 14 rfl rfl)
theorem dX5_gap_39 : decode cX5_gap 39 = .ok (.getfield 132, 3) := dk_180 0 132 (dk_at dksX5_gap_1 15 rfl rfl)
theorem dX5_gap_42 : decode cX5_gap 42 = .ok (.if_icmp .ge 71, 3) := dk_162 0 71 (dk_at dksX5_gap_1 18 rfl rfl)
theorem dX5_gap_45 : decode cX5_gap 45 = .ok (.iload 4, 2) := dk_21 4 (dk_at dksX5_gap_1 21 rfl rfl)
theorem dX5_gap_47 : decode cX5_gap 47 = .ok (.aload_n 0, 1) := dk_42 (dk_at dksX5_gap_1 23 rfl rfl)
theorem dX5_gap_48 : decode cX5_gap 48 = .ok (.getfield 45, 3) := dk_180 0 45 (dk_at dksX5_gap_2 0 rfl rfl)
theorem dX5_gap_51 : decode cX5_gap 51 = .ok (.iload 6, 2) := dk_21 6 (dk_at dksX5_gap_2 3 rfl rfl)
theorem dX5_gap_53 : decode cX5_gap 53 = .ok (.iaload, 1) := dk_46 (dk_at dksX5_gap_2 5 rfl rfl)
theorem dX5_gap_54 : decode cX5_gap 54 = .ok (.iload_n 2, 1) := dk_28 (dk_at dksX5_gap_2 6 rfl rfl)
theorem dX5_gap_55 : decode cX5_gap 55 = .ok (.if_icmp .ne 17, 3) := dk_160 0 17 (dk_at dksX5_gap_2 7 rfl rfl)
theorem dX5_gap_58 : decode cX5_gap 58 = .ok (.aload_n 0, 1) := dk_42 (dk_at dksX5_gap_2 10 rfl rfl)
theorem dX5_gap_59 : decode cX5_gap 59 = .ok (.iload 6, 2) := dk_21 6 (dk_at dksX5_gap_2 11 rfl rfl)
theorem dX5_gap_61 : decode cX5_gap 61 = .ok (.invokevirtual 177, 3) := dk_182 0 177 (dk_at dksX5_gap_2 13 rfl rfl)
theorem dX5_gap_64 : decode cX5_gap 64 = .ok (.iload_n 3, 1) := dk_29 (dk_at dksX5_gap_2 16 rfl rfl)
theorem dX5_gap_65 : decode cX5_gap 65 = .ok (.if_icmp .ne 7, 3) := dk_160 0 7 (dk_at dksX5_gap_2 17 rfl rfl)
theorem dX5_gap_68 : decode cX5_gap 68 = .ok (.iconst 1, 1) := dk_4 (dk_at dksX5_gap_2 20 rfl rfl)
theorem dX5_gap_69 : decode cX5_gap 69 = .ok (.goto 4, 3) := dk_167 0 4 (dk_at dksX5_gap_2 21 rfl rfl)
theorem dX5_gap_72 : decode cX5_gap 72 = .ok (.iconst 0, 1) := dk_3 (dk_at dksX5_gap_3 0 rfl rfl)
theorem dX5_gap_73 : decode cX5_gap 73 = .ok (.iadd, 1) := dk_96 (dk_at dksX5_gap_3 1 rfl rfl)
theorem dX5_gap_74 : decode cX5_gap 74 = .ok (.istore 4, 2) := dk_54 4 (dk_at dksX5_gap_3 2 rfl rfl)
theorem dX5_gap_76 : decode cX5_gap 76 = .ok (.iload 5, 2) := dk_21 5 (dk_at dksX5_gap_3 4 rfl rfl)
theorem dX5_gap_78 : decode cX5_gap 78 = .ok (.aload_n 0, 1) := dk_42 (dk_at dksX5_gap_3 6 rfl rfl)
theorem dX5_gap_79 : decode cX5_gap 79 = .ok (.getfield 45, 3) := dk_180 0 45 (dk_at dksX5_gap_3 7 rfl rfl)
theorem dX5_gap_82 : decode cX5_gap 82 = .ok (.iload 6, 2) := dk_21 6 (dk_at dksX5_gap_3 10 rfl rfl)
theorem dX5_gap_84 : decode cX5_gap 84 = .ok (.iaload, 1) := dk_46 (dk_at dksX5_gap_3 12 rfl rfl)
theorem dX5_gap_85 : decode cX5_gap 85 = .ok (.iload_n 2, 1) := dk_28 (dk_at dksX5_gap_3 13 rfl rfl)
theorem dX5_gap_86 : decode cX5_gap 86 = .ok (.if_icmp .ne 17, 3) := dk_160 0 17 (dk_at dksX5_gap_3 14 rfl rfl)
theorem dX5_gap_89 : decode cX5_gap 89 = .ok (.aload_n 0, 1) := dk_42 (dk_at dksX5_gap_3 17 rfl rfl)
theorem dX5_gap_90 : decode cX5_gap 90 = .ok (.iload 6, 2) := dk_21 6 (dk_at dksX5_gap_3 18 rfl rfl)
theorem dX5_gap_92 : decode cX5_gap 92 = .ok (.invokevirtual 174, 3) := dk_182 0 174 (dk_at dksX5_gap_3 20 rfl rfl)
theorem dX5_gap_95 : decode cX5_gap 95 = .ok (.iload_n 3, 1) := dk_29 (dk_at dksX5_gap_3 23 rfl rfl)
theorem dX5_gap_96 : decode cX5_gap 96 = .ok (.if_icmp .ne 7, 3) := dk_160 0 7 (dk_at dksX5_gap_4 0 rfl rfl)
theorem dX5_gap_99 : decode cX5_gap 99 = .ok (.iconst 1, 1) := dk_4 (dk_at dksX5_gap_4 3 rfl rfl)
theorem dX5_gap_100 : decode cX5_gap 100 = .ok (.goto 4, 3) := dk_167 0 4 (dk_at dksX5_gap_4 4 rfl rfl)
theorem dX5_gap_103 : decode cX5_gap 103 = .ok (.iconst 0, 1) := dk_3 (dk_at dksX5_gap_4 7 rfl rfl)
theorem dX5_gap_104 : decode cX5_gap 104 = .ok (.iadd, 1) := dk_96 (dk_at dksX5_gap_4 8 rfl rfl)
theorem dX5_gap_105 : decode cX5_gap 105 = .ok (.istore 5, 2) := dk_54 5 (dk_at dksX5_gap_4 9 rfl rfl)
theorem dX5_gap_107 : decode cX5_gap 107 = .ok (.iinc 6 1, 3) := dk_132 6 1 (dk_at dksX5_gap_4 11 rfl rfl)
theorem dX5_gap_110 : decode cX5_gap 110 = .ok (.goto (-74), 3) := dk_167 255 182 (dk_at dksX5_gap_4 14 rfl rfl)
theorem dX5_gap_113 : decode cX5_gap 113 = .ok (.iload_n 1, 1) := dk_27 (dk_at dksX5_gap_4 17 rfl rfl)
theorem dX5_gap_114 : decode cX5_gap 114 = .ok (.iload 4, 2) := dk_21 4 (dk_at dksX5_gap_4 18 rfl rfl)
theorem dX5_gap_116 : decode cX5_gap 116 = .ok (.iconst 1, 1) := dk_4 (dk_at dksX5_gap_4 20 rfl rfl)
theorem dX5_gap_117 : decode cX5_gap 117 = .ok (.if_icmp .le 7, 3) := dk_164 0 7 (dk_at dksX5_gap_4 21 rfl rfl)
theorem dX5_gap_120 : decode cX5_gap 120 = .ok (.iconst 1, 1) := dk_4 (dk_at dksX5_gap_5 0 rfl rfl)
theorem dX5_gap_121 : decode cX5_gap 121 = .ok (.goto 4, 3) := dk_167 0 4 (dk_at dksX5_gap_5 1 rfl rfl)
theorem dX5_gap_124 : decode cX5_gap 124 = .ok (.iconst 0, 1) := dk_3 (dk_at dksX5_gap_5 4 rfl rfl)
theorem dX5_gap_125 : decode cX5_gap 125 = .ok (.iload 5, 2) := dk_21 5 (dk_at dksX5_gap_5 5 rfl rfl)
theorem dX5_gap_127 : decode cX5_gap 127 = .ok (.iconst 1, 1) := dk_4 (dk_at dksX5_gap_5 7 rfl rfl)
theorem dX5_gap_128 : decode cX5_gap 128 = .ok (.if_icmp .le 7, 3) := dk_164 0 7 (dk_at dksX5_gap_5 8 rfl rfl)
theorem dX5_gap_131 : decode cX5_gap 131 = .ok (.iconst 1, 1) := dk_4 (dk_at dksX5_gap_5 11 rfl rfl)
theorem dX5_gap_132 : decode cX5_gap 132 = .ok (.goto 4, 3) := dk_167 0 4 (dk_at dksX5_gap_5 12 rfl rfl)
theorem dX5_gap_135 : decode cX5_gap 135 = .ok (.iconst 0, 1) := dk_3 (dk_at dksX5_gap_5 15 rfl rfl)
theorem dX5_gap_136 : decode cX5_gap 136 = .ok (.iadd, 1) := dk_96 (dk_at dksX5_gap_5 16 rfl rfl)
theorem dX5_gap_137 : decode cX5_gap 137 = .ok (.iadd, 1) := dk_96 (dk_at dksX5_gap_5 17 rfl rfl)
theorem dX5_gap_138 : decode cX5_gap 138 = .ok (.istore_n 1, 1) := dk_60 (dk_at dksX5_gap_5 18 rfl rfl)
theorem dX5_gap_139 : decode cX5_gap 139 = .ok (.iinc 3 1, 3) := dk_132 3 1 (dk_at dksX5_gap_5 19 rfl rfl)
theorem dX5_gap_142 : decode cX5_gap 142 = .ok (.goto (-123), 3) := dk_167 255 133 (dk_at dksX5_gap_6 0 rfl rfl)
theorem dX5_gap_145 : decode cX5_gap 145 = .ok (.iload_n 1, 1) := dk_27 (dk_at dksX5_gap_6 3 rfl rfl)
theorem dX5_gap_146 : decode cX5_gap 146 = .ok (.aload_n 0, 1) := dk_42 (dk_at dksX5_gap_6 4 rfl rfl)
theorem dX5_gap_147 : decode cX5_gap 147 = .ok (.iload_n 2, 1) := dk_28 (dk_at dksX5_gap_6 5 rfl rfl)
theorem dX5_gap_148 : decode cX5_gap 148 = .ok (.invokevirtual 164, 3) := dk_182 0 164 (dk_at dksX5_gap_6 6 rfl rfl)
theorem dX5_gap_151 : decode cX5_gap 151 = .ok (.ifCond .eq 11, 3) := dk_153 0 11 (dk_at dksX5_gap_6 9 rfl rfl)
theorem dX5_gap_154 : decode cX5_gap 154 = .ok (.aload_n 0, 1) := dk_42 (dk_at dksX5_gap_6 12 rfl rfl)
theorem dX5_gap_155 : decode cX5_gap 155 = .ok (.iload_n 2, 1) := dk_28 (dk_at dksX5_gap_6 13 rfl rfl)
theorem dX5_gap_156 : decode cX5_gap 156 = .ok (.invokevirtual 192, 3) := dk_182 0 192 (dk_at dksX5_gap_6 14 rfl rfl)
theorem dX5_gap_159 : decode cX5_gap 159 = .ok (.goto 4, 3) := dk_167 0 4 (dk_at dksX5_gap_6 17 rfl rfl)
theorem dX5_gap_162 : decode cX5_gap 162 = .ok (.iconst 0, 1) := dk_3 (dk_at dksX5_gap_6 20 rfl rfl)
theorem dX5_gap_163 : decode cX5_gap 163 = .ok (.iadd, 1) := dk_96 (dk_at dksX5_gap_6 21 rfl rfl)
theorem dX5_gap_164 : decode cX5_gap 164 = .ok (.istore_n 1, 1) := dk_60 (dk_at dksX5_gap_6 22 rfl rfl)
theorem dX5_gap_165 : decode cX5_gap 165 = .ok (.iinc 2 1, 3) := dk_132 2 1 (dk_at dksX5_gap_7 0 rfl rfl)
theorem dX5_gap_168 : decode cX5_gap 168 = .ok (.goto (-159), 3) := dk_167 255 97 (dk_at dksX5_gap_7 3 rfl rfl)
theorem dX5_gap_171 : decode cX5_gap 171 = .ok (.aload_n 0, 1) := dk_42 (dk_at dksX5_gap_7 6 rfl rfl)
theorem dX5_gap_172 : decode cX5_gap 172 = .ok (.getfield 129, 3) := dk_180 0 129 (dk_at dksX5_gap_7 7 rfl rfl)
theorem dX5_gap_175 : decode cX5_gap 175 = .ok (.aload_n 0, 1) := dk_42 (dk_at dksX5_gap_7 10 rfl rfl)
theorem dX5_gap_176 : decode cX5_gap 176 = .ok (.getfield 81, 3) := dk_180 0 81 (dk_at dksX5_gap_7 11 rfl rfl)
theorem dX5_gap_179 : decode cX5_gap 179 = .ok (.iconst 0, 1) := dk_3 (dk_at dksX5_gap_7 14 rfl rfl)
theorem dX5_gap_180 : decode cX5_gap 180 = .ok (.iaload, 1) := dk_46 (dk_at dksX5_gap_7 15 rfl rfl)
theorem dX5_gap_181 : decode cX5_gap 181 = .ok (.isub, 1) := dk_100 (dk_at dksX5_gap_7 16 rfl rfl)
theorem dX5_gap_182 : decode cX5_gap 182 = .ok (.aload_n 0, 1) := dk_42 (dk_at dksX5_gap_7 17 rfl rfl)
theorem dX5_gap_183 : decode cX5_gap 183 = .ok (.getfield 81, 3) := dk_180 0 81 (dk_at dksX5_gap_7 18 rfl rfl)
theorem dX5_gap_186 : decode cX5_gap 186 = .ok (.bipush 6, 2) := dk_16 6 (dk_at dksX5_gap_7 21 rfl rfl)
theorem dX5_gap_188 : decode cX5_gap 188 = .ok (.iaload, 1) := dk_46 (dk_at dksX5_gap_7 23 rfl rfl)
theorem dX5_gap_189 : decode cX5_gap 189 = .ok (.isub, 1) := dk_100 (dk_at dksX5_gap_8 0 rfl rfl)
theorem dX5_gap_190 : decode cX5_gap 190 = .ok (.aload_n 0, 1) := dk_42 (dk_at dksX5_gap_8 1 rfl rfl)
theorem dX5_gap_191 : decode cX5_gap 191 = .ok (.getfield 81, 3) := dk_180 0 81 (dk_at dksX5_gap_8 2 rfl rfl)
theorem dX5_gap_194 : decode cX5_gap 194 = .ok (.bipush 7, 2) := dk_16 7 (dk_at dksX5_gap_8 5 rfl rfl)
theorem dX5_gap_196 : decode cX5_gap 196 = .ok (.iaload, 1) := dk_46 (dk_at dksX5_gap_8 7 rfl rfl)
theorem dX5_gap_197 : decode cX5_gap 197 = .ok (.isub, 1) := dk_100 (dk_at dksX5_gap_8 8 rfl rfl)
theorem dX5_gap_198 : decode cX5_gap 198 = .ok (.aload_n 0, 1) := dk_42 (dk_at dksX5_gap_8 9 rfl rfl)
theorem dX5_gap_199 : decode cX5_gap 199 = .ok (.getfield 132, 3) := dk_180 0 132 (dk_at dksX5_gap_8 10 rfl rfl)
theorem dX5_gap_202 : decode cX5_gap 202 = .ok (.isub, 1) := dk_100 (dk_at dksX5_gap_8 13 rfl rfl)
theorem dX5_gap_203 : decode cX5_gap 203 = .ok (.istore_n 2, 1) := dk_61 (dk_at dksX5_gap_8 14 rfl rfl)
theorem dX5_gap_204 : decode cX5_gap 204 = .ok (.iload_n 1, 1) := dk_27 (dk_at dksX5_gap_8 15 rfl rfl)
theorem dX5_gap_205 : decode cX5_gap 205 = .ok (.iload_n 2, 1) := dk_28 (dk_at dksX5_gap_8 16 rfl rfl)
theorem dX5_gap_206 : decode cX5_gap 206 = .ok (.ifCond .ge 8, 3) := dk_156 0 8 (dk_at dksX5_gap_8 17 rfl rfl)
theorem dX5_gap_209 : decode cX5_gap 209 = .ok (.iload_n 2, 1) := dk_28 (dk_at dksX5_gap_8 20 rfl rfl)
theorem dX5_gap_210 : decode cX5_gap 210 = .ok (.ineg, 1) := dk_116 (dk_at dksX5_gap_8 21 rfl rfl)
theorem dX5_gap_211 : decode cX5_gap 211 = .ok (.goto 4, 3) := dk_167 0 4 (dk_at dksX5_gap_9 0 rfl rfl)
theorem dX5_gap_214 : decode cX5_gap 214 = .ok (.iload_n 2, 1) := dk_28 (dk_at dksX5_gap_9 3 rfl rfl)
theorem dX5_gap_215 : decode cX5_gap 215 = .ok (.iadd, 1) := dk_96 (dk_at dksX5_gap_9 4 rfl rfl)
theorem dX5_gap_216 : decode cX5_gap 216 = .ok (.ireturn, 1) := dk_172 (dk_at dksX5_gap_9 5 rfl rfl)
abbrev cX5_fullness : ByteArray := prog_12_method_121_code
def yX5_fullness : MethodName := ⟨RX5, "fullness", "()F"⟩
def dkwX5_fullness_1 : List UInt8 := [180, 0, 132, 134, 27, 134, 110, 174]
abbrev dktX5_fullness_1 : List UInt8 := dkwX5_fullness_1 ++ []
def dkwX5_fullness_0 : List UInt8 := [42, 3, 181, 0, 106, 42, 182, 1, 170, 42, 180, 0, 20, 104, 60, 27, 154, 0, 7, 11, 167, 0, 11, 42]
abbrev dktX5_fullness_0 : List UInt8 := dkwX5_fullness_0 ++ dktX5_fullness_1
theorem dksX5_fullness_0 : cX5_fullness.data.toList.drop 0 = dktX5_fullness_0 := by decide +kernel
theorem dksX5_fullness_1 : cX5_fullness.data.toList.drop 24 = dktX5_fullness_1 := dk_seg dksX5_fullness_0 24 rfl rfl
theorem dX5_fullness_0 : decode cX5_fullness 0 = .ok (.aload_n 0, 1) := dk_42 (dk_at dksX5_fullness_0 0 rfl rfl)
theorem dX5_fullness_1 : decode cX5_fullness 1 = .ok (.iconst 0, 1) := dk_3 (dk_at dksX5_fullness_0 1 rfl rfl)
theorem dX5_fullness_2 : decode cX5_fullness 2 = .ok (.putfield 106, 3) := dk_181 0 106 (dk_at dksX5_fullness_0 2 rfl rfl)
theorem dX5_fullness_5 : decode cX5_fullness 5 = .ok (.aload_n 0, 1) := dk_42 (dk_at dksX5_fullness_0 5 rfl rfl)
theorem dX5_fullness_6 : decode cX5_fullness 6 = .ok (.invokevirtual 426, 3) := dk_182 1 170 (dk_at dksX5_fullness_0 6 rfl rfl)
theorem dX5_fullness_9 : decode cX5_fullness 9 = .ok (.aload_n 0, 1) := dk_42 (dk_at dksX5_fullness_0 9 rfl rfl)
theorem dX5_fullness_10 : decode cX5_fullness 10 = .ok (.getfield 20, 3) := dk_180 0 20 (dk_at dksX5_fullness_0 10 rfl rfl)
theorem dX5_fullness_13 : decode cX5_fullness 13 = .ok (.imul, 1) := dk_104 (dk_at dksX5_fullness_0 13 rfl rfl)
theorem dX5_fullness_14 : decode cX5_fullness 14 = .ok (.istore_n 1, 1) := dk_60 (dk_at dksX5_fullness_0 14 rfl rfl)
theorem dX5_fullness_15 : decode cX5_fullness 15 = .ok (.iload_n 1, 1) := dk_27 (dk_at dksX5_fullness_0 15 rfl rfl)
theorem dX5_fullness_16 : decode cX5_fullness 16 = .ok (.ifCond .ne 7, 3) := dk_154 0 7 (dk_at dksX5_fullness_0 16 rfl rfl)
theorem dX5_fullness_19 : decode cX5_fullness 19 = .ok (.fconst 0, 1) := dk_11 (dk_at dksX5_fullness_0 19 rfl rfl)
theorem dX5_fullness_20 : decode cX5_fullness 20 = .ok (.goto 11, 3) := dk_167 0 11 (dk_at dksX5_fullness_0 20 rfl rfl)
theorem dX5_fullness_23 : decode cX5_fullness 23 = .ok (.aload_n 0, 1) := dk_42 (dk_at dksX5_fullness_0 23 rfl rfl)
theorem dX5_fullness_24 : decode cX5_fullness 24 = .ok (.getfield 132, 3) := dk_180 0 132 (dk_at dksX5_fullness_1 0 rfl rfl)
theorem dX5_fullness_27 : decode cX5_fullness 27 = .ok (.i2f, 1) := dk_134 (dk_at dksX5_fullness_1 3 rfl rfl)
theorem dX5_fullness_28 : decode cX5_fullness 28 = .ok (.iload_n 1, 1) := dk_27 (dk_at dksX5_fullness_1 4 rfl rfl)
theorem dX5_fullness_29 : decode cX5_fullness 29 = .ok (.i2f, 1) := dk_134 (dk_at dksX5_fullness_1 5 rfl rfl)
theorem dX5_fullness_30 : decode cX5_fullness 30 = .ok (.fdiv, 1) := dk_110 (dk_at dksX5_fullness_1 6 rfl rfl)
theorem dX5_fullness_31 : decode cX5_fullness 31 = .ok (.freturn, 1) := dk_174 (dk_at dksX5_fullness_1 7 rfl rfl)
abbrev cX5_meanChain : ByteArray := prog_12_method_122_code
def yX5_meanChain : MethodName := ⟨RX5, "meanChain", "()D"⟩
def dkwX5_meanChain_1 : List UInt8 := [16, 9, 46, 135, 42, 180, 0, 81, 16, 8, 46, 135, 111, 175]
abbrev dktX5_meanChain_1 : List UInt8 := dkwX5_meanChain_1 ++ []
def dkwX5_meanChain_0 : List UInt8 := [42, 3, 181, 0, 106, 42, 180, 0, 81, 16, 8, 46, 154, 0, 7, 14, 167, 0, 20, 42, 180, 0, 81]
abbrev dktX5_meanChain_0 : List UInt8 := dkwX5_meanChain_0 ++ dktX5_meanChain_1
theorem dksX5_meanChain_0 : cX5_meanChain.data.toList.drop 0 = dktX5_meanChain_0 := by decide +kernel
theorem dksX5_meanChain_1 : cX5_meanChain.data.toList.drop 23 = dktX5_meanChain_1 := dk_seg dksX5_meanChain_0 23 rfl rfl
theorem dX5_meanChain_0 : decode cX5_meanChain 0 = .ok (.aload_n 0, 1) := dk_42 (dk_at dksX5_meanChain_0 0 rfl rfl)
theorem dX5_meanChain_1 : decode cX5_meanChain 1 = .ok (.iconst 0, 1) := dk_3 (dk_at dksX5_meanChain_0 1 rfl rfl)
theorem dX5_meanChain_2 : decode cX5_meanChain 2 = .ok (.putfield 106, 3) := dk_181 0 106 (dk_at dksX5_meanChain_0 2 rfl rfl)
theorem dX5_meanChain_5 : decode cX5_meanChain 5 = .ok (.aload_n 0, 1) := dk_42 (dk_at dksX5_meanChain_0 5 rfl rfl)
theorem dX5_meanChain_6 : decode cX5_meanChain 6 = .ok (.getfield 81, 3) := dk_180 0 81 (dk_at dksX5_meanChain_0 6 rfl rfl)
theorem dX5_meanChain_9 : decode cX5_meanChain 9 = .ok (.bipush 8, 2) := dk_16 8 (dk_at dksX5_meanChain_0 9 rfl rfl)
theorem dX5_meanChain_11 : decode cX5_meanChain 11 = .ok (.iaload, 1) := dk_46 (dk_at dksX5_meanChain_0 11 rfl rfl)
theorem dX5_meanChain_12 : decode cX5_meanChain 12 = .ok (.ifCond .ne 7, 3) := dk_154 0 7 (dk_at dksX5_meanChain_0 12 rfl rfl)
theorem dX5_meanChain_15 : decode cX5_meanChain 15 = .ok (.dconst 0, 1) := dk_14 (dk_at dksX5_meanChain_0 15 rfl rfl)
theorem dX5_meanChain_16 : decode cX5_meanChain 16 = .ok (.goto 20, 3) := dk_167 0 20 (dk_at dksX5_meanChain_0 16 rfl rfl)
theorem dX5_meanChain_19 : decode cX5_meanChain 19 = .ok (.aload_n 0, 1) := dk_42 (dk_at dksX5_meanChain_0 19 rfl rfl)
theorem dX5_meanChain_20 : decode cX5_meanChain 20 = .ok (.getfield 81, 3) := dk_180 0 81 (dk_at dksX5_meanChain_0 20 rfl rfl)
theorem dX5_meanChain_23 : decode cX5_meanChain 23 = .ok (.bipush 9, 2) := dk_16 9 (dk_at dksX5_meanChain_1 0 rfl rfl)
theorem dX5_meanChain_25 : decode cX5_meanChain 25 = .ok (.iaload, 1) := dk_46 (dk_at dksX5_meanChain_1 2 rfl rfl)
theorem dX5_meanChain_26 : decode cX5_meanChain 26 = .ok (.i2d, 1) := dk_135 (dk_at dksX5_meanChain_1 3 rfl rfl)
theorem dX5_meanChain_27 : decode cX5_meanChain 27 = .ok (.aload_n 0, 1) := dk_42 (dk_at dksX5_meanChain_1 4 rfl rfl)
theorem dX5_meanChain_28 : decode cX5_meanChain 28 = .ok (.getfield 81, 3) := dk_180 0 81 (dk_at dksX5_meanChain_1 5 rfl rfl)
theorem dX5_meanChain_31 : decode cX5_meanChain 31 = .ok (.bipush 8, 2) := dk_16 8 (dk_at dksX5_meanChain_1 8 rfl rfl)
theorem dX5_meanChain_33 : decode cX5_meanChain 33 = .ok (.iaload, 1) := dk_46 (dk_at dksX5_meanChain_1 10 rfl rfl)
theorem dX5_meanChain_34 : decode cX5_meanChain 34 = .ok (.i2d, 1) := dk_135 (dk_at dksX5_meanChain_1 11 rfl rfl)
theorem dX5_meanChain_35 : decode cX5_meanChain 35 = .ok (.ddiv, 1) := dk_111 (dk_at dksX5_meanChain_1 12 rfl rfl)
theorem dX5_meanChain_36 : decode cX5_meanChain 36 = .ok (.dreturn, 1) := dk_175 (dk_at dksX5_meanChain_1 13 rfl rfl)
abbrev cX5_writeMiddles : ByteArray := prog_12_method_125_code
def yX5_writeMiddles : MethodName := ⟨RX5, "writeMiddles", "()I"⟩
def dkwX5_writeMiddles_5 : List UInt8 := [132, 2, 1, 167, 255, 157, 132, 1, 1, 167, 255, 141, 42, 180, 1, 200, 172]
abbrev dktX5_writeMiddles_5 : List UInt8 := dkwX5_writeMiddles_5 ++ []
def dkwX5_writeMiddles_4 : List UInt8 := [21, 4, 96, 182, 1, 203, 4, 62, 132, 4, 1, 167, 255, 207, 29, 154, 0, 9, 42, 16, 46, 182, 1, 203]
abbrev dktX5_writeMiddles_4 : List UInt8 := dkwX5_writeMiddles_4 ++ dktX5_writeMiddles_5
def dkwX5_writeMiddles_3 : List UInt8 := [182, 0, 184, 54, 5, 21, 5, 2, 159, 0, 24, 42, 21, 5, 182, 0, 174, 28, 160, 0, 14, 42, 16, 48]
abbrev dktX5_writeMiddles_3 : List UInt8 := dkwX5_writeMiddles_3 ++ dktX5_writeMiddles_4
def dkwX5_writeMiddles_2 : List UInt8 := [182, 1, 203, 3, 62, 3, 54, 4, 21, 4, 42, 180, 0, 26, 162, 0, 46, 42, 21, 4, 27, 3]
abbrev dktX5_writeMiddles_2 : List UInt8 := dkwX5_writeMiddles_2 ++ dktX5_writeMiddles_3
def dkwX5_writeMiddles_1 : List UInt8 := [180, 0, 20, 162, 0, 97, 27, 28, 96, 158, 0, 18, 42, 28, 154, 0, 8, 16, 47, 167, 0, 5, 16, 32]
abbrev dktX5_writeMiddles_1 : List UInt8 := dkwX5_writeMiddles_1 ++ dktX5_writeMiddles_2
def dkwX5_writeMiddles_0 : List UInt8 := [42, 3, 181, 0, 106, 42, 3, 181, 1, 200, 3, 60, 27, 42, 180, 0, 20, 162, 0, 113, 3, 61, 28, 42]
abbrev dktX5_writeMiddles_0 : List UInt8 := dkwX5_writeMiddles_0 ++ dktX5_writeMiddles_1
theorem dksX5_writeMiddles_0 : cX5_writeMiddles.data.toList.drop 0 = dktX5_writeMiddles_0 := by decide +kernel
theorem dksX5_writeMiddles_1 : cX5_writeMiddles.data.toList.drop 24 = dktX5_writeMiddles_1 := dk_seg dksX5_writeMiddles_0 24 rfl rfl
theorem dksX5_writeMiddles_2 : cX5_writeMiddles.data.toList.drop 48 = dktX5_writeMiddles_2 := dk_seg dksX5_writeMiddles_1 24 rfl rfl
theorem dksX5_writeMiddles_3 : cX5_writeMiddles.data.toList.drop 70 = dktX5_writeMiddles_3 := dk_seg dksX5_writeMiddles_2 22 rfl rfl
theorem dksX5_writeMiddles_4 : cX5_writeMiddles.data.toList.drop 94 = dktX5_writeMiddles_4 := dk_seg dksX5_writeMiddles_3 24 rfl rfl
theorem dksX5_writeMiddles_5 : cX5_writeMiddles.data.toList.drop 118 = dktX5_writeMiddles_5 := dk_seg dksX5_writeMiddles_4 24 rfl rfl
theorem dX5_writeMiddles_0 : decode cX5_writeMiddles 0 = .ok (.aload_n 0, 1) := dk_42 (dk_at dksX5_writeMiddles_0 0 rfl rfl)
theorem dX5_writeMiddles_1 : decode cX5_writeMiddles 1 = .ok (.iconst 0, 1) := dk_3 (dk_at dksX5_writeMiddles_0 1 rfl rfl)
theorem dX5_writeMiddles_2 : decode cX5_writeMiddles 2 = .ok (.putfield 106, 3) := dk_181 0 106 (dk_at dksX5_writeMiddles_0 2 rfl rfl)
theorem dX5_writeMiddles_5 : decode cX5_writeMiddles 5 = .ok (.aload_n 0, 1) := dk_42 (dk_at dksX5_writeMiddles_0 5 rfl rfl)
theorem dX5_writeMiddles_6 : decode cX5_writeMiddles 6 = .ok (.iconst 0, 1) := dk_3 (dk_at dksX5_writeMiddles_0 6 rfl rfl)
theorem dX5_writeMiddles_7 : decode cX5_writeMiddles 7 = .ok (.putfield 456, 3) := dk_181 1 200 (dk_at dksX5_writeMiddles_0 7 rfl rfl)
theorem dX5_writeMiddles_10 : decode cX5_writeMiddles 10 = .ok (.iconst 0, 1) := dk_3 (dk_at dksX5_writeMiddles_0 10 rfl rfl)
theorem dX5_writeMiddles_11 : decode cX5_writeMiddles 11 = .ok (.istore_n 1, 1) := dk_60 (dk_at dksX5_writeMiddles_0 11 rfl rfl)
theorem dX5_writeMiddles_12 : decode cX5_writeMiddles 12 = .ok (.iload_n 1, 1) := dk_27 (dk_at dksX5_writeMiddles_0 12 rfl rfl)
theorem dX5_writeMiddles_13 : decode cX5_writeMiddles 13 = .ok (.aload_n 0, 1) := dk_42 (dk_at dksX5_writeMiddles_0 13 rfl rfl)
theorem dX5_writeMiddles_14 : decode cX5_writeMiddles 14 = .ok (.getfield 20, 3) := dk_180 0 20 (dk_at dksX5_writeMiddles_0 14 rfl rfl)
theorem dX5_writeMiddles_17 : decode cX5_writeMiddles 17 = .ok (.if_icmp .ge 113, 3) := dk_162 0 113 (dk_at dksX5_writeMiddles_0 17 rfl rfl)
theorem dX5_writeMiddles_20 : decode cX5_writeMiddles 20 = .ok (.iconst 0, 1) := dk_3 (dk_at dksX5_writeMiddles_0 20 rfl rfl)
theorem dX5_writeMiddles_21 : decode cX5_writeMiddles 21 = .ok (.istore_n 2, 1) := dk_61 (dk_at dksX5_writeMiddles_0 21 rfl rfl)
theorem dX5_writeMiddles_22 : decode cX5_writeMiddles 22 = .ok (.iload_n 2, 1) := dk_28 (dk_at dksX5_writeMiddles_0 22 rfl rfl)
theorem dX5_writeMiddles_23 : decode cX5_writeMiddles 23 = .ok (.aload_n 0, 1) := dk_42 (dk_at dksX5_writeMiddles_0 23 rfl rfl)
theorem dX5_writeMiddles_24 : decode cX5_writeMiddles 24 = .ok (.getfield 20, 3) := dk_180 0 20 (dk_at dksX5_writeMiddles_1 0 rfl rfl)
theorem dX5_writeMiddles_27 : decode cX5_writeMiddles 27 = .ok (.if_icmp .ge 97, 3) := dk_162 0 97 (dk_at dksX5_writeMiddles_1 3 rfl rfl)
theorem dX5_writeMiddles_30 : decode cX5_writeMiddles 30 = .ok (.iload_n 1, 1) := dk_27 (dk_at dksX5_writeMiddles_1 6 rfl rfl)
theorem dX5_writeMiddles_31 : decode cX5_writeMiddles 31 = .ok (.iload_n 2, 1) := dk_28 (dk_at dksX5_writeMiddles_1 7 rfl rfl)
theorem dX5_writeMiddles_32 : decode cX5_writeMiddles 32 = .ok (.iadd, 1) := dk_96 (dk_at dksX5_writeMiddles_1 8 rfl rfl)
theorem dX5_writeMiddles_33 : decode cX5_writeMiddles 33 = .ok (.ifCond .le 18, 3) := dk_158 0 18 (dk_at dksX5_writeMiddles_1 9 rfl rfl)
theorem dX5_writeMiddles_36 : decode cX5_writeMiddles 36 = .ok (.aload_n 0, 1) := dk_42 (dk_at dksX5_writeMiddles_1 12 rfl rfl)
theorem dX5_writeMiddles_37 : decode cX5_writeMiddles 37 = .ok (.iload_n 2, 1) := dk_28 (dk_at dksX5_writeMiddles_1 13 rfl rfl)
theorem dX5_writeMiddles_38 : decode cX5_writeMiddles 38 = .ok (.ifCond .ne 8, 3) := dk_154 0 8 (dk_at dksX5_writeMiddles_1 14 rfl rfl)
theorem dX5_writeMiddles_41 : decode cX5_writeMiddles 41 = .ok (.bipush 47, 2) := dk_16 47 (dk_at dksX5_writeMiddles_1 17 rfl rfl)
theorem dX5_writeMiddles_43 : decode cX5_writeMiddles 43 = .ok (.goto 5, 3) := dk_167 0 5 (dk_at dksX5_writeMiddles_1 19 rfl rfl)
theorem dX5_writeMiddles_46 : decode cX5_writeMiddles 46 = .ok (.bipush 32, 2) := dk_16 32 (dk_at dksX5_writeMiddles_1 22 rfl rfl)
theorem dX5_writeMiddles_48 : decode cX5_writeMiddles 48 = .ok (.invokevirtual 459, 3) := dk_182 1 203 (dk_at dksX5_writeMiddles_2 0 rfl rfl)
theorem dX5_writeMiddles_51 : decode cX5_writeMiddles 51 = .ok (.iconst 0, 1) := dk_3 (dk_at dksX5_writeMiddles_2 3 rfl rfl)
theorem dX5_writeMiddles_52 : decode cX5_writeMiddles 52 = .ok (.istore_n 3, 1) := dk_62 (dk_at dksX5_writeMiddles_2 4 rfl rfl)
theorem dX5_writeMiddles_53 : decode cX5_writeMiddles 53 = .ok (.iconst 0, 1) := dk_3 (dk_at dksX5_writeMiddles_2 5 rfl rfl)
theorem dX5_writeMiddles_54 : decode cX5_writeMiddles 54 = .ok (.istore 4, 2) := dk_54 4 (dk_at dksX5_writeMiddles_2 6 rfl rfl)
theorem dX5_writeMiddles_56 : decode cX5_writeMiddles 56 = .ok (.iload 4, 2) := dk_21 4 (dk_at dksX5_writeMiddles_2 8 rfl rfl)
theorem dX5_writeMiddles_58 : decode cX5_writeMiddles 58 = .ok (.aload_n 0, 1) := dk_42 (dk_at dksX5_writeMiddles_2 10 rfl rfl)
theorem dX5_writeMiddles_59 : decode cX5_writeMiddles 59 = .ok (.getfield 26, 3) := dk_180 0 26 (dk_at dksX5_writeMiddles_2 11 rfl rfl)
theorem dX5_writeMiddles_62 : decode cX5_writeMiddles 62 = .ok (.if_icmp .ge 46, 3) := dk_162 0 46 (dk_at dksX5_writeMiddles_2 14 rfl rfl)
theorem dX5_writeMiddles_65 : decode cX5_writeMiddles 65 = .ok (.aload_n 0, 1) := dk_42 (dk_at dksX5_writeMiddles_2 17 rfl rfl)
theorem dX5_writeMiddles_66 : decode cX5_writeMiddles 66 = .ok (.iload 4, 2) := dk_21 4 (dk_at dksX5_writeMiddles_2 18 rfl rfl)
theorem dX5_writeMiddles_68 : decode cX5_writeMiddles 68 = .ok (.iload_n 1, 1) := dk_27 (dk_at dksX5_writeMiddles_2 20 rfl rfl)
theorem dX5_writeMiddles_69 : decode cX5_writeMiddles 69 = .ok (.iconst 0, 1) := dk_3 (dk_at dksX5_writeMiddles_2 21 rfl rfl)
theorem dX5_writeMiddles_70 : decode cX5_writeMiddles 70 = .ok (.invokevirtual 184, 3) := dk_182 0 184 (dk_at dksX5_writeMiddles_3 0 rfl rfl)
theorem dX5_writeMiddles_73 : decode cX5_writeMiddles 73 = .ok (.istore 5, 2) := dk_54 5 (dk_at dksX5_writeMiddles_3 3 rfl rfl)
theorem dX5_writeMiddles_75 : decode cX5_writeMiddles 75 = .ok (.iload 5, 2) := dk_21 5 (dk_at dksX5_writeMiddles_3 5 rfl rfl)
theorem dX5_writeMiddles_77 : decode cX5_writeMiddles 77 = .ok (.iconst (-1), 1) := dk_2 (dk_at dksX5_writeMiddles_3 7 rfl rfl)
theorem dX5_writeMiddles_78 : decode cX5_writeMiddles 78 = .ok (.if_icmp .eq 24, 3) := dk_159 0 24 (dk_at dksX5_writeMiddles_3 8 rfl rfl)
theorem dX5_writeMiddles_81 : decode cX5_writeMiddles 81 = .ok (.aload_n 0, 1) := dk_42 (dk_at dksX5_writeMiddles_3 11 rfl rfl)
theorem dX5_writeMiddles_82 : decode cX5_writeMiddles 82 = .ok (.iload 5, 2) := dk_21 5 (dk_at dksX5_writeMiddles_3 12 rfl rfl)
theorem dX5_writeMiddles_84 : decode cX5_writeMiddles 84 = .ok (.invokevirtual 174, 3) := dk_182 0 174 (dk_at dksX5_writeMiddles_3 14 rfl rfl)
theorem dX5_writeMiddles_87 : decode cX5_writeMiddles 87 = .ok (.iload_n 2, 1) := dk_28 (dk_at dksX5_writeMiddles_3 17 rfl rfl)
theorem dX5_writeMiddles_88 : decode cX5_writeMiddles 88 = .ok (.if_icmp .ne 14, 3) := dk_160 0 14 (dk_at dksX5_writeMiddles_3 18 rfl rfl)
theorem dX5_writeMiddles_91 : decode cX5_writeMiddles 91 = .ok (.aload_n 0, 1) := dk_42 (dk_at dksX5_writeMiddles_3 21 rfl rfl)
theorem dX5_writeMiddles_92 : decode cX5_writeMiddles 92 = .ok (.bipush 48, 2) := dk_16 48 (dk_at dksX5_writeMiddles_3 22 rfl rfl)
theorem dX5_writeMiddles_94 : decode cX5_writeMiddles 94 = .ok (.iload 4, 2) := dk_21 4 (dk_at dksX5_writeMiddles_4 0 rfl rfl)
theorem dX5_writeMiddles_96 : decode cX5_writeMiddles 96 = .ok (.iadd, 1) := dk_96 (dk_at dksX5_writeMiddles_4 2 rfl rfl)
theorem dX5_writeMiddles_97 : decode cX5_writeMiddles 97 = .ok (.invokevirtual 459, 3) := dk_182 1 203 (dk_at dksX5_writeMiddles_4 3 rfl rfl)
theorem dX5_writeMiddles_100 : decode cX5_writeMiddles 100 = .ok (.iconst 1, 1) := dk_4 (dk_at dksX5_writeMiddles_4 6 rfl rfl)
theorem dX5_writeMiddles_101 : decode cX5_writeMiddles 101 = .ok (.istore_n 3, 1) := dk_62 (dk_at dksX5_writeMiddles_4 7 rfl rfl)
theorem dX5_writeMiddles_102 : decode cX5_writeMiddles 102 = .ok (.iinc 4 1, 3) := dk_132 4 1 (dk_at dksX5_writeMiddles_4 8 rfl rfl)
theorem dX5_writeMiddles_105 : decode cX5_writeMiddles 105 = .ok (.goto (-49), 3) := dk_167 255 207 (dk_at dksX5_writeMiddles_4 11 rfl rfl)
theorem dX5_writeMiddles_108 : decode cX5_writeMiddles 108 = .ok (.iload_n 3, 1) := dk_29 (dk_at dksX5_writeMiddles_4 14 rfl rfl)
theorem dX5_writeMiddles_109 : decode cX5_writeMiddles 109 = .ok (.ifCond .ne 9, 3) := dk_154 0 9 (dk_at dksX5_writeMiddles_4 15 rfl rfl)
theorem dX5_writeMiddles_112 : decode cX5_writeMiddles 112 = .ok (.aload_n 0, 1) := dk_42 (dk_at dksX5_writeMiddles_4 18 rfl rfl)
theorem dX5_writeMiddles_113 : decode cX5_writeMiddles 113 = .ok (.bipush 46, 2) := dk_16 46 (dk_at dksX5_writeMiddles_4 19 rfl rfl)
theorem dX5_writeMiddles_115 : decode cX5_writeMiddles 115 = .ok (.invokevirtual 459, 3) := dk_182 1 203 (dk_at dksX5_writeMiddles_4 21 rfl rfl)
theorem dX5_writeMiddles_118 : decode cX5_writeMiddles 118 = .ok (.iinc 2 1, 3) := dk_132 2 1 (dk_at dksX5_writeMiddles_5 0 rfl rfl)
theorem dX5_writeMiddles_121 : decode cX5_writeMiddles 121 = .ok (.goto (-99), 3) := dk_167 255 157 (dk_at dksX5_writeMiddles_5 3 rfl rfl)
theorem dX5_writeMiddles_124 : decode cX5_writeMiddles 124 = .ok (.iinc 1 1, 3) := dk_132 1 1 (dk_at dksX5_writeMiddles_5 6 rfl rfl)
theorem dX5_writeMiddles_127 : decode cX5_writeMiddles 127 = .ok (.goto (-115), 3) := dk_167 255 141 (dk_at dksX5_writeMiddles_5 9 rfl rfl)
theorem dX5_writeMiddles_130 : decode cX5_writeMiddles 130 = .ok (.aload_n 0, 1) := dk_42 (dk_at dksX5_writeMiddles_5 12 rfl rfl)
theorem dX5_writeMiddles_131 : decode cX5_writeMiddles 131 = .ok (.getfield 456, 3) := dk_180 1 200 (dk_at dksX5_writeMiddles_5 13 rfl rfl)
theorem dX5_writeMiddles_134 : decode cX5_writeMiddles 134 = .ok (.ireturn, 1) := dk_172 (dk_at dksX5_writeMiddles_5 16 rfl rfl)
abbrev cX5_writes : ByteArray := prog_12_method_123_code
def yX5_writes : MethodName := ⟨RX5, "writes", "(I)V"⟩
def dkwX5_writes_0 : List UInt8 := [42, 180, 0, 17, 42, 180, 1, 200, 27, 145, 84, 42, 89, 180, 1, 200, 4, 96, 181, 1, 200, 177]
abbrev dktX5_writes_0 : List UInt8 := dkwX5_writes_0 ++ []
theorem dksX5_writes_0 : cX5_writes.data.toList.drop 0 = dktX5_writes_0 := by decide +kernel
theorem dX5_writes_0 : decode cX5_writes 0 = .ok (.aload_n 0, 1) := dk_42 (dk_at dksX5_writes_0 0 rfl rfl)
theorem dX5_writes_1 : decode cX5_writes 1 = .ok (.getfield 17, 3) := dk_180 0 17 (dk_at dksX5_writes_0 1 rfl rfl)
theorem dX5_writes_4 : decode cX5_writes 4 = .ok (.aload_n 0, 1) := dk_42 (dk_at dksX5_writes_0 4 rfl rfl)
theorem dX5_writes_5 : decode cX5_writes 5 = .ok (.getfield 456, 3) := dk_180 1 200 (dk_at dksX5_writes_0 5 rfl rfl)
theorem dX5_writes_8 : decode cX5_writes 8 = .ok (.iload_n 1, 1) := dk_27 (dk_at dksX5_writes_0 8 rfl rfl)
theorem dX5_writes_9 : decode cX5_writes 9 = .ok (.i2b, 1) := dk_145 (dk_at dksX5_writes_0 9 rfl rfl)
theorem dX5_writes_10 : decode cX5_writes 10 = .ok (.bastore, 1) := dk_84 (dk_at dksX5_writes_0 10 rfl rfl)
theorem dX5_writes_11 : decode cX5_writes 11 = .ok (.aload_n 0, 1) := dk_42 (dk_at dksX5_writes_0 11 rfl rfl)
theorem dX5_writes_12 : decode cX5_writes 12 = .ok (.dup, 1) := dk_89 (dk_at dksX5_writes_0 12 rfl rfl)
theorem dX5_writes_13 : decode cX5_writes 13 = .ok (.getfield 456, 3) := dk_180 1 200 (dk_at dksX5_writes_0 13 rfl rfl)
theorem dX5_writes_16 : decode cX5_writes 16 = .ok (.iconst 1, 1) := dk_4 (dk_at dksX5_writes_0 16 rfl rfl)
theorem dX5_writes_17 : decode cX5_writes 17 = .ok (.iadd, 1) := dk_96 (dk_at dksX5_writes_0 17 rfl rfl)
theorem dX5_writes_18 : decode cX5_writes 18 = .ok (.putfield 456, 3) := dk_181 1 200 (dk_at dksX5_writes_0 18 rfl rfl)
theorem dX5_writes_21 : decode cX5_writes 21 = .ok (.return_, 1) := dk_177 (dk_at dksX5_writes_0 21 rfl rfl)
abbrev cX5_writeCalls : ByteArray := prog_12_method_126_code
def yX5_writeCalls : MethodName := ⟨RX5, "writeCalls", "()I"⟩
def dkwX5_writeCalls_4 : List UInt8 := [180, 1, 200, 172]
abbrev dktX5_writeCalls_4 : List UInt8 := dkwX5_writeCalls_4 ++ []
def dkwX5_writeCalls_3 : List UInt8 := [42, 16, 64, 182, 1, 203, 42, 42, 180, 0, 45, 27, 46, 182, 1, 206, 132, 1, 1, 167, 255, 177, 42]
abbrev dktX5_writeCalls_3 : List UInt8 := dkwX5_writeCalls_3 ++ dktX5_writeCalls_4
def dkwX5_writeCalls_2 : List UInt8 := [180, 0, 39, 27, 46, 182, 1, 206, 42, 16, 62, 182, 1, 203, 42, 42, 180, 0, 42, 27, 46, 182, 1, 206]
abbrev dktX5_writeCalls_2 : List UInt8 := dkwX5_writeCalls_2 ++ dktX5_writeCalls_3
def dkwX5_writeCalls_1 : List UInt8 := [42, 16, 32, 182, 1, 203, 42, 42, 180, 0, 35, 27, 46, 182, 1, 206, 42, 16, 58, 182, 1, 203, 42, 42]
abbrev dktX5_writeCalls_1 : List UInt8 := dkwX5_writeCalls_1 ++ dktX5_writeCalls_2
def dkwX5_writeCalls_0 : List UInt8 := [42, 3, 181, 0, 106, 42, 3, 181, 1, 200, 3, 60, 27, 42, 180, 0, 132, 162, 0, 77, 27, 158, 0, 9]
abbrev dktX5_writeCalls_0 : List UInt8 := dkwX5_writeCalls_0 ++ dktX5_writeCalls_1
theorem dksX5_writeCalls_0 : cX5_writeCalls.data.toList.drop 0 = dktX5_writeCalls_0 := by decide +kernel
theorem dksX5_writeCalls_1 : cX5_writeCalls.data.toList.drop 24 = dktX5_writeCalls_1 := dk_seg dksX5_writeCalls_0 24 rfl rfl
theorem dksX5_writeCalls_2 : cX5_writeCalls.data.toList.drop 48 = dktX5_writeCalls_2 := dk_seg dksX5_writeCalls_1 24 rfl rfl
theorem dksX5_writeCalls_3 : cX5_writeCalls.data.toList.drop 72 = dktX5_writeCalls_3 := dk_seg dksX5_writeCalls_2 24 rfl rfl
theorem dksX5_writeCalls_4 : cX5_writeCalls.data.toList.drop 95 = dktX5_writeCalls_4 := dk_seg dksX5_writeCalls_3 23 rfl rfl
theorem dX5_writeCalls_0 : decode cX5_writeCalls 0 = .ok (.aload_n 0, 1) := dk_42 (dk_at dksX5_writeCalls_0 0 rfl rfl)
theorem dX5_writeCalls_1 : decode cX5_writeCalls 1 = .ok (.iconst 0, 1) := dk_3 (dk_at dksX5_writeCalls_0 1 rfl rfl)
theorem dX5_writeCalls_2 : decode cX5_writeCalls 2 = .ok (.putfield 106, 3) := dk_181 0 106 (dk_at dksX5_writeCalls_0 2 rfl rfl)
theorem dX5_writeCalls_5 : decode cX5_writeCalls 5 = .ok (.aload_n 0, 1) := dk_42 (dk_at dksX5_writeCalls_0 5 rfl rfl)
theorem dX5_writeCalls_6 : decode cX5_writeCalls 6 = .ok (.iconst 0, 1) := dk_3 (dk_at dksX5_writeCalls_0 6 rfl rfl)
theorem dX5_writeCalls_7 : decode cX5_writeCalls 7 = .ok (.putfield 456, 3) := dk_181 1 200 (dk_at dksX5_writeCalls_0 7 rfl rfl)
theorem dX5_writeCalls_10 : decode cX5_writeCalls 10 = .ok (.iconst 0, 1) := dk_3 (dk_at dksX5_writeCalls_0 10 rfl rfl)
theorem dX5_writeCalls_11 : decode cX5_writeCalls 11 = .ok (.istore_n 1, 1) := dk_60 (dk_at dksX5_writeCalls_0 11 rfl rfl)
theorem dX5_writeCalls_12 : decode cX5_writeCalls 12 = .ok (.iload_n 1, 1) := dk_27 (dk_at dksX5_writeCalls_0 12 rfl rfl)
theorem dX5_writeCalls_13 : decode cX5_writeCalls 13 = .ok (.aload_n 0, 1) := dk_42 (dk_at dksX5_writeCalls_0 13 rfl rfl)
theorem dX5_writeCalls_14 : decode cX5_writeCalls 14 = .ok (.getfield 132, 3) := dk_180 0 132 (dk_at dksX5_writeCalls_0 14 rfl rfl)
theorem dX5_writeCalls_17 : decode cX5_writeCalls 17 = .ok (.if_icmp .ge 77, 3) := dk_162 0 77 (dk_at dksX5_writeCalls_0 17 rfl rfl)
theorem dX5_writeCalls_20 : decode cX5_writeCalls 20 = .ok (.iload_n 1, 1) := dk_27 (dk_at dksX5_writeCalls_0 20 rfl rfl)
theorem dX5_writeCalls_21 : decode cX5_writeCalls 21 = .ok (.ifCond .le 9, 3) := dk_158 0 9 (dk_at dksX5_writeCalls_0 21 rfl rfl)
theorem dX5_writeCalls_24 : decode cX5_writeCalls 24 = .ok (.aload_n 0, 1) := dk_42 (dk_at dksX5_writeCalls_1 0 rfl rfl)
theorem dX5_writeCalls_25 : decode cX5_writeCalls 25 = .ok (.bipush 32, 2) := dk_16 32 (dk_at dksX5_writeCalls_1 1 rfl rfl)
theorem dX5_writeCalls_27 : decode cX5_writeCalls 27 = .ok (.invokevirtual 459, 3) := dk_182 1 203 (dk_at dksX5_writeCalls_1 3 rfl rfl)
theorem dX5_writeCalls_30 : decode cX5_writeCalls 30 = .ok (.aload_n 0, 1) := dk_42 (dk_at dksX5_writeCalls_1 6 rfl rfl)
theorem dX5_writeCalls_31 : decode cX5_writeCalls 31 = .ok (.aload_n 0, 1) := dk_42 (dk_at dksX5_writeCalls_1 7 rfl rfl)
theorem dX5_writeCalls_32 : decode cX5_writeCalls 32 = .ok (.getfield 35, 3) := dk_180 0 35 (dk_at dksX5_writeCalls_1 8 rfl rfl)
theorem dX5_writeCalls_35 : decode cX5_writeCalls 35 = .ok (.iload_n 1, 1) := dk_27 (dk_at dksX5_writeCalls_1 11 rfl rfl)
theorem dX5_writeCalls_36 : decode cX5_writeCalls 36 = .ok (.iaload, 1) := dk_46 (dk_at dksX5_writeCalls_1 12 rfl rfl)
theorem dX5_writeCalls_37 : decode cX5_writeCalls 37 = .ok (.invokevirtual 462, 3) := dk_182 1 206 (dk_at dksX5_writeCalls_1 13 rfl rfl)
theorem dX5_writeCalls_40 : decode cX5_writeCalls 40 = .ok (.aload_n 0, 1) := dk_42 (dk_at dksX5_writeCalls_1 16 rfl rfl)
theorem dX5_writeCalls_41 : decode cX5_writeCalls 41 = .ok (.bipush 58, 2) := dk_16 58 (dk_at dksX5_writeCalls_1 17 rfl rfl)
theorem dX5_writeCalls_43 : decode cX5_writeCalls 43 = .ok (.invokevirtual 459, 3) := dk_182 1 203 (dk_at dksX5_writeCalls_1 19 rfl rfl)
theorem dX5_writeCalls_46 : decode cX5_writeCalls 46 = .ok (.aload_n 0, 1) := dk_42 (dk_at dksX5_writeCalls_1 22 rfl rfl)
theorem dX5_writeCalls_47 : decode cX5_writeCalls 47 = .ok (.aload_n 0, 1) := dk_42 (dk_at dksX5_writeCalls_1 23 rfl rfl)
theorem dX5_writeCalls_48 : decode cX5_writeCalls 48 = .ok (.getfield 39, 3) := dk_180 0 39 (dk_at dksX5_writeCalls_2 0 rfl rfl)
theorem dX5_writeCalls_51 : decode cX5_writeCalls 51 = .ok (.iload_n 1, 1) := dk_27 (dk_at dksX5_writeCalls_2 3 rfl rfl)
theorem dX5_writeCalls_52 : decode cX5_writeCalls 52 = .ok (.iaload, 1) := dk_46 (dk_at dksX5_writeCalls_2 4 rfl rfl)
theorem dX5_writeCalls_53 : decode cX5_writeCalls 53 = .ok (.invokevirtual 462, 3) := dk_182 1 206 (dk_at dksX5_writeCalls_2 5 rfl rfl)
theorem dX5_writeCalls_56 : decode cX5_writeCalls 56 = .ok (.aload_n 0, 1) := dk_42 (dk_at dksX5_writeCalls_2 8 rfl rfl)
theorem dX5_writeCalls_57 : decode cX5_writeCalls 57 = .ok (.bipush 62, 2) := dk_16 62 (dk_at dksX5_writeCalls_2 9 rfl rfl)
theorem dX5_writeCalls_59 : decode cX5_writeCalls 59 = .ok (.invokevirtual 459, 3) := dk_182 1 203 (dk_at dksX5_writeCalls_2 11 rfl rfl)
theorem dX5_writeCalls_62 : decode cX5_writeCalls 62 = .ok (.aload_n 0, 1) := dk_42 (dk_at dksX5_writeCalls_2 14 rfl rfl)
theorem dX5_writeCalls_63 : decode cX5_writeCalls 63 = .ok (.aload_n 0, 1) := dk_42 (dk_at dksX5_writeCalls_2 15 rfl rfl)
theorem dX5_writeCalls_64 : decode cX5_writeCalls 64 = .ok (.getfield 42, 3) := dk_180 0 42 (dk_at dksX5_writeCalls_2 16 rfl rfl)
theorem dX5_writeCalls_67 : decode cX5_writeCalls 67 = .ok (.iload_n 1, 1) := dk_27 (dk_at dksX5_writeCalls_2 19 rfl rfl)
theorem dX5_writeCalls_68 : decode cX5_writeCalls 68 = .ok (.iaload, 1) := dk_46 (dk_at dksX5_writeCalls_2 20 rfl rfl)
theorem dX5_writeCalls_69 : decode cX5_writeCalls 69 = .ok (.invokevirtual 462, 3) := dk_182 1 206 (dk_at dksX5_writeCalls_2 21 rfl rfl)
theorem dX5_writeCalls_72 : decode cX5_writeCalls 72 = .ok (.aload_n 0, 1) := dk_42 (dk_at dksX5_writeCalls_3 0 rfl rfl)
theorem dX5_writeCalls_73 : decode cX5_writeCalls 73 = .ok (.bipush 64, 2) := dk_16 64 (dk_at dksX5_writeCalls_3 1 rfl rfl)
theorem dX5_writeCalls_75 : decode cX5_writeCalls 75 = .ok (.invokevirtual 459, 3) := dk_182 1 203 (dk_at dksX5_writeCalls_3 3 rfl rfl)
theorem dX5_writeCalls_78 : decode cX5_writeCalls 78 = .ok (.aload_n 0, 1) := dk_42 (dk_at dksX5_writeCalls_3 6 rfl rfl)
theorem dX5_writeCalls_79 : decode cX5_writeCalls 79 = .ok (.aload_n 0, 1) := dk_42 (dk_at dksX5_writeCalls_3 7 rfl rfl)
theorem dX5_writeCalls_80 : decode cX5_writeCalls 80 = .ok (.getfield 45, 3) := dk_180 0 45 (dk_at dksX5_writeCalls_3 8 rfl rfl)
theorem dX5_writeCalls_83 : decode cX5_writeCalls 83 = .ok (.iload_n 1, 1) := dk_27 (dk_at dksX5_writeCalls_3 11 rfl rfl)
theorem dX5_writeCalls_84 : decode cX5_writeCalls 84 = .ok (.iaload, 1) := dk_46 (dk_at dksX5_writeCalls_3 12 rfl rfl)
theorem dX5_writeCalls_85 : decode cX5_writeCalls 85 = .ok (.invokevirtual 462, 3) := dk_182 1 206 (dk_at dksX5_writeCalls_3 13 rfl rfl)
theorem dX5_writeCalls_88 : decode cX5_writeCalls 88 = .ok (.iinc 1 1, 3) := dk_132 1 1 (dk_at dksX5_writeCalls_3 16 rfl rfl)
theorem dX5_writeCalls_91 : decode cX5_writeCalls 91 = .ok (.goto (-79), 3) := dk_167 255 177 (dk_at dksX5_writeCalls_3 19 rfl rfl)
theorem dX5_writeCalls_94 : decode cX5_writeCalls 94 = .ok (.aload_n 0, 1) := dk_42 (dk_at dksX5_writeCalls_3 22 rfl rfl)
theorem dX5_writeCalls_95 : decode cX5_writeCalls 95 = .ok (.getfield 456, 3) := dk_180 1 200 (dk_at dksX5_writeCalls_4 0 rfl rfl)
theorem dX5_writeCalls_98 : decode cX5_writeCalls 98 = .ok (.ireturn, 1) := dk_172 (dk_at dksX5_writeCalls_4 3 rfl rfl)
abbrev cX5_writesNumber : ByteArray := prog_12_method_124_code
def yX5_writesNumber : MethodName := ⟨RX5, "writesNumber", "(I)V"⟩
def dkwX5_writesNumber_1 : List UInt8 := [16, 48, 27, 28, 108, 16, 10, 112, 96, 182, 1, 203, 28, 16, 10, 108, 61, 167, 255, 234, 177]
abbrev dktX5_writesNumber_1 : List UInt8 := dkwX5_writesNumber_1 ++ []
def dkwX5_writesNumber_0 : List UInt8 := [4, 61, 27, 28, 108, 16, 10, 161, 0, 11, 28, 16, 10, 104, 61, 167, 255, 243, 28, 158, 0, 24, 42]
abbrev dktX5_writesNumber_0 : List UInt8 := dkwX5_writesNumber_0 ++ dktX5_writesNumber_1
theorem dksX5_writesNumber_0 : cX5_writesNumber.data.toList.drop 0 = dktX5_writesNumber_0 := by decide +kernel
theorem dksX5_writesNumber_1 : cX5_writesNumber.data.toList.drop 23 = dktX5_writesNumber_1 := dk_seg dksX5_writesNumber_0 23 rfl rfl
theorem dX5_writesNumber_0 : decode cX5_writesNumber 0 = .ok (.iconst 1, 1) := dk_4 (dk_at dksX5_writesNumber_0 0 rfl rfl)
theorem dX5_writesNumber_1 : decode cX5_writesNumber 1 = .ok (.istore_n 2, 1) := dk_61 (dk_at dksX5_writesNumber_0 1 rfl rfl)
theorem dX5_writesNumber_2 : decode cX5_writesNumber 2 = .ok (.iload_n 1, 1) := dk_27 (dk_at dksX5_writesNumber_0 2 rfl rfl)
theorem dX5_writesNumber_3 : decode cX5_writesNumber 3 = .ok (.iload_n 2, 1) := dk_28 (dk_at dksX5_writesNumber_0 3 rfl rfl)
theorem dX5_writesNumber_4 : decode cX5_writesNumber 4 = .ok (.idiv, 1) := dk_108 (dk_at dksX5_writesNumber_0 4 rfl rfl)
theorem dX5_writesNumber_5 : decode cX5_writesNumber 5 = .ok (.bipush 10, 2) := dk_16 10 (dk_at dksX5_writesNumber_0 5 rfl rfl)
theorem dX5_writesNumber_7 : decode cX5_writesNumber 7 = .ok (.if_icmp .lt 11, 3) := dk_161 0 11 (dk_at dksX5_writesNumber_0 7 rfl rfl)
theorem dX5_writesNumber_10 : decode cX5_writesNumber 10 = .ok (.iload_n 2, 1) := dk_28 (dk_at dksX5_writesNumber_0 10 rfl rfl)
theorem dX5_writesNumber_11 : decode cX5_writesNumber 11 = .ok (.bipush 10, 2) := dk_16 10 (dk_at dksX5_writesNumber_0 11 rfl rfl)
theorem dX5_writesNumber_13 : decode cX5_writesNumber 13 = .ok (.imul, 1) := dk_104 (dk_at dksX5_writesNumber_0 13 rfl rfl)
theorem dX5_writesNumber_14 : decode cX5_writesNumber 14 = .ok (.istore_n 2, 1) := dk_61 (dk_at dksX5_writesNumber_0 14 rfl rfl)
theorem dX5_writesNumber_15 : decode cX5_writesNumber 15 = .ok (.goto (-13), 3) := dk_167 255 243 (dk_at dksX5_writesNumber_0 15 rfl rfl)
theorem dX5_writesNumber_18 : decode cX5_writesNumber 18 = .ok (.iload_n 2, 1) := dk_28 (dk_at dksX5_writesNumber_0 18 rfl rfl)
theorem dX5_writesNumber_19 : decode cX5_writesNumber 19 = .ok (.ifCond .le 24, 3) := dk_158 0 24 (dk_at dksX5_writesNumber_0 19 rfl rfl)
theorem dX5_writesNumber_22 : decode cX5_writesNumber 22 = .ok (.aload_n 0, 1) := dk_42 (dk_at dksX5_writesNumber_0 22 rfl rfl)
theorem dX5_writesNumber_23 : decode cX5_writesNumber 23 = .ok (.bipush 48, 2) := dk_16 48 (dk_at dksX5_writesNumber_1 0 rfl rfl)
theorem dX5_writesNumber_25 : decode cX5_writesNumber 25 = .ok (.iload_n 1, 1) := dk_27 (dk_at dksX5_writesNumber_1 2 rfl rfl)
theorem dX5_writesNumber_26 : decode cX5_writesNumber 26 = .ok (.iload_n 2, 1) := dk_28 (dk_at dksX5_writesNumber_1 3 rfl rfl)
theorem dX5_writesNumber_27 : decode cX5_writesNumber 27 = .ok (.idiv, 1) := dk_108 (dk_at dksX5_writesNumber_1 4 rfl rfl)
theorem dX5_writesNumber_28 : decode cX5_writesNumber 28 = .ok (.bipush 10, 2) := dk_16 10 (dk_at dksX5_writesNumber_1 5 rfl rfl)
theorem dX5_writesNumber_30 : decode cX5_writesNumber 30 = .ok (.irem, 1) := dk_112 (dk_at dksX5_writesNumber_1 7 rfl rfl)
theorem dX5_writesNumber_31 : decode cX5_writesNumber 31 = .ok (.iadd, 1) := dk_96 (dk_at dksX5_writesNumber_1 8 rfl rfl)
theorem dX5_writesNumber_32 : decode cX5_writesNumber 32 = .ok (.invokevirtual 459, 3) := dk_182 1 203 (dk_at dksX5_writesNumber_1 9 rfl rfl)
theorem dX5_writesNumber_35 : decode cX5_writesNumber 35 = .ok (.iload_n 2, 1) := dk_28 (dk_at dksX5_writesNumber_1 12 rfl rfl)
theorem dX5_writesNumber_36 : decode cX5_writesNumber 36 = .ok (.bipush 10, 2) := dk_16 10 (dk_at dksX5_writesNumber_1 13 rfl rfl)
theorem dX5_writesNumber_38 : decode cX5_writesNumber 38 = .ok (.idiv, 1) := dk_108 (dk_at dksX5_writesNumber_1 15 rfl rfl)
theorem dX5_writesNumber_39 : decode cX5_writesNumber 39 = .ok (.istore_n 2, 1) := dk_61 (dk_at dksX5_writesNumber_1 16 rfl rfl)
theorem dX5_writesNumber_40 : decode cX5_writesNumber 40 = .ok (.goto (-22), 3) := dk_167 255 234 (dk_at dksX5_writesNumber_1 17 rfl rfl)
theorem dX5_writesNumber_43 : decode cX5_writesNumber 43 = .ok (.return_, 1) := dk_177 (dk_at dksX5_writesNumber_1 20 rfl rfl)
abbrev cX5_outputByte : ByteArray := prog_12_method_127_code
def yX5_outputByte : MethodName := ⟨RX5, "outputByte", "(I)I"⟩
def dkwX5_outputByte_1 : List UInt8 := [180, 0, 17, 27, 51, 172]
abbrev dktX5_outputByte_1 : List UInt8 := dkwX5_outputByte_1 ++ []
def dkwX5_outputByte_0 : List UInt8 := [42, 3, 181, 0, 106, 27, 155, 0, 11, 27, 42, 180, 1, 200, 161, 0, 7, 2, 167, 0, 9, 42]
abbrev dktX5_outputByte_0 : List UInt8 := dkwX5_outputByte_0 ++ dktX5_outputByte_1
theorem dksX5_outputByte_0 : cX5_outputByte.data.toList.drop 0 = dktX5_outputByte_0 := by decide +kernel
theorem dksX5_outputByte_1 : cX5_outputByte.data.toList.drop 22 = dktX5_outputByte_1 := dk_seg dksX5_outputByte_0 22 rfl rfl
theorem dX5_outputByte_0 : decode cX5_outputByte 0 = .ok (.aload_n 0, 1) := dk_42 (dk_at dksX5_outputByte_0 0 rfl rfl)
theorem dX5_outputByte_1 : decode cX5_outputByte 1 = .ok (.iconst 0, 1) := dk_3 (dk_at dksX5_outputByte_0 1 rfl rfl)
theorem dX5_outputByte_2 : decode cX5_outputByte 2 = .ok (.putfield 106, 3) := dk_181 0 106 (dk_at dksX5_outputByte_0 2 rfl rfl)
theorem dX5_outputByte_5 : decode cX5_outputByte 5 = .ok (.iload_n 1, 1) := dk_27 (dk_at dksX5_outputByte_0 5 rfl rfl)
theorem dX5_outputByte_6 : decode cX5_outputByte 6 = .ok (.ifCond .lt 11, 3) := dk_155 0 11 (dk_at dksX5_outputByte_0 6 rfl rfl)
theorem dX5_outputByte_9 : decode cX5_outputByte 9 = .ok (.iload_n 1, 1) := dk_27 (dk_at dksX5_outputByte_0 9 rfl rfl)
theorem dX5_outputByte_10 : decode cX5_outputByte 10 = .ok (.aload_n 0, 1) := dk_42 (dk_at dksX5_outputByte_0 10 rfl rfl)
theorem dX5_outputByte_11 : decode cX5_outputByte 11 = .ok (.getfield 456, 3) := dk_180 1 200 (dk_at dksX5_outputByte_0 11 rfl rfl)
theorem dX5_outputByte_14 : decode cX5_outputByte 14 = .ok (.if_icmp .lt 7, 3) := dk_161 0 7 (dk_at dksX5_outputByte_0 14 rfl rfl)
theorem dX5_outputByte_17 : decode cX5_outputByte 17 = .ok (.iconst (-1), 1) := dk_2 (dk_at dksX5_outputByte_0 17 rfl rfl)
theorem dX5_outputByte_18 : decode cX5_outputByte 18 = .ok (.goto 9, 3) := dk_167 0 9 (dk_at dksX5_outputByte_0 18 rfl rfl)
theorem dX5_outputByte_21 : decode cX5_outputByte 21 = .ok (.aload_n 0, 1) := dk_42 (dk_at dksX5_outputByte_0 21 rfl rfl)
theorem dX5_outputByte_22 : decode cX5_outputByte 22 = .ok (.getfield 17, 3) := dk_180 0 17 (dk_at dksX5_outputByte_1 0 rfl rfl)
theorem dX5_outputByte_25 : decode cX5_outputByte 25 = .ok (.iload_n 1, 1) := dk_27 (dk_at dksX5_outputByte_1 3 rfl rfl)
theorem dX5_outputByte_26 : decode cX5_outputByte 26 = .ok (.baload, 1) := dk_51 (dk_at dksX5_outputByte_1 4 rfl rfl)
theorem dX5_outputByte_27 : decode cX5_outputByte 27 = .ok (.ireturn, 1) := dk_172 (dk_at dksX5_outputByte_1 5 rfl rfl)
theorem q187 : (Jvm.Cond.initialized "CrossbarExchangeModel") ∈ lw_all := lw_g (lw_at lw_m1 36 rfl) rfl
theorem q501 : (Jvm.Cond.selects "CrossbarExchangeModel" ({ cls := "java/lang/Object", name := "getClass", desc := "()Ljava/lang/Class;" } : Jvm.MethodName) ({ cls := "java/lang/Object", name := "getClass", desc := "()Ljava/lang/Class;" } : Jvm.MethodName)) ∈ lw_all := lw_g (lw_at lw_m2 110 rfl) rfl
theorem q577 : (Jvm.Cond.selects "CrossbarExchangeModel" ({ cls := "java/lang/Object", name := "hashCode", desc := "()I" } : Jvm.MethodName) ({ cls := "java/lang/Object", name := "hashCode", desc := "()I" } : Jvm.MethodName)) ∈ lw_all := lw_g (lw_at lw_m2 186 rfl) rfl
theorem q1312 : (Jvm.Cond.selects "CrossbarExchangeModel" ({ cls := "java/lang/Object", name := "equals", desc := "(Ljava/lang/Object;)Z" } : Jvm.MethodName) ({ cls := "java/lang/Object", name := "equals", desc := "(Ljava/lang/Object;)Z" } : Jvm.MethodName)) ∈ lw_all := lw_g (lw_at lw_m5 201 rfl) rfl
theorem q2798 : (Jvm.Cond.instantiable "CrossbarExchangeModel" (53 : Nat)) ∈ lw_all := lw_g (lw_at lw_m12 7 rfl) rfl
theorem q2800 : (Jvm.Cond.instanceMethod ({ cls := "CrossbarExchangeModel", name := "<init>", desc := "()V" } : Jvm.MethodName)) ∈ lw_all := lw_g (lw_at lw_m12 9 rfl) rfl
theorem q2801 : (Jvm.Cond.code ({ cls := "CrossbarExchangeModel", name := "<init>", desc := "()V" } : Jvm.MethodName) prog_12_method_1_code (1 : Nat) (Option.none : Option Jvm.ClassFile.FieldType)) ∈ lw_all := lw_g (lw_at lw_m12 10 rfl) rfl
theorem q2802 : (Jvm.Cond.methodLink "CrossbarExchangeModel" (1 : Nat) ({ cls := "java/lang/Object", name := "<init>", desc := "()V" } : Jvm.MethodName)) ∈ lw_all := lw_g (lw_at lw_m12 11 rfl) rfl
theorem q2803 : (Jvm.Cond.fieldLink "CrossbarExchangeModel" (106 : Nat) "CrossbarExchangeModel" "code" "I") ∈ lw_all := lw_g (lw_at lw_m12 12 rfl) rfl
theorem q2804 : (Jvm.Cond.fieldLink "CrossbarExchangeModel" (7 : Nat) "CrossbarExchangeModel" "input" "[B") ∈ lw_all := lw_g (lw_at lw_m12 13 rfl) rfl
theorem q2805 : (Jvm.Cond.fieldLink "CrossbarExchangeModel" (109 : Nat) "CrossbarExchangeModel" "inputLength" "I") ∈ lw_all := lw_g (lw_at lw_m12 14 rfl) rfl
theorem q2806 : (Jvm.Cond.fieldLink "CrossbarExchangeModel" (282 : Nat) "CrossbarExchangeModel" "error" "I") ∈ lw_all := lw_g (lw_at lw_m12 15 rfl) rfl
theorem q2807 : (Jvm.Cond.fieldLink "CrossbarExchangeModel" (13 : Nat) "CrossbarExchangeModel" "position" "I") ∈ lw_all := lw_g (lw_at lw_m12 16 rfl) rfl
theorem q2808 : (Jvm.Cond.fieldLink "CrossbarExchangeModel" (17 : Nat) "CrossbarExchangeModel" "out" "[B") ∈ lw_all := lw_g (lw_at lw_m12 17 rfl) rfl
theorem q2809 : (Jvm.Cond.fieldLink "CrossbarExchangeModel" (456 : Nat) "CrossbarExchangeModel" "outLength" "I") ∈ lw_all := lw_g (lw_at lw_m12 18 rfl) rfl
theorem q2810 : (Jvm.Cond.fieldLink "CrossbarExchangeModel" (20 : Nat) "CrossbarExchangeModel" "switches" "I") ∈ lw_all := lw_g (lw_at lw_m12 19 rfl) rfl
theorem q2811 : (Jvm.Cond.fieldLink "CrossbarExchangeModel" (23 : Nat) "CrossbarExchangeModel" "lines" "I") ∈ lw_all := lw_g (lw_at lw_m12 20 rfl) rfl
theorem q2812 : (Jvm.Cond.fieldLink "CrossbarExchangeModel" (26 : Nat) "CrossbarExchangeModel" "middles" "I") ∈ lw_all := lw_g (lw_at lw_m12 21 rfl) rfl
theorem q2813 : (Jvm.Cond.fieldLink "CrossbarExchangeModel" (120 : Nat) "CrossbarExchangeModel" "cutSet" "I") ∈ lw_all := lw_g (lw_at lw_m12 22 rfl) rfl
theorem q2814 : (Jvm.Cond.fieldLink "CrossbarExchangeModel" (29 : Nat) "CrossbarExchangeModel" "mode" "I") ∈ lw_all := lw_g (lw_at lw_m12 23 rfl) rfl
theorem q2815 : (Jvm.Cond.fieldLink "CrossbarExchangeModel" (123 : Nat) "CrossbarExchangeModel" "hunt" "I") ∈ lw_all := lw_g (lw_at lw_m12 24 rfl) rfl
theorem q2816 : (Jvm.Cond.fieldLink "CrossbarExchangeModel" (126 : Nat) "CrossbarExchangeModel" "tick" "I") ∈ lw_all := lw_g (lw_at lw_m12 25 rfl) rfl
theorem q2817 : (Jvm.Cond.fieldLink "CrossbarExchangeModel" (32 : Nat) "CrossbarExchangeModel" "latest" "I") ∈ lw_all := lw_g (lw_at lw_m12 26 rfl) rfl
theorem q2818 : (Jvm.Cond.fieldLink "CrossbarExchangeModel" (129 : Nat) "CrossbarExchangeModel" "begun" "I") ∈ lw_all := lw_g (lw_at lw_m12 27 rfl) rfl
theorem q2819 : (Jvm.Cond.fieldLink "CrossbarExchangeModel" (132 : Nat) "CrossbarExchangeModel" "calls" "I") ∈ lw_all := lw_g (lw_at lw_m12 28 rfl) rfl
theorem q2820 : (Jvm.Cond.fieldLink "CrossbarExchangeModel" (35 : Nat) "CrossbarExchangeModel" "number" "[I") ∈ lw_all := lw_g (lw_at lw_m12 29 rfl) rfl
theorem q2821 : (Jvm.Cond.fieldLink "CrossbarExchangeModel" (39 : Nat) "CrossbarExchangeModel" "caller" "[I") ∈ lw_all := lw_g (lw_at lw_m12 30 rfl) rfl
theorem q2822 : (Jvm.Cond.fieldLink "CrossbarExchangeModel" (42 : Nat) "CrossbarExchangeModel" "callee" "[I") ∈ lw_all := lw_g (lw_at lw_m12 31 rfl) rfl
theorem q2823 : (Jvm.Cond.fieldLink "CrossbarExchangeModel" (45 : Nat) "CrossbarExchangeModel" "middle" "[I") ∈ lw_all := lw_g (lw_at lw_m12 32 rfl) rfl
theorem q2824 : (Jvm.Cond.fieldLink "CrossbarExchangeModel" (48 : Nat) "CrossbarExchangeModel" "began" "[I") ∈ lw_all := lw_g (lw_at lw_m12 33 rfl) rfl
theorem q2825 : (Jvm.Cond.fieldLink "CrossbarExchangeModel" (51 : Nat) "CrossbarExchangeModel" "lasts" "[I") ∈ lw_all := lw_g (lw_at lw_m12 34 rfl) rfl
theorem q2826 : (Jvm.Cond.fieldLink "CrossbarExchangeModel" (54 : Nat) "CrossbarExchangeModel" "moved" "[I") ∈ lw_all := lw_g (lw_at lw_m12 35 rfl) rfl
theorem q2827 : (Jvm.Cond.fieldLink "CrossbarExchangeModel" (135 : Nat) "CrossbarExchangeModel" "waiters" "I") ∈ lw_all := lw_g (lw_at lw_m12 36 rfl) rfl
theorem q2828 : (Jvm.Cond.fieldLink "CrossbarExchangeModel" (57 : Nat) "CrossbarExchangeModel" "waiter" "[I") ∈ lw_all := lw_g (lw_at lw_m12 37 rfl) rfl
theorem q2829 : (Jvm.Cond.fieldLink "CrossbarExchangeModel" (60 : Nat) "CrossbarExchangeModel" "waitsFor" "[I") ∈ lw_all := lw_g (lw_at lw_m12 38 rfl) rfl
theorem q2830 : (Jvm.Cond.fieldLink "CrossbarExchangeModel" (63 : Nat) "CrossbarExchangeModel" "waitLasts" "[I") ∈ lw_all := lw_g (lw_at lw_m12 39 rfl) rfl
theorem q2831 : (Jvm.Cond.fieldLink "CrossbarExchangeModel" (66 : Nat) "CrossbarExchangeModel" "waitsSince" "[I") ∈ lw_all := lw_g (lw_at lw_m12 40 rfl) rfl
theorem q2832 : (Jvm.Cond.fieldLink "CrossbarExchangeModel" (103 : Nat) "CrossbarExchangeModel" "groups" "I") ∈ lw_all := lw_g (lw_at lw_m12 41 rfl) rfl
theorem q2833 : (Jvm.Cond.fieldLink "CrossbarExchangeModel" (69 : Nat) "CrossbarExchangeModel" "nameLength" "[I") ∈ lw_all := lw_g (lw_at lw_m12 42 rfl) rfl
theorem q2834 : (Jvm.Cond.fieldLink "CrossbarExchangeModel" (72 : Nat) "CrossbarExchangeModel" "nameBytes" "[I") ∈ lw_all := lw_g (lw_at lw_m12 43 rfl) rfl
theorem q2835 : (Jvm.Cond.fieldLink "CrossbarExchangeModel" (75 : Nat) "CrossbarExchangeModel" "memberCount" "[I") ∈ lw_all := lw_g (lw_at lw_m12 44 rfl) rfl
theorem q2836 : (Jvm.Cond.fieldLink "CrossbarExchangeModel" (78 : Nat) "CrossbarExchangeModel" "members" "[I") ∈ lw_all := lw_g (lw_at lw_m12 45 rfl) rfl
theorem q2837 : (Jvm.Cond.fieldLink "CrossbarExchangeModel" (81 : Nat) "CrossbarExchangeModel" "accounts" "[I") ∈ lw_all := lw_g (lw_at lw_m12 46 rfl) rfl
theorem q2838 : (Jvm.Cond.fieldLink "CrossbarExchangeModel" (84 : Nat) "CrossbarExchangeModel" "images" "[I") ∈ lw_all := lw_g (lw_at lw_m12 47 rfl) rfl
theorem q2839 : (Jvm.Cond.fieldLink "CrossbarExchangeModel" (151 : Nat) "CrossbarExchangeModel" "oldest" "I") ∈ lw_all := lw_g (lw_at lw_m12 48 rfl) rfl
theorem q2840 : (Jvm.Cond.fieldLink "CrossbarExchangeModel" (148 : Nat) "CrossbarExchangeModel" "undoable" "I") ∈ lw_all := lw_g (lw_at lw_m12 49 rfl) rfl
theorem q2841 : (Jvm.Cond.fieldLink "CrossbarExchangeModel" (87 : Nat) "CrossbarExchangeModel" "inSlot" "[Z") ∈ lw_all := lw_g (lw_at lw_m12 50 rfl) rfl
theorem q2842 : (Jvm.Cond.fieldLink "CrossbarExchangeModel" (91 : Nat) "CrossbarExchangeModel" "links" "[I") ∈ lw_all := lw_g (lw_at lw_m12 51 rfl) rfl
theorem q2843 : (Jvm.Cond.fieldLink "CrossbarExchangeModel" (94 : Nat) "CrossbarExchangeModel" "trial" "[I") ∈ lw_all := lw_g (lw_at lw_m12 52 rfl) rfl
theorem q2844 : (Jvm.Cond.fieldLink "CrossbarExchangeModel" (195 : Nat) "CrossbarExchangeModel" "chainSize" "I") ∈ lw_all := lw_g (lw_at lw_m12 53 rfl) rfl
theorem q2845 : (Jvm.Cond.fieldLink "CrossbarExchangeModel" (202 : Nat) "CrossbarExchangeModel" "chainP" "I") ∈ lw_all := lw_g (lw_at lw_m12 54 rfl) rfl
theorem q2846 : (Jvm.Cond.fieldLink "CrossbarExchangeModel" (205 : Nat) "CrossbarExchangeModel" "chainQ" "I") ∈ lw_all := lw_g (lw_at lw_m12 55 rfl) rfl
theorem q2847 : (Jvm.Cond.fieldLink "CrossbarExchangeModel" (208 : Nat) "CrossbarExchangeModel" "chainIsFirst" "Z") ∈ lw_all := lw_g (lw_at lw_m12 56 rfl) rfl
theorem q2848 : (Jvm.Cond.fieldLink "CrossbarExchangeModel" (97 : Nat) "CrossbarExchangeModel" "before" "[I") ∈ lw_all := lw_g (lw_at lw_m12 57 rfl) rfl
theorem q2849 : (Jvm.Cond.fieldLink "CrossbarExchangeModel" (285 : Nat) "CrossbarExchangeModel" "at" "I") ∈ lw_all := lw_g (lw_at lw_m12 58 rfl) rfl
theorem q2850 : (Jvm.Cond.fieldLink "CrossbarExchangeModel" (288 : Nat) "CrossbarExchangeModel" "start" "I") ∈ lw_all := lw_g (lw_at lw_m12 59 rfl) rfl
theorem q2851 : (Jvm.Cond.fieldLink "CrossbarExchangeModel" (297 : Nat) "CrossbarExchangeModel" "kind" "I") ∈ lw_all := lw_g (lw_at lw_m12 60 rfl) rfl
theorem q2852 : (Jvm.Cond.fieldLink "CrossbarExchangeModel" (291 : Nat) "CrossbarExchangeModel" "length" "I") ∈ lw_all := lw_g (lw_at lw_m12 61 rfl) rfl
theorem q2853 : (Jvm.Cond.fieldLink "CrossbarExchangeModel" (294 : Nat) "CrossbarExchangeModel" "value" "I") ∈ lw_all := lw_g (lw_at lw_m12 62 rfl) rfl
theorem q2854 : (Jvm.Cond.fieldLink "CrossbarExchangeModel" (100 : Nat) "CrossbarExchangeModel" "told" "[I") ∈ lw_all := lw_g (lw_at lw_m12 63 rfl) rfl
theorem q2855 : (Jvm.Cond.fieldLink "CrossbarExchangeModel" (142 : Nat) "CrossbarExchangeModel" "place" "I") ∈ lw_all := lw_g (lw_at lw_m12 64 rfl) rfl
theorem q2856 : (Jvm.Cond.lays "CrossbarExchangeModel" "CrossbarExchangeModel" "code" "I") ∈ lw_all := lw_g (lw_at lw_m12 65 rfl) rfl
theorem q2857 : (Jvm.Cond.soleField "CrossbarExchangeModel" "code") ∈ lw_all := lw_g (lw_at lw_m12 66 rfl) rfl
theorem q2858 : (Jvm.Cond.laysFinal "CrossbarExchangeModel" "CrossbarExchangeModel" "input" "[B") ∈ lw_all := lw_g (lw_at lw_m12 67 rfl) rfl
theorem q2859 : (Jvm.Cond.soleField "CrossbarExchangeModel" "input") ∈ lw_all := lw_g (lw_at lw_m12 68 rfl) rfl
theorem q2860 : (Jvm.Cond.lays "CrossbarExchangeModel" "CrossbarExchangeModel" "inputLength" "I") ∈ lw_all := lw_g (lw_at lw_m12 69 rfl) rfl
theorem q2861 : (Jvm.Cond.soleField "CrossbarExchangeModel" "inputLength") ∈ lw_all := lw_g (lw_at lw_m12 70 rfl) rfl
theorem q2862 : (Jvm.Cond.lays "CrossbarExchangeModel" "CrossbarExchangeModel" "error" "I") ∈ lw_all := lw_g (lw_at lw_m12 71 rfl) rfl
theorem q2863 : (Jvm.Cond.soleField "CrossbarExchangeModel" "error") ∈ lw_all := lw_g (lw_at lw_m12 72 rfl) rfl
theorem q2864 : (Jvm.Cond.lays "CrossbarExchangeModel" "CrossbarExchangeModel" "position" "I") ∈ lw_all := lw_g (lw_at lw_m12 73 rfl) rfl
theorem q2865 : (Jvm.Cond.soleField "CrossbarExchangeModel" "position") ∈ lw_all := lw_g (lw_at lw_m12 74 rfl) rfl
theorem q2866 : (Jvm.Cond.laysFinal "CrossbarExchangeModel" "CrossbarExchangeModel" "out" "[B") ∈ lw_all := lw_g (lw_at lw_m12 75 rfl) rfl
theorem q2867 : (Jvm.Cond.soleField "CrossbarExchangeModel" "out") ∈ lw_all := lw_g (lw_at lw_m12 76 rfl) rfl
theorem q2868 : (Jvm.Cond.lays "CrossbarExchangeModel" "CrossbarExchangeModel" "outLength" "I") ∈ lw_all := lw_g (lw_at lw_m12 77 rfl) rfl
theorem q2869 : (Jvm.Cond.soleField "CrossbarExchangeModel" "outLength") ∈ lw_all := lw_g (lw_at lw_m12 78 rfl) rfl
theorem q2870 : (Jvm.Cond.lays "CrossbarExchangeModel" "CrossbarExchangeModel" "switches" "I") ∈ lw_all := lw_g (lw_at lw_m12 79 rfl) rfl
theorem q2871 : (Jvm.Cond.soleField "CrossbarExchangeModel" "switches") ∈ lw_all := lw_g (lw_at lw_m12 80 rfl) rfl
theorem q2872 : (Jvm.Cond.lays "CrossbarExchangeModel" "CrossbarExchangeModel" "lines" "I") ∈ lw_all := lw_g (lw_at lw_m12 81 rfl) rfl
theorem q2873 : (Jvm.Cond.soleField "CrossbarExchangeModel" "lines") ∈ lw_all := lw_g (lw_at lw_m12 82 rfl) rfl
theorem q2874 : (Jvm.Cond.lays "CrossbarExchangeModel" "CrossbarExchangeModel" "middles" "I") ∈ lw_all := lw_g (lw_at lw_m12 83 rfl) rfl
theorem q2875 : (Jvm.Cond.soleField "CrossbarExchangeModel" "middles") ∈ lw_all := lw_g (lw_at lw_m12 84 rfl) rfl
theorem q2876 : (Jvm.Cond.lays "CrossbarExchangeModel" "CrossbarExchangeModel" "cutSet" "I") ∈ lw_all := lw_g (lw_at lw_m12 85 rfl) rfl
theorem q2877 : (Jvm.Cond.soleField "CrossbarExchangeModel" "cutSet") ∈ lw_all := lw_g (lw_at lw_m12 86 rfl) rfl
theorem q2878 : (Jvm.Cond.lays "CrossbarExchangeModel" "CrossbarExchangeModel" "mode" "I") ∈ lw_all := lw_g (lw_at lw_m12 87 rfl) rfl
theorem q2879 : (Jvm.Cond.soleField "CrossbarExchangeModel" "mode") ∈ lw_all := lw_g (lw_at lw_m12 88 rfl) rfl
theorem q2880 : (Jvm.Cond.lays "CrossbarExchangeModel" "CrossbarExchangeModel" "hunt" "I") ∈ lw_all := lw_g (lw_at lw_m12 89 rfl) rfl
theorem q2881 : (Jvm.Cond.soleField "CrossbarExchangeModel" "hunt") ∈ lw_all := lw_g (lw_at lw_m12 90 rfl) rfl
theorem q2882 : (Jvm.Cond.lays "CrossbarExchangeModel" "CrossbarExchangeModel" "tick" "I") ∈ lw_all := lw_g (lw_at lw_m12 91 rfl) rfl
theorem q2883 : (Jvm.Cond.soleField "CrossbarExchangeModel" "tick") ∈ lw_all := lw_g (lw_at lw_m12 92 rfl) rfl
theorem q2884 : (Jvm.Cond.lays "CrossbarExchangeModel" "CrossbarExchangeModel" "latest" "I") ∈ lw_all := lw_g (lw_at lw_m12 93 rfl) rfl
theorem q2885 : (Jvm.Cond.soleField "CrossbarExchangeModel" "latest") ∈ lw_all := lw_g (lw_at lw_m12 94 rfl) rfl
theorem q2886 : (Jvm.Cond.lays "CrossbarExchangeModel" "CrossbarExchangeModel" "begun" "I") ∈ lw_all := lw_g (lw_at lw_m12 95 rfl) rfl
theorem q2887 : (Jvm.Cond.soleField "CrossbarExchangeModel" "begun") ∈ lw_all := lw_g (lw_at lw_m12 96 rfl) rfl
theorem q2888 : (Jvm.Cond.lays "CrossbarExchangeModel" "CrossbarExchangeModel" "calls" "I") ∈ lw_all := lw_g (lw_at lw_m12 97 rfl) rfl
theorem q2889 : (Jvm.Cond.soleField "CrossbarExchangeModel" "calls") ∈ lw_all := lw_g (lw_at lw_m12 98 rfl) rfl
theorem q2890 : (Jvm.Cond.laysFinal "CrossbarExchangeModel" "CrossbarExchangeModel" "number" "[I") ∈ lw_all := lw_g (lw_at lw_m12 99 rfl) rfl
theorem q2891 : (Jvm.Cond.soleField "CrossbarExchangeModel" "number") ∈ lw_all := lw_g (lw_at lw_m12 100 rfl) rfl
theorem q2892 : (Jvm.Cond.laysFinal "CrossbarExchangeModel" "CrossbarExchangeModel" "caller" "[I") ∈ lw_all := lw_g (lw_at lw_m12 101 rfl) rfl
theorem q2893 : (Jvm.Cond.soleField "CrossbarExchangeModel" "caller") ∈ lw_all := lw_g (lw_at lw_m12 102 rfl) rfl
theorem q2894 : (Jvm.Cond.laysFinal "CrossbarExchangeModel" "CrossbarExchangeModel" "callee" "[I") ∈ lw_all := lw_g (lw_at lw_m12 103 rfl) rfl
theorem q2895 : (Jvm.Cond.soleField "CrossbarExchangeModel" "callee") ∈ lw_all := lw_g (lw_at lw_m12 104 rfl) rfl
theorem q2896 : (Jvm.Cond.laysFinal "CrossbarExchangeModel" "CrossbarExchangeModel" "middle" "[I") ∈ lw_all := lw_g (lw_at lw_m12 105 rfl) rfl
theorem q2897 : (Jvm.Cond.soleField "CrossbarExchangeModel" "middle") ∈ lw_all := lw_g (lw_at lw_m12 106 rfl) rfl
theorem q2898 : (Jvm.Cond.laysFinal "CrossbarExchangeModel" "CrossbarExchangeModel" "began" "[I") ∈ lw_all := lw_g (lw_at lw_m12 107 rfl) rfl
theorem q2899 : (Jvm.Cond.soleField "CrossbarExchangeModel" "began") ∈ lw_all := lw_g (lw_at lw_m12 108 rfl) rfl
theorem q2900 : (Jvm.Cond.laysFinal "CrossbarExchangeModel" "CrossbarExchangeModel" "lasts" "[I") ∈ lw_all := lw_g (lw_at lw_m12 109 rfl) rfl
theorem q2901 : (Jvm.Cond.soleField "CrossbarExchangeModel" "lasts") ∈ lw_all := lw_g (lw_at lw_m12 110 rfl) rfl
theorem q2902 : (Jvm.Cond.laysFinal "CrossbarExchangeModel" "CrossbarExchangeModel" "moved" "[I") ∈ lw_all := lw_g (lw_at lw_m12 111 rfl) rfl
theorem q2903 : (Jvm.Cond.soleField "CrossbarExchangeModel" "moved") ∈ lw_all := lw_g (lw_at lw_m12 112 rfl) rfl
theorem q2904 : (Jvm.Cond.lays "CrossbarExchangeModel" "CrossbarExchangeModel" "waiters" "I") ∈ lw_all := lw_g (lw_at lw_m12 113 rfl) rfl
theorem q2905 : (Jvm.Cond.soleField "CrossbarExchangeModel" "waiters") ∈ lw_all := lw_g (lw_at lw_m12 114 rfl) rfl
theorem q2906 : (Jvm.Cond.laysFinal "CrossbarExchangeModel" "CrossbarExchangeModel" "waiter" "[I") ∈ lw_all := lw_g (lw_at lw_m12 115 rfl) rfl
theorem q2907 : (Jvm.Cond.soleField "CrossbarExchangeModel" "waiter") ∈ lw_all := lw_g (lw_at lw_m12 116 rfl) rfl
theorem q2908 : (Jvm.Cond.laysFinal "CrossbarExchangeModel" "CrossbarExchangeModel" "waitsFor" "[I") ∈ lw_all := lw_g (lw_at lw_m12 117 rfl) rfl
theorem q2909 : (Jvm.Cond.soleField "CrossbarExchangeModel" "waitsFor") ∈ lw_all := lw_g (lw_at lw_m12 118 rfl) rfl
theorem q2910 : (Jvm.Cond.laysFinal "CrossbarExchangeModel" "CrossbarExchangeModel" "waitLasts" "[I") ∈ lw_all := lw_g (lw_at lw_m12 119 rfl) rfl
theorem q2911 : (Jvm.Cond.soleField "CrossbarExchangeModel" "waitLasts") ∈ lw_all := lw_g (lw_at lw_m12 120 rfl) rfl
theorem q2912 : (Jvm.Cond.laysFinal "CrossbarExchangeModel" "CrossbarExchangeModel" "waitsSince" "[I") ∈ lw_all := lw_g (lw_at lw_m12 121 rfl) rfl
theorem q2913 : (Jvm.Cond.soleField "CrossbarExchangeModel" "waitsSince") ∈ lw_all := lw_g (lw_at lw_m12 122 rfl) rfl
theorem q2914 : (Jvm.Cond.lays "CrossbarExchangeModel" "CrossbarExchangeModel" "groups" "I") ∈ lw_all := lw_g (lw_at lw_m12 123 rfl) rfl
theorem q2915 : (Jvm.Cond.soleField "CrossbarExchangeModel" "groups") ∈ lw_all := lw_g (lw_at lw_m12 124 rfl) rfl
theorem q2916 : (Jvm.Cond.laysFinal "CrossbarExchangeModel" "CrossbarExchangeModel" "nameLength" "[I") ∈ lw_all := lw_g (lw_at lw_m12 125 rfl) rfl
theorem q2917 : (Jvm.Cond.soleField "CrossbarExchangeModel" "nameLength") ∈ lw_all := lw_g (lw_at lw_m12 126 rfl) rfl
theorem q2918 : (Jvm.Cond.laysFinal "CrossbarExchangeModel" "CrossbarExchangeModel" "nameBytes" "[I") ∈ lw_all := lw_g (lw_at lw_m12 127 rfl) rfl
theorem q2919 : (Jvm.Cond.soleField "CrossbarExchangeModel" "nameBytes") ∈ lw_all := lw_g (lw_at lw_m12 128 rfl) rfl
theorem q2920 : (Jvm.Cond.laysFinal "CrossbarExchangeModel" "CrossbarExchangeModel" "memberCount" "[I") ∈ lw_all := lw_g (lw_at lw_m12 129 rfl) rfl
theorem q2921 : (Jvm.Cond.soleField "CrossbarExchangeModel" "memberCount") ∈ lw_all := lw_g (lw_at lw_m12 130 rfl) rfl
theorem q2922 : (Jvm.Cond.laysFinal "CrossbarExchangeModel" "CrossbarExchangeModel" "members" "[I") ∈ lw_all := lw_g (lw_at lw_m12 131 rfl) rfl
theorem q2923 : (Jvm.Cond.soleField "CrossbarExchangeModel" "members") ∈ lw_all := lw_g (lw_at lw_m12 132 rfl) rfl
theorem q2924 : (Jvm.Cond.laysFinal "CrossbarExchangeModel" "CrossbarExchangeModel" "accounts" "[I") ∈ lw_all := lw_g (lw_at lw_m12 133 rfl) rfl
theorem q2925 : (Jvm.Cond.soleField "CrossbarExchangeModel" "accounts") ∈ lw_all := lw_g (lw_at lw_m12 134 rfl) rfl
theorem q2926 : (Jvm.Cond.laysFinal "CrossbarExchangeModel" "CrossbarExchangeModel" "images" "[I") ∈ lw_all := lw_g (lw_at lw_m12 135 rfl) rfl
theorem q2927 : (Jvm.Cond.soleField "CrossbarExchangeModel" "images") ∈ lw_all := lw_g (lw_at lw_m12 136 rfl) rfl
theorem q2928 : (Jvm.Cond.lays "CrossbarExchangeModel" "CrossbarExchangeModel" "oldest" "I") ∈ lw_all := lw_g (lw_at lw_m12 137 rfl) rfl
theorem q2929 : (Jvm.Cond.soleField "CrossbarExchangeModel" "oldest") ∈ lw_all := lw_g (lw_at lw_m12 138 rfl) rfl
theorem q2930 : (Jvm.Cond.lays "CrossbarExchangeModel" "CrossbarExchangeModel" "undoable" "I") ∈ lw_all := lw_g (lw_at lw_m12 139 rfl) rfl
theorem q2931 : (Jvm.Cond.soleField "CrossbarExchangeModel" "undoable") ∈ lw_all := lw_g (lw_at lw_m12 140 rfl) rfl
theorem q2932 : (Jvm.Cond.laysFinal "CrossbarExchangeModel" "CrossbarExchangeModel" "inSlot" "[Z") ∈ lw_all := lw_g (lw_at lw_m12 141 rfl) rfl
theorem q2933 : (Jvm.Cond.soleField "CrossbarExchangeModel" "inSlot") ∈ lw_all := lw_g (lw_at lw_m12 142 rfl) rfl
theorem q2934 : (Jvm.Cond.laysFinal "CrossbarExchangeModel" "CrossbarExchangeModel" "links" "[I") ∈ lw_all := lw_g (lw_at lw_m12 143 rfl) rfl
theorem q2935 : (Jvm.Cond.soleField "CrossbarExchangeModel" "links") ∈ lw_all := lw_g (lw_at lw_m12 144 rfl) rfl
theorem q2936 : (Jvm.Cond.laysFinal "CrossbarExchangeModel" "CrossbarExchangeModel" "trial" "[I") ∈ lw_all := lw_g (lw_at lw_m12 145 rfl) rfl
theorem q2937 : (Jvm.Cond.soleField "CrossbarExchangeModel" "trial") ∈ lw_all := lw_g (lw_at lw_m12 146 rfl) rfl
theorem q2938 : (Jvm.Cond.lays "CrossbarExchangeModel" "CrossbarExchangeModel" "chainSize" "I") ∈ lw_all := lw_g (lw_at lw_m12 147 rfl) rfl
theorem q2939 : (Jvm.Cond.soleField "CrossbarExchangeModel" "chainSize") ∈ lw_all := lw_g (lw_at lw_m12 148 rfl) rfl
theorem q2940 : (Jvm.Cond.lays "CrossbarExchangeModel" "CrossbarExchangeModel" "chainP" "I") ∈ lw_all := lw_g (lw_at lw_m12 149 rfl) rfl
theorem q2941 : (Jvm.Cond.soleField "CrossbarExchangeModel" "chainP") ∈ lw_all := lw_g (lw_at lw_m12 150 rfl) rfl
theorem q2942 : (Jvm.Cond.lays "CrossbarExchangeModel" "CrossbarExchangeModel" "chainQ" "I") ∈ lw_all := lw_g (lw_at lw_m12 151 rfl) rfl
theorem q2943 : (Jvm.Cond.soleField "CrossbarExchangeModel" "chainQ") ∈ lw_all := lw_g (lw_at lw_m12 152 rfl) rfl
theorem q2944 : (Jvm.Cond.lays "CrossbarExchangeModel" "CrossbarExchangeModel" "chainIsFirst" "Z") ∈ lw_all := lw_g (lw_at lw_m12 153 rfl) rfl
theorem q2945 : (Jvm.Cond.soleField "CrossbarExchangeModel" "chainIsFirst") ∈ lw_all := lw_g (lw_at lw_m12 154 rfl) rfl
theorem q2946 : (Jvm.Cond.laysFinal "CrossbarExchangeModel" "CrossbarExchangeModel" "before" "[I") ∈ lw_all := lw_g (lw_at lw_m12 155 rfl) rfl
theorem q2947 : (Jvm.Cond.soleField "CrossbarExchangeModel" "before") ∈ lw_all := lw_g (lw_at lw_m12 156 rfl) rfl
theorem q2948 : (Jvm.Cond.lays "CrossbarExchangeModel" "CrossbarExchangeModel" "at" "I") ∈ lw_all := lw_g (lw_at lw_m12 157 rfl) rfl
theorem q2949 : (Jvm.Cond.soleField "CrossbarExchangeModel" "at") ∈ lw_all := lw_g (lw_at lw_m12 158 rfl) rfl
theorem q2950 : (Jvm.Cond.lays "CrossbarExchangeModel" "CrossbarExchangeModel" "start" "I") ∈ lw_all := lw_g (lw_at lw_m12 159 rfl) rfl
theorem q2951 : (Jvm.Cond.soleField "CrossbarExchangeModel" "start") ∈ lw_all := lw_g (lw_at lw_m12 160 rfl) rfl
theorem q2952 : (Jvm.Cond.lays "CrossbarExchangeModel" "CrossbarExchangeModel" "kind" "I") ∈ lw_all := lw_g (lw_at lw_m12 161 rfl) rfl
theorem q2953 : (Jvm.Cond.soleField "CrossbarExchangeModel" "kind") ∈ lw_all := lw_g (lw_at lw_m12 162 rfl) rfl
theorem q2954 : (Jvm.Cond.lays "CrossbarExchangeModel" "CrossbarExchangeModel" "length" "I") ∈ lw_all := lw_g (lw_at lw_m12 163 rfl) rfl
theorem q2955 : (Jvm.Cond.soleField "CrossbarExchangeModel" "length") ∈ lw_all := lw_g (lw_at lw_m12 164 rfl) rfl
theorem q2956 : (Jvm.Cond.lays "CrossbarExchangeModel" "CrossbarExchangeModel" "value" "I") ∈ lw_all := lw_g (lw_at lw_m12 165 rfl) rfl
theorem q2957 : (Jvm.Cond.soleField "CrossbarExchangeModel" "value") ∈ lw_all := lw_g (lw_at lw_m12 166 rfl) rfl
theorem q2958 : (Jvm.Cond.laysFinal "CrossbarExchangeModel" "CrossbarExchangeModel" "told" "[I") ∈ lw_all := lw_g (lw_at lw_m12 167 rfl) rfl
theorem q2959 : (Jvm.Cond.soleField "CrossbarExchangeModel" "told") ∈ lw_all := lw_g (lw_at lw_m12 168 rfl) rfl
theorem q2960 : (Jvm.Cond.lays "CrossbarExchangeModel" "CrossbarExchangeModel" "place" "I") ∈ lw_all := lw_g (lw_at lw_m12 169 rfl) rfl
theorem q2961 : (Jvm.Cond.soleField "CrossbarExchangeModel" "place") ∈ lw_all := lw_g (lw_at lw_m12 170 rfl) rfl
theorem q2962 : (Jvm.Cond.superclass "CrossbarExchangeModel" "java/lang/Object") ∈ lw_all := lw_g (lw_at lw_m12 171 rfl) rfl
theorem q2965 : (Jvm.Cond.instanceMethod ({ cls := "CrossbarExchangeModel", name := "thrown", desc := "()I" } : Jvm.MethodName)) ∈ lw_all := lw_g (lw_at lw_m12 174 rfl) rfl
theorem q2966 : (Jvm.Cond.selects "CrossbarExchangeModel" ({ cls := "CrossbarExchangeModel", name := "thrown", desc := "()I" } : Jvm.MethodName) ({ cls := "CrossbarExchangeModel", name := "thrown", desc := "()I" } : Jvm.MethodName)) ∈ lw_all := lw_g (lw_at lw_m12 175 rfl) rfl
theorem q2967 : (Jvm.Cond.code ({ cls := "CrossbarExchangeModel", name := "thrown", desc := "()I" } : Jvm.MethodName) prog_12_method_2_code (1 : Nat) (Option.some Jvm.ClassFile.FieldType.int)) ∈ lw_all := lw_g (lw_at lw_m12 176 rfl) rfl
theorem q2969 : (Jvm.Cond.instanceMethod ({ cls := "CrossbarExchangeModel", name := "append", desc := "(IIIII)I" } : Jvm.MethodName)) ∈ lw_all := lw_g (lw_at lw_m12 178 rfl) rfl
theorem q2970 : (Jvm.Cond.selects "CrossbarExchangeModel" ({ cls := "CrossbarExchangeModel", name := "append", desc := "(IIIII)I" } : Jvm.MethodName) ({ cls := "CrossbarExchangeModel", name := "append", desc := "(IIIII)I" } : Jvm.MethodName)) ∈ lw_all := lw_g (lw_at lw_m12 179 rfl) rfl
theorem q2971 : (Jvm.Cond.code ({ cls := "CrossbarExchangeModel", name := "append", desc := "(IIIII)I" } : Jvm.MethodName) prog_12_method_4_code (6 : Nat) (Option.some Jvm.ClassFile.FieldType.int)) ∈ lw_all := lw_g (lw_at lw_m12 180 rfl) rfl
theorem q2972 : (Jvm.Cond.methodLink "CrossbarExchangeModel" (112 : Nat) ({ cls := "CrossbarExchangeModel", name := "fourBytes", desc := "(I)V" } : Jvm.MethodName)) ∈ lw_all := lw_g (lw_at lw_m12 181 rfl) rfl
theorem q2973 : (Jvm.Cond.privateMethod ({ cls := "CrossbarExchangeModel", name := "fourBytes", desc := "(I)V" } : Jvm.MethodName)) ∈ lw_tbl := lw_at lw_m12 182 rfl
theorem q2974 : (Jvm.Cond.instanceMethod ({ cls := "CrossbarExchangeModel", name := "fourBytes", desc := "(I)V" } : Jvm.MethodName)) ∈ lw_all := lw_g (lw_at lw_m12 183 rfl) rfl
theorem q2975 : (Jvm.Cond.code ({ cls := "CrossbarExchangeModel", name := "fourBytes", desc := "(I)V" } : Jvm.MethodName) prog_12_method_5_code (2 : Nat) (Option.none : Option Jvm.ClassFile.FieldType)) ∈ lw_all := lw_g (lw_at lw_m12 184 rfl) rfl
theorem q2977 : (Jvm.Cond.instanceMethod ({ cls := "CrossbarExchangeModel", name := "truncate", desc := "(I)I" } : Jvm.MethodName)) ∈ lw_all := lw_g (lw_at lw_m12 186 rfl) rfl
theorem q2978 : (Jvm.Cond.selects "CrossbarExchangeModel" ({ cls := "CrossbarExchangeModel", name := "truncate", desc := "(I)I" } : Jvm.MethodName) ({ cls := "CrossbarExchangeModel", name := "truncate", desc := "(I)I" } : Jvm.MethodName)) ∈ lw_all := lw_g (lw_at lw_m12 187 rfl) rfl
theorem q2979 : (Jvm.Cond.code ({ cls := "CrossbarExchangeModel", name := "truncate", desc := "(I)I" } : Jvm.MethodName) prog_12_method_6_code (2 : Nat) (Option.some Jvm.ClassFile.FieldType.int)) ∈ lw_all := lw_g (lw_at lw_m12 188 rfl) rfl
theorem q2980 : (Jvm.Cond.methodLink "CrossbarExchangeModel" (116 : Nat) ({ cls := "CrossbarExchangeModel", name := "refuse", desc := "(I)I" } : Jvm.MethodName)) ∈ lw_all := lw_g (lw_at lw_m12 189 rfl) rfl
theorem q2981 : (Jvm.Cond.privateMethod ({ cls := "CrossbarExchangeModel", name := "refuse", desc := "(I)I" } : Jvm.MethodName)) ∈ lw_tbl := lw_at lw_m12 190 rfl
theorem q2982 : (Jvm.Cond.instanceMethod ({ cls := "CrossbarExchangeModel", name := "refuse", desc := "(I)I" } : Jvm.MethodName)) ∈ lw_all := lw_g (lw_at lw_m12 191 rfl) rfl
theorem q2983 : (Jvm.Cond.code ({ cls := "CrossbarExchangeModel", name := "refuse", desc := "(I)I" } : Jvm.MethodName) prog_12_method_3_code (2 : Nat) (Option.some Jvm.ClassFile.FieldType.int)) ∈ lw_all := lw_g (lw_at lw_m12 192 rfl) rfl
theorem q2985 : (Jvm.Cond.instanceMethod ({ cls := "CrossbarExchangeModel", name := "load", desc := "()I" } : Jvm.MethodName)) ∈ lw_all := lw_g (lw_at lw_m12 194 rfl) rfl
theorem q2986 : (Jvm.Cond.selects "CrossbarExchangeModel" ({ cls := "CrossbarExchangeModel", name := "load", desc := "()I" } : Jvm.MethodName) ({ cls := "CrossbarExchangeModel", name := "load", desc := "()I" } : Jvm.MethodName)) ∈ lw_all := lw_g (lw_at lw_m12 195 rfl) rfl
theorem q2987 : (Jvm.Cond.code ({ cls := "CrossbarExchangeModel", name := "load", desc := "()I" } : Jvm.MethodName) prog_12_method_51_code (2 : Nat) (Option.some Jvm.ClassFile.FieldType.int)) ∈ lw_all := lw_g (lw_at lw_m12 196 rfl) rfl
theorem q2988 : (Jvm.Cond.methodLink "CrossbarExchangeModel" (158 : Nat) ({ cls := "CrossbarExchangeModel", name := "keepImage", desc := "(I)V" } : Jvm.MethodName)) ∈ lw_all := lw_g (lw_at lw_m12 197 rfl) rfl
theorem q2989 : (Jvm.Cond.privateMethod ({ cls := "CrossbarExchangeModel", name := "keepImage", desc := "(I)V" } : Jvm.MethodName)) ∈ lw_tbl := lw_at lw_m12 198 rfl
theorem q2990 : (Jvm.Cond.instanceMethod ({ cls := "CrossbarExchangeModel", name := "keepImage", desc := "(I)V" } : Jvm.MethodName)) ∈ lw_all := lw_g (lw_at lw_m12 199 rfl) rfl
theorem q2991 : (Jvm.Cond.code ({ cls := "CrossbarExchangeModel", name := "keepImage", desc := "(I)V" } : Jvm.MethodName) prog_12_method_9_code (3 : Nat) (Option.none : Option Jvm.ClassFile.FieldType)) ∈ lw_all := lw_g (lw_at lw_m12 200 rfl) rfl
theorem q2992 : (Jvm.Cond.methodLink "CrossbarExchangeModel" (138 : Nat) ({ cls := "CrossbarExchangeModel", name := "keepsRow", desc := "([III)I" } : Jvm.MethodName)) ∈ lw_all := lw_g (lw_at lw_m12 201 rfl) rfl
theorem q2993 : (Jvm.Cond.privateMethod ({ cls := "CrossbarExchangeModel", name := "keepsRow", desc := "([III)I" } : Jvm.MethodName)) ∈ lw_tbl := lw_at lw_m12 202 rfl
theorem q2994 : (Jvm.Cond.instanceMethod ({ cls := "CrossbarExchangeModel", name := "keepsRow", desc := "([III)I" } : Jvm.MethodName)) ∈ lw_all := lw_g (lw_at lw_m12 203 rfl) rfl
theorem q2995 : (Jvm.Cond.code ({ cls := "CrossbarExchangeModel", name := "keepsRow", desc := "([III)I" } : Jvm.MethodName) prog_12_method_7_code (5 : Nat) (Option.some Jvm.ClassFile.FieldType.int)) ∈ lw_all := lw_g (lw_at lw_m12 204 rfl) rfl
theorem q2996 : (Jvm.Cond.methodLink "CrossbarExchangeModel" (263 : Nat) ({ cls := "CrossbarExchangeModel", name := "begin", desc := "()V" } : Jvm.MethodName)) ∈ lw_all := lw_g (lw_at lw_m12 205 rfl) rfl
theorem q2997 : (Jvm.Cond.privateMethod ({ cls := "CrossbarExchangeModel", name := "begin", desc := "()V" } : Jvm.MethodName)) ∈ lw_tbl := lw_at lw_m12 206 rfl
theorem q2998 : (Jvm.Cond.instanceMethod ({ cls := "CrossbarExchangeModel", name := "begin", desc := "()V" } : Jvm.MethodName)) ∈ lw_all := lw_g (lw_at lw_m12 207 rfl) rfl
theorem q2999 : (Jvm.Cond.code ({ cls := "CrossbarExchangeModel", name := "begin", desc := "()V" } : Jvm.MethodName) prog_12_method_53_code (1 : Nat) (Option.none : Option Jvm.ClassFile.FieldType)) ∈ lw_all := lw_g (lw_at lw_m12 208 rfl) rfl
theorem q3000 : (Jvm.Cond.methodLink "CrossbarExchangeModel" (266 : Nat) ({ cls := "CrossbarExchangeModel", name := "readsHead", desc := "()Z" } : Jvm.MethodName)) ∈ lw_all := lw_g (lw_at lw_m12 209 rfl) rfl
theorem q3001 : (Jvm.Cond.privateMethod ({ cls := "CrossbarExchangeModel", name := "readsHead", desc := "()Z" } : Jvm.MethodName)) ∈ lw_tbl := lw_at lw_m12 210 rfl
theorem q3002 : (Jvm.Cond.instanceMethod ({ cls := "CrossbarExchangeModel", name := "readsHead", desc := "()Z" } : Jvm.MethodName)) ∈ lw_all := lw_g (lw_at lw_m12 211 rfl) rfl
theorem q3003 : (Jvm.Cond.code ({ cls := "CrossbarExchangeModel", name := "readsHead", desc := "()Z" } : Jvm.MethodName) prog_12_method_65_code (4 : Nat) (Option.some Jvm.ClassFile.FieldType.boolean)) ∈ lw_all := lw_g (lw_at lw_m12 212 rfl) rfl
theorem q3004 : (Jvm.Cond.methodLink "CrossbarExchangeModel" (276 : Nat) ({ cls := "CrossbarExchangeModel", name := "token", desc := "()V" } : Jvm.MethodName)) ∈ lw_all := lw_g (lw_at lw_m12 213 rfl) rfl
theorem q3005 : (Jvm.Cond.privateMethod ({ cls := "CrossbarExchangeModel", name := "token", desc := "()V" } : Jvm.MethodName)) ∈ lw_tbl := lw_at lw_m12 214 rfl
theorem q3006 : (Jvm.Cond.instanceMethod ({ cls := "CrossbarExchangeModel", name := "token", desc := "()V" } : Jvm.MethodName)) ∈ lw_all := lw_g (lw_at lw_m12 215 rfl) rfl
theorem q3007 : (Jvm.Cond.code ({ cls := "CrossbarExchangeModel", name := "token", desc := "()V" } : Jvm.MethodName) prog_12_method_57_code (2 : Nat) (Option.none : Option Jvm.ClassFile.FieldType)) ∈ lw_all := lw_g (lw_at lw_m12 216 rfl) rfl
theorem q3008 : (Jvm.Cond.methodLink "CrossbarExchangeModel" (300 : Nat) ({ cls := "CrossbarExchangeModel", name := "isLower", desc := "(I)Z" } : Jvm.MethodName)) ∈ lw_all := lw_g (lw_at lw_m12 217 rfl) rfl
theorem q3009 : (Jvm.Cond.privateMethod ({ cls := "CrossbarExchangeModel", name := "isLower", desc := "(I)Z" } : Jvm.MethodName)) ∈ lw_tbl := lw_at lw_m12 218 rfl
theorem q3010 : (Jvm.Cond.instanceMethod ({ cls := "CrossbarExchangeModel", name := "isLower", desc := "(I)Z" } : Jvm.MethodName)) ∈ lw_all := lw_g (lw_at lw_m12 219 rfl) rfl
theorem q3011 : (Jvm.Cond.code ({ cls := "CrossbarExchangeModel", name := "isLower", desc := "(I)Z" } : Jvm.MethodName) prog_12_method_55_code (2 : Nat) (Option.some Jvm.ClassFile.FieldType.boolean)) ∈ lw_all := lw_g (lw_at lw_m12 220 rfl) rfl
theorem q3012 : (Jvm.Cond.methodLink "CrossbarExchangeModel" (303 : Nat) ({ cls := "CrossbarExchangeModel", name := "isDigit", desc := "(I)Z" } : Jvm.MethodName)) ∈ lw_all := lw_g (lw_at lw_m12 221 rfl) rfl
theorem q3013 : (Jvm.Cond.privateMethod ({ cls := "CrossbarExchangeModel", name := "isDigit", desc := "(I)Z" } : Jvm.MethodName)) ∈ lw_tbl := lw_at lw_m12 222 rfl
theorem q3014 : (Jvm.Cond.instanceMethod ({ cls := "CrossbarExchangeModel", name := "isDigit", desc := "(I)Z" } : Jvm.MethodName)) ∈ lw_all := lw_g (lw_at lw_m12 223 rfl) rfl
theorem q3015 : (Jvm.Cond.code ({ cls := "CrossbarExchangeModel", name := "isDigit", desc := "(I)Z" } : Jvm.MethodName) prog_12_method_56_code (2 : Nat) (Option.some Jvm.ClassFile.FieldType.boolean)) ∈ lw_all := lw_g (lw_at lw_m12 224 rfl) rfl
theorem q3016 : (Jvm.Cond.constant "CrossbarExchangeModel" (306 : Nat) (99999 : Int32)) ∈ lw_all := lw_g (lw_at lw_m12 225 rfl) rfl
theorem q3017 : (Jvm.Cond.methodLink "CrossbarExchangeModel" (323 : Nat) ({ cls := "CrossbarExchangeModel", name := "spelled", desc := "()J" } : Jvm.MethodName)) ∈ lw_all := lw_g (lw_at lw_m12 226 rfl) rfl
theorem q3018 : (Jvm.Cond.privateMethod ({ cls := "CrossbarExchangeModel", name := "spelled", desc := "()J" } : Jvm.MethodName)) ∈ lw_tbl := lw_at lw_m12 227 rfl
theorem q3019 : (Jvm.Cond.instanceMethod ({ cls := "CrossbarExchangeModel", name := "spelled", desc := "()J" } : Jvm.MethodName)) ∈ lw_all := lw_g (lw_at lw_m12 228 rfl) rfl
theorem q3020 : (Jvm.Cond.code ({ cls := "CrossbarExchangeModel", name := "spelled", desc := "()J" } : Jvm.MethodName) prog_12_method_58_code (4 : Nat) (Option.some Jvm.ClassFile.FieldType.long)) ∈ lw_all := lw_g (lw_at lw_m12 229 rfl) rfl
theorem q3021 : (Jvm.Cond.constantLong "CrossbarExchangeModel" (307 : Nat) (32 : Int64)) ∈ lw_all := lw_g (lw_at lw_m12 230 rfl) rfl
theorem q3022 : (Jvm.Cond.constantLong "CrossbarExchangeModel" (309 : Nat) (96 : Int64)) ∈ lw_all := lw_g (lw_at lw_m12 231 rfl) rfl
theorem q3023 : (Jvm.Cond.constantLong "CrossbarExchangeModel" (327 : Nat) (197677594853 : Int64)) ∈ lw_all := lw_g (lw_at lw_m12 232 rfl) rfl
theorem q3024 : (Jvm.Cond.methodLink "CrossbarExchangeModel" (311 : Nat) ({ cls := "CrossbarExchangeModel", name := "blames", desc := "(I)Z" } : Jvm.MethodName)) ∈ lw_all := lw_g (lw_at lw_m12 233 rfl) rfl
theorem q3025 : (Jvm.Cond.privateMethod ({ cls := "CrossbarExchangeModel", name := "blames", desc := "(I)Z" } : Jvm.MethodName)) ∈ lw_tbl := lw_at lw_m12 234 rfl
theorem q3026 : (Jvm.Cond.instanceMethod ({ cls := "CrossbarExchangeModel", name := "blames", desc := "(I)Z" } : Jvm.MethodName)) ∈ lw_all := lw_g (lw_at lw_m12 235 rfl) rfl
theorem q3027 : (Jvm.Cond.code ({ cls := "CrossbarExchangeModel", name := "blames", desc := "(I)Z" } : Jvm.MethodName) prog_12_method_54_code (2 : Nat) (Option.some Jvm.ClassFile.FieldType.boolean)) ∈ lw_all := lw_g (lw_at lw_m12 236 rfl) rfl
theorem q3028 : (Jvm.Cond.methodLink "CrossbarExchangeModel" (317 : Nat) ({ cls := "CrossbarExchangeModel", name := "readsNumber", desc := "(II)Z" } : Jvm.MethodName)) ∈ lw_all := lw_g (lw_at lw_m12 237 rfl) rfl
theorem q3029 : (Jvm.Cond.privateMethod ({ cls := "CrossbarExchangeModel", name := "readsNumber", desc := "(II)Z" } : Jvm.MethodName)) ∈ lw_tbl := lw_at lw_m12 238 rfl
theorem q3030 : (Jvm.Cond.instanceMethod ({ cls := "CrossbarExchangeModel", name := "readsNumber", desc := "(II)Z" } : Jvm.MethodName)) ∈ lw_all := lw_g (lw_at lw_m12 239 rfl) rfl
theorem q3031 : (Jvm.Cond.code ({ cls := "CrossbarExchangeModel", name := "readsNumber", desc := "(II)Z" } : Jvm.MethodName) prog_12_method_60_code (3 : Nat) (Option.some Jvm.ClassFile.FieldType.boolean)) ∈ lw_all := lw_g (lw_at lw_m13 0 rfl) rfl
theorem q3032 : (Jvm.Cond.methodLink "CrossbarExchangeModel" (314 : Nat) ({ cls := "CrossbarExchangeModel", name := "isNumber", desc := "(II)Z" } : Jvm.MethodName)) ∈ lw_all := lw_g (lw_at lw_m13 1 rfl) rfl
theorem q3033 : (Jvm.Cond.privateMethod ({ cls := "CrossbarExchangeModel", name := "isNumber", desc := "(II)Z" } : Jvm.MethodName)) ∈ lw_tbl := lw_at lw_m13 2 rfl
theorem q3034 : (Jvm.Cond.instanceMethod ({ cls := "CrossbarExchangeModel", name := "isNumber", desc := "(II)Z" } : Jvm.MethodName)) ∈ lw_all := lw_g (lw_at lw_m13 3 rfl) rfl
theorem q3035 : (Jvm.Cond.code ({ cls := "CrossbarExchangeModel", name := "isNumber", desc := "(II)Z" } : Jvm.MethodName) prog_12_method_59_code (3 : Nat) (Option.some Jvm.ClassFile.FieldType.boolean)) ∈ lw_all := lw_g (lw_at lw_m13 4 rfl) rfl
theorem q3036 : (Jvm.Cond.methodLink "CrossbarExchangeModel" (329 : Nat) ({ cls := "CrossbarExchangeModel", name := "readsSemicolon", desc := "()Z" } : Jvm.MethodName)) ∈ lw_all := lw_g (lw_at lw_m13 5 rfl) rfl
theorem q3037 : (Jvm.Cond.privateMethod ({ cls := "CrossbarExchangeModel", name := "readsSemicolon", desc := "()Z" } : Jvm.MethodName)) ∈ lw_tbl := lw_at lw_m13 6 rfl
theorem q3038 : (Jvm.Cond.instanceMethod ({ cls := "CrossbarExchangeModel", name := "readsSemicolon", desc := "()Z" } : Jvm.MethodName)) ∈ lw_all := lw_g (lw_at lw_m13 7 rfl) rfl
theorem q3039 : (Jvm.Cond.code ({ cls := "CrossbarExchangeModel", name := "readsSemicolon", desc := "()Z" } : Jvm.MethodName) prog_12_method_63_code (1 : Nat) (Option.some Jvm.ClassFile.FieldType.boolean)) ∈ lw_all := lw_g (lw_at lw_m13 8 rfl) rfl
theorem q3040 : (Jvm.Cond.methodLink "CrossbarExchangeModel" (320 : Nat) ({ cls := "CrossbarExchangeModel", name := "isSemicolon", desc := "()Z" } : Jvm.MethodName)) ∈ lw_all := lw_g (lw_at lw_m13 9 rfl) rfl
theorem q3041 : (Jvm.Cond.privateMethod ({ cls := "CrossbarExchangeModel", name := "isSemicolon", desc := "()Z" } : Jvm.MethodName)) ∈ lw_tbl := lw_at lw_m13 10 rfl
theorem q3042 : (Jvm.Cond.instanceMethod ({ cls := "CrossbarExchangeModel", name := "isSemicolon", desc := "()Z" } : Jvm.MethodName)) ∈ lw_all := lw_g (lw_at lw_m13 11 rfl) rfl
theorem q3043 : (Jvm.Cond.code ({ cls := "CrossbarExchangeModel", name := "isSemicolon", desc := "()Z" } : Jvm.MethodName) prog_12_method_62_code (1 : Nat) (Option.some Jvm.ClassFile.FieldType.boolean)) ∈ lw_all := lw_g (lw_at lw_m13 12 rfl) rfl
theorem q3044 : (Jvm.Cond.methodLink "CrossbarExchangeModel" (332 : Nat) ({ cls := "CrossbarExchangeModel", name := "clearAll", desc := "(III)V" } : Jvm.MethodName)) ∈ lw_all := lw_g (lw_at lw_m13 13 rfl) rfl
theorem q3045 : (Jvm.Cond.privateMethod ({ cls := "CrossbarExchangeModel", name := "clearAll", desc := "(III)V" } : Jvm.MethodName)) ∈ lw_tbl := lw_at lw_m13 14 rfl
theorem q3046 : (Jvm.Cond.instanceMethod ({ cls := "CrossbarExchangeModel", name := "clearAll", desc := "(III)V" } : Jvm.MethodName)) ∈ lw_all := lw_g (lw_at lw_m13 15 rfl) rfl
theorem q3047 : (Jvm.Cond.code ({ cls := "CrossbarExchangeModel", name := "clearAll", desc := "(III)V" } : Jvm.MethodName) prog_12_method_64_code (5 : Nat) (Option.none : Option Jvm.ClassFile.FieldType)) ∈ lw_all := lw_g (lw_at lw_m13 16 rfl) rfl
theorem q3048 : (Jvm.Cond.constantLong "CrossbarExchangeModel" (336 : Nat) (7945904 : Int64)) ∈ lw_all := lw_g (lw_at lw_m13 17 rfl) rfl
theorem q3049 : (Jvm.Cond.methodLink "CrossbarExchangeModel" (338 : Nat) ({ cls := "CrossbarExchangeModel", name := "readsGroup", desc := "()Z" } : Jvm.MethodName)) ∈ lw_all := lw_g (lw_at lw_m13 18 rfl) rfl
theorem q3050 : (Jvm.Cond.privateMethod ({ cls := "CrossbarExchangeModel", name := "readsGroup", desc := "()Z" } : Jvm.MethodName)) ∈ lw_tbl := lw_at lw_m13 19 rfl
theorem q3051 : (Jvm.Cond.instanceMethod ({ cls := "CrossbarExchangeModel", name := "readsGroup", desc := "()Z" } : Jvm.MethodName)) ∈ lw_all := lw_g (lw_at lw_m13 20 rfl) rfl
theorem q3052 : (Jvm.Cond.code ({ cls := "CrossbarExchangeModel", name := "readsGroup", desc := "()Z" } : Jvm.MethodName) prog_12_method_67_code (5 : Nat) (Option.some Jvm.ClassFile.FieldType.boolean)) ∈ lw_all := lw_g (lw_at lw_m13 21 rfl) rfl
theorem q3053 : (Jvm.Cond.methodLink "CrossbarExchangeModel" (341 : Nat) ({ cls := "CrossbarExchangeModel", name := "groupOfToken", desc := "()I" } : Jvm.MethodName)) ∈ lw_all := lw_g (lw_at lw_m13 22 rfl) rfl
theorem q3054 : (Jvm.Cond.privateMethod ({ cls := "CrossbarExchangeModel", name := "groupOfToken", desc := "()I" } : Jvm.MethodName)) ∈ lw_tbl := lw_at lw_m13 23 rfl
theorem q3055 : (Jvm.Cond.instanceMethod ({ cls := "CrossbarExchangeModel", name := "groupOfToken", desc := "()I" } : Jvm.MethodName)) ∈ lw_all := lw_g (lw_at lw_m13 24 rfl) rfl
theorem q3056 : (Jvm.Cond.code ({ cls := "CrossbarExchangeModel", name := "groupOfToken", desc := "()I" } : Jvm.MethodName) prog_12_method_66_code (4 : Nat) (Option.some Jvm.ClassFile.FieldType.int)) ∈ lw_all := lw_g (lw_at lw_m13 25 rfl) rfl
theorem q3057 : (Jvm.Cond.methodLink "CrossbarExchangeModel" (161 : Nat) ({ cls := "CrossbarExchangeModel", name := "subscribers", desc := "()I" } : Jvm.MethodName)) ∈ lw_all := lw_g (lw_at lw_m13 26 rfl) rfl
theorem q3058 : (Jvm.Cond.privateMethod ({ cls := "CrossbarExchangeModel", name := "subscribers", desc := "()I" } : Jvm.MethodName)) ∈ lw_tbl := lw_at lw_m13 27 rfl
theorem q3059 : (Jvm.Cond.instanceMethod ({ cls := "CrossbarExchangeModel", name := "subscribers", desc := "()I" } : Jvm.MethodName)) ∈ lw_all := lw_g (lw_at lw_m13 28 rfl) rfl
theorem q3060 : (Jvm.Cond.code ({ cls := "CrossbarExchangeModel", name := "subscribers", desc := "()I" } : Jvm.MethodName) prog_12_method_14_code (1 : Nat) (Option.some Jvm.ClassFile.FieldType.int)) ∈ lw_all := lw_g (lw_at lw_m13 29 rfl) rfl
theorem q3061 : (Jvm.Cond.methodLink "CrossbarExchangeModel" (270 : Nat) ({ cls := "CrossbarExchangeModel", name := "readsCommands", desc := "()I" } : Jvm.MethodName)) ∈ lw_all := lw_g (lw_at lw_m13 30 rfl) rfl
theorem q3062 : (Jvm.Cond.privateMethod ({ cls := "CrossbarExchangeModel", name := "readsCommands", desc := "()I" } : Jvm.MethodName)) ∈ lw_tbl := lw_at lw_m13 31 rfl
theorem q3063 : (Jvm.Cond.instanceMethod ({ cls := "CrossbarExchangeModel", name := "readsCommands", desc := "()I" } : Jvm.MethodName)) ∈ lw_all := lw_g (lw_at lw_m13 32 rfl) rfl
theorem q3064 : (Jvm.Cond.code ({ cls := "CrossbarExchangeModel", name := "readsCommands", desc := "()I" } : Jvm.MethodName) prog_12_method_68_code (2 : Nat) (Option.some Jvm.ClassFile.FieldType.int)) ∈ lw_all := lw_g (lw_at lw_m13 33 rfl) rfl
theorem q3065 : (Jvm.Cond.methodLink "CrossbarExchangeModel" (344 : Nat) ({ cls := "CrossbarExchangeModel", name := "command", desc := "()Z" } : Jvm.MethodName)) ∈ lw_all := lw_g (lw_at lw_m13 34 rfl) rfl
theorem q3066 : (Jvm.Cond.privateMethod ({ cls := "CrossbarExchangeModel", name := "command", desc := "()Z" } : Jvm.MethodName)) ∈ lw_tbl := lw_at lw_m13 35 rfl
theorem q3067 : (Jvm.Cond.instanceMethod ({ cls := "CrossbarExchangeModel", name := "command", desc := "()Z" } : Jvm.MethodName)) ∈ lw_all := lw_g (lw_at lw_m13 36 rfl) rfl
theorem q3068 : (Jvm.Cond.code ({ cls := "CrossbarExchangeModel", name := "command", desc := "()Z" } : Jvm.MethodName) prog_12_method_70_code (5 : Nat) (Option.some Jvm.ClassFile.FieldType.boolean)) ∈ lw_all := lw_g (lw_at lw_m13 37 rfl) rfl
theorem q3069 : (Jvm.Cond.constantLong "CrossbarExchangeModel" (349 : Nat) (99724 : Int64)) ∈ lw_all := lw_g (lw_at lw_m13 38 rfl) rfl
theorem q3070 : (Jvm.Cond.constantLong "CrossbarExchangeModel" (351 : Nat) (140332 : Int64)) ∈ lw_all := lw_g (lw_at lw_m13 39 rfl) rfl
theorem q3071 : (Jvm.Cond.methodLink "CrossbarExchangeModel" (353 : Nat) ({ cls := "CrossbarExchangeModel", name := "readsCall", desc := "()Z" } : Jvm.MethodName)) ∈ lw_all := lw_g (lw_at lw_m13 40 rfl) rfl
theorem q3072 : (Jvm.Cond.privateMethod ({ cls := "CrossbarExchangeModel", name := "readsCall", desc := "()Z" } : Jvm.MethodName)) ∈ lw_tbl := lw_at lw_m13 41 rfl
theorem q3073 : (Jvm.Cond.instanceMethod ({ cls := "CrossbarExchangeModel", name := "readsCall", desc := "()Z" } : Jvm.MethodName)) ∈ lw_all := lw_g (lw_at lw_m13 42 rfl) rfl
theorem q3074 : (Jvm.Cond.code ({ cls := "CrossbarExchangeModel", name := "readsCall", desc := "()Z" } : Jvm.MethodName) prog_12_method_71_code (3 : Nat) (Option.some Jvm.ClassFile.FieldType.boolean)) ∈ lw_all := lw_g (lw_at lw_m13 43 rfl) rfl
theorem q3075 : (Jvm.Cond.methodLink "CrossbarExchangeModel" (361 : Nat) ({ cls := "CrossbarExchangeModel", name := "readsSubscriber", desc := "()Z" } : Jvm.MethodName)) ∈ lw_all := lw_g (lw_at lw_m13 44 rfl) rfl
theorem q3076 : (Jvm.Cond.privateMethod ({ cls := "CrossbarExchangeModel", name := "readsSubscriber", desc := "()Z" } : Jvm.MethodName)) ∈ lw_tbl := lw_at lw_m13 45 rfl
theorem q3077 : (Jvm.Cond.instanceMethod ({ cls := "CrossbarExchangeModel", name := "readsSubscriber", desc := "()Z" } : Jvm.MethodName)) ∈ lw_all := lw_g (lw_at lw_m13 46 rfl) rfl
theorem q3078 : (Jvm.Cond.code ({ cls := "CrossbarExchangeModel", name := "readsSubscriber", desc := "()Z" } : Jvm.MethodName) prog_12_method_61_code (1 : Nat) (Option.some Jvm.ClassFile.FieldType.boolean)) ∈ lw_all := lw_g (lw_at lw_m13 47 rfl) rfl
theorem q3079 : (Jvm.Cond.methodLink "CrossbarExchangeModel" (392 : Nat) ({ cls := "CrossbarExchangeModel", name := "readsLasts", desc := "()Z" } : Jvm.MethodName)) ∈ lw_all := lw_g (lw_at lw_m13 48 rfl) rfl
theorem q3080 : (Jvm.Cond.privateMethod ({ cls := "CrossbarExchangeModel", name := "readsLasts", desc := "()Z" } : Jvm.MethodName)) ∈ lw_tbl := lw_at lw_m13 49 rfl
theorem q3081 : (Jvm.Cond.instanceMethod ({ cls := "CrossbarExchangeModel", name := "readsLasts", desc := "()Z" } : Jvm.MethodName)) ∈ lw_all := lw_g (lw_at lw_m13 50 rfl) rfl
theorem q3082 : (Jvm.Cond.code ({ cls := "CrossbarExchangeModel", name := "readsLasts", desc := "()Z" } : Jvm.MethodName) prog_12_method_69_code (2 : Nat) (Option.some Jvm.ClassFile.FieldType.boolean)) ∈ lw_all := lw_g (lw_at lw_m13 51 rfl) rfl
theorem q3083 : (Jvm.Cond.constantLong "CrossbarExchangeModel" (347 : Nat) (6642 : Int64)) ∈ lw_all := lw_g (lw_at lw_m13 52 rfl) rfl
theorem q3084 : (Jvm.Cond.methodLink "CrossbarExchangeModel" (395 : Nat) ({ cls := "CrossbarExchangeModel", name := "callsUp", desc := "(III)I" } : Jvm.MethodName)) ∈ lw_all := lw_g (lw_at lw_m13 53 rfl) rfl
theorem q3085 : (Jvm.Cond.privateMethod ({ cls := "CrossbarExchangeModel", name := "callsUp", desc := "(III)I" } : Jvm.MethodName)) ∈ lw_tbl := lw_at lw_m13 54 rfl
theorem q3086 : (Jvm.Cond.instanceMethod ({ cls := "CrossbarExchangeModel", name := "callsUp", desc := "(III)I" } : Jvm.MethodName)) ∈ lw_all := lw_g (lw_at lw_m13 55 rfl) rfl
theorem q3087 : (Jvm.Cond.code ({ cls := "CrossbarExchangeModel", name := "callsUp", desc := "(III)I" } : Jvm.MethodName) prog_12_method_43_code (5 : Nat) (Option.some Jvm.ClassFile.FieldType.int)) ∈ lw_all := lw_g (lw_at lw_m13 56 rfl) rfl
theorem q3088 : (Jvm.Cond.methodLink "CrossbarExchangeModel" (244 : Nat) ({ cls := "CrossbarExchangeModel", name := "reasonNot", desc := "(II)I" } : Jvm.MethodName)) ∈ lw_all := lw_g (lw_at lw_m13 57 rfl) rfl
theorem q3089 : (Jvm.Cond.privateMethod ({ cls := "CrossbarExchangeModel", name := "reasonNot", desc := "(II)I" } : Jvm.MethodName)) ∈ lw_tbl := lw_at lw_m13 58 rfl
theorem q3090 : (Jvm.Cond.instanceMethod ({ cls := "CrossbarExchangeModel", name := "reasonNot", desc := "(II)I" } : Jvm.MethodName)) ∈ lw_all := lw_g (lw_at lw_m13 59 rfl) rfl
theorem q3091 : (Jvm.Cond.code ({ cls := "CrossbarExchangeModel", name := "reasonNot", desc := "(II)I" } : Jvm.MethodName) prog_12_method_38_code (3 : Nat) (Option.some Jvm.ClassFile.FieldType.int)) ∈ lw_all := lw_g (lw_at lw_m13 60 rfl) rfl
theorem q3092 : (Jvm.Cond.methodLink "CrossbarExchangeModel" (224 : Nat) ({ cls := "CrossbarExchangeModel", name := "isIdle", desc := "(I)Z" } : Jvm.MethodName)) ∈ lw_all := lw_g (lw_at lw_m13 61 rfl) rfl
theorem q3093 : (Jvm.Cond.privateMethod ({ cls := "CrossbarExchangeModel", name := "isIdle", desc := "(I)Z" } : Jvm.MethodName)) ∈ lw_tbl := lw_at lw_m13 62 rfl
theorem q3094 : (Jvm.Cond.instanceMethod ({ cls := "CrossbarExchangeModel", name := "isIdle", desc := "(I)Z" } : Jvm.MethodName)) ∈ lw_all := lw_g (lw_at lw_m13 63 rfl) rfl
theorem q3095 : (Jvm.Cond.code ({ cls := "CrossbarExchangeModel", name := "isIdle", desc := "(I)Z" } : Jvm.MethodName) prog_12_method_23_code (2 : Nat) (Option.some Jvm.ClassFile.FieldType.boolean)) ∈ lw_all := lw_g (lw_at lw_m13 64 rfl) rfl
theorem q3096 : (Jvm.Cond.methodLink "CrossbarExchangeModel" (168 : Nat) ({ cls := "CrossbarExchangeModel", name := "callWith", desc := "(I)I" } : Jvm.MethodName)) ∈ lw_all := lw_g (lw_at lw_m13 65 rfl) rfl
theorem q3097 : (Jvm.Cond.privateMethod ({ cls := "CrossbarExchangeModel", name := "callWith", desc := "(I)I" } : Jvm.MethodName)) ∈ lw_tbl := lw_at lw_m13 66 rfl
theorem q3098 : (Jvm.Cond.instanceMethod ({ cls := "CrossbarExchangeModel", name := "callWith", desc := "(I)I" } : Jvm.MethodName)) ∈ lw_all := lw_g (lw_at lw_m13 67 rfl) rfl
theorem q3099 : (Jvm.Cond.code ({ cls := "CrossbarExchangeModel", name := "callWith", desc := "(I)I" } : Jvm.MethodName) prog_12_method_21_code (3 : Nat) (Option.some Jvm.ClassFile.FieldType.int)) ∈ lw_all := lw_g (lw_at lw_m13 68 rfl) rfl
theorem q3100 : (Jvm.Cond.methodLink "CrossbarExchangeModel" (171 : Nat) ({ cls := "CrossbarExchangeModel", name := "waiterPlace", desc := "(I)I" } : Jvm.MethodName)) ∈ lw_all := lw_g (lw_at lw_m13 69 rfl) rfl
theorem q3101 : (Jvm.Cond.privateMethod ({ cls := "CrossbarExchangeModel", name := "waiterPlace", desc := "(I)I" } : Jvm.MethodName)) ∈ lw_tbl := lw_at lw_m13 70 rfl
theorem q3102 : (Jvm.Cond.instanceMethod ({ cls := "CrossbarExchangeModel", name := "waiterPlace", desc := "(I)I" } : Jvm.MethodName)) ∈ lw_all := lw_g (lw_at lw_m13 71 rfl) rfl
theorem q3103 : (Jvm.Cond.code ({ cls := "CrossbarExchangeModel", name := "waiterPlace", desc := "(I)I" } : Jvm.MethodName) prog_12_method_22_code (3 : Nat) (Option.some Jvm.ClassFile.FieldType.int)) ∈ lw_all := lw_g (lw_at lw_m13 72 rfl) rfl
theorem q3104 : (Jvm.Cond.methodLink "CrossbarExchangeModel" (227 : Nat) ({ cls := "CrossbarExchangeModel", name := "isBlocked", desc := "(II)Z" } : Jvm.MethodName)) ∈ lw_all := lw_g (lw_at lw_m13 73 rfl) rfl
theorem q3105 : (Jvm.Cond.privateMethod ({ cls := "CrossbarExchangeModel", name := "isBlocked", desc := "(II)Z" } : Jvm.MethodName)) ∈ lw_tbl := lw_at lw_m13 74 rfl
theorem q3106 : (Jvm.Cond.instanceMethod ({ cls := "CrossbarExchangeModel", name := "isBlocked", desc := "(II)Z" } : Jvm.MethodName)) ∈ lw_all := lw_g (lw_at lw_m13 75 rfl) rfl
theorem q3107 : (Jvm.Cond.code ({ cls := "CrossbarExchangeModel", name := "isBlocked", desc := "(II)Z" } : Jvm.MethodName) prog_12_method_35_code (3 : Nat) (Option.some Jvm.ClassFile.FieldType.boolean)) ∈ lw_all := lw_g (lw_at lw_m13 76 rfl) rfl
theorem q3108 : (Jvm.Cond.methodLink "CrossbarExchangeModel" (212 : Nat) ({ cls := "CrossbarExchangeModel", name := "hunted", desc := "(IIII)I" } : Jvm.MethodName)) ∈ lw_all := lw_g (lw_at lw_m13 77 rfl) rfl
theorem q3109 : (Jvm.Cond.privateMethod ({ cls := "CrossbarExchangeModel", name := "hunted", desc := "(IIII)I" } : Jvm.MethodName)) ∈ lw_tbl := lw_at lw_m13 78 rfl
theorem q3110 : (Jvm.Cond.instanceMethod ({ cls := "CrossbarExchangeModel", name := "hunted", desc := "(IIII)I" } : Jvm.MethodName)) ∈ lw_all := lw_g (lw_at lw_m13 79 rfl) rfl
theorem q3111 : (Jvm.Cond.code ({ cls := "CrossbarExchangeModel", name := "hunted", desc := "(IIII)I" } : Jvm.MethodName) prog_12_method_31_code (8 : Nat) (Option.some Jvm.ClassFile.FieldType.int)) ∈ lw_all := lw_g (lw_at lw_m13 80 rfl) rfl
theorem q3112 : (Jvm.Cond.methodLink "CrossbarExchangeModel" (188 : Nat) ({ cls := "CrossbarExchangeModel", name := "isOpen", desc := "(IIII)Z" } : Jvm.MethodName)) ∈ lw_all := lw_g (lw_at lw_m13 81 rfl) rfl
theorem q3113 : (Jvm.Cond.privateMethod ({ cls := "CrossbarExchangeModel", name := "isOpen", desc := "(IIII)Z" } : Jvm.MethodName)) ∈ lw_tbl := lw_at lw_m13 82 rfl
theorem q3114 : (Jvm.Cond.instanceMethod ({ cls := "CrossbarExchangeModel", name := "isOpen", desc := "(IIII)Z" } : Jvm.MethodName)) ∈ lw_all := lw_g (lw_at lw_m13 83 rfl) rfl
theorem q3115 : (Jvm.Cond.code ({ cls := "CrossbarExchangeModel", name := "isOpen", desc := "(IIII)Z" } : Jvm.MethodName) prog_12_method_30_code (5 : Nat) (Option.some Jvm.ClassFile.FieldType.boolean)) ∈ lw_all := lw_g (lw_at lw_m13 84 rfl) rfl
theorem q3116 : (Jvm.Cond.methodLink "CrossbarExchangeModel" (180 : Nat) ({ cls := "CrossbarExchangeModel", name := "isThere", desc := "(II)Z" } : Jvm.MethodName)) ∈ lw_all := lw_g (lw_at lw_m13 85 rfl) rfl
theorem q3117 : (Jvm.Cond.privateMethod ({ cls := "CrossbarExchangeModel", name := "isThere", desc := "(II)Z" } : Jvm.MethodName)) ∈ lw_tbl := lw_at lw_m13 86 rfl
theorem q3118 : (Jvm.Cond.instanceMethod ({ cls := "CrossbarExchangeModel", name := "isThere", desc := "(II)Z" } : Jvm.MethodName)) ∈ lw_all := lw_g (lw_at lw_m13 87 rfl) rfl
theorem q3119 : (Jvm.Cond.code ({ cls := "CrossbarExchangeModel", name := "isThere", desc := "(II)Z" } : Jvm.MethodName) prog_12_method_29_code (5 : Nat) (Option.some Jvm.ClassFile.FieldType.boolean)) ∈ lw_all := lw_g (lw_at lw_m13 88 rfl) rfl
theorem q3120 : (Jvm.Cond.methodLink "CrossbarExchangeModel" (164 : Nat) ({ cls := "CrossbarExchangeModel", name := "isCut", desc := "(I)Z" } : Jvm.MethodName)) ∈ lw_all := lw_g (lw_at lw_m13 89 rfl) rfl
theorem q3121 : (Jvm.Cond.privateMethod ({ cls := "CrossbarExchangeModel", name := "isCut", desc := "(I)Z" } : Jvm.MethodName)) ∈ lw_tbl := lw_at lw_m13 90 rfl
theorem q3122 : (Jvm.Cond.instanceMethod ({ cls := "CrossbarExchangeModel", name := "isCut", desc := "(I)Z" } : Jvm.MethodName)) ∈ lw_all := lw_g (lw_at lw_m13 91 rfl) rfl
theorem q3123 : (Jvm.Cond.code ({ cls := "CrossbarExchangeModel", name := "isCut", desc := "(I)Z" } : Jvm.MethodName) prog_12_method_19_code (2 : Nat) (Option.some Jvm.ClassFile.FieldType.boolean)) ∈ lw_all := lw_g (lw_at lw_m13 92 rfl) rfl
theorem q3124 : (Jvm.Cond.methodLink "CrossbarExchangeModel" (184 : Nat) ({ cls := "CrossbarExchangeModel", name := "carriedAt", desc := "(IIZ)I" } : Jvm.MethodName)) ∈ lw_all := lw_g (lw_at lw_m13 93 rfl) rfl
theorem q3125 : (Jvm.Cond.privateMethod ({ cls := "CrossbarExchangeModel", name := "carriedAt", desc := "(IIZ)I" } : Jvm.MethodName)) ∈ lw_tbl := lw_at lw_m13 94 rfl
theorem q3126 : (Jvm.Cond.instanceMethod ({ cls := "CrossbarExchangeModel", name := "carriedAt", desc := "(IIZ)I" } : Jvm.MethodName)) ∈ lw_all := lw_g (lw_at lw_m13 95 rfl) rfl
theorem q3127 : (Jvm.Cond.code ({ cls := "CrossbarExchangeModel", name := "carriedAt", desc := "(IIZ)I" } : Jvm.MethodName) prog_12_method_26_code (5 : Nat) (Option.some Jvm.ClassFile.FieldType.int)) ∈ lw_all := lw_g (lw_at lw_m13 96 rfl) rfl
theorem q3128 : (Jvm.Cond.methodLink "CrossbarExchangeModel" (174 : Nat) ({ cls := "CrossbarExchangeModel", name := "toSwitch", desc := "(I)I" } : Jvm.MethodName)) ∈ lw_all := lw_g (lw_at lw_m13 97 rfl) rfl
theorem q3129 : (Jvm.Cond.privateMethod ({ cls := "CrossbarExchangeModel", name := "toSwitch", desc := "(I)I" } : Jvm.MethodName)) ∈ lw_tbl := lw_at lw_m13 98 rfl
theorem q3130 : (Jvm.Cond.instanceMethod ({ cls := "CrossbarExchangeModel", name := "toSwitch", desc := "(I)I" } : Jvm.MethodName)) ∈ lw_all := lw_g (lw_at lw_m13 99 rfl) rfl
theorem q3131 : (Jvm.Cond.code ({ cls := "CrossbarExchangeModel", name := "toSwitch", desc := "(I)I" } : Jvm.MethodName) prog_12_method_25_code (2 : Nat) (Option.some Jvm.ClassFile.FieldType.int)) ∈ lw_all := lw_g (lw_at lw_m13 100 rfl) rfl
theorem q3132 : (Jvm.Cond.methodLink "CrossbarExchangeModel" (177 : Nat) ({ cls := "CrossbarExchangeModel", name := "fromSwitch", desc := "(I)I" } : Jvm.MethodName)) ∈ lw_all := lw_g (lw_at lw_m13 101 rfl) rfl
theorem q3133 : (Jvm.Cond.privateMethod ({ cls := "CrossbarExchangeModel", name := "fromSwitch", desc := "(I)I" } : Jvm.MethodName)) ∈ lw_tbl := lw_at lw_m13 102 rfl
theorem q3134 : (Jvm.Cond.instanceMethod ({ cls := "CrossbarExchangeModel", name := "fromSwitch", desc := "(I)I" } : Jvm.MethodName)) ∈ lw_all := lw_g (lw_at lw_m13 103 rfl) rfl
theorem q3135 : (Jvm.Cond.code ({ cls := "CrossbarExchangeModel", name := "fromSwitch", desc := "(I)I" } : Jvm.MethodName) prog_12_method_24_code (2 : Nat) (Option.some Jvm.ClassFile.FieldType.int)) ∈ lw_all := lw_g (lw_at lw_m13 104 rfl) rfl
theorem q3136 : (Jvm.Cond.methodLink "CrossbarExchangeModel" (192 : Nat) ({ cls := "CrossbarExchangeModel", name := "loadOf", desc := "(I)I" } : Jvm.MethodName)) ∈ lw_all := lw_g (lw_at lw_m13 105 rfl) rfl
theorem q3137 : (Jvm.Cond.privateMethod ({ cls := "CrossbarExchangeModel", name := "loadOf", desc := "(I)I" } : Jvm.MethodName)) ∈ lw_tbl := lw_at lw_m13 106 rfl
theorem q3138 : (Jvm.Cond.instanceMethod ({ cls := "CrossbarExchangeModel", name := "loadOf", desc := "(I)I" } : Jvm.MethodName)) ∈ lw_all := lw_g (lw_at lw_m13 107 rfl) rfl
theorem q3139 : (Jvm.Cond.code ({ cls := "CrossbarExchangeModel", name := "loadOf", desc := "(I)I" } : Jvm.MethodName) prog_12_method_27_code (4 : Nat) (Option.some Jvm.ClassFile.FieldType.int)) ∈ lw_all := lw_g (lw_at lw_m13 108 rfl) rfl
theorem q3140 : (Jvm.Cond.methodLink "CrossbarExchangeModel" (216 : Nat) ({ cls := "CrossbarExchangeModel", name := "findChain", desc := "(III)Z" } : Jvm.MethodName)) ∈ lw_all := lw_g (lw_at lw_m13 109 rfl) rfl
theorem q3141 : (Jvm.Cond.privateMethod ({ cls := "CrossbarExchangeModel", name := "findChain", desc := "(III)Z" } : Jvm.MethodName)) ∈ lw_tbl := lw_at lw_m13 110 rfl
theorem q3142 : (Jvm.Cond.instanceMethod ({ cls := "CrossbarExchangeModel", name := "findChain", desc := "(III)Z" } : Jvm.MethodName)) ∈ lw_all := lw_g (lw_at lw_m13 111 rfl) rfl
theorem q3143 : (Jvm.Cond.code ({ cls := "CrossbarExchangeModel", name := "findChain", desc := "(III)Z" } : Jvm.MethodName) prog_12_method_33_code (9 : Nat) (Option.some Jvm.ClassFile.FieldType.boolean)) ∈ lw_all := lw_g (lw_at lw_m13 112 rfl) rfl
theorem q3144 : (Jvm.Cond.methodLink "CrossbarExchangeModel" (198 : Nat) ({ cls := "CrossbarExchangeModel", name := "walk", desc := "(IIIIZ)I" } : Jvm.MethodName)) ∈ lw_all := lw_g (lw_at lw_m13 113 rfl) rfl
theorem q3145 : (Jvm.Cond.privateMethod ({ cls := "CrossbarExchangeModel", name := "walk", desc := "(IIIIZ)I" } : Jvm.MethodName)) ∈ lw_tbl := lw_at lw_m13 114 rfl
theorem q3146 : (Jvm.Cond.instanceMethod ({ cls := "CrossbarExchangeModel", name := "walk", desc := "(IIIIZ)I" } : Jvm.MethodName)) ∈ lw_all := lw_g (lw_at lw_m13 115 rfl) rfl
theorem q3147 : (Jvm.Cond.code ({ cls := "CrossbarExchangeModel", name := "walk", desc := "(IIIIZ)I" } : Jvm.MethodName) prog_12_method_32_code (10 : Nat) (Option.some Jvm.ClassFile.FieldType.int)) ∈ lw_all := lw_g (lw_at lw_m13 116 rfl) rfl
theorem q3148 : (Jvm.Cond.methodLink "CrossbarExchangeModel" (237 : Nat) ({ cls := "CrossbarExchangeModel", name := "begins", desc := "(III)I" } : Jvm.MethodName)) ∈ lw_all := lw_g (lw_at lw_m13 117 rfl) rfl
theorem q3149 : (Jvm.Cond.privateMethod ({ cls := "CrossbarExchangeModel", name := "begins", desc := "(III)I" } : Jvm.MethodName)) ∈ lw_tbl := lw_at lw_m13 118 rfl
theorem q3150 : (Jvm.Cond.instanceMethod ({ cls := "CrossbarExchangeModel", name := "begins", desc := "(III)I" } : Jvm.MethodName)) ∈ lw_all := lw_g (lw_at lw_m13 119 rfl) rfl
theorem q3151 : (Jvm.Cond.code ({ cls := "CrossbarExchangeModel", name := "begins", desc := "(III)I" } : Jvm.MethodName) prog_12_method_36_code (6 : Nat) (Option.some Jvm.ClassFile.FieldType.int)) ∈ lw_all := lw_g (lw_at lw_m13 120 rfl) rfl
theorem q3152 : (Jvm.Cond.methodLink "CrossbarExchangeModel" (220 : Nat) ({ cls := "CrossbarExchangeModel", name := "route", desc := "(IIIZIZ)I" } : Jvm.MethodName)) ∈ lw_all := lw_g (lw_at lw_m13 121 rfl) rfl
theorem q3153 : (Jvm.Cond.privateMethod ({ cls := "CrossbarExchangeModel", name := "route", desc := "(IIIZIZ)I" } : Jvm.MethodName)) ∈ lw_tbl := lw_at lw_m13 122 rfl
theorem q3154 : (Jvm.Cond.instanceMethod ({ cls := "CrossbarExchangeModel", name := "route", desc := "(IIIZIZ)I" } : Jvm.MethodName)) ∈ lw_all := lw_g (lw_at lw_m13 123 rfl) rfl
theorem q3155 : (Jvm.Cond.code ({ cls := "CrossbarExchangeModel", name := "route", desc := "(IIIZIZ)I" } : Jvm.MethodName) prog_12_method_34_code (9 : Nat) (Option.some Jvm.ClassFile.FieldType.int)) ∈ lw_all := lw_g (lw_at lw_m13 124 rfl) rfl
theorem q3156 : (Jvm.Cond.methodLink "CrossbarExchangeModel" (230 : Nat) ({ cls := "CrossbarExchangeModel", name := "refused", desc := "(I)I" } : Jvm.MethodName)) ∈ lw_all := lw_g (lw_at lw_m13 125 rfl) rfl
theorem q3157 : (Jvm.Cond.privateMethod ({ cls := "CrossbarExchangeModel", name := "refused", desc := "(I)I" } : Jvm.MethodName)) ∈ lw_tbl := lw_at lw_m13 126 rfl
theorem q3158 : (Jvm.Cond.instanceMethod ({ cls := "CrossbarExchangeModel", name := "refused", desc := "(I)I" } : Jvm.MethodName)) ∈ lw_all := lw_g (lw_at lw_m13 127 rfl) rfl
theorem q3159 : (Jvm.Cond.code ({ cls := "CrossbarExchangeModel", name := "refused", desc := "(I)I" } : Jvm.MethodName) prog_12_method_39_code (2 : Nat) (Option.some Jvm.ClassFile.FieldType.int)) ∈ lw_all := lw_g (lw_at lw_m13 128 rfl) rfl
theorem q3160 : (Jvm.Cond.methodLink "CrossbarExchangeModel" (356 : Nat) ({ cls := "CrossbarExchangeModel", name := "readsDial", desc := "()Z" } : Jvm.MethodName)) ∈ lw_all := lw_g (lw_at lw_m13 129 rfl) rfl
theorem q3161 : (Jvm.Cond.privateMethod ({ cls := "CrossbarExchangeModel", name := "readsDial", desc := "()Z" } : Jvm.MethodName)) ∈ lw_tbl := lw_at lw_m13 130 rfl
theorem q3162 : (Jvm.Cond.instanceMethod ({ cls := "CrossbarExchangeModel", name := "readsDial", desc := "()Z" } : Jvm.MethodName)) ∈ lw_all := lw_g (lw_at lw_m13 131 rfl) rfl
theorem q3163 : (Jvm.Cond.code ({ cls := "CrossbarExchangeModel", name := "readsDial", desc := "()Z" } : Jvm.MethodName) prog_12_method_72_code (3 : Nat) (Option.some Jvm.ClassFile.FieldType.boolean)) ∈ lw_all := lw_g (lw_at lw_m13 132 rfl) rfl
theorem q3164 : (Jvm.Cond.methodLink "CrossbarExchangeModel" (398 : Nat) ({ cls := "CrossbarExchangeModel", name := "dials", desc := "(III)I" } : Jvm.MethodName)) ∈ lw_all := lw_g (lw_at lw_m13 133 rfl) rfl
theorem q3165 : (Jvm.Cond.privateMethod ({ cls := "CrossbarExchangeModel", name := "dials", desc := "(III)I" } : Jvm.MethodName)) ∈ lw_tbl := lw_at lw_m13 134 rfl
theorem q3166 : (Jvm.Cond.instanceMethod ({ cls := "CrossbarExchangeModel", name := "dials", desc := "(III)I" } : Jvm.MethodName)) ∈ lw_all := lw_g (lw_at lw_m13 135 rfl) rfl
theorem q3167 : (Jvm.Cond.code ({ cls := "CrossbarExchangeModel", name := "dials", desc := "(III)I" } : Jvm.MethodName) prog_12_method_42_code (5 : Nat) (Option.some Jvm.ClassFile.FieldType.int)) ∈ lw_all := lw_g (lw_at lw_m13 136 rfl) rfl
theorem q3168 : (Jvm.Cond.methodLink "CrossbarExchangeModel" (233 : Nat) ({ cls := "CrossbarExchangeModel", name := "memberFor", desc := "(II)I" } : Jvm.MethodName)) ∈ lw_all := lw_g (lw_at lw_m13 137 rfl) rfl
theorem q3169 : (Jvm.Cond.privateMethod ({ cls := "CrossbarExchangeModel", name := "memberFor", desc := "(II)I" } : Jvm.MethodName)) ∈ lw_tbl := lw_at lw_m13 138 rfl
theorem q3170 : (Jvm.Cond.instanceMethod ({ cls := "CrossbarExchangeModel", name := "memberFor", desc := "(II)I" } : Jvm.MethodName)) ∈ lw_all := lw_g (lw_at lw_m13 139 rfl) rfl
theorem q3171 : (Jvm.Cond.code ({ cls := "CrossbarExchangeModel", name := "memberFor", desc := "(II)I" } : Jvm.MethodName) prog_12_method_40_code (5 : Nat) (Option.some Jvm.ClassFile.FieldType.int)) ∈ lw_all := lw_g (lw_at lw_m13 140 rfl) rfl
theorem q3172 : (Jvm.Cond.methodLink "CrossbarExchangeModel" (241 : Nat) ({ cls := "CrossbarExchangeModel", name := "hasIdleMember", desc := "(II)Z" } : Jvm.MethodName)) ∈ lw_all := lw_g (lw_at lw_m13 141 rfl) rfl
theorem q3173 : (Jvm.Cond.privateMethod ({ cls := "CrossbarExchangeModel", name := "hasIdleMember", desc := "(II)Z" } : Jvm.MethodName)) ∈ lw_tbl := lw_at lw_m13 142 rfl
theorem q3174 : (Jvm.Cond.instanceMethod ({ cls := "CrossbarExchangeModel", name := "hasIdleMember", desc := "(II)Z" } : Jvm.MethodName)) ∈ lw_all := lw_g (lw_at lw_m13 143 rfl) rfl
theorem q3175 : (Jvm.Cond.code ({ cls := "CrossbarExchangeModel", name := "hasIdleMember", desc := "(II)Z" } : Jvm.MethodName) prog_12_method_41_code (5 : Nat) (Option.some Jvm.ClassFile.FieldType.boolean)) ∈ lw_all := lw_g (lw_at lw_m13 144 rfl) rfl
theorem q3176 : (Jvm.Cond.constantLong "CrossbarExchangeModel" (359 : Nat) (263623 : Int64)) ∈ lw_all := lw_g (lw_at lw_m13 145 rfl) rfl
theorem q3177 : (Jvm.Cond.methodLink "CrossbarExchangeModel" (364 : Nat) ({ cls := "CrossbarExchangeModel", name := "hangs", desc := "(I)I" } : Jvm.MethodName)) ∈ lw_all := lw_g (lw_at lw_m13 146 rfl) rfl
theorem q3178 : (Jvm.Cond.privateMethod ({ cls := "CrossbarExchangeModel", name := "hangs", desc := "(I)I" } : Jvm.MethodName)) ∈ lw_tbl := lw_at lw_m13 147 rfl
theorem q3179 : (Jvm.Cond.instanceMethod ({ cls := "CrossbarExchangeModel", name := "hangs", desc := "(I)I" } : Jvm.MethodName)) ∈ lw_all := lw_g (lw_at lw_m13 148 rfl) rfl
theorem q3180 : (Jvm.Cond.code ({ cls := "CrossbarExchangeModel", name := "hangs", desc := "(I)I" } : Jvm.MethodName) prog_12_method_46_code (4 : Nat) (Option.some Jvm.ClassFile.FieldType.int)) ∈ lw_all := lw_g (lw_at lw_m13 149 rfl) rfl
theorem q3181 : (Jvm.Cond.methodLink "CrossbarExchangeModel" (247 : Nat) ({ cls := "CrossbarExchangeModel", name := "stopsWaiting", desc := "(I)V" } : Jvm.MethodName)) ∈ lw_all := lw_g (lw_at lw_m13 150 rfl) rfl
theorem q3182 : (Jvm.Cond.privateMethod ({ cls := "CrossbarExchangeModel", name := "stopsWaiting", desc := "(I)V" } : Jvm.MethodName)) ∈ lw_tbl := lw_at lw_m13 151 rfl
theorem q3183 : (Jvm.Cond.instanceMethod ({ cls := "CrossbarExchangeModel", name := "stopsWaiting", desc := "(I)V" } : Jvm.MethodName)) ∈ lw_all := lw_g (lw_at lw_m13 152 rfl) rfl
theorem q3184 : (Jvm.Cond.code ({ cls := "CrossbarExchangeModel", name := "stopsWaiting", desc := "(I)V" } : Jvm.MethodName) prog_12_method_44_code (3 : Nat) (Option.none : Option Jvm.ClassFile.FieldType)) ∈ lw_all := lw_g (lw_at lw_m13 153 rfl) rfl
theorem q3185 : (Jvm.Cond.methodLink "CrossbarExchangeModel" (250 : Nat) ({ cls := "CrossbarExchangeModel", name := "ends", desc := "(I)V" } : Jvm.MethodName)) ∈ lw_all := lw_g (lw_at lw_m13 154 rfl) rfl
theorem q3186 : (Jvm.Cond.privateMethod ({ cls := "CrossbarExchangeModel", name := "ends", desc := "(I)V" } : Jvm.MethodName)) ∈ lw_tbl := lw_at lw_m13 155 rfl
theorem q3187 : (Jvm.Cond.instanceMethod ({ cls := "CrossbarExchangeModel", name := "ends", desc := "(I)V" } : Jvm.MethodName)) ∈ lw_all := lw_g (lw_at lw_m13 156 rfl) rfl
theorem q3188 : (Jvm.Cond.code ({ cls := "CrossbarExchangeModel", name := "ends", desc := "(I)V" } : Jvm.MethodName) prog_12_method_37_code (3 : Nat) (Option.none : Option Jvm.ClassFile.FieldType)) ∈ lw_all := lw_g (lw_at lw_m13 157 rfl) rfl
theorem q3189 : (Jvm.Cond.methodLink "CrossbarExchangeModel" (253 : Nat) ({ cls := "CrossbarExchangeModel", name := "serves", desc := "()V" } : Jvm.MethodName)) ∈ lw_all := lw_g (lw_at lw_m13 158 rfl) rfl
theorem q3190 : (Jvm.Cond.privateMethod ({ cls := "CrossbarExchangeModel", name := "serves", desc := "()V" } : Jvm.MethodName)) ∈ lw_tbl := lw_at lw_m13 159 rfl
theorem q3191 : (Jvm.Cond.instanceMethod ({ cls := "CrossbarExchangeModel", name := "serves", desc := "()V" } : Jvm.MethodName)) ∈ lw_all := lw_g (lw_at lw_m13 160 rfl) rfl
theorem q3192 : (Jvm.Cond.code ({ cls := "CrossbarExchangeModel", name := "serves", desc := "()V" } : Jvm.MethodName) prog_12_method_45_code (5 : Nat) (Option.none : Option Jvm.ClassFile.FieldType)) ∈ lw_all := lw_g (lw_at lw_m13 161 rfl) rfl
theorem q3193 : (Jvm.Cond.constantLong "CrossbarExchangeModel" (367 : Nat) (664683 : Int64)) ∈ lw_all := lw_g (lw_at lw_m13 162 rfl) rfl
theorem q3194 : (Jvm.Cond.methodLink "CrossbarExchangeModel" (369 : Nat) ({ cls := "CrossbarExchangeModel", name := "passes", desc := "()I" } : Jvm.MethodName)) ∈ lw_all := lw_g (lw_at lw_m13 163 rfl) rfl
theorem q3195 : (Jvm.Cond.privateMethod ({ cls := "CrossbarExchangeModel", name := "passes", desc := "()I" } : Jvm.MethodName)) ∈ lw_tbl := lw_at lw_m13 164 rfl
theorem q3196 : (Jvm.Cond.instanceMethod ({ cls := "CrossbarExchangeModel", name := "passes", desc := "()I" } : Jvm.MethodName)) ∈ lw_all := lw_g (lw_at lw_m13 165 rfl) rfl
theorem q3197 : (Jvm.Cond.code ({ cls := "CrossbarExchangeModel", name := "passes", desc := "()I" } : Jvm.MethodName) prog_12_method_47_code (3 : Nat) (Option.some Jvm.ClassFile.FieldType.int)) ∈ lw_all := lw_g (lw_at lw_m13 166 rfl) rfl
theorem q3198 : (Jvm.Cond.constantLong "CrossbarExchangeModel" (372 : Nat) (3764 : Int64)) ∈ lw_all := lw_g (lw_at lw_m13 167 rfl) rfl
theorem q3199 : (Jvm.Cond.constantLong "CrossbarExchangeModel" (374 : Nat) (431556 : Int64)) ∈ lw_all := lw_g (lw_at lw_m13 168 rfl) rfl
theorem q3200 : (Jvm.Cond.methodLink "CrossbarExchangeModel" (376 : Nat) ({ cls := "CrossbarExchangeModel", name := "readsMiddle", desc := "(Z)Z" } : Jvm.MethodName)) ∈ lw_all := lw_g (lw_at lw_m13 169 rfl) rfl
theorem q3201 : (Jvm.Cond.privateMethod ({ cls := "CrossbarExchangeModel", name := "readsMiddle", desc := "(Z)Z" } : Jvm.MethodName)) ∈ lw_tbl := lw_at lw_m13 170 rfl
theorem q3202 : (Jvm.Cond.instanceMethod ({ cls := "CrossbarExchangeModel", name := "readsMiddle", desc := "(Z)Z" } : Jvm.MethodName)) ∈ lw_all := lw_g (lw_at lw_m13 171 rfl) rfl
theorem q3203 : (Jvm.Cond.code ({ cls := "CrossbarExchangeModel", name := "readsMiddle", desc := "(Z)Z" } : Jvm.MethodName) prog_12_method_73_code (3 : Nat) (Option.some Jvm.ClassFile.FieldType.boolean)) ∈ lw_all := lw_g (lw_at lw_m13 172 rfl) rfl
theorem q3204 : (Jvm.Cond.methodLink "CrossbarExchangeModel" (401 : Nat) ({ cls := "CrossbarExchangeModel", name := "cuts", desc := "(I)I" } : Jvm.MethodName)) ∈ lw_all := lw_g (lw_at lw_m13 173 rfl) rfl
theorem q3205 : (Jvm.Cond.privateMethod ({ cls := "CrossbarExchangeModel", name := "cuts", desc := "(I)I" } : Jvm.MethodName)) ∈ lw_tbl := lw_at lw_m13 174 rfl
theorem q3206 : (Jvm.Cond.instanceMethod ({ cls := "CrossbarExchangeModel", name := "cuts", desc := "(I)I" } : Jvm.MethodName)) ∈ lw_all := lw_g (lw_at lw_m13 175 rfl) rfl
theorem q3207 : (Jvm.Cond.code ({ cls := "CrossbarExchangeModel", name := "cuts", desc := "(I)I" } : Jvm.MethodName) prog_12_method_48_code (7 : Nat) (Option.some Jvm.ClassFile.FieldType.int)) ∈ lw_all := lw_g (lw_at lw_m13 176 rfl) rfl
theorem q3208 : (Jvm.Cond.constantLong "CrossbarExchangeModel" (380 : Nat) (441477 : Int64)) ∈ lw_all := lw_g (lw_at lw_m13 177 rfl) rfl
theorem q3209 : (Jvm.Cond.constantLong "CrossbarExchangeModel" (382 : Nat) (284116 : Int64)) ∈ lw_all := lw_g (lw_at lw_m13 178 rfl) rfl
theorem q3210 : (Jvm.Cond.methodLink "CrossbarExchangeModel" (384 : Nat) ({ cls := "CrossbarExchangeModel", name := "readsRule", desc := "(Z)Z" } : Jvm.MethodName)) ∈ lw_all := lw_g (lw_at lw_m13 179 rfl) rfl
theorem q3211 : (Jvm.Cond.privateMethod ({ cls := "CrossbarExchangeModel", name := "readsRule", desc := "(Z)Z" } : Jvm.MethodName)) ∈ lw_tbl := lw_at lw_m13 180 rfl
theorem q3212 : (Jvm.Cond.instanceMethod ({ cls := "CrossbarExchangeModel", name := "readsRule", desc := "(Z)Z" } : Jvm.MethodName)) ∈ lw_all := lw_g (lw_at lw_m13 181 rfl) rfl
theorem q3213 : (Jvm.Cond.code ({ cls := "CrossbarExchangeModel", name := "readsRule", desc := "(Z)Z" } : Jvm.MethodName) prog_12_method_74_code (5 : Nat) (Option.some Jvm.ClassFile.FieldType.boolean)) ∈ lw_all := lw_g (lw_at lw_m13 182 rfl) rfl
theorem q3214 : (Jvm.Cond.constantLong "CrossbarExchangeModel" (404 : Nat) (17171758 : Int64)) ∈ lw_all := lw_g (lw_at lw_m13 183 rfl) rfl
theorem q3215 : (Jvm.Cond.constantLong "CrossbarExchangeModel" (406 : Nat) (109094355 : Int64)) ∈ lw_all := lw_g (lw_at lw_m13 184 rfl) rfl
theorem q3216 : (Jvm.Cond.constantLong "CrossbarExchangeModel" (408 : Nat) (12791 : Int64)) ∈ lw_all := lw_g (lw_at lw_m13 185 rfl) rfl
theorem q3217 : (Jvm.Cond.constantLong "CrossbarExchangeModel" (410 : Nat) (538029220 : Int64)) ∈ lw_all := lw_g (lw_at lw_m13 186 rfl) rfl
theorem q3218 : (Jvm.Cond.constantLong "CrossbarExchangeModel" (412 : Nat) (19387844 : Int64)) ∈ lw_all := lw_g (lw_at lw_m13 187 rfl) rfl
theorem q3219 : (Jvm.Cond.constantLong "CrossbarExchangeModel" (387 : Nat) (525419 : Int64)) ∈ lw_all := lw_g (lw_at lw_m13 188 rfl) rfl
theorem q3220 : (Jvm.Cond.methodLink "CrossbarExchangeModel" (389 : Nat) ({ cls := "CrossbarExchangeModel", name := "packs", desc := "()I" } : Jvm.MethodName)) ∈ lw_all := lw_g (lw_at lw_m13 189 rfl) rfl
theorem q3221 : (Jvm.Cond.privateMethod ({ cls := "CrossbarExchangeModel", name := "packs", desc := "()I" } : Jvm.MethodName)) ∈ lw_tbl := lw_at lw_m13 190 rfl
theorem q3222 : (Jvm.Cond.instanceMethod ({ cls := "CrossbarExchangeModel", name := "packs", desc := "()I" } : Jvm.MethodName)) ∈ lw_all := lw_g (lw_at lw_m13 191 rfl) rfl
theorem q3223 : (Jvm.Cond.code ({ cls := "CrossbarExchangeModel", name := "packs", desc := "()I" } : Jvm.MethodName) prog_12_method_50_code (4 : Nat) (Option.some Jvm.ClassFile.FieldType.int)) ∈ lw_all := lw_g (lw_at lw_m13 192 rfl) rfl
theorem q3224 : (Jvm.Cond.methodLink "CrossbarExchangeModel" (260 : Nat) ({ cls := "CrossbarExchangeModel", name := "fewest", desc := "()I" } : Jvm.MethodName)) ∈ lw_all := lw_g (lw_at lw_m13 193 rfl) rfl
theorem q3225 : (Jvm.Cond.privateMethod ({ cls := "CrossbarExchangeModel", name := "fewest", desc := "()I" } : Jvm.MethodName)) ∈ lw_tbl := lw_at lw_m13 194 rfl
theorem q3226 : (Jvm.Cond.instanceMethod ({ cls := "CrossbarExchangeModel", name := "fewest", desc := "()I" } : Jvm.MethodName)) ∈ lw_all := lw_g (lw_at lw_m13 195 rfl) rfl
theorem q3227 : (Jvm.Cond.code ({ cls := "CrossbarExchangeModel", name := "fewest", desc := "()I" } : Jvm.MethodName) prog_12_method_49_code (5 : Nat) (Option.some Jvm.ClassFile.FieldType.int)) ∈ lw_all := lw_g (lw_at lw_m13 196 rfl) rfl
theorem q3228 : (Jvm.Cond.methodLink "CrossbarExchangeModel" (256 : Nat) ({ cls := "CrossbarExchangeModel", name := "callsAt", desc := "(IZ)I" } : Jvm.MethodName)) ∈ lw_all := lw_g (lw_at lw_m13 197 rfl) rfl
theorem q3229 : (Jvm.Cond.privateMethod ({ cls := "CrossbarExchangeModel", name := "callsAt", desc := "(IZ)I" } : Jvm.MethodName)) ∈ lw_tbl := lw_at lw_m13 198 rfl
theorem q3230 : (Jvm.Cond.instanceMethod ({ cls := "CrossbarExchangeModel", name := "callsAt", desc := "(IZ)I" } : Jvm.MethodName)) ∈ lw_all := lw_g (lw_at lw_m13 199 rfl) rfl
theorem q3231 : (Jvm.Cond.code ({ cls := "CrossbarExchangeModel", name := "callsAt", desc := "(IZ)I" } : Jvm.MethodName) prog_12_method_28_code (5 : Nat) (Option.some Jvm.ClassFile.FieldType.int)) ∈ lw_all := lw_g (lw_at lw_m13 200 rfl) rfl
theorem q3232 : (Jvm.Cond.methodLink "CrossbarExchangeModel" (273 : Nat) ({ cls := "CrossbarExchangeModel", name := "takeImage", desc := "(I)V" } : Jvm.MethodName)) ∈ lw_all := lw_g (lw_at lw_m13 201 rfl) rfl
theorem q3233 : (Jvm.Cond.privateMethod ({ cls := "CrossbarExchangeModel", name := "takeImage", desc := "(I)V" } : Jvm.MethodName)) ∈ lw_tbl := lw_at lw_m13 202 rfl
theorem q3234 : (Jvm.Cond.instanceMethod ({ cls := "CrossbarExchangeModel", name := "takeImage", desc := "(I)V" } : Jvm.MethodName)) ∈ lw_all := lw_g (lw_at lw_m13 203 rfl) rfl
theorem q3235 : (Jvm.Cond.code ({ cls := "CrossbarExchangeModel", name := "takeImage", desc := "(I)V" } : Jvm.MethodName) prog_12_method_10_code (3 : Nat) (Option.none : Option Jvm.ClassFile.FieldType)) ∈ lw_all := lw_g (lw_at lw_m13 204 rfl) rfl
theorem q3236 : (Jvm.Cond.methodLink "CrossbarExchangeModel" (145 : Nat) ({ cls := "CrossbarExchangeModel", name := "takesRow", desc := "([III)I" } : Jvm.MethodName)) ∈ lw_all := lw_g (lw_at lw_m13 205 rfl) rfl
theorem q3237 : (Jvm.Cond.privateMethod ({ cls := "CrossbarExchangeModel", name := "takesRow", desc := "([III)I" } : Jvm.MethodName)) ∈ lw_tbl := lw_at lw_m13 206 rfl
theorem q3238 : (Jvm.Cond.instanceMethod ({ cls := "CrossbarExchangeModel", name := "takesRow", desc := "([III)I" } : Jvm.MethodName)) ∈ lw_all := lw_g (lw_at lw_m13 207 rfl) rfl
theorem q3239 : (Jvm.Cond.code ({ cls := "CrossbarExchangeModel", name := "takesRow", desc := "([III)I" } : Jvm.MethodName) prog_12_method_8_code (5 : Nat) (Option.some Jvm.ClassFile.FieldType.int)) ∈ lw_all := lw_g (lw_at lw_m13 208 rfl) rfl
theorem q3241 : (Jvm.Cond.instanceMethod ({ cls := "CrossbarExchangeModel", name := "run", desc := "()I" } : Jvm.MethodName)) ∈ lw_all := lw_g (lw_at lw_m13 210 rfl) rfl
theorem q3242 : (Jvm.Cond.selects "CrossbarExchangeModel" ({ cls := "CrossbarExchangeModel", name := "run", desc := "()I" } : Jvm.MethodName) ({ cls := "CrossbarExchangeModel", name := "run", desc := "()I" } : Jvm.MethodName)) ∈ lw_all := lw_g (lw_at lw_m13 211 rfl) rfl
theorem q3243 : (Jvm.Cond.code ({ cls := "CrossbarExchangeModel", name := "run", desc := "()I" } : Jvm.MethodName) prog_12_method_52_code (2 : Nat) (Option.some Jvm.ClassFile.FieldType.int)) ∈ lw_all := lw_g (lw_at lw_m13 212 rfl) rfl
theorem q3244 : (Jvm.Cond.methodLink "CrossbarExchangeModel" (279 : Nat) ({ cls := "CrossbarExchangeModel", name := "noteTextChange", desc := "()V" } : Jvm.MethodName)) ∈ lw_all := lw_g (lw_at lw_m13 213 rfl) rfl
theorem q3245 : (Jvm.Cond.privateMethod ({ cls := "CrossbarExchangeModel", name := "noteTextChange", desc := "()V" } : Jvm.MethodName)) ∈ lw_tbl := lw_at lw_m13 214 rfl
theorem q3246 : (Jvm.Cond.instanceMethod ({ cls := "CrossbarExchangeModel", name := "noteTextChange", desc := "()V" } : Jvm.MethodName)) ∈ lw_all := lw_g (lw_at lw_m13 215 rfl) rfl
theorem q3247 : (Jvm.Cond.code ({ cls := "CrossbarExchangeModel", name := "noteTextChange", desc := "()V" } : Jvm.MethodName) prog_12_method_13_code (3 : Nat) (Option.none : Option Jvm.ClassFile.FieldType)) ∈ lw_all := lw_g (lw_at lw_m13 216 rfl) rfl
theorem q3248 : (Jvm.Cond.methodLink "CrossbarExchangeModel" (154 : Nat) ({ cls := "CrossbarExchangeModel", name := "nextImage", desc := "()I" } : Jvm.MethodName)) ∈ lw_all := lw_g (lw_at lw_m13 217 rfl) rfl
theorem q3249 : (Jvm.Cond.privateMethod ({ cls := "CrossbarExchangeModel", name := "nextImage", desc := "()I" } : Jvm.MethodName)) ∈ lw_tbl := lw_at lw_m13 218 rfl
theorem q3250 : (Jvm.Cond.instanceMethod ({ cls := "CrossbarExchangeModel", name := "nextImage", desc := "()I" } : Jvm.MethodName)) ∈ lw_all := lw_g (lw_at lw_m13 219 rfl) rfl
theorem q3251 : (Jvm.Cond.code ({ cls := "CrossbarExchangeModel", name := "nextImage", desc := "()I" } : Jvm.MethodName) prog_12_method_11_code (1 : Nat) (Option.some Jvm.ClassFile.FieldType.int)) ∈ lw_all := lw_g (lw_at lw_m13 220 rfl) rfl
theorem q3253 : (Jvm.Cond.instanceMethod ({ cls := "CrossbarExchangeModel", name := "errorCode", desc := "()I" } : Jvm.MethodName)) ∈ lw_all := lw_g (lw_at lw_m13 222 rfl) rfl
theorem q3254 : (Jvm.Cond.selects "CrossbarExchangeModel" ({ cls := "CrossbarExchangeModel", name := "errorCode", desc := "()I" } : Jvm.MethodName) ({ cls := "CrossbarExchangeModel", name := "errorCode", desc := "()I" } : Jvm.MethodName)) ∈ lw_all := lw_g (lw_at lw_m13 223 rfl) rfl
theorem q3255 : (Jvm.Cond.code ({ cls := "CrossbarExchangeModel", name := "errorCode", desc := "()I" } : Jvm.MethodName) prog_12_method_75_code (1 : Nat) (Option.some Jvm.ClassFile.FieldType.int)) ∈ lw_all := lw_g (lw_at lw_m13 224 rfl) rfl
theorem q3257 : (Jvm.Cond.instanceMethod ({ cls := "CrossbarExchangeModel", name := "errorPosition", desc := "()I" } : Jvm.MethodName)) ∈ lw_all := lw_g (lw_at lw_m13 226 rfl) rfl
theorem q3258 : (Jvm.Cond.selects "CrossbarExchangeModel" ({ cls := "CrossbarExchangeModel", name := "errorPosition", desc := "()I" } : Jvm.MethodName) ({ cls := "CrossbarExchangeModel", name := "errorPosition", desc := "()I" } : Jvm.MethodName)) ∈ lw_all := lw_g (lw_at lw_m13 227 rfl) rfl
theorem q3259 : (Jvm.Cond.code ({ cls := "CrossbarExchangeModel", name := "errorPosition", desc := "()I" } : Jvm.MethodName) prog_12_method_76_code (1 : Nat) (Option.some Jvm.ClassFile.FieldType.int)) ∈ lw_all := lw_g (lw_at lw_m13 228 rfl) rfl
theorem q3261 : (Jvm.Cond.instanceMethod ({ cls := "CrossbarExchangeModel", name := "call", desc := "(III)I" } : Jvm.MethodName)) ∈ lw_all := lw_g (lw_at lw_m13 230 rfl) rfl
theorem q3262 : (Jvm.Cond.selects "CrossbarExchangeModel" ({ cls := "CrossbarExchangeModel", name := "call", desc := "(III)I" } : Jvm.MethodName) ({ cls := "CrossbarExchangeModel", name := "call", desc := "(III)I" } : Jvm.MethodName)) ∈ lw_all := lw_g (lw_at lw_m13 231 rfl) rfl
theorem q3263 : (Jvm.Cond.code ({ cls := "CrossbarExchangeModel", name := "call", desc := "(III)I" } : Jvm.MethodName) prog_12_method_77_code (4 : Nat) (Option.some Jvm.ClassFile.FieldType.int)) ∈ lw_all := lw_g (lw_at lw_m13 232 rfl) rfl
theorem q3264 : (Jvm.Cond.methodLink "CrossbarExchangeModel" (414 : Nat) ({ cls := "CrossbarExchangeModel", name := "noSubscriber", desc := "(I)Z" } : Jvm.MethodName)) ∈ lw_all := lw_g (lw_at lw_m13 233 rfl) rfl
theorem q3265 : (Jvm.Cond.privateMethod ({ cls := "CrossbarExchangeModel", name := "noSubscriber", desc := "(I)Z" } : Jvm.MethodName)) ∈ lw_tbl := lw_at lw_m13 234 rfl
theorem q3266 : (Jvm.Cond.instanceMethod ({ cls := "CrossbarExchangeModel", name := "noSubscriber", desc := "(I)Z" } : Jvm.MethodName)) ∈ lw_all := lw_g (lw_at lw_m13 235 rfl) rfl
theorem q3267 : (Jvm.Cond.code ({ cls := "CrossbarExchangeModel", name := "noSubscriber", desc := "(I)Z" } : Jvm.MethodName) prog_12_method_15_code (2 : Nat) (Option.some Jvm.ClassFile.FieldType.boolean)) ∈ lw_all := lw_g (lw_at lw_m13 236 rfl) rfl
theorem q3268 : (Jvm.Cond.methodLink "CrossbarExchangeModel" (417 : Nat) ({ cls := "CrossbarExchangeModel", name := "noteChange", desc := "()V" } : Jvm.MethodName)) ∈ lw_all := lw_g (lw_at lw_m13 237 rfl) rfl
theorem q3269 : (Jvm.Cond.privateMethod ({ cls := "CrossbarExchangeModel", name := "noteChange", desc := "()V" } : Jvm.MethodName)) ∈ lw_tbl := lw_at lw_m13 238 rfl
theorem q3270 : (Jvm.Cond.instanceMethod ({ cls := "CrossbarExchangeModel", name := "noteChange", desc := "()V" } : Jvm.MethodName)) ∈ lw_all := lw_g (lw_at lw_m13 239 rfl) rfl
theorem q3271 : (Jvm.Cond.code ({ cls := "CrossbarExchangeModel", name := "noteChange", desc := "()V" } : Jvm.MethodName) prog_12_method_12_code (1 : Nat) (Option.none : Option Jvm.ClassFile.FieldType)) ∈ lw_all := lw_g (lw_at lw_m14 0 rfl) rfl
theorem q3273 : (Jvm.Cond.instanceMethod ({ cls := "CrossbarExchangeModel", name := "dial", desc := "(III)I" } : Jvm.MethodName)) ∈ lw_all := lw_g (lw_at lw_m14 2 rfl) rfl
theorem q3274 : (Jvm.Cond.selects "CrossbarExchangeModel" ({ cls := "CrossbarExchangeModel", name := "dial", desc := "(III)I" } : Jvm.MethodName) ({ cls := "CrossbarExchangeModel", name := "dial", desc := "(III)I" } : Jvm.MethodName)) ∈ lw_all := lw_g (lw_at lw_m14 3 rfl) rfl
theorem q3275 : (Jvm.Cond.code ({ cls := "CrossbarExchangeModel", name := "dial", desc := "(III)I" } : Jvm.MethodName) prog_12_method_78_code (4 : Nat) (Option.some Jvm.ClassFile.FieldType.int)) ∈ lw_all := lw_g (lw_at lw_m14 4 rfl) rfl
theorem q3276 : (Jvm.Cond.methodLink "CrossbarExchangeModel" (420 : Nat) ({ cls := "CrossbarExchangeModel", name := "noGroup", desc := "(I)Z" } : Jvm.MethodName)) ∈ lw_all := lw_g (lw_at lw_m14 5 rfl) rfl
theorem q3277 : (Jvm.Cond.privateMethod ({ cls := "CrossbarExchangeModel", name := "noGroup", desc := "(I)Z" } : Jvm.MethodName)) ∈ lw_tbl := lw_at lw_m14 6 rfl
theorem q3278 : (Jvm.Cond.instanceMethod ({ cls := "CrossbarExchangeModel", name := "noGroup", desc := "(I)Z" } : Jvm.MethodName)) ∈ lw_all := lw_g (lw_at lw_m14 7 rfl) rfl
theorem q3279 : (Jvm.Cond.code ({ cls := "CrossbarExchangeModel", name := "noGroup", desc := "(I)Z" } : Jvm.MethodName) prog_12_method_18_code (2 : Nat) (Option.some Jvm.ClassFile.FieldType.boolean)) ∈ lw_all := lw_g (lw_at lw_m14 8 rfl) rfl
theorem q3281 : (Jvm.Cond.instanceMethod ({ cls := "CrossbarExchangeModel", name := "hangUp", desc := "(I)I" } : Jvm.MethodName)) ∈ lw_all := lw_g (lw_at lw_m14 10 rfl) rfl
theorem q3282 : (Jvm.Cond.selects "CrossbarExchangeModel" ({ cls := "CrossbarExchangeModel", name := "hangUp", desc := "(I)I" } : Jvm.MethodName) ({ cls := "CrossbarExchangeModel", name := "hangUp", desc := "(I)I" } : Jvm.MethodName)) ∈ lw_all := lw_g (lw_at lw_m14 11 rfl) rfl
theorem q3283 : (Jvm.Cond.code ({ cls := "CrossbarExchangeModel", name := "hangUp", desc := "(I)I" } : Jvm.MethodName) prog_12_method_79_code (2 : Nat) (Option.some Jvm.ClassFile.FieldType.int)) ∈ lw_all := lw_g (lw_at lw_m14 12 rfl) rfl
theorem q3285 : (Jvm.Cond.instanceMethod ({ cls := "CrossbarExchangeModel", name := "tick", desc := "(I)I" } : Jvm.MethodName)) ∈ lw_all := lw_g (lw_at lw_m14 14 rfl) rfl
theorem q3286 : (Jvm.Cond.selects "CrossbarExchangeModel" ({ cls := "CrossbarExchangeModel", name := "tick", desc := "(I)I" } : Jvm.MethodName) ({ cls := "CrossbarExchangeModel", name := "tick", desc := "(I)I" } : Jvm.MethodName)) ∈ lw_all := lw_g (lw_at lw_m14 15 rfl) rfl
theorem q3287 : (Jvm.Cond.code ({ cls := "CrossbarExchangeModel", name := "tick", desc := "(I)I" } : Jvm.MethodName) prog_12_method_80_code (4 : Nat) (Option.some Jvm.ClassFile.FieldType.int)) ∈ lw_all := lw_g (lw_at lw_m14 16 rfl) rfl
theorem q3289 : (Jvm.Cond.instanceMethod ({ cls := "CrossbarExchangeModel", name := "cut", desc := "(I)I" } : Jvm.MethodName)) ∈ lw_all := lw_g (lw_at lw_m14 18 rfl) rfl
theorem q3290 : (Jvm.Cond.selects "CrossbarExchangeModel" ({ cls := "CrossbarExchangeModel", name := "cut", desc := "(I)I" } : Jvm.MethodName) ({ cls := "CrossbarExchangeModel", name := "cut", desc := "(I)I" } : Jvm.MethodName)) ∈ lw_all := lw_g (lw_at lw_m14 19 rfl) rfl
theorem q3291 : (Jvm.Cond.code ({ cls := "CrossbarExchangeModel", name := "cut", desc := "(I)I" } : Jvm.MethodName) prog_12_method_81_code (2 : Nat) (Option.some Jvm.ClassFile.FieldType.int)) ∈ lw_all := lw_g (lw_at lw_m14 20 rfl) rfl
theorem q3292 : (Jvm.Cond.methodLink "CrossbarExchangeModel" (423 : Nat) ({ cls := "CrossbarExchangeModel", name := "noMiddle", desc := "(I)Z" } : Jvm.MethodName)) ∈ lw_all := lw_g (lw_at lw_m14 21 rfl) rfl
theorem q3293 : (Jvm.Cond.privateMethod ({ cls := "CrossbarExchangeModel", name := "noMiddle", desc := "(I)Z" } : Jvm.MethodName)) ∈ lw_tbl := lw_at lw_m14 22 rfl
theorem q3294 : (Jvm.Cond.instanceMethod ({ cls := "CrossbarExchangeModel", name := "noMiddle", desc := "(I)Z" } : Jvm.MethodName)) ∈ lw_all := lw_g (lw_at lw_m14 23 rfl) rfl
theorem q3295 : (Jvm.Cond.code ({ cls := "CrossbarExchangeModel", name := "noMiddle", desc := "(I)Z" } : Jvm.MethodName) prog_12_method_17_code (2 : Nat) (Option.some Jvm.ClassFile.FieldType.boolean)) ∈ lw_all := lw_g (lw_at lw_m14 24 rfl) rfl
theorem q3297 : (Jvm.Cond.instanceMethod ({ cls := "CrossbarExchangeModel", name := "mend", desc := "(I)I" } : Jvm.MethodName)) ∈ lw_all := lw_g (lw_at lw_m14 26 rfl) rfl
theorem q3298 : (Jvm.Cond.selects "CrossbarExchangeModel" ({ cls := "CrossbarExchangeModel", name := "mend", desc := "(I)I" } : Jvm.MethodName) ({ cls := "CrossbarExchangeModel", name := "mend", desc := "(I)I" } : Jvm.MethodName)) ∈ lw_all := lw_g (lw_at lw_m14 27 rfl) rfl
theorem q3299 : (Jvm.Cond.code ({ cls := "CrossbarExchangeModel", name := "mend", desc := "(I)I" } : Jvm.MethodName) prog_12_method_82_code (2 : Nat) (Option.some Jvm.ClassFile.FieldType.int)) ∈ lw_all := lw_g (lw_at lw_m14 28 rfl) rfl
theorem q3300 : (Jvm.Cond.methodLink "CrossbarExchangeModel" (426 : Nat) ({ cls := "CrossbarExchangeModel", name := "inOrder", desc := "()I" } : Jvm.MethodName)) ∈ lw_all := lw_g (lw_at lw_m14 29 rfl) rfl
theorem q3301 : (Jvm.Cond.privateMethod ({ cls := "CrossbarExchangeModel", name := "inOrder", desc := "()I" } : Jvm.MethodName)) ∈ lw_tbl := lw_at lw_m14 30 rfl
theorem q3302 : (Jvm.Cond.instanceMethod ({ cls := "CrossbarExchangeModel", name := "inOrder", desc := "()I" } : Jvm.MethodName)) ∈ lw_all := lw_g (lw_at lw_m14 31 rfl) rfl
theorem q3303 : (Jvm.Cond.code ({ cls := "CrossbarExchangeModel", name := "inOrder", desc := "()I" } : Jvm.MethodName) prog_12_method_20_code (3 : Nat) (Option.some Jvm.ClassFile.FieldType.int)) ∈ lw_all := lw_g (lw_at lw_m14 32 rfl) rfl
theorem q3305 : (Jvm.Cond.instanceMethod ({ cls := "CrossbarExchangeModel", name := "setMode", desc := "(I)I" } : Jvm.MethodName)) ∈ lw_all := lw_g (lw_at lw_m14 34 rfl) rfl
theorem q3306 : (Jvm.Cond.selects "CrossbarExchangeModel" ({ cls := "CrossbarExchangeModel", name := "setMode", desc := "(I)I" } : Jvm.MethodName) ({ cls := "CrossbarExchangeModel", name := "setMode", desc := "(I)I" } : Jvm.MethodName)) ∈ lw_all := lw_g (lw_at lw_m14 35 rfl) rfl
theorem q3307 : (Jvm.Cond.code ({ cls := "CrossbarExchangeModel", name := "setMode", desc := "(I)I" } : Jvm.MethodName) prog_12_method_83_code (3 : Nat) (Option.some Jvm.ClassFile.FieldType.int)) ∈ lw_all := lw_g (lw_at lw_m14 36 rfl) rfl
theorem q3309 : (Jvm.Cond.instanceMethod ({ cls := "CrossbarExchangeModel", name := "setHunt", desc := "(I)I" } : Jvm.MethodName)) ∈ lw_all := lw_g (lw_at lw_m14 38 rfl) rfl
theorem q3310 : (Jvm.Cond.selects "CrossbarExchangeModel" ({ cls := "CrossbarExchangeModel", name := "setHunt", desc := "(I)I" } : Jvm.MethodName) ({ cls := "CrossbarExchangeModel", name := "setHunt", desc := "(I)I" } : Jvm.MethodName)) ∈ lw_all := lw_g (lw_at lw_m14 39 rfl) rfl
theorem q3311 : (Jvm.Cond.code ({ cls := "CrossbarExchangeModel", name := "setHunt", desc := "(I)I" } : Jvm.MethodName) prog_12_method_84_code (3 : Nat) (Option.some Jvm.ClassFile.FieldType.int)) ∈ lw_all := lw_g (lw_at lw_m14 40 rfl) rfl
theorem q3313 : (Jvm.Cond.instanceMethod ({ cls := "CrossbarExchangeModel", name := "pack", desc := "()I" } : Jvm.MethodName)) ∈ lw_all := lw_g (lw_at lw_m14 42 rfl) rfl
theorem q3314 : (Jvm.Cond.selects "CrossbarExchangeModel" ({ cls := "CrossbarExchangeModel", name := "pack", desc := "()I" } : Jvm.MethodName) ({ cls := "CrossbarExchangeModel", name := "pack", desc := "()I" } : Jvm.MethodName)) ∈ lw_all := lw_g (lw_at lw_m14 43 rfl) rfl
theorem q3315 : (Jvm.Cond.code ({ cls := "CrossbarExchangeModel", name := "pack", desc := "()I" } : Jvm.MethodName) prog_12_method_85_code (2 : Nat) (Option.some Jvm.ClassFile.FieldType.int)) ∈ lw_all := lw_g (lw_at lw_m14 44 rfl) rfl
theorem q3317 : (Jvm.Cond.instanceMethod ({ cls := "CrossbarExchangeModel", name := "undo", desc := "()I" } : Jvm.MethodName)) ∈ lw_all := lw_g (lw_at lw_m14 46 rfl) rfl
theorem q3318 : (Jvm.Cond.selects "CrossbarExchangeModel" ({ cls := "CrossbarExchangeModel", name := "undo", desc := "()I" } : Jvm.MethodName) ({ cls := "CrossbarExchangeModel", name := "undo", desc := "()I" } : Jvm.MethodName)) ∈ lw_all := lw_g (lw_at lw_m14 47 rfl) rfl
theorem q3319 : (Jvm.Cond.code ({ cls := "CrossbarExchangeModel", name := "undo", desc := "()I" } : Jvm.MethodName) prog_12_method_86_code (1 : Nat) (Option.some Jvm.ClassFile.FieldType.int)) ∈ lw_all := lw_g (lw_at lw_m14 48 rfl) rfl
theorem q3321 : (Jvm.Cond.instanceMethod ({ cls := "CrossbarExchangeModel", name := "save", desc := "(I)I" } : Jvm.MethodName)) ∈ lw_all := lw_g (lw_at lw_m14 50 rfl) rfl
theorem q3322 : (Jvm.Cond.selects "CrossbarExchangeModel" ({ cls := "CrossbarExchangeModel", name := "save", desc := "(I)I" } : Jvm.MethodName) ({ cls := "CrossbarExchangeModel", name := "save", desc := "(I)I" } : Jvm.MethodName)) ∈ lw_all := lw_g (lw_at lw_m14 51 rfl) rfl
theorem q3323 : (Jvm.Cond.code ({ cls := "CrossbarExchangeModel", name := "save", desc := "(I)I" } : Jvm.MethodName) prog_12_method_87_code (2 : Nat) (Option.some Jvm.ClassFile.FieldType.int)) ∈ lw_all := lw_g (lw_at lw_m14 52 rfl) rfl
theorem q3325 : (Jvm.Cond.instanceMethod ({ cls := "CrossbarExchangeModel", name := "restore", desc := "(I)I" } : Jvm.MethodName)) ∈ lw_all := lw_g (lw_at lw_m14 54 rfl) rfl
theorem q3326 : (Jvm.Cond.selects "CrossbarExchangeModel" ({ cls := "CrossbarExchangeModel", name := "restore", desc := "(I)I" } : Jvm.MethodName) ({ cls := "CrossbarExchangeModel", name := "restore", desc := "(I)I" } : Jvm.MethodName)) ∈ lw_all := lw_g (lw_at lw_m14 55 rfl) rfl
theorem q3327 : (Jvm.Cond.code ({ cls := "CrossbarExchangeModel", name := "restore", desc := "(I)I" } : Jvm.MethodName) prog_12_method_88_code (2 : Nat) (Option.some Jvm.ClassFile.FieldType.int)) ∈ lw_all := lw_g (lw_at lw_m14 56 rfl) rfl
theorem q3329 : (Jvm.Cond.instanceMethod ({ cls := "CrossbarExchangeModel", name := "count", desc := "(I)I" } : Jvm.MethodName)) ∈ lw_all := lw_g (lw_at lw_m14 58 rfl) rfl
theorem q3330 : (Jvm.Cond.selects "CrossbarExchangeModel" ({ cls := "CrossbarExchangeModel", name := "count", desc := "(I)I" } : Jvm.MethodName) ({ cls := "CrossbarExchangeModel", name := "count", desc := "(I)I" } : Jvm.MethodName)) ∈ lw_all := lw_g (lw_at lw_m14 59 rfl) rfl
theorem q3331 : (Jvm.Cond.code ({ cls := "CrossbarExchangeModel", name := "count", desc := "(I)I" } : Jvm.MethodName) prog_12_method_91_code (2 : Nat) (Option.some Jvm.ClassFile.FieldType.int)) ∈ lw_all := lw_g (lw_at lw_m14 60 rfl) rfl
theorem q3332 : (Jvm.Cond.methodLink "CrossbarExchangeModel" (432 : Nat) ({ cls := "CrossbarExchangeModel", name := "idleInAll", desc := "()I" } : Jvm.MethodName)) ∈ lw_all := lw_g (lw_at lw_m14 61 rfl) rfl
theorem q3333 : (Jvm.Cond.privateMethod ({ cls := "CrossbarExchangeModel", name := "idleInAll", desc := "()I" } : Jvm.MethodName)) ∈ lw_tbl := lw_at lw_m14 62 rfl
theorem q3334 : (Jvm.Cond.instanceMethod ({ cls := "CrossbarExchangeModel", name := "idleInAll", desc := "()I" } : Jvm.MethodName)) ∈ lw_all := lw_g (lw_at lw_m14 63 rfl) rfl
theorem q3335 : (Jvm.Cond.code ({ cls := "CrossbarExchangeModel", name := "idleInAll", desc := "()I" } : Jvm.MethodName) prog_12_method_90_code (3 : Nat) (Option.some Jvm.ClassFile.FieldType.int)) ∈ lw_all := lw_g (lw_at lw_m14 64 rfl) rfl
theorem q3336 : (Jvm.Cond.methodLink "CrossbarExchangeModel" (429 : Nat) ({ cls := "CrossbarExchangeModel", name := "idleAt", desc := "(I)I" } : Jvm.MethodName)) ∈ lw_all := lw_g (lw_at lw_m14 65 rfl) rfl
theorem q3337 : (Jvm.Cond.privateMethod ({ cls := "CrossbarExchangeModel", name := "idleAt", desc := "(I)I" } : Jvm.MethodName)) ∈ lw_tbl := lw_at lw_m14 66 rfl
theorem q3338 : (Jvm.Cond.instanceMethod ({ cls := "CrossbarExchangeModel", name := "idleAt", desc := "(I)I" } : Jvm.MethodName)) ∈ lw_all := lw_g (lw_at lw_m14 67 rfl) rfl
theorem q3339 : (Jvm.Cond.code ({ cls := "CrossbarExchangeModel", name := "idleAt", desc := "(I)I" } : Jvm.MethodName) prog_12_method_89_code (4 : Nat) (Option.some Jvm.ClassFile.FieldType.int)) ∈ lw_all := lw_g (lw_at lw_m14 68 rfl) rfl
theorem q3341 : (Jvm.Cond.instanceMethod ({ cls := "CrossbarExchangeModel", name := "account", desc := "(I)I" } : Jvm.MethodName)) ∈ lw_all := lw_g (lw_at lw_m14 70 rfl) rfl
theorem q3342 : (Jvm.Cond.selects "CrossbarExchangeModel" ({ cls := "CrossbarExchangeModel", name := "account", desc := "(I)I" } : Jvm.MethodName) ({ cls := "CrossbarExchangeModel", name := "account", desc := "(I)I" } : Jvm.MethodName)) ∈ lw_all := lw_g (lw_at lw_m14 71 rfl) rfl
theorem q3343 : (Jvm.Cond.code ({ cls := "CrossbarExchangeModel", name := "account", desc := "(I)I" } : Jvm.MethodName) prog_12_method_92_code (2 : Nat) (Option.some Jvm.ClassFile.FieldType.int)) ∈ lw_all := lw_g (lw_at lw_m14 72 rfl) rfl
theorem q3345 : (Jvm.Cond.instanceMethod ({ cls := "CrossbarExchangeModel", name := "subscriber", desc := "(II)I" } : Jvm.MethodName)) ∈ lw_all := lw_g (lw_at lw_m14 74 rfl) rfl
theorem q3346 : (Jvm.Cond.selects "CrossbarExchangeModel" ({ cls := "CrossbarExchangeModel", name := "subscriber", desc := "(II)I" } : Jvm.MethodName) ({ cls := "CrossbarExchangeModel", name := "subscriber", desc := "(II)I" } : Jvm.MethodName)) ∈ lw_all := lw_g (lw_at lw_m14 75 rfl) rfl
theorem q3347 : (Jvm.Cond.code ({ cls := "CrossbarExchangeModel", name := "subscriber", desc := "(II)I" } : Jvm.MethodName) prog_12_method_94_code (7 : Nat) (Option.some Jvm.ClassFile.FieldType.int)) ∈ lw_all := lw_g (lw_at lw_m14 76 rfl) rfl
theorem q3348 : (Jvm.Cond.methodLink "CrossbarExchangeModel" (435 : Nat) ({ cls := "CrossbarExchangeModel", name := "belongs", desc := "(II)Z" } : Jvm.MethodName)) ∈ lw_all := lw_g (lw_at lw_m14 77 rfl) rfl
theorem q3349 : (Jvm.Cond.privateMethod ({ cls := "CrossbarExchangeModel", name := "belongs", desc := "(II)Z" } : Jvm.MethodName)) ∈ lw_tbl := lw_at lw_m14 78 rfl
theorem q3350 : (Jvm.Cond.instanceMethod ({ cls := "CrossbarExchangeModel", name := "belongs", desc := "(II)Z" } : Jvm.MethodName)) ∈ lw_all := lw_g (lw_at lw_m14 79 rfl) rfl
theorem q3351 : (Jvm.Cond.code ({ cls := "CrossbarExchangeModel", name := "belongs", desc := "(II)Z" } : Jvm.MethodName) prog_12_method_93_code (4 : Nat) (Option.some Jvm.ClassFile.FieldType.boolean)) ∈ lw_all := lw_g (lw_at lw_m14 80 rfl) rfl
theorem q3353 : (Jvm.Cond.instanceMethod ({ cls := "CrossbarExchangeModel", name := "stage", desc := "(II)I" } : Jvm.MethodName)) ∈ lw_all := lw_g (lw_at lw_m14 82 rfl) rfl
theorem q3354 : (Jvm.Cond.selects "CrossbarExchangeModel" ({ cls := "CrossbarExchangeModel", name := "stage", desc := "(II)I" } : Jvm.MethodName) ({ cls := "CrossbarExchangeModel", name := "stage", desc := "(II)I" } : Jvm.MethodName)) ∈ lw_all := lw_g (lw_at lw_m14 83 rfl) rfl
theorem q3355 : (Jvm.Cond.code ({ cls := "CrossbarExchangeModel", name := "stage", desc := "(II)I" } : Jvm.MethodName) prog_12_method_96_code (5 : Nat) (Option.some Jvm.ClassFile.FieldType.int)) ∈ lw_all := lw_g (lw_at lw_m14 84 rfl) rfl
theorem q3356 : (Jvm.Cond.methodLink "CrossbarExchangeModel" (438 : Nat) ({ cls := "CrossbarExchangeModel", name := "noSwitch", desc := "(I)Z" } : Jvm.MethodName)) ∈ lw_all := lw_g (lw_at lw_m14 85 rfl) rfl
theorem q3357 : (Jvm.Cond.privateMethod ({ cls := "CrossbarExchangeModel", name := "noSwitch", desc := "(I)Z" } : Jvm.MethodName)) ∈ lw_tbl := lw_at lw_m14 86 rfl
theorem q3358 : (Jvm.Cond.instanceMethod ({ cls := "CrossbarExchangeModel", name := "noSwitch", desc := "(I)Z" } : Jvm.MethodName)) ∈ lw_all := lw_g (lw_at lw_m14 87 rfl) rfl
theorem q3359 : (Jvm.Cond.code ({ cls := "CrossbarExchangeModel", name := "noSwitch", desc := "(I)Z" } : Jvm.MethodName) prog_12_method_16_code (2 : Nat) (Option.some Jvm.ClassFile.FieldType.boolean)) ∈ lw_all := lw_g (lw_at lw_m14 88 rfl) rfl
theorem q3360 : (Jvm.Cond.methodLink "CrossbarExchangeModel" (441 : Nat) ({ cls := "CrossbarExchangeModel", name := "freeAt", desc := "(IZ)I" } : Jvm.MethodName)) ∈ lw_all := lw_g (lw_at lw_m14 89 rfl) rfl
theorem q3361 : (Jvm.Cond.privateMethod ({ cls := "CrossbarExchangeModel", name := "freeAt", desc := "(IZ)I" } : Jvm.MethodName)) ∈ lw_tbl := lw_at lw_m14 90 rfl
theorem q3362 : (Jvm.Cond.instanceMethod ({ cls := "CrossbarExchangeModel", name := "freeAt", desc := "(IZ)I" } : Jvm.MethodName)) ∈ lw_all := lw_g (lw_at lw_m14 91 rfl) rfl
theorem q3363 : (Jvm.Cond.code ({ cls := "CrossbarExchangeModel", name := "freeAt", desc := "(IZ)I" } : Jvm.MethodName) prog_12_method_95_code (5 : Nat) (Option.some Jvm.ClassFile.FieldType.int)) ∈ lw_all := lw_g (lw_at lw_m14 92 rfl) rfl
theorem q3365 : (Jvm.Cond.instanceMethod ({ cls := "CrossbarExchangeModel", name := "middle", desc := "(II)I" } : Jvm.MethodName)) ∈ lw_all := lw_g (lw_at lw_m14 94 rfl) rfl
theorem q3366 : (Jvm.Cond.selects "CrossbarExchangeModel" ({ cls := "CrossbarExchangeModel", name := "middle", desc := "(II)I" } : Jvm.MethodName) ({ cls := "CrossbarExchangeModel", name := "middle", desc := "(II)I" } : Jvm.MethodName)) ∈ lw_all := lw_g (lw_at lw_m14 95 rfl) rfl
theorem q3367 : (Jvm.Cond.code ({ cls := "CrossbarExchangeModel", name := "middle", desc := "(II)I" } : Jvm.MethodName) prog_12_method_97_code (4 : Nat) (Option.some Jvm.ClassFile.FieldType.int)) ∈ lw_all := lw_g (lw_at lw_m14 96 rfl) rfl
theorem q3369 : (Jvm.Cond.instanceMethod ({ cls := "CrossbarExchangeModel", name := "carried", desc := "(IIZ)I" } : Jvm.MethodName)) ∈ lw_all := lw_g (lw_at lw_m14 98 rfl) rfl
theorem q3370 : (Jvm.Cond.selects "CrossbarExchangeModel" ({ cls := "CrossbarExchangeModel", name := "carried", desc := "(IIZ)I" } : Jvm.MethodName) ({ cls := "CrossbarExchangeModel", name := "carried", desc := "(IIZ)I" } : Jvm.MethodName)) ∈ lw_all := lw_g (lw_at lw_m14 99 rfl) rfl
theorem q3371 : (Jvm.Cond.code ({ cls := "CrossbarExchangeModel", name := "carried", desc := "(IIZ)I" } : Jvm.MethodName) prog_12_method_98_code (5 : Nat) (Option.some Jvm.ClassFile.FieldType.int)) ∈ lw_all := lw_g (lw_at lw_m14 100 rfl) rfl
theorem q3373 : (Jvm.Cond.instanceMethod ({ cls := "CrossbarExchangeModel", name := "callOf", desc := "(II)I" } : Jvm.MethodName)) ∈ lw_all := lw_g (lw_at lw_m14 102 rfl) rfl
theorem q3374 : (Jvm.Cond.selects "CrossbarExchangeModel" ({ cls := "CrossbarExchangeModel", name := "callOf", desc := "(II)I" } : Jvm.MethodName) ({ cls := "CrossbarExchangeModel", name := "callOf", desc := "(II)I" } : Jvm.MethodName)) ∈ lw_all := lw_g (lw_at lw_m14 103 rfl) rfl
theorem q3375 : (Jvm.Cond.code ({ cls := "CrossbarExchangeModel", name := "callOf", desc := "(II)I" } : Jvm.MethodName) prog_12_method_99_code (4 : Nat) (Option.some Jvm.ClassFile.FieldType.int)) ∈ lw_all := lw_g (lw_at lw_m14 104 rfl) rfl
theorem q3377 : (Jvm.Cond.instanceMethod ({ cls := "CrossbarExchangeModel", name := "callAt", desc := "(I)I" } : Jvm.MethodName)) ∈ lw_all := lw_g (lw_at lw_m14 106 rfl) rfl
theorem q3378 : (Jvm.Cond.selects "CrossbarExchangeModel" ({ cls := "CrossbarExchangeModel", name := "callAt", desc := "(I)I" } : Jvm.MethodName) ({ cls := "CrossbarExchangeModel", name := "callAt", desc := "(I)I" } : Jvm.MethodName)) ∈ lw_all := lw_g (lw_at lw_m14 107 rfl) rfl
theorem q3379 : (Jvm.Cond.code ({ cls := "CrossbarExchangeModel", name := "callAt", desc := "(I)I" } : Jvm.MethodName) prog_12_method_100_code (2 : Nat) (Option.some Jvm.ClassFile.FieldType.int)) ∈ lw_all := lw_g (lw_at lw_m14 108 rfl) rfl
theorem q3381 : (Jvm.Cond.instanceMethod ({ cls := "CrossbarExchangeModel", name := "group", desc := "(II)I" } : Jvm.MethodName)) ∈ lw_all := lw_g (lw_at lw_m14 110 rfl) rfl
theorem q3382 : (Jvm.Cond.selects "CrossbarExchangeModel" ({ cls := "CrossbarExchangeModel", name := "group", desc := "(II)I" } : Jvm.MethodName) ({ cls := "CrossbarExchangeModel", name := "group", desc := "(II)I" } : Jvm.MethodName)) ∈ lw_all := lw_g (lw_at lw_m14 111 rfl) rfl
theorem q3383 : (Jvm.Cond.code ({ cls := "CrossbarExchangeModel", name := "group", desc := "(II)I" } : Jvm.MethodName) prog_12_method_101_code (5 : Nat) (Option.some Jvm.ClassFile.FieldType.int)) ∈ lw_all := lw_g (lw_at lw_m14 112 rfl) rfl
theorem q3385 : (Jvm.Cond.instanceMethod ({ cls := "CrossbarExchangeModel", name := "member", desc := "(II)I" } : Jvm.MethodName)) ∈ lw_all := lw_g (lw_at lw_m14 114 rfl) rfl
theorem q3386 : (Jvm.Cond.selects "CrossbarExchangeModel" ({ cls := "CrossbarExchangeModel", name := "member", desc := "(II)I" } : Jvm.MethodName) ({ cls := "CrossbarExchangeModel", name := "member", desc := "(II)I" } : Jvm.MethodName)) ∈ lw_all := lw_g (lw_at lw_m14 115 rfl) rfl
theorem q3387 : (Jvm.Cond.code ({ cls := "CrossbarExchangeModel", name := "member", desc := "(II)I" } : Jvm.MethodName) prog_12_method_102_code (3 : Nat) (Option.some Jvm.ClassFile.FieldType.int)) ∈ lw_all := lw_g (lw_at lw_m14 116 rfl) rfl
theorem q3389 : (Jvm.Cond.instanceMethod ({ cls := "CrossbarExchangeModel", name := "waiting", desc := "(II)I" } : Jvm.MethodName)) ∈ lw_all := lw_g (lw_at lw_m14 118 rfl) rfl
theorem q3390 : (Jvm.Cond.selects "CrossbarExchangeModel" ({ cls := "CrossbarExchangeModel", name := "waiting", desc := "(II)I" } : Jvm.MethodName) ({ cls := "CrossbarExchangeModel", name := "waiting", desc := "(II)I" } : Jvm.MethodName)) ∈ lw_all := lw_g (lw_at lw_m14 119 rfl) rfl
theorem q3391 : (Jvm.Cond.code ({ cls := "CrossbarExchangeModel", name := "waiting", desc := "(II)I" } : Jvm.MethodName) prog_12_method_103_code (3 : Nat) (Option.some Jvm.ClassFile.FieldType.int)) ∈ lw_all := lw_g (lw_at lw_m14 120 rfl) rfl
theorem q3393 : (Jvm.Cond.instanceMethod ({ cls := "CrossbarExchangeModel", name := "open", desc := "(II)I" } : Jvm.MethodName)) ∈ lw_all := lw_g (lw_at lw_m14 122 rfl) rfl
theorem q3394 : (Jvm.Cond.selects "CrossbarExchangeModel" ({ cls := "CrossbarExchangeModel", name := "open", desc := "(II)I" } : Jvm.MethodName) ({ cls := "CrossbarExchangeModel", name := "open", desc := "(II)I" } : Jvm.MethodName)) ∈ lw_all := lw_g (lw_at lw_m14 123 rfl) rfl
theorem q3395 : (Jvm.Cond.code ({ cls := "CrossbarExchangeModel", name := "open", desc := "(II)I" } : Jvm.MethodName) prog_12_method_104_code (5 : Nat) (Option.some Jvm.ClassFile.FieldType.int)) ∈ lw_all := lw_g (lw_at lw_m14 124 rfl) rfl
theorem q3397 : (Jvm.Cond.instanceMethod ({ cls := "CrossbarExchangeModel", name := "chain", desc := "(III)I" } : Jvm.MethodName)) ∈ lw_all := lw_g (lw_at lw_m14 126 rfl) rfl
theorem q3398 : (Jvm.Cond.selects "CrossbarExchangeModel" ({ cls := "CrossbarExchangeModel", name := "chain", desc := "(III)I" } : Jvm.MethodName) ({ cls := "CrossbarExchangeModel", name := "chain", desc := "(III)I" } : Jvm.MethodName)) ∈ lw_all := lw_g (lw_at lw_m14 127 rfl) rfl
theorem q3399 : (Jvm.Cond.code ({ cls := "CrossbarExchangeModel", name := "chain", desc := "(III)I" } : Jvm.MethodName) prog_12_method_105_code (4 : Nat) (Option.some Jvm.ClassFile.FieldType.int)) ∈ lw_all := lw_g (lw_at lw_m14 128 rfl) rfl
theorem q3401 : (Jvm.Cond.instanceMethod ({ cls := "CrossbarExchangeModel", name := "why", desc := "(III)I" } : Jvm.MethodName)) ∈ lw_all := lw_g (lw_at lw_m14 130 rfl) rfl
theorem q3402 : (Jvm.Cond.selects "CrossbarExchangeModel" ({ cls := "CrossbarExchangeModel", name := "why", desc := "(III)I" } : Jvm.MethodName) ({ cls := "CrossbarExchangeModel", name := "why", desc := "(III)I" } : Jvm.MethodName)) ∈ lw_all := lw_g (lw_at lw_m14 131 rfl) rfl
theorem q3403 : (Jvm.Cond.code ({ cls := "CrossbarExchangeModel", name := "why", desc := "(III)I" } : Jvm.MethodName) prog_12_method_107_code (8 : Nat) (Option.some Jvm.ClassFile.FieldType.int)) ∈ lw_all := lw_g (lw_at lw_m14 132 rfl) rfl
theorem q3404 : (Jvm.Cond.methodLink "CrossbarExchangeModel" (444 : Nat) ({ cls := "CrossbarExchangeModel", name := "callNumberOf", desc := "(I)I" } : Jvm.MethodName)) ∈ lw_all := lw_g (lw_at lw_m14 133 rfl) rfl
theorem q3405 : (Jvm.Cond.privateMethod ({ cls := "CrossbarExchangeModel", name := "callNumberOf", desc := "(I)I" } : Jvm.MethodName)) ∈ lw_tbl := lw_at lw_m14 134 rfl
theorem q3406 : (Jvm.Cond.instanceMethod ({ cls := "CrossbarExchangeModel", name := "callNumberOf", desc := "(I)I" } : Jvm.MethodName)) ∈ lw_all := lw_g (lw_at lw_m14 135 rfl) rfl
theorem q3407 : (Jvm.Cond.code ({ cls := "CrossbarExchangeModel", name := "callNumberOf", desc := "(I)I" } : Jvm.MethodName) prog_12_method_106_code (3 : Nat) (Option.some Jvm.ClassFile.FieldType.int)) ∈ lw_all := lw_g (lw_at lw_m14 136 rfl) rfl
theorem q3409 : (Jvm.Cond.instanceMethod ({ cls := "CrossbarExchangeModel", name := "blocked", desc := "()I" } : Jvm.MethodName)) ∈ lw_all := lw_g (lw_at lw_m14 138 rfl) rfl
theorem q3410 : (Jvm.Cond.selects "CrossbarExchangeModel" ({ cls := "CrossbarExchangeModel", name := "blocked", desc := "()I" } : Jvm.MethodName) ({ cls := "CrossbarExchangeModel", name := "blocked", desc := "()I" } : Jvm.MethodName)) ∈ lw_all := lw_g (lw_at lw_m14 139 rfl) rfl
theorem q3411 : (Jvm.Cond.code ({ cls := "CrossbarExchangeModel", name := "blocked", desc := "()I" } : Jvm.MethodName) prog_12_method_109_code (1 : Nat) (Option.some Jvm.ClassFile.FieldType.int)) ∈ lw_all := lw_g (lw_at lw_m14 140 rfl) rfl
theorem q3412 : (Jvm.Cond.methodLink "CrossbarExchangeModel" (447 : Nat) ({ cls := "CrossbarExchangeModel", name := "blockedPairs", desc := "()I" } : Jvm.MethodName)) ∈ lw_all := lw_g (lw_at lw_m14 141 rfl) rfl
theorem q3413 : (Jvm.Cond.privateMethod ({ cls := "CrossbarExchangeModel", name := "blockedPairs", desc := "()I" } : Jvm.MethodName)) ∈ lw_tbl := lw_at lw_m14 142 rfl
theorem q3414 : (Jvm.Cond.instanceMethod ({ cls := "CrossbarExchangeModel", name := "blockedPairs", desc := "()I" } : Jvm.MethodName)) ∈ lw_all := lw_g (lw_at lw_m14 143 rfl) rfl
theorem q3415 : (Jvm.Cond.code ({ cls := "CrossbarExchangeModel", name := "blockedPairs", desc := "()I" } : Jvm.MethodName) prog_12_method_108_code (6 : Nat) (Option.some Jvm.ClassFile.FieldType.int)) ∈ lw_all := lw_g (lw_at lw_m14 144 rfl) rfl
theorem q3417 : (Jvm.Cond.instanceMethod ({ cls := "CrossbarExchangeModel", name := "needed", desc := "()I" } : Jvm.MethodName)) ∈ lw_all := lw_g (lw_at lw_m14 146 rfl) rfl
theorem q3418 : (Jvm.Cond.selects "CrossbarExchangeModel" ({ cls := "CrossbarExchangeModel", name := "needed", desc := "()I" } : Jvm.MethodName) ({ cls := "CrossbarExchangeModel", name := "needed", desc := "()I" } : Jvm.MethodName)) ∈ lw_all := lw_g (lw_at lw_m14 147 rfl) rfl
theorem q3419 : (Jvm.Cond.code ({ cls := "CrossbarExchangeModel", name := "needed", desc := "()I" } : Jvm.MethodName) prog_12_method_110_code (1 : Nat) (Option.some Jvm.ClassFile.FieldType.int)) ∈ lw_all := lw_g (lw_at lw_m14 148 rfl) rfl
theorem q3421 : (Jvm.Cond.instanceMethod ({ cls := "CrossbarExchangeModel", name := "isFree", desc := "(Z)Z" } : Jvm.MethodName)) ∈ lw_all := lw_g (lw_at lw_m14 150 rfl) rfl
theorem q3422 : (Jvm.Cond.selects "CrossbarExchangeModel" ({ cls := "CrossbarExchangeModel", name := "isFree", desc := "(Z)Z" } : Jvm.MethodName) ({ cls := "CrossbarExchangeModel", name := "isFree", desc := "(Z)Z" } : Jvm.MethodName)) ∈ lw_all := lw_g (lw_at lw_m14 151 rfl) rfl
theorem q3423 : (Jvm.Cond.code ({ cls := "CrossbarExchangeModel", name := "isFree", desc := "(Z)Z" } : Jvm.MethodName) prog_12_method_111_code (2 : Nat) (Option.some Jvm.ClassFile.FieldType.boolean)) ∈ lw_all := lw_g (lw_at lw_m14 152 rfl) rfl
theorem q3425 : (Jvm.Cond.instanceMethod ({ cls := "CrossbarExchangeModel", name := "ifCut", desc := "(II)I" } : Jvm.MethodName)) ∈ lw_all := lw_g (lw_at lw_m14 154 rfl) rfl
theorem q3426 : (Jvm.Cond.selects "CrossbarExchangeModel" ({ cls := "CrossbarExchangeModel", name := "ifCut", desc := "(II)I" } : Jvm.MethodName) ({ cls := "CrossbarExchangeModel", name := "ifCut", desc := "(II)I" } : Jvm.MethodName)) ∈ lw_all := lw_g (lw_at lw_m14 155 rfl) rfl
theorem q3427 : (Jvm.Cond.code ({ cls := "CrossbarExchangeModel", name := "ifCut", desc := "(II)I" } : Jvm.MethodName) prog_12_method_113_code (6 : Nat) (Option.some Jvm.ClassFile.FieldType.int)) ∈ lw_all := lw_g (lw_at lw_m14 156 rfl) rfl
theorem q3429 : (Jvm.Cond.instanceMethod ({ cls := "CrossbarExchangeModel", name := "leastCut", desc := "()I" } : Jvm.MethodName)) ∈ lw_all := lw_g (lw_at lw_m14 158 rfl) rfl
theorem q3430 : (Jvm.Cond.selects "CrossbarExchangeModel" ({ cls := "CrossbarExchangeModel", name := "leastCut", desc := "()I" } : Jvm.MethodName) ({ cls := "CrossbarExchangeModel", name := "leastCut", desc := "()I" } : Jvm.MethodName)) ∈ lw_all := lw_g (lw_at lw_m14 159 rfl) rfl
theorem q3431 : (Jvm.Cond.code ({ cls := "CrossbarExchangeModel", name := "leastCut", desc := "()I" } : Jvm.MethodName) prog_12_method_114_code (5 : Nat) (Option.some Jvm.ClassFile.FieldType.int)) ∈ lw_all := lw_g (lw_at lw_m14 160 rfl) rfl
theorem q3432 : (Jvm.Cond.methodLink "CrossbarExchangeModel" (450 : Nat) ({ cls := "CrossbarExchangeModel", name := "droppedBy", desc := "(I)I" } : Jvm.MethodName)) ∈ lw_all := lw_g (lw_at lw_m14 161 rfl) rfl
theorem q3433 : (Jvm.Cond.privateMethod ({ cls := "CrossbarExchangeModel", name := "droppedBy", desc := "(I)I" } : Jvm.MethodName)) ∈ lw_tbl := lw_at lw_m14 162 rfl
theorem q3434 : (Jvm.Cond.instanceMethod ({ cls := "CrossbarExchangeModel", name := "droppedBy", desc := "(I)I" } : Jvm.MethodName)) ∈ lw_all := lw_g (lw_at lw_m14 163 rfl) rfl
theorem q3435 : (Jvm.Cond.code ({ cls := "CrossbarExchangeModel", name := "droppedBy", desc := "(I)I" } : Jvm.MethodName) prog_12_method_112_code (3 : Nat) (Option.some Jvm.ClassFile.FieldType.int)) ∈ lw_all := lw_g (lw_at lw_m14 164 rfl) rfl
theorem q3437 : (Jvm.Cond.instanceMethod ({ cls := "CrossbarExchangeModel", name := "ifPacked", desc := "(I)I" } : Jvm.MethodName)) ∈ lw_all := lw_g (lw_at lw_m14 166 rfl) rfl
theorem q3438 : (Jvm.Cond.selects "CrossbarExchangeModel" ({ cls := "CrossbarExchangeModel", name := "ifPacked", desc := "(I)I" } : Jvm.MethodName) ({ cls := "CrossbarExchangeModel", name := "ifPacked", desc := "(I)I" } : Jvm.MethodName)) ∈ lw_all := lw_g (lw_at lw_m14 167 rfl) rfl
theorem q3439 : (Jvm.Cond.code ({ cls := "CrossbarExchangeModel", name := "ifPacked", desc := "(I)I" } : Jvm.MethodName) prog_12_method_115_code (5 : Nat) (Option.some Jvm.ClassFile.FieldType.int)) ∈ lw_all := lw_g (lw_at lw_m14 168 rfl) rfl
theorem q3441 : (Jvm.Cond.instanceMethod ({ cls := "CrossbarExchangeModel", name := "callsIn", desc := "(I)I" } : Jvm.MethodName)) ∈ lw_all := lw_g (lw_at lw_m14 170 rfl) rfl
theorem q3442 : (Jvm.Cond.selects "CrossbarExchangeModel" ({ cls := "CrossbarExchangeModel", name := "callsIn", desc := "(I)I" } : Jvm.MethodName) ({ cls := "CrossbarExchangeModel", name := "callsIn", desc := "(I)I" } : Jvm.MethodName)) ∈ lw_all := lw_g (lw_at lw_m14 171 rfl) rfl
theorem q3443 : (Jvm.Cond.code ({ cls := "CrossbarExchangeModel", name := "callsIn", desc := "(I)I" } : Jvm.MethodName) prog_12_method_116_code (3 : Nat) (Option.some Jvm.ClassFile.FieldType.int)) ∈ lw_all := lw_g (lw_at lw_m14 172 rfl) rfl
theorem q3445 : (Jvm.Cond.instanceMethod ({ cls := "CrossbarExchangeModel", name := "idleIn", desc := "(I)I" } : Jvm.MethodName)) ∈ lw_all := lw_g (lw_at lw_m14 174 rfl) rfl
theorem q3446 : (Jvm.Cond.selects "CrossbarExchangeModel" ({ cls := "CrossbarExchangeModel", name := "idleIn", desc := "(I)I" } : Jvm.MethodName) ({ cls := "CrossbarExchangeModel", name := "idleIn", desc := "(I)I" } : Jvm.MethodName)) ∈ lw_all := lw_g (lw_at lw_m14 175 rfl) rfl
theorem q3447 : (Jvm.Cond.code ({ cls := "CrossbarExchangeModel", name := "idleIn", desc := "(I)I" } : Jvm.MethodName) prog_12_method_118_code (2 : Nat) (Option.some Jvm.ClassFile.FieldType.int)) ∈ lw_all := lw_g (lw_at lw_m14 176 rfl) rfl
theorem q3448 : (Jvm.Cond.methodLink "CrossbarExchangeModel" (453 : Nat) ({ cls := "CrossbarExchangeModel", name := "until", desc := "(IZ)I" } : Jvm.MethodName)) ∈ lw_all := lw_g (lw_at lw_m14 177 rfl) rfl
theorem q3449 : (Jvm.Cond.privateMethod ({ cls := "CrossbarExchangeModel", name := "until", desc := "(IZ)I" } : Jvm.MethodName)) ∈ lw_tbl := lw_at lw_m14 178 rfl
theorem q3450 : (Jvm.Cond.instanceMethod ({ cls := "CrossbarExchangeModel", name := "until", desc := "(IZ)I" } : Jvm.MethodName)) ∈ lw_all := lw_g (lw_at lw_m14 179 rfl) rfl
theorem q3451 : (Jvm.Cond.code ({ cls := "CrossbarExchangeModel", name := "until", desc := "(IZ)I" } : Jvm.MethodName) prog_12_method_117_code (4 : Nat) (Option.some Jvm.ClassFile.FieldType.int)) ∈ lw_all := lw_g (lw_at lw_m14 180 rfl) rfl
theorem q3453 : (Jvm.Cond.instanceMethod ({ cls := "CrossbarExchangeModel", name := "servedIn", desc := "(I)I" } : Jvm.MethodName)) ∈ lw_all := lw_g (lw_at lw_m14 182 rfl) rfl
theorem q3454 : (Jvm.Cond.selects "CrossbarExchangeModel" ({ cls := "CrossbarExchangeModel", name := "servedIn", desc := "(I)I" } : Jvm.MethodName) ({ cls := "CrossbarExchangeModel", name := "servedIn", desc := "(I)I" } : Jvm.MethodName)) ∈ lw_all := lw_g (lw_at lw_m14 183 rfl) rfl
theorem q3455 : (Jvm.Cond.code ({ cls := "CrossbarExchangeModel", name := "servedIn", desc := "(I)I" } : Jvm.MethodName) prog_12_method_119_code (2 : Nat) (Option.some Jvm.ClassFile.FieldType.int)) ∈ lw_all := lw_g (lw_at lw_m14 184 rfl) rfl
theorem q3457 : (Jvm.Cond.instanceMethod ({ cls := "CrossbarExchangeModel", name := "gap", desc := "()I" } : Jvm.MethodName)) ∈ lw_all := lw_g (lw_at lw_m14 186 rfl) rfl
theorem q3458 : (Jvm.Cond.selects "CrossbarExchangeModel" ({ cls := "CrossbarExchangeModel", name := "gap", desc := "()I" } : Jvm.MethodName) ({ cls := "CrossbarExchangeModel", name := "gap", desc := "()I" } : Jvm.MethodName)) ∈ lw_all := lw_g (lw_at lw_m14 187 rfl) rfl
theorem q3459 : (Jvm.Cond.code ({ cls := "CrossbarExchangeModel", name := "gap", desc := "()I" } : Jvm.MethodName) prog_12_method_120_code (7 : Nat) (Option.some Jvm.ClassFile.FieldType.int)) ∈ lw_all := lw_g (lw_at lw_m14 188 rfl) rfl
theorem q3461 : (Jvm.Cond.instanceMethod ({ cls := "CrossbarExchangeModel", name := "fullness", desc := "()F" } : Jvm.MethodName)) ∈ lw_all := lw_g (lw_at lw_m14 190 rfl) rfl
theorem q3462 : (Jvm.Cond.selects "CrossbarExchangeModel" ({ cls := "CrossbarExchangeModel", name := "fullness", desc := "()F" } : Jvm.MethodName) ({ cls := "CrossbarExchangeModel", name := "fullness", desc := "()F" } : Jvm.MethodName)) ∈ lw_all := lw_g (lw_at lw_m14 191 rfl) rfl
theorem q3463 : (Jvm.Cond.code ({ cls := "CrossbarExchangeModel", name := "fullness", desc := "()F" } : Jvm.MethodName) prog_12_method_121_code (2 : Nat) (Option.some Jvm.ClassFile.FieldType.float)) ∈ lw_all := lw_g (lw_at lw_m14 192 rfl) rfl
theorem q3465 : (Jvm.Cond.instanceMethod ({ cls := "CrossbarExchangeModel", name := "meanChain", desc := "()D" } : Jvm.MethodName)) ∈ lw_all := lw_g (lw_at lw_m14 194 rfl) rfl
theorem q3466 : (Jvm.Cond.selects "CrossbarExchangeModel" ({ cls := "CrossbarExchangeModel", name := "meanChain", desc := "()D" } : Jvm.MethodName) ({ cls := "CrossbarExchangeModel", name := "meanChain", desc := "()D" } : Jvm.MethodName)) ∈ lw_all := lw_g (lw_at lw_m14 195 rfl) rfl
theorem q3467 : (Jvm.Cond.code ({ cls := "CrossbarExchangeModel", name := "meanChain", desc := "()D" } : Jvm.MethodName) prog_12_method_122_code (1 : Nat) (Option.some Jvm.ClassFile.FieldType.double)) ∈ lw_all := lw_g (lw_at lw_m14 196 rfl) rfl
theorem q3469 : (Jvm.Cond.instanceMethod ({ cls := "CrossbarExchangeModel", name := "writeMiddles", desc := "()I" } : Jvm.MethodName)) ∈ lw_all := lw_g (lw_at lw_m14 198 rfl) rfl
theorem q3470 : (Jvm.Cond.selects "CrossbarExchangeModel" ({ cls := "CrossbarExchangeModel", name := "writeMiddles", desc := "()I" } : Jvm.MethodName) ({ cls := "CrossbarExchangeModel", name := "writeMiddles", desc := "()I" } : Jvm.MethodName)) ∈ lw_all := lw_g (lw_at lw_m14 199 rfl) rfl
theorem q3471 : (Jvm.Cond.code ({ cls := "CrossbarExchangeModel", name := "writeMiddles", desc := "()I" } : Jvm.MethodName) prog_12_method_125_code (6 : Nat) (Option.some Jvm.ClassFile.FieldType.int)) ∈ lw_all := lw_g (lw_at lw_m14 200 rfl) rfl
theorem q3472 : (Jvm.Cond.methodLink "CrossbarExchangeModel" (459 : Nat) ({ cls := "CrossbarExchangeModel", name := "writes", desc := "(I)V" } : Jvm.MethodName)) ∈ lw_all := lw_g (lw_at lw_m14 201 rfl) rfl
theorem q3473 : (Jvm.Cond.privateMethod ({ cls := "CrossbarExchangeModel", name := "writes", desc := "(I)V" } : Jvm.MethodName)) ∈ lw_tbl := lw_at lw_m14 202 rfl
theorem q3474 : (Jvm.Cond.instanceMethod ({ cls := "CrossbarExchangeModel", name := "writes", desc := "(I)V" } : Jvm.MethodName)) ∈ lw_all := lw_g (lw_at lw_m14 203 rfl) rfl
theorem q3475 : (Jvm.Cond.code ({ cls := "CrossbarExchangeModel", name := "writes", desc := "(I)V" } : Jvm.MethodName) prog_12_method_123_code (2 : Nat) (Option.none : Option Jvm.ClassFile.FieldType)) ∈ lw_all := lw_g (lw_at lw_m14 204 rfl) rfl
theorem q3477 : (Jvm.Cond.instanceMethod ({ cls := "CrossbarExchangeModel", name := "writeCalls", desc := "()I" } : Jvm.MethodName)) ∈ lw_all := lw_g (lw_at lw_m14 206 rfl) rfl
theorem q3478 : (Jvm.Cond.selects "CrossbarExchangeModel" ({ cls := "CrossbarExchangeModel", name := "writeCalls", desc := "()I" } : Jvm.MethodName) ({ cls := "CrossbarExchangeModel", name := "writeCalls", desc := "()I" } : Jvm.MethodName)) ∈ lw_all := lw_g (lw_at lw_m14 207 rfl) rfl
theorem q3479 : (Jvm.Cond.code ({ cls := "CrossbarExchangeModel", name := "writeCalls", desc := "()I" } : Jvm.MethodName) prog_12_method_126_code (2 : Nat) (Option.some Jvm.ClassFile.FieldType.int)) ∈ lw_all := lw_g (lw_at lw_m14 208 rfl) rfl
theorem q3480 : (Jvm.Cond.methodLink "CrossbarExchangeModel" (462 : Nat) ({ cls := "CrossbarExchangeModel", name := "writesNumber", desc := "(I)V" } : Jvm.MethodName)) ∈ lw_all := lw_g (lw_at lw_m14 209 rfl) rfl
theorem q3481 : (Jvm.Cond.privateMethod ({ cls := "CrossbarExchangeModel", name := "writesNumber", desc := "(I)V" } : Jvm.MethodName)) ∈ lw_tbl := lw_at lw_m14 210 rfl
theorem q3482 : (Jvm.Cond.instanceMethod ({ cls := "CrossbarExchangeModel", name := "writesNumber", desc := "(I)V" } : Jvm.MethodName)) ∈ lw_all := lw_g (lw_at lw_m14 211 rfl) rfl
theorem q3483 : (Jvm.Cond.code ({ cls := "CrossbarExchangeModel", name := "writesNumber", desc := "(I)V" } : Jvm.MethodName) prog_12_method_124_code (3 : Nat) (Option.none : Option Jvm.ClassFile.FieldType)) ∈ lw_all := lw_g (lw_at lw_m14 212 rfl) rfl
theorem q3485 : (Jvm.Cond.instanceMethod ({ cls := "CrossbarExchangeModel", name := "outputByte", desc := "(I)I" } : Jvm.MethodName)) ∈ lw_all := lw_g (lw_at lw_m14 214 rfl) rfl
theorem q3486 : (Jvm.Cond.selects "CrossbarExchangeModel" ({ cls := "CrossbarExchangeModel", name := "outputByte", desc := "(I)I" } : Jvm.MethodName) ({ cls := "CrossbarExchangeModel", name := "outputByte", desc := "(I)I" } : Jvm.MethodName)) ∈ lw_all := lw_g (lw_at lw_m14 215 rfl) rfl
theorem q3487 : (Jvm.Cond.code ({ cls := "CrossbarExchangeModel", name := "outputByte", desc := "(I)I" } : Jvm.MethodName) prog_12_method_127_code (2 : Nat) (Option.some Jvm.ClassFile.FieldType.int)) ∈ lw_all := lw_g (lw_at lw_m14 216 rfl) rfl
theorem q3542 : (Jvm.Cond.castable "CrossbarExchangeModel" "java/lang/Object") ∈ lw_tbl := lw_at lw_m15 31 rfl
theorem in_X5 : ∀ w ∈ wsX50, w ∈ lw_all := lw_in wsX50 [2856, 2858, 2860, 2862, 2864, 2866, 2868, 2870, 2872, 2874, 2876, 2878, 2880, 2882, 2884, 2886, 2888, 2890, 2892, 2894, 2896, 2898, 2900, 2902, 2904, 2906, 2908, 2910, 2912, 2914, 2916, 2918, 2920, 2922, 2924, 2926, 2928, 2930, 2932, 2934, 2936, 2938, 2940, 2942, 2944, 2946, 2948, 2950, 2952, 2954, 2956, 2958, 2960] (by decide +kernel) (by decide +kernel)
