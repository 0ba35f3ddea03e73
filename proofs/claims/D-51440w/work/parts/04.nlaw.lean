/-! CrossbarExchangeLaw -/
set_option maxRecDepth 100000
def RX0 : String := "CrossbarExchangeLaw"
abbrev cX0_truncate : ByteArray := method_3_code
def yX0_truncate : MethodName := ⟨RX0, "truncate", "(LCrossbarExchange;I[J)I"⟩
def dkwX0_truncate_0 : List UInt8 := [44, 3, 42, 27, 182, 0, 7, 133, 80, 167, 0, 6, 78, 4, 172, 3, 172]
abbrev dktX0_truncate_0 : List UInt8 := dkwX0_truncate_0 ++ []
theorem dksX0_truncate_0 : cX0_truncate.data.toList.drop 0 = dktX0_truncate_0 := by decide +kernel
theorem dX0_truncate_0 : decode cX0_truncate 0 = .ok (.aload_n 2, 1) := dk_44 (dk_at dksX0_truncate_0 0 rfl rfl)
theorem dX0_truncate_1 : decode cX0_truncate 1 = .ok (.iconst 0, 1) := dk_3 (dk_at dksX0_truncate_0 1 rfl rfl)
theorem dX0_truncate_2 : decode cX0_truncate 2 = .ok (.aload_n 0, 1) := dk_42 (dk_at dksX0_truncate_0 2 rfl rfl)
theorem dX0_truncate_3 : decode cX0_truncate 3 = .ok (.iload_n 1, 1) := dk_27 (dk_at dksX0_truncate_0 3 rfl rfl)
theorem dX0_truncate_4 : decode cX0_truncate 4 = .ok (.invokevirtual 7, 3) := dk_182 0 7 (dk_at dksX0_truncate_0 4 rfl rfl)
theorem dX0_truncate_7 : decode cX0_truncate 7 = .ok (.i2l, 1) := dk_133 (dk_at dksX0_truncate_0 7 rfl rfl)
theorem dX0_truncate_8 : decode cX0_truncate 8 = .ok (.lastore, 1) := dk_80 (dk_at dksX0_truncate_0 8 rfl rfl)
theorem dX0_truncate_9 : decode cX0_truncate 9 = .ok (.goto 6, 3) := dk_167 0 6 (dk_at dksX0_truncate_0 9 rfl rfl)
theorem dX0_truncate_12 : decode cX0_truncate 12 = .ok (.astore_n 3, 1) := dk_78 (dk_at dksX0_truncate_0 12 rfl rfl)
theorem dX0_truncate_13 : decode cX0_truncate 13 = .ok (.iconst 1, 1) := dk_4 (dk_at dksX0_truncate_0 13 rfl rfl)
theorem dX0_truncate_14 : decode cX0_truncate 14 = .ok (.ireturn, 1) := dk_172 (dk_at dksX0_truncate_0 14 rfl rfl)
theorem dX0_truncate_15 : decode cX0_truncate 15 = .ok (.iconst 0, 1) := dk_3 (dk_at dksX0_truncate_0 15 rfl rfl)
theorem dX0_truncate_16 : decode cX0_truncate 16 = .ok (.ireturn, 1) := dk_172 (dk_at dksX0_truncate_0 16 rfl rfl)
abbrev cX0_call : ByteArray := method_4_code
def yX0_call : MethodName := ⟨RX0, "call", "(LCrossbarExchange;III[J)I"⟩
def dkwX0_call_1 : List UInt8 := [172]
abbrev dktX0_call_1 : List UInt8 := dkwX0_call_1 ++ []
def dkwX0_call_0 : List UInt8 := [25, 4, 3, 42, 27, 28, 29, 182, 0, 15, 133, 80, 167, 0, 11, 58, 5, 4, 172, 58, 5, 5, 172, 3]
abbrev dktX0_call_0 : List UInt8 := dkwX0_call_0 ++ dktX0_call_1
theorem dksX0_call_0 : cX0_call.data.toList.drop 0 = dktX0_call_0 := by decide +kernel
theorem dksX0_call_1 : cX0_call.data.toList.drop 24 = dktX0_call_1 := dk_seg dksX0_call_0 24 rfl rfl
theorem dX0_call_0 : decode cX0_call 0 = .ok (.aload 4, 2) := dk_25 4 (dk_at dksX0_call_0 0 rfl rfl)
theorem dX0_call_2 : decode cX0_call 2 = .ok (.iconst 0, 1) := dk_3 (dk_at dksX0_call_0 2 rfl rfl)
theorem dX0_call_3 : decode cX0_call 3 = .ok (.aload_n 0, 1) := dk_42 (dk_at dksX0_call_0 3 rfl rfl)
theorem dX0_call_4 : decode cX0_call 4 = .ok (.iload_n 1, 1) := dk_27 (dk_at dksX0_call_0 4 rfl rfl)
theorem dX0_call_5 : decode cX0_call 5 = .ok (.iload_n 2, 1) := dk_28 (dk_at dksX0_call_0 5 rfl rfl)
theorem dX0_call_6 : decode cX0_call 6 = .ok (.iload_n 3, 1) := dk_29 (dk_at dksX0_call_0 6 rfl rfl)
theorem dX0_call_7 : decode cX0_call 7 = .ok (.invokevirtual 15, 3) := dk_182 0 15 (dk_at dksX0_call_0 7 rfl rfl)
theorem dX0_call_10 : decode cX0_call 10 = .ok (.i2l, 1) := dk_133 (dk_at dksX0_call_0 10 rfl rfl)
theorem dX0_call_11 : decode cX0_call 11 = .ok (.lastore, 1) := dk_80 (dk_at dksX0_call_0 11 rfl rfl)
theorem dX0_call_12 : decode cX0_call 12 = .ok (.goto 11, 3) := dk_167 0 11 (dk_at dksX0_call_0 12 rfl rfl)
theorem dX0_call_15 : decode cX0_call 15 = .ok (.astore 5, 2) := dk_58 5 (dk_at dksX0_call_0 15 rfl rfl)
theorem dX0_call_17 : decode cX0_call 17 = .ok (.iconst 1, 1) := dk_4 (dk_at dksX0_call_0 17 rfl rfl)
theorem dX0_call_18 : decode cX0_call 18 = .ok (.ireturn, 1) := dk_172 (dk_at dksX0_call_0 18 rfl rfl)
theorem dX0_call_19 : decode cX0_call 19 = .ok (.astore 5, 2) := dk_58 5 (dk_at dksX0_call_0 19 rfl rfl)
theorem dX0_call_21 : decode cX0_call 21 = .ok (.iconst 2, 1) := dk_5 (dk_at dksX0_call_0 21 rfl rfl)
theorem dX0_call_22 : decode cX0_call 22 = .ok (.ireturn, 1) := dk_172 (dk_at dksX0_call_0 22 rfl rfl)
theorem dX0_call_23 : decode cX0_call 23 = .ok (.iconst 0, 1) := dk_3 (dk_at dksX0_call_0 23 rfl rfl)
theorem dX0_call_24 : decode cX0_call 24 = .ok (.ireturn, 1) := dk_172 (dk_at dksX0_call_1 0 rfl rfl)
abbrev cX0_dial : ByteArray := method_5_code
def yX0_dial : MethodName := ⟨RX0, "dial", "(LCrossbarExchange;III[J)I"⟩
def dkwX0_dial_1 : List UInt8 := [172]
abbrev dktX0_dial_1 : List UInt8 := dkwX0_dial_1 ++ []
def dkwX0_dial_0 : List UInt8 := [25, 4, 3, 42, 27, 28, 29, 182, 0, 21, 133, 80, 167, 0, 11, 58, 5, 4, 172, 58, 5, 5, 172, 3]
abbrev dktX0_dial_0 : List UInt8 := dkwX0_dial_0 ++ dktX0_dial_1
theorem dksX0_dial_0 : cX0_dial.data.toList.drop 0 = dktX0_dial_0 := by decide +kernel
theorem dksX0_dial_1 : cX0_dial.data.toList.drop 24 = dktX0_dial_1 := dk_seg dksX0_dial_0 24 rfl rfl
theorem dX0_dial_0 : decode cX0_dial 0 = .ok (.aload 4, 2) := dk_25 4 (dk_at dksX0_dial_0 0 rfl rfl)
theorem dX0_dial_2 : decode cX0_dial 2 = .ok (.iconst 0, 1) := dk_3 (dk_at dksX0_dial_0 2 rfl rfl)
theorem dX0_dial_3 : decode cX0_dial 3 = .ok (.aload_n 0, 1) := dk_42 (dk_at dksX0_dial_0 3 rfl rfl)
theorem dX0_dial_4 : decode cX0_dial 4 = .ok (.iload_n 1, 1) := dk_27 (dk_at dksX0_dial_0 4 rfl rfl)
theorem dX0_dial_5 : decode cX0_dial 5 = .ok (.iload_n 2, 1) := dk_28 (dk_at dksX0_dial_0 5 rfl rfl)
theorem dX0_dial_6 : decode cX0_dial 6 = .ok (.iload_n 3, 1) := dk_29 (dk_at dksX0_dial_0 6 rfl rfl)
theorem dX0_dial_7 : decode cX0_dial 7 = .ok (.invokevirtual 21, 3) := dk_182 0 21 (dk_at dksX0_dial_0 7 rfl rfl)
theorem dX0_dial_10 : decode cX0_dial 10 = .ok (.i2l, 1) := dk_133 (dk_at dksX0_dial_0 10 rfl rfl)
theorem dX0_dial_11 : decode cX0_dial 11 = .ok (.lastore, 1) := dk_80 (dk_at dksX0_dial_0 11 rfl rfl)
theorem dX0_dial_12 : decode cX0_dial 12 = .ok (.goto 11, 3) := dk_167 0 11 (dk_at dksX0_dial_0 12 rfl rfl)
theorem dX0_dial_15 : decode cX0_dial 15 = .ok (.astore 5, 2) := dk_58 5 (dk_at dksX0_dial_0 15 rfl rfl)
theorem dX0_dial_17 : decode cX0_dial 17 = .ok (.iconst 1, 1) := dk_4 (dk_at dksX0_dial_0 17 rfl rfl)
theorem dX0_dial_18 : decode cX0_dial 18 = .ok (.ireturn, 1) := dk_172 (dk_at dksX0_dial_0 18 rfl rfl)
theorem dX0_dial_19 : decode cX0_dial 19 = .ok (.astore 5, 2) := dk_58 5 (dk_at dksX0_dial_0 19 rfl rfl)
theorem dX0_dial_21 : decode cX0_dial 21 = .ok (.iconst 2, 1) := dk_5 (dk_at dksX0_dial_0 21 rfl rfl)
theorem dX0_dial_22 : decode cX0_dial 22 = .ok (.ireturn, 1) := dk_172 (dk_at dksX0_dial_0 22 rfl rfl)
theorem dX0_dial_23 : decode cX0_dial 23 = .ok (.iconst 0, 1) := dk_3 (dk_at dksX0_dial_0 23 rfl rfl)
theorem dX0_dial_24 : decode cX0_dial 24 = .ok (.ireturn, 1) := dk_172 (dk_at dksX0_dial_1 0 rfl rfl)
abbrev cX0_hangUp : ByteArray := method_6_code
def yX0_hangUp : MethodName := ⟨RX0, "hangUp", "(LCrossbarExchange;I[J)I"⟩
def dkwX0_hangUp_0 : List UInt8 := [44, 3, 42, 27, 182, 0, 24, 133, 80, 167, 0, 9, 78, 4, 172, 78, 5, 172, 3, 172]
abbrev dktX0_hangUp_0 : List UInt8 := dkwX0_hangUp_0 ++ []
theorem dksX0_hangUp_0 : cX0_hangUp.data.toList.drop 0 = dktX0_hangUp_0 := by decide +kernel
theorem dX0_hangUp_0 : decode cX0_hangUp 0 = .ok (.aload_n 2, 1) := dk_44 (dk_at dksX0_hangUp_0 0 rfl rfl)
theorem dX0_hangUp_1 : decode cX0_hangUp 1 = .ok (.iconst 0, 1) := dk_3 (dk_at dksX0_hangUp_0 1 rfl rfl)
theorem dX0_hangUp_2 : decode cX0_hangUp 2 = .ok (.aload_n 0, 1) := dk_42 (dk_at dksX0_hangUp_0 2 rfl rfl)
theorem dX0_hangUp_3 : decode cX0_hangUp 3 = .ok (.iload_n 1, 1) := dk_27 (dk_at dksX0_hangUp_0 3 rfl rfl)
theorem dX0_hangUp_4 : decode cX0_hangUp 4 = .ok (.invokevirtual 24, 3) := dk_182 0 24 (dk_at dksX0_hangUp_0 4 rfl rfl)
theorem dX0_hangUp_7 : decode cX0_hangUp 7 = .ok (.i2l, 1) := dk_133 (dk_at dksX0_hangUp_0 7 rfl rfl)
theorem dX0_hangUp_8 : decode cX0_hangUp 8 = .ok (.lastore, 1) := dk_80 (dk_at dksX0_hangUp_0 8 rfl rfl)
theorem dX0_hangUp_9 : decode cX0_hangUp 9 = .ok (.goto 9, 3) := dk_167 0 9 (dk_at dksX0_hangUp_0 9 rfl rfl)
theorem dX0_hangUp_12 : decode cX0_hangUp 12 = .ok (.astore_n 3, 1) := dk_78 (dk_at dksX0_hangUp_0 12 rfl rfl)
theorem dX0_hangUp_13 : decode cX0_hangUp 13 = .ok (.iconst 1, 1) := dk_4 (dk_at dksX0_hangUp_0 13 rfl rfl)
theorem dX0_hangUp_14 : decode cX0_hangUp 14 = .ok (.ireturn, 1) := dk_172 (dk_at dksX0_hangUp_0 14 rfl rfl)
theorem dX0_hangUp_15 : decode cX0_hangUp 15 = .ok (.astore_n 3, 1) := dk_78 (dk_at dksX0_hangUp_0 15 rfl rfl)
theorem dX0_hangUp_16 : decode cX0_hangUp 16 = .ok (.iconst 2, 1) := dk_5 (dk_at dksX0_hangUp_0 16 rfl rfl)
theorem dX0_hangUp_17 : decode cX0_hangUp 17 = .ok (.ireturn, 1) := dk_172 (dk_at dksX0_hangUp_0 17 rfl rfl)
theorem dX0_hangUp_18 : decode cX0_hangUp 18 = .ok (.iconst 0, 1) := dk_3 (dk_at dksX0_hangUp_0 18 rfl rfl)
theorem dX0_hangUp_19 : decode cX0_hangUp 19 = .ok (.ireturn, 1) := dk_172 (dk_at dksX0_hangUp_0 19 rfl rfl)
abbrev cX0_tick : ByteArray := method_7_code
def yX0_tick : MethodName := ⟨RX0, "tick", "(LCrossbarExchange;I[J)I"⟩
def dkwX0_tick_0 : List UInt8 := [44, 3, 42, 27, 182, 0, 29, 133, 80, 167, 0, 9, 78, 4, 172, 78, 5, 172, 3, 172]
abbrev dktX0_tick_0 : List UInt8 := dkwX0_tick_0 ++ []
theorem dksX0_tick_0 : cX0_tick.data.toList.drop 0 = dktX0_tick_0 := by decide +kernel
theorem dX0_tick_0 : decode cX0_tick 0 = .ok (.aload_n 2, 1) := dk_44 (dk_at dksX0_tick_0 0 rfl rfl)
theorem dX0_tick_1 : decode cX0_tick 1 = .ok (.iconst 0, 1) := dk_3 (dk_at dksX0_tick_0 1 rfl rfl)
theorem dX0_tick_2 : decode cX0_tick 2 = .ok (.aload_n 0, 1) := dk_42 (dk_at dksX0_tick_0 2 rfl rfl)
theorem dX0_tick_3 : decode cX0_tick 3 = .ok (.iload_n 1, 1) := dk_27 (dk_at dksX0_tick_0 3 rfl rfl)
theorem dX0_tick_4 : decode cX0_tick 4 = .ok (.invokevirtual 29, 3) := dk_182 0 29 (dk_at dksX0_tick_0 4 rfl rfl)
theorem dX0_tick_7 : decode cX0_tick 7 = .ok (.i2l, 1) := dk_133 (dk_at dksX0_tick_0 7 rfl rfl)
theorem dX0_tick_8 : decode cX0_tick 8 = .ok (.lastore, 1) := dk_80 (dk_at dksX0_tick_0 8 rfl rfl)
theorem dX0_tick_9 : decode cX0_tick 9 = .ok (.goto 9, 3) := dk_167 0 9 (dk_at dksX0_tick_0 9 rfl rfl)
theorem dX0_tick_12 : decode cX0_tick 12 = .ok (.astore_n 3, 1) := dk_78 (dk_at dksX0_tick_0 12 rfl rfl)
theorem dX0_tick_13 : decode cX0_tick 13 = .ok (.iconst 1, 1) := dk_4 (dk_at dksX0_tick_0 13 rfl rfl)
theorem dX0_tick_14 : decode cX0_tick 14 = .ok (.ireturn, 1) := dk_172 (dk_at dksX0_tick_0 14 rfl rfl)
theorem dX0_tick_15 : decode cX0_tick 15 = .ok (.astore_n 3, 1) := dk_78 (dk_at dksX0_tick_0 15 rfl rfl)
theorem dX0_tick_16 : decode cX0_tick 16 = .ok (.iconst 2, 1) := dk_5 (dk_at dksX0_tick_0 16 rfl rfl)
theorem dX0_tick_17 : decode cX0_tick 17 = .ok (.ireturn, 1) := dk_172 (dk_at dksX0_tick_0 17 rfl rfl)
theorem dX0_tick_18 : decode cX0_tick 18 = .ok (.iconst 0, 1) := dk_3 (dk_at dksX0_tick_0 18 rfl rfl)
theorem dX0_tick_19 : decode cX0_tick 19 = .ok (.ireturn, 1) := dk_172 (dk_at dksX0_tick_0 19 rfl rfl)
abbrev cX0_cut : ByteArray := method_8_code
def yX0_cut : MethodName := ⟨RX0, "cut", "(LCrossbarExchange;I[J)I"⟩
def dkwX0_cut_0 : List UInt8 := [44, 3, 42, 27, 182, 0, 32, 133, 80, 167, 0, 9, 78, 4, 172, 78, 5, 172, 3, 172]
abbrev dktX0_cut_0 : List UInt8 := dkwX0_cut_0 ++ []
theorem dksX0_cut_0 : cX0_cut.data.toList.drop 0 = dktX0_cut_0 := by decide +kernel
theorem dX0_cut_0 : decode cX0_cut 0 = .ok (.aload_n 2, 1) := dk_44 (dk_at dksX0_cut_0 0 rfl rfl)
theorem dX0_cut_1 : decode cX0_cut 1 = .ok (.iconst 0, 1) := dk_3 (dk_at dksX0_cut_0 1 rfl rfl)
theorem dX0_cut_2 : decode cX0_cut 2 = .ok (.aload_n 0, 1) := dk_42 (dk_at dksX0_cut_0 2 rfl rfl)
theorem dX0_cut_3 : decode cX0_cut 3 = .ok (.iload_n 1, 1) := dk_27 (dk_at dksX0_cut_0 3 rfl rfl)
theorem dX0_cut_4 : decode cX0_cut 4 = .ok (.invokevirtual 32, 3) := dk_182 0 32 (dk_at dksX0_cut_0 4 rfl rfl)
theorem dX0_cut_7 : decode cX0_cut 7 = .ok (.i2l, 1) := dk_133 (dk_at dksX0_cut_0 7 rfl rfl)
theorem dX0_cut_8 : decode cX0_cut 8 = .ok (.lastore, 1) := dk_80 (dk_at dksX0_cut_0 8 rfl rfl)
theorem dX0_cut_9 : decode cX0_cut 9 = .ok (.goto 9, 3) := dk_167 0 9 (dk_at dksX0_cut_0 9 rfl rfl)
theorem dX0_cut_12 : decode cX0_cut 12 = .ok (.astore_n 3, 1) := dk_78 (dk_at dksX0_cut_0 12 rfl rfl)
theorem dX0_cut_13 : decode cX0_cut 13 = .ok (.iconst 1, 1) := dk_4 (dk_at dksX0_cut_0 13 rfl rfl)
theorem dX0_cut_14 : decode cX0_cut 14 = .ok (.ireturn, 1) := dk_172 (dk_at dksX0_cut_0 14 rfl rfl)
theorem dX0_cut_15 : decode cX0_cut 15 = .ok (.astore_n 3, 1) := dk_78 (dk_at dksX0_cut_0 15 rfl rfl)
theorem dX0_cut_16 : decode cX0_cut 16 = .ok (.iconst 2, 1) := dk_5 (dk_at dksX0_cut_0 16 rfl rfl)
theorem dX0_cut_17 : decode cX0_cut 17 = .ok (.ireturn, 1) := dk_172 (dk_at dksX0_cut_0 17 rfl rfl)
theorem dX0_cut_18 : decode cX0_cut 18 = .ok (.iconst 0, 1) := dk_3 (dk_at dksX0_cut_0 18 rfl rfl)
theorem dX0_cut_19 : decode cX0_cut 19 = .ok (.ireturn, 1) := dk_172 (dk_at dksX0_cut_0 19 rfl rfl)
abbrev cX0_mend : ByteArray := method_9_code
def yX0_mend : MethodName := ⟨RX0, "mend", "(LCrossbarExchange;I[J)I"⟩
def dkwX0_mend_0 : List UInt8 := [44, 3, 42, 27, 182, 0, 35, 133, 80, 167, 0, 9, 78, 4, 172, 78, 5, 172, 3, 172]
abbrev dktX0_mend_0 : List UInt8 := dkwX0_mend_0 ++ []
theorem dksX0_mend_0 : cX0_mend.data.toList.drop 0 = dktX0_mend_0 := by decide +kernel
theorem dX0_mend_0 : decode cX0_mend 0 = .ok (.aload_n 2, 1) := dk_44 (dk_at dksX0_mend_0 0 rfl rfl)
theorem dX0_mend_1 : decode cX0_mend 1 = .ok (.iconst 0, 1) := dk_3 (dk_at dksX0_mend_0 1 rfl rfl)
theorem dX0_mend_2 : decode cX0_mend 2 = .ok (.aload_n 0, 1) := dk_42 (dk_at dksX0_mend_0 2 rfl rfl)
theorem dX0_mend_3 : decode cX0_mend 3 = .ok (.iload_n 1, 1) := dk_27 (dk_at dksX0_mend_0 3 rfl rfl)
theorem dX0_mend_4 : decode cX0_mend 4 = .ok (.invokevirtual 35, 3) := dk_182 0 35 (dk_at dksX0_mend_0 4 rfl rfl)
theorem dX0_mend_7 : decode cX0_mend 7 = .ok (.i2l, 1) := dk_133 (dk_at dksX0_mend_0 7 rfl rfl)
theorem dX0_mend_8 : decode cX0_mend 8 = .ok (.lastore, 1) := dk_80 (dk_at dksX0_mend_0 8 rfl rfl)
theorem dX0_mend_9 : decode cX0_mend 9 = .ok (.goto 9, 3) := dk_167 0 9 (dk_at dksX0_mend_0 9 rfl rfl)
theorem dX0_mend_12 : decode cX0_mend 12 = .ok (.astore_n 3, 1) := dk_78 (dk_at dksX0_mend_0 12 rfl rfl)
theorem dX0_mend_13 : decode cX0_mend 13 = .ok (.iconst 1, 1) := dk_4 (dk_at dksX0_mend_0 13 rfl rfl)
theorem dX0_mend_14 : decode cX0_mend 14 = .ok (.ireturn, 1) := dk_172 (dk_at dksX0_mend_0 14 rfl rfl)
theorem dX0_mend_15 : decode cX0_mend 15 = .ok (.astore_n 3, 1) := dk_78 (dk_at dksX0_mend_0 15 rfl rfl)
theorem dX0_mend_16 : decode cX0_mend 16 = .ok (.iconst 2, 1) := dk_5 (dk_at dksX0_mend_0 16 rfl rfl)
theorem dX0_mend_17 : decode cX0_mend 17 = .ok (.ireturn, 1) := dk_172 (dk_at dksX0_mend_0 17 rfl rfl)
theorem dX0_mend_18 : decode cX0_mend 18 = .ok (.iconst 0, 1) := dk_3 (dk_at dksX0_mend_0 18 rfl rfl)
theorem dX0_mend_19 : decode cX0_mend 19 = .ok (.ireturn, 1) := dk_172 (dk_at dksX0_mend_0 19 rfl rfl)
abbrev cX0_setMode : ByteArray := method_10_code
def yX0_setMode : MethodName := ⟨RX0, "setMode", "(LCrossbarExchange;I[J)I"⟩
def dkwX0_setMode_0 : List UInt8 := [44, 3, 42, 27, 182, 0, 38, 133, 80, 167, 0, 6, 78, 4, 172, 3, 172]
abbrev dktX0_setMode_0 : List UInt8 := dkwX0_setMode_0 ++ []
theorem dksX0_setMode_0 : cX0_setMode.data.toList.drop 0 = dktX0_setMode_0 := by decide +kernel
theorem dX0_setMode_0 : decode cX0_setMode 0 = .ok (.aload_n 2, 1) := dk_44 (dk_at dksX0_setMode_0 0 rfl rfl)
theorem dX0_setMode_1 : decode cX0_setMode 1 = .ok (.iconst 0, 1) := dk_3 (dk_at dksX0_setMode_0 1 rfl rfl)
theorem dX0_setMode_2 : decode cX0_setMode 2 = .ok (.aload_n 0, 1) := dk_42 (dk_at dksX0_setMode_0 2 rfl rfl)
theorem dX0_setMode_3 : decode cX0_setMode 3 = .ok (.iload_n 1, 1) := dk_27 (dk_at dksX0_setMode_0 3 rfl rfl)
theorem dX0_setMode_4 : decode cX0_setMode 4 = .ok (.invokevirtual 38, 3) := dk_182 0 38 (dk_at dksX0_setMode_0 4 rfl rfl)
theorem dX0_setMode_7 : decode cX0_setMode 7 = .ok (.i2l, 1) := dk_133 (dk_at dksX0_setMode_0 7 rfl rfl)
theorem dX0_setMode_8 : decode cX0_setMode 8 = .ok (.lastore, 1) := dk_80 (dk_at dksX0_setMode_0 8 rfl rfl)
theorem dX0_setMode_9 : decode cX0_setMode 9 = .ok (.goto 6, 3) := dk_167 0 6 (dk_at dksX0_setMode_0 9 rfl rfl)
theorem dX0_setMode_12 : decode cX0_setMode 12 = .ok (.astore_n 3, 1) := dk_78 (dk_at dksX0_setMode_0 12 rfl rfl)
theorem dX0_setMode_13 : decode cX0_setMode 13 = .ok (.iconst 1, 1) := dk_4 (dk_at dksX0_setMode_0 13 rfl rfl)
theorem dX0_setMode_14 : decode cX0_setMode 14 = .ok (.ireturn, 1) := dk_172 (dk_at dksX0_setMode_0 14 rfl rfl)
theorem dX0_setMode_15 : decode cX0_setMode 15 = .ok (.iconst 0, 1) := dk_3 (dk_at dksX0_setMode_0 15 rfl rfl)
theorem dX0_setMode_16 : decode cX0_setMode 16 = .ok (.ireturn, 1) := dk_172 (dk_at dksX0_setMode_0 16 rfl rfl)
abbrev cX0_setHunt : ByteArray := method_11_code
def yX0_setHunt : MethodName := ⟨RX0, "setHunt", "(LCrossbarExchange;I[J)I"⟩
def dkwX0_setHunt_0 : List UInt8 := [44, 3, 42, 27, 182, 0, 41, 133, 80, 167, 0, 6, 78, 4, 172, 3, 172]
abbrev dktX0_setHunt_0 : List UInt8 := dkwX0_setHunt_0 ++ []
theorem dksX0_setHunt_0 : cX0_setHunt.data.toList.drop 0 = dktX0_setHunt_0 := by decide +kernel
theorem dX0_setHunt_0 : decode cX0_setHunt 0 = .ok (.aload_n 2, 1) := dk_44 (dk_at dksX0_setHunt_0 0 rfl rfl)
theorem dX0_setHunt_1 : decode cX0_setHunt 1 = .ok (.iconst 0, 1) := dk_3 (dk_at dksX0_setHunt_0 1 rfl rfl)
theorem dX0_setHunt_2 : decode cX0_setHunt 2 = .ok (.aload_n 0, 1) := dk_42 (dk_at dksX0_setHunt_0 2 rfl rfl)
theorem dX0_setHunt_3 : decode cX0_setHunt 3 = .ok (.iload_n 1, 1) := dk_27 (dk_at dksX0_setHunt_0 3 rfl rfl)
theorem dX0_setHunt_4 : decode cX0_setHunt 4 = .ok (.invokevirtual 41, 3) := dk_182 0 41 (dk_at dksX0_setHunt_0 4 rfl rfl)
theorem dX0_setHunt_7 : decode cX0_setHunt 7 = .ok (.i2l, 1) := dk_133 (dk_at dksX0_setHunt_0 7 rfl rfl)
theorem dX0_setHunt_8 : decode cX0_setHunt 8 = .ok (.lastore, 1) := dk_80 (dk_at dksX0_setHunt_0 8 rfl rfl)
theorem dX0_setHunt_9 : decode cX0_setHunt 9 = .ok (.goto 6, 3) := dk_167 0 6 (dk_at dksX0_setHunt_0 9 rfl rfl)
theorem dX0_setHunt_12 : decode cX0_setHunt 12 = .ok (.astore_n 3, 1) := dk_78 (dk_at dksX0_setHunt_0 12 rfl rfl)
theorem dX0_setHunt_13 : decode cX0_setHunt 13 = .ok (.iconst 1, 1) := dk_4 (dk_at dksX0_setHunt_0 13 rfl rfl)
theorem dX0_setHunt_14 : decode cX0_setHunt 14 = .ok (.ireturn, 1) := dk_172 (dk_at dksX0_setHunt_0 14 rfl rfl)
theorem dX0_setHunt_15 : decode cX0_setHunt 15 = .ok (.iconst 0, 1) := dk_3 (dk_at dksX0_setHunt_0 15 rfl rfl)
theorem dX0_setHunt_16 : decode cX0_setHunt 16 = .ok (.ireturn, 1) := dk_172 (dk_at dksX0_setHunt_0 16 rfl rfl)
abbrev cX0_undo : ByteArray := method_12_code
def yX0_undo : MethodName := ⟨RX0, "undo", "(LCrossbarExchange;[J)I"⟩
def dkwX0_undo_0 : List UInt8 := [43, 3, 42, 182, 0, 44, 133, 80, 167, 0, 6, 77, 4, 172, 3, 172]
abbrev dktX0_undo_0 : List UInt8 := dkwX0_undo_0 ++ []
theorem dksX0_undo_0 : cX0_undo.data.toList.drop 0 = dktX0_undo_0 := by decide +kernel
theorem dX0_undo_0 : decode cX0_undo 0 = .ok (.aload_n 1, 1) := dk_43 (dk_at dksX0_undo_0 0 rfl rfl)
theorem dX0_undo_1 : decode cX0_undo 1 = .ok (.iconst 0, 1) := dk_3 (dk_at dksX0_undo_0 1 rfl rfl)
theorem dX0_undo_2 : decode cX0_undo 2 = .ok (.aload_n 0, 1) := dk_42 (dk_at dksX0_undo_0 2 rfl rfl)
theorem dX0_undo_3 : decode cX0_undo 3 = .ok (.invokevirtual 44, 3) := dk_182 0 44 (dk_at dksX0_undo_0 3 rfl rfl)
theorem dX0_undo_6 : decode cX0_undo 6 = .ok (.i2l, 1) := dk_133 (dk_at dksX0_undo_0 6 rfl rfl)
theorem dX0_undo_7 : decode cX0_undo 7 = .ok (.lastore, 1) := dk_80 (dk_at dksX0_undo_0 7 rfl rfl)
theorem dX0_undo_8 : decode cX0_undo 8 = .ok (.goto 6, 3) := dk_167 0 6 (dk_at dksX0_undo_0 8 rfl rfl)
theorem dX0_undo_11 : decode cX0_undo 11 = .ok (.astore_n 2, 1) := dk_77 (dk_at dksX0_undo_0 11 rfl rfl)
theorem dX0_undo_12 : decode cX0_undo 12 = .ok (.iconst 1, 1) := dk_4 (dk_at dksX0_undo_0 12 rfl rfl)
theorem dX0_undo_13 : decode cX0_undo 13 = .ok (.ireturn, 1) := dk_172 (dk_at dksX0_undo_0 13 rfl rfl)
theorem dX0_undo_14 : decode cX0_undo 14 = .ok (.iconst 0, 1) := dk_3 (dk_at dksX0_undo_0 14 rfl rfl)
theorem dX0_undo_15 : decode cX0_undo 15 = .ok (.ireturn, 1) := dk_172 (dk_at dksX0_undo_0 15 rfl rfl)
abbrev cX0_save : ByteArray := method_13_code
def yX0_save : MethodName := ⟨RX0, "save", "(LCrossbarExchange;I[J)I"⟩
def dkwX0_save_0 : List UInt8 := [44, 3, 42, 27, 182, 0, 48, 133, 80, 167, 0, 6, 78, 4, 172, 3, 172]
abbrev dktX0_save_0 : List UInt8 := dkwX0_save_0 ++ []
theorem dksX0_save_0 : cX0_save.data.toList.drop 0 = dktX0_save_0 := by decide +kernel
theorem dX0_save_0 : decode cX0_save 0 = .ok (.aload_n 2, 1) := dk_44 (dk_at dksX0_save_0 0 rfl rfl)
theorem dX0_save_1 : decode cX0_save 1 = .ok (.iconst 0, 1) := dk_3 (dk_at dksX0_save_0 1 rfl rfl)
theorem dX0_save_2 : decode cX0_save 2 = .ok (.aload_n 0, 1) := dk_42 (dk_at dksX0_save_0 2 rfl rfl)
theorem dX0_save_3 : decode cX0_save 3 = .ok (.iload_n 1, 1) := dk_27 (dk_at dksX0_save_0 3 rfl rfl)
theorem dX0_save_4 : decode cX0_save 4 = .ok (.invokevirtual 48, 3) := dk_182 0 48 (dk_at dksX0_save_0 4 rfl rfl)
theorem dX0_save_7 : decode cX0_save 7 = .ok (.i2l, 1) := dk_133 (dk_at dksX0_save_0 7 rfl rfl)
theorem dX0_save_8 : decode cX0_save 8 = .ok (.lastore, 1) := dk_80 (dk_at dksX0_save_0 8 rfl rfl)
theorem dX0_save_9 : decode cX0_save 9 = .ok (.goto 6, 3) := dk_167 0 6 (dk_at dksX0_save_0 9 rfl rfl)
theorem dX0_save_12 : decode cX0_save 12 = .ok (.astore_n 3, 1) := dk_78 (dk_at dksX0_save_0 12 rfl rfl)
theorem dX0_save_13 : decode cX0_save 13 = .ok (.iconst 1, 1) := dk_4 (dk_at dksX0_save_0 13 rfl rfl)
theorem dX0_save_14 : decode cX0_save 14 = .ok (.ireturn, 1) := dk_172 (dk_at dksX0_save_0 14 rfl rfl)
theorem dX0_save_15 : decode cX0_save 15 = .ok (.iconst 0, 1) := dk_3 (dk_at dksX0_save_0 15 rfl rfl)
theorem dX0_save_16 : decode cX0_save 16 = .ok (.ireturn, 1) := dk_172 (dk_at dksX0_save_0 16 rfl rfl)
abbrev cX0_restore : ByteArray := method_14_code
def yX0_restore : MethodName := ⟨RX0, "restore", "(LCrossbarExchange;I[J)I"⟩
def dkwX0_restore_0 : List UInt8 := [44, 3, 42, 27, 182, 0, 51, 133, 80, 167, 0, 9, 78, 4, 172, 78, 5, 172, 3, 172]
abbrev dktX0_restore_0 : List UInt8 := dkwX0_restore_0 ++ []
theorem dksX0_restore_0 : cX0_restore.data.toList.drop 0 = dktX0_restore_0 := by decide +kernel
theorem dX0_restore_0 : decode cX0_restore 0 = .ok (.aload_n 2, 1) := dk_44 (dk_at dksX0_restore_0 0 rfl rfl)
theorem dX0_restore_1 : decode cX0_restore 1 = .ok (.iconst 0, 1) := dk_3 (dk_at dksX0_restore_0 1 rfl rfl)
theorem dX0_restore_2 : decode cX0_restore 2 = .ok (.aload_n 0, 1) := dk_42 (dk_at dksX0_restore_0 2 rfl rfl)
theorem dX0_restore_3 : decode cX0_restore 3 = .ok (.iload_n 1, 1) := dk_27 (dk_at dksX0_restore_0 3 rfl rfl)
theorem dX0_restore_4 : decode cX0_restore 4 = .ok (.invokevirtual 51, 3) := dk_182 0 51 (dk_at dksX0_restore_0 4 rfl rfl)
theorem dX0_restore_7 : decode cX0_restore 7 = .ok (.i2l, 1) := dk_133 (dk_at dksX0_restore_0 7 rfl rfl)
theorem dX0_restore_8 : decode cX0_restore 8 = .ok (.lastore, 1) := dk_80 (dk_at dksX0_restore_0 8 rfl rfl)
theorem dX0_restore_9 : decode cX0_restore 9 = .ok (.goto 9, 3) := dk_167 0 9 (dk_at dksX0_restore_0 9 rfl rfl)
theorem dX0_restore_12 : decode cX0_restore 12 = .ok (.astore_n 3, 1) := dk_78 (dk_at dksX0_restore_0 12 rfl rfl)
theorem dX0_restore_13 : decode cX0_restore 13 = .ok (.iconst 1, 1) := dk_4 (dk_at dksX0_restore_0 13 rfl rfl)
theorem dX0_restore_14 : decode cX0_restore 14 = .ok (.ireturn, 1) := dk_172 (dk_at dksX0_restore_0 14 rfl rfl)
theorem dX0_restore_15 : decode cX0_restore 15 = .ok (.astore_n 3, 1) := dk_78 (dk_at dksX0_restore_0 15 rfl rfl)
theorem dX0_restore_16 : decode cX0_restore 16 = .ok (.iconst 2, 1) := dk_5 (dk_at dksX0_restore_0 16 rfl rfl)
theorem dX0_restore_17 : decode cX0_restore 17 = .ok (.ireturn, 1) := dk_172 (dk_at dksX0_restore_0 17 rfl rfl)
theorem dX0_restore_18 : decode cX0_restore 18 = .ok (.iconst 0, 1) := dk_3 (dk_at dksX0_restore_0 18 rfl rfl)
theorem dX0_restore_19 : decode cX0_restore 19 = .ok (.ireturn, 1) := dk_172 (dk_at dksX0_restore_0 19 rfl rfl)
abbrev cX0_count : ByteArray := method_15_code
def yX0_count : MethodName := ⟨RX0, "count", "(LCrossbarExchange;I[J)I"⟩
def dkwX0_count_0 : List UInt8 := [44, 3, 42, 27, 182, 0, 54, 133, 80, 167, 0, 6, 78, 4, 172, 3, 172]
abbrev dktX0_count_0 : List UInt8 := dkwX0_count_0 ++ []
theorem dksX0_count_0 : cX0_count.data.toList.drop 0 = dktX0_count_0 := by decide +kernel
theorem dX0_count_0 : decode cX0_count 0 = .ok (.aload_n 2, 1) := dk_44 (dk_at dksX0_count_0 0 rfl rfl)
theorem dX0_count_1 : decode cX0_count 1 = .ok (.iconst 0, 1) := dk_3 (dk_at dksX0_count_0 1 rfl rfl)
theorem dX0_count_2 : decode cX0_count 2 = .ok (.aload_n 0, 1) := dk_42 (dk_at dksX0_count_0 2 rfl rfl)
theorem dX0_count_3 : decode cX0_count 3 = .ok (.iload_n 1, 1) := dk_27 (dk_at dksX0_count_0 3 rfl rfl)
theorem dX0_count_4 : decode cX0_count 4 = .ok (.invokevirtual 54, 3) := dk_182 0 54 (dk_at dksX0_count_0 4 rfl rfl)
theorem dX0_count_7 : decode cX0_count 7 = .ok (.i2l, 1) := dk_133 (dk_at dksX0_count_0 7 rfl rfl)
theorem dX0_count_8 : decode cX0_count 8 = .ok (.lastore, 1) := dk_80 (dk_at dksX0_count_0 8 rfl rfl)
theorem dX0_count_9 : decode cX0_count 9 = .ok (.goto 6, 3) := dk_167 0 6 (dk_at dksX0_count_0 9 rfl rfl)
theorem dX0_count_12 : decode cX0_count 12 = .ok (.astore_n 3, 1) := dk_78 (dk_at dksX0_count_0 12 rfl rfl)
theorem dX0_count_13 : decode cX0_count 13 = .ok (.iconst 1, 1) := dk_4 (dk_at dksX0_count_0 13 rfl rfl)
theorem dX0_count_14 : decode cX0_count 14 = .ok (.ireturn, 1) := dk_172 (dk_at dksX0_count_0 14 rfl rfl)
theorem dX0_count_15 : decode cX0_count 15 = .ok (.iconst 0, 1) := dk_3 (dk_at dksX0_count_0 15 rfl rfl)
theorem dX0_count_16 : decode cX0_count 16 = .ok (.ireturn, 1) := dk_172 (dk_at dksX0_count_0 16 rfl rfl)
abbrev cX0_account : ByteArray := method_16_code
def yX0_account : MethodName := ⟨RX0, "account", "(LCrossbarExchange;I[J)I"⟩
def dkwX0_account_0 : List UInt8 := [44, 3, 42, 27, 182, 0, 57, 133, 80, 167, 0, 6, 78, 4, 172, 3, 172]
abbrev dktX0_account_0 : List UInt8 := dkwX0_account_0 ++ []
theorem dksX0_account_0 : cX0_account.data.toList.drop 0 = dktX0_account_0 := by decide +kernel
theorem dX0_account_0 : decode cX0_account 0 = .ok (.aload_n 2, 1) := dk_44 (dk_at dksX0_account_0 0 rfl rfl)
theorem dX0_account_1 : decode cX0_account 1 = .ok (.iconst 0, 1) := dk_3 (dk_at dksX0_account_0 1 rfl rfl)
theorem dX0_account_2 : decode cX0_account 2 = .ok (.aload_n 0, 1) := dk_42 (dk_at dksX0_account_0 2 rfl rfl)
theorem dX0_account_3 : decode cX0_account 3 = .ok (.iload_n 1, 1) := dk_27 (dk_at dksX0_account_0 3 rfl rfl)
theorem dX0_account_4 : decode cX0_account 4 = .ok (.invokevirtual 57, 3) := dk_182 0 57 (dk_at dksX0_account_0 4 rfl rfl)
theorem dX0_account_7 : decode cX0_account 7 = .ok (.i2l, 1) := dk_133 (dk_at dksX0_account_0 7 rfl rfl)
theorem dX0_account_8 : decode cX0_account 8 = .ok (.lastore, 1) := dk_80 (dk_at dksX0_account_0 8 rfl rfl)
theorem dX0_account_9 : decode cX0_account 9 = .ok (.goto 6, 3) := dk_167 0 6 (dk_at dksX0_account_0 9 rfl rfl)
theorem dX0_account_12 : decode cX0_account 12 = .ok (.astore_n 3, 1) := dk_78 (dk_at dksX0_account_0 12 rfl rfl)
theorem dX0_account_13 : decode cX0_account 13 = .ok (.iconst 1, 1) := dk_4 (dk_at dksX0_account_0 13 rfl rfl)
theorem dX0_account_14 : decode cX0_account 14 = .ok (.ireturn, 1) := dk_172 (dk_at dksX0_account_0 14 rfl rfl)
theorem dX0_account_15 : decode cX0_account 15 = .ok (.iconst 0, 1) := dk_3 (dk_at dksX0_account_0 15 rfl rfl)
theorem dX0_account_16 : decode cX0_account 16 = .ok (.ireturn, 1) := dk_172 (dk_at dksX0_account_0 16 rfl rfl)
abbrev cX0_subscriber : ByteArray := method_17_code
def yX0_subscriber : MethodName := ⟨RX0, "subscriber", "(LCrossbarExchange;II[J)I"⟩
def dkwX0_subscriber_0 : List UInt8 := [45, 3, 42, 27, 28, 182, 0, 60, 133, 80, 167, 0, 11, 58, 4, 4, 172, 58, 4, 5, 172, 3, 172]
abbrev dktX0_subscriber_0 : List UInt8 := dkwX0_subscriber_0 ++ []
theorem dksX0_subscriber_0 : cX0_subscriber.data.toList.drop 0 = dktX0_subscriber_0 := by decide +kernel
theorem dX0_subscriber_0 : decode cX0_subscriber 0 = .ok (.aload_n 3, 1) := dk_45 (dk_at dksX0_subscriber_0 0 rfl rfl)
theorem dX0_subscriber_1 : decode cX0_subscriber 1 = .ok (.iconst 0, 1) := dk_3 (dk_at dksX0_subscriber_0 1 rfl rfl)
theorem dX0_subscriber_2 : decode cX0_subscriber 2 = .ok (.aload_n 0, 1) := dk_42 (dk_at dksX0_subscriber_0 2 rfl rfl)
theorem dX0_subscriber_3 : decode cX0_subscriber 3 = .ok (.iload_n 1, 1) := dk_27 (dk_at dksX0_subscriber_0 3 rfl rfl)
theorem dX0_subscriber_4 : decode cX0_subscriber 4 = .ok (.iload_n 2, 1) := dk_28 (dk_at dksX0_subscriber_0 4 rfl rfl)
theorem dX0_subscriber_5 : decode cX0_subscriber 5 = .ok (.invokevirtual 60, 3) := dk_182 0 60 (dk_at dksX0_subscriber_0 5 rfl rfl)
theorem dX0_subscriber_8 : decode cX0_subscriber 8 = .ok (.i2l, 1) := dk_133 (dk_at dksX0_subscriber_0 8 rfl rfl)
theorem dX0_subscriber_9 : decode cX0_subscriber 9 = .ok (.lastore, 1) := dk_80 (dk_at dksX0_subscriber_0 9 rfl rfl)
theorem dX0_subscriber_10 : decode cX0_subscriber 10 = .ok (.goto 11, 3) := dk_167 0 11 (dk_at dksX0_subscriber_0 10 rfl rfl)
theorem dX0_subscriber_13 : decode cX0_subscriber 13 = .ok (.astore 4, 2) := dk_58 4 (dk_at dksX0_subscriber_0 13 rfl rfl)
theorem dX0_subscriber_15 : decode cX0_subscriber 15 = .ok (.iconst 1, 1) := dk_4 (dk_at dksX0_subscriber_0 15 rfl rfl)
theorem dX0_subscriber_16 : decode cX0_subscriber 16 = .ok (.ireturn, 1) := dk_172 (dk_at dksX0_subscriber_0 16 rfl rfl)
theorem dX0_subscriber_17 : decode cX0_subscriber 17 = .ok (.astore 4, 2) := dk_58 4 (dk_at dksX0_subscriber_0 17 rfl rfl)
theorem dX0_subscriber_19 : decode cX0_subscriber 19 = .ok (.iconst 2, 1) := dk_5 (dk_at dksX0_subscriber_0 19 rfl rfl)
theorem dX0_subscriber_20 : decode cX0_subscriber 20 = .ok (.ireturn, 1) := dk_172 (dk_at dksX0_subscriber_0 20 rfl rfl)
theorem dX0_subscriber_21 : decode cX0_subscriber 21 = .ok (.iconst 0, 1) := dk_3 (dk_at dksX0_subscriber_0 21 rfl rfl)
theorem dX0_subscriber_22 : decode cX0_subscriber 22 = .ok (.ireturn, 1) := dk_172 (dk_at dksX0_subscriber_0 22 rfl rfl)
abbrev cX0_stage : ByteArray := method_18_code
def yX0_stage : MethodName := ⟨RX0, "stage", "(LCrossbarExchange;II[J)I"⟩
def dkwX0_stage_0 : List UInt8 := [45, 3, 42, 27, 28, 182, 0, 64, 133, 80, 167, 0, 11, 58, 4, 4, 172, 58, 4, 5, 172, 3, 172]
abbrev dktX0_stage_0 : List UInt8 := dkwX0_stage_0 ++ []
theorem dksX0_stage_0 : cX0_stage.data.toList.drop 0 = dktX0_stage_0 := by decide +kernel
theorem dX0_stage_0 : decode cX0_stage 0 = .ok (.aload_n 3, 1) := dk_45 (dk_at dksX0_stage_0 0 rfl rfl)
theorem dX0_stage_1 : decode cX0_stage 1 = .ok (.iconst 0, 1) := dk_3 (dk_at dksX0_stage_0 1 rfl rfl)
theorem dX0_stage_2 : decode cX0_stage 2 = .ok (.aload_n 0, 1) := dk_42 (dk_at dksX0_stage_0 2 rfl rfl)
theorem dX0_stage_3 : decode cX0_stage 3 = .ok (.iload_n 1, 1) := dk_27 (dk_at dksX0_stage_0 3 rfl rfl)
theorem dX0_stage_4 : decode cX0_stage 4 = .ok (.iload_n 2, 1) := dk_28 (dk_at dksX0_stage_0 4 rfl rfl)
theorem dX0_stage_5 : decode cX0_stage 5 = .ok (.invokevirtual 64, 3) := dk_182 0 64 (dk_at dksX0_stage_0 5 rfl rfl)
theorem dX0_stage_8 : decode cX0_stage 8 = .ok (.i2l, 1) := dk_133 (dk_at dksX0_stage_0 8 rfl rfl)
theorem dX0_stage_9 : decode cX0_stage 9 = .ok (.lastore, 1) := dk_80 (dk_at dksX0_stage_0 9 rfl rfl)
theorem dX0_stage_10 : decode cX0_stage 10 = .ok (.goto 11, 3) := dk_167 0 11 (dk_at dksX0_stage_0 10 rfl rfl)
theorem dX0_stage_13 : decode cX0_stage 13 = .ok (.astore 4, 2) := dk_58 4 (dk_at dksX0_stage_0 13 rfl rfl)
theorem dX0_stage_15 : decode cX0_stage 15 = .ok (.iconst 1, 1) := dk_4 (dk_at dksX0_stage_0 15 rfl rfl)
theorem dX0_stage_16 : decode cX0_stage 16 = .ok (.ireturn, 1) := dk_172 (dk_at dksX0_stage_0 16 rfl rfl)
theorem dX0_stage_17 : decode cX0_stage 17 = .ok (.astore 4, 2) := dk_58 4 (dk_at dksX0_stage_0 17 rfl rfl)
theorem dX0_stage_19 : decode cX0_stage 19 = .ok (.iconst 2, 1) := dk_5 (dk_at dksX0_stage_0 19 rfl rfl)
theorem dX0_stage_20 : decode cX0_stage 20 = .ok (.ireturn, 1) := dk_172 (dk_at dksX0_stage_0 20 rfl rfl)
theorem dX0_stage_21 : decode cX0_stage 21 = .ok (.iconst 0, 1) := dk_3 (dk_at dksX0_stage_0 21 rfl rfl)
theorem dX0_stage_22 : decode cX0_stage 22 = .ok (.ireturn, 1) := dk_172 (dk_at dksX0_stage_0 22 rfl rfl)
abbrev cX0_middle : ByteArray := method_19_code
def yX0_middle : MethodName := ⟨RX0, "middle", "(LCrossbarExchange;II[J)I"⟩
def dkwX0_middle_0 : List UInt8 := [45, 3, 42, 27, 28, 182, 0, 67, 133, 80, 167, 0, 11, 58, 4, 4, 172, 58, 4, 5, 172, 3, 172]
abbrev dktX0_middle_0 : List UInt8 := dkwX0_middle_0 ++ []
theorem dksX0_middle_0 : cX0_middle.data.toList.drop 0 = dktX0_middle_0 := by decide +kernel
theorem dX0_middle_0 : decode cX0_middle 0 = .ok (.aload_n 3, 1) := dk_45 (dk_at dksX0_middle_0 0 rfl rfl)
theorem dX0_middle_1 : decode cX0_middle 1 = .ok (.iconst 0, 1) := dk_3 (dk_at dksX0_middle_0 1 rfl rfl)
theorem dX0_middle_2 : decode cX0_middle 2 = .ok (.aload_n 0, 1) := dk_42 (dk_at dksX0_middle_0 2 rfl rfl)
theorem dX0_middle_3 : decode cX0_middle 3 = .ok (.iload_n 1, 1) := dk_27 (dk_at dksX0_middle_0 3 rfl rfl)
theorem dX0_middle_4 : decode cX0_middle 4 = .ok (.iload_n 2, 1) := dk_28 (dk_at dksX0_middle_0 4 rfl rfl)
theorem dX0_middle_5 : decode cX0_middle 5 = .ok (.invokevirtual 67, 3) := dk_182 0 67 (dk_at dksX0_middle_0 5 rfl rfl)
theorem dX0_middle_8 : decode cX0_middle 8 = .ok (.i2l, 1) := dk_133 (dk_at dksX0_middle_0 8 rfl rfl)
theorem dX0_middle_9 : decode cX0_middle 9 = .ok (.lastore, 1) := dk_80 (dk_at dksX0_middle_0 9 rfl rfl)
theorem dX0_middle_10 : decode cX0_middle 10 = .ok (.goto 11, 3) := dk_167 0 11 (dk_at dksX0_middle_0 10 rfl rfl)
theorem dX0_middle_13 : decode cX0_middle 13 = .ok (.astore 4, 2) := dk_58 4 (dk_at dksX0_middle_0 13 rfl rfl)
theorem dX0_middle_15 : decode cX0_middle 15 = .ok (.iconst 1, 1) := dk_4 (dk_at dksX0_middle_0 15 rfl rfl)
theorem dX0_middle_16 : decode cX0_middle 16 = .ok (.ireturn, 1) := dk_172 (dk_at dksX0_middle_0 16 rfl rfl)
theorem dX0_middle_17 : decode cX0_middle 17 = .ok (.astore 4, 2) := dk_58 4 (dk_at dksX0_middle_0 17 rfl rfl)
theorem dX0_middle_19 : decode cX0_middle 19 = .ok (.iconst 2, 1) := dk_5 (dk_at dksX0_middle_0 19 rfl rfl)
theorem dX0_middle_20 : decode cX0_middle 20 = .ok (.ireturn, 1) := dk_172 (dk_at dksX0_middle_0 20 rfl rfl)
theorem dX0_middle_21 : decode cX0_middle 21 = .ok (.iconst 0, 1) := dk_3 (dk_at dksX0_middle_0 21 rfl rfl)
theorem dX0_middle_22 : decode cX0_middle 22 = .ok (.ireturn, 1) := dk_172 (dk_at dksX0_middle_0 22 rfl rfl)
abbrev cX0_carried : ByteArray := method_20_code
def yX0_carried : MethodName := ⟨RX0, "carried", "(LCrossbarExchange;IIZ[J)I"⟩
def dkwX0_carried_0 : List UInt8 := [25, 4, 3, 42, 27, 28, 29, 182, 0, 70, 133, 80, 167, 0, 7, 58, 5, 4, 172, 3, 172]
abbrev dktX0_carried_0 : List UInt8 := dkwX0_carried_0 ++ []
theorem dksX0_carried_0 : cX0_carried.data.toList.drop 0 = dktX0_carried_0 := by decide +kernel
theorem dX0_carried_0 : decode cX0_carried 0 = .ok (.aload 4, 2) := dk_25 4 (dk_at dksX0_carried_0 0 rfl rfl)
theorem dX0_carried_2 : decode cX0_carried 2 = .ok (.iconst 0, 1) := dk_3 (dk_at dksX0_carried_0 2 rfl rfl)
theorem dX0_carried_3 : decode cX0_carried 3 = .ok (.aload_n 0, 1) := dk_42 (dk_at dksX0_carried_0 3 rfl rfl)
theorem dX0_carried_4 : decode cX0_carried 4 = .ok (.iload_n 1, 1) := dk_27 (dk_at dksX0_carried_0 4 rfl rfl)
theorem dX0_carried_5 : decode cX0_carried 5 = .ok (.iload_n 2, 1) := dk_28 (dk_at dksX0_carried_0 5 rfl rfl)
theorem dX0_carried_6 : decode cX0_carried 6 = .ok (.iload_n 3, 1) := dk_29 (dk_at dksX0_carried_0 6 rfl rfl)
theorem dX0_carried_7 : decode cX0_carried 7 = .ok (.invokevirtual 70, 3) := dk_182 0 70 (dk_at dksX0_carried_0 7 rfl rfl)
theorem dX0_carried_10 : decode cX0_carried 10 = .ok (.i2l, 1) := dk_133 (dk_at dksX0_carried_0 10 rfl rfl)
theorem dX0_carried_11 : decode cX0_carried 11 = .ok (.lastore, 1) := dk_80 (dk_at dksX0_carried_0 11 rfl rfl)
theorem dX0_carried_12 : decode cX0_carried 12 = .ok (.goto 7, 3) := dk_167 0 7 (dk_at dksX0_carried_0 12 rfl rfl)
theorem dX0_carried_15 : decode cX0_carried 15 = .ok (.astore 5, 2) := dk_58 5 (dk_at dksX0_carried_0 15 rfl rfl)
theorem dX0_carried_17 : decode cX0_carried 17 = .ok (.iconst 1, 1) := dk_4 (dk_at dksX0_carried_0 17 rfl rfl)
theorem dX0_carried_18 : decode cX0_carried 18 = .ok (.ireturn, 1) := dk_172 (dk_at dksX0_carried_0 18 rfl rfl)
theorem dX0_carried_19 : decode cX0_carried 19 = .ok (.iconst 0, 1) := dk_3 (dk_at dksX0_carried_0 19 rfl rfl)
theorem dX0_carried_20 : decode cX0_carried 20 = .ok (.ireturn, 1) := dk_172 (dk_at dksX0_carried_0 20 rfl rfl)
abbrev cX0_callOf : ByteArray := method_21_code
def yX0_callOf : MethodName := ⟨RX0, "callOf", "(LCrossbarExchange;II[J)I"⟩
def dkwX0_callOf_0 : List UInt8 := [45, 3, 42, 27, 28, 182, 0, 74, 133, 80, 167, 0, 11, 58, 4, 4, 172, 58, 4, 5, 172, 3, 172]
abbrev dktX0_callOf_0 : List UInt8 := dkwX0_callOf_0 ++ []
theorem dksX0_callOf_0 : cX0_callOf.data.toList.drop 0 = dktX0_callOf_0 := by decide +kernel
theorem dX0_callOf_0 : decode cX0_callOf 0 = .ok (.aload_n 3, 1) := dk_45 (dk_at dksX0_callOf_0 0 rfl rfl)
theorem dX0_callOf_1 : decode cX0_callOf 1 = .ok (.iconst 0, 1) := dk_3 (dk_at dksX0_callOf_0 1 rfl rfl)
theorem dX0_callOf_2 : decode cX0_callOf 2 = .ok (.aload_n 0, 1) := dk_42 (dk_at dksX0_callOf_0 2 rfl rfl)
theorem dX0_callOf_3 : decode cX0_callOf 3 = .ok (.iload_n 1, 1) := dk_27 (dk_at dksX0_callOf_0 3 rfl rfl)
theorem dX0_callOf_4 : decode cX0_callOf 4 = .ok (.iload_n 2, 1) := dk_28 (dk_at dksX0_callOf_0 4 rfl rfl)
theorem dX0_callOf_5 : decode cX0_callOf 5 = .ok (.invokevirtual 74, 3) := dk_182 0 74 (dk_at dksX0_callOf_0 5 rfl rfl)
theorem dX0_callOf_8 : decode cX0_callOf 8 = .ok (.i2l, 1) := dk_133 (dk_at dksX0_callOf_0 8 rfl rfl)
theorem dX0_callOf_9 : decode cX0_callOf 9 = .ok (.lastore, 1) := dk_80 (dk_at dksX0_callOf_0 9 rfl rfl)
theorem dX0_callOf_10 : decode cX0_callOf 10 = .ok (.goto 11, 3) := dk_167 0 11 (dk_at dksX0_callOf_0 10 rfl rfl)
theorem dX0_callOf_13 : decode cX0_callOf 13 = .ok (.astore 4, 2) := dk_58 4 (dk_at dksX0_callOf_0 13 rfl rfl)
theorem dX0_callOf_15 : decode cX0_callOf 15 = .ok (.iconst 1, 1) := dk_4 (dk_at dksX0_callOf_0 15 rfl rfl)
theorem dX0_callOf_16 : decode cX0_callOf 16 = .ok (.ireturn, 1) := dk_172 (dk_at dksX0_callOf_0 16 rfl rfl)
theorem dX0_callOf_17 : decode cX0_callOf 17 = .ok (.astore 4, 2) := dk_58 4 (dk_at dksX0_callOf_0 17 rfl rfl)
theorem dX0_callOf_19 : decode cX0_callOf 19 = .ok (.iconst 2, 1) := dk_5 (dk_at dksX0_callOf_0 19 rfl rfl)
theorem dX0_callOf_20 : decode cX0_callOf 20 = .ok (.ireturn, 1) := dk_172 (dk_at dksX0_callOf_0 20 rfl rfl)
theorem dX0_callOf_21 : decode cX0_callOf 21 = .ok (.iconst 0, 1) := dk_3 (dk_at dksX0_callOf_0 21 rfl rfl)
theorem dX0_callOf_22 : decode cX0_callOf 22 = .ok (.ireturn, 1) := dk_172 (dk_at dksX0_callOf_0 22 rfl rfl)
abbrev cX0_group : ByteArray := method_22_code
def yX0_group : MethodName := ⟨RX0, "group", "(LCrossbarExchange;II[J)I"⟩
def dkwX0_group_0 : List UInt8 := [45, 3, 42, 27, 28, 182, 0, 77, 133, 80, 167, 0, 11, 58, 4, 4, 172, 58, 4, 5, 172, 3, 172]
abbrev dktX0_group_0 : List UInt8 := dkwX0_group_0 ++ []
theorem dksX0_group_0 : cX0_group.data.toList.drop 0 = dktX0_group_0 := by decide +kernel
theorem dX0_group_0 : decode cX0_group 0 = .ok (.aload_n 3, 1) := dk_45 (dk_at dksX0_group_0 0 rfl rfl)
theorem dX0_group_1 : decode cX0_group 1 = .ok (.iconst 0, 1) := dk_3 (dk_at dksX0_group_0 1 rfl rfl)
theorem dX0_group_2 : decode cX0_group 2 = .ok (.aload_n 0, 1) := dk_42 (dk_at dksX0_group_0 2 rfl rfl)
theorem dX0_group_3 : decode cX0_group 3 = .ok (.iload_n 1, 1) := dk_27 (dk_at dksX0_group_0 3 rfl rfl)
theorem dX0_group_4 : decode cX0_group 4 = .ok (.iload_n 2, 1) := dk_28 (dk_at dksX0_group_0 4 rfl rfl)
theorem dX0_group_5 : decode cX0_group 5 = .ok (.invokevirtual 77, 3) := dk_182 0 77 (dk_at dksX0_group_0 5 rfl rfl)
theorem dX0_group_8 : decode cX0_group 8 = .ok (.i2l, 1) := dk_133 (dk_at dksX0_group_0 8 rfl rfl)
theorem dX0_group_9 : decode cX0_group 9 = .ok (.lastore, 1) := dk_80 (dk_at dksX0_group_0 9 rfl rfl)
theorem dX0_group_10 : decode cX0_group 10 = .ok (.goto 11, 3) := dk_167 0 11 (dk_at dksX0_group_0 10 rfl rfl)
theorem dX0_group_13 : decode cX0_group 13 = .ok (.astore 4, 2) := dk_58 4 (dk_at dksX0_group_0 13 rfl rfl)
theorem dX0_group_15 : decode cX0_group 15 = .ok (.iconst 1, 1) := dk_4 (dk_at dksX0_group_0 15 rfl rfl)
theorem dX0_group_16 : decode cX0_group 16 = .ok (.ireturn, 1) := dk_172 (dk_at dksX0_group_0 16 rfl rfl)
theorem dX0_group_17 : decode cX0_group 17 = .ok (.astore 4, 2) := dk_58 4 (dk_at dksX0_group_0 17 rfl rfl)
theorem dX0_group_19 : decode cX0_group 19 = .ok (.iconst 2, 1) := dk_5 (dk_at dksX0_group_0 19 rfl rfl)
theorem dX0_group_20 : decode cX0_group 20 = .ok (.ireturn, 1) := dk_172 (dk_at dksX0_group_0 20 rfl rfl)
theorem dX0_group_21 : decode cX0_group 21 = .ok (.iconst 0, 1) := dk_3 (dk_at dksX0_group_0 21 rfl rfl)
theorem dX0_group_22 : decode cX0_group 22 = .ok (.ireturn, 1) := dk_172 (dk_at dksX0_group_0 22 rfl rfl)
abbrev cX0_member : ByteArray := method_23_code
def yX0_member : MethodName := ⟨RX0, "member", "(LCrossbarExchange;II[J)I"⟩
def dkwX0_member_0 : List UInt8 := [45, 3, 42, 27, 28, 182, 0, 80, 133, 80, 167, 0, 7, 58, 4, 4, 172, 3, 172]
abbrev dktX0_member_0 : List UInt8 := dkwX0_member_0 ++ []
theorem dksX0_member_0 : cX0_member.data.toList.drop 0 = dktX0_member_0 := by decide +kernel
theorem dX0_member_0 : decode cX0_member 0 = .ok (.aload_n 3, 1) := dk_45 (dk_at dksX0_member_0 0 rfl rfl)
theorem dX0_member_1 : decode cX0_member 1 = .ok (.iconst 0, 1) := dk_3 (dk_at dksX0_member_0 1 rfl rfl)
theorem dX0_member_2 : decode cX0_member 2 = .ok (.aload_n 0, 1) := dk_42 (dk_at dksX0_member_0 2 rfl rfl)
theorem dX0_member_3 : decode cX0_member 3 = .ok (.iload_n 1, 1) := dk_27 (dk_at dksX0_member_0 3 rfl rfl)
theorem dX0_member_4 : decode cX0_member 4 = .ok (.iload_n 2, 1) := dk_28 (dk_at dksX0_member_0 4 rfl rfl)
theorem dX0_member_5 : decode cX0_member 5 = .ok (.invokevirtual 80, 3) := dk_182 0 80 (dk_at dksX0_member_0 5 rfl rfl)
theorem dX0_member_8 : decode cX0_member 8 = .ok (.i2l, 1) := dk_133 (dk_at dksX0_member_0 8 rfl rfl)
theorem dX0_member_9 : decode cX0_member 9 = .ok (.lastore, 1) := dk_80 (dk_at dksX0_member_0 9 rfl rfl)
theorem dX0_member_10 : decode cX0_member 10 = .ok (.goto 7, 3) := dk_167 0 7 (dk_at dksX0_member_0 10 rfl rfl)
theorem dX0_member_13 : decode cX0_member 13 = .ok (.astore 4, 2) := dk_58 4 (dk_at dksX0_member_0 13 rfl rfl)
theorem dX0_member_15 : decode cX0_member 15 = .ok (.iconst 1, 1) := dk_4 (dk_at dksX0_member_0 15 rfl rfl)
theorem dX0_member_16 : decode cX0_member 16 = .ok (.ireturn, 1) := dk_172 (dk_at dksX0_member_0 16 rfl rfl)
theorem dX0_member_17 : decode cX0_member 17 = .ok (.iconst 0, 1) := dk_3 (dk_at dksX0_member_0 17 rfl rfl)
theorem dX0_member_18 : decode cX0_member 18 = .ok (.ireturn, 1) := dk_172 (dk_at dksX0_member_0 18 rfl rfl)
abbrev cX0_waiting : ByteArray := method_24_code
def yX0_waiting : MethodName := ⟨RX0, "waiting", "(LCrossbarExchange;II[J)I"⟩
def dkwX0_waiting_0 : List UInt8 := [45, 3, 42, 27, 28, 182, 0, 83, 133, 80, 167, 0, 11, 58, 4, 4, 172, 58, 4, 5, 172, 3, 172]
abbrev dktX0_waiting_0 : List UInt8 := dkwX0_waiting_0 ++ []
theorem dksX0_waiting_0 : cX0_waiting.data.toList.drop 0 = dktX0_waiting_0 := by decide +kernel
theorem dX0_waiting_0 : decode cX0_waiting 0 = .ok (.aload_n 3, 1) := dk_45 (dk_at dksX0_waiting_0 0 rfl rfl)
theorem dX0_waiting_1 : decode cX0_waiting 1 = .ok (.iconst 0, 1) := dk_3 (dk_at dksX0_waiting_0 1 rfl rfl)
theorem dX0_waiting_2 : decode cX0_waiting 2 = .ok (.aload_n 0, 1) := dk_42 (dk_at dksX0_waiting_0 2 rfl rfl)
theorem dX0_waiting_3 : decode cX0_waiting 3 = .ok (.iload_n 1, 1) := dk_27 (dk_at dksX0_waiting_0 3 rfl rfl)
theorem dX0_waiting_4 : decode cX0_waiting 4 = .ok (.iload_n 2, 1) := dk_28 (dk_at dksX0_waiting_0 4 rfl rfl)
theorem dX0_waiting_5 : decode cX0_waiting 5 = .ok (.invokevirtual 83, 3) := dk_182 0 83 (dk_at dksX0_waiting_0 5 rfl rfl)
theorem dX0_waiting_8 : decode cX0_waiting 8 = .ok (.i2l, 1) := dk_133 (dk_at dksX0_waiting_0 8 rfl rfl)
theorem dX0_waiting_9 : decode cX0_waiting 9 = .ok (.lastore, 1) := dk_80 (dk_at dksX0_waiting_0 9 rfl rfl)
theorem dX0_waiting_10 : decode cX0_waiting 10 = .ok (.goto 11, 3) := dk_167 0 11 (dk_at dksX0_waiting_0 10 rfl rfl)
theorem dX0_waiting_13 : decode cX0_waiting 13 = .ok (.astore 4, 2) := dk_58 4 (dk_at dksX0_waiting_0 13 rfl rfl)
theorem dX0_waiting_15 : decode cX0_waiting 15 = .ok (.iconst 1, 1) := dk_4 (dk_at dksX0_waiting_0 15 rfl rfl)
theorem dX0_waiting_16 : decode cX0_waiting 16 = .ok (.ireturn, 1) := dk_172 (dk_at dksX0_waiting_0 16 rfl rfl)
theorem dX0_waiting_17 : decode cX0_waiting 17 = .ok (.astore 4, 2) := dk_58 4 (dk_at dksX0_waiting_0 17 rfl rfl)
theorem dX0_waiting_19 : decode cX0_waiting 19 = .ok (.iconst 2, 1) := dk_5 (dk_at dksX0_waiting_0 19 rfl rfl)
theorem dX0_waiting_20 : decode cX0_waiting 20 = .ok (.ireturn, 1) := dk_172 (dk_at dksX0_waiting_0 20 rfl rfl)
theorem dX0_waiting_21 : decode cX0_waiting 21 = .ok (.iconst 0, 1) := dk_3 (dk_at dksX0_waiting_0 21 rfl rfl)
theorem dX0_waiting_22 : decode cX0_waiting 22 = .ok (.ireturn, 1) := dk_172 (dk_at dksX0_waiting_0 22 rfl rfl)
abbrev cX0_open : ByteArray := method_25_code
def yX0_open : MethodName := ⟨RX0, "open", "(LCrossbarExchange;II[J)I"⟩
def dkwX0_open_0 : List UInt8 := [45, 3, 42, 27, 28, 182, 0, 86, 133, 80, 167, 0, 7, 58, 4, 4, 172, 3, 172]
abbrev dktX0_open_0 : List UInt8 := dkwX0_open_0 ++ []
theorem dksX0_open_0 : cX0_open.data.toList.drop 0 = dktX0_open_0 := by decide +kernel
theorem dX0_open_0 : decode cX0_open 0 = .ok (.aload_n 3, 1) := dk_45 (dk_at dksX0_open_0 0 rfl rfl)
theorem dX0_open_1 : decode cX0_open 1 = .ok (.iconst 0, 1) := dk_3 (dk_at dksX0_open_0 1 rfl rfl)
theorem dX0_open_2 : decode cX0_open 2 = .ok (.aload_n 0, 1) := dk_42 (dk_at dksX0_open_0 2 rfl rfl)
theorem dX0_open_3 : decode cX0_open 3 = .ok (.iload_n 1, 1) := dk_27 (dk_at dksX0_open_0 3 rfl rfl)
theorem dX0_open_4 : decode cX0_open 4 = .ok (.iload_n 2, 1) := dk_28 (dk_at dksX0_open_0 4 rfl rfl)
theorem dX0_open_5 : decode cX0_open 5 = .ok (.invokevirtual 86, 3) := dk_182 0 86 (dk_at dksX0_open_0 5 rfl rfl)
theorem dX0_open_8 : decode cX0_open 8 = .ok (.i2l, 1) := dk_133 (dk_at dksX0_open_0 8 rfl rfl)
theorem dX0_open_9 : decode cX0_open 9 = .ok (.lastore, 1) := dk_80 (dk_at dksX0_open_0 9 rfl rfl)
theorem dX0_open_10 : decode cX0_open 10 = .ok (.goto 7, 3) := dk_167 0 7 (dk_at dksX0_open_0 10 rfl rfl)
theorem dX0_open_13 : decode cX0_open 13 = .ok (.astore 4, 2) := dk_58 4 (dk_at dksX0_open_0 13 rfl rfl)
theorem dX0_open_15 : decode cX0_open 15 = .ok (.iconst 1, 1) := dk_4 (dk_at dksX0_open_0 15 rfl rfl)
theorem dX0_open_16 : decode cX0_open 16 = .ok (.ireturn, 1) := dk_172 (dk_at dksX0_open_0 16 rfl rfl)
theorem dX0_open_17 : decode cX0_open 17 = .ok (.iconst 0, 1) := dk_3 (dk_at dksX0_open_0 17 rfl rfl)
theorem dX0_open_18 : decode cX0_open 18 = .ok (.ireturn, 1) := dk_172 (dk_at dksX0_open_0 18 rfl rfl)
abbrev cX0_chain : ByteArray := method_26_code
def yX0_chain : MethodName := ⟨RX0, "chain", "(LCrossbarExchange;III[J)I"⟩
def dkwX0_chain_1 : List UInt8 := [172]
abbrev dktX0_chain_1 : List UInt8 := dkwX0_chain_1 ++ []
def dkwX0_chain_0 : List UInt8 := [25, 4, 3, 42, 27, 28, 29, 182, 0, 89, 133, 80, 167, 0, 11, 58, 5, 4, 172, 58, 5, 5, 172, 3]
abbrev dktX0_chain_0 : List UInt8 := dkwX0_chain_0 ++ dktX0_chain_1
theorem dksX0_chain_0 : cX0_chain.data.toList.drop 0 = dktX0_chain_0 := by decide +kernel
theorem dksX0_chain_1 : cX0_chain.data.toList.drop 24 = dktX0_chain_1 := dk_seg dksX0_chain_0 24 rfl rfl
theorem dX0_chain_0 : decode cX0_chain 0 = .ok (.aload 4, 2) := dk_25 4 (dk_at dksX0_chain_0 0 rfl rfl)
theorem dX0_chain_2 : decode cX0_chain 2 = .ok (.iconst 0, 1) := dk_3 (dk_at dksX0_chain_0 2 rfl rfl)
theorem dX0_chain_3 : decode cX0_chain 3 = .ok (.aload_n 0, 1) := dk_42 (dk_at dksX0_chain_0 3 rfl rfl)
theorem dX0_chain_4 : decode cX0_chain 4 = .ok (.iload_n 1, 1) := dk_27 (dk_at dksX0_chain_0 4 rfl rfl)
theorem dX0_chain_5 : decode cX0_chain 5 = .ok (.iload_n 2, 1) := dk_28 (dk_at dksX0_chain_0 5 rfl rfl)
theorem dX0_chain_6 : decode cX0_chain 6 = .ok (.iload_n 3, 1) := dk_29 (dk_at dksX0_chain_0 6 rfl rfl)
theorem dX0_chain_7 : decode cX0_chain 7 = .ok (.invokevirtual 89, 3) := dk_182 0 89 (dk_at dksX0_chain_0 7 rfl rfl)
theorem dX0_chain_10 : decode cX0_chain 10 = .ok (.i2l, 1) := dk_133 (dk_at dksX0_chain_0 10 rfl rfl)
theorem dX0_chain_11 : decode cX0_chain 11 = .ok (.lastore, 1) := dk_80 (dk_at dksX0_chain_0 11 rfl rfl)
theorem dX0_chain_12 : decode cX0_chain 12 = .ok (.goto 11, 3) := dk_167 0 11 (dk_at dksX0_chain_0 12 rfl rfl)
theorem dX0_chain_15 : decode cX0_chain 15 = .ok (.astore 5, 2) := dk_58 5 (dk_at dksX0_chain_0 15 rfl rfl)
theorem dX0_chain_17 : decode cX0_chain 17 = .ok (.iconst 1, 1) := dk_4 (dk_at dksX0_chain_0 17 rfl rfl)
theorem dX0_chain_18 : decode cX0_chain 18 = .ok (.ireturn, 1) := dk_172 (dk_at dksX0_chain_0 18 rfl rfl)
theorem dX0_chain_19 : decode cX0_chain 19 = .ok (.astore 5, 2) := dk_58 5 (dk_at dksX0_chain_0 19 rfl rfl)
theorem dX0_chain_21 : decode cX0_chain 21 = .ok (.iconst 2, 1) := dk_5 (dk_at dksX0_chain_0 21 rfl rfl)
theorem dX0_chain_22 : decode cX0_chain 22 = .ok (.ireturn, 1) := dk_172 (dk_at dksX0_chain_0 22 rfl rfl)
theorem dX0_chain_23 : decode cX0_chain 23 = .ok (.iconst 0, 1) := dk_3 (dk_at dksX0_chain_0 23 rfl rfl)
theorem dX0_chain_24 : decode cX0_chain 24 = .ok (.ireturn, 1) := dk_172 (dk_at dksX0_chain_1 0 rfl rfl)
abbrev cX0_why : ByteArray := method_27_code
def yX0_why : MethodName := ⟨RX0, "why", "(LCrossbarExchange;III[J)I"⟩
def dkwX0_why_1 : List UInt8 := [172]
abbrev dktX0_why_1 : List UInt8 := dkwX0_why_1 ++ []
def dkwX0_why_0 : List UInt8 := [25, 4, 3, 42, 27, 28, 29, 182, 0, 92, 133, 80, 167, 0, 11, 58, 5, 4, 172, 58, 5, 5, 172, 3]
abbrev dktX0_why_0 : List UInt8 := dkwX0_why_0 ++ dktX0_why_1
theorem dksX0_why_0 : cX0_why.data.toList.drop 0 = dktX0_why_0 := by decide +kernel
theorem dksX0_why_1 : cX0_why.data.toList.drop 24 = dktX0_why_1 := dk_seg dksX0_why_0 24 rfl rfl
theorem dX0_why_0 : decode cX0_why 0 = .ok (.aload 4, 2) := dk_25 4 (dk_at dksX0_why_0 0 rfl rfl)
theorem dX0_why_2 : decode cX0_why 2 = .ok (.iconst 0, 1) := dk_3 (dk_at dksX0_why_0 2 rfl rfl)
theorem dX0_why_3 : decode cX0_why 3 = .ok (.aload_n 0, 1) := dk_42 (dk_at dksX0_why_0 3 rfl rfl)
theorem dX0_why_4 : decode cX0_why 4 = .ok (.iload_n 1, 1) := dk_27 (dk_at dksX0_why_0 4 rfl rfl)
theorem dX0_why_5 : decode cX0_why 5 = .ok (.iload_n 2, 1) := dk_28 (dk_at dksX0_why_0 5 rfl rfl)
theorem dX0_why_6 : decode cX0_why 6 = .ok (.iload_n 3, 1) := dk_29 (dk_at dksX0_why_0 6 rfl rfl)
theorem dX0_why_7 : decode cX0_why 7 = .ok (.invokevirtual 92, 3) := dk_182 0 92 (dk_at dksX0_why_0 7 rfl rfl)
theorem dX0_why_10 : decode cX0_why 10 = .ok (.i2l, 1) := dk_133 (dk_at dksX0_why_0 10 rfl rfl)
theorem dX0_why_11 : decode cX0_why 11 = .ok (.lastore, 1) := dk_80 (dk_at dksX0_why_0 11 rfl rfl)
theorem dX0_why_12 : decode cX0_why 12 = .ok (.goto 11, 3) := dk_167 0 11 (dk_at dksX0_why_0 12 rfl rfl)
theorem dX0_why_15 : decode cX0_why 15 = .ok (.astore 5, 2) := dk_58 5 (dk_at dksX0_why_0 15 rfl rfl)
theorem dX0_why_17 : decode cX0_why 17 = .ok (.iconst 1, 1) := dk_4 (dk_at dksX0_why_0 17 rfl rfl)
theorem dX0_why_18 : decode cX0_why 18 = .ok (.ireturn, 1) := dk_172 (dk_at dksX0_why_0 18 rfl rfl)
theorem dX0_why_19 : decode cX0_why 19 = .ok (.astore 5, 2) := dk_58 5 (dk_at dksX0_why_0 19 rfl rfl)
theorem dX0_why_21 : decode cX0_why 21 = .ok (.iconst 2, 1) := dk_5 (dk_at dksX0_why_0 21 rfl rfl)
theorem dX0_why_22 : decode cX0_why 22 = .ok (.ireturn, 1) := dk_172 (dk_at dksX0_why_0 22 rfl rfl)
theorem dX0_why_23 : decode cX0_why 23 = .ok (.iconst 0, 1) := dk_3 (dk_at dksX0_why_0 23 rfl rfl)
theorem dX0_why_24 : decode cX0_why 24 = .ok (.ireturn, 1) := dk_172 (dk_at dksX0_why_1 0 rfl rfl)
abbrev cX0_ifCut : ByteArray := method_28_code
def yX0_ifCut : MethodName := ⟨RX0, "ifCut", "(LCrossbarExchange;II[J)I"⟩
def dkwX0_ifCut_0 : List UInt8 := [45, 3, 42, 27, 28, 182, 0, 95, 133, 80, 167, 0, 11, 58, 4, 4, 172, 58, 4, 5, 172, 3, 172]
abbrev dktX0_ifCut_0 : List UInt8 := dkwX0_ifCut_0 ++ []
theorem dksX0_ifCut_0 : cX0_ifCut.data.toList.drop 0 = dktX0_ifCut_0 := by decide +kernel
theorem dX0_ifCut_0 : decode cX0_ifCut 0 = .ok (.aload_n 3, 1) := dk_45 (dk_at dksX0_ifCut_0 0 rfl rfl)
theorem dX0_ifCut_1 : decode cX0_ifCut 1 = .ok (.iconst 0, 1) := dk_3 (dk_at dksX0_ifCut_0 1 rfl rfl)
theorem dX0_ifCut_2 : decode cX0_ifCut 2 = .ok (.aload_n 0, 1) := dk_42 (dk_at dksX0_ifCut_0 2 rfl rfl)
theorem dX0_ifCut_3 : decode cX0_ifCut 3 = .ok (.iload_n 1, 1) := dk_27 (dk_at dksX0_ifCut_0 3 rfl rfl)
theorem dX0_ifCut_4 : decode cX0_ifCut 4 = .ok (.iload_n 2, 1) := dk_28 (dk_at dksX0_ifCut_0 4 rfl rfl)
theorem dX0_ifCut_5 : decode cX0_ifCut 5 = .ok (.invokevirtual 95, 3) := dk_182 0 95 (dk_at dksX0_ifCut_0 5 rfl rfl)
theorem dX0_ifCut_8 : decode cX0_ifCut 8 = .ok (.i2l, 1) := dk_133 (dk_at dksX0_ifCut_0 8 rfl rfl)
theorem dX0_ifCut_9 : decode cX0_ifCut 9 = .ok (.lastore, 1) := dk_80 (dk_at dksX0_ifCut_0 9 rfl rfl)
theorem dX0_ifCut_10 : decode cX0_ifCut 10 = .ok (.goto 11, 3) := dk_167 0 11 (dk_at dksX0_ifCut_0 10 rfl rfl)
theorem dX0_ifCut_13 : decode cX0_ifCut 13 = .ok (.astore 4, 2) := dk_58 4 (dk_at dksX0_ifCut_0 13 rfl rfl)
theorem dX0_ifCut_15 : decode cX0_ifCut 15 = .ok (.iconst 1, 1) := dk_4 (dk_at dksX0_ifCut_0 15 rfl rfl)
theorem dX0_ifCut_16 : decode cX0_ifCut 16 = .ok (.ireturn, 1) := dk_172 (dk_at dksX0_ifCut_0 16 rfl rfl)
theorem dX0_ifCut_17 : decode cX0_ifCut 17 = .ok (.astore 4, 2) := dk_58 4 (dk_at dksX0_ifCut_0 17 rfl rfl)
theorem dX0_ifCut_19 : decode cX0_ifCut 19 = .ok (.iconst 2, 1) := dk_5 (dk_at dksX0_ifCut_0 19 rfl rfl)
theorem dX0_ifCut_20 : decode cX0_ifCut 20 = .ok (.ireturn, 1) := dk_172 (dk_at dksX0_ifCut_0 20 rfl rfl)
theorem dX0_ifCut_21 : decode cX0_ifCut 21 = .ok (.iconst 0, 1) := dk_3 (dk_at dksX0_ifCut_0 21 rfl rfl)
theorem dX0_ifCut_22 : decode cX0_ifCut 22 = .ok (.ireturn, 1) := dk_172 (dk_at dksX0_ifCut_0 22 rfl rfl)
abbrev cX0_ifPacked : ByteArray := method_29_code
def yX0_ifPacked : MethodName := ⟨RX0, "ifPacked", "(LCrossbarExchange;I[J)I"⟩
def dkwX0_ifPacked_0 : List UInt8 := [44, 3, 42, 27, 182, 0, 98, 133, 80, 167, 0, 6, 78, 4, 172, 3, 172]
abbrev dktX0_ifPacked_0 : List UInt8 := dkwX0_ifPacked_0 ++ []
theorem dksX0_ifPacked_0 : cX0_ifPacked.data.toList.drop 0 = dktX0_ifPacked_0 := by decide +kernel
theorem dX0_ifPacked_0 : decode cX0_ifPacked 0 = .ok (.aload_n 2, 1) := dk_44 (dk_at dksX0_ifPacked_0 0 rfl rfl)
theorem dX0_ifPacked_1 : decode cX0_ifPacked 1 = .ok (.iconst 0, 1) := dk_3 (dk_at dksX0_ifPacked_0 1 rfl rfl)
theorem dX0_ifPacked_2 : decode cX0_ifPacked 2 = .ok (.aload_n 0, 1) := dk_42 (dk_at dksX0_ifPacked_0 2 rfl rfl)
theorem dX0_ifPacked_3 : decode cX0_ifPacked 3 = .ok (.iload_n 1, 1) := dk_27 (dk_at dksX0_ifPacked_0 3 rfl rfl)
theorem dX0_ifPacked_4 : decode cX0_ifPacked 4 = .ok (.invokevirtual 98, 3) := dk_182 0 98 (dk_at dksX0_ifPacked_0 4 rfl rfl)
theorem dX0_ifPacked_7 : decode cX0_ifPacked 7 = .ok (.i2l, 1) := dk_133 (dk_at dksX0_ifPacked_0 7 rfl rfl)
theorem dX0_ifPacked_8 : decode cX0_ifPacked 8 = .ok (.lastore, 1) := dk_80 (dk_at dksX0_ifPacked_0 8 rfl rfl)
theorem dX0_ifPacked_9 : decode cX0_ifPacked 9 = .ok (.goto 6, 3) := dk_167 0 6 (dk_at dksX0_ifPacked_0 9 rfl rfl)
theorem dX0_ifPacked_12 : decode cX0_ifPacked 12 = .ok (.astore_n 3, 1) := dk_78 (dk_at dksX0_ifPacked_0 12 rfl rfl)
theorem dX0_ifPacked_13 : decode cX0_ifPacked 13 = .ok (.iconst 1, 1) := dk_4 (dk_at dksX0_ifPacked_0 13 rfl rfl)
theorem dX0_ifPacked_14 : decode cX0_ifPacked 14 = .ok (.ireturn, 1) := dk_172 (dk_at dksX0_ifPacked_0 14 rfl rfl)
theorem dX0_ifPacked_15 : decode cX0_ifPacked 15 = .ok (.iconst 0, 1) := dk_3 (dk_at dksX0_ifPacked_0 15 rfl rfl)
theorem dX0_ifPacked_16 : decode cX0_ifPacked 16 = .ok (.ireturn, 1) := dk_172 (dk_at dksX0_ifPacked_0 16 rfl rfl)
abbrev cX0_callsIn : ByteArray := method_30_code
def yX0_callsIn : MethodName := ⟨RX0, "callsIn", "(LCrossbarExchange;I[J)I"⟩
def dkwX0_callsIn_0 : List UInt8 := [44, 3, 42, 27, 182, 0, 101, 133, 80, 167, 0, 6, 78, 4, 172, 3, 172]
abbrev dktX0_callsIn_0 : List UInt8 := dkwX0_callsIn_0 ++ []
theorem dksX0_callsIn_0 : cX0_callsIn.data.toList.drop 0 = dktX0_callsIn_0 := by decide +kernel
theorem dX0_callsIn_0 : decode cX0_callsIn 0 = .ok (.aload_n 2, 1) := dk_44 (dk_at dksX0_callsIn_0 0 rfl rfl)
theorem dX0_callsIn_1 : decode cX0_callsIn 1 = .ok (.iconst 0, 1) := dk_3 (dk_at dksX0_callsIn_0 1 rfl rfl)
theorem dX0_callsIn_2 : decode cX0_callsIn 2 = .ok (.aload_n 0, 1) := dk_42 (dk_at dksX0_callsIn_0 2 rfl rfl)
theorem dX0_callsIn_3 : decode cX0_callsIn 3 = .ok (.iload_n 1, 1) := dk_27 (dk_at dksX0_callsIn_0 3 rfl rfl)
theorem dX0_callsIn_4 : decode cX0_callsIn 4 = .ok (.invokevirtual 101, 3) := dk_182 0 101 (dk_at dksX0_callsIn_0 4 rfl rfl)
theorem dX0_callsIn_7 : decode cX0_callsIn 7 = .ok (.i2l, 1) := dk_133 (dk_at dksX0_callsIn_0 7 rfl rfl)
theorem dX0_callsIn_8 : decode cX0_callsIn 8 = .ok (.lastore, 1) := dk_80 (dk_at dksX0_callsIn_0 8 rfl rfl)
theorem dX0_callsIn_9 : decode cX0_callsIn 9 = .ok (.goto 6, 3) := dk_167 0 6 (dk_at dksX0_callsIn_0 9 rfl rfl)
theorem dX0_callsIn_12 : decode cX0_callsIn 12 = .ok (.astore_n 3, 1) := dk_78 (dk_at dksX0_callsIn_0 12 rfl rfl)
theorem dX0_callsIn_13 : decode cX0_callsIn 13 = .ok (.iconst 1, 1) := dk_4 (dk_at dksX0_callsIn_0 13 rfl rfl)
theorem dX0_callsIn_14 : decode cX0_callsIn 14 = .ok (.ireturn, 1) := dk_172 (dk_at dksX0_callsIn_0 14 rfl rfl)
theorem dX0_callsIn_15 : decode cX0_callsIn 15 = .ok (.iconst 0, 1) := dk_3 (dk_at dksX0_callsIn_0 15 rfl rfl)
theorem dX0_callsIn_16 : decode cX0_callsIn 16 = .ok (.ireturn, 1) := dk_172 (dk_at dksX0_callsIn_0 16 rfl rfl)
abbrev cX0_idleIn : ByteArray := method_31_code
def yX0_idleIn : MethodName := ⟨RX0, "idleIn", "(LCrossbarExchange;I[J)I"⟩
def dkwX0_idleIn_0 : List UInt8 := [44, 3, 42, 27, 182, 0, 104, 133, 80, 167, 0, 6, 78, 4, 172, 3, 172]
abbrev dktX0_idleIn_0 : List UInt8 := dkwX0_idleIn_0 ++ []
theorem dksX0_idleIn_0 : cX0_idleIn.data.toList.drop 0 = dktX0_idleIn_0 := by decide +kernel
theorem dX0_idleIn_0 : decode cX0_idleIn 0 = .ok (.aload_n 2, 1) := dk_44 (dk_at dksX0_idleIn_0 0 rfl rfl)
theorem dX0_idleIn_1 : decode cX0_idleIn 1 = .ok (.iconst 0, 1) := dk_3 (dk_at dksX0_idleIn_0 1 rfl rfl)
theorem dX0_idleIn_2 : decode cX0_idleIn 2 = .ok (.aload_n 0, 1) := dk_42 (dk_at dksX0_idleIn_0 2 rfl rfl)
theorem dX0_idleIn_3 : decode cX0_idleIn 3 = .ok (.iload_n 1, 1) := dk_27 (dk_at dksX0_idleIn_0 3 rfl rfl)
theorem dX0_idleIn_4 : decode cX0_idleIn 4 = .ok (.invokevirtual 104, 3) := dk_182 0 104 (dk_at dksX0_idleIn_0 4 rfl rfl)
theorem dX0_idleIn_7 : decode cX0_idleIn 7 = .ok (.i2l, 1) := dk_133 (dk_at dksX0_idleIn_0 7 rfl rfl)
theorem dX0_idleIn_8 : decode cX0_idleIn 8 = .ok (.lastore, 1) := dk_80 (dk_at dksX0_idleIn_0 8 rfl rfl)
theorem dX0_idleIn_9 : decode cX0_idleIn 9 = .ok (.goto 6, 3) := dk_167 0 6 (dk_at dksX0_idleIn_0 9 rfl rfl)
theorem dX0_idleIn_12 : decode cX0_idleIn 12 = .ok (.astore_n 3, 1) := dk_78 (dk_at dksX0_idleIn_0 12 rfl rfl)
theorem dX0_idleIn_13 : decode cX0_idleIn 13 = .ok (.iconst 1, 1) := dk_4 (dk_at dksX0_idleIn_0 13 rfl rfl)
theorem dX0_idleIn_14 : decode cX0_idleIn 14 = .ok (.ireturn, 1) := dk_172 (dk_at dksX0_idleIn_0 14 rfl rfl)
theorem dX0_idleIn_15 : decode cX0_idleIn 15 = .ok (.iconst 0, 1) := dk_3 (dk_at dksX0_idleIn_0 15 rfl rfl)
theorem dX0_idleIn_16 : decode cX0_idleIn 16 = .ok (.ireturn, 1) := dk_172 (dk_at dksX0_idleIn_0 16 rfl rfl)
abbrev cX0_servedIn : ByteArray := method_32_code
def yX0_servedIn : MethodName := ⟨RX0, "servedIn", "(LCrossbarExchange;I[J)I"⟩
def dkwX0_servedIn_0 : List UInt8 := [44, 3, 42, 27, 182, 0, 107, 133, 80, 167, 0, 6, 78, 4, 172, 3, 172]
abbrev dktX0_servedIn_0 : List UInt8 := dkwX0_servedIn_0 ++ []
theorem dksX0_servedIn_0 : cX0_servedIn.data.toList.drop 0 = dktX0_servedIn_0 := by decide +kernel
theorem dX0_servedIn_0 : decode cX0_servedIn 0 = .ok (.aload_n 2, 1) := dk_44 (dk_at dksX0_servedIn_0 0 rfl rfl)
theorem dX0_servedIn_1 : decode cX0_servedIn 1 = .ok (.iconst 0, 1) := dk_3 (dk_at dksX0_servedIn_0 1 rfl rfl)
theorem dX0_servedIn_2 : decode cX0_servedIn 2 = .ok (.aload_n 0, 1) := dk_42 (dk_at dksX0_servedIn_0 2 rfl rfl)
theorem dX0_servedIn_3 : decode cX0_servedIn 3 = .ok (.iload_n 1, 1) := dk_27 (dk_at dksX0_servedIn_0 3 rfl rfl)
theorem dX0_servedIn_4 : decode cX0_servedIn 4 = .ok (.invokevirtual 107, 3) := dk_182 0 107 (dk_at dksX0_servedIn_0 4 rfl rfl)
theorem dX0_servedIn_7 : decode cX0_servedIn 7 = .ok (.i2l, 1) := dk_133 (dk_at dksX0_servedIn_0 7 rfl rfl)
theorem dX0_servedIn_8 : decode cX0_servedIn 8 = .ok (.lastore, 1) := dk_80 (dk_at dksX0_servedIn_0 8 rfl rfl)
theorem dX0_servedIn_9 : decode cX0_servedIn 9 = .ok (.goto 6, 3) := dk_167 0 6 (dk_at dksX0_servedIn_0 9 rfl rfl)
theorem dX0_servedIn_12 : decode cX0_servedIn 12 = .ok (.astore_n 3, 1) := dk_78 (dk_at dksX0_servedIn_0 12 rfl rfl)
theorem dX0_servedIn_13 : decode cX0_servedIn 13 = .ok (.iconst 1, 1) := dk_4 (dk_at dksX0_servedIn_0 13 rfl rfl)
theorem dX0_servedIn_14 : decode cX0_servedIn 14 = .ok (.ireturn, 1) := dk_172 (dk_at dksX0_servedIn_0 14 rfl rfl)
theorem dX0_servedIn_15 : decode cX0_servedIn 15 = .ok (.iconst 0, 1) := dk_3 (dk_at dksX0_servedIn_0 15 rfl rfl)
theorem dX0_servedIn_16 : decode cX0_servedIn 16 = .ok (.ireturn, 1) := dk_172 (dk_at dksX0_servedIn_0 16 rfl rfl)
theorem q151 : (Jvm.Cond.initialized "CrossbarExchangeLaw") ∈ lw_all := lw_g (lw_at lw_m1 0 rfl) rfl
theorem q203 : (Jvm.Cond.classLink "CrossbarExchangeLaw" (8 : Nat) "CrossbarExchange") ∈ lw_all := lw_g (lw_at lw_m1 52 rfl) rfl
theorem q205 : (Jvm.Cond.methodLink "CrossbarExchangeLaw" (110 : Nat) ({ cls := "CrossbarExchange", name := "<init>", desc := "()V" } : Jvm.MethodName)) ∈ lw_all := lw_g (lw_at lw_m1 54 rfl) rfl
theorem q1457 : (Jvm.Cond.methodLink "CrossbarExchangeLaw" (114 : Nat) ({ cls := "CrossbarExchange", name := "append", desc := "(IIIII)I" } : Jvm.MethodName)) ∈ lw_all := lw_g (lw_at lw_m6 106 rfl) rfl
theorem q1465 : (Jvm.Cond.methodLink "CrossbarExchangeLaw" (128 : Nat) ({ cls := "CrossbarExchange", name := "load", desc := "()I" } : Jvm.MethodName)) ∈ lw_all := lw_g (lw_at lw_m6 114 rfl) rfl
theorem q2152 : (Jvm.Cond.methodLink "CrossbarExchangeLaw" (132 : Nat) ({ cls := "CrossbarExchange", name := "run", desc := "()I" } : Jvm.MethodName)) ∈ lw_all := lw_g (lw_at lw_m9 81 rfl) rfl
theorem q2179 : (Jvm.Cond.methodLink "CrossbarExchangeLaw" (136 : Nat) ({ cls := "CrossbarExchange", name := "errorCode", desc := "()I" } : Jvm.MethodName)) ∈ lw_all := lw_g (lw_at lw_m9 108 rfl) rfl
theorem q2183 : (Jvm.Cond.methodLink "CrossbarExchangeLaw" (140 : Nat) ({ cls := "CrossbarExchange", name := "errorPosition", desc := "()I" } : Jvm.MethodName)) ∈ lw_all := lw_g (lw_at lw_m9 112 rfl) rfl
theorem q2187 : (Jvm.Cond.methodLink "CrossbarExchangeLaw" (169 : Nat) ({ cls := "CrossbarExchange", name := "pack", desc := "()I" } : Jvm.MethodName)) ∈ lw_all := lw_g (lw_at lw_m9 116 rfl) rfl
theorem q2197 : (Jvm.Cond.methodLink "CrossbarExchangeLaw" (206 : Nat) ({ cls := "CrossbarExchange", name := "callAt", desc := "(I)I" } : Jvm.MethodName)) ∈ lw_all := lw_g (lw_at lw_m9 126 rfl) rfl
theorem q2201 : (Jvm.Cond.methodLink "CrossbarExchangeLaw" (228 : Nat) ({ cls := "CrossbarExchange", name := "blocked", desc := "()I" } : Jvm.MethodName)) ∈ lw_all := lw_g (lw_at lw_m9 130 rfl) rfl
theorem q2213 : (Jvm.Cond.methodLink "CrossbarExchangeLaw" (232 : Nat) ({ cls := "CrossbarExchange", name := "needed", desc := "()I" } : Jvm.MethodName)) ∈ lw_all := lw_g (lw_at lw_m9 142 rfl) rfl
theorem q2218 : (Jvm.Cond.methodLink "CrossbarExchangeLaw" (236 : Nat) ({ cls := "CrossbarExchange", name := "isFree", desc := "(Z)Z" } : Jvm.MethodName)) ∈ lw_all := lw_g (lw_at lw_m9 147 rfl) rfl
theorem q2223 : (Jvm.Cond.methodLink "CrossbarExchangeLaw" (244 : Nat) ({ cls := "CrossbarExchange", name := "leastCut", desc := "()I" } : Jvm.MethodName)) ∈ lw_all := lw_g (lw_at lw_m9 152 rfl) rfl
theorem q2377 : (Jvm.Cond.methodLink "CrossbarExchangeLaw" (260 : Nat) ({ cls := "CrossbarExchange", name := "gap", desc := "()I" } : Jvm.MethodName)) ∈ lw_all := lw_g (lw_at lw_m10 66 rfl) rfl
theorem q2390 : (Jvm.Cond.methodLink "CrossbarExchangeLaw" (264 : Nat) ({ cls := "CrossbarExchange", name := "fullness", desc := "()F" } : Jvm.MethodName)) ∈ lw_all := lw_g (lw_at lw_m10 79 rfl) rfl
theorem q2394 : (Jvm.Cond.methodLink "CrossbarExchangeLaw" (269 : Nat) ({ cls := "CrossbarExchange", name := "meanChain", desc := "()D" } : Jvm.MethodName)) ∈ lw_all := lw_g (lw_at lw_m10 83 rfl) rfl
theorem q2398 : (Jvm.Cond.methodLink "CrossbarExchangeLaw" (274 : Nat) ({ cls := "CrossbarExchange", name := "writeMiddles", desc := "()I" } : Jvm.MethodName)) ∈ lw_all := lw_g (lw_at lw_m10 87 rfl) rfl
theorem q2418 : (Jvm.Cond.methodLink "CrossbarExchangeLaw" (278 : Nat) ({ cls := "CrossbarExchange", name := "writeCalls", desc := "()I" } : Jvm.MethodName)) ∈ lw_all := lw_g (lw_at lw_m10 107 rfl) rfl
theorem q2422 : (Jvm.Cond.methodLink "CrossbarExchangeLaw" (282 : Nat) ({ cls := "CrossbarExchange", name := "outputByte", desc := "(I)I" } : Jvm.MethodName)) ∈ lw_all := lw_g (lw_at lw_m10 111 rfl) rfl
theorem q2438 : (Jvm.Cond.methodLink "CrossbarExchangeLaw" (119 : Nat) ({ cls := "CrossbarExchangeLaw", name := "truncate", desc := "(LCrossbarExchange;I[J)I" } : Jvm.MethodName)) ∈ lw_all := lw_g (lw_at lw_m10 127 rfl) rfl
theorem q2439 : (Jvm.Cond.static ({ cls := "CrossbarExchangeLaw", name := "truncate", desc := "(LCrossbarExchange;I[J)I" } : Jvm.MethodName)) ∈ lw_all := lw_g (lw_at lw_m10 128 rfl) rfl
theorem q2440 : (Jvm.Cond.codeWith ({ cls := "CrossbarExchangeLaw", name := "truncate", desc := "(LCrossbarExchange;I[J)I" } : Jvm.MethodName) method_3_code (4 : Nat) (Option.some Jvm.ClassFile.FieldType.int) [((0 : Nat), (9 : Nat), (12 : Nat), (13 : Nat))]) ∈ lw_all := lw_g (lw_at lw_m10 129 rfl) rfl
theorem q2441 : (Jvm.Cond.classLink "CrossbarExchangeLaw" (13 : Nat) "java/lang/IllegalArgumentException") ∈ lw_all := lw_g (lw_at lw_m10 130 rfl) rfl
theorem q2442 : (Jvm.Cond.methodLink "CrossbarExchangeLaw" (7 : Nat) ({ cls := "CrossbarExchange", name := "truncate", desc := "(I)I" } : Jvm.MethodName)) ∈ lw_all := lw_g (lw_at lw_m10 131 rfl) rfl
theorem q2454 : (Jvm.Cond.methodLink "CrossbarExchangeLaw" (144 : Nat) ({ cls := "CrossbarExchangeLaw", name := "call", desc := "(LCrossbarExchange;III[J)I" } : Jvm.MethodName)) ∈ lw_all := lw_g (lw_at lw_m10 143 rfl) rfl
theorem q2455 : (Jvm.Cond.static ({ cls := "CrossbarExchangeLaw", name := "call", desc := "(LCrossbarExchange;III[J)I" } : Jvm.MethodName)) ∈ lw_all := lw_g (lw_at lw_m10 144 rfl) rfl
theorem q2456 : (Jvm.Cond.codeWith ({ cls := "CrossbarExchangeLaw", name := "call", desc := "(LCrossbarExchange;III[J)I" } : Jvm.MethodName) method_4_code (6 : Nat) (Option.some Jvm.ClassFile.FieldType.int) [((0 : Nat), (12 : Nat), (15 : Nat), (19 : Nat)), ((0 : Nat), (12 : Nat), (19 : Nat), (13 : Nat))]) ∈ lw_all := lw_g (lw_at lw_m10 145 rfl) rfl
theorem q2457 : (Jvm.Cond.classLink "CrossbarExchangeLaw" (19 : Nat) "java/lang/IndexOutOfBoundsException") ∈ lw_all := lw_g (lw_at lw_m10 146 rfl) rfl
theorem q2458 : (Jvm.Cond.methodLink "CrossbarExchangeLaw" (15 : Nat) ({ cls := "CrossbarExchange", name := "call", desc := "(III)I" } : Jvm.MethodName)) ∈ lw_all := lw_g (lw_at lw_m10 147 rfl) rfl
theorem q2493 : (Jvm.Cond.methodLink "CrossbarExchangeLaw" (148 : Nat) ({ cls := "CrossbarExchangeLaw", name := "dial", desc := "(LCrossbarExchange;III[J)I" } : Jvm.MethodName)) ∈ lw_all := lw_g (lw_at lw_m10 182 rfl) rfl
theorem q2494 : (Jvm.Cond.static ({ cls := "CrossbarExchangeLaw", name := "dial", desc := "(LCrossbarExchange;III[J)I" } : Jvm.MethodName)) ∈ lw_all := lw_g (lw_at lw_m10 183 rfl) rfl
theorem q2495 : (Jvm.Cond.codeWith ({ cls := "CrossbarExchangeLaw", name := "dial", desc := "(LCrossbarExchange;III[J)I" } : Jvm.MethodName) method_5_code (6 : Nat) (Option.some Jvm.ClassFile.FieldType.int) [((0 : Nat), (12 : Nat), (15 : Nat), (19 : Nat)), ((0 : Nat), (12 : Nat), (19 : Nat), (13 : Nat))]) ∈ lw_all := lw_g (lw_at lw_m10 184 rfl) rfl
theorem q2496 : (Jvm.Cond.methodLink "CrossbarExchangeLaw" (21 : Nat) ({ cls := "CrossbarExchange", name := "dial", desc := "(III)I" } : Jvm.MethodName)) ∈ lw_all := lw_g (lw_at lw_m10 185 rfl) rfl
theorem q2507 : (Jvm.Cond.methodLink "CrossbarExchangeLaw" (151 : Nat) ({ cls := "CrossbarExchangeLaw", name := "hangUp", desc := "(LCrossbarExchange;I[J)I" } : Jvm.MethodName)) ∈ lw_all := lw_g (lw_at lw_m10 196 rfl) rfl
theorem q2508 : (Jvm.Cond.static ({ cls := "CrossbarExchangeLaw", name := "hangUp", desc := "(LCrossbarExchange;I[J)I" } : Jvm.MethodName)) ∈ lw_all := lw_g (lw_at lw_m10 197 rfl) rfl
theorem q2509 : (Jvm.Cond.codeWith ({ cls := "CrossbarExchangeLaw", name := "hangUp", desc := "(LCrossbarExchange;I[J)I" } : Jvm.MethodName) method_6_code (4 : Nat) (Option.some Jvm.ClassFile.FieldType.int) [((0 : Nat), (9 : Nat), (12 : Nat), (19 : Nat)), ((0 : Nat), (9 : Nat), (15 : Nat), (27 : Nat))]) ∈ lw_all := lw_g (lw_at lw_m10 198 rfl) rfl
theorem q2510 : (Jvm.Cond.classLink "CrossbarExchangeLaw" (27 : Nat) "java/lang/IllegalStateException") ∈ lw_all := lw_g (lw_at lw_m10 199 rfl) rfl
theorem q2511 : (Jvm.Cond.methodLink "CrossbarExchangeLaw" (24 : Nat) ({ cls := "CrossbarExchange", name := "hangUp", desc := "(I)I" } : Jvm.MethodName)) ∈ lw_all := lw_g (lw_at lw_m10 200 rfl) rfl
theorem q2535 : (Jvm.Cond.methodLink "CrossbarExchangeLaw" (154 : Nat) ({ cls := "CrossbarExchangeLaw", name := "tick", desc := "(LCrossbarExchange;I[J)I" } : Jvm.MethodName)) ∈ lw_all := lw_g (lw_at lw_m10 224 rfl) rfl
theorem q2536 : (Jvm.Cond.static ({ cls := "CrossbarExchangeLaw", name := "tick", desc := "(LCrossbarExchange;I[J)I" } : Jvm.MethodName)) ∈ lw_all := lw_g (lw_at lw_m10 225 rfl) rfl
theorem q2537 : (Jvm.Cond.codeWith ({ cls := "CrossbarExchangeLaw", name := "tick", desc := "(LCrossbarExchange;I[J)I" } : Jvm.MethodName) method_7_code (4 : Nat) (Option.some Jvm.ClassFile.FieldType.int) [((0 : Nat), (9 : Nat), (12 : Nat), (13 : Nat)), ((0 : Nat), (9 : Nat), (15 : Nat), (27 : Nat))]) ∈ lw_all := lw_g (lw_at lw_m10 226 rfl) rfl
theorem q2538 : (Jvm.Cond.methodLink "CrossbarExchangeLaw" (29 : Nat) ({ cls := "CrossbarExchange", name := "tick", desc := "(I)I" } : Jvm.MethodName)) ∈ lw_all := lw_g (lw_at lw_m10 227 rfl) rfl
theorem q2543 : (Jvm.Cond.methodLink "CrossbarExchangeLaw" (157 : Nat) ({ cls := "CrossbarExchangeLaw", name := "cut", desc := "(LCrossbarExchange;I[J)I" } : Jvm.MethodName)) ∈ lw_all := lw_g (lw_at lw_m10 232 rfl) rfl
theorem q2544 : (Jvm.Cond.static ({ cls := "CrossbarExchangeLaw", name := "cut", desc := "(LCrossbarExchange;I[J)I" } : Jvm.MethodName)) ∈ lw_all := lw_g (lw_at lw_m10 233 rfl) rfl
theorem q2545 : (Jvm.Cond.codeWith ({ cls := "CrossbarExchangeLaw", name := "cut", desc := "(LCrossbarExchange;I[J)I" } : Jvm.MethodName) method_8_code (4 : Nat) (Option.some Jvm.ClassFile.FieldType.int) [((0 : Nat), (9 : Nat), (12 : Nat), (19 : Nat)), ((0 : Nat), (9 : Nat), (15 : Nat), (27 : Nat))]) ∈ lw_all := lw_g (lw_at lw_m10 234 rfl) rfl
theorem q2546 : (Jvm.Cond.methodLink "CrossbarExchangeLaw" (32 : Nat) ({ cls := "CrossbarExchange", name := "cut", desc := "(I)I" } : Jvm.MethodName)) ∈ lw_all := lw_g (lw_at lw_m10 235 rfl) rfl
theorem q2554 : (Jvm.Cond.methodLink "CrossbarExchangeLaw" (160 : Nat) ({ cls := "CrossbarExchangeLaw", name := "mend", desc := "(LCrossbarExchange;I[J)I" } : Jvm.MethodName)) ∈ lw_all := lw_g (lw_at lw_m11 3 rfl) rfl
theorem q2555 : (Jvm.Cond.static ({ cls := "CrossbarExchangeLaw", name := "mend", desc := "(LCrossbarExchange;I[J)I" } : Jvm.MethodName)) ∈ lw_all := lw_g (lw_at lw_m11 4 rfl) rfl
theorem q2556 : (Jvm.Cond.codeWith ({ cls := "CrossbarExchangeLaw", name := "mend", desc := "(LCrossbarExchange;I[J)I" } : Jvm.MethodName) method_9_code (4 : Nat) (Option.some Jvm.ClassFile.FieldType.int) [((0 : Nat), (9 : Nat), (12 : Nat), (19 : Nat)), ((0 : Nat), (9 : Nat), (15 : Nat), (27 : Nat))]) ∈ lw_all := lw_g (lw_at lw_m11 5 rfl) rfl
theorem q2557 : (Jvm.Cond.methodLink "CrossbarExchangeLaw" (35 : Nat) ({ cls := "CrossbarExchange", name := "mend", desc := "(I)I" } : Jvm.MethodName)) ∈ lw_all := lw_g (lw_at lw_m11 6 rfl) rfl
theorem q2562 : (Jvm.Cond.methodLink "CrossbarExchangeLaw" (163 : Nat) ({ cls := "CrossbarExchangeLaw", name := "setMode", desc := "(LCrossbarExchange;I[J)I" } : Jvm.MethodName)) ∈ lw_all := lw_g (lw_at lw_m11 11 rfl) rfl
theorem q2563 : (Jvm.Cond.static ({ cls := "CrossbarExchangeLaw", name := "setMode", desc := "(LCrossbarExchange;I[J)I" } : Jvm.MethodName)) ∈ lw_all := lw_g (lw_at lw_m11 12 rfl) rfl
theorem q2564 : (Jvm.Cond.codeWith ({ cls := "CrossbarExchangeLaw", name := "setMode", desc := "(LCrossbarExchange;I[J)I" } : Jvm.MethodName) method_10_code (4 : Nat) (Option.some Jvm.ClassFile.FieldType.int) [((0 : Nat), (9 : Nat), (12 : Nat), (13 : Nat))]) ∈ lw_all := lw_g (lw_at lw_m11 13 rfl) rfl
theorem q2565 : (Jvm.Cond.methodLink "CrossbarExchangeLaw" (38 : Nat) ({ cls := "CrossbarExchange", name := "setMode", desc := "(I)I" } : Jvm.MethodName)) ∈ lw_all := lw_g (lw_at lw_m11 14 rfl) rfl
theorem q2569 : (Jvm.Cond.methodLink "CrossbarExchangeLaw" (166 : Nat) ({ cls := "CrossbarExchangeLaw", name := "setHunt", desc := "(LCrossbarExchange;I[J)I" } : Jvm.MethodName)) ∈ lw_all := lw_g (lw_at lw_m11 18 rfl) rfl
theorem q2570 : (Jvm.Cond.static ({ cls := "CrossbarExchangeLaw", name := "setHunt", desc := "(LCrossbarExchange;I[J)I" } : Jvm.MethodName)) ∈ lw_all := lw_g (lw_at lw_m11 19 rfl) rfl
theorem q2571 : (Jvm.Cond.codeWith ({ cls := "CrossbarExchangeLaw", name := "setHunt", desc := "(LCrossbarExchange;I[J)I" } : Jvm.MethodName) method_11_code (4 : Nat) (Option.some Jvm.ClassFile.FieldType.int) [((0 : Nat), (9 : Nat), (12 : Nat), (13 : Nat))]) ∈ lw_all := lw_g (lw_at lw_m11 20 rfl) rfl
theorem q2572 : (Jvm.Cond.methodLink "CrossbarExchangeLaw" (41 : Nat) ({ cls := "CrossbarExchange", name := "setHunt", desc := "(I)I" } : Jvm.MethodName)) ∈ lw_all := lw_g (lw_at lw_m11 21 rfl) rfl
theorem q2576 : (Jvm.Cond.methodLink "CrossbarExchangeLaw" (173 : Nat) ({ cls := "CrossbarExchangeLaw", name := "undo", desc := "(LCrossbarExchange;[J)I" } : Jvm.MethodName)) ∈ lw_all := lw_g (lw_at lw_m11 25 rfl) rfl
theorem q2577 : (Jvm.Cond.static ({ cls := "CrossbarExchangeLaw", name := "undo", desc := "(LCrossbarExchange;[J)I" } : Jvm.MethodName)) ∈ lw_all := lw_g (lw_at lw_m11 26 rfl) rfl
theorem q2578 : (Jvm.Cond.codeWith ({ cls := "CrossbarExchangeLaw", name := "undo", desc := "(LCrossbarExchange;[J)I" } : Jvm.MethodName) method_12_code (3 : Nat) (Option.some Jvm.ClassFile.FieldType.int) [((0 : Nat), (8 : Nat), (11 : Nat), (27 : Nat))]) ∈ lw_all := lw_g (lw_at lw_m11 27 rfl) rfl
theorem q2579 : (Jvm.Cond.methodLink "CrossbarExchangeLaw" (44 : Nat) ({ cls := "CrossbarExchange", name := "undo", desc := "()I" } : Jvm.MethodName)) ∈ lw_all := lw_g (lw_at lw_m11 28 rfl) rfl
theorem q2583 : (Jvm.Cond.methodLink "CrossbarExchangeLaw" (177 : Nat) ({ cls := "CrossbarExchangeLaw", name := "save", desc := "(LCrossbarExchange;I[J)I" } : Jvm.MethodName)) ∈ lw_all := lw_g (lw_at lw_m11 32 rfl) rfl
theorem q2584 : (Jvm.Cond.static ({ cls := "CrossbarExchangeLaw", name := "save", desc := "(LCrossbarExchange;I[J)I" } : Jvm.MethodName)) ∈ lw_all := lw_g (lw_at lw_m11 33 rfl) rfl
theorem q2585 : (Jvm.Cond.codeWith ({ cls := "CrossbarExchangeLaw", name := "save", desc := "(LCrossbarExchange;I[J)I" } : Jvm.MethodName) method_13_code (4 : Nat) (Option.some Jvm.ClassFile.FieldType.int) [((0 : Nat), (9 : Nat), (12 : Nat), (19 : Nat))]) ∈ lw_all := lw_g (lw_at lw_m11 34 rfl) rfl
theorem q2586 : (Jvm.Cond.methodLink "CrossbarExchangeLaw" (48 : Nat) ({ cls := "CrossbarExchange", name := "save", desc := "(I)I" } : Jvm.MethodName)) ∈ lw_all := lw_g (lw_at lw_m11 35 rfl) rfl
theorem q2593 : (Jvm.Cond.methodLink "CrossbarExchangeLaw" (180 : Nat) ({ cls := "CrossbarExchangeLaw", name := "restore", desc := "(LCrossbarExchange;I[J)I" } : Jvm.MethodName)) ∈ lw_all := lw_g (lw_at lw_m11 42 rfl) rfl
theorem q2594 : (Jvm.Cond.static ({ cls := "CrossbarExchangeLaw", name := "restore", desc := "(LCrossbarExchange;I[J)I" } : Jvm.MethodName)) ∈ lw_all := lw_g (lw_at lw_m11 43 rfl) rfl
theorem q2595 : (Jvm.Cond.codeWith ({ cls := "CrossbarExchangeLaw", name := "restore", desc := "(LCrossbarExchange;I[J)I" } : Jvm.MethodName) method_14_code (4 : Nat) (Option.some Jvm.ClassFile.FieldType.int) [((0 : Nat), (9 : Nat), (12 : Nat), (19 : Nat)), ((0 : Nat), (9 : Nat), (15 : Nat), (27 : Nat))]) ∈ lw_all := lw_g (lw_at lw_m11 44 rfl) rfl
theorem q2596 : (Jvm.Cond.methodLink "CrossbarExchangeLaw" (51 : Nat) ({ cls := "CrossbarExchange", name := "restore", desc := "(I)I" } : Jvm.MethodName)) ∈ lw_all := lw_g (lw_at lw_m11 45 rfl) rfl
theorem q2600 : (Jvm.Cond.methodLink "CrossbarExchangeLaw" (183 : Nat) ({ cls := "CrossbarExchangeLaw", name := "count", desc := "(LCrossbarExchange;I[J)I" } : Jvm.MethodName)) ∈ lw_all := lw_g (lw_at lw_m11 49 rfl) rfl
theorem q2601 : (Jvm.Cond.static ({ cls := "CrossbarExchangeLaw", name := "count", desc := "(LCrossbarExchange;I[J)I" } : Jvm.MethodName)) ∈ lw_all := lw_g (lw_at lw_m11 50 rfl) rfl
theorem q2602 : (Jvm.Cond.codeWith ({ cls := "CrossbarExchangeLaw", name := "count", desc := "(LCrossbarExchange;I[J)I" } : Jvm.MethodName) method_15_code (4 : Nat) (Option.some Jvm.ClassFile.FieldType.int) [((0 : Nat), (9 : Nat), (12 : Nat), (13 : Nat))]) ∈ lw_all := lw_g (lw_at lw_m11 51 rfl) rfl
theorem q2603 : (Jvm.Cond.methodLink "CrossbarExchangeLaw" (54 : Nat) ({ cls := "CrossbarExchange", name := "count", desc := "(I)I" } : Jvm.MethodName)) ∈ lw_all := lw_g (lw_at lw_m11 52 rfl) rfl
theorem q2612 : (Jvm.Cond.methodLink "CrossbarExchangeLaw" (186 : Nat) ({ cls := "CrossbarExchangeLaw", name := "account", desc := "(LCrossbarExchange;I[J)I" } : Jvm.MethodName)) ∈ lw_all := lw_g (lw_at lw_m11 61 rfl) rfl
theorem q2613 : (Jvm.Cond.static ({ cls := "CrossbarExchangeLaw", name := "account", desc := "(LCrossbarExchange;I[J)I" } : Jvm.MethodName)) ∈ lw_all := lw_g (lw_at lw_m11 62 rfl) rfl
theorem q2614 : (Jvm.Cond.codeWith ({ cls := "CrossbarExchangeLaw", name := "account", desc := "(LCrossbarExchange;I[J)I" } : Jvm.MethodName) method_16_code (4 : Nat) (Option.some Jvm.ClassFile.FieldType.int) [((0 : Nat), (9 : Nat), (12 : Nat), (13 : Nat))]) ∈ lw_all := lw_g (lw_at lw_m11 63 rfl) rfl
theorem q2615 : (Jvm.Cond.methodLink "CrossbarExchangeLaw" (57 : Nat) ({ cls := "CrossbarExchange", name := "account", desc := "(I)I" } : Jvm.MethodName)) ∈ lw_all := lw_g (lw_at lw_m11 64 rfl) rfl
theorem q2619 : (Jvm.Cond.methodLink "CrossbarExchangeLaw" (189 : Nat) ({ cls := "CrossbarExchangeLaw", name := "subscriber", desc := "(LCrossbarExchange;II[J)I" } : Jvm.MethodName)) ∈ lw_all := lw_g (lw_at lw_m11 68 rfl) rfl
theorem q2620 : (Jvm.Cond.static ({ cls := "CrossbarExchangeLaw", name := "subscriber", desc := "(LCrossbarExchange;II[J)I" } : Jvm.MethodName)) ∈ lw_all := lw_g (lw_at lw_m11 69 rfl) rfl
theorem q2621 : (Jvm.Cond.codeWith ({ cls := "CrossbarExchangeLaw", name := "subscriber", desc := "(LCrossbarExchange;II[J)I" } : Jvm.MethodName) method_17_code (5 : Nat) (Option.some Jvm.ClassFile.FieldType.int) [((0 : Nat), (10 : Nat), (13 : Nat), (19 : Nat)), ((0 : Nat), (10 : Nat), (17 : Nat), (13 : Nat))]) ∈ lw_all := lw_g (lw_at lw_m11 70 rfl) rfl
theorem q2622 : (Jvm.Cond.methodLink "CrossbarExchangeLaw" (60 : Nat) ({ cls := "CrossbarExchange", name := "subscriber", desc := "(II)I" } : Jvm.MethodName)) ∈ lw_all := lw_g (lw_at lw_m11 71 rfl) rfl
theorem q2640 : (Jvm.Cond.methodLink "CrossbarExchangeLaw" (193 : Nat) ({ cls := "CrossbarExchangeLaw", name := "stage", desc := "(LCrossbarExchange;II[J)I" } : Jvm.MethodName)) ∈ lw_all := lw_g (lw_at lw_m11 89 rfl) rfl
theorem q2641 : (Jvm.Cond.static ({ cls := "CrossbarExchangeLaw", name := "stage", desc := "(LCrossbarExchange;II[J)I" } : Jvm.MethodName)) ∈ lw_all := lw_g (lw_at lw_m11 90 rfl) rfl
theorem q2642 : (Jvm.Cond.codeWith ({ cls := "CrossbarExchangeLaw", name := "stage", desc := "(LCrossbarExchange;II[J)I" } : Jvm.MethodName) method_18_code (5 : Nat) (Option.some Jvm.ClassFile.FieldType.int) [((0 : Nat), (10 : Nat), (13 : Nat), (19 : Nat)), ((0 : Nat), (10 : Nat), (17 : Nat), (13 : Nat))]) ∈ lw_all := lw_g (lw_at lw_m11 91 rfl) rfl
theorem q2643 : (Jvm.Cond.methodLink "CrossbarExchangeLaw" (64 : Nat) ({ cls := "CrossbarExchange", name := "stage", desc := "(II)I" } : Jvm.MethodName)) ∈ lw_all := lw_g (lw_at lw_m11 92 rfl) rfl
theorem q2660 : (Jvm.Cond.methodLink "CrossbarExchangeLaw" (196 : Nat) ({ cls := "CrossbarExchangeLaw", name := "middle", desc := "(LCrossbarExchange;II[J)I" } : Jvm.MethodName)) ∈ lw_all := lw_g (lw_at lw_m11 109 rfl) rfl
theorem q2661 : (Jvm.Cond.static ({ cls := "CrossbarExchangeLaw", name := "middle", desc := "(LCrossbarExchange;II[J)I" } : Jvm.MethodName)) ∈ lw_all := lw_g (lw_at lw_m11 110 rfl) rfl
theorem q2662 : (Jvm.Cond.codeWith ({ cls := "CrossbarExchangeLaw", name := "middle", desc := "(LCrossbarExchange;II[J)I" } : Jvm.MethodName) method_19_code (5 : Nat) (Option.some Jvm.ClassFile.FieldType.int) [((0 : Nat), (10 : Nat), (13 : Nat), (19 : Nat)), ((0 : Nat), (10 : Nat), (17 : Nat), (13 : Nat))]) ∈ lw_all := lw_g (lw_at lw_m11 111 rfl) rfl
theorem q2663 : (Jvm.Cond.methodLink "CrossbarExchangeLaw" (67 : Nat) ({ cls := "CrossbarExchange", name := "middle", desc := "(II)I" } : Jvm.MethodName)) ∈ lw_all := lw_g (lw_at lw_m11 112 rfl) rfl
theorem q2672 : (Jvm.Cond.methodLink "CrossbarExchangeLaw" (199 : Nat) ({ cls := "CrossbarExchangeLaw", name := "carried", desc := "(LCrossbarExchange;IIZ[J)I" } : Jvm.MethodName)) ∈ lw_all := lw_g (lw_at lw_m11 121 rfl) rfl
theorem q2673 : (Jvm.Cond.static ({ cls := "CrossbarExchangeLaw", name := "carried", desc := "(LCrossbarExchange;IIZ[J)I" } : Jvm.MethodName)) ∈ lw_all := lw_g (lw_at lw_m11 122 rfl) rfl
theorem q2674 : (Jvm.Cond.codeWith ({ cls := "CrossbarExchangeLaw", name := "carried", desc := "(LCrossbarExchange;IIZ[J)I" } : Jvm.MethodName) method_20_code (6 : Nat) (Option.some Jvm.ClassFile.FieldType.int) [((0 : Nat), (12 : Nat), (15 : Nat), (19 : Nat))]) ∈ lw_all := lw_g (lw_at lw_m11 123 rfl) rfl
theorem q2675 : (Jvm.Cond.methodLink "CrossbarExchangeLaw" (70 : Nat) ({ cls := "CrossbarExchange", name := "carried", desc := "(IIZ)I" } : Jvm.MethodName)) ∈ lw_all := lw_g (lw_at lw_m11 124 rfl) rfl
theorem q2679 : (Jvm.Cond.methodLink "CrossbarExchangeLaw" (203 : Nat) ({ cls := "CrossbarExchangeLaw", name := "callOf", desc := "(LCrossbarExchange;II[J)I" } : Jvm.MethodName)) ∈ lw_all := lw_g (lw_at lw_m11 128 rfl) rfl
theorem q2680 : (Jvm.Cond.static ({ cls := "CrossbarExchangeLaw", name := "callOf", desc := "(LCrossbarExchange;II[J)I" } : Jvm.MethodName)) ∈ lw_all := lw_g (lw_at lw_m11 129 rfl) rfl
theorem q2681 : (Jvm.Cond.codeWith ({ cls := "CrossbarExchangeLaw", name := "callOf", desc := "(LCrossbarExchange;II[J)I" } : Jvm.MethodName) method_21_code (5 : Nat) (Option.some Jvm.ClassFile.FieldType.int) [((0 : Nat), (10 : Nat), (13 : Nat), (19 : Nat)), ((0 : Nat), (10 : Nat), (17 : Nat), (13 : Nat))]) ∈ lw_all := lw_g (lw_at lw_m11 130 rfl) rfl
theorem q2682 : (Jvm.Cond.methodLink "CrossbarExchangeLaw" (74 : Nat) ({ cls := "CrossbarExchange", name := "callOf", desc := "(II)I" } : Jvm.MethodName)) ∈ lw_all := lw_g (lw_at lw_m11 131 rfl) rfl
theorem q2687 : (Jvm.Cond.methodLink "CrossbarExchangeLaw" (210 : Nat) ({ cls := "CrossbarExchangeLaw", name := "group", desc := "(LCrossbarExchange;II[J)I" } : Jvm.MethodName)) ∈ lw_all := lw_g (lw_at lw_m11 136 rfl) rfl
theorem q2688 : (Jvm.Cond.static ({ cls := "CrossbarExchangeLaw", name := "group", desc := "(LCrossbarExchange;II[J)I" } : Jvm.MethodName)) ∈ lw_all := lw_g (lw_at lw_m11 137 rfl) rfl
theorem q2689 : (Jvm.Cond.codeWith ({ cls := "CrossbarExchangeLaw", name := "group", desc := "(LCrossbarExchange;II[J)I" } : Jvm.MethodName) method_22_code (5 : Nat) (Option.some Jvm.ClassFile.FieldType.int) [((0 : Nat), (10 : Nat), (13 : Nat), (19 : Nat)), ((0 : Nat), (10 : Nat), (17 : Nat), (13 : Nat))]) ∈ lw_all := lw_g (lw_at lw_m11 138 rfl) rfl
theorem q2690 : (Jvm.Cond.methodLink "CrossbarExchangeLaw" (77 : Nat) ({ cls := "CrossbarExchange", name := "group", desc := "(II)I" } : Jvm.MethodName)) ∈ lw_all := lw_g (lw_at lw_m11 139 rfl) rfl
theorem q2705 : (Jvm.Cond.methodLink "CrossbarExchangeLaw" (213 : Nat) ({ cls := "CrossbarExchangeLaw", name := "member", desc := "(LCrossbarExchange;II[J)I" } : Jvm.MethodName)) ∈ lw_all := lw_g (lw_at lw_m11 154 rfl) rfl
theorem q2706 : (Jvm.Cond.static ({ cls := "CrossbarExchangeLaw", name := "member", desc := "(LCrossbarExchange;II[J)I" } : Jvm.MethodName)) ∈ lw_all := lw_g (lw_at lw_m11 155 rfl) rfl
theorem q2707 : (Jvm.Cond.codeWith ({ cls := "CrossbarExchangeLaw", name := "member", desc := "(LCrossbarExchange;II[J)I" } : Jvm.MethodName) method_23_code (5 : Nat) (Option.some Jvm.ClassFile.FieldType.int) [((0 : Nat), (10 : Nat), (13 : Nat), (19 : Nat))]) ∈ lw_all := lw_g (lw_at lw_m11 156 rfl) rfl
theorem q2708 : (Jvm.Cond.methodLink "CrossbarExchangeLaw" (80 : Nat) ({ cls := "CrossbarExchange", name := "member", desc := "(II)I" } : Jvm.MethodName)) ∈ lw_all := lw_g (lw_at lw_m11 157 rfl) rfl
theorem q2712 : (Jvm.Cond.methodLink "CrossbarExchangeLaw" (216 : Nat) ({ cls := "CrossbarExchangeLaw", name := "waiting", desc := "(LCrossbarExchange;II[J)I" } : Jvm.MethodName)) ∈ lw_all := lw_g (lw_at lw_m11 161 rfl) rfl
theorem q2713 : (Jvm.Cond.static ({ cls := "CrossbarExchangeLaw", name := "waiting", desc := "(LCrossbarExchange;II[J)I" } : Jvm.MethodName)) ∈ lw_all := lw_g (lw_at lw_m11 162 rfl) rfl
theorem q2714 : (Jvm.Cond.codeWith ({ cls := "CrossbarExchangeLaw", name := "waiting", desc := "(LCrossbarExchange;II[J)I" } : Jvm.MethodName) method_24_code (5 : Nat) (Option.some Jvm.ClassFile.FieldType.int) [((0 : Nat), (10 : Nat), (13 : Nat), (19 : Nat)), ((0 : Nat), (10 : Nat), (17 : Nat), (13 : Nat))]) ∈ lw_all := lw_g (lw_at lw_m11 163 rfl) rfl
theorem q2715 : (Jvm.Cond.methodLink "CrossbarExchangeLaw" (83 : Nat) ({ cls := "CrossbarExchange", name := "waiting", desc := "(II)I" } : Jvm.MethodName)) ∈ lw_all := lw_g (lw_at lw_m11 164 rfl) rfl
theorem q2719 : (Jvm.Cond.methodLink "CrossbarExchangeLaw" (219 : Nat) ({ cls := "CrossbarExchangeLaw", name := "open", desc := "(LCrossbarExchange;II[J)I" } : Jvm.MethodName)) ∈ lw_all := lw_g (lw_at lw_m11 168 rfl) rfl
theorem q2720 : (Jvm.Cond.static ({ cls := "CrossbarExchangeLaw", name := "open", desc := "(LCrossbarExchange;II[J)I" } : Jvm.MethodName)) ∈ lw_all := lw_g (lw_at lw_m11 169 rfl) rfl
theorem q2721 : (Jvm.Cond.codeWith ({ cls := "CrossbarExchangeLaw", name := "open", desc := "(LCrossbarExchange;II[J)I" } : Jvm.MethodName) method_25_code (5 : Nat) (Option.some Jvm.ClassFile.FieldType.int) [((0 : Nat), (10 : Nat), (13 : Nat), (19 : Nat))]) ∈ lw_all := lw_g (lw_at lw_m11 170 rfl) rfl
theorem q2722 : (Jvm.Cond.methodLink "CrossbarExchangeLaw" (86 : Nat) ({ cls := "CrossbarExchange", name := "open", desc := "(II)I" } : Jvm.MethodName)) ∈ lw_all := lw_g (lw_at lw_m11 171 rfl) rfl
theorem q2727 : (Jvm.Cond.methodLink "CrossbarExchangeLaw" (222 : Nat) ({ cls := "CrossbarExchangeLaw", name := "chain", desc := "(LCrossbarExchange;III[J)I" } : Jvm.MethodName)) ∈ lw_all := lw_g (lw_at lw_m11 176 rfl) rfl
theorem q2728 : (Jvm.Cond.static ({ cls := "CrossbarExchangeLaw", name := "chain", desc := "(LCrossbarExchange;III[J)I" } : Jvm.MethodName)) ∈ lw_all := lw_g (lw_at lw_m11 177 rfl) rfl
theorem q2729 : (Jvm.Cond.codeWith ({ cls := "CrossbarExchangeLaw", name := "chain", desc := "(LCrossbarExchange;III[J)I" } : Jvm.MethodName) method_26_code (6 : Nat) (Option.some Jvm.ClassFile.FieldType.int) [((0 : Nat), (12 : Nat), (15 : Nat), (19 : Nat)), ((0 : Nat), (12 : Nat), (19 : Nat), (13 : Nat))]) ∈ lw_all := lw_g (lw_at lw_m11 178 rfl) rfl
theorem q2730 : (Jvm.Cond.methodLink "CrossbarExchangeLaw" (89 : Nat) ({ cls := "CrossbarExchange", name := "chain", desc := "(III)I" } : Jvm.MethodName)) ∈ lw_all := lw_g (lw_at lw_m11 179 rfl) rfl
theorem q2740 : (Jvm.Cond.methodLink "CrossbarExchangeLaw" (225 : Nat) ({ cls := "CrossbarExchangeLaw", name := "why", desc := "(LCrossbarExchange;III[J)I" } : Jvm.MethodName)) ∈ lw_all := lw_g (lw_at lw_m11 189 rfl) rfl
theorem q2741 : (Jvm.Cond.static ({ cls := "CrossbarExchangeLaw", name := "why", desc := "(LCrossbarExchange;III[J)I" } : Jvm.MethodName)) ∈ lw_all := lw_g (lw_at lw_m11 190 rfl) rfl
theorem q2742 : (Jvm.Cond.codeWith ({ cls := "CrossbarExchangeLaw", name := "why", desc := "(LCrossbarExchange;III[J)I" } : Jvm.MethodName) method_27_code (6 : Nat) (Option.some Jvm.ClassFile.FieldType.int) [((0 : Nat), (12 : Nat), (15 : Nat), (19 : Nat)), ((0 : Nat), (12 : Nat), (19 : Nat), (13 : Nat))]) ∈ lw_all := lw_g (lw_at lw_m11 191 rfl) rfl
theorem q2743 : (Jvm.Cond.methodLink "CrossbarExchangeLaw" (92 : Nat) ({ cls := "CrossbarExchange", name := "why", desc := "(III)I" } : Jvm.MethodName)) ∈ lw_all := lw_g (lw_at lw_m11 192 rfl) rfl
theorem q2758 : (Jvm.Cond.methodLink "CrossbarExchangeLaw" (241 : Nat) ({ cls := "CrossbarExchangeLaw", name := "ifCut", desc := "(LCrossbarExchange;II[J)I" } : Jvm.MethodName)) ∈ lw_all := lw_g (lw_at lw_m11 207 rfl) rfl
theorem q2759 : (Jvm.Cond.static ({ cls := "CrossbarExchangeLaw", name := "ifCut", desc := "(LCrossbarExchange;II[J)I" } : Jvm.MethodName)) ∈ lw_all := lw_g (lw_at lw_m11 208 rfl) rfl
theorem q2760 : (Jvm.Cond.codeWith ({ cls := "CrossbarExchangeLaw", name := "ifCut", desc := "(LCrossbarExchange;II[J)I" } : Jvm.MethodName) method_28_code (5 : Nat) (Option.some Jvm.ClassFile.FieldType.int) [((0 : Nat), (10 : Nat), (13 : Nat), (19 : Nat)), ((0 : Nat), (10 : Nat), (17 : Nat), (13 : Nat))]) ∈ lw_all := lw_g (lw_at lw_m11 209 rfl) rfl
theorem q2761 : (Jvm.Cond.methodLink "CrossbarExchangeLaw" (95 : Nat) ({ cls := "CrossbarExchange", name := "ifCut", desc := "(II)I" } : Jvm.MethodName)) ∈ lw_all := lw_g (lw_at lw_m11 210 rfl) rfl
theorem q2765 : (Jvm.Cond.methodLink "CrossbarExchangeLaw" (248 : Nat) ({ cls := "CrossbarExchangeLaw", name := "ifPacked", desc := "(LCrossbarExchange;I[J)I" } : Jvm.MethodName)) ∈ lw_all := lw_g (lw_at lw_m11 214 rfl) rfl
theorem q2766 : (Jvm.Cond.static ({ cls := "CrossbarExchangeLaw", name := "ifPacked", desc := "(LCrossbarExchange;I[J)I" } : Jvm.MethodName)) ∈ lw_all := lw_g (lw_at lw_m11 215 rfl) rfl
theorem q2767 : (Jvm.Cond.codeWith ({ cls := "CrossbarExchangeLaw", name := "ifPacked", desc := "(LCrossbarExchange;I[J)I" } : Jvm.MethodName) method_29_code (4 : Nat) (Option.some Jvm.ClassFile.FieldType.int) [((0 : Nat), (9 : Nat), (12 : Nat), (13 : Nat))]) ∈ lw_all := lw_g (lw_at lw_m11 216 rfl) rfl
theorem q2768 : (Jvm.Cond.methodLink "CrossbarExchangeLaw" (98 : Nat) ({ cls := "CrossbarExchange", name := "ifPacked", desc := "(I)I" } : Jvm.MethodName)) ∈ lw_all := lw_g (lw_at lw_m11 217 rfl) rfl
theorem q2776 : (Jvm.Cond.methodLink "CrossbarExchangeLaw" (251 : Nat) ({ cls := "CrossbarExchangeLaw", name := "callsIn", desc := "(LCrossbarExchange;I[J)I" } : Jvm.MethodName)) ∈ lw_all := lw_g (lw_at lw_m11 225 rfl) rfl
theorem q2777 : (Jvm.Cond.static ({ cls := "CrossbarExchangeLaw", name := "callsIn", desc := "(LCrossbarExchange;I[J)I" } : Jvm.MethodName)) ∈ lw_all := lw_g (lw_at lw_m11 226 rfl) rfl
theorem q2778 : (Jvm.Cond.codeWith ({ cls := "CrossbarExchangeLaw", name := "callsIn", desc := "(LCrossbarExchange;I[J)I" } : Jvm.MethodName) method_30_code (4 : Nat) (Option.some Jvm.ClassFile.FieldType.int) [((0 : Nat), (9 : Nat), (12 : Nat), (13 : Nat))]) ∈ lw_all := lw_g (lw_at lw_m11 227 rfl) rfl
theorem q2779 : (Jvm.Cond.methodLink "CrossbarExchangeLaw" (101 : Nat) ({ cls := "CrossbarExchange", name := "callsIn", desc := "(I)I" } : Jvm.MethodName)) ∈ lw_all := lw_g (lw_at lw_m11 228 rfl) rfl
theorem q2783 : (Jvm.Cond.methodLink "CrossbarExchangeLaw" (254 : Nat) ({ cls := "CrossbarExchangeLaw", name := "idleIn", desc := "(LCrossbarExchange;I[J)I" } : Jvm.MethodName)) ∈ lw_all := lw_g (lw_at lw_m11 232 rfl) rfl
theorem q2784 : (Jvm.Cond.static ({ cls := "CrossbarExchangeLaw", name := "idleIn", desc := "(LCrossbarExchange;I[J)I" } : Jvm.MethodName)) ∈ lw_all := lw_g (lw_at lw_m11 233 rfl) rfl
theorem q2785 : (Jvm.Cond.codeWith ({ cls := "CrossbarExchangeLaw", name := "idleIn", desc := "(LCrossbarExchange;I[J)I" } : Jvm.MethodName) method_31_code (4 : Nat) (Option.some Jvm.ClassFile.FieldType.int) [((0 : Nat), (9 : Nat), (12 : Nat), (19 : Nat))]) ∈ lw_all := lw_g (lw_at lw_m11 234 rfl) rfl
theorem q2786 : (Jvm.Cond.methodLink "CrossbarExchangeLaw" (104 : Nat) ({ cls := "CrossbarExchange", name := "idleIn", desc := "(I)I" } : Jvm.MethodName)) ∈ lw_all := lw_g (lw_at lw_m11 235 rfl) rfl
theorem q2790 : (Jvm.Cond.methodLink "CrossbarExchangeLaw" (257 : Nat) ({ cls := "CrossbarExchangeLaw", name := "servedIn", desc := "(LCrossbarExchange;I[J)I" } : Jvm.MethodName)) ∈ lw_all := lw_g (lw_at lw_m11 239 rfl) rfl
theorem q2791 : (Jvm.Cond.static ({ cls := "CrossbarExchangeLaw", name := "servedIn", desc := "(LCrossbarExchange;I[J)I" } : Jvm.MethodName)) ∈ lw_all := lw_g (lw_at lw_m12 0 rfl) rfl
theorem q2792 : (Jvm.Cond.codeWith ({ cls := "CrossbarExchangeLaw", name := "servedIn", desc := "(LCrossbarExchange;I[J)I" } : Jvm.MethodName) method_32_code (4 : Nat) (Option.some Jvm.ClassFile.FieldType.int) [((0 : Nat), (9 : Nat), (12 : Nat), (19 : Nat))]) ∈ lw_all := lw_g (lw_at lw_m12 1 rfl) rfl
theorem q2793 : (Jvm.Cond.methodLink "CrossbarExchangeLaw" (107 : Nat) ({ cls := "CrossbarExchange", name := "servedIn", desc := "(I)I" } : Jvm.MethodName)) ∈ lw_all := lw_g (lw_at lw_m12 2 rfl) rfl
theorem q2797 : (Jvm.Cond.classLink "CrossbarExchangeLaw" (111 : Nat) "CrossbarExchangeModel") ∈ lw_all := lw_g (lw_at lw_m12 6 rfl) rfl
theorem q2799 : (Jvm.Cond.methodLink "CrossbarExchangeLaw" (113 : Nat) ({ cls := "CrossbarExchangeModel", name := "<init>", desc := "()V" } : Jvm.MethodName)) ∈ lw_all := lw_g (lw_at lw_m12 8 rfl) rfl
theorem q2964 : (Jvm.Cond.methodLink "CrossbarExchangeLaw" (125 : Nat) ({ cls := "CrossbarExchangeModel", name := "thrown", desc := "()I" } : Jvm.MethodName)) ∈ lw_all := lw_g (lw_at lw_m12 173 rfl) rfl
theorem q2968 : (Jvm.Cond.methodLink "CrossbarExchangeLaw" (118 : Nat) ({ cls := "CrossbarExchangeModel", name := "append", desc := "(IIIII)I" } : Jvm.MethodName)) ∈ lw_all := lw_g (lw_at lw_m12 177 rfl) rfl
theorem q2976 : (Jvm.Cond.methodLink "CrossbarExchangeLaw" (124 : Nat) ({ cls := "CrossbarExchangeModel", name := "truncate", desc := "(I)I" } : Jvm.MethodName)) ∈ lw_all := lw_g (lw_at lw_m12 185 rfl) rfl
theorem q2984 : (Jvm.Cond.methodLink "CrossbarExchangeLaw" (131 : Nat) ({ cls := "CrossbarExchangeModel", name := "load", desc := "()I" } : Jvm.MethodName)) ∈ lw_all := lw_g (lw_at lw_m12 193 rfl) rfl
theorem q3240 : (Jvm.Cond.methodLink "CrossbarExchangeLaw" (135 : Nat) ({ cls := "CrossbarExchangeModel", name := "run", desc := "()I" } : Jvm.MethodName)) ∈ lw_all := lw_g (lw_at lw_m13 209 rfl) rfl
theorem q3252 : (Jvm.Cond.methodLink "CrossbarExchangeLaw" (139 : Nat) ({ cls := "CrossbarExchangeModel", name := "errorCode", desc := "()I" } : Jvm.MethodName)) ∈ lw_all := lw_g (lw_at lw_m13 221 rfl) rfl
theorem q3256 : (Jvm.Cond.methodLink "CrossbarExchangeLaw" (143 : Nat) ({ cls := "CrossbarExchangeModel", name := "errorPosition", desc := "()I" } : Jvm.MethodName)) ∈ lw_all := lw_g (lw_at lw_m13 225 rfl) rfl
theorem q3260 : (Jvm.Cond.methodLink "CrossbarExchangeLaw" (147 : Nat) ({ cls := "CrossbarExchangeModel", name := "call", desc := "(III)I" } : Jvm.MethodName)) ∈ lw_all := lw_g (lw_at lw_m13 229 rfl) rfl
theorem q3272 : (Jvm.Cond.methodLink "CrossbarExchangeLaw" (150 : Nat) ({ cls := "CrossbarExchangeModel", name := "dial", desc := "(III)I" } : Jvm.MethodName)) ∈ lw_all := lw_g (lw_at lw_m14 1 rfl) rfl
theorem q3280 : (Jvm.Cond.methodLink "CrossbarExchangeLaw" (153 : Nat) ({ cls := "CrossbarExchangeModel", name := "hangUp", desc := "(I)I" } : Jvm.MethodName)) ∈ lw_all := lw_g (lw_at lw_m14 9 rfl) rfl
theorem q3284 : (Jvm.Cond.methodLink "CrossbarExchangeLaw" (156 : Nat) ({ cls := "CrossbarExchangeModel", name := "tick", desc := "(I)I" } : Jvm.MethodName)) ∈ lw_all := lw_g (lw_at lw_m14 13 rfl) rfl
theorem q3288 : (Jvm.Cond.methodLink "CrossbarExchangeLaw" (159 : Nat) ({ cls := "CrossbarExchangeModel", name := "cut", desc := "(I)I" } : Jvm.MethodName)) ∈ lw_all := lw_g (lw_at lw_m14 17 rfl) rfl
theorem q3296 : (Jvm.Cond.methodLink "CrossbarExchangeLaw" (162 : Nat) ({ cls := "CrossbarExchangeModel", name := "mend", desc := "(I)I" } : Jvm.MethodName)) ∈ lw_all := lw_g (lw_at lw_m14 25 rfl) rfl
theorem q3304 : (Jvm.Cond.methodLink "CrossbarExchangeLaw" (165 : Nat) ({ cls := "CrossbarExchangeModel", name := "setMode", desc := "(I)I" } : Jvm.MethodName)) ∈ lw_all := lw_g (lw_at lw_m14 33 rfl) rfl
theorem q3308 : (Jvm.Cond.methodLink "CrossbarExchangeLaw" (168 : Nat) ({ cls := "CrossbarExchangeModel", name := "setHunt", desc := "(I)I" } : Jvm.MethodName)) ∈ lw_all := lw_g (lw_at lw_m14 37 rfl) rfl
theorem q3312 : (Jvm.Cond.methodLink "CrossbarExchangeLaw" (172 : Nat) ({ cls := "CrossbarExchangeModel", name := "pack", desc := "()I" } : Jvm.MethodName)) ∈ lw_all := lw_g (lw_at lw_m14 41 rfl) rfl
theorem q3316 : (Jvm.Cond.methodLink "CrossbarExchangeLaw" (176 : Nat) ({ cls := "CrossbarExchangeModel", name := "undo", desc := "()I" } : Jvm.MethodName)) ∈ lw_all := lw_g (lw_at lw_m14 45 rfl) rfl
theorem q3320 : (Jvm.Cond.methodLink "CrossbarExchangeLaw" (179 : Nat) ({ cls := "CrossbarExchangeModel", name := "save", desc := "(I)I" } : Jvm.MethodName)) ∈ lw_all := lw_g (lw_at lw_m14 49 rfl) rfl
theorem q3324 : (Jvm.Cond.methodLink "CrossbarExchangeLaw" (182 : Nat) ({ cls := "CrossbarExchangeModel", name := "restore", desc := "(I)I" } : Jvm.MethodName)) ∈ lw_all := lw_g (lw_at lw_m14 53 rfl) rfl
theorem q3328 : (Jvm.Cond.methodLink "CrossbarExchangeLaw" (185 : Nat) ({ cls := "CrossbarExchangeModel", name := "count", desc := "(I)I" } : Jvm.MethodName)) ∈ lw_all := lw_g (lw_at lw_m14 57 rfl) rfl
theorem q3340 : (Jvm.Cond.methodLink "CrossbarExchangeLaw" (188 : Nat) ({ cls := "CrossbarExchangeModel", name := "account", desc := "(I)I" } : Jvm.MethodName)) ∈ lw_all := lw_g (lw_at lw_m14 69 rfl) rfl
theorem q3344 : (Jvm.Cond.methodLink "CrossbarExchangeLaw" (192 : Nat) ({ cls := "CrossbarExchangeModel", name := "subscriber", desc := "(II)I" } : Jvm.MethodName)) ∈ lw_all := lw_g (lw_at lw_m14 73 rfl) rfl
theorem q3352 : (Jvm.Cond.methodLink "CrossbarExchangeLaw" (195 : Nat) ({ cls := "CrossbarExchangeModel", name := "stage", desc := "(II)I" } : Jvm.MethodName)) ∈ lw_all := lw_g (lw_at lw_m14 81 rfl) rfl
theorem q3364 : (Jvm.Cond.methodLink "CrossbarExchangeLaw" (198 : Nat) ({ cls := "CrossbarExchangeModel", name := "middle", desc := "(II)I" } : Jvm.MethodName)) ∈ lw_all := lw_g (lw_at lw_m14 93 rfl) rfl
theorem q3368 : (Jvm.Cond.methodLink "CrossbarExchangeLaw" (202 : Nat) ({ cls := "CrossbarExchangeModel", name := "carried", desc := "(IIZ)I" } : Jvm.MethodName)) ∈ lw_all := lw_g (lw_at lw_m14 97 rfl) rfl
theorem q3372 : (Jvm.Cond.methodLink "CrossbarExchangeLaw" (205 : Nat) ({ cls := "CrossbarExchangeModel", name := "callOf", desc := "(II)I" } : Jvm.MethodName)) ∈ lw_all := lw_g (lw_at lw_m14 101 rfl) rfl
theorem q3376 : (Jvm.Cond.methodLink "CrossbarExchangeLaw" (209 : Nat) ({ cls := "CrossbarExchangeModel", name := "callAt", desc := "(I)I" } : Jvm.MethodName)) ∈ lw_all := lw_g (lw_at lw_m14 105 rfl) rfl
theorem q3380 : (Jvm.Cond.methodLink "CrossbarExchangeLaw" (212 : Nat) ({ cls := "CrossbarExchangeModel", name := "group", desc := "(II)I" } : Jvm.MethodName)) ∈ lw_all := lw_g (lw_at lw_m14 109 rfl) rfl
theorem q3384 : (Jvm.Cond.methodLink "CrossbarExchangeLaw" (215 : Nat) ({ cls := "CrossbarExchangeModel", name := "member", desc := "(II)I" } : Jvm.MethodName)) ∈ lw_all := lw_g (lw_at lw_m14 113 rfl) rfl
theorem q3388 : (Jvm.Cond.methodLink "CrossbarExchangeLaw" (218 : Nat) ({ cls := "CrossbarExchangeModel", name := "waiting", desc := "(II)I" } : Jvm.MethodName)) ∈ lw_all := lw_g (lw_at lw_m14 117 rfl) rfl
theorem q3392 : (Jvm.Cond.methodLink "CrossbarExchangeLaw" (221 : Nat) ({ cls := "CrossbarExchangeModel", name := "open", desc := "(II)I" } : Jvm.MethodName)) ∈ lw_all := lw_g (lw_at lw_m14 121 rfl) rfl
theorem q3396 : (Jvm.Cond.methodLink "CrossbarExchangeLaw" (224 : Nat) ({ cls := "CrossbarExchangeModel", name := "chain", desc := "(III)I" } : Jvm.MethodName)) ∈ lw_all := lw_g (lw_at lw_m14 125 rfl) rfl
theorem q3400 : (Jvm.Cond.methodLink "CrossbarExchangeLaw" (227 : Nat) ({ cls := "CrossbarExchangeModel", name := "why", desc := "(III)I" } : Jvm.MethodName)) ∈ lw_all := lw_g (lw_at lw_m14 129 rfl) rfl
theorem q3408 : (Jvm.Cond.methodLink "CrossbarExchangeLaw" (231 : Nat) ({ cls := "CrossbarExchangeModel", name := "blocked", desc := "()I" } : Jvm.MethodName)) ∈ lw_all := lw_g (lw_at lw_m14 137 rfl) rfl
theorem q3416 : (Jvm.Cond.methodLink "CrossbarExchangeLaw" (235 : Nat) ({ cls := "CrossbarExchangeModel", name := "needed", desc := "()I" } : Jvm.MethodName)) ∈ lw_all := lw_g (lw_at lw_m14 145 rfl) rfl
theorem q3420 : (Jvm.Cond.methodLink "CrossbarExchangeLaw" (240 : Nat) ({ cls := "CrossbarExchangeModel", name := "isFree", desc := "(Z)Z" } : Jvm.MethodName)) ∈ lw_all := lw_g (lw_at lw_m14 149 rfl) rfl
theorem q3424 : (Jvm.Cond.methodLink "CrossbarExchangeLaw" (243 : Nat) ({ cls := "CrossbarExchangeModel", name := "ifCut", desc := "(II)I" } : Jvm.MethodName)) ∈ lw_all := lw_g (lw_at lw_m14 153 rfl) rfl
theorem q3428 : (Jvm.Cond.methodLink "CrossbarExchangeLaw" (247 : Nat) ({ cls := "CrossbarExchangeModel", name := "leastCut", desc := "()I" } : Jvm.MethodName)) ∈ lw_all := lw_g (lw_at lw_m14 157 rfl) rfl
theorem q3436 : (Jvm.Cond.methodLink "CrossbarExchangeLaw" (250 : Nat) ({ cls := "CrossbarExchangeModel", name := "ifPacked", desc := "(I)I" } : Jvm.MethodName)) ∈ lw_all := lw_g (lw_at lw_m14 165 rfl) rfl
theorem q3440 : (Jvm.Cond.methodLink "CrossbarExchangeLaw" (253 : Nat) ({ cls := "CrossbarExchangeModel", name := "callsIn", desc := "(I)I" } : Jvm.MethodName)) ∈ lw_all := lw_g (lw_at lw_m14 169 rfl) rfl
theorem q3444 : (Jvm.Cond.methodLink "CrossbarExchangeLaw" (256 : Nat) ({ cls := "CrossbarExchangeModel", name := "idleIn", desc := "(I)I" } : Jvm.MethodName)) ∈ lw_all := lw_g (lw_at lw_m14 173 rfl) rfl
theorem q3452 : (Jvm.Cond.methodLink "CrossbarExchangeLaw" (259 : Nat) ({ cls := "CrossbarExchangeModel", name := "servedIn", desc := "(I)I" } : Jvm.MethodName)) ∈ lw_all := lw_g (lw_at lw_m14 181 rfl) rfl
theorem q3456 : (Jvm.Cond.methodLink "CrossbarExchangeLaw" (263 : Nat) ({ cls := "CrossbarExchangeModel", name := "gap", desc := "()I" } : Jvm.MethodName)) ∈ lw_all := lw_g (lw_at lw_m14 185 rfl) rfl
theorem q3460 : (Jvm.Cond.methodLink "CrossbarExchangeLaw" (268 : Nat) ({ cls := "CrossbarExchangeModel", name := "fullness", desc := "()F" } : Jvm.MethodName)) ∈ lw_all := lw_g (lw_at lw_m14 189 rfl) rfl
theorem q3464 : (Jvm.Cond.methodLink "CrossbarExchangeLaw" (273 : Nat) ({ cls := "CrossbarExchangeModel", name := "meanChain", desc := "()D" } : Jvm.MethodName)) ∈ lw_all := lw_g (lw_at lw_m14 193 rfl) rfl
theorem q3468 : (Jvm.Cond.methodLink "CrossbarExchangeLaw" (277 : Nat) ({ cls := "CrossbarExchangeModel", name := "writeMiddles", desc := "()I" } : Jvm.MethodName)) ∈ lw_all := lw_g (lw_at lw_m14 197 rfl) rfl
theorem q3476 : (Jvm.Cond.methodLink "CrossbarExchangeLaw" (281 : Nat) ({ cls := "CrossbarExchangeModel", name := "writeCalls", desc := "()I" } : Jvm.MethodName)) ∈ lw_all := lw_g (lw_at lw_m14 205 rfl) rfl
theorem q3484 : (Jvm.Cond.methodLink "CrossbarExchangeLaw" (285 : Nat) ({ cls := "CrossbarExchangeModel", name := "outputByte", desc := "(I)I" } : Jvm.MethodName)) ∈ lw_all := lw_g (lw_at lw_m14 213 rfl) rfl
/-! the law's own entry -/
set_option maxRecDepth 100000
abbrev cL_law : ByteArray := code
def dkwL_law_101 : List UInt8 := [182, 1, 29, 159, 0, 5, 3, 172, 132, 4, 6, 167, 246, 33, 4, 172]
abbrev dktL_law_101 : List UInt8 := dkwL_law_101 ++ []
def dkwL_law_100 : List UInt8 := [159, 0, 30, 3, 172, 43, 42, 21, 4, 4, 96, 46, 182, 1, 26, 44, 42, 21, 4, 4, 96, 46]
abbrev dktL_law_100 : List UInt8 := dkwL_law_100 ++ dktL_law_101
def dkwL_law_99 : List UInt8 := [167, 0, 54, 43, 182, 1, 18, 44, 182, 1, 21, 159, 0, 43, 3, 172, 43, 182, 1, 22, 44, 182, 1, 25]
abbrev dktL_law_99 : List UInt8 := dkwL_law_99 ++ dktL_law_100
def dkwL_law_98 : List UInt8 := [151, 153, 0, 21, 24, 5, 24, 5, 151, 153, 0, 11, 24, 7, 24, 7, 151, 154, 0, 5, 3, 172]
abbrev dktL_law_98 : List UInt8 := dkwL_law_98 ++ dktL_law_99
def dkwL_law_97 : List UInt8 := [154, 0, 5, 3, 172, 167, 0, 95, 43, 182, 1, 13, 57, 5, 44, 182, 1, 17, 57, 7, 24, 5, 24, 7]
abbrev dktL_law_97 : List UInt8 := dkwL_law_97 ++ dktL_law_98
def dkwL_law_96 : List UInt8 := [57, 7, 24, 5, 24, 7, 151, 153, 0, 21, 24, 5, 24, 5, 151, 153, 0, 11, 24, 7, 24, 7, 151]
abbrev dktL_law_96 : List UInt8 := dkwL_law_96 ++ dktL_law_97
def dkwL_law_95 : List UInt8 := [182, 1, 4, 44, 182, 1, 7, 159, 0, 140, 3, 172, 43, 182, 1, 8, 141, 57, 5, 44, 182, 1, 12, 141]
abbrev dktL_law_95 : List UInt8 := dkwL_law_95 ++ dktL_law_96
def dkwL_law_94 : List UInt8 := [172, 21, 5, 154, 0, 15, 45, 3, 47, 21, 6, 133, 148, 153, 0, 5, 3, 172, 167, 0, 151, 43]
abbrev dktL_law_94 : List UInt8 := dkwL_law_94 ++ dktL_law_95
def dkwL_law_93 : List UInt8 := [54, 5, 44, 42, 21, 4, 4, 96, 46, 182, 1, 3, 54, 6, 44, 182, 0, 125, 21, 5, 159, 0, 5, 3]
abbrev dktL_law_93 : List UInt8 := dkwL_law_93 ++ dktL_law_94
def dkwL_law_92 : List UInt8 := [21, 6, 133, 148, 153, 0, 5, 3, 172, 167, 0, 207, 43, 42, 21, 4, 4, 96, 46, 45, 184, 1, 1]
abbrev dktL_law_92 : List UInt8 := dkwL_law_92 ++ dktL_law_93
def dkwL_law_91 : List UInt8 := [182, 1, 0, 54, 6, 44, 182, 0, 125, 21, 5, 159, 0, 5, 3, 172, 21, 5, 154, 0, 15, 45, 3, 47]
abbrev dktL_law_91 : List UInt8 := dkwL_law_91 ++ dktL_law_92
def dkwL_law_90 : List UInt8 := [167, 1, 7, 43, 42, 21, 4, 4, 96, 46, 45, 184, 0, 254, 54, 5, 44, 42, 21, 4, 4, 96, 46]
abbrev dktL_law_90 : List UInt8 := dkwL_law_90 ++ dktL_law_91
def dkwL_law_89 : List UInt8 := [21, 5, 159, 0, 5, 3, 172, 21, 5, 154, 0, 15, 45, 3, 47, 21, 6, 133, 148, 153, 0, 5, 3, 172]
abbrev dktL_law_89 : List UInt8 := dkwL_law_89 ++ dktL_law_90
def dkwL_law_88 : List UInt8 := [46, 45, 184, 0, 251, 54, 5, 44, 42, 21, 4, 4, 96, 46, 182, 0, 253, 54, 6, 44, 182, 0, 125]
abbrev dktL_law_88 : List UInt8 := dkwL_law_88 ++ dktL_law_89
def dkwL_law_87 : List UInt8 := [154, 0, 15, 45, 3, 47, 21, 6, 133, 148, 153, 0, 5, 3, 172, 167, 1, 63, 43, 42, 21, 4, 4, 96]
abbrev dktL_law_87 : List UInt8 := dkwL_law_87 ++ dktL_law_88
def dkwL_law_86 : List UInt8 := [21, 4, 4, 96, 46, 182, 0, 250, 54, 6, 44, 182, 0, 125, 21, 5, 159, 0, 5, 3, 172, 21, 5]
abbrev dktL_law_86 : List UInt8 := dkwL_law_86 ++ dktL_law_87
def dkwL_law_85 : List UInt8 := [182, 0, 247, 159, 1, 121, 3, 172, 43, 42, 21, 4, 4, 96, 46, 45, 184, 0, 248, 54, 5, 44, 42]
abbrev dktL_law_85 : List UInt8 := dkwL_law_85 ++ dktL_law_86
def dkwL_law_84 : List UInt8 := [154, 0, 15, 45, 3, 47, 21, 6, 133, 148, 153, 0, 5, 3, 172, 167, 1, 132, 43, 182, 0, 244, 44]
abbrev dktL_law_84 : List UInt8 := dkwL_law_84 ++ dktL_law_85
def dkwL_law_83 : List UInt8 := [42, 21, 4, 5, 96, 46, 182, 0, 243, 54, 6, 44, 182, 0, 125, 21, 5, 159, 0, 5, 3, 172, 21, 5]
abbrev dktL_law_83 : List UInt8 := dkwL_law_83 ++ dktL_law_84
def dkwL_law_82 : List UInt8 := [21, 4, 4, 96, 46, 42, 21, 4, 5, 96, 46, 45, 184, 0, 241, 54, 5, 44, 42, 21, 4, 4, 96, 46]
abbrev dktL_law_82 : List UInt8 := dkwL_law_82 ++ dktL_law_83
def dkwL_law_81 : List UInt8 := [42, 21, 4, 4, 96, 46, 153, 0, 7, 4, 167, 0, 4, 3, 182, 0, 240, 159, 1, 202, 3, 172, 43, 42]
abbrev dktL_law_81 : List UInt8 := dkwL_law_81 ++ dktL_law_82
def dkwL_law_80 : List UInt8 := [159, 1, 243, 3, 172, 43, 42, 21, 4, 4, 96, 46, 153, 0, 7, 4, 167, 0, 4, 3, 182, 0, 236, 44]
abbrev dktL_law_80 : List UInt8 := dkwL_law_80 ++ dktL_law_81
def dkwL_law_79 : List UInt8 := [167, 2, 11, 43, 182, 0, 228, 44, 182, 0, 231, 159, 2, 0, 3, 172, 43, 182, 0, 232, 44, 182, 0, 235]
abbrev dktL_law_79 : List UInt8 := dkwL_law_79 ++ dktL_law_80
def dkwL_law_78 : List UInt8 := [21, 5, 159, 0, 5, 3, 172, 21, 5, 154, 0, 15, 45, 3, 47, 21, 6, 133, 148, 153, 0, 5, 3, 172]
abbrev dktL_law_78 : List UInt8 := dkwL_law_78 ++ dktL_law_79
def dkwL_law_77 : List UInt8 := [96, 46, 42, 21, 4, 5, 96, 46, 42, 21, 4, 6, 96, 46, 182, 0, 227, 54, 6, 44, 182, 0, 125]
abbrev dktL_law_77 : List UInt8 := dkwL_law_77 ++ dktL_law_78
def dkwL_law_76 : List UInt8 := [46, 42, 21, 4, 5, 96, 46, 42, 21, 4, 6, 96, 46, 45, 184, 0, 225, 54, 5, 44, 42, 21, 4, 4]
abbrev dktL_law_76 : List UInt8 := dkwL_law_76 ++ dktL_law_77
def dkwL_law_75 : List UInt8 := [154, 0, 15, 45, 3, 47, 21, 6, 133, 148, 153, 0, 5, 3, 172, 167, 2, 91, 43, 42, 21, 4, 4, 96]
abbrev dktL_law_75 : List UInt8 := dkwL_law_75 ++ dktL_law_76
def dkwL_law_74 : List UInt8 := [21, 4, 6, 96, 46, 182, 0, 224, 54, 6, 44, 182, 0, 125, 21, 5, 159, 0, 5, 3, 172, 21, 5]
abbrev dktL_law_74 : List UInt8 := dkwL_law_74 ++ dktL_law_75
def dkwL_law_73 : List UInt8 := [6, 96, 46, 45, 184, 0, 222, 54, 5, 44, 42, 21, 4, 4, 96, 46, 42, 21, 4, 5, 96, 46, 42]
abbrev dktL_law_73 : List UInt8 := dkwL_law_73 ++ dktL_law_74
def dkwL_law_72 : List UInt8 := [153, 0, 5, 3, 172, 167, 2, 171, 43, 42, 21, 4, 4, 96, 46, 42, 21, 4, 5, 96, 46, 42, 21, 4]
abbrev dktL_law_72 : List UInt8 := dkwL_law_72 ++ dktL_law_73
def dkwL_law_71 : List UInt8 := [182, 0, 125, 21, 5, 159, 0, 5, 3, 172, 21, 5, 154, 0, 15, 45, 3, 47, 21, 6, 133, 148]
abbrev dktL_law_71 : List UInt8 := dkwL_law_71 ++ dktL_law_72
def dkwL_law_70 : List UInt8 := [184, 0, 219, 54, 5, 44, 42, 21, 4, 4, 96, 46, 42, 21, 4, 5, 96, 46, 182, 0, 221, 54, 6, 44]
abbrev dktL_law_70 : List UInt8 := dkwL_law_70 ++ dktL_law_71
def dkwL_law_69 : List UInt8 := [153, 0, 5, 3, 172, 167, 2, 239, 43, 42, 21, 4, 4, 96, 46, 42, 21, 4, 5, 96, 46, 45]
abbrev dktL_law_69 : List UInt8 := dkwL_law_69 ++ dktL_law_70
def dkwL_law_68 : List UInt8 := [182, 0, 125, 21, 5, 159, 0, 5, 3, 172, 21, 5, 154, 0, 15, 45, 3, 47, 21, 6, 133, 148]
abbrev dktL_law_68 : List UInt8 := dkwL_law_68 ++ dktL_law_69
def dkwL_law_67 : List UInt8 := [184, 0, 216, 54, 5, 44, 42, 21, 4, 4, 96, 46, 42, 21, 4, 5, 96, 46, 182, 0, 218, 54, 6, 44]
abbrev dktL_law_67 : List UInt8 := dkwL_law_67 ++ dktL_law_68
def dkwL_law_66 : List UInt8 := [153, 0, 5, 3, 172, 167, 3, 51, 43, 42, 21, 4, 4, 96, 46, 42, 21, 4, 5, 96, 46, 45]
abbrev dktL_law_66 : List UInt8 := dkwL_law_66 ++ dktL_law_67
def dkwL_law_65 : List UInt8 := [182, 0, 125, 21, 5, 159, 0, 5, 3, 172, 21, 5, 154, 0, 15, 45, 3, 47, 21, 6, 133, 148]
abbrev dktL_law_65 : List UInt8 := dkwL_law_65 ++ dktL_law_66
def dkwL_law_64 : List UInt8 := [184, 0, 213, 54, 5, 44, 42, 21, 4, 4, 96, 46, 42, 21, 4, 5, 96, 46, 182, 0, 215, 54, 6, 44]
abbrev dktL_law_64 : List UInt8 := dkwL_law_64 ++ dktL_law_65
def dkwL_law_63 : List UInt8 := [153, 0, 5, 3, 172, 167, 3, 119, 43, 42, 21, 4, 4, 96, 46, 42, 21, 4, 5, 96, 46, 45]
abbrev dktL_law_63 : List UInt8 := dkwL_law_63 ++ dktL_law_64
def dkwL_law_62 : List UInt8 := [182, 0, 125, 21, 5, 159, 0, 5, 3, 172, 21, 5, 154, 0, 15, 45, 3, 47, 21, 6, 133, 148]
abbrev dktL_law_62 : List UInt8 := dkwL_law_62 ++ dktL_law_63
def dkwL_law_61 : List UInt8 := [184, 0, 210, 54, 5, 44, 42, 21, 4, 4, 96, 46, 42, 21, 4, 5, 96, 46, 182, 0, 212, 54, 6, 44]
abbrev dktL_law_61 : List UInt8 := dkwL_law_61 ++ dktL_law_62
def dkwL_law_60 : List UInt8 := [96, 46, 182, 0, 209, 159, 3, 189, 3, 172, 43, 42, 21, 4, 4, 96, 46, 42, 21, 4, 5, 96, 46, 45]
abbrev dktL_law_60 : List UInt8 := dkwL_law_60 ++ dktL_law_61
def dkwL_law_59 : List UInt8 := [148, 153, 0, 5, 3, 172, 167, 3, 212, 43, 42, 21, 4, 4, 96, 46, 182, 0, 206, 44, 42, 21, 4, 4]
abbrev dktL_law_59 : List UInt8 := dkwL_law_59 ++ dktL_law_60
def dkwL_law_58 : List UInt8 := [54, 6, 44, 182, 0, 125, 21, 5, 159, 0, 5, 3, 172, 21, 5, 154, 0, 15, 45, 3, 47, 21, 6, 133]
abbrev dktL_law_58 : List UInt8 := dkwL_law_58 ++ dktL_law_59
def dkwL_law_57 : List UInt8 := [96, 46, 45, 184, 0, 203, 54, 5, 44, 42, 21, 4, 4, 96, 46, 42, 21, 4, 5, 96, 46, 182, 0, 205]
abbrev dktL_law_57 : List UInt8 := dkwL_law_57 ++ dktL_law_58
def dkwL_law_56 : List UInt8 := [47, 21, 6, 133, 148, 153, 0, 5, 3, 172, 167, 4, 24, 43, 42, 21, 4, 4, 96, 46, 42, 21, 4, 5]
abbrev dktL_law_56 : List UInt8 := dkwL_law_56 ++ dktL_law_57
def dkwL_law_55 : List UInt8 := [3, 182, 0, 202, 54, 6, 44, 182, 0, 125, 21, 5, 159, 0, 5, 3, 172, 21, 5, 154, 0, 15, 45, 3]
abbrev dktL_law_55 : List UInt8 := dkwL_law_55 ++ dktL_law_56
def dkwL_law_54 : List UInt8 := [21, 4, 4, 96, 46, 42, 21, 4, 5, 96, 46, 42, 21, 4, 6, 96, 46, 153, 0, 7, 4, 167, 0, 4]
abbrev dktL_law_54 : List UInt8 := dkwL_law_54 ++ dktL_law_55
def dkwL_law_53 : List UInt8 := [46, 42, 21, 4, 6, 96, 46, 153, 0, 7, 4, 167, 0, 4, 3, 45, 184, 0, 199, 54, 5, 44, 42]
abbrev dktL_law_53 : List UInt8 := dkwL_law_53 ++ dktL_law_54
def dkwL_law_52 : List UInt8 := [21, 6, 133, 148, 153, 0, 5, 3, 172, 167, 4, 120, 43, 42, 21, 4, 4, 96, 46, 42, 21, 4, 5, 96]
abbrev dktL_law_52 : List UInt8 := dkwL_law_52 ++ dktL_law_53
def dkwL_law_51 : List UInt8 := [182, 0, 198, 54, 6, 44, 182, 0, 125, 21, 5, 159, 0, 5, 3, 172, 21, 5, 154, 0, 15, 45, 3, 47]
abbrev dktL_law_51 : List UInt8 := dkwL_law_51 ++ dktL_law_52
def dkwL_law_50 : List UInt8 := [5, 96, 46, 45, 184, 0, 196, 54, 5, 44, 42, 21, 4, 4, 96, 46, 42, 21, 4, 5, 96, 46]
abbrev dktL_law_50 : List UInt8 := dkwL_law_50 ++ dktL_law_51
def dkwL_law_49 : List UInt8 := [3, 47, 21, 6, 133, 148, 153, 0, 5, 3, 172, 167, 4, 188, 43, 42, 21, 4, 4, 96, 46, 42, 21, 4]
abbrev dktL_law_49 : List UInt8 := dkwL_law_49 ++ dktL_law_50
def dkwL_law_48 : List UInt8 := [96, 46, 182, 0, 195, 54, 6, 44, 182, 0, 125, 21, 5, 159, 0, 5, 3, 172, 21, 5, 154, 0, 15, 45]
abbrev dktL_law_48 : List UInt8 := dkwL_law_48 ++ dktL_law_49
def dkwL_law_47 : List UInt8 := [46, 42, 21, 4, 5, 96, 46, 45, 184, 0, 193, 54, 5, 44, 42, 21, 4, 4, 96, 46, 42, 21, 4, 5]
abbrev dktL_law_47 : List UInt8 := dkwL_law_47 ++ dktL_law_48
def dkwL_law_46 : List UInt8 := [154, 0, 15, 45, 3, 47, 21, 6, 133, 148, 153, 0, 5, 3, 172, 167, 5, 0, 43, 42, 21, 4, 4, 96]
abbrev dktL_law_46 : List UInt8 := dkwL_law_46 ++ dktL_law_47
def dkwL_law_45 : List UInt8 := [42, 21, 4, 5, 96, 46, 182, 0, 192, 54, 6, 44, 182, 0, 125, 21, 5, 159, 0, 5, 3, 172, 21, 5]
abbrev dktL_law_45 : List UInt8 := dkwL_law_45 ++ dktL_law_46
def dkwL_law_44 : List UInt8 := [21, 4, 4, 96, 46, 42, 21, 4, 5, 96, 46, 45, 184, 0, 189, 54, 5, 44, 42, 21, 4, 4, 96, 46]
abbrev dktL_law_44 : List UInt8 := dkwL_law_44 ++ dktL_law_45
def dkwL_law_43 : List UInt8 := [172, 21, 5, 154, 0, 15, 45, 3, 47, 21, 6, 133, 148, 153, 0, 5, 3, 172, 167, 5, 68, 43, 42]
abbrev dktL_law_43 : List UInt8 := dkwL_law_43 ++ dktL_law_44
def dkwL_law_42 : List UInt8 := [54, 5, 44, 42, 21, 4, 4, 96, 46, 182, 0, 188, 54, 6, 44, 182, 0, 125, 21, 5, 159, 0, 5, 3]
abbrev dktL_law_42 : List UInt8 := dkwL_law_42 ++ dktL_law_43
def dkwL_law_41 : List UInt8 := [21, 6, 133, 148, 153, 0, 5, 3, 172, 167, 5, 124, 43, 42, 21, 4, 4, 96, 46, 45, 184, 0, 186]
abbrev dktL_law_41 : List UInt8 := dkwL_law_41 ++ dktL_law_42
def dkwL_law_40 : List UInt8 := [182, 0, 185, 54, 6, 44, 182, 0, 125, 21, 5, 159, 0, 5, 3, 172, 21, 5, 154, 0, 15, 45, 3, 47]
abbrev dktL_law_40 : List UInt8 := dkwL_law_40 ++ dktL_law_41
def dkwL_law_39 : List UInt8 := [167, 5, 180, 43, 42, 21, 4, 4, 96, 46, 45, 184, 0, 183, 54, 5, 44, 42, 21, 4, 4, 96, 46]
abbrev dktL_law_39 : List UInt8 := dkwL_law_39 ++ dktL_law_40
def dkwL_law_38 : List UInt8 := [21, 5, 159, 0, 5, 3, 172, 21, 5, 154, 0, 15, 45, 3, 47, 21, 6, 133, 148, 153, 0, 5, 3, 172]
abbrev dktL_law_38 : List UInt8 := dkwL_law_38 ++ dktL_law_39
def dkwL_law_37 : List UInt8 := [46, 45, 184, 0, 180, 54, 5, 44, 42, 21, 4, 4, 96, 46, 182, 0, 182, 54, 6, 44, 182, 0, 125]
abbrev dktL_law_37 : List UInt8 := dkwL_law_37 ++ dktL_law_38
def dkwL_law_36 : List UInt8 := [154, 0, 15, 45, 3, 47, 21, 6, 133, 148, 153, 0, 5, 3, 172, 167, 5, 236, 43, 42, 21, 4, 4, 96]
abbrev dktL_law_36 : List UInt8 := dkwL_law_36 ++ dktL_law_37
def dkwL_law_35 : List UInt8 := [21, 4, 4, 96, 46, 182, 0, 179, 54, 6, 44, 182, 0, 125, 21, 5, 159, 0, 5, 3, 172, 21, 5]
abbrev dktL_law_35 : List UInt8 := dkwL_law_35 ++ dktL_law_36
def dkwL_law_34 : List UInt8 := [148, 153, 0, 5, 3, 172, 167, 6, 36, 43, 42, 21, 4, 4, 96, 46, 45, 184, 0, 177, 54, 5, 44, 42]
abbrev dktL_law_34 : List UInt8 := dkwL_law_34 ++ dktL_law_35
def dkwL_law_33 : List UInt8 := [54, 6, 44, 182, 0, 125, 21, 5, 159, 0, 5, 3, 172, 21, 5, 154, 0, 15, 45, 3, 47, 21, 6, 133]
abbrev dktL_law_33 : List UInt8 := dkwL_law_33 ++ dktL_law_34
def dkwL_law_32 : List UInt8 := [182, 0, 169, 44, 182, 0, 172, 159, 6, 82, 3, 172, 43, 45, 184, 0, 173, 54, 5, 44, 182, 0, 176]
abbrev dktL_law_32 : List UInt8 := dkwL_law_32 ++ dktL_law_33
def dkwL_law_31 : List UInt8 := [172, 21, 5, 154, 0, 15, 45, 3, 47, 21, 6, 133, 148, 153, 0, 5, 3, 172, 167, 6, 93, 43]
abbrev dktL_law_31 : List UInt8 := dkwL_law_31 ++ dktL_law_32
def dkwL_law_30 : List UInt8 := [54, 5, 44, 42, 21, 4, 4, 96, 46, 182, 0, 168, 54, 6, 44, 182, 0, 125, 21, 5, 159, 0, 5, 3]
abbrev dktL_law_30 : List UInt8 := dkwL_law_30 ++ dktL_law_31
def dkwL_law_29 : List UInt8 := [21, 6, 133, 148, 153, 0, 5, 3, 172, 167, 6, 149, 43, 42, 21, 4, 4, 96, 46, 45, 184, 0, 166]
abbrev dktL_law_29 : List UInt8 := dkwL_law_29 ++ dktL_law_30
def dkwL_law_28 : List UInt8 := [182, 0, 165, 54, 6, 44, 182, 0, 125, 21, 5, 159, 0, 5, 3, 172, 21, 5, 154, 0, 15, 45, 3, 47]
abbrev dktL_law_28 : List UInt8 := dkwL_law_28 ++ dktL_law_29
def dkwL_law_27 : List UInt8 := [167, 6, 205, 43, 42, 21, 4, 4, 96, 46, 45, 184, 0, 163, 54, 5, 44, 42, 21, 4, 4, 96, 46]
abbrev dktL_law_27 : List UInt8 := dkwL_law_27 ++ dktL_law_28
def dkwL_law_26 : List UInt8 := [21, 5, 159, 0, 5, 3, 172, 21, 5, 154, 0, 15, 45, 3, 47, 21, 6, 133, 148, 153, 0, 5, 3, 172]
abbrev dktL_law_26 : List UInt8 := dkwL_law_26 ++ dktL_law_27
def dkwL_law_25 : List UInt8 := [46, 45, 184, 0, 160, 54, 5, 44, 42, 21, 4, 4, 96, 46, 182, 0, 162, 54, 6, 44, 182, 0, 125]
abbrev dktL_law_25 : List UInt8 := dkwL_law_25 ++ dktL_law_26
def dkwL_law_24 : List UInt8 := [154, 0, 15, 45, 3, 47, 21, 6, 133, 148, 153, 0, 5, 3, 172, 167, 7, 5, 43, 42, 21, 4, 4, 96]
abbrev dktL_law_24 : List UInt8 := dkwL_law_24 ++ dktL_law_25
def dkwL_law_23 : List UInt8 := [21, 4, 4, 96, 46, 182, 0, 159, 54, 6, 44, 182, 0, 125, 21, 5, 159, 0, 5, 3, 172, 21, 5]
abbrev dktL_law_23 : List UInt8 := dkwL_law_23 ++ dktL_law_24
def dkwL_law_22 : List UInt8 := [153, 0, 5, 3, 172, 167, 7, 61, 43, 42, 21, 4, 4, 96, 46, 45, 184, 0, 157, 54, 5, 44, 42]
abbrev dktL_law_22 : List UInt8 := dkwL_law_22 ++ dktL_law_23
def dkwL_law_21 : List UInt8 := [182, 0, 125, 21, 5, 159, 0, 5, 3, 172, 21, 5, 154, 0, 15, 45, 3, 47, 21, 6, 133, 148]
abbrev dktL_law_21 : List UInt8 := dkwL_law_21 ++ dktL_law_22
def dkwL_law_20 : List UInt8 := [21, 4, 4, 96, 46, 45, 184, 0, 154, 54, 5, 44, 42, 21, 4, 4, 96, 46, 182, 0, 156, 54, 6, 44]
abbrev dktL_law_20 : List UInt8 := dkwL_law_20 ++ dktL_law_21
def dkwL_law_19 : List UInt8 := [172, 21, 5, 154, 0, 15, 45, 3, 47, 21, 6, 133, 148, 153, 0, 5, 3, 172, 167, 7, 117, 43, 42]
abbrev dktL_law_19 : List UInt8 := dkwL_law_19 ++ dktL_law_20
def dkwL_law_18 : List UInt8 := [54, 5, 44, 42, 21, 4, 4, 96, 46, 182, 0, 153, 54, 6, 44, 182, 0, 125, 21, 5, 159, 0, 5, 3]
abbrev dktL_law_18 : List UInt8 := dkwL_law_18 ++ dktL_law_19
def dkwL_law_17 : List UInt8 := [21, 6, 133, 148, 153, 0, 5, 3, 172, 167, 7, 173, 43, 42, 21, 4, 4, 96, 46, 45, 184, 0, 151]
abbrev dktL_law_17 : List UInt8 := dkwL_law_17 ++ dktL_law_18
def dkwL_law_16 : List UInt8 := [182, 0, 150, 54, 6, 44, 182, 0, 125, 21, 5, 159, 0, 5, 3, 172, 21, 5, 154, 0, 15, 45, 3, 47]
abbrev dktL_law_16 : List UInt8 := dkwL_law_16 ++ dktL_law_17
def dkwL_law_15 : List UInt8 := [184, 0, 148, 54, 5, 44, 42, 21, 4, 4, 96, 46, 42, 21, 4, 5, 96, 46, 42, 21, 4, 6, 96, 46]
abbrev dktL_law_15 : List UInt8 := dkwL_law_15 ++ dktL_law_16
def dkwL_law_14 : List UInt8 := [167, 7, 253, 43, 42, 21, 4, 4, 96, 46, 42, 21, 4, 5, 96, 46, 42, 21, 4, 6, 96, 46, 45]
abbrev dktL_law_14 : List UInt8 := dkwL_law_14 ++ dktL_law_15
def dkwL_law_13 : List UInt8 := [159, 0, 5, 3, 172, 21, 5, 154, 0, 15, 45, 3, 47, 21, 6, 133, 148, 153, 0, 5, 3, 172]
abbrev dktL_law_13 : List UInt8 := dkwL_law_13 ++ dktL_law_14
def dkwL_law_12 : List UInt8 := [21, 4, 5, 96, 46, 42, 21, 4, 6, 96, 46, 182, 0, 147, 54, 6, 44, 182, 0, 125, 21, 5]
abbrev dktL_law_12 : List UInt8 := dkwL_law_12 ++ dktL_law_13
def dkwL_law_11 : List UInt8 := [5, 96, 46, 42, 21, 4, 6, 96, 46, 45, 184, 0, 144, 54, 5, 44, 42, 21, 4, 4, 96, 46, 42]
abbrev dktL_law_11 : List UInt8 := dkwL_law_11 ++ dktL_law_12
def dkwL_law_10 : List UInt8 := [172, 43, 182, 0, 140, 44, 182, 0, 143, 159, 8, 79, 3, 172, 43, 42, 21, 4, 4, 96, 46, 42, 21, 4]
abbrev dktL_law_10 : List UInt8 := dkwL_law_10 ++ dktL_law_11
def dkwL_law_9 : List UInt8 := [182, 0, 132, 44, 182, 0, 135, 159, 8, 105, 3, 172, 43, 182, 0, 136, 44, 182, 0, 139, 159, 8, 92, 3]
abbrev dktL_law_9 : List UInt8 := dkwL_law_9 ++ dktL_law_10
def dkwL_law_8 : List UInt8 := [148, 153, 0, 5, 3, 172, 167, 8, 129, 43, 182, 0, 128, 44, 182, 0, 131, 159, 8, 118, 3, 172, 43]
abbrev dktL_law_8 : List UInt8 := dkwL_law_8 ++ dktL_law_9
def dkwL_law_7 : List UInt8 := [54, 6, 44, 182, 0, 125, 21, 5, 159, 0, 5, 3, 172, 21, 5, 154, 0, 15, 45, 3, 47, 21, 6, 133]
abbrev dktL_law_7 : List UInt8 := dkwL_law_7 ++ dktL_law_8
def dkwL_law_6 : List UInt8 := [172, 43, 42, 21, 4, 4, 96, 46, 45, 184, 0, 119, 54, 5, 44, 42, 21, 4, 4, 96, 46, 182, 0, 124]
abbrev dktL_law_6 : List UInt8 := dkwL_law_6 ++ dktL_law_7
def dkwL_law_5 : List UInt8 := [21, 4, 6, 96, 46, 42, 21, 4, 7, 96, 46, 42, 21, 4, 8, 96, 46, 182, 0, 118, 159, 8, 187, 3]
abbrev dktL_law_5 : List UInt8 := dkwL_law_5 ++ dktL_law_6
def dkwL_law_4 : List UInt8 := [46, 42, 21, 4, 8, 96, 46, 182, 0, 114, 44, 42, 21, 4, 4, 96, 46, 42, 21, 4, 5, 96, 46, 42]
abbrev dktL_law_4 : List UInt8 := dkwL_law_4 ++ dktL_law_5
def dkwL_law_3 : List UInt8 := [43, 42, 21, 4, 4, 96, 46, 42, 21, 4, 5, 96, 46, 42, 21, 4, 6, 96, 46, 42, 21, 4, 7, 96]
abbrev dktL_law_3 : List UInt8 := dkwL_law_3 ++ dktL_law_4
def dkwL_law_2 : List UInt8 := [170, 0, 0, 0, 0, 0, 9, 203, 0, 0, 0, 0, 0, 0, 0, 46, 0, 0, 0, 204, 0, 0, 1, 21, 0, 0, 1, 77, 0, 0, 1, 90, 0, 0, 1, 103, 0, 0, 1, 116, 0, 0, 1, 129, 0, 0, 1, 209, 0, 0, 2, 33, 0, 0, 2, 89, 0, 0, 2, 145, 0, 0, 2, 201, 0, 0, 3, 1, 0, 0, 3, 57, 0, 0, 3, 113, 0, 0, 3, 126, 0, 0, 3, 170, 0, 0, 3, 226, 0, 0, 4, 26, 0, 0, 4, 82, 0, 0, 4, 138, 0, 0, 4, 206, 0, 0, 5, 18, 0, 0, 5, 86, 0, 0, 5, 182, 0, 0, 5, 250, 0, 0, 6, 19, 0, 0, 6, 87, 0, 0, 6, 155, 0, 0, 6, 223, 0, 0, 7, 35, 0, 0, 7, 115, 0, 0, 7, 195, 0, 0, 7, 208, 0, 0, 7, 221, 0, 0, 8, 6, 0, 0, 8, 74, 0, 0, 8, 87, 0, 0, 8, 143, 0, 0, 8, 199, 0, 0, 8, 255, 0, 0, 9, 55, 0, 0, 9, 68, 0, 0, 9, 111, 0, 0, 9, 152, 0, 0, 9, 165, 0, 0, 9, 178]
abbrev dktL_law_2 : List UInt8 := dkwL_law_2 ++ dktL_law_3
def dkwL_law_1 : List UInt8 := [21, 4, 42, 190, 16, 6, 100, 163, 9, 219, 42, 21, 4, 46, 16, 63, 126]
abbrev dktL_law_1 : List UInt8 := dkwL_law_1 ++ dktL_law_2
def dkwL_law_0 : List UInt8 := [187, 0, 8, 89, 183, 0, 110, 76, 187, 0, 111, 89, 183, 0, 113, 77, 4, 188, 11, 78, 3, 54, 4]
abbrev dktL_law_0 : List UInt8 := dkwL_law_0 ++ dktL_law_1
theorem dksL_law_0 : cL_law.data.toList.drop 0 = dktL_law_0 := by decide +kernel
theorem dksL_law_1 : cL_law.data.toList.drop 23 = dktL_law_1 := dk_seg dksL_law_0 23 rfl rfl
theorem dksL_law_2 : cL_law.data.toList.drop 40 = dktL_law_2 := dk_seg dksL_law_1 17 rfl rfl
theorem dksL_law_3 : cL_law.data.toList.drop 244 = dktL_law_3 := dk_seg dksL_law_2 204 rfl rfl
theorem dksL_law_4 : cL_law.data.toList.drop 268 = dktL_law_4 := dk_seg dksL_law_3 24 rfl rfl
theorem dksL_law_5 : cL_law.data.toList.drop 292 = dktL_law_5 := dk_seg dksL_law_4 24 rfl rfl
theorem dksL_law_6 : cL_law.data.toList.drop 316 = dktL_law_6 := dk_seg dksL_law_5 24 rfl rfl
theorem dksL_law_7 : cL_law.data.toList.drop 340 = dktL_law_7 := dk_seg dksL_law_6 24 rfl rfl
theorem dksL_law_8 : cL_law.data.toList.drop 364 = dktL_law_8 := dk_seg dksL_law_7 24 rfl rfl
theorem dksL_law_9 : cL_law.data.toList.drop 387 = dktL_law_9 := dk_seg dksL_law_8 23 rfl rfl
theorem dksL_law_10 : cL_law.data.toList.drop 411 = dktL_law_10 := dk_seg dksL_law_9 24 rfl rfl
theorem dksL_law_11 : cL_law.data.toList.drop 435 = dktL_law_11 := dk_seg dksL_law_10 24 rfl rfl
theorem dksL_law_12 : cL_law.data.toList.drop 458 = dktL_law_12 := dk_seg dksL_law_11 23 rfl rfl
theorem dksL_law_13 : cL_law.data.toList.drop 480 = dktL_law_13 := dk_seg dksL_law_12 22 rfl rfl
theorem dksL_law_14 : cL_law.data.toList.drop 502 = dktL_law_14 := dk_seg dksL_law_13 22 rfl rfl
theorem dksL_law_15 : cL_law.data.toList.drop 525 = dktL_law_15 := dk_seg dksL_law_14 23 rfl rfl
theorem dksL_law_16 : cL_law.data.toList.drop 549 = dktL_law_16 := dk_seg dksL_law_15 24 rfl rfl
theorem dksL_law_17 : cL_law.data.toList.drop 573 = dktL_law_17 := dk_seg dksL_law_16 24 rfl rfl
theorem dksL_law_18 : cL_law.data.toList.drop 596 = dktL_law_18 := dk_seg dksL_law_17 23 rfl rfl
theorem dksL_law_19 : cL_law.data.toList.drop 620 = dktL_law_19 := dk_seg dksL_law_18 24 rfl rfl
theorem dksL_law_20 : cL_law.data.toList.drop 643 = dktL_law_20 := dk_seg dksL_law_19 23 rfl rfl
theorem dksL_law_21 : cL_law.data.toList.drop 667 = dktL_law_21 := dk_seg dksL_law_20 24 rfl rfl
theorem dksL_law_22 : cL_law.data.toList.drop 689 = dktL_law_22 := dk_seg dksL_law_21 22 rfl rfl
theorem dksL_law_23 : cL_law.data.toList.drop 712 = dktL_law_23 := dk_seg dksL_law_22 23 rfl rfl
theorem dksL_law_24 : cL_law.data.toList.drop 735 = dktL_law_24 := dk_seg dksL_law_23 23 rfl rfl
theorem dksL_law_25 : cL_law.data.toList.drop 759 = dktL_law_25 := dk_seg dksL_law_24 24 rfl rfl
theorem dksL_law_26 : cL_law.data.toList.drop 782 = dktL_law_26 := dk_seg dksL_law_25 23 rfl rfl
theorem dksL_law_27 : cL_law.data.toList.drop 806 = dktL_law_27 := dk_seg dksL_law_26 24 rfl rfl
theorem dksL_law_28 : cL_law.data.toList.drop 829 = dktL_law_28 := dk_seg dksL_law_27 23 rfl rfl
theorem dksL_law_29 : cL_law.data.toList.drop 853 = dktL_law_29 := dk_seg dksL_law_28 24 rfl rfl
theorem dksL_law_30 : cL_law.data.toList.drop 876 = dktL_law_30 := dk_seg dksL_law_29 23 rfl rfl
theorem dksL_law_31 : cL_law.data.toList.drop 900 = dktL_law_31 := dk_seg dksL_law_30 24 rfl rfl
theorem dksL_law_32 : cL_law.data.toList.drop 922 = dktL_law_32 := dk_seg dksL_law_31 22 rfl rfl
theorem dksL_law_33 : cL_law.data.toList.drop 945 = dktL_law_33 := dk_seg dksL_law_32 23 rfl rfl
theorem dksL_law_34 : cL_law.data.toList.drop 969 = dktL_law_34 := dk_seg dksL_law_33 24 rfl rfl
theorem dksL_law_35 : cL_law.data.toList.drop 993 = dktL_law_35 := dk_seg dksL_law_34 24 rfl rfl
theorem dksL_law_36 : cL_law.data.toList.drop 1016 = dktL_law_36 := dk_seg dksL_law_35 23 rfl rfl
theorem dksL_law_37 : cL_law.data.toList.drop 1040 = dktL_law_37 := dk_seg dksL_law_36 24 rfl rfl
theorem dksL_law_38 : cL_law.data.toList.drop 1063 = dktL_law_38 := dk_seg dksL_law_37 23 rfl rfl
theorem dksL_law_39 : cL_law.data.toList.drop 1087 = dktL_law_39 := dk_seg dksL_law_38 24 rfl rfl
theorem dksL_law_40 : cL_law.data.toList.drop 1110 = dktL_law_40 := dk_seg dksL_law_39 23 rfl rfl
theorem dksL_law_41 : cL_law.data.toList.drop 1134 = dktL_law_41 := dk_seg dksL_law_40 24 rfl rfl
theorem dksL_law_42 : cL_law.data.toList.drop 1157 = dktL_law_42 := dk_seg dksL_law_41 23 rfl rfl
theorem dksL_law_43 : cL_law.data.toList.drop 1181 = dktL_law_43 := dk_seg dksL_law_42 24 rfl rfl
theorem dksL_law_44 : cL_law.data.toList.drop 1204 = dktL_law_44 := dk_seg dksL_law_43 23 rfl rfl
theorem dksL_law_45 : cL_law.data.toList.drop 1228 = dktL_law_45 := dk_seg dksL_law_44 24 rfl rfl
theorem dksL_law_46 : cL_law.data.toList.drop 1252 = dktL_law_46 := dk_seg dksL_law_45 24 rfl rfl
theorem dksL_law_47 : cL_law.data.toList.drop 1276 = dktL_law_47 := dk_seg dksL_law_46 24 rfl rfl
theorem dksL_law_48 : cL_law.data.toList.drop 1300 = dktL_law_48 := dk_seg dksL_law_47 24 rfl rfl
theorem dksL_law_49 : cL_law.data.toList.drop 1324 = dktL_law_49 := dk_seg dksL_law_48 24 rfl rfl
theorem dksL_law_50 : cL_law.data.toList.drop 1348 = dktL_law_50 := dk_seg dksL_law_49 24 rfl rfl
theorem dksL_law_51 : cL_law.data.toList.drop 1370 = dktL_law_51 := dk_seg dksL_law_50 22 rfl rfl
theorem dksL_law_52 : cL_law.data.toList.drop 1394 = dktL_law_52 := dk_seg dksL_law_51 24 rfl rfl
theorem dksL_law_53 : cL_law.data.toList.drop 1418 = dktL_law_53 := dk_seg dksL_law_52 24 rfl rfl
theorem dksL_law_54 : cL_law.data.toList.drop 1441 = dktL_law_54 := dk_seg dksL_law_53 23 rfl rfl
theorem dksL_law_55 : cL_law.data.toList.drop 1465 = dktL_law_55 := dk_seg dksL_law_54 24 rfl rfl
theorem dksL_law_56 : cL_law.data.toList.drop 1489 = dktL_law_56 := dk_seg dksL_law_55 24 rfl rfl
theorem dksL_law_57 : cL_law.data.toList.drop 1513 = dktL_law_57 := dk_seg dksL_law_56 24 rfl rfl
theorem dksL_law_58 : cL_law.data.toList.drop 1537 = dktL_law_58 := dk_seg dksL_law_57 24 rfl rfl
theorem dksL_law_59 : cL_law.data.toList.drop 1561 = dktL_law_59 := dk_seg dksL_law_58 24 rfl rfl
theorem dksL_law_60 : cL_law.data.toList.drop 1585 = dktL_law_60 := dk_seg dksL_law_59 24 rfl rfl
theorem dksL_law_61 : cL_law.data.toList.drop 1609 = dktL_law_61 := dk_seg dksL_law_60 24 rfl rfl
theorem dksL_law_62 : cL_law.data.toList.drop 1633 = dktL_law_62 := dk_seg dksL_law_61 24 rfl rfl
theorem dksL_law_63 : cL_law.data.toList.drop 1655 = dktL_law_63 := dk_seg dksL_law_62 22 rfl rfl
theorem dksL_law_64 : cL_law.data.toList.drop 1677 = dktL_law_64 := dk_seg dksL_law_63 22 rfl rfl
theorem dksL_law_65 : cL_law.data.toList.drop 1701 = dktL_law_65 := dk_seg dksL_law_64 24 rfl rfl
theorem dksL_law_66 : cL_law.data.toList.drop 1723 = dktL_law_66 := dk_seg dksL_law_65 22 rfl rfl
theorem dksL_law_67 : cL_law.data.toList.drop 1745 = dktL_law_67 := dk_seg dksL_law_66 22 rfl rfl
theorem dksL_law_68 : cL_law.data.toList.drop 1769 = dktL_law_68 := dk_seg dksL_law_67 24 rfl rfl
theorem dksL_law_69 : cL_law.data.toList.drop 1791 = dktL_law_69 := dk_seg dksL_law_68 22 rfl rfl
theorem dksL_law_70 : cL_law.data.toList.drop 1813 = dktL_law_70 := dk_seg dksL_law_69 22 rfl rfl
theorem dksL_law_71 : cL_law.data.toList.drop 1837 = dktL_law_71 := dk_seg dksL_law_70 24 rfl rfl
theorem dksL_law_72 : cL_law.data.toList.drop 1859 = dktL_law_72 := dk_seg dksL_law_71 22 rfl rfl
theorem dksL_law_73 : cL_law.data.toList.drop 1883 = dktL_law_73 := dk_seg dksL_law_72 24 rfl rfl
theorem dksL_law_74 : cL_law.data.toList.drop 1906 = dktL_law_74 := dk_seg dksL_law_73 23 rfl rfl
theorem dksL_law_75 : cL_law.data.toList.drop 1929 = dktL_law_75 := dk_seg dksL_law_74 23 rfl rfl
theorem dksL_law_76 : cL_law.data.toList.drop 1953 = dktL_law_76 := dk_seg dksL_law_75 24 rfl rfl
theorem dksL_law_77 : cL_law.data.toList.drop 1977 = dktL_law_77 := dk_seg dksL_law_76 24 rfl rfl
theorem dksL_law_78 : cL_law.data.toList.drop 2000 = dktL_law_78 := dk_seg dksL_law_77 23 rfl rfl
theorem dksL_law_79 : cL_law.data.toList.drop 2024 = dktL_law_79 := dk_seg dksL_law_78 24 rfl rfl
theorem dksL_law_80 : cL_law.data.toList.drop 2048 = dktL_law_80 := dk_seg dksL_law_79 24 rfl rfl
theorem dksL_law_81 : cL_law.data.toList.drop 2072 = dktL_law_81 := dk_seg dksL_law_80 24 rfl rfl
theorem dksL_law_82 : cL_law.data.toList.drop 2096 = dktL_law_82 := dk_seg dksL_law_81 24 rfl rfl
theorem dksL_law_83 : cL_law.data.toList.drop 2120 = dktL_law_83 := dk_seg dksL_law_82 24 rfl rfl
theorem dksL_law_84 : cL_law.data.toList.drop 2144 = dktL_law_84 := dk_seg dksL_law_83 24 rfl rfl
theorem dksL_law_85 : cL_law.data.toList.drop 2167 = dktL_law_85 := dk_seg dksL_law_84 23 rfl rfl
theorem dksL_law_86 : cL_law.data.toList.drop 2190 = dktL_law_86 := dk_seg dksL_law_85 23 rfl rfl
theorem dksL_law_87 : cL_law.data.toList.drop 2213 = dktL_law_87 := dk_seg dksL_law_86 23 rfl rfl
theorem dksL_law_88 : cL_law.data.toList.drop 2237 = dktL_law_88 := dk_seg dksL_law_87 24 rfl rfl
theorem dksL_law_89 : cL_law.data.toList.drop 2260 = dktL_law_89 := dk_seg dksL_law_88 23 rfl rfl
theorem dksL_law_90 : cL_law.data.toList.drop 2284 = dktL_law_90 := dk_seg dksL_law_89 24 rfl rfl
theorem dksL_law_91 : cL_law.data.toList.drop 2307 = dktL_law_91 := dk_seg dksL_law_90 23 rfl rfl
theorem dksL_law_92 : cL_law.data.toList.drop 2331 = dktL_law_92 := dk_seg dksL_law_91 24 rfl rfl
theorem dksL_law_93 : cL_law.data.toList.drop 2354 = dktL_law_93 := dk_seg dksL_law_92 23 rfl rfl
theorem dksL_law_94 : cL_law.data.toList.drop 2378 = dktL_law_94 := dk_seg dksL_law_93 24 rfl rfl
theorem dksL_law_95 : cL_law.data.toList.drop 2400 = dktL_law_95 := dk_seg dksL_law_94 22 rfl rfl
theorem dksL_law_96 : cL_law.data.toList.drop 2424 = dktL_law_96 := dk_seg dksL_law_95 24 rfl rfl
theorem dksL_law_97 : cL_law.data.toList.drop 2447 = dktL_law_97 := dk_seg dksL_law_96 23 rfl rfl
theorem dksL_law_98 : cL_law.data.toList.drop 2471 = dktL_law_98 := dk_seg dksL_law_97 24 rfl rfl
theorem dksL_law_99 : cL_law.data.toList.drop 2493 = dktL_law_99 := dk_seg dksL_law_98 22 rfl rfl
theorem dksL_law_100 : cL_law.data.toList.drop 2517 = dktL_law_100 := dk_seg dksL_law_99 24 rfl rfl
theorem dksL_law_101 : cL_law.data.toList.drop 2539 = dktL_law_101 := dk_seg dksL_law_100 22 rfl rfl
theorem dL_law_0 : decode cL_law 0 = .ok (.new 8, 3) := dk_187 0 8 (dk_at dksL_law_0 0 rfl rfl)
theorem dL_law_3 : decode cL_law 3 = .ok (.dup, 1) := dk_89 (dk_at dksL_law_0 3 rfl rfl)
theorem dL_law_4 : decode cL_law 4 = .ok (.invokespecial 110, 3) := dk_183 0 110 (dk_at dksL_law_0 4 rfl rfl)
theorem dL_law_7 : decode cL_law 7 = .ok (.astore_n 1, 1) := dk_76 (dk_at dksL_law_0 7 rfl rfl)
theorem dL_law_8 : decode cL_law 8 = .ok (.new 111, 3) := dk_187 0 111 (dk_at dksL_law_0 8 rfl rfl)
theorem dL_law_11 : decode cL_law 11 = .ok (.dup, 1) := dk_89 (dk_at dksL_law_0 11 rfl rfl)
theorem dL_law_12 : decode cL_law 12 = .ok (.invokespecial 113, 3) := dk_183 0 113 (dk_at dksL_law_0 12 rfl rfl)
theorem dL_law_15 : decode cL_law 15 = .ok (.astore_n 2, 1) := dk_77 (dk_at dksL_law_0 15 rfl rfl)
theorem dL_law_16 : decode cL_law 16 = .ok (.iconst 1, 1) := dk_4 (dk_at dksL_law_0 16 rfl rfl)
theorem dL_law_17 : decode cL_law 17 = .ok (.newarray .long, 2) := dk_188_11 (dk_at dksL_law_0 17 rfl rfl)
theorem dL_law_19 : decode cL_law 19 = .ok (.astore_n 3, 1) := dk_78 (dk_at dksL_law_0 19 rfl rfl)
theorem dL_law_20 : decode cL_law 20 = .ok (.iconst 0, 1) := dk_3 (dk_at dksL_law_0 20 rfl rfl)
theorem dL_law_21 : decode cL_law 21 = .ok (.istore 4, 2) := dk_54 4 (dk_at dksL_law_0 21 rfl rfl)
theorem dL_law_23 : decode cL_law 23 = .ok (.iload 4, 2) := dk_21 4 (dk_at dksL_law_1 0 rfl rfl)
theorem dL_law_25 : decode cL_law 25 = .ok (.aload_n 0, 1) := dk_42 (dk_at dksL_law_1 2 rfl rfl)
theorem dL_law_26 : decode cL_law 26 = .ok (.arraylength, 1) := dk_190 (dk_at dksL_law_1 3 rfl rfl)
theorem dL_law_27 : decode cL_law 27 = .ok (.bipush 6, 2) := dk_16 6 (dk_at dksL_law_1 4 rfl rfl)
theorem dL_law_29 : decode cL_law 29 = .ok (.isub, 1) := dk_100 (dk_at dksL_law_1 6 rfl rfl)
theorem dL_law_30 : decode cL_law 30 = .ok (.if_icmp .gt 2523, 3) := dk_163 9 219 (dk_at dksL_law_1 7 rfl rfl)
theorem dL_law_33 : decode cL_law 33 = .ok (.aload_n 0, 1) := dk_42 (dk_at dksL_law_1 10 rfl rfl)
theorem dL_law_34 : decode cL_law 34 = .ok (.iload 4, 2) := dk_21 4 (dk_at dksL_law_1 11 rfl rfl)
theorem dL_law_36 : decode cL_law 36 = .ok (.iaload, 1) := dk_46 (dk_at dksL_law_1 13 rfl rfl)
theorem dL_law_37 : decode cL_law 37 = .ok (.bipush 63, 2) := dk_16 63 (dk_at dksL_law_1 14 rfl rfl)
theorem dL_law_39 : decode cL_law 39 = .ok (.iand, 1) := dk_126 (dk_at dksL_law_1 16 rfl rfl)
theorem dL_law_40 : decode cL_law 40 = .ok (.tableswitch 2507 0 46 #[204, 277, 333, 346, 359, 372, 385, 465, 545, 601, 657, 713, 769, 825, 881, 894, 938, 994, 1050, 1106, 1162, 1230, 1298, 1366, 1462, 1530, 1555, 1623, 1691, 1759, 1827, 1907, 1987, 2000, 2013, 2054, 2122, 2135, 2191, 2247, 2303, 2359, 2372, 2415, 2456, 2469, 2482], 204) := by decide +kernel
theorem dL_law_244 : decode cL_law 244 = .ok (.aload_n 1, 1) := dk_43 (dk_at dksL_law_3 0 rfl rfl)
theorem dL_law_245 : decode cL_law 245 = .ok (.aload_n 0, 1) := dk_42 (dk_at dksL_law_3 1 rfl rfl)
theorem dL_law_246 : decode cL_law 246 = .ok (.iload 4, 2) := dk_21 4 (dk_at dksL_law_3 2 rfl rfl)
theorem dL_law_248 : decode cL_law 248 = .ok (.iconst 1, 1) := dk_4 (dk_at dksL_law_3 4 rfl rfl)
theorem dL_law_249 : decode cL_law 249 = .ok (.iadd, 1) := dk_96 (dk_at dksL_law_3 5 rfl rfl)
theorem dL_law_250 : decode cL_law 250 = .ok (.iaload, 1) := dk_46 (dk_at dksL_law_3 6 rfl rfl)
theorem dL_law_251 : decode cL_law 251 = .ok (.aload_n 0, 1) := dk_42 (dk_at dksL_law_3 7 rfl rfl)
theorem dL_law_252 : decode cL_law 252 = .ok (.iload 4, 2) := dk_21 4 (dk_at dksL_law_3 8 rfl rfl)
theorem dL_law_254 : decode cL_law 254 = .ok (.iconst 2, 1) := dk_5 (dk_at dksL_law_3 10 rfl rfl)
theorem dL_law_255 : decode cL_law 255 = .ok (.iadd, 1) := dk_96 (dk_at dksL_law_3 11 rfl rfl)
theorem dL_law_256 : decode cL_law 256 = .ok (.iaload, 1) := dk_46 (dk_at dksL_law_3 12 rfl rfl)
theorem dL_law_257 : decode cL_law 257 = .ok (.aload_n 0, 1) := dk_42 (dk_at dksL_law_3 13 rfl rfl)
theorem dL_law_258 : decode cL_law 258 = .ok (.iload 4, 2) := dk_21 4 (dk_at dksL_law_3 14 rfl rfl)
theorem dL_law_260 : decode cL_law 260 = .ok (.iconst 3, 1) := dk_6 (dk_at dksL_law_3 16 rfl rfl)
theorem dL_law_261 : decode cL_law 261 = .ok (.iadd, 1) := dk_96 (dk_at dksL_law_3 17 rfl rfl)
theorem dL_law_262 : decode cL_law 262 = .ok (.iaload, 1) := dk_46 (dk_at dksL_law_3 18 rfl rfl)
theorem dL_law_263 : decode cL_law 263 = .ok (.aload_n 0, 1) := dk_42 (dk_at dksL_law_3 19 rfl rfl)
theorem dL_law_264 : decode cL_law 264 = .ok (.iload 4, 2) := dk_21 4 (dk_at dksL_law_3 20 rfl rfl)
theorem dL_law_266 : decode cL_law 266 = .ok (.iconst 4, 1) := dk_7 (dk_at dksL_law_3 22 rfl rfl)
theorem dL_law_267 : decode cL_law 267 = .ok (.iadd, 1) := dk_96 (dk_at dksL_law_3 23 rfl rfl)
theorem dL_law_268 : decode cL_law 268 = .ok (.iaload, 1) := dk_46 (dk_at dksL_law_4 0 rfl rfl)
theorem dL_law_269 : decode cL_law 269 = .ok (.aload_n 0, 1) := dk_42 (dk_at dksL_law_4 1 rfl rfl)
theorem dL_law_270 : decode cL_law 270 = .ok (.iload 4, 2) := dk_21 4 (dk_at dksL_law_4 2 rfl rfl)
theorem dL_law_272 : decode cL_law 272 = .ok (.iconst 5, 1) := dk_8 (dk_at dksL_law_4 4 rfl rfl)
theorem dL_law_273 : decode cL_law 273 = .ok (.iadd, 1) := dk_96 (dk_at dksL_law_4 5 rfl rfl)
theorem dL_law_274 : decode cL_law 274 = .ok (.iaload, 1) := dk_46 (dk_at dksL_law_4 6 rfl rfl)
theorem dL_law_275 : decode cL_law 275 = .ok (.invokevirtual 114, 3) := dk_182 0 114 (dk_at dksL_law_4 7 rfl rfl)
theorem dL_law_278 : decode cL_law 278 = .ok (.aload_n 2, 1) := dk_44 (dk_at dksL_law_4 10 rfl rfl)
theorem dL_law_279 : decode cL_law 279 = .ok (.aload_n 0, 1) := dk_42 (dk_at dksL_law_4 11 rfl rfl)
theorem dL_law_280 : decode cL_law 280 = .ok (.iload 4, 2) := dk_21 4 (dk_at dksL_law_4 12 rfl rfl)
theorem dL_law_282 : decode cL_law 282 = .ok (.iconst 1, 1) := dk_4 (dk_at dksL_law_4 14 rfl rfl)
theorem dL_law_283 : decode cL_law 283 = .ok (.iadd, 1) := dk_96 (dk_at dksL_law_4 15 rfl rfl)
theorem dL_law_284 : decode cL_law 284 = .ok (.iaload, 1) := dk_46 (dk_at dksL_law_4 16 rfl rfl)
theorem dL_law_285 : decode cL_law 285 = .ok (.aload_n 0, 1) := dk_42 (dk_at dksL_law_4 17 rfl rfl)
theorem dL_law_286 : decode cL_law 286 = .ok (.iload 4, 2) := dk_21 4 (dk_at dksL_law_4 18 rfl rfl)
theorem dL_law_288 : decode cL_law 288 = .ok (.iconst 2, 1) := dk_5 (dk_at dksL_law_4 20 rfl rfl)
theorem dL_law_289 : decode cL_law 289 = .ok (.iadd, 1) := dk_96 (dk_at dksL_law_4 21 rfl rfl)
theorem dL_law_290 : decode cL_law 290 = .ok (.iaload, 1) := dk_46 (dk_at dksL_law_4 22 rfl rfl)
theorem dL_law_291 : decode cL_law 291 = .ok (.aload_n 0, 1) := dk_42 (dk_at dksL_law_4 23 rfl rfl)
theorem dL_law_292 : decode cL_law 292 = .ok (.iload 4, 2) := dk_21 4 (dk_at dksL_law_5 0 rfl rfl)
theorem dL_law_294 : decode cL_law 294 = .ok (.iconst 3, 1) := dk_6 (dk_at dksL_law_5 2 rfl rfl)
theorem dL_law_295 : decode cL_law 295 = .ok (.iadd, 1) := dk_96 (dk_at dksL_law_5 3 rfl rfl)
theorem dL_law_296 : decode cL_law 296 = .ok (.iaload, 1) := dk_46 (dk_at dksL_law_5 4 rfl rfl)
theorem dL_law_297 : decode cL_law 297 = .ok (.aload_n 0, 1) := dk_42 (dk_at dksL_law_5 5 rfl rfl)
theorem dL_law_298 : decode cL_law 298 = .ok (.iload 4, 2) := dk_21 4 (dk_at dksL_law_5 6 rfl rfl)
theorem dL_law_300 : decode cL_law 300 = .ok (.iconst 4, 1) := dk_7 (dk_at dksL_law_5 8 rfl rfl)
theorem dL_law_301 : decode cL_law 301 = .ok (.iadd, 1) := dk_96 (dk_at dksL_law_5 9 rfl rfl)
theorem dL_law_302 : decode cL_law 302 = .ok (.iaload, 1) := dk_46 (dk_at dksL_law_5 10 rfl rfl)
theorem dL_law_303 : decode cL_law 303 = .ok (.aload_n 0, 1) := dk_42 (dk_at dksL_law_5 11 rfl rfl)
theorem dL_law_304 : decode cL_law 304 = .ok (.iload 4, 2) := dk_21 4 (dk_at dksL_law_5 12 rfl rfl)
theorem dL_law_306 : decode cL_law 306 = .ok (.iconst 5, 1) := dk_8 (dk_at dksL_law_5 14 rfl rfl)
theorem dL_law_307 : decode cL_law 307 = .ok (.iadd, 1) := dk_96 (dk_at dksL_law_5 15 rfl rfl)
theorem dL_law_308 : decode cL_law 308 = .ok (.iaload, 1) := dk_46 (dk_at dksL_law_5 16 rfl rfl)
theorem dL_law_309 : decode cL_law 309 = .ok (.invokevirtual 118, 3) := dk_182 0 118 (dk_at dksL_law_5 17 rfl rfl)
theorem dL_law_312 : decode cL_law 312 = .ok (.if_icmp .eq 2235, 3) := dk_159 8 187 (dk_at dksL_law_5 20 rfl rfl)
theorem dL_law_315 : decode cL_law 315 = .ok (.iconst 0, 1) := dk_3 (dk_at dksL_law_5 23 rfl rfl)
theorem dL_law_316 : decode cL_law 316 = .ok (.ireturn, 1) := dk_172 (dk_at dksL_law_6 0 rfl rfl)
theorem dL_law_317 : decode cL_law 317 = .ok (.aload_n 1, 1) := dk_43 (dk_at dksL_law_6 1 rfl rfl)
theorem dL_law_318 : decode cL_law 318 = .ok (.aload_n 0, 1) := dk_42 (dk_at dksL_law_6 2 rfl rfl)
theorem dL_law_319 : decode cL_law 319 = .ok (.iload 4, 2) := dk_21 4 (dk_at dksL_law_6 3 rfl rfl)
theorem dL_law_321 : decode cL_law 321 = .ok (.iconst 1, 1) := dk_4 (dk_at dksL_law_6 5 rfl rfl)
theorem dL_law_322 : decode cL_law 322 = .ok (.iadd, 1) := dk_96 (dk_at dksL_law_6 6 rfl rfl)
theorem dL_law_323 : decode cL_law 323 = .ok (.iaload, 1) := dk_46 (dk_at dksL_law_6 7 rfl rfl)
theorem dL_law_324 : decode cL_law 324 = .ok (.aload_n 3, 1) := dk_45 (dk_at dksL_law_6 8 rfl rfl)
theorem dL_law_325 : decode cL_law 325 = .ok (.invokestatic 119, 3) := dk_184 0 119 (dk_at dksL_law_6 9 rfl rfl)
theorem dL_law_328 : decode cL_law 328 = .ok (.istore 5, 2) := dk_54 5 (dk_at dksL_law_6 12 rfl rfl)
theorem dL_law_330 : decode cL_law 330 = .ok (.aload_n 2, 1) := dk_44 (dk_at dksL_law_6 14 rfl rfl)
theorem dL_law_331 : decode cL_law 331 = .ok (.aload_n 0, 1) := dk_42 (dk_at dksL_law_6 15 rfl rfl)
theorem dL_law_332 : decode cL_law 332 = .ok (.iload 4, 2) := dk_21 4 (dk_at dksL_law_6 16 rfl rfl)
theorem dL_law_334 : decode cL_law 334 = .ok (.iconst 1, 1) := dk_4 (dk_at dksL_law_6 18 rfl rfl)
theorem dL_law_335 : decode cL_law 335 = .ok (.iadd, 1) := dk_96 (dk_at dksL_law_6 19 rfl rfl)
theorem dL_law_336 : decode cL_law 336 = .ok (.iaload, 1) := dk_46 (dk_at dksL_law_6 20 rfl rfl)
theorem dL_law_337 : decode cL_law 337 = .ok (.invokevirtual 124, 3) := dk_182 0 124 (dk_at dksL_law_6 21 rfl rfl)
theorem dL_law_340 : decode cL_law 340 = .ok (.istore 6, 2) := dk_54 6 (dk_at dksL_law_7 0 rfl rfl)
theorem dL_law_342 : decode cL_law 342 = .ok (.aload_n 2, 1) := dk_44 (dk_at dksL_law_7 2 rfl rfl)
theorem dL_law_343 : decode cL_law 343 = .ok (.invokevirtual 125, 3) := dk_182 0 125 (dk_at dksL_law_7 3 rfl rfl)
theorem dL_law_346 : decode cL_law 346 = .ok (.iload 5, 2) := dk_21 5 (dk_at dksL_law_7 6 rfl rfl)
theorem dL_law_348 : decode cL_law 348 = .ok (.if_icmp .eq 5, 3) := dk_159 0 5 (dk_at dksL_law_7 8 rfl rfl)
theorem dL_law_351 : decode cL_law 351 = .ok (.iconst 0, 1) := dk_3 (dk_at dksL_law_7 11 rfl rfl)
theorem dL_law_352 : decode cL_law 352 = .ok (.ireturn, 1) := dk_172 (dk_at dksL_law_7 12 rfl rfl)
theorem dL_law_353 : decode cL_law 353 = .ok (.iload 5, 2) := dk_21 5 (dk_at dksL_law_7 13 rfl rfl)
theorem dL_law_355 : decode cL_law 355 = .ok (.ifCond .ne 15, 3) := dk_154 0 15 (dk_at dksL_law_7 15 rfl rfl)
theorem dL_law_358 : decode cL_law 358 = .ok (.aload_n 3, 1) := dk_45 (dk_at dksL_law_7 18 rfl rfl)
theorem dL_law_359 : decode cL_law 359 = .ok (.iconst 0, 1) := dk_3 (dk_at dksL_law_7 19 rfl rfl)
theorem dL_law_360 : decode cL_law 360 = .ok (.laload, 1) := dk_47 (dk_at dksL_law_7 20 rfl rfl)
theorem dL_law_361 : decode cL_law 361 = .ok (.iload 6, 2) := dk_21 6 (dk_at dksL_law_7 21 rfl rfl)
theorem dL_law_363 : decode cL_law 363 = .ok (.i2l, 1) := dk_133 (dk_at dksL_law_7 23 rfl rfl)
theorem dL_law_364 : decode cL_law 364 = .ok (.lcmp, 1) := dk_148 (dk_at dksL_law_8 0 rfl rfl)
theorem dL_law_365 : decode cL_law 365 = .ok (.ifCond .eq 5, 3) := dk_153 0 5 (dk_at dksL_law_8 1 rfl rfl)
theorem dL_law_368 : decode cL_law 368 = .ok (.iconst 0, 1) := dk_3 (dk_at dksL_law_8 4 rfl rfl)
theorem dL_law_369 : decode cL_law 369 = .ok (.ireturn, 1) := dk_172 (dk_at dksL_law_8 5 rfl rfl)
theorem dL_law_370 : decode cL_law 370 = .ok (.goto 2177, 3) := dk_167 8 129 (dk_at dksL_law_8 6 rfl rfl)
theorem dL_law_373 : decode cL_law 373 = .ok (.aload_n 1, 1) := dk_43 (dk_at dksL_law_8 9 rfl rfl)
theorem dL_law_374 : decode cL_law 374 = .ok (.invokevirtual 128, 3) := dk_182 0 128 (dk_at dksL_law_8 10 rfl rfl)
theorem dL_law_377 : decode cL_law 377 = .ok (.aload_n 2, 1) := dk_44 (dk_at dksL_law_8 13 rfl rfl)
theorem dL_law_378 : decode cL_law 378 = .ok (.invokevirtual 131, 3) := dk_182 0 131 (dk_at dksL_law_8 14 rfl rfl)
theorem dL_law_381 : decode cL_law 381 = .ok (.if_icmp .eq 2166, 3) := dk_159 8 118 (dk_at dksL_law_8 17 rfl rfl)
theorem dL_law_384 : decode cL_law 384 = .ok (.iconst 0, 1) := dk_3 (dk_at dksL_law_8 20 rfl rfl)
theorem dL_law_385 : decode cL_law 385 = .ok (.ireturn, 1) := dk_172 (dk_at dksL_law_8 21 rfl rfl)
theorem dL_law_386 : decode cL_law 386 = .ok (.aload_n 1, 1) := dk_43 (dk_at dksL_law_8 22 rfl rfl)
theorem dL_law_387 : decode cL_law 387 = .ok (.invokevirtual 132, 3) := dk_182 0 132 (dk_at dksL_law_9 0 rfl rfl)
theorem dL_law_390 : decode cL_law 390 = .ok (.aload_n 2, 1) := dk_44 (dk_at dksL_law_9 3 rfl rfl)
theorem dL_law_391 : decode cL_law 391 = .ok (.invokevirtual 135, 3) := dk_182 0 135 (dk_at dksL_law_9 4 rfl rfl)
theorem dL_law_394 : decode cL_law 394 = .ok (.if_icmp .eq 2153, 3) := dk_159 8 105 (dk_at dksL_law_9 7 rfl rfl)
theorem dL_law_397 : decode cL_law 397 = .ok (.iconst 0, 1) := dk_3 (dk_at dksL_law_9 10 rfl rfl)
theorem dL_law_398 : decode cL_law 398 = .ok (.ireturn, 1) := dk_172 (dk_at dksL_law_9 11 rfl rfl)
theorem dL_law_399 : decode cL_law 399 = .ok (.aload_n 1, 1) := dk_43 (dk_at dksL_law_9 12 rfl rfl)
theorem dL_law_400 : decode cL_law 400 = .ok (.invokevirtual 136, 3) := dk_182 0 136 (dk_at dksL_law_9 13 rfl rfl)
theorem dL_law_403 : decode cL_law 403 = .ok (.aload_n 2, 1) := dk_44 (dk_at dksL_law_9 16 rfl rfl)
theorem dL_law_404 : decode cL_law 404 = .ok (.invokevirtual 139, 3) := dk_182 0 139 (dk_at dksL_law_9 17 rfl rfl)
theorem dL_law_407 : decode cL_law 407 = .ok (.if_icmp .eq 2140, 3) := dk_159 8 92 (dk_at dksL_law_9 20 rfl rfl)
theorem dL_law_410 : decode cL_law 410 = .ok (.iconst 0, 1) := dk_3 (dk_at dksL_law_9 23 rfl rfl)
theorem dL_law_411 : decode cL_law 411 = .ok (.ireturn, 1) := dk_172 (dk_at dksL_law_10 0 rfl rfl)
theorem dL_law_412 : decode cL_law 412 = .ok (.aload_n 1, 1) := dk_43 (dk_at dksL_law_10 1 rfl rfl)
theorem dL_law_413 : decode cL_law 413 = .ok (.invokevirtual 140, 3) := dk_182 0 140 (dk_at dksL_law_10 2 rfl rfl)
theorem dL_law_416 : decode cL_law 416 = .ok (.aload_n 2, 1) := dk_44 (dk_at dksL_law_10 5 rfl rfl)
theorem dL_law_417 : decode cL_law 417 = .ok (.invokevirtual 143, 3) := dk_182 0 143 (dk_at dksL_law_10 6 rfl rfl)
theorem dL_law_420 : decode cL_law 420 = .ok (.if_icmp .eq 2127, 3) := dk_159 8 79 (dk_at dksL_law_10 9 rfl rfl)
theorem dL_law_423 : decode cL_law 423 = .ok (.iconst 0, 1) := dk_3 (dk_at dksL_law_10 12 rfl rfl)
theorem dL_law_424 : decode cL_law 424 = .ok (.ireturn, 1) := dk_172 (dk_at dksL_law_10 13 rfl rfl)
theorem dL_law_425 : decode cL_law 425 = .ok (.aload_n 1, 1) := dk_43 (dk_at dksL_law_10 14 rfl rfl)
theorem dL_law_426 : decode cL_law 426 = .ok (.aload_n 0, 1) := dk_42 (dk_at dksL_law_10 15 rfl rfl)
theorem dL_law_427 : decode cL_law 427 = .ok (.iload 4, 2) := dk_21 4 (dk_at dksL_law_10 16 rfl rfl)
theorem dL_law_429 : decode cL_law 429 = .ok (.iconst 1, 1) := dk_4 (dk_at dksL_law_10 18 rfl rfl)
theorem dL_law_430 : decode cL_law 430 = .ok (.iadd, 1) := dk_96 (dk_at dksL_law_10 19 rfl rfl)
theorem dL_law_431 : decode cL_law 431 = .ok (.iaload, 1) := dk_46 (dk_at dksL_law_10 20 rfl rfl)
theorem dL_law_432 : decode cL_law 432 = .ok (.aload_n 0, 1) := dk_42 (dk_at dksL_law_10 21 rfl rfl)
theorem dL_law_433 : decode cL_law 433 = .ok (.iload 4, 2) := dk_21 4 (dk_at dksL_law_10 22 rfl rfl)
theorem dL_law_435 : decode cL_law 435 = .ok (.iconst 2, 1) := dk_5 (dk_at dksL_law_11 0 rfl rfl)
theorem dL_law_436 : decode cL_law 436 = .ok (.iadd, 1) := dk_96 (dk_at dksL_law_11 1 rfl rfl)
theorem dL_law_437 : decode cL_law 437 = .ok (.iaload, 1) := dk_46 (dk_at dksL_law_11 2 rfl rfl)
theorem dL_law_438 : decode cL_law 438 = .ok (.aload_n 0, 1) := dk_42 (dk_at dksL_law_11 3 rfl rfl)
theorem dL_law_439 : decode cL_law 439 = .ok (.iload 4, 2) := dk_21 4 (dk_at dksL_law_11 4 rfl rfl)
theorem dL_law_441 : decode cL_law 441 = .ok (.iconst 3, 1) := dk_6 (dk_at dksL_law_11 6 rfl rfl)
theorem dL_law_442 : decode cL_law 442 = .ok (.iadd, 1) := dk_96 (dk_at dksL_law_11 7 rfl rfl)
theorem dL_law_443 : decode cL_law 443 = .ok (.iaload, 1) := dk_46 (dk_at dksL_law_11 8 rfl rfl)
theorem dL_law_444 : decode cL_law 444 = .ok (.aload_n 3, 1) := dk_45 (dk_at dksL_law_11 9 rfl rfl)
theorem dL_law_445 : decode cL_law 445 = .ok (.invokestatic 144, 3) := dk_184 0 144 (dk_at dksL_law_11 10 rfl rfl)
theorem dL_law_448 : decode cL_law 448 = .ok (.istore 5, 2) := dk_54 5 (dk_at dksL_law_11 13 rfl rfl)
theorem dL_law_450 : decode cL_law 450 = .ok (.aload_n 2, 1) := dk_44 (dk_at dksL_law_11 15 rfl rfl)
theorem dL_law_451 : decode cL_law 451 = .ok (.aload_n 0, 1) := dk_42 (dk_at dksL_law_11 16 rfl rfl)
theorem dL_law_452 : decode cL_law 452 = .ok (.iload 4, 2) := dk_21 4 (dk_at dksL_law_11 17 rfl rfl)
theorem dL_law_454 : decode cL_law 454 = .ok (.iconst 1, 1) := dk_4 (dk_at dksL_law_11 19 rfl rfl)
theorem dL_law_455 : decode cL_law 455 = .ok (.iadd, 1) := dk_96 (dk_at dksL_law_11 20 rfl rfl)
theorem dL_law_456 : decode cL_law 456 = .ok (.iaload, 1) := dk_46 (dk_at dksL_law_11 21 rfl rfl)
theorem dL_law_457 : decode cL_law 457 = .ok (.aload_n 0, 1) := dk_42 (dk_at dksL_law_11 22 rfl rfl)
theorem dL_law_458 : decode cL_law 458 = .ok (.iload 4, 2) := dk_21 4 (dk_at dksL_law_12 0 rfl rfl)
theorem dL_law_460 : decode cL_law 460 = .ok (.iconst 2, 1) := dk_5 (dk_at dksL_law_12 2 rfl rfl)
theorem dL_law_461 : decode cL_law 461 = .ok (.iadd, 1) := dk_96 (dk_at dksL_law_12 3 rfl rfl)
theorem dL_law_462 : decode cL_law 462 = .ok (.iaload, 1) := dk_46 (dk_at dksL_law_12 4 rfl rfl)
theorem dL_law_463 : decode cL_law 463 = .ok (.aload_n 0, 1) := dk_42 (dk_at dksL_law_12 5 rfl rfl)
theorem dL_law_464 : decode cL_law 464 = .ok (.iload 4, 2) := dk_21 4 (dk_at dksL_law_12 6 rfl rfl)
theorem dL_law_466 : decode cL_law 466 = .ok (.iconst 3, 1) := dk_6 (dk_at dksL_law_12 8 rfl rfl)
theorem dL_law_467 : decode cL_law 467 = .ok (.iadd, 1) := dk_96 (dk_at dksL_law_12 9 rfl rfl)
theorem dL_law_468 : decode cL_law 468 = .ok (.iaload, 1) := dk_46 (dk_at dksL_law_12 10 rfl rfl)
theorem dL_law_469 : decode cL_law 469 = .ok (.invokevirtual 147, 3) := dk_182 0 147 (dk_at dksL_law_12 11 rfl rfl)
theorem dL_law_472 : decode cL_law 472 = .ok (.istore 6, 2) := dk_54 6 (dk_at dksL_law_12 14 rfl rfl)
theorem dL_law_474 : decode cL_law 474 = .ok (.aload_n 2, 1) := dk_44 (dk_at dksL_law_12 16 rfl rfl)
theorem dL_law_475 : decode cL_law 475 = .ok (.invokevirtual 125, 3) := dk_182 0 125 (dk_at dksL_law_12 17 rfl rfl)
theorem dL_law_478 : decode cL_law 478 = .ok (.iload 5, 2) := dk_21 5 (dk_at dksL_law_12 20 rfl rfl)
theorem dL_law_480 : decode cL_law 480 = .ok (.if_icmp .eq 5, 3) := dk_159 0 5 (dk_at dksL_law_13 0 rfl rfl)
theorem dL_law_483 : decode cL_law 483 = .ok (.iconst 0, 1) := dk_3 (dk_at dksL_law_13 3 rfl rfl)
theorem dL_law_484 : decode cL_law 484 = .ok (.ireturn, 1) := dk_172 (dk_at dksL_law_13 4 rfl rfl)
theorem dL_law_485 : decode cL_law 485 = .ok (.iload 5, 2) := dk_21 5 (dk_at dksL_law_13 5 rfl rfl)
theorem dL_law_487 : decode cL_law 487 = .ok (.ifCond .ne 15, 3) := dk_154 0 15 (dk_at dksL_law_13 7 rfl rfl)
theorem dL_law_490 : decode cL_law 490 = .ok (.aload_n 3, 1) := dk_45 (dk_at dksL_law_13 10 rfl rfl)
theorem dL_law_491 : decode cL_law 491 = .ok (.iconst 0, 1) := dk_3 (dk_at dksL_law_13 11 rfl rfl)
theorem dL_law_492 : decode cL_law 492 = .ok (.laload, 1) := dk_47 (dk_at dksL_law_13 12 rfl rfl)
theorem dL_law_493 : decode cL_law 493 = .ok (.iload 6, 2) := dk_21 6 (dk_at dksL_law_13 13 rfl rfl)
theorem dL_law_495 : decode cL_law 495 = .ok (.i2l, 1) := dk_133 (dk_at dksL_law_13 15 rfl rfl)
theorem dL_law_496 : decode cL_law 496 = .ok (.lcmp, 1) := dk_148 (dk_at dksL_law_13 16 rfl rfl)
theorem dL_law_497 : decode cL_law 497 = .ok (.ifCond .eq 5, 3) := dk_153 0 5 (dk_at dksL_law_13 17 rfl rfl)
theorem dL_law_500 : decode cL_law 500 = .ok (.iconst 0, 1) := dk_3 (dk_at dksL_law_13 20 rfl rfl)
theorem dL_law_501 : decode cL_law 501 = .ok (.ireturn, 1) := dk_172 (dk_at dksL_law_13 21 rfl rfl)
theorem dL_law_502 : decode cL_law 502 = .ok (.goto 2045, 3) := dk_167 7 253 (dk_at dksL_law_14 0 rfl rfl)
theorem dL_law_505 : decode cL_law 505 = .ok (.aload_n 1, 1) := dk_43 (dk_at dksL_law_14 3 rfl rfl)
theorem dL_law_506 : decode cL_law 506 = .ok (.aload_n 0, 1) := dk_42 (dk_at dksL_law_14 4 rfl rfl)
theorem dL_law_507 : decode cL_law 507 = .ok (.iload 4, 2) := dk_21 4 (dk_at dksL_law_14 5 rfl rfl)
theorem dL_law_509 : decode cL_law 509 = .ok (.iconst 1, 1) := dk_4 (dk_at dksL_law_14 7 rfl rfl)
theorem dL_law_510 : decode cL_law 510 = .ok (.iadd, 1) := dk_96 (dk_at dksL_law_14 8 rfl rfl)
theorem dL_law_511 : decode cL_law 511 = .ok (.iaload, 1) := dk_46 (dk_at dksL_law_14 9 rfl rfl)
theorem dL_law_512 : decode cL_law 512 = .ok (.aload_n 0, 1) := dk_42 (dk_at dksL_law_14 10 rfl rfl)
theorem dL_law_513 : decode cL_law 513 = .ok (.iload 4, 2) := dk_21 4 (dk_at dksL_law_14 11 rfl rfl)
theorem dL_law_515 : decode cL_law 515 = .ok (.iconst 2, 1) := dk_5 (dk_at dksL_law_14 13 rfl rfl)
theorem dL_law_516 : decode cL_law 516 = .ok (.iadd, 1) := dk_96 (dk_at dksL_law_14 14 rfl rfl)
theorem dL_law_517 : decode cL_law 517 = .ok (.iaload, 1) := dk_46 (dk_at dksL_law_14 15 rfl rfl)
theorem dL_law_518 : decode cL_law 518 = .ok (.aload_n 0, 1) := dk_42 (dk_at dksL_law_14 16 rfl rfl)
theorem dL_law_519 : decode cL_law 519 = .ok (.iload 4, 2) := dk_21 4 (dk_at dksL_law_14 17 rfl rfl)
theorem dL_law_521 : decode cL_law 521 = .ok (.iconst 3, 1) := dk_6 (dk_at dksL_law_14 19 rfl rfl)
theorem dL_law_522 : decode cL_law 522 = .ok (.iadd, 1) := dk_96 (dk_at dksL_law_14 20 rfl rfl)
theorem dL_law_523 : decode cL_law 523 = .ok (.iaload, 1) := dk_46 (dk_at dksL_law_14 21 rfl rfl)
theorem dL_law_524 : decode cL_law 524 = .ok (.aload_n 3, 1) := dk_45 (dk_at dksL_law_14 22 rfl rfl)
theorem dL_law_525 : decode cL_law 525 = .ok (.invokestatic 148, 3) := dk_184 0 148 (dk_at dksL_law_15 0 rfl rfl)
theorem dL_law_528 : decode cL_law 528 = .ok (.istore 5, 2) := dk_54 5 (dk_at dksL_law_15 3 rfl rfl)
theorem dL_law_530 : decode cL_law 530 = .ok (.aload_n 2, 1) := dk_44 (dk_at dksL_law_15 5 rfl rfl)
theorem dL_law_531 : decode cL_law 531 = .ok (.aload_n 0, 1) := dk_42 (dk_at dksL_law_15 6 rfl rfl)
theorem dL_law_532 : decode cL_law 532 = .ok (.iload 4, 2) := dk_21 4 (dk_at dksL_law_15 7 rfl rfl)
theorem dL_law_534 : decode cL_law 534 = .ok (.iconst 1, 1) := dk_4 (dk_at dksL_law_15 9 rfl rfl)
theorem dL_law_535 : decode cL_law 535 = .ok (.iadd, 1) := dk_96 (dk_at dksL_law_15 10 rfl rfl)
theorem dL_law_536 : decode cL_law 536 = .ok (.iaload, 1) := dk_46 (dk_at dksL_law_15 11 rfl rfl)
theorem dL_law_537 : decode cL_law 537 = .ok (.aload_n 0, 1) := dk_42 (dk_at dksL_law_15 12 rfl rfl)
theorem dL_law_538 : decode cL_law 538 = .ok (.iload 4, 2) := dk_21 4 (dk_at dksL_law_15 13 rfl rfl)
theorem dL_law_540 : decode cL_law 540 = .ok (.iconst 2, 1) := dk_5 (dk_at dksL_law_15 15 rfl rfl)
theorem dL_law_541 : decode cL_law 541 = .ok (.iadd, 1) := dk_96 (dk_at dksL_law_15 16 rfl rfl)
theorem dL_law_542 : decode cL_law 542 = .ok (.iaload, 1) := dk_46 (dk_at dksL_law_15 17 rfl rfl)
theorem dL_law_543 : decode cL_law 543 = .ok (.aload_n 0, 1) := dk_42 (dk_at dksL_law_15 18 rfl rfl)
theorem dL_law_544 : decode cL_law 544 = .ok (.iload 4, 2) := dk_21 4 (dk_at dksL_law_15 19 rfl rfl)
theorem dL_law_546 : decode cL_law 546 = .ok (.iconst 3, 1) := dk_6 (dk_at dksL_law_15 21 rfl rfl)
theorem dL_law_547 : decode cL_law 547 = .ok (.iadd, 1) := dk_96 (dk_at dksL_law_15 22 rfl rfl)
theorem dL_law_548 : decode cL_law 548 = .ok (.iaload, 1) := dk_46 (dk_at dksL_law_15 23 rfl rfl)
theorem dL_law_549 : decode cL_law 549 = .ok (.invokevirtual 150, 3) := dk_182 0 150 (dk_at dksL_law_16 0 rfl rfl)
theorem dL_law_552 : decode cL_law 552 = .ok (.istore 6, 2) := dk_54 6 (dk_at dksL_law_16 3 rfl rfl)
theorem dL_law_554 : decode cL_law 554 = .ok (.aload_n 2, 1) := dk_44 (dk_at dksL_law_16 5 rfl rfl)
theorem dL_law_555 : decode cL_law 555 = .ok (.invokevirtual 125, 3) := dk_182 0 125 (dk_at dksL_law_16 6 rfl rfl)
theorem dL_law_558 : decode cL_law 558 = .ok (.iload 5, 2) := dk_21 5 (dk_at dksL_law_16 9 rfl rfl)
theorem dL_law_560 : decode cL_law 560 = .ok (.if_icmp .eq 5, 3) := dk_159 0 5 (dk_at dksL_law_16 11 rfl rfl)
theorem dL_law_563 : decode cL_law 563 = .ok (.iconst 0, 1) := dk_3 (dk_at dksL_law_16 14 rfl rfl)
theorem dL_law_564 : decode cL_law 564 = .ok (.ireturn, 1) := dk_172 (dk_at dksL_law_16 15 rfl rfl)
theorem dL_law_565 : decode cL_law 565 = .ok (.iload 5, 2) := dk_21 5 (dk_at dksL_law_16 16 rfl rfl)
theorem dL_law_567 : decode cL_law 567 = .ok (.ifCond .ne 15, 3) := dk_154 0 15 (dk_at dksL_law_16 18 rfl rfl)
theorem dL_law_570 : decode cL_law 570 = .ok (.aload_n 3, 1) := dk_45 (dk_at dksL_law_16 21 rfl rfl)
theorem dL_law_571 : decode cL_law 571 = .ok (.iconst 0, 1) := dk_3 (dk_at dksL_law_16 22 rfl rfl)
theorem dL_law_572 : decode cL_law 572 = .ok (.laload, 1) := dk_47 (dk_at dksL_law_16 23 rfl rfl)
theorem dL_law_573 : decode cL_law 573 = .ok (.iload 6, 2) := dk_21 6 (dk_at dksL_law_17 0 rfl rfl)
theorem dL_law_575 : decode cL_law 575 = .ok (.i2l, 1) := dk_133 (dk_at dksL_law_17 2 rfl rfl)
theorem dL_law_576 : decode cL_law 576 = .ok (.lcmp, 1) := dk_148 (dk_at dksL_law_17 3 rfl rfl)
theorem dL_law_577 : decode cL_law 577 = .ok (.ifCond .eq 5, 3) := dk_153 0 5 (dk_at dksL_law_17 4 rfl rfl)
theorem dL_law_580 : decode cL_law 580 = .ok (.iconst 0, 1) := dk_3 (dk_at dksL_law_17 7 rfl rfl)
theorem dL_law_581 : decode cL_law 581 = .ok (.ireturn, 1) := dk_172 (dk_at dksL_law_17 8 rfl rfl)
theorem dL_law_582 : decode cL_law 582 = .ok (.goto 1965, 3) := dk_167 7 173 (dk_at dksL_law_17 9 rfl rfl)
theorem dL_law_585 : decode cL_law 585 = .ok (.aload_n 1, 1) := dk_43 (dk_at dksL_law_17 12 rfl rfl)
theorem dL_law_586 : decode cL_law 586 = .ok (.aload_n 0, 1) := dk_42 (dk_at dksL_law_17 13 rfl rfl)
theorem dL_law_587 : decode cL_law 587 = .ok (.iload 4, 2) := dk_21 4 (dk_at dksL_law_17 14 rfl rfl)
theorem dL_law_589 : decode cL_law 589 = .ok (.iconst 1, 1) := dk_4 (dk_at dksL_law_17 16 rfl rfl)
theorem dL_law_590 : decode cL_law 590 = .ok (.iadd, 1) := dk_96 (dk_at dksL_law_17 17 rfl rfl)
theorem dL_law_591 : decode cL_law 591 = .ok (.iaload, 1) := dk_46 (dk_at dksL_law_17 18 rfl rfl)
theorem dL_law_592 : decode cL_law 592 = .ok (.aload_n 3, 1) := dk_45 (dk_at dksL_law_17 19 rfl rfl)
theorem dL_law_593 : decode cL_law 593 = .ok (.invokestatic 151, 3) := dk_184 0 151 (dk_at dksL_law_17 20 rfl rfl)
theorem dL_law_596 : decode cL_law 596 = .ok (.istore 5, 2) := dk_54 5 (dk_at dksL_law_18 0 rfl rfl)
theorem dL_law_598 : decode cL_law 598 = .ok (.aload_n 2, 1) := dk_44 (dk_at dksL_law_18 2 rfl rfl)
theorem dL_law_599 : decode cL_law 599 = .ok (.aload_n 0, 1) := dk_42 (dk_at dksL_law_18 3 rfl rfl)
theorem dL_law_600 : decode cL_law 600 = .ok (.iload 4, 2) := dk_21 4 (dk_at dksL_law_18 4 rfl rfl)
theorem dL_law_602 : decode cL_law 602 = .ok (.iconst 1, 1) := dk_4 (dk_at dksL_law_18 6 rfl rfl)
theorem dL_law_603 : decode cL_law 603 = .ok (.iadd, 1) := dk_96 (dk_at dksL_law_18 7 rfl rfl)
theorem dL_law_604 : decode cL_law 604 = .ok (.iaload, 1) := dk_46 (dk_at dksL_law_18 8 rfl rfl)
theorem dL_law_605 : decode cL_law 605 = .ok (.invokevirtual 153, 3) := dk_182 0 153 (dk_at dksL_law_18 9 rfl rfl)
theorem dL_law_608 : decode cL_law 608 = .ok (.istore 6, 2) := dk_54 6 (dk_at dksL_law_18 12 rfl rfl)
theorem dL_law_610 : decode cL_law 610 = .ok (.aload_n 2, 1) := dk_44 (dk_at dksL_law_18 14 rfl rfl)
theorem dL_law_611 : decode cL_law 611 = .ok (.invokevirtual 125, 3) := dk_182 0 125 (dk_at dksL_law_18 15 rfl rfl)
theorem dL_law_614 : decode cL_law 614 = .ok (.iload 5, 2) := dk_21 5 (dk_at dksL_law_18 18 rfl rfl)
theorem dL_law_616 : decode cL_law 616 = .ok (.if_icmp .eq 5, 3) := dk_159 0 5 (dk_at dksL_law_18 20 rfl rfl)
theorem dL_law_619 : decode cL_law 619 = .ok (.iconst 0, 1) := dk_3 (dk_at dksL_law_18 23 rfl rfl)
theorem dL_law_620 : decode cL_law 620 = .ok (.ireturn, 1) := dk_172 (dk_at dksL_law_19 0 rfl rfl)
theorem dL_law_621 : decode cL_law 621 = .ok (.iload 5, 2) := dk_21 5 (dk_at dksL_law_19 1 rfl rfl)
theorem dL_law_623 : decode cL_law 623 = .ok (.ifCond .ne 15, 3) := dk_154 0 15 (dk_at dksL_law_19 3 rfl rfl)
theorem dL_law_626 : decode cL_law 626 = .ok (.aload_n 3, 1) := dk_45 (dk_at dksL_law_19 6 rfl rfl)
theorem dL_law_627 : decode cL_law 627 = .ok (.iconst 0, 1) := dk_3 (dk_at dksL_law_19 7 rfl rfl)
theorem dL_law_628 : decode cL_law 628 = .ok (.laload, 1) := dk_47 (dk_at dksL_law_19 8 rfl rfl)
theorem dL_law_629 : decode cL_law 629 = .ok (.iload 6, 2) := dk_21 6 (dk_at dksL_law_19 9 rfl rfl)
theorem dL_law_631 : decode cL_law 631 = .ok (.i2l, 1) := dk_133 (dk_at dksL_law_19 11 rfl rfl)
theorem dL_law_632 : decode cL_law 632 = .ok (.lcmp, 1) := dk_148 (dk_at dksL_law_19 12 rfl rfl)
theorem dL_law_633 : decode cL_law 633 = .ok (.ifCond .eq 5, 3) := dk_153 0 5 (dk_at dksL_law_19 13 rfl rfl)
theorem dL_law_636 : decode cL_law 636 = .ok (.iconst 0, 1) := dk_3 (dk_at dksL_law_19 16 rfl rfl)
theorem dL_law_637 : decode cL_law 637 = .ok (.ireturn, 1) := dk_172 (dk_at dksL_law_19 17 rfl rfl)
theorem dL_law_638 : decode cL_law 638 = .ok (.goto 1909, 3) := dk_167 7 117 (dk_at dksL_law_19 18 rfl rfl)
theorem dL_law_641 : decode cL_law 641 = .ok (.aload_n 1, 1) := dk_43 (dk_at dksL_law_19 21 rfl rfl)
theorem dL_law_642 : decode cL_law 642 = .ok (.aload_n 0, 1) := dk_42 (dk_at dksL_law_19 22 rfl rfl)
theorem dL_law_643 : decode cL_law 643 = .ok (.iload 4, 2) := dk_21 4 (dk_at dksL_law_20 0 rfl rfl)
theorem dL_law_645 : decode cL_law 645 = .ok (.iconst 1, 1) := dk_4 (dk_at dksL_law_20 2 rfl rfl)
theorem dL_law_646 : decode cL_law 646 = .ok (.iadd, 1) := dk_96 (dk_at dksL_law_20 3 rfl rfl)
theorem dL_law_647 : decode cL_law 647 = .ok (.iaload, 1) := dk_46 (dk_at dksL_law_20 4 rfl rfl)
theorem dL_law_648 : decode cL_law 648 = .ok (.aload_n 3, 1) := dk_45 (dk_at dksL_law_20 5 rfl rfl)
theorem dL_law_649 : decode cL_law 649 = .ok (.invokestatic 154, 3) := dk_184 0 154 (dk_at dksL_law_20 6 rfl rfl)
theorem dL_law_652 : decode cL_law 652 = .ok (.istore 5, 2) := dk_54 5 (dk_at dksL_law_20 9 rfl rfl)
theorem dL_law_654 : decode cL_law 654 = .ok (.aload_n 2, 1) := dk_44 (dk_at dksL_law_20 11 rfl rfl)
theorem dL_law_655 : decode cL_law 655 = .ok (.aload_n 0, 1) := dk_42 (dk_at dksL_law_20 12 rfl rfl)
theorem dL_law_656 : decode cL_law 656 = .ok (.iload 4, 2) := dk_21 4 (dk_at dksL_law_20 13 rfl rfl)
theorem dL_law_658 : decode cL_law 658 = .ok (.iconst 1, 1) := dk_4 (dk_at dksL_law_20 15 rfl rfl)
theorem dL_law_659 : decode cL_law 659 = .ok (.iadd, 1) := dk_96 (dk_at dksL_law_20 16 rfl rfl)
theorem dL_law_660 : decode cL_law 660 = .ok (.iaload, 1) := dk_46 (dk_at dksL_law_20 17 rfl rfl)
theorem dL_law_661 : decode cL_law 661 = .ok (.invokevirtual 156, 3) := dk_182 0 156 (dk_at dksL_law_20 18 rfl rfl)
theorem dL_law_664 : decode cL_law 664 = .ok (.istore 6, 2) := dk_54 6 (dk_at dksL_law_20 21 rfl rfl)
theorem dL_law_666 : decode cL_law 666 = .ok (.aload_n 2, 1) := dk_44 (dk_at dksL_law_20 23 rfl rfl)
theorem dL_law_667 : decode cL_law 667 = .ok (.invokevirtual 125, 3) := dk_182 0 125 (dk_at dksL_law_21 0 rfl rfl)
theorem dL_law_670 : decode cL_law 670 = .ok (.iload 5, 2) := dk_21 5 (dk_at dksL_law_21 3 rfl rfl)
theorem dL_law_672 : decode cL_law 672 = .ok (.if_icmp .eq 5, 3) := dk_159 0 5 (dk_at dksL_law_21 5 rfl rfl)
theorem dL_law_675 : decode cL_law 675 = .ok (.iconst 0, 1) := dk_3 (dk_at dksL_law_21 8 rfl rfl)
theorem dL_law_676 : decode cL_law 676 = .ok (.ireturn, 1) := dk_172 (dk_at dksL_law_21 9 rfl rfl)
theorem dL_law_677 : decode cL_law 677 = .ok (.iload 5, 2) := dk_21 5 (dk_at dksL_law_21 10 rfl rfl)
theorem dL_law_679 : decode cL_law 679 = .ok (.ifCond .ne 15, 3) := dk_154 0 15 (dk_at dksL_law_21 12 rfl rfl)
theorem dL_law_682 : decode cL_law 682 = .ok (.aload_n 3, 1) := dk_45 (dk_at dksL_law_21 15 rfl rfl)
theorem dL_law_683 : decode cL_law 683 = .ok (.iconst 0, 1) := dk_3 (dk_at dksL_law_21 16 rfl rfl)
theorem dL_law_684 : decode cL_law 684 = .ok (.laload, 1) := dk_47 (dk_at dksL_law_21 17 rfl rfl)
theorem dL_law_685 : decode cL_law 685 = .ok (.iload 6, 2) := dk_21 6 (dk_at dksL_law_21 18 rfl rfl)
theorem dL_law_687 : decode cL_law 687 = .ok (.i2l, 1) := dk_133 (dk_at dksL_law_21 20 rfl rfl)
theorem dL_law_688 : decode cL_law 688 = .ok (.lcmp, 1) := dk_148 (dk_at dksL_law_21 21 rfl rfl)
theorem dL_law_689 : decode cL_law 689 = .ok (.ifCond .eq 5, 3) := dk_153 0 5 (dk_at dksL_law_22 0 rfl rfl)
theorem dL_law_692 : decode cL_law 692 = .ok (.iconst 0, 1) := dk_3 (dk_at dksL_law_22 3 rfl rfl)
theorem dL_law_693 : decode cL_law 693 = .ok (.ireturn, 1) := dk_172 (dk_at dksL_law_22 4 rfl rfl)
theorem dL_law_694 : decode cL_law 694 = .ok (.goto 1853, 3) := dk_167 7 61 (dk_at dksL_law_22 5 rfl rfl)
theorem dL_law_697 : decode cL_law 697 = .ok (.aload_n 1, 1) := dk_43 (dk_at dksL_law_22 8 rfl rfl)
theorem dL_law_698 : decode cL_law 698 = .ok (.aload_n 0, 1) := dk_42 (dk_at dksL_law_22 9 rfl rfl)
theorem dL_law_699 : decode cL_law 699 = .ok (.iload 4, 2) := dk_21 4 (dk_at dksL_law_22 10 rfl rfl)
theorem dL_law_701 : decode cL_law 701 = .ok (.iconst 1, 1) := dk_4 (dk_at dksL_law_22 12 rfl rfl)
theorem dL_law_702 : decode cL_law 702 = .ok (.iadd, 1) := dk_96 (dk_at dksL_law_22 13 rfl rfl)
theorem dL_law_703 : decode cL_law 703 = .ok (.iaload, 1) := dk_46 (dk_at dksL_law_22 14 rfl rfl)
theorem dL_law_704 : decode cL_law 704 = .ok (.aload_n 3, 1) := dk_45 (dk_at dksL_law_22 15 rfl rfl)
theorem dL_law_705 : decode cL_law 705 = .ok (.invokestatic 157, 3) := dk_184 0 157 (dk_at dksL_law_22 16 rfl rfl)
theorem dL_law_708 : decode cL_law 708 = .ok (.istore 5, 2) := dk_54 5 (dk_at dksL_law_22 19 rfl rfl)
theorem dL_law_710 : decode cL_law 710 = .ok (.aload_n 2, 1) := dk_44 (dk_at dksL_law_22 21 rfl rfl)
theorem dL_law_711 : decode cL_law 711 = .ok (.aload_n 0, 1) := dk_42 (dk_at dksL_law_22 22 rfl rfl)
theorem dL_law_712 : decode cL_law 712 = .ok (.iload 4, 2) := dk_21 4 (dk_at dksL_law_23 0 rfl rfl)
theorem dL_law_714 : decode cL_law 714 = .ok (.iconst 1, 1) := dk_4 (dk_at dksL_law_23 2 rfl rfl)
theorem dL_law_715 : decode cL_law 715 = .ok (.iadd, 1) := dk_96 (dk_at dksL_law_23 3 rfl rfl)
theorem dL_law_716 : decode cL_law 716 = .ok (.iaload, 1) := dk_46 (dk_at dksL_law_23 4 rfl rfl)
theorem dL_law_717 : decode cL_law 717 = .ok (.invokevirtual 159, 3) := dk_182 0 159 (dk_at dksL_law_23 5 rfl rfl)
theorem dL_law_720 : decode cL_law 720 = .ok (.istore 6, 2) := dk_54 6 (dk_at dksL_law_23 8 rfl rfl)
theorem dL_law_722 : decode cL_law 722 = .ok (.aload_n 2, 1) := dk_44 (dk_at dksL_law_23 10 rfl rfl)
theorem dL_law_723 : decode cL_law 723 = .ok (.invokevirtual 125, 3) := dk_182 0 125 (dk_at dksL_law_23 11 rfl rfl)
theorem dL_law_726 : decode cL_law 726 = .ok (.iload 5, 2) := dk_21 5 (dk_at dksL_law_23 14 rfl rfl)
theorem dL_law_728 : decode cL_law 728 = .ok (.if_icmp .eq 5, 3) := dk_159 0 5 (dk_at dksL_law_23 16 rfl rfl)
theorem dL_law_731 : decode cL_law 731 = .ok (.iconst 0, 1) := dk_3 (dk_at dksL_law_23 19 rfl rfl)
theorem dL_law_732 : decode cL_law 732 = .ok (.ireturn, 1) := dk_172 (dk_at dksL_law_23 20 rfl rfl)
theorem dL_law_733 : decode cL_law 733 = .ok (.iload 5, 2) := dk_21 5 (dk_at dksL_law_23 21 rfl rfl)
theorem dL_law_735 : decode cL_law 735 = .ok (.ifCond .ne 15, 3) := dk_154 0 15 (dk_at dksL_law_24 0 rfl rfl)
theorem dL_law_738 : decode cL_law 738 = .ok (.aload_n 3, 1) := dk_45 (dk_at dksL_law_24 3 rfl rfl)
theorem dL_law_739 : decode cL_law 739 = .ok (.iconst 0, 1) := dk_3 (dk_at dksL_law_24 4 rfl rfl)
theorem dL_law_740 : decode cL_law 740 = .ok (.laload, 1) := dk_47 (dk_at dksL_law_24 5 rfl rfl)
theorem dL_law_741 : decode cL_law 741 = .ok (.iload 6, 2) := dk_21 6 (dk_at dksL_law_24 6 rfl rfl)
theorem dL_law_743 : decode cL_law 743 = .ok (.i2l, 1) := dk_133 (dk_at dksL_law_24 8 rfl rfl)
theorem dL_law_744 : decode cL_law 744 = .ok (.lcmp, 1) := dk_148 (dk_at dksL_law_24 9 rfl rfl)
theorem dL_law_745 : decode cL_law 745 = .ok (.ifCond .eq 5, 3) := dk_153 0 5 (dk_at dksL_law_24 10 rfl rfl)
theorem dL_law_748 : decode cL_law 748 = .ok (.iconst 0, 1) := dk_3 (dk_at dksL_law_24 13 rfl rfl)
theorem dL_law_749 : decode cL_law 749 = .ok (.ireturn, 1) := dk_172 (dk_at dksL_law_24 14 rfl rfl)
theorem dL_law_750 : decode cL_law 750 = .ok (.goto 1797, 3) := dk_167 7 5 (dk_at dksL_law_24 15 rfl rfl)
theorem dL_law_753 : decode cL_law 753 = .ok (.aload_n 1, 1) := dk_43 (dk_at dksL_law_24 18 rfl rfl)
theorem dL_law_754 : decode cL_law 754 = .ok (.aload_n 0, 1) := dk_42 (dk_at dksL_law_24 19 rfl rfl)
theorem dL_law_755 : decode cL_law 755 = .ok (.iload 4, 2) := dk_21 4 (dk_at dksL_law_24 20 rfl rfl)
theorem dL_law_757 : decode cL_law 757 = .ok (.iconst 1, 1) := dk_4 (dk_at dksL_law_24 22 rfl rfl)
theorem dL_law_758 : decode cL_law 758 = .ok (.iadd, 1) := dk_96 (dk_at dksL_law_24 23 rfl rfl)
theorem dL_law_759 : decode cL_law 759 = .ok (.iaload, 1) := dk_46 (dk_at dksL_law_25 0 rfl rfl)
theorem dL_law_760 : decode cL_law 760 = .ok (.aload_n 3, 1) := dk_45 (dk_at dksL_law_25 1 rfl rfl)
theorem dL_law_761 : decode cL_law 761 = .ok (.invokestatic 160, 3) := dk_184 0 160 (dk_at dksL_law_25 2 rfl rfl)
theorem dL_law_764 : decode cL_law 764 = .ok (.istore 5, 2) := dk_54 5 (dk_at dksL_law_25 5 rfl rfl)
theorem dL_law_766 : decode cL_law 766 = .ok (.aload_n 2, 1) := dk_44 (dk_at dksL_law_25 7 rfl rfl)
theorem dL_law_767 : decode cL_law 767 = .ok (.aload_n 0, 1) := dk_42 (dk_at dksL_law_25 8 rfl rfl)
theorem dL_law_768 : decode cL_law 768 = .ok (.iload 4, 2) := dk_21 4 (dk_at dksL_law_25 9 rfl rfl)
theorem dL_law_770 : decode cL_law 770 = .ok (.iconst 1, 1) := dk_4 (dk_at dksL_law_25 11 rfl rfl)
theorem dL_law_771 : decode cL_law 771 = .ok (.iadd, 1) := dk_96 (dk_at dksL_law_25 12 rfl rfl)
theorem dL_law_772 : decode cL_law 772 = .ok (.iaload, 1) := dk_46 (dk_at dksL_law_25 13 rfl rfl)
theorem dL_law_773 : decode cL_law 773 = .ok (.invokevirtual 162, 3) := dk_182 0 162 (dk_at dksL_law_25 14 rfl rfl)
theorem dL_law_776 : decode cL_law 776 = .ok (.istore 6, 2) := dk_54 6 (dk_at dksL_law_25 17 rfl rfl)
theorem dL_law_778 : decode cL_law 778 = .ok (.aload_n 2, 1) := dk_44 (dk_at dksL_law_25 19 rfl rfl)
theorem dL_law_779 : decode cL_law 779 = .ok (.invokevirtual 125, 3) := dk_182 0 125 (dk_at dksL_law_25 20 rfl rfl)
theorem dL_law_782 : decode cL_law 782 = .ok (.iload 5, 2) := dk_21 5 (dk_at dksL_law_26 0 rfl rfl)
theorem dL_law_784 : decode cL_law 784 = .ok (.if_icmp .eq 5, 3) := dk_159 0 5 (dk_at dksL_law_26 2 rfl rfl)
theorem dL_law_787 : decode cL_law 787 = .ok (.iconst 0, 1) := dk_3 (dk_at dksL_law_26 5 rfl rfl)
theorem dL_law_788 : decode cL_law 788 = .ok (.ireturn, 1) := dk_172 (dk_at dksL_law_26 6 rfl rfl)
theorem dL_law_789 : decode cL_law 789 = .ok (.iload 5, 2) := dk_21 5 (dk_at dksL_law_26 7 rfl rfl)
theorem dL_law_791 : decode cL_law 791 = .ok (.ifCond .ne 15, 3) := dk_154 0 15 (dk_at dksL_law_26 9 rfl rfl)
theorem dL_law_794 : decode cL_law 794 = .ok (.aload_n 3, 1) := dk_45 (dk_at dksL_law_26 12 rfl rfl)
theorem dL_law_795 : decode cL_law 795 = .ok (.iconst 0, 1) := dk_3 (dk_at dksL_law_26 13 rfl rfl)
theorem dL_law_796 : decode cL_law 796 = .ok (.laload, 1) := dk_47 (dk_at dksL_law_26 14 rfl rfl)
theorem dL_law_797 : decode cL_law 797 = .ok (.iload 6, 2) := dk_21 6 (dk_at dksL_law_26 15 rfl rfl)
theorem dL_law_799 : decode cL_law 799 = .ok (.i2l, 1) := dk_133 (dk_at dksL_law_26 17 rfl rfl)
theorem dL_law_800 : decode cL_law 800 = .ok (.lcmp, 1) := dk_148 (dk_at dksL_law_26 18 rfl rfl)
theorem dL_law_801 : decode cL_law 801 = .ok (.ifCond .eq 5, 3) := dk_153 0 5 (dk_at dksL_law_26 19 rfl rfl)
theorem dL_law_804 : decode cL_law 804 = .ok (.iconst 0, 1) := dk_3 (dk_at dksL_law_26 22 rfl rfl)
theorem dL_law_805 : decode cL_law 805 = .ok (.ireturn, 1) := dk_172 (dk_at dksL_law_26 23 rfl rfl)
theorem dL_law_806 : decode cL_law 806 = .ok (.goto 1741, 3) := dk_167 6 205 (dk_at dksL_law_27 0 rfl rfl)
theorem dL_law_809 : decode cL_law 809 = .ok (.aload_n 1, 1) := dk_43 (dk_at dksL_law_27 3 rfl rfl)
theorem dL_law_810 : decode cL_law 810 = .ok (.aload_n 0, 1) := dk_42 (dk_at dksL_law_27 4 rfl rfl)
theorem dL_law_811 : decode cL_law 811 = .ok (.iload 4, 2) := dk_21 4 (dk_at dksL_law_27 5 rfl rfl)
theorem dL_law_813 : decode cL_law 813 = .ok (.iconst 1, 1) := dk_4 (dk_at dksL_law_27 7 rfl rfl)
theorem dL_law_814 : decode cL_law 814 = .ok (.iadd, 1) := dk_96 (dk_at dksL_law_27 8 rfl rfl)
theorem dL_law_815 : decode cL_law 815 = .ok (.iaload, 1) := dk_46 (dk_at dksL_law_27 9 rfl rfl)
theorem dL_law_816 : decode cL_law 816 = .ok (.aload_n 3, 1) := dk_45 (dk_at dksL_law_27 10 rfl rfl)
theorem dL_law_817 : decode cL_law 817 = .ok (.invokestatic 163, 3) := dk_184 0 163 (dk_at dksL_law_27 11 rfl rfl)
theorem dL_law_820 : decode cL_law 820 = .ok (.istore 5, 2) := dk_54 5 (dk_at dksL_law_27 14 rfl rfl)
theorem dL_law_822 : decode cL_law 822 = .ok (.aload_n 2, 1) := dk_44 (dk_at dksL_law_27 16 rfl rfl)
theorem dL_law_823 : decode cL_law 823 = .ok (.aload_n 0, 1) := dk_42 (dk_at dksL_law_27 17 rfl rfl)
theorem dL_law_824 : decode cL_law 824 = .ok (.iload 4, 2) := dk_21 4 (dk_at dksL_law_27 18 rfl rfl)
theorem dL_law_826 : decode cL_law 826 = .ok (.iconst 1, 1) := dk_4 (dk_at dksL_law_27 20 rfl rfl)
theorem dL_law_827 : decode cL_law 827 = .ok (.iadd, 1) := dk_96 (dk_at dksL_law_27 21 rfl rfl)
theorem dL_law_828 : decode cL_law 828 = .ok (.iaload, 1) := dk_46 (dk_at dksL_law_27 22 rfl rfl)
theorem dL_law_829 : decode cL_law 829 = .ok (.invokevirtual 165, 3) := dk_182 0 165 (dk_at dksL_law_28 0 rfl rfl)
theorem dL_law_832 : decode cL_law 832 = .ok (.istore 6, 2) := dk_54 6 (dk_at dksL_law_28 3 rfl rfl)
theorem dL_law_834 : decode cL_law 834 = .ok (.aload_n 2, 1) := dk_44 (dk_at dksL_law_28 5 rfl rfl)
theorem dL_law_835 : decode cL_law 835 = .ok (.invokevirtual 125, 3) := dk_182 0 125 (dk_at dksL_law_28 6 rfl rfl)
theorem dL_law_838 : decode cL_law 838 = .ok (.iload 5, 2) := dk_21 5 (dk_at dksL_law_28 9 rfl rfl)
theorem dL_law_840 : decode cL_law 840 = .ok (.if_icmp .eq 5, 3) := dk_159 0 5 (dk_at dksL_law_28 11 rfl rfl)
theorem dL_law_843 : decode cL_law 843 = .ok (.iconst 0, 1) := dk_3 (dk_at dksL_law_28 14 rfl rfl)
theorem dL_law_844 : decode cL_law 844 = .ok (.ireturn, 1) := dk_172 (dk_at dksL_law_28 15 rfl rfl)
theorem dL_law_845 : decode cL_law 845 = .ok (.iload 5, 2) := dk_21 5 (dk_at dksL_law_28 16 rfl rfl)
theorem dL_law_847 : decode cL_law 847 = .ok (.ifCond .ne 15, 3) := dk_154 0 15 (dk_at dksL_law_28 18 rfl rfl)
theorem dL_law_850 : decode cL_law 850 = .ok (.aload_n 3, 1) := dk_45 (dk_at dksL_law_28 21 rfl rfl)
theorem dL_law_851 : decode cL_law 851 = .ok (.iconst 0, 1) := dk_3 (dk_at dksL_law_28 22 rfl rfl)
theorem dL_law_852 : decode cL_law 852 = .ok (.laload, 1) := dk_47 (dk_at dksL_law_28 23 rfl rfl)
theorem dL_law_853 : decode cL_law 853 = .ok (.iload 6, 2) := dk_21 6 (dk_at dksL_law_29 0 rfl rfl)
theorem dL_law_855 : decode cL_law 855 = .ok (.i2l, 1) := dk_133 (dk_at dksL_law_29 2 rfl rfl)
theorem dL_law_856 : decode cL_law 856 = .ok (.lcmp, 1) := dk_148 (dk_at dksL_law_29 3 rfl rfl)
theorem dL_law_857 : decode cL_law 857 = .ok (.ifCond .eq 5, 3) := dk_153 0 5 (dk_at dksL_law_29 4 rfl rfl)
theorem dL_law_860 : decode cL_law 860 = .ok (.iconst 0, 1) := dk_3 (dk_at dksL_law_29 7 rfl rfl)
theorem dL_law_861 : decode cL_law 861 = .ok (.ireturn, 1) := dk_172 (dk_at dksL_law_29 8 rfl rfl)
theorem dL_law_862 : decode cL_law 862 = .ok (.goto 1685, 3) := dk_167 6 149 (dk_at dksL_law_29 9 rfl rfl)
theorem dL_law_865 : decode cL_law 865 = .ok (.aload_n 1, 1) := dk_43 (dk_at dksL_law_29 12 rfl rfl)
theorem dL_law_866 : decode cL_law 866 = .ok (.aload_n 0, 1) := dk_42 (dk_at dksL_law_29 13 rfl rfl)
theorem dL_law_867 : decode cL_law 867 = .ok (.iload 4, 2) := dk_21 4 (dk_at dksL_law_29 14 rfl rfl)
theorem dL_law_869 : decode cL_law 869 = .ok (.iconst 1, 1) := dk_4 (dk_at dksL_law_29 16 rfl rfl)
theorem dL_law_870 : decode cL_law 870 = .ok (.iadd, 1) := dk_96 (dk_at dksL_law_29 17 rfl rfl)
theorem dL_law_871 : decode cL_law 871 = .ok (.iaload, 1) := dk_46 (dk_at dksL_law_29 18 rfl rfl)
theorem dL_law_872 : decode cL_law 872 = .ok (.aload_n 3, 1) := dk_45 (dk_at dksL_law_29 19 rfl rfl)
theorem dL_law_873 : decode cL_law 873 = .ok (.invokestatic 166, 3) := dk_184 0 166 (dk_at dksL_law_29 20 rfl rfl)
theorem dL_law_876 : decode cL_law 876 = .ok (.istore 5, 2) := dk_54 5 (dk_at dksL_law_30 0 rfl rfl)
theorem dL_law_878 : decode cL_law 878 = .ok (.aload_n 2, 1) := dk_44 (dk_at dksL_law_30 2 rfl rfl)
theorem dL_law_879 : decode cL_law 879 = .ok (.aload_n 0, 1) := dk_42 (dk_at dksL_law_30 3 rfl rfl)
theorem dL_law_880 : decode cL_law 880 = .ok (.iload 4, 2) := dk_21 4 (dk_at dksL_law_30 4 rfl rfl)
theorem dL_law_882 : decode cL_law 882 = .ok (.iconst 1, 1) := dk_4 (dk_at dksL_law_30 6 rfl rfl)
theorem dL_law_883 : decode cL_law 883 = .ok (.iadd, 1) := dk_96 (dk_at dksL_law_30 7 rfl rfl)
theorem dL_law_884 : decode cL_law 884 = .ok (.iaload, 1) := dk_46 (dk_at dksL_law_30 8 rfl rfl)
theorem dL_law_885 : decode cL_law 885 = .ok (.invokevirtual 168, 3) := dk_182 0 168 (dk_at dksL_law_30 9 rfl rfl)
theorem dL_law_888 : decode cL_law 888 = .ok (.istore 6, 2) := dk_54 6 (dk_at dksL_law_30 12 rfl rfl)
theorem dL_law_890 : decode cL_law 890 = .ok (.aload_n 2, 1) := dk_44 (dk_at dksL_law_30 14 rfl rfl)
theorem dL_law_891 : decode cL_law 891 = .ok (.invokevirtual 125, 3) := dk_182 0 125 (dk_at dksL_law_30 15 rfl rfl)
theorem dL_law_894 : decode cL_law 894 = .ok (.iload 5, 2) := dk_21 5 (dk_at dksL_law_30 18 rfl rfl)
theorem dL_law_896 : decode cL_law 896 = .ok (.if_icmp .eq 5, 3) := dk_159 0 5 (dk_at dksL_law_30 20 rfl rfl)
theorem dL_law_899 : decode cL_law 899 = .ok (.iconst 0, 1) := dk_3 (dk_at dksL_law_30 23 rfl rfl)
theorem dL_law_900 : decode cL_law 900 = .ok (.ireturn, 1) := dk_172 (dk_at dksL_law_31 0 rfl rfl)
theorem dL_law_901 : decode cL_law 901 = .ok (.iload 5, 2) := dk_21 5 (dk_at dksL_law_31 1 rfl rfl)
theorem dL_law_903 : decode cL_law 903 = .ok (.ifCond .ne 15, 3) := dk_154 0 15 (dk_at dksL_law_31 3 rfl rfl)
theorem dL_law_906 : decode cL_law 906 = .ok (.aload_n 3, 1) := dk_45 (dk_at dksL_law_31 6 rfl rfl)
theorem dL_law_907 : decode cL_law 907 = .ok (.iconst 0, 1) := dk_3 (dk_at dksL_law_31 7 rfl rfl)
theorem dL_law_908 : decode cL_law 908 = .ok (.laload, 1) := dk_47 (dk_at dksL_law_31 8 rfl rfl)
theorem dL_law_909 : decode cL_law 909 = .ok (.iload 6, 2) := dk_21 6 (dk_at dksL_law_31 9 rfl rfl)
theorem dL_law_911 : decode cL_law 911 = .ok (.i2l, 1) := dk_133 (dk_at dksL_law_31 11 rfl rfl)
theorem dL_law_912 : decode cL_law 912 = .ok (.lcmp, 1) := dk_148 (dk_at dksL_law_31 12 rfl rfl)
theorem dL_law_913 : decode cL_law 913 = .ok (.ifCond .eq 5, 3) := dk_153 0 5 (dk_at dksL_law_31 13 rfl rfl)
theorem dL_law_916 : decode cL_law 916 = .ok (.iconst 0, 1) := dk_3 (dk_at dksL_law_31 16 rfl rfl)
theorem dL_law_917 : decode cL_law 917 = .ok (.ireturn, 1) := dk_172 (dk_at dksL_law_31 17 rfl rfl)
theorem dL_law_918 : decode cL_law 918 = .ok (.goto 1629, 3) := dk_167 6 93 (dk_at dksL_law_31 18 rfl rfl)
theorem dL_law_921 : decode cL_law 921 = .ok (.aload_n 1, 1) := dk_43 (dk_at dksL_law_31 21 rfl rfl)
theorem dL_law_922 : decode cL_law 922 = .ok (.invokevirtual 169, 3) := dk_182 0 169 (dk_at dksL_law_32 0 rfl rfl)
theorem dL_law_925 : decode cL_law 925 = .ok (.aload_n 2, 1) := dk_44 (dk_at dksL_law_32 3 rfl rfl)
theorem dL_law_926 : decode cL_law 926 = .ok (.invokevirtual 172, 3) := dk_182 0 172 (dk_at dksL_law_32 4 rfl rfl)
theorem dL_law_929 : decode cL_law 929 = .ok (.if_icmp .eq 1618, 3) := dk_159 6 82 (dk_at dksL_law_32 7 rfl rfl)
theorem dL_law_932 : decode cL_law 932 = .ok (.iconst 0, 1) := dk_3 (dk_at dksL_law_32 10 rfl rfl)
theorem dL_law_933 : decode cL_law 933 = .ok (.ireturn, 1) := dk_172 (dk_at dksL_law_32 11 rfl rfl)
theorem dL_law_934 : decode cL_law 934 = .ok (.aload_n 1, 1) := dk_43 (dk_at dksL_law_32 12 rfl rfl)
theorem dL_law_935 : decode cL_law 935 = .ok (.aload_n 3, 1) := dk_45 (dk_at dksL_law_32 13 rfl rfl)
theorem dL_law_936 : decode cL_law 936 = .ok (.invokestatic 173, 3) := dk_184 0 173 (dk_at dksL_law_32 14 rfl rfl)
theorem dL_law_939 : decode cL_law 939 = .ok (.istore 5, 2) := dk_54 5 (dk_at dksL_law_32 17 rfl rfl)
theorem dL_law_941 : decode cL_law 941 = .ok (.aload_n 2, 1) := dk_44 (dk_at dksL_law_32 19 rfl rfl)
theorem dL_law_942 : decode cL_law 942 = .ok (.invokevirtual 176, 3) := dk_182 0 176 (dk_at dksL_law_32 20 rfl rfl)
theorem dL_law_945 : decode cL_law 945 = .ok (.istore 6, 2) := dk_54 6 (dk_at dksL_law_33 0 rfl rfl)
theorem dL_law_947 : decode cL_law 947 = .ok (.aload_n 2, 1) := dk_44 (dk_at dksL_law_33 2 rfl rfl)
theorem dL_law_948 : decode cL_law 948 = .ok (.invokevirtual 125, 3) := dk_182 0 125 (dk_at dksL_law_33 3 rfl rfl)
theorem dL_law_951 : decode cL_law 951 = .ok (.iload 5, 2) := dk_21 5 (dk_at dksL_law_33 6 rfl rfl)
theorem dL_law_953 : decode cL_law 953 = .ok (.if_icmp .eq 5, 3) := dk_159 0 5 (dk_at dksL_law_33 8 rfl rfl)
theorem dL_law_956 : decode cL_law 956 = .ok (.iconst 0, 1) := dk_3 (dk_at dksL_law_33 11 rfl rfl)
theorem dL_law_957 : decode cL_law 957 = .ok (.ireturn, 1) := dk_172 (dk_at dksL_law_33 12 rfl rfl)
theorem dL_law_958 : decode cL_law 958 = .ok (.iload 5, 2) := dk_21 5 (dk_at dksL_law_33 13 rfl rfl)
theorem dL_law_960 : decode cL_law 960 = .ok (.ifCond .ne 15, 3) := dk_154 0 15 (dk_at dksL_law_33 15 rfl rfl)
theorem dL_law_963 : decode cL_law 963 = .ok (.aload_n 3, 1) := dk_45 (dk_at dksL_law_33 18 rfl rfl)
theorem dL_law_964 : decode cL_law 964 = .ok (.iconst 0, 1) := dk_3 (dk_at dksL_law_33 19 rfl rfl)
theorem dL_law_965 : decode cL_law 965 = .ok (.laload, 1) := dk_47 (dk_at dksL_law_33 20 rfl rfl)
theorem dL_law_966 : decode cL_law 966 = .ok (.iload 6, 2) := dk_21 6 (dk_at dksL_law_33 21 rfl rfl)
theorem dL_law_968 : decode cL_law 968 = .ok (.i2l, 1) := dk_133 (dk_at dksL_law_33 23 rfl rfl)
theorem dL_law_969 : decode cL_law 969 = .ok (.lcmp, 1) := dk_148 (dk_at dksL_law_34 0 rfl rfl)
theorem dL_law_970 : decode cL_law 970 = .ok (.ifCond .eq 5, 3) := dk_153 0 5 (dk_at dksL_law_34 1 rfl rfl)
theorem dL_law_973 : decode cL_law 973 = .ok (.iconst 0, 1) := dk_3 (dk_at dksL_law_34 4 rfl rfl)
theorem dL_law_974 : decode cL_law 974 = .ok (.ireturn, 1) := dk_172 (dk_at dksL_law_34 5 rfl rfl)
theorem dL_law_975 : decode cL_law 975 = .ok (.goto 1572, 3) := dk_167 6 36 (dk_at dksL_law_34 6 rfl rfl)
theorem dL_law_978 : decode cL_law 978 = .ok (.aload_n 1, 1) := dk_43 (dk_at dksL_law_34 9 rfl rfl)
theorem dL_law_979 : decode cL_law 979 = .ok (.aload_n 0, 1) := dk_42 (dk_at dksL_law_34 10 rfl rfl)
theorem dL_law_980 : decode cL_law 980 = .ok (.iload 4, 2) := dk_21 4 (dk_at dksL_law_34 11 rfl rfl)
theorem dL_law_982 : decode cL_law 982 = .ok (.iconst 1, 1) := dk_4 (dk_at dksL_law_34 13 rfl rfl)
theorem dL_law_983 : decode cL_law 983 = .ok (.iadd, 1) := dk_96 (dk_at dksL_law_34 14 rfl rfl)
theorem dL_law_984 : decode cL_law 984 = .ok (.iaload, 1) := dk_46 (dk_at dksL_law_34 15 rfl rfl)
theorem dL_law_985 : decode cL_law 985 = .ok (.aload_n 3, 1) := dk_45 (dk_at dksL_law_34 16 rfl rfl)
theorem dL_law_986 : decode cL_law 986 = .ok (.invokestatic 177, 3) := dk_184 0 177 (dk_at dksL_law_34 17 rfl rfl)
theorem dL_law_989 : decode cL_law 989 = .ok (.istore 5, 2) := dk_54 5 (dk_at dksL_law_34 20 rfl rfl)
theorem dL_law_991 : decode cL_law 991 = .ok (.aload_n 2, 1) := dk_44 (dk_at dksL_law_34 22 rfl rfl)
theorem dL_law_992 : decode cL_law 992 = .ok (.aload_n 0, 1) := dk_42 (dk_at dksL_law_34 23 rfl rfl)
theorem dL_law_993 : decode cL_law 993 = .ok (.iload 4, 2) := dk_21 4 (dk_at dksL_law_35 0 rfl rfl)
theorem dL_law_995 : decode cL_law 995 = .ok (.iconst 1, 1) := dk_4 (dk_at dksL_law_35 2 rfl rfl)
theorem dL_law_996 : decode cL_law 996 = .ok (.iadd, 1) := dk_96 (dk_at dksL_law_35 3 rfl rfl)
theorem dL_law_997 : decode cL_law 997 = .ok (.iaload, 1) := dk_46 (dk_at dksL_law_35 4 rfl rfl)
theorem dL_law_998 : decode cL_law 998 = .ok (.invokevirtual 179, 3) := dk_182 0 179 (dk_at dksL_law_35 5 rfl rfl)
theorem dL_law_1001 : decode cL_law 1001 = .ok (.istore 6, 2) := dk_54 6 (dk_at dksL_law_35 8 rfl rfl)
theorem dL_law_1003 : decode cL_law 1003 = .ok (.aload_n 2, 1) := dk_44 (dk_at dksL_law_35 10 rfl rfl)
theorem dL_law_1004 : decode cL_law 1004 = .ok (.invokevirtual 125, 3) := dk_182 0 125 (dk_at dksL_law_35 11 rfl rfl)
theorem dL_law_1007 : decode cL_law 1007 = .ok (.iload 5, 2) := dk_21 5 (dk_at dksL_law_35 14 rfl rfl)
theorem dL_law_1009 : decode cL_law 1009 = .ok (.if_icmp .eq 5, 3) := dk_159 0 5 (dk_at dksL_law_35 16 rfl rfl)
theorem dL_law_1012 : decode cL_law 1012 = .ok (.iconst 0, 1) := dk_3 (dk_at dksL_law_35 19 rfl rfl)
theorem dL_law_1013 : decode cL_law 1013 = .ok (.ireturn, 1) := dk_172 (dk_at dksL_law_35 20 rfl rfl)
theorem dL_law_1014 : decode cL_law 1014 = .ok (.iload 5, 2) := dk_21 5 (dk_at dksL_law_35 21 rfl rfl)
theorem dL_law_1016 : decode cL_law 1016 = .ok (.ifCond .ne 15, 3) := dk_154 0 15 (dk_at dksL_law_36 0 rfl rfl)
theorem dL_law_1019 : decode cL_law 1019 = .ok (.aload_n 3, 1) := dk_45 (dk_at dksL_law_36 3 rfl rfl)
theorem dL_law_1020 : decode cL_law 1020 = .ok (.iconst 0, 1) := dk_3 (dk_at dksL_law_36 4 rfl rfl)
theorem dL_law_1021 : decode cL_law 1021 = .ok (.laload, 1) := dk_47 (dk_at dksL_law_36 5 rfl rfl)
theorem dL_law_1022 : decode cL_law 1022 = .ok (.iload 6, 2) := dk_21 6 (dk_at dksL_law_36 6 rfl rfl)
theorem dL_law_1024 : decode cL_law 1024 = .ok (.i2l, 1) := dk_133 (dk_at dksL_law_36 8 rfl rfl)
theorem dL_law_1025 : decode cL_law 1025 = .ok (.lcmp, 1) := dk_148 (dk_at dksL_law_36 9 rfl rfl)
theorem dL_law_1026 : decode cL_law 1026 = .ok (.ifCond .eq 5, 3) := dk_153 0 5 (dk_at dksL_law_36 10 rfl rfl)
theorem dL_law_1029 : decode cL_law 1029 = .ok (.iconst 0, 1) := dk_3 (dk_at dksL_law_36 13 rfl rfl)
theorem dL_law_1030 : decode cL_law 1030 = .ok (.ireturn, 1) := dk_172 (dk_at dksL_law_36 14 rfl rfl)
theorem dL_law_1031 : decode cL_law 1031 = .ok (.goto 1516, 3) := dk_167 5 236 (dk_at dksL_law_36 15 rfl rfl)
theorem dL_law_1034 : decode cL_law 1034 = .ok (.aload_n 1, 1) := dk_43 (dk_at dksL_law_36 18 rfl rfl)
theorem dL_law_1035 : decode cL_law 1035 = .ok (.aload_n 0, 1) := dk_42 (dk_at dksL_law_36 19 rfl rfl)
theorem dL_law_1036 : decode cL_law 1036 = .ok (.iload 4, 2) := dk_21 4 (dk_at dksL_law_36 20 rfl rfl)
theorem dL_law_1038 : decode cL_law 1038 = .ok (.iconst 1, 1) := dk_4 (dk_at dksL_law_36 22 rfl rfl)
theorem dL_law_1039 : decode cL_law 1039 = .ok (.iadd, 1) := dk_96 (dk_at dksL_law_36 23 rfl rfl)
theorem dL_law_1040 : decode cL_law 1040 = .ok (.iaload, 1) := dk_46 (dk_at dksL_law_37 0 rfl rfl)
theorem dL_law_1041 : decode cL_law 1041 = .ok (.aload_n 3, 1) := dk_45 (dk_at dksL_law_37 1 rfl rfl)
theorem dL_law_1042 : decode cL_law 1042 = .ok (.invokestatic 180, 3) := dk_184 0 180 (dk_at dksL_law_37 2 rfl rfl)
theorem dL_law_1045 : decode cL_law 1045 = .ok (.istore 5, 2) := dk_54 5 (dk_at dksL_law_37 5 rfl rfl)
theorem dL_law_1047 : decode cL_law 1047 = .ok (.aload_n 2, 1) := dk_44 (dk_at dksL_law_37 7 rfl rfl)
theorem dL_law_1048 : decode cL_law 1048 = .ok (.aload_n 0, 1) := dk_42 (dk_at dksL_law_37 8 rfl rfl)
theorem dL_law_1049 : decode cL_law 1049 = .ok (.iload 4, 2) := dk_21 4 (dk_at dksL_law_37 9 rfl rfl)
theorem dL_law_1051 : decode cL_law 1051 = .ok (.iconst 1, 1) := dk_4 (dk_at dksL_law_37 11 rfl rfl)
theorem dL_law_1052 : decode cL_law 1052 = .ok (.iadd, 1) := dk_96 (dk_at dksL_law_37 12 rfl rfl)
theorem dL_law_1053 : decode cL_law 1053 = .ok (.iaload, 1) := dk_46 (dk_at dksL_law_37 13 rfl rfl)
theorem dL_law_1054 : decode cL_law 1054 = .ok (.invokevirtual 182, 3) := dk_182 0 182 (dk_at dksL_law_37 14 rfl rfl)
theorem dL_law_1057 : decode cL_law 1057 = .ok (.istore 6, 2) := dk_54 6 (dk_at dksL_law_37 17 rfl rfl)
theorem dL_law_1059 : decode cL_law 1059 = .ok (.aload_n 2, 1) := dk_44 (dk_at dksL_law_37 19 rfl rfl)
theorem dL_law_1060 : decode cL_law 1060 = .ok (.invokevirtual 125, 3) := dk_182 0 125 (dk_at dksL_law_37 20 rfl rfl)
theorem dL_law_1063 : decode cL_law 1063 = .ok (.iload 5, 2) := dk_21 5 (dk_at dksL_law_38 0 rfl rfl)
theorem dL_law_1065 : decode cL_law 1065 = .ok (.if_icmp .eq 5, 3) := dk_159 0 5 (dk_at dksL_law_38 2 rfl rfl)
theorem dL_law_1068 : decode cL_law 1068 = .ok (.iconst 0, 1) := dk_3 (dk_at dksL_law_38 5 rfl rfl)
theorem dL_law_1069 : decode cL_law 1069 = .ok (.ireturn, 1) := dk_172 (dk_at dksL_law_38 6 rfl rfl)
theorem dL_law_1070 : decode cL_law 1070 = .ok (.iload 5, 2) := dk_21 5 (dk_at dksL_law_38 7 rfl rfl)
theorem dL_law_1072 : decode cL_law 1072 = .ok (.ifCond .ne 15, 3) := dk_154 0 15 (dk_at dksL_law_38 9 rfl rfl)
theorem dL_law_1075 : decode cL_law 1075 = .ok (.aload_n 3, 1) := dk_45 (dk_at dksL_law_38 12 rfl rfl)
theorem dL_law_1076 : decode cL_law 1076 = .ok (.iconst 0, 1) := dk_3 (dk_at dksL_law_38 13 rfl rfl)
theorem dL_law_1077 : decode cL_law 1077 = .ok (.laload, 1) := dk_47 (dk_at dksL_law_38 14 rfl rfl)
theorem dL_law_1078 : decode cL_law 1078 = .ok (.iload 6, 2) := dk_21 6 (dk_at dksL_law_38 15 rfl rfl)
theorem dL_law_1080 : decode cL_law 1080 = .ok (.i2l, 1) := dk_133 (dk_at dksL_law_38 17 rfl rfl)
theorem dL_law_1081 : decode cL_law 1081 = .ok (.lcmp, 1) := dk_148 (dk_at dksL_law_38 18 rfl rfl)
theorem dL_law_1082 : decode cL_law 1082 = .ok (.ifCond .eq 5, 3) := dk_153 0 5 (dk_at dksL_law_38 19 rfl rfl)
theorem dL_law_1085 : decode cL_law 1085 = .ok (.iconst 0, 1) := dk_3 (dk_at dksL_law_38 22 rfl rfl)
theorem dL_law_1086 : decode cL_law 1086 = .ok (.ireturn, 1) := dk_172 (dk_at dksL_law_38 23 rfl rfl)
theorem dL_law_1087 : decode cL_law 1087 = .ok (.goto 1460, 3) := dk_167 5 180 (dk_at dksL_law_39 0 rfl rfl)
theorem dL_law_1090 : decode cL_law 1090 = .ok (.aload_n 1, 1) := dk_43 (dk_at dksL_law_39 3 rfl rfl)
theorem dL_law_1091 : decode cL_law 1091 = .ok (.aload_n 0, 1) := dk_42 (dk_at dksL_law_39 4 rfl rfl)
theorem dL_law_1092 : decode cL_law 1092 = .ok (.iload 4, 2) := dk_21 4 (dk_at dksL_law_39 5 rfl rfl)
theorem dL_law_1094 : decode cL_law 1094 = .ok (.iconst 1, 1) := dk_4 (dk_at dksL_law_39 7 rfl rfl)
theorem dL_law_1095 : decode cL_law 1095 = .ok (.iadd, 1) := dk_96 (dk_at dksL_law_39 8 rfl rfl)
theorem dL_law_1096 : decode cL_law 1096 = .ok (.iaload, 1) := dk_46 (dk_at dksL_law_39 9 rfl rfl)
theorem dL_law_1097 : decode cL_law 1097 = .ok (.aload_n 3, 1) := dk_45 (dk_at dksL_law_39 10 rfl rfl)
theorem dL_law_1098 : decode cL_law 1098 = .ok (.invokestatic 183, 3) := dk_184 0 183 (dk_at dksL_law_39 11 rfl rfl)
theorem dL_law_1101 : decode cL_law 1101 = .ok (.istore 5, 2) := dk_54 5 (dk_at dksL_law_39 14 rfl rfl)
theorem dL_law_1103 : decode cL_law 1103 = .ok (.aload_n 2, 1) := dk_44 (dk_at dksL_law_39 16 rfl rfl)
theorem dL_law_1104 : decode cL_law 1104 = .ok (.aload_n 0, 1) := dk_42 (dk_at dksL_law_39 17 rfl rfl)
theorem dL_law_1105 : decode cL_law 1105 = .ok (.iload 4, 2) := dk_21 4 (dk_at dksL_law_39 18 rfl rfl)
theorem dL_law_1107 : decode cL_law 1107 = .ok (.iconst 1, 1) := dk_4 (dk_at dksL_law_39 20 rfl rfl)
theorem dL_law_1108 : decode cL_law 1108 = .ok (.iadd, 1) := dk_96 (dk_at dksL_law_39 21 rfl rfl)
theorem dL_law_1109 : decode cL_law 1109 = .ok (.iaload, 1) := dk_46 (dk_at dksL_law_39 22 rfl rfl)
theorem dL_law_1110 : decode cL_law 1110 = .ok (.invokevirtual 185, 3) := dk_182 0 185 (dk_at dksL_law_40 0 rfl rfl)
theorem dL_law_1113 : decode cL_law 1113 = .ok (.istore 6, 2) := dk_54 6 (dk_at dksL_law_40 3 rfl rfl)
theorem dL_law_1115 : decode cL_law 1115 = .ok (.aload_n 2, 1) := dk_44 (dk_at dksL_law_40 5 rfl rfl)
theorem dL_law_1116 : decode cL_law 1116 = .ok (.invokevirtual 125, 3) := dk_182 0 125 (dk_at dksL_law_40 6 rfl rfl)
theorem dL_law_1119 : decode cL_law 1119 = .ok (.iload 5, 2) := dk_21 5 (dk_at dksL_law_40 9 rfl rfl)
theorem dL_law_1121 : decode cL_law 1121 = .ok (.if_icmp .eq 5, 3) := dk_159 0 5 (dk_at dksL_law_40 11 rfl rfl)
theorem dL_law_1124 : decode cL_law 1124 = .ok (.iconst 0, 1) := dk_3 (dk_at dksL_law_40 14 rfl rfl)
theorem dL_law_1125 : decode cL_law 1125 = .ok (.ireturn, 1) := dk_172 (dk_at dksL_law_40 15 rfl rfl)
theorem dL_law_1126 : decode cL_law 1126 = .ok (.iload 5, 2) := dk_21 5 (dk_at dksL_law_40 16 rfl rfl)
theorem dL_law_1128 : decode cL_law 1128 = .ok (.ifCond .ne 15, 3) := dk_154 0 15 (dk_at dksL_law_40 18 rfl rfl)
theorem dL_law_1131 : decode cL_law 1131 = .ok (.aload_n 3, 1) := dk_45 (dk_at dksL_law_40 21 rfl rfl)
theorem dL_law_1132 : decode cL_law 1132 = .ok (.iconst 0, 1) := dk_3 (dk_at dksL_law_40 22 rfl rfl)
theorem dL_law_1133 : decode cL_law 1133 = .ok (.laload, 1) := dk_47 (dk_at dksL_law_40 23 rfl rfl)
theorem dL_law_1134 : decode cL_law 1134 = .ok (.iload 6, 2) := dk_21 6 (dk_at dksL_law_41 0 rfl rfl)
theorem dL_law_1136 : decode cL_law 1136 = .ok (.i2l, 1) := dk_133 (dk_at dksL_law_41 2 rfl rfl)
theorem dL_law_1137 : decode cL_law 1137 = .ok (.lcmp, 1) := dk_148 (dk_at dksL_law_41 3 rfl rfl)
theorem dL_law_1138 : decode cL_law 1138 = .ok (.ifCond .eq 5, 3) := dk_153 0 5 (dk_at dksL_law_41 4 rfl rfl)
theorem dL_law_1141 : decode cL_law 1141 = .ok (.iconst 0, 1) := dk_3 (dk_at dksL_law_41 7 rfl rfl)
theorem dL_law_1142 : decode cL_law 1142 = .ok (.ireturn, 1) := dk_172 (dk_at dksL_law_41 8 rfl rfl)
theorem dL_law_1143 : decode cL_law 1143 = .ok (.goto 1404, 3) := dk_167 5 124 (dk_at dksL_law_41 9 rfl rfl)
theorem dL_law_1146 : decode cL_law 1146 = .ok (.aload_n 1, 1) := dk_43 (dk_at dksL_law_41 12 rfl rfl)
theorem dL_law_1147 : decode cL_law 1147 = .ok (.aload_n 0, 1) := dk_42 (dk_at dksL_law_41 13 rfl rfl)
theorem dL_law_1148 : decode cL_law 1148 = .ok (.iload 4, 2) := dk_21 4 (dk_at dksL_law_41 14 rfl rfl)
theorem dL_law_1150 : decode cL_law 1150 = .ok (.iconst 1, 1) := dk_4 (dk_at dksL_law_41 16 rfl rfl)
theorem dL_law_1151 : decode cL_law 1151 = .ok (.iadd, 1) := dk_96 (dk_at dksL_law_41 17 rfl rfl)
theorem dL_law_1152 : decode cL_law 1152 = .ok (.iaload, 1) := dk_46 (dk_at dksL_law_41 18 rfl rfl)
theorem dL_law_1153 : decode cL_law 1153 = .ok (.aload_n 3, 1) := dk_45 (dk_at dksL_law_41 19 rfl rfl)
theorem dL_law_1154 : decode cL_law 1154 = .ok (.invokestatic 186, 3) := dk_184 0 186 (dk_at dksL_law_41 20 rfl rfl)
theorem dL_law_1157 : decode cL_law 1157 = .ok (.istore 5, 2) := dk_54 5 (dk_at dksL_law_42 0 rfl rfl)
theorem dL_law_1159 : decode cL_law 1159 = .ok (.aload_n 2, 1) := dk_44 (dk_at dksL_law_42 2 rfl rfl)
theorem dL_law_1160 : decode cL_law 1160 = .ok (.aload_n 0, 1) := dk_42 (dk_at dksL_law_42 3 rfl rfl)
theorem dL_law_1161 : decode cL_law 1161 = .ok (.iload 4, 2) := dk_21 4 (dk_at dksL_law_42 4 rfl rfl)
theorem dL_law_1163 : decode cL_law 1163 = .ok (.iconst 1, 1) := dk_4 (dk_at dksL_law_42 6 rfl rfl)
theorem dL_law_1164 : decode cL_law 1164 = .ok (.iadd, 1) := dk_96 (dk_at dksL_law_42 7 rfl rfl)
theorem dL_law_1165 : decode cL_law 1165 = .ok (.iaload, 1) := dk_46 (dk_at dksL_law_42 8 rfl rfl)
theorem dL_law_1166 : decode cL_law 1166 = .ok (.invokevirtual 188, 3) := dk_182 0 188 (dk_at dksL_law_42 9 rfl rfl)
theorem dL_law_1169 : decode cL_law 1169 = .ok (.istore 6, 2) := dk_54 6 (dk_at dksL_law_42 12 rfl rfl)
theorem dL_law_1171 : decode cL_law 1171 = .ok (.aload_n 2, 1) := dk_44 (dk_at dksL_law_42 14 rfl rfl)
theorem dL_law_1172 : decode cL_law 1172 = .ok (.invokevirtual 125, 3) := dk_182 0 125 (dk_at dksL_law_42 15 rfl rfl)
theorem dL_law_1175 : decode cL_law 1175 = .ok (.iload 5, 2) := dk_21 5 (dk_at dksL_law_42 18 rfl rfl)
theorem dL_law_1177 : decode cL_law 1177 = .ok (.if_icmp .eq 5, 3) := dk_159 0 5 (dk_at dksL_law_42 20 rfl rfl)
theorem dL_law_1180 : decode cL_law 1180 = .ok (.iconst 0, 1) := dk_3 (dk_at dksL_law_42 23 rfl rfl)
theorem dL_law_1181 : decode cL_law 1181 = .ok (.ireturn, 1) := dk_172 (dk_at dksL_law_43 0 rfl rfl)
theorem dL_law_1182 : decode cL_law 1182 = .ok (.iload 5, 2) := dk_21 5 (dk_at dksL_law_43 1 rfl rfl)
theorem dL_law_1184 : decode cL_law 1184 = .ok (.ifCond .ne 15, 3) := dk_154 0 15 (dk_at dksL_law_43 3 rfl rfl)
theorem dL_law_1187 : decode cL_law 1187 = .ok (.aload_n 3, 1) := dk_45 (dk_at dksL_law_43 6 rfl rfl)
theorem dL_law_1188 : decode cL_law 1188 = .ok (.iconst 0, 1) := dk_3 (dk_at dksL_law_43 7 rfl rfl)
theorem dL_law_1189 : decode cL_law 1189 = .ok (.laload, 1) := dk_47 (dk_at dksL_law_43 8 rfl rfl)
theorem dL_law_1190 : decode cL_law 1190 = .ok (.iload 6, 2) := dk_21 6 (dk_at dksL_law_43 9 rfl rfl)
theorem dL_law_1192 : decode cL_law 1192 = .ok (.i2l, 1) := dk_133 (dk_at dksL_law_43 11 rfl rfl)
theorem dL_law_1193 : decode cL_law 1193 = .ok (.lcmp, 1) := dk_148 (dk_at dksL_law_43 12 rfl rfl)
theorem dL_law_1194 : decode cL_law 1194 = .ok (.ifCond .eq 5, 3) := dk_153 0 5 (dk_at dksL_law_43 13 rfl rfl)
theorem dL_law_1197 : decode cL_law 1197 = .ok (.iconst 0, 1) := dk_3 (dk_at dksL_law_43 16 rfl rfl)
theorem dL_law_1198 : decode cL_law 1198 = .ok (.ireturn, 1) := dk_172 (dk_at dksL_law_43 17 rfl rfl)
theorem dL_law_1199 : decode cL_law 1199 = .ok (.goto 1348, 3) := dk_167 5 68 (dk_at dksL_law_43 18 rfl rfl)
theorem dL_law_1202 : decode cL_law 1202 = .ok (.aload_n 1, 1) := dk_43 (dk_at dksL_law_43 21 rfl rfl)
theorem dL_law_1203 : decode cL_law 1203 = .ok (.aload_n 0, 1) := dk_42 (dk_at dksL_law_43 22 rfl rfl)
theorem dL_law_1204 : decode cL_law 1204 = .ok (.iload 4, 2) := dk_21 4 (dk_at dksL_law_44 0 rfl rfl)
theorem dL_law_1206 : decode cL_law 1206 = .ok (.iconst 1, 1) := dk_4 (dk_at dksL_law_44 2 rfl rfl)
theorem dL_law_1207 : decode cL_law 1207 = .ok (.iadd, 1) := dk_96 (dk_at dksL_law_44 3 rfl rfl)
theorem dL_law_1208 : decode cL_law 1208 = .ok (.iaload, 1) := dk_46 (dk_at dksL_law_44 4 rfl rfl)
theorem dL_law_1209 : decode cL_law 1209 = .ok (.aload_n 0, 1) := dk_42 (dk_at dksL_law_44 5 rfl rfl)
theorem dL_law_1210 : decode cL_law 1210 = .ok (.iload 4, 2) := dk_21 4 (dk_at dksL_law_44 6 rfl rfl)
theorem dL_law_1212 : decode cL_law 1212 = .ok (.iconst 2, 1) := dk_5 (dk_at dksL_law_44 8 rfl rfl)
theorem dL_law_1213 : decode cL_law 1213 = .ok (.iadd, 1) := dk_96 (dk_at dksL_law_44 9 rfl rfl)
theorem dL_law_1214 : decode cL_law 1214 = .ok (.iaload, 1) := dk_46 (dk_at dksL_law_44 10 rfl rfl)
theorem dL_law_1215 : decode cL_law 1215 = .ok (.aload_n 3, 1) := dk_45 (dk_at dksL_law_44 11 rfl rfl)
theorem dL_law_1216 : decode cL_law 1216 = .ok (.invokestatic 189, 3) := dk_184 0 189 (dk_at dksL_law_44 12 rfl rfl)
theorem dL_law_1219 : decode cL_law 1219 = .ok (.istore 5, 2) := dk_54 5 (dk_at dksL_law_44 15 rfl rfl)
theorem dL_law_1221 : decode cL_law 1221 = .ok (.aload_n 2, 1) := dk_44 (dk_at dksL_law_44 17 rfl rfl)
theorem dL_law_1222 : decode cL_law 1222 = .ok (.aload_n 0, 1) := dk_42 (dk_at dksL_law_44 18 rfl rfl)
theorem dL_law_1223 : decode cL_law 1223 = .ok (.iload 4, 2) := dk_21 4 (dk_at dksL_law_44 19 rfl rfl)
theorem dL_law_1225 : decode cL_law 1225 = .ok (.iconst 1, 1) := dk_4 (dk_at dksL_law_44 21 rfl rfl)
theorem dL_law_1226 : decode cL_law 1226 = .ok (.iadd, 1) := dk_96 (dk_at dksL_law_44 22 rfl rfl)
theorem dL_law_1227 : decode cL_law 1227 = .ok (.iaload, 1) := dk_46 (dk_at dksL_law_44 23 rfl rfl)
theorem dL_law_1228 : decode cL_law 1228 = .ok (.aload_n 0, 1) := dk_42 (dk_at dksL_law_45 0 rfl rfl)
theorem dL_law_1229 : decode cL_law 1229 = .ok (.iload 4, 2) := dk_21 4 (dk_at dksL_law_45 1 rfl rfl)
theorem dL_law_1231 : decode cL_law 1231 = .ok (.iconst 2, 1) := dk_5 (dk_at dksL_law_45 3 rfl rfl)
theorem dL_law_1232 : decode cL_law 1232 = .ok (.iadd, 1) := dk_96 (dk_at dksL_law_45 4 rfl rfl)
theorem dL_law_1233 : decode cL_law 1233 = .ok (.iaload, 1) := dk_46 (dk_at dksL_law_45 5 rfl rfl)
theorem dL_law_1234 : decode cL_law 1234 = .ok (.invokevirtual 192, 3) := dk_182 0 192 (dk_at dksL_law_45 6 rfl rfl)
theorem dL_law_1237 : decode cL_law 1237 = .ok (.istore 6, 2) := dk_54 6 (dk_at dksL_law_45 9 rfl rfl)
theorem dL_law_1239 : decode cL_law 1239 = .ok (.aload_n 2, 1) := dk_44 (dk_at dksL_law_45 11 rfl rfl)
theorem dL_law_1240 : decode cL_law 1240 = .ok (.invokevirtual 125, 3) := dk_182 0 125 (dk_at dksL_law_45 12 rfl rfl)
theorem dL_law_1243 : decode cL_law 1243 = .ok (.iload 5, 2) := dk_21 5 (dk_at dksL_law_45 15 rfl rfl)
theorem dL_law_1245 : decode cL_law 1245 = .ok (.if_icmp .eq 5, 3) := dk_159 0 5 (dk_at dksL_law_45 17 rfl rfl)
theorem dL_law_1248 : decode cL_law 1248 = .ok (.iconst 0, 1) := dk_3 (dk_at dksL_law_45 20 rfl rfl)
theorem dL_law_1249 : decode cL_law 1249 = .ok (.ireturn, 1) := dk_172 (dk_at dksL_law_45 21 rfl rfl)
theorem dL_law_1250 : decode cL_law 1250 = .ok (.iload 5, 2) := dk_21 5 (dk_at dksL_law_45 22 rfl rfl)
theorem dL_law_1252 : decode cL_law 1252 = .ok (.ifCond .ne 15, 3) := dk_154 0 15 (dk_at dksL_law_46 0 rfl rfl)
theorem dL_law_1255 : decode cL_law 1255 = .ok (.aload_n 3, 1) := dk_45 (dk_at dksL_law_46 3 rfl rfl)
theorem dL_law_1256 : decode cL_law 1256 = .ok (.iconst 0, 1) := dk_3 (dk_at dksL_law_46 4 rfl rfl)
theorem dL_law_1257 : decode cL_law 1257 = .ok (.laload, 1) := dk_47 (dk_at dksL_law_46 5 rfl rfl)
theorem dL_law_1258 : decode cL_law 1258 = .ok (.iload 6, 2) := dk_21 6 (dk_at dksL_law_46 6 rfl rfl)
theorem dL_law_1260 : decode cL_law 1260 = .ok (.i2l, 1) := dk_133 (dk_at dksL_law_46 8 rfl rfl)
theorem dL_law_1261 : decode cL_law 1261 = .ok (.lcmp, 1) := dk_148 (dk_at dksL_law_46 9 rfl rfl)
theorem dL_law_1262 : decode cL_law 1262 = .ok (.ifCond .eq 5, 3) := dk_153 0 5 (dk_at dksL_law_46 10 rfl rfl)
theorem dL_law_1265 : decode cL_law 1265 = .ok (.iconst 0, 1) := dk_3 (dk_at dksL_law_46 13 rfl rfl)
theorem dL_law_1266 : decode cL_law 1266 = .ok (.ireturn, 1) := dk_172 (dk_at dksL_law_46 14 rfl rfl)
theorem dL_law_1267 : decode cL_law 1267 = .ok (.goto 1280, 3) := dk_167 5 0 (dk_at dksL_law_46 15 rfl rfl)
theorem dL_law_1270 : decode cL_law 1270 = .ok (.aload_n 1, 1) := dk_43 (dk_at dksL_law_46 18 rfl rfl)
theorem dL_law_1271 : decode cL_law 1271 = .ok (.aload_n 0, 1) := dk_42 (dk_at dksL_law_46 19 rfl rfl)
theorem dL_law_1272 : decode cL_law 1272 = .ok (.iload 4, 2) := dk_21 4 (dk_at dksL_law_46 20 rfl rfl)
theorem dL_law_1274 : decode cL_law 1274 = .ok (.iconst 1, 1) := dk_4 (dk_at dksL_law_46 22 rfl rfl)
theorem dL_law_1275 : decode cL_law 1275 = .ok (.iadd, 1) := dk_96 (dk_at dksL_law_46 23 rfl rfl)
theorem dL_law_1276 : decode cL_law 1276 = .ok (.iaload, 1) := dk_46 (dk_at dksL_law_47 0 rfl rfl)
theorem dL_law_1277 : decode cL_law 1277 = .ok (.aload_n 0, 1) := dk_42 (dk_at dksL_law_47 1 rfl rfl)
theorem dL_law_1278 : decode cL_law 1278 = .ok (.iload 4, 2) := dk_21 4 (dk_at dksL_law_47 2 rfl rfl)
theorem dL_law_1280 : decode cL_law 1280 = .ok (.iconst 2, 1) := dk_5 (dk_at dksL_law_47 4 rfl rfl)
theorem dL_law_1281 : decode cL_law 1281 = .ok (.iadd, 1) := dk_96 (dk_at dksL_law_47 5 rfl rfl)
theorem dL_law_1282 : decode cL_law 1282 = .ok (.iaload, 1) := dk_46 (dk_at dksL_law_47 6 rfl rfl)
theorem dL_law_1283 : decode cL_law 1283 = .ok (.aload_n 3, 1) := dk_45 (dk_at dksL_law_47 7 rfl rfl)
theorem dL_law_1284 : decode cL_law 1284 = .ok (.invokestatic 193, 3) := dk_184 0 193 (dk_at dksL_law_47 8 rfl rfl)
theorem dL_law_1287 : decode cL_law 1287 = .ok (.istore 5, 2) := dk_54 5 (dk_at dksL_law_47 11 rfl rfl)
theorem dL_law_1289 : decode cL_law 1289 = .ok (.aload_n 2, 1) := dk_44 (dk_at dksL_law_47 13 rfl rfl)
theorem dL_law_1290 : decode cL_law 1290 = .ok (.aload_n 0, 1) := dk_42 (dk_at dksL_law_47 14 rfl rfl)
theorem dL_law_1291 : decode cL_law 1291 = .ok (.iload 4, 2) := dk_21 4 (dk_at dksL_law_47 15 rfl rfl)
theorem dL_law_1293 : decode cL_law 1293 = .ok (.iconst 1, 1) := dk_4 (dk_at dksL_law_47 17 rfl rfl)
theorem dL_law_1294 : decode cL_law 1294 = .ok (.iadd, 1) := dk_96 (dk_at dksL_law_47 18 rfl rfl)
theorem dL_law_1295 : decode cL_law 1295 = .ok (.iaload, 1) := dk_46 (dk_at dksL_law_47 19 rfl rfl)
theorem dL_law_1296 : decode cL_law 1296 = .ok (.aload_n 0, 1) := dk_42 (dk_at dksL_law_47 20 rfl rfl)
theorem dL_law_1297 : decode cL_law 1297 = .ok (.iload 4, 2) := dk_21 4 (dk_at dksL_law_47 21 rfl rfl)
theorem dL_law_1299 : decode cL_law 1299 = .ok (.iconst 2, 1) := dk_5 (dk_at dksL_law_47 23 rfl rfl)
theorem dL_law_1300 : decode cL_law 1300 = .ok (.iadd, 1) := dk_96 (dk_at dksL_law_48 0 rfl rfl)
theorem dL_law_1301 : decode cL_law 1301 = .ok (.iaload, 1) := dk_46 (dk_at dksL_law_48 1 rfl rfl)
theorem dL_law_1302 : decode cL_law 1302 = .ok (.invokevirtual 195, 3) := dk_182 0 195 (dk_at dksL_law_48 2 rfl rfl)
theorem dL_law_1305 : decode cL_law 1305 = .ok (.istore 6, 2) := dk_54 6 (dk_at dksL_law_48 5 rfl rfl)
theorem dL_law_1307 : decode cL_law 1307 = .ok (.aload_n 2, 1) := dk_44 (dk_at dksL_law_48 7 rfl rfl)
theorem dL_law_1308 : decode cL_law 1308 = .ok (.invokevirtual 125, 3) := dk_182 0 125 (dk_at dksL_law_48 8 rfl rfl)
theorem dL_law_1311 : decode cL_law 1311 = .ok (.iload 5, 2) := dk_21 5 (dk_at dksL_law_48 11 rfl rfl)
theorem dL_law_1313 : decode cL_law 1313 = .ok (.if_icmp .eq 5, 3) := dk_159 0 5 (dk_at dksL_law_48 13 rfl rfl)
theorem dL_law_1316 : decode cL_law 1316 = .ok (.iconst 0, 1) := dk_3 (dk_at dksL_law_48 16 rfl rfl)
theorem dL_law_1317 : decode cL_law 1317 = .ok (.ireturn, 1) := dk_172 (dk_at dksL_law_48 17 rfl rfl)
theorem dL_law_1318 : decode cL_law 1318 = .ok (.iload 5, 2) := dk_21 5 (dk_at dksL_law_48 18 rfl rfl)
theorem dL_law_1320 : decode cL_law 1320 = .ok (.ifCond .ne 15, 3) := dk_154 0 15 (dk_at dksL_law_48 20 rfl rfl)
theorem dL_law_1323 : decode cL_law 1323 = .ok (.aload_n 3, 1) := dk_45 (dk_at dksL_law_48 23 rfl rfl)
theorem dL_law_1324 : decode cL_law 1324 = .ok (.iconst 0, 1) := dk_3 (dk_at dksL_law_49 0 rfl rfl)
theorem dL_law_1325 : decode cL_law 1325 = .ok (.laload, 1) := dk_47 (dk_at dksL_law_49 1 rfl rfl)
theorem dL_law_1326 : decode cL_law 1326 = .ok (.iload 6, 2) := dk_21 6 (dk_at dksL_law_49 2 rfl rfl)
theorem dL_law_1328 : decode cL_law 1328 = .ok (.i2l, 1) := dk_133 (dk_at dksL_law_49 4 rfl rfl)
theorem dL_law_1329 : decode cL_law 1329 = .ok (.lcmp, 1) := dk_148 (dk_at dksL_law_49 5 rfl rfl)
theorem dL_law_1330 : decode cL_law 1330 = .ok (.ifCond .eq 5, 3) := dk_153 0 5 (dk_at dksL_law_49 6 rfl rfl)
theorem dL_law_1333 : decode cL_law 1333 = .ok (.iconst 0, 1) := dk_3 (dk_at dksL_law_49 9 rfl rfl)
theorem dL_law_1334 : decode cL_law 1334 = .ok (.ireturn, 1) := dk_172 (dk_at dksL_law_49 10 rfl rfl)
theorem dL_law_1335 : decode cL_law 1335 = .ok (.goto 1212, 3) := dk_167 4 188 (dk_at dksL_law_49 11 rfl rfl)
theorem dL_law_1338 : decode cL_law 1338 = .ok (.aload_n 1, 1) := dk_43 (dk_at dksL_law_49 14 rfl rfl)
theorem dL_law_1339 : decode cL_law 1339 = .ok (.aload_n 0, 1) := dk_42 (dk_at dksL_law_49 15 rfl rfl)
theorem dL_law_1340 : decode cL_law 1340 = .ok (.iload 4, 2) := dk_21 4 (dk_at dksL_law_49 16 rfl rfl)
theorem dL_law_1342 : decode cL_law 1342 = .ok (.iconst 1, 1) := dk_4 (dk_at dksL_law_49 18 rfl rfl)
theorem dL_law_1343 : decode cL_law 1343 = .ok (.iadd, 1) := dk_96 (dk_at dksL_law_49 19 rfl rfl)
theorem dL_law_1344 : decode cL_law 1344 = .ok (.iaload, 1) := dk_46 (dk_at dksL_law_49 20 rfl rfl)
theorem dL_law_1345 : decode cL_law 1345 = .ok (.aload_n 0, 1) := dk_42 (dk_at dksL_law_49 21 rfl rfl)
theorem dL_law_1346 : decode cL_law 1346 = .ok (.iload 4, 2) := dk_21 4 (dk_at dksL_law_49 22 rfl rfl)
theorem dL_law_1348 : decode cL_law 1348 = .ok (.iconst 2, 1) := dk_5 (dk_at dksL_law_50 0 rfl rfl)
theorem dL_law_1349 : decode cL_law 1349 = .ok (.iadd, 1) := dk_96 (dk_at dksL_law_50 1 rfl rfl)
theorem dL_law_1350 : decode cL_law 1350 = .ok (.iaload, 1) := dk_46 (dk_at dksL_law_50 2 rfl rfl)
theorem dL_law_1351 : decode cL_law 1351 = .ok (.aload_n 3, 1) := dk_45 (dk_at dksL_law_50 3 rfl rfl)
theorem dL_law_1352 : decode cL_law 1352 = .ok (.invokestatic 196, 3) := dk_184 0 196 (dk_at dksL_law_50 4 rfl rfl)
theorem dL_law_1355 : decode cL_law 1355 = .ok (.istore 5, 2) := dk_54 5 (dk_at dksL_law_50 7 rfl rfl)
theorem dL_law_1357 : decode cL_law 1357 = .ok (.aload_n 2, 1) := dk_44 (dk_at dksL_law_50 9 rfl rfl)
theorem dL_law_1358 : decode cL_law 1358 = .ok (.aload_n 0, 1) := dk_42 (dk_at dksL_law_50 10 rfl rfl)
theorem dL_law_1359 : decode cL_law 1359 = .ok (.iload 4, 2) := dk_21 4 (dk_at dksL_law_50 11 rfl rfl)
theorem dL_law_1361 : decode cL_law 1361 = .ok (.iconst 1, 1) := dk_4 (dk_at dksL_law_50 13 rfl rfl)
theorem dL_law_1362 : decode cL_law 1362 = .ok (.iadd, 1) := dk_96 (dk_at dksL_law_50 14 rfl rfl)
theorem dL_law_1363 : decode cL_law 1363 = .ok (.iaload, 1) := dk_46 (dk_at dksL_law_50 15 rfl rfl)
theorem dL_law_1364 : decode cL_law 1364 = .ok (.aload_n 0, 1) := dk_42 (dk_at dksL_law_50 16 rfl rfl)
theorem dL_law_1365 : decode cL_law 1365 = .ok (.iload 4, 2) := dk_21 4 (dk_at dksL_law_50 17 rfl rfl)
theorem dL_law_1367 : decode cL_law 1367 = .ok (.iconst 2, 1) := dk_5 (dk_at dksL_law_50 19 rfl rfl)
theorem dL_law_1368 : decode cL_law 1368 = .ok (.iadd, 1) := dk_96 (dk_at dksL_law_50 20 rfl rfl)
theorem dL_law_1369 : decode cL_law 1369 = .ok (.iaload, 1) := dk_46 (dk_at dksL_law_50 21 rfl rfl)
theorem dL_law_1370 : decode cL_law 1370 = .ok (.invokevirtual 198, 3) := dk_182 0 198 (dk_at dksL_law_51 0 rfl rfl)
theorem dL_law_1373 : decode cL_law 1373 = .ok (.istore 6, 2) := dk_54 6 (dk_at dksL_law_51 3 rfl rfl)
theorem dL_law_1375 : decode cL_law 1375 = .ok (.aload_n 2, 1) := dk_44 (dk_at dksL_law_51 5 rfl rfl)
theorem dL_law_1376 : decode cL_law 1376 = .ok (.invokevirtual 125, 3) := dk_182 0 125 (dk_at dksL_law_51 6 rfl rfl)
theorem dL_law_1379 : decode cL_law 1379 = .ok (.iload 5, 2) := dk_21 5 (dk_at dksL_law_51 9 rfl rfl)
theorem dL_law_1381 : decode cL_law 1381 = .ok (.if_icmp .eq 5, 3) := dk_159 0 5 (dk_at dksL_law_51 11 rfl rfl)
theorem dL_law_1384 : decode cL_law 1384 = .ok (.iconst 0, 1) := dk_3 (dk_at dksL_law_51 14 rfl rfl)
theorem dL_law_1385 : decode cL_law 1385 = .ok (.ireturn, 1) := dk_172 (dk_at dksL_law_51 15 rfl rfl)
theorem dL_law_1386 : decode cL_law 1386 = .ok (.iload 5, 2) := dk_21 5 (dk_at dksL_law_51 16 rfl rfl)
theorem dL_law_1388 : decode cL_law 1388 = .ok (.ifCond .ne 15, 3) := dk_154 0 15 (dk_at dksL_law_51 18 rfl rfl)
theorem dL_law_1391 : decode cL_law 1391 = .ok (.aload_n 3, 1) := dk_45 (dk_at dksL_law_51 21 rfl rfl)
theorem dL_law_1392 : decode cL_law 1392 = .ok (.iconst 0, 1) := dk_3 (dk_at dksL_law_51 22 rfl rfl)
theorem dL_law_1393 : decode cL_law 1393 = .ok (.laload, 1) := dk_47 (dk_at dksL_law_51 23 rfl rfl)
theorem dL_law_1394 : decode cL_law 1394 = .ok (.iload 6, 2) := dk_21 6 (dk_at dksL_law_52 0 rfl rfl)
theorem dL_law_1396 : decode cL_law 1396 = .ok (.i2l, 1) := dk_133 (dk_at dksL_law_52 2 rfl rfl)
theorem dL_law_1397 : decode cL_law 1397 = .ok (.lcmp, 1) := dk_148 (dk_at dksL_law_52 3 rfl rfl)
theorem dL_law_1398 : decode cL_law 1398 = .ok (.ifCond .eq 5, 3) := dk_153 0 5 (dk_at dksL_law_52 4 rfl rfl)
theorem dL_law_1401 : decode cL_law 1401 = .ok (.iconst 0, 1) := dk_3 (dk_at dksL_law_52 7 rfl rfl)
theorem dL_law_1402 : decode cL_law 1402 = .ok (.ireturn, 1) := dk_172 (dk_at dksL_law_52 8 rfl rfl)
theorem dL_law_1403 : decode cL_law 1403 = .ok (.goto 1144, 3) := dk_167 4 120 (dk_at dksL_law_52 9 rfl rfl)
theorem dL_law_1406 : decode cL_law 1406 = .ok (.aload_n 1, 1) := dk_43 (dk_at dksL_law_52 12 rfl rfl)
theorem dL_law_1407 : decode cL_law 1407 = .ok (.aload_n 0, 1) := dk_42 (dk_at dksL_law_52 13 rfl rfl)
theorem dL_law_1408 : decode cL_law 1408 = .ok (.iload 4, 2) := dk_21 4 (dk_at dksL_law_52 14 rfl rfl)
theorem dL_law_1410 : decode cL_law 1410 = .ok (.iconst 1, 1) := dk_4 (dk_at dksL_law_52 16 rfl rfl)
theorem dL_law_1411 : decode cL_law 1411 = .ok (.iadd, 1) := dk_96 (dk_at dksL_law_52 17 rfl rfl)
theorem dL_law_1412 : decode cL_law 1412 = .ok (.iaload, 1) := dk_46 (dk_at dksL_law_52 18 rfl rfl)
theorem dL_law_1413 : decode cL_law 1413 = .ok (.aload_n 0, 1) := dk_42 (dk_at dksL_law_52 19 rfl rfl)
theorem dL_law_1414 : decode cL_law 1414 = .ok (.iload 4, 2) := dk_21 4 (dk_at dksL_law_52 20 rfl rfl)
theorem dL_law_1416 : decode cL_law 1416 = .ok (.iconst 2, 1) := dk_5 (dk_at dksL_law_52 22 rfl rfl)
theorem dL_law_1417 : decode cL_law 1417 = .ok (.iadd, 1) := dk_96 (dk_at dksL_law_52 23 rfl rfl)
theorem dL_law_1418 : decode cL_law 1418 = .ok (.iaload, 1) := dk_46 (dk_at dksL_law_53 0 rfl rfl)
theorem dL_law_1419 : decode cL_law 1419 = .ok (.aload_n 0, 1) := dk_42 (dk_at dksL_law_53 1 rfl rfl)
theorem dL_law_1420 : decode cL_law 1420 = .ok (.iload 4, 2) := dk_21 4 (dk_at dksL_law_53 2 rfl rfl)
theorem dL_law_1422 : decode cL_law 1422 = .ok (.iconst 3, 1) := dk_6 (dk_at dksL_law_53 4 rfl rfl)
theorem dL_law_1423 : decode cL_law 1423 = .ok (.iadd, 1) := dk_96 (dk_at dksL_law_53 5 rfl rfl)
theorem dL_law_1424 : decode cL_law 1424 = .ok (.iaload, 1) := dk_46 (dk_at dksL_law_53 6 rfl rfl)
theorem dL_law_1425 : decode cL_law 1425 = .ok (.ifCond .eq 7, 3) := dk_153 0 7 (dk_at dksL_law_53 7 rfl rfl)
theorem dL_law_1428 : decode cL_law 1428 = .ok (.iconst 1, 1) := dk_4 (dk_at dksL_law_53 10 rfl rfl)
theorem dL_law_1429 : decode cL_law 1429 = .ok (.goto 4, 3) := dk_167 0 4 (dk_at dksL_law_53 11 rfl rfl)
theorem dL_law_1432 : decode cL_law 1432 = .ok (.iconst 0, 1) := dk_3 (dk_at dksL_law_53 14 rfl rfl)
theorem dL_law_1433 : decode cL_law 1433 = .ok (.aload_n 3, 1) := dk_45 (dk_at dksL_law_53 15 rfl rfl)
theorem dL_law_1434 : decode cL_law 1434 = .ok (.invokestatic 199, 3) := dk_184 0 199 (dk_at dksL_law_53 16 rfl rfl)
theorem dL_law_1437 : decode cL_law 1437 = .ok (.istore 5, 2) := dk_54 5 (dk_at dksL_law_53 19 rfl rfl)
theorem dL_law_1439 : decode cL_law 1439 = .ok (.aload_n 2, 1) := dk_44 (dk_at dksL_law_53 21 rfl rfl)
theorem dL_law_1440 : decode cL_law 1440 = .ok (.aload_n 0, 1) := dk_42 (dk_at dksL_law_53 22 rfl rfl)
theorem dL_law_1441 : decode cL_law 1441 = .ok (.iload 4, 2) := dk_21 4 (dk_at dksL_law_54 0 rfl rfl)
theorem dL_law_1443 : decode cL_law 1443 = .ok (.iconst 1, 1) := dk_4 (dk_at dksL_law_54 2 rfl rfl)
theorem dL_law_1444 : decode cL_law 1444 = .ok (.iadd, 1) := dk_96 (dk_at dksL_law_54 3 rfl rfl)
theorem dL_law_1445 : decode cL_law 1445 = .ok (.iaload, 1) := dk_46 (dk_at dksL_law_54 4 rfl rfl)
theorem dL_law_1446 : decode cL_law 1446 = .ok (.aload_n 0, 1) := dk_42 (dk_at dksL_law_54 5 rfl rfl)
theorem dL_law_1447 : decode cL_law 1447 = .ok (.iload 4, 2) := dk_21 4 (dk_at dksL_law_54 6 rfl rfl)
theorem dL_law_1449 : decode cL_law 1449 = .ok (.iconst 2, 1) := dk_5 (dk_at dksL_law_54 8 rfl rfl)
theorem dL_law_1450 : decode cL_law 1450 = .ok (.iadd, 1) := dk_96 (dk_at dksL_law_54 9 rfl rfl)
theorem dL_law_1451 : decode cL_law 1451 = .ok (.iaload, 1) := dk_46 (dk_at dksL_law_54 10 rfl rfl)
theorem dL_law_1452 : decode cL_law 1452 = .ok (.aload_n 0, 1) := dk_42 (dk_at dksL_law_54 11 rfl rfl)
theorem dL_law_1453 : decode cL_law 1453 = .ok (.iload 4, 2) := dk_21 4 (dk_at dksL_law_54 12 rfl rfl)
theorem dL_law_1455 : decode cL_law 1455 = .ok (.iconst 3, 1) := dk_6 (dk_at dksL_law_54 14 rfl rfl)
theorem dL_law_1456 : decode cL_law 1456 = .ok (.iadd, 1) := dk_96 (dk_at dksL_law_54 15 rfl rfl)
theorem dL_law_1457 : decode cL_law 1457 = .ok (.iaload, 1) := dk_46 (dk_at dksL_law_54 16 rfl rfl)
theorem dL_law_1458 : decode cL_law 1458 = .ok (.ifCond .eq 7, 3) := dk_153 0 7 (dk_at dksL_law_54 17 rfl rfl)
theorem dL_law_1461 : decode cL_law 1461 = .ok (.iconst 1, 1) := dk_4 (dk_at dksL_law_54 20 rfl rfl)
theorem dL_law_1462 : decode cL_law 1462 = .ok (.goto 4, 3) := dk_167 0 4 (dk_at dksL_law_54 21 rfl rfl)
theorem dL_law_1465 : decode cL_law 1465 = .ok (.iconst 0, 1) := dk_3 (dk_at dksL_law_55 0 rfl rfl)
theorem dL_law_1466 : decode cL_law 1466 = .ok (.invokevirtual 202, 3) := dk_182 0 202 (dk_at dksL_law_55 1 rfl rfl)
theorem dL_law_1469 : decode cL_law 1469 = .ok (.istore 6, 2) := dk_54 6 (dk_at dksL_law_55 4 rfl rfl)
theorem dL_law_1471 : decode cL_law 1471 = .ok (.aload_n 2, 1) := dk_44 (dk_at dksL_law_55 6 rfl rfl)
theorem dL_law_1472 : decode cL_law 1472 = .ok (.invokevirtual 125, 3) := dk_182 0 125 (dk_at dksL_law_55 7 rfl rfl)
theorem dL_law_1475 : decode cL_law 1475 = .ok (.iload 5, 2) := dk_21 5 (dk_at dksL_law_55 10 rfl rfl)
theorem dL_law_1477 : decode cL_law 1477 = .ok (.if_icmp .eq 5, 3) := dk_159 0 5 (dk_at dksL_law_55 12 rfl rfl)
theorem dL_law_1480 : decode cL_law 1480 = .ok (.iconst 0, 1) := dk_3 (dk_at dksL_law_55 15 rfl rfl)
theorem dL_law_1481 : decode cL_law 1481 = .ok (.ireturn, 1) := dk_172 (dk_at dksL_law_55 16 rfl rfl)
theorem dL_law_1482 : decode cL_law 1482 = .ok (.iload 5, 2) := dk_21 5 (dk_at dksL_law_55 17 rfl rfl)
theorem dL_law_1484 : decode cL_law 1484 = .ok (.ifCond .ne 15, 3) := dk_154 0 15 (dk_at dksL_law_55 19 rfl rfl)
theorem dL_law_1487 : decode cL_law 1487 = .ok (.aload_n 3, 1) := dk_45 (dk_at dksL_law_55 22 rfl rfl)
theorem dL_law_1488 : decode cL_law 1488 = .ok (.iconst 0, 1) := dk_3 (dk_at dksL_law_55 23 rfl rfl)
theorem dL_law_1489 : decode cL_law 1489 = .ok (.laload, 1) := dk_47 (dk_at dksL_law_56 0 rfl rfl)
theorem dL_law_1490 : decode cL_law 1490 = .ok (.iload 6, 2) := dk_21 6 (dk_at dksL_law_56 1 rfl rfl)
theorem dL_law_1492 : decode cL_law 1492 = .ok (.i2l, 1) := dk_133 (dk_at dksL_law_56 3 rfl rfl)
theorem dL_law_1493 : decode cL_law 1493 = .ok (.lcmp, 1) := dk_148 (dk_at dksL_law_56 4 rfl rfl)
theorem dL_law_1494 : decode cL_law 1494 = .ok (.ifCond .eq 5, 3) := dk_153 0 5 (dk_at dksL_law_56 5 rfl rfl)
theorem dL_law_1497 : decode cL_law 1497 = .ok (.iconst 0, 1) := dk_3 (dk_at dksL_law_56 8 rfl rfl)
theorem dL_law_1498 : decode cL_law 1498 = .ok (.ireturn, 1) := dk_172 (dk_at dksL_law_56 9 rfl rfl)
theorem dL_law_1499 : decode cL_law 1499 = .ok (.goto 1048, 3) := dk_167 4 24 (dk_at dksL_law_56 10 rfl rfl)
theorem dL_law_1502 : decode cL_law 1502 = .ok (.aload_n 1, 1) := dk_43 (dk_at dksL_law_56 13 rfl rfl)
theorem dL_law_1503 : decode cL_law 1503 = .ok (.aload_n 0, 1) := dk_42 (dk_at dksL_law_56 14 rfl rfl)
theorem dL_law_1504 : decode cL_law 1504 = .ok (.iload 4, 2) := dk_21 4 (dk_at dksL_law_56 15 rfl rfl)
theorem dL_law_1506 : decode cL_law 1506 = .ok (.iconst 1, 1) := dk_4 (dk_at dksL_law_56 17 rfl rfl)
theorem dL_law_1507 : decode cL_law 1507 = .ok (.iadd, 1) := dk_96 (dk_at dksL_law_56 18 rfl rfl)
theorem dL_law_1508 : decode cL_law 1508 = .ok (.iaload, 1) := dk_46 (dk_at dksL_law_56 19 rfl rfl)
theorem dL_law_1509 : decode cL_law 1509 = .ok (.aload_n 0, 1) := dk_42 (dk_at dksL_law_56 20 rfl rfl)
theorem dL_law_1510 : decode cL_law 1510 = .ok (.iload 4, 2) := dk_21 4 (dk_at dksL_law_56 21 rfl rfl)
theorem dL_law_1512 : decode cL_law 1512 = .ok (.iconst 2, 1) := dk_5 (dk_at dksL_law_56 23 rfl rfl)
theorem dL_law_1513 : decode cL_law 1513 = .ok (.iadd, 1) := dk_96 (dk_at dksL_law_57 0 rfl rfl)
theorem dL_law_1514 : decode cL_law 1514 = .ok (.iaload, 1) := dk_46 (dk_at dksL_law_57 1 rfl rfl)
theorem dL_law_1515 : decode cL_law 1515 = .ok (.aload_n 3, 1) := dk_45 (dk_at dksL_law_57 2 rfl rfl)
theorem dL_law_1516 : decode cL_law 1516 = .ok (.invokestatic 203, 3) := dk_184 0 203 (dk_at dksL_law_57 3 rfl rfl)
theorem dL_law_1519 : decode cL_law 1519 = .ok (.istore 5, 2) := dk_54 5 (dk_at dksL_law_57 6 rfl rfl)
theorem dL_law_1521 : decode cL_law 1521 = .ok (.aload_n 2, 1) := dk_44 (dk_at dksL_law_57 8 rfl rfl)
theorem dL_law_1522 : decode cL_law 1522 = .ok (.aload_n 0, 1) := dk_42 (dk_at dksL_law_57 9 rfl rfl)
theorem dL_law_1523 : decode cL_law 1523 = .ok (.iload 4, 2) := dk_21 4 (dk_at dksL_law_57 10 rfl rfl)
theorem dL_law_1525 : decode cL_law 1525 = .ok (.iconst 1, 1) := dk_4 (dk_at dksL_law_57 12 rfl rfl)
theorem dL_law_1526 : decode cL_law 1526 = .ok (.iadd, 1) := dk_96 (dk_at dksL_law_57 13 rfl rfl)
theorem dL_law_1527 : decode cL_law 1527 = .ok (.iaload, 1) := dk_46 (dk_at dksL_law_57 14 rfl rfl)
theorem dL_law_1528 : decode cL_law 1528 = .ok (.aload_n 0, 1) := dk_42 (dk_at dksL_law_57 15 rfl rfl)
theorem dL_law_1529 : decode cL_law 1529 = .ok (.iload 4, 2) := dk_21 4 (dk_at dksL_law_57 16 rfl rfl)
theorem dL_law_1531 : decode cL_law 1531 = .ok (.iconst 2, 1) := dk_5 (dk_at dksL_law_57 18 rfl rfl)
theorem dL_law_1532 : decode cL_law 1532 = .ok (.iadd, 1) := dk_96 (dk_at dksL_law_57 19 rfl rfl)
theorem dL_law_1533 : decode cL_law 1533 = .ok (.iaload, 1) := dk_46 (dk_at dksL_law_57 20 rfl rfl)
theorem dL_law_1534 : decode cL_law 1534 = .ok (.invokevirtual 205, 3) := dk_182 0 205 (dk_at dksL_law_57 21 rfl rfl)
theorem dL_law_1537 : decode cL_law 1537 = .ok (.istore 6, 2) := dk_54 6 (dk_at dksL_law_58 0 rfl rfl)
theorem dL_law_1539 : decode cL_law 1539 = .ok (.aload_n 2, 1) := dk_44 (dk_at dksL_law_58 2 rfl rfl)
theorem dL_law_1540 : decode cL_law 1540 = .ok (.invokevirtual 125, 3) := dk_182 0 125 (dk_at dksL_law_58 3 rfl rfl)
theorem dL_law_1543 : decode cL_law 1543 = .ok (.iload 5, 2) := dk_21 5 (dk_at dksL_law_58 6 rfl rfl)
theorem dL_law_1545 : decode cL_law 1545 = .ok (.if_icmp .eq 5, 3) := dk_159 0 5 (dk_at dksL_law_58 8 rfl rfl)
theorem dL_law_1548 : decode cL_law 1548 = .ok (.iconst 0, 1) := dk_3 (dk_at dksL_law_58 11 rfl rfl)
theorem dL_law_1549 : decode cL_law 1549 = .ok (.ireturn, 1) := dk_172 (dk_at dksL_law_58 12 rfl rfl)
theorem dL_law_1550 : decode cL_law 1550 = .ok (.iload 5, 2) := dk_21 5 (dk_at dksL_law_58 13 rfl rfl)
theorem dL_law_1552 : decode cL_law 1552 = .ok (.ifCond .ne 15, 3) := dk_154 0 15 (dk_at dksL_law_58 15 rfl rfl)
theorem dL_law_1555 : decode cL_law 1555 = .ok (.aload_n 3, 1) := dk_45 (dk_at dksL_law_58 18 rfl rfl)
theorem dL_law_1556 : decode cL_law 1556 = .ok (.iconst 0, 1) := dk_3 (dk_at dksL_law_58 19 rfl rfl)
theorem dL_law_1557 : decode cL_law 1557 = .ok (.laload, 1) := dk_47 (dk_at dksL_law_58 20 rfl rfl)
theorem dL_law_1558 : decode cL_law 1558 = .ok (.iload 6, 2) := dk_21 6 (dk_at dksL_law_58 21 rfl rfl)
theorem dL_law_1560 : decode cL_law 1560 = .ok (.i2l, 1) := dk_133 (dk_at dksL_law_58 23 rfl rfl)
theorem dL_law_1561 : decode cL_law 1561 = .ok (.lcmp, 1) := dk_148 (dk_at dksL_law_59 0 rfl rfl)
theorem dL_law_1562 : decode cL_law 1562 = .ok (.ifCond .eq 5, 3) := dk_153 0 5 (dk_at dksL_law_59 1 rfl rfl)
theorem dL_law_1565 : decode cL_law 1565 = .ok (.iconst 0, 1) := dk_3 (dk_at dksL_law_59 4 rfl rfl)
theorem dL_law_1566 : decode cL_law 1566 = .ok (.ireturn, 1) := dk_172 (dk_at dksL_law_59 5 rfl rfl)
theorem dL_law_1567 : decode cL_law 1567 = .ok (.goto 980, 3) := dk_167 3 212 (dk_at dksL_law_59 6 rfl rfl)
theorem dL_law_1570 : decode cL_law 1570 = .ok (.aload_n 1, 1) := dk_43 (dk_at dksL_law_59 9 rfl rfl)
theorem dL_law_1571 : decode cL_law 1571 = .ok (.aload_n 0, 1) := dk_42 (dk_at dksL_law_59 10 rfl rfl)
theorem dL_law_1572 : decode cL_law 1572 = .ok (.iload 4, 2) := dk_21 4 (dk_at dksL_law_59 11 rfl rfl)
theorem dL_law_1574 : decode cL_law 1574 = .ok (.iconst 1, 1) := dk_4 (dk_at dksL_law_59 13 rfl rfl)
theorem dL_law_1575 : decode cL_law 1575 = .ok (.iadd, 1) := dk_96 (dk_at dksL_law_59 14 rfl rfl)
theorem dL_law_1576 : decode cL_law 1576 = .ok (.iaload, 1) := dk_46 (dk_at dksL_law_59 15 rfl rfl)
theorem dL_law_1577 : decode cL_law 1577 = .ok (.invokevirtual 206, 3) := dk_182 0 206 (dk_at dksL_law_59 16 rfl rfl)
theorem dL_law_1580 : decode cL_law 1580 = .ok (.aload_n 2, 1) := dk_44 (dk_at dksL_law_59 19 rfl rfl)
theorem dL_law_1581 : decode cL_law 1581 = .ok (.aload_n 0, 1) := dk_42 (dk_at dksL_law_59 20 rfl rfl)
theorem dL_law_1582 : decode cL_law 1582 = .ok (.iload 4, 2) := dk_21 4 (dk_at dksL_law_59 21 rfl rfl)
theorem dL_law_1584 : decode cL_law 1584 = .ok (.iconst 1, 1) := dk_4 (dk_at dksL_law_59 23 rfl rfl)
theorem dL_law_1585 : decode cL_law 1585 = .ok (.iadd, 1) := dk_96 (dk_at dksL_law_60 0 rfl rfl)
theorem dL_law_1586 : decode cL_law 1586 = .ok (.iaload, 1) := dk_46 (dk_at dksL_law_60 1 rfl rfl)
theorem dL_law_1587 : decode cL_law 1587 = .ok (.invokevirtual 209, 3) := dk_182 0 209 (dk_at dksL_law_60 2 rfl rfl)
theorem dL_law_1590 : decode cL_law 1590 = .ok (.if_icmp .eq 957, 3) := dk_159 3 189 (dk_at dksL_law_60 5 rfl rfl)
theorem dL_law_1593 : decode cL_law 1593 = .ok (.iconst 0, 1) := dk_3 (dk_at dksL_law_60 8 rfl rfl)
theorem dL_law_1594 : decode cL_law 1594 = .ok (.ireturn, 1) := dk_172 (dk_at dksL_law_60 9 rfl rfl)
theorem dL_law_1595 : decode cL_law 1595 = .ok (.aload_n 1, 1) := dk_43 (dk_at dksL_law_60 10 rfl rfl)
theorem dL_law_1596 : decode cL_law 1596 = .ok (.aload_n 0, 1) := dk_42 (dk_at dksL_law_60 11 rfl rfl)
theorem dL_law_1597 : decode cL_law 1597 = .ok (.iload 4, 2) := dk_21 4 (dk_at dksL_law_60 12 rfl rfl)
theorem dL_law_1599 : decode cL_law 1599 = .ok (.iconst 1, 1) := dk_4 (dk_at dksL_law_60 14 rfl rfl)
theorem dL_law_1600 : decode cL_law 1600 = .ok (.iadd, 1) := dk_96 (dk_at dksL_law_60 15 rfl rfl)
theorem dL_law_1601 : decode cL_law 1601 = .ok (.iaload, 1) := dk_46 (dk_at dksL_law_60 16 rfl rfl)
theorem dL_law_1602 : decode cL_law 1602 = .ok (.aload_n 0, 1) := dk_42 (dk_at dksL_law_60 17 rfl rfl)
theorem dL_law_1603 : decode cL_law 1603 = .ok (.iload 4, 2) := dk_21 4 (dk_at dksL_law_60 18 rfl rfl)
theorem dL_law_1605 : decode cL_law 1605 = .ok (.iconst 2, 1) := dk_5 (dk_at dksL_law_60 20 rfl rfl)
theorem dL_law_1606 : decode cL_law 1606 = .ok (.iadd, 1) := dk_96 (dk_at dksL_law_60 21 rfl rfl)
theorem dL_law_1607 : decode cL_law 1607 = .ok (.iaload, 1) := dk_46 (dk_at dksL_law_60 22 rfl rfl)
theorem dL_law_1608 : decode cL_law 1608 = .ok (.aload_n 3, 1) := dk_45 (dk_at dksL_law_60 23 rfl rfl)
theorem dL_law_1609 : decode cL_law 1609 = .ok (.invokestatic 210, 3) := dk_184 0 210 (dk_at dksL_law_61 0 rfl rfl)
theorem dL_law_1612 : decode cL_law 1612 = .ok (.istore 5, 2) := dk_54 5 (dk_at dksL_law_61 3 rfl rfl)
theorem dL_law_1614 : decode cL_law 1614 = .ok (.aload_n 2, 1) := dk_44 (dk_at dksL_law_61 5 rfl rfl)
theorem dL_law_1615 : decode cL_law 1615 = .ok (.aload_n 0, 1) := dk_42 (dk_at dksL_law_61 6 rfl rfl)
theorem dL_law_1616 : decode cL_law 1616 = .ok (.iload 4, 2) := dk_21 4 (dk_at dksL_law_61 7 rfl rfl)
theorem dL_law_1618 : decode cL_law 1618 = .ok (.iconst 1, 1) := dk_4 (dk_at dksL_law_61 9 rfl rfl)
theorem dL_law_1619 : decode cL_law 1619 = .ok (.iadd, 1) := dk_96 (dk_at dksL_law_61 10 rfl rfl)
theorem dL_law_1620 : decode cL_law 1620 = .ok (.iaload, 1) := dk_46 (dk_at dksL_law_61 11 rfl rfl)
theorem dL_law_1621 : decode cL_law 1621 = .ok (.aload_n 0, 1) := dk_42 (dk_at dksL_law_61 12 rfl rfl)
theorem dL_law_1622 : decode cL_law 1622 = .ok (.iload 4, 2) := dk_21 4 (dk_at dksL_law_61 13 rfl rfl)
theorem dL_law_1624 : decode cL_law 1624 = .ok (.iconst 2, 1) := dk_5 (dk_at dksL_law_61 15 rfl rfl)
theorem dL_law_1625 : decode cL_law 1625 = .ok (.iadd, 1) := dk_96 (dk_at dksL_law_61 16 rfl rfl)
theorem dL_law_1626 : decode cL_law 1626 = .ok (.iaload, 1) := dk_46 (dk_at dksL_law_61 17 rfl rfl)
theorem dL_law_1627 : decode cL_law 1627 = .ok (.invokevirtual 212, 3) := dk_182 0 212 (dk_at dksL_law_61 18 rfl rfl)
theorem dL_law_1630 : decode cL_law 1630 = .ok (.istore 6, 2) := dk_54 6 (dk_at dksL_law_61 21 rfl rfl)
theorem dL_law_1632 : decode cL_law 1632 = .ok (.aload_n 2, 1) := dk_44 (dk_at dksL_law_61 23 rfl rfl)
theorem dL_law_1633 : decode cL_law 1633 = .ok (.invokevirtual 125, 3) := dk_182 0 125 (dk_at dksL_law_62 0 rfl rfl)
theorem dL_law_1636 : decode cL_law 1636 = .ok (.iload 5, 2) := dk_21 5 (dk_at dksL_law_62 3 rfl rfl)
theorem dL_law_1638 : decode cL_law 1638 = .ok (.if_icmp .eq 5, 3) := dk_159 0 5 (dk_at dksL_law_62 5 rfl rfl)
theorem dL_law_1641 : decode cL_law 1641 = .ok (.iconst 0, 1) := dk_3 (dk_at dksL_law_62 8 rfl rfl)
theorem dL_law_1642 : decode cL_law 1642 = .ok (.ireturn, 1) := dk_172 (dk_at dksL_law_62 9 rfl rfl)
theorem dL_law_1643 : decode cL_law 1643 = .ok (.iload 5, 2) := dk_21 5 (dk_at dksL_law_62 10 rfl rfl)
theorem dL_law_1645 : decode cL_law 1645 = .ok (.ifCond .ne 15, 3) := dk_154 0 15 (dk_at dksL_law_62 12 rfl rfl)
theorem dL_law_1648 : decode cL_law 1648 = .ok (.aload_n 3, 1) := dk_45 (dk_at dksL_law_62 15 rfl rfl)
theorem dL_law_1649 : decode cL_law 1649 = .ok (.iconst 0, 1) := dk_3 (dk_at dksL_law_62 16 rfl rfl)
theorem dL_law_1650 : decode cL_law 1650 = .ok (.laload, 1) := dk_47 (dk_at dksL_law_62 17 rfl rfl)
theorem dL_law_1651 : decode cL_law 1651 = .ok (.iload 6, 2) := dk_21 6 (dk_at dksL_law_62 18 rfl rfl)
theorem dL_law_1653 : decode cL_law 1653 = .ok (.i2l, 1) := dk_133 (dk_at dksL_law_62 20 rfl rfl)
theorem dL_law_1654 : decode cL_law 1654 = .ok (.lcmp, 1) := dk_148 (dk_at dksL_law_62 21 rfl rfl)
theorem dL_law_1655 : decode cL_law 1655 = .ok (.ifCond .eq 5, 3) := dk_153 0 5 (dk_at dksL_law_63 0 rfl rfl)
theorem dL_law_1658 : decode cL_law 1658 = .ok (.iconst 0, 1) := dk_3 (dk_at dksL_law_63 3 rfl rfl)
theorem dL_law_1659 : decode cL_law 1659 = .ok (.ireturn, 1) := dk_172 (dk_at dksL_law_63 4 rfl rfl)
theorem dL_law_1660 : decode cL_law 1660 = .ok (.goto 887, 3) := dk_167 3 119 (dk_at dksL_law_63 5 rfl rfl)
theorem dL_law_1663 : decode cL_law 1663 = .ok (.aload_n 1, 1) := dk_43 (dk_at dksL_law_63 8 rfl rfl)
theorem dL_law_1664 : decode cL_law 1664 = .ok (.aload_n 0, 1) := dk_42 (dk_at dksL_law_63 9 rfl rfl)
theorem dL_law_1665 : decode cL_law 1665 = .ok (.iload 4, 2) := dk_21 4 (dk_at dksL_law_63 10 rfl rfl)
theorem dL_law_1667 : decode cL_law 1667 = .ok (.iconst 1, 1) := dk_4 (dk_at dksL_law_63 12 rfl rfl)
theorem dL_law_1668 : decode cL_law 1668 = .ok (.iadd, 1) := dk_96 (dk_at dksL_law_63 13 rfl rfl)
theorem dL_law_1669 : decode cL_law 1669 = .ok (.iaload, 1) := dk_46 (dk_at dksL_law_63 14 rfl rfl)
theorem dL_law_1670 : decode cL_law 1670 = .ok (.aload_n 0, 1) := dk_42 (dk_at dksL_law_63 15 rfl rfl)
theorem dL_law_1671 : decode cL_law 1671 = .ok (.iload 4, 2) := dk_21 4 (dk_at dksL_law_63 16 rfl rfl)
theorem dL_law_1673 : decode cL_law 1673 = .ok (.iconst 2, 1) := dk_5 (dk_at dksL_law_63 18 rfl rfl)
theorem dL_law_1674 : decode cL_law 1674 = .ok (.iadd, 1) := dk_96 (dk_at dksL_law_63 19 rfl rfl)
theorem dL_law_1675 : decode cL_law 1675 = .ok (.iaload, 1) := dk_46 (dk_at dksL_law_63 20 rfl rfl)
theorem dL_law_1676 : decode cL_law 1676 = .ok (.aload_n 3, 1) := dk_45 (dk_at dksL_law_63 21 rfl rfl)
theorem dL_law_1677 : decode cL_law 1677 = .ok (.invokestatic 213, 3) := dk_184 0 213 (dk_at dksL_law_64 0 rfl rfl)
theorem dL_law_1680 : decode cL_law 1680 = .ok (.istore 5, 2) := dk_54 5 (dk_at dksL_law_64 3 rfl rfl)
theorem dL_law_1682 : decode cL_law 1682 = .ok (.aload_n 2, 1) := dk_44 (dk_at dksL_law_64 5 rfl rfl)
theorem dL_law_1683 : decode cL_law 1683 = .ok (.aload_n 0, 1) := dk_42 (dk_at dksL_law_64 6 rfl rfl)
theorem dL_law_1684 : decode cL_law 1684 = .ok (.iload 4, 2) := dk_21 4 (dk_at dksL_law_64 7 rfl rfl)
theorem dL_law_1686 : decode cL_law 1686 = .ok (.iconst 1, 1) := dk_4 (dk_at dksL_law_64 9 rfl rfl)
theorem dL_law_1687 : decode cL_law 1687 = .ok (.iadd, 1) := dk_96 (dk_at dksL_law_64 10 rfl rfl)
theorem dL_law_1688 : decode cL_law 1688 = .ok (.iaload, 1) := dk_46 (dk_at dksL_law_64 11 rfl rfl)
theorem dL_law_1689 : decode cL_law 1689 = .ok (.aload_n 0, 1) := dk_42 (dk_at dksL_law_64 12 rfl rfl)
theorem dL_law_1690 : decode cL_law 1690 = .ok (.iload 4, 2) := dk_21 4 (dk_at dksL_law_64 13 rfl rfl)
theorem dL_law_1692 : decode cL_law 1692 = .ok (.iconst 2, 1) := dk_5 (dk_at dksL_law_64 15 rfl rfl)
theorem dL_law_1693 : decode cL_law 1693 = .ok (.iadd, 1) := dk_96 (dk_at dksL_law_64 16 rfl rfl)
theorem dL_law_1694 : decode cL_law 1694 = .ok (.iaload, 1) := dk_46 (dk_at dksL_law_64 17 rfl rfl)
theorem dL_law_1695 : decode cL_law 1695 = .ok (.invokevirtual 215, 3) := dk_182 0 215 (dk_at dksL_law_64 18 rfl rfl)
theorem dL_law_1698 : decode cL_law 1698 = .ok (.istore 6, 2) := dk_54 6 (dk_at dksL_law_64 21 rfl rfl)
theorem dL_law_1700 : decode cL_law 1700 = .ok (.aload_n 2, 1) := dk_44 (dk_at dksL_law_64 23 rfl rfl)
theorem dL_law_1701 : decode cL_law 1701 = .ok (.invokevirtual 125, 3) := dk_182 0 125 (dk_at dksL_law_65 0 rfl rfl)
theorem dL_law_1704 : decode cL_law 1704 = .ok (.iload 5, 2) := dk_21 5 (dk_at dksL_law_65 3 rfl rfl)
theorem dL_law_1706 : decode cL_law 1706 = .ok (.if_icmp .eq 5, 3) := dk_159 0 5 (dk_at dksL_law_65 5 rfl rfl)
theorem dL_law_1709 : decode cL_law 1709 = .ok (.iconst 0, 1) := dk_3 (dk_at dksL_law_65 8 rfl rfl)
theorem dL_law_1710 : decode cL_law 1710 = .ok (.ireturn, 1) := dk_172 (dk_at dksL_law_65 9 rfl rfl)
theorem dL_law_1711 : decode cL_law 1711 = .ok (.iload 5, 2) := dk_21 5 (dk_at dksL_law_65 10 rfl rfl)
theorem dL_law_1713 : decode cL_law 1713 = .ok (.ifCond .ne 15, 3) := dk_154 0 15 (dk_at dksL_law_65 12 rfl rfl)
theorem dL_law_1716 : decode cL_law 1716 = .ok (.aload_n 3, 1) := dk_45 (dk_at dksL_law_65 15 rfl rfl)
theorem dL_law_1717 : decode cL_law 1717 = .ok (.iconst 0, 1) := dk_3 (dk_at dksL_law_65 16 rfl rfl)
theorem dL_law_1718 : decode cL_law 1718 = .ok (.laload, 1) := dk_47 (dk_at dksL_law_65 17 rfl rfl)
theorem dL_law_1719 : decode cL_law 1719 = .ok (.iload 6, 2) := dk_21 6 (dk_at dksL_law_65 18 rfl rfl)
theorem dL_law_1721 : decode cL_law 1721 = .ok (.i2l, 1) := dk_133 (dk_at dksL_law_65 20 rfl rfl)
theorem dL_law_1722 : decode cL_law 1722 = .ok (.lcmp, 1) := dk_148 (dk_at dksL_law_65 21 rfl rfl)
theorem dL_law_1723 : decode cL_law 1723 = .ok (.ifCond .eq 5, 3) := dk_153 0 5 (dk_at dksL_law_66 0 rfl rfl)
theorem dL_law_1726 : decode cL_law 1726 = .ok (.iconst 0, 1) := dk_3 (dk_at dksL_law_66 3 rfl rfl)
theorem dL_law_1727 : decode cL_law 1727 = .ok (.ireturn, 1) := dk_172 (dk_at dksL_law_66 4 rfl rfl)
theorem dL_law_1728 : decode cL_law 1728 = .ok (.goto 819, 3) := dk_167 3 51 (dk_at dksL_law_66 5 rfl rfl)
theorem dL_law_1731 : decode cL_law 1731 = .ok (.aload_n 1, 1) := dk_43 (dk_at dksL_law_66 8 rfl rfl)
theorem dL_law_1732 : decode cL_law 1732 = .ok (.aload_n 0, 1) := dk_42 (dk_at dksL_law_66 9 rfl rfl)
theorem dL_law_1733 : decode cL_law 1733 = .ok (.iload 4, 2) := dk_21 4 (dk_at dksL_law_66 10 rfl rfl)
theorem dL_law_1735 : decode cL_law 1735 = .ok (.iconst 1, 1) := dk_4 (dk_at dksL_law_66 12 rfl rfl)
theorem dL_law_1736 : decode cL_law 1736 = .ok (.iadd, 1) := dk_96 (dk_at dksL_law_66 13 rfl rfl)
theorem dL_law_1737 : decode cL_law 1737 = .ok (.iaload, 1) := dk_46 (dk_at dksL_law_66 14 rfl rfl)
theorem dL_law_1738 : decode cL_law 1738 = .ok (.aload_n 0, 1) := dk_42 (dk_at dksL_law_66 15 rfl rfl)
theorem dL_law_1739 : decode cL_law 1739 = .ok (.iload 4, 2) := dk_21 4 (dk_at dksL_law_66 16 rfl rfl)
theorem dL_law_1741 : decode cL_law 1741 = .ok (.iconst 2, 1) := dk_5 (dk_at dksL_law_66 18 rfl rfl)
theorem dL_law_1742 : decode cL_law 1742 = .ok (.iadd, 1) := dk_96 (dk_at dksL_law_66 19 rfl rfl)
theorem dL_law_1743 : decode cL_law 1743 = .ok (.iaload, 1) := dk_46 (dk_at dksL_law_66 20 rfl rfl)
theorem dL_law_1744 : decode cL_law 1744 = .ok (.aload_n 3, 1) := dk_45 (dk_at dksL_law_66 21 rfl rfl)
theorem dL_law_1745 : decode cL_law 1745 = .ok (.invokestatic 216, 3) := dk_184 0 216 (dk_at dksL_law_67 0 rfl rfl)
theorem dL_law_1748 : decode cL_law 1748 = .ok (.istore 5, 2) := dk_54 5 (dk_at dksL_law_67 3 rfl rfl)
theorem dL_law_1750 : decode cL_law 1750 = .ok (.aload_n 2, 1) := dk_44 (dk_at dksL_law_67 5 rfl rfl)
theorem dL_law_1751 : decode cL_law 1751 = .ok (.aload_n 0, 1) := dk_42 (dk_at dksL_law_67 6 rfl rfl)
theorem dL_law_1752 : decode cL_law 1752 = .ok (.iload 4, 2) := dk_21 4 (dk_at dksL_law_67 7 rfl rfl)
theorem dL_law_1754 : decode cL_law 1754 = .ok (.iconst 1, 1) := dk_4 (dk_at dksL_law_67 9 rfl rfl)
theorem dL_law_1755 : decode cL_law 1755 = .ok (.iadd, 1) := dk_96 (dk_at dksL_law_67 10 rfl rfl)
theorem dL_law_1756 : decode cL_law 1756 = .ok (.iaload, 1) := dk_46 (dk_at dksL_law_67 11 rfl rfl)
theorem dL_law_1757 : decode cL_law 1757 = .ok (.aload_n 0, 1) := dk_42 (dk_at dksL_law_67 12 rfl rfl)
theorem dL_law_1758 : decode cL_law 1758 = .ok (.iload 4, 2) := dk_21 4 (dk_at dksL_law_67 13 rfl rfl)
theorem dL_law_1760 : decode cL_law 1760 = .ok (.iconst 2, 1) := dk_5 (dk_at dksL_law_67 15 rfl rfl)
theorem dL_law_1761 : decode cL_law 1761 = .ok (.iadd, 1) := dk_96 (dk_at dksL_law_67 16 rfl rfl)
theorem dL_law_1762 : decode cL_law 1762 = .ok (.iaload, 1) := dk_46 (dk_at dksL_law_67 17 rfl rfl)
theorem dL_law_1763 : decode cL_law 1763 = .ok (.invokevirtual 218, 3) := dk_182 0 218 (dk_at dksL_law_67 18 rfl rfl)
theorem dL_law_1766 : decode cL_law 1766 = .ok (.istore 6, 2) := dk_54 6 (dk_at dksL_law_67 21 rfl rfl)
theorem dL_law_1768 : decode cL_law 1768 = .ok (.aload_n 2, 1) := dk_44 (dk_at dksL_law_67 23 rfl rfl)
theorem dL_law_1769 : decode cL_law 1769 = .ok (.invokevirtual 125, 3) := dk_182 0 125 (dk_at dksL_law_68 0 rfl rfl)
theorem dL_law_1772 : decode cL_law 1772 = .ok (.iload 5, 2) := dk_21 5 (dk_at dksL_law_68 3 rfl rfl)
theorem dL_law_1774 : decode cL_law 1774 = .ok (.if_icmp .eq 5, 3) := dk_159 0 5 (dk_at dksL_law_68 5 rfl rfl)
theorem dL_law_1777 : decode cL_law 1777 = .ok (.iconst 0, 1) := dk_3 (dk_at dksL_law_68 8 rfl rfl)
theorem dL_law_1778 : decode cL_law 1778 = .ok (.ireturn, 1) := dk_172 (dk_at dksL_law_68 9 rfl rfl)
theorem dL_law_1779 : decode cL_law 1779 = .ok (.iload 5, 2) := dk_21 5 (dk_at dksL_law_68 10 rfl rfl)
theorem dL_law_1781 : decode cL_law 1781 = .ok (.ifCond .ne 15, 3) := dk_154 0 15 (dk_at dksL_law_68 12 rfl rfl)
theorem dL_law_1784 : decode cL_law 1784 = .ok (.aload_n 3, 1) := dk_45 (dk_at dksL_law_68 15 rfl rfl)
theorem dL_law_1785 : decode cL_law 1785 = .ok (.iconst 0, 1) := dk_3 (dk_at dksL_law_68 16 rfl rfl)
theorem dL_law_1786 : decode cL_law 1786 = .ok (.laload, 1) := dk_47 (dk_at dksL_law_68 17 rfl rfl)
theorem dL_law_1787 : decode cL_law 1787 = .ok (.iload 6, 2) := dk_21 6 (dk_at dksL_law_68 18 rfl rfl)
theorem dL_law_1789 : decode cL_law 1789 = .ok (.i2l, 1) := dk_133 (dk_at dksL_law_68 20 rfl rfl)
theorem dL_law_1790 : decode cL_law 1790 = .ok (.lcmp, 1) := dk_148 (dk_at dksL_law_68 21 rfl rfl)
theorem dL_law_1791 : decode cL_law 1791 = .ok (.ifCond .eq 5, 3) := dk_153 0 5 (dk_at dksL_law_69 0 rfl rfl)
theorem dL_law_1794 : decode cL_law 1794 = .ok (.iconst 0, 1) := dk_3 (dk_at dksL_law_69 3 rfl rfl)
theorem dL_law_1795 : decode cL_law 1795 = .ok (.ireturn, 1) := dk_172 (dk_at dksL_law_69 4 rfl rfl)
theorem dL_law_1796 : decode cL_law 1796 = .ok (.goto 751, 3) := dk_167 2 239 (dk_at dksL_law_69 5 rfl rfl)
theorem dL_law_1799 : decode cL_law 1799 = .ok (.aload_n 1, 1) := dk_43 (dk_at dksL_law_69 8 rfl rfl)
theorem dL_law_1800 : decode cL_law 1800 = .ok (.aload_n 0, 1) := dk_42 (dk_at dksL_law_69 9 rfl rfl)
theorem dL_law_1801 : decode cL_law 1801 = .ok (.iload 4, 2) := dk_21 4 (dk_at dksL_law_69 10 rfl rfl)
theorem dL_law_1803 : decode cL_law 1803 = .ok (.iconst 1, 1) := dk_4 (dk_at dksL_law_69 12 rfl rfl)
theorem dL_law_1804 : decode cL_law 1804 = .ok (.iadd, 1) := dk_96 (dk_at dksL_law_69 13 rfl rfl)
theorem dL_law_1805 : decode cL_law 1805 = .ok (.iaload, 1) := dk_46 (dk_at dksL_law_69 14 rfl rfl)
theorem dL_law_1806 : decode cL_law 1806 = .ok (.aload_n 0, 1) := dk_42 (dk_at dksL_law_69 15 rfl rfl)
theorem dL_law_1807 : decode cL_law 1807 = .ok (.iload 4, 2) := dk_21 4 (dk_at dksL_law_69 16 rfl rfl)
theorem dL_law_1809 : decode cL_law 1809 = .ok (.iconst 2, 1) := dk_5 (dk_at dksL_law_69 18 rfl rfl)
theorem dL_law_1810 : decode cL_law 1810 = .ok (.iadd, 1) := dk_96 (dk_at dksL_law_69 19 rfl rfl)
theorem dL_law_1811 : decode cL_law 1811 = .ok (.iaload, 1) := dk_46 (dk_at dksL_law_69 20 rfl rfl)
theorem dL_law_1812 : decode cL_law 1812 = .ok (.aload_n 3, 1) := dk_45 (dk_at dksL_law_69 21 rfl rfl)
theorem dL_law_1813 : decode cL_law 1813 = .ok (.invokestatic 219, 3) := dk_184 0 219 (dk_at dksL_law_70 0 rfl rfl)
theorem dL_law_1816 : decode cL_law 1816 = .ok (.istore 5, 2) := dk_54 5 (dk_at dksL_law_70 3 rfl rfl)
theorem dL_law_1818 : decode cL_law 1818 = .ok (.aload_n 2, 1) := dk_44 (dk_at dksL_law_70 5 rfl rfl)
theorem dL_law_1819 : decode cL_law 1819 = .ok (.aload_n 0, 1) := dk_42 (dk_at dksL_law_70 6 rfl rfl)
theorem dL_law_1820 : decode cL_law 1820 = .ok (.iload 4, 2) := dk_21 4 (dk_at dksL_law_70 7 rfl rfl)
theorem dL_law_1822 : decode cL_law 1822 = .ok (.iconst 1, 1) := dk_4 (dk_at dksL_law_70 9 rfl rfl)
theorem dL_law_1823 : decode cL_law 1823 = .ok (.iadd, 1) := dk_96 (dk_at dksL_law_70 10 rfl rfl)
theorem dL_law_1824 : decode cL_law 1824 = .ok (.iaload, 1) := dk_46 (dk_at dksL_law_70 11 rfl rfl)
theorem dL_law_1825 : decode cL_law 1825 = .ok (.aload_n 0, 1) := dk_42 (dk_at dksL_law_70 12 rfl rfl)
theorem dL_law_1826 : decode cL_law 1826 = .ok (.iload 4, 2) := dk_21 4 (dk_at dksL_law_70 13 rfl rfl)
theorem dL_law_1828 : decode cL_law 1828 = .ok (.iconst 2, 1) := dk_5 (dk_at dksL_law_70 15 rfl rfl)
theorem dL_law_1829 : decode cL_law 1829 = .ok (.iadd, 1) := dk_96 (dk_at dksL_law_70 16 rfl rfl)
theorem dL_law_1830 : decode cL_law 1830 = .ok (.iaload, 1) := dk_46 (dk_at dksL_law_70 17 rfl rfl)
theorem dL_law_1831 : decode cL_law 1831 = .ok (.invokevirtual 221, 3) := dk_182 0 221 (dk_at dksL_law_70 18 rfl rfl)
theorem dL_law_1834 : decode cL_law 1834 = .ok (.istore 6, 2) := dk_54 6 (dk_at dksL_law_70 21 rfl rfl)
theorem dL_law_1836 : decode cL_law 1836 = .ok (.aload_n 2, 1) := dk_44 (dk_at dksL_law_70 23 rfl rfl)
theorem dL_law_1837 : decode cL_law 1837 = .ok (.invokevirtual 125, 3) := dk_182 0 125 (dk_at dksL_law_71 0 rfl rfl)
theorem dL_law_1840 : decode cL_law 1840 = .ok (.iload 5, 2) := dk_21 5 (dk_at dksL_law_71 3 rfl rfl)
theorem dL_law_1842 : decode cL_law 1842 = .ok (.if_icmp .eq 5, 3) := dk_159 0 5 (dk_at dksL_law_71 5 rfl rfl)
theorem dL_law_1845 : decode cL_law 1845 = .ok (.iconst 0, 1) := dk_3 (dk_at dksL_law_71 8 rfl rfl)
theorem dL_law_1846 : decode cL_law 1846 = .ok (.ireturn, 1) := dk_172 (dk_at dksL_law_71 9 rfl rfl)
theorem dL_law_1847 : decode cL_law 1847 = .ok (.iload 5, 2) := dk_21 5 (dk_at dksL_law_71 10 rfl rfl)
theorem dL_law_1849 : decode cL_law 1849 = .ok (.ifCond .ne 15, 3) := dk_154 0 15 (dk_at dksL_law_71 12 rfl rfl)
theorem dL_law_1852 : decode cL_law 1852 = .ok (.aload_n 3, 1) := dk_45 (dk_at dksL_law_71 15 rfl rfl)
theorem dL_law_1853 : decode cL_law 1853 = .ok (.iconst 0, 1) := dk_3 (dk_at dksL_law_71 16 rfl rfl)
theorem dL_law_1854 : decode cL_law 1854 = .ok (.laload, 1) := dk_47 (dk_at dksL_law_71 17 rfl rfl)
theorem dL_law_1855 : decode cL_law 1855 = .ok (.iload 6, 2) := dk_21 6 (dk_at dksL_law_71 18 rfl rfl)
theorem dL_law_1857 : decode cL_law 1857 = .ok (.i2l, 1) := dk_133 (dk_at dksL_law_71 20 rfl rfl)
theorem dL_law_1858 : decode cL_law 1858 = .ok (.lcmp, 1) := dk_148 (dk_at dksL_law_71 21 rfl rfl)
theorem dL_law_1859 : decode cL_law 1859 = .ok (.ifCond .eq 5, 3) := dk_153 0 5 (dk_at dksL_law_72 0 rfl rfl)
theorem dL_law_1862 : decode cL_law 1862 = .ok (.iconst 0, 1) := dk_3 (dk_at dksL_law_72 3 rfl rfl)
theorem dL_law_1863 : decode cL_law 1863 = .ok (.ireturn, 1) := dk_172 (dk_at dksL_law_72 4 rfl rfl)
theorem dL_law_1864 : decode cL_law 1864 = .ok (.goto 683, 3) := dk_167 2 171 (dk_at dksL_law_72 5 rfl rfl)
theorem dL_law_1867 : decode cL_law 1867 = .ok (.aload_n 1, 1) := dk_43 (dk_at dksL_law_72 8 rfl rfl)
theorem dL_law_1868 : decode cL_law 1868 = .ok (.aload_n 0, 1) := dk_42 (dk_at dksL_law_72 9 rfl rfl)
theorem dL_law_1869 : decode cL_law 1869 = .ok (.iload 4, 2) := dk_21 4 (dk_at dksL_law_72 10 rfl rfl)
theorem dL_law_1871 : decode cL_law 1871 = .ok (.iconst 1, 1) := dk_4 (dk_at dksL_law_72 12 rfl rfl)
theorem dL_law_1872 : decode cL_law 1872 = .ok (.iadd, 1) := dk_96 (dk_at dksL_law_72 13 rfl rfl)
theorem dL_law_1873 : decode cL_law 1873 = .ok (.iaload, 1) := dk_46 (dk_at dksL_law_72 14 rfl rfl)
theorem dL_law_1874 : decode cL_law 1874 = .ok (.aload_n 0, 1) := dk_42 (dk_at dksL_law_72 15 rfl rfl)
theorem dL_law_1875 : decode cL_law 1875 = .ok (.iload 4, 2) := dk_21 4 (dk_at dksL_law_72 16 rfl rfl)
theorem dL_law_1877 : decode cL_law 1877 = .ok (.iconst 2, 1) := dk_5 (dk_at dksL_law_72 18 rfl rfl)
theorem dL_law_1878 : decode cL_law 1878 = .ok (.iadd, 1) := dk_96 (dk_at dksL_law_72 19 rfl rfl)
theorem dL_law_1879 : decode cL_law 1879 = .ok (.iaload, 1) := dk_46 (dk_at dksL_law_72 20 rfl rfl)
theorem dL_law_1880 : decode cL_law 1880 = .ok (.aload_n 0, 1) := dk_42 (dk_at dksL_law_72 21 rfl rfl)
theorem dL_law_1881 : decode cL_law 1881 = .ok (.iload 4, 2) := dk_21 4 (dk_at dksL_law_72 22 rfl rfl)
theorem dL_law_1883 : decode cL_law 1883 = .ok (.iconst 3, 1) := dk_6 (dk_at dksL_law_73 0 rfl rfl)
theorem dL_law_1884 : decode cL_law 1884 = .ok (.iadd, 1) := dk_96 (dk_at dksL_law_73 1 rfl rfl)
theorem dL_law_1885 : decode cL_law 1885 = .ok (.iaload, 1) := dk_46 (dk_at dksL_law_73 2 rfl rfl)
theorem dL_law_1886 : decode cL_law 1886 = .ok (.aload_n 3, 1) := dk_45 (dk_at dksL_law_73 3 rfl rfl)
theorem dL_law_1887 : decode cL_law 1887 = .ok (.invokestatic 222, 3) := dk_184 0 222 (dk_at dksL_law_73 4 rfl rfl)
theorem dL_law_1890 : decode cL_law 1890 = .ok (.istore 5, 2) := dk_54 5 (dk_at dksL_law_73 7 rfl rfl)
theorem dL_law_1892 : decode cL_law 1892 = .ok (.aload_n 2, 1) := dk_44 (dk_at dksL_law_73 9 rfl rfl)
theorem dL_law_1893 : decode cL_law 1893 = .ok (.aload_n 0, 1) := dk_42 (dk_at dksL_law_73 10 rfl rfl)
theorem dL_law_1894 : decode cL_law 1894 = .ok (.iload 4, 2) := dk_21 4 (dk_at dksL_law_73 11 rfl rfl)
theorem dL_law_1896 : decode cL_law 1896 = .ok (.iconst 1, 1) := dk_4 (dk_at dksL_law_73 13 rfl rfl)
theorem dL_law_1897 : decode cL_law 1897 = .ok (.iadd, 1) := dk_96 (dk_at dksL_law_73 14 rfl rfl)
theorem dL_law_1898 : decode cL_law 1898 = .ok (.iaload, 1) := dk_46 (dk_at dksL_law_73 15 rfl rfl)
theorem dL_law_1899 : decode cL_law 1899 = .ok (.aload_n 0, 1) := dk_42 (dk_at dksL_law_73 16 rfl rfl)
theorem dL_law_1900 : decode cL_law 1900 = .ok (.iload 4, 2) := dk_21 4 (dk_at dksL_law_73 17 rfl rfl)
theorem dL_law_1902 : decode cL_law 1902 = .ok (.iconst 2, 1) := dk_5 (dk_at dksL_law_73 19 rfl rfl)
theorem dL_law_1903 : decode cL_law 1903 = .ok (.iadd, 1) := dk_96 (dk_at dksL_law_73 20 rfl rfl)
theorem dL_law_1904 : decode cL_law 1904 = .ok (.iaload, 1) := dk_46 (dk_at dksL_law_73 21 rfl rfl)
theorem dL_law_1905 : decode cL_law 1905 = .ok (.aload_n 0, 1) := dk_42 (dk_at dksL_law_73 22 rfl rfl)
theorem dL_law_1906 : decode cL_law 1906 = .ok (.iload 4, 2) := dk_21 4 (dk_at dksL_law_74 0 rfl rfl)
theorem dL_law_1908 : decode cL_law 1908 = .ok (.iconst 3, 1) := dk_6 (dk_at dksL_law_74 2 rfl rfl)
theorem dL_law_1909 : decode cL_law 1909 = .ok (.iadd, 1) := dk_96 (dk_at dksL_law_74 3 rfl rfl)
theorem dL_law_1910 : decode cL_law 1910 = .ok (.iaload, 1) := dk_46 (dk_at dksL_law_74 4 rfl rfl)
theorem dL_law_1911 : decode cL_law 1911 = .ok (.invokevirtual 224, 3) := dk_182 0 224 (dk_at dksL_law_74 5 rfl rfl)
theorem dL_law_1914 : decode cL_law 1914 = .ok (.istore 6, 2) := dk_54 6 (dk_at dksL_law_74 8 rfl rfl)
theorem dL_law_1916 : decode cL_law 1916 = .ok (.aload_n 2, 1) := dk_44 (dk_at dksL_law_74 10 rfl rfl)
theorem dL_law_1917 : decode cL_law 1917 = .ok (.invokevirtual 125, 3) := dk_182 0 125 (dk_at dksL_law_74 11 rfl rfl)
theorem dL_law_1920 : decode cL_law 1920 = .ok (.iload 5, 2) := dk_21 5 (dk_at dksL_law_74 14 rfl rfl)
theorem dL_law_1922 : decode cL_law 1922 = .ok (.if_icmp .eq 5, 3) := dk_159 0 5 (dk_at dksL_law_74 16 rfl rfl)
theorem dL_law_1925 : decode cL_law 1925 = .ok (.iconst 0, 1) := dk_3 (dk_at dksL_law_74 19 rfl rfl)
theorem dL_law_1926 : decode cL_law 1926 = .ok (.ireturn, 1) := dk_172 (dk_at dksL_law_74 20 rfl rfl)
theorem dL_law_1927 : decode cL_law 1927 = .ok (.iload 5, 2) := dk_21 5 (dk_at dksL_law_74 21 rfl rfl)
theorem dL_law_1929 : decode cL_law 1929 = .ok (.ifCond .ne 15, 3) := dk_154 0 15 (dk_at dksL_law_75 0 rfl rfl)
theorem dL_law_1932 : decode cL_law 1932 = .ok (.aload_n 3, 1) := dk_45 (dk_at dksL_law_75 3 rfl rfl)
theorem dL_law_1933 : decode cL_law 1933 = .ok (.iconst 0, 1) := dk_3 (dk_at dksL_law_75 4 rfl rfl)
theorem dL_law_1934 : decode cL_law 1934 = .ok (.laload, 1) := dk_47 (dk_at dksL_law_75 5 rfl rfl)
theorem dL_law_1935 : decode cL_law 1935 = .ok (.iload 6, 2) := dk_21 6 (dk_at dksL_law_75 6 rfl rfl)
theorem dL_law_1937 : decode cL_law 1937 = .ok (.i2l, 1) := dk_133 (dk_at dksL_law_75 8 rfl rfl)
theorem dL_law_1938 : decode cL_law 1938 = .ok (.lcmp, 1) := dk_148 (dk_at dksL_law_75 9 rfl rfl)
theorem dL_law_1939 : decode cL_law 1939 = .ok (.ifCond .eq 5, 3) := dk_153 0 5 (dk_at dksL_law_75 10 rfl rfl)
theorem dL_law_1942 : decode cL_law 1942 = .ok (.iconst 0, 1) := dk_3 (dk_at dksL_law_75 13 rfl rfl)
theorem dL_law_1943 : decode cL_law 1943 = .ok (.ireturn, 1) := dk_172 (dk_at dksL_law_75 14 rfl rfl)
theorem dL_law_1944 : decode cL_law 1944 = .ok (.goto 603, 3) := dk_167 2 91 (dk_at dksL_law_75 15 rfl rfl)
theorem dL_law_1947 : decode cL_law 1947 = .ok (.aload_n 1, 1) := dk_43 (dk_at dksL_law_75 18 rfl rfl)
theorem dL_law_1948 : decode cL_law 1948 = .ok (.aload_n 0, 1) := dk_42 (dk_at dksL_law_75 19 rfl rfl)
theorem dL_law_1949 : decode cL_law 1949 = .ok (.iload 4, 2) := dk_21 4 (dk_at dksL_law_75 20 rfl rfl)
theorem dL_law_1951 : decode cL_law 1951 = .ok (.iconst 1, 1) := dk_4 (dk_at dksL_law_75 22 rfl rfl)
theorem dL_law_1952 : decode cL_law 1952 = .ok (.iadd, 1) := dk_96 (dk_at dksL_law_75 23 rfl rfl)
theorem dL_law_1953 : decode cL_law 1953 = .ok (.iaload, 1) := dk_46 (dk_at dksL_law_76 0 rfl rfl)
theorem dL_law_1954 : decode cL_law 1954 = .ok (.aload_n 0, 1) := dk_42 (dk_at dksL_law_76 1 rfl rfl)
theorem dL_law_1955 : decode cL_law 1955 = .ok (.iload 4, 2) := dk_21 4 (dk_at dksL_law_76 2 rfl rfl)
theorem dL_law_1957 : decode cL_law 1957 = .ok (.iconst 2, 1) := dk_5 (dk_at dksL_law_76 4 rfl rfl)
theorem dL_law_1958 : decode cL_law 1958 = .ok (.iadd, 1) := dk_96 (dk_at dksL_law_76 5 rfl rfl)
theorem dL_law_1959 : decode cL_law 1959 = .ok (.iaload, 1) := dk_46 (dk_at dksL_law_76 6 rfl rfl)
theorem dL_law_1960 : decode cL_law 1960 = .ok (.aload_n 0, 1) := dk_42 (dk_at dksL_law_76 7 rfl rfl)
theorem dL_law_1961 : decode cL_law 1961 = .ok (.iload 4, 2) := dk_21 4 (dk_at dksL_law_76 8 rfl rfl)
theorem dL_law_1963 : decode cL_law 1963 = .ok (.iconst 3, 1) := dk_6 (dk_at dksL_law_76 10 rfl rfl)
theorem dL_law_1964 : decode cL_law 1964 = .ok (.iadd, 1) := dk_96 (dk_at dksL_law_76 11 rfl rfl)
theorem dL_law_1965 : decode cL_law 1965 = .ok (.iaload, 1) := dk_46 (dk_at dksL_law_76 12 rfl rfl)
theorem dL_law_1966 : decode cL_law 1966 = .ok (.aload_n 3, 1) := dk_45 (dk_at dksL_law_76 13 rfl rfl)
theorem dL_law_1967 : decode cL_law 1967 = .ok (.invokestatic 225, 3) := dk_184 0 225 (dk_at dksL_law_76 14 rfl rfl)
theorem dL_law_1970 : decode cL_law 1970 = .ok (.istore 5, 2) := dk_54 5 (dk_at dksL_law_76 17 rfl rfl)
theorem dL_law_1972 : decode cL_law 1972 = .ok (.aload_n 2, 1) := dk_44 (dk_at dksL_law_76 19 rfl rfl)
theorem dL_law_1973 : decode cL_law 1973 = .ok (.aload_n 0, 1) := dk_42 (dk_at dksL_law_76 20 rfl rfl)
theorem dL_law_1974 : decode cL_law 1974 = .ok (.iload 4, 2) := dk_21 4 (dk_at dksL_law_76 21 rfl rfl)
theorem dL_law_1976 : decode cL_law 1976 = .ok (.iconst 1, 1) := dk_4 (dk_at dksL_law_76 23 rfl rfl)
theorem dL_law_1977 : decode cL_law 1977 = .ok (.iadd, 1) := dk_96 (dk_at dksL_law_77 0 rfl rfl)
theorem dL_law_1978 : decode cL_law 1978 = .ok (.iaload, 1) := dk_46 (dk_at dksL_law_77 1 rfl rfl)
theorem dL_law_1979 : decode cL_law 1979 = .ok (.aload_n 0, 1) := dk_42 (dk_at dksL_law_77 2 rfl rfl)
theorem dL_law_1980 : decode cL_law 1980 = .ok (.iload 4, 2) := dk_21 4 (dk_at dksL_law_77 3 rfl rfl)
theorem dL_law_1982 : decode cL_law 1982 = .ok (.iconst 2, 1) := dk_5 (dk_at dksL_law_77 5 rfl rfl)
theorem dL_law_1983 : decode cL_law 1983 = .ok (.iadd, 1) := dk_96 (dk_at dksL_law_77 6 rfl rfl)
theorem dL_law_1984 : decode cL_law 1984 = .ok (.iaload, 1) := dk_46 (dk_at dksL_law_77 7 rfl rfl)
theorem dL_law_1985 : decode cL_law 1985 = .ok (.aload_n 0, 1) := dk_42 (dk_at dksL_law_77 8 rfl rfl)
theorem dL_law_1986 : decode cL_law 1986 = .ok (.iload 4, 2) := dk_21 4 (dk_at dksL_law_77 9 rfl rfl)
theorem dL_law_1988 : decode cL_law 1988 = .ok (.iconst 3, 1) := dk_6 (dk_at dksL_law_77 11 rfl rfl)
theorem dL_law_1989 : decode cL_law 1989 = .ok (.iadd, 1) := dk_96 (dk_at dksL_law_77 12 rfl rfl)
theorem dL_law_1990 : decode cL_law 1990 = .ok (.iaload, 1) := dk_46 (dk_at dksL_law_77 13 rfl rfl)
theorem dL_law_1991 : decode cL_law 1991 = .ok (.invokevirtual 227, 3) := dk_182 0 227 (dk_at dksL_law_77 14 rfl rfl)
theorem dL_law_1994 : decode cL_law 1994 = .ok (.istore 6, 2) := dk_54 6 (dk_at dksL_law_77 17 rfl rfl)
theorem dL_law_1996 : decode cL_law 1996 = .ok (.aload_n 2, 1) := dk_44 (dk_at dksL_law_77 19 rfl rfl)
theorem dL_law_1997 : decode cL_law 1997 = .ok (.invokevirtual 125, 3) := dk_182 0 125 (dk_at dksL_law_77 20 rfl rfl)
theorem dL_law_2000 : decode cL_law 2000 = .ok (.iload 5, 2) := dk_21 5 (dk_at dksL_law_78 0 rfl rfl)
theorem dL_law_2002 : decode cL_law 2002 = .ok (.if_icmp .eq 5, 3) := dk_159 0 5 (dk_at dksL_law_78 2 rfl rfl)
theorem dL_law_2005 : decode cL_law 2005 = .ok (.iconst 0, 1) := dk_3 (dk_at dksL_law_78 5 rfl rfl)
theorem dL_law_2006 : decode cL_law 2006 = .ok (.ireturn, 1) := dk_172 (dk_at dksL_law_78 6 rfl rfl)
theorem dL_law_2007 : decode cL_law 2007 = .ok (.iload 5, 2) := dk_21 5 (dk_at dksL_law_78 7 rfl rfl)
theorem dL_law_2009 : decode cL_law 2009 = .ok (.ifCond .ne 15, 3) := dk_154 0 15 (dk_at dksL_law_78 9 rfl rfl)
theorem dL_law_2012 : decode cL_law 2012 = .ok (.aload_n 3, 1) := dk_45 (dk_at dksL_law_78 12 rfl rfl)
theorem dL_law_2013 : decode cL_law 2013 = .ok (.iconst 0, 1) := dk_3 (dk_at dksL_law_78 13 rfl rfl)
theorem dL_law_2014 : decode cL_law 2014 = .ok (.laload, 1) := dk_47 (dk_at dksL_law_78 14 rfl rfl)
theorem dL_law_2015 : decode cL_law 2015 = .ok (.iload 6, 2) := dk_21 6 (dk_at dksL_law_78 15 rfl rfl)
theorem dL_law_2017 : decode cL_law 2017 = .ok (.i2l, 1) := dk_133 (dk_at dksL_law_78 17 rfl rfl)
theorem dL_law_2018 : decode cL_law 2018 = .ok (.lcmp, 1) := dk_148 (dk_at dksL_law_78 18 rfl rfl)
theorem dL_law_2019 : decode cL_law 2019 = .ok (.ifCond .eq 5, 3) := dk_153 0 5 (dk_at dksL_law_78 19 rfl rfl)
theorem dL_law_2022 : decode cL_law 2022 = .ok (.iconst 0, 1) := dk_3 (dk_at dksL_law_78 22 rfl rfl)
theorem dL_law_2023 : decode cL_law 2023 = .ok (.ireturn, 1) := dk_172 (dk_at dksL_law_78 23 rfl rfl)
theorem dL_law_2024 : decode cL_law 2024 = .ok (.goto 523, 3) := dk_167 2 11 (dk_at dksL_law_79 0 rfl rfl)
theorem dL_law_2027 : decode cL_law 2027 = .ok (.aload_n 1, 1) := dk_43 (dk_at dksL_law_79 3 rfl rfl)
theorem dL_law_2028 : decode cL_law 2028 = .ok (.invokevirtual 228, 3) := dk_182 0 228 (dk_at dksL_law_79 4 rfl rfl)
theorem dL_law_2031 : decode cL_law 2031 = .ok (.aload_n 2, 1) := dk_44 (dk_at dksL_law_79 7 rfl rfl)
theorem dL_law_2032 : decode cL_law 2032 = .ok (.invokevirtual 231, 3) := dk_182 0 231 (dk_at dksL_law_79 8 rfl rfl)
theorem dL_law_2035 : decode cL_law 2035 = .ok (.if_icmp .eq 512, 3) := dk_159 2 0 (dk_at dksL_law_79 11 rfl rfl)
theorem dL_law_2038 : decode cL_law 2038 = .ok (.iconst 0, 1) := dk_3 (dk_at dksL_law_79 14 rfl rfl)
theorem dL_law_2039 : decode cL_law 2039 = .ok (.ireturn, 1) := dk_172 (dk_at dksL_law_79 15 rfl rfl)
theorem dL_law_2040 : decode cL_law 2040 = .ok (.aload_n 1, 1) := dk_43 (dk_at dksL_law_79 16 rfl rfl)
theorem dL_law_2041 : decode cL_law 2041 = .ok (.invokevirtual 232, 3) := dk_182 0 232 (dk_at dksL_law_79 17 rfl rfl)
theorem dL_law_2044 : decode cL_law 2044 = .ok (.aload_n 2, 1) := dk_44 (dk_at dksL_law_79 20 rfl rfl)
theorem dL_law_2045 : decode cL_law 2045 = .ok (.invokevirtual 235, 3) := dk_182 0 235 (dk_at dksL_law_79 21 rfl rfl)
theorem dL_law_2048 : decode cL_law 2048 = .ok (.if_icmp .eq 499, 3) := dk_159 1 243 (dk_at dksL_law_80 0 rfl rfl)
theorem dL_law_2051 : decode cL_law 2051 = .ok (.iconst 0, 1) := dk_3 (dk_at dksL_law_80 3 rfl rfl)
theorem dL_law_2052 : decode cL_law 2052 = .ok (.ireturn, 1) := dk_172 (dk_at dksL_law_80 4 rfl rfl)
theorem dL_law_2053 : decode cL_law 2053 = .ok (.aload_n 1, 1) := dk_43 (dk_at dksL_law_80 5 rfl rfl)
theorem dL_law_2054 : decode cL_law 2054 = .ok (.aload_n 0, 1) := dk_42 (dk_at dksL_law_80 6 rfl rfl)
theorem dL_law_2055 : decode cL_law 2055 = .ok (.iload 4, 2) := dk_21 4 (dk_at dksL_law_80 7 rfl rfl)
theorem dL_law_2057 : decode cL_law 2057 = .ok (.iconst 1, 1) := dk_4 (dk_at dksL_law_80 9 rfl rfl)
theorem dL_law_2058 : decode cL_law 2058 = .ok (.iadd, 1) := dk_96 (dk_at dksL_law_80 10 rfl rfl)
theorem dL_law_2059 : decode cL_law 2059 = .ok (.iaload, 1) := dk_46 (dk_at dksL_law_80 11 rfl rfl)
theorem dL_law_2060 : decode cL_law 2060 = .ok (.ifCond .eq 7, 3) := dk_153 0 7 (dk_at dksL_law_80 12 rfl rfl)
theorem dL_law_2063 : decode cL_law 2063 = .ok (.iconst 1, 1) := dk_4 (dk_at dksL_law_80 15 rfl rfl)
theorem dL_law_2064 : decode cL_law 2064 = .ok (.goto 4, 3) := dk_167 0 4 (dk_at dksL_law_80 16 rfl rfl)
theorem dL_law_2067 : decode cL_law 2067 = .ok (.iconst 0, 1) := dk_3 (dk_at dksL_law_80 19 rfl rfl)
theorem dL_law_2068 : decode cL_law 2068 = .ok (.invokevirtual 236, 3) := dk_182 0 236 (dk_at dksL_law_80 20 rfl rfl)
theorem dL_law_2071 : decode cL_law 2071 = .ok (.aload_n 2, 1) := dk_44 (dk_at dksL_law_80 23 rfl rfl)
theorem dL_law_2072 : decode cL_law 2072 = .ok (.aload_n 0, 1) := dk_42 (dk_at dksL_law_81 0 rfl rfl)
theorem dL_law_2073 : decode cL_law 2073 = .ok (.iload 4, 2) := dk_21 4 (dk_at dksL_law_81 1 rfl rfl)
theorem dL_law_2075 : decode cL_law 2075 = .ok (.iconst 1, 1) := dk_4 (dk_at dksL_law_81 3 rfl rfl)
theorem dL_law_2076 : decode cL_law 2076 = .ok (.iadd, 1) := dk_96 (dk_at dksL_law_81 4 rfl rfl)
theorem dL_law_2077 : decode cL_law 2077 = .ok (.iaload, 1) := dk_46 (dk_at dksL_law_81 5 rfl rfl)
theorem dL_law_2078 : decode cL_law 2078 = .ok (.ifCond .eq 7, 3) := dk_153 0 7 (dk_at dksL_law_81 6 rfl rfl)
theorem dL_law_2081 : decode cL_law 2081 = .ok (.iconst 1, 1) := dk_4 (dk_at dksL_law_81 9 rfl rfl)
theorem dL_law_2082 : decode cL_law 2082 = .ok (.goto 4, 3) := dk_167 0 4 (dk_at dksL_law_81 10 rfl rfl)
theorem dL_law_2085 : decode cL_law 2085 = .ok (.iconst 0, 1) := dk_3 (dk_at dksL_law_81 13 rfl rfl)
theorem dL_law_2086 : decode cL_law 2086 = .ok (.invokevirtual 240, 3) := dk_182 0 240 (dk_at dksL_law_81 14 rfl rfl)
theorem dL_law_2089 : decode cL_law 2089 = .ok (.if_icmp .eq 458, 3) := dk_159 1 202 (dk_at dksL_law_81 17 rfl rfl)
theorem dL_law_2092 : decode cL_law 2092 = .ok (.iconst 0, 1) := dk_3 (dk_at dksL_law_81 20 rfl rfl)
theorem dL_law_2093 : decode cL_law 2093 = .ok (.ireturn, 1) := dk_172 (dk_at dksL_law_81 21 rfl rfl)
theorem dL_law_2094 : decode cL_law 2094 = .ok (.aload_n 1, 1) := dk_43 (dk_at dksL_law_81 22 rfl rfl)
theorem dL_law_2095 : decode cL_law 2095 = .ok (.aload_n 0, 1) := dk_42 (dk_at dksL_law_81 23 rfl rfl)
theorem dL_law_2096 : decode cL_law 2096 = .ok (.iload 4, 2) := dk_21 4 (dk_at dksL_law_82 0 rfl rfl)
theorem dL_law_2098 : decode cL_law 2098 = .ok (.iconst 1, 1) := dk_4 (dk_at dksL_law_82 2 rfl rfl)
theorem dL_law_2099 : decode cL_law 2099 = .ok (.iadd, 1) := dk_96 (dk_at dksL_law_82 3 rfl rfl)
theorem dL_law_2100 : decode cL_law 2100 = .ok (.iaload, 1) := dk_46 (dk_at dksL_law_82 4 rfl rfl)
theorem dL_law_2101 : decode cL_law 2101 = .ok (.aload_n 0, 1) := dk_42 (dk_at dksL_law_82 5 rfl rfl)
theorem dL_law_2102 : decode cL_law 2102 = .ok (.iload 4, 2) := dk_21 4 (dk_at dksL_law_82 6 rfl rfl)
theorem dL_law_2104 : decode cL_law 2104 = .ok (.iconst 2, 1) := dk_5 (dk_at dksL_law_82 8 rfl rfl)
theorem dL_law_2105 : decode cL_law 2105 = .ok (.iadd, 1) := dk_96 (dk_at dksL_law_82 9 rfl rfl)
theorem dL_law_2106 : decode cL_law 2106 = .ok (.iaload, 1) := dk_46 (dk_at dksL_law_82 10 rfl rfl)
theorem dL_law_2107 : decode cL_law 2107 = .ok (.aload_n 3, 1) := dk_45 (dk_at dksL_law_82 11 rfl rfl)
theorem dL_law_2108 : decode cL_law 2108 = .ok (.invokestatic 241, 3) := dk_184 0 241 (dk_at dksL_law_82 12 rfl rfl)
theorem dL_law_2111 : decode cL_law 2111 = .ok (.istore 5, 2) := dk_54 5 (dk_at dksL_law_82 15 rfl rfl)
theorem dL_law_2113 : decode cL_law 2113 = .ok (.aload_n 2, 1) := dk_44 (dk_at dksL_law_82 17 rfl rfl)
theorem dL_law_2114 : decode cL_law 2114 = .ok (.aload_n 0, 1) := dk_42 (dk_at dksL_law_82 18 rfl rfl)
theorem dL_law_2115 : decode cL_law 2115 = .ok (.iload 4, 2) := dk_21 4 (dk_at dksL_law_82 19 rfl rfl)
theorem dL_law_2117 : decode cL_law 2117 = .ok (.iconst 1, 1) := dk_4 (dk_at dksL_law_82 21 rfl rfl)
theorem dL_law_2118 : decode cL_law 2118 = .ok (.iadd, 1) := dk_96 (dk_at dksL_law_82 22 rfl rfl)
theorem dL_law_2119 : decode cL_law 2119 = .ok (.iaload, 1) := dk_46 (dk_at dksL_law_82 23 rfl rfl)
theorem dL_law_2120 : decode cL_law 2120 = .ok (.aload_n 0, 1) := dk_42 (dk_at dksL_law_83 0 rfl rfl)
theorem dL_law_2121 : decode cL_law 2121 = .ok (.iload 4, 2) := dk_21 4 (dk_at dksL_law_83 1 rfl rfl)
theorem dL_law_2123 : decode cL_law 2123 = .ok (.iconst 2, 1) := dk_5 (dk_at dksL_law_83 3 rfl rfl)
theorem dL_law_2124 : decode cL_law 2124 = .ok (.iadd, 1) := dk_96 (dk_at dksL_law_83 4 rfl rfl)
theorem dL_law_2125 : decode cL_law 2125 = .ok (.iaload, 1) := dk_46 (dk_at dksL_law_83 5 rfl rfl)
theorem dL_law_2126 : decode cL_law 2126 = .ok (.invokevirtual 243, 3) := dk_182 0 243 (dk_at dksL_law_83 6 rfl rfl)
theorem dL_law_2129 : decode cL_law 2129 = .ok (.istore 6, 2) := dk_54 6 (dk_at dksL_law_83 9 rfl rfl)
theorem dL_law_2131 : decode cL_law 2131 = .ok (.aload_n 2, 1) := dk_44 (dk_at dksL_law_83 11 rfl rfl)
theorem dL_law_2132 : decode cL_law 2132 = .ok (.invokevirtual 125, 3) := dk_182 0 125 (dk_at dksL_law_83 12 rfl rfl)
theorem dL_law_2135 : decode cL_law 2135 = .ok (.iload 5, 2) := dk_21 5 (dk_at dksL_law_83 15 rfl rfl)
theorem dL_law_2137 : decode cL_law 2137 = .ok (.if_icmp .eq 5, 3) := dk_159 0 5 (dk_at dksL_law_83 17 rfl rfl)
theorem dL_law_2140 : decode cL_law 2140 = .ok (.iconst 0, 1) := dk_3 (dk_at dksL_law_83 20 rfl rfl)
theorem dL_law_2141 : decode cL_law 2141 = .ok (.ireturn, 1) := dk_172 (dk_at dksL_law_83 21 rfl rfl)
theorem dL_law_2142 : decode cL_law 2142 = .ok (.iload 5, 2) := dk_21 5 (dk_at dksL_law_83 22 rfl rfl)
theorem dL_law_2144 : decode cL_law 2144 = .ok (.ifCond .ne 15, 3) := dk_154 0 15 (dk_at dksL_law_84 0 rfl rfl)
theorem dL_law_2147 : decode cL_law 2147 = .ok (.aload_n 3, 1) := dk_45 (dk_at dksL_law_84 3 rfl rfl)
theorem dL_law_2148 : decode cL_law 2148 = .ok (.iconst 0, 1) := dk_3 (dk_at dksL_law_84 4 rfl rfl)
theorem dL_law_2149 : decode cL_law 2149 = .ok (.laload, 1) := dk_47 (dk_at dksL_law_84 5 rfl rfl)
theorem dL_law_2150 : decode cL_law 2150 = .ok (.iload 6, 2) := dk_21 6 (dk_at dksL_law_84 6 rfl rfl)
theorem dL_law_2152 : decode cL_law 2152 = .ok (.i2l, 1) := dk_133 (dk_at dksL_law_84 8 rfl rfl)
theorem dL_law_2153 : decode cL_law 2153 = .ok (.lcmp, 1) := dk_148 (dk_at dksL_law_84 9 rfl rfl)
theorem dL_law_2154 : decode cL_law 2154 = .ok (.ifCond .eq 5, 3) := dk_153 0 5 (dk_at dksL_law_84 10 rfl rfl)
theorem dL_law_2157 : decode cL_law 2157 = .ok (.iconst 0, 1) := dk_3 (dk_at dksL_law_84 13 rfl rfl)
theorem dL_law_2158 : decode cL_law 2158 = .ok (.ireturn, 1) := dk_172 (dk_at dksL_law_84 14 rfl rfl)
theorem dL_law_2159 : decode cL_law 2159 = .ok (.goto 388, 3) := dk_167 1 132 (dk_at dksL_law_84 15 rfl rfl)
theorem dL_law_2162 : decode cL_law 2162 = .ok (.aload_n 1, 1) := dk_43 (dk_at dksL_law_84 18 rfl rfl)
theorem dL_law_2163 : decode cL_law 2163 = .ok (.invokevirtual 244, 3) := dk_182 0 244 (dk_at dksL_law_84 19 rfl rfl)
theorem dL_law_2166 : decode cL_law 2166 = .ok (.aload_n 2, 1) := dk_44 (dk_at dksL_law_84 22 rfl rfl)
theorem dL_law_2167 : decode cL_law 2167 = .ok (.invokevirtual 247, 3) := dk_182 0 247 (dk_at dksL_law_85 0 rfl rfl)
theorem dL_law_2170 : decode cL_law 2170 = .ok (.if_icmp .eq 377, 3) := dk_159 1 121 (dk_at dksL_law_85 3 rfl rfl)
theorem dL_law_2173 : decode cL_law 2173 = .ok (.iconst 0, 1) := dk_3 (dk_at dksL_law_85 6 rfl rfl)
theorem dL_law_2174 : decode cL_law 2174 = .ok (.ireturn, 1) := dk_172 (dk_at dksL_law_85 7 rfl rfl)
theorem dL_law_2175 : decode cL_law 2175 = .ok (.aload_n 1, 1) := dk_43 (dk_at dksL_law_85 8 rfl rfl)
theorem dL_law_2176 : decode cL_law 2176 = .ok (.aload_n 0, 1) := dk_42 (dk_at dksL_law_85 9 rfl rfl)
theorem dL_law_2177 : decode cL_law 2177 = .ok (.iload 4, 2) := dk_21 4 (dk_at dksL_law_85 10 rfl rfl)
theorem dL_law_2179 : decode cL_law 2179 = .ok (.iconst 1, 1) := dk_4 (dk_at dksL_law_85 12 rfl rfl)
theorem dL_law_2180 : decode cL_law 2180 = .ok (.iadd, 1) := dk_96 (dk_at dksL_law_85 13 rfl rfl)
theorem dL_law_2181 : decode cL_law 2181 = .ok (.iaload, 1) := dk_46 (dk_at dksL_law_85 14 rfl rfl)
theorem dL_law_2182 : decode cL_law 2182 = .ok (.aload_n 3, 1) := dk_45 (dk_at dksL_law_85 15 rfl rfl)
theorem dL_law_2183 : decode cL_law 2183 = .ok (.invokestatic 248, 3) := dk_184 0 248 (dk_at dksL_law_85 16 rfl rfl)
theorem dL_law_2186 : decode cL_law 2186 = .ok (.istore 5, 2) := dk_54 5 (dk_at dksL_law_85 19 rfl rfl)
theorem dL_law_2188 : decode cL_law 2188 = .ok (.aload_n 2, 1) := dk_44 (dk_at dksL_law_85 21 rfl rfl)
theorem dL_law_2189 : decode cL_law 2189 = .ok (.aload_n 0, 1) := dk_42 (dk_at dksL_law_85 22 rfl rfl)
theorem dL_law_2190 : decode cL_law 2190 = .ok (.iload 4, 2) := dk_21 4 (dk_at dksL_law_86 0 rfl rfl)
theorem dL_law_2192 : decode cL_law 2192 = .ok (.iconst 1, 1) := dk_4 (dk_at dksL_law_86 2 rfl rfl)
theorem dL_law_2193 : decode cL_law 2193 = .ok (.iadd, 1) := dk_96 (dk_at dksL_law_86 3 rfl rfl)
theorem dL_law_2194 : decode cL_law 2194 = .ok (.iaload, 1) := dk_46 (dk_at dksL_law_86 4 rfl rfl)
theorem dL_law_2195 : decode cL_law 2195 = .ok (.invokevirtual 250, 3) := dk_182 0 250 (dk_at dksL_law_86 5 rfl rfl)
theorem dL_law_2198 : decode cL_law 2198 = .ok (.istore 6, 2) := dk_54 6 (dk_at dksL_law_86 8 rfl rfl)
theorem dL_law_2200 : decode cL_law 2200 = .ok (.aload_n 2, 1) := dk_44 (dk_at dksL_law_86 10 rfl rfl)
theorem dL_law_2201 : decode cL_law 2201 = .ok (.invokevirtual 125, 3) := dk_182 0 125 (dk_at dksL_law_86 11 rfl rfl)
theorem dL_law_2204 : decode cL_law 2204 = .ok (.iload 5, 2) := dk_21 5 (dk_at dksL_law_86 14 rfl rfl)
theorem dL_law_2206 : decode cL_law 2206 = .ok (.if_icmp .eq 5, 3) := dk_159 0 5 (dk_at dksL_law_86 16 rfl rfl)
theorem dL_law_2209 : decode cL_law 2209 = .ok (.iconst 0, 1) := dk_3 (dk_at dksL_law_86 19 rfl rfl)
theorem dL_law_2210 : decode cL_law 2210 = .ok (.ireturn, 1) := dk_172 (dk_at dksL_law_86 20 rfl rfl)
theorem dL_law_2211 : decode cL_law 2211 = .ok (.iload 5, 2) := dk_21 5 (dk_at dksL_law_86 21 rfl rfl)
theorem dL_law_2213 : decode cL_law 2213 = .ok (.ifCond .ne 15, 3) := dk_154 0 15 (dk_at dksL_law_87 0 rfl rfl)
theorem dL_law_2216 : decode cL_law 2216 = .ok (.aload_n 3, 1) := dk_45 (dk_at dksL_law_87 3 rfl rfl)
theorem dL_law_2217 : decode cL_law 2217 = .ok (.iconst 0, 1) := dk_3 (dk_at dksL_law_87 4 rfl rfl)
theorem dL_law_2218 : decode cL_law 2218 = .ok (.laload, 1) := dk_47 (dk_at dksL_law_87 5 rfl rfl)
theorem dL_law_2219 : decode cL_law 2219 = .ok (.iload 6, 2) := dk_21 6 (dk_at dksL_law_87 6 rfl rfl)
theorem dL_law_2221 : decode cL_law 2221 = .ok (.i2l, 1) := dk_133 (dk_at dksL_law_87 8 rfl rfl)
theorem dL_law_2222 : decode cL_law 2222 = .ok (.lcmp, 1) := dk_148 (dk_at dksL_law_87 9 rfl rfl)
theorem dL_law_2223 : decode cL_law 2223 = .ok (.ifCond .eq 5, 3) := dk_153 0 5 (dk_at dksL_law_87 10 rfl rfl)
theorem dL_law_2226 : decode cL_law 2226 = .ok (.iconst 0, 1) := dk_3 (dk_at dksL_law_87 13 rfl rfl)
theorem dL_law_2227 : decode cL_law 2227 = .ok (.ireturn, 1) := dk_172 (dk_at dksL_law_87 14 rfl rfl)
theorem dL_law_2228 : decode cL_law 2228 = .ok (.goto 319, 3) := dk_167 1 63 (dk_at dksL_law_87 15 rfl rfl)
theorem dL_law_2231 : decode cL_law 2231 = .ok (.aload_n 1, 1) := dk_43 (dk_at dksL_law_87 18 rfl rfl)
theorem dL_law_2232 : decode cL_law 2232 = .ok (.aload_n 0, 1) := dk_42 (dk_at dksL_law_87 19 rfl rfl)
theorem dL_law_2233 : decode cL_law 2233 = .ok (.iload 4, 2) := dk_21 4 (dk_at dksL_law_87 20 rfl rfl)
theorem dL_law_2235 : decode cL_law 2235 = .ok (.iconst 1, 1) := dk_4 (dk_at dksL_law_87 22 rfl rfl)
theorem dL_law_2236 : decode cL_law 2236 = .ok (.iadd, 1) := dk_96 (dk_at dksL_law_87 23 rfl rfl)
theorem dL_law_2237 : decode cL_law 2237 = .ok (.iaload, 1) := dk_46 (dk_at dksL_law_88 0 rfl rfl)
theorem dL_law_2238 : decode cL_law 2238 = .ok (.aload_n 3, 1) := dk_45 (dk_at dksL_law_88 1 rfl rfl)
theorem dL_law_2239 : decode cL_law 2239 = .ok (.invokestatic 251, 3) := dk_184 0 251 (dk_at dksL_law_88 2 rfl rfl)
theorem dL_law_2242 : decode cL_law 2242 = .ok (.istore 5, 2) := dk_54 5 (dk_at dksL_law_88 5 rfl rfl)
theorem dL_law_2244 : decode cL_law 2244 = .ok (.aload_n 2, 1) := dk_44 (dk_at dksL_law_88 7 rfl rfl)
theorem dL_law_2245 : decode cL_law 2245 = .ok (.aload_n 0, 1) := dk_42 (dk_at dksL_law_88 8 rfl rfl)
theorem dL_law_2246 : decode cL_law 2246 = .ok (.iload 4, 2) := dk_21 4 (dk_at dksL_law_88 9 rfl rfl)
theorem dL_law_2248 : decode cL_law 2248 = .ok (.iconst 1, 1) := dk_4 (dk_at dksL_law_88 11 rfl rfl)
theorem dL_law_2249 : decode cL_law 2249 = .ok (.iadd, 1) := dk_96 (dk_at dksL_law_88 12 rfl rfl)
theorem dL_law_2250 : decode cL_law 2250 = .ok (.iaload, 1) := dk_46 (dk_at dksL_law_88 13 rfl rfl)
theorem dL_law_2251 : decode cL_law 2251 = .ok (.invokevirtual 253, 3) := dk_182 0 253 (dk_at dksL_law_88 14 rfl rfl)
theorem dL_law_2254 : decode cL_law 2254 = .ok (.istore 6, 2) := dk_54 6 (dk_at dksL_law_88 17 rfl rfl)
theorem dL_law_2256 : decode cL_law 2256 = .ok (.aload_n 2, 1) := dk_44 (dk_at dksL_law_88 19 rfl rfl)
theorem dL_law_2257 : decode cL_law 2257 = .ok (.invokevirtual 125, 3) := dk_182 0 125 (dk_at dksL_law_88 20 rfl rfl)
theorem dL_law_2260 : decode cL_law 2260 = .ok (.iload 5, 2) := dk_21 5 (dk_at dksL_law_89 0 rfl rfl)
theorem dL_law_2262 : decode cL_law 2262 = .ok (.if_icmp .eq 5, 3) := dk_159 0 5 (dk_at dksL_law_89 2 rfl rfl)
theorem dL_law_2265 : decode cL_law 2265 = .ok (.iconst 0, 1) := dk_3 (dk_at dksL_law_89 5 rfl rfl)
theorem dL_law_2266 : decode cL_law 2266 = .ok (.ireturn, 1) := dk_172 (dk_at dksL_law_89 6 rfl rfl)
theorem dL_law_2267 : decode cL_law 2267 = .ok (.iload 5, 2) := dk_21 5 (dk_at dksL_law_89 7 rfl rfl)
theorem dL_law_2269 : decode cL_law 2269 = .ok (.ifCond .ne 15, 3) := dk_154 0 15 (dk_at dksL_law_89 9 rfl rfl)
theorem dL_law_2272 : decode cL_law 2272 = .ok (.aload_n 3, 1) := dk_45 (dk_at dksL_law_89 12 rfl rfl)
theorem dL_law_2273 : decode cL_law 2273 = .ok (.iconst 0, 1) := dk_3 (dk_at dksL_law_89 13 rfl rfl)
theorem dL_law_2274 : decode cL_law 2274 = .ok (.laload, 1) := dk_47 (dk_at dksL_law_89 14 rfl rfl)
theorem dL_law_2275 : decode cL_law 2275 = .ok (.iload 6, 2) := dk_21 6 (dk_at dksL_law_89 15 rfl rfl)
theorem dL_law_2277 : decode cL_law 2277 = .ok (.i2l, 1) := dk_133 (dk_at dksL_law_89 17 rfl rfl)
theorem dL_law_2278 : decode cL_law 2278 = .ok (.lcmp, 1) := dk_148 (dk_at dksL_law_89 18 rfl rfl)
theorem dL_law_2279 : decode cL_law 2279 = .ok (.ifCond .eq 5, 3) := dk_153 0 5 (dk_at dksL_law_89 19 rfl rfl)
theorem dL_law_2282 : decode cL_law 2282 = .ok (.iconst 0, 1) := dk_3 (dk_at dksL_law_89 22 rfl rfl)
theorem dL_law_2283 : decode cL_law 2283 = .ok (.ireturn, 1) := dk_172 (dk_at dksL_law_89 23 rfl rfl)
theorem dL_law_2284 : decode cL_law 2284 = .ok (.goto 263, 3) := dk_167 1 7 (dk_at dksL_law_90 0 rfl rfl)
theorem dL_law_2287 : decode cL_law 2287 = .ok (.aload_n 1, 1) := dk_43 (dk_at dksL_law_90 3 rfl rfl)
theorem dL_law_2288 : decode cL_law 2288 = .ok (.aload_n 0, 1) := dk_42 (dk_at dksL_law_90 4 rfl rfl)
theorem dL_law_2289 : decode cL_law 2289 = .ok (.iload 4, 2) := dk_21 4 (dk_at dksL_law_90 5 rfl rfl)
theorem dL_law_2291 : decode cL_law 2291 = .ok (.iconst 1, 1) := dk_4 (dk_at dksL_law_90 7 rfl rfl)
theorem dL_law_2292 : decode cL_law 2292 = .ok (.iadd, 1) := dk_96 (dk_at dksL_law_90 8 rfl rfl)
theorem dL_law_2293 : decode cL_law 2293 = .ok (.iaload, 1) := dk_46 (dk_at dksL_law_90 9 rfl rfl)
theorem dL_law_2294 : decode cL_law 2294 = .ok (.aload_n 3, 1) := dk_45 (dk_at dksL_law_90 10 rfl rfl)
theorem dL_law_2295 : decode cL_law 2295 = .ok (.invokestatic 254, 3) := dk_184 0 254 (dk_at dksL_law_90 11 rfl rfl)
theorem dL_law_2298 : decode cL_law 2298 = .ok (.istore 5, 2) := dk_54 5 (dk_at dksL_law_90 14 rfl rfl)
theorem dL_law_2300 : decode cL_law 2300 = .ok (.aload_n 2, 1) := dk_44 (dk_at dksL_law_90 16 rfl rfl)
theorem dL_law_2301 : decode cL_law 2301 = .ok (.aload_n 0, 1) := dk_42 (dk_at dksL_law_90 17 rfl rfl)
theorem dL_law_2302 : decode cL_law 2302 = .ok (.iload 4, 2) := dk_21 4 (dk_at dksL_law_90 18 rfl rfl)
theorem dL_law_2304 : decode cL_law 2304 = .ok (.iconst 1, 1) := dk_4 (dk_at dksL_law_90 20 rfl rfl)
theorem dL_law_2305 : decode cL_law 2305 = .ok (.iadd, 1) := dk_96 (dk_at dksL_law_90 21 rfl rfl)
theorem dL_law_2306 : decode cL_law 2306 = .ok (.iaload, 1) := dk_46 (dk_at dksL_law_90 22 rfl rfl)
theorem dL_law_2307 : decode cL_law 2307 = .ok (.invokevirtual 256, 3) := dk_182 1 0 (dk_at dksL_law_91 0 rfl rfl)
theorem dL_law_2310 : decode cL_law 2310 = .ok (.istore 6, 2) := dk_54 6 (dk_at dksL_law_91 3 rfl rfl)
theorem dL_law_2312 : decode cL_law 2312 = .ok (.aload_n 2, 1) := dk_44 (dk_at dksL_law_91 5 rfl rfl)
theorem dL_law_2313 : decode cL_law 2313 = .ok (.invokevirtual 125, 3) := dk_182 0 125 (dk_at dksL_law_91 6 rfl rfl)
theorem dL_law_2316 : decode cL_law 2316 = .ok (.iload 5, 2) := dk_21 5 (dk_at dksL_law_91 9 rfl rfl)
theorem dL_law_2318 : decode cL_law 2318 = .ok (.if_icmp .eq 5, 3) := dk_159 0 5 (dk_at dksL_law_91 11 rfl rfl)
theorem dL_law_2321 : decode cL_law 2321 = .ok (.iconst 0, 1) := dk_3 (dk_at dksL_law_91 14 rfl rfl)
theorem dL_law_2322 : decode cL_law 2322 = .ok (.ireturn, 1) := dk_172 (dk_at dksL_law_91 15 rfl rfl)
theorem dL_law_2323 : decode cL_law 2323 = .ok (.iload 5, 2) := dk_21 5 (dk_at dksL_law_91 16 rfl rfl)
theorem dL_law_2325 : decode cL_law 2325 = .ok (.ifCond .ne 15, 3) := dk_154 0 15 (dk_at dksL_law_91 18 rfl rfl)
theorem dL_law_2328 : decode cL_law 2328 = .ok (.aload_n 3, 1) := dk_45 (dk_at dksL_law_91 21 rfl rfl)
theorem dL_law_2329 : decode cL_law 2329 = .ok (.iconst 0, 1) := dk_3 (dk_at dksL_law_91 22 rfl rfl)
theorem dL_law_2330 : decode cL_law 2330 = .ok (.laload, 1) := dk_47 (dk_at dksL_law_91 23 rfl rfl)
theorem dL_law_2331 : decode cL_law 2331 = .ok (.iload 6, 2) := dk_21 6 (dk_at dksL_law_92 0 rfl rfl)
theorem dL_law_2333 : decode cL_law 2333 = .ok (.i2l, 1) := dk_133 (dk_at dksL_law_92 2 rfl rfl)
theorem dL_law_2334 : decode cL_law 2334 = .ok (.lcmp, 1) := dk_148 (dk_at dksL_law_92 3 rfl rfl)
theorem dL_law_2335 : decode cL_law 2335 = .ok (.ifCond .eq 5, 3) := dk_153 0 5 (dk_at dksL_law_92 4 rfl rfl)
theorem dL_law_2338 : decode cL_law 2338 = .ok (.iconst 0, 1) := dk_3 (dk_at dksL_law_92 7 rfl rfl)
theorem dL_law_2339 : decode cL_law 2339 = .ok (.ireturn, 1) := dk_172 (dk_at dksL_law_92 8 rfl rfl)
theorem dL_law_2340 : decode cL_law 2340 = .ok (.goto 207, 3) := dk_167 0 207 (dk_at dksL_law_92 9 rfl rfl)
theorem dL_law_2343 : decode cL_law 2343 = .ok (.aload_n 1, 1) := dk_43 (dk_at dksL_law_92 12 rfl rfl)
theorem dL_law_2344 : decode cL_law 2344 = .ok (.aload_n 0, 1) := dk_42 (dk_at dksL_law_92 13 rfl rfl)
theorem dL_law_2345 : decode cL_law 2345 = .ok (.iload 4, 2) := dk_21 4 (dk_at dksL_law_92 14 rfl rfl)
theorem dL_law_2347 : decode cL_law 2347 = .ok (.iconst 1, 1) := dk_4 (dk_at dksL_law_92 16 rfl rfl)
theorem dL_law_2348 : decode cL_law 2348 = .ok (.iadd, 1) := dk_96 (dk_at dksL_law_92 17 rfl rfl)
theorem dL_law_2349 : decode cL_law 2349 = .ok (.iaload, 1) := dk_46 (dk_at dksL_law_92 18 rfl rfl)
theorem dL_law_2350 : decode cL_law 2350 = .ok (.aload_n 3, 1) := dk_45 (dk_at dksL_law_92 19 rfl rfl)
theorem dL_law_2351 : decode cL_law 2351 = .ok (.invokestatic 257, 3) := dk_184 1 1 (dk_at dksL_law_92 20 rfl rfl)
theorem dL_law_2354 : decode cL_law 2354 = .ok (.istore 5, 2) := dk_54 5 (dk_at dksL_law_93 0 rfl rfl)
theorem dL_law_2356 : decode cL_law 2356 = .ok (.aload_n 2, 1) := dk_44 (dk_at dksL_law_93 2 rfl rfl)
theorem dL_law_2357 : decode cL_law 2357 = .ok (.aload_n 0, 1) := dk_42 (dk_at dksL_law_93 3 rfl rfl)
theorem dL_law_2358 : decode cL_law 2358 = .ok (.iload 4, 2) := dk_21 4 (dk_at dksL_law_93 4 rfl rfl)
theorem dL_law_2360 : decode cL_law 2360 = .ok (.iconst 1, 1) := dk_4 (dk_at dksL_law_93 6 rfl rfl)
theorem dL_law_2361 : decode cL_law 2361 = .ok (.iadd, 1) := dk_96 (dk_at dksL_law_93 7 rfl rfl)
theorem dL_law_2362 : decode cL_law 2362 = .ok (.iaload, 1) := dk_46 (dk_at dksL_law_93 8 rfl rfl)
theorem dL_law_2363 : decode cL_law 2363 = .ok (.invokevirtual 259, 3) := dk_182 1 3 (dk_at dksL_law_93 9 rfl rfl)
theorem dL_law_2366 : decode cL_law 2366 = .ok (.istore 6, 2) := dk_54 6 (dk_at dksL_law_93 12 rfl rfl)
theorem dL_law_2368 : decode cL_law 2368 = .ok (.aload_n 2, 1) := dk_44 (dk_at dksL_law_93 14 rfl rfl)
theorem dL_law_2369 : decode cL_law 2369 = .ok (.invokevirtual 125, 3) := dk_182 0 125 (dk_at dksL_law_93 15 rfl rfl)
theorem dL_law_2372 : decode cL_law 2372 = .ok (.iload 5, 2) := dk_21 5 (dk_at dksL_law_93 18 rfl rfl)
theorem dL_law_2374 : decode cL_law 2374 = .ok (.if_icmp .eq 5, 3) := dk_159 0 5 (dk_at dksL_law_93 20 rfl rfl)
theorem dL_law_2377 : decode cL_law 2377 = .ok (.iconst 0, 1) := dk_3 (dk_at dksL_law_93 23 rfl rfl)
theorem dL_law_2378 : decode cL_law 2378 = .ok (.ireturn, 1) := dk_172 (dk_at dksL_law_94 0 rfl rfl)
theorem dL_law_2379 : decode cL_law 2379 = .ok (.iload 5, 2) := dk_21 5 (dk_at dksL_law_94 1 rfl rfl)
theorem dL_law_2381 : decode cL_law 2381 = .ok (.ifCond .ne 15, 3) := dk_154 0 15 (dk_at dksL_law_94 3 rfl rfl)
theorem dL_law_2384 : decode cL_law 2384 = .ok (.aload_n 3, 1) := dk_45 (dk_at dksL_law_94 6 rfl rfl)
theorem dL_law_2385 : decode cL_law 2385 = .ok (.iconst 0, 1) := dk_3 (dk_at dksL_law_94 7 rfl rfl)
theorem dL_law_2386 : decode cL_law 2386 = .ok (.laload, 1) := dk_47 (dk_at dksL_law_94 8 rfl rfl)
theorem dL_law_2387 : decode cL_law 2387 = .ok (.iload 6, 2) := dk_21 6 (dk_at dksL_law_94 9 rfl rfl)
theorem dL_law_2389 : decode cL_law 2389 = .ok (.i2l, 1) := dk_133 (dk_at dksL_law_94 11 rfl rfl)
theorem dL_law_2390 : decode cL_law 2390 = .ok (.lcmp, 1) := dk_148 (dk_at dksL_law_94 12 rfl rfl)
theorem dL_law_2391 : decode cL_law 2391 = .ok (.ifCond .eq 5, 3) := dk_153 0 5 (dk_at dksL_law_94 13 rfl rfl)
theorem dL_law_2394 : decode cL_law 2394 = .ok (.iconst 0, 1) := dk_3 (dk_at dksL_law_94 16 rfl rfl)
theorem dL_law_2395 : decode cL_law 2395 = .ok (.ireturn, 1) := dk_172 (dk_at dksL_law_94 17 rfl rfl)
theorem dL_law_2396 : decode cL_law 2396 = .ok (.goto 151, 3) := dk_167 0 151 (dk_at dksL_law_94 18 rfl rfl)
theorem dL_law_2399 : decode cL_law 2399 = .ok (.aload_n 1, 1) := dk_43 (dk_at dksL_law_94 21 rfl rfl)
theorem dL_law_2400 : decode cL_law 2400 = .ok (.invokevirtual 260, 3) := dk_182 1 4 (dk_at dksL_law_95 0 rfl rfl)
theorem dL_law_2403 : decode cL_law 2403 = .ok (.aload_n 2, 1) := dk_44 (dk_at dksL_law_95 3 rfl rfl)
theorem dL_law_2404 : decode cL_law 2404 = .ok (.invokevirtual 263, 3) := dk_182 1 7 (dk_at dksL_law_95 4 rfl rfl)
theorem dL_law_2407 : decode cL_law 2407 = .ok (.if_icmp .eq 140, 3) := dk_159 0 140 (dk_at dksL_law_95 7 rfl rfl)
theorem dL_law_2410 : decode cL_law 2410 = .ok (.iconst 0, 1) := dk_3 (dk_at dksL_law_95 10 rfl rfl)
theorem dL_law_2411 : decode cL_law 2411 = .ok (.ireturn, 1) := dk_172 (dk_at dksL_law_95 11 rfl rfl)
theorem dL_law_2412 : decode cL_law 2412 = .ok (.aload_n 1, 1) := dk_43 (dk_at dksL_law_95 12 rfl rfl)
theorem dL_law_2413 : decode cL_law 2413 = .ok (.invokevirtual 264, 3) := dk_182 1 8 (dk_at dksL_law_95 13 rfl rfl)
theorem dL_law_2416 : decode cL_law 2416 = .ok (.f2d, 1) := dk_141 (dk_at dksL_law_95 16 rfl rfl)
theorem dL_law_2417 : decode cL_law 2417 = .ok (.dstore 5, 2) := dk_57 5 (dk_at dksL_law_95 17 rfl rfl)
theorem dL_law_2419 : decode cL_law 2419 = .ok (.aload_n 2, 1) := dk_44 (dk_at dksL_law_95 19 rfl rfl)
theorem dL_law_2420 : decode cL_law 2420 = .ok (.invokevirtual 268, 3) := dk_182 1 12 (dk_at dksL_law_95 20 rfl rfl)
theorem dL_law_2423 : decode cL_law 2423 = .ok (.f2d, 1) := dk_141 (dk_at dksL_law_95 23 rfl rfl)
theorem dL_law_2424 : decode cL_law 2424 = .ok (.dstore 7, 2) := dk_57 7 (dk_at dksL_law_96 0 rfl rfl)
theorem dL_law_2426 : decode cL_law 2426 = .ok (.dload 5, 2) := dk_24 5 (dk_at dksL_law_96 2 rfl rfl)
theorem dL_law_2428 : decode cL_law 2428 = .ok (.dload 7, 2) := dk_24 7 (dk_at dksL_law_96 4 rfl rfl)
theorem dL_law_2430 : decode cL_law 2430 = .ok (.dcmp .l, 1) := dk_151 (dk_at dksL_law_96 6 rfl rfl)
theorem dL_law_2431 : decode cL_law 2431 = .ok (.ifCond .eq 21, 3) := dk_153 0 21 (dk_at dksL_law_96 7 rfl rfl)
theorem dL_law_2434 : decode cL_law 2434 = .ok (.dload 5, 2) := dk_24 5 (dk_at dksL_law_96 10 rfl rfl)
theorem dL_law_2436 : decode cL_law 2436 = .ok (.dload 5, 2) := dk_24 5 (dk_at dksL_law_96 12 rfl rfl)
theorem dL_law_2438 : decode cL_law 2438 = .ok (.dcmp .l, 1) := dk_151 (dk_at dksL_law_96 14 rfl rfl)
theorem dL_law_2439 : decode cL_law 2439 = .ok (.ifCond .eq 11, 3) := dk_153 0 11 (dk_at dksL_law_96 15 rfl rfl)
theorem dL_law_2442 : decode cL_law 2442 = .ok (.dload 7, 2) := dk_24 7 (dk_at dksL_law_96 18 rfl rfl)
theorem dL_law_2444 : decode cL_law 2444 = .ok (.dload 7, 2) := dk_24 7 (dk_at dksL_law_96 20 rfl rfl)
theorem dL_law_2446 : decode cL_law 2446 = .ok (.dcmp .l, 1) := dk_151 (dk_at dksL_law_96 22 rfl rfl)
theorem dL_law_2447 : decode cL_law 2447 = .ok (.ifCond .ne 5, 3) := dk_154 0 5 (dk_at dksL_law_97 0 rfl rfl)
theorem dL_law_2450 : decode cL_law 2450 = .ok (.iconst 0, 1) := dk_3 (dk_at dksL_law_97 3 rfl rfl)
theorem dL_law_2451 : decode cL_law 2451 = .ok (.ireturn, 1) := dk_172 (dk_at dksL_law_97 4 rfl rfl)
theorem dL_law_2452 : decode cL_law 2452 = .ok (.goto 95, 3) := dk_167 0 95 (dk_at dksL_law_97 5 rfl rfl)
theorem dL_law_2455 : decode cL_law 2455 = .ok (.aload_n 1, 1) := dk_43 (dk_at dksL_law_97 8 rfl rfl)
theorem dL_law_2456 : decode cL_law 2456 = .ok (.invokevirtual 269, 3) := dk_182 1 13 (dk_at dksL_law_97 9 rfl rfl)
theorem dL_law_2459 : decode cL_law 2459 = .ok (.dstore 5, 2) := dk_57 5 (dk_at dksL_law_97 12 rfl rfl)
theorem dL_law_2461 : decode cL_law 2461 = .ok (.aload_n 2, 1) := dk_44 (dk_at dksL_law_97 14 rfl rfl)
theorem dL_law_2462 : decode cL_law 2462 = .ok (.invokevirtual 273, 3) := dk_182 1 17 (dk_at dksL_law_97 15 rfl rfl)
theorem dL_law_2465 : decode cL_law 2465 = .ok (.dstore 7, 2) := dk_57 7 (dk_at dksL_law_97 18 rfl rfl)
theorem dL_law_2467 : decode cL_law 2467 = .ok (.dload 5, 2) := dk_24 5 (dk_at dksL_law_97 20 rfl rfl)
theorem dL_law_2469 : decode cL_law 2469 = .ok (.dload 7, 2) := dk_24 7 (dk_at dksL_law_97 22 rfl rfl)
theorem dL_law_2471 : decode cL_law 2471 = .ok (.dcmp .l, 1) := dk_151 (dk_at dksL_law_98 0 rfl rfl)
theorem dL_law_2472 : decode cL_law 2472 = .ok (.ifCond .eq 21, 3) := dk_153 0 21 (dk_at dksL_law_98 1 rfl rfl)
theorem dL_law_2475 : decode cL_law 2475 = .ok (.dload 5, 2) := dk_24 5 (dk_at dksL_law_98 4 rfl rfl)
theorem dL_law_2477 : decode cL_law 2477 = .ok (.dload 5, 2) := dk_24 5 (dk_at dksL_law_98 6 rfl rfl)
theorem dL_law_2479 : decode cL_law 2479 = .ok (.dcmp .l, 1) := dk_151 (dk_at dksL_law_98 8 rfl rfl)
theorem dL_law_2480 : decode cL_law 2480 = .ok (.ifCond .eq 11, 3) := dk_153 0 11 (dk_at dksL_law_98 9 rfl rfl)
theorem dL_law_2483 : decode cL_law 2483 = .ok (.dload 7, 2) := dk_24 7 (dk_at dksL_law_98 12 rfl rfl)
theorem dL_law_2485 : decode cL_law 2485 = .ok (.dload 7, 2) := dk_24 7 (dk_at dksL_law_98 14 rfl rfl)
theorem dL_law_2487 : decode cL_law 2487 = .ok (.dcmp .l, 1) := dk_151 (dk_at dksL_law_98 16 rfl rfl)
theorem dL_law_2488 : decode cL_law 2488 = .ok (.ifCond .ne 5, 3) := dk_154 0 5 (dk_at dksL_law_98 17 rfl rfl)
theorem dL_law_2491 : decode cL_law 2491 = .ok (.iconst 0, 1) := dk_3 (dk_at dksL_law_98 20 rfl rfl)
theorem dL_law_2492 : decode cL_law 2492 = .ok (.ireturn, 1) := dk_172 (dk_at dksL_law_98 21 rfl rfl)
theorem dL_law_2493 : decode cL_law 2493 = .ok (.goto 54, 3) := dk_167 0 54 (dk_at dksL_law_99 0 rfl rfl)
theorem dL_law_2496 : decode cL_law 2496 = .ok (.aload_n 1, 1) := dk_43 (dk_at dksL_law_99 3 rfl rfl)
theorem dL_law_2497 : decode cL_law 2497 = .ok (.invokevirtual 274, 3) := dk_182 1 18 (dk_at dksL_law_99 4 rfl rfl)
theorem dL_law_2500 : decode cL_law 2500 = .ok (.aload_n 2, 1) := dk_44 (dk_at dksL_law_99 7 rfl rfl)
theorem dL_law_2501 : decode cL_law 2501 = .ok (.invokevirtual 277, 3) := dk_182 1 21 (dk_at dksL_law_99 8 rfl rfl)
theorem dL_law_2504 : decode cL_law 2504 = .ok (.if_icmp .eq 43, 3) := dk_159 0 43 (dk_at dksL_law_99 11 rfl rfl)
theorem dL_law_2507 : decode cL_law 2507 = .ok (.iconst 0, 1) := dk_3 (dk_at dksL_law_99 14 rfl rfl)
theorem dL_law_2508 : decode cL_law 2508 = .ok (.ireturn, 1) := dk_172 (dk_at dksL_law_99 15 rfl rfl)
theorem dL_law_2509 : decode cL_law 2509 = .ok (.aload_n 1, 1) := dk_43 (dk_at dksL_law_99 16 rfl rfl)
theorem dL_law_2510 : decode cL_law 2510 = .ok (.invokevirtual 278, 3) := dk_182 1 22 (dk_at dksL_law_99 17 rfl rfl)
theorem dL_law_2513 : decode cL_law 2513 = .ok (.aload_n 2, 1) := dk_44 (dk_at dksL_law_99 20 rfl rfl)
theorem dL_law_2514 : decode cL_law 2514 = .ok (.invokevirtual 281, 3) := dk_182 1 25 (dk_at dksL_law_99 21 rfl rfl)
theorem dL_law_2517 : decode cL_law 2517 = .ok (.if_icmp .eq 30, 3) := dk_159 0 30 (dk_at dksL_law_100 0 rfl rfl)
theorem dL_law_2520 : decode cL_law 2520 = .ok (.iconst 0, 1) := dk_3 (dk_at dksL_law_100 3 rfl rfl)
theorem dL_law_2521 : decode cL_law 2521 = .ok (.ireturn, 1) := dk_172 (dk_at dksL_law_100 4 rfl rfl)
theorem dL_law_2522 : decode cL_law 2522 = .ok (.aload_n 1, 1) := dk_43 (dk_at dksL_law_100 5 rfl rfl)
theorem dL_law_2523 : decode cL_law 2523 = .ok (.aload_n 0, 1) := dk_42 (dk_at dksL_law_100 6 rfl rfl)
theorem dL_law_2524 : decode cL_law 2524 = .ok (.iload 4, 2) := dk_21 4 (dk_at dksL_law_100 7 rfl rfl)
theorem dL_law_2526 : decode cL_law 2526 = .ok (.iconst 1, 1) := dk_4 (dk_at dksL_law_100 9 rfl rfl)
theorem dL_law_2527 : decode cL_law 2527 = .ok (.iadd, 1) := dk_96 (dk_at dksL_law_100 10 rfl rfl)
theorem dL_law_2528 : decode cL_law 2528 = .ok (.iaload, 1) := dk_46 (dk_at dksL_law_100 11 rfl rfl)
theorem dL_law_2529 : decode cL_law 2529 = .ok (.invokevirtual 282, 3) := dk_182 1 26 (dk_at dksL_law_100 12 rfl rfl)
theorem dL_law_2532 : decode cL_law 2532 = .ok (.aload_n 2, 1) := dk_44 (dk_at dksL_law_100 15 rfl rfl)
theorem dL_law_2533 : decode cL_law 2533 = .ok (.aload_n 0, 1) := dk_42 (dk_at dksL_law_100 16 rfl rfl)
theorem dL_law_2534 : decode cL_law 2534 = .ok (.iload 4, 2) := dk_21 4 (dk_at dksL_law_100 17 rfl rfl)
theorem dL_law_2536 : decode cL_law 2536 = .ok (.iconst 1, 1) := dk_4 (dk_at dksL_law_100 19 rfl rfl)
theorem dL_law_2537 : decode cL_law 2537 = .ok (.iadd, 1) := dk_96 (dk_at dksL_law_100 20 rfl rfl)
theorem dL_law_2538 : decode cL_law 2538 = .ok (.iaload, 1) := dk_46 (dk_at dksL_law_100 21 rfl rfl)
theorem dL_law_2539 : decode cL_law 2539 = .ok (.invokevirtual 285, 3) := dk_182 1 29 (dk_at dksL_law_101 0 rfl rfl)
theorem dL_law_2542 : decode cL_law 2542 = .ok (.if_icmp .eq 5, 3) := dk_159 0 5 (dk_at dksL_law_101 3 rfl rfl)
theorem dL_law_2545 : decode cL_law 2545 = .ok (.iconst 0, 1) := dk_3 (dk_at dksL_law_101 6 rfl rfl)
theorem dL_law_2546 : decode cL_law 2546 = .ok (.ireturn, 1) := dk_172 (dk_at dksL_law_101 7 rfl rfl)
theorem dL_law_2547 : decode cL_law 2547 = .ok (.iinc 4 6, 3) := dk_132 4 6 (dk_at dksL_law_101 8 rfl rfl)
theorem dL_law_2550 : decode cL_law 2550 = .ok (.goto (-2527), 3) := dk_167 246 33 (dk_at dksL_law_101 11 rfl rfl)
theorem dL_law_2553 : decode cL_law 2553 = .ok (.iconst 1, 1) := dk_4 (dk_at dksL_law_101 14 rfl rfl)
theorem dL_law_2554 : decode cL_law 2554 = .ok (.ireturn, 1) := dk_172 (dk_at dksL_law_101 15 rfl rfl)
