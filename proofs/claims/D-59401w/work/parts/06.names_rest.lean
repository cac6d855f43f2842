/-! VoteLogsLaw -/
set_option maxRecDepth 100000
def RX0 : String := "VoteLogsLaw"
abbrev cX0_begin : ByteArray := method_3_code
def yX0_begin : MethodName := ⟨RX0, "begin", "(LVoteLogs;III[J)I"⟩
def dkwX0_begin_1 : List UInt8 := [58, 5, 6, 172, 3, 172]
abbrev dktX0_begin_1 : List UInt8 := dkwX0_begin_1 ++ []
def dkwX0_begin_0 : List UInt8 := [25, 4, 3, 42, 27, 28, 29, 182, 0, 7, 133, 80, 167, 0, 15, 58, 5, 4, 172, 58, 5, 5, 172]
abbrev dktX0_begin_0 : List UInt8 := dkwX0_begin_0 ++ dktX0_begin_1
theorem dksX0_begin_0 : cX0_begin.data.toList.drop 0 = dktX0_begin_0 := by decide +kernel
theorem dksX0_begin_1 : cX0_begin.data.toList.drop 23 = dktX0_begin_1 := dk_seg dksX0_begin_0 23 rfl rfl
theorem dX0_begin_0 : decode cX0_begin 0 = .ok (.aload 4, 2) := dk_25 4 (dk_at dksX0_begin_0 0 rfl rfl)
theorem dX0_begin_2 : decode cX0_begin 2 = .ok (.iconst 0, 1) := dk_3 (dk_at dksX0_begin_0 2 rfl rfl)
theorem dX0_begin_3 : decode cX0_begin 3 = .ok (.aload_n 0, 1) := dk_42 (dk_at dksX0_begin_0 3 rfl rfl)
theorem dX0_begin_4 : decode cX0_begin 4 = .ok (.iload_n 1, 1) := dk_27 (dk_at dksX0_begin_0 4 rfl rfl)
theorem dX0_begin_5 : decode cX0_begin 5 = .ok (.iload_n 2, 1) := dk_28 (dk_at dksX0_begin_0 5 rfl rfl)
theorem dX0_begin_6 : decode cX0_begin 6 = .ok (.iload_n 3, 1) := dk_29 (dk_at dksX0_begin_0 6 rfl rfl)
theorem dX0_begin_7 : decode cX0_begin 7 = .ok (.invokevirtual 7, 3) := dk_182 0 7 (dk_at dksX0_begin_0 7 rfl rfl)
theorem dX0_begin_10 : decode cX0_begin 10 = .ok (.i2l, 1) := dk_133 (dk_at dksX0_begin_0 10 rfl rfl)
theorem dX0_begin_11 : decode cX0_begin 11 = .ok (.lastore, 1) := dk_80 (dk_at dksX0_begin_0 11 rfl rfl)
theorem dX0_begin_12 : decode cX0_begin 12 = .ok (.goto 15, 3) := dk_167 0 15 (dk_at dksX0_begin_0 12 rfl rfl)
theorem dX0_begin_15 : decode cX0_begin 15 = .ok (.astore 5, 2) := dk_58 5 (dk_at dksX0_begin_0 15 rfl rfl)
theorem dX0_begin_17 : decode cX0_begin 17 = .ok (.iconst 1, 1) := dk_4 (dk_at dksX0_begin_0 17 rfl rfl)
theorem dX0_begin_18 : decode cX0_begin 18 = .ok (.ireturn, 1) := dk_172 (dk_at dksX0_begin_0 18 rfl rfl)
theorem dX0_begin_19 : decode cX0_begin 19 = .ok (.astore 5, 2) := dk_58 5 (dk_at dksX0_begin_0 19 rfl rfl)
theorem dX0_begin_21 : decode cX0_begin 21 = .ok (.iconst 2, 1) := dk_5 (dk_at dksX0_begin_0 21 rfl rfl)
theorem dX0_begin_22 : decode cX0_begin 22 = .ok (.ireturn, 1) := dk_172 (dk_at dksX0_begin_0 22 rfl rfl)
theorem dX0_begin_23 : decode cX0_begin 23 = .ok (.astore 5, 2) := dk_58 5 (dk_at dksX0_begin_1 0 rfl rfl)
theorem dX0_begin_25 : decode cX0_begin 25 = .ok (.iconst 3, 1) := dk_6 (dk_at dksX0_begin_1 2 rfl rfl)
theorem dX0_begin_26 : decode cX0_begin 26 = .ok (.ireturn, 1) := dk_172 (dk_at dksX0_begin_1 3 rfl rfl)
theorem dX0_begin_27 : decode cX0_begin 27 = .ok (.iconst 0, 1) := dk_3 (dk_at dksX0_begin_1 4 rfl rfl)
theorem dX0_begin_28 : decode cX0_begin 28 = .ok (.ireturn, 1) := dk_172 (dk_at dksX0_begin_1 5 rfl rfl)
abbrev cX0_giveUp : ByteArray := method_4_code
def yX0_giveUp : MethodName := ⟨RX0, "giveUp", "(LVoteLogs;I[J)I"⟩
def dkwX0_giveUp_0 : List UInt8 := [44, 3, 42, 27, 182, 0, 19, 133, 80, 167, 0, 9, 78, 4, 172, 78, 5, 172, 3, 172]
abbrev dktX0_giveUp_0 : List UInt8 := dkwX0_giveUp_0 ++ []
theorem dksX0_giveUp_0 : cX0_giveUp.data.toList.drop 0 = dktX0_giveUp_0 := by decide +kernel
theorem dX0_giveUp_0 : decode cX0_giveUp 0 = .ok (.aload_n 2, 1) := dk_44 (dk_at dksX0_giveUp_0 0 rfl rfl)
theorem dX0_giveUp_1 : decode cX0_giveUp 1 = .ok (.iconst 0, 1) := dk_3 (dk_at dksX0_giveUp_0 1 rfl rfl)
theorem dX0_giveUp_2 : decode cX0_giveUp 2 = .ok (.aload_n 0, 1) := dk_42 (dk_at dksX0_giveUp_0 2 rfl rfl)
theorem dX0_giveUp_3 : decode cX0_giveUp 3 = .ok (.iload_n 1, 1) := dk_27 (dk_at dksX0_giveUp_0 3 rfl rfl)
theorem dX0_giveUp_4 : decode cX0_giveUp 4 = .ok (.invokevirtual 19, 3) := dk_182 0 19 (dk_at dksX0_giveUp_0 4 rfl rfl)
theorem dX0_giveUp_7 : decode cX0_giveUp 7 = .ok (.i2l, 1) := dk_133 (dk_at dksX0_giveUp_0 7 rfl rfl)
theorem dX0_giveUp_8 : decode cX0_giveUp 8 = .ok (.lastore, 1) := dk_80 (dk_at dksX0_giveUp_0 8 rfl rfl)
theorem dX0_giveUp_9 : decode cX0_giveUp 9 = .ok (.goto 9, 3) := dk_167 0 9 (dk_at dksX0_giveUp_0 9 rfl rfl)
theorem dX0_giveUp_12 : decode cX0_giveUp 12 = .ok (.astore_n 3, 1) := dk_78 (dk_at dksX0_giveUp_0 12 rfl rfl)
theorem dX0_giveUp_13 : decode cX0_giveUp 13 = .ok (.iconst 1, 1) := dk_4 (dk_at dksX0_giveUp_0 13 rfl rfl)
theorem dX0_giveUp_14 : decode cX0_giveUp 14 = .ok (.ireturn, 1) := dk_172 (dk_at dksX0_giveUp_0 14 rfl rfl)
theorem dX0_giveUp_15 : decode cX0_giveUp 15 = .ok (.astore_n 3, 1) := dk_78 (dk_at dksX0_giveUp_0 15 rfl rfl)
theorem dX0_giveUp_16 : decode cX0_giveUp 16 = .ok (.iconst 2, 1) := dk_5 (dk_at dksX0_giveUp_0 16 rfl rfl)
theorem dX0_giveUp_17 : decode cX0_giveUp 17 = .ok (.ireturn, 1) := dk_172 (dk_at dksX0_giveUp_0 17 rfl rfl)
theorem dX0_giveUp_18 : decode cX0_giveUp 18 = .ok (.iconst 0, 1) := dk_3 (dk_at dksX0_giveUp_0 18 rfl rfl)
theorem dX0_giveUp_19 : decode cX0_giveUp 19 = .ok (.ireturn, 1) := dk_172 (dk_at dksX0_giveUp_0 19 rfl rfl)
abbrev cX0_ask : ByteArray := method_5_code
def yX0_ask : MethodName := ⟨RX0, "ask", "(LVoteLogs;II[J)I"⟩
def dkwX0_ask_0 : List UInt8 := [45, 3, 42, 27, 28, 182, 0, 23, 133, 80, 167, 0, 11, 58, 4, 4, 172, 58, 4, 5, 172, 3, 172]
abbrev dktX0_ask_0 : List UInt8 := dkwX0_ask_0 ++ []
theorem dksX0_ask_0 : cX0_ask.data.toList.drop 0 = dktX0_ask_0 := by decide +kernel
theorem dX0_ask_0 : decode cX0_ask 0 = .ok (.aload_n 3, 1) := dk_45 (dk_at dksX0_ask_0 0 rfl rfl)
theorem dX0_ask_1 : decode cX0_ask 1 = .ok (.iconst 0, 1) := dk_3 (dk_at dksX0_ask_0 1 rfl rfl)
theorem dX0_ask_2 : decode cX0_ask 2 = .ok (.aload_n 0, 1) := dk_42 (dk_at dksX0_ask_0 2 rfl rfl)
theorem dX0_ask_3 : decode cX0_ask 3 = .ok (.iload_n 1, 1) := dk_27 (dk_at dksX0_ask_0 3 rfl rfl)
theorem dX0_ask_4 : decode cX0_ask 4 = .ok (.iload_n 2, 1) := dk_28 (dk_at dksX0_ask_0 4 rfl rfl)
theorem dX0_ask_5 : decode cX0_ask 5 = .ok (.invokevirtual 23, 3) := dk_182 0 23 (dk_at dksX0_ask_0 5 rfl rfl)
theorem dX0_ask_8 : decode cX0_ask 8 = .ok (.i2l, 1) := dk_133 (dk_at dksX0_ask_0 8 rfl rfl)
theorem dX0_ask_9 : decode cX0_ask 9 = .ok (.lastore, 1) := dk_80 (dk_at dksX0_ask_0 9 rfl rfl)
theorem dX0_ask_10 : decode cX0_ask 10 = .ok (.goto 11, 3) := dk_167 0 11 (dk_at dksX0_ask_0 10 rfl rfl)
theorem dX0_ask_13 : decode cX0_ask 13 = .ok (.astore 4, 2) := dk_58 4 (dk_at dksX0_ask_0 13 rfl rfl)
theorem dX0_ask_15 : decode cX0_ask 15 = .ok (.iconst 1, 1) := dk_4 (dk_at dksX0_ask_0 15 rfl rfl)
theorem dX0_ask_16 : decode cX0_ask 16 = .ok (.ireturn, 1) := dk_172 (dk_at dksX0_ask_0 16 rfl rfl)
theorem dX0_ask_17 : decode cX0_ask 17 = .ok (.astore 4, 2) := dk_58 4 (dk_at dksX0_ask_0 17 rfl rfl)
theorem dX0_ask_19 : decode cX0_ask 19 = .ok (.iconst 2, 1) := dk_5 (dk_at dksX0_ask_0 19 rfl rfl)
theorem dX0_ask_20 : decode cX0_ask 20 = .ok (.ireturn, 1) := dk_172 (dk_at dksX0_ask_0 20 rfl rfl)
theorem dX0_ask_21 : decode cX0_ask 21 = .ok (.iconst 0, 1) := dk_3 (dk_at dksX0_ask_0 21 rfl rfl)
theorem dX0_ask_22 : decode cX0_ask 22 = .ok (.ireturn, 1) := dk_172 (dk_at dksX0_ask_0 22 rfl rfl)
abbrev cX0_deliver : ByteArray := method_6_code
def yX0_deliver : MethodName := ⟨RX0, "deliver", "(LVoteLogs;I[J)I"⟩
def dkwX0_deliver_0 : List UInt8 := [44, 3, 42, 27, 182, 0, 27, 153, 0, 7, 10, 167, 0, 4, 9, 80, 167, 0, 6, 78, 4, 172, 3, 172]
abbrev dktX0_deliver_0 : List UInt8 := dkwX0_deliver_0 ++ []
theorem dksX0_deliver_0 : cX0_deliver.data.toList.drop 0 = dktX0_deliver_0 := by decide +kernel
theorem dX0_deliver_0 : decode cX0_deliver 0 = .ok (.aload_n 2, 1) := dk_44 (dk_at dksX0_deliver_0 0 rfl rfl)
theorem dX0_deliver_1 : decode cX0_deliver 1 = .ok (.iconst 0, 1) := dk_3 (dk_at dksX0_deliver_0 1 rfl rfl)
theorem dX0_deliver_2 : decode cX0_deliver 2 = .ok (.aload_n 0, 1) := dk_42 (dk_at dksX0_deliver_0 2 rfl rfl)
theorem dX0_deliver_3 : decode cX0_deliver 3 = .ok (.iload_n 1, 1) := dk_27 (dk_at dksX0_deliver_0 3 rfl rfl)
theorem dX0_deliver_4 : decode cX0_deliver 4 = .ok (.invokevirtual 27, 3) := dk_182 0 27 (dk_at dksX0_deliver_0 4 rfl rfl)
theorem dX0_deliver_7 : decode cX0_deliver 7 = .ok (.ifCond .eq 7, 3) := dk_153 0 7 (dk_at dksX0_deliver_0 7 rfl rfl)
theorem dX0_deliver_10 : decode cX0_deliver 10 = .ok (.lconst 1, 1) := dk_10 (dk_at dksX0_deliver_0 10 rfl rfl)
theorem dX0_deliver_11 : decode cX0_deliver 11 = .ok (.goto 4, 3) := dk_167 0 4 (dk_at dksX0_deliver_0 11 rfl rfl)
theorem dX0_deliver_14 : decode cX0_deliver 14 = .ok (.lconst 0, 1) := dk_9 (dk_at dksX0_deliver_0 14 rfl rfl)
theorem dX0_deliver_15 : decode cX0_deliver 15 = .ok (.lastore, 1) := dk_80 (dk_at dksX0_deliver_0 15 rfl rfl)
theorem dX0_deliver_16 : decode cX0_deliver 16 = .ok (.goto 6, 3) := dk_167 0 6 (dk_at dksX0_deliver_0 16 rfl rfl)
theorem dX0_deliver_19 : decode cX0_deliver 19 = .ok (.astore_n 3, 1) := dk_78 (dk_at dksX0_deliver_0 19 rfl rfl)
theorem dX0_deliver_20 : decode cX0_deliver 20 = .ok (.iconst 1, 1) := dk_4 (dk_at dksX0_deliver_0 20 rfl rfl)
theorem dX0_deliver_21 : decode cX0_deliver 21 = .ok (.ireturn, 1) := dk_172 (dk_at dksX0_deliver_0 21 rfl rfl)
theorem dX0_deliver_22 : decode cX0_deliver 22 = .ok (.iconst 0, 1) := dk_3 (dk_at dksX0_deliver_0 22 rfl rfl)
theorem dX0_deliver_23 : decode cX0_deliver 23 = .ok (.ireturn, 1) := dk_172 (dk_at dksX0_deliver_0 23 rfl rfl)
abbrev cX0_lose : ByteArray := method_7_code
def yX0_lose : MethodName := ⟨RX0, "lose", "(LVoteLogs;I[J)I"⟩
def dkwX0_lose_0 : List UInt8 := [44, 3, 42, 27, 182, 0, 31, 133, 80, 167, 0, 6, 78, 4, 172, 3, 172]
abbrev dktX0_lose_0 : List UInt8 := dkwX0_lose_0 ++ []
theorem dksX0_lose_0 : cX0_lose.data.toList.drop 0 = dktX0_lose_0 := by decide +kernel
theorem dX0_lose_0 : decode cX0_lose 0 = .ok (.aload_n 2, 1) := dk_44 (dk_at dksX0_lose_0 0 rfl rfl)
theorem dX0_lose_1 : decode cX0_lose 1 = .ok (.iconst 0, 1) := dk_3 (dk_at dksX0_lose_0 1 rfl rfl)
theorem dX0_lose_2 : decode cX0_lose 2 = .ok (.aload_n 0, 1) := dk_42 (dk_at dksX0_lose_0 2 rfl rfl)
theorem dX0_lose_3 : decode cX0_lose 3 = .ok (.iload_n 1, 1) := dk_27 (dk_at dksX0_lose_0 3 rfl rfl)
theorem dX0_lose_4 : decode cX0_lose 4 = .ok (.invokevirtual 31, 3) := dk_182 0 31 (dk_at dksX0_lose_0 4 rfl rfl)
theorem dX0_lose_7 : decode cX0_lose 7 = .ok (.i2l, 1) := dk_133 (dk_at dksX0_lose_0 7 rfl rfl)
theorem dX0_lose_8 : decode cX0_lose 8 = .ok (.lastore, 1) := dk_80 (dk_at dksX0_lose_0 8 rfl rfl)
theorem dX0_lose_9 : decode cX0_lose 9 = .ok (.goto 6, 3) := dk_167 0 6 (dk_at dksX0_lose_0 9 rfl rfl)
theorem dX0_lose_12 : decode cX0_lose 12 = .ok (.astore_n 3, 1) := dk_78 (dk_at dksX0_lose_0 12 rfl rfl)
theorem dX0_lose_13 : decode cX0_lose 13 = .ok (.iconst 1, 1) := dk_4 (dk_at dksX0_lose_0 13 rfl rfl)
theorem dX0_lose_14 : decode cX0_lose 14 = .ok (.ireturn, 1) := dk_172 (dk_at dksX0_lose_0 14 rfl rfl)
theorem dX0_lose_15 : decode cX0_lose 15 = .ok (.iconst 0, 1) := dk_3 (dk_at dksX0_lose_0 15 rfl rfl)
theorem dX0_lose_16 : decode cX0_lose 16 = .ok (.ireturn, 1) := dk_172 (dk_at dksX0_lose_0 16 rfl rfl)
abbrev cX0_crash : ByteArray := method_8_code
def yX0_crash : MethodName := ⟨RX0, "crash", "(LVoteLogs;I[J)I"⟩
def dkwX0_crash_0 : List UInt8 := [44, 3, 42, 27, 182, 0, 34, 133, 80, 167, 0, 9, 78, 4, 172, 78, 5, 172, 3, 172]
abbrev dktX0_crash_0 : List UInt8 := dkwX0_crash_0 ++ []
theorem dksX0_crash_0 : cX0_crash.data.toList.drop 0 = dktX0_crash_0 := by decide +kernel
theorem dX0_crash_0 : decode cX0_crash 0 = .ok (.aload_n 2, 1) := dk_44 (dk_at dksX0_crash_0 0 rfl rfl)
theorem dX0_crash_1 : decode cX0_crash 1 = .ok (.iconst 0, 1) := dk_3 (dk_at dksX0_crash_0 1 rfl rfl)
theorem dX0_crash_2 : decode cX0_crash 2 = .ok (.aload_n 0, 1) := dk_42 (dk_at dksX0_crash_0 2 rfl rfl)
theorem dX0_crash_3 : decode cX0_crash 3 = .ok (.iload_n 1, 1) := dk_27 (dk_at dksX0_crash_0 3 rfl rfl)
theorem dX0_crash_4 : decode cX0_crash 4 = .ok (.invokevirtual 34, 3) := dk_182 0 34 (dk_at dksX0_crash_0 4 rfl rfl)
theorem dX0_crash_7 : decode cX0_crash 7 = .ok (.i2l, 1) := dk_133 (dk_at dksX0_crash_0 7 rfl rfl)
theorem dX0_crash_8 : decode cX0_crash 8 = .ok (.lastore, 1) := dk_80 (dk_at dksX0_crash_0 8 rfl rfl)
theorem dX0_crash_9 : decode cX0_crash 9 = .ok (.goto 9, 3) := dk_167 0 9 (dk_at dksX0_crash_0 9 rfl rfl)
theorem dX0_crash_12 : decode cX0_crash 12 = .ok (.astore_n 3, 1) := dk_78 (dk_at dksX0_crash_0 12 rfl rfl)
theorem dX0_crash_13 : decode cX0_crash 13 = .ok (.iconst 1, 1) := dk_4 (dk_at dksX0_crash_0 13 rfl rfl)
theorem dX0_crash_14 : decode cX0_crash 14 = .ok (.ireturn, 1) := dk_172 (dk_at dksX0_crash_0 14 rfl rfl)
theorem dX0_crash_15 : decode cX0_crash 15 = .ok (.astore_n 3, 1) := dk_78 (dk_at dksX0_crash_0 15 rfl rfl)
theorem dX0_crash_16 : decode cX0_crash 16 = .ok (.iconst 2, 1) := dk_5 (dk_at dksX0_crash_0 16 rfl rfl)
theorem dX0_crash_17 : decode cX0_crash 17 = .ok (.ireturn, 1) := dk_172 (dk_at dksX0_crash_0 17 rfl rfl)
theorem dX0_crash_18 : decode cX0_crash 18 = .ok (.iconst 0, 1) := dk_3 (dk_at dksX0_crash_0 18 rfl rfl)
theorem dX0_crash_19 : decode cX0_crash 19 = .ok (.ireturn, 1) := dk_172 (dk_at dksX0_crash_0 19 rfl rfl)
abbrev cX0_recover : ByteArray := method_9_code
def yX0_recover : MethodName := ⟨RX0, "recover", "(LVoteLogs;I[J)I"⟩
def dkwX0_recover_0 : List UInt8 := [44, 3, 42, 27, 182, 0, 37, 133, 80, 167, 0, 9, 78, 4, 172, 78, 5, 172, 3, 172]
abbrev dktX0_recover_0 : List UInt8 := dkwX0_recover_0 ++ []
theorem dksX0_recover_0 : cX0_recover.data.toList.drop 0 = dktX0_recover_0 := by decide +kernel
theorem dX0_recover_0 : decode cX0_recover 0 = .ok (.aload_n 2, 1) := dk_44 (dk_at dksX0_recover_0 0 rfl rfl)
theorem dX0_recover_1 : decode cX0_recover 1 = .ok (.iconst 0, 1) := dk_3 (dk_at dksX0_recover_0 1 rfl rfl)
theorem dX0_recover_2 : decode cX0_recover 2 = .ok (.aload_n 0, 1) := dk_42 (dk_at dksX0_recover_0 2 rfl rfl)
theorem dX0_recover_3 : decode cX0_recover 3 = .ok (.iload_n 1, 1) := dk_27 (dk_at dksX0_recover_0 3 rfl rfl)
theorem dX0_recover_4 : decode cX0_recover 4 = .ok (.invokevirtual 37, 3) := dk_182 0 37 (dk_at dksX0_recover_0 4 rfl rfl)
theorem dX0_recover_7 : decode cX0_recover 7 = .ok (.i2l, 1) := dk_133 (dk_at dksX0_recover_0 7 rfl rfl)
theorem dX0_recover_8 : decode cX0_recover 8 = .ok (.lastore, 1) := dk_80 (dk_at dksX0_recover_0 8 rfl rfl)
theorem dX0_recover_9 : decode cX0_recover 9 = .ok (.goto 9, 3) := dk_167 0 9 (dk_at dksX0_recover_0 9 rfl rfl)
theorem dX0_recover_12 : decode cX0_recover 12 = .ok (.astore_n 3, 1) := dk_78 (dk_at dksX0_recover_0 12 rfl rfl)
theorem dX0_recover_13 : decode cX0_recover 13 = .ok (.iconst 1, 1) := dk_4 (dk_at dksX0_recover_0 13 rfl rfl)
theorem dX0_recover_14 : decode cX0_recover 14 = .ok (.ireturn, 1) := dk_172 (dk_at dksX0_recover_0 14 rfl rfl)
theorem dX0_recover_15 : decode cX0_recover 15 = .ok (.astore_n 3, 1) := dk_78 (dk_at dksX0_recover_0 15 rfl rfl)
theorem dX0_recover_16 : decode cX0_recover 16 = .ok (.iconst 2, 1) := dk_5 (dk_at dksX0_recover_0 16 rfl rfl)
theorem dX0_recover_17 : decode cX0_recover 17 = .ok (.ireturn, 1) := dk_172 (dk_at dksX0_recover_0 17 rfl rfl)
theorem dX0_recover_18 : decode cX0_recover 18 = .ok (.iconst 0, 1) := dk_3 (dk_at dksX0_recover_0 18 rfl rfl)
theorem dX0_recover_19 : decode cX0_recover 19 = .ok (.ireturn, 1) := dk_172 (dk_at dksX0_recover_0 19 rfl rfl)
abbrev cX0_append : ByteArray := method_10_code
def yX0_append : MethodName := ⟨RX0, "append", "(LVoteLogs;I[J)I"⟩
def dkwX0_append_0 : List UInt8 := [44, 3, 42, 27, 182, 0, 40, 133, 80, 167, 0, 9, 78, 4, 172, 78, 5, 172, 3, 172]
abbrev dktX0_append_0 : List UInt8 := dkwX0_append_0 ++ []
theorem dksX0_append_0 : cX0_append.data.toList.drop 0 = dktX0_append_0 := by decide +kernel
theorem dX0_append_0 : decode cX0_append 0 = .ok (.aload_n 2, 1) := dk_44 (dk_at dksX0_append_0 0 rfl rfl)
theorem dX0_append_1 : decode cX0_append 1 = .ok (.iconst 0, 1) := dk_3 (dk_at dksX0_append_0 1 rfl rfl)
theorem dX0_append_2 : decode cX0_append 2 = .ok (.aload_n 0, 1) := dk_42 (dk_at dksX0_append_0 2 rfl rfl)
theorem dX0_append_3 : decode cX0_append 3 = .ok (.iload_n 1, 1) := dk_27 (dk_at dksX0_append_0 3 rfl rfl)
theorem dX0_append_4 : decode cX0_append 4 = .ok (.invokevirtual 40, 3) := dk_182 0 40 (dk_at dksX0_append_0 4 rfl rfl)
theorem dX0_append_7 : decode cX0_append 7 = .ok (.i2l, 1) := dk_133 (dk_at dksX0_append_0 7 rfl rfl)
theorem dX0_append_8 : decode cX0_append 8 = .ok (.lastore, 1) := dk_80 (dk_at dksX0_append_0 8 rfl rfl)
theorem dX0_append_9 : decode cX0_append 9 = .ok (.goto 9, 3) := dk_167 0 9 (dk_at dksX0_append_0 9 rfl rfl)
theorem dX0_append_12 : decode cX0_append 12 = .ok (.astore_n 3, 1) := dk_78 (dk_at dksX0_append_0 12 rfl rfl)
theorem dX0_append_13 : decode cX0_append 13 = .ok (.iconst 1, 1) := dk_4 (dk_at dksX0_append_0 13 rfl rfl)
theorem dX0_append_14 : decode cX0_append 14 = .ok (.ireturn, 1) := dk_172 (dk_at dksX0_append_0 14 rfl rfl)
theorem dX0_append_15 : decode cX0_append 15 = .ok (.astore_n 3, 1) := dk_78 (dk_at dksX0_append_0 15 rfl rfl)
theorem dX0_append_16 : decode cX0_append 16 = .ok (.iconst 2, 1) := dk_5 (dk_at dksX0_append_0 16 rfl rfl)
theorem dX0_append_17 : decode cX0_append 17 = .ok (.ireturn, 1) := dk_172 (dk_at dksX0_append_0 17 rfl rfl)
theorem dX0_append_18 : decode cX0_append 18 = .ok (.iconst 0, 1) := dk_3 (dk_at dksX0_append_0 18 rfl rfl)
theorem dX0_append_19 : decode cX0_append 19 = .ok (.ireturn, 1) := dk_172 (dk_at dksX0_append_0 19 rfl rfl)
abbrev cX0_runCourse : ByteArray := method_11_code
def yX0_runCourse : MethodName := ⟨RX0, "runCourse", "(LVoteLogs;[J)I"⟩
def dkwX0_runCourse_0 : List UInt8 := [43, 3, 42, 182, 0, 43, 133, 80, 167, 0, 6, 77, 4, 172, 3, 172]
abbrev dktX0_runCourse_0 : List UInt8 := dkwX0_runCourse_0 ++ []
theorem dksX0_runCourse_0 : cX0_runCourse.data.toList.drop 0 = dktX0_runCourse_0 := by decide +kernel
theorem dX0_runCourse_0 : decode cX0_runCourse 0 = .ok (.aload_n 1, 1) := dk_43 (dk_at dksX0_runCourse_0 0 rfl rfl)
theorem dX0_runCourse_1 : decode cX0_runCourse 1 = .ok (.iconst 0, 1) := dk_3 (dk_at dksX0_runCourse_0 1 rfl rfl)
theorem dX0_runCourse_2 : decode cX0_runCourse 2 = .ok (.aload_n 0, 1) := dk_42 (dk_at dksX0_runCourse_0 2 rfl rfl)
theorem dX0_runCourse_3 : decode cX0_runCourse 3 = .ok (.invokevirtual 43, 3) := dk_182 0 43 (dk_at dksX0_runCourse_0 3 rfl rfl)
theorem dX0_runCourse_6 : decode cX0_runCourse 6 = .ok (.i2l, 1) := dk_133 (dk_at dksX0_runCourse_0 6 rfl rfl)
theorem dX0_runCourse_7 : decode cX0_runCourse 7 = .ok (.lastore, 1) := dk_80 (dk_at dksX0_runCourse_0 7 rfl rfl)
theorem dX0_runCourse_8 : decode cX0_runCourse 8 = .ok (.goto 6, 3) := dk_167 0 6 (dk_at dksX0_runCourse_0 8 rfl rfl)
theorem dX0_runCourse_11 : decode cX0_runCourse 11 = .ok (.astore_n 2, 1) := dk_77 (dk_at dksX0_runCourse_0 11 rfl rfl)
theorem dX0_runCourse_12 : decode cX0_runCourse 12 = .ok (.iconst 1, 1) := dk_4 (dk_at dksX0_runCourse_0 12 rfl rfl)
theorem dX0_runCourse_13 : decode cX0_runCourse 13 = .ok (.ireturn, 1) := dk_172 (dk_at dksX0_runCourse_0 13 rfl rfl)
theorem dX0_runCourse_14 : decode cX0_runCourse 14 = .ok (.iconst 0, 1) := dk_3 (dk_at dksX0_runCourse_0 14 rfl rfl)
theorem dX0_runCourse_15 : decode cX0_runCourse 15 = .ok (.ireturn, 1) := dk_172 (dk_at dksX0_runCourse_0 15 rfl rfl)
abbrev cX0_goBack : ByteArray := method_12_code
def yX0_goBack : MethodName := ⟨RX0, "goBack", "(LVoteLogs;[J)I"⟩
def dkwX0_goBack_0 : List UInt8 := [43, 3, 42, 182, 0, 47, 133, 80, 167, 0, 6, 77, 4, 172, 3, 172]
abbrev dktX0_goBack_0 : List UInt8 := dkwX0_goBack_0 ++ []
theorem dksX0_goBack_0 : cX0_goBack.data.toList.drop 0 = dktX0_goBack_0 := by decide +kernel
theorem dX0_goBack_0 : decode cX0_goBack 0 = .ok (.aload_n 1, 1) := dk_43 (dk_at dksX0_goBack_0 0 rfl rfl)
theorem dX0_goBack_1 : decode cX0_goBack 1 = .ok (.iconst 0, 1) := dk_3 (dk_at dksX0_goBack_0 1 rfl rfl)
theorem dX0_goBack_2 : decode cX0_goBack 2 = .ok (.aload_n 0, 1) := dk_42 (dk_at dksX0_goBack_0 2 rfl rfl)
theorem dX0_goBack_3 : decode cX0_goBack 3 = .ok (.invokevirtual 47, 3) := dk_182 0 47 (dk_at dksX0_goBack_0 3 rfl rfl)
theorem dX0_goBack_6 : decode cX0_goBack 6 = .ok (.i2l, 1) := dk_133 (dk_at dksX0_goBack_0 6 rfl rfl)
theorem dX0_goBack_7 : decode cX0_goBack 7 = .ok (.lastore, 1) := dk_80 (dk_at dksX0_goBack_0 7 rfl rfl)
theorem dX0_goBack_8 : decode cX0_goBack 8 = .ok (.goto 6, 3) := dk_167 0 6 (dk_at dksX0_goBack_0 8 rfl rfl)
theorem dX0_goBack_11 : decode cX0_goBack 11 = .ok (.astore_n 2, 1) := dk_77 (dk_at dksX0_goBack_0 11 rfl rfl)
theorem dX0_goBack_12 : decode cX0_goBack 12 = .ok (.iconst 1, 1) := dk_4 (dk_at dksX0_goBack_0 12 rfl rfl)
theorem dX0_goBack_13 : decode cX0_goBack 13 = .ok (.ireturn, 1) := dk_172 (dk_at dksX0_goBack_0 13 rfl rfl)
theorem dX0_goBack_14 : decode cX0_goBack 14 = .ok (.iconst 0, 1) := dk_3 (dk_at dksX0_goBack_0 14 rfl rfl)
theorem dX0_goBack_15 : decode cX0_goBack 15 = .ok (.ireturn, 1) := dk_172 (dk_at dksX0_goBack_0 15 rfl rfl)
abbrev cX0_undo : ByteArray := method_13_code
def yX0_undo : MethodName := ⟨RX0, "undo", "(LVoteLogs;[J)I"⟩
def dkwX0_undo_0 : List UInt8 := [43, 3, 42, 182, 0, 50, 133, 80, 167, 0, 6, 77, 4, 172, 3, 172]
abbrev dktX0_undo_0 : List UInt8 := dkwX0_undo_0 ++ []
theorem dksX0_undo_0 : cX0_undo.data.toList.drop 0 = dktX0_undo_0 := by decide +kernel
theorem dX0_undo_0 : decode cX0_undo 0 = .ok (.aload_n 1, 1) := dk_43 (dk_at dksX0_undo_0 0 rfl rfl)
theorem dX0_undo_1 : decode cX0_undo 1 = .ok (.iconst 0, 1) := dk_3 (dk_at dksX0_undo_0 1 rfl rfl)
theorem dX0_undo_2 : decode cX0_undo 2 = .ok (.aload_n 0, 1) := dk_42 (dk_at dksX0_undo_0 2 rfl rfl)
theorem dX0_undo_3 : decode cX0_undo 3 = .ok (.invokevirtual 50, 3) := dk_182 0 50 (dk_at dksX0_undo_0 3 rfl rfl)
theorem dX0_undo_6 : decode cX0_undo 6 = .ok (.i2l, 1) := dk_133 (dk_at dksX0_undo_0 6 rfl rfl)
theorem dX0_undo_7 : decode cX0_undo 7 = .ok (.lastore, 1) := dk_80 (dk_at dksX0_undo_0 7 rfl rfl)
theorem dX0_undo_8 : decode cX0_undo 8 = .ok (.goto 6, 3) := dk_167 0 6 (dk_at dksX0_undo_0 8 rfl rfl)
theorem dX0_undo_11 : decode cX0_undo 11 = .ok (.astore_n 2, 1) := dk_77 (dk_at dksX0_undo_0 11 rfl rfl)
theorem dX0_undo_12 : decode cX0_undo 12 = .ok (.iconst 1, 1) := dk_4 (dk_at dksX0_undo_0 12 rfl rfl)
theorem dX0_undo_13 : decode cX0_undo 13 = .ok (.ireturn, 1) := dk_172 (dk_at dksX0_undo_0 13 rfl rfl)
theorem dX0_undo_14 : decode cX0_undo 14 = .ok (.iconst 0, 1) := dk_3 (dk_at dksX0_undo_0 14 rfl rfl)
theorem dX0_undo_15 : decode cX0_undo 15 = .ok (.ireturn, 1) := dk_172 (dk_at dksX0_undo_0 15 rfl rfl)
abbrev cX0_partners : ByteArray := method_14_code
def yX0_partners : MethodName := ⟨RX0, "partners", "(LVoteLogs;I[J)I"⟩
def dkwX0_partners_0 : List UInt8 := [44, 3, 42, 27, 182, 0, 53, 133, 80, 167, 0, 6, 78, 4, 172, 3, 172]
abbrev dktX0_partners_0 : List UInt8 := dkwX0_partners_0 ++ []
theorem dksX0_partners_0 : cX0_partners.data.toList.drop 0 = dktX0_partners_0 := by decide +kernel
theorem dX0_partners_0 : decode cX0_partners 0 = .ok (.aload_n 2, 1) := dk_44 (dk_at dksX0_partners_0 0 rfl rfl)
theorem dX0_partners_1 : decode cX0_partners 1 = .ok (.iconst 0, 1) := dk_3 (dk_at dksX0_partners_0 1 rfl rfl)
theorem dX0_partners_2 : decode cX0_partners 2 = .ok (.aload_n 0, 1) := dk_42 (dk_at dksX0_partners_0 2 rfl rfl)
theorem dX0_partners_3 : decode cX0_partners 3 = .ok (.iload_n 1, 1) := dk_27 (dk_at dksX0_partners_0 3 rfl rfl)
theorem dX0_partners_4 : decode cX0_partners 4 = .ok (.invokevirtual 53, 3) := dk_182 0 53 (dk_at dksX0_partners_0 4 rfl rfl)
theorem dX0_partners_7 : decode cX0_partners 7 = .ok (.i2l, 1) := dk_133 (dk_at dksX0_partners_0 7 rfl rfl)
theorem dX0_partners_8 : decode cX0_partners 8 = .ok (.lastore, 1) := dk_80 (dk_at dksX0_partners_0 8 rfl rfl)
theorem dX0_partners_9 : decode cX0_partners 9 = .ok (.goto 6, 3) := dk_167 0 6 (dk_at dksX0_partners_0 9 rfl rfl)
theorem dX0_partners_12 : decode cX0_partners 12 = .ok (.astore_n 3, 1) := dk_78 (dk_at dksX0_partners_0 12 rfl rfl)
theorem dX0_partners_13 : decode cX0_partners 13 = .ok (.iconst 1, 1) := dk_4 (dk_at dksX0_partners_0 13 rfl rfl)
theorem dX0_partners_14 : decode cX0_partners 14 = .ok (.ireturn, 1) := dk_172 (dk_at dksX0_partners_0 14 rfl rfl)
theorem dX0_partners_15 : decode cX0_partners 15 = .ok (.iconst 0, 1) := dk_3 (dk_at dksX0_partners_0 15 rfl rfl)
theorem dX0_partners_16 : decode cX0_partners 16 = .ok (.ireturn, 1) := dk_172 (dk_at dksX0_partners_0 16 rfl rfl)
abbrev cX0_share : ByteArray := method_15_code
def yX0_share : MethodName := ⟨RX0, "share", "(LVoteLogs;II[J)I"⟩
def dkwX0_share_0 : List UInt8 := [45, 3, 42, 27, 28, 182, 0, 56, 133, 80, 167, 0, 7, 58, 4, 4, 172, 3, 172]
abbrev dktX0_share_0 : List UInt8 := dkwX0_share_0 ++ []
theorem dksX0_share_0 : cX0_share.data.toList.drop 0 = dktX0_share_0 := by decide +kernel
theorem dX0_share_0 : decode cX0_share 0 = .ok (.aload_n 3, 1) := dk_45 (dk_at dksX0_share_0 0 rfl rfl)
theorem dX0_share_1 : decode cX0_share 1 = .ok (.iconst 0, 1) := dk_3 (dk_at dksX0_share_0 1 rfl rfl)
theorem dX0_share_2 : decode cX0_share 2 = .ok (.aload_n 0, 1) := dk_42 (dk_at dksX0_share_0 2 rfl rfl)
theorem dX0_share_3 : decode cX0_share 3 = .ok (.iload_n 1, 1) := dk_27 (dk_at dksX0_share_0 3 rfl rfl)
theorem dX0_share_4 : decode cX0_share 4 = .ok (.iload_n 2, 1) := dk_28 (dk_at dksX0_share_0 4 rfl rfl)
theorem dX0_share_5 : decode cX0_share 5 = .ok (.invokevirtual 56, 3) := dk_182 0 56 (dk_at dksX0_share_0 5 rfl rfl)
theorem dX0_share_8 : decode cX0_share 8 = .ok (.i2l, 1) := dk_133 (dk_at dksX0_share_0 8 rfl rfl)
theorem dX0_share_9 : decode cX0_share 9 = .ok (.lastore, 1) := dk_80 (dk_at dksX0_share_0 9 rfl rfl)
theorem dX0_share_10 : decode cX0_share 10 = .ok (.goto 7, 3) := dk_167 0 7 (dk_at dksX0_share_0 10 rfl rfl)
theorem dX0_share_13 : decode cX0_share 13 = .ok (.astore 4, 2) := dk_58 4 (dk_at dksX0_share_0 13 rfl rfl)
theorem dX0_share_15 : decode cX0_share 15 = .ok (.iconst 1, 1) := dk_4 (dk_at dksX0_share_0 15 rfl rfl)
theorem dX0_share_16 : decode cX0_share 16 = .ok (.ireturn, 1) := dk_172 (dk_at dksX0_share_0 16 rfl rfl)
theorem dX0_share_17 : decode cX0_share 17 = .ok (.iconst 0, 1) := dk_3 (dk_at dksX0_share_0 17 rfl rfl)
theorem dX0_share_18 : decode cX0_share 18 = .ok (.ireturn, 1) := dk_172 (dk_at dksX0_share_0 18 rfl rfl)
abbrev cX0_isUp : ByteArray := method_16_code
def yX0_isUp : MethodName := ⟨RX0, "isUp", "(LVoteLogs;I[J)I"⟩
def dkwX0_isUp_0 : List UInt8 := [44, 3, 42, 27, 182, 0, 59, 153, 0, 7, 10, 167, 0, 4, 9, 80, 167, 0, 6, 78, 4, 172, 3, 172]
abbrev dktX0_isUp_0 : List UInt8 := dkwX0_isUp_0 ++ []
theorem dksX0_isUp_0 : cX0_isUp.data.toList.drop 0 = dktX0_isUp_0 := by decide +kernel
theorem dX0_isUp_0 : decode cX0_isUp 0 = .ok (.aload_n 2, 1) := dk_44 (dk_at dksX0_isUp_0 0 rfl rfl)
theorem dX0_isUp_1 : decode cX0_isUp 1 = .ok (.iconst 0, 1) := dk_3 (dk_at dksX0_isUp_0 1 rfl rfl)
theorem dX0_isUp_2 : decode cX0_isUp 2 = .ok (.aload_n 0, 1) := dk_42 (dk_at dksX0_isUp_0 2 rfl rfl)
theorem dX0_isUp_3 : decode cX0_isUp 3 = .ok (.iload_n 1, 1) := dk_27 (dk_at dksX0_isUp_0 3 rfl rfl)
theorem dX0_isUp_4 : decode cX0_isUp 4 = .ok (.invokevirtual 59, 3) := dk_182 0 59 (dk_at dksX0_isUp_0 4 rfl rfl)
theorem dX0_isUp_7 : decode cX0_isUp 7 = .ok (.ifCond .eq 7, 3) := dk_153 0 7 (dk_at dksX0_isUp_0 7 rfl rfl)
theorem dX0_isUp_10 : decode cX0_isUp 10 = .ok (.lconst 1, 1) := dk_10 (dk_at dksX0_isUp_0 10 rfl rfl)
theorem dX0_isUp_11 : decode cX0_isUp 11 = .ok (.goto 4, 3) := dk_167 0 4 (dk_at dksX0_isUp_0 11 rfl rfl)
theorem dX0_isUp_14 : decode cX0_isUp 14 = .ok (.lconst 0, 1) := dk_9 (dk_at dksX0_isUp_0 14 rfl rfl)
theorem dX0_isUp_15 : decode cX0_isUp 15 = .ok (.lastore, 1) := dk_80 (dk_at dksX0_isUp_0 15 rfl rfl)
theorem dX0_isUp_16 : decode cX0_isUp 16 = .ok (.goto 6, 3) := dk_167 0 6 (dk_at dksX0_isUp_0 16 rfl rfl)
theorem dX0_isUp_19 : decode cX0_isUp 19 = .ok (.astore_n 3, 1) := dk_78 (dk_at dksX0_isUp_0 19 rfl rfl)
theorem dX0_isUp_20 : decode cX0_isUp 20 = .ok (.iconst 1, 1) := dk_4 (dk_at dksX0_isUp_0 20 rfl rfl)
theorem dX0_isUp_21 : decode cX0_isUp 21 = .ok (.ireturn, 1) := dk_172 (dk_at dksX0_isUp_0 21 rfl rfl)
theorem dX0_isUp_22 : decode cX0_isUp 22 = .ok (.iconst 0, 1) := dk_3 (dk_at dksX0_isUp_0 22 rfl rfl)
theorem dX0_isUp_23 : decode cX0_isUp 23 = .ok (.ireturn, 1) := dk_172 (dk_at dksX0_isUp_0 23 rfl rfl)
abbrev cX0_amount : ByteArray := method_17_code
def yX0_amount : MethodName := ⟨RX0, "amount", "(LVoteLogs;I[J)I"⟩
def dkwX0_amount_0 : List UInt8 := [44, 3, 42, 27, 182, 0, 62, 133, 80, 167, 0, 6, 78, 4, 172, 3, 172]
abbrev dktX0_amount_0 : List UInt8 := dkwX0_amount_0 ++ []
theorem dksX0_amount_0 : cX0_amount.data.toList.drop 0 = dktX0_amount_0 := by decide +kernel
theorem dX0_amount_0 : decode cX0_amount 0 = .ok (.aload_n 2, 1) := dk_44 (dk_at dksX0_amount_0 0 rfl rfl)
theorem dX0_amount_1 : decode cX0_amount 1 = .ok (.iconst 0, 1) := dk_3 (dk_at dksX0_amount_0 1 rfl rfl)
theorem dX0_amount_2 : decode cX0_amount 2 = .ok (.aload_n 0, 1) := dk_42 (dk_at dksX0_amount_0 2 rfl rfl)
theorem dX0_amount_3 : decode cX0_amount 3 = .ok (.iload_n 1, 1) := dk_27 (dk_at dksX0_amount_0 3 rfl rfl)
theorem dX0_amount_4 : decode cX0_amount 4 = .ok (.invokevirtual 62, 3) := dk_182 0 62 (dk_at dksX0_amount_0 4 rfl rfl)
theorem dX0_amount_7 : decode cX0_amount 7 = .ok (.i2l, 1) := dk_133 (dk_at dksX0_amount_0 7 rfl rfl)
theorem dX0_amount_8 : decode cX0_amount 8 = .ok (.lastore, 1) := dk_80 (dk_at dksX0_amount_0 8 rfl rfl)
theorem dX0_amount_9 : decode cX0_amount 9 = .ok (.goto 6, 3) := dk_167 0 6 (dk_at dksX0_amount_0 9 rfl rfl)
theorem dX0_amount_12 : decode cX0_amount 12 = .ok (.astore_n 3, 1) := dk_78 (dk_at dksX0_amount_0 12 rfl rfl)
theorem dX0_amount_13 : decode cX0_amount 13 = .ok (.iconst 1, 1) := dk_4 (dk_at dksX0_amount_0 13 rfl rfl)
theorem dX0_amount_14 : decode cX0_amount 14 = .ok (.ireturn, 1) := dk_172 (dk_at dksX0_amount_0 14 rfl rfl)
theorem dX0_amount_15 : decode cX0_amount 15 = .ok (.iconst 0, 1) := dk_3 (dk_at dksX0_amount_0 15 rfl rfl)
theorem dX0_amount_16 : decode cX0_amount 16 = .ok (.ireturn, 1) := dk_172 (dk_at dksX0_amount_0 16 rfl rfl)
abbrev cX0_amountByLog : ByteArray := method_18_code
def yX0_amountByLog : MethodName := ⟨RX0, "amountByLog", "(LVoteLogs;I[J)I"⟩
def dkwX0_amountByLog_0 : List UInt8 := [44, 3, 42, 27, 182, 0, 65, 133, 80, 167, 0, 6, 78, 4, 172, 3, 172]
abbrev dktX0_amountByLog_0 : List UInt8 := dkwX0_amountByLog_0 ++ []
theorem dksX0_amountByLog_0 : cX0_amountByLog.data.toList.drop 0 = dktX0_amountByLog_0 := by decide +kernel
theorem dX0_amountByLog_0 : decode cX0_amountByLog 0 = .ok (.aload_n 2, 1) := dk_44 (dk_at dksX0_amountByLog_0 0 rfl rfl)
theorem dX0_amountByLog_1 : decode cX0_amountByLog 1 = .ok (.iconst 0, 1) := dk_3 (dk_at dksX0_amountByLog_0 1 rfl rfl)
theorem dX0_amountByLog_2 : decode cX0_amountByLog 2 = .ok (.aload_n 0, 1) := dk_42 (dk_at dksX0_amountByLog_0 2 rfl rfl)
theorem dX0_amountByLog_3 : decode cX0_amountByLog 3 = .ok (.iload_n 1, 1) := dk_27 (dk_at dksX0_amountByLog_0 3 rfl rfl)
theorem dX0_amountByLog_4 : decode cX0_amountByLog 4 = .ok (.invokevirtual 65, 3) := dk_182 0 65 (dk_at dksX0_amountByLog_0 4 rfl rfl)
theorem dX0_amountByLog_7 : decode cX0_amountByLog 7 = .ok (.i2l, 1) := dk_133 (dk_at dksX0_amountByLog_0 7 rfl rfl)
theorem dX0_amountByLog_8 : decode cX0_amountByLog 8 = .ok (.lastore, 1) := dk_80 (dk_at dksX0_amountByLog_0 8 rfl rfl)
theorem dX0_amountByLog_9 : decode cX0_amountByLog 9 = .ok (.goto 6, 3) := dk_167 0 6 (dk_at dksX0_amountByLog_0 9 rfl rfl)
theorem dX0_amountByLog_12 : decode cX0_amountByLog 12 = .ok (.astore_n 3, 1) := dk_78 (dk_at dksX0_amountByLog_0 12 rfl rfl)
theorem dX0_amountByLog_13 : decode cX0_amountByLog 13 = .ok (.iconst 1, 1) := dk_4 (dk_at dksX0_amountByLog_0 13 rfl rfl)
theorem dX0_amountByLog_14 : decode cX0_amountByLog 14 = .ok (.ireturn, 1) := dk_172 (dk_at dksX0_amountByLog_0 14 rfl rfl)
theorem dX0_amountByLog_15 : decode cX0_amountByLog 15 = .ok (.iconst 0, 1) := dk_3 (dk_at dksX0_amountByLog_0 15 rfl rfl)
theorem dX0_amountByLog_16 : decode cX0_amountByLog 16 = .ok (.ireturn, 1) := dk_172 (dk_at dksX0_amountByLog_0 16 rfl rfl)
abbrev cX0_state : ByteArray := method_19_code
def yX0_state : MethodName := ⟨RX0, "state", "(LVoteLogs;II[J)I"⟩
def dkwX0_state_0 : List UInt8 := [45, 3, 42, 27, 28, 182, 0, 68, 133, 80, 167, 0, 7, 58, 4, 4, 172, 3, 172]
abbrev dktX0_state_0 : List UInt8 := dkwX0_state_0 ++ []
theorem dksX0_state_0 : cX0_state.data.toList.drop 0 = dktX0_state_0 := by decide +kernel
theorem dX0_state_0 : decode cX0_state 0 = .ok (.aload_n 3, 1) := dk_45 (dk_at dksX0_state_0 0 rfl rfl)
theorem dX0_state_1 : decode cX0_state 1 = .ok (.iconst 0, 1) := dk_3 (dk_at dksX0_state_0 1 rfl rfl)
theorem dX0_state_2 : decode cX0_state 2 = .ok (.aload_n 0, 1) := dk_42 (dk_at dksX0_state_0 2 rfl rfl)
theorem dX0_state_3 : decode cX0_state 3 = .ok (.iload_n 1, 1) := dk_27 (dk_at dksX0_state_0 3 rfl rfl)
theorem dX0_state_4 : decode cX0_state 4 = .ok (.iload_n 2, 1) := dk_28 (dk_at dksX0_state_0 4 rfl rfl)
theorem dX0_state_5 : decode cX0_state 5 = .ok (.invokevirtual 68, 3) := dk_182 0 68 (dk_at dksX0_state_0 5 rfl rfl)
theorem dX0_state_8 : decode cX0_state 8 = .ok (.i2l, 1) := dk_133 (dk_at dksX0_state_0 8 rfl rfl)
theorem dX0_state_9 : decode cX0_state 9 = .ok (.lastore, 1) := dk_80 (dk_at dksX0_state_0 9 rfl rfl)
theorem dX0_state_10 : decode cX0_state 10 = .ok (.goto 7, 3) := dk_167 0 7 (dk_at dksX0_state_0 10 rfl rfl)
theorem dX0_state_13 : decode cX0_state 13 = .ok (.astore 4, 2) := dk_58 4 (dk_at dksX0_state_0 13 rfl rfl)
theorem dX0_state_15 : decode cX0_state 15 = .ok (.iconst 1, 1) := dk_4 (dk_at dksX0_state_0 15 rfl rfl)
theorem dX0_state_16 : decode cX0_state 16 = .ok (.ireturn, 1) := dk_172 (dk_at dksX0_state_0 16 rfl rfl)
theorem dX0_state_17 : decode cX0_state 17 = .ok (.iconst 0, 1) := dk_3 (dk_at dksX0_state_0 17 rfl rfl)
theorem dX0_state_18 : decode cX0_state 18 = .ok (.ireturn, 1) := dk_172 (dk_at dksX0_state_0 18 rfl rfl)
abbrev cX0_stateByLog : ByteArray := method_20_code
def yX0_stateByLog : MethodName := ⟨RX0, "stateByLog", "(LVoteLogs;II[J)I"⟩
def dkwX0_stateByLog_0 : List UInt8 := [45, 3, 42, 27, 28, 182, 0, 71, 133, 80, 167, 0, 7, 58, 4, 4, 172, 3, 172]
abbrev dktX0_stateByLog_0 : List UInt8 := dkwX0_stateByLog_0 ++ []
theorem dksX0_stateByLog_0 : cX0_stateByLog.data.toList.drop 0 = dktX0_stateByLog_0 := by decide +kernel
theorem dX0_stateByLog_0 : decode cX0_stateByLog 0 = .ok (.aload_n 3, 1) := dk_45 (dk_at dksX0_stateByLog_0 0 rfl rfl)
theorem dX0_stateByLog_1 : decode cX0_stateByLog 1 = .ok (.iconst 0, 1) := dk_3 (dk_at dksX0_stateByLog_0 1 rfl rfl)
theorem dX0_stateByLog_2 : decode cX0_stateByLog 2 = .ok (.aload_n 0, 1) := dk_42 (dk_at dksX0_stateByLog_0 2 rfl rfl)
theorem dX0_stateByLog_3 : decode cX0_stateByLog 3 = .ok (.iload_n 1, 1) := dk_27 (dk_at dksX0_stateByLog_0 3 rfl rfl)
theorem dX0_stateByLog_4 : decode cX0_stateByLog 4 = .ok (.iload_n 2, 1) := dk_28 (dk_at dksX0_stateByLog_0 4 rfl rfl)
theorem dX0_stateByLog_5 : decode cX0_stateByLog 5 = .ok (.invokevirtual 71, 3) := dk_182 0 71 (dk_at dksX0_stateByLog_0 5 rfl rfl)
theorem dX0_stateByLog_8 : decode cX0_stateByLog 8 = .ok (.i2l, 1) := dk_133 (dk_at dksX0_stateByLog_0 8 rfl rfl)
theorem dX0_stateByLog_9 : decode cX0_stateByLog 9 = .ok (.lastore, 1) := dk_80 (dk_at dksX0_stateByLog_0 9 rfl rfl)
theorem dX0_stateByLog_10 : decode cX0_stateByLog 10 = .ok (.goto 7, 3) := dk_167 0 7 (dk_at dksX0_stateByLog_0 10 rfl rfl)
theorem dX0_stateByLog_13 : decode cX0_stateByLog 13 = .ok (.astore 4, 2) := dk_58 4 (dk_at dksX0_stateByLog_0 13 rfl rfl)
theorem dX0_stateByLog_15 : decode cX0_stateByLog 15 = .ok (.iconst 1, 1) := dk_4 (dk_at dksX0_stateByLog_0 15 rfl rfl)
theorem dX0_stateByLog_16 : decode cX0_stateByLog 16 = .ok (.ireturn, 1) := dk_172 (dk_at dksX0_stateByLog_0 16 rfl rfl)
theorem dX0_stateByLog_17 : decode cX0_stateByLog 17 = .ok (.iconst 0, 1) := dk_3 (dk_at dksX0_stateByLog_0 17 rfl rfl)
theorem dX0_stateByLog_18 : decode cX0_stateByLog 18 = .ok (.ireturn, 1) := dk_172 (dk_at dksX0_stateByLog_0 18 rfl rfl)
abbrev cX0_inDoubt : ByteArray := method_21_code
def yX0_inDoubt : MethodName := ⟨RX0, "inDoubt", "(LVoteLogs;I[J)I"⟩
def dkwX0_inDoubt_0 : List UInt8 := [44, 3, 42, 27, 182, 0, 74, 133, 80, 167, 0, 6, 78, 4, 172, 3, 172]
abbrev dktX0_inDoubt_0 : List UInt8 := dkwX0_inDoubt_0 ++ []
theorem dksX0_inDoubt_0 : cX0_inDoubt.data.toList.drop 0 = dktX0_inDoubt_0 := by decide +kernel
theorem dX0_inDoubt_0 : decode cX0_inDoubt 0 = .ok (.aload_n 2, 1) := dk_44 (dk_at dksX0_inDoubt_0 0 rfl rfl)
theorem dX0_inDoubt_1 : decode cX0_inDoubt 1 = .ok (.iconst 0, 1) := dk_3 (dk_at dksX0_inDoubt_0 1 rfl rfl)
theorem dX0_inDoubt_2 : decode cX0_inDoubt 2 = .ok (.aload_n 0, 1) := dk_42 (dk_at dksX0_inDoubt_0 2 rfl rfl)
theorem dX0_inDoubt_3 : decode cX0_inDoubt 3 = .ok (.iload_n 1, 1) := dk_27 (dk_at dksX0_inDoubt_0 3 rfl rfl)
theorem dX0_inDoubt_4 : decode cX0_inDoubt 4 = .ok (.invokevirtual 74, 3) := dk_182 0 74 (dk_at dksX0_inDoubt_0 4 rfl rfl)
theorem dX0_inDoubt_7 : decode cX0_inDoubt 7 = .ok (.i2l, 1) := dk_133 (dk_at dksX0_inDoubt_0 7 rfl rfl)
theorem dX0_inDoubt_8 : decode cX0_inDoubt 8 = .ok (.lastore, 1) := dk_80 (dk_at dksX0_inDoubt_0 8 rfl rfl)
theorem dX0_inDoubt_9 : decode cX0_inDoubt 9 = .ok (.goto 6, 3) := dk_167 0 6 (dk_at dksX0_inDoubt_0 9 rfl rfl)
theorem dX0_inDoubt_12 : decode cX0_inDoubt 12 = .ok (.astore_n 3, 1) := dk_78 (dk_at dksX0_inDoubt_0 12 rfl rfl)
theorem dX0_inDoubt_13 : decode cX0_inDoubt 13 = .ok (.iconst 1, 1) := dk_4 (dk_at dksX0_inDoubt_0 13 rfl rfl)
theorem dX0_inDoubt_14 : decode cX0_inDoubt 14 = .ok (.ireturn, 1) := dk_172 (dk_at dksX0_inDoubt_0 14 rfl rfl)
theorem dX0_inDoubt_15 : decode cX0_inDoubt 15 = .ok (.iconst 0, 1) := dk_3 (dk_at dksX0_inDoubt_0 15 rfl rfl)
theorem dX0_inDoubt_16 : decode cX0_inDoubt 16 = .ok (.ireturn, 1) := dk_172 (dk_at dksX0_inDoubt_0 16 rfl rfl)
abbrev cX0_outcome : ByteArray := method_22_code
def yX0_outcome : MethodName := ⟨RX0, "outcome", "(LVoteLogs;I[J)I"⟩
def dkwX0_outcome_0 : List UInt8 := [44, 3, 42, 27, 182, 0, 77, 133, 80, 167, 0, 6, 78, 4, 172, 3, 172]
abbrev dktX0_outcome_0 : List UInt8 := dkwX0_outcome_0 ++ []
theorem dksX0_outcome_0 : cX0_outcome.data.toList.drop 0 = dktX0_outcome_0 := by decide +kernel
theorem dX0_outcome_0 : decode cX0_outcome 0 = .ok (.aload_n 2, 1) := dk_44 (dk_at dksX0_outcome_0 0 rfl rfl)
theorem dX0_outcome_1 : decode cX0_outcome 1 = .ok (.iconst 0, 1) := dk_3 (dk_at dksX0_outcome_0 1 rfl rfl)
theorem dX0_outcome_2 : decode cX0_outcome 2 = .ok (.aload_n 0, 1) := dk_42 (dk_at dksX0_outcome_0 2 rfl rfl)
theorem dX0_outcome_3 : decode cX0_outcome 3 = .ok (.iload_n 1, 1) := dk_27 (dk_at dksX0_outcome_0 3 rfl rfl)
theorem dX0_outcome_4 : decode cX0_outcome 4 = .ok (.invokevirtual 77, 3) := dk_182 0 77 (dk_at dksX0_outcome_0 4 rfl rfl)
theorem dX0_outcome_7 : decode cX0_outcome 7 = .ok (.i2l, 1) := dk_133 (dk_at dksX0_outcome_0 7 rfl rfl)
theorem dX0_outcome_8 : decode cX0_outcome 8 = .ok (.lastore, 1) := dk_80 (dk_at dksX0_outcome_0 8 rfl rfl)
theorem dX0_outcome_9 : decode cX0_outcome 9 = .ok (.goto 6, 3) := dk_167 0 6 (dk_at dksX0_outcome_0 9 rfl rfl)
theorem dX0_outcome_12 : decode cX0_outcome 12 = .ok (.astore_n 3, 1) := dk_78 (dk_at dksX0_outcome_0 12 rfl rfl)
theorem dX0_outcome_13 : decode cX0_outcome 13 = .ok (.iconst 1, 1) := dk_4 (dk_at dksX0_outcome_0 13 rfl rfl)
theorem dX0_outcome_14 : decode cX0_outcome 14 = .ok (.ireturn, 1) := dk_172 (dk_at dksX0_outcome_0 14 rfl rfl)
theorem dX0_outcome_15 : decode cX0_outcome 15 = .ok (.iconst 0, 1) := dk_3 (dk_at dksX0_outcome_0 15 rfl rfl)
theorem dX0_outcome_16 : decode cX0_outcome 16 = .ok (.ireturn, 1) := dk_172 (dk_at dksX0_outcome_0 16 rfl rfl)
abbrev cX0_outcomeByStores : ByteArray := method_23_code
def yX0_outcomeByStores : MethodName := ⟨RX0, "outcomeByStores", "(LVoteLogs;I[J)I"⟩
def dkwX0_outcomeByStores_0 : List UInt8 := [44, 3, 42, 27, 182, 0, 80, 133, 80, 167, 0, 6, 78, 4, 172, 3, 172]
abbrev dktX0_outcomeByStores_0 : List UInt8 := dkwX0_outcomeByStores_0 ++ []
theorem dksX0_outcomeByStores_0 : cX0_outcomeByStores.data.toList.drop 0 = dktX0_outcomeByStores_0 := by decide +kernel
theorem dX0_outcomeByStores_0 : decode cX0_outcomeByStores 0 = .ok (.aload_n 2, 1) := dk_44 (dk_at dksX0_outcomeByStores_0 0 rfl rfl)
theorem dX0_outcomeByStores_1 : decode cX0_outcomeByStores 1 = .ok (.iconst 0, 1) := dk_3 (dk_at dksX0_outcomeByStores_0 1 rfl rfl)
theorem dX0_outcomeByStores_2 : decode cX0_outcomeByStores 2 = .ok (.aload_n 0, 1) := dk_42 (dk_at dksX0_outcomeByStores_0 2 rfl rfl)
theorem dX0_outcomeByStores_3 : decode cX0_outcomeByStores 3 = .ok (.iload_n 1, 1) := dk_27 (dk_at dksX0_outcomeByStores_0 3 rfl rfl)
theorem dX0_outcomeByStores_4 : decode cX0_outcomeByStores 4 = .ok (.invokevirtual 80, 3) := dk_182 0 80 (dk_at dksX0_outcomeByStores_0 4 rfl rfl)
theorem dX0_outcomeByStores_7 : decode cX0_outcomeByStores 7 = .ok (.i2l, 1) := dk_133 (dk_at dksX0_outcomeByStores_0 7 rfl rfl)
theorem dX0_outcomeByStores_8 : decode cX0_outcomeByStores 8 = .ok (.lastore, 1) := dk_80 (dk_at dksX0_outcomeByStores_0 8 rfl rfl)
theorem dX0_outcomeByStores_9 : decode cX0_outcomeByStores 9 = .ok (.goto 6, 3) := dk_167 0 6 (dk_at dksX0_outcomeByStores_0 9 rfl rfl)
theorem dX0_outcomeByStores_12 : decode cX0_outcomeByStores 12 = .ok (.astore_n 3, 1) := dk_78 (dk_at dksX0_outcomeByStores_0 12 rfl rfl)
theorem dX0_outcomeByStores_13 : decode cX0_outcomeByStores 13 = .ok (.iconst 1, 1) := dk_4 (dk_at dksX0_outcomeByStores_0 13 rfl rfl)
theorem dX0_outcomeByStores_14 : decode cX0_outcomeByStores 14 = .ok (.ireturn, 1) := dk_172 (dk_at dksX0_outcomeByStores_0 14 rfl rfl)
theorem dX0_outcomeByStores_15 : decode cX0_outcomeByStores 15 = .ok (.iconst 0, 1) := dk_3 (dk_at dksX0_outcomeByStores_0 15 rfl rfl)
theorem dX0_outcomeByStores_16 : decode cX0_outcomeByStores 16 = .ok (.ireturn, 1) := dk_172 (dk_at dksX0_outcomeByStores_0 16 rfl rfl)
abbrev cX0_hasEnded : ByteArray := method_24_code
def yX0_hasEnded : MethodName := ⟨RX0, "hasEnded", "(LVoteLogs;I[J)I"⟩
def dkwX0_hasEnded_0 : List UInt8 := [44, 3, 42, 27, 182, 0, 83, 153, 0, 7, 10, 167, 0, 4, 9, 80, 167, 0, 6, 78, 4, 172, 3, 172]
abbrev dktX0_hasEnded_0 : List UInt8 := dkwX0_hasEnded_0 ++ []
theorem dksX0_hasEnded_0 : cX0_hasEnded.data.toList.drop 0 = dktX0_hasEnded_0 := by decide +kernel
theorem dX0_hasEnded_0 : decode cX0_hasEnded 0 = .ok (.aload_n 2, 1) := dk_44 (dk_at dksX0_hasEnded_0 0 rfl rfl)
theorem dX0_hasEnded_1 : decode cX0_hasEnded 1 = .ok (.iconst 0, 1) := dk_3 (dk_at dksX0_hasEnded_0 1 rfl rfl)
theorem dX0_hasEnded_2 : decode cX0_hasEnded 2 = .ok (.aload_n 0, 1) := dk_42 (dk_at dksX0_hasEnded_0 2 rfl rfl)
theorem dX0_hasEnded_3 : decode cX0_hasEnded 3 = .ok (.iload_n 1, 1) := dk_27 (dk_at dksX0_hasEnded_0 3 rfl rfl)
theorem dX0_hasEnded_4 : decode cX0_hasEnded 4 = .ok (.invokevirtual 83, 3) := dk_182 0 83 (dk_at dksX0_hasEnded_0 4 rfl rfl)
theorem dX0_hasEnded_7 : decode cX0_hasEnded 7 = .ok (.ifCond .eq 7, 3) := dk_153 0 7 (dk_at dksX0_hasEnded_0 7 rfl rfl)
theorem dX0_hasEnded_10 : decode cX0_hasEnded 10 = .ok (.lconst 1, 1) := dk_10 (dk_at dksX0_hasEnded_0 10 rfl rfl)
theorem dX0_hasEnded_11 : decode cX0_hasEnded 11 = .ok (.goto 4, 3) := dk_167 0 4 (dk_at dksX0_hasEnded_0 11 rfl rfl)
theorem dX0_hasEnded_14 : decode cX0_hasEnded 14 = .ok (.lconst 0, 1) := dk_9 (dk_at dksX0_hasEnded_0 14 rfl rfl)
theorem dX0_hasEnded_15 : decode cX0_hasEnded 15 = .ok (.lastore, 1) := dk_80 (dk_at dksX0_hasEnded_0 15 rfl rfl)
theorem dX0_hasEnded_16 : decode cX0_hasEnded 16 = .ok (.goto 6, 3) := dk_167 0 6 (dk_at dksX0_hasEnded_0 16 rfl rfl)
theorem dX0_hasEnded_19 : decode cX0_hasEnded 19 = .ok (.astore_n 3, 1) := dk_78 (dk_at dksX0_hasEnded_0 19 rfl rfl)
theorem dX0_hasEnded_20 : decode cX0_hasEnded 20 = .ok (.iconst 1, 1) := dk_4 (dk_at dksX0_hasEnded_0 20 rfl rfl)
theorem dX0_hasEnded_21 : decode cX0_hasEnded 21 = .ok (.ireturn, 1) := dk_172 (dk_at dksX0_hasEnded_0 21 rfl rfl)
theorem dX0_hasEnded_22 : decode cX0_hasEnded 22 = .ok (.iconst 0, 1) := dk_3 (dk_at dksX0_hasEnded_0 22 rfl rfl)
theorem dX0_hasEnded_23 : decode cX0_hasEnded 23 = .ok (.ireturn, 1) := dk_172 (dk_at dksX0_hasEnded_0 23 rfl rfl)
abbrev cX0_saidYes : ByteArray := method_25_code
def yX0_saidYes : MethodName := ⟨RX0, "saidYes", "(LVoteLogs;I[J)I"⟩
def dkwX0_saidYes_0 : List UInt8 := [44, 3, 42, 27, 182, 0, 86, 133, 80, 167, 0, 6, 78, 4, 172, 3, 172]
abbrev dktX0_saidYes_0 : List UInt8 := dkwX0_saidYes_0 ++ []
theorem dksX0_saidYes_0 : cX0_saidYes.data.toList.drop 0 = dktX0_saidYes_0 := by decide +kernel
theorem dX0_saidYes_0 : decode cX0_saidYes 0 = .ok (.aload_n 2, 1) := dk_44 (dk_at dksX0_saidYes_0 0 rfl rfl)
theorem dX0_saidYes_1 : decode cX0_saidYes 1 = .ok (.iconst 0, 1) := dk_3 (dk_at dksX0_saidYes_0 1 rfl rfl)
theorem dX0_saidYes_2 : decode cX0_saidYes 2 = .ok (.aload_n 0, 1) := dk_42 (dk_at dksX0_saidYes_0 2 rfl rfl)
theorem dX0_saidYes_3 : decode cX0_saidYes 3 = .ok (.iload_n 1, 1) := dk_27 (dk_at dksX0_saidYes_0 3 rfl rfl)
theorem dX0_saidYes_4 : decode cX0_saidYes 4 = .ok (.invokevirtual 86, 3) := dk_182 0 86 (dk_at dksX0_saidYes_0 4 rfl rfl)
theorem dX0_saidYes_7 : decode cX0_saidYes 7 = .ok (.i2l, 1) := dk_133 (dk_at dksX0_saidYes_0 7 rfl rfl)
theorem dX0_saidYes_8 : decode cX0_saidYes 8 = .ok (.lastore, 1) := dk_80 (dk_at dksX0_saidYes_0 8 rfl rfl)
theorem dX0_saidYes_9 : decode cX0_saidYes 9 = .ok (.goto 6, 3) := dk_167 0 6 (dk_at dksX0_saidYes_0 9 rfl rfl)
theorem dX0_saidYes_12 : decode cX0_saidYes 12 = .ok (.astore_n 3, 1) := dk_78 (dk_at dksX0_saidYes_0 12 rfl rfl)
theorem dX0_saidYes_13 : decode cX0_saidYes 13 = .ok (.iconst 1, 1) := dk_4 (dk_at dksX0_saidYes_0 13 rfl rfl)
theorem dX0_saidYes_14 : decode cX0_saidYes 14 = .ok (.ireturn, 1) := dk_172 (dk_at dksX0_saidYes_0 14 rfl rfl)
theorem dX0_saidYes_15 : decode cX0_saidYes 15 = .ok (.iconst 0, 1) := dk_3 (dk_at dksX0_saidYes_0 15 rfl rfl)
theorem dX0_saidYes_16 : decode cX0_saidYes 16 = .ok (.ireturn, 1) := dk_172 (dk_at dksX0_saidYes_0 16 rfl rfl)
abbrev cX0_saidDone : ByteArray := method_26_code
def yX0_saidDone : MethodName := ⟨RX0, "saidDone", "(LVoteLogs;I[J)I"⟩
def dkwX0_saidDone_0 : List UInt8 := [44, 3, 42, 27, 182, 0, 89, 133, 80, 167, 0, 6, 78, 4, 172, 3, 172]
abbrev dktX0_saidDone_0 : List UInt8 := dkwX0_saidDone_0 ++ []
theorem dksX0_saidDone_0 : cX0_saidDone.data.toList.drop 0 = dktX0_saidDone_0 := by decide +kernel
theorem dX0_saidDone_0 : decode cX0_saidDone 0 = .ok (.aload_n 2, 1) := dk_44 (dk_at dksX0_saidDone_0 0 rfl rfl)
theorem dX0_saidDone_1 : decode cX0_saidDone 1 = .ok (.iconst 0, 1) := dk_3 (dk_at dksX0_saidDone_0 1 rfl rfl)
theorem dX0_saidDone_2 : decode cX0_saidDone 2 = .ok (.aload_n 0, 1) := dk_42 (dk_at dksX0_saidDone_0 2 rfl rfl)
theorem dX0_saidDone_3 : decode cX0_saidDone 3 = .ok (.iload_n 1, 1) := dk_27 (dk_at dksX0_saidDone_0 3 rfl rfl)
theorem dX0_saidDone_4 : decode cX0_saidDone 4 = .ok (.invokevirtual 89, 3) := dk_182 0 89 (dk_at dksX0_saidDone_0 4 rfl rfl)
theorem dX0_saidDone_7 : decode cX0_saidDone 7 = .ok (.i2l, 1) := dk_133 (dk_at dksX0_saidDone_0 7 rfl rfl)
theorem dX0_saidDone_8 : decode cX0_saidDone 8 = .ok (.lastore, 1) := dk_80 (dk_at dksX0_saidDone_0 8 rfl rfl)
theorem dX0_saidDone_9 : decode cX0_saidDone 9 = .ok (.goto 6, 3) := dk_167 0 6 (dk_at dksX0_saidDone_0 9 rfl rfl)
theorem dX0_saidDone_12 : decode cX0_saidDone 12 = .ok (.astore_n 3, 1) := dk_78 (dk_at dksX0_saidDone_0 12 rfl rfl)
theorem dX0_saidDone_13 : decode cX0_saidDone 13 = .ok (.iconst 1, 1) := dk_4 (dk_at dksX0_saidDone_0 13 rfl rfl)
theorem dX0_saidDone_14 : decode cX0_saidDone 14 = .ok (.ireturn, 1) := dk_172 (dk_at dksX0_saidDone_0 14 rfl rfl)
theorem dX0_saidDone_15 : decode cX0_saidDone 15 = .ok (.iconst 0, 1) := dk_3 (dk_at dksX0_saidDone_0 15 rfl rfl)
theorem dX0_saidDone_16 : decode cX0_saidDone 16 = .ok (.ireturn, 1) := dk_172 (dk_at dksX0_saidDone_0 16 rfl rfl)
abbrev cX0_records : ByteArray := method_27_code
def yX0_records : MethodName := ⟨RX0, "records", "(LVoteLogs;I[J)I"⟩
def dkwX0_records_0 : List UInt8 := [44, 3, 42, 27, 182, 0, 92, 133, 80, 167, 0, 6, 78, 4, 172, 3, 172]
abbrev dktX0_records_0 : List UInt8 := dkwX0_records_0 ++ []
theorem dksX0_records_0 : cX0_records.data.toList.drop 0 = dktX0_records_0 := by decide +kernel
theorem dX0_records_0 : decode cX0_records 0 = .ok (.aload_n 2, 1) := dk_44 (dk_at dksX0_records_0 0 rfl rfl)
theorem dX0_records_1 : decode cX0_records 1 = .ok (.iconst 0, 1) := dk_3 (dk_at dksX0_records_0 1 rfl rfl)
theorem dX0_records_2 : decode cX0_records 2 = .ok (.aload_n 0, 1) := dk_42 (dk_at dksX0_records_0 2 rfl rfl)
theorem dX0_records_3 : decode cX0_records 3 = .ok (.iload_n 1, 1) := dk_27 (dk_at dksX0_records_0 3 rfl rfl)
theorem dX0_records_4 : decode cX0_records 4 = .ok (.invokevirtual 92, 3) := dk_182 0 92 (dk_at dksX0_records_0 4 rfl rfl)
theorem dX0_records_7 : decode cX0_records 7 = .ok (.i2l, 1) := dk_133 (dk_at dksX0_records_0 7 rfl rfl)
theorem dX0_records_8 : decode cX0_records 8 = .ok (.lastore, 1) := dk_80 (dk_at dksX0_records_0 8 rfl rfl)
theorem dX0_records_9 : decode cX0_records 9 = .ok (.goto 6, 3) := dk_167 0 6 (dk_at dksX0_records_0 9 rfl rfl)
theorem dX0_records_12 : decode cX0_records 12 = .ok (.astore_n 3, 1) := dk_78 (dk_at dksX0_records_0 12 rfl rfl)
theorem dX0_records_13 : decode cX0_records 13 = .ok (.iconst 1, 1) := dk_4 (dk_at dksX0_records_0 13 rfl rfl)
theorem dX0_records_14 : decode cX0_records 14 = .ok (.ireturn, 1) := dk_172 (dk_at dksX0_records_0 14 rfl rfl)
theorem dX0_records_15 : decode cX0_records 15 = .ok (.iconst 0, 1) := dk_3 (dk_at dksX0_records_0 15 rfl rfl)
theorem dX0_records_16 : decode cX0_records 16 = .ok (.ireturn, 1) := dk_172 (dk_at dksX0_records_0 16 rfl rfl)
abbrev cX0_recordKind : ByteArray := method_28_code
def yX0_recordKind : MethodName := ⟨RX0, "recordKind", "(LVoteLogs;II[J)I"⟩
def dkwX0_recordKind_0 : List UInt8 := [45, 3, 42, 27, 28, 182, 0, 95, 133, 80, 167, 0, 7, 58, 4, 4, 172, 3, 172]
abbrev dktX0_recordKind_0 : List UInt8 := dkwX0_recordKind_0 ++ []
theorem dksX0_recordKind_0 : cX0_recordKind.data.toList.drop 0 = dktX0_recordKind_0 := by decide +kernel
theorem dX0_recordKind_0 : decode cX0_recordKind 0 = .ok (.aload_n 3, 1) := dk_45 (dk_at dksX0_recordKind_0 0 rfl rfl)
theorem dX0_recordKind_1 : decode cX0_recordKind 1 = .ok (.iconst 0, 1) := dk_3 (dk_at dksX0_recordKind_0 1 rfl rfl)
theorem dX0_recordKind_2 : decode cX0_recordKind 2 = .ok (.aload_n 0, 1) := dk_42 (dk_at dksX0_recordKind_0 2 rfl rfl)
theorem dX0_recordKind_3 : decode cX0_recordKind 3 = .ok (.iload_n 1, 1) := dk_27 (dk_at dksX0_recordKind_0 3 rfl rfl)
theorem dX0_recordKind_4 : decode cX0_recordKind 4 = .ok (.iload_n 2, 1) := dk_28 (dk_at dksX0_recordKind_0 4 rfl rfl)
theorem dX0_recordKind_5 : decode cX0_recordKind 5 = .ok (.invokevirtual 95, 3) := dk_182 0 95 (dk_at dksX0_recordKind_0 5 rfl rfl)
theorem dX0_recordKind_8 : decode cX0_recordKind 8 = .ok (.i2l, 1) := dk_133 (dk_at dksX0_recordKind_0 8 rfl rfl)
theorem dX0_recordKind_9 : decode cX0_recordKind 9 = .ok (.lastore, 1) := dk_80 (dk_at dksX0_recordKind_0 9 rfl rfl)
theorem dX0_recordKind_10 : decode cX0_recordKind 10 = .ok (.goto 7, 3) := dk_167 0 7 (dk_at dksX0_recordKind_0 10 rfl rfl)
theorem dX0_recordKind_13 : decode cX0_recordKind 13 = .ok (.astore 4, 2) := dk_58 4 (dk_at dksX0_recordKind_0 13 rfl rfl)
theorem dX0_recordKind_15 : decode cX0_recordKind 15 = .ok (.iconst 1, 1) := dk_4 (dk_at dksX0_recordKind_0 15 rfl rfl)
theorem dX0_recordKind_16 : decode cX0_recordKind 16 = .ok (.ireturn, 1) := dk_172 (dk_at dksX0_recordKind_0 16 rfl rfl)
theorem dX0_recordKind_17 : decode cX0_recordKind 17 = .ok (.iconst 0, 1) := dk_3 (dk_at dksX0_recordKind_0 17 rfl rfl)
theorem dX0_recordKind_18 : decode cX0_recordKind 18 = .ok (.ireturn, 1) := dk_172 (dk_at dksX0_recordKind_0 18 rfl rfl)
abbrev cX0_recordTransfer : ByteArray := method_29_code
def yX0_recordTransfer : MethodName := ⟨RX0, "recordTransfer", "(LVoteLogs;II[J)I"⟩
def dkwX0_recordTransfer_0 : List UInt8 := [45, 3, 42, 27, 28, 182, 0, 98, 133, 80, 167, 0, 7, 58, 4, 4, 172, 3, 172]
abbrev dktX0_recordTransfer_0 : List UInt8 := dkwX0_recordTransfer_0 ++ []
theorem dksX0_recordTransfer_0 : cX0_recordTransfer.data.toList.drop 0 = dktX0_recordTransfer_0 := by decide +kernel
theorem dX0_recordTransfer_0 : decode cX0_recordTransfer 0 = .ok (.aload_n 3, 1) := dk_45 (dk_at dksX0_recordTransfer_0 0 rfl rfl)
theorem dX0_recordTransfer_1 : decode cX0_recordTransfer 1 = .ok (.iconst 0, 1) := dk_3 (dk_at dksX0_recordTransfer_0 1 rfl rfl)
theorem dX0_recordTransfer_2 : decode cX0_recordTransfer 2 = .ok (.aload_n 0, 1) := dk_42 (dk_at dksX0_recordTransfer_0 2 rfl rfl)
theorem dX0_recordTransfer_3 : decode cX0_recordTransfer 3 = .ok (.iload_n 1, 1) := dk_27 (dk_at dksX0_recordTransfer_0 3 rfl rfl)
theorem dX0_recordTransfer_4 : decode cX0_recordTransfer 4 = .ok (.iload_n 2, 1) := dk_28 (dk_at dksX0_recordTransfer_0 4 rfl rfl)
theorem dX0_recordTransfer_5 : decode cX0_recordTransfer 5 = .ok (.invokevirtual 98, 3) := dk_182 0 98 (dk_at dksX0_recordTransfer_0 5 rfl rfl)
theorem dX0_recordTransfer_8 : decode cX0_recordTransfer 8 = .ok (.i2l, 1) := dk_133 (dk_at dksX0_recordTransfer_0 8 rfl rfl)
theorem dX0_recordTransfer_9 : decode cX0_recordTransfer 9 = .ok (.lastore, 1) := dk_80 (dk_at dksX0_recordTransfer_0 9 rfl rfl)
theorem dX0_recordTransfer_10 : decode cX0_recordTransfer 10 = .ok (.goto 7, 3) := dk_167 0 7 (dk_at dksX0_recordTransfer_0 10 rfl rfl)
theorem dX0_recordTransfer_13 : decode cX0_recordTransfer 13 = .ok (.astore 4, 2) := dk_58 4 (dk_at dksX0_recordTransfer_0 13 rfl rfl)
theorem dX0_recordTransfer_15 : decode cX0_recordTransfer 15 = .ok (.iconst 1, 1) := dk_4 (dk_at dksX0_recordTransfer_0 15 rfl rfl)
theorem dX0_recordTransfer_16 : decode cX0_recordTransfer 16 = .ok (.ireturn, 1) := dk_172 (dk_at dksX0_recordTransfer_0 16 rfl rfl)
theorem dX0_recordTransfer_17 : decode cX0_recordTransfer 17 = .ok (.iconst 0, 1) := dk_3 (dk_at dksX0_recordTransfer_0 17 rfl rfl)
theorem dX0_recordTransfer_18 : decode cX0_recordTransfer 18 = .ok (.ireturn, 1) := dk_172 (dk_at dksX0_recordTransfer_0 18 rfl rfl)
abbrev cX0_kindOf : ByteArray := method_30_code
def yX0_kindOf : MethodName := ⟨RX0, "kindOf", "(LVoteLogs;I[J)I"⟩
def dkwX0_kindOf_0 : List UInt8 := [44, 3, 42, 27, 182, 0, 101, 133, 80, 167, 0, 6, 78, 4, 172, 3, 172]
abbrev dktX0_kindOf_0 : List UInt8 := dkwX0_kindOf_0 ++ []
theorem dksX0_kindOf_0 : cX0_kindOf.data.toList.drop 0 = dktX0_kindOf_0 := by decide +kernel
theorem dX0_kindOf_0 : decode cX0_kindOf 0 = .ok (.aload_n 2, 1) := dk_44 (dk_at dksX0_kindOf_0 0 rfl rfl)
theorem dX0_kindOf_1 : decode cX0_kindOf 1 = .ok (.iconst 0, 1) := dk_3 (dk_at dksX0_kindOf_0 1 rfl rfl)
theorem dX0_kindOf_2 : decode cX0_kindOf 2 = .ok (.aload_n 0, 1) := dk_42 (dk_at dksX0_kindOf_0 2 rfl rfl)
theorem dX0_kindOf_3 : decode cX0_kindOf 3 = .ok (.iload_n 1, 1) := dk_27 (dk_at dksX0_kindOf_0 3 rfl rfl)
theorem dX0_kindOf_4 : decode cX0_kindOf 4 = .ok (.invokevirtual 101, 3) := dk_182 0 101 (dk_at dksX0_kindOf_0 4 rfl rfl)
theorem dX0_kindOf_7 : decode cX0_kindOf 7 = .ok (.i2l, 1) := dk_133 (dk_at dksX0_kindOf_0 7 rfl rfl)
theorem dX0_kindOf_8 : decode cX0_kindOf 8 = .ok (.lastore, 1) := dk_80 (dk_at dksX0_kindOf_0 8 rfl rfl)
theorem dX0_kindOf_9 : decode cX0_kindOf 9 = .ok (.goto 6, 3) := dk_167 0 6 (dk_at dksX0_kindOf_0 9 rfl rfl)
theorem dX0_kindOf_12 : decode cX0_kindOf 12 = .ok (.astore_n 3, 1) := dk_78 (dk_at dksX0_kindOf_0 12 rfl rfl)
theorem dX0_kindOf_13 : decode cX0_kindOf 13 = .ok (.iconst 1, 1) := dk_4 (dk_at dksX0_kindOf_0 13 rfl rfl)
theorem dX0_kindOf_14 : decode cX0_kindOf 14 = .ok (.ireturn, 1) := dk_172 (dk_at dksX0_kindOf_0 14 rfl rfl)
theorem dX0_kindOf_15 : decode cX0_kindOf 15 = .ok (.iconst 0, 1) := dk_3 (dk_at dksX0_kindOf_0 15 rfl rfl)
theorem dX0_kindOf_16 : decode cX0_kindOf 16 = .ok (.ireturn, 1) := dk_172 (dk_at dksX0_kindOf_0 16 rfl rfl)
abbrev cX0_transferOf : ByteArray := method_31_code
def yX0_transferOf : MethodName := ⟨RX0, "transferOf", "(LVoteLogs;I[J)I"⟩
def dkwX0_transferOf_0 : List UInt8 := [44, 3, 42, 27, 182, 0, 104, 133, 80, 167, 0, 6, 78, 4, 172, 3, 172]
abbrev dktX0_transferOf_0 : List UInt8 := dkwX0_transferOf_0 ++ []
theorem dksX0_transferOf_0 : cX0_transferOf.data.toList.drop 0 = dktX0_transferOf_0 := by decide +kernel
theorem dX0_transferOf_0 : decode cX0_transferOf 0 = .ok (.aload_n 2, 1) := dk_44 (dk_at dksX0_transferOf_0 0 rfl rfl)
theorem dX0_transferOf_1 : decode cX0_transferOf 1 = .ok (.iconst 0, 1) := dk_3 (dk_at dksX0_transferOf_0 1 rfl rfl)
theorem dX0_transferOf_2 : decode cX0_transferOf 2 = .ok (.aload_n 0, 1) := dk_42 (dk_at dksX0_transferOf_0 2 rfl rfl)
theorem dX0_transferOf_3 : decode cX0_transferOf 3 = .ok (.iload_n 1, 1) := dk_27 (dk_at dksX0_transferOf_0 3 rfl rfl)
theorem dX0_transferOf_4 : decode cX0_transferOf 4 = .ok (.invokevirtual 104, 3) := dk_182 0 104 (dk_at dksX0_transferOf_0 4 rfl rfl)
theorem dX0_transferOf_7 : decode cX0_transferOf 7 = .ok (.i2l, 1) := dk_133 (dk_at dksX0_transferOf_0 7 rfl rfl)
theorem dX0_transferOf_8 : decode cX0_transferOf 8 = .ok (.lastore, 1) := dk_80 (dk_at dksX0_transferOf_0 8 rfl rfl)
theorem dX0_transferOf_9 : decode cX0_transferOf 9 = .ok (.goto 6, 3) := dk_167 0 6 (dk_at dksX0_transferOf_0 9 rfl rfl)
theorem dX0_transferOf_12 : decode cX0_transferOf 12 = .ok (.astore_n 3, 1) := dk_78 (dk_at dksX0_transferOf_0 12 rfl rfl)
theorem dX0_transferOf_13 : decode cX0_transferOf 13 = .ok (.iconst 1, 1) := dk_4 (dk_at dksX0_transferOf_0 13 rfl rfl)
theorem dX0_transferOf_14 : decode cX0_transferOf 14 = .ok (.ireturn, 1) := dk_172 (dk_at dksX0_transferOf_0 14 rfl rfl)
theorem dX0_transferOf_15 : decode cX0_transferOf 15 = .ok (.iconst 0, 1) := dk_3 (dk_at dksX0_transferOf_0 15 rfl rfl)
theorem dX0_transferOf_16 : decode cX0_transferOf 16 = .ok (.ireturn, 1) := dk_172 (dk_at dksX0_transferOf_0 16 rfl rfl)
abbrev cX0_storeOf : ByteArray := method_32_code
def yX0_storeOf : MethodName := ⟨RX0, "storeOf", "(LVoteLogs;I[J)I"⟩
def dkwX0_storeOf_0 : List UInt8 := [44, 3, 42, 27, 182, 0, 107, 133, 80, 167, 0, 6, 78, 4, 172, 3, 172]
abbrev dktX0_storeOf_0 : List UInt8 := dkwX0_storeOf_0 ++ []
theorem dksX0_storeOf_0 : cX0_storeOf.data.toList.drop 0 = dktX0_storeOf_0 := by decide +kernel
theorem dX0_storeOf_0 : decode cX0_storeOf 0 = .ok (.aload_n 2, 1) := dk_44 (dk_at dksX0_storeOf_0 0 rfl rfl)
theorem dX0_storeOf_1 : decode cX0_storeOf 1 = .ok (.iconst 0, 1) := dk_3 (dk_at dksX0_storeOf_0 1 rfl rfl)
theorem dX0_storeOf_2 : decode cX0_storeOf 2 = .ok (.aload_n 0, 1) := dk_42 (dk_at dksX0_storeOf_0 2 rfl rfl)
theorem dX0_storeOf_3 : decode cX0_storeOf 3 = .ok (.iload_n 1, 1) := dk_27 (dk_at dksX0_storeOf_0 3 rfl rfl)
theorem dX0_storeOf_4 : decode cX0_storeOf 4 = .ok (.invokevirtual 107, 3) := dk_182 0 107 (dk_at dksX0_storeOf_0 4 rfl rfl)
theorem dX0_storeOf_7 : decode cX0_storeOf 7 = .ok (.i2l, 1) := dk_133 (dk_at dksX0_storeOf_0 7 rfl rfl)
theorem dX0_storeOf_8 : decode cX0_storeOf 8 = .ok (.lastore, 1) := dk_80 (dk_at dksX0_storeOf_0 8 rfl rfl)
theorem dX0_storeOf_9 : decode cX0_storeOf 9 = .ok (.goto 6, 3) := dk_167 0 6 (dk_at dksX0_storeOf_0 9 rfl rfl)
theorem dX0_storeOf_12 : decode cX0_storeOf 12 = .ok (.astore_n 3, 1) := dk_78 (dk_at dksX0_storeOf_0 12 rfl rfl)
theorem dX0_storeOf_13 : decode cX0_storeOf 13 = .ok (.iconst 1, 1) := dk_4 (dk_at dksX0_storeOf_0 13 rfl rfl)
theorem dX0_storeOf_14 : decode cX0_storeOf 14 = .ok (.ireturn, 1) := dk_172 (dk_at dksX0_storeOf_0 14 rfl rfl)
theorem dX0_storeOf_15 : decode cX0_storeOf 15 = .ok (.iconst 0, 1) := dk_3 (dk_at dksX0_storeOf_0 15 rfl rfl)
theorem dX0_storeOf_16 : decode cX0_storeOf 16 = .ok (.ireturn, 1) := dk_172 (dk_at dksX0_storeOf_0 16 rfl rfl)
abbrev cX0_wouldSend : ByteArray := method_33_code
def yX0_wouldSend : MethodName := ⟨RX0, "wouldSend", "(LVoteLogs;I[J)I"⟩
def dkwX0_wouldSend_0 : List UInt8 := [44, 3, 42, 27, 182, 0, 110, 133, 80, 167, 0, 6, 78, 4, 172, 3, 172]
abbrev dktX0_wouldSend_0 : List UInt8 := dkwX0_wouldSend_0 ++ []
theorem dksX0_wouldSend_0 : cX0_wouldSend.data.toList.drop 0 = dktX0_wouldSend_0 := by decide +kernel
theorem dX0_wouldSend_0 : decode cX0_wouldSend 0 = .ok (.aload_n 2, 1) := dk_44 (dk_at dksX0_wouldSend_0 0 rfl rfl)
theorem dX0_wouldSend_1 : decode cX0_wouldSend 1 = .ok (.iconst 0, 1) := dk_3 (dk_at dksX0_wouldSend_0 1 rfl rfl)
theorem dX0_wouldSend_2 : decode cX0_wouldSend 2 = .ok (.aload_n 0, 1) := dk_42 (dk_at dksX0_wouldSend_0 2 rfl rfl)
theorem dX0_wouldSend_3 : decode cX0_wouldSend 3 = .ok (.iload_n 1, 1) := dk_27 (dk_at dksX0_wouldSend_0 3 rfl rfl)
theorem dX0_wouldSend_4 : decode cX0_wouldSend 4 = .ok (.invokevirtual 110, 3) := dk_182 0 110 (dk_at dksX0_wouldSend_0 4 rfl rfl)
theorem dX0_wouldSend_7 : decode cX0_wouldSend 7 = .ok (.i2l, 1) := dk_133 (dk_at dksX0_wouldSend_0 7 rfl rfl)
theorem dX0_wouldSend_8 : decode cX0_wouldSend 8 = .ok (.lastore, 1) := dk_80 (dk_at dksX0_wouldSend_0 8 rfl rfl)
theorem dX0_wouldSend_9 : decode cX0_wouldSend 9 = .ok (.goto 6, 3) := dk_167 0 6 (dk_at dksX0_wouldSend_0 9 rfl rfl)
theorem dX0_wouldSend_12 : decode cX0_wouldSend 12 = .ok (.astore_n 3, 1) := dk_78 (dk_at dksX0_wouldSend_0 12 rfl rfl)
theorem dX0_wouldSend_13 : decode cX0_wouldSend 13 = .ok (.iconst 1, 1) := dk_4 (dk_at dksX0_wouldSend_0 13 rfl rfl)
theorem dX0_wouldSend_14 : decode cX0_wouldSend 14 = .ok (.ireturn, 1) := dk_172 (dk_at dksX0_wouldSend_0 14 rfl rfl)
theorem dX0_wouldSend_15 : decode cX0_wouldSend 15 = .ok (.iconst 0, 1) := dk_3 (dk_at dksX0_wouldSend_0 15 rfl rfl)
theorem dX0_wouldSend_16 : decode cX0_wouldSend 16 = .ok (.ireturn, 1) := dk_172 (dk_at dksX0_wouldSend_0 16 rfl rfl)
abbrev cX0_outcomeIfSettled : ByteArray := method_34_code
def yX0_outcomeIfSettled : MethodName := ⟨RX0, "outcomeIfSettled", "(LVoteLogs;I[J)I"⟩
def dkwX0_outcomeIfSettled_0 : List UInt8 := [44, 3, 42, 27, 182, 0, 113, 133, 80, 167, 0, 6, 78, 4, 172, 3, 172]
abbrev dktX0_outcomeIfSettled_0 : List UInt8 := dkwX0_outcomeIfSettled_0 ++ []
theorem dksX0_outcomeIfSettled_0 : cX0_outcomeIfSettled.data.toList.drop 0 = dktX0_outcomeIfSettled_0 := by decide +kernel
theorem dX0_outcomeIfSettled_0 : decode cX0_outcomeIfSettled 0 = .ok (.aload_n 2, 1) := dk_44 (dk_at dksX0_outcomeIfSettled_0 0 rfl rfl)
theorem dX0_outcomeIfSettled_1 : decode cX0_outcomeIfSettled 1 = .ok (.iconst 0, 1) := dk_3 (dk_at dksX0_outcomeIfSettled_0 1 rfl rfl)
theorem dX0_outcomeIfSettled_2 : decode cX0_outcomeIfSettled 2 = .ok (.aload_n 0, 1) := dk_42 (dk_at dksX0_outcomeIfSettled_0 2 rfl rfl)
theorem dX0_outcomeIfSettled_3 : decode cX0_outcomeIfSettled 3 = .ok (.iload_n 1, 1) := dk_27 (dk_at dksX0_outcomeIfSettled_0 3 rfl rfl)
theorem dX0_outcomeIfSettled_4 : decode cX0_outcomeIfSettled 4 = .ok (.invokevirtual 113, 3) := dk_182 0 113 (dk_at dksX0_outcomeIfSettled_0 4 rfl rfl)
theorem dX0_outcomeIfSettled_7 : decode cX0_outcomeIfSettled 7 = .ok (.i2l, 1) := dk_133 (dk_at dksX0_outcomeIfSettled_0 7 rfl rfl)
theorem dX0_outcomeIfSettled_8 : decode cX0_outcomeIfSettled 8 = .ok (.lastore, 1) := dk_80 (dk_at dksX0_outcomeIfSettled_0 8 rfl rfl)
theorem dX0_outcomeIfSettled_9 : decode cX0_outcomeIfSettled 9 = .ok (.goto 6, 3) := dk_167 0 6 (dk_at dksX0_outcomeIfSettled_0 9 rfl rfl)
theorem dX0_outcomeIfSettled_12 : decode cX0_outcomeIfSettled 12 = .ok (.astore_n 3, 1) := dk_78 (dk_at dksX0_outcomeIfSettled_0 12 rfl rfl)
theorem dX0_outcomeIfSettled_13 : decode cX0_outcomeIfSettled 13 = .ok (.iconst 1, 1) := dk_4 (dk_at dksX0_outcomeIfSettled_0 13 rfl rfl)
theorem dX0_outcomeIfSettled_14 : decode cX0_outcomeIfSettled 14 = .ok (.ireturn, 1) := dk_172 (dk_at dksX0_outcomeIfSettled_0 14 rfl rfl)
theorem dX0_outcomeIfSettled_15 : decode cX0_outcomeIfSettled 15 = .ok (.iconst 0, 1) := dk_3 (dk_at dksX0_outcomeIfSettled_0 15 rfl rfl)
theorem dX0_outcomeIfSettled_16 : decode cX0_outcomeIfSettled 16 = .ok (.ireturn, 1) := dk_172 (dk_at dksX0_outcomeIfSettled_0 16 rfl rfl)
abbrev cX0_amountIfSettled : ByteArray := method_35_code
def yX0_amountIfSettled : MethodName := ⟨RX0, "amountIfSettled", "(LVoteLogs;I[J)I"⟩
def dkwX0_amountIfSettled_0 : List UInt8 := [44, 3, 42, 27, 182, 0, 116, 133, 80, 167, 0, 6, 78, 4, 172, 3, 172]
abbrev dktX0_amountIfSettled_0 : List UInt8 := dkwX0_amountIfSettled_0 ++ []
theorem dksX0_amountIfSettled_0 : cX0_amountIfSettled.data.toList.drop 0 = dktX0_amountIfSettled_0 := by decide +kernel
theorem dX0_amountIfSettled_0 : decode cX0_amountIfSettled 0 = .ok (.aload_n 2, 1) := dk_44 (dk_at dksX0_amountIfSettled_0 0 rfl rfl)
theorem dX0_amountIfSettled_1 : decode cX0_amountIfSettled 1 = .ok (.iconst 0, 1) := dk_3 (dk_at dksX0_amountIfSettled_0 1 rfl rfl)
theorem dX0_amountIfSettled_2 : decode cX0_amountIfSettled 2 = .ok (.aload_n 0, 1) := dk_42 (dk_at dksX0_amountIfSettled_0 2 rfl rfl)
theorem dX0_amountIfSettled_3 : decode cX0_amountIfSettled 3 = .ok (.iload_n 1, 1) := dk_27 (dk_at dksX0_amountIfSettled_0 3 rfl rfl)
theorem dX0_amountIfSettled_4 : decode cX0_amountIfSettled 4 = .ok (.invokevirtual 116, 3) := dk_182 0 116 (dk_at dksX0_amountIfSettled_0 4 rfl rfl)
theorem dX0_amountIfSettled_7 : decode cX0_amountIfSettled 7 = .ok (.i2l, 1) := dk_133 (dk_at dksX0_amountIfSettled_0 7 rfl rfl)
theorem dX0_amountIfSettled_8 : decode cX0_amountIfSettled 8 = .ok (.lastore, 1) := dk_80 (dk_at dksX0_amountIfSettled_0 8 rfl rfl)
theorem dX0_amountIfSettled_9 : decode cX0_amountIfSettled 9 = .ok (.goto 6, 3) := dk_167 0 6 (dk_at dksX0_amountIfSettled_0 9 rfl rfl)
theorem dX0_amountIfSettled_12 : decode cX0_amountIfSettled 12 = .ok (.astore_n 3, 1) := dk_78 (dk_at dksX0_amountIfSettled_0 12 rfl rfl)
theorem dX0_amountIfSettled_13 : decode cX0_amountIfSettled 13 = .ok (.iconst 1, 1) := dk_4 (dk_at dksX0_amountIfSettled_0 13 rfl rfl)
theorem dX0_amountIfSettled_14 : decode cX0_amountIfSettled 14 = .ok (.ireturn, 1) := dk_172 (dk_at dksX0_amountIfSettled_0 14 rfl rfl)
theorem dX0_amountIfSettled_15 : decode cX0_amountIfSettled 15 = .ok (.iconst 0, 1) := dk_3 (dk_at dksX0_amountIfSettled_0 15 rfl rfl)
theorem dX0_amountIfSettled_16 : decode cX0_amountIfSettled 16 = .ok (.ireturn, 1) := dk_172 (dk_at dksX0_amountIfSettled_0 16 rfl rfl)
abbrev cX0_greatestSize : ByteArray := method_36_code
def yX0_greatestSize : MethodName := ⟨RX0, "greatestSize", "(LVoteLogs;II[J)I"⟩
def dkwX0_greatestSize_0 : List UInt8 := [45, 3, 42, 27, 28, 182, 0, 119, 133, 80, 167, 0, 11, 58, 4, 4, 172, 58, 4, 5, 172, 3, 172]
abbrev dktX0_greatestSize_0 : List UInt8 := dkwX0_greatestSize_0 ++ []
theorem dksX0_greatestSize_0 : cX0_greatestSize.data.toList.drop 0 = dktX0_greatestSize_0 := by decide +kernel
theorem dX0_greatestSize_0 : decode cX0_greatestSize 0 = .ok (.aload_n 3, 1) := dk_45 (dk_at dksX0_greatestSize_0 0 rfl rfl)
theorem dX0_greatestSize_1 : decode cX0_greatestSize 1 = .ok (.iconst 0, 1) := dk_3 (dk_at dksX0_greatestSize_0 1 rfl rfl)
theorem dX0_greatestSize_2 : decode cX0_greatestSize 2 = .ok (.aload_n 0, 1) := dk_42 (dk_at dksX0_greatestSize_0 2 rfl rfl)
theorem dX0_greatestSize_3 : decode cX0_greatestSize 3 = .ok (.iload_n 1, 1) := dk_27 (dk_at dksX0_greatestSize_0 3 rfl rfl)
theorem dX0_greatestSize_4 : decode cX0_greatestSize 4 = .ok (.iload_n 2, 1) := dk_28 (dk_at dksX0_greatestSize_0 4 rfl rfl)
theorem dX0_greatestSize_5 : decode cX0_greatestSize 5 = .ok (.invokevirtual 119, 3) := dk_182 0 119 (dk_at dksX0_greatestSize_0 5 rfl rfl)
theorem dX0_greatestSize_8 : decode cX0_greatestSize 8 = .ok (.i2l, 1) := dk_133 (dk_at dksX0_greatestSize_0 8 rfl rfl)
theorem dX0_greatestSize_9 : decode cX0_greatestSize 9 = .ok (.lastore, 1) := dk_80 (dk_at dksX0_greatestSize_0 9 rfl rfl)
theorem dX0_greatestSize_10 : decode cX0_greatestSize 10 = .ok (.goto 11, 3) := dk_167 0 11 (dk_at dksX0_greatestSize_0 10 rfl rfl)
theorem dX0_greatestSize_13 : decode cX0_greatestSize 13 = .ok (.astore 4, 2) := dk_58 4 (dk_at dksX0_greatestSize_0 13 rfl rfl)
theorem dX0_greatestSize_15 : decode cX0_greatestSize 15 = .ok (.iconst 1, 1) := dk_4 (dk_at dksX0_greatestSize_0 15 rfl rfl)
theorem dX0_greatestSize_16 : decode cX0_greatestSize 16 = .ok (.ireturn, 1) := dk_172 (dk_at dksX0_greatestSize_0 16 rfl rfl)
theorem dX0_greatestSize_17 : decode cX0_greatestSize 17 = .ok (.astore 4, 2) := dk_58 4 (dk_at dksX0_greatestSize_0 17 rfl rfl)
theorem dX0_greatestSize_19 : decode cX0_greatestSize 19 = .ok (.iconst 2, 1) := dk_5 (dk_at dksX0_greatestSize_0 19 rfl rfl)
theorem dX0_greatestSize_20 : decode cX0_greatestSize 20 = .ok (.ireturn, 1) := dk_172 (dk_at dksX0_greatestSize_0 20 rfl rfl)
theorem dX0_greatestSize_21 : decode cX0_greatestSize 21 = .ok (.iconst 0, 1) := dk_3 (dk_at dksX0_greatestSize_0 21 rfl rfl)
theorem dX0_greatestSize_22 : decode cX0_greatestSize 22 = .ok (.ireturn, 1) := dk_172 (dk_at dksX0_greatestSize_0 22 rfl rfl)
theorem q89 : (Jvm.Cond.initialized "VoteLogsLaw") ∈ lw_all := lw_g (lw_at lw_m1 0 rfl) rfl
theorem q129 : (Jvm.Cond.classLink "VoteLogsLaw" (8 : Nat) "VoteLogs") ∈ lw_all := lw_g (lw_at lw_m1 40 rfl) rfl
theorem q131 : (Jvm.Cond.methodLink "VoteLogsLaw" (122 : Nat) ({ cls := "VoteLogs", name := "<init>", desc := "()V" } : Jvm.MethodName)) ∈ lw_all := lw_g (lw_at lw_m1 42 rfl) rfl
theorem q359 : (Jvm.Cond.methodLink "VoteLogsLaw" (146 : Nat) ({ cls := "VoteLogs", name := "deliverAll", desc := "()I" } : Jvm.MethodName)) ∈ lw_all := lw_g (lw_at lw_m2 30 rfl) rfl
theorem q1024 : (Jvm.Cond.methodLink "VoteLogsLaw" (162 : Nat) ({ cls := "VoteLogs", name := "clearBuffer", desc := "()I" } : Jvm.MethodName)) ∈ lw_all := lw_g (lw_at lw_m4 215 rfl) rfl
theorem q1097 : (Jvm.Cond.methodLink "VoteLogsLaw" (166 : Nat) ({ cls := "VoteLogs", name := "firstError", desc := "()I" } : Jvm.MethodName)) ∈ lw_all := lw_g (lw_at lw_m5 48 rfl) rfl
theorem q1224 : (Jvm.Cond.methodLink "VoteLogsLaw" (174 : Nat) ({ cls := "VoteLogs", name := "keep", desc := "()I" } : Jvm.MethodName)) ∈ lw_all := lw_g (lw_at lw_m5 175 rfl) rfl
theorem q1230 : (Jvm.Cond.methodLink "VoteLogsLaw" (184 : Nat) ({ cls := "VoteLogs", name := "transfers", desc := "()I" } : Jvm.MethodName)) ∈ lw_all := lw_g (lw_at lw_m5 181 rfl) rfl
theorem q1234 : (Jvm.Cond.methodLink "VoteLogsLaw" (227 : Nat) ({ cls := "VoteLogs", name := "total", desc := "()I" } : Jvm.MethodName)) ∈ lw_all := lw_g (lw_at lw_m5 185 rfl) rfl
theorem q1242 : (Jvm.Cond.methodLink "VoteLogsLaw" (231 : Nat) ({ cls := "VoteLogs", name := "onTheWay", desc := "()I" } : Jvm.MethodName)) ∈ lw_all := lw_g (lw_at lw_m5 193 rfl) rfl
theorem q1250 : (Jvm.Cond.methodLink "VoteLogsLaw" (244 : Nat) ({ cls := "VoteLogs", name := "waiting", desc := "()I" } : Jvm.MethodName)) ∈ lw_all := lw_g (lw_at lw_m5 201 rfl) rfl
theorem q1254 : (Jvm.Cond.methodLink "VoteLogsLaw" (257 : Nat) ({ cls := "VoteLogs", name := "sent", desc := "()I" } : Jvm.MethodName)) ∈ lw_all := lw_g (lw_at lw_m5 205 rfl) rfl
theorem q1258 : (Jvm.Cond.methodLink "VoteLogsLaw" (261 : Nat) ({ cls := "VoteLogs", name := "sentByAccount", desc := "()I" } : Jvm.MethodName)) ∈ lw_all := lw_g (lw_at lw_m5 209 rfl) rfl
theorem q1262 : (Jvm.Cond.methodLink "VoteLogsLaw" (265 : Nat) ({ cls := "VoteLogs", name := "lost", desc := "()I" } : Jvm.MethodName)) ∈ lw_all := lw_g (lw_at lw_m5 213 rfl) rfl
theorem q1266 : (Jvm.Cond.methodLink "VoteLogsLaw" (272 : Nat) ({ cls := "VoteLogs", name := "messagesToSettle", desc := "()I" } : Jvm.MethodName)) ∈ lw_all := lw_g (lw_at lw_m5 217 rfl) rfl
theorem q1286 : (Jvm.Cond.methodLink "VoteLogsLaw" (285 : Nat) ({ cls := "VoteLogs", name := "lostShare", desc := "()D" } : Jvm.MethodName)) ∈ lw_all := lw_g (lw_at lw_m5 237 rfl) rfl
theorem q1290 : (Jvm.Cond.methodLink "VoteLogsLaw" (290 : Nat) ({ cls := "VoteLogs", name := "meanSize", desc := "()F" } : Jvm.MethodName)) ∈ lw_all := lw_g (lw_at lw_m6 1 rfl) rfl
theorem q1300 : (Jvm.Cond.methodLink "VoteLogsLaw" (295 : Nat) ({ cls := "VoteLogs", name := "digest", desc := "()J" } : Jvm.MethodName)) ∈ lw_all := lw_g (lw_at lw_m6 11 rfl) rfl
theorem q1434 : (Jvm.Cond.methodLink "VoteLogsLaw" (126 : Nat) ({ cls := "VoteLogsLaw", name := "begin", desc := "(LVoteLogs;III[J)I" } : Jvm.MethodName)) ∈ lw_all := lw_g (lw_at lw_m6 145 rfl) rfl
theorem q1435 : (Jvm.Cond.static ({ cls := "VoteLogsLaw", name := "begin", desc := "(LVoteLogs;III[J)I" } : Jvm.MethodName)) ∈ lw_all := lw_g (lw_at lw_m6 146 rfl) rfl
theorem q1436 : (Jvm.Cond.codeWith ({ cls := "VoteLogsLaw", name := "begin", desc := "(LVoteLogs;III[J)I" } : Jvm.MethodName) method_3_code (6 : Nat) (Option.some Jvm.ClassFile.FieldType.int) [((0 : Nat), (12 : Nat), (15 : Nat), (13 : Nat)), ((0 : Nat), (12 : Nat), (19 : Nat), (15 : Nat)), ((0 : Nat), (12 : Nat), (23 : Nat), (17 : Nat))]) ∈ lw_all := lw_g (lw_at lw_m6 147 rfl) rfl
theorem q1437 : (Jvm.Cond.classLink "VoteLogsLaw" (13 : Nat) "java/lang/IndexOutOfBoundsException") ∈ lw_all := lw_g (lw_at lw_m6 148 rfl) rfl
theorem q1440 : (Jvm.Cond.classLink "VoteLogsLaw" (15 : Nat) "java/lang/IllegalArgumentException") ∈ lw_all := lw_g (lw_at lw_m6 151 rfl) rfl
theorem q1441 : (Jvm.Cond.classLink "VoteLogsLaw" (17 : Nat) "java/lang/IllegalStateException") ∈ lw_all := lw_g (lw_at lw_m6 152 rfl) rfl
theorem q1442 : (Jvm.Cond.methodLink "VoteLogsLaw" (7 : Nat) ({ cls := "VoteLogs", name := "begin", desc := "(III)I" } : Jvm.MethodName)) ∈ lw_all := lw_g (lw_at lw_m6 153 rfl) rfl
theorem q1473 : (Jvm.Cond.methodLink "VoteLogsLaw" (135 : Nat) ({ cls := "VoteLogsLaw", name := "giveUp", desc := "(LVoteLogs;I[J)I" } : Jvm.MethodName)) ∈ lw_all := lw_g (lw_at lw_m6 184 rfl) rfl
theorem q1474 : (Jvm.Cond.static ({ cls := "VoteLogsLaw", name := "giveUp", desc := "(LVoteLogs;I[J)I" } : Jvm.MethodName)) ∈ lw_all := lw_g (lw_at lw_m6 185 rfl) rfl
theorem q1475 : (Jvm.Cond.codeWith ({ cls := "VoteLogsLaw", name := "giveUp", desc := "(LVoteLogs;I[J)I" } : Jvm.MethodName) method_4_code (4 : Nat) (Option.some Jvm.ClassFile.FieldType.int) [((0 : Nat), (9 : Nat), (12 : Nat), (13 : Nat)), ((0 : Nat), (9 : Nat), (15 : Nat), (17 : Nat))]) ∈ lw_all := lw_g (lw_at lw_m6 186 rfl) rfl
theorem q1476 : (Jvm.Cond.methodLink "VoteLogsLaw" (19 : Nat) ({ cls := "VoteLogs", name := "giveUp", desc := "(I)I" } : Jvm.MethodName)) ∈ lw_all := lw_g (lw_at lw_m6 187 rfl) rfl
theorem q1488 : (Jvm.Cond.methodLink "VoteLogsLaw" (139 : Nat) ({ cls := "VoteLogsLaw", name := "ask", desc := "(LVoteLogs;II[J)I" } : Jvm.MethodName)) ∈ lw_all := lw_g (lw_at lw_m6 199 rfl) rfl
theorem q1489 : (Jvm.Cond.static ({ cls := "VoteLogsLaw", name := "ask", desc := "(LVoteLogs;II[J)I" } : Jvm.MethodName)) ∈ lw_all := lw_g (lw_at lw_m6 200 rfl) rfl
theorem q1490 : (Jvm.Cond.codeWith ({ cls := "VoteLogsLaw", name := "ask", desc := "(LVoteLogs;II[J)I" } : Jvm.MethodName) method_5_code (5 : Nat) (Option.some Jvm.ClassFile.FieldType.int) [((0 : Nat), (10 : Nat), (13 : Nat), (13 : Nat)), ((0 : Nat), (10 : Nat), (17 : Nat), (17 : Nat))]) ∈ lw_all := lw_g (lw_at lw_m6 201 rfl) rfl
theorem q1491 : (Jvm.Cond.methodLink "VoteLogsLaw" (23 : Nat) ({ cls := "VoteLogs", name := "ask", desc := "(II)I" } : Jvm.MethodName)) ∈ lw_all := lw_g (lw_at lw_m6 202 rfl) rfl
theorem q1507 : (Jvm.Cond.methodLink "VoteLogsLaw" (143 : Nat) ({ cls := "VoteLogsLaw", name := "deliver", desc := "(LVoteLogs;I[J)I" } : Jvm.MethodName)) ∈ lw_all := lw_g (lw_at lw_m6 218 rfl) rfl
theorem q1508 : (Jvm.Cond.static ({ cls := "VoteLogsLaw", name := "deliver", desc := "(LVoteLogs;I[J)I" } : Jvm.MethodName)) ∈ lw_all := lw_g (lw_at lw_m6 219 rfl) rfl
theorem q1509 : (Jvm.Cond.codeWith ({ cls := "VoteLogsLaw", name := "deliver", desc := "(LVoteLogs;I[J)I" } : Jvm.MethodName) method_6_code (4 : Nat) (Option.some Jvm.ClassFile.FieldType.int) [((0 : Nat), (16 : Nat), (19 : Nat), (13 : Nat))]) ∈ lw_all := lw_g (lw_at lw_m6 220 rfl) rfl
theorem q1510 : (Jvm.Cond.methodLink "VoteLogsLaw" (27 : Nat) ({ cls := "VoteLogs", name := "deliver", desc := "(I)Z" } : Jvm.MethodName)) ∈ lw_all := lw_g (lw_at lw_m6 221 rfl) rfl
theorem q1514 : (Jvm.Cond.methodLink "VoteLogsLaw" (150 : Nat) ({ cls := "VoteLogsLaw", name := "lose", desc := "(LVoteLogs;I[J)I" } : Jvm.MethodName)) ∈ lw_all := lw_g (lw_at lw_m6 225 rfl) rfl
theorem q1515 : (Jvm.Cond.static ({ cls := "VoteLogsLaw", name := "lose", desc := "(LVoteLogs;I[J)I" } : Jvm.MethodName)) ∈ lw_all := lw_g (lw_at lw_m6 226 rfl) rfl
theorem q1516 : (Jvm.Cond.codeWith ({ cls := "VoteLogsLaw", name := "lose", desc := "(LVoteLogs;I[J)I" } : Jvm.MethodName) method_7_code (4 : Nat) (Option.some Jvm.ClassFile.FieldType.int) [((0 : Nat), (9 : Nat), (12 : Nat), (13 : Nat))]) ∈ lw_all := lw_g (lw_at lw_m6 227 rfl) rfl
theorem q1517 : (Jvm.Cond.methodLink "VoteLogsLaw" (31 : Nat) ({ cls := "VoteLogs", name := "lose", desc := "(I)I" } : Jvm.MethodName)) ∈ lw_all := lw_g (lw_at lw_m6 228 rfl) rfl
theorem q1526 : (Jvm.Cond.methodLink "VoteLogsLaw" (153 : Nat) ({ cls := "VoteLogsLaw", name := "crash", desc := "(LVoteLogs;I[J)I" } : Jvm.MethodName)) ∈ lw_all := lw_g (lw_at lw_m6 237 rfl) rfl
theorem q1527 : (Jvm.Cond.static ({ cls := "VoteLogsLaw", name := "crash", desc := "(LVoteLogs;I[J)I" } : Jvm.MethodName)) ∈ lw_all := lw_g (lw_at lw_m6 238 rfl) rfl
theorem q1528 : (Jvm.Cond.codeWith ({ cls := "VoteLogsLaw", name := "crash", desc := "(LVoteLogs;I[J)I" } : Jvm.MethodName) method_8_code (4 : Nat) (Option.some Jvm.ClassFile.FieldType.int) [((0 : Nat), (9 : Nat), (12 : Nat), (13 : Nat)), ((0 : Nat), (9 : Nat), (15 : Nat), (17 : Nat))]) ∈ lw_all := lw_g (lw_at lw_m6 239 rfl) rfl
theorem q1529 : (Jvm.Cond.methodLink "VoteLogsLaw" (34 : Nat) ({ cls := "VoteLogs", name := "crash", desc := "(I)I" } : Jvm.MethodName)) ∈ lw_all := lw_g (lw_at lw_m7 0 rfl) rfl
theorem q1537 : (Jvm.Cond.methodLink "VoteLogsLaw" (156 : Nat) ({ cls := "VoteLogsLaw", name := "recover", desc := "(LVoteLogs;I[J)I" } : Jvm.MethodName)) ∈ lw_all := lw_g (lw_at lw_m7 8 rfl) rfl
theorem q1538 : (Jvm.Cond.static ({ cls := "VoteLogsLaw", name := "recover", desc := "(LVoteLogs;I[J)I" } : Jvm.MethodName)) ∈ lw_all := lw_g (lw_at lw_m7 9 rfl) rfl
theorem q1539 : (Jvm.Cond.codeWith ({ cls := "VoteLogsLaw", name := "recover", desc := "(LVoteLogs;I[J)I" } : Jvm.MethodName) method_9_code (4 : Nat) (Option.some Jvm.ClassFile.FieldType.int) [((0 : Nat), (9 : Nat), (12 : Nat), (13 : Nat)), ((0 : Nat), (9 : Nat), (15 : Nat), (17 : Nat))]) ∈ lw_all := lw_g (lw_at lw_m7 10 rfl) rfl
theorem q1540 : (Jvm.Cond.methodLink "VoteLogsLaw" (37 : Nat) ({ cls := "VoteLogs", name := "recover", desc := "(I)I" } : Jvm.MethodName)) ∈ lw_all := lw_g (lw_at lw_m7 11 rfl) rfl
theorem q1545 : (Jvm.Cond.methodLink "VoteLogsLaw" (159 : Nat) ({ cls := "VoteLogsLaw", name := "append", desc := "(LVoteLogs;I[J)I" } : Jvm.MethodName)) ∈ lw_all := lw_g (lw_at lw_m7 16 rfl) rfl
theorem q1546 : (Jvm.Cond.static ({ cls := "VoteLogsLaw", name := "append", desc := "(LVoteLogs;I[J)I" } : Jvm.MethodName)) ∈ lw_all := lw_g (lw_at lw_m7 17 rfl) rfl
theorem q1547 : (Jvm.Cond.codeWith ({ cls := "VoteLogsLaw", name := "append", desc := "(LVoteLogs;I[J)I" } : Jvm.MethodName) method_10_code (4 : Nat) (Option.some Jvm.ClassFile.FieldType.int) [((0 : Nat), (9 : Nat), (12 : Nat), (15 : Nat)), ((0 : Nat), (9 : Nat), (15 : Nat), (17 : Nat))]) ∈ lw_all := lw_g (lw_at lw_m7 18 rfl) rfl
theorem q1548 : (Jvm.Cond.methodLink "VoteLogsLaw" (40 : Nat) ({ cls := "VoteLogs", name := "append", desc := "(I)I" } : Jvm.MethodName)) ∈ lw_all := lw_g (lw_at lw_m7 19 rfl) rfl
theorem q1569 : (Jvm.Cond.methodLink "VoteLogsLaw" (170 : Nat) ({ cls := "VoteLogsLaw", name := "runCourse", desc := "(LVoteLogs;[J)I" } : Jvm.MethodName)) ∈ lw_all := lw_g (lw_at lw_m7 40 rfl) rfl
theorem q1570 : (Jvm.Cond.static ({ cls := "VoteLogsLaw", name := "runCourse", desc := "(LVoteLogs;[J)I" } : Jvm.MethodName)) ∈ lw_all := lw_g (lw_at lw_m7 41 rfl) rfl
theorem q1571 : (Jvm.Cond.codeWith ({ cls := "VoteLogsLaw", name := "runCourse", desc := "(LVoteLogs;[J)I" } : Jvm.MethodName) method_11_code (3 : Nat) (Option.some Jvm.ClassFile.FieldType.int) [((0 : Nat), (8 : Nat), (11 : Nat), (15 : Nat))]) ∈ lw_all := lw_g (lw_at lw_m7 42 rfl) rfl
theorem q1572 : (Jvm.Cond.methodLink "VoteLogsLaw" (43 : Nat) ({ cls := "VoteLogs", name := "runCourse", desc := "()I" } : Jvm.MethodName)) ∈ lw_all := lw_g (lw_at lw_m7 43 rfl) rfl
theorem q1587 : (Jvm.Cond.methodLink "VoteLogsLaw" (178 : Nat) ({ cls := "VoteLogsLaw", name := "goBack", desc := "(LVoteLogs;[J)I" } : Jvm.MethodName)) ∈ lw_all := lw_g (lw_at lw_m7 58 rfl) rfl
theorem q1588 : (Jvm.Cond.static ({ cls := "VoteLogsLaw", name := "goBack", desc := "(LVoteLogs;[J)I" } : Jvm.MethodName)) ∈ lw_all := lw_g (lw_at lw_m7 59 rfl) rfl
theorem q1589 : (Jvm.Cond.codeWith ({ cls := "VoteLogsLaw", name := "goBack", desc := "(LVoteLogs;[J)I" } : Jvm.MethodName) method_12_code (3 : Nat) (Option.some Jvm.ClassFile.FieldType.int) [((0 : Nat), (8 : Nat), (11 : Nat), (17 : Nat))]) ∈ lw_all := lw_g (lw_at lw_m7 60 rfl) rfl
theorem q1590 : (Jvm.Cond.methodLink "VoteLogsLaw" (47 : Nat) ({ cls := "VoteLogs", name := "goBack", desc := "()I" } : Jvm.MethodName)) ∈ lw_all := lw_g (lw_at lw_m7 61 rfl) rfl
theorem q1594 : (Jvm.Cond.methodLink "VoteLogsLaw" (181 : Nat) ({ cls := "VoteLogsLaw", name := "undo", desc := "(LVoteLogs;[J)I" } : Jvm.MethodName)) ∈ lw_all := lw_g (lw_at lw_m7 65 rfl) rfl
theorem q1595 : (Jvm.Cond.static ({ cls := "VoteLogsLaw", name := "undo", desc := "(LVoteLogs;[J)I" } : Jvm.MethodName)) ∈ lw_all := lw_g (lw_at lw_m7 66 rfl) rfl
theorem q1596 : (Jvm.Cond.codeWith ({ cls := "VoteLogsLaw", name := "undo", desc := "(LVoteLogs;[J)I" } : Jvm.MethodName) method_13_code (3 : Nat) (Option.some Jvm.ClassFile.FieldType.int) [((0 : Nat), (8 : Nat), (11 : Nat), (17 : Nat))]) ∈ lw_all := lw_g (lw_at lw_m7 67 rfl) rfl
theorem q1597 : (Jvm.Cond.methodLink "VoteLogsLaw" (50 : Nat) ({ cls := "VoteLogs", name := "undo", desc := "()I" } : Jvm.MethodName)) ∈ lw_all := lw_g (lw_at lw_m7 68 rfl) rfl
theorem q1616 : (Jvm.Cond.methodLink "VoteLogsLaw" (188 : Nat) ({ cls := "VoteLogsLaw", name := "partners", desc := "(LVoteLogs;I[J)I" } : Jvm.MethodName)) ∈ lw_all := lw_g (lw_at lw_m7 87 rfl) rfl
theorem q1617 : (Jvm.Cond.static ({ cls := "VoteLogsLaw", name := "partners", desc := "(LVoteLogs;I[J)I" } : Jvm.MethodName)) ∈ lw_all := lw_g (lw_at lw_m7 88 rfl) rfl
theorem q1618 : (Jvm.Cond.codeWith ({ cls := "VoteLogsLaw", name := "partners", desc := "(LVoteLogs;I[J)I" } : Jvm.MethodName) method_14_code (4 : Nat) (Option.some Jvm.ClassFile.FieldType.int) [((0 : Nat), (9 : Nat), (12 : Nat), (13 : Nat))]) ∈ lw_all := lw_g (lw_at lw_m7 89 rfl) rfl
theorem q1619 : (Jvm.Cond.methodLink "VoteLogsLaw" (53 : Nat) ({ cls := "VoteLogs", name := "partners", desc := "(I)I" } : Jvm.MethodName)) ∈ lw_all := lw_g (lw_at lw_m7 90 rfl) rfl
theorem q1627 : (Jvm.Cond.methodLink "VoteLogsLaw" (191 : Nat) ({ cls := "VoteLogsLaw", name := "share", desc := "(LVoteLogs;II[J)I" } : Jvm.MethodName)) ∈ lw_all := lw_g (lw_at lw_m7 98 rfl) rfl
theorem q1628 : (Jvm.Cond.static ({ cls := "VoteLogsLaw", name := "share", desc := "(LVoteLogs;II[J)I" } : Jvm.MethodName)) ∈ lw_all := lw_g (lw_at lw_m7 99 rfl) rfl
theorem q1629 : (Jvm.Cond.codeWith ({ cls := "VoteLogsLaw", name := "share", desc := "(LVoteLogs;II[J)I" } : Jvm.MethodName) method_15_code (5 : Nat) (Option.some Jvm.ClassFile.FieldType.int) [((0 : Nat), (10 : Nat), (13 : Nat), (13 : Nat))]) ∈ lw_all := lw_g (lw_at lw_m7 100 rfl) rfl
theorem q1630 : (Jvm.Cond.methodLink "VoteLogsLaw" (56 : Nat) ({ cls := "VoteLogs", name := "share", desc := "(II)I" } : Jvm.MethodName)) ∈ lw_all := lw_g (lw_at lw_m7 101 rfl) rfl
theorem q1634 : (Jvm.Cond.methodLink "VoteLogsLaw" (194 : Nat) ({ cls := "VoteLogsLaw", name := "isUp", desc := "(LVoteLogs;I[J)I" } : Jvm.MethodName)) ∈ lw_all := lw_g (lw_at lw_m7 105 rfl) rfl
theorem q1635 : (Jvm.Cond.static ({ cls := "VoteLogsLaw", name := "isUp", desc := "(LVoteLogs;I[J)I" } : Jvm.MethodName)) ∈ lw_all := lw_g (lw_at lw_m7 106 rfl) rfl
theorem q1636 : (Jvm.Cond.codeWith ({ cls := "VoteLogsLaw", name := "isUp", desc := "(LVoteLogs;I[J)I" } : Jvm.MethodName) method_16_code (4 : Nat) (Option.some Jvm.ClassFile.FieldType.int) [((0 : Nat), (16 : Nat), (19 : Nat), (13 : Nat))]) ∈ lw_all := lw_g (lw_at lw_m7 107 rfl) rfl
theorem q1637 : (Jvm.Cond.methodLink "VoteLogsLaw" (59 : Nat) ({ cls := "VoteLogs", name := "isUp", desc := "(I)Z" } : Jvm.MethodName)) ∈ lw_all := lw_g (lw_at lw_m7 108 rfl) rfl
theorem q1641 : (Jvm.Cond.methodLink "VoteLogsLaw" (197 : Nat) ({ cls := "VoteLogsLaw", name := "amount", desc := "(LVoteLogs;I[J)I" } : Jvm.MethodName)) ∈ lw_all := lw_g (lw_at lw_m7 112 rfl) rfl
theorem q1642 : (Jvm.Cond.static ({ cls := "VoteLogsLaw", name := "amount", desc := "(LVoteLogs;I[J)I" } : Jvm.MethodName)) ∈ lw_all := lw_g (lw_at lw_m7 113 rfl) rfl
theorem q1643 : (Jvm.Cond.codeWith ({ cls := "VoteLogsLaw", name := "amount", desc := "(LVoteLogs;I[J)I" } : Jvm.MethodName) method_17_code (4 : Nat) (Option.some Jvm.ClassFile.FieldType.int) [((0 : Nat), (9 : Nat), (12 : Nat), (13 : Nat))]) ∈ lw_all := lw_g (lw_at lw_m7 114 rfl) rfl
theorem q1644 : (Jvm.Cond.methodLink "VoteLogsLaw" (62 : Nat) ({ cls := "VoteLogs", name := "amount", desc := "(I)I" } : Jvm.MethodName)) ∈ lw_all := lw_g (lw_at lw_m7 115 rfl) rfl
theorem q1648 : (Jvm.Cond.methodLink "VoteLogsLaw" (200 : Nat) ({ cls := "VoteLogsLaw", name := "amountByLog", desc := "(LVoteLogs;I[J)I" } : Jvm.MethodName)) ∈ lw_all := lw_g (lw_at lw_m7 119 rfl) rfl
theorem q1649 : (Jvm.Cond.static ({ cls := "VoteLogsLaw", name := "amountByLog", desc := "(LVoteLogs;I[J)I" } : Jvm.MethodName)) ∈ lw_all := lw_g (lw_at lw_m7 120 rfl) rfl
theorem q1650 : (Jvm.Cond.codeWith ({ cls := "VoteLogsLaw", name := "amountByLog", desc := "(LVoteLogs;I[J)I" } : Jvm.MethodName) method_18_code (4 : Nat) (Option.some Jvm.ClassFile.FieldType.int) [((0 : Nat), (9 : Nat), (12 : Nat), (13 : Nat))]) ∈ lw_all := lw_g (lw_at lw_m7 121 rfl) rfl
theorem q1651 : (Jvm.Cond.methodLink "VoteLogsLaw" (65 : Nat) ({ cls := "VoteLogs", name := "amountByLog", desc := "(I)I" } : Jvm.MethodName)) ∈ lw_all := lw_g (lw_at lw_m7 122 rfl) rfl
theorem q1655 : (Jvm.Cond.methodLink "VoteLogsLaw" (203 : Nat) ({ cls := "VoteLogsLaw", name := "state", desc := "(LVoteLogs;II[J)I" } : Jvm.MethodName)) ∈ lw_all := lw_g (lw_at lw_m7 126 rfl) rfl
theorem q1656 : (Jvm.Cond.static ({ cls := "VoteLogsLaw", name := "state", desc := "(LVoteLogs;II[J)I" } : Jvm.MethodName)) ∈ lw_all := lw_g (lw_at lw_m7 127 rfl) rfl
theorem q1657 : (Jvm.Cond.codeWith ({ cls := "VoteLogsLaw", name := "state", desc := "(LVoteLogs;II[J)I" } : Jvm.MethodName) method_19_code (5 : Nat) (Option.some Jvm.ClassFile.FieldType.int) [((0 : Nat), (10 : Nat), (13 : Nat), (13 : Nat))]) ∈ lw_all := lw_g (lw_at lw_m7 128 rfl) rfl
theorem q1658 : (Jvm.Cond.methodLink "VoteLogsLaw" (68 : Nat) ({ cls := "VoteLogs", name := "state", desc := "(II)I" } : Jvm.MethodName)) ∈ lw_all := lw_g (lw_at lw_m7 129 rfl) rfl
theorem q1662 : (Jvm.Cond.methodLink "VoteLogsLaw" (206 : Nat) ({ cls := "VoteLogsLaw", name := "stateByLog", desc := "(LVoteLogs;II[J)I" } : Jvm.MethodName)) ∈ lw_all := lw_g (lw_at lw_m7 133 rfl) rfl
theorem q1663 : (Jvm.Cond.static ({ cls := "VoteLogsLaw", name := "stateByLog", desc := "(LVoteLogs;II[J)I" } : Jvm.MethodName)) ∈ lw_all := lw_g (lw_at lw_m7 134 rfl) rfl
theorem q1664 : (Jvm.Cond.codeWith ({ cls := "VoteLogsLaw", name := "stateByLog", desc := "(LVoteLogs;II[J)I" } : Jvm.MethodName) method_20_code (5 : Nat) (Option.some Jvm.ClassFile.FieldType.int) [((0 : Nat), (10 : Nat), (13 : Nat), (13 : Nat))]) ∈ lw_all := lw_g (lw_at lw_m7 135 rfl) rfl
theorem q1665 : (Jvm.Cond.methodLink "VoteLogsLaw" (71 : Nat) ({ cls := "VoteLogs", name := "stateByLog", desc := "(II)I" } : Jvm.MethodName)) ∈ lw_all := lw_g (lw_at lw_m7 136 rfl) rfl
theorem q1669 : (Jvm.Cond.methodLink "VoteLogsLaw" (209 : Nat) ({ cls := "VoteLogsLaw", name := "inDoubt", desc := "(LVoteLogs;I[J)I" } : Jvm.MethodName)) ∈ lw_all := lw_g (lw_at lw_m7 140 rfl) rfl
theorem q1670 : (Jvm.Cond.static ({ cls := "VoteLogsLaw", name := "inDoubt", desc := "(LVoteLogs;I[J)I" } : Jvm.MethodName)) ∈ lw_all := lw_g (lw_at lw_m7 141 rfl) rfl
theorem q1671 : (Jvm.Cond.codeWith ({ cls := "VoteLogsLaw", name := "inDoubt", desc := "(LVoteLogs;I[J)I" } : Jvm.MethodName) method_21_code (4 : Nat) (Option.some Jvm.ClassFile.FieldType.int) [((0 : Nat), (9 : Nat), (12 : Nat), (13 : Nat))]) ∈ lw_all := lw_g (lw_at lw_m7 142 rfl) rfl
theorem q1672 : (Jvm.Cond.methodLink "VoteLogsLaw" (74 : Nat) ({ cls := "VoteLogs", name := "inDoubt", desc := "(I)I" } : Jvm.MethodName)) ∈ lw_all := lw_g (lw_at lw_m7 143 rfl) rfl
theorem q1676 : (Jvm.Cond.methodLink "VoteLogsLaw" (212 : Nat) ({ cls := "VoteLogsLaw", name := "outcome", desc := "(LVoteLogs;I[J)I" } : Jvm.MethodName)) ∈ lw_all := lw_g (lw_at lw_m7 147 rfl) rfl
theorem q1677 : (Jvm.Cond.static ({ cls := "VoteLogsLaw", name := "outcome", desc := "(LVoteLogs;I[J)I" } : Jvm.MethodName)) ∈ lw_all := lw_g (lw_at lw_m7 148 rfl) rfl
theorem q1678 : (Jvm.Cond.codeWith ({ cls := "VoteLogsLaw", name := "outcome", desc := "(LVoteLogs;I[J)I" } : Jvm.MethodName) method_22_code (4 : Nat) (Option.some Jvm.ClassFile.FieldType.int) [((0 : Nat), (9 : Nat), (12 : Nat), (13 : Nat))]) ∈ lw_all := lw_g (lw_at lw_m7 149 rfl) rfl
theorem q1679 : (Jvm.Cond.methodLink "VoteLogsLaw" (77 : Nat) ({ cls := "VoteLogs", name := "outcome", desc := "(I)I" } : Jvm.MethodName)) ∈ lw_all := lw_g (lw_at lw_m7 150 rfl) rfl
theorem q1683 : (Jvm.Cond.methodLink "VoteLogsLaw" (215 : Nat) ({ cls := "VoteLogsLaw", name := "outcomeByStores", desc := "(LVoteLogs;I[J)I" } : Jvm.MethodName)) ∈ lw_all := lw_g (lw_at lw_m7 154 rfl) rfl
theorem q1684 : (Jvm.Cond.static ({ cls := "VoteLogsLaw", name := "outcomeByStores", desc := "(LVoteLogs;I[J)I" } : Jvm.MethodName)) ∈ lw_all := lw_g (lw_at lw_m7 155 rfl) rfl
theorem q1685 : (Jvm.Cond.codeWith ({ cls := "VoteLogsLaw", name := "outcomeByStores", desc := "(LVoteLogs;I[J)I" } : Jvm.MethodName) method_23_code (4 : Nat) (Option.some Jvm.ClassFile.FieldType.int) [((0 : Nat), (9 : Nat), (12 : Nat), (13 : Nat))]) ∈ lw_all := lw_g (lw_at lw_m7 156 rfl) rfl
theorem q1686 : (Jvm.Cond.methodLink "VoteLogsLaw" (80 : Nat) ({ cls := "VoteLogs", name := "outcomeByStores", desc := "(I)I" } : Jvm.MethodName)) ∈ lw_all := lw_g (lw_at lw_m7 157 rfl) rfl
theorem q1690 : (Jvm.Cond.methodLink "VoteLogsLaw" (218 : Nat) ({ cls := "VoteLogsLaw", name := "hasEnded", desc := "(LVoteLogs;I[J)I" } : Jvm.MethodName)) ∈ lw_all := lw_g (lw_at lw_m7 161 rfl) rfl
theorem q1691 : (Jvm.Cond.static ({ cls := "VoteLogsLaw", name := "hasEnded", desc := "(LVoteLogs;I[J)I" } : Jvm.MethodName)) ∈ lw_all := lw_g (lw_at lw_m7 162 rfl) rfl
theorem q1692 : (Jvm.Cond.codeWith ({ cls := "VoteLogsLaw", name := "hasEnded", desc := "(LVoteLogs;I[J)I" } : Jvm.MethodName) method_24_code (4 : Nat) (Option.some Jvm.ClassFile.FieldType.int) [((0 : Nat), (16 : Nat), (19 : Nat), (13 : Nat))]) ∈ lw_all := lw_g (lw_at lw_m7 163 rfl) rfl
theorem q1693 : (Jvm.Cond.methodLink "VoteLogsLaw" (83 : Nat) ({ cls := "VoteLogs", name := "hasEnded", desc := "(I)Z" } : Jvm.MethodName)) ∈ lw_all := lw_g (lw_at lw_m7 164 rfl) rfl
theorem q1697 : (Jvm.Cond.methodLink "VoteLogsLaw" (221 : Nat) ({ cls := "VoteLogsLaw", name := "saidYes", desc := "(LVoteLogs;I[J)I" } : Jvm.MethodName)) ∈ lw_all := lw_g (lw_at lw_m7 168 rfl) rfl
theorem q1698 : (Jvm.Cond.static ({ cls := "VoteLogsLaw", name := "saidYes", desc := "(LVoteLogs;I[J)I" } : Jvm.MethodName)) ∈ lw_all := lw_g (lw_at lw_m7 169 rfl) rfl
theorem q1699 : (Jvm.Cond.codeWith ({ cls := "VoteLogsLaw", name := "saidYes", desc := "(LVoteLogs;I[J)I" } : Jvm.MethodName) method_25_code (4 : Nat) (Option.some Jvm.ClassFile.FieldType.int) [((0 : Nat), (9 : Nat), (12 : Nat), (13 : Nat))]) ∈ lw_all := lw_g (lw_at lw_m7 170 rfl) rfl
theorem q1700 : (Jvm.Cond.methodLink "VoteLogsLaw" (86 : Nat) ({ cls := "VoteLogs", name := "saidYes", desc := "(I)I" } : Jvm.MethodName)) ∈ lw_all := lw_g (lw_at lw_m7 171 rfl) rfl
theorem q1704 : (Jvm.Cond.methodLink "VoteLogsLaw" (224 : Nat) ({ cls := "VoteLogsLaw", name := "saidDone", desc := "(LVoteLogs;I[J)I" } : Jvm.MethodName)) ∈ lw_all := lw_g (lw_at lw_m7 175 rfl) rfl
theorem q1705 : (Jvm.Cond.static ({ cls := "VoteLogsLaw", name := "saidDone", desc := "(LVoteLogs;I[J)I" } : Jvm.MethodName)) ∈ lw_all := lw_g (lw_at lw_m7 176 rfl) rfl
theorem q1706 : (Jvm.Cond.codeWith ({ cls := "VoteLogsLaw", name := "saidDone", desc := "(LVoteLogs;I[J)I" } : Jvm.MethodName) method_26_code (4 : Nat) (Option.some Jvm.ClassFile.FieldType.int) [((0 : Nat), (9 : Nat), (12 : Nat), (13 : Nat))]) ∈ lw_all := lw_g (lw_at lw_m7 177 rfl) rfl
theorem q1707 : (Jvm.Cond.methodLink "VoteLogsLaw" (89 : Nat) ({ cls := "VoteLogs", name := "saidDone", desc := "(I)I" } : Jvm.MethodName)) ∈ lw_all := lw_g (lw_at lw_m7 178 rfl) rfl
theorem q1711 : (Jvm.Cond.methodLink "VoteLogsLaw" (235 : Nat) ({ cls := "VoteLogsLaw", name := "records", desc := "(LVoteLogs;I[J)I" } : Jvm.MethodName)) ∈ lw_all := lw_g (lw_at lw_m7 182 rfl) rfl
theorem q1712 : (Jvm.Cond.static ({ cls := "VoteLogsLaw", name := "records", desc := "(LVoteLogs;I[J)I" } : Jvm.MethodName)) ∈ lw_all := lw_g (lw_at lw_m7 183 rfl) rfl
theorem q1713 : (Jvm.Cond.codeWith ({ cls := "VoteLogsLaw", name := "records", desc := "(LVoteLogs;I[J)I" } : Jvm.MethodName) method_27_code (4 : Nat) (Option.some Jvm.ClassFile.FieldType.int) [((0 : Nat), (9 : Nat), (12 : Nat), (13 : Nat))]) ∈ lw_all := lw_g (lw_at lw_m7 184 rfl) rfl
theorem q1714 : (Jvm.Cond.methodLink "VoteLogsLaw" (92 : Nat) ({ cls := "VoteLogs", name := "records", desc := "(I)I" } : Jvm.MethodName)) ∈ lw_all := lw_g (lw_at lw_m7 185 rfl) rfl
theorem q1718 : (Jvm.Cond.methodLink "VoteLogsLaw" (238 : Nat) ({ cls := "VoteLogsLaw", name := "recordKind", desc := "(LVoteLogs;II[J)I" } : Jvm.MethodName)) ∈ lw_all := lw_g (lw_at lw_m7 189 rfl) rfl
theorem q1719 : (Jvm.Cond.static ({ cls := "VoteLogsLaw", name := "recordKind", desc := "(LVoteLogs;II[J)I" } : Jvm.MethodName)) ∈ lw_all := lw_g (lw_at lw_m7 190 rfl) rfl
theorem q1720 : (Jvm.Cond.codeWith ({ cls := "VoteLogsLaw", name := "recordKind", desc := "(LVoteLogs;II[J)I" } : Jvm.MethodName) method_28_code (5 : Nat) (Option.some Jvm.ClassFile.FieldType.int) [((0 : Nat), (10 : Nat), (13 : Nat), (13 : Nat))]) ∈ lw_all := lw_g (lw_at lw_m7 191 rfl) rfl
theorem q1721 : (Jvm.Cond.methodLink "VoteLogsLaw" (95 : Nat) ({ cls := "VoteLogs", name := "recordKind", desc := "(II)I" } : Jvm.MethodName)) ∈ lw_all := lw_g (lw_at lw_m7 192 rfl) rfl
theorem q1729 : (Jvm.Cond.methodLink "VoteLogsLaw" (241 : Nat) ({ cls := "VoteLogsLaw", name := "recordTransfer", desc := "(LVoteLogs;II[J)I" } : Jvm.MethodName)) ∈ lw_all := lw_g (lw_at lw_m7 200 rfl) rfl
theorem q1730 : (Jvm.Cond.static ({ cls := "VoteLogsLaw", name := "recordTransfer", desc := "(LVoteLogs;II[J)I" } : Jvm.MethodName)) ∈ lw_all := lw_g (lw_at lw_m7 201 rfl) rfl
theorem q1731 : (Jvm.Cond.codeWith ({ cls := "VoteLogsLaw", name := "recordTransfer", desc := "(LVoteLogs;II[J)I" } : Jvm.MethodName) method_29_code (5 : Nat) (Option.some Jvm.ClassFile.FieldType.int) [((0 : Nat), (10 : Nat), (13 : Nat), (13 : Nat))]) ∈ lw_all := lw_g (lw_at lw_m7 202 rfl) rfl
theorem q1732 : (Jvm.Cond.methodLink "VoteLogsLaw" (98 : Nat) ({ cls := "VoteLogs", name := "recordTransfer", desc := "(II)I" } : Jvm.MethodName)) ∈ lw_all := lw_g (lw_at lw_m7 203 rfl) rfl
theorem q1736 : (Jvm.Cond.methodLink "VoteLogsLaw" (248 : Nat) ({ cls := "VoteLogsLaw", name := "kindOf", desc := "(LVoteLogs;I[J)I" } : Jvm.MethodName)) ∈ lw_all := lw_g (lw_at lw_m7 207 rfl) rfl
theorem q1737 : (Jvm.Cond.static ({ cls := "VoteLogsLaw", name := "kindOf", desc := "(LVoteLogs;I[J)I" } : Jvm.MethodName)) ∈ lw_all := lw_g (lw_at lw_m7 208 rfl) rfl
theorem q1738 : (Jvm.Cond.codeWith ({ cls := "VoteLogsLaw", name := "kindOf", desc := "(LVoteLogs;I[J)I" } : Jvm.MethodName) method_30_code (4 : Nat) (Option.some Jvm.ClassFile.FieldType.int) [((0 : Nat), (9 : Nat), (12 : Nat), (13 : Nat))]) ∈ lw_all := lw_g (lw_at lw_m7 209 rfl) rfl
theorem q1739 : (Jvm.Cond.methodLink "VoteLogsLaw" (101 : Nat) ({ cls := "VoteLogs", name := "kindOf", desc := "(I)I" } : Jvm.MethodName)) ∈ lw_all := lw_g (lw_at lw_m7 210 rfl) rfl
theorem q1740 : (Jvm.Cond.methodLink "VoteLogsLaw" (251 : Nat) ({ cls := "VoteLogsLaw", name := "transferOf", desc := "(LVoteLogs;I[J)I" } : Jvm.MethodName)) ∈ lw_all := lw_g (lw_at lw_m7 211 rfl) rfl
theorem q1741 : (Jvm.Cond.static ({ cls := "VoteLogsLaw", name := "transferOf", desc := "(LVoteLogs;I[J)I" } : Jvm.MethodName)) ∈ lw_all := lw_g (lw_at lw_m7 212 rfl) rfl
theorem q1742 : (Jvm.Cond.codeWith ({ cls := "VoteLogsLaw", name := "transferOf", desc := "(LVoteLogs;I[J)I" } : Jvm.MethodName) method_31_code (4 : Nat) (Option.some Jvm.ClassFile.FieldType.int) [((0 : Nat), (9 : Nat), (12 : Nat), (13 : Nat))]) ∈ lw_all := lw_g (lw_at lw_m7 213 rfl) rfl
theorem q1743 : (Jvm.Cond.methodLink "VoteLogsLaw" (104 : Nat) ({ cls := "VoteLogs", name := "transferOf", desc := "(I)I" } : Jvm.MethodName)) ∈ lw_all := lw_g (lw_at lw_m7 214 rfl) rfl
theorem q1744 : (Jvm.Cond.methodLink "VoteLogsLaw" (254 : Nat) ({ cls := "VoteLogsLaw", name := "storeOf", desc := "(LVoteLogs;I[J)I" } : Jvm.MethodName)) ∈ lw_all := lw_g (lw_at lw_m7 215 rfl) rfl
theorem q1745 : (Jvm.Cond.static ({ cls := "VoteLogsLaw", name := "storeOf", desc := "(LVoteLogs;I[J)I" } : Jvm.MethodName)) ∈ lw_all := lw_g (lw_at lw_m7 216 rfl) rfl
theorem q1746 : (Jvm.Cond.codeWith ({ cls := "VoteLogsLaw", name := "storeOf", desc := "(LVoteLogs;I[J)I" } : Jvm.MethodName) method_32_code (4 : Nat) (Option.some Jvm.ClassFile.FieldType.int) [((0 : Nat), (9 : Nat), (12 : Nat), (13 : Nat))]) ∈ lw_all := lw_g (lw_at lw_m7 217 rfl) rfl
theorem q1747 : (Jvm.Cond.methodLink "VoteLogsLaw" (107 : Nat) ({ cls := "VoteLogs", name := "storeOf", desc := "(I)I" } : Jvm.MethodName)) ∈ lw_all := lw_g (lw_at lw_m7 218 rfl) rfl
theorem q1748 : (Jvm.Cond.methodLink "VoteLogsLaw" (269 : Nat) ({ cls := "VoteLogsLaw", name := "wouldSend", desc := "(LVoteLogs;I[J)I" } : Jvm.MethodName)) ∈ lw_all := lw_g (lw_at lw_m7 219 rfl) rfl
theorem q1749 : (Jvm.Cond.static ({ cls := "VoteLogsLaw", name := "wouldSend", desc := "(LVoteLogs;I[J)I" } : Jvm.MethodName)) ∈ lw_all := lw_g (lw_at lw_m7 220 rfl) rfl
theorem q1750 : (Jvm.Cond.codeWith ({ cls := "VoteLogsLaw", name := "wouldSend", desc := "(LVoteLogs;I[J)I" } : Jvm.MethodName) method_33_code (4 : Nat) (Option.some Jvm.ClassFile.FieldType.int) [((0 : Nat), (9 : Nat), (12 : Nat), (13 : Nat))]) ∈ lw_all := lw_g (lw_at lw_m7 221 rfl) rfl
theorem q1751 : (Jvm.Cond.methodLink "VoteLogsLaw" (110 : Nat) ({ cls := "VoteLogs", name := "wouldSend", desc := "(I)I" } : Jvm.MethodName)) ∈ lw_all := lw_g (lw_at lw_m7 222 rfl) rfl
theorem q1752 : (Jvm.Cond.methodLink "VoteLogsLaw" (276 : Nat) ({ cls := "VoteLogsLaw", name := "outcomeIfSettled", desc := "(LVoteLogs;I[J)I" } : Jvm.MethodName)) ∈ lw_all := lw_g (lw_at lw_m7 223 rfl) rfl
theorem q1753 : (Jvm.Cond.static ({ cls := "VoteLogsLaw", name := "outcomeIfSettled", desc := "(LVoteLogs;I[J)I" } : Jvm.MethodName)) ∈ lw_all := lw_g (lw_at lw_m7 224 rfl) rfl
theorem q1754 : (Jvm.Cond.codeWith ({ cls := "VoteLogsLaw", name := "outcomeIfSettled", desc := "(LVoteLogs;I[J)I" } : Jvm.MethodName) method_34_code (4 : Nat) (Option.some Jvm.ClassFile.FieldType.int) [((0 : Nat), (9 : Nat), (12 : Nat), (13 : Nat))]) ∈ lw_all := lw_g (lw_at lw_m7 225 rfl) rfl
theorem q1755 : (Jvm.Cond.methodLink "VoteLogsLaw" (113 : Nat) ({ cls := "VoteLogs", name := "outcomeIfSettled", desc := "(I)I" } : Jvm.MethodName)) ∈ lw_all := lw_g (lw_at lw_m7 226 rfl) rfl
theorem q1763 : (Jvm.Cond.methodLink "VoteLogsLaw" (279 : Nat) ({ cls := "VoteLogsLaw", name := "amountIfSettled", desc := "(LVoteLogs;I[J)I" } : Jvm.MethodName)) ∈ lw_all := lw_g (lw_at lw_m7 234 rfl) rfl
theorem q1764 : (Jvm.Cond.static ({ cls := "VoteLogsLaw", name := "amountIfSettled", desc := "(LVoteLogs;I[J)I" } : Jvm.MethodName)) ∈ lw_all := lw_g (lw_at lw_m7 235 rfl) rfl
theorem q1765 : (Jvm.Cond.codeWith ({ cls := "VoteLogsLaw", name := "amountIfSettled", desc := "(LVoteLogs;I[J)I" } : Jvm.MethodName) method_35_code (4 : Nat) (Option.some Jvm.ClassFile.FieldType.int) [((0 : Nat), (9 : Nat), (12 : Nat), (13 : Nat))]) ∈ lw_all := lw_g (lw_at lw_m7 236 rfl) rfl
theorem q1766 : (Jvm.Cond.methodLink "VoteLogsLaw" (116 : Nat) ({ cls := "VoteLogs", name := "amountIfSettled", desc := "(I)I" } : Jvm.MethodName)) ∈ lw_all := lw_g (lw_at lw_m7 237 rfl) rfl
theorem q1770 : (Jvm.Cond.methodLink "VoteLogsLaw" (282 : Nat) ({ cls := "VoteLogsLaw", name := "greatestSize", desc := "(LVoteLogs;II[J)I" } : Jvm.MethodName)) ∈ lw_all := lw_g (lw_at lw_m8 1 rfl) rfl
theorem q1771 : (Jvm.Cond.static ({ cls := "VoteLogsLaw", name := "greatestSize", desc := "(LVoteLogs;II[J)I" } : Jvm.MethodName)) ∈ lw_all := lw_g (lw_at lw_m8 2 rfl) rfl
theorem q1772 : (Jvm.Cond.codeWith ({ cls := "VoteLogsLaw", name := "greatestSize", desc := "(LVoteLogs;II[J)I" } : Jvm.MethodName) method_36_code (5 : Nat) (Option.some Jvm.ClassFile.FieldType.int) [((0 : Nat), (10 : Nat), (13 : Nat), (13 : Nat)), ((0 : Nat), (10 : Nat), (17 : Nat), (15 : Nat))]) ∈ lw_all := lw_g (lw_at lw_m8 3 rfl) rfl
theorem q1773 : (Jvm.Cond.methodLink "VoteLogsLaw" (119 : Nat) ({ cls := "VoteLogs", name := "greatestSize", desc := "(II)I" } : Jvm.MethodName)) ∈ lw_all := lw_g (lw_at lw_m8 4 rfl) rfl
theorem q1777 : (Jvm.Cond.classLink "VoteLogsLaw" (123 : Nat) "VoteLogsModel") ∈ lw_all := lw_g (lw_at lw_m8 8 rfl) rfl
theorem q1779 : (Jvm.Cond.methodLink "VoteLogsLaw" (125 : Nat) ({ cls := "VoteLogsModel", name := "<init>", desc := "()V" } : Jvm.MethodName)) ∈ lw_all := lw_g (lw_at lw_m8 10 rfl) rfl
theorem q1823 : (Jvm.Cond.methodLink "VoteLogsLaw" (132 : Nat) ({ cls := "VoteLogsModel", name := "thrown", desc := "()I" } : Jvm.MethodName)) ∈ lw_all := lw_g (lw_at lw_m8 54 rfl) rfl
theorem q1827 : (Jvm.Cond.methodLink "VoteLogsLaw" (131 : Nat) ({ cls := "VoteLogsModel", name := "begin", desc := "(III)I" } : Jvm.MethodName)) ∈ lw_all := lw_g (lw_at lw_m8 58 rfl) rfl
theorem q1880 : (Jvm.Cond.methodLink "VoteLogsLaw" (138 : Nat) ({ cls := "VoteLogsModel", name := "giveUp", desc := "(I)I" } : Jvm.MethodName)) ∈ lw_all := lw_g (lw_at lw_m8 111 rfl) rfl
theorem q1896 : (Jvm.Cond.methodLink "VoteLogsLaw" (142 : Nat) ({ cls := "VoteLogsModel", name := "ask", desc := "(II)I" } : Jvm.MethodName)) ∈ lw_all := lw_g (lw_at lw_m8 127 rfl) rfl
theorem q1908 : (Jvm.Cond.methodLink "VoteLogsLaw" (145 : Nat) ({ cls := "VoteLogsModel", name := "deliver", desc := "(I)Z" } : Jvm.MethodName)) ∈ lw_all := lw_g (lw_at lw_m8 139 rfl) rfl
theorem q1957 : (Jvm.Cond.methodLink "VoteLogsLaw" (149 : Nat) ({ cls := "VoteLogsModel", name := "deliverAll", desc := "()I" } : Jvm.MethodName)) ∈ lw_all := lw_g (lw_at lw_m8 188 rfl) rfl
theorem q1970 : (Jvm.Cond.methodLink "VoteLogsLaw" (152 : Nat) ({ cls := "VoteLogsModel", name := "lose", desc := "(I)I" } : Jvm.MethodName)) ∈ lw_all := lw_g (lw_at lw_m8 201 rfl) rfl
theorem q1978 : (Jvm.Cond.methodLink "VoteLogsLaw" (155 : Nat) ({ cls := "VoteLogsModel", name := "crash", desc := "(I)I" } : Jvm.MethodName)) ∈ lw_all := lw_g (lw_at lw_m8 209 rfl) rfl
theorem q1989 : (Jvm.Cond.methodLink "VoteLogsLaw" (158 : Nat) ({ cls := "VoteLogsModel", name := "recover", desc := "(I)I" } : Jvm.MethodName)) ∈ lw_all := lw_g (lw_at lw_m8 220 rfl) rfl
theorem q1997 : (Jvm.Cond.methodLink "VoteLogsLaw" (161 : Nat) ({ cls := "VoteLogsModel", name := "append", desc := "(I)I" } : Jvm.MethodName)) ∈ lw_all := lw_g (lw_at lw_m8 228 rfl) rfl
theorem q2001 : (Jvm.Cond.methodLink "VoteLogsLaw" (165 : Nat) ({ cls := "VoteLogsModel", name := "clearBuffer", desc := "()I" } : Jvm.MethodName)) ∈ lw_all := lw_g (lw_at lw_m8 232 rfl) rfl
theorem q2005 : (Jvm.Cond.methodLink "VoteLogsLaw" (169 : Nat) ({ cls := "VoteLogsModel", name := "firstError", desc := "()I" } : Jvm.MethodName)) ∈ lw_all := lw_g (lw_at lw_m8 236 rfl) rfl
theorem q2033 : (Jvm.Cond.methodLink "VoteLogsLaw" (173 : Nat) ({ cls := "VoteLogsModel", name := "runCourse", desc := "()I" } : Jvm.MethodName)) ∈ lw_all := lw_g (lw_at lw_m9 24 rfl) rfl
theorem q2041 : (Jvm.Cond.methodLink "VoteLogsLaw" (177 : Nat) ({ cls := "VoteLogsModel", name := "keep", desc := "()I" } : Jvm.MethodName)) ∈ lw_all := lw_g (lw_at lw_m9 32 rfl) rfl
theorem q2045 : (Jvm.Cond.methodLink "VoteLogsLaw" (180 : Nat) ({ cls := "VoteLogsModel", name := "goBack", desc := "()I" } : Jvm.MethodName)) ∈ lw_all := lw_g (lw_at lw_m9 36 rfl) rfl
theorem q2049 : (Jvm.Cond.methodLink "VoteLogsLaw" (183 : Nat) ({ cls := "VoteLogsModel", name := "undo", desc := "()I" } : Jvm.MethodName)) ∈ lw_all := lw_g (lw_at lw_m9 40 rfl) rfl
theorem q2053 : (Jvm.Cond.methodLink "VoteLogsLaw" (187 : Nat) ({ cls := "VoteLogsModel", name := "transfers", desc := "()I" } : Jvm.MethodName)) ∈ lw_all := lw_g (lw_at lw_m9 44 rfl) rfl
theorem q2057 : (Jvm.Cond.methodLink "VoteLogsLaw" (190 : Nat) ({ cls := "VoteLogsModel", name := "partners", desc := "(I)I" } : Jvm.MethodName)) ∈ lw_all := lw_g (lw_at lw_m9 48 rfl) rfl
theorem q2061 : (Jvm.Cond.methodLink "VoteLogsLaw" (193 : Nat) ({ cls := "VoteLogsModel", name := "share", desc := "(II)I" } : Jvm.MethodName)) ∈ lw_all := lw_g (lw_at lw_m9 52 rfl) rfl
theorem q2065 : (Jvm.Cond.methodLink "VoteLogsLaw" (196 : Nat) ({ cls := "VoteLogsModel", name := "isUp", desc := "(I)Z" } : Jvm.MethodName)) ∈ lw_all := lw_g (lw_at lw_m9 56 rfl) rfl
theorem q2069 : (Jvm.Cond.methodLink "VoteLogsLaw" (199 : Nat) ({ cls := "VoteLogsModel", name := "amount", desc := "(I)I" } : Jvm.MethodName)) ∈ lw_all := lw_g (lw_at lw_m9 60 rfl) rfl
theorem q2073 : (Jvm.Cond.methodLink "VoteLogsLaw" (202 : Nat) ({ cls := "VoteLogsModel", name := "amountByLog", desc := "(I)I" } : Jvm.MethodName)) ∈ lw_all := lw_g (lw_at lw_m9 64 rfl) rfl
theorem q2081 : (Jvm.Cond.methodLink "VoteLogsLaw" (205 : Nat) ({ cls := "VoteLogsModel", name := "state", desc := "(II)I" } : Jvm.MethodName)) ∈ lw_all := lw_g (lw_at lw_m9 72 rfl) rfl
theorem q2085 : (Jvm.Cond.methodLink "VoteLogsLaw" (208 : Nat) ({ cls := "VoteLogsModel", name := "stateByLog", desc := "(II)I" } : Jvm.MethodName)) ∈ lw_all := lw_g (lw_at lw_m9 76 rfl) rfl
theorem q2093 : (Jvm.Cond.methodLink "VoteLogsLaw" (211 : Nat) ({ cls := "VoteLogsModel", name := "inDoubt", desc := "(I)I" } : Jvm.MethodName)) ∈ lw_all := lw_g (lw_at lw_m9 84 rfl) rfl
theorem q2101 : (Jvm.Cond.methodLink "VoteLogsLaw" (214 : Nat) ({ cls := "VoteLogsModel", name := "outcome", desc := "(I)I" } : Jvm.MethodName)) ∈ lw_all := lw_g (lw_at lw_m9 92 rfl) rfl
theorem q2105 : (Jvm.Cond.methodLink "VoteLogsLaw" (217 : Nat) ({ cls := "VoteLogsModel", name := "outcomeByStores", desc := "(I)I" } : Jvm.MethodName)) ∈ lw_all := lw_g (lw_at lw_m9 96 rfl) rfl
theorem q2113 : (Jvm.Cond.methodLink "VoteLogsLaw" (220 : Nat) ({ cls := "VoteLogsModel", name := "hasEnded", desc := "(I)Z" } : Jvm.MethodName)) ∈ lw_all := lw_g (lw_at lw_m9 104 rfl) rfl
theorem q2117 : (Jvm.Cond.methodLink "VoteLogsLaw" (223 : Nat) ({ cls := "VoteLogsModel", name := "saidYes", desc := "(I)I" } : Jvm.MethodName)) ∈ lw_all := lw_g (lw_at lw_m9 108 rfl) rfl
theorem q2121 : (Jvm.Cond.methodLink "VoteLogsLaw" (226 : Nat) ({ cls := "VoteLogsModel", name := "saidDone", desc := "(I)I" } : Jvm.MethodName)) ∈ lw_all := lw_g (lw_at lw_m9 112 rfl) rfl
theorem q2125 : (Jvm.Cond.methodLink "VoteLogsLaw" (230 : Nat) ({ cls := "VoteLogsModel", name := "total", desc := "()I" } : Jvm.MethodName)) ∈ lw_all := lw_g (lw_at lw_m9 116 rfl) rfl
theorem q2133 : (Jvm.Cond.methodLink "VoteLogsLaw" (234 : Nat) ({ cls := "VoteLogsModel", name := "onTheWay", desc := "()I" } : Jvm.MethodName)) ∈ lw_all := lw_g (lw_at lw_m9 124 rfl) rfl
theorem q2141 : (Jvm.Cond.methodLink "VoteLogsLaw" (237 : Nat) ({ cls := "VoteLogsModel", name := "records", desc := "(I)I" } : Jvm.MethodName)) ∈ lw_all := lw_g (lw_at lw_m9 132 rfl) rfl
theorem q2145 : (Jvm.Cond.methodLink "VoteLogsLaw" (240 : Nat) ({ cls := "VoteLogsModel", name := "recordKind", desc := "(II)I" } : Jvm.MethodName)) ∈ lw_all := lw_g (lw_at lw_m9 136 rfl) rfl
theorem q2153 : (Jvm.Cond.methodLink "VoteLogsLaw" (243 : Nat) ({ cls := "VoteLogsModel", name := "recordTransfer", desc := "(II)I" } : Jvm.MethodName)) ∈ lw_all := lw_g (lw_at lw_m9 144 rfl) rfl
theorem q2157 : (Jvm.Cond.methodLink "VoteLogsLaw" (247 : Nat) ({ cls := "VoteLogsModel", name := "waiting", desc := "()I" } : Jvm.MethodName)) ∈ lw_all := lw_g (lw_at lw_m9 148 rfl) rfl
theorem q2161 : (Jvm.Cond.methodLink "VoteLogsLaw" (250 : Nat) ({ cls := "VoteLogsModel", name := "kindOf", desc := "(I)I" } : Jvm.MethodName)) ∈ lw_all := lw_g (lw_at lw_m9 152 rfl) rfl
theorem q2165 : (Jvm.Cond.methodLink "VoteLogsLaw" (253 : Nat) ({ cls := "VoteLogsModel", name := "transferOf", desc := "(I)I" } : Jvm.MethodName)) ∈ lw_all := lw_g (lw_at lw_m9 156 rfl) rfl
theorem q2169 : (Jvm.Cond.methodLink "VoteLogsLaw" (256 : Nat) ({ cls := "VoteLogsModel", name := "storeOf", desc := "(I)I" } : Jvm.MethodName)) ∈ lw_all := lw_g (lw_at lw_m9 160 rfl) rfl
theorem q2173 : (Jvm.Cond.methodLink "VoteLogsLaw" (260 : Nat) ({ cls := "VoteLogsModel", name := "sent", desc := "()I" } : Jvm.MethodName)) ∈ lw_all := lw_g (lw_at lw_m9 164 rfl) rfl
theorem q2177 : (Jvm.Cond.methodLink "VoteLogsLaw" (264 : Nat) ({ cls := "VoteLogsModel", name := "sentByAccount", desc := "()I" } : Jvm.MethodName)) ∈ lw_all := lw_g (lw_at lw_m9 168 rfl) rfl
theorem q2185 : (Jvm.Cond.methodLink "VoteLogsLaw" (268 : Nat) ({ cls := "VoteLogsModel", name := "lost", desc := "()I" } : Jvm.MethodName)) ∈ lw_all := lw_g (lw_at lw_m9 176 rfl) rfl
theorem q2189 : (Jvm.Cond.methodLink "VoteLogsLaw" (271 : Nat) ({ cls := "VoteLogsModel", name := "wouldSend", desc := "(I)I" } : Jvm.MethodName)) ∈ lw_all := lw_g (lw_at lw_m9 180 rfl) rfl
theorem q2205 : (Jvm.Cond.methodLink "VoteLogsLaw" (275 : Nat) ({ cls := "VoteLogsModel", name := "messagesToSettle", desc := "()I" } : Jvm.MethodName)) ∈ lw_all := lw_g (lw_at lw_m9 196 rfl) rfl
theorem q2217 : (Jvm.Cond.methodLink "VoteLogsLaw" (278 : Nat) ({ cls := "VoteLogsModel", name := "outcomeIfSettled", desc := "(I)I" } : Jvm.MethodName)) ∈ lw_all := lw_g (lw_at lw_m9 208 rfl) rfl
theorem q2225 : (Jvm.Cond.methodLink "VoteLogsLaw" (281 : Nat) ({ cls := "VoteLogsModel", name := "amountIfSettled", desc := "(I)I" } : Jvm.MethodName)) ∈ lw_all := lw_g (lw_at lw_m9 216 rfl) rfl
theorem q2233 : (Jvm.Cond.methodLink "VoteLogsLaw" (284 : Nat) ({ cls := "VoteLogsModel", name := "greatestSize", desc := "(II)I" } : Jvm.MethodName)) ∈ lw_all := lw_g (lw_at lw_m9 224 rfl) rfl
theorem q2241 : (Jvm.Cond.methodLink "VoteLogsLaw" (289 : Nat) ({ cls := "VoteLogsModel", name := "lostShare", desc := "()D" } : Jvm.MethodName)) ∈ lw_all := lw_g (lw_at lw_m9 232 rfl) rfl
theorem q2249 : (Jvm.Cond.methodLink "VoteLogsLaw" (294 : Nat) ({ cls := "VoteLogsModel", name := "meanSize", desc := "()F" } : Jvm.MethodName)) ∈ lw_all := lw_g (lw_at lw_m10 0 rfl) rfl
theorem q2257 : (Jvm.Cond.methodLink "VoteLogsLaw" (299 : Nat) ({ cls := "VoteLogsModel", name := "digest", desc := "()J" } : Jvm.MethodName)) ∈ lw_all := lw_g (lw_at lw_m10 8 rfl) rfl
/-! VoteLogs$Transfer -/
set_option maxRecDepth 100000
def RX4 : String := "VoteLogs$Transfer"
def TX4 : u_T := fun k => match k with
  | 0 => ("VoteLogs$Transfer", "from", "I", true)
  | 1 => ("VoteLogs$Transfer", "to", "I", true)
  | _ => ("VoteLogs$Transfer", "size", "I", true)
def tyX4 : Nat → FieldType := fun k => match k with
  | 0 => .int
  | 1 => .int
  | _ => .int
abbrev wsX40 : List Cond := u_ws RX4 TX4 3
theorem nmX4 : ∀ a, a < 3 → ∀ b, b < 3 → a ≠ b → (TX4 a).2.1 ≠ (TX4 b).2.1 := by decide +kernel
theorem tyX4_ok : ∀ k, k < 3 → parseFieldDescriptor (TX4 k).2.2.1 = some (tyX4 k) := by decide +kernel
abbrev cX4_share : ByteArray := prog_17_method_3_code
def yX4_share : MethodName := ⟨RX4, "share", "(I)I"⟩
def dkwX4_share_1 : List UInt8 := [42, 180, 0, 13, 27, 184, 0, 25, 153, 0, 10, 42, 180, 0, 16, 167, 0, 4, 3, 172]
abbrev dktX4_share_1 : List UInt8 := dkwX4_share_1 ++ []
def dkwX4_share_0 : List UInt8 := [27, 42, 180, 0, 7, 160, 0, 19, 42, 180, 0, 16, 116, 42, 180, 0, 13, 184, 0, 19, 104, 167, 0, 22]
abbrev dktX4_share_0 : List UInt8 := dkwX4_share_0 ++ dktX4_share_1
theorem dksX4_share_0 : cX4_share.data.toList.drop 0 = dktX4_share_0 := by decide +kernel
theorem dksX4_share_1 : cX4_share.data.toList.drop 24 = dktX4_share_1 := dk_seg dksX4_share_0 24 rfl rfl
theorem dX4_share_0 : decode cX4_share 0 = .ok (.iload_n 1, 1) := dk_27 (dk_at dksX4_share_0 0 rfl rfl)
theorem dX4_share_1 : decode cX4_share 1 = .ok (.aload_n 0, 1) := dk_42 (dk_at dksX4_share_0 1 rfl rfl)
theorem dX4_share_2 : decode cX4_share 2 = .ok (.getfield 7, 3) := dk_180 0 7 (dk_at dksX4_share_0 2 rfl rfl)
theorem dX4_share_5 : decode cX4_share 5 = .ok (.if_icmp .ne 19, 3) := dk_160 0 19 (dk_at dksX4_share_0 5 rfl rfl)
theorem dX4_share_8 : decode cX4_share 8 = .ok (.aload_n 0, 1) := dk_42 (dk_at dksX4_share_0 8 rfl rfl)
theorem dX4_share_9 : decode cX4_share 9 = .ok (.getfield 16, 3) := dk_180 0 16 (dk_at dksX4_share_0 9 rfl rfl)
theorem dX4_share_12 : decode cX4_share 12 = .ok (.ineg, 1) := dk_116 (dk_at dksX4_share_0 12 rfl rfl)
theorem dX4_share_13 : decode cX4_share 13 = .ok (.aload_n 0, 1) := dk_42 (dk_at dksX4_share_0 13 rfl rfl)
theorem dX4_share_14 : decode cX4_share 14 = .ok (.getfield 13, 3) := dk_180 0 13 (dk_at dksX4_share_0 14 rfl rfl)
theorem dX4_share_17 : decode cX4_share 17 = .ok (.invokestatic 19, 3) := dk_184 0 19 (dk_at dksX4_share_0 17 rfl rfl)
theorem dX4_share_20 : decode cX4_share 20 = .ok (.imul, 1) := dk_104 (dk_at dksX4_share_0 20 rfl rfl)
theorem dX4_share_21 : decode cX4_share 21 = .ok (.goto 22, 3) := dk_167 0 22 (dk_at dksX4_share_0 21 rfl rfl)
theorem dX4_share_24 : decode cX4_share 24 = .ok (.aload_n 0, 1) := dk_42 (dk_at dksX4_share_1 0 rfl rfl)
theorem dX4_share_25 : decode cX4_share 25 = .ok (.getfield 13, 3) := dk_180 0 13 (dk_at dksX4_share_1 1 rfl rfl)
theorem dX4_share_28 : decode cX4_share 28 = .ok (.iload_n 1, 1) := dk_27 (dk_at dksX4_share_1 4 rfl rfl)
theorem dX4_share_29 : decode cX4_share 29 = .ok (.invokestatic 25, 3) := dk_184 0 25 (dk_at dksX4_share_1 5 rfl rfl)
theorem dX4_share_32 : decode cX4_share 32 = .ok (.ifCond .eq 10, 3) := dk_153 0 10 (dk_at dksX4_share_1 8 rfl rfl)
theorem dX4_share_35 : decode cX4_share 35 = .ok (.aload_n 0, 1) := dk_42 (dk_at dksX4_share_1 11 rfl rfl)
theorem dX4_share_36 : decode cX4_share 36 = .ok (.getfield 16, 3) := dk_180 0 16 (dk_at dksX4_share_1 12 rfl rfl)
theorem dX4_share_39 : decode cX4_share 39 = .ok (.goto 4, 3) := dk_167 0 4 (dk_at dksX4_share_1 15 rfl rfl)
theorem dX4_share_42 : decode cX4_share 42 = .ok (.iconst 0, 1) := dk_3 (dk_at dksX4_share_1 18 rfl rfl)
theorem dX4_share_43 : decode cX4_share 43 = .ok (.ireturn, 1) := dk_172 (dk_at dksX4_share_1 19 rfl rfl)
abbrev cX4_partners : ByteArray := prog_17_method_2_code
def yX4_partners : MethodName := ⟨RX4, "partners", "()I"⟩
def dkwX4_partners_0 : List UInt8 := [42, 180, 0, 13, 4, 42, 180, 0, 7, 120, 128, 172]
abbrev dktX4_partners_0 : List UInt8 := dkwX4_partners_0 ++ []
theorem dksX4_partners_0 : cX4_partners.data.toList.drop 0 = dktX4_partners_0 := by decide +kernel
theorem dX4_partners_0 : decode cX4_partners 0 = .ok (.aload_n 0, 1) := dk_42 (dk_at dksX4_partners_0 0 rfl rfl)
theorem dX4_partners_1 : decode cX4_partners 1 = .ok (.getfield 13, 3) := dk_180 0 13 (dk_at dksX4_partners_0 1 rfl rfl)
theorem dX4_partners_4 : decode cX4_partners 4 = .ok (.iconst 1, 1) := dk_4 (dk_at dksX4_partners_0 4 rfl rfl)
theorem dX4_partners_5 : decode cX4_partners 5 = .ok (.aload_n 0, 1) := dk_42 (dk_at dksX4_partners_0 5 rfl rfl)
theorem dX4_partners_6 : decode cX4_partners 6 = .ok (.getfield 7, 3) := dk_180 0 7 (dk_at dksX4_partners_0 6 rfl rfl)
theorem dX4_partners_9 : decode cX4_partners 9 = .ok (.ishl, 1) := dk_120 (dk_at dksX4_partners_0 9 rfl rfl)
theorem dX4_partners_10 : decode cX4_partners 10 = .ok (.ior, 1) := dk_128 (dk_at dksX4_partners_0 10 rfl rfl)
theorem dX4_partners_11 : decode cX4_partners 11 = .ok (.ireturn, 1) := dk_172 (dk_at dksX4_partners_0 11 rfl rfl)
abbrev cX4_init : ByteArray := prog_17_method_1_code
def yX4_init : MethodName := ⟨RX4, "<init>", "(III)V"⟩
def dkwX4_init_0 : List UInt8 := [42, 183, 0, 1, 42, 27, 181, 0, 7, 42, 28, 181, 0, 13, 42, 29, 181, 0, 16, 177]
abbrev dktX4_init_0 : List UInt8 := dkwX4_init_0 ++ []
theorem dksX4_init_0 : cX4_init.data.toList.drop 0 = dktX4_init_0 := by decide +kernel
theorem dX4_init_0 : decode cX4_init 0 = .ok (.aload_n 0, 1) := dk_42 (dk_at dksX4_init_0 0 rfl rfl)
theorem dX4_init_1 : decode cX4_init 1 = .ok (.invokespecial 1, 3) := dk_183 0 1 (dk_at dksX4_init_0 1 rfl rfl)
theorem dX4_init_4 : decode cX4_init 4 = .ok (.aload_n 0, 1) := dk_42 (dk_at dksX4_init_0 4 rfl rfl)
theorem dX4_init_5 : decode cX4_init 5 = .ok (.iload_n 1, 1) := dk_27 (dk_at dksX4_init_0 5 rfl rfl)
theorem dX4_init_6 : decode cX4_init 6 = .ok (.putfield 7, 3) := dk_181 0 7 (dk_at dksX4_init_0 6 rfl rfl)
theorem dX4_init_9 : decode cX4_init 9 = .ok (.aload_n 0, 1) := dk_42 (dk_at dksX4_init_0 9 rfl rfl)
theorem dX4_init_10 : decode cX4_init 10 = .ok (.iload_n 2, 1) := dk_28 (dk_at dksX4_init_0 10 rfl rfl)
theorem dX4_init_11 : decode cX4_init 11 = .ok (.putfield 13, 3) := dk_181 0 13 (dk_at dksX4_init_0 11 rfl rfl)
theorem dX4_init_14 : decode cX4_init 14 = .ok (.aload_n 0, 1) := dk_42 (dk_at dksX4_init_0 14 rfl rfl)
theorem dX4_init_15 : decode cX4_init 15 = .ok (.iload_n 3, 1) := dk_29 (dk_at dksX4_init_0 15 rfl rfl)
theorem dX4_init_16 : decode cX4_init 16 = .ok (.putfield 16, 3) := dk_181 0 16 (dk_at dksX4_init_0 16 rfl rfl)
theorem dX4_init_19 : decode cX4_init 19 = .ok (.return_, 1) := dk_177 (dk_at dksX4_init_0 19 rfl rfl)
theorem q117 : (Jvm.Cond.initialized "VoteLogs$Transfer") ∈ lw_all := lw_g (lw_at lw_m1 28 rfl) rfl
theorem q275 : (Jvm.Cond.selects "VoteLogs$Transfer" ({ cls := "java/lang/Object", name := "getClass", desc := "()Ljava/lang/Class;" } : Jvm.MethodName) ({ cls := "java/lang/Object", name := "getClass", desc := "()Ljava/lang/Class;" } : Jvm.MethodName)) ∈ lw_all := lw_g (lw_at lw_m1 186 rfl) rfl
theorem q868 : (Jvm.Cond.instanceMethod ({ cls := "VoteLogs$Transfer", name := "share", desc := "(I)I" } : Jvm.MethodName)) ∈ lw_all := lw_g (lw_at lw_m4 59 rfl) rfl
theorem q869 : (Jvm.Cond.selects "VoteLogs$Transfer" ({ cls := "VoteLogs$Transfer", name := "share", desc := "(I)I" } : Jvm.MethodName) ({ cls := "VoteLogs$Transfer", name := "share", desc := "(I)I" } : Jvm.MethodName)) ∈ lw_all := lw_g (lw_at lw_m4 60 rfl) rfl
theorem q870 : (Jvm.Cond.code ({ cls := "VoteLogs$Transfer", name := "share", desc := "(I)I" } : Jvm.MethodName) prog_17_method_3_code (2 : Nat) (Option.some Jvm.ClassFile.FieldType.int)) ∈ lw_all := lw_g (lw_at lw_m4 61 rfl) rfl
theorem q871 : (Jvm.Cond.methodLink "VoteLogs$Transfer" (19 : Nat) ({ cls := "java/lang/Integer", name := "bitCount", desc := "(I)I" } : Jvm.MethodName)) ∈ lw_all := lw_g (lw_at lw_m4 62 rfl) rfl
theorem q877 : (Jvm.Cond.methodLinkNest "VoteLogs$Transfer" (25 : Nat) ({ cls := "VoteLogs", name := "has", desc := "(II)Z" } : Jvm.MethodName) "VoteLogs") ∈ lw_tbl := lw_at lw_m4 68 rfl
theorem q965 : (Jvm.Cond.instanceMethod ({ cls := "VoteLogs$Transfer", name := "partners", desc := "()I" } : Jvm.MethodName)) ∈ lw_all := lw_g (lw_at lw_m4 156 rfl) rfl
theorem q966 : (Jvm.Cond.selects "VoteLogs$Transfer" ({ cls := "VoteLogs$Transfer", name := "partners", desc := "()I" } : Jvm.MethodName) ({ cls := "VoteLogs$Transfer", name := "partners", desc := "()I" } : Jvm.MethodName)) ∈ lw_all := lw_g (lw_at lw_m4 157 rfl) rfl
theorem q967 : (Jvm.Cond.code ({ cls := "VoteLogs$Transfer", name := "partners", desc := "()I" } : Jvm.MethodName) prog_17_method_2_code (1 : Nat) (Option.some Jvm.ClassFile.FieldType.int)) ∈ lw_all := lw_g (lw_at lw_m4 158 rfl) rfl
theorem q1170 : (Jvm.Cond.instantiable "VoteLogs$Transfer" (3 : Nat)) ∈ lw_all := lw_g (lw_at lw_m5 121 rfl) rfl
theorem q1172 : (Jvm.Cond.instanceMethod ({ cls := "VoteLogs$Transfer", name := "<init>", desc := "(III)V" } : Jvm.MethodName)) ∈ lw_all := lw_g (lw_at lw_m5 123 rfl) rfl
theorem q1173 : (Jvm.Cond.code ({ cls := "VoteLogs$Transfer", name := "<init>", desc := "(III)V" } : Jvm.MethodName) prog_17_method_1_code (4 : Nat) (Option.none : Option Jvm.ClassFile.FieldType)) ∈ lw_all := lw_g (lw_at lw_m5 124 rfl) rfl
theorem q1174 : (Jvm.Cond.methodLink "VoteLogs$Transfer" (1 : Nat) ({ cls := "java/lang/Object", name := "<init>", desc := "()V" } : Jvm.MethodName)) ∈ lw_all := lw_g (lw_at lw_m5 125 rfl) rfl
theorem q1175 : (Jvm.Cond.fieldLink "VoteLogs$Transfer" (7 : Nat) "VoteLogs$Transfer" "from" "I") ∈ lw_all := lw_g (lw_at lw_m5 126 rfl) rfl
theorem q1176 : (Jvm.Cond.fieldLink "VoteLogs$Transfer" (13 : Nat) "VoteLogs$Transfer" "to" "I") ∈ lw_all := lw_g (lw_at lw_m5 127 rfl) rfl
theorem q1177 : (Jvm.Cond.fieldLink "VoteLogs$Transfer" (16 : Nat) "VoteLogs$Transfer" "size" "I") ∈ lw_all := lw_g (lw_at lw_m5 128 rfl) rfl
theorem q1179 : (Jvm.Cond.laysFinal "VoteLogs$Transfer" "VoteLogs$Transfer" "from" "I") ∈ lw_all := lw_g (lw_at lw_m5 130 rfl) rfl
theorem q1180 : (Jvm.Cond.soleField "VoteLogs$Transfer" "from") ∈ lw_all := lw_g (lw_at lw_m5 131 rfl) rfl
theorem q1181 : (Jvm.Cond.laysFinal "VoteLogs$Transfer" "VoteLogs$Transfer" "to" "I") ∈ lw_all := lw_g (lw_at lw_m5 132 rfl) rfl
theorem q1182 : (Jvm.Cond.soleField "VoteLogs$Transfer" "to") ∈ lw_all := lw_g (lw_at lw_m5 133 rfl) rfl
theorem q1183 : (Jvm.Cond.laysFinal "VoteLogs$Transfer" "VoteLogs$Transfer" "size" "I") ∈ lw_all := lw_g (lw_at lw_m5 134 rfl) rfl
theorem q1184 : (Jvm.Cond.soleField "VoteLogs$Transfer" "size") ∈ lw_all := lw_g (lw_at lw_m5 135 rfl) rfl
theorem q1185 : (Jvm.Cond.superclass "VoteLogs$Transfer" "java/lang/Object") ∈ lw_all := lw_g (lw_at lw_m5 136 rfl) rfl
theorem q2304 : (Jvm.Cond.castable "VoteLogs$Transfer" "java/lang/Object") ∈ lw_tbl := lw_at lw_m10 55 rfl
theorem in_X4 : ∀ w ∈ wsX40, w ∈ lw_all := lw_in wsX40 [1179, 1181, 1183] (by decide +kernel) (by decide +kernel)
/-! VoteLogs$Entry -/
set_option maxRecDepth 100000
def RX5 : String := "VoteLogs$Entry"
def TX5 : u_T := fun k => match k with
  | 0 => ("VoteLogs$Entry", "kind", "I", true)
  | _ => ("VoteLogs$Entry", "transfer", "I", true)
def tyX5 : Nat → FieldType := fun k => match k with
  | 0 => .int
  | _ => .int
abbrev wsX50 : List Cond := u_ws RX5 TX5 2
theorem nmX5 : ∀ a, a < 2 → ∀ b, b < 2 → a ≠ b → (TX5 a).2.1 ≠ (TX5 b).2.1 := by decide +kernel
theorem tyX5_ok : ∀ k, k < 2 → parseFieldDescriptor (TX5 k).2.2.1 = some (tyX5 k) := by decide +kernel
abbrev cX5_init : ByteArray := prog_4_method_1_code
def yX5_init : MethodName := ⟨RX5, "<init>", "(II)V"⟩
def dkwX5_init_0 : List UInt8 := [42, 183, 0, 1, 42, 27, 181, 0, 7, 42, 28, 181, 0, 13, 177]
abbrev dktX5_init_0 : List UInt8 := dkwX5_init_0 ++ []
theorem dksX5_init_0 : cX5_init.data.toList.drop 0 = dktX5_init_0 := by decide +kernel
theorem dX5_init_0 : decode cX5_init 0 = .ok (.aload_n 0, 1) := dk_42 (dk_at dksX5_init_0 0 rfl rfl)
theorem dX5_init_1 : decode cX5_init 1 = .ok (.invokespecial 1, 3) := dk_183 0 1 (dk_at dksX5_init_0 1 rfl rfl)
theorem dX5_init_4 : decode cX5_init 4 = .ok (.aload_n 0, 1) := dk_42 (dk_at dksX5_init_0 4 rfl rfl)
theorem dX5_init_5 : decode cX5_init 5 = .ok (.iload_n 1, 1) := dk_27 (dk_at dksX5_init_0 5 rfl rfl)
theorem dX5_init_6 : decode cX5_init 6 = .ok (.putfield 7, 3) := dk_181 0 7 (dk_at dksX5_init_0 6 rfl rfl)
theorem dX5_init_9 : decode cX5_init 9 = .ok (.aload_n 0, 1) := dk_42 (dk_at dksX5_init_0 9 rfl rfl)
theorem dX5_init_10 : decode cX5_init 10 = .ok (.iload_n 2, 1) := dk_28 (dk_at dksX5_init_0 10 rfl rfl)
theorem dX5_init_11 : decode cX5_init 11 = .ok (.putfield 13, 3) := dk_181 0 13 (dk_at dksX5_init_0 11 rfl rfl)
theorem dX5_init_14 : decode cX5_init 14 = .ok (.return_, 1) := dk_177 (dk_at dksX5_init_0 14 rfl rfl)
theorem q119 : (Jvm.Cond.initialized "VoteLogs$Entry") ∈ lw_all := lw_g (lw_at lw_m1 30 rfl) rfl
theorem q264 : (Jvm.Cond.selects "VoteLogs$Entry" ({ cls := "java/lang/Object", name := "getClass", desc := "()Ljava/lang/Class;" } : Jvm.MethodName) ({ cls := "java/lang/Object", name := "getClass", desc := "()Ljava/lang/Class;" } : Jvm.MethodName)) ∈ lw_all := lw_g (lw_at lw_m1 175 rfl) rfl
theorem q896 : (Jvm.Cond.instantiable "VoteLogs$Entry" (2 : Nat)) ∈ lw_all := lw_g (lw_at lw_m4 87 rfl) rfl
theorem q898 : (Jvm.Cond.instanceMethod ({ cls := "VoteLogs$Entry", name := "<init>", desc := "(II)V" } : Jvm.MethodName)) ∈ lw_all := lw_g (lw_at lw_m4 89 rfl) rfl
theorem q899 : (Jvm.Cond.code ({ cls := "VoteLogs$Entry", name := "<init>", desc := "(II)V" } : Jvm.MethodName) prog_4_method_1_code (3 : Nat) (Option.none : Option Jvm.ClassFile.FieldType)) ∈ lw_all := lw_g (lw_at lw_m4 90 rfl) rfl
theorem q900 : (Jvm.Cond.methodLink "VoteLogs$Entry" (1 : Nat) ({ cls := "java/lang/Object", name := "<init>", desc := "()V" } : Jvm.MethodName)) ∈ lw_all := lw_g (lw_at lw_m4 91 rfl) rfl
theorem q901 : (Jvm.Cond.fieldLink "VoteLogs$Entry" (7 : Nat) "VoteLogs$Entry" "kind" "I") ∈ lw_all := lw_g (lw_at lw_m4 92 rfl) rfl
theorem q904 : (Jvm.Cond.fieldLink "VoteLogs$Entry" (13 : Nat) "VoteLogs$Entry" "transfer" "I") ∈ lw_all := lw_g (lw_at lw_m4 95 rfl) rfl
theorem q907 : (Jvm.Cond.laysFinal "VoteLogs$Entry" "VoteLogs$Entry" "kind" "I") ∈ lw_all := lw_g (lw_at lw_m4 98 rfl) rfl
theorem q908 : (Jvm.Cond.soleField "VoteLogs$Entry" "kind") ∈ lw_all := lw_g (lw_at lw_m4 99 rfl) rfl
theorem q909 : (Jvm.Cond.laysFinal "VoteLogs$Entry" "VoteLogs$Entry" "transfer" "I") ∈ lw_all := lw_g (lw_at lw_m4 100 rfl) rfl
theorem q910 : (Jvm.Cond.soleField "VoteLogs$Entry" "transfer") ∈ lw_all := lw_g (lw_at lw_m4 101 rfl) rfl
theorem q911 : (Jvm.Cond.superclass "VoteLogs$Entry" "java/lang/Object") ∈ lw_all := lw_g (lw_at lw_m4 102 rfl) rfl
theorem q2305 : (Jvm.Cond.castable "VoteLogs$Entry" "java/lang/Object") ∈ lw_tbl := lw_at lw_m10 56 rfl
theorem in_X5 : ∀ w ∈ wsX50, w ∈ lw_all := lw_in wsX50 [907, 909] (by decide +kernel) (by decide +kernel)
/-! VoteLogs$Message -/
set_option maxRecDepth 100000
def RX6 : String := "VoteLogs$Message"
def TX6 : u_T := fun k => match k with
  | 0 => ("VoteLogs$Message", "kind", "LVoteLogs$Kind;", true)
  | 1 => ("VoteLogs$Message", "transfer", "I", true)
  | _ => ("VoteLogs$Message", "store", "I", true)
def tyX6 : Nat → FieldType := fun k => match k with
  | 0 => .object "VoteLogs$Kind"
  | 1 => .int
  | _ => .int
abbrev wsX60 : List Cond := u_ws RX6 TX6 3
theorem nmX6 : ∀ a, a < 3 → ∀ b, b < 3 → a ≠ b → (TX6 a).2.1 ≠ (TX6 b).2.1 := by decide +kernel
theorem tyX6_ok : ∀ k, k < 3 → parseFieldDescriptor (TX6 k).2.2.1 = some (tyX6 k) := by decide +kernel
abbrev cX6_receiver : ByteArray := prog_13_method_2_code
def yX6_receiver : MethodName := ⟨RX6, "receiver", "()I"⟩
def dkwX6_receiver_0 : List UInt8 := [42, 180, 0, 9, 180, 0, 22, 153, 0, 10, 42, 180, 0, 19, 167, 0, 4, 7, 172]
abbrev dktX6_receiver_0 : List UInt8 := dkwX6_receiver_0 ++ []
theorem dksX6_receiver_0 : cX6_receiver.data.toList.drop 0 = dktX6_receiver_0 := by decide +kernel
theorem dX6_receiver_0 : decode cX6_receiver 0 = .ok (.aload_n 0, 1) := dk_42 (dk_at dksX6_receiver_0 0 rfl rfl)
theorem dX6_receiver_1 : decode cX6_receiver 1 = .ok (.getfield 9, 3) := dk_180 0 9 (dk_at dksX6_receiver_0 1 rfl rfl)
theorem dX6_receiver_4 : decode cX6_receiver 4 = .ok (.getfield 22, 3) := dk_180 0 22 (dk_at dksX6_receiver_0 4 rfl rfl)
theorem dX6_receiver_7 : decode cX6_receiver 7 = .ok (.ifCond .eq 10, 3) := dk_153 0 10 (dk_at dksX6_receiver_0 7 rfl rfl)
theorem dX6_receiver_10 : decode cX6_receiver 10 = .ok (.aload_n 0, 1) := dk_42 (dk_at dksX6_receiver_0 10 rfl rfl)
theorem dX6_receiver_11 : decode cX6_receiver 11 = .ok (.getfield 19, 3) := dk_180 0 19 (dk_at dksX6_receiver_0 11 rfl rfl)
theorem dX6_receiver_14 : decode cX6_receiver 14 = .ok (.goto 4, 3) := dk_167 0 4 (dk_at dksX6_receiver_0 14 rfl rfl)
theorem dX6_receiver_17 : decode cX6_receiver 17 = .ok (.iconst 4, 1) := dk_7 (dk_at dksX6_receiver_0 17 rfl rfl)
theorem dX6_receiver_18 : decode cX6_receiver 18 = .ok (.ireturn, 1) := dk_172 (dk_at dksX6_receiver_0 18 rfl rfl)
abbrev cX6_init : ByteArray := prog_13_method_1_code
def yX6_init : MethodName := ⟨RX6, "<init>", "(LVoteLogs$Kind;II)V"⟩
def dkwX6_init_0 : List UInt8 := [42, 183, 0, 3, 42, 43, 181, 0, 9, 42, 28, 181, 0, 15, 42, 29, 181, 0, 19, 177]
abbrev dktX6_init_0 : List UInt8 := dkwX6_init_0 ++ []
theorem dksX6_init_0 : cX6_init.data.toList.drop 0 = dktX6_init_0 := by decide +kernel
theorem dX6_init_0 : decode cX6_init 0 = .ok (.aload_n 0, 1) := dk_42 (dk_at dksX6_init_0 0 rfl rfl)
theorem dX6_init_1 : decode cX6_init 1 = .ok (.invokespecial 3, 3) := dk_183 0 3 (dk_at dksX6_init_0 1 rfl rfl)
theorem dX6_init_4 : decode cX6_init 4 = .ok (.aload_n 0, 1) := dk_42 (dk_at dksX6_init_0 4 rfl rfl)
theorem dX6_init_5 : decode cX6_init 5 = .ok (.aload_n 1, 1) := dk_43 (dk_at dksX6_init_0 5 rfl rfl)
theorem dX6_init_6 : decode cX6_init 6 = .ok (.putfield 9, 3) := dk_181 0 9 (dk_at dksX6_init_0 6 rfl rfl)
theorem dX6_init_9 : decode cX6_init 9 = .ok (.aload_n 0, 1) := dk_42 (dk_at dksX6_init_0 9 rfl rfl)
theorem dX6_init_10 : decode cX6_init 10 = .ok (.iload_n 2, 1) := dk_28 (dk_at dksX6_init_0 10 rfl rfl)
theorem dX6_init_11 : decode cX6_init 11 = .ok (.putfield 15, 3) := dk_181 0 15 (dk_at dksX6_init_0 11 rfl rfl)
theorem dX6_init_14 : decode cX6_init 14 = .ok (.aload_n 0, 1) := dk_42 (dk_at dksX6_init_0 14 rfl rfl)
theorem dX6_init_15 : decode cX6_init 15 = .ok (.iload_n 3, 1) := dk_29 (dk_at dksX6_init_0 15 rfl rfl)
theorem dX6_init_16 : decode cX6_init 16 = .ok (.putfield 19, 3) := dk_181 0 19 (dk_at dksX6_init_0 16 rfl rfl)
theorem dX6_init_19 : decode cX6_init 19 = .ok (.return_, 1) := dk_177 (dk_at dksX6_init_0 19 rfl rfl)
theorem q122 : (Jvm.Cond.initialized "VoteLogs$Message") ∈ lw_all := lw_g (lw_at lw_m1 33 rfl) rfl
theorem q272 : (Jvm.Cond.selects "VoteLogs$Message" ({ cls := "java/lang/Object", name := "getClass", desc := "()Ljava/lang/Class;" } : Jvm.MethodName) ({ cls := "java/lang/Object", name := "getClass", desc := "()Ljava/lang/Class;" } : Jvm.MethodName)) ∈ lw_all := lw_g (lw_at lw_m1 183 rfl) rfl
theorem q829 : (Jvm.Cond.instanceMethod ({ cls := "VoteLogs$Message", name := "receiver", desc := "()I" } : Jvm.MethodName)) ∈ lw_all := lw_g (lw_at lw_m4 20 rfl) rfl
theorem q830 : (Jvm.Cond.selects "VoteLogs$Message" ({ cls := "VoteLogs$Message", name := "receiver", desc := "()I" } : Jvm.MethodName) ({ cls := "VoteLogs$Message", name := "receiver", desc := "()I" } : Jvm.MethodName)) ∈ lw_all := lw_g (lw_at lw_m4 21 rfl) rfl
theorem q831 : (Jvm.Cond.code ({ cls := "VoteLogs$Message", name := "receiver", desc := "()I" } : Jvm.MethodName) prog_13_method_2_code (1 : Nat) (Option.some Jvm.ClassFile.FieldType.int)) ∈ lw_all := lw_g (lw_at lw_m4 22 rfl) rfl
theorem q924 : (Jvm.Cond.instantiable "VoteLogs$Message" (3 : Nat)) ∈ lw_all := lw_g (lw_at lw_m4 115 rfl) rfl
theorem q926 : (Jvm.Cond.instanceMethod ({ cls := "VoteLogs$Message", name := "<init>", desc := "(LVoteLogs$Kind;II)V" } : Jvm.MethodName)) ∈ lw_all := lw_g (lw_at lw_m4 117 rfl) rfl
theorem q927 : (Jvm.Cond.code ({ cls := "VoteLogs$Message", name := "<init>", desc := "(LVoteLogs$Kind;II)V" } : Jvm.MethodName) prog_13_method_1_code (4 : Nat) (Option.none : Option Jvm.ClassFile.FieldType)) ∈ lw_all := lw_g (lw_at lw_m4 118 rfl) rfl
theorem q928 : (Jvm.Cond.methodLink "VoteLogs$Message" (3 : Nat) ({ cls := "java/lang/Object", name := "<init>", desc := "()V" } : Jvm.MethodName)) ∈ lw_all := lw_g (lw_at lw_m4 119 rfl) rfl
theorem q929 : (Jvm.Cond.fieldLink "VoteLogs$Message" (9 : Nat) "VoteLogs$Message" "kind" "LVoteLogs$Kind;") ∈ lw_all := lw_g (lw_at lw_m4 120 rfl) rfl
theorem q932 : (Jvm.Cond.fieldLink "VoteLogs$Message" (15 : Nat) "VoteLogs$Message" "transfer" "I") ∈ lw_all := lw_g (lw_at lw_m4 123 rfl) rfl
theorem q935 : (Jvm.Cond.fieldLink "VoteLogs$Message" (19 : Nat) "VoteLogs$Message" "store" "I") ∈ lw_all := lw_g (lw_at lw_m4 126 rfl) rfl
theorem q938 : (Jvm.Cond.laysFinal "VoteLogs$Message" "VoteLogs$Message" "kind" "LVoteLogs$Kind;") ∈ lw_all := lw_g (lw_at lw_m4 129 rfl) rfl
theorem q939 : (Jvm.Cond.soleField "VoteLogs$Message" "kind") ∈ lw_all := lw_g (lw_at lw_m4 130 rfl) rfl
theorem q940 : (Jvm.Cond.laysFinal "VoteLogs$Message" "VoteLogs$Message" "transfer" "I") ∈ lw_all := lw_g (lw_at lw_m4 131 rfl) rfl
theorem q941 : (Jvm.Cond.soleField "VoteLogs$Message" "transfer") ∈ lw_all := lw_g (lw_at lw_m4 132 rfl) rfl
theorem q942 : (Jvm.Cond.laysFinal "VoteLogs$Message" "VoteLogs$Message" "store" "I") ∈ lw_all := lw_g (lw_at lw_m4 133 rfl) rfl
theorem q943 : (Jvm.Cond.soleField "VoteLogs$Message" "store") ∈ lw_all := lw_g (lw_at lw_m4 134 rfl) rfl
theorem q944 : (Jvm.Cond.superclass "VoteLogs$Message" "java/lang/Object") ∈ lw_all := lw_g (lw_at lw_m4 135 rfl) rfl
theorem q2307 : (Jvm.Cond.castable "VoteLogs$Message" "java/lang/Object") ∈ lw_tbl := lw_at lw_m10 58 rfl
theorem q2326 : (Jvm.Cond.fieldLinkNest "VoteLogs$Message" (22 : Nat) "VoteLogs$Kind" "isToStore" "Z" "VoteLogs") ∈ lw_tbl := lw_at lw_m10 77 rfl
theorem in_X6 : ∀ w ∈ wsX60, w ∈ lw_all := lw_in wsX60 [938, 940, 942] (by decide +kernel) (by decide +kernel)
/-! VoteLogs$Reader -/
set_option maxRecDepth 100000
def RX7 : String := "VoteLogs$Reader"
def TX7 : u_T := fun k => match k with
  | 0 => ("VoteLogs$Reader", "parts", "Ljava/util/List;", true)
  | 1 => ("VoteLogs$Reader", "at", "I", false)
  | 2 => ("VoteLogs$Reader", "isWhole", "Z", false)
  | _ => ("VoteLogs$Reader", "this$0", "LVoteLogs;", true)
def tyX7 : Nat → FieldType := fun k => match k with
  | 0 => .object "java/util/List"
  | 1 => .int
  | 2 => .boolean
  | _ => .object "VoteLogs"
abbrev wsX70 : List Cond := u_ws RX7 TX7 4
theorem nmX7 : ∀ a, a < 4 → ∀ b, b < 4 → a ≠ b → (TX7 a).2.1 ≠ (TX7 b).2.1 := by decide +kernel
theorem tyX7_ok : ∀ k, k < 4 → parseFieldDescriptor (TX7 k).2.2.1 = some (tyX7 k) := by decide +kernel
abbrev cX7_init : ByteArray := prog_15_method_1_code
def yX7_init : MethodName := ⟨RX7, "<init>", "(LVoteLogs;)V"⟩
def dkwX7_init_0 : List UInt8 := [42, 43, 181, 0, 3, 42, 183, 0, 9, 42, 187, 0, 15, 89, 183, 0, 17, 181, 0, 18, 177]
abbrev dktX7_init_0 : List UInt8 := dkwX7_init_0 ++ []
theorem dksX7_init_0 : cX7_init.data.toList.drop 0 = dktX7_init_0 := by decide +kernel
theorem dX7_init_0 : decode cX7_init 0 = .ok (.aload_n 0, 1) := dk_42 (dk_at dksX7_init_0 0 rfl rfl)
theorem dX7_init_1 : decode cX7_init 1 = .ok (.aload_n 1, 1) := dk_43 (dk_at dksX7_init_0 1 rfl rfl)
theorem dX7_init_2 : decode cX7_init 2 = .ok (.putfield 3, 3) := dk_181 0 3 (dk_at dksX7_init_0 2 rfl rfl)
theorem dX7_init_5 : decode cX7_init 5 = .ok (.aload_n 0, 1) := dk_42 (dk_at dksX7_init_0 5 rfl rfl)
theorem dX7_init_6 : decode cX7_init 6 = .ok (.invokespecial 9, 3) := dk_183 0 9 (dk_at dksX7_init_0 6 rfl rfl)
theorem dX7_init_9 : decode cX7_init 9 = .ok (.aload_n 0, 1) := dk_42 (dk_at dksX7_init_0 9 rfl rfl)
theorem dX7_init_10 : decode cX7_init 10 = .ok (.new 15, 3) := dk_187 0 15 (dk_at dksX7_init_0 10 rfl rfl)
theorem dX7_init_13 : decode cX7_init 13 = .ok (.dup, 1) := dk_89 (dk_at dksX7_init_0 13 rfl rfl)
theorem dX7_init_14 : decode cX7_init 14 = .ok (.invokespecial 17, 3) := dk_183 0 17 (dk_at dksX7_init_0 14 rfl rfl)
theorem dX7_init_17 : decode cX7_init 17 = .ok (.putfield 18, 3) := dk_181 0 18 (dk_at dksX7_init_0 17 rfl rfl)
theorem dX7_init_20 : decode cX7_init 20 = .ok (.return_, 1) := dk_177 (dk_at dksX7_init_0 20 rfl rfl)
abbrev cX7_reads : ByteArray := prog_15_method_2_code
def yX7_reads : MethodName := ⟨RX7, "reads", "()LVoteLogs$Reader;"⟩
def dkwX7_reads_2 : List UInt8 := [160, 0, 7, 4, 167, 0, 4, 3, 181, 0, 44, 42, 176]
abbrev dktX7_reads_2 : List UInt8 := dkwX7_reads_2 ++ []
def dkwX7_reads_1 : List UInt8 := [60, 167, 255, 236, 42, 27, 153, 0, 24, 42, 180, 0, 30, 42, 180, 0, 3, 180, 0, 34, 182, 0, 38]
abbrev dktX7_reads_1 : List UInt8 := dkwX7_reads_1 ++ dktX7_reads_2
def dkwX7_reads_0 : List UInt8 := [42, 182, 0, 22, 60, 27, 153, 0, 22, 42, 16, 59, 16, 59, 182, 0, 26, 154, 0, 11, 42, 182, 0, 22]
abbrev dktX7_reads_0 : List UInt8 := dkwX7_reads_0 ++ dktX7_reads_1
theorem dksX7_reads_0 : cX7_reads.data.toList.drop 0 = dktX7_reads_0 := by decide +kernel
theorem dksX7_reads_1 : cX7_reads.data.toList.drop 24 = dktX7_reads_1 := dk_seg dksX7_reads_0 24 rfl rfl
theorem dksX7_reads_2 : cX7_reads.data.toList.drop 47 = dktX7_reads_2 := dk_seg dksX7_reads_1 23 rfl rfl
theorem dX7_reads_0 : decode cX7_reads 0 = .ok (.aload_n 0, 1) := dk_42 (dk_at dksX7_reads_0 0 rfl rfl)
theorem dX7_reads_1 : decode cX7_reads 1 = .ok (.invokevirtual 22, 3) := dk_182 0 22 (dk_at dksX7_reads_0 1 rfl rfl)
theorem dX7_reads_4 : decode cX7_reads 4 = .ok (.istore_n 1, 1) := dk_60 (dk_at dksX7_reads_0 4 rfl rfl)
theorem dX7_reads_5 : decode cX7_reads 5 = .ok (.iload_n 1, 1) := dk_27 (dk_at dksX7_reads_0 5 rfl rfl)
theorem dX7_reads_6 : decode cX7_reads 6 = .ok (.ifCond .eq 22, 3) := dk_153 0 22 (dk_at dksX7_reads_0 6 rfl rfl)
theorem dX7_reads_9 : decode cX7_reads 9 = .ok (.aload_n 0, 1) := dk_42 (dk_at dksX7_reads_0 9 rfl rfl)
theorem dX7_reads_10 : decode cX7_reads 10 = .ok (.bipush 59, 2) := dk_16 59 (dk_at dksX7_reads_0 10 rfl rfl)
theorem dX7_reads_12 : decode cX7_reads 12 = .ok (.bipush 59, 2) := dk_16 59 (dk_at dksX7_reads_0 12 rfl rfl)
theorem dX7_reads_14 : decode cX7_reads 14 = .ok (.invokevirtual 26, 3) := dk_182 0 26 (dk_at dksX7_reads_0 14 rfl rfl)
theorem dX7_reads_17 : decode cX7_reads 17 = .ok (.ifCond .ne 11, 3) := dk_154 0 11 (dk_at dksX7_reads_0 17 rfl rfl)
theorem dX7_reads_20 : decode cX7_reads 20 = .ok (.aload_n 0, 1) := dk_42 (dk_at dksX7_reads_0 20 rfl rfl)
theorem dX7_reads_21 : decode cX7_reads 21 = .ok (.invokevirtual 22, 3) := dk_182 0 22 (dk_at dksX7_reads_0 21 rfl rfl)
theorem dX7_reads_24 : decode cX7_reads 24 = .ok (.istore_n 1, 1) := dk_60 (dk_at dksX7_reads_1 0 rfl rfl)
theorem dX7_reads_25 : decode cX7_reads 25 = .ok (.goto (-20), 3) := dk_167 255 236 (dk_at dksX7_reads_1 1 rfl rfl)
theorem dX7_reads_28 : decode cX7_reads 28 = .ok (.aload_n 0, 1) := dk_42 (dk_at dksX7_reads_1 4 rfl rfl)
theorem dX7_reads_29 : decode cX7_reads 29 = .ok (.iload_n 1, 1) := dk_27 (dk_at dksX7_reads_1 5 rfl rfl)
theorem dX7_reads_30 : decode cX7_reads 30 = .ok (.ifCond .eq 24, 3) := dk_153 0 24 (dk_at dksX7_reads_1 6 rfl rfl)
theorem dX7_reads_33 : decode cX7_reads 33 = .ok (.aload_n 0, 1) := dk_42 (dk_at dksX7_reads_1 9 rfl rfl)
theorem dX7_reads_34 : decode cX7_reads 34 = .ok (.getfield 30, 3) := dk_180 0 30 (dk_at dksX7_reads_1 10 rfl rfl)
theorem dX7_reads_37 : decode cX7_reads 37 = .ok (.aload_n 0, 1) := dk_42 (dk_at dksX7_reads_1 13 rfl rfl)
theorem dX7_reads_38 : decode cX7_reads 38 = .ok (.getfield 3, 3) := dk_180 0 3 (dk_at dksX7_reads_1 14 rfl rfl)
theorem dX7_reads_41 : decode cX7_reads 41 = .ok (.getfield 34, 3) := dk_180 0 34 (dk_at dksX7_reads_1 17 rfl rfl)
theorem dX7_reads_44 : decode cX7_reads 44 = .ok (.invokevirtual 38, 3) := dk_182 0 38 (dk_at dksX7_reads_1 20 rfl rfl)
theorem dX7_reads_47 : decode cX7_reads 47 = .ok (.if_icmp .ne 7, 3) := dk_160 0 7 (dk_at dksX7_reads_2 0 rfl rfl)
theorem dX7_reads_50 : decode cX7_reads 50 = .ok (.iconst 1, 1) := dk_4 (dk_at dksX7_reads_2 3 rfl rfl)
theorem dX7_reads_51 : decode cX7_reads 51 = .ok (.goto 4, 3) := dk_167 0 4 (dk_at dksX7_reads_2 4 rfl rfl)
theorem dX7_reads_54 : decode cX7_reads 54 = .ok (.iconst 0, 1) := dk_3 (dk_at dksX7_reads_2 7 rfl rfl)
theorem dX7_reads_55 : decode cX7_reads 55 = .ok (.putfield 44, 3) := dk_181 0 44 (dk_at dksX7_reads_2 8 rfl rfl)
theorem dX7_reads_58 : decode cX7_reads 58 = .ok (.aload_n 0, 1) := dk_42 (dk_at dksX7_reads_2 11 rfl rfl)
theorem dX7_reads_59 : decode cX7_reads 59 = .ok (.areturn, 1) := dk_176 (dk_at dksX7_reads_2 12 rfl rfl)
abbrev cX7_part : ByteArray := prog_15_method_5_code
def yX7_part : MethodName := ⟨RX7, "part", "()Z"⟩
def dkwX7_part_6 : List UInt8 := [42, 182, 0, 63, 167, 0, 4, 3, 172]
abbrev dktX7_part_6 : List UInt8 := dkwX7_part_6 ++ []
def dkwX7_part_5 : List UInt8 := [42, 27, 16, 48, 16, 52, 182, 0, 59, 167, 0, 23, 42, 27, 16, 48, 16, 55, 182, 0, 59, 167, 0, 11]
abbrev dktX7_part_5 : List UInt8 := dkwX7_part_5 ++ dktX7_part_6
def dkwX7_part_4 : List UInt8 := [42, 27, 16, 49, 16, 57, 182, 0, 59, 167, 0, 47, 42, 27, 16, 48, 16, 57, 182, 0, 59, 167, 0, 35]
abbrev dktX7_part_4 : List UInt8 := dkwX7_part_4 ++ dktX7_part_5
def dkwX7_part_3 : List UInt8 := [170, 0, 0, 0, 0, 133, 0, 0, 0, 99, 0, 0, 0, 114, 0, 0, 0, 102, 0, 0, 0, 78, 0, 0, 0, 133, 0, 0, 0, 133, 0, 0, 0, 114, 0, 0, 0, 133, 0, 0, 0, 133, 0, 0, 0, 133, 0, 0, 0, 133, 0, 0, 0, 90, 0, 0, 0, 133, 0, 0, 0, 133, 0, 0, 0, 133, 0, 0, 0, 133, 0, 0, 0, 126, 0, 0, 0, 102]
abbrev dktX7_part_3 : List UInt8 := dkwX7_part_3 ++ dktX7_part_4
def dkwX7_part_2 : List UInt8 := [167, 0, 5, 16, 32, 60, 27]
abbrev dktX7_part_2 : List UInt8 := dkwX7_part_2 ++ dktX7_part_3
def dkwX7_part_1 : List UInt8 := [180, 0, 34, 182, 0, 38, 162, 0, 20, 42, 180, 0, 3, 180, 0, 34, 42, 180, 0, 30, 182, 0, 48]
abbrev dktX7_part_1 : List UInt8 := dkwX7_part_1 ++ dktX7_part_2
def dkwX7_part_0 : List UInt8 := [42, 16, 98, 16, 98, 182, 0, 26, 154, 0, 8, 42, 182, 0, 56, 172, 42, 180, 0, 30, 42, 180, 0, 3]
abbrev dktX7_part_0 : List UInt8 := dkwX7_part_0 ++ dktX7_part_1
theorem dksX7_part_0 : cX7_part.data.toList.drop 0 = dktX7_part_0 := by decide +kernel
theorem dksX7_part_1 : cX7_part.data.toList.drop 24 = dktX7_part_1 := dk_seg dksX7_part_0 24 rfl rfl
theorem dksX7_part_2 : cX7_part.data.toList.drop 47 = dktX7_part_2 := dk_seg dksX7_part_1 23 rfl rfl
theorem dksX7_part_3 : cX7_part.data.toList.drop 54 = dktX7_part_3 := dk_seg dksX7_part_2 7 rfl rfl
theorem dksX7_part_4 : cX7_part.data.toList.drop 132 = dktX7_part_4 := dk_seg dksX7_part_3 78 rfl rfl
theorem dksX7_part_5 : cX7_part.data.toList.drop 156 = dktX7_part_5 := dk_seg dksX7_part_4 24 rfl rfl
theorem dksX7_part_6 : cX7_part.data.toList.drop 180 = dktX7_part_6 := dk_seg dksX7_part_5 24 rfl rfl
theorem dX7_part_0 : decode cX7_part 0 = .ok (.aload_n 0, 1) := dk_42 (dk_at dksX7_part_0 0 rfl rfl)
theorem dX7_part_1 : decode cX7_part 1 = .ok (.bipush 98, 2) := dk_16 98 (dk_at dksX7_part_0 1 rfl rfl)
theorem dX7_part_3 : decode cX7_part 3 = .ok (.bipush 98, 2) := dk_16 98 (dk_at dksX7_part_0 3 rfl rfl)
theorem dX7_part_5 : decode cX7_part 5 = .ok (.invokevirtual 26, 3) := dk_182 0 26 (dk_at dksX7_part_0 5 rfl rfl)
theorem dX7_part_8 : decode cX7_part 8 = .ok (.ifCond .ne 8, 3) := dk_154 0 8 (dk_at dksX7_part_0 8 rfl rfl)
theorem dX7_part_11 : decode cX7_part 11 = .ok (.aload_n 0, 1) := dk_42 (dk_at dksX7_part_0 11 rfl rfl)
theorem dX7_part_12 : decode cX7_part 12 = .ok (.invokevirtual 56, 3) := dk_182 0 56 (dk_at dksX7_part_0 12 rfl rfl)
theorem dX7_part_15 : decode cX7_part 15 = .ok (.ireturn, 1) := dk_172 (dk_at dksX7_part_0 15 rfl rfl)
theorem dX7_part_16 : decode cX7_part 16 = .ok (.aload_n 0, 1) := dk_42 (dk_at dksX7_part_0 16 rfl rfl)
theorem dX7_part_17 : decode cX7_part 17 = .ok (.getfield 30, 3) := dk_180 0 30 (dk_at dksX7_part_0 17 rfl rfl)
theorem dX7_part_20 : decode cX7_part 20 = .ok (.aload_n 0, 1) := dk_42 (dk_at dksX7_part_0 20 rfl rfl)
theorem dX7_part_21 : decode cX7_part 21 = .ok (.getfield 3, 3) := dk_180 0 3 (dk_at dksX7_part_0 21 rfl rfl)
theorem dX7_part_24 : decode cX7_part 24 = .ok (.getfield 34, 3) := dk_180 0 34 (dk_at dksX7_part_1 0 rfl rfl)
theorem dX7_part_27 : decode cX7_part 27 = .ok (.invokevirtual 38, 3) := dk_182 0 38 (dk_at dksX7_part_1 3 rfl rfl)
theorem dX7_part_30 : decode cX7_part 30 = .ok (.if_icmp .ge 20, 3) := dk_162 0 20 (dk_at dksX7_part_1 6 rfl rfl)
theorem dX7_part_33 : decode cX7_part 33 = .ok (.aload_n 0, 1) := dk_42 (dk_at dksX7_part_1 9 rfl rfl)
theorem dX7_part_34 : decode cX7_part 34 = .ok (.getfield 3, 3) := dk_180 0 3 (dk_at dksX7_part_1 10 rfl rfl)
theorem dX7_part_37 : decode cX7_part 37 = .ok (.getfield 34, 3) := dk_180 0 34 (dk_at dksX7_part_1 13 rfl rfl)
theorem dX7_part_40 : decode cX7_part 40 = .ok (.aload_n 0, 1) := dk_42 (dk_at dksX7_part_1 16 rfl rfl)
theorem dX7_part_41 : decode cX7_part 41 = .ok (.getfield 30, 3) := dk_180 0 30 (dk_at dksX7_part_1 17 rfl rfl)
theorem dX7_part_44 : decode cX7_part 44 = .ok (.invokevirtual 48, 3) := dk_182 0 48 (dk_at dksX7_part_1 20 rfl rfl)
theorem dX7_part_47 : decode cX7_part 47 = .ok (.goto 5, 3) := dk_167 0 5 (dk_at dksX7_part_2 0 rfl rfl)
theorem dX7_part_50 : decode cX7_part 50 = .ok (.bipush 32, 2) := dk_16 32 (dk_at dksX7_part_2 3 rfl rfl)
theorem dX7_part_52 : decode cX7_part 52 = .ok (.istore_n 1, 1) := dk_60 (dk_at dksX7_part_2 5 rfl rfl)
theorem dX7_part_53 : decode cX7_part 53 = .ok (.iload_n 1, 1) := dk_27 (dk_at dksX7_part_2 6 rfl rfl)
theorem dX7_part_54 : decode cX7_part 54 = .ok (.tableswitch 133 99 114 #[102, 78, 133, 133, 114, 133, 133, 133, 133, 90, 133, 133, 133, 133, 126, 102], 78) := by decide +kernel
theorem dX7_part_132 : decode cX7_part 132 = .ok (.aload_n 0, 1) := dk_42 (dk_at dksX7_part_4 0 rfl rfl)
theorem dX7_part_133 : decode cX7_part 133 = .ok (.iload_n 1, 1) := dk_27 (dk_at dksX7_part_4 1 rfl rfl)
theorem dX7_part_134 : decode cX7_part 134 = .ok (.bipush 49, 2) := dk_16 49 (dk_at dksX7_part_4 2 rfl rfl)
theorem dX7_part_136 : decode cX7_part 136 = .ok (.bipush 57, 2) := dk_16 57 (dk_at dksX7_part_4 4 rfl rfl)
theorem dX7_part_138 : decode cX7_part 138 = .ok (.invokevirtual 59, 3) := dk_182 0 59 (dk_at dksX7_part_4 6 rfl rfl)
theorem dX7_part_141 : decode cX7_part 141 = .ok (.goto 47, 3) := dk_167 0 47 (dk_at dksX7_part_4 9 rfl rfl)
theorem dX7_part_144 : decode cX7_part 144 = .ok (.aload_n 0, 1) := dk_42 (dk_at dksX7_part_4 12 rfl rfl)
theorem dX7_part_145 : decode cX7_part 145 = .ok (.iload_n 1, 1) := dk_27 (dk_at dksX7_part_4 13 rfl rfl)
theorem dX7_part_146 : decode cX7_part 146 = .ok (.bipush 48, 2) := dk_16 48 (dk_at dksX7_part_4 14 rfl rfl)
theorem dX7_part_148 : decode cX7_part 148 = .ok (.bipush 57, 2) := dk_16 57 (dk_at dksX7_part_4 16 rfl rfl)
theorem dX7_part_150 : decode cX7_part 150 = .ok (.invokevirtual 59, 3) := dk_182 0 59 (dk_at dksX7_part_4 18 rfl rfl)
theorem dX7_part_153 : decode cX7_part 153 = .ok (.goto 35, 3) := dk_167 0 35 (dk_at dksX7_part_4 21 rfl rfl)
theorem dX7_part_156 : decode cX7_part 156 = .ok (.aload_n 0, 1) := dk_42 (dk_at dksX7_part_5 0 rfl rfl)
theorem dX7_part_157 : decode cX7_part 157 = .ok (.iload_n 1, 1) := dk_27 (dk_at dksX7_part_5 1 rfl rfl)
theorem dX7_part_158 : decode cX7_part 158 = .ok (.bipush 48, 2) := dk_16 48 (dk_at dksX7_part_5 2 rfl rfl)
theorem dX7_part_160 : decode cX7_part 160 = .ok (.bipush 52, 2) := dk_16 52 (dk_at dksX7_part_5 4 rfl rfl)
theorem dX7_part_162 : decode cX7_part 162 = .ok (.invokevirtual 59, 3) := dk_182 0 59 (dk_at dksX7_part_5 6 rfl rfl)
theorem dX7_part_165 : decode cX7_part 165 = .ok (.goto 23, 3) := dk_167 0 23 (dk_at dksX7_part_5 9 rfl rfl)
theorem dX7_part_168 : decode cX7_part 168 = .ok (.aload_n 0, 1) := dk_42 (dk_at dksX7_part_5 12 rfl rfl)
theorem dX7_part_169 : decode cX7_part 169 = .ok (.iload_n 1, 1) := dk_27 (dk_at dksX7_part_5 13 rfl rfl)
theorem dX7_part_170 : decode cX7_part 170 = .ok (.bipush 48, 2) := dk_16 48 (dk_at dksX7_part_5 14 rfl rfl)
theorem dX7_part_172 : decode cX7_part 172 = .ok (.bipush 55, 2) := dk_16 55 (dk_at dksX7_part_5 16 rfl rfl)
theorem dX7_part_174 : decode cX7_part 174 = .ok (.invokevirtual 59, 3) := dk_182 0 59 (dk_at dksX7_part_5 18 rfl rfl)
theorem dX7_part_177 : decode cX7_part 177 = .ok (.goto 11, 3) := dk_167 0 11 (dk_at dksX7_part_5 21 rfl rfl)
theorem dX7_part_180 : decode cX7_part 180 = .ok (.aload_n 0, 1) := dk_42 (dk_at dksX7_part_6 0 rfl rfl)
theorem dX7_part_181 : decode cX7_part 181 = .ok (.invokevirtual 63, 3) := dk_182 0 63 (dk_at dksX7_part_6 1 rfl rfl)
theorem dX7_part_184 : decode cX7_part 184 = .ok (.goto 4, 3) := dk_167 0 4 (dk_at dksX7_part_6 4 rfl rfl)
theorem dX7_part_187 : decode cX7_part 187 = .ok (.iconst 0, 1) := dk_3 (dk_at dksX7_part_6 7 rfl rfl)
theorem dX7_part_188 : decode cX7_part 188 = .ok (.ireturn, 1) := dk_172 (dk_at dksX7_part_6 8 rfl rfl)
abbrev cX7_next : ByteArray := prog_15_method_4_code
def yX7_next : MethodName := ⟨RX7, "next", "(CC)I"⟩
def dkwX7_next_1 : List UInt8 := [180, 0, 3, 180, 0, 34, 42, 180, 0, 30, 4, 100, 182, 0, 48, 27, 100, 172]
abbrev dktX7_next_1 : List UInt8 := dkwX7_next_1 ++ []
def dkwX7_next_0 : List UInt8 := [42, 27, 28, 182, 0, 52, 154, 0, 5, 2, 172, 42, 89, 180, 0, 30, 4, 96, 181, 0, 30, 42]
abbrev dktX7_next_0 : List UInt8 := dkwX7_next_0 ++ dktX7_next_1
theorem dksX7_next_0 : cX7_next.data.toList.drop 0 = dktX7_next_0 := by decide +kernel
theorem dksX7_next_1 : cX7_next.data.toList.drop 22 = dktX7_next_1 := dk_seg dksX7_next_0 22 rfl rfl
theorem dX7_next_0 : decode cX7_next 0 = .ok (.aload_n 0, 1) := dk_42 (dk_at dksX7_next_0 0 rfl rfl)
theorem dX7_next_1 : decode cX7_next 1 = .ok (.iload_n 1, 1) := dk_27 (dk_at dksX7_next_0 1 rfl rfl)
theorem dX7_next_2 : decode cX7_next 2 = .ok (.iload_n 2, 1) := dk_28 (dk_at dksX7_next_0 2 rfl rfl)
theorem dX7_next_3 : decode cX7_next 3 = .ok (.invokevirtual 52, 3) := dk_182 0 52 (dk_at dksX7_next_0 3 rfl rfl)
theorem dX7_next_6 : decode cX7_next 6 = .ok (.ifCond .ne 5, 3) := dk_154 0 5 (dk_at dksX7_next_0 6 rfl rfl)
theorem dX7_next_9 : decode cX7_next 9 = .ok (.iconst (-1), 1) := dk_2 (dk_at dksX7_next_0 9 rfl rfl)
theorem dX7_next_10 : decode cX7_next 10 = .ok (.ireturn, 1) := dk_172 (dk_at dksX7_next_0 10 rfl rfl)
theorem dX7_next_11 : decode cX7_next 11 = .ok (.aload_n 0, 1) := dk_42 (dk_at dksX7_next_0 11 rfl rfl)
theorem dX7_next_12 : decode cX7_next 12 = .ok (.dup, 1) := dk_89 (dk_at dksX7_next_0 12 rfl rfl)
theorem dX7_next_13 : decode cX7_next 13 = .ok (.getfield 30, 3) := dk_180 0 30 (dk_at dksX7_next_0 13 rfl rfl)
theorem dX7_next_16 : decode cX7_next 16 = .ok (.iconst 1, 1) := dk_4 (dk_at dksX7_next_0 16 rfl rfl)
theorem dX7_next_17 : decode cX7_next 17 = .ok (.iadd, 1) := dk_96 (dk_at dksX7_next_0 17 rfl rfl)
theorem dX7_next_18 : decode cX7_next 18 = .ok (.putfield 30, 3) := dk_181 0 30 (dk_at dksX7_next_0 18 rfl rfl)
theorem dX7_next_21 : decode cX7_next 21 = .ok (.aload_n 0, 1) := dk_42 (dk_at dksX7_next_0 21 rfl rfl)
theorem dX7_next_22 : decode cX7_next 22 = .ok (.getfield 3, 3) := dk_180 0 3 (dk_at dksX7_next_1 0 rfl rfl)
theorem dX7_next_25 : decode cX7_next 25 = .ok (.getfield 34, 3) := dk_180 0 34 (dk_at dksX7_next_1 3 rfl rfl)
theorem dX7_next_28 : decode cX7_next 28 = .ok (.aload_n 0, 1) := dk_42 (dk_at dksX7_next_1 6 rfl rfl)
theorem dX7_next_29 : decode cX7_next 29 = .ok (.getfield 30, 3) := dk_180 0 30 (dk_at dksX7_next_1 7 rfl rfl)
theorem dX7_next_32 : decode cX7_next 32 = .ok (.iconst 1, 1) := dk_4 (dk_at dksX7_next_1 10 rfl rfl)
theorem dX7_next_33 : decode cX7_next 33 = .ok (.isub, 1) := dk_100 (dk_at dksX7_next_1 11 rfl rfl)
theorem dX7_next_34 : decode cX7_next 34 = .ok (.invokevirtual 48, 3) := dk_182 0 48 (dk_at dksX7_next_1 12 rfl rfl)
theorem dX7_next_37 : decode cX7_next 37 = .ok (.iload_n 1, 1) := dk_27 (dk_at dksX7_next_1 15 rfl rfl)
theorem dX7_next_38 : decode cX7_next 38 = .ok (.isub, 1) := dk_100 (dk_at dksX7_next_1 16 rfl rfl)
theorem dX7_next_39 : decode cX7_next 39 = .ok (.ireturn, 1) := dk_172 (dk_at dksX7_next_1 17 rfl rfl)
abbrev cX7_sees : ByteArray := prog_15_method_3_code
def yX7_sees : MethodName := ⟨RX7, "sees", "(CC)Z"⟩
def dkwX7_sees_2 : List UInt8 := [182, 0, 48, 28, 163, 0, 7, 4, 167, 0, 4, 3, 172]
abbrev dktX7_sees_2 : List UInt8 := dkwX7_sees_2 ++ []
def dkwX7_sees_1 : List UInt8 := [42, 180, 0, 30, 182, 0, 48, 27, 161, 0, 25, 42, 180, 0, 3, 180, 0, 34, 42, 180, 0, 30]
abbrev dktX7_sees_1 : List UInt8 := dkwX7_sees_1 ++ dktX7_sees_2
def dkwX7_sees_0 : List UInt8 := [42, 180, 0, 30, 42, 180, 0, 3, 180, 0, 34, 182, 0, 38, 162, 0, 43, 42, 180, 0, 3, 180, 0, 34]
abbrev dktX7_sees_0 : List UInt8 := dkwX7_sees_0 ++ dktX7_sees_1
theorem dksX7_sees_0 : cX7_sees.data.toList.drop 0 = dktX7_sees_0 := by decide +kernel
theorem dksX7_sees_1 : cX7_sees.data.toList.drop 24 = dktX7_sees_1 := dk_seg dksX7_sees_0 24 rfl rfl
theorem dksX7_sees_2 : cX7_sees.data.toList.drop 46 = dktX7_sees_2 := dk_seg dksX7_sees_1 22 rfl rfl
theorem dX7_sees_0 : decode cX7_sees 0 = .ok (.aload_n 0, 1) := dk_42 (dk_at dksX7_sees_0 0 rfl rfl)
theorem dX7_sees_1 : decode cX7_sees 1 = .ok (.getfield 30, 3) := dk_180 0 30 (dk_at dksX7_sees_0 1 rfl rfl)
theorem dX7_sees_4 : decode cX7_sees 4 = .ok (.aload_n 0, 1) := dk_42 (dk_at dksX7_sees_0 4 rfl rfl)
theorem dX7_sees_5 : decode cX7_sees 5 = .ok (.getfield 3, 3) := dk_180 0 3 (dk_at dksX7_sees_0 5 rfl rfl)
theorem dX7_sees_8 : decode cX7_sees 8 = .ok (.getfield 34, 3) := dk_180 0 34 (dk_at dksX7_sees_0 8 rfl rfl)
theorem dX7_sees_11 : decode cX7_sees 11 = .ok (.invokevirtual 38, 3) := dk_182 0 38 (dk_at dksX7_sees_0 11 rfl rfl)
theorem dX7_sees_14 : decode cX7_sees 14 = .ok (.if_icmp .ge 43, 3) := dk_162 0 43 (dk_at dksX7_sees_0 14 rfl rfl)
theorem dX7_sees_17 : decode cX7_sees 17 = .ok (.aload_n 0, 1) := dk_42 (dk_at dksX7_sees_0 17 rfl rfl)
theorem dX7_sees_18 : decode cX7_sees 18 = .ok (.getfield 3, 3) := dk_180 0 3 (dk_at dksX7_sees_0 18 rfl rfl)
theorem dX7_sees_21 : decode cX7_sees 21 = .ok (.getfield 34, 3) := dk_180 0 34 (dk_at dksX7_sees_0 21 rfl rfl)
theorem dX7_sees_24 : decode cX7_sees 24 = .ok (.aload_n 0, 1) := dk_42 (dk_at dksX7_sees_1 0 rfl rfl)
theorem dX7_sees_25 : decode cX7_sees 25 = .ok (.getfield 30, 3) := dk_180 0 30 (dk_at dksX7_sees_1 1 rfl rfl)
theorem dX7_sees_28 : decode cX7_sees 28 = .ok (.invokevirtual 48, 3) := dk_182 0 48 (dk_at dksX7_sees_1 4 rfl rfl)
theorem dX7_sees_31 : decode cX7_sees 31 = .ok (.iload_n 1, 1) := dk_27 (dk_at dksX7_sees_1 7 rfl rfl)
theorem dX7_sees_32 : decode cX7_sees 32 = .ok (.if_icmp .lt 25, 3) := dk_161 0 25 (dk_at dksX7_sees_1 8 rfl rfl)
theorem dX7_sees_35 : decode cX7_sees 35 = .ok (.aload_n 0, 1) := dk_42 (dk_at dksX7_sees_1 11 rfl rfl)
theorem dX7_sees_36 : decode cX7_sees 36 = .ok (.getfield 3, 3) := dk_180 0 3 (dk_at dksX7_sees_1 12 rfl rfl)
theorem dX7_sees_39 : decode cX7_sees 39 = .ok (.getfield 34, 3) := dk_180 0 34 (dk_at dksX7_sees_1 15 rfl rfl)
theorem dX7_sees_42 : decode cX7_sees 42 = .ok (.aload_n 0, 1) := dk_42 (dk_at dksX7_sees_1 18 rfl rfl)
theorem dX7_sees_43 : decode cX7_sees 43 = .ok (.getfield 30, 3) := dk_180 0 30 (dk_at dksX7_sees_1 19 rfl rfl)
theorem dX7_sees_46 : decode cX7_sees 46 = .ok (.invokevirtual 48, 3) := dk_182 0 48 (dk_at dksX7_sees_2 0 rfl rfl)
theorem dX7_sees_49 : decode cX7_sees 49 = .ok (.iload_n 2, 1) := dk_28 (dk_at dksX7_sees_2 3 rfl rfl)
theorem dX7_sees_50 : decode cX7_sees 50 = .ok (.if_icmp .gt 7, 3) := dk_163 0 7 (dk_at dksX7_sees_2 4 rfl rfl)
theorem dX7_sees_53 : decode cX7_sees 53 = .ok (.iconst 1, 1) := dk_4 (dk_at dksX7_sees_2 7 rfl rfl)
theorem dX7_sees_54 : decode cX7_sees 54 = .ok (.goto 4, 3) := dk_167 0 4 (dk_at dksX7_sees_2 8 rfl rfl)
theorem dX7_sees_57 : decode cX7_sees 57 = .ok (.iconst 0, 1) := dk_3 (dk_at dksX7_sees_2 11 rfl rfl)
theorem dX7_sees_58 : decode cX7_sees 58 = .ok (.ireturn, 1) := dk_172 (dk_at dksX7_sees_2 12 rfl rfl)
abbrev cX7_beginning : ByteArray := prog_15_method_9_code
def yX7_beginning : MethodName := ⟨RX7, "beginning", "()Z"⟩
def dkwX7_beginning_5 : List UInt8 := [185, 0, 71, 2, 0, 153, 0, 7, 4, 167, 0, 4, 3, 172]
abbrev dktX7_beginning_5 : List UInt8 := dkwX7_beginning_5 ++ []
def dkwX7_beginning_4 : List UInt8 := [180, 0, 18, 187, 0, 84, 89, 187, 0, 86, 89, 27, 29, 21, 4, 183, 0, 88, 183, 0, 91]
abbrev dktX7_beginning_4 : List UInt8 := dkwX7_beginning_4 ++ dktX7_beginning_5
def dkwX7_beginning_3 : List UInt8 := [182, 0, 26, 154, 0, 10, 42, 182, 0, 81, 167, 0, 4, 3, 54, 4, 21, 4, 158, 0, 37, 42]
abbrev dktX7_beginning_3 : List UInt8 := dkwX7_beginning_3 ++ dktX7_beginning_4
def dkwX7_beginning_2 : List UInt8 := [120, 128, 62, 42, 28, 4, 96, 27, 182, 0, 77, 61, 167, 255, 236, 29, 153, 0, 21, 42, 16, 58, 16, 58]
abbrev dktX7_beginning_2 : List UInt8 := dkwX7_beginning_2 ++ dktX7_beginning_3
def dkwX7_beginning_1 : List UInt8 := [154, 0, 12, 42, 3, 27, 182, 0, 77, 167, 0, 4, 2, 61, 3, 62, 28, 2, 159, 0, 21, 29, 4, 28]
abbrev dktX7_beginning_1 : List UInt8 := dkwX7_beginning_1 ++ dktX7_beginning_2
def dkwX7_beginning_0 : List UInt8 := [42, 16, 48, 16, 51, 182, 0, 26, 60, 27, 2, 159, 0, 23, 42, 16, 62, 16, 62, 182, 0, 26]
abbrev dktX7_beginning_0 : List UInt8 := dkwX7_beginning_0 ++ dktX7_beginning_1
theorem dksX7_beginning_0 : cX7_beginning.data.toList.drop 0 = dktX7_beginning_0 := by decide +kernel
theorem dksX7_beginning_1 : cX7_beginning.data.toList.drop 22 = dktX7_beginning_1 := dk_seg dksX7_beginning_0 22 rfl rfl
theorem dksX7_beginning_2 : cX7_beginning.data.toList.drop 46 = dktX7_beginning_2 := dk_seg dksX7_beginning_1 24 rfl rfl
theorem dksX7_beginning_3 : cX7_beginning.data.toList.drop 70 = dktX7_beginning_3 := dk_seg dksX7_beginning_2 24 rfl rfl
theorem dksX7_beginning_4 : cX7_beginning.data.toList.drop 92 = dktX7_beginning_4 := dk_seg dksX7_beginning_3 22 rfl rfl
theorem dksX7_beginning_5 : cX7_beginning.data.toList.drop 113 = dktX7_beginning_5 := dk_seg dksX7_beginning_4 21 rfl rfl
theorem dX7_beginning_0 : decode cX7_beginning 0 = .ok (.aload_n 0, 1) := dk_42 (dk_at dksX7_beginning_0 0 rfl rfl)
theorem dX7_beginning_1 : decode cX7_beginning 1 = .ok (.bipush 48, 2) := dk_16 48 (dk_at dksX7_beginning_0 1 rfl rfl)
theorem dX7_beginning_3 : decode cX7_beginning 3 = .ok (.bipush 51, 2) := dk_16 51 (dk_at dksX7_beginning_0 3 rfl rfl)
theorem dX7_beginning_5 : decode cX7_beginning 5 = .ok (.invokevirtual 26, 3) := dk_182 0 26 (dk_at dksX7_beginning_0 5 rfl rfl)
theorem dX7_beginning_8 : decode cX7_beginning 8 = .ok (.istore_n 1, 1) := dk_60 (dk_at dksX7_beginning_0 8 rfl rfl)
theorem dX7_beginning_9 : decode cX7_beginning 9 = .ok (.iload_n 1, 1) := dk_27 (dk_at dksX7_beginning_0 9 rfl rfl)
theorem dX7_beginning_10 : decode cX7_beginning 10 = .ok (.iconst (-1), 1) := dk_2 (dk_at dksX7_beginning_0 10 rfl rfl)
theorem dX7_beginning_11 : decode cX7_beginning 11 = .ok (.if_icmp .eq 23, 3) := dk_159 0 23 (dk_at dksX7_beginning_0 11 rfl rfl)
theorem dX7_beginning_14 : decode cX7_beginning 14 = .ok (.aload_n 0, 1) := dk_42 (dk_at dksX7_beginning_0 14 rfl rfl)
theorem dX7_beginning_15 : decode cX7_beginning 15 = .ok (.bipush 62, 2) := dk_16 62 (dk_at dksX7_beginning_0 15 rfl rfl)
theorem dX7_beginning_17 : decode cX7_beginning 17 = .ok (.bipush 62, 2) := dk_16 62 (dk_at dksX7_beginning_0 17 rfl rfl)
theorem dX7_beginning_19 : decode cX7_beginning 19 = .ok (.invokevirtual 26, 3) := dk_182 0 26 (dk_at dksX7_beginning_0 19 rfl rfl)
theorem dX7_beginning_22 : decode cX7_beginning 22 = .ok (.ifCond .ne 12, 3) := dk_154 0 12 (dk_at dksX7_beginning_1 0 rfl rfl)
theorem dX7_beginning_25 : decode cX7_beginning 25 = .ok (.aload_n 0, 1) := dk_42 (dk_at dksX7_beginning_1 3 rfl rfl)
theorem dX7_beginning_26 : decode cX7_beginning 26 = .ok (.iconst 0, 1) := dk_3 (dk_at dksX7_beginning_1 4 rfl rfl)
theorem dX7_beginning_27 : decode cX7_beginning 27 = .ok (.iload_n 1, 1) := dk_27 (dk_at dksX7_beginning_1 5 rfl rfl)
theorem dX7_beginning_28 : decode cX7_beginning 28 = .ok (.invokevirtual 77, 3) := dk_182 0 77 (dk_at dksX7_beginning_1 6 rfl rfl)
theorem dX7_beginning_31 : decode cX7_beginning 31 = .ok (.goto 4, 3) := dk_167 0 4 (dk_at dksX7_beginning_1 9 rfl rfl)
theorem dX7_beginning_34 : decode cX7_beginning 34 = .ok (.iconst (-1), 1) := dk_2 (dk_at dksX7_beginning_1 12 rfl rfl)
theorem dX7_beginning_35 : decode cX7_beginning 35 = .ok (.istore_n 2, 1) := dk_61 (dk_at dksX7_beginning_1 13 rfl rfl)
theorem dX7_beginning_36 : decode cX7_beginning 36 = .ok (.iconst 0, 1) := dk_3 (dk_at dksX7_beginning_1 14 rfl rfl)
theorem dX7_beginning_37 : decode cX7_beginning 37 = .ok (.istore_n 3, 1) := dk_62 (dk_at dksX7_beginning_1 15 rfl rfl)
theorem dX7_beginning_38 : decode cX7_beginning 38 = .ok (.iload_n 2, 1) := dk_28 (dk_at dksX7_beginning_1 16 rfl rfl)
theorem dX7_beginning_39 : decode cX7_beginning 39 = .ok (.iconst (-1), 1) := dk_2 (dk_at dksX7_beginning_1 17 rfl rfl)
theorem dX7_beginning_40 : decode cX7_beginning 40 = .ok (.if_icmp .eq 21, 3) := dk_159 0 21 (dk_at dksX7_beginning_1 18 rfl rfl)
theorem dX7_beginning_43 : decode cX7_beginning 43 = .ok (.iload_n 3, 1) := dk_29 (dk_at dksX7_beginning_1 21 rfl rfl)
theorem dX7_beginning_44 : decode cX7_beginning 44 = .ok (.iconst 1, 1) := dk_4 (dk_at dksX7_beginning_1 22 rfl rfl)
theorem dX7_beginning_45 : decode cX7_beginning 45 = .ok (.iload_n 2, 1) := dk_28 (dk_at dksX7_beginning_1 23 rfl rfl)
theorem dX7_beginning_46 : decode cX7_beginning 46 = .ok (.ishl, 1) := dk_120 (dk_at dksX7_beginning_2 0 rfl rfl)
theorem dX7_beginning_47 : decode cX7_beginning 47 = .ok (.ior, 1) := dk_128 (dk_at dksX7_beginning_2 1 rfl rfl)
theorem dX7_beginning_48 : decode cX7_beginning 48 = .ok (.istore_n 3, 1) := dk_62 (dk_at dksX7_beginning_2 2 rfl rfl)
theorem dX7_beginning_49 : decode cX7_beginning 49 = .ok (.aload_n 0, 1) := dk_42 (dk_at dksX7_beginning_2 3 rfl rfl)
theorem dX7_beginning_50 : decode cX7_beginning 50 = .ok (.iload_n 2, 1) := dk_28 (dk_at dksX7_beginning_2 4 rfl rfl)
theorem dX7_beginning_51 : decode cX7_beginning 51 = .ok (.iconst 1, 1) := dk_4 (dk_at dksX7_beginning_2 5 rfl rfl)
theorem dX7_beginning_52 : decode cX7_beginning 52 = .ok (.iadd, 1) := dk_96 (dk_at dksX7_beginning_2 6 rfl rfl)
theorem dX7_beginning_53 : decode cX7_beginning 53 = .ok (.iload_n 1, 1) := dk_27 (dk_at dksX7_beginning_2 7 rfl rfl)
theorem dX7_beginning_54 : decode cX7_beginning 54 = .ok (.invokevirtual 77, 3) := dk_182 0 77 (dk_at dksX7_beginning_2 8 rfl rfl)
theorem dX7_beginning_57 : decode cX7_beginning 57 = .ok (.istore_n 2, 1) := dk_61 (dk_at dksX7_beginning_2 11 rfl rfl)
theorem dX7_beginning_58 : decode cX7_beginning 58 = .ok (.goto (-20), 3) := dk_167 255 236 (dk_at dksX7_beginning_2 12 rfl rfl)
theorem dX7_beginning_61 : decode cX7_beginning 61 = .ok (.iload_n 3, 1) := dk_29 (dk_at dksX7_beginning_2 15 rfl rfl)
theorem dX7_beginning_62 : decode cX7_beginning 62 = .ok (.ifCond .eq 21, 3) := dk_153 0 21 (dk_at dksX7_beginning_2 16 rfl rfl)
theorem dX7_beginning_65 : decode cX7_beginning 65 = .ok (.aload_n 0, 1) := dk_42 (dk_at dksX7_beginning_2 19 rfl rfl)
theorem dX7_beginning_66 : decode cX7_beginning 66 = .ok (.bipush 58, 2) := dk_16 58 (dk_at dksX7_beginning_2 20 rfl rfl)
theorem dX7_beginning_68 : decode cX7_beginning 68 = .ok (.bipush 58, 2) := dk_16 58 (dk_at dksX7_beginning_2 22 rfl rfl)
theorem dX7_beginning_70 : decode cX7_beginning 70 = .ok (.invokevirtual 26, 3) := dk_182 0 26 (dk_at dksX7_beginning_3 0 rfl rfl)
theorem dX7_beginning_73 : decode cX7_beginning 73 = .ok (.ifCond .ne 10, 3) := dk_154 0 10 (dk_at dksX7_beginning_3 3 rfl rfl)
theorem dX7_beginning_76 : decode cX7_beginning 76 = .ok (.aload_n 0, 1) := dk_42 (dk_at dksX7_beginning_3 6 rfl rfl)
theorem dX7_beginning_77 : decode cX7_beginning 77 = .ok (.invokevirtual 81, 3) := dk_182 0 81 (dk_at dksX7_beginning_3 7 rfl rfl)
theorem dX7_beginning_80 : decode cX7_beginning 80 = .ok (.goto 4, 3) := dk_167 0 4 (dk_at dksX7_beginning_3 10 rfl rfl)
theorem dX7_beginning_83 : decode cX7_beginning 83 = .ok (.iconst 0, 1) := dk_3 (dk_at dksX7_beginning_3 13 rfl rfl)
theorem dX7_beginning_84 : decode cX7_beginning 84 = .ok (.istore 4, 2) := dk_54 4 (dk_at dksX7_beginning_3 14 rfl rfl)
theorem dX7_beginning_86 : decode cX7_beginning 86 = .ok (.iload 4, 2) := dk_21 4 (dk_at dksX7_beginning_3 16 rfl rfl)
theorem dX7_beginning_88 : decode cX7_beginning 88 = .ok (.ifCond .le 37, 3) := dk_158 0 37 (dk_at dksX7_beginning_3 18 rfl rfl)
theorem dX7_beginning_91 : decode cX7_beginning 91 = .ok (.aload_n 0, 1) := dk_42 (dk_at dksX7_beginning_3 21 rfl rfl)
theorem dX7_beginning_92 : decode cX7_beginning 92 = .ok (.getfield 18, 3) := dk_180 0 18 (dk_at dksX7_beginning_4 0 rfl rfl)
theorem dX7_beginning_95 : decode cX7_beginning 95 = .ok (.new 84, 3) := dk_187 0 84 (dk_at dksX7_beginning_4 3 rfl rfl)
theorem dX7_beginning_98 : decode cX7_beginning 98 = .ok (.dup, 1) := dk_89 (dk_at dksX7_beginning_4 6 rfl rfl)
theorem dX7_beginning_99 : decode cX7_beginning 99 = .ok (.new 86, 3) := dk_187 0 86 (dk_at dksX7_beginning_4 7 rfl rfl)
theorem dX7_beginning_102 : decode cX7_beginning 102 = .ok (.dup, 1) := dk_89 (dk_at dksX7_beginning_4 10 rfl rfl)
theorem dX7_beginning_103 : decode cX7_beginning 103 = .ok (.iload_n 1, 1) := dk_27 (dk_at dksX7_beginning_4 11 rfl rfl)
theorem dX7_beginning_104 : decode cX7_beginning 104 = .ok (.iload_n 3, 1) := dk_29 (dk_at dksX7_beginning_4 12 rfl rfl)
theorem dX7_beginning_105 : decode cX7_beginning 105 = .ok (.iload 4, 2) := dk_21 4 (dk_at dksX7_beginning_4 13 rfl rfl)
theorem dX7_beginning_107 : decode cX7_beginning 107 = .ok (.invokespecial 88, 3) := dk_183 0 88 (dk_at dksX7_beginning_4 15 rfl rfl)
theorem dX7_beginning_110 : decode cX7_beginning 110 = .ok (.invokespecial 91, 3) := dk_183 0 91 (dk_at dksX7_beginning_4 18 rfl rfl)
theorem dX7_beginning_113 : decode cX7_beginning 113 = .ok (.invokeinterface 71 2, 5) := by decide +kernel
theorem dX7_beginning_118 : decode cX7_beginning 118 = .ok (.ifCond .eq 7, 3) := dk_153 0 7 (dk_at dksX7_beginning_5 5 rfl rfl)
theorem dX7_beginning_121 : decode cX7_beginning 121 = .ok (.iconst 1, 1) := dk_4 (dk_at dksX7_beginning_5 8 rfl rfl)
theorem dX7_beginning_122 : decode cX7_beginning 122 = .ok (.goto 4, 3) := dk_167 0 4 (dk_at dksX7_beginning_5 9 rfl rfl)
theorem dX7_beginning_125 : decode cX7_beginning 125 = .ok (.iconst 0, 1) := dk_3 (dk_at dksX7_beginning_5 12 rfl rfl)
theorem dX7_beginning_126 : decode cX7_beginning 126 = .ok (.ireturn, 1) := dk_172 (dk_at dksX7_beginning_5 13 rfl rfl)
abbrev cX7_store : ByteArray := prog_15_method_8_code
def yX7_store : MethodName := ⟨RX7, "store", "(II)I"⟩
def dkwX7_store_3 : List UInt8 := [182, 0, 26, 167, 0, 4, 2, 172]
abbrev dktX7_store_3 : List UInt8 := dkwX7_store_3 ++ []
def dkwX7_store_2 : List UInt8 := [16, 48, 100, 28, 159, 0, 7, 4, 167, 0, 4, 3, 62, 29, 153, 0, 14, 42, 16, 48, 16, 51]
abbrev dktX7_store_2 : List UInt8 := dkwX7_store_2 ++ dktX7_store_3
def dkwX7_store_1 : List UInt8 := [182, 0, 48, 16, 48, 100, 27, 161, 0, 28, 42, 180, 0, 3, 180, 0, 34, 42, 180, 0, 30, 182, 0, 48]
abbrev dktX7_store_1 : List UInt8 := dkwX7_store_1 ++ dktX7_store_2
def dkwX7_store_0 : List UInt8 := [42, 16, 48, 16, 51, 182, 0, 52, 153, 0, 49, 42, 180, 0, 3, 180, 0, 34, 42, 180, 0, 30]
abbrev dktX7_store_0 : List UInt8 := dkwX7_store_0 ++ dktX7_store_1
theorem dksX7_store_0 : cX7_store.data.toList.drop 0 = dktX7_store_0 := by decide +kernel
theorem dksX7_store_1 : cX7_store.data.toList.drop 22 = dktX7_store_1 := dk_seg dksX7_store_0 22 rfl rfl
theorem dksX7_store_2 : cX7_store.data.toList.drop 46 = dktX7_store_2 := dk_seg dksX7_store_1 24 rfl rfl
theorem dksX7_store_3 : cX7_store.data.toList.drop 68 = dktX7_store_3 := dk_seg dksX7_store_2 22 rfl rfl
theorem dX7_store_0 : decode cX7_store 0 = .ok (.aload_n 0, 1) := dk_42 (dk_at dksX7_store_0 0 rfl rfl)
theorem dX7_store_1 : decode cX7_store 1 = .ok (.bipush 48, 2) := dk_16 48 (dk_at dksX7_store_0 1 rfl rfl)
theorem dX7_store_3 : decode cX7_store 3 = .ok (.bipush 51, 2) := dk_16 51 (dk_at dksX7_store_0 3 rfl rfl)
theorem dX7_store_5 : decode cX7_store 5 = .ok (.invokevirtual 52, 3) := dk_182 0 52 (dk_at dksX7_store_0 5 rfl rfl)
theorem dX7_store_8 : decode cX7_store 8 = .ok (.ifCond .eq 49, 3) := dk_153 0 49 (dk_at dksX7_store_0 8 rfl rfl)
theorem dX7_store_11 : decode cX7_store 11 = .ok (.aload_n 0, 1) := dk_42 (dk_at dksX7_store_0 11 rfl rfl)
theorem dX7_store_12 : decode cX7_store 12 = .ok (.getfield 3, 3) := dk_180 0 3 (dk_at dksX7_store_0 12 rfl rfl)
theorem dX7_store_15 : decode cX7_store 15 = .ok (.getfield 34, 3) := dk_180 0 34 (dk_at dksX7_store_0 15 rfl rfl)
theorem dX7_store_18 : decode cX7_store 18 = .ok (.aload_n 0, 1) := dk_42 (dk_at dksX7_store_0 18 rfl rfl)
theorem dX7_store_19 : decode cX7_store 19 = .ok (.getfield 30, 3) := dk_180 0 30 (dk_at dksX7_store_0 19 rfl rfl)
theorem dX7_store_22 : decode cX7_store 22 = .ok (.invokevirtual 48, 3) := dk_182 0 48 (dk_at dksX7_store_1 0 rfl rfl)
theorem dX7_store_25 : decode cX7_store 25 = .ok (.bipush 48, 2) := dk_16 48 (dk_at dksX7_store_1 3 rfl rfl)
theorem dX7_store_27 : decode cX7_store 27 = .ok (.isub, 1) := dk_100 (dk_at dksX7_store_1 5 rfl rfl)
theorem dX7_store_28 : decode cX7_store 28 = .ok (.iload_n 1, 1) := dk_27 (dk_at dksX7_store_1 6 rfl rfl)
theorem dX7_store_29 : decode cX7_store 29 = .ok (.if_icmp .lt 28, 3) := dk_161 0 28 (dk_at dksX7_store_1 7 rfl rfl)
theorem dX7_store_32 : decode cX7_store 32 = .ok (.aload_n 0, 1) := dk_42 (dk_at dksX7_store_1 10 rfl rfl)
theorem dX7_store_33 : decode cX7_store 33 = .ok (.getfield 3, 3) := dk_180 0 3 (dk_at dksX7_store_1 11 rfl rfl)
theorem dX7_store_36 : decode cX7_store 36 = .ok (.getfield 34, 3) := dk_180 0 34 (dk_at dksX7_store_1 14 rfl rfl)
theorem dX7_store_39 : decode cX7_store 39 = .ok (.aload_n 0, 1) := dk_42 (dk_at dksX7_store_1 17 rfl rfl)
theorem dX7_store_40 : decode cX7_store 40 = .ok (.getfield 30, 3) := dk_180 0 30 (dk_at dksX7_store_1 18 rfl rfl)
theorem dX7_store_43 : decode cX7_store 43 = .ok (.invokevirtual 48, 3) := dk_182 0 48 (dk_at dksX7_store_1 21 rfl rfl)
theorem dX7_store_46 : decode cX7_store 46 = .ok (.bipush 48, 2) := dk_16 48 (dk_at dksX7_store_2 0 rfl rfl)
theorem dX7_store_48 : decode cX7_store 48 = .ok (.isub, 1) := dk_100 (dk_at dksX7_store_2 2 rfl rfl)
theorem dX7_store_49 : decode cX7_store 49 = .ok (.iload_n 2, 1) := dk_28 (dk_at dksX7_store_2 3 rfl rfl)
theorem dX7_store_50 : decode cX7_store 50 = .ok (.if_icmp .eq 7, 3) := dk_159 0 7 (dk_at dksX7_store_2 4 rfl rfl)
theorem dX7_store_53 : decode cX7_store 53 = .ok (.iconst 1, 1) := dk_4 (dk_at dksX7_store_2 7 rfl rfl)
theorem dX7_store_54 : decode cX7_store 54 = .ok (.goto 4, 3) := dk_167 0 4 (dk_at dksX7_store_2 8 rfl rfl)
theorem dX7_store_57 : decode cX7_store 57 = .ok (.iconst 0, 1) := dk_3 (dk_at dksX7_store_2 11 rfl rfl)
theorem dX7_store_58 : decode cX7_store 58 = .ok (.istore_n 3, 1) := dk_62 (dk_at dksX7_store_2 12 rfl rfl)
theorem dX7_store_59 : decode cX7_store 59 = .ok (.iload_n 3, 1) := dk_29 (dk_at dksX7_store_2 13 rfl rfl)
theorem dX7_store_60 : decode cX7_store 60 = .ok (.ifCond .eq 14, 3) := dk_153 0 14 (dk_at dksX7_store_2 14 rfl rfl)
theorem dX7_store_63 : decode cX7_store 63 = .ok (.aload_n 0, 1) := dk_42 (dk_at dksX7_store_2 17 rfl rfl)
theorem dX7_store_64 : decode cX7_store 64 = .ok (.bipush 48, 2) := dk_16 48 (dk_at dksX7_store_2 18 rfl rfl)
theorem dX7_store_66 : decode cX7_store 66 = .ok (.bipush 51, 2) := dk_16 51 (dk_at dksX7_store_2 20 rfl rfl)
theorem dX7_store_68 : decode cX7_store 68 = .ok (.invokevirtual 26, 3) := dk_182 0 26 (dk_at dksX7_store_3 0 rfl rfl)
theorem dX7_store_71 : decode cX7_store 71 = .ok (.goto 4, 3) := dk_167 0 4 (dk_at dksX7_store_3 3 rfl rfl)
theorem dX7_store_74 : decode cX7_store 74 = .ok (.iconst (-1), 1) := dk_2 (dk_at dksX7_store_3 6 rfl rfl)
theorem dX7_store_75 : decode cX7_store 75 = .ok (.ireturn, 1) := dk_172 (dk_at dksX7_store_3 7 rfl rfl)
abbrev cX7_size : ByteArray := prog_15_method_10_code
def yX7_size : MethodName := ⟨RX7, "size", "()I"⟩
def dkwX7_size_2 : List UInt8 := [100, 16, 50, 163, 0, 17, 16, 10, 27, 104, 42, 16, 48, 16, 57, 182, 0, 26, 96, 60, 27, 172]
abbrev dktX7_size_2 : List UInt8 := dkwX7_size_2 ++ []
def dkwX7_size_1 : List UInt8 := [153, 0, 44, 16, 10, 27, 104, 42, 180, 0, 3, 180, 0, 34, 42, 180, 0, 30, 182, 0, 48, 96, 16, 48]
abbrev dktX7_size_1 : List UInt8 := dkwX7_size_1 ++ dktX7_size_2
def dkwX7_size_0 : List UInt8 := [42, 16, 49, 16, 57, 182, 0, 26, 4, 96, 60, 27, 158, 0, 55, 42, 16, 48, 16, 57, 182, 0, 52]
abbrev dktX7_size_0 : List UInt8 := dkwX7_size_0 ++ dktX7_size_1
theorem dksX7_size_0 : cX7_size.data.toList.drop 0 = dktX7_size_0 := by decide +kernel
theorem dksX7_size_1 : cX7_size.data.toList.drop 23 = dktX7_size_1 := dk_seg dksX7_size_0 23 rfl rfl
theorem dksX7_size_2 : cX7_size.data.toList.drop 47 = dktX7_size_2 := dk_seg dksX7_size_1 24 rfl rfl
theorem dX7_size_0 : decode cX7_size 0 = .ok (.aload_n 0, 1) := dk_42 (dk_at dksX7_size_0 0 rfl rfl)
theorem dX7_size_1 : decode cX7_size 1 = .ok (.bipush 49, 2) := dk_16 49 (dk_at dksX7_size_0 1 rfl rfl)
theorem dX7_size_3 : decode cX7_size 3 = .ok (.bipush 57, 2) := dk_16 57 (dk_at dksX7_size_0 3 rfl rfl)
theorem dX7_size_5 : decode cX7_size 5 = .ok (.invokevirtual 26, 3) := dk_182 0 26 (dk_at dksX7_size_0 5 rfl rfl)
theorem dX7_size_8 : decode cX7_size 8 = .ok (.iconst 1, 1) := dk_4 (dk_at dksX7_size_0 8 rfl rfl)
theorem dX7_size_9 : decode cX7_size 9 = .ok (.iadd, 1) := dk_96 (dk_at dksX7_size_0 9 rfl rfl)
theorem dX7_size_10 : decode cX7_size 10 = .ok (.istore_n 1, 1) := dk_60 (dk_at dksX7_size_0 10 rfl rfl)
theorem dX7_size_11 : decode cX7_size 11 = .ok (.iload_n 1, 1) := dk_27 (dk_at dksX7_size_0 11 rfl rfl)
theorem dX7_size_12 : decode cX7_size 12 = .ok (.ifCond .le 55, 3) := dk_158 0 55 (dk_at dksX7_size_0 12 rfl rfl)
theorem dX7_size_15 : decode cX7_size 15 = .ok (.aload_n 0, 1) := dk_42 (dk_at dksX7_size_0 15 rfl rfl)
theorem dX7_size_16 : decode cX7_size 16 = .ok (.bipush 48, 2) := dk_16 48 (dk_at dksX7_size_0 16 rfl rfl)
theorem dX7_size_18 : decode cX7_size 18 = .ok (.bipush 57, 2) := dk_16 57 (dk_at dksX7_size_0 18 rfl rfl)
theorem dX7_size_20 : decode cX7_size 20 = .ok (.invokevirtual 52, 3) := dk_182 0 52 (dk_at dksX7_size_0 20 rfl rfl)
theorem dX7_size_23 : decode cX7_size 23 = .ok (.ifCond .eq 44, 3) := dk_153 0 44 (dk_at dksX7_size_1 0 rfl rfl)
theorem dX7_size_26 : decode cX7_size 26 = .ok (.bipush 10, 2) := dk_16 10 (dk_at dksX7_size_1 3 rfl rfl)
theorem dX7_size_28 : decode cX7_size 28 = .ok (.iload_n 1, 1) := dk_27 (dk_at dksX7_size_1 5 rfl rfl)
theorem dX7_size_29 : decode cX7_size 29 = .ok (.imul, 1) := dk_104 (dk_at dksX7_size_1 6 rfl rfl)
theorem dX7_size_30 : decode cX7_size 30 = .ok (.aload_n 0, 1) := dk_42 (dk_at dksX7_size_1 7 rfl rfl)
theorem dX7_size_31 : decode cX7_size 31 = .ok (.getfield 3, 3) := dk_180 0 3 (dk_at dksX7_size_1 8 rfl rfl)
theorem dX7_size_34 : decode cX7_size 34 = .ok (.getfield 34, 3) := dk_180 0 34 (dk_at dksX7_size_1 11 rfl rfl)
theorem dX7_size_37 : decode cX7_size 37 = .ok (.aload_n 0, 1) := dk_42 (dk_at dksX7_size_1 14 rfl rfl)
theorem dX7_size_38 : decode cX7_size 38 = .ok (.getfield 30, 3) := dk_180 0 30 (dk_at dksX7_size_1 15 rfl rfl)
theorem dX7_size_41 : decode cX7_size 41 = .ok (.invokevirtual 48, 3) := dk_182 0 48 (dk_at dksX7_size_1 18 rfl rfl)
theorem dX7_size_44 : decode cX7_size 44 = .ok (.iadd, 1) := dk_96 (dk_at dksX7_size_1 21 rfl rfl)
theorem dX7_size_45 : decode cX7_size 45 = .ok (.bipush 48, 2) := dk_16 48 (dk_at dksX7_size_1 22 rfl rfl)
theorem dX7_size_47 : decode cX7_size 47 = .ok (.isub, 1) := dk_100 (dk_at dksX7_size_2 0 rfl rfl)
theorem dX7_size_48 : decode cX7_size 48 = .ok (.bipush 50, 2) := dk_16 50 (dk_at dksX7_size_2 1 rfl rfl)
theorem dX7_size_50 : decode cX7_size 50 = .ok (.if_icmp .gt 17, 3) := dk_163 0 17 (dk_at dksX7_size_2 3 rfl rfl)
theorem dX7_size_53 : decode cX7_size 53 = .ok (.bipush 10, 2) := dk_16 10 (dk_at dksX7_size_2 6 rfl rfl)
theorem dX7_size_55 : decode cX7_size 55 = .ok (.iload_n 1, 1) := dk_27 (dk_at dksX7_size_2 8 rfl rfl)
theorem dX7_size_56 : decode cX7_size 56 = .ok (.imul, 1) := dk_104 (dk_at dksX7_size_2 9 rfl rfl)
theorem dX7_size_57 : decode cX7_size 57 = .ok (.aload_n 0, 1) := dk_42 (dk_at dksX7_size_2 10 rfl rfl)
theorem dX7_size_58 : decode cX7_size 58 = .ok (.bipush 48, 2) := dk_16 48 (dk_at dksX7_size_2 11 rfl rfl)
theorem dX7_size_60 : decode cX7_size 60 = .ok (.bipush 57, 2) := dk_16 57 (dk_at dksX7_size_2 13 rfl rfl)
theorem dX7_size_62 : decode cX7_size 62 = .ok (.invokevirtual 26, 3) := dk_182 0 26 (dk_at dksX7_size_2 15 rfl rfl)
theorem dX7_size_65 : decode cX7_size 65 = .ok (.iadd, 1) := dk_96 (dk_at dksX7_size_2 18 rfl rfl)
theorem dX7_size_66 : decode cX7_size 66 = .ok (.istore_n 1, 1) := dk_60 (dk_at dksX7_size_2 19 rfl rfl)
theorem dX7_size_67 : decode cX7_size 67 = .ok (.iload_n 1, 1) := dk_27 (dk_at dksX7_size_2 20 rfl rfl)
theorem dX7_size_68 : decode cX7_size 68 = .ok (.ireturn, 1) := dk_172 (dk_at dksX7_size_2 21 rfl rfl)
abbrev cX7_deed : ByteArray := prog_15_method_6_code
def yX7_deed : MethodName := ⟨RX7, "deed", "(CCC)Z"⟩
def dkwX7_deed_2 : List UInt8 := [167, 0, 4, 3, 172]
abbrev dktX7_deed_2 : List UInt8 := dkwX7_deed_2 ++ []
def dkwX7_deed_1 : List UInt8 := [42, 180, 0, 18, 187, 0, 66, 89, 27, 21, 4, 2, 183, 0, 68, 185, 0, 71, 2, 0, 153, 0, 7, 4]
abbrev dktX7_deed_1 : List UInt8 := dkwX7_deed_1 ++ dktX7_deed_2
def dkwX7_deed_0 : List UInt8 := [42, 89, 180, 0, 30, 4, 96, 181, 0, 30, 42, 28, 29, 182, 0, 26, 54, 4, 21, 4, 2, 159, 0, 30]
abbrev dktX7_deed_0 : List UInt8 := dkwX7_deed_0 ++ dktX7_deed_1
theorem dksX7_deed_0 : cX7_deed.data.toList.drop 0 = dktX7_deed_0 := by decide +kernel
theorem dksX7_deed_1 : cX7_deed.data.toList.drop 24 = dktX7_deed_1 := dk_seg dksX7_deed_0 24 rfl rfl
theorem dksX7_deed_2 : cX7_deed.data.toList.drop 48 = dktX7_deed_2 := dk_seg dksX7_deed_1 24 rfl rfl
theorem dX7_deed_0 : decode cX7_deed 0 = .ok (.aload_n 0, 1) := dk_42 (dk_at dksX7_deed_0 0 rfl rfl)
theorem dX7_deed_1 : decode cX7_deed 1 = .ok (.dup, 1) := dk_89 (dk_at dksX7_deed_0 1 rfl rfl)
theorem dX7_deed_2 : decode cX7_deed 2 = .ok (.getfield 30, 3) := dk_180 0 30 (dk_at dksX7_deed_0 2 rfl rfl)
theorem dX7_deed_5 : decode cX7_deed 5 = .ok (.iconst 1, 1) := dk_4 (dk_at dksX7_deed_0 5 rfl rfl)
theorem dX7_deed_6 : decode cX7_deed 6 = .ok (.iadd, 1) := dk_96 (dk_at dksX7_deed_0 6 rfl rfl)
theorem dX7_deed_7 : decode cX7_deed 7 = .ok (.putfield 30, 3) := dk_181 0 30 (dk_at dksX7_deed_0 7 rfl rfl)
theorem dX7_deed_10 : decode cX7_deed 10 = .ok (.aload_n 0, 1) := dk_42 (dk_at dksX7_deed_0 10 rfl rfl)
theorem dX7_deed_11 : decode cX7_deed 11 = .ok (.iload_n 2, 1) := dk_28 (dk_at dksX7_deed_0 11 rfl rfl)
theorem dX7_deed_12 : decode cX7_deed 12 = .ok (.iload_n 3, 1) := dk_29 (dk_at dksX7_deed_0 12 rfl rfl)
theorem dX7_deed_13 : decode cX7_deed 13 = .ok (.invokevirtual 26, 3) := dk_182 0 26 (dk_at dksX7_deed_0 13 rfl rfl)
theorem dX7_deed_16 : decode cX7_deed 16 = .ok (.istore 4, 2) := dk_54 4 (dk_at dksX7_deed_0 16 rfl rfl)
theorem dX7_deed_18 : decode cX7_deed 18 = .ok (.iload 4, 2) := dk_21 4 (dk_at dksX7_deed_0 18 rfl rfl)
theorem dX7_deed_20 : decode cX7_deed 20 = .ok (.iconst (-1), 1) := dk_2 (dk_at dksX7_deed_0 20 rfl rfl)
theorem dX7_deed_21 : decode cX7_deed 21 = .ok (.if_icmp .eq 30, 3) := dk_159 0 30 (dk_at dksX7_deed_0 21 rfl rfl)
theorem dX7_deed_24 : decode cX7_deed 24 = .ok (.aload_n 0, 1) := dk_42 (dk_at dksX7_deed_1 0 rfl rfl)
theorem dX7_deed_25 : decode cX7_deed 25 = .ok (.getfield 18, 3) := dk_180 0 18 (dk_at dksX7_deed_1 1 rfl rfl)
theorem dX7_deed_28 : decode cX7_deed 28 = .ok (.new 66, 3) := dk_187 0 66 (dk_at dksX7_deed_1 4 rfl rfl)
theorem dX7_deed_31 : decode cX7_deed 31 = .ok (.dup, 1) := dk_89 (dk_at dksX7_deed_1 7 rfl rfl)
theorem dX7_deed_32 : decode cX7_deed 32 = .ok (.iload_n 1, 1) := dk_27 (dk_at dksX7_deed_1 8 rfl rfl)
theorem dX7_deed_33 : decode cX7_deed 33 = .ok (.iload 4, 2) := dk_21 4 (dk_at dksX7_deed_1 9 rfl rfl)
theorem dX7_deed_35 : decode cX7_deed 35 = .ok (.iconst (-1), 1) := dk_2 (dk_at dksX7_deed_1 11 rfl rfl)
theorem dX7_deed_36 : decode cX7_deed 36 = .ok (.invokespecial 68, 3) := dk_183 0 68 (dk_at dksX7_deed_1 12 rfl rfl)
theorem dX7_deed_39 : decode cX7_deed 39 = .ok (.invokeinterface 71 2, 5) := by decide +kernel
theorem dX7_deed_44 : decode cX7_deed 44 = .ok (.ifCond .eq 7, 3) := dk_153 0 7 (dk_at dksX7_deed_1 20 rfl rfl)
theorem dX7_deed_47 : decode cX7_deed 47 = .ok (.iconst 1, 1) := dk_4 (dk_at dksX7_deed_1 23 rfl rfl)
theorem dX7_deed_48 : decode cX7_deed 48 = .ok (.goto 4, 3) := dk_167 0 4 (dk_at dksX7_deed_2 0 rfl rfl)
theorem dX7_deed_51 : decode cX7_deed 51 = .ok (.iconst 0, 1) := dk_3 (dk_at dksX7_deed_2 3 rfl rfl)
theorem dX7_deed_52 : decode cX7_deed 52 = .ok (.ireturn, 1) := dk_172 (dk_at dksX7_deed_2 4 rfl rfl)
abbrev cX7_asking : ByteArray := prog_15_method_7_code
def yX7_asking : MethodName := ⟨RX7, "asking", "()Z"⟩
def dkwX7_asking_3 : List UInt8 := [172]
abbrev dktX7_asking_3 : List UInt8 := dkwX7_asking_3 ++ []
def dkwX7_asking_2 : List UInt8 := [187, 0, 66, 89, 16, 113, 28, 27, 183, 0, 68, 185, 0, 71, 2, 0, 153, 0, 7, 4, 167, 0, 4, 3]
abbrev dktX7_asking_2 : List UInt8 := dkwX7_asking_2 ++ dktX7_asking_3
def dkwX7_asking_1 : List UInt8 := [2, 167, 0, 11, 42, 16, 48, 16, 55, 182, 0, 26, 61, 28, 2, 159, 0, 30, 42, 180, 0, 18]
abbrev dktX7_asking_1 : List UInt8 := dkwX7_asking_1 ++ dktX7_asking_2
def dkwX7_asking_0 : List UInt8 := [42, 89, 180, 0, 30, 4, 96, 181, 0, 30, 42, 16, 48, 16, 51, 182, 0, 26, 60, 27, 2, 160, 0, 7]
abbrev dktX7_asking_0 : List UInt8 := dkwX7_asking_0 ++ dktX7_asking_1
theorem dksX7_asking_0 : cX7_asking.data.toList.drop 0 = dktX7_asking_0 := by decide +kernel
theorem dksX7_asking_1 : cX7_asking.data.toList.drop 24 = dktX7_asking_1 := dk_seg dksX7_asking_0 24 rfl rfl
theorem dksX7_asking_2 : cX7_asking.data.toList.drop 46 = dktX7_asking_2 := dk_seg dksX7_asking_1 22 rfl rfl
theorem dksX7_asking_3 : cX7_asking.data.toList.drop 70 = dktX7_asking_3 := dk_seg dksX7_asking_2 24 rfl rfl
theorem dX7_asking_0 : decode cX7_asking 0 = .ok (.aload_n 0, 1) := dk_42 (dk_at dksX7_asking_0 0 rfl rfl)
theorem dX7_asking_1 : decode cX7_asking 1 = .ok (.dup, 1) := dk_89 (dk_at dksX7_asking_0 1 rfl rfl)
theorem dX7_asking_2 : decode cX7_asking 2 = .ok (.getfield 30, 3) := dk_180 0 30 (dk_at dksX7_asking_0 2 rfl rfl)
theorem dX7_asking_5 : decode cX7_asking 5 = .ok (.iconst 1, 1) := dk_4 (dk_at dksX7_asking_0 5 rfl rfl)
theorem dX7_asking_6 : decode cX7_asking 6 = .ok (.iadd, 1) := dk_96 (dk_at dksX7_asking_0 6 rfl rfl)
theorem dX7_asking_7 : decode cX7_asking 7 = .ok (.putfield 30, 3) := dk_181 0 30 (dk_at dksX7_asking_0 7 rfl rfl)
theorem dX7_asking_10 : decode cX7_asking 10 = .ok (.aload_n 0, 1) := dk_42 (dk_at dksX7_asking_0 10 rfl rfl)
theorem dX7_asking_11 : decode cX7_asking 11 = .ok (.bipush 48, 2) := dk_16 48 (dk_at dksX7_asking_0 11 rfl rfl)
theorem dX7_asking_13 : decode cX7_asking 13 = .ok (.bipush 51, 2) := dk_16 51 (dk_at dksX7_asking_0 13 rfl rfl)
theorem dX7_asking_15 : decode cX7_asking 15 = .ok (.invokevirtual 26, 3) := dk_182 0 26 (dk_at dksX7_asking_0 15 rfl rfl)
theorem dX7_asking_18 : decode cX7_asking 18 = .ok (.istore_n 1, 1) := dk_60 (dk_at dksX7_asking_0 18 rfl rfl)
theorem dX7_asking_19 : decode cX7_asking 19 = .ok (.iload_n 1, 1) := dk_27 (dk_at dksX7_asking_0 19 rfl rfl)
theorem dX7_asking_20 : decode cX7_asking 20 = .ok (.iconst (-1), 1) := dk_2 (dk_at dksX7_asking_0 20 rfl rfl)
theorem dX7_asking_21 : decode cX7_asking 21 = .ok (.if_icmp .ne 7, 3) := dk_160 0 7 (dk_at dksX7_asking_0 21 rfl rfl)
theorem dX7_asking_24 : decode cX7_asking 24 = .ok (.iconst (-1), 1) := dk_2 (dk_at dksX7_asking_1 0 rfl rfl)
theorem dX7_asking_25 : decode cX7_asking 25 = .ok (.goto 11, 3) := dk_167 0 11 (dk_at dksX7_asking_1 1 rfl rfl)
theorem dX7_asking_28 : decode cX7_asking 28 = .ok (.aload_n 0, 1) := dk_42 (dk_at dksX7_asking_1 4 rfl rfl)
theorem dX7_asking_29 : decode cX7_asking 29 = .ok (.bipush 48, 2) := dk_16 48 (dk_at dksX7_asking_1 5 rfl rfl)
theorem dX7_asking_31 : decode cX7_asking 31 = .ok (.bipush 55, 2) := dk_16 55 (dk_at dksX7_asking_1 7 rfl rfl)
theorem dX7_asking_33 : decode cX7_asking 33 = .ok (.invokevirtual 26, 3) := dk_182 0 26 (dk_at dksX7_asking_1 9 rfl rfl)
theorem dX7_asking_36 : decode cX7_asking 36 = .ok (.istore_n 2, 1) := dk_61 (dk_at dksX7_asking_1 12 rfl rfl)
theorem dX7_asking_37 : decode cX7_asking 37 = .ok (.iload_n 2, 1) := dk_28 (dk_at dksX7_asking_1 13 rfl rfl)
theorem dX7_asking_38 : decode cX7_asking 38 = .ok (.iconst (-1), 1) := dk_2 (dk_at dksX7_asking_1 14 rfl rfl)
theorem dX7_asking_39 : decode cX7_asking 39 = .ok (.if_icmp .eq 30, 3) := dk_159 0 30 (dk_at dksX7_asking_1 15 rfl rfl)
theorem dX7_asking_42 : decode cX7_asking 42 = .ok (.aload_n 0, 1) := dk_42 (dk_at dksX7_asking_1 18 rfl rfl)
theorem dX7_asking_43 : decode cX7_asking 43 = .ok (.getfield 18, 3) := dk_180 0 18 (dk_at dksX7_asking_1 19 rfl rfl)
theorem dX7_asking_46 : decode cX7_asking 46 = .ok (.new 66, 3) := dk_187 0 66 (dk_at dksX7_asking_2 0 rfl rfl)
theorem dX7_asking_49 : decode cX7_asking 49 = .ok (.dup, 1) := dk_89 (dk_at dksX7_asking_2 3 rfl rfl)
theorem dX7_asking_50 : decode cX7_asking 50 = .ok (.bipush 113, 2) := dk_16 113 (dk_at dksX7_asking_2 4 rfl rfl)
theorem dX7_asking_52 : decode cX7_asking 52 = .ok (.iload_n 2, 1) := dk_28 (dk_at dksX7_asking_2 6 rfl rfl)
theorem dX7_asking_53 : decode cX7_asking 53 = .ok (.iload_n 1, 1) := dk_27 (dk_at dksX7_asking_2 7 rfl rfl)
theorem dX7_asking_54 : decode cX7_asking 54 = .ok (.invokespecial 68, 3) := dk_183 0 68 (dk_at dksX7_asking_2 8 rfl rfl)
theorem dX7_asking_57 : decode cX7_asking 57 = .ok (.invokeinterface 71 2, 5) := by decide +kernel
theorem dX7_asking_62 : decode cX7_asking 62 = .ok (.ifCond .eq 7, 3) := dk_153 0 7 (dk_at dksX7_asking_2 16 rfl rfl)
theorem dX7_asking_65 : decode cX7_asking 65 = .ok (.iconst 1, 1) := dk_4 (dk_at dksX7_asking_2 19 rfl rfl)
theorem dX7_asking_66 : decode cX7_asking 66 = .ok (.goto 4, 3) := dk_167 0 4 (dk_at dksX7_asking_2 20 rfl rfl)
theorem dX7_asking_69 : decode cX7_asking 69 = .ok (.iconst 0, 1) := dk_3 (dk_at dksX7_asking_2 23 rfl rfl)
theorem dX7_asking_70 : decode cX7_asking 70 = .ok (.ireturn, 1) := dk_172 (dk_at dksX7_asking_3 0 rfl rfl)
theorem q124 : (Jvm.Cond.initialized "VoteLogs$Reader") ∈ lw_all := lw_g (lw_at lw_m1 35 rfl) rfl
theorem q273 : (Jvm.Cond.selects "VoteLogs$Reader" ({ cls := "java/lang/Object", name := "getClass", desc := "()Ljava/lang/Class;" } : Jvm.MethodName) ({ cls := "java/lang/Object", name := "getClass", desc := "()Ljava/lang/Class;" } : Jvm.MethodName)) ∈ lw_all := lw_g (lw_at lw_m1 184 rfl) rfl
theorem q346 : (Jvm.Cond.fieldLinkNest "VoteLogs$Reader" (34 : Nat) "VoteLogs" "buffer" "Ljava/lang/StringBuilder;" "VoteLogs") ∈ lw_tbl := lw_at lw_m2 17 rfl
theorem q1102 : (Jvm.Cond.instantiable "VoteLogs$Reader" (4 : Nat)) ∈ lw_all := lw_g (lw_at lw_m5 53 rfl) rfl
theorem q1104 : (Jvm.Cond.instanceMethod ({ cls := "VoteLogs$Reader", name := "<init>", desc := "(LVoteLogs;)V" } : Jvm.MethodName)) ∈ lw_all := lw_g (lw_at lw_m5 55 rfl) rfl
theorem q1105 : (Jvm.Cond.code ({ cls := "VoteLogs$Reader", name := "<init>", desc := "(LVoteLogs;)V" } : Jvm.MethodName) prog_15_method_1_code (2 : Nat) (Option.none : Option Jvm.ClassFile.FieldType)) ∈ lw_all := lw_g (lw_at lw_m5 56 rfl) rfl
theorem q1106 : (Jvm.Cond.methodLink "VoteLogs$Reader" (9 : Nat) ({ cls := "java/lang/Object", name := "<init>", desc := "()V" } : Jvm.MethodName)) ∈ lw_all := lw_g (lw_at lw_m5 57 rfl) rfl
theorem q1107 : (Jvm.Cond.classLink "VoteLogs$Reader" (15 : Nat) "java/util/ArrayList") ∈ lw_all := lw_g (lw_at lw_m5 58 rfl) rfl
theorem q1108 : (Jvm.Cond.methodLink "VoteLogs$Reader" (17 : Nat) ({ cls := "java/util/ArrayList", name := "<init>", desc := "()V" } : Jvm.MethodName)) ∈ lw_all := lw_g (lw_at lw_m5 59 rfl) rfl
theorem q1109 : (Jvm.Cond.fieldLink "VoteLogs$Reader" (18 : Nat) "VoteLogs$Reader" "parts" "Ljava/util/List;") ∈ lw_all := lw_g (lw_at lw_m5 60 rfl) rfl
theorem q1111 : (Jvm.Cond.fieldLink "VoteLogs$Reader" (30 : Nat) "VoteLogs$Reader" "at" "I") ∈ lw_all := lw_g (lw_at lw_m5 62 rfl) rfl
theorem q1113 : (Jvm.Cond.fieldLink "VoteLogs$Reader" (44 : Nat) "VoteLogs$Reader" "isWhole" "Z") ∈ lw_all := lw_g (lw_at lw_m5 64 rfl) rfl
theorem q1115 : (Jvm.Cond.fieldLink "VoteLogs$Reader" (3 : Nat) "VoteLogs$Reader" "this$0" "LVoteLogs;") ∈ lw_all := lw_g (lw_at lw_m5 66 rfl) rfl
theorem q1116 : (Jvm.Cond.laysFinal "VoteLogs$Reader" "VoteLogs$Reader" "parts" "Ljava/util/List;") ∈ lw_all := lw_g (lw_at lw_m5 67 rfl) rfl
theorem q1117 : (Jvm.Cond.soleField "VoteLogs$Reader" "parts") ∈ lw_all := lw_g (lw_at lw_m5 68 rfl) rfl
theorem q1118 : (Jvm.Cond.lays "VoteLogs$Reader" "VoteLogs$Reader" "at" "I") ∈ lw_all := lw_g (lw_at lw_m5 69 rfl) rfl
theorem q1119 : (Jvm.Cond.soleField "VoteLogs$Reader" "at") ∈ lw_all := lw_g (lw_at lw_m5 70 rfl) rfl
theorem q1120 : (Jvm.Cond.lays "VoteLogs$Reader" "VoteLogs$Reader" "isWhole" "Z") ∈ lw_all := lw_g (lw_at lw_m5 71 rfl) rfl
theorem q1121 : (Jvm.Cond.soleField "VoteLogs$Reader" "isWhole") ∈ lw_all := lw_g (lw_at lw_m5 72 rfl) rfl
theorem q1122 : (Jvm.Cond.laysFinal "VoteLogs$Reader" "VoteLogs$Reader" "this$0" "LVoteLogs;") ∈ lw_all := lw_g (lw_at lw_m5 73 rfl) rfl
theorem q1123 : (Jvm.Cond.soleField "VoteLogs$Reader" "this$0") ∈ lw_all := lw_g (lw_at lw_m5 74 rfl) rfl
theorem q1124 : (Jvm.Cond.superclass "VoteLogs$Reader" "java/lang/Object") ∈ lw_all := lw_g (lw_at lw_m5 75 rfl) rfl
theorem q1126 : (Jvm.Cond.instanceMethod ({ cls := "VoteLogs$Reader", name := "reads", desc := "()LVoteLogs$Reader;" } : Jvm.MethodName)) ∈ lw_all := lw_g (lw_at lw_m5 77 rfl) rfl
theorem q1127 : (Jvm.Cond.selects "VoteLogs$Reader" ({ cls := "VoteLogs$Reader", name := "reads", desc := "()LVoteLogs$Reader;" } : Jvm.MethodName) ({ cls := "VoteLogs$Reader", name := "reads", desc := "()LVoteLogs$Reader;" } : Jvm.MethodName)) ∈ lw_all := lw_g (lw_at lw_m5 78 rfl) rfl
theorem q1128 : (Jvm.Cond.code ({ cls := "VoteLogs$Reader", name := "reads", desc := "()LVoteLogs$Reader;" } : Jvm.MethodName) prog_15_method_2_code (2 : Nat) (Option.some (Jvm.ClassFile.FieldType.object "VoteLogs$Reader"))) ∈ lw_all := lw_g (lw_at lw_m5 79 rfl) rfl
theorem q1129 : (Jvm.Cond.methodLink "VoteLogs$Reader" (22 : Nat) ({ cls := "VoteLogs$Reader", name := "part", desc := "()Z" } : Jvm.MethodName)) ∈ lw_all := lw_g (lw_at lw_m5 80 rfl) rfl
theorem q1130 : (Jvm.Cond.privateMethod ({ cls := "VoteLogs$Reader", name := "part", desc := "()Z" } : Jvm.MethodName)) ∈ lw_tbl := lw_at lw_m5 81 rfl
theorem q1131 : (Jvm.Cond.instanceMethod ({ cls := "VoteLogs$Reader", name := "part", desc := "()Z" } : Jvm.MethodName)) ∈ lw_all := lw_g (lw_at lw_m5 82 rfl) rfl
theorem q1132 : (Jvm.Cond.code ({ cls := "VoteLogs$Reader", name := "part", desc := "()Z" } : Jvm.MethodName) prog_15_method_5_code (2 : Nat) (Option.some Jvm.ClassFile.FieldType.boolean)) ∈ lw_all := lw_g (lw_at lw_m5 83 rfl) rfl
theorem q1133 : (Jvm.Cond.methodLink "VoteLogs$Reader" (26 : Nat) ({ cls := "VoteLogs$Reader", name := "next", desc := "(CC)I" } : Jvm.MethodName)) ∈ lw_all := lw_g (lw_at lw_m5 84 rfl) rfl
theorem q1134 : (Jvm.Cond.privateMethod ({ cls := "VoteLogs$Reader", name := "next", desc := "(CC)I" } : Jvm.MethodName)) ∈ lw_tbl := lw_at lw_m5 85 rfl
theorem q1135 : (Jvm.Cond.instanceMethod ({ cls := "VoteLogs$Reader", name := "next", desc := "(CC)I" } : Jvm.MethodName)) ∈ lw_all := lw_g (lw_at lw_m5 86 rfl) rfl
theorem q1136 : (Jvm.Cond.code ({ cls := "VoteLogs$Reader", name := "next", desc := "(CC)I" } : Jvm.MethodName) prog_15_method_4_code (3 : Nat) (Option.some Jvm.ClassFile.FieldType.int)) ∈ lw_all := lw_g (lw_at lw_m5 87 rfl) rfl
theorem q1137 : (Jvm.Cond.methodLink "VoteLogs$Reader" (52 : Nat) ({ cls := "VoteLogs$Reader", name := "sees", desc := "(CC)Z" } : Jvm.MethodName)) ∈ lw_all := lw_g (lw_at lw_m5 88 rfl) rfl
theorem q1138 : (Jvm.Cond.privateMethod ({ cls := "VoteLogs$Reader", name := "sees", desc := "(CC)Z" } : Jvm.MethodName)) ∈ lw_tbl := lw_at lw_m5 89 rfl
theorem q1139 : (Jvm.Cond.instanceMethod ({ cls := "VoteLogs$Reader", name := "sees", desc := "(CC)Z" } : Jvm.MethodName)) ∈ lw_all := lw_g (lw_at lw_m5 90 rfl) rfl
theorem q1140 : (Jvm.Cond.code ({ cls := "VoteLogs$Reader", name := "sees", desc := "(CC)Z" } : Jvm.MethodName) prog_15_method_3_code (3 : Nat) (Option.some Jvm.ClassFile.FieldType.boolean)) ∈ lw_all := lw_g (lw_at lw_m5 91 rfl) rfl
theorem q1141 : (Jvm.Cond.methodLink "VoteLogs$Reader" (38 : Nat) ({ cls := "java/lang/StringBuilder", name := "length", desc := "()I" } : Jvm.MethodName)) ∈ lw_all := lw_g (lw_at lw_m5 92 rfl) rfl
theorem q1142 : (Jvm.Cond.methodLink "VoteLogs$Reader" (48 : Nat) ({ cls := "java/lang/StringBuilder", name := "charAt", desc := "(I)C" } : Jvm.MethodName)) ∈ lw_all := lw_g (lw_at lw_m5 93 rfl) rfl
theorem q1155 : (Jvm.Cond.methodLink "VoteLogs$Reader" (56 : Nat) ({ cls := "VoteLogs$Reader", name := "beginning", desc := "()Z" } : Jvm.MethodName)) ∈ lw_all := lw_g (lw_at lw_m5 106 rfl) rfl
theorem q1156 : (Jvm.Cond.privateMethod ({ cls := "VoteLogs$Reader", name := "beginning", desc := "()Z" } : Jvm.MethodName)) ∈ lw_tbl := lw_at lw_m5 107 rfl
theorem q1157 : (Jvm.Cond.instanceMethod ({ cls := "VoteLogs$Reader", name := "beginning", desc := "()Z" } : Jvm.MethodName)) ∈ lw_all := lw_g (lw_at lw_m5 108 rfl) rfl
theorem q1158 : (Jvm.Cond.code ({ cls := "VoteLogs$Reader", name := "beginning", desc := "()Z" } : Jvm.MethodName) prog_15_method_9_code (5 : Nat) (Option.some Jvm.ClassFile.FieldType.boolean)) ∈ lw_all := lw_g (lw_at lw_m5 109 rfl) rfl
theorem q1159 : (Jvm.Cond.methodLink "VoteLogs$Reader" (77 : Nat) ({ cls := "VoteLogs$Reader", name := "store", desc := "(II)I" } : Jvm.MethodName)) ∈ lw_all := lw_g (lw_at lw_m5 110 rfl) rfl
theorem q1160 : (Jvm.Cond.privateMethod ({ cls := "VoteLogs$Reader", name := "store", desc := "(II)I" } : Jvm.MethodName)) ∈ lw_tbl := lw_at lw_m5 111 rfl
theorem q1161 : (Jvm.Cond.instanceMethod ({ cls := "VoteLogs$Reader", name := "store", desc := "(II)I" } : Jvm.MethodName)) ∈ lw_all := lw_g (lw_at lw_m5 112 rfl) rfl
theorem q1162 : (Jvm.Cond.code ({ cls := "VoteLogs$Reader", name := "store", desc := "(II)I" } : Jvm.MethodName) prog_15_method_8_code (4 : Nat) (Option.some Jvm.ClassFile.FieldType.int)) ∈ lw_all := lw_g (lw_at lw_m5 113 rfl) rfl
theorem q1163 : (Jvm.Cond.methodLink "VoteLogs$Reader" (81 : Nat) ({ cls := "VoteLogs$Reader", name := "size", desc := "()I" } : Jvm.MethodName)) ∈ lw_all := lw_g (lw_at lw_m5 114 rfl) rfl
theorem q1164 : (Jvm.Cond.privateMethod ({ cls := "VoteLogs$Reader", name := "size", desc := "()I" } : Jvm.MethodName)) ∈ lw_tbl := lw_at lw_m5 115 rfl
theorem q1165 : (Jvm.Cond.instanceMethod ({ cls := "VoteLogs$Reader", name := "size", desc := "()I" } : Jvm.MethodName)) ∈ lw_all := lw_g (lw_at lw_m5 116 rfl) rfl
theorem q1166 : (Jvm.Cond.code ({ cls := "VoteLogs$Reader", name := "size", desc := "()I" } : Jvm.MethodName) prog_15_method_10_code (2 : Nat) (Option.some Jvm.ClassFile.FieldType.int)) ∈ lw_all := lw_g (lw_at lw_m5 117 rfl) rfl
theorem q1167 : (Jvm.Cond.classLink "VoteLogs$Reader" (84 : Nat) "VoteLogs$Beginning") ∈ lw_all := lw_g (lw_at lw_m5 118 rfl) rfl
theorem q1169 : (Jvm.Cond.classLink "VoteLogs$Reader" (86 : Nat) "VoteLogs$Transfer") ∈ lw_all := lw_g (lw_at lw_m5 120 rfl) rfl
theorem q1171 : (Jvm.Cond.methodLink "VoteLogs$Reader" (88 : Nat) ({ cls := "VoteLogs$Transfer", name := "<init>", desc := "(III)V" } : Jvm.MethodName)) ∈ lw_all := lw_g (lw_at lw_m5 122 rfl) rfl
theorem q1186 : (Jvm.Cond.methodLink "VoteLogs$Reader" (91 : Nat) ({ cls := "VoteLogs$Beginning", name := "<init>", desc := "(LVoteLogs$Transfer;)V" } : Jvm.MethodName)) ∈ lw_all := lw_g (lw_at lw_m5 137 rfl) rfl
theorem q1195 : (Jvm.Cond.interfaceEntry "VoteLogs$Reader" (71 : Nat)) ∈ lw_tbl := lw_at lw_m5 146 rfl
theorem q1196 : (Jvm.Cond.methodLink "VoteLogs$Reader" (71 : Nat) ({ cls := "java/util/List", name := "add", desc := "(Ljava/lang/Object;)Z" } : Jvm.MethodName)) ∈ lw_all := lw_g (lw_at lw_m5 147 rfl) rfl
theorem q1197 : (Jvm.Cond.methodLink "VoteLogs$Reader" (59 : Nat) ({ cls := "VoteLogs$Reader", name := "deed", desc := "(CCC)Z" } : Jvm.MethodName)) ∈ lw_all := lw_g (lw_at lw_m5 148 rfl) rfl
theorem q1198 : (Jvm.Cond.privateMethod ({ cls := "VoteLogs$Reader", name := "deed", desc := "(CCC)Z" } : Jvm.MethodName)) ∈ lw_tbl := lw_at lw_m5 149 rfl
theorem q1199 : (Jvm.Cond.instanceMethod ({ cls := "VoteLogs$Reader", name := "deed", desc := "(CCC)Z" } : Jvm.MethodName)) ∈ lw_all := lw_g (lw_at lw_m5 150 rfl) rfl
theorem q1200 : (Jvm.Cond.code ({ cls := "VoteLogs$Reader", name := "deed", desc := "(CCC)Z" } : Jvm.MethodName) prog_15_method_6_code (5 : Nat) (Option.some Jvm.ClassFile.FieldType.boolean)) ∈ lw_all := lw_g (lw_at lw_m5 151 rfl) rfl
theorem q1201 : (Jvm.Cond.classLink "VoteLogs$Reader" (66 : Nat) "VoteLogs$Deed") ∈ lw_all := lw_g (lw_at lw_m5 152 rfl) rfl
theorem q1203 : (Jvm.Cond.methodLink "VoteLogs$Reader" (68 : Nat) ({ cls := "VoteLogs$Deed", name := "<init>", desc := "(CII)V" } : Jvm.MethodName)) ∈ lw_all := lw_g (lw_at lw_m5 154 rfl) rfl
theorem q1220 : (Jvm.Cond.methodLink "VoteLogs$Reader" (63 : Nat) ({ cls := "VoteLogs$Reader", name := "asking", desc := "()Z" } : Jvm.MethodName)) ∈ lw_all := lw_g (lw_at lw_m5 171 rfl) rfl
theorem q1221 : (Jvm.Cond.privateMethod ({ cls := "VoteLogs$Reader", name := "asking", desc := "()Z" } : Jvm.MethodName)) ∈ lw_tbl := lw_at lw_m5 172 rfl
theorem q1222 : (Jvm.Cond.instanceMethod ({ cls := "VoteLogs$Reader", name := "asking", desc := "()Z" } : Jvm.MethodName)) ∈ lw_all := lw_g (lw_at lw_m5 173 rfl) rfl
theorem q1223 : (Jvm.Cond.code ({ cls := "VoteLogs$Reader", name := "asking", desc := "()Z" } : Jvm.MethodName) prog_15_method_7_code (3 : Nat) (Option.some Jvm.ClassFile.FieldType.boolean)) ∈ lw_all := lw_g (lw_at lw_m5 174 rfl) rfl
theorem q2315 : (Jvm.Cond.castable "VoteLogs$Reader" "java/lang/Object") ∈ lw_tbl := lw_at lw_m10 66 rfl
theorem in_X7 : ∀ w ∈ wsX70, w ∈ lw_all := lw_in wsX70 [1116, 1118, 1120, 1122] (by decide +kernel) (by decide +kernel)
/-! VoteLogs$Beginning -/
set_option maxRecDepth 100000
def RX8 : String := "VoteLogs$Beginning"
def TX8 : u_T := fun k => match k with
  | _ => ("VoteLogs$Beginning", "transfer", "LVoteLogs$Transfer;", true)
def tyX8 : Nat → FieldType := fun k => match k with
  | _ => .object "VoteLogs$Transfer"
abbrev wsX80 : List Cond := u_ws RX8 TX8 1
theorem nmX8 : ∀ a, a < 1 → ∀ b, b < 1 → a ≠ b → (TX8 a).2.1 ≠ (TX8 b).2.1 := by decide +kernel
theorem tyX8_ok : ∀ k, k < 1 → parseFieldDescriptor (TX8 k).2.2.1 = some (tyX8 k) := by decide +kernel
abbrev cX8_init : ByteArray := prog_2_method_1_code
def yX8_init : MethodName := ⟨RX8, "<init>", "(LVoteLogs$Transfer;)V"⟩
def dkwX8_init_0 : List UInt8 := [42, 183, 0, 1, 42, 43, 181, 0, 7, 177]
abbrev dktX8_init_0 : List UInt8 := dkwX8_init_0 ++ []
theorem dksX8_init_0 : cX8_init.data.toList.drop 0 = dktX8_init_0 := by decide +kernel
theorem dX8_init_0 : decode cX8_init 0 = .ok (.aload_n 0, 1) := dk_42 (dk_at dksX8_init_0 0 rfl rfl)
theorem dX8_init_1 : decode cX8_init 1 = .ok (.invokespecial 1, 3) := dk_183 0 1 (dk_at dksX8_init_0 1 rfl rfl)
theorem dX8_init_4 : decode cX8_init 4 = .ok (.aload_n 0, 1) := dk_42 (dk_at dksX8_init_0 4 rfl rfl)
theorem dX8_init_5 : decode cX8_init 5 = .ok (.aload_n 1, 1) := dk_43 (dk_at dksX8_init_0 5 rfl rfl)
theorem dX8_init_6 : decode cX8_init 6 = .ok (.putfield 7, 3) := dk_181 0 7 (dk_at dksX8_init_0 6 rfl rfl)
theorem dX8_init_9 : decode cX8_init 9 = .ok (.return_, 1) := dk_177 (dk_at dksX8_init_0 9 rfl rfl)
theorem q125 : (Jvm.Cond.initialized "VoteLogs$Beginning") ∈ lw_all := lw_g (lw_at lw_m1 36 rfl) rfl
theorem q262 : (Jvm.Cond.selects "VoteLogs$Beginning" ({ cls := "java/lang/Object", name := "getClass", desc := "()Ljava/lang/Class;" } : Jvm.MethodName) ({ cls := "java/lang/Object", name := "getClass", desc := "()Ljava/lang/Class;" } : Jvm.MethodName)) ∈ lw_all := lw_g (lw_at lw_m1 173 rfl) rfl
theorem q1168 : (Jvm.Cond.instantiable "VoteLogs$Beginning" (1 : Nat)) ∈ lw_all := lw_g (lw_at lw_m5 119 rfl) rfl
theorem q1187 : (Jvm.Cond.instanceMethod ({ cls := "VoteLogs$Beginning", name := "<init>", desc := "(LVoteLogs$Transfer;)V" } : Jvm.MethodName)) ∈ lw_all := lw_g (lw_at lw_m5 138 rfl) rfl
theorem q1188 : (Jvm.Cond.code ({ cls := "VoteLogs$Beginning", name := "<init>", desc := "(LVoteLogs$Transfer;)V" } : Jvm.MethodName) prog_2_method_1_code (2 : Nat) (Option.none : Option Jvm.ClassFile.FieldType)) ∈ lw_all := lw_g (lw_at lw_m5 139 rfl) rfl
theorem q1189 : (Jvm.Cond.methodLink "VoteLogs$Beginning" (1 : Nat) ({ cls := "java/lang/Object", name := "<init>", desc := "()V" } : Jvm.MethodName)) ∈ lw_all := lw_g (lw_at lw_m5 140 rfl) rfl
theorem q1190 : (Jvm.Cond.fieldLink "VoteLogs$Beginning" (7 : Nat) "VoteLogs$Beginning" "transfer" "LVoteLogs$Transfer;") ∈ lw_all := lw_g (lw_at lw_m5 141 rfl) rfl
theorem q1192 : (Jvm.Cond.laysFinal "VoteLogs$Beginning" "VoteLogs$Beginning" "transfer" "LVoteLogs$Transfer;") ∈ lw_all := lw_g (lw_at lw_m5 143 rfl) rfl
theorem q1193 : (Jvm.Cond.soleField "VoteLogs$Beginning" "transfer") ∈ lw_all := lw_g (lw_at lw_m5 144 rfl) rfl
theorem q1194 : (Jvm.Cond.superclass "VoteLogs$Beginning" "java/lang/Object") ∈ lw_all := lw_g (lw_at lw_m5 145 rfl) rfl
theorem q2290 : (Jvm.Cond.castable "VoteLogs$Beginning" "VoteLogs$Part") ∈ lw_tbl := lw_at lw_m10 41 rfl
theorem q2316 : (Jvm.Cond.castable "VoteLogs$Beginning" "java/lang/Object") ∈ lw_tbl := lw_at lw_m10 67 rfl
theorem in_X8 : ∀ w ∈ wsX80, w ∈ lw_all := lw_in wsX80 [1192] (by decide +kernel) (by decide +kernel)
/-! VoteLogs$Deed -/
set_option maxRecDepth 100000
def RX9 : String := "VoteLogs$Deed"
def TX9 : u_T := fun k => match k with
  | 0 => ("VoteLogs$Deed", "sort", "C", true)
  | 1 => ("VoteLogs$Deed", "number", "I", true)
  | _ => ("VoteLogs$Deed", "other", "I", true)
def tyX9 : Nat → FieldType := fun k => match k with
  | 0 => .char
  | 1 => .int
  | _ => .int
abbrev wsX90 : List Cond := u_ws RX9 TX9 3
theorem nmX9 : ∀ a, a < 3 → ∀ b, b < 3 → a ≠ b → (TX9 a).2.1 ≠ (TX9 b).2.1 := by decide +kernel
theorem tyX9_ok : ∀ k, k < 3 → parseFieldDescriptor (TX9 k).2.2.1 = some (tyX9 k) := by decide +kernel
abbrev cX9_init : ByteArray := prog_3_method_1_code
def yX9_init : MethodName := ⟨RX9, "<init>", "(CII)V"⟩
def dkwX9_init_0 : List UInt8 := [42, 183, 0, 1, 42, 27, 181, 0, 7, 42, 28, 181, 0, 13, 42, 29, 181, 0, 17, 177]
abbrev dktX9_init_0 : List UInt8 := dkwX9_init_0 ++ []
theorem dksX9_init_0 : cX9_init.data.toList.drop 0 = dktX9_init_0 := by decide +kernel
theorem dX9_init_0 : decode cX9_init 0 = .ok (.aload_n 0, 1) := dk_42 (dk_at dksX9_init_0 0 rfl rfl)
theorem dX9_init_1 : decode cX9_init 1 = .ok (.invokespecial 1, 3) := dk_183 0 1 (dk_at dksX9_init_0 1 rfl rfl)
theorem dX9_init_4 : decode cX9_init 4 = .ok (.aload_n 0, 1) := dk_42 (dk_at dksX9_init_0 4 rfl rfl)
theorem dX9_init_5 : decode cX9_init 5 = .ok (.iload_n 1, 1) := dk_27 (dk_at dksX9_init_0 5 rfl rfl)
theorem dX9_init_6 : decode cX9_init 6 = .ok (.putfield 7, 3) := dk_181 0 7 (dk_at dksX9_init_0 6 rfl rfl)
theorem dX9_init_9 : decode cX9_init 9 = .ok (.aload_n 0, 1) := dk_42 (dk_at dksX9_init_0 9 rfl rfl)
theorem dX9_init_10 : decode cX9_init 10 = .ok (.iload_n 2, 1) := dk_28 (dk_at dksX9_init_0 10 rfl rfl)
theorem dX9_init_11 : decode cX9_init 11 = .ok (.putfield 13, 3) := dk_181 0 13 (dk_at dksX9_init_0 11 rfl rfl)
theorem dX9_init_14 : decode cX9_init 14 = .ok (.aload_n 0, 1) := dk_42 (dk_at dksX9_init_0 14 rfl rfl)
theorem dX9_init_15 : decode cX9_init 15 = .ok (.iload_n 3, 1) := dk_29 (dk_at dksX9_init_0 15 rfl rfl)
theorem dX9_init_16 : decode cX9_init 16 = .ok (.putfield 17, 3) := dk_181 0 17 (dk_at dksX9_init_0 16 rfl rfl)
theorem dX9_init_19 : decode cX9_init 19 = .ok (.return_, 1) := dk_177 (dk_at dksX9_init_0 19 rfl rfl)
theorem q126 : (Jvm.Cond.initialized "VoteLogs$Deed") ∈ lw_all := lw_g (lw_at lw_m1 37 rfl) rfl
theorem q263 : (Jvm.Cond.selects "VoteLogs$Deed" ({ cls := "java/lang/Object", name := "getClass", desc := "()Ljava/lang/Class;" } : Jvm.MethodName) ({ cls := "java/lang/Object", name := "getClass", desc := "()Ljava/lang/Class;" } : Jvm.MethodName)) ∈ lw_all := lw_g (lw_at lw_m1 174 rfl) rfl
theorem q1202 : (Jvm.Cond.instantiable "VoteLogs$Deed" (3 : Nat)) ∈ lw_all := lw_g (lw_at lw_m5 153 rfl) rfl
theorem q1204 : (Jvm.Cond.instanceMethod ({ cls := "VoteLogs$Deed", name := "<init>", desc := "(CII)V" } : Jvm.MethodName)) ∈ lw_all := lw_g (lw_at lw_m5 155 rfl) rfl
theorem q1205 : (Jvm.Cond.code ({ cls := "VoteLogs$Deed", name := "<init>", desc := "(CII)V" } : Jvm.MethodName) prog_3_method_1_code (4 : Nat) (Option.none : Option Jvm.ClassFile.FieldType)) ∈ lw_all := lw_g (lw_at lw_m5 156 rfl) rfl
theorem q1206 : (Jvm.Cond.methodLink "VoteLogs$Deed" (1 : Nat) ({ cls := "java/lang/Object", name := "<init>", desc := "()V" } : Jvm.MethodName)) ∈ lw_all := lw_g (lw_at lw_m5 157 rfl) rfl
theorem q1207 : (Jvm.Cond.fieldLink "VoteLogs$Deed" (7 : Nat) "VoteLogs$Deed" "sort" "C") ∈ lw_all := lw_g (lw_at lw_m5 158 rfl) rfl
theorem q1209 : (Jvm.Cond.fieldLink "VoteLogs$Deed" (13 : Nat) "VoteLogs$Deed" "number" "I") ∈ lw_all := lw_g (lw_at lw_m5 160 rfl) rfl
theorem q1211 : (Jvm.Cond.fieldLink "VoteLogs$Deed" (17 : Nat) "VoteLogs$Deed" "other" "I") ∈ lw_all := lw_g (lw_at lw_m5 162 rfl) rfl
theorem q1213 : (Jvm.Cond.laysFinal "VoteLogs$Deed" "VoteLogs$Deed" "sort" "C") ∈ lw_all := lw_g (lw_at lw_m5 164 rfl) rfl
theorem q1214 : (Jvm.Cond.soleField "VoteLogs$Deed" "sort") ∈ lw_all := lw_g (lw_at lw_m5 165 rfl) rfl
theorem q1215 : (Jvm.Cond.laysFinal "VoteLogs$Deed" "VoteLogs$Deed" "number" "I") ∈ lw_all := lw_g (lw_at lw_m5 166 rfl) rfl
theorem q1216 : (Jvm.Cond.soleField "VoteLogs$Deed" "number") ∈ lw_all := lw_g (lw_at lw_m5 167 rfl) rfl
theorem q1217 : (Jvm.Cond.laysFinal "VoteLogs$Deed" "VoteLogs$Deed" "other" "I") ∈ lw_all := lw_g (lw_at lw_m5 168 rfl) rfl
theorem q1218 : (Jvm.Cond.soleField "VoteLogs$Deed" "other") ∈ lw_all := lw_g (lw_at lw_m5 169 rfl) rfl
theorem q1219 : (Jvm.Cond.superclass "VoteLogs$Deed" "java/lang/Object") ∈ lw_all := lw_g (lw_at lw_m5 170 rfl) rfl
theorem q2291 : (Jvm.Cond.castable "VoteLogs$Deed" "VoteLogs$Part") ∈ lw_tbl := lw_at lw_m10 42 rfl
theorem q2317 : (Jvm.Cond.castable "VoteLogs$Deed" "java/lang/Object") ∈ lw_tbl := lw_at lw_m10 68 rfl
theorem in_X9 : ∀ w ∈ wsX90, w ∈ lw_all := lw_in wsX90 [1213, 1215, 1217] (by decide +kernel) (by decide +kernel)
/-! VoteLogs$Kind$1 -/
set_option maxRecDepth 100000
def RX10 : String := "VoteLogs$Kind$1"
abbrev cX10_comes : ByteArray := prog_6_method_2_code
def yX10_comes : MethodName := ⟨RX10, "comes", "(LVoteLogs$Town;LVoteLogs$Message;)V"⟩
def dkwX10_comes_0 : List UInt8 := [43, 44, 182, 0, 7, 177]
abbrev dktX10_comes_0 : List UInt8 := dkwX10_comes_0 ++ []
theorem dksX10_comes_0 : cX10_comes.data.toList.drop 0 = dktX10_comes_0 := by decide +kernel
theorem dX10_comes_0 : decode cX10_comes 0 = .ok (.aload_n 1, 1) := dk_43 (dk_at dksX10_comes_0 0 rfl rfl)
theorem dX10_comes_1 : decode cX10_comes 1 = .ok (.aload_n 2, 1) := dk_44 (dk_at dksX10_comes_0 1 rfl rfl)
theorem dX10_comes_2 : decode cX10_comes 2 = .ok (.invokevirtual 7, 3) := dk_182 0 7 (dk_at dksX10_comes_0 2 rfl rfl)
theorem dX10_comes_5 : decode cX10_comes 5 = .ok (.return_, 1) := dk_177 (dk_at dksX10_comes_0 5 rfl rfl)
theorem q265 : (Jvm.Cond.selects "VoteLogs$Kind$1" ({ cls := "java/lang/Object", name := "getClass", desc := "()Ljava/lang/Class;" } : Jvm.MethodName) ({ cls := "java/lang/Object", name := "getClass", desc := "()Ljava/lang/Class;" } : Jvm.MethodName)) ∈ lw_all := lw_g (lw_at lw_m1 176 rfl) rfl
theorem q842 : (Jvm.Cond.selects "VoteLogs$Kind$1" ({ cls := "VoteLogs$Kind", name := "comes", desc := "(LVoteLogs$Town;LVoteLogs$Message;)V" } : Jvm.MethodName) ({ cls := "VoteLogs$Kind$1", name := "comes", desc := "(LVoteLogs$Town;LVoteLogs$Message;)V" } : Jvm.MethodName)) ∈ lw_all := lw_g (lw_at lw_m4 33 rfl) rfl
theorem q843 : (Jvm.Cond.instanceMethod ({ cls := "VoteLogs$Kind$1", name := "comes", desc := "(LVoteLogs$Town;LVoteLogs$Message;)V" } : Jvm.MethodName)) ∈ lw_all := lw_g (lw_at lw_m4 34 rfl) rfl
theorem q844 : (Jvm.Cond.code ({ cls := "VoteLogs$Kind$1", name := "comes", desc := "(LVoteLogs$Town;LVoteLogs$Message;)V" } : Jvm.MethodName) prog_6_method_2_code (3 : Nat) (Option.none : Option Jvm.ClassFile.FieldType)) ∈ lw_all := lw_g (lw_at lw_m4 35 rfl) rfl
theorem q845 : (Jvm.Cond.methodLink "VoteLogs$Kind$1" (7 : Nat) ({ cls := "VoteLogs$Town", name := "hearsAsking", desc := "(LVoteLogs$Message;)V" } : Jvm.MethodName)) ∈ lw_all := lw_g (lw_at lw_m4 36 rfl) rfl
theorem q1379 : (Jvm.Cond.selects "VoteLogs$Kind$1" ({ cls := "VoteLogs$Kind", name := "ordinal", desc := "()I" } : Jvm.MethodName) ({ cls := "java/lang/Enum", name := "ordinal", desc := "()I" } : Jvm.MethodName)) ∈ lw_all := lw_g (lw_at lw_m6 90 rfl) rfl
theorem q2306 : (Jvm.Cond.castable "VoteLogs$Kind$1" "java/lang/Object") ∈ lw_tbl := lw_at lw_m10 57 rfl
/-! VoteLogs$Kind$2 -/
set_option maxRecDepth 100000
def RX11 : String := "VoteLogs$Kind$2"
abbrev cX11_comes : ByteArray := prog_7_method_2_code
def yX11_comes : MethodName := ⟨RX11, "comes", "(LVoteLogs$Town;LVoteLogs$Message;)V"⟩
def dkwX11_comes_0 : List UInt8 := [43, 44, 182, 0, 7, 177]
abbrev dktX11_comes_0 : List UInt8 := dkwX11_comes_0 ++ []
theorem dksX11_comes_0 : cX11_comes.data.toList.drop 0 = dktX11_comes_0 := by decide +kernel
theorem dX11_comes_0 : decode cX11_comes 0 = .ok (.aload_n 1, 1) := dk_43 (dk_at dksX11_comes_0 0 rfl rfl)
theorem dX11_comes_1 : decode cX11_comes 1 = .ok (.aload_n 2, 1) := dk_44 (dk_at dksX11_comes_0 1 rfl rfl)
theorem dX11_comes_2 : decode cX11_comes 2 = .ok (.invokevirtual 7, 3) := dk_182 0 7 (dk_at dksX11_comes_0 2 rfl rfl)
theorem dX11_comes_5 : decode cX11_comes 5 = .ok (.return_, 1) := dk_177 (dk_at dksX11_comes_0 5 rfl rfl)
theorem q266 : (Jvm.Cond.selects "VoteLogs$Kind$2" ({ cls := "java/lang/Object", name := "getClass", desc := "()Ljava/lang/Class;" } : Jvm.MethodName) ({ cls := "java/lang/Object", name := "getClass", desc := "()Ljava/lang/Class;" } : Jvm.MethodName)) ∈ lw_all := lw_g (lw_at lw_m1 177 rfl) rfl
theorem q945 : (Jvm.Cond.selects "VoteLogs$Kind$2" ({ cls := "VoteLogs$Kind", name := "comes", desc := "(LVoteLogs$Town;LVoteLogs$Message;)V" } : Jvm.MethodName) ({ cls := "VoteLogs$Kind$2", name := "comes", desc := "(LVoteLogs$Town;LVoteLogs$Message;)V" } : Jvm.MethodName)) ∈ lw_all := lw_g (lw_at lw_m4 136 rfl) rfl
theorem q946 : (Jvm.Cond.instanceMethod ({ cls := "VoteLogs$Kind$2", name := "comes", desc := "(LVoteLogs$Town;LVoteLogs$Message;)V" } : Jvm.MethodName)) ∈ lw_all := lw_g (lw_at lw_m4 137 rfl) rfl
theorem q947 : (Jvm.Cond.code ({ cls := "VoteLogs$Kind$2", name := "comes", desc := "(LVoteLogs$Town;LVoteLogs$Message;)V" } : Jvm.MethodName) prog_7_method_2_code (3 : Nat) (Option.none : Option Jvm.ClassFile.FieldType)) ∈ lw_all := lw_g (lw_at lw_m4 138 rfl) rfl
theorem q948 : (Jvm.Cond.methodLink "VoteLogs$Kind$2" (7 : Nat) ({ cls := "VoteLogs$Town", name := "hearsYes", desc := "(LVoteLogs$Message;)V" } : Jvm.MethodName)) ∈ lw_all := lw_g (lw_at lw_m4 139 rfl) rfl
theorem q1380 : (Jvm.Cond.selects "VoteLogs$Kind$2" ({ cls := "VoteLogs$Kind", name := "ordinal", desc := "()I" } : Jvm.MethodName) ({ cls := "java/lang/Enum", name := "ordinal", desc := "()I" } : Jvm.MethodName)) ∈ lw_all := lw_g (lw_at lw_m6 91 rfl) rfl
theorem q2312 : (Jvm.Cond.castable "VoteLogs$Kind$2" "java/lang/Object") ∈ lw_tbl := lw_at lw_m10 63 rfl
/-! VoteLogs$Kind$3 -/
set_option maxRecDepth 100000
def RX12 : String := "VoteLogs$Kind$3"
abbrev cX12_comes : ByteArray := prog_8_method_2_code
def yX12_comes : MethodName := ⟨RX12, "comes", "(LVoteLogs$Town;LVoteLogs$Message;)V"⟩
def dkwX12_comes_0 : List UInt8 := [43, 44, 182, 0, 7, 177]
abbrev dktX12_comes_0 : List UInt8 := dkwX12_comes_0 ++ []
theorem dksX12_comes_0 : cX12_comes.data.toList.drop 0 = dktX12_comes_0 := by decide +kernel
theorem dX12_comes_0 : decode cX12_comes 0 = .ok (.aload_n 1, 1) := dk_43 (dk_at dksX12_comes_0 0 rfl rfl)
theorem dX12_comes_1 : decode cX12_comes 1 = .ok (.aload_n 2, 1) := dk_44 (dk_at dksX12_comes_0 1 rfl rfl)
theorem dX12_comes_2 : decode cX12_comes 2 = .ok (.invokevirtual 7, 3) := dk_182 0 7 (dk_at dksX12_comes_0 2 rfl rfl)
theorem dX12_comes_5 : decode cX12_comes 5 = .ok (.return_, 1) := dk_177 (dk_at dksX12_comes_0 5 rfl rfl)
theorem q267 : (Jvm.Cond.selects "VoteLogs$Kind$3" ({ cls := "java/lang/Object", name := "getClass", desc := "()Ljava/lang/Class;" } : Jvm.MethodName) ({ cls := "java/lang/Object", name := "getClass", desc := "()Ljava/lang/Class;" } : Jvm.MethodName)) ∈ lw_all := lw_g (lw_at lw_m1 178 rfl) rfl
theorem q983 : (Jvm.Cond.selects "VoteLogs$Kind$3" ({ cls := "VoteLogs$Kind", name := "comes", desc := "(LVoteLogs$Town;LVoteLogs$Message;)V" } : Jvm.MethodName) ({ cls := "VoteLogs$Kind$3", name := "comes", desc := "(LVoteLogs$Town;LVoteLogs$Message;)V" } : Jvm.MethodName)) ∈ lw_all := lw_g (lw_at lw_m4 174 rfl) rfl
theorem q984 : (Jvm.Cond.instanceMethod ({ cls := "VoteLogs$Kind$3", name := "comes", desc := "(LVoteLogs$Town;LVoteLogs$Message;)V" } : Jvm.MethodName)) ∈ lw_all := lw_g (lw_at lw_m4 175 rfl) rfl
theorem q985 : (Jvm.Cond.code ({ cls := "VoteLogs$Kind$3", name := "comes", desc := "(LVoteLogs$Town;LVoteLogs$Message;)V" } : Jvm.MethodName) prog_8_method_2_code (3 : Nat) (Option.none : Option Jvm.ClassFile.FieldType)) ∈ lw_all := lw_g (lw_at lw_m4 176 rfl) rfl
theorem q986 : (Jvm.Cond.methodLink "VoteLogs$Kind$3" (7 : Nat) ({ cls := "VoteLogs$Town", name := "hearsNo", desc := "(LVoteLogs$Message;)V" } : Jvm.MethodName)) ∈ lw_all := lw_g (lw_at lw_m4 177 rfl) rfl
theorem q1381 : (Jvm.Cond.selects "VoteLogs$Kind$3" ({ cls := "VoteLogs$Kind", name := "ordinal", desc := "()I" } : Jvm.MethodName) ({ cls := "java/lang/Enum", name := "ordinal", desc := "()I" } : Jvm.MethodName)) ∈ lw_all := lw_g (lw_at lw_m6 92 rfl) rfl
theorem q2311 : (Jvm.Cond.castable "VoteLogs$Kind$3" "java/lang/Object") ∈ lw_tbl := lw_at lw_m10 62 rfl
/-! VoteLogs$Kind$4 -/
set_option maxRecDepth 100000
def RX13 : String := "VoteLogs$Kind$4"
abbrev cX13_comes : ByteArray := prog_9_method_2_code
def yX13_comes : MethodName := ⟨RX13, "comes", "(LVoteLogs$Town;LVoteLogs$Message;)V"⟩
def dkwX13_comes_0 : List UInt8 := [43, 44, 182, 0, 7, 177]
abbrev dktX13_comes_0 : List UInt8 := dkwX13_comes_0 ++ []
theorem dksX13_comes_0 : cX13_comes.data.toList.drop 0 = dktX13_comes_0 := by decide +kernel
theorem dX13_comes_0 : decode cX13_comes 0 = .ok (.aload_n 1, 1) := dk_43 (dk_at dksX13_comes_0 0 rfl rfl)
theorem dX13_comes_1 : decode cX13_comes 1 = .ok (.aload_n 2, 1) := dk_44 (dk_at dksX13_comes_0 1 rfl rfl)
theorem dX13_comes_2 : decode cX13_comes 2 = .ok (.invokevirtual 7, 3) := dk_182 0 7 (dk_at dksX13_comes_0 2 rfl rfl)
theorem dX13_comes_5 : decode cX13_comes 5 = .ok (.return_, 1) := dk_177 (dk_at dksX13_comes_0 5 rfl rfl)
theorem q268 : (Jvm.Cond.selects "VoteLogs$Kind$4" ({ cls := "java/lang/Object", name := "getClass", desc := "()Ljava/lang/Class;" } : Jvm.MethodName) ({ cls := "java/lang/Object", name := "getClass", desc := "()Ljava/lang/Class;" } : Jvm.MethodName)) ∈ lw_all := lw_g (lw_at lw_m1 179 rfl) rfl
theorem q990 : (Jvm.Cond.selects "VoteLogs$Kind$4" ({ cls := "VoteLogs$Kind", name := "comes", desc := "(LVoteLogs$Town;LVoteLogs$Message;)V" } : Jvm.MethodName) ({ cls := "VoteLogs$Kind$4", name := "comes", desc := "(LVoteLogs$Town;LVoteLogs$Message;)V" } : Jvm.MethodName)) ∈ lw_all := lw_g (lw_at lw_m4 181 rfl) rfl
theorem q991 : (Jvm.Cond.instanceMethod ({ cls := "VoteLogs$Kind$4", name := "comes", desc := "(LVoteLogs$Town;LVoteLogs$Message;)V" } : Jvm.MethodName)) ∈ lw_all := lw_g (lw_at lw_m4 182 rfl) rfl
theorem q992 : (Jvm.Cond.code ({ cls := "VoteLogs$Kind$4", name := "comes", desc := "(LVoteLogs$Town;LVoteLogs$Message;)V" } : Jvm.MethodName) prog_9_method_2_code (3 : Nat) (Option.none : Option Jvm.ClassFile.FieldType)) ∈ lw_all := lw_g (lw_at lw_m4 183 rfl) rfl
theorem q993 : (Jvm.Cond.methodLink "VoteLogs$Kind$4" (7 : Nat) ({ cls := "VoteLogs$Town", name := "hearsMake", desc := "(LVoteLogs$Message;)V" } : Jvm.MethodName)) ∈ lw_all := lw_g (lw_at lw_m4 184 rfl) rfl
theorem q1382 : (Jvm.Cond.selects "VoteLogs$Kind$4" ({ cls := "VoteLogs$Kind", name := "ordinal", desc := "()I" } : Jvm.MethodName) ({ cls := "java/lang/Enum", name := "ordinal", desc := "()I" } : Jvm.MethodName)) ∈ lw_all := lw_g (lw_at lw_m6 93 rfl) rfl
theorem q2308 : (Jvm.Cond.castable "VoteLogs$Kind$4" "java/lang/Object") ∈ lw_tbl := lw_at lw_m10 59 rfl
/-! VoteLogs$Kind$5 -/
set_option maxRecDepth 100000
def RX14 : String := "VoteLogs$Kind$5"
abbrev cX14_comes : ByteArray := prog_10_method_2_code
def yX14_comes : MethodName := ⟨RX14, "comes", "(LVoteLogs$Town;LVoteLogs$Message;)V"⟩
def dkwX14_comes_0 : List UInt8 := [43, 44, 182, 0, 7, 177]
abbrev dktX14_comes_0 : List UInt8 := dkwX14_comes_0 ++ []
theorem dksX14_comes_0 : cX14_comes.data.toList.drop 0 = dktX14_comes_0 := by decide +kernel
theorem dX14_comes_0 : decode cX14_comes 0 = .ok (.aload_n 1, 1) := dk_43 (dk_at dksX14_comes_0 0 rfl rfl)
theorem dX14_comes_1 : decode cX14_comes 1 = .ok (.aload_n 2, 1) := dk_44 (dk_at dksX14_comes_0 1 rfl rfl)
theorem dX14_comes_2 : decode cX14_comes 2 = .ok (.invokevirtual 7, 3) := dk_182 0 7 (dk_at dksX14_comes_0 2 rfl rfl)
theorem dX14_comes_5 : decode cX14_comes 5 = .ok (.return_, 1) := dk_177 (dk_at dksX14_comes_0 5 rfl rfl)
theorem q269 : (Jvm.Cond.selects "VoteLogs$Kind$5" ({ cls := "java/lang/Object", name := "getClass", desc := "()Ljava/lang/Class;" } : Jvm.MethodName) ({ cls := "java/lang/Object", name := "getClass", desc := "()Ljava/lang/Class;" } : Jvm.MethodName)) ∈ lw_all := lw_g (lw_at lw_m1 180 rfl) rfl
theorem q999 : (Jvm.Cond.selects "VoteLogs$Kind$5" ({ cls := "VoteLogs$Kind", name := "comes", desc := "(LVoteLogs$Town;LVoteLogs$Message;)V" } : Jvm.MethodName) ({ cls := "VoteLogs$Kind$5", name := "comes", desc := "(LVoteLogs$Town;LVoteLogs$Message;)V" } : Jvm.MethodName)) ∈ lw_all := lw_g (lw_at lw_m4 190 rfl) rfl
theorem q1000 : (Jvm.Cond.instanceMethod ({ cls := "VoteLogs$Kind$5", name := "comes", desc := "(LVoteLogs$Town;LVoteLogs$Message;)V" } : Jvm.MethodName)) ∈ lw_all := lw_g (lw_at lw_m4 191 rfl) rfl
theorem q1001 : (Jvm.Cond.code ({ cls := "VoteLogs$Kind$5", name := "comes", desc := "(LVoteLogs$Town;LVoteLogs$Message;)V" } : Jvm.MethodName) prog_10_method_2_code (3 : Nat) (Option.none : Option Jvm.ClassFile.FieldType)) ∈ lw_all := lw_g (lw_at lw_m4 192 rfl) rfl
theorem q1002 : (Jvm.Cond.methodLink "VoteLogs$Kind$5" (7 : Nat) ({ cls := "VoteLogs$Town", name := "hearsDrop", desc := "(LVoteLogs$Message;)V" } : Jvm.MethodName)) ∈ lw_all := lw_g (lw_at lw_m4 193 rfl) rfl
theorem q1383 : (Jvm.Cond.selects "VoteLogs$Kind$5" ({ cls := "VoteLogs$Kind", name := "ordinal", desc := "()I" } : Jvm.MethodName) ({ cls := "java/lang/Enum", name := "ordinal", desc := "()I" } : Jvm.MethodName)) ∈ lw_all := lw_g (lw_at lw_m6 94 rfl) rfl
theorem q2309 : (Jvm.Cond.castable "VoteLogs$Kind$5" "java/lang/Object") ∈ lw_tbl := lw_at lw_m10 60 rfl
/-! VoteLogs$Kind$6 -/
set_option maxRecDepth 100000
def RX15 : String := "VoteLogs$Kind$6"
abbrev cX15_comes : ByteArray := prog_11_method_2_code
def yX15_comes : MethodName := ⟨RX15, "comes", "(LVoteLogs$Town;LVoteLogs$Message;)V"⟩
def dkwX15_comes_0 : List UInt8 := [43, 44, 182, 0, 7, 177]
abbrev dktX15_comes_0 : List UInt8 := dkwX15_comes_0 ++ []
theorem dksX15_comes_0 : cX15_comes.data.toList.drop 0 = dktX15_comes_0 := by decide +kernel
theorem dX15_comes_0 : decode cX15_comes 0 = .ok (.aload_n 1, 1) := dk_43 (dk_at dksX15_comes_0 0 rfl rfl)
theorem dX15_comes_1 : decode cX15_comes 1 = .ok (.aload_n 2, 1) := dk_44 (dk_at dksX15_comes_0 1 rfl rfl)
theorem dX15_comes_2 : decode cX15_comes 2 = .ok (.invokevirtual 7, 3) := dk_182 0 7 (dk_at dksX15_comes_0 2 rfl rfl)
theorem dX15_comes_5 : decode cX15_comes 5 = .ok (.return_, 1) := dk_177 (dk_at dksX15_comes_0 5 rfl rfl)
theorem q270 : (Jvm.Cond.selects "VoteLogs$Kind$6" ({ cls := "java/lang/Object", name := "getClass", desc := "()Ljava/lang/Class;" } : Jvm.MethodName) ({ cls := "java/lang/Object", name := "getClass", desc := "()Ljava/lang/Class;" } : Jvm.MethodName)) ∈ lw_all := lw_g (lw_at lw_m1 181 rfl) rfl
theorem q1006 : (Jvm.Cond.selects "VoteLogs$Kind$6" ({ cls := "VoteLogs$Kind", name := "comes", desc := "(LVoteLogs$Town;LVoteLogs$Message;)V" } : Jvm.MethodName) ({ cls := "VoteLogs$Kind$6", name := "comes", desc := "(LVoteLogs$Town;LVoteLogs$Message;)V" } : Jvm.MethodName)) ∈ lw_all := lw_g (lw_at lw_m4 197 rfl) rfl
theorem q1007 : (Jvm.Cond.instanceMethod ({ cls := "VoteLogs$Kind$6", name := "comes", desc := "(LVoteLogs$Town;LVoteLogs$Message;)V" } : Jvm.MethodName)) ∈ lw_all := lw_g (lw_at lw_m4 198 rfl) rfl
theorem q1008 : (Jvm.Cond.code ({ cls := "VoteLogs$Kind$6", name := "comes", desc := "(LVoteLogs$Town;LVoteLogs$Message;)V" } : Jvm.MethodName) prog_11_method_2_code (3 : Nat) (Option.none : Option Jvm.ClassFile.FieldType)) ∈ lw_all := lw_g (lw_at lw_m4 199 rfl) rfl
theorem q1009 : (Jvm.Cond.methodLink "VoteLogs$Kind$6" (7 : Nat) ({ cls := "VoteLogs$Town", name := "hearsDone", desc := "(LVoteLogs$Message;)V" } : Jvm.MethodName)) ∈ lw_all := lw_g (lw_at lw_m4 200 rfl) rfl
theorem q1384 : (Jvm.Cond.selects "VoteLogs$Kind$6" ({ cls := "VoteLogs$Kind", name := "ordinal", desc := "()I" } : Jvm.MethodName) ({ cls := "java/lang/Enum", name := "ordinal", desc := "()I" } : Jvm.MethodName)) ∈ lw_all := lw_g (lw_at lw_m6 95 rfl) rfl
theorem q2313 : (Jvm.Cond.castable "VoteLogs$Kind$6" "java/lang/Object") ∈ lw_tbl := lw_at lw_m10 64 rfl
/-! VoteLogs$Kind$7 -/
set_option maxRecDepth 100000
def RX16 : String := "VoteLogs$Kind$7"
abbrev cX16_comes : ByteArray := prog_12_method_2_code
def yX16_comes : MethodName := ⟨RX16, "comes", "(LVoteLogs$Town;LVoteLogs$Message;)V"⟩
def dkwX16_comes_0 : List UInt8 := [43, 44, 182, 0, 7, 177]
abbrev dktX16_comes_0 : List UInt8 := dkwX16_comes_0 ++ []
theorem dksX16_comes_0 : cX16_comes.data.toList.drop 0 = dktX16_comes_0 := by decide +kernel
theorem dX16_comes_0 : decode cX16_comes 0 = .ok (.aload_n 1, 1) := dk_43 (dk_at dksX16_comes_0 0 rfl rfl)
theorem dX16_comes_1 : decode cX16_comes 1 = .ok (.aload_n 2, 1) := dk_44 (dk_at dksX16_comes_0 1 rfl rfl)
theorem dX16_comes_2 : decode cX16_comes 2 = .ok (.invokevirtual 7, 3) := dk_182 0 7 (dk_at dksX16_comes_0 2 rfl rfl)
theorem dX16_comes_5 : decode cX16_comes 5 = .ok (.return_, 1) := dk_177 (dk_at dksX16_comes_0 5 rfl rfl)
theorem q271 : (Jvm.Cond.selects "VoteLogs$Kind$7" ({ cls := "java/lang/Object", name := "getClass", desc := "()Ljava/lang/Class;" } : Jvm.MethodName) ({ cls := "java/lang/Object", name := "getClass", desc := "()Ljava/lang/Class;" } : Jvm.MethodName)) ∈ lw_all := lw_g (lw_at lw_m1 182 rfl) rfl
theorem q1017 : (Jvm.Cond.selects "VoteLogs$Kind$7" ({ cls := "VoteLogs$Kind", name := "comes", desc := "(LVoteLogs$Town;LVoteLogs$Message;)V" } : Jvm.MethodName) ({ cls := "VoteLogs$Kind$7", name := "comes", desc := "(LVoteLogs$Town;LVoteLogs$Message;)V" } : Jvm.MethodName)) ∈ lw_all := lw_g (lw_at lw_m4 208 rfl) rfl
theorem q1018 : (Jvm.Cond.instanceMethod ({ cls := "VoteLogs$Kind$7", name := "comes", desc := "(LVoteLogs$Town;LVoteLogs$Message;)V" } : Jvm.MethodName)) ∈ lw_all := lw_g (lw_at lw_m4 209 rfl) rfl
theorem q1019 : (Jvm.Cond.code ({ cls := "VoteLogs$Kind$7", name := "comes", desc := "(LVoteLogs$Town;LVoteLogs$Message;)V" } : Jvm.MethodName) prog_12_method_2_code (3 : Nat) (Option.none : Option Jvm.ClassFile.FieldType)) ∈ lw_all := lw_g (lw_at lw_m4 210 rfl) rfl
theorem q1020 : (Jvm.Cond.methodLink "VoteLogs$Kind$7" (7 : Nat) ({ cls := "VoteLogs$Town", name := "hearsWhatNow", desc := "(LVoteLogs$Message;)V" } : Jvm.MethodName)) ∈ lw_all := lw_g (lw_at lw_m4 211 rfl) rfl
theorem q1385 : (Jvm.Cond.selects "VoteLogs$Kind$7" ({ cls := "VoteLogs$Kind", name := "ordinal", desc := "()I" } : Jvm.MethodName) ({ cls := "java/lang/Enum", name := "ordinal", desc := "()I" } : Jvm.MethodName)) ∈ lw_all := lw_g (lw_at lw_m6 96 rfl) rfl
theorem q2310 : (Jvm.Cond.castable "VoteLogs$Kind$7" "java/lang/Object") ∈ lw_tbl := lw_at lw_m10 61 rfl
theorem q121 : (Jvm.Cond.initialized "VoteLogs$Kind") ∈ lw_all := lw_g (lw_at lw_m1 32 rfl) rfl
set_option maxRecDepth 100000
theorem q840 : (Jvm.Cond.declares ({ cls := "VoteLogs$Kind", name := "comes", desc := "(LVoteLogs$Town;LVoteLogs$Message;)V" } : Jvm.MethodName)) ∈ lw_tbl := lw_at lw_m4 31 rfl
theorem q841 : (Jvm.Cond.sameMethod "VoteLogs$Kind" "VoteLogs$Kind" "comes" "(LVoteLogs$Town;LVoteLogs$Message;)V") ∈ lw_all := lw_g (lw_at lw_m4 32 rfl) rfl
theorem q917 : (Jvm.Cond.laysStatic "VoteLogs$Kind" "NO" "LVoteLogs$Kind;") ∈ lw_tbl := lw_at lw_m4 108 rfl
theorem q919 : (Jvm.Cond.laysStatic "VoteLogs$Kind" "YES" "LVoteLogs$Kind;") ∈ lw_tbl := lw_at lw_m4 110 rfl
theorem q976 : (Jvm.Cond.laysStatic "VoteLogs$Kind" "MAKE" "LVoteLogs$Kind;") ∈ lw_tbl := lw_at lw_m4 167 rfl
theorem q978 : (Jvm.Cond.laysStatic "VoteLogs$Kind" "DROP" "LVoteLogs$Kind;") ∈ lw_tbl := lw_at lw_m4 169 rfl
theorem q998 : (Jvm.Cond.laysStatic "VoteLogs$Kind" "DONE" "LVoteLogs$Kind;") ∈ lw_tbl := lw_at lw_m4 189 rfl
theorem q1283 : (Jvm.Cond.laysStatic "VoteLogs$Kind" "WHAT_NOW" "LVoteLogs$Kind;") ∈ lw_tbl := lw_at lw_m5 234 rfl
theorem q1377 : (Jvm.Cond.sameMethod "VoteLogs$Kind" "java/lang/Enum" "ordinal" "()I") ∈ lw_all := lw_g (lw_at lw_m6 88 rfl) rfl
theorem q1472 : (Jvm.Cond.laysStatic "VoteLogs$Kind" "ASKING" "LVoteLogs$Kind;") ∈ lw_tbl := lw_at lw_m6 183 rfl
theorem q2321 : (Jvm.Cond.castable "VoteLogs$Kind" "java/lang/Object") ∈ lw_tbl := lw_at lw_m10 72 rfl
theorem q487 : (Jvm.Cond.sameMethod "[B" "java/lang/Object" "clone" "()Ljava/lang/Object;") ∈ lw_all := lw_g (lw_at lw_m2 158 rfl) rfl
set_option maxRecDepth 100000
theorem q490 : (Jvm.Cond.selects "[B" ({ cls := "[B", name := "clone", desc := "()Ljava/lang/Object;" } : Jvm.MethodName) ({ cls := "java/lang/Object", name := "clone", desc := "()Ljava/lang/Object;" } : Jvm.MethodName)) ∈ lw_all := lw_g (lw_at lw_m2 161 rfl) rfl
theorem q491 : (Jvm.Cond.castable "[B" "java/lang/Cloneable") ∈ lw_tbl := lw_at lw_m2 162 rfl
theorem q2322 : (Jvm.Cond.castable "[B" "java/lang/Object") ∈ lw_tbl := lw_at lw_m10 73 rfl
theorem q755 : (Jvm.Cond.sameMethod "[I" "java/lang/Object" "clone" "()Ljava/lang/Object;") ∈ lw_all := lw_g (lw_at lw_m3 186 rfl) rfl
set_option maxRecDepth 100000
theorem q756 : (Jvm.Cond.selects "[I" ({ cls := "[I", name := "clone", desc := "()Ljava/lang/Object;" } : Jvm.MethodName) ({ cls := "java/lang/Object", name := "clone", desc := "()Ljava/lang/Object;" } : Jvm.MethodName)) ∈ lw_all := lw_g (lw_at lw_m3 187 rfl) rfl
theorem q757 : (Jvm.Cond.castable "[I" "java/lang/Cloneable") ∈ lw_tbl := lw_at lw_m3 188 rfl
theorem q2324 : (Jvm.Cond.castable "[I" "java/lang/Object") ∈ lw_tbl := lw_at lw_m10 75 rfl
theorem q2325 : (Jvm.Cond.castable "[J" "java/lang/Object") ∈ lw_tbl := lw_at lw_m10 76 rfl
set_option maxRecDepth 100000
theorem q2319 : (Jvm.Cond.sameMethod "[Ljava/lang/Object;" "java/lang/Object" "getClass" "()Ljava/lang/Class;") ∈ lw_all := lw_g (lw_at lw_m10 70 rfl) rfl
set_option maxRecDepth 100000
theorem q2320 : (Jvm.Cond.selects "[Ljava/lang/Object;" ({ cls := "java/lang/Object", name := "getClass", desc := "()Ljava/lang/Class;" } : Jvm.MethodName) ({ cls := "java/lang/Object", name := "getClass", desc := "()Ljava/lang/Class;" } : Jvm.MethodName)) ∈ lw_all := lw_g (lw_at lw_m10 71 rfl) rfl
theorem q2323 : (Jvm.Cond.castable "[Ljava/lang/Object;" "java/lang/Object") ∈ lw_tbl := lw_at lw_m10 74 rfl
theorem q112 : (Jvm.Cond.initialized "java/lang/Number") ∈ lw_all := lw_g (lw_at lw_m1 23 rfl) rfl
set_option maxRecDepth 100000
theorem q103 : (Jvm.Cond.initialized "java/lang/System") ∈ lw_all := lw_g (lw_at lw_m1 14 rfl) rfl
set_option maxRecDepth 100000
theorem q297 : (Jvm.Cond.static ({ cls := "java/lang/System", name := "arraycopy", desc := "(Ljava/lang/Object;ILjava/lang/Object;II)V" } : Jvm.MethodName)) ∈ lw_all := lw_g (lw_at lw_m1 208 rfl) rfl
theorem q298 : (Jvm.Cond.native ({ cls := "java/lang/System", name := "arraycopy", desc := "(Ljava/lang/Object;ILjava/lang/Object;II)V" } : Jvm.MethodName)) ∈ lw_all := lw_g (lw_at lw_m1 209 rfl) rfl
theorem q402 : (Jvm.Cond.interfaceMethod "java/util/Collection" "java/util/Collection" "toArray" "()[Ljava/lang/Object;") ∈ lw_tbl := lw_at lw_m2 73 rfl
set_option maxRecDepth 100000
theorem q403 : (Jvm.Cond.declares ({ cls := "java/util/Collection", name := "toArray", desc := "()[Ljava/lang/Object;" } : Jvm.MethodName)) ∈ lw_tbl := lw_at lw_m2 74 rfl
theorem q744 : (Jvm.Cond.interfaceMethod "java/util/Collection" "java/lang/Object" "getClass" "()Ljava/lang/Class;") ∈ lw_tbl := lw_at lw_m3 175 rfl
theorem q717 : (Jvm.Cond.interfaceMethod "java/util/Iterator" "java/util/Iterator" "hasNext" "()Z") ∈ lw_tbl := lw_at lw_m3 148 rfl
set_option maxRecDepth 100000
theorem q718 : (Jvm.Cond.declares ({ cls := "java/util/Iterator", name := "hasNext", desc := "()Z" } : Jvm.MethodName)) ∈ lw_tbl := lw_at lw_m3 149 rfl
theorem q727 : (Jvm.Cond.interfaceMethod "java/util/Iterator" "java/util/Iterator" "next" "()Ljava/lang/Object;") ∈ lw_tbl := lw_at lw_m3 158 rfl
theorem q728 : (Jvm.Cond.declares ({ cls := "java/util/Iterator", name := "next", desc := "()Ljava/lang/Object;" } : Jvm.MethodName)) ∈ lw_tbl := lw_at lw_m3 159 rfl
theorem q225 : (Jvm.Cond.interfaceMethod "java/util/List" "java/util/List" "add" "(Ljava/lang/Object;)Z") ∈ lw_tbl := lw_at lw_m1 136 rfl
set_option maxRecDepth 100000
theorem q226 : (Jvm.Cond.declares ({ cls := "java/util/List", name := "add", desc := "(Ljava/lang/Object;)Z" } : Jvm.MethodName)) ∈ lw_tbl := lw_at lw_m1 137 rfl
theorem q393 : (Jvm.Cond.interfaceMethod "java/util/List" "java/util/List" "addAll" "(Ljava/util/Collection;)Z") ∈ lw_tbl := lw_at lw_m2 64 rfl
theorem q394 : (Jvm.Cond.declares ({ cls := "java/util/List", name := "addAll", desc := "(Ljava/util/Collection;)Z" } : Jvm.MethodName)) ∈ lw_tbl := lw_at lw_m2 65 rfl
theorem q689 : (Jvm.Cond.interfaceMethod "java/util/List" "java/util/List" "iterator" "()Ljava/util/Iterator;") ∈ lw_tbl := lw_at lw_m3 120 rfl
theorem q690 : (Jvm.Cond.declares ({ cls := "java/util/List", name := "iterator", desc := "()Ljava/util/Iterator;" } : Jvm.MethodName)) ∈ lw_tbl := lw_at lw_m3 121 rfl
theorem q797 : (Jvm.Cond.interfaceMethod "java/util/List" "java/util/List" "isEmpty" "()Z") ∈ lw_tbl := lw_at lw_m3 228 rfl
theorem q798 : (Jvm.Cond.declares ({ cls := "java/util/List", name := "isEmpty", desc := "()Z" } : Jvm.MethodName)) ∈ lw_tbl := lw_at lw_m3 229 rfl
theorem q810 : (Jvm.Cond.interfaceMethod "java/util/List" "java/util/List" "remove" "(I)Ljava/lang/Object;") ∈ lw_tbl := lw_at lw_m4 1 rfl
theorem q811 : (Jvm.Cond.declares ({ cls := "java/util/List", name := "remove", desc := "(I)Ljava/lang/Object;" } : Jvm.MethodName)) ∈ lw_tbl := lw_at lw_m4 2 rfl
theorem q855 : (Jvm.Cond.interfaceMethod "java/util/List" "java/util/List" "get" "(I)Ljava/lang/Object;") ∈ lw_tbl := lw_at lw_m4 46 rfl
theorem q856 : (Jvm.Cond.declares ({ cls := "java/util/List", name := "get", desc := "(I)Ljava/lang/Object;" } : Jvm.MethodName)) ∈ lw_tbl := lw_at lw_m4 47 rfl
theorem q884 : (Jvm.Cond.interfaceMethod "java/util/List" "java/util/List" "size" "()I") ∈ lw_tbl := lw_at lw_m4 75 rfl
theorem q885 : (Jvm.Cond.declares ({ cls := "java/util/List", name := "size", desc := "()I" } : Jvm.MethodName)) ∈ lw_tbl := lw_at lw_m4 76 rfl
theorem q169 : (Jvm.Cond.arrayClass Jvm.ClassFile.FieldType.byte) ∈ lw_all := lw_g (lw_at lw_m1 80 rfl) rfl
set_option maxRecDepth 100000
theorem q180 : (Jvm.Cond.arrayOver (Jvm.ClassFile.FieldType.object "java/lang/Object")) ∈ lw_tbl := lw_at lw_m1 91 rfl
theorem q344 : (Jvm.Cond.arrayClass Jvm.ClassFile.FieldType.int) ∈ lw_all := lw_g (lw_at lw_m2 15 rfl) rfl
theorem q2273 : (Jvm.Cond.arrayClass Jvm.ClassFile.FieldType.long) ∈ lw_all := lw_g (lw_at lw_m10 24 rfl) rfl
